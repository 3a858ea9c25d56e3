/-! THE TWIN'S TREES: child, context, begin, beginSign, look, exclude, below, isFound, flat -/
theorem nI_inc (a : Nat) : nI a + Int32.ofInt 1 = nI (a + 1) := nI_1 a
def enc (c : Nat) : Int32 := if c = 0 then -1 else nI c
/-- model m's rows hold the tree T -/
def TM (g : Nat → Nat → Int32) (m : Nat) (T : Tr) : Prop := g 3 m = nI (tN T) ∧ g 7 m = nI (tL T) ∧ g 4 (1500 * m) = -1 ∧ g 5 (1500 * m) = -1 ∧ g 6 (1500 * m) = nI 0 ∧ (∀ i, 0 < i → i < tN T → g 4 (1500 * m + i) = nI (tP T i) ∧ g 5 (1500 * m + i) = nI (tB T i) ∧ g 6 (1500 * m + i) = nI (tC T i)) ∧ ∀ i, i < tL T → g 8 (4 * m + i) = nI (tE T i)
/-- only model m's rows are changed -/
def Bd (m : Nat) (g g' : Nat → Nat → Int32) : Prop := (∀ i, i ≠ m → g' 3 i = g 3 i) ∧ (∀ i, i ≠ m → g' 7 i = g 7 i) ∧ (∀ i, (i < 1500 * m ∨ 1500 * m + 1500 ≤ i) → g' 4 i = g 4 i ∧ g' 5 i = g 5 i ∧ g' 6 i = g 6 i) ∧ ∀ i, (i < 4 * m ∨ 4 * m + 4 ≤ i) → g' 8 i = g 8 i
theorem Bd.rf {m : Nat} {g : Nat → Nat → Int32} : Bd m g g := ⟨fun _ _ => rfl, fun _ _ => rfl, fun _ _ => ⟨rfl, rfl, rfl⟩, fun _ _ => rfl⟩
theorem Bd.trans {m : Nat} {g g' g'' : Nat → Nat → Int32} (h : Bd m g g') (h' : Bd m g' g'') : Bd m g g'' :=
  ⟨fun i hi => (h'.1 i hi).trans (h.1 i hi), fun i hi => (h'.2.1 i hi).trans (h.2.1 i hi), fun i hi => ⟨((h'.2.2.1 i hi).1).trans (h.2.2.1 i hi).1, ((h'.2.2.1 i hi).2.1).trans (h.2.2.1 i hi).2.1, ((h'.2.2.1 i hi).2.2).trans (h.2.2.1 i hi).2.2⟩, fun i hi => (h'.2.2.2 i hi).trans (h.2.2.2 i hi)⟩
theorem Bd.same {m : Nat} {g g' : Nat → Nat → Int32} (h3 : g' 3 = g 3) (h4 : g' 4 = g 4) (h5 : g' 5 = g 5) (h6 : g' 6 = g 6) (h7 : g' 7 = g 7) (h8 : g' 8 = g 8) : Bd m g g' :=
  ⟨fun _ _ => by rw [h3], fun _ _ => by rw [h7], fun _ _ => ⟨by rw [h4], by rw [h5], by rw [h6]⟩, fun _ _ => by rw [h8]⟩
theorem Bd.set {m j i : Nat} {g g' : Nat → Nat → Int32} {v : Int32} (h : Bd m g g') (hj : (j = 3 ∧ i = m) ∨ (j = 7 ∧ i = m) ∨ ((j = 4 ∨ j = 5 ∨ j = 6) ∧ 1500 * m ≤ i ∧ i < 1500 * m + 1500) ∨ (j = 8 ∧ 4 * m ≤ i ∧ i < 4 * m + 4) ∨ 8 < j) : Bd m g (updA g' j (upd (g' j) i v)) := by
  have key : ∀ (a b : Nat), (a = j → b ≠ i) → updA g' j (upd (g' j) i v) a b = g' a b := by
    intro a b hab
    unfold updA
    split
    · rename_i e; subst e; exact upd_n (hab rfl)
    · rfl
  refine ⟨fun a ha => ?_, fun a ha => ?_, fun a ha => ⟨?_, ?_, ?_⟩, fun a ha => ?_⟩
  · rw [key 3 a (fun e => by omega)]; exact h.1 a ha
  · rw [key 7 a (fun e => by omega)]; exact h.2.1 a ha
  · rw [key 4 a (fun e => by omega)]; exact (h.2.2.1 a ha).1
  · rw [key 5 a (fun e => by omega)]; exact (h.2.2.1 a ha).2.1
  · rw [key 6 a (fun e => by omega)]; exact (h.2.2.1 a ha).2.2
  · rw [key 8 a (fun e => by omega)]; exact h.2.2.2 a ha
theorem Bd.other {m m' : Nat} {g g' : Nat → Nat → Int32} {T : Tr} (h : Bd m g g') (hm : m' ≠ m) (hn : tN T ≤ 1500) (hL : tL T ≤ 4) (hT : TM g m' T) : TM g' m' T := by
  obtain ⟨a1, a2, a3, a4, a5, a6, a7⟩ := hT
  obtain ⟨b1, b2, b3, b4⟩ := h
  refine ⟨(b1 m' hm).trans a1, (b2 m' hm).trans a2, ((b3 _ (by omega)).1).trans a3, ((b3 _ (by omega)).2.1).trans a4, ((b3 _ (by omega)).2.2).trans a5, fun i h0 hi => ?_, fun i hi => (b4 _ (by omega)).trans (a7 i hi)⟩
  obtain ⟨c1, c2, c3⟩ := b3 (1500 * m' + i) (by omega)
  obtain ⟨d1, d2, d3⟩ := a6 i h0 hi
  exact ⟨c1.trans d1, c2.trans d2, c3.trans d3⟩
/-- what is excluded -/
def EX (g : Nat → Nat → Int32) (e : Nat → Bool) : Prop := ∀ b, b < 257 → g 10 b = if e b then nI 1 else nI 0
/-- the counts -/
def CT (g : Nat → Nat → Int32) (t : Nat → Nat) : Prop := ∀ b, b < 256 → g 11 b = nI (t b)
abbrev rs (T : Tr) : Tr := (1, tP T, tB T, tC T, 0, tE T)
section
variable {l : Launch} {Γ : Gl} {o : Nat} {ad : Nat → Nat} {f : Nat → Int32} {g : Nat → Nat → Int32} {T : Tr} {ord room m : Nat}
theorem c_T_child {v b : Nat} (hm : m < 7) (hT : TM g m T) (hk : TOk ord room T) (hv : v < 2 ^ 31) (hb : b < 2 ^ 31) :
    Ct l Γ y_T_child b_T_child 6 (some .int) 0 0 0 [.ref o, .int (nI m), .int (nI v), .int (nI b)] (tw Γ o ad f g) (pi Γ o ad (fun x f' g' => f' = f ∧ g' = g ∧ x = enc (chT T v b))) := by
  obtain ⟨T3, T7, -, -, -, TR, -⟩ := hT
  obtain ⟨k1, k2, k3, -, -, -, kR, kD, -⟩ := hk
  refine Ct.of (by decide) (by simp [Value.category]) (Nat.le_of_ble_eq_true rfl) (fun E eG el en C hR F hnm => ?_)
  subst eG
  subst el
  have hL : 6 ≤ xn E := Nat.le_of_eq en.symm
  show G E 0 0 0 [some (.ref o), some (.int (nI m)), some (.int (nI v)), some (.int (nI b)), none, none] [] (tw (xG E) o ad f g)
  have loop : ∀ j i, i + j = tN T → 0 < i → G E 0 0 6 [some (.ref o), some (.int (nI m)), some (.int (nI v)), some (.int (nI b)), some (.int (enc (ch (tP T) (tB T) v b i))), some (.int (nI i))] [] (tw (xG E) o ad f g) := by
    intro j
    induction j with
    | zero =>
      intro i hi h0
      refine g_iload_5 (q := 8) C d_T_child_6 rfl ?_
      refine g_aload_0 (q := 9) C d_T_child_8 rfl ?_
      refine tg_19 (q := 12) C d_T_child_9 rfl ?_
      refine g_iload_1 (q := 13) C d_T_child_12 rfl ?_
      refine ta_3 (q := 14) C d_T_child_13 rfl rfl (by omega) T3 ?_
      refine g_icmp_ge (q := 17) (tgt := 66) C d_T_child_14 rfl (by decide) (fun hc => ?_) (fun hc => ?_)
      · refine g_iload_4 (q := 68) C d_T_child_66 rfl ?_
        exact g_iret C F d_T_child_68 (Nat.le_refl _) (Nat.le_refl _) ⟨_, _, _, rfl, rfl, rfl, rfl, by rw [show i = tN T by omega]⟩
      · exact absurd ((nI_leI (by omega) (by omega)).mpr (by omega)) hc
    | succ j ih =>
      intro i hi h0
      obtain ⟨r1, r2, r3⟩ := TR i h0 (by omega)
      obtain ⟨q1, q2, q3⟩ := kR i h0 (by omega)
      have h58 : ∀ x, x = enc (ch (tP T) (tB T) v b (i + 1)) → G E 0 0 58 [some (.ref o), some (.int (nI m)), some (.int (nI v)), some (.int (nI b)), some (.int (enc (ch (tP T) (tB T) v b i))), some (.int (nI i))] [.int x] (tw (xG E) o ad f g) := by
        intro x hx
        subst hx
        refine g_istore_4 (q := 60) C hL d_T_child_58 rfl ?_
        refine g_iinc_5 (q := 63) C hL d_T_child_60 rfl (nI_inc i) ?_
        refine g_goto (tgt := 6) C d_T_child_63 (by decide) ?_
        exact ih (i + 1) (by omega) (by omega)
      have h56 : ¬ (tP T i = v ∧ tB T i = b) → G E 0 0 56 [some (.ref o), some (.int (nI m)), some (.int (nI v)), some (.int (nI b)), some (.int (enc (ch (tP T) (tB T) v b i))), some (.int (nI i))] [] (tw (xG E) o ad f g) := by
        intro hno
        refine g_iload_4 (q := 58) C d_T_child_56 rfl ?_
        exact h58 _ (by show _ = enc (if _ then _ else _); rw [if_neg (fun e => hno e.2)])
      refine g_iload_5 (q := 8) C d_T_child_6 rfl ?_
      refine g_aload_0 (q := 9) C d_T_child_8 rfl ?_
      refine tg_19 (q := 12) C d_T_child_9 rfl ?_
      refine g_iload_1 (q := 13) C d_T_child_12 rfl ?_
      refine ta_3 (q := 14) C d_T_child_13 rfl rfl (by omega) T3 ?_
      refine g_icmp_ge (q := 17) (tgt := 66) C d_T_child_14 rfl (by decide) (fun hc => ?_) (fun hc => ?_)
      · exact absurd ((nI_leI (by omega) (by omega)).mp hc) (by omega)
      refine g_aload_0 (q := 18) C d_T_child_17 rfl ?_
      refine tg_22 (q := 21) C d_T_child_18 rfl ?_
      refine g_sipush (v := nI 1500) (q := 24) C d_T_child_21 rfl (by decide) ?_
      refine g_iload_1 (q := 25) C d_T_child_24 rfl ?_
      refine g_imul (q := 26) C d_T_child_25 rfl (pk_mul _ _) ?_
      refine g_iload_5 (q := 28) C d_T_child_26 rfl ?_
      refine g_iadd (q := 29) C d_T_child_28 rfl (nI_add _ _) ?_
      refine ta_4 (q := 30) C d_T_child_29 rfl rfl (by omega) r1 ?_
      refine g_iload_2 (q := 31) C d_T_child_30 rfl ?_
      refine g_icmp_ne (q := 34) (tgt := 56) C d_T_child_31 rfl (by decide) (fun hp => ?_) (fun hp => ?_)
      · exact h56 (fun e => hp (by rw [e.1]))
      have hp : tP T i = v := (nI_eq (by omega) hv).mp (Decidable.not_not.mp hp)
      refine g_aload_0 (q := 35) C d_T_child_34 rfl ?_
      refine tg_25 (q := 38) C d_T_child_35 rfl ?_
      refine g_sipush (v := nI 1500) (q := 41) C d_T_child_38 rfl (by decide) ?_
      refine g_iload_1 (q := 42) C d_T_child_41 rfl ?_
      refine g_imul (q := 43) C d_T_child_42 rfl (pk_mul _ _) ?_
      refine g_iload_5 (q := 45) C d_T_child_43 rfl ?_
      refine g_iadd (q := 46) C d_T_child_45 rfl (nI_add _ _) ?_
      refine ta_5 (q := 47) C d_T_child_46 rfl rfl (by omega) r2 ?_
      refine g_iload_3 (q := 48) C d_T_child_47 rfl ?_
      refine g_icmp_ne (q := 51) (tgt := 56) C d_T_child_48 rfl (by decide) (fun hq => ?_) (fun hq => ?_)
      · exact h56 (fun e => hq (by rw [e.2]))
      have hq : tB T i = b := (nI_eq (by omega) hb).mp (Decidable.not_not.mp hq)
      refine g_iload_5 (q := 53) C d_T_child_51 rfl ?_
      refine g_goto (tgt := 58) C d_T_child_53 (by decide) ?_
      exact h58 _ (by show _ = enc (if _ then _ else _); rw [if_pos ⟨h0, hp, hq⟩]; unfold enc; rw [if_neg (by omega)])
  refine g_iconst (v := (-1)) (q := 1) C d_T_child_0 rfl (by decide) ?_
  refine g_istore_4 (q := 3) C hL d_T_child_1 rfl ?_
  refine g_iconst (v := nI 1) (q := 4) C d_T_child_3 rfl (by decide) ?_
  refine g_istore_5 (q := 6) C hL d_T_child_4 rfl ?_
  exact loop (tN T - 1) 1 (by omega) (by omega)
theorem c_T_context {k : Nat} (hm : m < 7) (hT : TM g m T) (hk : TOk ord room T) (hx : CtxOk T) (hkL : k ≤ tL T) :
    Ct l Γ y_T_context b_T_context 5 (some .int) 1 0 0 [.ref o, .int (nI m), .int (nI k)] (tw Γ o ad f g) (pi Γ o ad (fun x f' g' => f' = f ∧ g' = g ∧ x = nI (cx T k))) := by
  obtain ⟨T3, T7, -, -, -, TR, T8⟩ := id hT
  obtain ⟨k1, k2, k3, -, k5, k6, kR, kD, k9⟩ := id hk
  refine Ct.of (by decide) (by simp [Value.category]) (Nat.le_of_ble_eq_true rfl) (fun E eG el en C hR F hnm => ?_)
  subst eG
  subst el
  have hL : 5 ≤ xn E := Nat.le_of_eq en.symm
  show G E 0 0 0 [some (.ref o), some (.int (nI m)), some (.int (nI k)), none, none] [] (tw (xG E) o ad f g)
  have loop : ∀ r j, j + r = k → G E 0 0 12 [some (.ref o), some (.int (nI m)), some (.int (nI k)), some (.int (nI (cxp T k j))), some (.int (nI (tL T - k + j)))] [] (tw (xG E) o ad f g) := by
    intro r
    induction r with
    | zero =>
      intro j hj
      refine g_iload_4 (q := 14) C d_T_context_12 rfl ?_
      refine g_aload_0 (q := 15) C d_T_context_14 rfl ?_
      refine tg_31 (q := 18) C d_T_context_15 rfl ?_
      refine g_iload_1 (q := 19) C d_T_context_18 rfl ?_
      refine ta_7 (q := 20) C d_T_context_19 rfl rfl (by omega) T7 ?_
      refine g_icmp_ge (q := 23) (tgt := 47) C d_T_context_20 rfl (by decide) (fun hc => ?_) (fun hc => ?_)
      · refine g_iload_3 (q := 48) C d_T_context_47 rfl ?_
        exact g_iret C F d_T_context_48 (Nat.le_refl _) (Nat.le_refl _) ⟨_, _, _, rfl, rfl, rfl, rfl, by rw [show j = k by omega]⟩
      · exact absurd ((nI_leI (by omega) (by omega)).mpr (by omega)) hc
    | succ r ih =>
      intro j hj
      have hlt := cxp_lt (T := T) k1 k j
      have h9 := k9 (tL T - k + j) (by omega)
      refine g_iload_4 (q := 14) C d_T_context_12 rfl ?_
      refine g_aload_0 (q := 15) C d_T_context_14 rfl ?_
      refine tg_31 (q := 18) C d_T_context_15 rfl ?_
      refine g_iload_1 (q := 19) C d_T_context_18 rfl ?_
      refine ta_7 (q := 20) C d_T_context_19 rfl rfl (by omega) T7 ?_
      refine g_icmp_ge (q := 23) (tgt := 47) C d_T_context_20 rfl (by decide) (fun hc => ?_) (fun hc => ?_)
      · exact absurd ((nI_leI (by omega) (by omega)).mp hc) (by omega)
      refine g_aload_0 (q := 24) C d_T_context_23 rfl ?_
      refine g_iload_1 (q := 25) C d_T_context_24 rfl ?_
      refine g_iload_3 (q := 26) C d_T_context_25 rfl ?_
      refine g_aload_0 (q := 27) C d_T_context_26 rfl ?_
      refine tg_34 (q := 30) C d_T_context_27 rfl ?_
      refine g_iconst (v := nI 4) (q := 31) C d_T_context_30 rfl (by decide) ?_
      refine g_iload_1 (q := 32) C d_T_context_31 rfl ?_
      refine g_imul (q := 33) C d_T_context_32 rfl (pk_mul _ _) ?_
      refine g_iload_4 (q := 35) C d_T_context_33 rfl ?_
      refine g_iadd (q := 36) C d_T_context_35 rfl (nI_add _ _) ?_
      refine ta_8 (q := 37) C d_T_context_36 rfl rfl (by omega) (T8 _ (by omega)) ?_
      refine tc_99 (q := 40) C hR (c_T_child hm hT hk (by omega) (by omega)) d_T_context_37 rfl (by decide) (by decide) (by decide) (by decide) (fun x f2 g2 hp => ?_)
      obtain ⟨rfl, rfl, rfl⟩ := hp
      refine g_val (y := nI (cxp T k (j + 1))) (by unfold enc; rw [if_neg (hx k hkL j (by omega))]; rfl) ?_
      refine g_istore_3 (q := 41) C hL d_T_context_40 rfl ?_
      refine g_iinc_4 (q := 44) C hL d_T_context_41 rfl (nI_inc _) ?_
      refine g_goto (tgt := 12) C d_T_context_44 (by decide) ?_
      exact ih (j + 1) (by omega)
  refine g_iconst (v := nI 0) (q := 1) C d_T_context_0 rfl (by decide) ?_
  refine g_istore_3 (q := 2) C hL d_T_context_1 rfl ?_
  refine g_aload_0 (q := 3) C d_T_context_2 rfl ?_
  refine tg_31 (q := 6) C d_T_context_3 rfl ?_
  refine g_iload_1 (q := 7) C d_T_context_6 rfl ?_
  refine ta_7 (q := 8) C d_T_context_7 rfl rfl (by omega) T7 ?_
  refine g_iload_2 (q := 9) C d_T_context_8 rfl ?_
  refine g_isub (q := 10) C d_T_context_9 rfl (pk_sub (by omega)) ?_
  refine g_istore_4 (q := 12) C hL d_T_context_10 rfl ?_
  exact loop k 0 (by omega)
theorem c_T_begin (hm : m < 7) : Ct l Γ y_T_begin b_T_begin 2 none 0 0 0 [.ref o, .int (nI m)] (tw Γ o ad f g) (pv Γ o ad (fun f' g' => Fr [] [3, 4, 5, 6, 7] f f' g g' ∧ Bd m g g' ∧ ∀ T, TM g' m (rs T))) := by
  refine Ct.of (by decide) (by simp [Value.category]) (Nat.le_of_ble_eq_true rfl) (fun E eG el en C hR F hnm => ?_)
  subst eG
  subst el
  have hL : 2 ≤ xn E := Nat.le_of_eq en.symm
  show G E 0 0 0 [some (.ref o), some (.int (nI m))] [] (tw (xG E) o ad f g)
  refine g_aload_0 (q := 1) C d_T_begin_0 rfl ?_
  refine tg_19 (q := 4) C d_T_begin_1 rfl ?_
  refine g_iload_1 (q := 5) C d_T_begin_4 rfl ?_
  refine g_iconst (v := nI 1) (q := 6) C d_T_begin_5 rfl (by decide) ?_
  refine ts_3 (q := 7) C d_T_begin_6 rfl rfl (by omega) ?_
  refine g_aload_0 (q := 8) C d_T_begin_7 rfl ?_
  refine tg_31 (q := 11) C d_T_begin_8 rfl ?_
  refine g_iload_1 (q := 12) C d_T_begin_11 rfl ?_
  refine g_iconst (v := nI 0) (q := 13) C d_T_begin_12 rfl (by decide) ?_
  refine ts_7 (q := 14) C d_T_begin_13 rfl rfl (by omega) ?_
  refine g_aload_0 (q := 15) C d_T_begin_14 rfl ?_
  refine tg_22 (q := 18) C d_T_begin_15 rfl ?_
  refine g_sipush (v := nI 1500) (q := 21) C d_T_begin_18 rfl (by decide) ?_
  refine g_iload_1 (q := 22) C d_T_begin_21 rfl ?_
  refine g_imul (q := 23) C d_T_begin_22 rfl (pk_mul _ _) ?_
  refine g_iconst (v := (-1)) (q := 24) C d_T_begin_23 rfl (by decide) ?_
  refine ts_4 (q := 25) C d_T_begin_24 rfl rfl (by omega) ?_
  refine g_aload_0 (q := 26) C d_T_begin_25 rfl ?_
  refine tg_25 (q := 29) C d_T_begin_26 rfl ?_
  refine g_sipush (v := nI 1500) (q := 32) C d_T_begin_29 rfl (by decide) ?_
  refine g_iload_1 (q := 33) C d_T_begin_32 rfl ?_
  refine g_imul (q := 34) C d_T_begin_33 rfl (pk_mul _ _) ?_
  refine g_iconst (v := (-1)) (q := 35) C d_T_begin_34 rfl (by decide) ?_
  refine ts_5 (q := 36) C d_T_begin_35 rfl rfl (by omega) ?_
  refine g_aload_0 (q := 37) C d_T_begin_36 rfl ?_
  refine tg_28 (q := 40) C d_T_begin_37 rfl ?_
  refine g_sipush (v := nI 1500) (q := 43) C d_T_begin_40 rfl (by decide) ?_
  refine g_iload_1 (q := 44) C d_T_begin_43 rfl ?_
  refine g_imul (q := 45) C d_T_begin_44 rfl (pk_mul _ _) ?_
  refine g_iconst (v := nI 0) (q := 46) C d_T_begin_45 rfl (by decide) ?_
  refine ts_6 (q := 47) C d_T_begin_46 rfl rfl (by omega) ?_
  refine g_vret C F d_T_begin_47 (Nat.le_refl _) (Nat.le_refl _) ⟨rfl, _, _, rfl, ((((Fr.rf.updA (by decide)).updA (by decide)).updA (by decide)).updA (by decide)).updA (by decide), ((((Bd.rf.set (by omega)).set (by omega)).set (by omega)).set (by omega)).set (by omega), fun T => ?_⟩
  refine ⟨upd_s, upd_s, upd_s, upd_s, upd_s, fun i h0 hi => ?_, fun i hi => ?_⟩
  · exact absurd hi (by show ¬ i < 1; omega)
  · exact absurd hi (Nat.not_lt_zero _)
theorem c_T_beginSign : Ct l Γ y_T_beginSign b_T_beginSign 2 none 0 0 0 [.ref o] (tw Γ o ad f g) (pv Γ o ad (fun f' g' => Fr [7] [10] f f' g g' ∧ EX g' (fun _ => false) ∧ f' 7 = nI 0)) := by
  refine Ct.of (by decide) (by simp [Value.category]) (Nat.le_of_ble_eq_true rfl) (fun E eG el en C hR F hnm => ?_)
  subst eG
  subst el
  have hL : 2 ≤ xn E := Nat.le_of_eq en.symm
  show G E 0 0 0 [some (.ref o), none] [] (tw (xG E) o ad f g)
  have loop : ∀ j i g1, i + j = 257 → Fr [7] [10] f f g g1 → (∀ b, b < i → g1 10 b = nI 0) → G E 0 0 2 [some (.ref o), some (.int (nI i))] [] (tw (xG E) o ad f g1) := by
    intro j
    induction j with
    | zero =>
      intro i g1 hi hF hz
      refine g_iload_1 (q := 3) C d_T_beginSign_2 rfl ?_
      refine g_sipush (v := nI 257) (q := 6) C d_T_beginSign_3 rfl (by decide) ?_
      refine g_icmp_ge (q := 9) (tgt := 22) C d_T_beginSign_6 rfl (by decide) (fun hc => ?_) (fun hc => ?_)
      · refine g_aload_0 (q := 23) C d_T_beginSign_22 rfl ?_
        refine g_iconst (v := nI 0) (q := 24) C d_T_beginSign_23 rfl (by decide) ?_
        refine tp_103 (q := 27) C d_T_beginSign_24 rfl ?_
        exact g_vret C F d_T_beginSign_27 (Nat.le_refl _) (Nat.le_refl _) ⟨rfl, _, _, rfl, hF.upd (by decide), fun b hb => hz b (by omega), upd_s⟩
      · exact absurd ((nI_leI (by omega) (by omega)).mpr (by omega)) hc
    | succ j ih =>
      intro i g1 hi hF hz
      refine g_iload_1 (q := 3) C d_T_beginSign_2 rfl ?_
      refine g_sipush (v := nI 257) (q := 6) C d_T_beginSign_3 rfl (by decide) ?_
      refine g_icmp_ge (q := 9) (tgt := 22) C d_T_beginSign_6 rfl (by decide) (fun hc => ?_) (fun hc => ?_)
      · exact absurd ((nI_leI (by omega) (by omega)).mp hc) (by omega)
      refine g_aload_0 (q := 10) C d_T_beginSign_9 rfl ?_
      refine tg_40 (q := 13) C d_T_beginSign_10 rfl ?_
      refine g_iload_1 (q := 14) C d_T_beginSign_13 rfl ?_
      refine g_iconst (v := nI 0) (q := 15) C d_T_beginSign_14 rfl (by decide) ?_
      refine ts_10 (q := 16) C d_T_beginSign_15 rfl rfl (by omega) (Or.inl rfl) ?_
      refine g_iinc_1 (q := 19) C hL d_T_beginSign_16 rfl (nI_inc _) ?_
      refine g_goto (tgt := 2) C d_T_beginSign_19 (by decide) ?_
      exact ih (i + 1) _ (by omega) (hF.updA (by decide)) (fun b hb => by
        rw [updA_s]
        by_cases e : b = i
        · rw [e, upd_s]
        · rw [upd_n e]; exact hz b (by omega))
  refine g_iconst (v := nI 0) (q := 1) C d_T_beginSign_0 rfl (by decide) ?_
  refine g_istore_1 (q := 2) C hL d_T_beginSign_1 rfl ?_
  exact loop 257 0 g (by omega) Fr.rf (fun b hb => absurd hb (Nat.not_lt_zero _))
theorem c_T_below {t : Nat → Nat} {b : Nat} (hC : CT g t) (hb : b ≤ 256) : Ct l Γ y_T_below b_T_below 4 (some .int) 0 0 0 [.ref o, .int (nI b)] (tw Γ o ad f g) (pi Γ o ad (fun x f' g' => f' = f ∧ g' = g ∧ x = nI (bl t b))) := by
  refine Ct.of (by decide) (by simp [Value.category]) (Nat.le_of_ble_eq_true rfl) (fun E eG el en C hR F hnm => ?_)
  subst eG
  subst el
  have hL : 4 ≤ xn E := Nat.le_of_eq en.symm
  show G E 0 0 0 [some (.ref o), some (.int (nI b)), none, none] [] (tw (xG E) o ad f g)
  have loop : ∀ j i, i + j = b → G E 0 0 4 [some (.ref o), some (.int (nI b)), some (.int (nI (bl t i))), some (.int (nI i))] [] (tw (xG E) o ad f g) := by
    intro j
    induction j with
    | zero =>
      intro i hi
      refine g_iload_3 (q := 5) C d_T_below_4 rfl ?_
      refine g_iload_1 (q := 6) C d_T_below_5 rfl ?_
      refine g_icmp_ge (q := 9) (tgt := 24) C d_T_below_6 rfl (by decide) (fun hc => ?_) (fun hc => ?_)
      · refine g_iload_2 (q := 25) C d_T_below_24 rfl ?_
        exact g_iret C F d_T_below_25 (Nat.le_refl _) (Nat.le_refl _) ⟨_, _, _, rfl, rfl, rfl, rfl, by rw [show i = b by omega]⟩
      · exact absurd ((nI_leI (by omega) (by omega)).mpr (by omega)) hc
    | succ j ih =>
      intro i hi
      refine g_iload_3 (q := 5) C d_T_below_4 rfl ?_
      refine g_iload_1 (q := 6) C d_T_below_5 rfl ?_
      refine g_icmp_ge (q := 9) (tgt := 24) C d_T_below_6 rfl (by decide) (fun hc => ?_) (fun hc => ?_)
      · exact absurd ((nI_leI (by omega) (by omega)).mp hc) (by omega)
      refine g_iload_2 (q := 10) C d_T_below_9 rfl ?_
      refine g_aload_0 (q := 11) C d_T_below_10 rfl ?_
      refine tg_44 (q := 14) C d_T_below_11 rfl ?_
      refine g_iload_3 (q := 15) C d_T_below_14 rfl ?_
      refine ta_11 (q := 16) C d_T_below_15 rfl rfl (by omega) (hC i (by omega)) ?_
      refine g_iadd (q := 17) C d_T_below_16 rfl (nI_add _ _) ?_
      refine g_istore_2 (q := 18) C hL d_T_below_17 rfl ?_
      refine g_iinc_3 (q := 21) C hL d_T_below_18 rfl (nI_inc _) ?_
      refine g_goto (tgt := 4) C d_T_below_21 (by decide) ?_
      exact ih (i + 1) (by omega)
  refine g_iconst (v := nI 0) (q := 1) C d_T_below_0 rfl (by decide) ?_
  refine g_istore_2 (q := 2) C hL d_T_below_1 rfl ?_
  refine g_iconst (v := nI 0) (q := 3) C d_T_below_2 rfl (by decide) ?_
  refine g_istore_3 (q := 4) C hL d_T_below_3 rfl ?_
  exact loop b 0 (by omega)
theorem c_T_exclude {t : Nat → Nat} {e : Nat → Bool} {x : Nat} (hC : CT g t) (hE : EX g e) (h7 : f 7 = nI x) (ht : ∀ b, b < 256 → t b < 2 ^ 31) : Ct l Γ y_T_exclude b_T_exclude 2 none 0 0 0 [.ref o] (tw Γ o ad f g) (pv Γ o ad (fun f' g' => Fr [7] [10] f f' g g' ∧ EX g' (ex e t) ∧ f' 7 = nI (x + nz t 256))) := by
  refine Ct.of (by decide) (by simp [Value.category]) (Nat.le_of_ble_eq_true rfl) (fun E eG el en C hR F hnm => ?_)
  subst eG
  subst el
  have hL : 2 ≤ xn E := Nat.le_of_eq en.symm
  show G E 0 0 0 [some (.ref o), none] [] (tw (xG E) o ad f g)
  have loop : ∀ j i f1 g1, i + j = 256 → Fr [7] [10] f f1 g g1 → f1 7 = nI (x + nz t i) → (∀ b, b < 257 → g1 10 b = if e b || (decide (b < i) && decide (0 < t b)) then nI 1 else nI 0) → G E 0 0 2 [some (.ref o), some (.int (nI i))] [] (tw (xG E) o ad f1 g1) := by
    intro j
    induction j with
    | zero =>
      intro i f1 g1 hi hF a7 hz
      refine g_iload_1 (q := 3) C d_T_exclude_2 rfl ?_
      refine g_sipush (v := nI 256) (q := 6) C d_T_exclude_3 rfl (by decide) ?_
      refine g_icmp_ge (q := 9) (tgt := 41) C d_T_exclude_6 rfl (by decide) (fun hc => ?_) (fun hc => ?_)
      · have : i = 256 := by omega
        subst this
        exact g_vret C F d_T_exclude_41 (Nat.le_refl _) (Nat.le_refl _) ⟨rfl, _, _, rfl, hF, hz, a7⟩
      · exact absurd ((nI_leI (by omega) (by omega)).mpr (by omega)) hc
    | succ j ih =>
      intro i f1 g1 hi hF a7 hz
      have hci : g1 11 i = nI (t i) := by rw [hF.2 11 (by decide)]; exact hC i (by omega)
      have hti := ht i (by omega)
      refine g_iload_1 (q := 3) C d_T_exclude_2 rfl ?_
      refine g_sipush (v := nI 256) (q := 6) C d_T_exclude_3 rfl (by decide) ?_
      refine g_icmp_ge (q := 9) (tgt := 41) C d_T_exclude_6 rfl (by decide) (fun hc => ?_) (fun hc => ?_)
      · exact absurd ((nI_leI (by omega) (by omega)).mp hc) (by omega)
      refine g_aload_0 (q := 10) C d_T_exclude_9 rfl ?_
      refine tg_44 (q := 13) C d_T_exclude_10 rfl ?_
      refine g_iload_1 (q := 14) C d_T_exclude_13 rfl ?_
      refine ta_11 (q := 15) C d_T_exclude_14 rfl rfl (by omega) hci ?_
      refine g_if_le (q := 18) (tgt := 35) C d_T_exclude_15 rfl (by decide) (fun hc2 => ?_) (fun hc2 => ?_)
      · have hc2 := (nILe0 hti).mp hc2
        refine g_iinc_1 (q := 38) C hL d_T_exclude_35 rfl (nI_inc _) ?_
        refine g_goto (tgt := 2) C d_T_exclude_38 (by decide) ?_
        refine ih (i + 1) _ _ (by omega) hF (by rw [a7]; congr 1; show _ = x + (nz t i + if 0 < t i then 1 else 0); rw [if_neg (by omega)]; rfl) (fun b hb => ?_)
        rw [hz b hb]
        by_cases eb : b = i
        · subst eb; simp [hc2]
        · have : (b < i + 1) = (b < i) := by apply propext; omega
          simp [this]
      · have hc2 : 0 < t i := Nat.pos_of_ne_zero (fun q => hc2 ((nILe0 hti).mpr q))
        refine g_aload_0 (q := 19) C d_T_exclude_18 rfl ?_
        refine tg_40 (q := 22) C d_T_exclude_19 rfl ?_
        refine g_iload_1 (q := 23) C d_T_exclude_22 rfl ?_
        refine g_iconst (v := nI 1) (q := 24) C d_T_exclude_23 rfl (by decide) ?_
        refine ts_10 (q := 25) C d_T_exclude_24 rfl rfl (by omega) (Or.inr rfl) ?_
        refine g_aload_0 (q := 26) C d_T_exclude_25 rfl ?_
        refine g_dup_r (q := 27) C d_T_exclude_26 rfl ?_
        refine tg_103 (q := 30) C d_T_exclude_27 rfl a7 ?_
        refine g_iconst (v := nI 1) (q := 31) C d_T_exclude_30 rfl (by decide) ?_
        refine g_iadd (q := 32) C d_T_exclude_31 rfl (nI_1 _) ?_
        refine tp_103 (q := 35) C d_T_exclude_32 rfl ?_
        refine g_iinc_1 (q := 38) C hL d_T_exclude_35 rfl (nI_inc _) ?_
        refine g_goto (tgt := 2) C d_T_exclude_38 (by decide) ?_
        refine ih (i + 1) _ _ (by omega) ((hF.updA (by decide)).upd (by decide)) (by rw [upd_s]; congr 1; show _ = x + (nz t i + if 0 < t i then 1 else 0); rw [if_pos hc2]; rfl) (fun b hb => ?_)
        rw [updA_s]
        by_cases eb : b = i
        · subst eb; rw [upd_s]; simp [hc2]
        · rw [upd_n eb, hz b hb]
          have : (b < i + 1) = (b < i) := by apply propext; omega
          simp [this]
  refine g_iconst (v := nI 0) (q := 1) C d_T_exclude_0 rfl (by decide) ?_
  refine g_istore_1 (q := 2) C hL d_T_exclude_1 rfl ?_
  exact loop 256 0 f g (by omega) Fr.rf h7 (fun b hb => by rw [hE b hb]; simp)
theorem c_T_flat {e : Nat → Bool} {x s : Nat} (hE : EX g e) (h7 : f 7 = nI x) (hx : x ≤ 257) (hs : s ≤ 256) : Ct l Γ y_T_flat b_T_flat 3 none 0 0 0 [.ref o, .int (nI s)] (tw Γ o ad f g) (pv Γ o ad (fun f' g' => Fr [10, 11, 12] [] f f' g g' ∧ f' 10 = nI (nx e s) ∧ f' 11 = nI 1 ∧ f' 12 = nI (257 - x))) := by
  refine Ct.of (by decide) (by simp [Value.category]) (Nat.le_of_ble_eq_true rfl) (fun E eG el en C hR F hnm => ?_)
  subst eG
  subst el
  have hL : 3 ≤ xn E := Nat.le_of_eq en.symm
  show G E 0 0 0 [some (.ref o), some (.int (nI s)), none] [] (tw (xG E) o ad f g)
  have loop : ∀ j i f1, i + j = s → Fr [10, 11, 12] [] f f1 g g → f1 10 = nI (nx e i) → f1 11 = nI 1 → f1 12 = nI (257 - x) → G E 0 0 24 [some (.ref o), some (.int (nI s)), some (.int (nI i))] [] (tw (xG E) o ad f1 g) := by
    intro j
    induction j with
    | zero =>
      intro i f1 hi hF a10 a11 a12
      refine g_iload_2 (q := 25) C d_T_flat_24 rfl ?_
      refine g_iload_1 (q := 26) C d_T_flat_25 rfl ?_
      refine g_icmp_ge (q := 29) (tgt := 58) C d_T_flat_26 rfl (by decide) (fun hc => ?_) (fun hc => ?_)
      · exact g_vret C F d_T_flat_58 (Nat.le_refl _) (Nat.le_refl _) ⟨rfl, _, _, rfl, hF, by rw [a10, show i = s by omega], a11, a12⟩
      · exact absurd ((nI_leI (by omega) (by omega)).mpr (by omega)) hc
    | succ j ih =>
      intro i f1 hi hF a10 a11 a12
      refine g_iload_2 (q := 25) C d_T_flat_24 rfl ?_
      refine g_iload_1 (q := 26) C d_T_flat_25 rfl ?_
      refine g_icmp_ge (q := 29) (tgt := 58) C d_T_flat_26 rfl (by decide) (fun hc => ?_) (fun hc => ?_)
      · exact absurd ((nI_leI (by omega) (by omega)).mp hc) (by omega)
      have h48 : ∀ d, d = (if e i then 0 else 1) → G E 0 0 48 [some (.ref o), some (.int (nI s)), some (.int (nI i))] [.int (nI d), .int (nI (nx e i)), .ref o] (tw (xG E) o ad f1 g) := by
        intro d hd
        subst hd
        refine g_iadd (q := 49) C d_T_flat_48 rfl (nI_add _ _) ?_
        refine tp_123 (q := 52) C d_T_flat_49 rfl ?_
        refine g_iinc_2 (q := 55) C hL d_T_flat_52 rfl (nI_inc _) ?_
        refine g_goto (tgt := 24) C d_T_flat_55 (by decide) ?_
        exact ih (i + 1) _ (by omega) (hF.upd (by decide)) upd_s a11 a12
      refine g_aload_0 (q := 30) C d_T_flat_29 rfl ?_
      refine g_dup_r (q := 31) C d_T_flat_30 rfl ?_
      refine tg_123 (q := 34) C d_T_flat_31 rfl a10 ?_
      refine g_aload_0 (q := 35) C d_T_flat_34 rfl ?_
      refine tg_40 (q := 38) C d_T_flat_35 rfl ?_
      refine g_iload_2 (q := 39) C d_T_flat_38 rfl ?_
      refine ta_10 (q := 40) C d_T_flat_39 rfl rfl (by omega) (hE i (by omega)) ?_
      refine g_if_eq (q := 43) (tgt := 47) C d_T_flat_40 rfl (by decide) (fun hc2 => ?_) (fun hc2 => ?_)
      · refine g_iconst (v := nI 1) (q := 48) C d_T_flat_47 rfl (by decide) ?_
        exact h48 1 (by
          cases h : e i with
          | false => rfl
          | true => rw [h, if_pos rfl] at hc2; exact absurd hc2 (by decide))
      · refine g_iconst (v := nI 0) (q := 44) C d_T_flat_43 rfl (by decide) ?_
        refine g_goto (tgt := 48) C d_T_flat_44 (by decide) ?_
        exact h48 0 (by
          cases h : e i with
          | true => rfl
          | false => rw [h, if_neg (by decide)] at hc2; exact absurd rfl hc2)
  refine g_aload_0 (q := 1) C d_T_flat_0 rfl ?_
  refine g_sipush (v := nI 257) (q := 4) C d_T_flat_1 rfl (by decide) ?_
  refine g_aload_0 (q := 5) C d_T_flat_4 rfl ?_
  refine tg_103 (q := 8) C d_T_flat_5 rfl h7 ?_
  refine g_isub (q := 9) C d_T_flat_8 rfl (pk_sub hx) ?_
  refine tp_116 (q := 12) C d_T_flat_9 rfl ?_
  refine g_aload_0 (q := 13) C d_T_flat_12 rfl ?_
  refine g_iconst (v := nI 1) (q := 14) C d_T_flat_13 rfl (by decide) ?_
  refine tp_126 (q := 17) C d_T_flat_14 rfl ?_
  refine g_aload_0 (q := 18) C d_T_flat_17 rfl ?_
  refine g_iconst (v := nI 0) (q := 19) C d_T_flat_18 rfl (by decide) ?_
  refine tp_123 (q := 22) C d_T_flat_19 rfl ?_
  refine g_iconst (v := nI 0) (q := 23) C d_T_flat_22 rfl (by decide) ?_
  refine g_istore_2 (q := 24) C hL d_T_flat_23 rfl ?_
  exact loop s 0 _ (by omega) (((Fr.rf.upd (by decide)).upd (by decide)).upd (by decide)) rfl rfl rfl
end
