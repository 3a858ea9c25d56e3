/-! THE CLASS Model: childOf, context, begin, bear, halve, remember, learns -/
section
variable {l : Launch} {Γ : Gl} {a : Nat} {b : Nat → Nat} {f : Nat → Int32} {g : Nat → Nat → Int32} {T : Tr} {ord rm : Nat}
theorem c_Mo_childOf {v c : Nat} (hM : MR f g ord rm T) (hk : TOk ord rm T) (hv : v < tN T) (hc : c < 256) :
    Ct l Γ y_Mo_childOf b_Mo_childOf 4 (some .int) 0 0 0 [.ref a, .int (nI v), .int (nI c)] (mw Γ a b rm f g) (pim Γ a b rm (fun x f' g' => f' = f ∧ g' = g ∧ x = nI (chT T v c))) := by
  obtain ⟨-, -, MRw, MF, -⟩ := id hM
  have hrm : rm ≤ 1500 := hk.2.2.1
  have hn := hk.2.1
  have hn1 := hk.1
  refine Ct.of (by decide) (by simp [Value.category]) (Nat.le_of_ble_eq_true rfl) (fun E eG el en C hR F hnm => ?_)
  subst eG
  subst el
  have hL : 4 ≤ xn E := Nat.le_of_eq en.symm
  show G E 0 0 0 [some (.ref a), some (.int (nI v)), some (.int (nI c)), none] [] (mw (xG E) a b rm f g)
  have h50 : ∀ lv, G E 0 0 50 lv [.int (nI (chT T v c))] (mw (xG E) a b rm f g) := fun lv =>
    g_iret C F d_Mo_childOf_50 (Nat.le_refl _) (Nat.le_refl _) ⟨_, _, _, rfl, rfl, rfl, rfl, rfl⟩
  have loop : ∀ j β, β + j = 256 → β ≤ c → G E 0 0 7 [some (.ref a), some (.int (nI v)), some (.int (nI c)), some (.int (nI (nb T v β)))] [] (mw (xG E) a b rm f g) := by
    intro j
    induction j using Nat.strongRecOn with
    | ind j ih =>
      intro β hj hβ
      have hlt := nb_lt (v := v) (b := β) hk (by omega)
      by_cases h0 : nb T v β = 0
      · have hz := nb_zero (by omega) h0 c hβ hc
        rw [h0]
        refine g_iload_3 (q := 8) C d_Mo_childOf_7 rfl ?_
        refine g_if_le (q := 11) (tgt := 31) C d_Mo_childOf_8 rfl (by decide) (fun hx => ?_) (fun hx => ?_)
        · refine g_iload_3 (q := 32) C d_Mo_childOf_31 rfl ?_
          refine g_if_le (q := 35) (tgt := 49) C d_Mo_childOf_32 rfl (by decide) (fun hx => ?_) (fun hx => ?_)
          · refine g_iconst (v := nI 0) (q := 50) C d_Mo_childOf_49 rfl (by decide) ?_
            have h := h50 [some (.ref a), some (.int (nI v)), some (.int (nI c)), some (.int (nI 0))]
            rw [hz] at h
            exact h
          · exact absurd (by decide) hx
        · exact absurd (by decide) hx
      · obtain ⟨p1, p2, p3, p4, p5, p6⟩ := nb_get hk (by omega) h0
        obtain ⟨r1, r2, r3, r4⟩ := MRw _ (Nat.pos_of_ne_zero h0) p1
        rw [p2] at r4
        generalize hcc : nb T v β = y at *
        refine g_iload_3 (q := 8) C d_Mo_childOf_7 rfl ?_
        refine g_if_le (q := 11) (tgt := 31) C d_Mo_childOf_8 rfl (by decide) (fun hx => ?_) (fun hx => ?_)
        · exact absurd ((nILe0 (by omega)).mp hx) h0
        refine g_aload_0 (q := 12) C d_Mo_childOf_11 rfl ?_
        refine mg_25 (q := 15) C d_Mo_childOf_12 rfl ?_
        refine g_iload_3 (q := 16) C d_Mo_childOf_15 rfl ?_
        refine ma_1 (q := 17) C hrm d_Mo_childOf_16 rfl rfl (by omega) r2 ?_
        refine g_iload_2 (q := 18) C d_Mo_childOf_17 rfl ?_
        refine g_icmp_ge (q := 21) (tgt := 31) C d_Mo_childOf_18 rfl (by decide) (fun hq => ?_) (fun hq => ?_)
        · have hq := (nI_leI (by omega) (by omega)).mp hq
          refine g_iload_3 (q := 32) C d_Mo_childOf_31 rfl ?_
          refine g_if_le (q := 35) (tgt := 49) C d_Mo_childOf_32 rfl (by decide) (fun hx => ?_) (fun hx => ?_)
          · exact absurd ((nILe0 (by omega)).mp hx) h0
          refine g_aload_0 (q := 36) C d_Mo_childOf_35 rfl ?_
          refine mg_25 (q := 39) C d_Mo_childOf_36 rfl ?_
          refine g_iload_3 (q := 40) C d_Mo_childOf_39 rfl ?_
          refine ma_1 (q := 41) C hrm d_Mo_childOf_40 rfl rfl (by omega) r2 ?_
          refine g_iload_2 (q := 42) C d_Mo_childOf_41 rfl ?_
          refine g_icmp_ne (q := 45) (tgt := 49) C d_Mo_childOf_42 rfl (by decide) (fun hq2 => ?_) (fun hq2 => ?_)
          · have hne : tB T y ≠ c := fun q => hq2 (by rw [q])
            have hz := p6 c hβ (by omega)
            refine g_iconst (v := nI 0) (q := 50) C d_Mo_childOf_49 rfl (by decide) ?_
            have h := h50 [some (.ref a), some (.int (nI v)), some (.int (nI c)), some (.int (nI y))]
            rw [hz] at h
            exact h
          · have heq := (nI_eq (by omega) (by omega)).mp (Decidable.not_not.mp hq2)
            refine g_iload_3 (q := 46) C d_Mo_childOf_45 rfl ?_
            refine g_goto (tgt := 50) C d_Mo_childOf_46 (by decide) ?_
            have h := h50 [some (.ref a), some (.int (nI v)), some (.int (nI c)), some (.int (nI y))]
            rw [← heq, p5] at h
            rw [← heq]
            exact h
        · have hq : tB T y < c := Nat.lt_of_not_le (fun q => hq ((nI_leI (by omega) (by omega)).mpr q))
          refine g_aload_0 (q := 22) C d_Mo_childOf_21 rfl ?_
          refine mg_34 (q := 25) C d_Mo_childOf_22 rfl ?_
          refine g_iload_3 (q := 26) C d_Mo_childOf_25 rfl ?_
          refine ma_4 (q := 27) C hrm d_Mo_childOf_26 rfl rfl (by omega) r4 ?_
          refine g_istore_3 (q := 28) C hL d_Mo_childOf_27 rfl ?_
          refine g_goto (tgt := 7) C d_Mo_childOf_28 (by decide) ?_
          exact ih (256 - (tB T y + 1)) (by omega) (tB T y + 1) (by omega) (by omega)
  refine g_aload_0 (q := 1) C d_Mo_childOf_0 rfl ?_
  refine mg_31 (q := 4) C d_Mo_childOf_1 rfl ?_
  refine g_iload_1 (q := 5) C d_Mo_childOf_4 rfl ?_
  refine ma_3 (q := 6) C hrm d_Mo_childOf_5 rfl rfl (by omega) (MF v hv) ?_
  refine g_istore_3 (q := 7) C hL d_Mo_childOf_6 rfl ?_
  exact loop 256 0 (by omega) (Nat.zero_le _)
theorem c_Mo_context {k : Nat} (hM : MR f g ord rm T) (hk : TOk ord rm T) (hx : CtxOk T) (hkL : k ≤ tL T) :
    Ct l Γ y_Mo_context b_Mo_context 4 (some .int) 1 0 0 [.ref a, .int (nI k)] (mw Γ a b rm f g) (pim Γ a b rm (fun x f' g' => f' = f ∧ g' = g ∧ x = nI (cx T k))) := by
  obtain ⟨⟨M0, M1, M2, M3⟩, -, -, -, M5⟩ := id hM
  obtain ⟨k1, k2, k3, -, k5, k6, kR, kD, k9⟩ := id hk
  have hrm : rm ≤ 1500 := k3
  refine Ct.of (by decide) (by simp [Value.category]) (Nat.le_of_ble_eq_true rfl) (fun E eG el en C hR F hnm => ?_)
  subst eG
  subst el
  have hL : 4 ≤ xn E := Nat.le_of_eq en.symm
  show G E 0 0 0 [some (.ref a), some (.int (nI k)), none, none] [] (mw (xG E) a b rm f g)
  have loop : ∀ r j, j + r = k → G E 0 0 9 [some (.ref a), some (.int (nI k)), some (.int (nI (cxp T k j))), some (.int (nI (tL T - k + j)))] [] (mw (xG E) a b rm f g) := by
    intro r
    induction r with
    | zero =>
      intro j hj
      refine g_iload_3 (q := 10) C d_Mo_context_9 rfl ?_
      refine g_aload_0 (q := 11) C d_Mo_context_10 rfl ?_
      refine mg_43 (q := 14) C d_Mo_context_11 rfl M3 ?_
      refine g_icmp_ge (q := 17) (tgt := 35) C d_Mo_context_14 rfl (by decide) (fun hc => ?_) (fun hc => ?_)
      · refine g_iload_2 (q := 36) C d_Mo_context_35 rfl ?_
        exact g_iret C F d_Mo_context_36 (Nat.le_refl _) (Nat.le_refl _) ⟨_, _, _, rfl, rfl, rfl, rfl, by rw [show j = k by omega]⟩
      · exact absurd ((nI_leI (by omega) (by omega)).mpr (by omega)) hc
    | succ r ih =>
      intro j hj
      have hlt := cxp_lt (T := T) k1 k j
      refine g_iload_3 (q := 10) C d_Mo_context_9 rfl ?_
      refine g_aload_0 (q := 11) C d_Mo_context_10 rfl ?_
      refine mg_43 (q := 14) C d_Mo_context_11 rfl M3 ?_
      refine g_icmp_ge (q := 17) (tgt := 35) C d_Mo_context_14 rfl (by decide) (fun hc => ?_) (fun hc => ?_)
      · exact absurd ((nI_leI (by omega) (by omega)).mp hc) (by omega)
      refine g_aload_0 (q := 18) C d_Mo_context_17 rfl ?_
      refine g_iload_2 (q := 19) C d_Mo_context_18 rfl ?_
      refine g_aload_0 (q := 20) C d_Mo_context_19 rfl ?_
      refine mg_9 (q := 23) C d_Mo_context_20 rfl ?_
      refine g_iload_3 (q := 24) C d_Mo_context_23 rfl ?_
      refine ma_5 (q := 25) C d_Mo_context_24 rfl rfl (by omega) (M5 _ (by omega)) ?_
      refine mc_56 (q := 28) C hR (c_Mo_childOf hM hk hlt (k9 _ (by omega))) d_Mo_context_25 rfl (by decide) (by decide) (by decide) (Nat.le_of_ble_eq_true rfl) (fun x f2 g2 hp => ?_)
      obtain ⟨rfl, rfl, rfl⟩ := hp
      refine g_istore_2 (q := 29) C hL d_Mo_context_28 rfl ?_
      refine g_iinc_3 (q := 32) C hL d_Mo_context_29 rfl (nI_inc _) ?_
      refine g_goto (tgt := 9) C d_Mo_context_32 (by decide) ?_
      exact ih (j + 1) (by omega)
  refine g_iconst (v := nI 0) (q := 1) C d_Mo_context_0 rfl (by decide) ?_
  refine g_istore_2 (q := 2) C hL d_Mo_context_1 rfl ?_
  refine g_aload_0 (q := 3) C d_Mo_context_2 rfl ?_
  refine mg_43 (q := 6) C d_Mo_context_3 rfl M3 ?_
  refine g_iload_1 (q := 7) C d_Mo_context_6 rfl ?_
  refine g_isub (q := 8) C d_Mo_context_7 rfl (pk_sub (by omega)) ?_
  refine g_istore_3 (q := 9) C hL d_Mo_context_8 rfl ?_
  exact loop k 0 (by omega)
theorem c_Mo_begin (hrm : rm ≤ 1500) (hr8 : 8 ≤ rm) (h0 : f 0 = nI ord) (h1 : f 1 = nI rm) (h2 : g 2 0 = nI 0) : Ct l Γ y_Mo_begin b_Mo_begin 1 none 0 0 0 [.ref a] (mw Γ a b rm f g) (pvm Γ a b rm (fun f' g' => ∀ T, MR f' g' ord rm (rs T))) := by
  refine Ct.of (by decide) (by simp [Value.category]) (Nat.le_of_ble_eq_true rfl) (fun E eG el en C hR F hnm => ?_)
  subst eG
  subst el
  have hL : 1 ≤ xn E := Nat.le_of_eq en.symm
  show G E 0 0 0 [some (.ref a)] [] (mw (xG E) a b rm f g)
  refine g_aload_0 (q := 1) C d_Mo_begin_0 rfl ?_
  refine g_iconst (v := nI 1) (q := 2) C d_Mo_begin_1 rfl (by decide) ?_
  refine mp_40 (q := 5) C d_Mo_begin_2 rfl ?_
  refine g_aload_0 (q := 6) C d_Mo_begin_5 rfl ?_
  refine mg_22 (q := 9) C d_Mo_begin_6 rfl ?_
  refine g_iconst (v := nI 0) (q := 10) C d_Mo_begin_9 rfl (by decide) ?_
  refine g_iconst (v := (-1)) (q := 11) C d_Mo_begin_10 rfl (by decide) ?_
  refine ms_0 (q := 12) C hrm d_Mo_begin_11 rfl rfl (by omega) ?_
  refine g_aload_0 (q := 13) C d_Mo_begin_12 rfl ?_
  refine mg_25 (q := 16) C d_Mo_begin_13 rfl ?_
  refine g_iconst (v := nI 0) (q := 17) C d_Mo_begin_16 rfl (by decide) ?_
  refine g_iconst (v := (-1)) (q := 18) C d_Mo_begin_17 rfl (by decide) ?_
  refine ms_1 (q := 19) C hrm d_Mo_begin_18 rfl rfl (by omega) ?_
  refine g_aload_0 (q := 20) C d_Mo_begin_19 rfl ?_
  refine mg_31 (q := 23) C d_Mo_begin_20 rfl ?_
  refine g_iconst (v := nI 0) (q := 24) C d_Mo_begin_23 rfl (by decide) ?_
  refine g_iconst (v := nI 0) (q := 25) C d_Mo_begin_24 rfl (by decide) ?_
  refine ms_3 (q := 26) C hrm d_Mo_begin_25 rfl rfl (by omega) ?_
  refine g_aload_0 (q := 27) C d_Mo_begin_26 rfl ?_
  refine g_iconst (v := nI 0) (q := 28) C d_Mo_begin_27 rfl (by decide) ?_
  refine mp_43 (q := 31) C d_Mo_begin_28 rfl ?_
  refine g_vret C F d_Mo_begin_31 (Nat.le_refl _) (Nat.le_refl _) ⟨rfl, _, _, rfl, fun T => ⟨⟨h0, h1, rfl, rfl⟩, ⟨rfl, rfl, h2⟩, fun i i0 hi => absurd hi (by show ¬ i < 1; omega), fun v hv => ?_, fun i hi => absurd hi (Nat.not_lt_zero _)⟩⟩
  have : v = 0 := by have : v < 1 := hv; omega
  subst this
  rw [nb_none (T := rs T) (v := 0) (b := 0) (by decide) (fun β _ _ => by
    show (if 0 < 0 ∧ _ then _ else 0) = 0
    rw [if_neg (fun q => absurd q.1 (Nat.lt_irrefl 0))])]
  rfl
/-- a new child in the links -/
theorem nb_insT {T T' : Tr} {v c n : Nat} (hc : c < 256) (hn : n ≠ 0) (hch : ∀ v' β, chT T' v' β = if v' = v ∧ β = c then n else chT T v' β) {v' β : Nat} (hv : v' = v ∧ β ≤ c ∧ ∀ γ, β ≤ γ → γ < c → chT T v γ = 0) : nb T' v' β = n := by
  have same : ∀ γ, ¬ (v' = v ∧ γ = c) → chT T' v' γ = chT T v' γ := fun γ q => by rw [hch, if_neg q]
  obtain ⟨rfl, h1, h2⟩ := hv
  rw [nb_eq (T := T') (v := v') (b := β) (β := c) h1 hc (by rw [hch, if_pos ⟨rfl, rfl⟩]; exact hn) (fun γ q1 q2 => by rw [same γ (by omega)]; exact h2 γ q1 q2), hch, if_pos ⟨rfl, rfl⟩]
theorem nb_insF {T T' : Tr} {v c n : Nat} (hch : ∀ v' β, chT T' v' β = if v' = v ∧ β = c then n else chT T v' β) (h0 : chT T v c = 0) {v' β : Nat} (hβ : β ≤ 256) (hv : ¬ (v' = v ∧ β ≤ c ∧ ∀ γ, β ≤ γ → γ < c → chT T v γ = 0)) : nb T' v' β = nb T v' β := by
  have same : ∀ γ, ¬ (v' = v ∧ γ = c) → chT T' v' γ = chT T v' γ := fun γ q => by rw [hch, if_neg q]
  rcases nb_spec (T := T) (v := v') hβ with ⟨a1, a2⟩ | ⟨γ, c1, c2, c3, c4, c5⟩
  · rw [a1]
    refine nb_none hβ (fun γ q1 q2 => ?_)
    rw [same γ]
    · exact a2 γ q1 q2
    · rintro ⟨rfl, rfl⟩
      exact hv ⟨rfl, q1, fun δ q3 q4 => a2 δ q3 (by omega)⟩
  · have hγ : ¬ (v' = v ∧ γ = c) := by
      rintro ⟨rfl, rfl⟩
      exact c4 h0
    rw [c3, ← same γ hγ]
    refine nb_eq c1 c2 (by rw [same γ hγ]; exact c4) (fun δ q1 q2 => ?_)
    rw [same δ]
    · exact c5 δ q1 q2
    · rintro ⟨rfl, rfl⟩
      exact hv ⟨rfl, q1, fun ε q3 q4 => c5 ε q3 (by omega)⟩
theorem c_Mo_bear {v c : Nat} (hM : MR f g ord rm T) (hk : TOk ord rm T) (hv : v < tN T) (hc : c < 256) (h0 : chT T v c = 0) (hn : tN T ≠ rm) :
    Ct l Γ y_Mo_bear b_Mo_bear 6 none 0 0 0 [.ref a, .int (nI v), .int (nI c)] (mw Γ a b rm f g) (pvm Γ a b rm (fun f' g' => MR f' g' ord rm (inc T v c))) := by
  obtain ⟨⟨M0, M1, M2, M3⟩, ⟨M4, M5, M6⟩, MRw, MF, ML⟩ := id hM
  have hrm : rm ≤ 1500 := hk.2.2.1
  have hn1 := hk.1
  have hn2 := hk.2.1
  have kR := hk.2.2.2.2.2.2.1
  have hinc : inc T v c = (tN T + 1, upN (tP T) (tN T) v, upN (tB T) (tN T) c, upN (tC T) (tN T) 1, tL T, tE T) := by unfold inc; rw [if_pos h0]
  have hch : ∀ v' β, chT (inc T v c) v' β = if v' = v ∧ β = c then tN T else chT T v' β := fun v' β => by
    rw [ch_inc hn1]
    by_cases q : v' = v ∧ β = c
    · rw [if_pos q, if_pos ⟨h0, q⟩]
    · rw [if_neg q, if_neg (fun x => q x.2)]
  have hiT : ∀ {v' β : Nat}, (v' = v ∧ β ≤ c ∧ ∀ γ, β ≤ γ → γ < c → chT T v γ = 0) → nb (inc T v c) v' β = tN T := fun h => nb_insT hc (by omega) hch h
  have hiF : ∀ {v' β : Nat}, β ≤ 256 → ¬ (v' = v ∧ β ≤ c ∧ ∀ γ, β ≤ γ → γ < c → chT T v γ = 0) → nb (inc T v c) v' β = nb T v' β := fun hβ h => nb_insF hch h0 hβ h
  have hnew : nb T (tN T) 0 = 0 := nb_none (by decide) (fun β _ _ => by
    by_cases q : chT T (tN T) β = 0
    · exact q
    · obtain ⟨a1, a2, a3, a4⟩ := ch_some q
      have := (kR _ a1 a2).1
      omega)
  refine Ct.of (by decide) (by simp [Value.category]) (Nat.le_of_ble_eq_true rfl) (fun E eG el en C hR F hnm => ?_)
  subst eG
  subst el
  have hL : 6 ≤ xn E := Nat.le_of_eq en.symm
  show G E 0 0 0 [some (.ref a), some (.int (nI v)), some (.int (nI c)), none, none, none] [] (mw (xG E) a b rm f g)
  -- the walk along the children: bf the one before (0: none)
  have loop : ∀ (j β bf : Nat) (f1 : Nat → Int32) (g1 : Nat → Nat → Int32), β + j = 256 → β ≤ c → (∀ γ, γ < β → bf = 0 → chT T v γ = 0) → (bf ≠ 0 → bf < tN T ∧ tP T bf = v ∧ tB T bf + 1 = β) → f1 = upd f 2 (nI (tN T + 1)) → g1 0 = upd (g 0) (tN T) (nI v) → g1 1 = upd (g 1) (tN T) (nI c) → g1 2 = upd (g 2) (tN T) (nI 1) → g1 3 = upd (g 3) (tN T) (nI 0) → g1 4 = g 4 → g1 5 = g 5 → G E 0 0 51 [some (.ref a), some (.int (nI v)), some (.int (nI c)), some (.int (nI (tN T))), some (.int (nI bf)), some (.int (nI (nb T v β)))] [] (mw (xG E) a b rm f1 g1) := by
    intro j
    induction j using Nat.strongRecOn with
    | ind j ih =>
      intro β bf f1 g1 hj hβ hb0 hb1 e0 g0 gg1 g2' g3 g4 g5
      have hlt := nb_lt (v := v) (b := β) hk (by omega)
      -- the place is found
      have h83 : (∀ γ, β ≤ γ → γ < c → chT T v γ = 0) → G E 0 0 83 [some (.ref a), some (.int (nI v)), some (.int (nI c)), some (.int (nI (tN T))), some (.int (nI bf)), some (.int (nI (nb T v β)))] [] (mw (xG E) a b rm f1 g1) := by
        intro hgap
        have hnext : nb T v β = nb T v (c + 1) := by
          rcases nb_spec (T := T) (v := v) (b := β) (by omega) with ⟨a1, a2⟩ | ⟨γ, c1, c2, c3, c4, c5⟩
          · rw [a1, nb_none (by omega) (fun γ q1 q2 => a2 γ (by omega) q2)]
          · rw [c3]
            have hγ : c < γ := by
              rcases Nat.lt_trichotomy γ c with q | q | q
              · exact absurd (hgap γ c1 q) c4
              · rw [q] at c4; exact absurd h0 c4
              · exact q
            exact (nb_eq (by omega) c2 c4 (fun δ q1 q2 => c5 δ (by omega) q2)).symm
        -- what the rows hold at the end
        have hend : ∀ g2, g2 0 = g1 0 → g2 1 = g1 1 → g2 2 = g1 2 → g2 5 = g1 5 → g2 4 (tN T) = nI (nb T v β) → (bf ≠ 0 → g2 4 bf = nI (tN T) ∧ g2 3 = g1 3 ∧ ∀ i, i ≠ tN T → i ≠ bf → g2 4 i = g1 4 i) → (bf = 0 → (∀ i, i ≠ tN T → g2 4 i = g1 4 i) ∧ g2 3 v = nI (tN T) ∧ ∀ i, i ≠ v → g2 3 i = g1 3 i) → MR f1 g2 ord rm (inc T v c) := by
          intro g2 q0 q1 q2 q5 q4 qb qa
          have hM : ∀ i, i < tN T → nb (inc T v c) i 0 = if i = v ∧ bf = 0 then tN T else nb T i 0 := by
            intro i hi
            by_cases e : i = v
            · by_cases eb : bf = 0
              · rw [if_pos ⟨e, eb⟩]
                refine hiT ⟨e, Nat.zero_le _, fun γ _ q => ?_⟩
                rcases Nat.lt_or_ge γ β with z | z
                · exact hb0 γ z eb
                · exact hgap γ z q
              · obtain ⟨x1, x2, x3⟩ := hb1 eb
                rw [if_neg (fun q => eb q.2)]
                refine hiF (by omega) (fun q => ?_)
                have := q.2.2 (tB T bf) (Nat.zero_le _) (by omega)
                have hu : chT T v (tB T bf) = bf := by rw [← x2]; exact ch_uniq hk.2.2.2.2.2.2.2.1 (by omega) x1
                rw [hu] at this
                exact eb this
            · rw [if_neg (fun q => e q.1)]
              exact hiF (by omega) (fun q => e q.1)
          have hNx : ∀ i, 0 < i → i < tN T → nb (inc T v c) (tP T i) (tB T i + 1) = if i = bf ∧ bf ≠ 0 then tN T else nb T (tP T i) (tB T i + 1) := by
            intro i i0 hi
            have hbi := (kR i i0 hi).2.1
            by_cases e : i = bf
            · have eb : bf ≠ 0 := by omega
              obtain ⟨x1, x2, x3⟩ := hb1 eb
              subst e
              rw [if_pos ⟨rfl, eb⟩]
              exact hiT ⟨x2, by omega, fun γ q1 q2 => hgap γ (by omega) q2⟩
            · rw [if_neg (fun q => e q.1)]
              refine hiF (by omega) (fun q => ?_)
              -- i is a child of v below c, and no child lies between
              obtain ⟨y1, y2, y3⟩ := q
              have hci : chT T v (tB T i) = i := by rw [← y1]; exact ch_uniq hk.2.2.2.2.2.2.2.1 i0 hi
              by_cases eb : bf = 0
              · rcases Nat.lt_or_ge (tB T i) β with z | z
                · have := hb0 _ z eb; omega
                · have := hgap _ z (by omega); omega
              · obtain ⟨x1, x2, x3⟩ := hb1 eb
                have hcb : chT T v (tB T bf) = bf := by rw [← x2]; exact ch_uniq hk.2.2.2.2.2.2.2.1 (by omega) x1
                rcases Nat.lt_trichotomy (tB T i) (tB T bf) with z | z | z
                · have := y3 (tB T bf) (by omega) (by omega); omega
                · rw [z] at hci; omega
                · have := hgap (tB T i) (by omega) (by omega); omega
          rw [hinc] at hiT hM hNx ⊢
          rw [hinc] at hiF
          refine ⟨⟨?_, ?_, ?_, ?_⟩, ⟨?_, ?_, ?_⟩, fun i i0 hi => ?_, fun i hi => ?_, fun i hi => ?_⟩
          · rw [e0, upd_n (by decide)]; exact M0
          · rw [e0, upd_n (by decide)]; exact M1
          · rw [e0]; exact upd_s
          · rw [e0, upd_n (by decide)]; exact M3
          · rw [q0, g0, upd_n (by omega)]; exact M4
          · rw [q1, gg1, upd_n (by omega)]; exact M5
          · rw [q2, g2', upd_n (by omega)]; exact M6
          · have hi : i < tN T + 1 := hi
            show g2 0 i = nI (upN (tP T) (tN T) v i) ∧ g2 1 i = nI (upN (tB T) (tN T) c i) ∧ g2 2 i = nI (upN (tC T) (tN T) 1 i) ∧ g2 4 i = nI (nb _ (upN (tP T) (tN T) v i) (upN (tB T) (tN T) c i + 1))
            by_cases e : i = tN T
            · rw [e, q0, q1, q2, g0, gg1, g2', upd_s, upd_s, upd_s, upN_s, upN_s, upN_s, q4]
              refine ⟨rfl, rfl, rfl, ?_⟩
              rw [hiF (by omega) (fun q => by omega), hnext]
            · obtain ⟨r1, r2, r3, r4⟩ := MRw i i0 (by omega)
              rw [q0, q1, q2, g0, gg1, g2', upd_n e, upd_n e, upd_n e, upN_n e, upN_n e, upN_n e]
              refine ⟨r1, r2, r3, ?_⟩
              rw [hNx i i0 (by omega)]
              by_cases eb : bf = 0
              · rw [if_neg (fun q => q.2 eb), (qa eb).1 i e, g4]; exact r4
              · by_cases ei : i = bf
                · rw [if_pos ⟨ei, eb⟩, ei]; exact (qb eb).1
                · rw [if_neg (fun q => ei q.1), (qb eb).2.2 i e ei, g4]; exact r4
          · have hi : i < tN T + 1 := hi
            by_cases e : i = tN T
            · have hz : nb (tN T + 1, upN (tP T) (tN T) v, upN (tB T) (tN T) c, upN (tC T) (tN T) 1, tL T, tE T) i 0 = 0 := by
                rw [hiF (by decide) (fun q => by omega), e]; exact hnew
              rw [hz]
              by_cases eb : bf = 0
              · rw [(qa eb).2.2 i (by omega), g3, e, upd_s]
              · rw [(qb eb).2.1, g3, e, upd_s]
            · rw [hM i (by omega)]
              by_cases eb : bf = 0
              · by_cases ei : i = v
                · rw [if_pos ⟨ei, eb⟩, ei]; exact (qa eb).2.1
                · rw [if_neg (fun q => ei q.1), (qa eb).2.2 i ei, g3, upd_n e]; exact MF i (by omega)
              · rw [if_neg (fun q => eb q.2), (qb eb).2.1, g3, upd_n e]; exact MF i (by omega)
          · rw [q5, g5]; exact ML i hi
        refine g_aload_0 (q := 84) C d_Mo_bear_83 rfl ?_
        refine mg_34 (q := 87) C d_Mo_bear_84 rfl ?_
        refine g_iload_3 (q := 88) C d_Mo_bear_87 rfl ?_
        refine g_iload_5 (q := 90) C d_Mo_bear_88 rfl ?_
        refine ms_4 (q := 91) C hrm d_Mo_bear_90 rfl rfl (by omega) ?_
        refine g_iload_4 (q := 93) C d_Mo_bear_91 rfl ?_
        by_cases eb : bf = 0
        · rw [eb]
          refine g_if_le (q := 96) (tgt := 107) C d_Mo_bear_93 rfl (by decide) (fun hz => ?_) (fun hz => ?_)
          · refine g_aload_0 (q := 108) C d_Mo_bear_107 rfl ?_
            refine mg_31 (q := 111) C d_Mo_bear_108 rfl ?_
            refine g_iload_1 (q := 112) C d_Mo_bear_111 rfl ?_
            refine g_iload_3 (q := 113) C d_Mo_bear_112 rfl ?_
            refine ms_3 (q := 114) C hrm d_Mo_bear_113 rfl rfl (by omega) ?_
            exact g_vret C F d_Mo_bear_114 (Nat.le_refl _) (Nat.le_refl _) ⟨rfl, _, _, rfl, hend _ rfl rfl rfl rfl upd_s (fun q => absurd eb q) (fun _ => ⟨fun i hi => upd_n hi, upd_s, fun i hi => upd_n hi⟩)⟩
          · exact absurd (by decide) hz
        · obtain ⟨x1, x2, x3⟩ := hb1 eb
          refine g_if_le (q := 96) (tgt := 107) C d_Mo_bear_93 rfl (by decide) (fun hz => ?_) (fun hz => ?_)
          · exact absurd ((nILe0 (by omega)).mp hz) eb
          refine g_aload_0 (q := 97) C d_Mo_bear_96 rfl ?_
          refine mg_34 (q := 100) C d_Mo_bear_97 rfl ?_
          refine g_iload_4 (q := 102) C d_Mo_bear_100 rfl ?_
          refine g_iload_3 (q := 103) C d_Mo_bear_102 rfl ?_
          refine ms_4 (q := 104) C hrm d_Mo_bear_103 rfl rfl (by omega) ?_
          refine g_goto (tgt := 114) C d_Mo_bear_104 (by decide) ?_
          refine g_vret C F d_Mo_bear_114 (Nat.le_refl _) (Nat.le_refl _) ⟨rfl, _, _, rfl, hend _ rfl rfl rfl rfl ?_ (fun _ => ⟨upd_s, rfl, fun i h1 h2 => ?_⟩) (fun q => absurd q eb)⟩
          · show upd (upd (g1 4) (tN T) _) bf _ (tN T) = _
            rw [upd_n (by omega), upd_s]
          · show upd (upd (g1 4) (tN T) _) bf _ i = _
            rw [upd_n h2, upd_n h1]
      by_cases hz : nb T v β = 0
      · have hzz := nb_zero (by omega) hz
        have h := h83 (fun γ q1 q2 => hzz γ q1 (by omega))
        rw [hz] at h ⊢
        refine g_iload_5 (q := 53) C d_Mo_bear_51 rfl ?_
        refine g_if_le (q := 56) (tgt := 83) C d_Mo_bear_53 rfl (by decide) (fun hx => ?_) (fun hx => ?_)
        · exact h
        · exact absurd (by decide) hx
      · obtain ⟨p1, p2, p3, p4, p5, p6⟩ := nb_get hk (by omega) hz
        obtain ⟨r1, r2, r3, r4⟩ := MRw _ (Nat.pos_of_ne_zero hz) p1
        rw [p2] at r4
        generalize hcc : nb T v β = y at *
        have r2 : g1 1 y = nI (tB T y) := by rw [gg1, upd_n (by omega)]; exact r2
        have r4 : g1 4 y = nI (nb T v (tB T y + 1)) := by rw [g4]; exact r4
        refine g_iload_5 (q := 53) C d_Mo_bear_51 rfl ?_
        refine g_if_le (q := 56) (tgt := 83) C d_Mo_bear_53 rfl (by decide) (fun hx => ?_) (fun hx => ?_)
        · exact absurd ((nILe0 (by omega)).mp hx) hz
        refine g_aload_0 (q := 57) C d_Mo_bear_56 rfl ?_
        refine mg_25 (q := 60) C d_Mo_bear_57 rfl ?_
        refine g_iload_5 (q := 62) C d_Mo_bear_60 rfl ?_
        refine ma_1 (q := 63) C hrm d_Mo_bear_62 rfl rfl (by omega) r2 ?_
        refine g_iload_2 (q := 64) C d_Mo_bear_63 rfl ?_
        refine g_icmp_ge (q := 67) (tgt := 83) C d_Mo_bear_64 rfl (by decide) (fun hq => ?_) (fun hq => ?_)
        · have hq := (nI_leI (by omega) (by omega)).mp hq
          exact h83 (fun γ q1 q2 => p6 γ q1 (by omega))
        · have hq : tB T y < c := Nat.lt_of_not_le (fun q => hq ((nI_leI (by omega) (by omega)).mpr q))
          refine g_iload_5 (q := 69) C d_Mo_bear_67 rfl ?_
          refine g_istore_4 (q := 71) C hL d_Mo_bear_69 rfl ?_
          refine g_aload_0 (q := 72) C d_Mo_bear_71 rfl ?_
          refine mg_34 (q := 75) C d_Mo_bear_72 rfl ?_
          refine g_iload_5 (q := 77) C d_Mo_bear_75 rfl ?_
          refine ma_4 (q := 78) C hrm d_Mo_bear_77 rfl rfl (by omega) r4 ?_
          refine g_istore_5 (q := 80) C hL d_Mo_bear_78 rfl ?_
          refine g_goto (tgt := 51) C d_Mo_bear_80 (by decide) ?_
          exact ih (256 - (tB T y + 1)) (by omega) (tB T y + 1) y _ _ (by omega) (by omega) (fun γ _ q => absurd q hz) (fun _ => ⟨p1, p2, rfl⟩) e0 g0 gg1 g2' g3 g4 g5
  have hF3 : upd (g 3) (tN T) (nI 0) v = nI (nb T v 0) := by rw [upd_n (by omega)]; exact MF v hv
  refine g_aload_0 (q := 1) C d_Mo_bear_0 rfl ?_
  refine g_dup_r (q := 2) C d_Mo_bear_1 rfl ?_
  refine mg_40 (q := 5) C d_Mo_bear_2 rfl M2 ?_
  refine g_dup_x1 (q := 6) C d_Mo_bear_5 rfl rfl rfl ?_
  refine g_iconst (v := nI 1) (q := 7) C d_Mo_bear_6 rfl (by decide) ?_
  refine g_iadd (q := 8) C d_Mo_bear_7 rfl (nI_1 _) ?_
  refine mp_40 (q := 11) C d_Mo_bear_8 rfl ?_
  refine g_istore_3 (q := 12) C hL d_Mo_bear_11 rfl ?_
  refine g_aload_0 (q := 13) C d_Mo_bear_12 rfl ?_
  refine mg_22 (q := 16) C d_Mo_bear_13 rfl ?_
  refine g_iload_3 (q := 17) C d_Mo_bear_16 rfl ?_
  refine g_iload_1 (q := 18) C d_Mo_bear_17 rfl ?_
  refine ms_0 (q := 19) C hrm d_Mo_bear_18 rfl rfl (by omega) ?_
  refine g_aload_0 (q := 20) C d_Mo_bear_19 rfl ?_
  refine mg_25 (q := 23) C d_Mo_bear_20 rfl ?_
  refine g_iload_3 (q := 24) C d_Mo_bear_23 rfl ?_
  refine g_iload_2 (q := 25) C d_Mo_bear_24 rfl ?_
  refine ms_1 (q := 26) C hrm d_Mo_bear_25 rfl rfl (by omega) ?_
  refine g_aload_0 (q := 27) C d_Mo_bear_26 rfl ?_
  refine mg_28 (q := 30) C d_Mo_bear_27 rfl ?_
  refine g_iload_3 (q := 31) C d_Mo_bear_30 rfl ?_
  refine g_iconst (v := nI 1) (q := 32) C d_Mo_bear_31 rfl (by decide) ?_
  refine ms_2 (q := 33) C hrm d_Mo_bear_32 rfl rfl (by omega) ?_
  refine g_aload_0 (q := 34) C d_Mo_bear_33 rfl ?_
  refine mg_31 (q := 37) C d_Mo_bear_34 rfl ?_
  refine g_iload_3 (q := 38) C d_Mo_bear_37 rfl ?_
  refine g_iconst (v := nI 0) (q := 39) C d_Mo_bear_38 rfl (by decide) ?_
  refine ms_3 (q := 40) C hrm d_Mo_bear_39 rfl rfl (by omega) ?_
  refine g_iconst (v := nI 0) (q := 41) C d_Mo_bear_40 rfl (by decide) ?_
  refine g_istore_4 (q := 43) C hL d_Mo_bear_41 rfl ?_
  refine g_aload_0 (q := 44) C d_Mo_bear_43 rfl ?_
  refine mg_31 (q := 47) C d_Mo_bear_44 rfl ?_
  refine g_iload_1 (q := 48) C d_Mo_bear_47 rfl ?_
  refine ma_3 (q := 49) C hrm d_Mo_bear_48 rfl rfl (by omega) hF3 ?_
  refine g_istore_5 (q := 51) C hL d_Mo_bear_49 rfl ?_
  exact loop 256 0 0 _ _ (by omega) (Nat.zero_le _) (fun γ q _ => absurd q (Nat.not_lt_zero _)) (fun q => absurd rfl q) rfl rfl rfl rfl rfl rfl rfl
end
