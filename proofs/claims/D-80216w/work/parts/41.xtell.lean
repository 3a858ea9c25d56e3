/-! PpmTrees: isIn, isEnd, nearest, Arrays.fill, flat, tell -/
abbrev xP : MethodName := ⟨"PpmTrees$Taker", "pointed", "(I)I"⟩
abbrev xT : MethodName := ⟨"PpmTrees$Taker", "take", "(III)V"⟩
/-- a taker t, its cells w in the state s (Q s w): pointed answers pt s of, take leads to step s sp -/
def TK (l : Launch) (Γ : Gl) (x : Nat) (A : Nat → Nat) (out : Nat → Nat) (os : Nat) {α : Type} (Q : α → va_W → Prop) (pt : α → Nat → Int32) (step : α → Sp → α) (okP : α → Nat → Prop) (adm : α → Sp → Prop) (t : Nat) : Prop :=
  ∃ (cls : String) (ci : Nat) (T : u_T) (N : Nat) (yP : MethodName) (bP : ByteArray) (mP : Nat) (yT : MethodName) (bT : ByteArray) (mT dP : Nat), FW "PpmTrees" 48 xP yP bP mP (some .int) cls 1 ∧ FW "PpmTrees" 53 xT yT bT mT none cls 3 ∧ classes[ci]? = some (cls, T, N) ∧ dP ≤ 5 ∧
    (∀ s w fx gx, Q s w → ∃ fs, (xw Γ x A fx gx ++ w)[10]? = some (t, .inr (ci, fs))) ∧
    (∀ s w fx gx of, XO fx gx out os → Q s w → okP s of → Ct l Γ yP bP mP (some .int) dP 0 0 [.ref t, .int (nI of)] (xw Γ x A fx gx ++ w) (fun r w' => r = some (.int (pt s of)) ∧ w' = xw Γ x A fx gx ++ w)) ∧
    (∀ s w fx gx sp, XO fx gx out os → Q s w → SpOk sp → adm s sp → ∃ dT, dT ≤ 5 ∧ Ct l Γ yT bT mT none dT 0 0 [.ref t, .int (nI sp.1), .int (nI sp.2.1), .int (nI sp.2.2)] (xw Γ x A fx gx ++ w) (fun r w' => r = none ∧ ∃ w2, Q (step s sp) w2 ∧ w' = xw Γ x A fx gx ++ w2))
def SEL (v arg : Int32) (sg : Nat) (t : Nat → Nat) : Prop := (v = -1 ∧ arg = nI sg) ∨ ∃ u, v = nI u ∧ u < bl t 256 + nz t 256 ∧ ((sg < 256 ∧ 0 < t sg ∧ bl t sg ≤ u ∧ u < bl t sg + t sg) ∨ (¬ (sg < 256 ∧ 0 < t sg) ∧ bl t 256 ≤ u))
/-- what holds of a taker while the sign sg is told -/
def TKI (T : Tr) (sg : Nat) (arg : Int32) {α : Type} (pt : α → Nat → Int32) (step : α → Sp → α) (okP : α → Nat → Prop) (adm : α → Sp → Prop) (Inv : Nat → (Nat → Bool) → Nat → α → Prop) : Prop :=
  (∀ k e x s, k ≤ tL T → EI e x → Inv (k + 1) e x s → (nz (ct T e (cx T k)) 256 = 0 → Inv k e x s) ∧
    (nz (ct T e (cx T k)) 256 ≠ 0 → okP s (bl (ct T e (cx T k)) 256 + nz (ct T e (cx T k)) 256) ∧ SEL (pt s (bl (ct T e (cx T k)) 256 + nz (ct T e (cx T k)) 256)) arg sg (ct T e (cx T k)) ∧
      (sg < 256 ∧ 0 < ct T e (cx T k) sg → adm s (bl (ct T e (cx T k)) sg, ct T e (cx T k) sg, bl (ct T e (cx T k)) 256 + nz (ct T e (cx T k)) 256)) ∧
      (¬ (sg < 256 ∧ 0 < ct T e (cx T k) sg) → adm s (bl (ct T e (cx T k)) 256, nz (ct T e (cx T k)) 256, bl (ct T e (cx T k)) 256 + nz (ct T e (cx T k)) 256) ∧ Inv k (ex e (ct T e (cx T k))) (x + nz (ct T e (cx T k)) 256) (step s (bl (ct T e (cx T k)) 256, nz (ct T e (cx T k)) 256, bl (ct T e (cx T k)) 256 + nz (ct T e (cx T k)) 256))))) ∧
  (∀ e x s, EI e x → Inv 0 e x s → okP s (257 - x) ∧ ((pt s (257 - x) = -1 ∧ arg = nI sg) ∨ pt s (257 - x) = nI (nx e sg)) ∧ e sg = false ∧ adm s (nx e sg, 1, 257 - x))
/-- the flags of PpmTrees -/
def EXx (g : Nat → Nat → Int32) (e : Nat → Bool) : Prop := ∀ b, b < 257 → g 0 b = if e b then nI 1 else nI 0
theorem XO.keep {f f' : Nat → Int32} {g g' : Nat → Nat → Int32} {out : Nat → Nat} {os : Nat} (h : XO f g out os) (h4 : f' 4 = f 4) (h1 : g' 4 = g 4) : XO f' g' out os := by
  unfold XO; rw [h4, h1]; exact h
theorem perm_am (a m w : va_W) : (a ++ (m ++ w)).Perm ((a ++ w) ++ m) := by
  rw [List.append_assoc]
  exact (List.perm_append_comm).append_left a
section
variable {l : Launch} {Γ : Gl} {x : Nat} {A : Nat → Nat} {f : Nat → Int32} {g : Nat → Nat → Int32}
theorem c_X_isIn {a b c : Int32} : Ct l Γ y_X_isIn b_X_isIn 3 (some .boolean) 0 0 0 [.int a, .int b, .int c] [] (fun r w => w = [] ∧ ((r = some (.int (nI 1)) ∧ b ≤ a ∧ a ≤ c) ∨ (r = some (.int (nI 0)) ∧ ¬ (b ≤ a ∧ a ≤ c)))) := by
  refine Ct.of (by decide) (by simp [Value.category]) (Nat.le_of_ble_eq_true rfl) (fun E eG el en C hR F hnm => ?_)
  subst eG
  subst el
  have hL : 3 ≤ xn E := Nat.le_of_eq en.symm
  show G E 0 0 0 [some (.int a), some (.int b), some (.int c)] [] []
  refine g_iload_0 (q := 1) C d_X_isIn_0 rfl ?_
  refine g_iload_1 (q := 2) C d_X_isIn_1 rfl ?_
  refine g_icmp_lt (q := 5) (tgt := 14) C d_X_isIn_2 rfl (by decide) (fun h1 => ?_) (fun h1 => ?_)
  · refine g_iconst (v := nI 0) (q := 15) C d_X_isIn_14 rfl (by decide) ?_
    exact g_zret C F d_X_isIn_15 (Or.inl rfl) (Nat.le_refl _) (Nat.le_refl _) ⟨rfl, Or.inr ⟨rfl, fun q => absurd h1 (Int32.not_lt.mpr q.1)⟩⟩
  refine g_iload_0 (q := 6) C d_X_isIn_5 rfl ?_
  refine g_iload_2 (q := 7) C d_X_isIn_6 rfl ?_
  refine g_icmp_gt (q := 10) (tgt := 14) C d_X_isIn_7 rfl (by decide) (fun h2 => ?_) (fun h2 => ?_)
  · refine g_iconst (v := nI 0) (q := 15) C d_X_isIn_14 rfl (by decide) ?_
    exact g_zret C F d_X_isIn_15 (Or.inl rfl) (Nat.le_refl _) (Nat.le_refl _) ⟨rfl, Or.inr ⟨rfl, fun q => absurd h2 (Int32.not_lt.mpr q.2)⟩⟩
  · refine g_iconst (v := nI 1) (q := 11) C d_X_isIn_10 rfl (by decide) ?_
    refine g_goto (tgt := 15) C d_X_isIn_11 (by decide) ?_
    exact g_zret C F d_X_isIn_15 (Or.inr rfl) (Nat.le_refl _) (Nat.le_refl _) ⟨rfl, Or.inl ⟨rfl, Int32.not_lt.mp h1, Int32.not_lt.mp h2⟩⟩
theorem c_X_isEnd {a : Int32} : Ct l Γ y_X_isEnd b_X_isEnd 1 (some .boolean) 1 0 0 [.int a] [] (fun r w => w = [] ∧ ((r = some (.int (nI 1)) ∧ isE a) ∨ (r = some (.int (nI 0)) ∧ ¬ isE a))) := by
  refine Ct.of (by decide) (by simp [Value.category]) (Nat.le_of_ble_eq_true rfl) (fun E eG el en C hR F hnm => ?_)
  subst eG
  subst el
  have hL : 1 ≤ xn E := Nat.le_of_eq en.symm
  show G E 0 0 0 [some (.int a)] [] []
  refine g_iload_0 (q := 1) C d_X_isEnd_0 rfl ?_
  refine g_iconst (v := nI 0) (q := 2) C d_X_isEnd_1 rfl (by decide) ?_
  refine g_iconst (v := nI 1) (q := 3) C d_X_isEnd_2 rfl (by decide) ?_
  refine xc_163 (q := 6) (wc := []) (wr := []) C hR c_X_isIn d_X_isEnd_3 rfl (by decide) (by decide) (by decide) (Nat.le_of_ble_eq_true rfl) (fun v ws' hp => ?_)
  obtain ⟨rfl, ⟨rfl, h⟩ | ⟨rfl, h⟩⟩ := hp
  · exact g_zret C F d_X_isEnd_6 (Or.inr rfl) (Nat.le_refl _) (Nat.le_refl _) ⟨rfl, Or.inl ⟨rfl, h⟩⟩
  · exact g_zret C F d_X_isEnd_6 (Or.inl rfl) (Nat.le_refl _) (Nat.le_refl _) ⟨rfl, Or.inr ⟨rfl, h⟩⟩
theorem c_Ar_fill {a : Nat} {p : Nat → Int32} : Ct l Γ y_Ar_fill b_Ar_fill 4 none 0 0 0 [.ref a, .int (nI 0)] [(a, .inl (Γ.2 1, 257, .inl p))] (fun r w => r = none ∧ ∃ p' : Nat → Int32, (∀ i, i < 257 → p' i = nI 0) ∧ w = [(a, .inl (Γ.2 1, 257, .inl p'))]) := by
  refine Ct.of (by decide) (by simp [Value.category]) (Nat.le_of_ble_eq_true rfl) (fun E eG el en C hR F hnm => ?_)
  subst eG
  subst el
  have hL : 4 ≤ xn E := Nat.le_of_eq en.symm
  show G E 0 0 0 [some (.ref a), some (.int (nI 0)), none, none] [] [(a, .inl ((xG E).2 1, 257, .inl p))]
  have loop : ∀ (j i : Nat) (p' : Nat → Int32), i + j = 257 → (∀ k, k < i → p' k = nI 0) → G E 0 0 5 [some (.ref a), some (.int (nI 0)), some (.int (nI i)), some (.int (nI 257))] [] [(a, .inl ((xG E).2 1, 257, .inl p'))] := by
    intro j
    induction j with
    | zero =>
      intro i p' hi hp
      have : i = 257 := by omega
      subst this
      refine g_iload_2 (q := 6) C d_Ar_fill_5 rfl ?_
      refine g_iload_3 (q := 7) C d_Ar_fill_6 rfl ?_
      refine g_icmp_ge (q := 10) (tgt := 20) C d_Ar_fill_7 rfl (by decide) (fun hc => ?_) (fun hc => ?_)
      · exact g_vret C F d_Ar_fill_20 (Nat.le_refl _) (Nat.le_refl _) ⟨rfl, p', hp, rfl⟩
      · exact absurd (by decide) hc
    | succ j ih =>
      intro i p' hi hp
      refine g_iload_2 (q := 6) C d_Ar_fill_5 rfl ?_
      refine g_iload_3 (q := 7) C d_Ar_fill_6 rfl ?_
      refine g_icmp_ge (q := 10) (tgt := 20) C d_Ar_fill_7 rfl (by decide) (fun hc => ?_) (fun hc => ?_)
      · exact absurd ((nI_leI (a := 257) (b := i) (by decide) (by omega)).mp hc) (by omega)
      refine g_aload_0 (q := 11) C d_Ar_fill_10 rfl ?_
      refine g_iload_2 (q := 12) C d_Ar_fill_11 rfl ?_
      refine g_iload_1 (q := 13) C d_Ar_fill_12 rfl ?_
      refine g_zast (q := 14) C 0 rfl (vp_in_nI (n := i) (by omega) (by decide)) d_Ar_fill_13 rfl ?_
      rw [nI_clamp (by omega)]
      refine g_iinc_2 (q := 17) C hL d_Ar_fill_14 rfl (nI_inc _) ?_
      refine g_goto (tgt := 5) C d_Ar_fill_17 (by decide) ?_
      refine ih (i + 1) _ (by omega) (fun k hk => ?_)
      by_cases e : k = i
      · subst e; rw [upd_s]; rfl
      · rw [upd_n e]; exact hp k (by omega)
  refine g_iconst (v := nI 0) (q := 1) C d_Ar_fill_0 rfl (by decide) ?_
  refine g_istore_2 (q := 2) C hL d_Ar_fill_1 rfl ?_
  refine g_aload_0 (q := 3) C d_Ar_fill_2 rfl ?_
  refine g_alen (q := 4) (ti := 1) C 0 rfl rfl d_Ar_fill_3 rfl ?_
  refine g_istore_3 (q := 5) C hL d_Ar_fill_4 rfl ?_
  exact loop 257 0 p (by omega) (fun k hk => absurd hk (Nat.not_lt_zero _))
end
section
variable {l : Launch} {Γ : Gl} {x t : Nat} {A : Nat → Nat} {f : Nat → Int32} {g : Nat → Nat → Int32} {out : Nat → Nat} {os : Nat} {α : Type} {Q : α → va_W → Prop} {pt : α → Nat → Int32} {step : α → Sp → α} {okP : α → Nat → Prop} {adm : α → Sp → Prop}
theorem c_X_flat (hK : TK l Γ x A out os Q pt step okP adm t) (hO : XO f g out os) {arg : Int32} {sg n : Nat} {e : Nat → Bool} {s : α} {w : va_W} (hQ : Q s w) (hE : EI e n) (hX : EXx g e) (h0 : f 0 = nI n) (hsg : sg ≤ 256) (hok : okP s (257 - n)) (hpt : (pt s (257 - n) = -1 ∧ arg = nI sg) ∨ pt s (257 - n) = nI (nx e sg)) (hes : e sg = false) (had : adm s (nx e sg, 1, 257 - n)) :
    Ct l Γ y_X_flat b_X_flat 7 (some .int) 6 0 0 [.ref x, .int arg, .ref t] (xw Γ x A f g ++ w) (fun r w' => r = some (.int (nI sg)) ∧ ∃ w2, Q (step s (nx e sg, 1, 257 - n)) w2 ∧ w' = xw Γ x A (upd f 2 (-3)) g ++ w2) := by
  obtain ⟨cls, ci, TT, N, yP, bP, mP, yT, bT, mT, dP, F1, F2, hcl, hdP, hwt, hPt, hTk⟩ := hK
  have hn := hE.1
  have hnx : ∀ i, i ≤ 257 → nx e i ≤ 257 := fun i hi => Nat.le_trans (nx_mono hi) (by have := hE.2.2; omega)
  refine Ct.of (by decide) (by simp [Value.category]) (Nat.le_of_ble_eq_true rfl) (fun E eG el en C hR F hnm => ?_)
  subst eG
  subst el
  have hL : 7 ≤ xn E := Nat.le_of_eq en.symm
  show G E 0 0 0 [some (.ref x), some (.int arg), some (.ref t), none, none, none, none] [] (xw (xG E) x A f g ++ w)
  refine g_sipush (v := nI 257) (q := 3) C d_X_flat_0 rfl (by decide) ?_
  refine g_aload_0 (q := 4) C d_X_flat_3 rfl ?_
  refine xg_22 (q := 7) C d_X_flat_4 rfl h0 ?_
  refine g_isub (q := 8) C d_X_flat_7 rfl (pk_sub (by omega)) ?_
  refine g_istore_3 (q := 9) C hL d_X_flat_8 rfl ?_
  refine g_aload_2 (q := 10) C d_X_flat_9 rfl ?_
  refine g_iload_3 (q := 11) C d_X_flat_10 rfl ?_
  obtain ⟨fs, hw⟩ := hwt s w f g hQ
  refine g_ws (ws' := (xw (xG E) x A f g ++ w) ++ []) (List.append_nil _).symm ?_
  refine g_callFW (q := 16) (As := [.int (nI (257 - n))]) (rest := []) C hR F1 (hPt s w f g _ hO hQ hok) 10 hcl hw d_X_flat_11 rfl rfl (by omega) (by decide) (by decide) (Nat.le_of_ble_eq_true rfl) (fun v ws' hp => ?_)
  obtain ⟨rfl, rfl⟩ := hp
  refine g_ws (ws' := xw (xG E) x A f g ++ w) (List.append_nil _) ?_
  show G E 0 0 16 [some (.ref x), some (.int arg), some (.ref t), some (.int (nI (257 - n))), none, none, none] [.int (pt s (257 - n))] (xw (xG E) x A f g ++ w)
  have h81 : ∀ lv4, G E 0 0 81 [some (.ref x), some (.int arg), some (.ref t), some (.int (nI (257 - n))), lv4, some (.int (nI (nx e sg))), some (.int (nI sg))] [] (xw (xG E) x A f g ++ w) := by
    intro lv4
    obtain ⟨dT, hdT, hM⟩ := hTk s w f g (nx e sg, 1, 257 - n) hO hQ (flat_ok hE hsg hes) had
    refine g_aload_2 (q := 82) C d_X_flat_81 rfl ?_
    refine g_iload_5 (q := 84) C d_X_flat_82 rfl ?_
    refine g_iconst (v := nI 1) (q := 85) C d_X_flat_84 rfl (by decide) ?_
    refine g_iload_3 (q := 86) C d_X_flat_85 rfl ?_
    refine g_ws (ws' := (xw (xG E) x A f g ++ w) ++ []) (List.append_nil _).symm ?_
    refine g_callFW (q := 91) (As := [.int (nI (nx e sg)), .int (nI 1), .int (nI (257 - n))]) (rest := []) C hR F2 hM 10 hcl hw d_X_flat_86 rfl rfl (by omega) (by decide) (by decide) (Nat.le_of_ble_eq_true rfl) (fun v ws' hp => ?_)
    obtain ⟨rfl, w2, hQ2, rfl⟩ := hp
    refine g_ws (ws' := xw (xG E) x A f g ++ w2) (List.append_nil _) ?_
    show G E 0 0 91 _ [] (xw (xG E) x A f g ++ w2)
    refine g_aload_0 (q := 92) C d_X_flat_91 rfl ?_
    refine g_bipush (v := (-3)) (q := 94) C d_X_flat_92 rfl (by decide) ?_
    refine xp_57 (q := 97) C d_X_flat_94 rfl ?_
    refine g_iload_6 (q := 99) C d_X_flat_97 rfl ?_
    exact g_iret C F d_X_flat_99 (Nat.le_refl _) (Nat.le_refl _) ⟨rfl, w2, hQ2, rfl⟩
  have loop : ∀ j i, i + j = sg → G E 0 0 24 [some (.ref x), some (.int arg), some (.ref t), some (.int (nI (257 - n))), some (.int (pt s (257 - n))), some (.int (nI (nx e i))), some (.int (nI i))] [] (xw (xG E) x A f g ++ w) := by
    intro j
    induction j with
    | zero =>
      intro i hi
      have : i = sg := by omega
      subst this
      have hx := hX i (by omega)
      rw [hes] at hx
      refine g_aload_0 (q := 25) C d_X_flat_24 rfl ?_
      refine xg_10 (q := 28) C d_X_flat_25 rfl ?_
      refine g_iload_6 (q := 30) C d_X_flat_28 rfl ?_
      refine xa_0 (q := 31) C d_X_flat_30 rfl rfl (by omega) hx ?_
      refine g_if_ne (q := 34) (tgt := 55) C d_X_flat_31 rfl (by decide) (fun hc => ?_) (fun hc => ?_)
      · exact absurd (by decide) hc
      refine g_iload_4 (q := 36) C d_X_flat_34 rfl ?_
      refine g_if_ge (q := 39) (tgt := 48) C d_X_flat_36 rfl (by decide) (fun h1 => ?_) (fun h1 => ?_)
      · refine g_iload_5 (q := 50) C d_X_flat_48 rfl ?_
        refine g_iload_4 (q := 52) C d_X_flat_50 rfl ?_
        refine g_icmp_ge (q := 55) (tgt := 81) C d_X_flat_52 rfl (by decide) (fun h2 => ?_) (fun h2 => ?_)
        · exact h81 _
        · rcases hpt with ⟨q, -⟩ | q
          · rw [q] at h1; exact absurd h1 (by decide)
          · rw [q] at h2; exact absurd (Int32.le_refl _) h2
      · rcases hpt with ⟨q, q2⟩ | q
        · refine g_iload_6 (q := 41) C d_X_flat_39 rfl ?_
          refine g_iload_1 (q := 42) C d_X_flat_41 rfl ?_
          refine g_icmp_eq (q := 45) (tgt := 81) C d_X_flat_42 rfl (by decide) (fun h2 => ?_) (fun h2 => ?_)
          · exact h81 _
          · exact absurd q2.symm h2
        · rw [q] at h1
          exact absurd (nI_pos' (by have := hnx i (by omega); omega)) h1
    | succ j ih =>
      intro i hi
      have hx := hX i (by omega)
      have hni := hnx i (by omega)
      have h55 : G E 0 0 55 [some (.ref x), some (.int arg), some (.ref t), some (.int (nI (257 - n))), some (.int (pt s (257 - n))), some (.int (nI (nx e i))), some (.int (nI i))] [] (xw (xG E) x A f g ++ w) := by
        refine g_iload_5 (q := 57) C d_X_flat_55 rfl ?_
        refine g_aload_0 (q := 58) C d_X_flat_57 rfl ?_
        refine xg_10 (q := 61) C d_X_flat_58 rfl ?_
        refine g_iload_6 (q := 63) C d_X_flat_61 rfl ?_
        refine xa_0 (q := 64) C d_X_flat_63 rfl rfl (by omega) hx ?_
        refine g_if_eq (q := 67) (tgt := 71) C d_X_flat_64 rfl (by decide) (fun hc => ?_) (fun hc => ?_)
        · have he : e i = false := by
            cases q : e i with
            | false => rfl
            | true => rw [q] at hc; exact absurd hc (by decide)
          have hnx1 : nx e (i + 1) = nx e i + 1 := by show nx e i + (if e i then 0 else 1) = _; rw [he]; rfl
          have := ih (i + 1) (by omega)
          rw [hnx1] at this
          refine g_iconst (v := nI 1) (q := 72) C d_X_flat_71 rfl (by decide) ?_
          refine g_iadd (q := 73) C d_X_flat_72 rfl (nI_add _ _) ?_
          refine g_istore_5 (q := 75) C hL d_X_flat_73 rfl ?_
          refine g_iinc_6 (q := 78) C hL d_X_flat_75 rfl (nI_inc _) ?_
          refine g_goto (tgt := 24) C d_X_flat_78 (by decide) ?_
          exact this
        · have he : e i = true := by
            cases q : e i with
            | true => rfl
            | false => rw [q] at hc; exact absurd (by decide) hc
          have hnx1 : nx e (i + 1) = nx e i := by show nx e i + (if e i then 0 else 1) = _; rw [he]; rfl
          have := ih (i + 1) (by omega)
          rw [hnx1] at this
          refine g_iconst (v := nI 0) (q := 68) C d_X_flat_67 rfl (by decide) ?_
          refine g_goto (tgt := 72) C d_X_flat_68 (by decide) ?_
          refine g_iadd (q := 73) C d_X_flat_72 rfl (nI_add _ _) ?_
          refine g_istore_5 (q := 75) C hL d_X_flat_73 rfl ?_
          refine g_iinc_6 (q := 78) C hL d_X_flat_75 rfl (nI_inc _) ?_
          refine g_goto (tgt := 24) C d_X_flat_78 (by decide) ?_
          exact this
      refine g_aload_0 (q := 25) C d_X_flat_24 rfl ?_
      refine xg_10 (q := 28) C d_X_flat_25 rfl ?_
      refine g_iload_6 (q := 30) C d_X_flat_28 rfl ?_
      refine xa_0 (q := 31) C d_X_flat_30 rfl rfl (by omega) hx ?_
      refine g_if_ne (q := 34) (tgt := 55) C d_X_flat_31 rfl (by decide) (fun hc => ?_) (fun hc => ?_)
      · exact h55
      have he : e i = false := by
        cases q : e i with
        | false => rfl
        | true => rw [q] at hc; exact absurd (by decide) hc
      have hnx1 : nx e (i + 1) = nx e i + 1 := by show nx e i + (if e i then 0 else 1) = _; rw [he]; rfl
      have hlt : nx e i < nx e sg := by
        have := nx_mono (e := e) (a := i + 1) (n := sg) (by omega)
        omega
      refine g_iload_4 (q := 36) C d_X_flat_34 rfl ?_
      refine g_if_ge (q := 39) (tgt := 48) C d_X_flat_36 rfl (by decide) (fun h1 => ?_) (fun h1 => ?_)
      · refine g_iload_5 (q := 50) C d_X_flat_48 rfl ?_
        refine g_iload_4 (q := 52) C d_X_flat_50 rfl ?_
        refine g_icmp_ge (q := 55) (tgt := 81) C d_X_flat_52 rfl (by decide) (fun h2 => ?_) (fun h2 => ?_)
        · rcases hpt with ⟨q, -⟩ | q
          · rw [q] at h1; exact absurd h1 (by decide)
          · rw [q] at h2
            exact absurd ((nI_leI (by have := hnx sg (by omega); omega) (by omega)).mp h2) (by omega)
        · exact h55
      · rcases hpt with ⟨q, q2⟩ | q
        · refine g_iload_6 (q := 41) C d_X_flat_39 rfl ?_
          refine g_iload_1 (q := 42) C d_X_flat_41 rfl ?_
          refine g_icmp_eq (q := 45) (tgt := 81) C d_X_flat_42 rfl (by decide) (fun h2 => ?_) (fun h2 => ?_)
          · rw [q2] at h2
            exact absurd ((nI_eq (by omega) (by omega)).mp h2) (by omega)
          · refine g_goto (tgt := 55) C d_X_flat_45 (by decide) ?_
            exact h55
        · rw [q] at h1
          exact absurd (nI_pos' (by have := hnx sg (by omega); omega)) h1
  refine g_istore_4 (q := 18) C hL d_X_flat_16 rfl ?_
  refine g_iconst (v := nI 0) (q := 19) C d_X_flat_18 rfl (by decide) ?_
  refine g_istore_5 (q := 21) C hL d_X_flat_19 rfl ?_
  refine g_iconst (v := nI 0) (q := 22) C d_X_flat_21 rfl (by decide) ?_
  refine g_istore_6 (q := 24) C hL d_X_flat_22 rfl ?_
  exact loop sg 0 (by omega)
end
