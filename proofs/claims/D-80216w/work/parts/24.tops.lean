/-! THE TWIN: the short calls -/
section
variable {l : Launch} {Γ : Gl} {o : Nat} {ad : Nat → Nat} {f : Nat → Int32} {g : Nat → Nat → Int32} {ord room : Nat} {S : Sg}
theorem c_T_thrown : Ct l Γ y_T_thrown b_T_thrown 1 (some .int) 0 0 0 [.ref o] (tw Γ o ad f g) (pi Γ o ad (fun x f' g' => x = f 0 ∧ f' = f ∧ g' = g)) := by
  refine Ct.of (by decide) (by simp [Value.category]) (Nat.le_of_ble_eq_true rfl) (fun E eG el en C hR F hnm => ?_)
  subst eG
  subst el
  have hL : 1 ≤ xn E := Nat.le_of_eq en.symm
  show G E 0 0 0 [some (.ref o)] [] (tw (xG E) o ad f g)
  refine g_aload_0 (q := 1) C d_T_thrown_0 rfl ?_
  refine tg_82 (q := 4) C d_T_thrown_1 rfl rfl ?_
  exact g_iret C F d_T_thrown_4 (Nat.le_refl _) (Nat.le_refl _) ⟨_, _, _, rfl, rfl, rfl, rfl, rfl⟩
theorem c_T_place (hS : MW ord room f g S) : Ct l Γ y_T_place b_T_place 1 (some .int) 0 0 0 [.ref o] (tw Γ o ad f g) (pi Γ o ad (fun x f' g' => x = (oPlace S).1 ∧ MW ord room f' g' (oPlace S).2)) := by
  obtain ⟨ts, tx, os, ou, rc, re, EE, K, kT, R, pl, ip, to, pn, px, pf⟩ := S
  obtain ⟨h1, h2, h3, h4, h5, h6, h7, h8, h9⟩ := id hS
  refine Ct.of (by decide) (by simp [Value.category]) (Nat.le_of_ble_eq_true rfl) (fun E eG el en C hR F hnm => ?_)
  subst eG
  subst el
  have hL : 1 ≤ xn E := Nat.le_of_eq en.symm
  show G E 0 0 0 [some (.ref o)] [] (tw (xG E) o ad f g)
  refine g_aload_0 (q := 1) C d_T_place_0 rfl ?_
  refine g_iconst (v := nI 0) (q := 2) C d_T_place_1 rfl (by decide) ?_
  refine tp_82 (q := 5) C d_T_place_2 rfl ?_
  refine g_aload_0 (q := 6) C d_T_place_5 rfl ?_
  refine tg_65 (q := 9) C d_T_place_6 rfl h8 ?_
  exact g_iret C F d_T_place_9 (Nat.le_refl _) (Nat.le_refl _) ⟨_, _, _, rfl, rfl, rfl, hS.thrown⟩
theorem c_T_clear (hS : MW ord room f g S) : Ct l Γ y_T_clear b_T_clear 2 (some .int) 0 0 0 [.ref o] (tw Γ o ad f g) (pi Γ o ad (fun x f' g' => x = (oClear S).1 ∧ MW ord room f' g' (oClear S).2)) := by
  obtain ⟨ts, tx, os, ou, rc, re, EE, K, kT, R, pl, ip, to, pn, px, pf⟩ := S
  obtain ⟨h1, h2, h3, h4, h5, h6, h7, h8, h9⟩ := id hS
  refine Ct.of (by decide) (by simp [Value.category]) (Nat.le_of_ble_eq_true rfl) (fun E eG el en C hR F hnm => ?_)
  subst eG
  subst el
  have hL : 2 ≤ xn E := Nat.le_of_eq en.symm
  show G E 0 0 0 [some (.ref o), none] [] (tw (xG E) o ad f g)
  refine g_aload_0 (q := 1) C d_T_clear_0 rfl ?_
  refine g_iconst (v := nI 0) (q := 2) C d_T_clear_1 rfl (by decide) ?_
  refine tp_82 (q := 5) C d_T_clear_2 rfl ?_
  refine g_aload_0 (q := 6) C d_T_clear_5 rfl ?_
  refine tg_85 (q := 9) C d_T_clear_6 rfl h2.1 ?_
  refine g_istore_1 (q := 10) C hL d_T_clear_9 rfl ?_
  refine g_aload_0 (q := 11) C d_T_clear_10 rfl ?_
  refine g_iconst (v := nI 0) (q := 12) C d_T_clear_11 rfl (by decide) ?_
  refine tp_85 (q := 15) C d_T_clear_12 rfl ?_
  refine g_iload_1 (q := 16) C d_T_clear_15 rfl ?_
  exact g_iret C F d_T_clear_16 (Nat.le_refl _) (Nat.le_refl _) ⟨_, _, _, rfl, rfl, rfl, h1, ⟨rfl, Nat.zero_le _, fun i hi => absurd hi (Nat.not_lt_zero _)⟩, h3, h4, h5, h6, h7, h8, h9⟩
theorem c_T_forget (hS : MW ord room f g S) : Ct l Γ y_T_forget b_T_forget 2 (some .int) 0 0 0 [.ref o] (tw Γ o ad f g) (pi Γ o ad (fun x f' g' => x = (oForget S).1 ∧ MW ord room f' g' (oForget S).2)) := by
  obtain ⟨ts, tx, os, ou, rc, re, EE, K, kT, R, pl, ip, to, pn, px, pf⟩ := S
  obtain ⟨h1, h2, h3, h4, h5, h6, h7, h8, h9⟩ := id hS
  refine Ct.of (by decide) (by simp [Value.category]) (Nat.le_of_ble_eq_true rfl) (fun E eG el en C hR F hnm => ?_)
  subst eG
  subst el
  have hL : 2 ≤ xn E := Nat.le_of_eq en.symm
  show G E 0 0 0 [some (.ref o), none] [] (tw (xG E) o ad f g)
  refine g_aload_0 (q := 1) C d_T_forget_0 rfl ?_
  refine g_iconst (v := nI 0) (q := 2) C d_T_forget_1 rfl (by decide) ?_
  refine tp_82 (q := 5) C d_T_forget_2 rfl ?_
  refine g_aload_0 (q := 6) C d_T_forget_5 rfl ?_
  refine tg_228 (q := 9) C d_T_forget_6 rfl h6.1 ?_
  refine g_istore_1 (q := 10) C hL d_T_forget_9 rfl ?_
  refine g_aload_0 (q := 11) C d_T_forget_10 rfl ?_
  refine g_iconst (v := nI 0) (q := 12) C d_T_forget_11 rfl (by decide) ?_
  refine tp_228 (q := 15) C d_T_forget_12 rfl ?_
  refine g_iload_1 (q := 16) C d_T_forget_15 rfl ?_
  exact g_iret C F d_T_forget_16 (Nat.le_refl _) (Nat.le_refl _) ⟨_, _, _, rfl, rfl, rfl, h1, h2, h3, h4, h5, ⟨rfl, Nat.zero_le _, fun i hi => absurd hi (Nat.not_lt_zero _)⟩, h7, h8, h9⟩
theorem c_T_add {b : Int32} (hS : MW ord room f g S) : Ct l Γ y_T_add b_T_add 2 (some .int) 1 0 0 [.ref o, .int b] (tw Γ o ad f g) (pi Γ o ad (fun x f' g' => x = (oAdd b S).1 ∧ MW ord room f' g' (oAdd b S).2)) := by
  obtain ⟨ts, tx, os, ou, rc, re, EE, K, kT, R, pl, ip, to, pn, px, pf⟩ := S
  obtain ⟨h1, h2, h3, h4, h5, h6, h7, h8, h9⟩ := id hS
  refine Ct.of (by decide) (by simp [Value.category]) (Nat.le_of_ble_eq_true rfl) (fun E eG el en C hR F hnm => ?_)
  subst eG
  subst el
  have hL : 2 ≤ xn E := Nat.le_of_eq en.symm
  show G E 0 0 0 [some (.ref o), some (.int b)] [] (tw (xG E) o ad f g)
  refine g_aload_0 (q := 1) C d_T_add_0 rfl ?_
  refine g_iconst (v := nI 0) (q := 2) C d_T_add_1 rfl (by decide) ?_
  refine tp_82 (q := 5) C d_T_add_2 rfl ?_
  refine g_iload_1 (q := 6) C d_T_add_5 rfl ?_
  refine g_iconst (v := nI 0) (q := 7) C d_T_add_6 rfl (by decide) ?_
  refine g_sipush (v := nI 255) (q := 10) C d_T_add_7 rfl (by decide) ?_
  refine tc_88 (q := 13) C hR (c_T_in _ _ _) d_T_add_10 rfl (by decide) (by decide) (by decide) (Nat.le_of_ble_eq_true rfl) (fun x hx => ?_)
  rcases hx with ⟨i1, i2, rfl⟩ | ⟨hno, rfl⟩
  · refine g_if_ne (q := 16) (tgt := 18) C d_T_add_13 rfl (by decide) (fun hz => ?_) (fun hz => ?_)
    · refine g_aload_0 (q := 19) C d_T_add_18 rfl ?_
      refine tg_85 (q := 22) C d_T_add_19 rfl h2.1 ?_
      refine g_sipush (v := nI 300) (q := 25) C d_T_add_22 rfl (by decide) ?_
      refine g_icmp_ne (q := 28) (tgt := 31) C d_T_add_25 rfl (by decide) (fun hq => ?_) (fun hq => ?_)
      · have hq : ts ≠ 300 := fun e => hq (by rw [e])
        obtain ⟨j, hj, rfl⟩ := ix_of2 (n := 255) (by decide) ⟨i1, i2⟩
        have he : oAdd (nI j) (ts, tx, os, ou, rc, re, EE, K, kT, R, pl, ip, to, pn, px, pf) = (nI (ts + 1), (ts + 1, upN tx ts (cl (nI j)), os, ou, rc, re, EE, K, kT, R, pl, ip, to, pn, px, pf)) := by
          show (if _ then _ else if _ then _ else _) = _
          rw [if_neg (fun q => q ⟨i1, i2⟩), if_neg hq]
        rw [cl_nI (by omega)] at he
        refine g_aload_0 (q := 32) C d_T_add_31 rfl ?_
        refine tg_7 (q := 35) C d_T_add_32 rfl ?_
        refine g_aload_0 (q := 36) C d_T_add_35 rfl ?_
        refine tg_85 (q := 39) C d_T_add_36 rfl h2.1 ?_
        refine g_iload_1 (q := 40) C d_T_add_39 rfl ?_
        refine ts_0 (q := 41) C d_T_add_40 rfl rfl (by omega) ?_
        refine g_aload_0 (q := 42) C d_T_add_41 rfl ?_
        refine g_dup_r (q := 43) C d_T_add_42 rfl ?_
        refine tg_85 (q := 46) C d_T_add_43 rfl h2.1 ?_
        refine g_iconst (v := nI 1) (q := 47) C d_T_add_46 rfl (by decide) ?_
        refine g_iadd (q := 48) C d_T_add_47 rfl (nI_1 _) ?_
        refine tp_85 (q := 51) C d_T_add_48 rfl ?_
        refine g_aload_0 (q := 52) C d_T_add_51 rfl ?_
        refine tg_85 (q := 55) C d_T_add_52 rfl rfl ?_
        refine g_iret C F d_T_add_55 (Nat.le_refl _) (Nat.le_refl _) ⟨_, _, _, rfl, rfl, by rw [he]; rfl, ?_⟩
        rw [he]
        refine ⟨h1, ⟨rfl, by omega, fun i hi => ?_⟩, h3.keep rfl rfl, h4, fun m hm => ⟨(h5 m hm).1.keep rfl rfl rfl rfl rfl rfl, (h5 m hm).2⟩, ⟨h6.1, h6.2.1, fun k hk => ⟨(h6.2.2 k hk).1.keep rfl rfl rfl rfl rfl rfl, (h6.2.2 k hk).2⟩⟩, h7, h8, h9⟩
        show upd (g 0) ts (nI j) i = _ ∧ upN tx ts j i < 256
        by_cases e : i = ts
        · rw [e, upd_s, upN_s]; exact ⟨rfl, by omega⟩
        · rw [upd_n e, upN_n e]; exact h2.2.2 i (by omega)
      · have hq : ts = 300 := (nI_eq (by omega) (by omega)).mp (Decidable.not_not.mp hq)
        have he : oAdd b (ts, tx, os, ou, rc, re, EE, K, kT, R, pl, ip, to, pn, px, pf) = (-2, (ts, tx, os, ou, rc, re, EE, K, kT, R, pl, ip, to, pn, px, pf)) := by
          show (if _ then _ else if _ then _ else _) = _
          rw [if_neg (fun q => q ⟨i1, i2⟩), if_pos hq]
        refine g_bipush (v := (-2)) (q := 30) C d_T_add_28 rfl (by decide) ?_
        exact g_iret C F d_T_add_30 (Nat.le_refl _) (Nat.le_refl _) ⟨_, _, _, rfl, rfl, by rw [he], by rw [he]; exact hS.thrown⟩
    · exact absurd (by decide) hz
  · refine g_if_ne (q := 16) (tgt := 18) C d_T_add_13 rfl (by decide) (fun hz => ?_) (fun hz => ?_)
    · exact absurd rfl hz
    have he : oAdd b (ts, tx, os, ou, rc, re, EE, K, kT, R, pl, ip, to, pn, px, pf) = (-1, (ts, tx, os, ou, rc, re, EE, K, kT, R, pl, ip, to, pn, px, pf)) := if_pos hno
    refine g_iconst (v := (-1)) (q := 17) C d_T_add_16 rfl (by decide) ?_
    exact g_iret C F d_T_add_17 (Nat.le_refl _) (Nat.le_refl _) ⟨_, _, _, rfl, rfl, by rw [he], by rw [he]; exact hS.thrown⟩
theorem c_T_size {w : Int32} (hS : MW ord room f g S) : Ct l Γ y_T_size b_T_size 2 (some .int) 0 0 0 [.ref o, .int w] (tw Γ o ad f g) (pi Γ o ad (fun x f' g' => x = (oSize w S).1 ∧ MW ord room f' g' (oSize w S).2)) := by
  obtain ⟨ts, tx, os, ou, rc, re, EE, K, kT, R, pl, ip, to, pn, px, pf⟩ := S
  obtain ⟨h1, h2, h3, h4, h5, h6, h7, h8, h9⟩ := id hS
  refine Ct.of (by decide) (by simp [Value.category]) (Nat.le_of_ble_eq_true rfl) (fun E eG el en C hR F hnm => ?_)
  subst eG
  subst el
  have hL : 2 ≤ xn E := Nat.le_of_eq en.symm
  show G E 0 0 0 [some (.ref o), some (.int w)] [] (tw (xG E) o ad f g)
  have h41 : ∀ x, x = (oSize w (ts, tx, os, ou, rc, re, EE, K, kT, R, pl, ip, to, pn, px, pf)).1 → G E 0 0 41 [some (.ref o), some (.int w)] [.int x] (tw (xG E) o ad (upd f 0 (nI 0)) g) := fun x hx =>
    g_iret C F d_T_size_41 (Nat.le_refl _) (Nat.le_refl _) ⟨_, _, _, rfl, rfl, hx, hS.thrown⟩
  have hd : (oSize w (ts, tx, os, ou, rc, re, EE, K, kT, R, pl, ip, to, pn, px, pf)).1 = if w = 0 then nI ts else if w = nI 1 then nI os else if w = nI 2 then nI rc else -1 := rfl
  refine g_aload_0 (q := 1) C d_T_size_0 rfl ?_
  refine g_iconst (v := nI 0) (q := 2) C d_T_size_1 rfl (by decide) ?_
  refine tp_82 (q := 5) C d_T_size_2 rfl ?_
  refine g_iload_1 (q := 6) C d_T_size_5 rfl ?_
  refine g_if_ne (q := 9) (tgt := 16) C d_T_size_6 rfl (by decide) (fun a => ?_) (fun a => ?_)
  · refine g_iload_1 (q := 17) C d_T_size_16 rfl ?_
    refine g_iconst (v := nI 1) (q := 18) C d_T_size_17 rfl (by decide) ?_
    refine g_icmp_ne (q := 21) (tgt := 28) C d_T_size_18 rfl (by decide) (fun b => ?_) (fun b => ?_)
    · refine g_iload_1 (q := 29) C d_T_size_28 rfl ?_
      refine g_iconst (v := nI 2) (q := 30) C d_T_size_29 rfl (by decide) ?_
      refine g_icmp_ne (q := 33) (tgt := 40) C d_T_size_30 rfl (by decide) (fun c => ?_) (fun c => ?_)
      · refine g_iconst (v := (-1)) (q := 41) C d_T_size_40 rfl (by decide) ?_
        exact h41 _ (by rw [hd, if_neg a, if_neg b, if_neg c])
      · refine g_aload_0 (q := 34) C d_T_size_33 rfl ?_
        refine tg_96 (q := 37) C d_T_size_34 rfl h4.1 ?_
        refine g_goto (tgt := 41) C d_T_size_37 (by decide) ?_
        exact h41 _ (by rw [hd, if_neg a, if_neg b, if_pos (Decidable.not_not.mp c)])
    · refine g_aload_0 (q := 22) C d_T_size_21 rfl ?_
      refine tg_93 (q := 25) C d_T_size_22 rfl h3.1 ?_
      refine g_goto (tgt := 41) C d_T_size_25 (by decide) ?_
      exact h41 _ (by rw [hd, if_neg a, if_pos (Decidable.not_not.mp b)])
  · refine g_aload_0 (q := 10) C d_T_size_9 rfl ?_
    refine tg_85 (q := 13) C d_T_size_10 rfl h2.1 ?_
    refine g_goto (tgt := 41) C d_T_size_13 (by decide) ?_
    exact h41 _ (by rw [hd, if_pos (Decidable.not_not.mp a)])
theorem c_T_octet {w i : Int32} (hS : MW ord room f g S) : Ct l Γ y_T_octet b_T_octet 3 (some .int) 1 0 0 [.ref o, .int w, .int i] (tw Γ o ad f g) (pi Γ o ad (fun x f' g' => x = (oOctet w i S).1 ∧ MW ord room f' g' (oOctet w i S).2)) := by
  obtain ⟨ts, tx, os, ou, rc, re, EE, K, kT, R, pl, ip, to, pn, px, pf⟩ := S
  obtain ⟨h1, h2, h3, h4, h5, h6, h7, h8, h9⟩ := id hS
  refine Ct.of (by decide) (by simp [Value.category]) (Nat.le_of_ble_eq_true rfl) (fun E eG el en C hR F hnm => ?_)
  subst eG
  subst el
  have hL : 3 ≤ xn E := Nat.le_of_eq en.symm
  show G E 0 0 0 [some (.ref o), some (.int w), some (.int i)] [] (tw (xG E) o ad f g)
  have hd : (oOctet w i (ts, tx, os, ou, rc, re, EE, K, kT, R, pl, ip, to, pn, px, pf)).1 = if w = 0 ∧ nI 0 ≤ i ∧ i ≤ nI ts - nI 1 then nI (tx (cl i)) else if w = nI 1 ∧ nI 0 ≤ i ∧ i ≤ nI os - nI 1 then nI (ou (cl i)) else if w = nI 2 ∧ nI 0 ≤ i ∧ i ≤ nI rc - nI 1 then nI (re (cl i)) else -1 := rfl
  have hos := h3.2.1
  have h84 : ¬ (w = 0 ∧ nI 0 ≤ i ∧ i ≤ nI ts - nI 1) → ¬ (w = nI 1 ∧ nI 0 ≤ i ∧ i ≤ nI os - nI 1) → ¬ (w = nI 2 ∧ nI 0 ≤ i ∧ i ≤ nI rc - nI 1) → G E 0 0 84 [some (.ref o), some (.int w), some (.int i)] [] (tw (xG E) o ad (upd f 0 (nI 0)) g) := by
    intro a b c
    refine g_iconst (v := (-1)) (q := 85) C d_T_octet_84 rfl (by decide) ?_
    exact g_iret C F d_T_octet_85 (Nat.le_refl _) (Nat.le_refl _) ⟨_, _, _, rfl, rfl, by rw [hd, if_neg a, if_neg b, if_neg c], hS.thrown⟩
  have h56 : ¬ (w = 0 ∧ nI 0 ≤ i ∧ i ≤ nI ts - nI 1) → ¬ (w = nI 1 ∧ nI 0 ≤ i ∧ i ≤ nI os - nI 1) → G E 0 0 56 [some (.ref o), some (.int w), some (.int i)] [] (tw (xG E) o ad (upd f 0 (nI 0)) g) := by
    intro a b
    refine g_iload_1 (q := 57) C d_T_octet_56 rfl ?_
    refine g_iconst (v := nI 2) (q := 58) C d_T_octet_57 rfl (by decide) ?_
    refine g_icmp_ne (q := 61) (tgt := 84) C d_T_octet_58 rfl (by decide) (fun c => ?_) (fun c => ?_)
    · exact h84 a b (fun q => c q.1)
    have c := Decidable.not_not.mp c
    refine g_iload_2 (q := 62) C d_T_octet_61 rfl ?_
    refine g_iconst (v := nI 0) (q := 63) C d_T_octet_62 rfl (by decide) ?_
    refine g_aload_0 (q := 64) C d_T_octet_63 rfl ?_
    refine tg_96 (q := 67) C d_T_octet_64 rfl h4.1 ?_
    refine g_iconst (v := nI 1) (q := 68) C d_T_octet_67 rfl (by decide) ?_
    refine g_isub (q := 69) C d_T_octet_68 rfl rfl ?_
    refine tc_88 (q := 72) C hR (c_T_in _ _ _) d_T_octet_69 rfl (by decide) (by decide) (by decide) (Nat.le_of_ble_eq_true rfl) (fun x hx => ?_)
    rcases hx with ⟨i1, i2, rfl⟩ | ⟨hno, rfl⟩
    · refine g_if_eq (q := 75) (tgt := 84) C d_T_octet_72 rfl (by decide) (fun hz => ?_) (fun hz => ?_)
      · exact absurd hz (by decide)
      have he := hd
      rw [if_neg a, if_neg b, if_pos ⟨c, i1, i2⟩] at he
      obtain ⟨j, hj, rfl⟩ := ix_of (n := rc) (by omega) ⟨i1, i2⟩
      rw [cl_nI (by omega)] at he
      refine g_aload_0 (q := 76) C d_T_octet_75 rfl ?_
      refine tg_16 (q := 79) C d_T_octet_76 rfl ?_
      refine g_iload_2 (q := 80) C d_T_octet_79 rfl ?_
      refine ta_2 (q := 81) C d_T_octet_80 rfl rfl (by omega) (h4.2.2 j hj) ?_
      refine g_goto (tgt := 85) C d_T_octet_81 (by decide) ?_
      exact g_iret C F d_T_octet_85 (Nat.le_refl _) (Nat.le_refl _) ⟨_, _, _, rfl, rfl, by rw [he], hS.thrown⟩
    · refine g_if_eq (q := 75) (tgt := 84) C d_T_octet_72 rfl (by decide) (fun hz => ?_) (fun hz => ?_)
      · exact h84 a b (fun q => hno q.2)
      · exact absurd rfl hz
  have h30 : ¬ (w = 0 ∧ nI 0 ≤ i ∧ i ≤ nI ts - nI 1) → G E 0 0 30 [some (.ref o), some (.int w), some (.int i)] [] (tw (xG E) o ad (upd f 0 (nI 0)) g) := by
    intro a
    refine g_iload_1 (q := 31) C d_T_octet_30 rfl ?_
    refine g_iconst (v := nI 1) (q := 32) C d_T_octet_31 rfl (by decide) ?_
    refine g_icmp_ne (q := 35) (tgt := 56) C d_T_octet_32 rfl (by decide) (fun c => ?_) (fun c => ?_)
    · exact h56 a (fun q => c q.1)
    have c := Decidable.not_not.mp c
    refine g_iload_2 (q := 36) C d_T_octet_35 rfl ?_
    refine g_iconst (v := nI 0) (q := 37) C d_T_octet_36 rfl (by decide) ?_
    refine g_aload_0 (q := 38) C d_T_octet_37 rfl ?_
    refine tg_93 (q := 41) C d_T_octet_38 rfl h3.1 ?_
    refine g_iconst (v := nI 1) (q := 42) C d_T_octet_41 rfl (by decide) ?_
    refine g_isub (q := 43) C d_T_octet_42 rfl rfl ?_
    refine tc_88 (q := 46) C hR (c_T_in _ _ _) d_T_octet_43 rfl (by decide) (by decide) (by decide) (Nat.le_of_ble_eq_true rfl) (fun x hx => ?_)
    rcases hx with ⟨i1, i2, rfl⟩ | ⟨hno, rfl⟩
    · refine g_if_eq (q := 49) (tgt := 56) C d_T_octet_46 rfl (by decide) (fun hz => ?_) (fun hz => ?_)
      · exact absurd hz (by decide)
      have he := hd
      rw [if_neg a, if_pos ⟨c, i1, i2⟩] at he
      obtain ⟨j, hj, rfl⟩ := ix_of (n := os) (by omega) ⟨i1, i2⟩
      rw [cl_nI (by omega)] at he
      refine g_aload_0 (q := 50) C d_T_octet_49 rfl ?_
      refine tg_13 (q := 53) C d_T_octet_50 rfl ?_
      refine g_iload_2 (q := 54) C d_T_octet_53 rfl ?_
      refine ta_1 (q := 55) C d_T_octet_54 rfl rfl (by omega) (h3.2.2 j hj).1 ?_
      exact g_iret C F d_T_octet_55 (Nat.le_refl _) (Nat.le_refl _) ⟨_, _, _, rfl, rfl, by rw [he], hS.thrown⟩
    · refine g_if_eq (q := 49) (tgt := 56) C d_T_octet_46 rfl (by decide) (fun hz => ?_) (fun hz => ?_)
      · exact h56 a (fun q => hno q.2)
      · exact absurd rfl hz
  refine g_aload_0 (q := 1) C d_T_octet_0 rfl ?_
  refine g_iconst (v := nI 0) (q := 2) C d_T_octet_1 rfl (by decide) ?_
  refine tp_82 (q := 5) C d_T_octet_2 rfl ?_
  refine g_iload_1 (q := 6) C d_T_octet_5 rfl ?_
  refine g_if_ne (q := 9) (tgt := 30) C d_T_octet_6 rfl (by decide) (fun c => ?_) (fun c => ?_)
  · exact h30 (fun q => c q.1)
  have c := Decidable.not_not.mp c
  refine g_iload_2 (q := 10) C d_T_octet_9 rfl ?_
  refine g_iconst (v := nI 0) (q := 11) C d_T_octet_10 rfl (by decide) ?_
  refine g_aload_0 (q := 12) C d_T_octet_11 rfl ?_
  refine tg_85 (q := 15) C d_T_octet_12 rfl h2.1 ?_
  refine g_iconst (v := nI 1) (q := 16) C d_T_octet_15 rfl (by decide) ?_
  refine g_isub (q := 17) C d_T_octet_16 rfl rfl ?_
  refine tc_88 (q := 20) C hR (c_T_in _ _ _) d_T_octet_17 rfl (by decide) (by decide) (by decide) (Nat.le_of_ble_eq_true rfl) (fun x hx => ?_)
  rcases hx with ⟨i1, i2, rfl⟩ | ⟨hno, rfl⟩
  · refine g_if_eq (q := 23) (tgt := 30) C d_T_octet_20 rfl (by decide) (fun hz => ?_) (fun hz => ?_)
    · exact absurd hz (by decide)
    have he := hd
    rw [if_pos ⟨c, i1, i2⟩] at he
    obtain ⟨j, hj, rfl⟩ := ix_of (n := ts) (by omega) ⟨i1, i2⟩
    rw [cl_nI (by omega)] at he
    refine g_aload_0 (q := 24) C d_T_octet_23 rfl ?_
    refine tg_7 (q := 27) C d_T_octet_24 rfl ?_
    refine g_iload_2 (q := 28) C d_T_octet_27 rfl ?_
    refine ta_0 (q := 29) C d_T_octet_28 rfl rfl (by omega) (h2.2.2 j hj).1 ?_
    exact g_iret C F d_T_octet_29 (Nat.le_refl _) (Nat.le_refl _) ⟨_, _, _, rfl, rfl, by rw [he], hS.thrown⟩
  · refine g_if_eq (q := 23) (tgt := 30) C d_T_octet_20 rfl (by decide) (fun hz => ?_) (fun hz => ?_)
    · exact h30 (fun q => hno q.2)
    · exact absurd rfl hz
theorem c_T_alter {i b : Int32} (hS : MW ord room f g S) : Ct l Γ y_T_alter b_T_alter 4 (some .int) 1 0 0 [.ref o, .int i, .int b] (tw Γ o ad f g) (pi Γ o ad (fun x f' g' => x = (oAlter i b S).1 ∧ MW ord room f' g' (oAlter i b S).2)) := by
  obtain ⟨ts, tx, os, ou, rc, re, EE, K, kT, R, pl, ip, to, pn, px, pf⟩ := S
  obtain ⟨h1, h2, h3, h4, h5, h6, h7, h8, h9⟩ := id hS
  have hos := h3.2.1
  refine Ct.of (by decide) (by simp [Value.category]) (Nat.le_of_ble_eq_true rfl) (fun E eG el en C hR F hnm => ?_)
  subst eG
  subst el
  have hL : 4 ≤ xn E := Nat.le_of_eq en.symm
  show G E 0 0 0 [some (.ref o), some (.int i), some (.int b), none] [] (tw (xG E) o ad f g)
  have h30 : (¬ (nI 0 ≤ i ∧ i ≤ nI os - nI 1) ∨ ¬ (nI 0 ≤ b ∧ b ≤ nI 255)) → G E 0 0 30 [some (.ref o), some (.int i), some (.int b), none] [] (tw (xG E) o ad (upd f 0 (nI 0)) g) := by
    intro hno
    have he : oAlter i b (ts, tx, os, ou, rc, re, EE, K, kT, R, pl, ip, to, pn, px, pf) = (-1, (ts, tx, os, ou, rc, re, EE, K, kT, R, pl, ip, to, pn, px, pf)) := if_pos hno
    refine g_iconst (v := (-1)) (q := 31) C d_T_alter_30 rfl (by decide) ?_
    exact g_iret C F d_T_alter_31 (Nat.le_refl _) (Nat.le_refl _) ⟨_, _, _, rfl, rfl, by rw [he], by rw [he]; exact hS.thrown⟩
  refine g_aload_0 (q := 1) C d_T_alter_0 rfl ?_
  refine g_iconst (v := nI 0) (q := 2) C d_T_alter_1 rfl (by decide) ?_
  refine tp_82 (q := 5) C d_T_alter_2 rfl ?_
  refine g_iload_1 (q := 6) C d_T_alter_5 rfl ?_
  refine g_iconst (v := nI 0) (q := 7) C d_T_alter_6 rfl (by decide) ?_
  refine g_aload_0 (q := 8) C d_T_alter_7 rfl ?_
  refine tg_93 (q := 11) C d_T_alter_8 rfl h3.1 ?_
  refine g_iconst (v := nI 1) (q := 12) C d_T_alter_11 rfl (by decide) ?_
  refine g_isub (q := 13) C d_T_alter_12 rfl rfl ?_
  refine tc_88 (q := 16) C hR (c_T_in _ _ _) d_T_alter_13 rfl (by decide) (by decide) (by decide) (Nat.le_of_ble_eq_true rfl) (fun x hx => ?_)
  rcases hx with ⟨i1, i2, rfl⟩ | ⟨hno, rfl⟩
  · refine g_if_eq (q := 19) (tgt := 30) C d_T_alter_16 rfl (by decide) (fun hz => ?_) (fun hz => ?_)
    · exact absurd hz (by decide)
    refine g_iload_2 (q := 20) C d_T_alter_19 rfl ?_
    refine g_iconst (v := nI 0) (q := 21) C d_T_alter_20 rfl (by decide) ?_
    refine g_sipush (v := nI 255) (q := 24) C d_T_alter_21 rfl (by decide) ?_
    refine tc_88 (q := 27) C hR (c_T_in _ _ _) d_T_alter_24 rfl (by decide) (by decide) (by decide) (Nat.le_of_ble_eq_true rfl) (fun x hx => ?_)
    rcases hx with ⟨j1, j2, rfl⟩ | ⟨hno, rfl⟩
    · refine g_if_ne (q := 30) (tgt := 32) C d_T_alter_27 rfl (by decide) (fun hz => ?_) (fun hz => ?_)
      · have he : oAlter i b (ts, tx, os, ou, rc, re, EE, K, kT, R, pl, ip, to, pn, px, pf) = (nI (ou (cl i)), (ts, tx, os, upN ou (cl i) (cl b), rc, re, EE, K, kT, R, pl, ip, to, pn, px, pf)) := if_neg (fun q => by rcases q with q | q; exact q ⟨i1, i2⟩; exact q ⟨j1, j2⟩)
        obtain ⟨j, hj, rfl⟩ := ix_of (n := os) (by omega) ⟨i1, i2⟩
        obtain ⟨c, hc, rfl⟩ := ix_of2 (n := 255) (by decide) ⟨j1, j2⟩
        rw [cl_nI (by omega), cl_nI (by omega)] at he
        refine g_aload_0 (q := 33) C d_T_alter_32 rfl ?_
        refine tg_13 (q := 36) C d_T_alter_33 rfl ?_
        refine g_iload_1 (q := 37) C d_T_alter_36 rfl ?_
        refine ta_1 (q := 38) C d_T_alter_37 rfl rfl (by omega) (h3.2.2 j hj).1 ?_
        refine g_istore_3 (q := 39) C hL d_T_alter_38 rfl ?_
        refine g_aload_0 (q := 40) C d_T_alter_39 rfl ?_
        refine tg_13 (q := 43) C d_T_alter_40 rfl ?_
        refine g_iload_1 (q := 44) C d_T_alter_43 rfl ?_
        refine g_iload_2 (q := 45) C d_T_alter_44 rfl ?_
        refine ts_1 (q := 46) C d_T_alter_45 rfl rfl (by omega) ?_
        refine g_iload_3 (q := 47) C d_T_alter_46 rfl ?_
        refine g_iret C F d_T_alter_47 (Nat.le_refl _) (Nat.le_refl _) ⟨_, _, _, rfl, rfl, by rw [he], ?_⟩
        rw [he]
        refine ⟨h1, h2, ⟨h3.1, hos, fun i' hi' => ?_⟩, h4, fun m hm => ⟨(h5 m hm).1.keep rfl rfl rfl rfl rfl rfl, (h5 m hm).2⟩, ⟨h6.1, h6.2.1, fun k hk => ⟨(h6.2.2 k hk).1.keep rfl rfl rfl rfl rfl rfl, (h6.2.2 k hk).2⟩⟩, h7, h8, h9⟩
        show upd (g 1) j (nI c) i' = _ ∧ upN ou j c i' < 256
        by_cases e : i' = j
        · rw [e, upd_s, upN_s]; exact ⟨rfl, by omega⟩
        · rw [upd_n e, upN_n e]; exact h3.2.2 i' hi'
      · exact absurd (by decide) hz
    · refine g_if_ne (q := 30) (tgt := 32) C d_T_alter_27 rfl (by decide) (fun hz => ?_) (fun hz => ?_)
      · exact absurd rfl hz
      · exact h30 (Or.inr hno)
  · refine g_if_eq (q := 19) (tgt := 30) C d_T_alter_16 rfl (by decide) (fun hz => ?_) (fun hz => ?_)
    · exact h30 (Or.inl hno)
    · exact absurd rfl hz
theorem c_T_cut {n : Int32} (hS : MW ord room f g S) : Ct l Γ y_T_cut b_T_cut 3 (some .int) 1 0 0 [.ref o, .int n] (tw Γ o ad f g) (pi Γ o ad (fun x f' g' => x = (oCut n S).1 ∧ MW ord room f' g' (oCut n S).2)) := by
  obtain ⟨ts, tx, os, ou, rc, re, EE, K, kT, R, pl, ip, to, pn, px, pf⟩ := S
  obtain ⟨h1, h2, h3, h4, h5, h6, h7, h8, h9⟩ := id hS
  have hos := h3.2.1
  refine Ct.of (by decide) (by simp [Value.category]) (Nat.le_of_ble_eq_true rfl) (fun E eG el en C hR F hnm => ?_)
  subst eG
  subst el
  have hL : 3 ≤ xn E := Nat.le_of_eq en.symm
  show G E 0 0 0 [some (.ref o), some (.int n), none] [] (tw (xG E) o ad f g)
  refine g_aload_0 (q := 1) C d_T_cut_0 rfl ?_
  refine g_iconst (v := nI 0) (q := 2) C d_T_cut_1 rfl (by decide) ?_
  refine tp_82 (q := 5) C d_T_cut_2 rfl ?_
  refine g_iload_1 (q := 6) C d_T_cut_5 rfl ?_
  refine g_iconst (v := nI 0) (q := 7) C d_T_cut_6 rfl (by decide) ?_
  refine g_aload_0 (q := 8) C d_T_cut_7 rfl ?_
  refine tg_93 (q := 11) C d_T_cut_8 rfl h3.1 ?_
  refine tc_88 (q := 14) C hR (c_T_in _ _ _) d_T_cut_11 rfl (by decide) (by decide) (by decide) (Nat.le_of_ble_eq_true rfl) (fun x hx => ?_)
  rcases hx with ⟨i1, i2, rfl⟩ | ⟨hno, rfl⟩
  · refine g_if_ne (q := 17) (tgt := 19) C d_T_cut_14 rfl (by decide) (fun hz => ?_) (fun hz => ?_)
    · have he : oCut n (ts, tx, os, ou, rc, re, EE, K, kT, R, pl, ip, to, pn, px, pf) = (nI (os - cl n), (ts, tx, cl n, ou, rc, re, EE, K, kT, R, pl, ip, to, pn, px, pf)) := if_neg (fun q => q ⟨i1, i2⟩)
      obtain ⟨j, hj, rfl⟩ := ix_of2 (n := os) (by omega) ⟨i1, i2⟩
      rw [cl_nI (by omega)] at he
      refine g_aload_0 (q := 20) C d_T_cut_19 rfl ?_
      refine tg_93 (q := 23) C d_T_cut_20 rfl h3.1 ?_
      refine g_iload_1 (q := 24) C d_T_cut_23 rfl ?_
      refine g_isub (q := 25) C d_T_cut_24 rfl (pk_sub (by omega)) ?_
      refine g_istore_2 (q := 26) C hL d_T_cut_25 rfl ?_
      refine g_aload_0 (q := 27) C d_T_cut_26 rfl ?_
      refine g_iload_1 (q := 28) C d_T_cut_27 rfl ?_
      refine tp_93 (q := 31) C d_T_cut_28 rfl ?_
      refine g_iload_2 (q := 32) C d_T_cut_31 rfl ?_
      refine g_iret C F d_T_cut_32 (Nat.le_refl _) (Nat.le_refl _) ⟨_, _, _, rfl, rfl, by rw [he], ?_⟩
      rw [he]
      exact ⟨h1, h2, ⟨rfl, by omega, fun i' hi' => h3.2.2 i' (by omega)⟩, h4, h5, h6, h7, h8, h9⟩
    · exact absurd (by decide) hz
  · refine g_if_ne (q := 17) (tgt := 19) C d_T_cut_14 rfl (by decide) (fun hz => ?_) (fun hz => ?_)
    · exact absurd rfl hz
    have he : oCut n (ts, tx, os, ou, rc, re, EE, K, kT, R, pl, ip, to, pn, px, pf) = (-1, (ts, tx, os, ou, rc, re, EE, K, kT, R, pl, ip, to, pn, px, pf)) := if_pos hno
    refine g_iconst (v := (-1)) (q := 18) C d_T_cut_17 rfl (by decide) ?_
    exact g_iret C F d_T_cut_18 (Nat.le_refl _) (Nat.le_refl _) ⟨_, _, _, rfl, rfl, by rw [he], by rw [he]; exact hS.thrown⟩
theorem lt3 {j : Nat} (h : j ≤ 2) : j < 3 := by omega
theorem c_T_told {w : Int32} (hS : MW ord room f g S) : Ct l Γ y_T_told b_T_told 2 (some .int) 1 0 0 [.ref o, .int w] (tw Γ o ad f g) (pi Γ o ad (fun x f' g' => x = (oTold w S).1 ∧ MW ord room f' g' (oTold w S).2)) := by
  obtain ⟨ts, tx, os, ou, rc, re, EE, K, kT, R, pl, ip, to, pn, px, pf⟩ := S
  obtain ⟨h1, h2, h3, h4, h5, h6, h7, h8, h9⟩ := id hS
  refine Ct.of (by decide) (by simp [Value.category]) (Nat.le_of_ble_eq_true rfl) (fun E eG el en C hR F hnm => ?_)
  subst eG
  subst el
  have hL : 2 ≤ xn E := Nat.le_of_eq en.symm
  show G E 0 0 0 [some (.ref o), some (.int w)] [] (tw (xG E) o ad f g)
  have hd : (oTold w (ts, tx, os, ou, rc, re, EE, K, kT, R, pl, ip, to, pn, px, pf)).1 = if ¬ (nI 0 ≤ w ∧ w ≤ nI 2) then -1 else if ip = true then nI (to (cl w)) else -3 := rfl
  have h36 : ∀ x, x = (oTold w (ts, tx, os, ou, rc, re, EE, K, kT, R, pl, ip, to, pn, px, pf)).1 → G E 0 0 36 [some (.ref o), some (.int w)] [.int x] (tw (xG E) o ad (upd f 0 (nI 0)) g) := fun x hx =>
    g_iret C F d_T_told_36 (Nat.le_refl _) (Nat.le_refl _) ⟨_, _, _, rfl, rfl, hx, hS.thrown⟩
  refine g_aload_0 (q := 1) C d_T_told_0 rfl ?_
  refine g_iconst (v := nI 0) (q := 2) C d_T_told_1 rfl (by decide) ?_
  refine tp_82 (q := 5) C d_T_told_2 rfl ?_
  refine g_iload_1 (q := 6) C d_T_told_5 rfl ?_
  refine g_iconst (v := nI 0) (q := 7) C d_T_told_6 rfl (by decide) ?_
  refine g_iconst (v := nI 2) (q := 8) C d_T_told_7 rfl (by decide) ?_
  refine tc_88 (q := 11) C hR (c_T_in _ _ _) d_T_told_8 rfl (by decide) (by decide) (by decide) (Nat.le_of_ble_eq_true rfl) (fun x hx => ?_)
  rcases hx with ⟨i1, i2, rfl⟩ | ⟨hno, rfl⟩
  · refine g_if_ne (q := 14) (tgt := 18) C d_T_told_11 rfl (by decide) (fun hz => ?_) (fun hz => ?_)
    · rw [if_neg (fun q => q ⟨i1, i2⟩)] at hd
      refine g_aload_0 (q := 19) C d_T_told_18 rfl ?_
      refine tg_194 (q := 22) C d_T_told_19 rfl h9.1 ?_
      refine g_if_eq (q := 25) (tgt := 34) C d_T_told_22 rfl (by decide) (fun hq => ?_) (fun hq => ?_)
      · have hip : ¬ ip = true := fun q => by rw [q] at hq; exact absurd hq (by decide)
        refine g_bipush (v := (-3)) (q := 36) C d_T_told_34 rfl (by decide) ?_
        exact h36 _ (by rw [hd, if_neg hip])
      · have hip : ip = true := by
          cases ip with
          | true => rfl
          | false => exact absurd rfl hq
        obtain ⟨j, hj, rfl⟩ := ix_of2 (n := 2) (by decide) ⟨i1, i2⟩
        rw [cl_nI (by omega)] at hd
        refine g_aload_0 (q := 26) C d_T_told_25 rfl ?_
        refine tg_56 (q := 29) C d_T_told_26 rfl ?_
        refine g_iload_1 (q := 30) C d_T_told_29 rfl ?_
        refine ta_15 (q := 31) C d_T_told_30 rfl rfl (lt3 hj) (h9.2.2.2.2.1 hip j (lt3 hj)) ?_
        refine g_goto (tgt := 36) C d_T_told_31 (by decide) ?_
        exact h36 _ (by rw [hd, if_pos hip])
    · exact absurd (by decide) hz
  · refine g_if_ne (q := 14) (tgt := 18) C d_T_told_11 rfl (by decide) (fun hz => ?_) (fun hz => ?_)
    · exact absurd rfl hz
    refine g_iconst (v := (-1)) (q := 15) C d_T_told_14 rfl (by decide) ?_
    refine g_goto (tgt := 36) C d_T_told_15 (by decide) ?_
    exact h36 _ (by rw [hd, if_pos hno])
theorem c_T_sign {i w : Int32} (hS : MW ord room f g S) : Ct l Γ y_T_sign b_T_sign 3 (some .int) 1 0 0 [.ref o, .int i, .int w] (tw Γ o ad f g) (pi Γ o ad (fun x f' g' => x = (oSign i w S).1 ∧ MW ord room f' g' (oSign i w S).2)) := by
  obtain ⟨ts, tx, os, ou, rc, re, EE, K, kT, R, pl, ip, to, pn, px, pf⟩ := S
  obtain ⟨h1, h2, h3, h4, h5, h6, h7, h8, h9⟩ := id hS
  have hpn := h9.2.2.1
  refine Ct.of (by decide) (by simp [Value.category]) (Nat.le_of_ble_eq_true rfl) (fun E eG el en C hR F hnm => ?_)
  subst eG
  subst el
  have hL : 3 ≤ xn E := Nat.le_of_eq en.symm
  show G E 0 0 0 [some (.ref o), some (.int i), some (.int w)] [] (tw (xG E) o ad f g)
  have hd : (oSign i w (ts, tx, os, ou, rc, re, EE, K, kT, R, pl, ip, to, pn, px, pf)).1 = if ¬ (nI 0 ≤ i ∧ i ≤ nI pn - nI 1) ∨ ¬ (nI 0 ≤ w ∧ w ≤ nI 1) then -1 else if w = 0 then nI (px (cl i)) else fenc (pf (cl i)) := rfl
  have h28 : (¬ (nI 0 ≤ i ∧ i ≤ nI pn - nI 1) ∨ ¬ (nI 0 ≤ w ∧ w ≤ nI 1)) → G E 0 0 28 [some (.ref o), some (.int i), some (.int w)] [] (tw (xG E) o ad (upd f 0 (nI 0)) g) := by
    intro hno
    refine g_iconst (v := (-1)) (q := 29) C d_T_sign_28 rfl (by decide) ?_
    exact g_iret C F d_T_sign_29 (Nat.le_refl _) (Nat.le_refl _) ⟨_, _, _, rfl, rfl, by rw [hd, if_pos hno], hS.thrown⟩
  refine g_aload_0 (q := 1) C d_T_sign_0 rfl ?_
  refine g_iconst (v := nI 0) (q := 2) C d_T_sign_1 rfl (by decide) ?_
  refine tp_82 (q := 5) C d_T_sign_2 rfl ?_
  refine g_iload_1 (q := 6) C d_T_sign_5 rfl ?_
  refine g_iconst (v := nI 0) (q := 7) C d_T_sign_6 rfl (by decide) ?_
  refine g_aload_0 (q := 8) C d_T_sign_7 rfl ?_
  refine tg_197 (q := 11) C d_T_sign_8 rfl h9.2.1 ?_
  refine g_iconst (v := nI 1) (q := 12) C d_T_sign_11 rfl (by decide) ?_
  refine g_isub (q := 13) C d_T_sign_12 rfl rfl ?_
  refine tc_88 (q := 16) C hR (c_T_in _ _ _) d_T_sign_13 rfl (by decide) (by decide) (by decide) (Nat.le_of_ble_eq_true rfl) (fun x hx => ?_)
  rcases hx with ⟨i1, i2, rfl⟩ | ⟨hno, rfl⟩
  · refine g_if_eq (q := 19) (tgt := 28) C d_T_sign_16 rfl (by decide) (fun hz => ?_) (fun hz => ?_)
    · exact absurd hz (by decide)
    refine g_iload_2 (q := 20) C d_T_sign_19 rfl ?_
    refine g_iconst (v := nI 0) (q := 21) C d_T_sign_20 rfl (by decide) ?_
    refine g_iconst (v := nI 1) (q := 22) C d_T_sign_21 rfl (by decide) ?_
    refine tc_88 (q := 25) C hR (c_T_in _ _ _) d_T_sign_22 rfl (by decide) (by decide) (by decide) (Nat.le_of_ble_eq_true rfl) (fun x hx => ?_)
    rcases hx with ⟨j1, j2, rfl⟩ | ⟨hno, rfl⟩
    · refine g_if_ne (q := 28) (tgt := 30) C d_T_sign_25 rfl (by decide) (fun hz => ?_) (fun hz => ?_)
      · rw [if_neg (fun q => by rcases q with q | q; exact q ⟨i1, i2⟩; exact q ⟨j1, j2⟩)] at hd
        obtain ⟨j, hj, rfl⟩ := ix_of (n := pn) (by omega) ⟨i1, i2⟩
        rw [cl_nI (by omega)] at hd
        obtain ⟨q1, q2⟩ := h9.2.2.2.2.2 j hj
        refine g_iload_2 (q := 31) C d_T_sign_30 rfl ?_
        refine g_if_ne (q := 34) (tgt := 43) C d_T_sign_31 rfl (by decide) (fun hw => ?_) (fun hw => ?_)
        · refine g_aload_0 (q := 44) C d_T_sign_43 rfl ?_
          refine tg_62 (q := 47) C d_T_sign_44 rfl ?_
          refine g_iload_1 (q := 48) C d_T_sign_47 rfl ?_
          refine ta_17 (q := 49) C d_T_sign_48 rfl rfl (by omega) q2 ?_
          exact g_iret C F d_T_sign_49 (Nat.le_refl _) (Nat.le_refl _) ⟨_, _, _, rfl, rfl, by rw [hd, if_neg hw], hS.thrown⟩
        · refine g_aload_0 (q := 35) C d_T_sign_34 rfl ?_
          refine tg_59 (q := 38) C d_T_sign_35 rfl ?_
          refine g_iload_1 (q := 39) C d_T_sign_38 rfl ?_
          refine ta_16 (q := 40) C d_T_sign_39 rfl rfl (by omega) q1 ?_
          refine g_goto (tgt := 49) C d_T_sign_40 (by decide) ?_
          exact g_iret C F d_T_sign_49 (Nat.le_refl _) (Nat.le_refl _) ⟨_, _, _, rfl, rfl, by rw [hd, if_pos (Decidable.not_not.mp hw)], hS.thrown⟩
      · exact absurd (by decide) hz
    · refine g_if_ne (q := 28) (tgt := 30) C d_T_sign_25 rfl (by decide) (fun hz => ?_) (fun hz => ?_)
      · exact absurd rfl hz
      · exact h28 (Or.inr hno)
  · refine g_if_eq (q := 19) (tgt := 28) C d_T_sign_16 rfl (by decide) (fun hz => ?_) (fun hz => ?_)
    · exact h28 (Or.inl hno)
    · exact absurd rfl hz
theorem c_T_nodes {e : Int32} (hS : MW ord room f g S) : Ct l Γ y_T_nodes b_T_nodes 2 (some .int) 1 0 0 [.ref o, .int e] (tw Γ o ad f g) (pi Γ o ad (fun x f' g' => x = (oNodes e S).1 ∧ MW ord room f' g' (oNodes e S).2)) := by
  obtain ⟨ts, tx, os, ou, rc, re, EE, K, kT, R, pl, ip, to, pn, px, pf⟩ := S
  obtain ⟨h1, h2, h3, h4, h5, h6, h7, h8, h9⟩ := id hS
  refine Ct.of (by decide) (by simp [Value.category]) (Nat.le_of_ble_eq_true rfl) (fun E eG el en C hR F hnm => ?_)
  subst eG
  subst el
  have hL : 2 ≤ xn E := Nat.le_of_eq en.symm
  show G E 0 0 0 [some (.ref o), some (.int e)] [] (tw (xG E) o ad f g)
  have hd : (oNodes e (ts, tx, os, ou, rc, re, EE, K, kT, R, pl, ip, to, pn, px, pf)).1 = if isE e then nI (tN (EE (cl e))) else -1 := rfl
  refine g_aload_0 (q := 1) C d_T_nodes_0 rfl ?_
  refine g_iconst (v := nI 0) (q := 2) C d_T_nodes_1 rfl (by decide) ?_
  refine tp_82 (q := 5) C d_T_nodes_2 rfl ?_
  refine g_iload_1 (q := 6) C d_T_nodes_5 rfl ?_
  refine g_iconst (v := nI 0) (q := 7) C d_T_nodes_6 rfl (by decide) ?_
  refine g_iconst (v := nI 1) (q := 8) C d_T_nodes_7 rfl (by decide) ?_
  refine tc_88 (q := 11) C hR (c_T_in _ _ _) d_T_nodes_8 rfl (by decide) (by decide) (by decide) (Nat.le_of_ble_eq_true rfl) (fun x hx => ?_)
  rcases hx with ⟨i1, i2, rfl⟩ | ⟨hno, rfl⟩
  · refine g_if_eq (q := 14) (tgt := 23) C d_T_nodes_11 rfl (by decide) (fun hz => ?_) (fun hz => ?_)
    · exact absurd hz (by decide)
    rw [if_pos ⟨i1, i2⟩] at hd
    obtain ⟨j, hj, rfl⟩ := ix_of2 (n := 1) (by decide) ⟨i1, i2⟩
    rw [cl_nI (by omega)] at hd
    refine g_aload_0 (q := 15) C d_T_nodes_14 rfl ?_
    refine tg_19 (q := 18) C d_T_nodes_15 rfl ?_
    refine g_iload_1 (q := 19) C d_T_nodes_18 rfl ?_
    refine ta_3 (q := 20) C d_T_nodes_19 rfl rfl (by omega) (h5 j (by omega)).1.1 ?_
    refine g_goto (tgt := 24) C d_T_nodes_20 (by decide) ?_
    exact g_iret C F d_T_nodes_24 (Nat.le_refl _) (Nat.le_refl _) ⟨_, _, _, rfl, rfl, by rw [hd], hS.thrown⟩
  · refine g_if_eq (q := 14) (tgt := 23) C d_T_nodes_11 rfl (by decide) (fun hz => ?_) (fun hz => ?_)
    · refine g_iconst (v := (-1)) (q := 24) C d_T_nodes_23 rfl (by decide) ?_
      exact g_iret C F d_T_nodes_24 (Nat.le_refl _) (Nat.le_refl _) ⟨_, _, _, rfl, rfl, by rw [hd, if_neg hno], hS.thrown⟩
    · exact absurd rfl hz
theorem c_T_restarted {e : Int32} (hS : MW ord room f g S) : Ct l Γ y_T_restarted b_T_restarted 2 (some .int) 1 0 0 [.ref o, .int e] (tw Γ o ad f g) (pi Γ o ad (fun x f' g' => x = (oRestarted e S).1 ∧ MW ord room f' g' (oRestarted e S).2)) := by
  obtain ⟨ts, tx, os, ou, rc, re, EE, K, kT, R, pl, ip, to, pn, px, pf⟩ := S
  obtain ⟨h1, h2, h3, h4, h5, h6, h7, h8, h9⟩ := id hS
  refine Ct.of (by decide) (by simp [Value.category]) (Nat.le_of_ble_eq_true rfl) (fun E eG el en C hR F hnm => ?_)
  subst eG
  subst el
  have hL : 2 ≤ xn E := Nat.le_of_eq en.symm
  show G E 0 0 0 [some (.ref o), some (.int e)] [] (tw (xG E) o ad f g)
  have hd : (oRestarted e (ts, tx, os, ou, rc, re, EE, K, kT, R, pl, ip, to, pn, px, pf)).1 = if isE e then R (cl e) else -1 := rfl
  refine g_aload_0 (q := 1) C d_T_restarted_0 rfl ?_
  refine g_iconst (v := nI 0) (q := 2) C d_T_restarted_1 rfl (by decide) ?_
  refine tp_82 (q := 5) C d_T_restarted_2 rfl ?_
  refine g_iload_1 (q := 6) C d_T_restarted_5 rfl ?_
  refine g_iconst (v := nI 0) (q := 7) C d_T_restarted_6 rfl (by decide) ?_
  refine g_iconst (v := nI 1) (q := 8) C d_T_restarted_7 rfl (by decide) ?_
  refine tc_88 (q := 11) C hR (c_T_in _ _ _) d_T_restarted_8 rfl (by decide) (by decide) (by decide) (Nat.le_of_ble_eq_true rfl) (fun x hx => ?_)
  rcases hx with ⟨i1, i2, rfl⟩ | ⟨hno, rfl⟩
  · refine g_if_eq (q := 14) (tgt := 23) C d_T_restarted_11 rfl (by decide) (fun hz => ?_) (fun hz => ?_)
    · exact absurd hz (by decide)
    rw [if_pos ⟨i1, i2⟩] at hd
    obtain ⟨j, hj, rfl⟩ := ix_of2 (n := 1) (by decide) ⟨i1, i2⟩
    rw [cl_nI (by omega)] at hd
    refine g_aload_0 (q := 15) C d_T_restarted_14 rfl ?_
    refine tg_37 (q := 18) C d_T_restarted_15 rfl ?_
    refine g_iload_1 (q := 19) C d_T_restarted_18 rfl ?_
    refine ta_9 (q := 20) C d_T_restarted_19 rfl rfl (by omega) (h7 j (by omega)) ?_
    refine g_goto (tgt := 24) C d_T_restarted_20 (by decide) ?_
    exact g_iret C F d_T_restarted_24 (Nat.le_refl _) (Nat.le_refl _) ⟨_, _, _, rfl, rfl, by rw [hd], hS.thrown⟩
  · refine g_if_eq (q := 14) (tgt := 23) C d_T_restarted_11 rfl (by decide) (fun hz => ?_) (fun hz => ?_)
    · refine g_iconst (v := (-1)) (q := 24) C d_T_restarted_23 rfl (by decide) ?_
      exact g_iret C F d_T_restarted_24 (Nat.le_refl _) (Nat.le_refl _) ⟨_, _, _, rfl, rfl, by rw [hd, if_neg hno], hS.thrown⟩
    · exact absurd rfl hz
theorem c_T_latest {e i : Int32} (hS : MW ord room f g S) : Ct l Γ y_T_latest b_T_latest 3 (some .int) 1 0 0 [.ref o, .int e, .int i] (tw Γ o ad f g) (pi Γ o ad (fun x f' g' => x = (oLatest e i S).1 ∧ MW ord room f' g' (oLatest e i S).2)) := by
  obtain ⟨ts, tx, os, ou, rc, re, EE, K, kT, R, pl, ip, to, pn, px, pf⟩ := S
  obtain ⟨h1, h2, h3, h4, h5, h6, h7, h8, h9⟩ := id hS
  refine Ct.of (by decide) (by simp [Value.category]) (Nat.le_of_ble_eq_true rfl) (fun E eG el en C hR F hnm => ?_)
  subst eG
  subst el
  have hL : 3 ≤ xn E := Nat.le_of_eq en.symm
  show G E 0 0 0 [some (.ref o), some (.int e), some (.int i)] [] (tw (xG E) o ad f g)
  have hd : (oLatest e i (ts, tx, os, ou, rc, re, EE, K, kT, R, pl, ip, to, pn, px, pf)).1 = if isE e ∧ nI 0 ≤ i ∧ i ≤ nI (tL (EE (cl e))) - nI 1 then nI (tE (EE (cl e)) (cl i)) else -1 := rfl
  have h43 : ¬ (isE e ∧ nI 0 ≤ i ∧ i ≤ nI (tL (EE (cl e))) - nI 1) → G E 0 0 43 [some (.ref o), some (.int e), some (.int i)] [] (tw (xG E) o ad (upd f 0 (nI 0)) g) := by
    intro hno
    refine g_iconst (v := (-1)) (q := 44) C d_T_latest_43 rfl (by decide) ?_
    exact g_iret C F d_T_latest_44 (Nat.le_refl _) (Nat.le_refl _) ⟨_, _, _, rfl, rfl, by rw [hd, if_neg hno], hS.thrown⟩
  refine g_aload_0 (q := 1) C d_T_latest_0 rfl ?_
  refine g_iconst (v := nI 0) (q := 2) C d_T_latest_1 rfl (by decide) ?_
  refine tp_82 (q := 5) C d_T_latest_2 rfl ?_
  refine g_iload_1 (q := 6) C d_T_latest_5 rfl ?_
  refine g_iconst (v := nI 0) (q := 7) C d_T_latest_6 rfl (by decide) ?_
  refine g_iconst (v := nI 1) (q := 8) C d_T_latest_7 rfl (by decide) ?_
  refine tc_88 (q := 11) C hR (c_T_in _ _ _) d_T_latest_8 rfl (by decide) (by decide) (by decide) (Nat.le_of_ble_eq_true rfl) (fun x hx => ?_)
  rcases hx with ⟨i1, i2, rfl⟩ | ⟨hno, rfl⟩
  · refine g_if_eq (q := 14) (tgt := 43) C d_T_latest_11 rfl (by decide) (fun hz => ?_) (fun hz => ?_)
    · exact absurd hz (by decide)
    obtain ⟨j, hj, rfl⟩ := ix_of2 (n := 1) (by decide) ⟨i1, i2⟩
    have hcl : cl (nI j) = j := cl_nI (by omega)
    rw [hcl] at hd h43
    obtain ⟨hT, hI⟩ := h5 j (by omega)
    have hl := hI.l
    refine g_iload_2 (q := 15) C d_T_latest_14 rfl ?_
    refine g_iconst (v := nI 0) (q := 16) C d_T_latest_15 rfl (by decide) ?_
    refine g_aload_0 (q := 17) C d_T_latest_16 rfl ?_
    refine tg_31 (q := 20) C d_T_latest_17 rfl ?_
    refine g_iload_1 (q := 21) C d_T_latest_20 rfl ?_
    refine ta_7 (q := 22) C d_T_latest_21 rfl rfl (by omega) hT.2.1 ?_
    refine g_iconst (v := nI 1) (q := 23) C d_T_latest_22 rfl (by decide) ?_
    refine g_isub (q := 24) C d_T_latest_23 rfl rfl ?_
    refine tc_88 (q := 27) C hR (c_T_in _ _ _) d_T_latest_24 rfl (by decide) (by decide) (by decide) (Nat.le_of_ble_eq_true rfl) (fun x hx => ?_)
    rcases hx with ⟨k1, k2, rfl⟩ | ⟨hno, rfl⟩
    · refine g_if_eq (q := 30) (tgt := 43) C d_T_latest_27 rfl (by decide) (fun hz => ?_) (fun hz => ?_)
      · exact absurd hz (by decide)
      rw [if_pos ⟨⟨i1, i2⟩, k1, k2⟩] at hd
      obtain ⟨k, hk, rfl⟩ := ix_of (n := tL (EE j)) (by omega) ⟨k1, k2⟩
      rw [cl_nI (by omega)] at hd
      refine g_aload_0 (q := 31) C d_T_latest_30 rfl ?_
      refine tg_34 (q := 34) C d_T_latest_31 rfl ?_
      refine g_iconst (v := nI 4) (q := 35) C d_T_latest_34 rfl (by decide) ?_
      refine g_iload_1 (q := 36) C d_T_latest_35 rfl ?_
      refine g_imul (q := 37) C d_T_latest_36 rfl (pk_mul _ _) ?_
      refine g_iload_2 (q := 38) C d_T_latest_37 rfl ?_
      refine g_iadd (q := 39) C d_T_latest_38 rfl (nI_add _ _) ?_
      refine ta_8 (q := 40) C d_T_latest_39 rfl rfl (by omega) (hT.2.2.2.2.2.2 k hk) ?_
      refine g_goto (tgt := 44) C d_T_latest_40 (by decide) ?_
      exact g_iret C F d_T_latest_44 (Nat.le_refl _) (Nat.le_refl _) ⟨_, _, _, rfl, rfl, by rw [hd], hS.thrown⟩
    · refine g_if_eq (q := 30) (tgt := 43) C d_T_latest_27 rfl (by decide) (fun hz => ?_) (fun hz => ?_)
      · exact h43 (fun q => hno q.2)
      · exact absurd rfl hz
  · refine g_if_eq (q := 14) (tgt := 43) C d_T_latest_11 rfl (by decide) (fun hz => ?_) (fun hz => ?_)
    · exact h43 (fun q => hno q.1)
    · exact absurd rfl hz
/-- model e's rows are another tree's now -/
theorem MW.setE {ord room : Nat} {f f' : Nat → Int32} {g g' : Nat → Nat → Int32} {ts os rc K pn : Nat} {tx ou re to px pf : Nat → Nat} {EE kT : Nat → Tr} {R : Nat → Int32} {pl : Int32} {ip : Bool} (h : MW ord room f g (ts, tx, os, ou, rc, re, EE, K, kT, R, pl, ip, to, pn, px, pf)) {j : Nat} (hj : j < 2) {T' : Tr} (hI : TI ord room T') (hT : TM g' j T') (hf : ∀ k, k ∈ [1, 2, 3, 4, 5, 6, 20, 21, 24] → f' k = f k) (hg : ∀ j, j ∈ [0, 1, 2, 9, 15, 16, 17] → g' j = g j) (hB : Bd j g g') :
    MW ord room f' g' (ts, tx, os, ou, rc, re, upT EE j T', K, kT, R, pl, ip, to, pn, px, pf) := by
  obtain ⟨h1, h2, h3, h4, h5, h6, h7, h8, h9⟩ := h
  refine ⟨?_, ?_, ?_, ?_, fun m hm => ?_, ⟨?_, h6.2.1, fun k hk => ?_⟩, ?_, ?_, ?_⟩
  · rw [hf 1 (by decide), hf 2 (by decide)]; exact h1
  · rw [hf 3 (by decide), hg 0 (by decide)]; exact h2
  · exact h3.keep (hf 4 (by decide)) (hg 1 (by decide))
  · rw [hf 5 (by decide), hg 2 (by decide)]; exact h4
  · by_cases e : m = j
    · subst e; rw [upT_s]; exact ⟨hT, hI⟩
    · rw [upT_n e]
      obtain ⟨a, b⟩ := h5 m hm
      exact ⟨hB.other e b.n b.l a, b⟩
  · rw [hf 6 (by decide)]; exact h6.1
  · obtain ⟨a, b⟩ := h6.2.2 k hk
    exact ⟨hB.other (by omega) b.n b.l a, b⟩
  · rw [hg 9 (by decide)]; exact h7
  · rw [hf 24 (by decide)]; exact h8
  · rw [hf 20 (by decide), hf 21 (by decide), hg 15 (by decide), hg 16 (by decide), hg 17 (by decide)]; exact h9
theorem c_T_reset {e : Int32} (hS : MW ord room f g S) : Ct l Γ y_T_reset b_T_reset 3 (some .int) 1 0 0 [.ref o, .int e] (tw Γ o ad f g) (pi Γ o ad (fun x f' g' => x = (oReset e S).1 ∧ MW ord room f' g' (oReset e S).2)) := by
  obtain ⟨ts, tx, os, ou, rc, re, EE, K, kT, R, pl, ip, to, pn, px, pf⟩ := S
  obtain ⟨h1, h2, h3, h4, h5, h6, h7, h8, h9⟩ := id hS
  refine Ct.of (by decide) (by simp [Value.category]) (Nat.le_of_ble_eq_true rfl) (fun E eG el en C hR F hnm => ?_)
  subst eG
  subst el
  have hL : 3 ≤ xn E := Nat.le_of_eq en.symm
  show G E 0 0 0 [some (.ref o), some (.int e), none] [] (tw (xG E) o ad f g)
  refine g_aload_0 (q := 1) C d_T_reset_0 rfl ?_
  refine g_iconst (v := nI 0) (q := 2) C d_T_reset_1 rfl (by decide) ?_
  refine tp_82 (q := 5) C d_T_reset_2 rfl ?_
  refine g_iload_1 (q := 6) C d_T_reset_5 rfl ?_
  refine g_iconst (v := nI 0) (q := 7) C d_T_reset_6 rfl (by decide) ?_
  refine g_iconst (v := nI 1) (q := 8) C d_T_reset_7 rfl (by decide) ?_
  refine tc_88 (q := 11) C hR (c_T_in _ _ _) d_T_reset_8 rfl (by decide) (by decide) (by decide) (Nat.le_of_ble_eq_true rfl) (fun x hx => ?_)
  rcases hx with ⟨i1, i2, rfl⟩ | ⟨hno, rfl⟩
  · refine g_if_ne (q := 14) (tgt := 16) C d_T_reset_11 rfl (by decide) (fun hz => ?_) (fun hz => ?_)
    · have he : oReset e (ts, tx, os, ou, rc, re, EE, K, kT, R, pl, ip, to, pn, px, pf) = (nI (tN (EE (cl e))), (ts, tx, os, ou, rc, re, upT EE (cl e) (rs (EE (cl e))), K, kT, R, pl, ip, to, pn, px, pf)) := if_pos ⟨i1, i2⟩
      obtain ⟨j, hj, rfl⟩ := ix_of2 (n := 1) (by decide) ⟨i1, i2⟩
      rw [cl_nI (by omega)] at he
      obtain ⟨hT, hI⟩ := h5 j (by omega)
      refine g_aload_0 (q := 17) C d_T_reset_16 rfl ?_
      refine tg_19 (q := 20) C d_T_reset_17 rfl ?_
      refine g_iload_1 (q := 21) C d_T_reset_20 rfl ?_
      refine ta_3 (q := 22) C d_T_reset_21 rfl rfl (by omega) hT.1 ?_
      refine g_istore_2 (q := 23) C hL d_T_reset_22 rfl ?_
      refine g_aload_0 (q := 24) C d_T_reset_23 rfl ?_
      refine g_iload_1 (q := 25) C d_T_reset_24 rfl ?_
      refine tc_78 (q := 28) C hR (c_T_begin (by omega)) d_T_reset_25 rfl (by decide) (by decide) (by decide) (Nat.le_of_ble_eq_true rfl) (fun f2 g2 hp => ?_)
      obtain ⟨hF2, hB2, hT2⟩ := hp
      refine g_iload_2 (q := 29) C d_T_reset_28 rfl ?_
      refine g_iret C F d_T_reset_29 (Nat.le_refl _) (Nat.le_refl _) ⟨_, _, _, rfl, rfl, by rw [he], ?_⟩
      rw [he]
      exact hS.setE (by omega) (rs_TI hI.1) (hT2 _) (fun k hk => by rw [hF2.1 k (by simp)]; exact upd_n (fun e => by subst e; revert hk; decide)) (fun j hj => hF2.2 j (by intro q; revert hj; revert q; simp; omega)) hB2
    · exact absurd (by decide) hz
  · refine g_if_ne (q := 14) (tgt := 16) C d_T_reset_11 rfl (by decide) (fun hz => ?_) (fun hz => ?_)
    · exact absurd rfl hz
    have he : oReset e (ts, tx, os, ou, rc, re, EE, K, kT, R, pl, ip, to, pn, px, pf) = (-1, (ts, tx, os, ou, rc, re, EE, K, kT, R, pl, ip, to, pn, px, pf)) := if_neg hno
    refine g_iconst (v := (-1)) (q := 15) C d_T_reset_14 rfl (by decide) ?_
    exact g_iret C F d_T_reset_15 (Nat.le_refl _) (Nat.le_refl _) ⟨_, _, _, rfl, rfl, by rw [he], by rw [he]; exact hS.thrown⟩
theorem c_T_save {e : Int32} (hS : MW ord room f g S) : Ct l Γ y_T_save b_T_save 2 (some .int) 1 0 0 [.ref o, .int e] (tw Γ o ad f g) (pi Γ o ad (fun x f' g' => x = (oSave e S).1 ∧ MW ord room f' g' (oSave e S).2)) := by
  obtain ⟨ts, tx, os, ou, rc, re, EE, K, kT, R, pl, ip, to, pn, px, pf⟩ := S
  obtain ⟨h1, h2, h3, h4, h5, h6, h7, h8, h9⟩ := id hS
  have hK := h6.2.1
  refine Ct.of (by decide) (by simp [Value.category]) (Nat.le_of_ble_eq_true rfl) (fun E eG el en C hR F hnm => ?_)
  subst eG
  subst el
  have hL : 2 ≤ xn E := Nat.le_of_eq en.symm
  show G E 0 0 0 [some (.ref o), some (.int e)] [] (tw (xG E) o ad f g)
  refine g_aload_0 (q := 1) C d_T_save_0 rfl ?_
  refine g_iconst (v := nI 0) (q := 2) C d_T_save_1 rfl (by decide) ?_
  refine tp_82 (q := 5) C d_T_save_2 rfl ?_
  refine g_iload_1 (q := 6) C d_T_save_5 rfl ?_
  refine g_iconst (v := nI 0) (q := 7) C d_T_save_6 rfl (by decide) ?_
  refine g_iconst (v := nI 1) (q := 8) C d_T_save_7 rfl (by decide) ?_
  refine tc_88 (q := 11) C hR (c_T_in _ _ _) d_T_save_8 rfl (by decide) (by decide) (by decide) (Nat.le_of_ble_eq_true rfl) (fun x hx => ?_)
  rcases hx with ⟨i1, i2, rfl⟩ | ⟨hno, rfl⟩
  · refine g_if_ne (q := 14) (tgt := 16) C d_T_save_11 rfl (by decide) (fun hz => ?_) (fun hz => ?_)
    · refine g_aload_0 (q := 17) C d_T_save_16 rfl ?_
      refine tg_228 (q := 20) C d_T_save_17 rfl h6.1 ?_
      refine g_iconst (v := nI 4) (q := 21) C d_T_save_20 rfl (by decide) ?_
      refine g_icmp_ne (q := 24) (tgt := 27) C d_T_save_21 rfl (by decide) (fun hq => ?_) (fun hq => ?_)
      · have hq : K ≠ 4 := fun q => hq (by rw [q])
        have he : oSave e (ts, tx, os, ou, rc, re, EE, K, kT, R, pl, ip, to, pn, px, pf) = (nI K, (ts, tx, os, ou, rc, re, EE, K + 1, upT kT K (EE (cl e)), R, pl, ip, to, pn, px, pf)) := by
          show (if _ then _ else if _ then _ else _) = _
          rw [if_neg (fun q => q ⟨i1, i2⟩), if_neg hq]
        obtain ⟨j, hj, rfl⟩ := ix_of2 (n := 1) (by decide) ⟨i1, i2⟩
        rw [cl_nI (by omega)] at he
        obtain ⟨hT, hI⟩ := h5 j (by omega)
        refine g_aload_0 (q := 28) C d_T_save_27 rfl ?_
        refine g_iload_1 (q := 29) C d_T_save_28 rfl ?_
        refine g_iconst (v := nI 3) (q := 30) C d_T_save_29 rfl (by decide) ?_
        refine g_aload_0 (q := 31) C d_T_save_30 rfl ?_
        refine tg_228 (q := 34) C d_T_save_31 rfl h6.1 ?_
        refine g_iadd (q := 35) C d_T_save_34 rfl (nI_add _ _) ?_
        refine tc_219 (q := 38) C hR (c_T_copy (m := j) (m2 := 3 + K) (by omega) (by omega) (by omega) hT hI.1) d_T_save_35 rfl (by decide) (by decide) (by decide) (Nat.le_of_ble_eq_true rfl) (fun f2 g2 hp => ?_)
        obtain ⟨hF2, hB2, hT2⟩ := hp
        have ef : ∀ k, k ≠ 0 → f2 k = f k := fun k hk => by rw [hF2.1 k (by simp)]; exact upd_n hk
        have eg : ∀ a, a ∉ [3, 4, 5, 6, 7, 8] → g2 a = g a := hF2.2
        have e6 : f2 6 = nI K := by rw [ef 6 (by decide)]; exact h6.1
        refine g_aload_0 (q := 39) C d_T_save_38 rfl ?_
        refine g_dup_r (q := 40) C d_T_save_39 rfl ?_
        refine tg_228 (q := 43) C d_T_save_40 rfl e6 ?_
        refine g_iconst (v := nI 1) (q := 44) C d_T_save_43 rfl (by decide) ?_
        refine g_iadd (q := 45) C d_T_save_44 rfl (nI_1 _) ?_
        refine tp_228 (q := 48) C d_T_save_45 rfl ?_
        refine g_aload_0 (q := 49) C d_T_save_48 rfl ?_
        refine tg_228 (q := 52) C d_T_save_49 rfl rfl ?_
        refine g_iconst (v := nI 1) (q := 53) C d_T_save_52 rfl (by decide) ?_
        refine g_isub (q := 54) C d_T_save_53 rfl (pk_sub (a := K + 1) (b := 1) (by omega)) ?_
        refine g_iret C F d_T_save_54 (Nat.le_refl _) (Nat.le_refl _) ⟨_, _, _, rfl, rfl, by rw [he]; rfl, ?_⟩
        rw [he]
        refine ⟨?_, ?_, ?_, ?_, fun m hm => ?_, ⟨rfl, by omega, fun k hk => ?_⟩, ?_, ?_, ?_⟩
        · show f2 1 = _ ∧ f2 2 = _
          rw [ef 1 (by decide), ef 2 (by decide)]; exact h1
        · show f2 3 = _ ∧ _ ∧ _
          rw [ef 3 (by decide), eg 0 (by decide)]; exact h2
        · exact h3.keep (ef 4 (by decide)) (eg 1 (by decide))
        · show f2 5 = _ ∧ _ ∧ _
          rw [ef 5 (by decide), eg 2 (by decide)]; exact h4
        · obtain ⟨a, b⟩ := h5 m hm
          exact ⟨hB2.other (by omega) b.n b.l a, b⟩
        · by_cases ek : k = K
          · subst ek; rw [upT_s]; exact ⟨hT2, hI⟩
          · rw [upT_n ek]
            obtain ⟨a, b⟩ := h6.2.2 k (by omega)
            exact ⟨hB2.other (by omega) b.n b.l a, b⟩
        · rw [eg 9 (by decide)]; exact h7
        · show f2 24 = _
          rw [ef 24 (by decide)]; exact h8
        · show f2 20 = _ ∧ f2 21 = _ ∧ _
          rw [ef 20 (by decide), ef 21 (by decide), eg 15 (by decide), eg 16 (by decide), eg 17 (by decide)]; exact h9
      · have hq : K = 4 := (nI_eq (by omega) (by omega)).mp (Decidable.not_not.mp hq)
        have he : oSave e (ts, tx, os, ou, rc, re, EE, K, kT, R, pl, ip, to, pn, px, pf) = (-2, (ts, tx, os, ou, rc, re, EE, K, kT, R, pl, ip, to, pn, px, pf)) := by
          show (if _ then _ else if _ then _ else _) = _
          rw [if_neg (fun q => q ⟨i1, i2⟩), if_pos hq]
        refine g_bipush (v := (-2)) (q := 26) C d_T_save_24 rfl (by decide) ?_
        exact g_iret C F d_T_save_26 (Nat.le_refl _) (Nat.le_refl _) ⟨_, _, _, rfl, rfl, by rw [he], by rw [he]; exact hS.thrown⟩
    · exact absurd (by decide) hz
  · refine g_if_ne (q := 14) (tgt := 16) C d_T_save_11 rfl (by decide) (fun hz => ?_) (fun hz => ?_)
    · exact absurd rfl hz
    have he : oSave e (ts, tx, os, ou, rc, re, EE, K, kT, R, pl, ip, to, pn, px, pf) = (-1, (ts, tx, os, ou, rc, re, EE, K, kT, R, pl, ip, to, pn, px, pf)) := if_pos hno
    refine g_iconst (v := (-1)) (q := 15) C d_T_save_14 rfl (by decide) ?_
    exact g_iret C F d_T_save_15 (Nat.le_refl _) (Nat.le_refl _) ⟨_, _, _, rfl, rfl, by rw [he], by rw [he]; exact hS.thrown⟩
theorem c_T_restore {e k : Int32} (hS : MW ord room f g S) : Ct l Γ y_T_restore b_T_restore 3 (some .int) 1 0 0 [.ref o, .int e, .int k] (tw Γ o ad f g) (pi Γ o ad (fun x f' g' => x = (oRestore e k S).1 ∧ MW ord room f' g' (oRestore e k S).2)) := by
  obtain ⟨ts, tx, os, ou, rc, re, EE, K, kT, R, pl, ip, to, pn, px, pf⟩ := S
  obtain ⟨h1, h2, h3, h4, h5, h6, h7, h8, h9⟩ := id hS
  have hK := h6.2.1
  refine Ct.of (by decide) (by simp [Value.category]) (Nat.le_of_ble_eq_true rfl) (fun E eG el en C hR F hnm => ?_)
  subst eG
  subst el
  have hL : 3 ≤ xn E := Nat.le_of_eq en.symm
  show G E 0 0 0 [some (.ref o), some (.int e), some (.int k)] [] (tw (xG E) o ad f g)
  have h28 : (¬ isE e ∨ ¬ (nI 0 ≤ k ∧ k ≤ nI K - nI 1)) → G E 0 0 28 [some (.ref o), some (.int e), some (.int k)] [] (tw (xG E) o ad (upd f 0 (nI 0)) g) := by
    intro hno
    have he : oRestore e k (ts, tx, os, ou, rc, re, EE, K, kT, R, pl, ip, to, pn, px, pf) = (-1, (ts, tx, os, ou, rc, re, EE, K, kT, R, pl, ip, to, pn, px, pf)) := if_pos hno
    refine g_iconst (v := (-1)) (q := 29) C d_T_restore_28 rfl (by decide) ?_
    exact g_iret C F d_T_restore_29 (Nat.le_refl _) (Nat.le_refl _) ⟨_, _, _, rfl, rfl, by rw [he], by rw [he]; exact hS.thrown⟩
  refine g_aload_0 (q := 1) C d_T_restore_0 rfl ?_
  refine g_iconst (v := nI 0) (q := 2) C d_T_restore_1 rfl (by decide) ?_
  refine tp_82 (q := 5) C d_T_restore_2 rfl ?_
  refine g_iload_1 (q := 6) C d_T_restore_5 rfl ?_
  refine g_iconst (v := nI 0) (q := 7) C d_T_restore_6 rfl (by decide) ?_
  refine g_iconst (v := nI 1) (q := 8) C d_T_restore_7 rfl (by decide) ?_
  refine tc_88 (q := 11) C hR (c_T_in _ _ _) d_T_restore_8 rfl (by decide) (by decide) (by decide) (Nat.le_of_ble_eq_true rfl) (fun x hx => ?_)
  rcases hx with ⟨i1, i2, rfl⟩ | ⟨hno, rfl⟩
  · refine g_if_eq (q := 14) (tgt := 28) C d_T_restore_11 rfl (by decide) (fun hz => ?_) (fun hz => ?_)
    · exact absurd hz (by decide)
    refine g_iload_2 (q := 15) C d_T_restore_14 rfl ?_
    refine g_iconst (v := nI 0) (q := 16) C d_T_restore_15 rfl (by decide) ?_
    refine g_aload_0 (q := 17) C d_T_restore_16 rfl ?_
    refine tg_228 (q := 20) C d_T_restore_17 rfl h6.1 ?_
    refine g_iconst (v := nI 1) (q := 21) C d_T_restore_20 rfl (by decide) ?_
    refine g_isub (q := 22) C d_T_restore_21 rfl rfl ?_
    refine tc_88 (q := 25) C hR (c_T_in _ _ _) d_T_restore_22 rfl (by decide) (by decide) (by decide) (Nat.le_of_ble_eq_true rfl) (fun x hx => ?_)
    rcases hx with ⟨k1, k2, rfl⟩ | ⟨hno, rfl⟩
    · refine g_if_ne (q := 28) (tgt := 30) C d_T_restore_25 rfl (by decide) (fun hz => ?_) (fun hz => ?_)
      · have he : oRestore e k (ts, tx, os, ou, rc, re, EE, K, kT, R, pl, ip, to, pn, px, pf) = (nI (tN (kT (cl k))), (ts, tx, os, ou, rc, re, upT EE (cl e) (kT (cl k)), K, kT, R, pl, ip, to, pn, px, pf)) := if_neg (fun q => by rcases q with q | q; exact q ⟨i1, i2⟩; exact q ⟨k1, k2⟩)
        obtain ⟨j, hj, rfl⟩ := ix_of2 (n := 1) (by decide) ⟨i1, i2⟩
        obtain ⟨c, hc, rfl⟩ := ix_of (n := K) (by omega) ⟨k1, k2⟩
        rw [cl_nI (by omega), cl_nI (by omega)] at he
        obtain ⟨hT, hI⟩ := h6.2.2 c hc
        refine g_aload_0 (q := 31) C d_T_restore_30 rfl ?_
        refine g_iconst (v := nI 3) (q := 32) C d_T_restore_31 rfl (by decide) ?_
        refine g_iload_2 (q := 33) C d_T_restore_32 rfl ?_
        refine g_iadd (q := 34) C d_T_restore_33 rfl (nI_add _ _) ?_
        refine g_iload_1 (q := 35) C d_T_restore_34 rfl ?_
        refine tc_219 (q := 38) C hR (c_T_copy (m := 3 + c) (m2 := j) (by omega) (by omega) (by omega) hT hI.1) d_T_restore_35 rfl (by decide) (by decide) (by decide) (Nat.le_of_ble_eq_true rfl) (fun f2 g2 hp => ?_)
        obtain ⟨hF2, hB2, hT2⟩ := hp
        refine g_aload_0 (q := 39) C d_T_restore_38 rfl ?_
        refine tg_19 (q := 42) C d_T_restore_39 rfl ?_
        refine g_iload_1 (q := 43) C d_T_restore_42 rfl ?_
        refine ta_3 (q := 44) C d_T_restore_43 rfl rfl (by omega) hT2.1 ?_
        refine g_iret C F d_T_restore_44 (Nat.le_refl _) (Nat.le_refl _) ⟨_, _, _, rfl, rfl, by rw [he], ?_⟩
        rw [he]
        exact hS.setE (by omega) hI hT2 (fun k hk => by rw [hF2.1 k (by simp)]; exact upd_n (fun e => by subst e; revert hk; decide)) (fun j hj => hF2.2 j (by intro q; revert hj; revert q; simp; omega)) hB2
      · exact absurd (by decide) hz
    · refine g_if_ne (q := 28) (tgt := 30) C d_T_restore_25 rfl (by decide) (fun hz => ?_) (fun hz => ?_)
      · exact absurd rfl hz
      · exact h28 (Or.inr hno)
  · refine g_if_eq (q := 14) (tgt := 28) C d_T_restore_11 rfl (by decide) (fun hz => ?_) (fun hz => ?_)
    · exact h28 (Or.inl hno)
    · exact absurd rfl hz
end
