/-! PpmTrees: the calls that look at the trees -/
theorem xe_m {E : Ev} {cc : ByteArray} {k n pc q x m : Nat} {lv : LV} {st : List Value} {A : Nat → Nat} {f : Nat → Int32} {g : Nat → Nat → Int32} {wr : va_W} (C : Cx E "PpmTrees" cc) (hd : decode cc pc = .ok (.aaload, 1)) (hq : pc + 1 = q) (hm : m < 2) (kk : G E k n q lv (.ref (A (17 + m)) :: st) (xw (xG E) x A f g ++ wr)) : G E k n pc lv (.int (nI m) :: .ref (A 1) :: st) (xw (xG E) x A f g ++ wr) := by
  rcases (show m = 0 ∨ m = 1 by omega) with rfl | rfl
  · exact xe_0 C hd hq kk
  · exact xe_1 C hd hq kk
theorem XA.keep {f f' : Nat → Int32} {g g' : Nat → Nat → Int32} {S : Sg} (h : XA f g S) (hF : Fr [0, 1, 2] [0] f f' g g') : XA f' g' S := by
  obtain ⟨ts, tx, os, ou, rc, re, EE, K, kT, R, pl, ip, to, pn, px, pf⟩ := S
  obtain ⟨h2, h3, h4, h7, h8, h9⟩ := h
  refine ⟨?_, h3.keep (hF.1 4 (by decide)) (hF.2 4 (by decide)), ?_, ?_, ?_, ?_⟩
  · rw [hF.1 3 (by decide), hF.2 3 (by decide)]; exact h2
  · rw [hF.1 5 (by decide), hF.2 5 (by decide)]; exact h4
  · rw [hF.2 2 (by decide)]; exact h7
  · rw [hF.1 6 (by decide)]; exact h8
  · rw [hF.1 7 (by decide), hF.1 11 (by decide), hF.1 8 (by decide), hF.1 9 (by decide), hF.1 10 (by decide), hF.2 7 (by decide), hF.2 8 (by decide)]; exact h9
section
variable {l : Launch} {Γ : Gl} {x m ord rm : Nat} {A b b2 : Nat → Nat} {f fm fm2 : Nat → Int32} {g gm gm2 : Nat → Nat → Int32} {T T2 : Tr}
theorem c_X_nodes (hm : m < 2) (hM : MR fm gm ord rm T) : Ct l Γ y_X_nodes b_X_nodes 2 (some .int) 2 0 0 [.ref x, .int (nI m)] (bw [xw Γ x A f g, mw Γ (A (17 + m)) b rm fm gm]) (fun r w => r = some (.int (nI (tN T))) ∧ w = bw [xw Γ x A f g, mw Γ (A (17 + m)) b rm fm gm]) := by
  obtain ⟨⟨M0, M1, M2, M3⟩, -, MRw, MF, M5⟩ := id hM
  refine Ct.of (by decide) (by simp [Value.category]) (Nat.le_of_ble_eq_true rfl) (fun E eG el en C hR F hnm => ?_)
  subst eG
  subst el
  have hL : 2 ≤ xn E := Nat.le_of_eq en.symm
  show G E 0 0 0 [some (.ref x), some (.int (nI m))] [] (bw [xw (xG E) x A f g, mw (xG E) (A (17 + m)) b rm fm gm])
  refine g_iload_1 (q := 1) C d_X_nodes_0 rfl ?_
  refine xc_239 (q := 4) (wc := []) (wr := bw [xw (xG E) x A f g, mw (xG E) (A (17 + m)) b rm fm gm]) C hR c_X_isEnd d_X_nodes_1 rfl (by decide) (by decide) (by decide) (Nat.le_of_ble_eq_true rfl) (fun v ws' hp => ?_)
  obtain ⟨rfl, ⟨rfl, i1⟩ | ⟨rfl, hno⟩⟩ := hp
  · show G E 0 0 4 _ [.int (nI 1)] (bw [xw (xG E) x A f g, mw (xG E) (A (17 + m)) b rm fm gm])
    refine g_if_eq (q := 7) (tgt := 19) C d_X_nodes_4 rfl (by decide) (fun hz => ?_) (fun hz => ?_)
    · exact absurd hz (by decide)
    refine g_aload_0 (q := 8) C d_X_nodes_7 rfl ?_
    refine xg_73 (q := 11) C d_X_nodes_8 rfl ?_
    refine g_iload_1 (q := 12) C d_X_nodes_11 rfl ?_
    refine xe_m (q := 13) C d_X_nodes_12 rfl hm ?_
    refine xm_243 (q := 16) C d_X_nodes_13 rfl M2 ?_
    refine g_goto (tgt := 20) C d_X_nodes_16 (by decide) ?_
    exact g_iret C F d_X_nodes_20 (Nat.le_refl _) (Nat.le_refl _) ⟨rfl, rfl⟩
  · exact absurd ⟨nI_le (Nat.zero_le _) (by omega), nI_le (by omega) (by decide)⟩ hno
theorem c_X_nodes_no {e : Int32} (he : ¬ isE e) : Ct l Γ y_X_nodes b_X_nodes 2 (some .int) 2 0 0 [.ref x, .int e] (bw [xw Γ x A f g]) (fun r w => r = some (.int (-1)) ∧ w = bw [xw Γ x A f g]) := by
  refine Ct.of (by decide) (by simp [Value.category]) (Nat.le_of_ble_eq_true rfl) (fun E eG el en C hR F hnm => ?_)
  subst eG
  subst el
  have hL : 2 ≤ xn E := Nat.le_of_eq en.symm
  show G E 0 0 0 [some (.ref x), some (.int e)] [] (bw [xw (xG E) x A f g])
  refine g_iload_1 (q := 1) C d_X_nodes_0 rfl ?_
  refine xc_239 (q := 4) (wc := []) (wr := bw [xw (xG E) x A f g]) C hR c_X_isEnd d_X_nodes_1 rfl (by decide) (by decide) (by decide) (Nat.le_of_ble_eq_true rfl) (fun v ws' hp => ?_)
  obtain ⟨rfl, ⟨rfl, i1⟩ | ⟨rfl, hno⟩⟩ := hp
  · exact absurd i1 he
  · show G E 0 0 4 _ [.int (nI 0)] (bw [xw (xG E) x A f g])
    refine g_if_eq (q := 7) (tgt := 19) C d_X_nodes_4 rfl (by decide) (fun hz => ?_) (fun hz => ?_)
    · refine g_iconst (v := (-1)) (q := 20) C d_X_nodes_19 rfl (by decide) ?_
      exact g_iret C F d_X_nodes_20 (Nat.le_refl _) (Nat.le_refl _) ⟨rfl, rfl⟩
    · exact absurd rfl hz
theorem isE_nI {m : Nat} (hm : m < 2) : isE (nI m) := ⟨nI_le (Nat.zero_le _) (by omega), nI_le (by omega) (by decide)⟩
theorem c_X_latest {i : Int32} (hm : m < 2) (hM : MR fm gm ord rm T) (hI : TI ord rm T) : Ct l Γ y_X_latest b_X_latest 3 (some .int) 2 0 0 [.ref x, .int (nI m), .int i] (bw [xw Γ x A f g, mw Γ (A (17 + m)) b rm fm gm]) (fun r w => r = some (.int (if nI 0 ≤ i ∧ i ≤ nI (tL T) - nI 1 then nI (tE T (cl i)) else -1)) ∧ w = bw [xw Γ x A f g, mw Γ (A (17 + m)) b rm fm gm]) := by
  obtain ⟨⟨M0, M1, M2, M3⟩, -, MRw, MF, M5⟩ := id hM
  have hl4 := hI.l
  refine Ct.of (by decide) (by simp [Value.category]) (Nat.le_of_ble_eq_true rfl) (fun E eG el en C hR F hnm => ?_)
  subst eG
  subst el
  have hL : 3 ≤ xn E := Nat.le_of_eq en.symm
  show G E 0 0 0 [some (.ref x), some (.int (nI m)), some (.int i)] [] (bw [xw (xG E) x A f g, mw (xG E) (A (17 + m)) b rm fm gm])
  refine g_iload_1 (q := 1) C d_X_latest_0 rfl ?_
  refine xc_239 (q := 4) (wc := []) (wr := bw [xw (xG E) x A f g, mw (xG E) (A (17 + m)) b rm fm gm]) C hR c_X_isEnd d_X_latest_1 rfl (by decide) (by decide) (by decide) (Nat.le_of_ble_eq_true rfl) (fun v ws' hp => ?_)
  obtain ⟨rfl, ⟨rfl, i1⟩ | ⟨rfl, hno⟩⟩ := hp
  · show G E 0 0 4 _ [.int (nI 1)] (bw [xw (xG E) x A f g, mw (xG E) (A (17 + m)) b rm fm gm])
    refine g_if_eq (q := 7) (tgt := 40) C d_X_latest_4 rfl (by decide) (fun hz => ?_) (fun hz => ?_)
    · exact absurd hz (by decide)
    refine g_iload_2 (q := 8) C d_X_latest_7 rfl ?_
    refine g_iconst (v := nI 0) (q := 9) C d_X_latest_8 rfl (by decide) ?_
    refine g_aload_0 (q := 10) C d_X_latest_9 rfl ?_
    refine xg_73 (q := 13) C d_X_latest_10 rfl ?_
    refine g_iload_1 (q := 14) C d_X_latest_13 rfl ?_
    refine xe_m (q := 15) C d_X_latest_14 rfl hm ?_
    refine xm_26 (q := 18) C d_X_latest_15 rfl M3 ?_
    refine g_iconst (v := nI 1) (q := 19) C d_X_latest_18 rfl (by decide) ?_
    refine g_isub (q := 20) C d_X_latest_19 rfl rfl ?_
    refine xc_163 (q := 23) (wc := []) (wr := bw [xw (xG E) x A f g, mw (xG E) (A (17 + m)) b rm fm gm]) C hR c_X_isIn d_X_latest_20 rfl (by decide) (by decide) (by decide) (Nat.le_of_ble_eq_true rfl) (fun v ws' hp => ?_)
    obtain ⟨rfl, ⟨rfl, j1, j2⟩ | ⟨rfl, hno⟩⟩ := hp
    · show G E 0 0 23 _ [.int (nI 1)] (bw [xw (xG E) x A f g, mw (xG E) (A (17 + m)) b rm fm gm])
      refine g_if_eq (q := 26) (tgt := 40) C d_X_latest_23 rfl (by decide) (fun hz => ?_) (fun hz => ?_)
      · exact absurd hz (by decide)
      have hd : (if nI 0 ≤ i ∧ i ≤ nI (tL T) - nI 1 then nI (tE T (cl i)) else -1) = nI (tE T (cl i)) := if_pos ⟨j1, j2⟩
      obtain ⟨j, hj, rfl⟩ := ix_of (n := tL T) (by omega) ⟨j1, j2⟩
      rw [cl_nI (by omega)] at hd
      refine g_aload_0 (q := 27) C d_X_latest_26 rfl ?_
      refine xg_73 (q := 30) C d_X_latest_27 rfl ?_
      refine g_iload_1 (q := 31) C d_X_latest_30 rfl ?_
      refine xe_m (q := 32) C d_X_latest_31 rfl hm ?_
      refine xm_251 (q := 35) C d_X_latest_32 rfl ?_
      refine g_iload_2 (q := 36) C d_X_latest_35 rfl ?_
      refine xma_5 (q := 37) C d_X_latest_36 rfl rfl (by omega) (M5 j hj) ?_
      refine g_goto (tgt := 41) C d_X_latest_37 (by decide) ?_
      exact g_iret C F d_X_latest_41 (Nat.le_refl _) (Nat.le_refl _) ⟨by rw [cl_nI (by omega), hd], rfl⟩
    · show G E 0 0 23 _ [.int (nI 0)] (bw [xw (xG E) x A f g, mw (xG E) (A (17 + m)) b rm fm gm])
      refine g_if_eq (q := 26) (tgt := 40) C d_X_latest_23 rfl (by decide) (fun hz => ?_) (fun hz => ?_)
      · refine g_iconst (v := (-1)) (q := 41) C d_X_latest_40 rfl (by decide) ?_
        exact g_iret C F d_X_latest_41 (Nat.le_refl _) (Nat.le_refl _) ⟨by rw [if_neg hno], rfl⟩
      · exact absurd rfl hz
  · exact absurd (isE_nI hm) hno
theorem c_X_latest_no {e i : Int32} (he : ¬ isE e) : Ct l Γ y_X_latest b_X_latest 3 (some .int) 2 0 0 [.ref x, .int e, .int i] (bw [xw Γ x A f g]) (fun r w => r = some (.int (-1)) ∧ w = bw [xw Γ x A f g]) := by
  refine Ct.of (by decide) (by simp [Value.category]) (Nat.le_of_ble_eq_true rfl) (fun E eG el en C hR F hnm => ?_)
  subst eG
  subst el
  have hL : 3 ≤ xn E := Nat.le_of_eq en.symm
  show G E 0 0 0 [some (.ref x), some (.int e), some (.int i)] [] (bw [xw (xG E) x A f g])
  refine g_iload_1 (q := 1) C d_X_latest_0 rfl ?_
  refine xc_239 (q := 4) (wc := []) (wr := bw [xw (xG E) x A f g]) C hR c_X_isEnd d_X_latest_1 rfl (by decide) (by decide) (by decide) (Nat.le_of_ble_eq_true rfl) (fun v ws' hp => ?_)
  obtain ⟨rfl, ⟨rfl, i1⟩ | ⟨rfl, hno⟩⟩ := hp
  · exact absurd i1 he
  · show G E 0 0 4 _ [.int (nI 0)] (bw [xw (xG E) x A f g])
    refine g_if_eq (q := 7) (tgt := 40) C d_X_latest_4 rfl (by decide) (fun hz => ?_) (fun hz => ?_)
    · refine g_iconst (v := (-1)) (q := 41) C d_X_latest_40 rfl (by decide) ?_
      exact g_iret C F d_X_latest_41 (Nat.le_refl _) (Nat.le_refl _) ⟨rfl, rfl⟩
    · exact absurd rfl hz
theorem c_X_reset (hm : m < 2) (hM : MR fm gm ord rm T) (hI : TI ord rm T) : Ct l Γ y_X_reset b_X_reset 3 (some .int) 2 0 0 [.ref x, .int (nI m)] (bw [xw Γ x A f g, mw Γ (A (17 + m)) b rm fm gm]) (fun r w => r = some (.int (nI (tN T))) ∧ ∃ fm' gm', w = bw [xw Γ x A f g, mw Γ (A (17 + m)) b rm fm' gm'] ∧ MR fm' gm' ord rm (rs T)) := by
  obtain ⟨⟨M0, M1, M2, M3⟩, M4, MRw, MF, M5⟩ := id hM
  refine Ct.of (by decide) (by simp [Value.category]) (Nat.le_of_ble_eq_true rfl) (fun E eG el en C hR F hnm => ?_)
  subst eG
  subst el
  have hL : 3 ≤ xn E := Nat.le_of_eq en.symm
  show G E 0 0 0 [some (.ref x), some (.int (nI m)), none] [] (bw [xw (xG E) x A f g, mw (xG E) (A (17 + m)) b rm fm gm])
  refine g_iload_1 (q := 1) C d_X_reset_0 rfl ?_
  refine xc_239 (q := 4) (wc := []) (wr := bw [xw (xG E) x A f g, mw (xG E) (A (17 + m)) b rm fm gm]) C hR c_X_isEnd d_X_reset_1 rfl (by decide) (by decide) (by decide) (Nat.le_of_ble_eq_true rfl) (fun v ws' hp => ?_)
  obtain ⟨rfl, ⟨rfl, i1⟩ | ⟨rfl, hno⟩⟩ := hp
  · show G E 0 0 4 _ [.int (nI 1)] (bw [xw (xG E) x A f g, mw (xG E) (A (17 + m)) b rm fm gm])
    refine g_if_ne (q := 7) (tgt := 9) C d_X_reset_4 rfl (by decide) (fun hz => ?_) (fun hz => ?_)
    · refine g_aload_0 (q := 10) C d_X_reset_9 rfl ?_
      refine xg_73 (q := 13) C d_X_reset_10 rfl ?_
      refine g_iload_1 (q := 14) C d_X_reset_13 rfl ?_
      refine xe_m (q := 15) C d_X_reset_14 rfl hm ?_
      refine xm_243 (q := 18) C d_X_reset_15 rfl M2 ?_
      refine g_istore_2 (q := 19) C hL d_X_reset_18 rfl ?_
      refine g_aload_0 (q := 20) C d_X_reset_19 rfl ?_
      refine xg_73 (q := 23) C d_X_reset_20 rfl ?_
      refine g_iload_1 (q := 24) C d_X_reset_23 rfl ?_
      refine xe_m (q := 25) C d_X_reset_24 rfl hm ?_
      refine g_blk (Bs := [xw (xG E) x A f g, mw (xG E) (A (17 + m)) b rm fm gm]) (Bs' := [mw (xG E) (A (17 + m)) b rm fm gm, xw (xG E) x A f g]) [1, 0] (nB := 2) rfl rfl (by decide) ?_
      refine xc_254 (q := 28) (fs := mfs b fm) (wr := bw [xw (xG E) x A f g]) C hR (c_Mo_begin hI.1.2.2.1 hI.1.2.2.2.1 M0 M1 M4.2.2) rfl d_X_reset_25 rfl (by decide) (by decide) (by decide) (Nat.le_of_ble_eq_true rfl) (fun v ws' hp => ?_)
      obtain ⟨rfl, f', g', rfl, hM'⟩ := hp
      refine g_blk (Bs := [mw (xG E) (A (17 + m)) b rm f' g', xw (xG E) x A f g]) (Bs' := [xw (xG E) x A f g, mw (xG E) (A (17 + m)) b rm f' g']) [1, 0] (nB := 2) rfl rfl (by decide) ?_
      show G E 0 0 28 _ [] (bw [xw (xG E) x A f g, mw (xG E) (A (17 + m)) b rm f' g'])
      refine g_iload_2 (q := 29) C d_X_reset_28 rfl ?_
      exact g_iret C F d_X_reset_29 (Nat.le_refl _) (Nat.le_refl _) ⟨rfl, f', g', rfl, hM' T⟩
    · exact absurd (by decide) hz
  · exact absurd (isE_nI hm) hno
theorem c_X_reset_no {e : Int32} (he : ¬ isE e) : Ct l Γ y_X_reset b_X_reset 3 (some .int) 2 0 0 [.ref x, .int e] (bw [xw Γ x A f g]) (fun r w => r = some (.int (-1)) ∧ w = bw [xw Γ x A f g]) := by
  refine Ct.of (by decide) (by simp [Value.category]) (Nat.le_of_ble_eq_true rfl) (fun E eG el en C hR F hnm => ?_)
  subst eG
  subst el
  have hL : 3 ≤ xn E := Nat.le_of_eq en.symm
  show G E 0 0 0 [some (.ref x), some (.int e), none] [] (bw [xw (xG E) x A f g])
  refine g_iload_1 (q := 1) C d_X_reset_0 rfl ?_
  refine xc_239 (q := 4) (wc := []) (wr := bw [xw (xG E) x A f g]) C hR c_X_isEnd d_X_reset_1 rfl (by decide) (by decide) (by decide) (Nat.le_of_ble_eq_true rfl) (fun v ws' hp => ?_)
  obtain ⟨rfl, ⟨rfl, i1⟩ | ⟨rfl, hno⟩⟩ := hp
  · exact absurd i1 he
  · show G E 0 0 4 _ [.int (nI 0)] (bw [xw (xG E) x A f g])
    refine g_if_ne (q := 7) (tgt := 9) C d_X_reset_4 rfl (by decide) (fun hz => ?_) (fun hz => ?_)
    · exact absurd rfl hz
    refine g_iconst (v := (-1)) (q := 8) C d_X_reset_7 rfl (by decide) ?_
    exact g_iret C F d_X_reset_8 (Nat.le_refl _) (Nat.le_refl _) ⟨rfl, rfl⟩
theorem c_X_equal (hM : MR fm gm ord rm T) (hI : TI ord rm T) (hM2 : MR fm2 gm2 ord rm T2) (hI2 : TI ord rm T2) : Ct l Γ y_X_equal b_X_equal 1 (some .int) 2 0 0 [.ref x] (bw [xw Γ x A f g, mw Γ (A 17) b rm fm gm, mw Γ (A 18) b2 rm fm2 gm2]) (fun r w => ∃ z, r = some (.int z) ∧ ((eqT T T2 ∧ z = nI 1) ∨ (¬ eqT T T2 ∧ z = nI 0)) ∧ w = bw [xw Γ x A f g, mw Γ (A 17) b rm fm gm, mw Γ (A 18) b2 rm fm2 gm2]) := by
  refine Ct.of (by decide) (by simp [Value.category]) (Nat.le_of_ble_eq_true rfl) (fun E eG el en C hR F hnm => ?_)
  subst eG
  subst el
  have hL : 1 ≤ xn E := Nat.le_of_eq en.symm
  show G E 0 0 0 [some (.ref x)] [] (bw [xw (xG E) x A f g, mw (xG E) (A 17) b rm fm gm, mw (xG E) (A 18) b2 rm fm2 gm2])
  refine g_aload_0 (q := 1) C d_X_equal_0 rfl ?_
  refine xg_73 (q := 4) C d_X_equal_1 rfl ?_
  refine g_iconst (v := nI 0) (q := 5) C d_X_equal_4 rfl (by decide) ?_
  refine xe_0 (q := 6) C d_X_equal_5 rfl ?_
  refine g_aload_0 (q := 7) C d_X_equal_6 rfl ?_
  refine xg_73 (q := 10) C d_X_equal_7 rfl ?_
  refine g_iconst (v := nI 1) (q := 11) C d_X_equal_10 rfl (by decide) ?_
  refine xe_1 (q := 12) C d_X_equal_11 rfl ?_
  refine g_blk (Bs := [xw (xG E) x A f g, mw (xG E) (A 17) b rm fm gm, mw (xG E) (A 18) b2 rm fm2 gm2]) (Bs' := [mw (xG E) (A 17) b rm fm gm, mw (xG E) (A 18) b2 rm fm2 gm2, xw (xG E) x A f g]) [1, 2, 0] (nB := 3) rfl rfl (by decide) ?_
  refine g_ws (ws' := (mw (xG E) (A 17) b rm fm gm ++ mw (xG E) (A 18) b2 rm fm2 gm2) ++ bw [xw (xG E) x A f g]) (List.append_assoc _ _ _).symm ?_
  refine xc_255 (q := 15) (fs := mfs b fm) C hR (c_Mo_isLike hM hI hM2 hI2) rfl d_X_equal_12 rfl (by decide) (by decide) (by decide) (Nat.le_of_ble_eq_true rfl) (fun v ws' hp => ?_)
  obtain ⟨z, rfl, rfl, hz⟩ := hp
  refine g_ws (ws' := bw [mw (xG E) (A 17) b rm fm gm, mw (xG E) (A 18) b2 rm fm2 gm2, xw (xG E) x A f g]) (List.append_assoc _ _ _) ?_
  refine g_blk (Bs := [mw (xG E) (A 17) b rm fm gm, mw (xG E) (A 18) b2 rm fm2 gm2, xw (xG E) x A f g]) (Bs' := [xw (xG E) x A f g, mw (xG E) (A 17) b rm fm gm, mw (xG E) (A 18) b2 rm fm2 gm2]) [2, 0, 1] (nB := 3) rfl rfl (by decide) ?_
  show G E 0 0 15 _ [.int z] (bw [xw (xG E) x A f g, mw (xG E) (A 17) b rm fm gm, mw (xG E) (A 18) b2 rm fm2 gm2])
  refine g_if_eq (q := 18) (tgt := 22) C d_X_equal_15 rfl (by decide) (fun hq => ?_) (fun hq => ?_)
  · refine g_iconst (v := nI 0) (q := 23) C d_X_equal_22 rfl (by decide) ?_
    refine g_iret C F d_X_equal_23 (Nat.le_refl _) (Nat.le_refl _) ⟨nI 0, rfl, ?_, rfl⟩
    rcases hz with ⟨h1, h2⟩ | ⟨h1, h2⟩
    · rw [h2] at hq; exact absurd hq (by decide)
    · exact Or.inr ⟨h1, rfl⟩
  · refine g_iconst (v := nI 1) (q := 19) C d_X_equal_18 rfl (by decide) ?_
    refine g_goto (tgt := 23) C d_X_equal_19 (by decide) ?_
    refine g_iret C F d_X_equal_23 (Nat.le_refl _) (Nat.le_refl _) ⟨nI 1, rfl, ?_, rfl⟩
    rcases hz with ⟨h1, h2⟩ | ⟨h1, h2⟩
    · exact Or.inl ⟨h1, rfl⟩
    · rw [h2] at hq; exact absurd (by decide) hq
theorem c_X_cost {c os : Nat} {ou : Nat → Nat} {s0 : Int32} (hm : m < 2) (hc : c ≤ 256) (hO : XO f g ou os) (hM : MR fm gm ord rm T) (hI : TI ord rm T) : Ct l Γ y_X_cost b_X_cost 4 (some .int) 8 0 0 [.ref x, .int (nI m), .int (nI c)] (bw [xw Γ x A f g, mw Γ (A (17 + m)) b rm fm gm, sw (A 16) s0]) (fun r w => r = some (.int (nI (cst (tell T c).1))) ∧ ∃ f' g' s', w = bw [xw Γ x A f' g', mw Γ (A (17 + m)) b rm fm gm, sw (A 16) s'] ∧ Fr [0, 1, 2] [0] f f' g g') := by
  refine Ct.of (by decide) (by simp [Value.category]) (Nat.le_of_ble_eq_true rfl) (fun E eG el en C hR F hnm => ?_)
  subst eG
  subst el
  have hL : 4 ≤ xn E := Nat.le_of_eq en.symm
  show G E 0 0 0 [some (.ref x), some (.int (nI m)), some (.int (nI c)), none] [] (bw [xw (xG E) x A f g, mw (xG E) (A (17 + m)) b rm fm gm, sw (A 16) s0])
  refine g_iload_1 (q := 1) C d_X_cost_0 rfl ?_
  refine xc_239 (q := 4) (wc := []) (wr := bw [xw (xG E) x A f g, mw (xG E) (A (17 + m)) b rm fm gm, sw (A 16) s0]) C hR c_X_isEnd d_X_cost_1 rfl (by decide) (by decide) (by decide) (Nat.le_of_ble_eq_true rfl) (fun v ws' hp => ?_)
  obtain ⟨rfl, ⟨rfl, i1⟩ | ⟨rfl, hno⟩⟩ := hp
  · show G E 0 0 4 _ [.int (nI 1)] (bw [xw (xG E) x A f g, mw (xG E) (A (17 + m)) b rm fm gm, sw (A 16) s0])
    refine g_if_eq (q := 7) (tgt := 18) C d_X_cost_4 rfl (by decide) (fun hz => ?_) (fun hz => ?_)
    · exact absurd hz (by decide)
    refine g_iload_2 (q := 8) C d_X_cost_7 rfl ?_
    refine g_iconst (v := nI 0) (q := 9) C d_X_cost_8 rfl (by decide) ?_
    refine g_sipush (v := nI 256) (q := 12) C d_X_cost_9 rfl (by decide) ?_
    refine xc_163 (q := 15) (wc := []) (wr := bw [xw (xG E) x A f g, mw (xG E) (A (17 + m)) b rm fm gm, sw (A 16) s0]) C hR c_X_isIn d_X_cost_12 rfl (by decide) (by decide) (by decide) (Nat.le_of_ble_eq_true rfl) (fun v ws' hp => ?_)
    obtain ⟨rfl, ⟨rfl, j1, j2⟩ | ⟨rfl, hno⟩⟩ := hp
    · show G E 0 0 15 _ [.int (nI 1)] (bw [xw (xG E) x A f g, mw (xG E) (A (17 + m)) b rm fm gm, sw (A 16) s0])
      refine g_if_ne (q := 18) (tgt := 20) C d_X_cost_15 rfl (by decide) (fun hz => ?_) (fun hz => ?_)
      · refine g_aload_0 (q := 21) C d_X_cost_20 rfl ?_
        refine xg_145 (q := 24) C d_X_cost_21 rfl ?_
        refine g_blk (Bs := [xw (xG E) x A f g, mw (xG E) (A (17 + m)) b rm fm gm, sw (A 16) s0]) (Bs' := [xw (xG E) x A f g, sw (A 16) s0, mw (xG E) (A (17 + m)) b rm fm gm]) [0, 2, 1] (nB := 3) rfl rfl (by decide) ?_
        refine g_iconst (v := nI 0) (q := 25) C d_X_cost_24 rfl (by decide) ?_
        refine xsp (q := 28) C d_X_cost_25 rfl ?_
        refine g_aload_0 (q := 29) C d_X_cost_28 rfl ?_
        refine g_aload_0 (q := 30) C d_X_cost_29 rfl ?_
        refine xg_73 (q := 33) C d_X_cost_30 rfl ?_
        refine g_iload_1 (q := 34) C d_X_cost_33 rfl ?_
        refine xe_m (q := 35) C d_X_cost_34 rfl hm ?_
        refine g_iload_2 (q := 36) C d_X_cost_35 rfl ?_
        refine g_aload_0 (q := 37) C d_X_cost_36 rfl ?_
        refine xg_145 (q := 40) C d_X_cost_37 rfl ?_
        refine g_blk (Bs := [xw (xG E) x A f g, sw (A 16) (nI 0), mw (xG E) (A (17 + m)) b rm fm gm]) (Bs' := [xw (xG E) x A f g, mw (xG E) (A (17 + m)) b rm fm gm, sw (A 16) (nI 0)]) [0, 2, 1] (nB := 3) rfl rfl (by decide) ?_
        refine g_ws (ws' := bw [xw (xG E) x A f g, mw (xG E) (A (17 + m)) b rm fm gm, sw (A 16) (nI 0)] ++ []) (List.append_nil _).symm ?_
        refine xc_191 (q := 43) (fs := xfs A f) C hR (c_X_tell (TK_3 (x := x) (A := A) (out := ou) (os := os)) hO hM hI (s := 0) (w := bw [sw (A 16) (nI 0)]) rfl hc (TKI_3 hc) rfl) rfl d_X_cost_40 rfl (by decide) (by decide) (by decide) (Nat.le_of_ble_eq_true rfl) (fun v ws' hp => ?_)
        obtain ⟨rfl, f', g', w2, hQ, rfl, hF, -, -, -⟩ := hp
        rw [fold3, Nat.zero_add] at hQ
        subst hQ
        refine g_ws (ws' := bw [xw (xG E) x A f' g', mw (xG E) (A (17 + m)) b rm fm gm, sw (A 16) (nI (cst (tell T c).1))]) (List.append_nil _) ?_
        show G E 0 0 43 _ [.int (nI c)] (bw [xw (xG E) x A f' g', mw (xG E) (A (17 + m)) b rm fm gm, sw (A 16) (nI (cst (tell T c).1))])
        refine g_istore_3 (q := 44) C hL d_X_cost_43 rfl ?_
        refine g_iload_3 (q := 45) C d_X_cost_44 rfl ?_
        refine g_iload_2 (q := 46) C d_X_cost_45 rfl ?_
        refine g_icmp_ne (q := 49) (tgt := 59) C d_X_cost_46 rfl (by decide) (fun hq => ?_) (fun hq => ?_)
        · exact absurd rfl hq
        refine g_aload_0 (q := 50) C d_X_cost_49 rfl ?_
        refine xg_145 (q := 53) C d_X_cost_50 rfl ?_
        refine g_blk (Bs := [xw (xG E) x A f' g', mw (xG E) (A (17 + m)) b rm fm gm, sw (A 16) (nI (cst (tell T c).1))]) (Bs' := [xw (xG E) x A f' g', sw (A 16) (nI (cst (tell T c).1)), mw (xG E) (A (17 + m)) b rm fm gm]) [0, 2, 1] (nB := 3) rfl rfl (by decide) ?_
        refine xsg (q := 56) C d_X_cost_53 rfl rfl ?_
        refine g_goto (tgt := 60) C d_X_cost_56 (by decide) ?_
        refine g_blk (Bs := [xw (xG E) x A f' g', sw (A 16) (nI (cst (tell T c).1)), mw (xG E) (A (17 + m)) b rm fm gm]) (Bs' := [xw (xG E) x A f' g', mw (xG E) (A (17 + m)) b rm fm gm, sw (A 16) (nI (cst (tell T c).1))]) [0, 2, 1] (nB := 3) rfl rfl (by decide) ?_
        exact g_iret C F d_X_cost_60 (Nat.le_refl _) (Nat.le_refl _) ⟨rfl, f', g', _, rfl, hF⟩
      · exact absurd (by decide) hz
    · exact absurd ⟨nI_le (Nat.zero_le _) (by omega), nI_le hc (by decide)⟩ hno
  · exact absurd (isE_nI hm) hno
theorem c_X_cost_no {e s : Int32} (he : ¬ isE e ∨ ¬ (nI 0 ≤ s ∧ s ≤ nI 256)) : Ct l Γ y_X_cost b_X_cost 4 (some .int) 8 0 0 [.ref x, .int e, .int s] (bw [xw Γ x A f g]) (fun r w => r = some (.int (-1)) ∧ w = bw [xw Γ x A f g]) := by
  refine Ct.of (by decide) (by simp [Value.category]) (Nat.le_of_ble_eq_true rfl) (fun E eG el en C hR F hnm => ?_)
  subst eG
  subst el
  have hL : 4 ≤ xn E := Nat.le_of_eq en.symm
  show G E 0 0 0 [some (.ref x), some (.int e), some (.int s), none] [] (bw [xw (xG E) x A f g])
  have h18 : G E 0 0 18 [some (.ref x), some (.int e), some (.int s), none] [] (bw [xw (xG E) x A f g]) := by
    refine g_iconst (v := (-1)) (q := 19) C d_X_cost_18 rfl (by decide) ?_
    exact g_iret C F d_X_cost_19 (Nat.le_refl _) (Nat.le_refl _) ⟨rfl, rfl⟩
  refine g_iload_1 (q := 1) C d_X_cost_0 rfl ?_
  refine xc_239 (q := 4) (wc := []) (wr := bw [xw (xG E) x A f g]) C hR c_X_isEnd d_X_cost_1 rfl (by decide) (by decide) (by decide) (Nat.le_of_ble_eq_true rfl) (fun v ws' hp => ?_)
  obtain ⟨rfl, ⟨rfl, i1⟩ | ⟨rfl, hno⟩⟩ := hp
  · show G E 0 0 4 _ [.int (nI 1)] (bw [xw (xG E) x A f g])
    refine g_if_eq (q := 7) (tgt := 18) C d_X_cost_4 rfl (by decide) (fun hz => ?_) (fun hz => ?_)
    · exact absurd hz (by decide)
    refine g_iload_2 (q := 8) C d_X_cost_7 rfl ?_
    refine g_iconst (v := nI 0) (q := 9) C d_X_cost_8 rfl (by decide) ?_
    refine g_sipush (v := nI 256) (q := 12) C d_X_cost_9 rfl (by decide) ?_
    refine xc_163 (q := 15) (wc := []) (wr := bw [xw (xG E) x A f g]) C hR c_X_isIn d_X_cost_12 rfl (by decide) (by decide) (by decide) (Nat.le_of_ble_eq_true rfl) (fun v ws' hp => ?_)
    obtain ⟨rfl, ⟨rfl, j1, j2⟩ | ⟨rfl, hno⟩⟩ := hp
    · rcases he with q | q
      · exact absurd i1 q
      · exact absurd ⟨j1, j2⟩ q
    · show G E 0 0 15 _ [.int (nI 0)] (bw [xw (xG E) x A f g])
      refine g_if_ne (q := 18) (tgt := 20) C d_X_cost_15 rfl (by decide) (fun hz => ?_) (fun hz => ?_)
      · exact absurd rfl hz
      · exact h18
  · show G E 0 0 4 _ [.int (nI 0)] (bw [xw (xG E) x A f g])
    refine g_if_eq (q := 7) (tgt := 18) C d_X_cost_4 rfl (by decide) (fun hz => ?_) (fun hz => ?_)
    · exact h18
    · exact absurd rfl hz
end
