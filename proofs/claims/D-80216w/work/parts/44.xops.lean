/-! PpmTrees: the short calls -/
section
variable {E : Ev} {own : String} {cc : ByteArray} {k n pc q len : Nat} {lv : LV} {st : List Value} {ws : va_W}
theorem g_tabIn (C : Cx E own cc) {dflt lo hi off : Int} {offs : Array Int} {x : Int32} (tgt : Nat) (hd : decode cc pc = .ok (.tableswitch dflt lo hi offs, len)) (h1 : ¬ x.toInt < lo) (h2 : ¬ hi < x.toInt) (ho : offs[(x.toInt - lo).toNat]? = some off) (ht : (pc : Int) + off = (tgt : Int)) (kk : G E k n tgt lv st ws) : G E k n pc lv (.int x :: st) ws :=
  fun H locs ls hP hD hS hl => lv_tableIn C.1 C.2.1 hd h1 h2 ho ht (kk H locs ls hP hD hS hl)
theorem g_tabOut (C : Cx E own cc) {dflt lo hi : Int} {offs : Array Int} {x : Int32} (tgt : Nat) (hd : decode cc pc = .ok (.tableswitch dflt lo hi offs, len)) (h : x.toInt < lo ∨ hi < x.toInt) (ht : (pc : Int) + dflt = (tgt : Int)) (kk : G E k n tgt lv st ws) : G E k n pc lv (.int x :: st) ws :=
  fun H locs ls hP hD hS hl => lv_tableOut C.1 C.2.1 hd h ht (kk H locs ls hP hD hS hl)
end
/-- what the object itself holds of the state -/
def XA (f : Nat → Int32) (g : Nat → Nat → Int32) : Sg → Prop := fun (ts, tx, os, ou, rc, re, EE, K, kT, R, pl, ip, to, pn, px, pf) =>
  (f 3 = nI ts ∧ ts ≤ 300 ∧ ∀ i, i < ts → g 3 i = nI (tx i) ∧ tx i < 256) ∧ XO f g ou os ∧ (f 5 = nI rc ∧ rc ≤ 300 ∧ ∀ i, i < rc → g 5 i = nI (re i)) ∧ (∀ m, m < 2 → g 2 m = R m) ∧ f 6 = pl ∧
  (f 7 = nI (if ip then 1 else 0) ∧ (ip = true → f 11 = nI pn) ∧ pn ≤ 301 ∧ (ip = false → pn = 0) ∧ (ip = true → f 8 = nI (to 0) ∧ f 9 = nI (to 1) ∧ f 10 = nI (to 2)) ∧ ∀ i, i < pn → g 7 i = nI (px i) ∧ g 8 i = fenc (pf i))
def pix (Γ : Gl) (x : Nat) (A : Nat → Nat) (P : Int32 → (Nat → Int32) → (Nat → Nat → Int32) → Prop) : Option Value → va_W → Prop := fun r w => ∃ z f' g', r = some (.int z) ∧ w = bw [xw Γ x A f' g'] ∧ P z f' g'
section
variable {l : Launch} {Γ : Gl} {x : Nat} {A : Nat → Nat} {f : Nat → Int32} {g : Nat → Nat → Int32} {S : Sg}
theorem c_X_clear (hS : XA f g S) : Ct l Γ y_X_clear b_X_clear 2 (some .int) 0 0 0 [.ref x] (bw [xw Γ x A f g]) (pix Γ x A (fun z f' g' => z = (oClear S).1 ∧ XA f' g' (oClear S).2)) := by
  obtain ⟨ts, tx, os, ou, rc, re, EE, K, kT, R, pl, ip, to, pn, px, pf⟩ := S
  obtain ⟨h2, h3, h4, h7, h8, h9⟩ := id hS
  refine Ct.of (by decide) (by simp [Value.category]) (Nat.le_of_ble_eq_true rfl) (fun E eG el en C hR F hnm => ?_)
  subst eG
  subst el
  have hL : 2 ≤ xn E := Nat.le_of_eq en.symm
  show G E 0 0 0 [some (.ref x), none] [] (bw [xw (xG E) x A f g])
  refine g_aload_0 (q := 1) C d_X_clear_0 rfl ?_
  refine xg_160 (q := 4) C d_X_clear_1 rfl h2.1 ?_
  refine g_istore_1 (q := 5) C hL d_X_clear_4 rfl ?_
  refine g_aload_0 (q := 6) C d_X_clear_5 rfl ?_
  refine g_iconst (v := nI 0) (q := 7) C d_X_clear_6 rfl (by decide) ?_
  refine xp_160 (q := 10) C d_X_clear_7 rfl ?_
  refine g_iload_1 (q := 11) C d_X_clear_10 rfl ?_
  exact g_iret C F d_X_clear_11 (Nat.le_refl _) (Nat.le_refl _) ⟨_, _, _, rfl, rfl, rfl, ⟨rfl, Nat.zero_le _, fun i hi => absurd hi (Nat.not_lt_zero _)⟩, h3, h4, h7, h8, h9⟩
theorem c_X_place (hS : XA f g S) : Ct l Γ y_X_place b_X_place 1 (some .int) 0 0 0 [.ref x] (bw [xw Γ x A f g]) (pix Γ x A (fun z f' g' => z = (oPlace S).1 ∧ XA f' g' (oPlace S).2)) := by
  obtain ⟨ts, tx, os, ou, rc, re, EE, K, kT, R, pl, ip, to, pn, px, pf⟩ := S
  obtain ⟨h2, h3, h4, h7, h8, h9⟩ := id hS
  refine Ct.of (by decide) (by simp [Value.category]) (Nat.le_of_ble_eq_true rfl) (fun E eG el en C hR F hnm => ?_)
  subst eG
  subst el
  have hL : 1 ≤ xn E := Nat.le_of_eq en.symm
  show G E 0 0 0 [some (.ref x)] [] (bw [xw (xG E) x A f g])
  refine g_aload_0 (q := 1) C d_X_place_0 rfl ?_
  refine xg_120 (q := 4) C d_X_place_1 rfl h8 ?_
  exact g_iret C F d_X_place_4 (Nat.le_refl _) (Nat.le_refl _) ⟨_, _, _, rfl, rfl, rfl, hS⟩
theorem c_X_add {b : Int32} (hS : XA f g S) : Ct l Γ y_X_add b_X_add 2 (some .int) 1 0 0 [.ref x, .int b] (bw [xw Γ x A f g]) (pix Γ x A (fun z f' g' => z = (oAdd b S).1 ∧ XA f' g' (oAdd b S).2)) := by
  obtain ⟨ts, tx, os, ou, rc, re, EE, K, kT, R, pl, ip, to, pn, px, pf⟩ := S
  obtain ⟨h2, h3, h4, h7, h8, h9⟩ := id hS
  refine Ct.of (by decide) (by simp [Value.category]) (Nat.le_of_ble_eq_true rfl) (fun E eG el en C hR F hnm => ?_)
  subst eG
  subst el
  have hL : 2 ≤ xn E := Nat.le_of_eq en.symm
  show G E 0 0 0 [some (.ref x), some (.int b)] [] (bw [xw (xG E) x A f g])
  refine g_iload_1 (q := 1) C d_X_add_0 rfl ?_
  refine g_iconst (v := nI 0) (q := 2) C d_X_add_1 rfl (by decide) ?_
  refine g_sipush (v := nI 255) (q := 5) C d_X_add_2 rfl (by decide) ?_
  refine xc_163 (q := 8) (wc := []) (wr := bw [xw (xG E) x A f g]) C hR c_X_isIn d_X_add_5 rfl (by decide) (by decide) (by decide) (Nat.le_of_ble_eq_true rfl) (fun v ws' hp => ?_)
  obtain ⟨rfl, ⟨rfl, i1, i2⟩ | ⟨rfl, hno⟩⟩ := hp
  · show G E 0 0 8 _ [.int (nI 1)] (bw [xw (xG E) x A f g])
    refine g_if_ne (q := 11) (tgt := 13) C d_X_add_8 rfl (by decide) (fun hz => ?_) (fun hz => ?_)
    · refine g_aload_0 (q := 14) C d_X_add_13 rfl ?_
      refine xg_160 (q := 17) C d_X_add_14 rfl h2.1 ?_
      refine g_sipush (v := nI 300) (q := 20) C d_X_add_17 rfl (by decide) ?_
      refine g_icmp_ne (q := 23) (tgt := 26) C d_X_add_20 rfl (by decide) (fun hq => ?_) (fun hq => ?_)
      · have hq : ts ≠ 300 := fun e => hq (by rw [e])
        obtain ⟨j, hj, rfl⟩ := ix_of2 (n := 255) (by decide) ⟨i1, i2⟩
        have he : oAdd (nI j) (ts, tx, os, ou, rc, re, EE, K, kT, R, pl, ip, to, pn, px, pf) = (nI (ts + 1), (ts + 1, upN tx ts (cl (nI j)), os, ou, rc, re, EE, K, kT, R, pl, ip, to, pn, px, pf)) := by
          show (if _ then _ else if _ then _ else _) = _
          rw [if_neg (fun q => q ⟨i1, i2⟩), if_neg hq]
        rw [cl_nI (by omega)] at he
        refine g_aload_0 (q := 27) C d_X_add_26 rfl ?_
        refine xg_87 (q := 30) C d_X_add_27 rfl ?_
        refine g_aload_0 (q := 31) C d_X_add_30 rfl ?_
        refine g_dup_r (q := 32) C d_X_add_31 rfl ?_
        refine xg_160 (q := 35) C d_X_add_32 rfl h2.1 ?_
        refine g_dup_x1 (q := 36) C d_X_add_35 rfl rfl rfl ?_
        refine g_iconst (v := nI 1) (q := 37) C d_X_add_36 rfl (by decide) ?_
        refine g_iadd (q := 38) C d_X_add_37 rfl (nI_1 _) ?_
        refine xp_160 (q := 41) C d_X_add_38 rfl ?_
        refine g_iload_1 (q := 42) C d_X_add_41 rfl ?_
        refine xs_3 (q := 43) C d_X_add_42 rfl rfl (by omega) ?_
        refine g_aload_0 (q := 44) C d_X_add_43 rfl ?_
        refine xg_160 (q := 47) C d_X_add_44 rfl rfl ?_
        refine g_iret C F d_X_add_47 (Nat.le_refl _) (Nat.le_refl _) ⟨_, _, _, rfl, rfl, by rw [he]; rfl, ?_⟩
        rw [he]
        refine ⟨⟨rfl, by omega, fun i hi => ?_⟩, h3.keep rfl rfl, h4, h7, h8, h9⟩
        show upd (g 3) ts (nI j) i = _ ∧ upN tx ts j i < 256
        by_cases e : i = ts
        · rw [e, upd_s, upN_s]; exact ⟨rfl, by omega⟩
        · rw [upd_n e, upN_n e]; exact h2.2.2 i (by omega)
      · have hq : ts = 300 := (nI_eq (by omega) (by omega)).mp (Decidable.not_not.mp hq)
        have he : oAdd b (ts, tx, os, ou, rc, re, EE, K, kT, R, pl, ip, to, pn, px, pf) = (-2, (ts, tx, os, ou, rc, re, EE, K, kT, R, pl, ip, to, pn, px, pf)) := by
          show (if _ then _ else if _ then _ else _) = _
          rw [if_neg (fun q => q ⟨i1, i2⟩), if_pos hq]
        refine g_bipush (v := (-2)) (q := 25) C d_X_add_23 rfl (by decide) ?_
        exact g_iret C F d_X_add_25 (Nat.le_refl _) (Nat.le_refl _) ⟨_, _, _, rfl, rfl, by rw [he], by rw [he]; exact hS⟩
    · exact absurd (by decide) hz
  · show G E 0 0 8 _ [.int (nI 0)] (bw [xw (xG E) x A f g])
    refine g_if_ne (q := 11) (tgt := 13) C d_X_add_8 rfl (by decide) (fun hz => ?_) (fun hz => ?_)
    · exact absurd rfl hz
    have he : oAdd b (ts, tx, os, ou, rc, re, EE, K, kT, R, pl, ip, to, pn, px, pf) = (-1, (ts, tx, os, ou, rc, re, EE, K, kT, R, pl, ip, to, pn, px, pf)) := if_pos hno
    refine g_iconst (v := (-1)) (q := 12) C d_X_add_11 rfl (by decide) ?_
    exact g_iret C F d_X_add_12 (Nat.le_refl _) (Nat.le_refl _) ⟨_, _, _, rfl, rfl, by rw [he], by rw [he]; exact hS⟩
theorem c_X_size {w : Int32} (hS : XA f g S) : Ct l Γ y_X_size b_X_size 2 (some .int) 0 0 0 [.ref x, .int w] (bw [xw Γ x A f g]) (fun r w' => r = some (.int (oSize w S).1) ∧ w' = bw [xw Γ x A f g]) := by
  obtain ⟨ts, tx, os, ou, rc, re, EE, K, kT, R, pl, ip, to, pn, px, pf⟩ := S
  obtain ⟨h2, h3, h4, h7, h8, h9⟩ := id hS
  refine Ct.of (by decide) (by simp [Value.category]) (Nat.le_of_ble_eq_true rfl) (fun E eG el en C hR F hnm => ?_)
  subst eG
  subst el
  have hL : 2 ≤ xn E := Nat.le_of_eq en.symm
  show G E 0 0 0 [some (.ref x), some (.int w)] [] (bw [xw (xG E) x A f g])
  have h36 : ∀ z, z = (oSize w (ts, tx, os, ou, rc, re, EE, K, kT, R, pl, ip, to, pn, px, pf)).1 → G E 0 0 36 [some (.ref x), some (.int w)] [.int z] (bw [xw (xG E) x A f g]) := fun z hz =>
    g_iret C F d_X_size_36 (Nat.le_refl _) (Nat.le_refl _) ⟨by rw [hz], rfl⟩
  have hd : (oSize w (ts, tx, os, ou, rc, re, EE, K, kT, R, pl, ip, to, pn, px, pf)).1 = if w = 0 then nI ts else if w = nI 1 then nI os else if w = nI 2 then nI rc else -1 := rfl
  refine g_iload_1 (q := 1) C d_X_size_0 rfl ?_
  refine g_if_ne (q := 4) (tgt := 11) C d_X_size_1 rfl (by decide) (fun a => ?_) (fun a => ?_)
  · refine g_iload_1 (q := 12) C d_X_size_11 rfl ?_
    refine g_iconst (v := nI 1) (q := 13) C d_X_size_12 rfl (by decide) ?_
    refine g_icmp_ne (q := 16) (tgt := 23) C d_X_size_13 rfl (by decide) (fun b => ?_) (fun b => ?_)
    · refine g_iload_1 (q := 24) C d_X_size_23 rfl ?_
      refine g_iconst (v := nI 2) (q := 25) C d_X_size_24 rfl (by decide) ?_
      refine g_icmp_ne (q := 28) (tgt := 35) C d_X_size_25 rfl (by decide) (fun c => ?_) (fun c => ?_)
      · refine g_iconst (v := (-1)) (q := 36) C d_X_size_35 rfl (by decide) ?_
        exact h36 _ (by rw [hd, if_neg a, if_neg b, if_neg c])
      · refine g_aload_0 (q := 29) C d_X_size_28 rfl ?_
        refine xg_175 (q := 32) C d_X_size_29 rfl h4.1 ?_
        refine g_goto (tgt := 36) C d_X_size_32 (by decide) ?_
        exact h36 _ (by rw [hd, if_neg a, if_neg b, if_pos (Decidable.not_not.mp c)])
    · refine g_aload_0 (q := 17) C d_X_size_16 rfl ?_
      refine xg_172 (q := 20) C d_X_size_17 rfl h3.1 ?_
      refine g_goto (tgt := 36) C d_X_size_20 (by decide) ?_
      exact h36 _ (by rw [hd, if_neg a, if_pos (Decidable.not_not.mp b)])
  · refine g_aload_0 (q := 5) C d_X_size_4 rfl ?_
    refine xg_160 (q := 8) C d_X_size_5 rfl h2.1 ?_
    refine g_goto (tgt := 36) C d_X_size_8 (by decide) ?_
    exact h36 _ (by rw [hd, if_pos (Decidable.not_not.mp a)])
theorem c_X_row {w : Nat} (hw : w < 3) : Ct l Γ y_X_row b_X_row 2 (some (.array .int)) 0 0 0 [.ref x, .int (nI w)] (bw [xw Γ x A f g]) (fun r w' => r = some (.ref (A (3 + w))) ∧ w' = bw [xw Γ x A f g]) := by
  refine Ct.of (by decide) (by simp [Value.category]) (Nat.le_of_ble_eq_true rfl) (fun E eG el en C hR F hnm => ?_)
  subst eG
  subst el
  have hL : 2 ≤ xn E := Nat.le_of_eq en.symm
  show G E 0 0 0 [some (.ref x), some (.int (nI w))] [] (bw [xw (xG E) x A f g])
  have h27 : ∀ z, z = A (3 + w) → G E 0 0 27 [some (.ref x), some (.int (nI w))] [.ref z] (bw [xw (xG E) x A f g]) := fun z hz =>
    g_aret C F (Or.inr ⟨_, rfl⟩) d_X_row_27 (Nat.le_refl _) (Nat.le_refl _) ⟨by rw [hz], rfl⟩
  refine g_iload_1 (q := 1) C d_X_row_0 rfl ?_
  refine g_if_ne (q := 4) (tgt := 11) C d_X_row_1 rfl (by decide) (fun a => ?_) (fun a => ?_)
  · refine g_iload_1 (q := 12) C d_X_row_11 rfl ?_
    refine g_iconst (v := nI 1) (q := 13) C d_X_row_12 rfl (by decide) ?_
    refine g_icmp_ne (q := 16) (tgt := 23) C d_X_row_13 rfl (by decide) (fun b => ?_) (fun b => ?_)
    · refine g_aload_0 (q := 24) C d_X_row_23 rfl ?_
      refine xg_93 (q := 27) C d_X_row_24 rfl ?_
      have h0 : w ≠ 0 := fun q => a (by rw [q]; rfl)
      have h1 : w ≠ 1 := fun q => b (by rw [q])
      exact h27 _ (by rw [show w = 2 by omega])
    · refine g_aload_0 (q := 17) C d_X_row_16 rfl ?_
      refine xg_90 (q := 20) C d_X_row_17 rfl ?_
      refine g_goto (tgt := 27) C d_X_row_20 (by decide) ?_
      exact h27 _ (by rw [(nI_eq (by omega) (by decide)).mp (Decidable.not_not.mp b)])
  · refine g_aload_0 (q := 5) C d_X_row_4 rfl ?_
    refine xg_87 (q := 8) C d_X_row_5 rfl ?_
    refine g_goto (tgt := 27) C d_X_row_8 (by decide) ?_
    exact h27 _ (by rw [(nI0 (by omega)).mp (Decidable.not_not.mp a)])
theorem c_X_octet {w i : Int32} (hS : XA f g S) : Ct l Γ y_X_octet b_X_octet 3 (some .int) 1 0 0 [.ref x, .int w, .int i] (bw [xw Γ x A f g]) (pix Γ x A (fun z f' g' => z = (oOctet w i S).1 ∧ XA f' g' (oOctet w i S).2)) := by
  have hS' := hS
  obtain ⟨ts, tx, os, ou, rc, re, EE, K, kT, R, pl, ip, to, pn, px, pf⟩ := S
  obtain ⟨h2, h3, h4, h7, h8, h9⟩ := id hS
  have hos := h3.2.1
  refine Ct.of (by decide) (by simp [Value.category]) (Nat.le_of_ble_eq_true rfl) (fun E eG el en C hR F hnm => ?_)
  subst eG
  subst el
  have hL : 3 ≤ xn E := Nat.le_of_eq en.symm
  show G E 0 0 0 [some (.ref x), some (.int w), some (.int i)] [] (bw [xw (xG E) x A f g])
  have hd : (oOctet w i (ts, tx, os, ou, rc, re, EE, K, kT, R, pl, ip, to, pn, px, pf)).1 = if w = 0 ∧ nI 0 ≤ i ∧ i ≤ nI ts - nI 1 then nI (tx (cl i)) else if w = nI 1 ∧ nI 0 ≤ i ∧ i ≤ nI os - nI 1 then nI (ou (cl i)) else if w = nI 2 ∧ nI 0 ≤ i ∧ i ≤ nI rc - nI 1 then nI (re (cl i)) else -1 := rfl
  have h34 : (oOctet w i (ts, tx, os, ou, rc, re, EE, K, kT, R, pl, ip, to, pn, px, pf)).1 = -1 → G E 0 0 34 [some (.ref x), some (.int w), some (.int i)] [] (bw [xw (xG E) x A f g]) := by
    intro he
    refine g_iconst (v := (-1)) (q := 35) C d_X_octet_34 rfl (by decide) ?_
    exact g_iret C F d_X_octet_35 (Nat.le_refl _) (Nat.le_refl _) ⟨_, _, _, rfl, rfl, he.symm, hS⟩
  refine g_iload_1 (q := 1) C d_X_octet_0 rfl ?_
  refine g_iconst (v := nI 0) (q := 2) C d_X_octet_1 rfl (by decide) ?_
  refine g_iconst (v := nI 2) (q := 3) C d_X_octet_2 rfl (by decide) ?_
  refine xc_163 (q := 6) (wc := []) (wr := bw [xw (xG E) x A f g]) C hR c_X_isIn d_X_octet_3 rfl (by decide) (by decide) (by decide) (Nat.le_of_ble_eq_true rfl) (fun v ws' hp => ?_)
  obtain ⟨rfl, ⟨rfl, i1, i2⟩ | ⟨rfl, hno⟩⟩ := hp
  · show G E 0 0 6 _ [.int (nI 1)] (bw [xw (xG E) x A f g])
    refine g_if_eq (q := 9) (tgt := 34) C d_X_octet_6 rfl (by decide) (fun hz => ?_) (fun hz => ?_)
    · exact absurd hz (by decide)
    obtain ⟨w, hw, rfl⟩ := ix_of2 (n := 2) (by decide) ⟨i1, i2⟩
    refine g_iload_2 (q := 10) C d_X_octet_9 rfl ?_
    refine g_iconst (v := nI 0) (q := 11) C d_X_octet_10 rfl (by decide) ?_
    refine g_aload_0 (q := 12) C d_X_octet_11 rfl ?_
    refine g_iload_1 (q := 13) C d_X_octet_12 rfl ?_
    refine g_ws (ws' := bw [xw (xG E) x A f g] ++ []) (List.append_nil _).symm ?_
    refine xc_178 (q := 16) (fs := xfs A f) C hR (c_X_size hS') rfl d_X_octet_13 rfl (by decide) (by decide) (by decide) (Nat.le_of_ble_eq_true rfl) (fun v ws' hp => ?_)
    obtain ⟨rfl, rfl⟩ := hp
    refine g_ws (ws' := bw [xw (xG E) x A f g]) (List.append_nil _) ?_
    show G E 0 0 16 _ [.int (oSize (nI w) (ts, tx, os, ou, rc, re, EE, K, kT, R, pl, ip, to, pn, px, pf)).1, .int (nI 0), .int i] (bw [xw (xG E) x A f g])
    generalize hsz : (oSize (nI w) (ts, tx, os, ou, rc, re, EE, K, kT, R, pl, ip, to, pn, px, pf)).1 = sz
    refine g_iconst (v := nI 1) (q := 17) C d_X_octet_16 rfl (by decide) ?_
    refine g_isub (q := 18) C d_X_octet_17 rfl rfl ?_
    refine xc_163 (q := 21) (wc := []) (wr := bw [xw (xG E) x A f g]) C hR c_X_isIn d_X_octet_18 rfl (by decide) (by decide) (by decide) (Nat.le_of_ble_eq_true rfl) (fun v ws' hp => ?_)
    have key : w = 0 ∨ w = 1 ∨ w = 2 := by omega
    obtain ⟨rfl, ⟨rfl, j1, j2⟩ | ⟨rfl, hno⟩⟩ := hp
    · show G E 0 0 21 _ [.int (nI 1)] (bw [xw (xG E) x A f g])
      refine g_if_eq (q := 24) (tgt := 34) C d_X_octet_21 rfl (by decide) (fun hz => ?_) (fun hz => ?_)
      · exact absurd hz (by decide)
      refine g_aload_0 (q := 25) C d_X_octet_24 rfl ?_
      refine g_iload_1 (q := 26) C d_X_octet_25 rfl ?_
      refine g_ws (ws' := bw [xw (xG E) x A f g] ++ []) (List.append_nil _).symm ?_
      refine xc_181 (q := 29) (fs := xfs A f) C hR (c_X_row (w := w) (by omega)) rfl d_X_octet_26 rfl (by decide) (by decide) (by decide) (Nat.le_of_ble_eq_true rfl) (fun v ws' hp => ?_)
      obtain ⟨rfl, rfl⟩ := hp
      refine g_ws (ws' := bw [xw (xG E) x A f g]) (List.append_nil _) ?_
      show G E 0 0 29 _ [.ref (A (3 + w))] (bw [xw (xG E) x A f g])
      rcases key with rfl | rfl | rfl
      · have : sz = nI ts := hsz.symm
        subst this
        obtain ⟨j, hj, rfl⟩ := ix_of (n := ts) (by omega) ⟨j1, j2⟩
        rw [if_pos ⟨rfl, j1, j2⟩, cl_nI (by omega)] at hd
        refine g_iload_2 (q := 30) C d_X_octet_29 rfl ?_
        refine xa_3 (q := 31) C d_X_octet_30 rfl rfl (by omega) (h2.2.2 j hj).1 ?_
        refine g_goto (tgt := 35) C d_X_octet_31 (by decide) ?_
        exact g_iret C F d_X_octet_35 (Nat.le_refl _) (Nat.le_refl _) ⟨_, _, _, rfl, rfl, hd.symm, hS⟩
      · have : sz = nI os := hsz.symm
        subst this
        obtain ⟨j, hj, rfl⟩ := ix_of (n := os) (by omega) ⟨j1, j2⟩
        rw [if_neg (fun q => absurd q.1 (by decide)), if_pos ⟨rfl, j1, j2⟩, cl_nI (by omega)] at hd
        refine g_iload_2 (q := 30) C d_X_octet_29 rfl ?_
        refine xa_4 (q := 31) C d_X_octet_30 rfl rfl (by omega) (h3.2.2 j hj).1 ?_
        refine g_goto (tgt := 35) C d_X_octet_31 (by decide) ?_
        exact g_iret C F d_X_octet_35 (Nat.le_refl _) (Nat.le_refl _) ⟨_, _, _, rfl, rfl, hd.symm, hS⟩
      · have : sz = nI rc := hsz.symm
        subst this
        obtain ⟨j, hj, rfl⟩ := ix_of (n := rc) (by omega) ⟨j1, j2⟩
        rw [if_neg (fun q => absurd q.1 (by decide)), if_neg (fun q => absurd q.1 (by decide)), if_pos ⟨rfl, j1, j2⟩, cl_nI (by omega)] at hd
        refine g_iload_2 (q := 30) C d_X_octet_29 rfl ?_
        refine xa_5 (q := 31) C d_X_octet_30 rfl rfl (by omega) (h4.2.2 j hj) ?_
        refine g_goto (tgt := 35) C d_X_octet_31 (by decide) ?_
        exact g_iret C F d_X_octet_35 (Nat.le_refl _) (Nat.le_refl _) ⟨_, _, _, rfl, rfl, hd.symm, hS⟩
    · show G E 0 0 21 _ [.int (nI 0)] (bw [xw (xG E) x A f g])
      refine g_if_eq (q := 24) (tgt := 34) C d_X_octet_21 rfl (by decide) (fun hz => ?_) (fun hz => ?_)
      · refine h34 ?_
        rcases key with rfl | rfl | rfl
        · have : sz = nI ts := hsz.symm
          subst this
          rw [hd, if_neg (fun q => hno q.2), if_neg (fun q => absurd q.1 (by decide)), if_neg (fun q => absurd q.1 (by decide))]
        · have : sz = nI os := hsz.symm
          subst this
          rw [hd, if_neg (fun q => absurd q.1 (by decide)), if_neg (fun q => hno q.2), if_neg (fun q => absurd q.1 (by decide))]
        · have : sz = nI rc := hsz.symm
          subst this
          rw [hd, if_neg (fun q => absurd q.1 (by decide)), if_neg (fun q => absurd q.1 (by decide)), if_neg (fun q => hno q.2)]
      · exact absurd rfl hz
  · show G E 0 0 6 _ [.int (nI 0)] (bw [xw (xG E) x A f g])
    refine g_if_eq (q := 9) (tgt := 34) C d_X_octet_6 rfl (by decide) (fun hz => ?_) (fun hz => ?_)
    · refine h34 ?_
      rw [hd, if_neg (fun q => hno (by rw [q.1]; decide)), if_neg (fun q => hno (by rw [q.1]; decide)), if_neg (fun q => hno (by rw [q.1]; decide))]
    · exact absurd rfl hz
theorem c_X_alter {i b : Int32} (hS : XA f g S) : Ct l Γ y_X_alter b_X_alter 4 (some .int) 1 0 0 [.ref x, .int i, .int b] (bw [xw Γ x A f g]) (pix Γ x A (fun z f' g' => z = (oAlter i b S).1 ∧ XA f' g' (oAlter i b S).2)) := by
  obtain ⟨ts, tx, os, ou, rc, re, EE, K, kT, R, pl, ip, to, pn, px, pf⟩ := S
  obtain ⟨h2, h3, h4, h7, h8, h9⟩ := id hS
  have hos := h3.2.1
  refine Ct.of (by decide) (by simp [Value.category]) (Nat.le_of_ble_eq_true rfl) (fun E eG el en C hR F hnm => ?_)
  subst eG
  subst el
  have hL : 4 ≤ xn E := Nat.le_of_eq en.symm
  show G E 0 0 0 [some (.ref x), some (.int i), some (.int b), none] [] (bw [xw (xG E) x A f g])
  have h25 : (¬ (nI 0 ≤ i ∧ i ≤ nI os - nI 1) ∨ ¬ (nI 0 ≤ b ∧ b ≤ nI 255)) → G E 0 0 25 [some (.ref x), some (.int i), some (.int b), none] [] (bw [xw (xG E) x A f g]) := by
    intro hno
    have he : oAlter i b (ts, tx, os, ou, rc, re, EE, K, kT, R, pl, ip, to, pn, px, pf) = (-1, (ts, tx, os, ou, rc, re, EE, K, kT, R, pl, ip, to, pn, px, pf)) := if_pos hno
    refine g_iconst (v := (-1)) (q := 26) C d_X_alter_25 rfl (by decide) ?_
    exact g_iret C F d_X_alter_26 (Nat.le_refl _) (Nat.le_refl _) ⟨_, _, _, rfl, rfl, by rw [he], by rw [he]; exact hS⟩
  refine g_iload_1 (q := 1) C d_X_alter_0 rfl ?_
  refine g_iconst (v := nI 0) (q := 2) C d_X_alter_1 rfl (by decide) ?_
  refine g_aload_0 (q := 3) C d_X_alter_2 rfl ?_
  refine xg_172 (q := 6) C d_X_alter_3 rfl h3.1 ?_
  refine g_iconst (v := nI 1) (q := 7) C d_X_alter_6 rfl (by decide) ?_
  refine g_isub (q := 8) C d_X_alter_7 rfl rfl ?_
  refine xc_163 (q := 11) (wc := []) (wr := bw [xw (xG E) x A f g]) C hR c_X_isIn d_X_alter_8 rfl (by decide) (by decide) (by decide) (Nat.le_of_ble_eq_true rfl) (fun v ws' hp => ?_)
  obtain ⟨rfl, ⟨rfl, i1, i2⟩ | ⟨rfl, hno⟩⟩ := hp
  · show G E 0 0 11 _ [.int (nI 1)] (bw [xw (xG E) x A f g])
    refine g_if_eq (q := 14) (tgt := 25) C d_X_alter_11 rfl (by decide) (fun hz => ?_) (fun hz => ?_)
    · exact absurd hz (by decide)
    refine g_iload_2 (q := 15) C d_X_alter_14 rfl ?_
    refine g_iconst (v := nI 0) (q := 16) C d_X_alter_15 rfl (by decide) ?_
    refine g_sipush (v := nI 255) (q := 19) C d_X_alter_16 rfl (by decide) ?_
    refine xc_163 (q := 22) (wc := []) (wr := bw [xw (xG E) x A f g]) C hR c_X_isIn d_X_alter_19 rfl (by decide) (by decide) (by decide) (Nat.le_of_ble_eq_true rfl) (fun v ws' hp => ?_)
    obtain ⟨rfl, ⟨rfl, j1, j2⟩ | ⟨rfl, hno⟩⟩ := hp
    · show G E 0 0 22 _ [.int (nI 1)] (bw [xw (xG E) x A f g])
      refine g_if_ne (q := 25) (tgt := 27) C d_X_alter_22 rfl (by decide) (fun hz => ?_) (fun hz => ?_)
      · have he : oAlter i b (ts, tx, os, ou, rc, re, EE, K, kT, R, pl, ip, to, pn, px, pf) = (nI (ou (cl i)), (ts, tx, os, upN ou (cl i) (cl b), rc, re, EE, K, kT, R, pl, ip, to, pn, px, pf)) := if_neg (fun q => by rcases q with q | q; exact q ⟨i1, i2⟩; exact q ⟨j1, j2⟩)
        obtain ⟨j, hj, rfl⟩ := ix_of (n := os) (by omega) ⟨i1, i2⟩
        obtain ⟨c, hc, rfl⟩ := ix_of2 (n := 255) (by decide) ⟨j1, j2⟩
        rw [cl_nI (by omega), cl_nI (by omega)] at he
        refine g_aload_0 (q := 28) C d_X_alter_27 rfl ?_
        refine xg_90 (q := 31) C d_X_alter_28 rfl ?_
        refine g_iload_1 (q := 32) C d_X_alter_31 rfl ?_
        refine xa_4 (q := 33) C d_X_alter_32 rfl rfl (by omega) (h3.2.2 j hj).1 ?_
        refine g_istore_3 (q := 34) C hL d_X_alter_33 rfl ?_
        refine g_aload_0 (q := 35) C d_X_alter_34 rfl ?_
        refine xg_90 (q := 38) C d_X_alter_35 rfl ?_
        refine g_iload_1 (q := 39) C d_X_alter_38 rfl ?_
        refine g_iload_2 (q := 40) C d_X_alter_39 rfl ?_
        refine xs_4 (q := 41) C d_X_alter_40 rfl rfl (by omega) ?_
        refine g_iload_3 (q := 42) C d_X_alter_41 rfl ?_
        refine g_iret C F d_X_alter_42 (Nat.le_refl _) (Nat.le_refl _) ⟨_, _, _, rfl, rfl, by rw [he], ?_⟩
        rw [he]
        refine ⟨h2, ⟨h3.1, hos, fun i' hi' => ?_⟩, h4, h7, h8, h9⟩
        show upd (g 4) j (nI c) i' = _ ∧ upN ou j c i' < 256
        by_cases e : i' = j
        · rw [e, upd_s, upN_s]; exact ⟨rfl, by omega⟩
        · rw [upd_n e, upN_n e]; exact h3.2.2 i' hi'
      · exact absurd (by decide) hz
    · show G E 0 0 22 _ [.int (nI 0)] (bw [xw (xG E) x A f g])
      refine g_if_ne (q := 25) (tgt := 27) C d_X_alter_22 rfl (by decide) (fun hz => ?_) (fun hz => ?_)
      · exact absurd rfl hz
      · exact h25 (Or.inr hno)
  · show G E 0 0 11 _ [.int (nI 0)] (bw [xw (xG E) x A f g])
    refine g_if_eq (q := 14) (tgt := 25) C d_X_alter_11 rfl (by decide) (fun hz => ?_) (fun hz => ?_)
    · exact h25 (Or.inl hno)
    · exact absurd rfl hz
theorem c_X_cut {n : Int32} (hS : XA f g S) : Ct l Γ y_X_cut b_X_cut 3 (some .int) 1 0 0 [.ref x, .int n] (bw [xw Γ x A f g]) (pix Γ x A (fun z f' g' => z = (oCut n S).1 ∧ XA f' g' (oCut n S).2)) := by
  obtain ⟨ts, tx, os, ou, rc, re, EE, K, kT, R, pl, ip, to, pn, px, pf⟩ := S
  obtain ⟨h2, h3, h4, h7, h8, h9⟩ := id hS
  have hos := h3.2.1
  refine Ct.of (by decide) (by simp [Value.category]) (Nat.le_of_ble_eq_true rfl) (fun E eG el en C hR F hnm => ?_)
  subst eG
  subst el
  have hL : 3 ≤ xn E := Nat.le_of_eq en.symm
  show G E 0 0 0 [some (.ref x), some (.int n), none] [] (bw [xw (xG E) x A f g])
  refine g_iload_1 (q := 1) C d_X_cut_0 rfl ?_
  refine g_iconst (v := nI 0) (q := 2) C d_X_cut_1 rfl (by decide) ?_
  refine g_aload_0 (q := 3) C d_X_cut_2 rfl ?_
  refine xg_172 (q := 6) C d_X_cut_3 rfl h3.1 ?_
  refine xc_163 (q := 9) (wc := []) (wr := bw [xw (xG E) x A f g]) C hR c_X_isIn d_X_cut_6 rfl (by decide) (by decide) (by decide) (Nat.le_of_ble_eq_true rfl) (fun v ws' hp => ?_)
  obtain ⟨rfl, ⟨rfl, i1, i2⟩ | ⟨rfl, hno⟩⟩ := hp
  · show G E 0 0 9 _ [.int (nI 1)] (bw [xw (xG E) x A f g])
    refine g_if_ne (q := 12) (tgt := 14) C d_X_cut_9 rfl (by decide) (fun hz => ?_) (fun hz => ?_)
    · have he : oCut n (ts, tx, os, ou, rc, re, EE, K, kT, R, pl, ip, to, pn, px, pf) = (nI (os - cl n), (ts, tx, cl n, ou, rc, re, EE, K, kT, R, pl, ip, to, pn, px, pf)) := if_neg (fun q => q ⟨i1, i2⟩)
      obtain ⟨j, hj, rfl⟩ := ix_of2 (n := os) (by omega) ⟨i1, i2⟩
      rw [cl_nI (by omega)] at he
      refine g_aload_0 (q := 15) C d_X_cut_14 rfl ?_
      refine xg_172 (q := 18) C d_X_cut_15 rfl h3.1 ?_
      refine g_iload_1 (q := 19) C d_X_cut_18 rfl ?_
      refine g_isub (q := 20) C d_X_cut_19 rfl (pk_sub hj) ?_
      refine g_istore_2 (q := 21) C hL d_X_cut_20 rfl ?_
      refine g_aload_0 (q := 22) C d_X_cut_21 rfl ?_
      refine g_iload_1 (q := 23) C d_X_cut_22 rfl ?_
      refine xp_172 (q := 26) C d_X_cut_23 rfl ?_
      refine g_iload_2 (q := 27) C d_X_cut_26 rfl ?_
      refine g_iret C F d_X_cut_27 (Nat.le_refl _) (Nat.le_refl _) ⟨_, _, _, rfl, rfl, by rw [he], ?_⟩
      rw [he]
      exact ⟨h2, ⟨rfl, by omega, fun i hi => h3.2.2 i (by omega)⟩, h4, h7, h8, h9⟩
    · exact absurd (by decide) hz
  · show G E 0 0 9 _ [.int (nI 0)] (bw [xw (xG E) x A f g])
    refine g_if_ne (q := 12) (tgt := 14) C d_X_cut_9 rfl (by decide) (fun hz => ?_) (fun hz => ?_)
    · exact absurd rfl hz
    have he : oCut n (ts, tx, os, ou, rc, re, EE, K, kT, R, pl, ip, to, pn, px, pf) = (-1, (ts, tx, os, ou, rc, re, EE, K, kT, R, pl, ip, to, pn, px, pf)) := if_pos hno
    refine g_iconst (v := (-1)) (q := 13) C d_X_cut_12 rfl (by decide) ?_
    exact g_iret C F d_X_cut_13 (Nat.le_refl _) (Nat.le_refl _) ⟨_, _, _, rfl, rfl, by rw [he], by rw [he]; exact hS⟩
theorem c_X_told {w : Int32} (hS : XA f g S) : Ct l Γ y_X_told b_X_told 2 (some .int) 1 0 0 [.ref x, .int w] (bw [xw Γ x A f g]) (pix Γ x A (fun z f' g' => z = (oTold w S).1 ∧ XA f' g' (oTold w S).2)) := by
  obtain ⟨ts, tx, os, ou, rc, re, EE, K, kT, R, pl, ip, to, pn, px, pf⟩ := S
  obtain ⟨h2, h3, h4, h7, h8, h9⟩ := id hS
  refine Ct.of (by decide) (by simp [Value.category]) (Nat.le_of_ble_eq_true rfl) (fun E eG el en C hR F hnm => ?_)
  subst eG
  subst el
  have hL : 2 ≤ xn E := Nat.le_of_eq en.symm
  show G E 0 0 0 [some (.ref x), some (.int w)] [] (bw [xw (xG E) x A f g])
  have hd : (oTold w (ts, tx, os, ou, rc, re, EE, K, kT, R, pl, ip, to, pn, px, pf)).1 = if ¬ (nI 0 ≤ w ∧ w ≤ nI 2) then -1 else if ip = true then nI (to (cl w)) else -3 := rfl
  refine g_iload_1 (q := 1) C d_X_told_0 rfl ?_
  refine g_iconst (v := nI 0) (q := 2) C d_X_told_1 rfl (by decide) ?_
  refine g_iconst (v := nI 2) (q := 3) C d_X_told_2 rfl (by decide) ?_
  refine xc_163 (q := 6) (wc := []) (wr := bw [xw (xG E) x A f g]) C hR c_X_isIn d_X_told_3 rfl (by decide) (by decide) (by decide) (Nat.le_of_ble_eq_true rfl) (fun v ws' hp => ?_)
  obtain ⟨rfl, ⟨rfl, i1, i2⟩ | ⟨rfl, hno⟩⟩ := hp
  · show G E 0 0 6 _ [.int (nI 1)] (bw [xw (xG E) x A f g])
    rw [if_neg (fun q => q ⟨i1, i2⟩)] at hd
    refine g_if_ne (q := 9) (tgt := 11) C d_X_told_6 rfl (by decide) (fun hz => ?_) (fun hz => ?_)
    · refine g_aload_0 (q := 12) C d_X_told_11 rfl ?_
      refine xg_206 (q := 15) C d_X_told_12 rfl h9.1 ?_
      refine g_if_ne (q := 18) (tgt := 21) C d_X_told_15 rfl (by decide) (fun hq => ?_) (fun hq => ?_)
      · have hip : ip = true := by
          cases q : ip with
          | true => rfl
          | false => rw [q] at hq; exact absurd rfl hq
        obtain ⟨t0, t1, t2⟩ := h9.2.2.2.2.1 hip
        rw [if_pos hip] at hd
        have h48 : ∀ z, z = (oTold w (ts, tx, os, ou, rc, re, EE, K, kT, R, pl, ip, to, pn, px, pf)).1 → G E 0 0 48 [some (.ref x), some (.int w)] [.int z] (bw [xw (xG E) x A f g]) := fun z hz =>
          g_iret C F d_X_told_48 (Nat.le_refl _) (Nat.le_refl _) ⟨_, _, _, rfl, rfl, hz, hS⟩
        obtain ⟨w, hw, rfl⟩ := ix_of2 (n := 2) (by decide) ⟨i1, i2⟩
        rw [cl_nI (by omega)] at hd
        refine g_iload_1 (q := 22) C d_X_told_21 rfl ?_
        refine g_if_ne (q := 25) (tgt := 32) C d_X_told_22 rfl (by decide) (fun a => ?_) (fun a => ?_)
        · refine g_iload_1 (q := 33) C d_X_told_32 rfl ?_
          refine g_iconst (v := nI 1) (q := 34) C d_X_told_33 rfl (by decide) ?_
          refine g_icmp_ne (q := 37) (tgt := 44) C d_X_told_34 rfl (by decide) (fun b => ?_) (fun b => ?_)
          · refine g_aload_0 (q := 45) C d_X_told_44 rfl ?_
            refine xg_188 (q := 48) C d_X_told_45 rfl t2 ?_
            have h0 : w ≠ 0 := fun q => a (by rw [q]; rfl)
            have h1 : w ≠ 1 := fun q => b (by rw [q])
            exact h48 _ (by rw [hd, show w = 2 by omega])
          · refine g_aload_0 (q := 38) C d_X_told_37 rfl ?_
            refine xg_216 (q := 41) C d_X_told_38 rfl t1 ?_
            refine g_goto (tgt := 48) C d_X_told_41 (by decide) ?_
            exact h48 _ (by rw [hd, (nI_eq (by omega) (by decide)).mp (Decidable.not_not.mp b)])
        · refine g_aload_0 (q := 26) C d_X_told_25 rfl ?_
          refine xg_213 (q := 29) C d_X_told_26 rfl t0 ?_
          refine g_goto (tgt := 48) C d_X_told_29 (by decide) ?_
          exact h48 _ (by rw [hd, (nI0 (by omega)).mp (Decidable.not_not.mp a)])
      · have hip : ip = false := by
          cases q : ip with
          | false => rfl
          | true => rw [q] at hq; exact absurd (by decide) hq
        rw [if_neg (by rw [hip]; decide)] at hd
        refine g_bipush (v := (-3)) (q := 20) C d_X_told_18 rfl (by decide) ?_
        exact g_iret C F d_X_told_20 (Nat.le_refl _) (Nat.le_refl _) ⟨_, _, _, rfl, rfl, hd.symm, hS⟩
    · exact absurd (by decide) hz
  · show G E 0 0 6 _ [.int (nI 0)] (bw [xw (xG E) x A f g])
    refine g_if_ne (q := 9) (tgt := 11) C d_X_told_6 rfl (by decide) (fun hz => ?_) (fun hz => ?_)
    · exact absurd rfl hz
    refine g_iconst (v := (-1)) (q := 10) C d_X_told_9 rfl (by decide) ?_
    exact g_iret C F d_X_told_10 (Nat.le_refl _) (Nat.le_refl _) ⟨_, _, _, rfl, rfl, by rw [hd, if_pos hno], hS⟩
theorem c_X_sign {i w : Int32} (hS : XA f g S) : Ct l Γ y_X_sign b_X_sign 3 (some .int) 1 0 0 [.ref x, .int i, .int w] (bw [xw Γ x A f g]) (pix Γ x A (fun z f' g' => z = (oSign i w S).1 ∧ XA f' g' (oSign i w S).2)) := by
  obtain ⟨ts, tx, os, ou, rc, re, EE, K, kT, R, pl, ip, to, pn, px, pf⟩ := S
  obtain ⟨h2, h3, h4, h7, h8, h9⟩ := id hS
  have hpn := h9.2.2.1
  refine Ct.of (by decide) (by simp [Value.category]) (Nat.le_of_ble_eq_true rfl) (fun E eG el en C hR F hnm => ?_)
  subst eG
  subst el
  have hL : 3 ≤ xn E := Nat.le_of_eq en.symm
  show G E 0 0 0 [some (.ref x), some (.int i), some (.int w)] [] (bw [xw (xG E) x A f g])
  have hd : (oSign i w (ts, tx, os, ou, rc, re, EE, K, kT, R, pl, ip, to, pn, px, pf)).1 = if ¬ (nI 0 ≤ i ∧ i ≤ nI pn - nI 1) ∨ ¬ (nI 0 ≤ w ∧ w ≤ nI 1) then -1 else if w = 0 then nI (px (cl i)) else fenc (pf (cl i)) := rfl
  have h30 : (¬ (nI 0 ≤ i ∧ i ≤ nI pn - nI 1) ∨ ¬ (nI 0 ≤ w ∧ w ≤ nI 1)) → G E 0 0 30 [some (.ref x), some (.int i), some (.int w)] [] (bw [xw (xG E) x A f g]) := by
    intro hno
    refine g_iconst (v := (-1)) (q := 31) C d_X_sign_30 rfl (by decide) ?_
    exact g_iret C F d_X_sign_31 (Nat.le_refl _) (Nat.le_refl _) ⟨_, _, _, rfl, rfl, by rw [hd, if_pos hno], hS⟩
  refine g_aload_0 (q := 1) C d_X_sign_0 rfl ?_
  refine xg_206 (q := 4) C d_X_sign_1 rfl h9.1 ?_
  refine g_if_eq (q := 7) (tgt := 30) C d_X_sign_4 rfl (by decide) (fun hq => ?_) (fun hq => ?_)
  · have hip : ip = false := by
      cases q : ip with
      | false => rfl
      | true => rw [q] at hq; exact absurd hq (by decide)
    refine h30 (Or.inl (fun q => ?_))
    rw [h9.2.2.2.1 hip] at q
    exact absurd (Int32.le_trans q.1 q.2) (by decide)
  have hip : ip = true := by
    cases q : ip with
    | true => rfl
    | false => rw [q] at hq; exact absurd (by decide) hq
  refine g_iload_1 (q := 8) C d_X_sign_7 rfl ?_
  refine g_iconst (v := nI 0) (q := 9) C d_X_sign_8 rfl (by decide) ?_
  refine g_aload_0 (q := 10) C d_X_sign_9 rfl ?_
  refine xg_219 (q := 13) C d_X_sign_10 rfl (h9.2.1 hip) ?_
  refine g_iconst (v := nI 1) (q := 14) C d_X_sign_13 rfl (by decide) ?_
  refine g_isub (q := 15) C d_X_sign_14 rfl rfl ?_
  refine xc_163 (q := 18) (wc := []) (wr := bw [xw (xG E) x A f g]) C hR c_X_isIn d_X_sign_15 rfl (by decide) (by decide) (by decide) (Nat.le_of_ble_eq_true rfl) (fun v ws' hp => ?_)
  obtain ⟨rfl, ⟨rfl, i1, i2⟩ | ⟨rfl, hno⟩⟩ := hp
  · show G E 0 0 18 _ [.int (nI 1)] (bw [xw (xG E) x A f g])
    refine g_if_eq (q := 21) (tgt := 30) C d_X_sign_18 rfl (by decide) (fun hz => ?_) (fun hz => ?_)
    · exact absurd hz (by decide)
    refine g_iload_2 (q := 22) C d_X_sign_21 rfl ?_
    refine g_iconst (v := nI 0) (q := 23) C d_X_sign_22 rfl (by decide) ?_
    refine g_iconst (v := nI 1) (q := 24) C d_X_sign_23 rfl (by decide) ?_
    refine xc_163 (q := 27) (wc := []) (wr := bw [xw (xG E) x A f g]) C hR c_X_isIn d_X_sign_24 rfl (by decide) (by decide) (by decide) (Nat.le_of_ble_eq_true rfl) (fun v ws' hp => ?_)
    obtain ⟨rfl, ⟨rfl, j1, j2⟩ | ⟨rfl, hno⟩⟩ := hp
    · show G E 0 0 27 _ [.int (nI 1)] (bw [xw (xG E) x A f g])
      rw [if_neg (fun q => by rcases q with q | q; exact q ⟨i1, i2⟩; exact q ⟨j1, j2⟩)] at hd
      obtain ⟨j, hj, rfl⟩ := ix_of (n := pn) (by omega) ⟨i1, i2⟩
      rw [cl_nI (by omega)] at hd
      obtain ⟨p1, p2⟩ := h9.2.2.2.2.2 j hj
      refine g_if_ne (q := 30) (tgt := 32) C d_X_sign_27 rfl (by decide) (fun hz => ?_) (fun hz => ?_)
      · refine g_iload_2 (q := 33) C d_X_sign_32 rfl ?_
        refine g_if_ne (q := 36) (tgt := 45) C d_X_sign_33 rfl (by decide) (fun a => ?_) (fun a => ?_)
        · refine g_aload_0 (q := 46) C d_X_sign_45 rfl ?_
          refine xg_126 (q := 49) C d_X_sign_46 rfl ?_
          refine g_iload_1 (q := 50) C d_X_sign_49 rfl ?_
          refine xa_8 (q := 51) C d_X_sign_50 rfl rfl (by omega) p2 ?_
          exact g_iret C F d_X_sign_51 (Nat.le_refl _) (Nat.le_refl _) ⟨_, _, _, rfl, rfl, by rw [hd, if_neg a], hS⟩
        · refine g_aload_0 (q := 37) C d_X_sign_36 rfl ?_
          refine xg_123 (q := 40) C d_X_sign_37 rfl ?_
          refine g_iload_1 (q := 41) C d_X_sign_40 rfl ?_
          refine xa_7 (q := 42) C d_X_sign_41 rfl rfl (by omega) p1 ?_
          refine g_goto (tgt := 51) C d_X_sign_42 (by decide) ?_
          exact g_iret C F d_X_sign_51 (Nat.le_refl _) (Nat.le_refl _) ⟨_, _, _, rfl, rfl, by rw [hd, if_pos (Decidable.not_not.mp a)], hS⟩
      · exact absurd (by decide) hz
    · show G E 0 0 27 _ [.int (nI 0)] (bw [xw (xG E) x A f g])
      refine g_if_ne (q := 30) (tgt := 32) C d_X_sign_27 rfl (by decide) (fun hz => ?_) (fun hz => ?_)
      · exact absurd rfl hz
      · exact h30 (Or.inr hno)
  · show G E 0 0 18 _ [.int (nI 0)] (bw [xw (xG E) x A f g])
    refine g_if_eq (q := 21) (tgt := 30) C d_X_sign_18 rfl (by decide) (fun hz => ?_) (fun hz => ?_)
    · exact h30 (Or.inl hno)
    · exact absurd rfl hz
theorem isE_of {e : Int32} (h : isE e) : ∃ m, m < 2 ∧ e = nI m := by
  obtain ⟨m, hm, rfl⟩ := ix_of2 (n := 1) (by decide) h
  exact ⟨m, by omega, rfl⟩
theorem c_X_restarted {e : Int32} (hS : XA f g S) : Ct l Γ y_X_restarted b_X_restarted 2 (some .int) 2 0 0 [.ref x, .int e] (bw [xw Γ x A f g]) (pix Γ x A (fun z f' g' => z = (oRestarted e S).1 ∧ XA f' g' (oRestarted e S).2)) := by
  obtain ⟨ts, tx, os, ou, rc, re, EE, K, kT, R, pl, ip, to, pn, px, pf⟩ := S
  obtain ⟨h2, h3, h4, h7, h8, h9⟩ := id hS
  refine Ct.of (by decide) (by simp [Value.category]) (Nat.le_of_ble_eq_true rfl) (fun E eG el en C hR F hnm => ?_)
  subst eG
  subst el
  have hL : 2 ≤ xn E := Nat.le_of_eq en.symm
  show G E 0 0 0 [some (.ref x), some (.int e)] [] (bw [xw (xG E) x A f g])
  have hd : (oRestarted e (ts, tx, os, ou, rc, re, EE, K, kT, R, pl, ip, to, pn, px, pf)).1 = if isE e then R (cl e) else -1 := rfl
  refine g_iload_1 (q := 1) C d_X_restarted_0 rfl ?_
  refine xc_239 (q := 4) (wc := []) (wr := bw [xw (xG E) x A f g]) C hR c_X_isEnd d_X_restarted_1 rfl (by decide) (by decide) (by decide) (Nat.le_of_ble_eq_true rfl) (fun v ws' hp => ?_)
  obtain ⟨rfl, ⟨rfl, i1⟩ | ⟨rfl, hno⟩⟩ := hp
  · show G E 0 0 4 _ [.int (nI 1)] (bw [xw (xG E) x A f g])
    rw [if_pos i1] at hd
    obtain ⟨m, hm, rfl⟩ := isE_of i1
    rw [cl_nI (by omega)] at hd
    refine g_if_eq (q := 7) (tgt := 16) C d_X_restarted_4 rfl (by decide) (fun hz => ?_) (fun hz => ?_)
    · exact absurd hz (by decide)
    refine g_aload_0 (q := 8) C d_X_restarted_7 rfl ?_
    refine xg_77 (q := 11) C d_X_restarted_8 rfl ?_
    refine g_iload_1 (q := 12) C d_X_restarted_11 rfl ?_
    refine xa_2 (q := 13) C d_X_restarted_12 rfl rfl (by omega) (h7 m hm) ?_
    refine g_goto (tgt := 17) C d_X_restarted_13 (by decide) ?_
    exact g_iret C F d_X_restarted_17 (Nat.le_refl _) (Nat.le_refl _) ⟨_, _, _, rfl, rfl, hd.symm, hS⟩
  · show G E 0 0 4 _ [.int (nI 0)] (bw [xw (xG E) x A f g])
    refine g_if_eq (q := 7) (tgt := 16) C d_X_restarted_4 rfl (by decide) (fun hz => ?_) (fun hz => ?_)
    · refine g_iconst (v := (-1)) (q := 17) C d_X_restarted_16 rfl (by decide) ?_
      exact g_iret C F d_X_restarted_17 (Nat.le_refl _) (Nat.le_refl _) ⟨_, _, _, rfl, rfl, by rw [hd, if_neg hno], hS⟩
    · exact absurd rfl hz
end
