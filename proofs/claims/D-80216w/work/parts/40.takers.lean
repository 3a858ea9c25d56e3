/-! THE TAKERS: writing (PpmTrees$1), reading (PpmTrees$2), the sum -/
section
variable {l : Launch} {Γ : Gl} {t x c2 : Nat} {A : Nat → Nat} {f fw fr gw : Nat → Int32} {g : Nat → Nat → Int32} {ws : va_W}
theorem c_P1_pointed {v : Int32} : Ct l Γ y_P1_pointed b_P1_pointed 2 (some .int) 0 0 0 [.ref t, .int v] ws (fun r w => r = some (.int (-1)) ∧ w = ws) := by
  refine Ct.of (by decide) (by simp [Value.category]) (Nat.le_of_ble_eq_true rfl) (fun E eG el en C hR F hnm => ?_)
  subst eG
  subst el
  have hL : 2 ≤ xn E := Nat.le_of_eq en.symm
  show G E 0 0 0 [some (.ref t), some (.int v)] [] ws
  refine g_iconst (v := (-1)) (q := 1) C d_P1_pointed_0 rfl (by decide) ?_
  exact g_iret C F d_P1_pointed_1 (Nat.le_refl _) (Nat.le_refl _) ⟨rfl, rfl⟩
theorem c_Su_pointed {v : Int32} : Ct l Γ y_Su_pointed b_Su_pointed 2 (some .int) 0 0 0 [.ref t, .int v] ws (fun r w => r = some (.int (-1)) ∧ w = ws) := by
  refine Ct.of (by decide) (by simp [Value.category]) (Nat.le_of_ble_eq_true rfl) (fun E eG el en C hR F hnm => ?_)
  subst eG
  subst el
  have hL : 2 ≤ xn E := Nat.le_of_eq en.symm
  show G E 0 0 0 [some (.ref t), some (.int v)] [] ws
  refine g_iconst (v := (-1)) (q := 1) C d_Su_pointed_0 rfl (by decide) ?_
  exact g_iret C F d_Su_pointed_1 (Nat.le_refl _) (Nat.le_refl _) ⟨rfl, rfl⟩
theorem c_P1_take {s : Sp} {c : Cd} (hW : WC fw gw c) (hc : CdOk c) (hs : SpOk s) (hn : c.2.2.1 + c.2.2.2.1 + 17 ≤ 32768) :
    Ct l Γ y_P1_take b_P1_take 4 none 5 0 0 [.ref t, .int (nI s.1), .int (nI s.2.1), .int (nI s.2.2)] (bw [xw Γ x A f g, p1w t x, ww Γ (A 11) c2 fw gw]) (fun r w => r = none ∧ ∃ fw' gw', w = bw [xw Γ x A f g, p1w t x, ww Γ (A 11) c2 fw' gw'] ∧ WC fw' gw' (wspan s c)) := by
  refine Ct.of (by decide) (by simp [Value.category]) (Nat.le_of_ble_eq_true rfl) (fun E eG el en C hR F hnm => ?_)
  subst eG
  subst el
  have hL : 4 ≤ xn E := Nat.le_of_eq en.symm
  show G E 0 0 0 [some (.ref t), some (.int (nI s.1)), some (.int (nI s.2.1)), some (.int (nI s.2.2))] [] (bw [xw (xG E) x A f g, p1w t x, ww (xG E) (A 11) c2 fw gw])
  refine g_blk (Bs := [xw (xG E) x A f g, p1w t x, ww (xG E) (A 11) c2 fw gw]) (Bs' := [p1w t x, xw (xG E) x A f g, ww (xG E) (A 11) c2 fw gw]) [1, 0, 2] (nB := 3) rfl rfl (by decide) ?_
  refine g_aload_0 (q := 1) C d_P1_take_0 rfl ?_
  refine P1g_1 (q := 4) C d_P1_take_1 rfl ?_
  refine P1g_13 (q := 7) C d_P1_take_4 rfl ?_
  refine g_iload_1 (q := 8) C d_P1_take_7 rfl ?_
  refine g_iload_2 (q := 9) C d_P1_take_8 rfl ?_
  refine g_iload_3 (q := 10) C d_P1_take_9 rfl ?_
  refine g_blk (Bs := [p1w t x, xw (xG E) x A f g, ww (xG E) (A 11) c2 fw gw]) (Bs' := [ww (xG E) (A 11) c2 fw gw, p1w t x, xw (xG E) x A f g]) [2, 0, 1] (nB := 3) rfl rfl (by decide) ?_
  refine P1c_19 (q := 13) (wr := bw [p1w t x, xw (xG E) x A f g]) C hR (c_Wr_span hW hc hs hn) rfl d_P1_take_10 rfl (by decide) (by decide) (by decide) (Nat.le_of_ble_eq_true rfl) (fun v ws' hp => ?_)
  obtain ⟨rfl, f', g', rfl, hW'⟩ := hp
  refine g_blk (Bs := [ww (xG E) (A 11) c2 f' g', p1w t x, xw (xG E) x A f g]) (Bs' := [xw (xG E) x A f g, p1w t x, ww (xG E) (A 11) c2 f' g']) [2, 1, 0] (nB := 3) rfl rfl (by decide) ?_
  exact g_vret C F d_P1_take_13 (Nat.le_refl _) (Nat.le_refl _) ⟨rfl, f', g', rfl, hW'⟩
theorem c_P2_pointed {of : Nat} {r : Rd} (hW : RC fr r) (h1 : r.1 ≤ r.2.2.1) (h2 : r.2.2.1 ≤ r.2.1) (h3 : r.2.1 < 65536) (ho : 0 < of) (ho2 : of ≤ 16384) :
    Ct l Γ y_P2_pointed b_P2_pointed 2 (some .int) 1 0 0 [.ref t, .int (nI of)] (bw [xw Γ x A f g, p2w t x, rw1 (A 13) x fr, ww Γ (A 12) c2 fw gw]) (fun r' w => r' = some (.int (nI (ask r of))) ∧ w = bw [xw Γ x A f g, p2w t x, rw1 (A 13) x fr, ww Γ (A 12) c2 fw gw]) := by
  refine Ct.of (by decide) (by simp [Value.category]) (Nat.le_of_ble_eq_true rfl) (fun E eG el en C hR F hnm => ?_)
  subst eG
  subst el
  have hL : 2 ≤ xn E := Nat.le_of_eq en.symm
  show G E 0 0 0 [some (.ref t), some (.int (nI of))] [] (bw [xw (xG E) x A f g, p2w t x, rw1 (A 13) x fr, ww (xG E) (A 12) c2 fw gw])
  refine g_blk (Bs := [xw (xG E) x A f g, p2w t x, rw1 (A 13) x fr, ww (xG E) (A 12) c2 fw gw]) (Bs' := [p2w t x, xw (xG E) x A f g, rw1 (A 13) x fr, ww (xG E) (A 12) c2 fw gw]) [1, 0, 2, 3] (nB := 4) rfl rfl (by decide) ?_
  refine g_aload_0 (q := 1) C d_P2_pointed_0 rfl ?_
  refine P2g_1 (q := 4) C d_P2_pointed_1 rfl ?_
  refine P2g_13 (q := 7) C d_P2_pointed_4 rfl ?_
  refine g_iload_1 (q := 8) C d_P2_pointed_7 rfl ?_
  refine g_blk (Bs := [p2w t x, xw (xG E) x A f g, rw1 (A 13) x fr, ww (xG E) (A 12) c2 fw gw]) (Bs' := [rw1 (A 13) x fr, xw (xG E) x A f g, p2w t x, ww (xG E) (A 12) c2 fw gw]) [2, 1, 0, 3] (nB := 4) rfl rfl (by decide) ?_
  refine g_ws (ws' := (rw1 (A 13) x fr ++ xw (xG E) x A f g) ++ bw [p2w t x, ww (xG E) (A 12) c2 fw gw]) (List.append_assoc _ _ _).symm ?_
  refine P2c_19 (q := 11) C hR (c_Re_pointed hW h1 h2 h3 ho ho2) rfl d_P2_pointed_8 rfl (by decide) (by decide) (by decide) (Nat.le_of_ble_eq_true rfl) (fun v ws' hp => ?_)
  obtain ⟨z, f', rfl, rfl, rfl, rfl⟩ := hp
  refine g_ws (ws' := bw [rw1 (A 13) x f', xw (xG E) x A f g, p2w t x, ww (xG E) (A 12) c2 fw gw]) (List.append_assoc _ _ _) ?_
  refine g_blk (Bs := [rw1 (A 13) x f', xw (xG E) x A f g, p2w t x, ww (xG E) (A 12) c2 fw gw]) (Bs' := [xw (xG E) x A f g, p2w t x, rw1 (A 13) x f', ww (xG E) (A 12) c2 fw gw]) [1, 2, 0, 3] (nB := 4) rfl rfl (by decide) ?_
  exact g_iret C F d_P2_pointed_11 (Nat.le_refl _) (Nat.le_refl _) ⟨rfl, rfl⟩
theorem c_P2_take {s : Sp} {c : Cd} {r : Rd} {out : Nat → Nat} {os : Nat} (hO : XO f g out os) (hr : RC fr r) (hk : RdOk r) (hl : s.1 ≤ ask r s.2.2) (hh : ask r s.2.2 < s.1 + s.2.1) (htk : r.2.2.2 + 17 < 2 ^ 30) (hW : WC fw gw c) (hc : CdOk c) (hs : SpOk s) (hn : c.2.2.1 + c.2.2.2.1 + 17 ≤ 32768) :
    Ct l Γ y_P2_take b_P2_take 4 none 5 0 0 [.ref t, .int (nI s.1), .int (nI s.2.1), .int (nI s.2.2)] (bw [xw Γ x A f g, p2w t x, rw1 (A 13) x fr, ww Γ (A 12) c2 fw gw]) (fun r' w => r' = none ∧ ∃ fr' fw' gw', w = bw [xw Γ x A f g, p2w t x, rw1 (A 13) x fr', ww Γ (A 12) c2 fw' gw'] ∧ RC fr' (rspan (nbit out os) s r) ∧ WC fw' gw' (wspan s c)) := by
  refine Ct.of (by decide) (by simp [Value.category]) (Nat.le_of_ble_eq_true rfl) (fun E eG el en C hR F hnm => ?_)
  subst eG
  subst el
  have hL : 4 ≤ xn E := Nat.le_of_eq en.symm
  show G E 0 0 0 [some (.ref t), some (.int (nI s.1)), some (.int (nI s.2.1)), some (.int (nI s.2.2))] [] (bw [xw (xG E) x A f g, p2w t x, rw1 (A 13) x fr, ww (xG E) (A 12) c2 fw gw])
  refine g_blk (Bs := [xw (xG E) x A f g, p2w t x, rw1 (A 13) x fr, ww (xG E) (A 12) c2 fw gw]) (Bs' := [p2w t x, xw (xG E) x A f g, rw1 (A 13) x fr, ww (xG E) (A 12) c2 fw gw]) [1, 0, 2, 3] (nB := 4) rfl rfl (by decide) ?_
  refine g_aload_0 (q := 1) C d_P2_take_0 rfl ?_
  refine P2g_1 (q := 4) C d_P2_take_1 rfl ?_
  refine P2g_13 (q := 7) C d_P2_take_4 rfl ?_
  refine g_iload_1 (q := 8) C d_P2_take_7 rfl ?_
  refine g_iload_2 (q := 9) C d_P2_take_8 rfl ?_
  refine g_iload_3 (q := 10) C d_P2_take_9 rfl ?_
  refine g_blk (Bs := [p2w t x, xw (xG E) x A f g, rw1 (A 13) x fr, ww (xG E) (A 12) c2 fw gw]) (Bs' := [rw1 (A 13) x fr, xw (xG E) x A f g, p2w t x, ww (xG E) (A 12) c2 fw gw]) [2, 1, 0, 3] (nB := 4) rfl rfl (by decide) ?_
  refine g_ws (ws' := (rw1 (A 13) x fr ++ xw (xG E) x A f g) ++ bw [p2w t x, ww (xG E) (A 12) c2 fw gw]) (List.append_assoc _ _ _).symm ?_
  refine P2c_25 (q := 13) C hR (c_Re_span hO hr hk hs hl hh htk) rfl d_P2_take_10 rfl (by decide) (by decide) (by decide) (Nat.le_of_ble_eq_true rfl) (fun v ws' hp => ?_)
  obtain ⟨rfl, fr', rfl, hr'⟩ := hp
  refine g_ws (ws' := bw [rw1 (A 13) x fr', xw (xG E) x A f g, p2w t x, ww (xG E) (A 12) c2 fw gw]) (List.append_assoc _ _ _) ?_
  refine g_blk (Bs := [rw1 (A 13) x fr', xw (xG E) x A f g, p2w t x, ww (xG E) (A 12) c2 fw gw]) (Bs' := [p2w t x, xw (xG E) x A f g, rw1 (A 13) x fr', ww (xG E) (A 12) c2 fw gw]) [2, 1, 0, 3] (nB := 4) rfl rfl (by decide) ?_
  refine g_aload_0 (q := 14) C d_P2_take_13 rfl ?_
  refine P2g_1 (q := 17) C d_P2_take_14 rfl ?_
  refine P2g_29 (q := 20) C d_P2_take_17 rfl ?_
  refine g_iload_1 (q := 21) C d_P2_take_20 rfl ?_
  refine g_iload_2 (q := 22) C d_P2_take_21 rfl ?_
  refine g_iload_3 (q := 23) C d_P2_take_22 rfl ?_
  refine g_blk (Bs := [p2w t x, xw (xG E) x A f g, rw1 (A 13) x fr', ww (xG E) (A 12) c2 fw gw]) (Bs' := [ww (xG E) (A 12) c2 fw gw, p2w t x, xw (xG E) x A f g, rw1 (A 13) x fr']) [3, 0, 1, 2] (nB := 4) rfl rfl (by decide) ?_
  refine P2c_33 (q := 26) (wr := bw [p2w t x, xw (xG E) x A f g, rw1 (A 13) x fr']) C hR (c_Wr_span hW hc hs hn) rfl d_P2_take_23 rfl (by decide) (by decide) (by decide) (Nat.le_of_ble_eq_true rfl) (fun v ws' hp => ?_)
  obtain ⟨rfl, f', g', rfl, hW'⟩ := hp
  refine g_blk (Bs := [ww (xG E) (A 12) c2 f' g', p2w t x, xw (xG E) x A f g, rw1 (A 13) x fr']) (Bs' := [xw (xG E) x A f g, p2w t x, rw1 (A 13) x fr', ww (xG E) (A 12) c2 f' g']) [2, 1, 3, 0] (nB := 4) rfl rfl (by decide) ?_
  exact g_vret C F d_P2_take_26 (Nat.le_refl _) (Nat.le_refl _) ⟨rfl, fr', f', g', rfl, hr', hW'⟩
theorem c_Su_take {s : Sp} {n : Nat} (hs : SpOk s) :
    Ct l Γ y_Su_take b_Su_take 5 none 0 0 0 [.ref t, .int (nI s.1), .int (nI s.2.1), .int (nI s.2.2)] (bw [xw Γ x A f g, sw t (nI n)]) (fun r w => r = none ∧ w = bw [xw Γ x A f g, sw t (nI (n + bo s))]) := by
  obtain ⟨fr, len, of⟩ := s
  obtain ⟨h0, hlo, h1⟩ := hs
  simp only at h0 hlo h1
  refine Ct.of (by decide) (by simp [Value.category]) (Nat.le_of_ble_eq_true rfl) (fun E eG el en C hR F hnm => ?_)
  subst eG
  subst el
  have hL : 5 ≤ xn E := Nat.le_of_eq en.symm
  show G E 0 0 0 [some (.ref t), some (.int (nI fr)), some (.int (nI len)), some (.int (nI of)), none] [] (bw [xw (xG E) x A f g, sw t (nI n)])
  refine g_blk (Bs := [xw (xG E) x A f g, sw t (nI n)]) (Bs' := [sw t (nI n), xw (xG E) x A f g]) [1, 0] (nB := 2) rfl rfl (by decide) ?_
  have loop : ∀ j k, k + j = 15 → (k = 0 ∨ len * 2 ^ (k - 1) < of) → kb len of j k = kb len of 15 0 → G E 0 0 3 [some (.ref t), some (.int (nI fr)), some (.int (nI len)), some (.int (nI of)), some (.int (nI k))] [] (sw t (nI n) ++ bw [xw (xG E) x A f g]) := by
    intro j
    induction j with
    | zero =>
      intro k hk hp
      have : k = 15 := by omega
      subst this
      rcases hp with q | q
      · omega
      · have : 1 * 2 ^ (15 - 1) ≤ len * 2 ^ (15 - 1) := Nat.mul_le_mul_right _ h0
        omega
    | succ j ih =>
      intro k hk hp he
      have hpow : 2 ^ k ≤ 2 ^ 14 := Nat.pow_le_pow_right (by decide) (by omega)
      have hm : len * 2 ^ k ≤ 16384 * 2 ^ 14 := Nat.mul_le_mul (by omega) hpow
      refine g_iload_2 (q := 4) C d_Su_take_3 rfl ?_
      refine g_iload_4 (q := 6) C d_Su_take_4 rfl ?_
      refine g_ishl (q := 7) C d_Su_take_6 rfl (nIshl (by omega) (by omega)) ?_
      refine g_iload_3 (q := 8) C d_Su_take_7 rfl ?_
      refine g_icmp_ge (q := 11) (tgt := 17) C d_Su_take_8 rfl (by decide) (fun hc => ?_) (fun hc => ?_)
      · have hc := (nI_leI (by omega) (by omega)).mp hc
        have hb : kb len of 15 0 = k := by
          rw [← he]
          show (if _ then _ else _) = k
          rw [if_neg (by omega)]
        refine g_aload_0 (q := 18) C d_Su_take_17 rfl ?_
        refine g_dup_r (q := 19) C d_Su_take_18 rfl ?_
        refine Sug_7 (q := 22) C d_Su_take_19 rfl rfl ?_
        refine g_iload_4 (q := 24) C d_Su_take_22 rfl ?_
        refine g_iadd (q := 25) C d_Su_take_24 rfl (nI_add _ _) ?_
        refine Sup_7 (q := 28) C d_Su_take_25 rfl ?_
        refine g_blk (Bs := [sw t (nI (n + k)), xw (xG E) x A f g]) (Bs' := [xw (xG E) x A f g, sw t (nI (n + k))]) [1, 0] (nB := 2) rfl rfl (by decide) ?_
        exact g_vret C F d_Su_take_28 (Nat.le_refl _) (Nat.le_refl _) ⟨rfl, by show _ = bw [xw (xG E) x A f g, sw t (nI (n + kb len of 15 0))]; rw [hb]⟩
      · have hc : len * 2 ^ k < of := Nat.lt_of_not_le (fun q => hc ((nI_leI (by omega) (by omega)).mpr q))
        refine g_iinc_4 (q := 14) C hL d_Su_take_11 rfl (nI_inc _) ?_
        refine g_goto (tgt := 3) C d_Su_take_14 (by decide) ?_
        refine ih (k + 1) (by omega) (Or.inr (by rw [show k + 1 - 1 = k by omega]; exact hc)) ?_
        rw [← he]
        show _ = (if _ then _ else _)
        rw [if_pos hc]
  refine g_iconst (v := nI 0) (q := 1) C d_Su_take_0 rfl (by decide) ?_
  refine g_istore_4 (q := 3) C hL d_Su_take_1 rfl ?_
  exact loop 15 0 (by omega) (Or.inl rfl) rfl
end
