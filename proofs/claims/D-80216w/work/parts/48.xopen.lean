/-! PpmTrees: isAsWritten, open -/
theorem dif_le {a b : Nat → Nat} : ∀ j i, dif a b j i ≤ i + j
  | 0, i => Nat.le_refl _
  | j + 1, i => by
    unfold dif
    split
    · have := dif_le (a := a) (b := b) j (i + 1); omega
    · omega
theorem wsq_cong {ord room N N' : Nat} {row row' : Nat → Nat} {T : Tr} : ∀ i, i ≤ N → i ≤ N' → (∀ k, k < i → row k = row' k) → wsq ord room N row T i = wsq ord room N' row' T i
  | 0, _, _, _ => rfl
  | i + 1, h1, h2, h3 => by
    show wst ord room N row (wsq ord room N row T i) i = wst ord room N' row' (wsq ord room N' row' T i) i
    rw [wsq_cong (N := N) (N' := N') i (by omega) (by omega) (fun k hk => h3 k (by omega))]
    have e1 : sgn N row i = row i := by unfold sgn; rw [if_pos (by omega)]
    have e2 : sgn N' row' i = row i := by unfold sgn; rw [if_pos (by omega), h3 i (by omega)]
    unfold wst
    rw [e1, e2, ← h3 i (by omega)]
    simp only [show i < N by omega, show i < N' by omega]
theorem wsq_next {ord room n s : Nat} {row : Nat → Nat} {T : Tr} : wsq ord room (n + 1) (upN row n s) T (n + 1) = ((learnT ord room s ((tell (wsq ord room n row T n).1 s).2.1 - 1) (wsq ord room n row T n).1).1, wf (tell (wsq ord room n row T n).1 s).1 (wsq ord room n row T n).2.1, (wsq ord room n row T n).2.2.1 + (tell (wsq ord room n row T n).1 s).2.2.2, (wsq ord room n row T n).2.2.2 + if (learnT ord room s ((tell (wsq ord room n row T n).1 s).2.1 - 1) (wsq ord room n row T n).1).2 = true then 1 else 0) := by
  show wst ord room (n + 1) (upN row n s) (wsq ord room (n + 1) (upN row n s) T n) n = _
  rw [wsq_cong (N' := n) (row' := row) n (by omega) (Nat.le_refl _) (fun k hk => upN_n (by omega))]
  have e1 : sgn (n + 1) (upN row n s) n = s := by unfold sgn; rw [if_pos (by omega), upN_s]
  unfold wst
  rw [e1, upN_s, if_pos (Nat.lt_succ_self n)]
  simp only [Nat.lt_succ_self n, true_and]
theorem wsq_last {ord room n : Nat} {row : Nat → Nat} {T : Tr} : (wsq ord room n row T (n + 1)).1 = (wsq ord room n row T n).1 ∧ (wsq ord room n row T (n + 1)).2.1 = wf (tell (wsq ord room n row T n).1 256).1 (wsq ord room n row T n).2.1 := by
  have e1 : sgn n row n = 256 := by unfold sgn; rw [if_neg (by omega)]
  constructor
  · show (if n < n then _ else _) = _
    rw [if_neg (by omega)]
  · show wf (tell _ (sgn n row n)).1 _ = _
    rw [e1]
section
variable {l : Launch} {Γ : Gl} {x c2 ord rm os : Nat} {A b b2 : Nat → Nat} {f fm fb fw gw fr : Nat → Int32} {g gm gb : Nat → Nat → Int32} {S : Sg} {ou : Nat → Nat}
theorem c_X_isAsWritten {c : Cd} (hO : XO f g ou os) (hW : WC fw gw c) (hc : CdOk c) (hn : c.2.2.1 + c.2.2.2.1 + 2 ≤ 32768) :
    Ct l Γ y_X_isAsWritten b_X_isAsWritten 3 (some .boolean) 3 0 0 [.ref x] (bw [xw Γ x A f g, ww Γ (A 12) c2 fw gw]) (fun r w => ∃ z f' fw' gw', r = some (.int z) ∧ w = bw [xw Γ x A f' g, ww Γ (A 12) c2 fw' gw'] ∧
      ((z = nI 1 ∧ f' = f ∧ ¬ (dif (cend c).2.2.2.2 ou (min (((cend c).2.2.2.1 + 7) / 8) os) 0 < ((cend c).2.2.2.1 + 7) / 8 ∨ dif (cend c).2.2.2.2 ou (min (((cend c).2.2.2.1 + 7) / 8) os) 0 < os)) ∨
       (z = nI 0 ∧ f' = upd f 6 (nI (dif (cend c).2.2.2.2 ou (min (((cend c).2.2.2.1 + 7) / 8) os) 0)) ∧ (dif (cend c).2.2.2.2 ou (min (((cend c).2.2.2.1 + 7) / 8) os) 0 < ((cend c).2.2.2.1 + 7) / 8 ∨ dif (cend c).2.2.2.2 ou (min (((cend c).2.2.2.1 + 7) / 8) os) 0 < os)))) := by
  obtain ⟨h4, hos, hou⟩ := hO
  have hcb : (cend c).2.2.2.1 = c.2.2.2.1 + 1 + (c.2.2.1 + 1) := rfl
  have hB2 : ∀ i, (cend c).2.2.2.2 i < 256 := wput_lt (by split <;> decide) hc.2.2.2.2
  refine Ct.of (by decide) (by simp [Value.category]) (Nat.le_of_ble_eq_true rfl) (fun E eG el en C hR F hnm => ?_)
  subst eG
  subst el
  have hL : 3 ≤ xn E := Nat.le_of_eq en.symm
  show G E 0 0 0 [some (.ref x), none, none] [] (bw [xw (xG E) x A f g, ww (xG E) (A 12) c2 fw gw])
  refine g_aload_0 (q := 1) C d_X_isAsWritten_0 rfl ?_
  refine xg_108 (q := 4) C d_X_isAsWritten_1 rfl ?_
  refine g_blk (Bs := [xw (xG E) x A f g, ww (xG E) (A 12) c2 fw gw]) (Bs' := [ww (xG E) (A 12) c2 fw gw, xw (xG E) x A f g]) [1, 0] (nB := 2) rfl rfl (by decide) ?_
  refine xc_199 (q := 7) (fs := [.int (fw 0), .int (fw 1), .int (fw 2), .int (fw 3), .ref c2]) (wr := bw [xw (xG E) x A f g]) C hR (c_Wr_end hW hc hn) rfl d_X_isAsWritten_4 rfl (by decide) (by decide) (by decide) (Nat.le_of_ble_eq_true rfl) (fun v ws' hp => ?_)
  obtain ⟨z, fw2, gw2, rfl, rfl, rfl, hW2⟩ := hp
  refine g_blk (Bs := [ww (xG E) (A 12) c2 fw2 gw2, xw (xG E) x A f g]) (Bs' := [xw (xG E) x A f g, ww (xG E) (A 12) c2 fw2 gw2]) [1, 0] (nB := 2) rfl rfl (by decide) ?_
  obtain ⟨w0, w1, w2, w3, wB⟩ := hW2
  generalize hz : ((cend c).2.2.2.1 + 7) / 8 = z
  have hz1 : z ≤ 4096 := by omega
  have hz8 : ∀ i, i < z → 8 * i < (cend c).2.2.2.1 := fun i hi => by omega
  generalize cend c = WR at *
  show G E 0 0 7 _ [.int (nI z)] (bw [xw (xG E) x A f g, ww (xG E) (A 12) c2 fw2 gw2])
  have h51 : ∀ i, i = dif WR.2.2.2.2 ou (min z os) 0 → i ≤ z → i ≤ os → G E 0 0 51 [some (.ref x), some (.int (nI z)), some (.int (nI i))] [] (bw [xw (xG E) x A f g, ww (xG E) (A 12) c2 fw2 gw2]) := by
    intro i hi hiz hios
    have h66 : (i < z ∨ i < os) → G E 0 0 66 [some (.ref x), some (.int (nI z)), some (.int (nI i))] [] (bw [xw (xG E) x A f g, ww (xG E) (A 12) c2 fw2 gw2]) := by
      intro hlt
      refine g_aload_0 (q := 67) C d_X_isAsWritten_66 rfl ?_
      refine g_iload_2 (q := 68) C d_X_isAsWritten_67 rfl ?_
      refine xp_120 (q := 71) C d_X_isAsWritten_68 rfl ?_
      refine g_iconst (v := nI 0) (q := 72) C d_X_isAsWritten_71 rfl (by decide) ?_
      exact g_zret C F d_X_isAsWritten_72 (Or.inl rfl) (Nat.le_refl _) (Nat.le_refl _) ⟨_, _, _, _, rfl, rfl, Or.inr ⟨rfl, by rw [hz, ← hi], by rw [hz, ← hi]; exact hlt⟩⟩
    refine g_iload_2 (q := 52) C d_X_isAsWritten_51 rfl ?_
    refine g_iload_1 (q := 53) C d_X_isAsWritten_52 rfl ?_
    refine g_icmp_ne (q := 56) (tgt := 66) C d_X_isAsWritten_53 rfl (by decide) (fun hq => ?_) (fun hq => ?_)
    · exact h66 (by have : i ≠ z := fun q => hq (by rw [q]); omega)
    have hq : i = z := (nI_eq (by omega) (by omega)).mp (Decidable.not_not.mp hq)
    refine g_iload_2 (q := 57) C d_X_isAsWritten_56 rfl ?_
    refine g_aload_0 (q := 58) C d_X_isAsWritten_57 rfl ?_
    refine xg_172 (q := 61) C d_X_isAsWritten_58 rfl h4 ?_
    refine g_icmp_ne (q := 64) (tgt := 66) C d_X_isAsWritten_61 rfl (by decide) (fun hq2 => ?_) (fun hq2 => ?_)
    · exact h66 (by have : i ≠ os := fun q => hq2 (by rw [q]); omega)
    have hq2 : i = os := (nI_eq (by omega) (by omega)).mp (Decidable.not_not.mp hq2)
    refine g_iconst (v := nI 1) (q := 65) C d_X_isAsWritten_64 rfl (by decide) ?_
    exact g_zret C F d_X_isAsWritten_65 (Or.inr rfl) (Nat.le_refl _) (Nat.le_refl _) ⟨_, _, _, _, rfl, rfl, Or.inl ⟨rfl, rfl, by rw [hz, ← hi]; omega⟩⟩
  have cmp : ∀ j i, i + j = min z os → dif WR.2.2.2.2 ou j i = dif WR.2.2.2.2 ou (min z os) 0 → G E 0 0 10 [some (.ref x), some (.int (nI z)), some (.int (nI i))] [] (bw [xw (xG E) x A f g, ww (xG E) (A 12) c2 fw2 gw2]) := by
    intro j
    induction j with
    | zero =>
      intro i hi he
      have h := h51 i he (by omega) (by omega)
      refine g_iload_2 (q := 11) C d_X_isAsWritten_10 rfl ?_
      refine g_iload_1 (q := 12) C d_X_isAsWritten_11 rfl ?_
      refine g_icmp_ge (q := 15) (tgt := 51) C d_X_isAsWritten_12 rfl (by decide) (fun hc => ?_) (fun hc => ?_)
      · exact h
      have hc : i < z := Nat.lt_of_not_le (fun q => hc ((nI_leI (by omega) (by omega)).mpr q))
      refine g_iload_2 (q := 16) C d_X_isAsWritten_15 rfl ?_
      refine g_aload_0 (q := 17) C d_X_isAsWritten_16 rfl ?_
      refine xg_172 (q := 20) C d_X_isAsWritten_17 rfl h4 ?_
      refine g_icmp_ge (q := 23) (tgt := 51) C d_X_isAsWritten_20 rfl (by decide) (fun hc2 => ?_) (fun hc2 => ?_)
      · exact h
      have hc2 : i < os := Nat.lt_of_not_le (fun q => hc2 ((nI_leI (by omega) (by omega)).mpr q))
      omega
    | succ j ih =>
      intro i hi he
      have hiz : i < z := by omega
      have hio : i < os := by omega
      obtain ⟨u1, u2⟩ := hou i hio
      have u3 := hB2 i
      refine g_iload_2 (q := 11) C d_X_isAsWritten_10 rfl ?_
      refine g_iload_1 (q := 12) C d_X_isAsWritten_11 rfl ?_
      refine g_icmp_ge (q := 15) (tgt := 51) C d_X_isAsWritten_12 rfl (by decide) (fun hc => ?_) (fun hc => ?_)
      · exact absurd ((nI_leI (by omega) (by omega)).mp hc) (by omega)
      refine g_iload_2 (q := 16) C d_X_isAsWritten_15 rfl ?_
      refine g_aload_0 (q := 17) C d_X_isAsWritten_16 rfl ?_
      refine xg_172 (q := 20) C d_X_isAsWritten_17 rfl h4 ?_
      refine g_icmp_ge (q := 23) (tgt := 51) C d_X_isAsWritten_20 rfl (by decide) (fun hc2 => ?_) (fun hc2 => ?_)
      · exact absurd ((nI_leI (by omega) (by omega)).mp hc2) (by omega)
      refine g_aload_0 (q := 24) C d_X_isAsWritten_23 rfl ?_
      refine xg_90 (q := 27) C d_X_isAsWritten_24 rfl ?_
      refine g_iload_2 (q := 28) C d_X_isAsWritten_27 rfl ?_
      refine xa_4 (q := 29) C d_X_isAsWritten_28 rfl rfl (by omega) u1 ?_
      refine g_aload_0 (q := 30) C d_X_isAsWritten_29 rfl ?_
      refine xg_108 (q := 33) C d_X_isAsWritten_30 rfl ?_
      refine xw_203 (q := 36) C d_X_isAsWritten_33 rfl ?_
      refine g_iload_2 (q := 37) C d_X_isAsWritten_36 rfl ?_
      refine xwb (q := 38) C d_X_isAsWritten_37 rfl rfl (by omega) (wB i (hz8 i hiz)) ?_
      refine g_sipush (v := nI 255) (q := 41) C d_X_isAsWritten_38 rfl (by decide) ?_
      refine g_iand (q := 42) C d_X_isAsWritten_41 rfl (bt8_and _ u3) ?_
      refine g_icmp_ne (q := 45) (tgt := 51) C d_X_isAsWritten_42 rfl (by decide) (fun hc3 => ?_) (fun hc3 => ?_)
      · have hne : ¬ WR.2.2.2.2 i = ou i := fun q => hc3 (by rw [q])
        refine h51 i ?_ (by omega) (by omega)
        rw [← he]
        show _ = (if _ then _ else _)
        rw [if_neg hne]
      · have heq : ou i = WR.2.2.2.2 i := (nI_eq (by omega) (by omega)).mp (Decidable.not_not.mp hc3)
        refine g_iinc_2 (q := 48) C hL d_X_isAsWritten_45 rfl (nI_inc _) ?_
        refine g_goto (tgt := 10) C d_X_isAsWritten_48 (by decide) ?_
        refine ih (i + 1) (by omega) ?_
        rw [← he]
        show _ = (if _ then _ else _)
        rw [if_pos heq.symm]
  refine g_istore_1 (q := 8) C hL d_X_isAsWritten_7 rfl ?_
  refine g_iconst (v := nI 0) (q := 9) C d_X_isAsWritten_8 rfl (by decide) ?_
  refine g_istore_2 (q := 10) C hL d_X_isAsWritten_9 rfl ?_
  exact cmp (min z os) 0 (Nat.zero_add _) rfl
theorem c_X_open (hS : XA f g S) (hM : MR fm gm ord rm (S.2.2.2.2.2.2.1 1)) (hI : TI ord rm (S.2.2.2.2.2.2.1 1)) (hb0 : fb 0 = nI ord) (hb1 : fb 1 = nI rm) : Ct l Γ y_X_open b_X_open 6 (some .int) 8 0 0 [.ref x] (bw [xw Γ x A f g, mw Γ (A 18) b rm fm gm, mw Γ (A 10) b2 rm fb gb, p2w (A 15) x, rw1 (A 13) x fr, ww Γ (A 12) c2 fw gw]) (fun r w => r = some (.int (oOpen ord rm S).1) ∧ ∃ f' g' fm' gm' fb' gb' fr' fw' gw', w = bw [xw Γ x A f' g', mw Γ (A 18) b rm fm' gm', mw Γ (A 10) b2 rm fb' gb', p2w (A 15) x, rw1 (A 13) x fr', ww Γ (A 12) c2 fw' gw'] ∧ XA f' g' (oOpen ord rm S).2 ∧ MR fm' gm' ord rm ((oOpen ord rm S).2.2.2.2.2.2.2.1 1) ∧ fb' 0 = nI ord ∧ fb' 1 = nI rm) := by
  obtain ⟨ts, tx, os, ou, rc, re, EE, K, kT, R, pl, ip, to, pn, px, pf⟩ := S
  obtain ⟨h2, h3, h4, h7, h8, h9⟩ := id hS
  have hM0 : MR fm gm ord rm (EE 1) := hM
  have hI0 : TI ord rm (EE 1) := hI
  have hos := h3.2.1
  have hnb : ∀ i, nbit ou os i < 2 := fun i => nbit_lt
  obtain ⟨P, hP⟩ : ∃ P, P = opl ord rm os (nbit ou os) 302 (EE 1) (0, 65535, num0 (nbit ou os) 16, 16) 0 (fun _ => 0) 0 := ⟨_, rfl⟩
  have hd : oOpen ord rm (ts, tx, os, ou, rc, re, EE, K, kT, R, pl, ip, to, pn, px, pf) = if P.1 = 1 then (-11, (ts, tx, os, ou, rc, re, EE, K, kT, R, -3, ip, to, pn, px, pf)) else if P.1 = 2 then (-12, (ts, tx, os, ou, rc, re, EE, K, kT, R, -3, ip, to, pn, px, pf)) else if dif (wrt ord rm P.2.1 P.2.2.1 (EE 1)).2.2.2.2 ou (min (((wrt ord rm P.2.1 P.2.2.1 (EE 1)).2.2.2.1 + 7) / 8) os) 0 < ((wrt ord rm P.2.1 P.2.2.1 (EE 1)).2.2.2.1 + 7) / 8 ∨ dif (wrt ord rm P.2.1 P.2.2.1 (EE 1)).2.2.2.2 ou (min (((wrt ord rm P.2.1 P.2.2.1 (EE 1)).2.2.2.1 + 7) / 8) os) 0 < os then (-13, (ts, tx, os, ou, rc, re, EE, K, kT, R, nI (dif (wrt ord rm P.2.1 P.2.2.1 (EE 1)).2.2.2.2 ou (min (((wrt ord rm P.2.1 P.2.2.1 (EE 1)).2.2.2.1 + 7) / 8) os) 0), ip, to, pn, px, pf)) else (nI P.2.1, (ts, tx, os, ou, P.2.1, P.2.2.1, upT EE 1 (wsq ord rm P.2.1 P.2.2.1 (EE 1) (P.2.1 + 1)).1, K, kT, upd R 1 (R 1 + nI P.2.2.2), -3, ip, to, pn, px, pf)) := by
    subst hP; rfl
  refine Ct.of (by decide) (by simp [Value.category]) (Nat.le_of_ble_eq_true rfl) (fun E eG el en C hR F hnm => ?_)
  subst eG
  subst el
  have hL : 6 ≤ xn E := Nat.le_of_eq en.symm
  show G E 0 0 0 [some (.ref x), none, none, none, none, none] [] (bw [xw (xG E) x A f g, mw (xG E) (A 18) b rm fm gm, mw (xG E) (A 10) b2 rm fb gb, p2w (A 15) x, rw1 (A 13) x fr, ww (xG E) (A 12) c2 fw gw])
  generalize hT0 : EE 1 = T0 at *
  -- the object as it is while reading goes on
  have hkeep : ∀ (f1 : Nat → Int32) (g1 : Nat → Nat → Int32) (p : Int32), Fr [0, 1, 2, 6] [0, 6] f f1 g g1 → f1 6 = p → XA f1 g1 (ts, tx, os, ou, rc, re, EE, K, kT, R, p, ip, to, pn, px, pf) := by
    intro f1 g1 p hF hp
    refine ⟨?_, h3.keep (hF.1 4 (by decide)) (hF.2 4 (by decide)), ?_, ?_, hp, ?_⟩
    · rw [hF.1 3 (by decide), hF.2 3 (by decide)]; exact h2
    · rw [hF.1 5 (by decide), hF.2 5 (by decide)]; exact h4
    · rw [hF.2 2 (by decide)]; exact h7
    · rw [hF.1 7 (by decide), hF.1 11 (by decide), hF.1 8 (by decide), hF.1 9 (by decide), hF.1 10 (by decide), hF.2 7 (by decide), hF.2 8 (by decide)]; exact h9
  -- a fault: the tree is taken back
  have h176 : ∀ (flt : Nat) (p : Int32) (f1 : Nat → Int32) (g1 : Nat → Nat → Int32) (fm1 fb1 fr1 fw1 gw1 : Nat → Int32) (gm1 gb1 : Nat → Nat → Int32) (l1 l2 l4 l5 : Option Value), flt < 100 → oOpen ord rm (ts, tx, os, ou, rc, re, EE, K, kT, R, pl, ip, to, pn, px, pf) = (-10 - nI flt, (ts, tx, os, ou, rc, re, EE, K, kT, R, p, ip, to, pn, px, pf)) → Fr [0, 1, 2, 6] [0, 6] f f1 g g1 → f1 6 = p → MR fb1 gb1 ord rm T0 → fm1 0 = nI ord → fm1 1 = nI rm → G E 0 0 176 [some (.ref x), l1, l2, some (.int (nI flt)), l4, l5] [] (bw [xw (xG E) x A f1 g1, mw (xG E) (A 18) b rm fm1 gm1, mw (xG E) (A 10) b2 rm fb1 gb1, p2w (A 15) x, rw1 (A 13) x fr1, ww (xG E) (A 12) c2 fw1 gw1]) := by
    intro flt p f1 g1 fm1 fb1 fr1 fw1 gw1 gm1 gb1 l1 l2 l4 l5 hfl hoo hF hp hMb m0 m1
    refine g_aload_0 (q := 177) C d_X_open_176 rfl ?_
    refine xg_73 (q := 180) C d_X_open_177 rfl ?_
    refine g_iconst (v := nI 1) (q := 181) C d_X_open_180 rfl (by decide) ?_
    refine xe_1 (q := 182) C d_X_open_181 rfl ?_
    refine g_aload_0 (q := 183) C d_X_open_182 rfl ?_
    refine xg_156 (q := 186) C d_X_open_183 rfl ?_
    refine g_blk (Bs := [xw (xG E) x A f1 g1, mw (xG E) (A 18) b rm fm1 gm1, mw (xG E) (A 10) b2 rm fb1 gb1, p2w (A 15) x, rw1 (A 13) x fr1, ww (xG E) (A 12) c2 fw1 gw1]) (Bs' := [mw (xG E) (A 18) b rm fm1 gm1, mw (xG E) (A 10) b2 rm fb1 gb1, xw (xG E) x A f1 g1, p2w (A 15) x, rw1 (A 13) x fr1, ww (xG E) (A 12) c2 fw1 gw1]) [1, 2, 0, 3, 4, 5] (nB := 6) rfl rfl (by decide) ?_
    refine g_ws (ws' := (mw (xG E) (A 18) b rm fm1 gm1 ++ mw (xG E) (A 10) b2 rm fb1 gb1) ++ bw [xw (xG E) x A f1 g1, p2w (A 15) x, rw1 (A 13) x fr1, ww (xG E) (A 12) c2 fw1 gw1]) (List.append_assoc _ _ _).symm ?_
    refine xc_222 (q := 189) (fs := mfs b fm1) C hR (c_Mo_take hMb hI0 m0 m1) rfl d_X_open_186 rfl (by decide) (by decide) (by decide) (Nat.le_of_ble_eq_true rfl) (fun v ws' hp => ?_)
    obtain ⟨rfl, fm2, gm2, rfl, hM2⟩ := hp
    refine g_ws (ws' := bw [mw (xG E) (A 18) b rm fm2 gm2, mw (xG E) (A 10) b2 rm fb1 gb1, xw (xG E) x A f1 g1, p2w (A 15) x, rw1 (A 13) x fr1, ww (xG E) (A 12) c2 fw1 gw1]) (List.append_assoc _ _ _) ?_
    refine g_blk (Bs := [mw (xG E) (A 18) b rm fm2 gm2, mw (xG E) (A 10) b2 rm fb1 gb1, xw (xG E) x A f1 g1, p2w (A 15) x, rw1 (A 13) x fr1, ww (xG E) (A 12) c2 fw1 gw1]) (Bs' := [xw (xG E) x A f1 g1, mw (xG E) (A 18) b rm fm2 gm2, mw (xG E) (A 10) b2 rm fb1 gb1, p2w (A 15) x, rw1 (A 13) x fr1, ww (xG E) (A 12) c2 fw1 gw1]) [2, 0, 1, 3, 4, 5] (nB := 6) rfl rfl (by decide) ?_
    show G E 0 0 189 _ [] (bw [xw (xG E) x A f1 g1, mw (xG E) (A 18) b rm fm2 gm2, mw (xG E) (A 10) b2 rm fb1 gb1, p2w (A 15) x, rw1 (A 13) x fr1, ww (xG E) (A 12) c2 fw1 gw1])
    refine g_bipush (v := (-10)) (q := 191) C d_X_open_189 rfl (by decide) ?_
    refine g_iload_3 (q := 192) C d_X_open_191 rfl ?_
    refine g_isub (q := 193) C d_X_open_192 rfl rfl ?_
    refine g_iret C F d_X_open_193 (Nat.le_refl _) (Nat.le_refl _) ⟨by rw [hoo], _, _, _, _, _, _, _, _, _, rfl, ?_, ?_, hMb.1.1, hMb.1.2.1⟩
    · rw [hoo]; exact hkeep f1 g1 p hF hp
    · rw [hoo]; show MR fm2 gm2 ord rm (EE 1); rw [hT0]; exact hM2
  -- faults while reading
  have hflt : ∀ (flt : Nat) (f1 : Nat → Int32) (g1 : Nat → Nat → Int32) (fm1 fb1 fr1 fw1 gw1 : Nat → Int32) (gm1 gb1 : Nat → Nat → Int32) (l1 l2 l4 l5 : Option Value), 0 < flt → flt < 100 → oOpen ord rm (ts, tx, os, ou, rc, re, EE, K, kT, R, pl, ip, to, pn, px, pf) = (-10 - nI flt, (ts, tx, os, ou, rc, re, EE, K, kT, R, -3, ip, to, pn, px, pf)) → Fr [0, 1, 2, 6] [0, 6] f f1 g g1 → f1 6 = -3 → MR fb1 gb1 ord rm T0 → fm1 0 = nI ord → fm1 1 = nI rm → G E 0 0 159 [some (.ref x), l1, l2, some (.int (nI flt)), l4, l5] [] (bw [xw (xG E) x A f1 g1, mw (xG E) (A 18) b rm fm1 gm1, mw (xG E) (A 10) b2 rm fb1 gb1, p2w (A 15) x, rw1 (A 13) x fr1, ww (xG E) (A 12) c2 fw1 gw1]) := by
    intro flt f1 g1 fm1 fb1 fr1 fw1 gw1 gm1 gb1 l1 l2 l4 l5 h0 hfl hoo hF hp hMb m0 m1
    have h := h176 flt (-3) f1 g1 fm1 fb1 fr1 fw1 gw1 gm1 gb1 l1 l2 l4 l5 hfl hoo hF hp hMb m0 m1
    refine g_iload_3 (q := 160) C d_X_open_159 rfl ?_
    refine g_if_ne (q := 163) (tgt := 172) C d_X_open_160 rfl (by decide) (fun hz => ?_) (fun hz => ?_)
    · refine g_iload_3 (q := 173) C d_X_open_172 rfl ?_
      refine g_if_le (q := 176) (tgt := 194) C d_X_open_173 rfl (by decide) (fun hz => ?_) (fun hz => ?_)
      · exact absurd ((nILe0 (by omega)).mp hz) (by omega)
      · exact h
    · exact absurd ((nI0 (by omega)).mp (Decidable.not_not.mp hz)) (by omega)
  -- all is read
  have hfin : ∀ (f1 : Nat → Int32) (g1 : Nat → Nat → Int32) (fm1 fb1 fr1 fw1 gw1 : Nat → Int32) (gm1 gb1 : Nat → Nat → Int32) (l4 l5 : Option Value), P.1 = 0 → P.2.1 ≤ 300 → (∀ i, i < P.2.1 → g1 6 i = nI (P.2.2.1 i) ∧ P.2.2.1 i < 256) → Fr [0, 1, 2, 6] [0, 6] f f1 g g1 → f1 6 = -3 → MR fb1 gb1 ord rm T0 → MR fm1 gm1 ord rm (wsq ord rm P.2.1 P.2.2.1 T0 (P.2.1 + 1)).1 → WC fw1 gw1 (wsq ord rm P.2.1 P.2.2.1 T0 (P.2.1 + 1)).2.1 → G E 0 0 159 [some (.ref x), some (.int (nI P.2.1)), some (.int (nI P.2.2.2)), some (.int (nI 0)), l4, l5] [] (bw [xw (xG E) x A f1 g1, mw (xG E) (A 18) b rm fm1 gm1, mw (xG E) (A 10) b2 rm fb1 gb1, p2w (A 15) x, rw1 (A 13) x fr1, ww (xG E) (A 12) c2 fw1 gw1]) := by
    intro f1 g1 fm1 fb1 fr1 fw1 gw1 gm1 gb1 l4 l5 hP0 hn hrow hF hp6 hMb hM1 hW1
    rw [if_neg (by omega), if_neg (by omega)] at hd
    obtain ⟨o1, o2, o3, -, -⟩ := wsq_ok (n := P.2.1) (row := P.2.2.1) hI0 (fun i hi => (hrow i hi).2) (P.2.1 + 1) (Nat.le_refl _)
    have hwr : wrt ord rm P.2.1 P.2.2.1 T0 = cend (wsq ord rm P.2.1 P.2.2.1 T0 (P.2.1 + 1)).2.1 := rfl
    rw [hwr] at hd
    have hO1 : XO f1 g1 ou os := h3.keep (hF.1 4 (by decide)) (hF.2 4 (by decide))
    refine g_iload_3 (q := 160) C d_X_open_159 rfl ?_
    refine g_if_ne (q := 163) (tgt := 172) C d_X_open_160 rfl (by decide) (fun hz => ?_) (fun hz => ?_)
    · exact absurd rfl hz
    refine g_aload_0 (q := 164) C d_X_open_163 rfl ?_
    refine g_blk (Bs := [xw (xG E) x A f1 g1, mw (xG E) (A 18) b rm fm1 gm1, mw (xG E) (A 10) b2 rm fb1 gb1, p2w (A 15) x, rw1 (A 13) x fr1, ww (xG E) (A 12) c2 fw1 gw1]) (Bs' := [xw (xG E) x A f1 g1, ww (xG E) (A 12) c2 fw1 gw1, mw (xG E) (A 18) b rm fm1 gm1, mw (xG E) (A 10) b2 rm fb1 gb1, p2w (A 15) x, rw1 (A 13) x fr1]) [0, 5, 1, 2, 3, 4] (nB := 6) rfl rfl (by decide) ?_
    refine g_ws (ws' := bw [xw (xG E) x A f1 g1, ww (xG E) (A 12) c2 fw1 gw1] ++ bw [mw (xG E) (A 18) b rm fm1 gm1, mw (xG E) (A 10) b2 rm fb1 gb1, p2w (A 15) x, rw1 (A 13) x fr1]) (List.flatten_append (L₁ := [xw (xG E) x A f1 g1, ww (xG E) (A 12) c2 fw1 gw1]) (L₂ := [mw (xG E) (A 18) b rm fm1 gm1, mw (xG E) (A 10) b2 rm fb1 gb1, p2w (A 15) x, rw1 (A 13) x fr1])) ?_
    refine xc_230 (q := 167) (fs := xfs A f1) C hR (c_X_isAsWritten hO1 hW1 o2 (by omega)) rfl d_X_open_164 rfl (by decide) (by decide) (by decide) (Nat.le_of_ble_eq_true rfl) (fun v ws' hp => ?_)
    obtain ⟨z, f2, fw2, gw2, rfl, rfl, hz⟩ := hp
    refine g_ws (ws' := bw [xw (xG E) x A f2 g1, ww (xG E) (A 12) c2 fw2 gw2, mw (xG E) (A 18) b rm fm1 gm1, mw (xG E) (A 10) b2 rm fb1 gb1, p2w (A 15) x, rw1 (A 13) x fr1]) (List.flatten_append (L₁ := [xw (xG E) x A f2 g1, ww (xG E) (A 12) c2 fw2 gw2]) (L₂ := [mw (xG E) (A 18) b rm fm1 gm1, mw (xG E) (A 10) b2 rm fb1 gb1, p2w (A 15) x, rw1 (A 13) x fr1])).symm ?_
    refine g_blk (Bs := [xw (xG E) x A f2 g1, ww (xG E) (A 12) c2 fw2 gw2, mw (xG E) (A 18) b rm fm1 gm1, mw (xG E) (A 10) b2 rm fb1 gb1, p2w (A 15) x, rw1 (A 13) x fr1]) (Bs' := [xw (xG E) x A f2 g1, mw (xG E) (A 18) b rm fm1 gm1, mw (xG E) (A 10) b2 rm fb1 gb1, p2w (A 15) x, rw1 (A 13) x fr1, ww (xG E) (A 12) c2 fw2 gw2]) [0, 2, 3, 4, 5, 1] (nB := 6) rfl rfl (by decide) ?_
    show G E 0 0 167 _ [.int z] (bw [xw (xG E) x A f2 g1, mw (xG E) (A 18) b rm fm1 gm1, mw (xG E) (A 10) b2 rm fb1 gb1, p2w (A 15) x, rw1 (A 13) x fr1, ww (xG E) (A 12) c2 fw2 gw2])
    rcases hz with ⟨rfl, rfl, hz⟩ | ⟨rfl, rfl, hz⟩
    · rw [if_neg hz] at hd
      refine g_if_ne (q := 170) (tgt := 172) C d_X_open_167 rfl (by decide) (fun hq => ?_) (fun hq => ?_)
      · have r1 : g1 2 1 = R 1 := by rw [hF.2 2 (by decide)]; exact h7 1 (by decide)
        have r0 : g1 2 0 = R 0 := by rw [hF.2 2 (by decide)]; exact h7 0 (by decide)
        refine g_iload_3 (q := 173) C d_X_open_172 rfl ?_
        refine g_if_le (q := 176) (tgt := 194) C d_X_open_173 rfl (by decide) (fun hq => ?_) (fun hq => ?_)
        · refine g_aload_0 (q := 195) C d_X_open_194 rfl ?_
          refine xg_77 (q := 198) C d_X_open_195 rfl ?_
          refine g_iconst (v := nI 1) (q := 199) C d_X_open_198 rfl (by decide) ?_
          refine g_dup2 (q := 200) C d_X_open_199 rfl rfl rfl ?_
          refine xa_2 (q := 201) C d_X_open_200 rfl rfl (by decide) r1 ?_
          refine g_iload_2 (q := 202) C d_X_open_201 rfl ?_
          refine g_iadd (q := 203) C d_X_open_202 rfl rfl ?_
          refine xs_2 (q := 204) C d_X_open_203 rfl rfl (by decide) ?_
          refine g_aload_0 (q := 205) C d_X_open_204 rfl ?_
          refine xg_96 (q := 208) C d_X_open_205 rfl ?_
          refine g_iconst (v := nI 0) (q := 209) C d_X_open_208 rfl (by decide) ?_
          refine g_aload_0 (q := 210) C d_X_open_209 rfl ?_
          refine xg_93 (q := 213) C d_X_open_210 rfl ?_
          refine g_iconst (v := nI 0) (q := 214) C d_X_open_213 rfl (by decide) ?_
          refine g_iload_1 (q := 215) C d_X_open_214 rfl ?_
          refine g_acopy (q := 218) (s := 0) (d := 0) (m' := P.2.1) C hR 7 6 w_499 rfl rfl d_X_open_215 rfl rfl rfl rfl (by omega) (by omega) (by decide) (by decide) (by decide) (Nat.le_of_ble_eq_true rfl) ?_
          generalize hg2 : updA g1 2 (upd (g1 2) 1 (R 1 + nI P.2.2.2)) = g2
          have hgF : ∀ j, j ≠ 2 → g2 j = g1 j := fun j hj => by rw [← hg2]; exact updA_n hj
          show G E 0 0 218 _ [] (bw [xw (xG E) x A f2 (updA g2 5 (va_cpy (g2 6) (g2 5) 0 0 P.2.1)), mw (xG E) (A 18) b rm fm1 gm1, mw (xG E) (A 10) b2 rm fb1 gb1, p2w (A 15) x, rw1 (A 13) x fr1, ww (xG E) (A 12) c2 fw2 gw2])
          refine g_aload_0 (q := 219) C d_X_open_218 rfl ?_
          refine g_iload_1 (q := 220) C d_X_open_219 rfl ?_
          refine xp_175 (q := 223) C d_X_open_220 rfl ?_
          refine g_iload_1 (q := 224) C d_X_open_223 rfl ?_
          refine g_iret C F d_X_open_224 (Nat.le_refl _) (Nat.le_refl _) ⟨by rw [hd], _, _, _, _, _, _, _, _, _, rfl, ?_, ?_, hMb.1.1, hMb.1.2.1⟩
          · rw [hd]
            refine ⟨?_, h3.keep ?_ ?_, ⟨rfl, hn, fun i hi => ?_⟩, fun m hm => ?_, ?_, ?_⟩
            · show f2 3 = _ ∧ _ ∧ ∀ i, i < ts → g2 3 i = _ ∧ _
              rw [hF.1 3 (by decide), hgF 3 (by decide), hF.2 3 (by decide)]; exact h2
            · show f2 4 = _
              exact hF.1 4 (by decide)
            · show g2 4 = _
              rw [hgF 4 (by decide)]; exact hF.2 4 (by decide)
            · show va_cpy (g2 6) (g2 5) 0 0 P.2.1 i = _
              rw [sb_cpy0 hi, hgF 6 (by decide)]; exact (hrow i hi).1
            · show g2 2 m = _
              rw [← hg2]
              rcases (show m = 0 ∨ m = 1 by omega) with rfl | rfl
              · rw [upd_n (by decide)]; exact r0
              · rw [upd_s]; rfl
            · exact hp6
            · show f2 7 = _ ∧ _ ∧ _ ∧ _ ∧ _ ∧ ∀ i, i < pn → g2 7 i = _ ∧ g2 8 i = _
              rw [hgF 7 (by decide), hgF 8 (by decide)]
              exact (hkeep f2 g1 (-3) hF hp6).2.2.2.2.2
          · rw [hd]
            show MR fm1 gm1 ord rm (upT EE 1 _ 1)
            rw [upT_s]; exact hM1
        · exact absurd (by decide) hq
      · exact absurd (by decide) hq
    · rw [if_pos hz] at hd
      refine g_if_ne (q := 170) (tgt := 172) C d_X_open_167 rfl (by decide) (fun hq => ?_) (fun hq => ?_)
      · exact absurd rfl hq
      refine g_iconst (v := nI 3) (q := 171) C d_X_open_170 rfl (by decide) ?_
      refine g_istore_3 (q := 172) C hL d_X_open_171 rfl ?_
      refine g_iload_3 (q := 173) C d_X_open_172 rfl ?_
      refine g_if_le (q := 176) (tgt := 194) C d_X_open_173 rfl (by decide) (fun hq => ?_) (fun hq => ?_)
      · exact absurd hq (by decide)
      exact h176 3 _ _ _ fm1 fb1 fr1 fw2 gw2 gm1 gb1 _ _ _ _ (by decide) (by rw [hd]; rfl) (hF.upd (by decide)) upd_s hMb hM1.1.1 hM1.1.2.1
  -- the loop of reading
  have loop : ∀ (j : Nat) (r : Rd) (n : Nat) (row : Nat → Nat) (an : Nat) (f1 : Nat → Int32) (g1 : Nat → Nat → Int32) (fm1 fb1 fr1 fw1 gw1 : Nat → Int32) (gm1 gb1 : Nat → Nat → Int32) (l5 : Option Value), n + j = 302 → n ≤ 300 → opl ord rm os (nbit ou os) j (wsq ord rm n row T0 n).1 r n row an = P → MR fm1 gm1 ord rm (wsq ord rm n row T0 n).1 → RC fr1 r → RdOk r → r.2.2.2 ≤ 16 + 96 * n → (∀ i, i < n → g1 6 i = nI (row i) ∧ row i < 256) → WC fw1 gw1 (wsq ord rm n row T0 n).2.1 → MR fb1 gb1 ord rm T0 → Fr [0, 1, 2, 6] [0, 6] f f1 g g1 → f1 6 = -3 → G E 0 0 42 [some (.ref x), some (.int (nI n)), some (.int (nI an)), some (.int (nI 0)), some (.int (nI 1)), l5] [] (bw [xw (xG E) x A f1 g1, mw (xG E) (A 18) b rm fm1 gm1, mw (xG E) (A 10) b2 rm fb1 gb1, p2w (A 15) x, rw1 (A 13) x fr1, ww (xG E) (A 12) c2 fw1 gw1]) := by
    intro j
    induction j with
    | zero => intro r n row an f1 g1 fm1 fb1 fr1 fw1 gw1 gm1 gb1 l5 hj hn; omega
    | succ j ih =>
      intro r n row an f1 g1 fm1 fb1 fr1 fw1 gw1 gm1 gb1 l5 hj hn he hM1 hr hrk htk hrow hW1 hMb hF hp6
      obtain ⟨o1, o2, o3, -, -⟩ := wsq_ok (n := n) (row := row) hI0 (fun i hi => (hrow i hi).2) n (by omega)
      have hO1 : XO f1 g1 ou os := h3.keep (hF.1 4 (by decide)) (hF.2 4 (by decide))
      have hnext := fun s => wsq_next (ord := ord) (room := rm) (n := n) (s := s) (row := row) (T := T0)
      have hlast := wsq_last (ord := ord) (room := rm) (n := n) (row := row) (T := T0)
      generalize hwe : wsq ord rm n row T0 n = w at *
      obtain ⟨s1, s2, s3, s4⟩ := rsg_ok o1.1 o1.2.2.2 hnb (tL w.1 + 1) (fun _ => false) 0 r EI_0 hrk
      have hl4 := o1.l
      have hsle : rsign w.1 (nbit ou os) r ≤ 256 := s1
      obtain ⟨t1, t2, t3, t4, t5, t6⟩ := tell_ok o1 hsle
      refine g_iload_4 (q := 44) C d_X_open_42 rfl ?_
      refine g_if_eq (q := 47) (tgt := 159) C d_X_open_44 rfl (by decide) (fun hz => ?_) (fun hz => ?_)
      · exact absurd hz (by decide)
      refine g_aload_0 (q := 48) C d_X_open_47 rfl ?_
      refine xg_116 (q := 51) C d_X_open_48 rfl ?_
      refine g_blk (Bs := [xw (xG E) x A f1 g1, mw (xG E) (A 18) b rm fm1 gm1, mw (xG E) (A 10) b2 rm fb1 gb1, p2w (A 15) x, rw1 (A 13) x fr1, ww (xG E) (A 12) c2 fw1 gw1]) (Bs' := [rw1 (A 13) x fr1, xw (xG E) x A f1 g1, mw (xG E) (A 18) b rm fm1 gm1, mw (xG E) (A 10) b2 rm fb1 gb1, p2w (A 15) x, ww (xG E) (A 12) c2 fw1 gw1]) [4, 0, 1, 2, 3, 5] (nB := 6) rfl rfl (by decide) ?_
      refine g_ws (ws' := (rw1 (A 13) x fr1 ++ xw (xG E) x A f1 g1) ++ bw [mw (xG E) (A 18) b rm fm1 gm1, mw (xG E) (A 10) b2 rm fb1 gb1, p2w (A 15) x, ww (xG E) (A 12) c2 fw1 gw1]) (List.append_assoc _ _ _).symm ?_
      refine xc_226 (q := 54) (fs := [.int (fr1 0), .int (fr1 1), .int (fr1 2), .int (fr1 3), .ref x]) C hR (c_Re_isBeyond hO1.1 hos hr.2.1 (by omega)) rfl d_X_open_51 rfl (by decide) (by decide) (by decide) (Nat.le_of_ble_eq_true rfl) (fun v ws' hp => ?_)
      obtain ⟨z, fr2, rfl, rfl, rfl, hbz⟩ := hp
      refine g_ws (ws' := bw [rw1 (A 13) x fr2, xw (xG E) x A f1 g1, mw (xG E) (A 18) b rm fm1 gm1, mw (xG E) (A 10) b2 rm fb1 gb1, p2w (A 15) x, ww (xG E) (A 12) c2 fw1 gw1]) (List.append_assoc _ _ _) ?_
      refine g_blk (Bs := [rw1 (A 13) x fr2, xw (xG E) x A f1 g1, mw (xG E) (A 18) b rm fm1 gm1, mw (xG E) (A 10) b2 rm fb1 gb1, p2w (A 15) x, ww (xG E) (A 12) c2 fw1 gw1]) (Bs' := [xw (xG E) x A f1 g1, mw (xG E) (A 18) b rm fm1 gm1, mw (xG E) (A 10) b2 rm fb1 gb1, p2w (A 15) x, rw1 (A 13) x fr2, ww (xG E) (A 12) c2 fw1 gw1]) [1, 2, 3, 4, 0, 5] (nB := 6) rfl rfl (by decide) ?_
      show G E 0 0 54 _ [.int z] (bw [xw (xG E) x A f1 g1, mw (xG E) (A 18) b rm fm1 gm1, mw (xG E) (A 10) b2 rm fb1 gb1, p2w (A 15) x, rw1 (A 13) x fr2, ww (xG E) (A 12) c2 fw1 gw1])
      rcases hbz with ⟨rfl, hbz⟩ | ⟨rfl, hbz⟩
      · unfold opl at he
        rw [if_pos hbz] at he
        have hP1 : P.1 = 1 := by rw [← he]
        rw [if_pos hP1] at hd
        refine g_if_eq (q := 57) (tgt := 62) C d_X_open_54 rfl (by decide) (fun hz => ?_) (fun hz => ?_)
        · exact absurd hz (by decide)
        refine g_iconst (v := nI 1) (q := 58) C d_X_open_57 rfl (by decide) ?_
        refine g_istore_3 (q := 59) C hL d_X_open_58 rfl ?_
        refine g_goto (tgt := 159) C d_X_open_59 (by decide) ?_
        exact hflt 1 f1 g1 fm1 fb1 fr2 fw1 gw1 gm1 gb1 _ _ _ _ (by decide) (by decide) (by rw [hd]; rfl) hF hp6 hMb hM1.1.1 hM1.1.2.1
      · unfold opl at he
        rw [if_neg (by omega)] at he
        refine g_if_eq (q := 57) (tgt := 62) C d_X_open_54 rfl (by decide) (fun hz => ?_) (fun hz => ?_)
        · refine g_aload_0 (q := 63) C d_X_open_62 rfl ?_
          refine g_aload_0 (q := 64) C d_X_open_63 rfl ?_
          refine xg_73 (q := 67) C d_X_open_64 rfl ?_
          refine g_iconst (v := nI 1) (q := 68) C d_X_open_67 rfl (by decide) ?_
          refine xe_1 (q := 69) C d_X_open_68 rfl ?_
          refine g_iconst (v := (-1)) (q := 70) C d_X_open_69 rfl (by decide) ?_
          refine g_aload_0 (q := 71) C d_X_open_70 rfl ?_
          refine xg_139 (q := 74) C d_X_open_71 rfl ?_
          refine g_blk (Bs := [xw (xG E) x A f1 g1, mw (xG E) (A 18) b rm fm1 gm1, mw (xG E) (A 10) b2 rm fb1 gb1, p2w (A 15) x, rw1 (A 13) x fr2, ww (xG E) (A 12) c2 fw1 gw1]) (Bs' := [xw (xG E) x A f1 g1, mw (xG E) (A 18) b rm fm1 gm1, p2w (A 15) x, rw1 (A 13) x fr2, ww (xG E) (A 12) c2 fw1 gw1, mw (xG E) (A 10) b2 rm fb1 gb1]) [0, 1, 3, 4, 5, 2] (nB := 6) rfl rfl (by decide) ?_
          refine g_ws (ws' := bw [xw (xG E) x A f1 g1, mw (xG E) (A 18) b rm fm1 gm1, p2w (A 15) x, rw1 (A 13) x fr2, ww (xG E) (A 12) c2 fw1 gw1] ++ bw [mw (xG E) (A 10) b2 rm fb1 gb1]) (List.flatten_append (L₁ := [xw (xG E) x A f1 g1, mw (xG E) (A 18) b rm fm1 gm1, p2w (A 15) x, rw1 (A 13) x fr2, ww (xG E) (A 12) c2 fw1 gw1]) (L₂ := [mw (xG E) (A 10) b2 rm fb1 gb1])) ?_
          refine xc_191 (q := 77) (fs := xfs A f1) C hR (c_X_tell (TK_2 (x := x) (A := A) (c2 := c2) (out := ou) (os := os)) hO1 hM1 o1 (sg := rsign w.1 (nbit ou os) r) (s := (r, w.2.1)) (w := bw [p2w (A 15) x, rw1 (A 13) x fr2, ww (xG E) (A 12) c2 fw1 gw1]) ⟨fr2, fw1, gw1, rfl, hr, hW1⟩ hsle (TKI_2 o1 (-1)) ⟨hrk, rfl, by show r.2.2.2 + _ + 1 < _; omega, o2, by show w.2.1.2.2.1 + w.2.1.2.2.2.1 + _ + 1 ≤ _; omega⟩) rfl d_X_open_74 rfl (by decide) (by decide) (by decide) (Nat.le_of_ble_eq_true rfl) (fun v ws' hp => ?_)
          obtain ⟨rfl, f2, g2, w2, hQ, rfl, hF2, -, q2, -⟩ := hp
          rw [fold2] at hQ
          obtain ⟨fr3, fw3, gw3, rfl, hr3, hW3⟩ := hQ
          simp only at hr3 hW3
          refine g_ws (ws' := bw [xw (xG E) x A f2 g2, mw (xG E) (A 18) b rm fm1 gm1, p2w (A 15) x, rw1 (A 13) x fr3, ww (xG E) (A 12) c2 fw3 gw3, mw (xG E) (A 10) b2 rm fb1 gb1]) (List.flatten_append (L₁ := [xw (xG E) x A f2 g2, mw (xG E) (A 18) b rm fm1 gm1, p2w (A 15) x, rw1 (A 13) x fr3, ww (xG E) (A 12) c2 fw3 gw3]) (L₂ := [mw (xG E) (A 10) b2 rm fb1 gb1])).symm ?_
          refine g_blk (Bs := [xw (xG E) x A f2 g2, mw (xG E) (A 18) b rm fm1 gm1, p2w (A 15) x, rw1 (A 13) x fr3, ww (xG E) (A 12) c2 fw3 gw3, mw (xG E) (A 10) b2 rm fb1 gb1]) (Bs' := [xw (xG E) x A f2 g2, mw (xG E) (A 18) b rm fm1 gm1, mw (xG E) (A 10) b2 rm fb1 gb1, p2w (A 15) x, rw1 (A 13) x fr3, ww (xG E) (A 12) c2 fw3 gw3]) [0, 1, 5, 2, 3, 4] (nB := 6) rfl rfl (by decide) ?_
          have hF3 : Fr [0, 1, 2, 6] [0, 6] f f2 g g2 := hF.trans (hF2.mono (by decide) (by decide))
          have hp62 : f2 6 = -3 := by rw [hF2.1 6 (by decide)]; exact hp6
          have hrow2 : ∀ i, i < n → g2 6 i = nI (row i) ∧ row i < 256 := fun i hi => by rw [hF2.2 6 (by decide)]; exact hrow i hi
          have hsg : rsg w.1 (nbit ou os) (tL w.1 + 1) (fun _ => false) 0 r = rsign w.1 (nbit ou os) r := rfl
          rw [hsg] at s3 s4
          generalize hsgn : rsign w.1 (nbit ou os) r = sg at *
          show G E 0 0 77 _ [.int (nI sg)] (bw [xw (xG E) x A f2 g2, mw (xG E) (A 18) b rm fm1 gm1, mw (xG E) (A 10) b2 rm fb1 gb1, p2w (A 15) x, rw1 (A 13) x fr3, ww (xG E) (A 12) c2 fw3 gw3])
          -- it is a byte or the end
          refine g_istore_5 (q := 79) C hL d_X_open_77 rfl ?_
          refine g_iload_5 (q := 81) C d_X_open_79 rfl ?_
          refine g_sipush (v := nI 256) (q := 84) C d_X_open_81 rfl (by decide) ?_
          refine g_icmp_ge (q := 87) (tgt := 99) C d_X_open_84 rfl (by decide) (fun hc3 => ?_) (fun hc3 => ?_)
          · have hc3 := (nI_leI (by omega) (by omega)).mp hc3
            have hsg256 : sg = 256 := by omega
            rw [if_neg (by omega)] at he
            refine g_iload_5 (q := 101) C d_X_open_99 rfl ?_
            refine g_sipush (v := nI 256) (q := 104) C d_X_open_101 rfl (by decide) ?_
            refine g_icmp_ge (q := 107) (tgt := 111) C d_X_open_104 rfl (by decide) (fun hc4 => ?_) (fun hc4 => ?_)
            · refine g_iconst (v := nI 0) (q := 112) C d_X_open_111 rfl (by decide) ?_
              refine g_istore_4 (q := 114) C hL d_X_open_112 rfl ?_
              refine g_iload_4 (q := 116) C d_X_open_114 rfl ?_
              refine g_if_eq (q := 119) (tgt := 156) C d_X_open_116 rfl (by decide) (fun hc5 => ?_) (fun hc5 => ?_)
              · subst he
                refine g_goto (tgt := 42) C d_X_open_156 (by decide) ?_
                refine g_iload_4 (q := 44) C d_X_open_42 rfl ?_
                refine g_if_eq (q := 47) (tgt := 159) C d_X_open_44 rfl (by decide) (fun hc6 => ?_) (fun hc6 => ?_)
                · rw [hsg256] at hW3
                  refine hfin f2 g2 fm1 fb1 fr3 fw3 gw3 gm1 gb1 _ _ rfl hn hrow2 hF3 hp62 hMb ?_ ?_
                  · show MR fm1 gm1 ord rm (wsq ord rm n row T0 (n + 1)).1
                    rw [hlast.1]; exact hM1
                  · show WC fw3 gw3 (wsq ord rm n row T0 (n + 1)).2.1
                    rw [hlast.2]; exact hW3
                · exact absurd rfl hc6
              · exact absurd rfl hc5
            · exact absurd ((nI_leI (by omega) (by omega)).mpr (by omega)) hc4
          · have hc3 : sg < 256 := Nat.lt_of_not_le (fun q => hc3 ((nI_leI (by omega) (by omega)).mpr q))
            rw [if_pos hc3] at he
            refine g_iload_1 (q := 88) C d_X_open_87 rfl ?_
            refine g_sipush (v := nI 300) (q := 91) C d_X_open_88 rfl (by decide) ?_
            refine g_icmp_ne (q := 94) (tgt := 99) C d_X_open_91 rfl (by decide) (fun hc4 => ?_) (fun hc4 => ?_)
            · have hc4 : n ≠ 300 := fun q => hc4 (by rw [q])
              rw [if_neg hc4] at he
              refine g_iload_5 (q := 101) C d_X_open_99 rfl ?_
              refine g_sipush (v := nI 256) (q := 104) C d_X_open_101 rfl (by decide) ?_
              refine g_icmp_ge (q := 107) (tgt := 111) C d_X_open_104 rfl (by decide) (fun hc5 => ?_) (fun hc5 => ?_)
              · exact absurd ((nI_leI (by omega) (by omega)).mp hc5) (by omega)
              refine g_iconst (v := nI 1) (q := 108) C d_X_open_107 rfl (by decide) ?_
              refine g_goto (tgt := 112) C d_X_open_108 (by decide) ?_
              refine g_istore_4 (q := 114) C hL d_X_open_112 rfl ?_
              refine g_iload_4 (q := 116) C d_X_open_114 rfl ?_
              refine g_if_eq (q := 119) (tgt := 156) C d_X_open_116 rfl (by decide) (fun hc6 => ?_) (fun hc6 => ?_)
              · exact absurd hc6 (by decide)
              have hlp : (tell w.1 sg).2.1 - 1 = 0 ∨ chT w.1 (cx w.1 ((tell w.1 sg).2.1 - 1)) sg ≠ 0 := by
                rcases Nat.eq_zero_or_pos (tell w.1 sg).2.1 with z | z
                · left; omega
                · right; exact (t4 _ (by omega)).2
              refine g_aload_0 (q := 120) C d_X_open_119 rfl ?_
              refine xg_96 (q := 123) C d_X_open_120 rfl ?_
              refine g_iload_1 (q := 124) C d_X_open_123 rfl ?_
              refine g_iinc_1 (q := 127) C hL d_X_open_124 rfl (nI_inc _) ?_
              refine g_iload_5 (q := 129) C d_X_open_127 rfl ?_
              refine xs_6 (q := 130) C d_X_open_129 rfl rfl (by omega) ?_
              refine g_iload_2 (q := 131) C d_X_open_130 rfl ?_
              refine g_aload_0 (q := 132) C d_X_open_131 rfl ?_
              refine xg_73 (q := 135) C d_X_open_132 rfl ?_
              refine g_iconst (v := nI 1) (q := 136) C d_X_open_135 rfl (by decide) ?_
              refine xe_1 (q := 137) C d_X_open_136 rfl ?_
              refine g_iload_5 (q := 139) C d_X_open_137 rfl ?_
              refine g_aload_0 (q := 140) C d_X_open_139 rfl ?_
              refine xg_57 (q := 143) C d_X_open_140 rfl q2 ?_
              refine g_blk (Bs := [xw (xG E) x A f2 _, mw (xG E) (A 18) b rm fm1 gm1, mw (xG E) (A 10) b2 rm fb1 gb1, p2w (A 15) x, rw1 (A 13) x fr3, ww (xG E) (A 12) c2 fw3 gw3]) (Bs' := [mw (xG E) (A 18) b rm fm1 gm1, xw (xG E) x A f2 _, mw (xG E) (A 10) b2 rm fb1 gb1, p2w (A 15) x, rw1 (A 13) x fr3, ww (xG E) (A 12) c2 fw3 gw3]) [1, 0, 2, 3, 4, 5] (nB := 6) rfl rfl (by decide) ?_
              refine xc_195 (q := 146) (fs := mfs b fm1) (wr := bw [xw (xG E) x A f2 _, mw (xG E) (A 10) b2 rm fb1 gb1, p2w (A 15) x, rw1 (A 13) x fr3, ww (xG E) (A 12) c2 fw3 gw3]) C hR (c_Mo_learns hM1 o1 hc3 t3 hlp) rfl d_X_open_143 rfl (by decide) (by decide) (by decide) (Nat.le_of_ble_eq_true rfl) (fun v ws' hp => ?_)
              obtain ⟨z, fm2, gm2, rfl, rfl, hM2, rfl⟩ := hp
              refine g_blk (Bs := [mw (xG E) (A 18) b rm fm2 gm2, xw (xG E) x A f2 _, mw (xG E) (A 10) b2 rm fb1 gb1, p2w (A 15) x, rw1 (A 13) x fr3, ww (xG E) (A 12) c2 fw3 gw3]) (Bs' := [xw (xG E) x A f2 _, mw (xG E) (A 18) b rm fm2 gm2, mw (xG E) (A 10) b2 rm fb1 gb1, p2w (A 15) x, rw1 (A 13) x fr3, ww (xG E) (A 12) c2 fw3 gw3]) [1, 0, 2, 3, 4, 5] (nB := 6) rfl rfl (by decide) ?_
              have hns := hnext sg
              have h154 : ∀ d, d = (if (learnT ord rm sg ((tell w.1 sg).2.1 - 1) w.1).2 then 1 else 0) → ∀ l1 l3 l4 l5, l1 = some (.int (nI (n + 1))) → l3 = some (.int (nI 0)) → l4 = some (.int (nI 1)) → G E 0 0 154 [some (.ref x), l1, some (.int (nI an)), l3, l4, l5] [.int (nI d), .int (nI an)] (bw [xw (xG E) x A f2 (updA g2 6 (upd (g2 6) n (nI sg))), mw (xG E) (A 18) b rm fm2 gm2, mw (xG E) (A 10) b2 rm fb1 gb1, p2w (A 15) x, rw1 (A 13) x fr3, ww (xG E) (A 12) c2 fw3 gw3]) := by
                intro d hd2 l1 l3 l4 l5 e1 e3 e4
                subst e1; subst e3; subst e4
                refine g_iadd (q := 155) C d_X_open_154 rfl (nI_add _ _) ?_
                refine g_istore_2 (q := 156) C hL d_X_open_155 rfl ?_
                refine g_goto (tgt := 42) C d_X_open_156 (by decide) ?_
                refine ih (rf (nbit ou os) (tell w.1 sg).1 r) (n + 1) (upN row n sg) (an + d) f2 _ fm2 fb1 fr3 fw3 gw3 gm2 gb1 _ (by omega) (by omega) ?_ ?_ hr3 s3 ?_ (fun i hi => ?_) ?_ hMb (hF3.updA (by decide)) hp62
                · rw [hns, hd2]; exact he
                · rw [hns]; exact hM2
                · exact Nat.le_trans s4 (by omega)
                · rw [updA_s]
                  by_cases e : i = n
                  · rw [e, upd_s, upN_s]; exact ⟨rfl, hc3⟩
                  · rw [upd_n e, upN_n e]; exact hrow2 i (by omega)
                · rw [hns]; exact hW3
              generalize hB : (learnT ord rm sg ((tell w.1 sg).2.1 - 1) w.1).2 = B at *
              show G E 0 0 146 _ [.int (nI (if B then 1 else 0)), .int (nI an)] (bw [xw (xG E) x A f2 _, mw (xG E) (A 18) b rm fm2 gm2, mw (xG E) (A 10) b2 rm fb1 gb1, p2w (A 15) x, rw1 (A 13) x fr3, ww (xG E) (A 12) c2 fw3 gw3])
              refine g_if_eq (q := 149) (tgt := 153) C d_X_open_146 rfl (by decide) (fun hb => ?_) (fun hb => ?_)
              · refine g_iconst (v := nI 0) (q := 154) C d_X_open_153 rfl (by decide) ?_
                refine h154 0 ?_ _ _ _ _ rfl rfl rfl
                cases q : B with
                | false => rfl
                | true => rw [q] at hb; exact absurd hb (by decide)
              · refine g_iconst (v := nI 1) (q := 150) C d_X_open_149 rfl (by decide) ?_
                refine g_goto (tgt := 154) C d_X_open_150 (by decide) ?_
                refine h154 1 ?_ _ _ _ _ rfl rfl rfl
                cases q : B with
                | true => rfl
                | false => rw [q] at hb; exact absurd (by decide) hb
            · have hc4 : n = 300 := (nI_eq (by omega) (by omega)).mp (Decidable.not_not.mp hc4)
              rw [if_pos hc4] at he
              have hP2 : P.1 = 2 := by rw [← he]
              rw [if_neg (by omega), if_pos hP2] at hd
              refine g_iconst (v := nI 2) (q := 95) C d_X_open_94 rfl (by decide) ?_
              refine g_istore_3 (q := 96) C hL d_X_open_95 rfl ?_
              refine g_goto (tgt := 159) C d_X_open_96 (by decide) ?_
              exact hflt 2 f2 g2 fm1 fb1 fr3 fw3 gw3 gm1 gb1 _ _ _ _ (by decide) (by decide) (by rw [hd]; rfl) hF3 hp62 hMb hM1.1.1 hM1.1.2.1
        · exact absurd rfl hz
  -- the beginning
  refine g_aload_0 (q := 1) C d_X_open_0 rfl ?_
  refine g_bipush (v := (-3)) (q := 3) C d_X_open_1 rfl (by decide) ?_
  refine xp_120 (q := 6) C d_X_open_3 rfl ?_
  refine g_aload_0 (q := 7) C d_X_open_6 rfl ?_
  refine xg_156 (q := 10) C d_X_open_7 rfl ?_
  refine g_aload_0 (q := 11) C d_X_open_10 rfl ?_
  refine xg_73 (q := 14) C d_X_open_11 rfl ?_
  refine g_iconst (v := nI 1) (q := 15) C d_X_open_14 rfl (by decide) ?_
  refine xe_1 (q := 16) C d_X_open_15 rfl ?_
  refine g_blk (Bs := [xw (xG E) x A _ g, mw (xG E) (A 18) b rm fm gm, mw (xG E) (A 10) b2 rm fb gb, p2w (A 15) x, rw1 (A 13) x fr, ww (xG E) (A 12) c2 fw gw]) (Bs' := [mw (xG E) (A 10) b2 rm fb gb, mw (xG E) (A 18) b rm fm gm, xw (xG E) x A _ g, p2w (A 15) x, rw1 (A 13) x fr, ww (xG E) (A 12) c2 fw gw]) [2, 1, 0, 3, 4, 5] (nB := 6) rfl rfl (by decide) ?_
  refine g_ws (ws' := (mw (xG E) (A 10) b2 rm fb gb ++ mw (xG E) (A 18) b rm fm gm) ++ bw [xw (xG E) x A (upd f 6 (-3)) g, p2w (A 15) x, rw1 (A 13) x fr, ww (xG E) (A 12) c2 fw gw]) (List.append_assoc _ _ _).symm ?_
  refine xc_222 (q := 19) (fs := mfs b2 fb) C hR (c_Mo_take hM0 hI0 hb0 hb1) rfl d_X_open_16 rfl (by decide) (by decide) (by decide) (Nat.le_of_ble_eq_true rfl) (fun v ws' hp => ?_)
  obtain ⟨rfl, fb1, gb1, rfl, hMb⟩ := hp
  refine g_ws (ws' := bw [mw (xG E) (A 10) b2 rm fb1 gb1, mw (xG E) (A 18) b rm fm gm, xw (xG E) x A (upd f 6 (-3)) g, p2w (A 15) x, rw1 (A 13) x fr, ww (xG E) (A 12) c2 fw gw]) (List.append_assoc _ _ _) ?_
  refine g_blk (Bs := [mw (xG E) (A 10) b2 rm fb1 gb1, mw (xG E) (A 18) b rm fm gm, xw (xG E) x A (upd f 6 (-3)) g, p2w (A 15) x, rw1 (A 13) x fr, ww (xG E) (A 12) c2 fw gw]) (Bs' := [xw (xG E) x A (upd f 6 (-3)) g, mw (xG E) (A 18) b rm fm gm, mw (xG E) (A 10) b2 rm fb1 gb1, p2w (A 15) x, rw1 (A 13) x fr, ww (xG E) (A 12) c2 fw gw]) [2, 1, 0, 3, 4, 5] (nB := 6) rfl rfl (by decide) ?_
  show G E 0 0 19 _ [] (bw [xw (xG E) x A (upd f 6 (-3)) g, mw (xG E) (A 18) b rm fm gm, mw (xG E) (A 10) b2 rm fb1 gb1, p2w (A 15) x, rw1 (A 13) x fr, ww (xG E) (A 12) c2 fw gw])
  refine g_aload_0 (q := 20) C d_X_open_19 rfl ?_
  refine xg_116 (q := 23) C d_X_open_20 rfl ?_
  refine g_blk (Bs := [xw (xG E) x A (upd f 6 (-3)) g, mw (xG E) (A 18) b rm fm gm, mw (xG E) (A 10) b2 rm fb1 gb1, p2w (A 15) x, rw1 (A 13) x fr, ww (xG E) (A 12) c2 fw gw]) (Bs' := [rw1 (A 13) x fr, xw (xG E) x A (upd f 6 (-3)) g, mw (xG E) (A 18) b rm fm gm, mw (xG E) (A 10) b2 rm fb1 gb1, p2w (A 15) x, ww (xG E) (A 12) c2 fw gw]) [4, 0, 1, 2, 3, 5] (nB := 6) rfl rfl (by decide) ?_
  refine g_ws (ws' := (rw1 (A 13) x fr ++ xw (xG E) x A (upd f 6 (-3)) g) ++ bw [mw (xG E) (A 18) b rm fm gm, mw (xG E) (A 10) b2 rm fb1 gb1, p2w (A 15) x, ww (xG E) (A 12) c2 fw gw]) (List.append_assoc _ _ _).symm ?_
  refine xc_225 (q := 26) (fs := [.int (fr 0), .int (fr 1), .int (fr 2), .int (fr 3), .ref x]) C hR (c_Re_begin (out := ou) (os := os) (h3.keep rfl rfl)) rfl d_X_open_23 rfl (by decide) (by decide) (by decide) (Nat.le_of_ble_eq_true rfl) (fun v ws' hp => ?_)
  obtain ⟨rfl, fr1, rfl, hr1⟩ := hp
  refine g_ws (ws' := bw [rw1 (A 13) x fr1, xw (xG E) x A (upd f 6 (-3)) g, mw (xG E) (A 18) b rm fm gm, mw (xG E) (A 10) b2 rm fb1 gb1, p2w (A 15) x, ww (xG E) (A 12) c2 fw gw]) (List.append_assoc _ _ _) ?_
  refine g_blk (Bs := [rw1 (A 13) x fr1, xw (xG E) x A (upd f 6 (-3)) g, mw (xG E) (A 18) b rm fm gm, mw (xG E) (A 10) b2 rm fb1 gb1, p2w (A 15) x, ww (xG E) (A 12) c2 fw gw]) (Bs' := [xw (xG E) x A (upd f 6 (-3)) g, mw (xG E) (A 18) b rm fm gm, mw (xG E) (A 10) b2 rm fb1 gb1, p2w (A 15) x, rw1 (A 13) x fr1, ww (xG E) (A 12) c2 fw gw]) [1, 2, 3, 4, 0, 5] (nB := 6) rfl rfl (by decide) ?_
  show G E 0 0 26 _ [] (bw [xw (xG E) x A (upd f 6 (-3)) g, mw (xG E) (A 18) b rm fm gm, mw (xG E) (A 10) b2 rm fb1 gb1, p2w (A 15) x, rw1 (A 13) x fr1, ww (xG E) (A 12) c2 fw gw])
  refine g_aload_0 (q := 27) C d_X_open_26 rfl ?_
  refine xg_108 (q := 30) C d_X_open_27 rfl ?_
  refine g_blk (Bs := [xw (xG E) x A (upd f 6 (-3)) g, mw (xG E) (A 18) b rm fm gm, mw (xG E) (A 10) b2 rm fb1 gb1, p2w (A 15) x, rw1 (A 13) x fr1, ww (xG E) (A 12) c2 fw gw]) (Bs' := [ww (xG E) (A 12) c2 fw gw, xw (xG E) x A (upd f 6 (-3)) g, mw (xG E) (A 18) b rm fm gm, mw (xG E) (A 10) b2 rm fb1 gb1, p2w (A 15) x, rw1 (A 13) x fr1]) [5, 0, 1, 2, 3, 4] (nB := 6) rfl rfl (by decide) ?_
  refine xc_185 (q := 33) (fs := [.int (fw 0), .int (fw 1), .int (fw 2), .int (fw 3), .ref c2]) (wr := bw [xw (xG E) x A (upd f 6 (-3)) g, mw (xG E) (A 18) b rm fm gm, mw (xG E) (A 10) b2 rm fb1 gb1, p2w (A 15) x, rw1 (A 13) x fr1]) C hR c_Wr_begin rfl d_X_open_30 rfl (by decide) (by decide) (by decide) (Nat.le_of_ble_eq_true rfl) (fun v ws' hp => ?_)
  obtain ⟨rfl, fw1, gw1, rfl, hW1⟩ := hp
  refine g_blk (Bs := [ww (xG E) (A 12) c2 fw1 gw1, xw (xG E) x A (upd f 6 (-3)) g, mw (xG E) (A 18) b rm fm gm, mw (xG E) (A 10) b2 rm fb1 gb1, p2w (A 15) x, rw1 (A 13) x fr1]) (Bs' := [xw (xG E) x A (upd f 6 (-3)) g, mw (xG E) (A 18) b rm fm gm, mw (xG E) (A 10) b2 rm fb1 gb1, p2w (A 15) x, rw1 (A 13) x fr1, ww (xG E) (A 12) c2 fw1 gw1]) [1, 2, 3, 4, 5, 0] (nB := 6) rfl rfl (by decide) ?_
  show G E 0 0 33 _ [] (bw [xw (xG E) x A (upd f 6 (-3)) g, mw (xG E) (A 18) b rm fm gm, mw (xG E) (A 10) b2 rm fb1 gb1, p2w (A 15) x, rw1 (A 13) x fr1, ww (xG E) (A 12) c2 fw1 gw1])
  refine g_iconst (v := nI 0) (q := 34) C d_X_open_33 rfl (by decide) ?_
  refine g_istore_1 (q := 35) C hL d_X_open_34 rfl ?_
  refine g_iconst (v := nI 0) (q := 36) C d_X_open_35 rfl (by decide) ?_
  refine g_istore_2 (q := 37) C hL d_X_open_36 rfl ?_
  refine g_iconst (v := nI 0) (q := 38) C d_X_open_37 rfl (by decide) ?_
  refine g_istore_3 (q := 39) C hL d_X_open_38 rfl ?_
  refine g_iconst (v := nI 1) (q := 40) C d_X_open_39 rfl (by decide) ?_
  refine g_istore_4 (q := 42) C hL d_X_open_40 rfl ?_
  have hn0 := num0_lt hnb 16
  exact loop 302 (0, 65535, num0 (nbit ou os) 16, 16) 0 (fun _ => 0) 0 _ g fm fb1 fr1 fw1 gw1 gm gb1 _ (by omega) (by omega) hP.symm hM0 hr1 (rd0_ok hn0) (Nat.le_refl _) (fun i hi => absurd hi (Nat.not_lt_zero _)) hW1 hMb (Fr.rf.upd (by decide)) upd_s
end
