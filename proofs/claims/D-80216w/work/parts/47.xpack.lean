/-! PpmTrees: pack -/
section
variable {l : Launch} {Γ : Gl} {x c2 ord rm : Nat} {A b : Nat → Nat} {f fm fw gw : Nat → Int32} {g gm : Nat → Nat → Int32} {S : Sg}
theorem c_X_pack (hS : XA f g S) (hM : MR fm gm ord rm (S.2.2.2.2.2.2.1 0)) (hI : TI ord rm (S.2.2.2.2.2.2.1 0)) : Ct l Γ y_X_pack b_X_pack 4 (some .int) 8 0 0 [.ref x] (bw [xw Γ x A f g, mw Γ (A 17) b rm fm gm, p1w (A 14) x, ww Γ (A 11) c2 fw gw]) (fun r w => r = some (.int (oPack ord rm S).1) ∧ ∃ f' g' fm' gm' fw' gw', w = bw [xw Γ x A f' g', mw Γ (A 17) b rm fm' gm', p1w (A 14) x, ww Γ (A 11) c2 fw' gw'] ∧ XA f' g' (oPack ord rm S).2 ∧ MR fm' gm' ord rm ((oPack ord rm S).2.2.2.2.2.2.2.1 0)) := by
  obtain ⟨ts, tx, os, ou, rc, re, EE, K, kT, R, pl, ip, to, pn, px, pf⟩ := S
  obtain ⟨h2, h3, h4, h7, h8, h9⟩ := id hS
  have hts := h2.2.1
  have hM0 : MR fm gm ord rm (EE 0) := hM
  have hI0 : TI ord rm (EE 0) := hI
  obtain ⟨hw1, hw2⟩ := wrt_ok hI0 (fun i hi => (h2.2.2 i hi).2) h2.2.1
  have hok := wsq_ok (n := ts) (row := tx) hI0 (fun i hi => (h2.2.2 i hi).2)
  have hdef : oPack ord rm (ts, tx, os, ou, rc, re, EE, K, kT, R, pl, ip, to, pn, px, pf) = (nI (((wrt ord rm ts tx (EE 0)).2.2.2.1 + 7) / 8), (ts, tx, ((wrt ord rm ts tx (EE 0)).2.2.2.1 + 7) / 8, (wrt ord rm ts tx (EE 0)).2.2.2.2, rc, re, upT EE 0 (wsq ord rm ts tx (EE 0) (ts + 1)).1, K, kT, upd R 0 (R 0 + nI (wsq ord rm ts tx (EE 0) (ts + 1)).2.2.2), pl, true, (fun w => if w = 0 then (wrt ord rm ts tx (EE 0)).2.2.2.1 else if w = 1 then (wsq ord rm ts tx (EE 0) (ts + 1)).2.2.1 else (wsq ord rm ts tx (EE 0) (ts + 1)).2.2.2), ts + 1, (fun i => (tell (wsq ord rm ts tx (EE 0) i).1 (sgn ts tx i)).2.2.1), (fun i => (tell (wsq ord rm ts tx (EE 0) i).1 (sgn ts tx i)).2.1))) := rfl
  have hr : ∀ i, i < ts → tx i < 256 := fun i hi => (h2.2.2 i hi).2
  generalize hT0 : EE 0 = T at *
  refine Ct.of (by decide) (by simp [Value.category]) (Nat.le_of_ble_eq_true rfl) (fun E eG el en C hR F hnm => ?_)
  subst eG
  subst el
  have hL : 4 ≤ xn E := Nat.le_of_eq en.symm
  show G E 0 0 0 [some (.ref x), none, none, none] [] (bw [xw (xG E) x A f g, mw (xG E) (A 17) b rm fm gm, p1w (A 14) x, ww (xG E) (A 11) c2 fw gw])
  -- the bytes are copied
  have hwr : wrt ord rm ts tx T = cend (wsq ord rm ts tx T (ts + 1)).2.1 := rfl
  have copy : ∀ (j i : Nat) (f1 : Nat → Int32) (g1 : Nat → Nat → Int32) (fm1 fw1 gw1 : Nat → Int32) (gm1 : Nat → Nat → Int32) (l2 l3 : Option Value), i + j = ((wrt ord rm ts tx T).2.2.2.1 + 7) / 8 → Fr [0, 1, 2, 4, 10] [0, 2, 4, 7, 8] f f1 g g1 → f1 4 = nI (((wrt ord rm ts tx T).2.2.2.1 + 7) / 8) → (∀ i', i' < i → g1 4 i' = nI ((wrt ord rm ts tx T).2.2.2.2 i')) → g1 2 0 = R 0 + nI (wsq ord rm ts tx T (ts + 1)).2.2.2 → g1 2 1 = R 1 → f1 1 = nI (wsq ord rm ts tx T (ts + 1)).2.2.1 → f1 10 = nI (wsq ord rm ts tx T (ts + 1)).2.2.2 → (∀ i', i' < ts + 1 → g1 7 i' = nI (tell (wsq ord rm ts tx T i').1 (sgn ts tx i')).2.2.1 ∧ g1 8 i' = fenc (tell (wsq ord rm ts tx T i').1 (sgn ts tx i')).2.1) → WC fw1 gw1 (wrt ord rm ts tx T) → MR fm1 gm1 ord rm (wsq ord rm ts tx T (ts + 1)).1 →
      G E 0 0 151 [some (.ref x), some (.int (nI i)), l2, l3] [] (bw [xw (xG E) x A f1 g1, ww (xG E) (A 11) c2 fw1 gw1, mw (xG E) (A 17) b rm fm1 gm1, p1w (A 14) x]) := by
    intro j
    induction j with
    | zero =>
      intro i f1 g1 fm1 fw1 gw1 gm1 l2 l3 hi hF k4 kc k20 k21 k1 k10 ks hW hM1
      have e3 : f1 3 = nI ts := by rw [hF.1 3 (by decide)]; exact h2.1
      refine g_iload_1 (q := 152) C d_X_pack_151 rfl ?_
      refine g_aload_0 (q := 153) C d_X_pack_152 rfl ?_
      refine xg_172 (q := 156) C d_X_pack_153 rfl k4 ?_
      refine g_icmp_ge (q := 159) (tgt := 184) C d_X_pack_156 rfl (by decide) (fun hc => ?_) (fun hc => ?_)
      · refine g_aload_0 (q := 185) C d_X_pack_184 rfl ?_
        refine g_iconst (v := nI 1) (q := 186) C d_X_pack_185 rfl (by decide) ?_
        refine xp_206 (q := 189) C d_X_pack_186 rfl ?_
        refine g_aload_0 (q := 190) C d_X_pack_189 rfl ?_
        refine g_aload_0 (q := 191) C d_X_pack_190 rfl ?_
        refine xg_104 (q := 194) C d_X_pack_191 rfl ?_
        refine xw_210 (q := 197) C d_X_pack_194 rfl hW.1 ?_
        refine xp_213 (q := 200) C d_X_pack_197 rfl ?_
        refine g_aload_0 (q := 201) C d_X_pack_200 rfl ?_
        refine g_aload_0 (q := 202) C d_X_pack_201 rfl ?_
        refine xg_60 (q := 205) C d_X_pack_202 rfl k1 ?_
        refine xp_216 (q := 208) C d_X_pack_205 rfl ?_
        refine g_aload_0 (q := 209) C d_X_pack_208 rfl ?_
        refine g_aload_0 (q := 210) C d_X_pack_209 rfl ?_
        refine xg_160 (q := 213) C d_X_pack_210 rfl e3 ?_
        refine g_iconst (v := nI 1) (q := 214) C d_X_pack_213 rfl (by decide) ?_
        refine g_iadd (q := 215) C d_X_pack_214 rfl (nI_1 _) ?_
        refine xp_219 (q := 218) C d_X_pack_215 rfl ?_
        refine g_aload_0 (q := 219) C d_X_pack_218 rfl ?_
        refine xg_172 (q := 222) C d_X_pack_219 rfl k4 ?_
        refine g_blk (Bs := [xw (xG E) x A _ g1, ww (xG E) (A 11) c2 fw1 gw1, mw (xG E) (A 17) b rm fm1 gm1, p1w (A 14) x]) (Bs' := [xw (xG E) x A _ g1, mw (xG E) (A 17) b rm fm1 gm1, p1w (A 14) x, ww (xG E) (A 11) c2 fw1 gw1]) [0, 2, 3, 1] (nB := 4) rfl rfl (by decide) ?_
        refine g_iret C F d_X_pack_222 (Nat.le_refl _) (Nat.le_refl _) ⟨by rw [hdef], _, _, _, _, _, _, rfl, ?_, ?_⟩
        · rw [hdef]
          refine ⟨?_, ⟨k4, by show (_ + 7) / 8 ≤ 4096; omega, fun i' hi' => ⟨kc i' (by omega), hw2 i'⟩⟩, ?_, fun m hm => ?_, ?_, ⟨rfl, fun _ => rfl, by show ts + 1 ≤ 301; omega, fun q => absurd q (by decide), fun _ => ⟨rfl, rfl, k10⟩, ks⟩⟩
          · show f1 3 = _ ∧ _
            rw [e3, hF.2 3 (by decide)]; exact ⟨rfl, h2.2⟩
          · show f1 5 = _ ∧ _
            rw [hF.1 5 (by decide), hF.2 5 (by decide)]; exact h4
          · rcases (show m = 0 ∨ m = 1 by omega) with rfl | rfl
            · rw [upd_s]; exact k20
            · rw [upd_n (by decide)]; exact k21
          · show f1 6 = _
            rw [hF.1 6 (by decide)]; exact h8
        · rw [hdef]
          exact hM1
      · exact absurd ((nI_leI (by omega) (by omega)).mpr (by omega)) hc
    | succ j ih =>
      intro i f1 g1 fm1 fw1 gw1 gm1 l2 l3 hi hF k4 kc k20 k21 k1 k10 ks hW hM1
      have eb := hW.2.2.2.2 i (by omega)
      refine g_iload_1 (q := 152) C d_X_pack_151 rfl ?_
      refine g_aload_0 (q := 153) C d_X_pack_152 rfl ?_
      refine xg_172 (q := 156) C d_X_pack_153 rfl k4 ?_
      refine g_icmp_ge (q := 159) (tgt := 184) C d_X_pack_156 rfl (by decide) (fun hc => ?_) (fun hc => ?_)
      · exact absurd ((nI_leI (by omega) (by omega)).mp hc) (by omega)
      refine g_aload_0 (q := 160) C d_X_pack_159 rfl ?_
      refine xg_90 (q := 163) C d_X_pack_160 rfl ?_
      refine g_iload_1 (q := 164) C d_X_pack_163 rfl ?_
      refine g_aload_0 (q := 165) C d_X_pack_164 rfl ?_
      refine xg_104 (q := 168) C d_X_pack_165 rfl ?_
      refine xw_203 (q := 171) C d_X_pack_168 rfl ?_
      refine g_iload_1 (q := 172) C d_X_pack_171 rfl ?_
      refine xwb (q := 173) C d_X_pack_172 rfl rfl (by omega) eb ?_
      refine g_sipush (v := nI 255) (q := 176) C d_X_pack_173 rfl (by decide) ?_
      refine g_iand (q := 177) C d_X_pack_176 rfl (bt8_and _ (hw2 i)) ?_
      refine xs_4 (q := 178) C d_X_pack_177 rfl rfl (by omega) ?_
      refine g_iinc_1 (q := 181) C hL d_X_pack_178 rfl (nI_inc _) ?_
      refine g_goto (tgt := 151) C d_X_pack_181 (by decide) ?_
      refine ih (i + 1) f1 _ fm1 fw1 gw1 gm1 l2 l3 (by omega) (hF.updA (by decide)) k4 (fun i' hi' => ?_) k20 k21 k1 k10 ks hW hM1
      show upd (g1 4) i _ i' = _
      by_cases e : i' = i
      · rw [e, upd_s]
      · rw [upd_n e]; exact kc i' (by omega)
  have loop : ∀ (j i : Nat) (f1 : Nat → Int32) (g1 : Nat → Nat → Int32) (fm1 fw1 gw1 : Nat → Int32) (gm1 : Nat → Nat → Int32) (l2 l3 : Option Value), i + j = ts + 1 → Fr [0, 1, 2, 10] [0, 7, 8] f f1 g g1 → f1 1 = nI (wsq ord rm ts tx T i).2.2.1 → f1 10 = nI (wsq ord rm ts tx T i).2.2.2 → (∀ i', i' < i → g1 7 i' = nI (tell (wsq ord rm ts tx T i').1 (sgn ts tx i')).2.2.1 ∧ g1 8 i' = fenc (tell (wsq ord rm ts tx T i').1 (sgn ts tx i')).2.1) → WC fw1 gw1 (wsq ord rm ts tx T i).2.1 → MR fm1 gm1 ord rm (wsq ord rm ts tx T i).1 →
      G E 0 0 19 [some (.ref x), some (.int (nI i)), l2, l3] [] (bw [xw (xG E) x A f1 g1, mw (xG E) (A 17) b rm fm1 gm1, p1w (A 14) x, ww (xG E) (A 11) c2 fw1 gw1]) := by
    intro j
    induction j with
    | zero =>
      intro i f1 g1 fm1 fw1 gw1 gm1 l2 l3 hi hF k1 k10 ks hW hM1
      have : i = ts + 1 := by omega
      subst this
      have e3 : f1 3 = nI ts := by rw [hF.1 3 (by decide)]; exact h2.1
      have e20 : g1 2 0 = R 0 := by rw [hF.2 2 (by decide)]; exact h7 0 (by decide)
      have e21 : g1 2 1 = R 1 := by rw [hF.2 2 (by decide)]; exact h7 1 (by decide)
      obtain ⟨o1, o2, o3, o4, o5⟩ := hok (ts + 1) (Nat.le_refl _)
      refine g_iload_1 (q := 20) C d_X_pack_19 rfl ?_
      refine g_aload_0 (q := 21) C d_X_pack_20 rfl ?_
      refine xg_160 (q := 24) C d_X_pack_21 rfl e3 ?_
      refine g_icmp_gt (q := 27) (tgt := 125) C d_X_pack_24 rfl (by decide) (fun hc => ?_) (fun hc => ?_)
      · refine g_aload_0 (q := 126) C d_X_pack_125 rfl ?_
        refine xg_77 (q := 129) C d_X_pack_126 rfl ?_
        refine g_iconst (v := nI 0) (q := 130) C d_X_pack_129 rfl (by decide) ?_
        refine g_dup2 (q := 131) C d_X_pack_130 rfl rfl rfl ?_
        refine xa_2 (q := 132) C d_X_pack_131 rfl rfl (by decide) e20 ?_
        refine g_aload_0 (q := 133) C d_X_pack_132 rfl ?_
        refine xg_188 (q := 136) C d_X_pack_133 rfl k10 ?_
        refine g_iadd (q := 137) C d_X_pack_136 rfl rfl ?_
        refine xs_2 (q := 138) C d_X_pack_137 rfl rfl (by decide) ?_
        refine g_aload_0 (q := 139) C d_X_pack_138 rfl ?_
        refine g_aload_0 (q := 140) C d_X_pack_139 rfl ?_
        refine xg_104 (q := 143) C d_X_pack_140 rfl ?_
        refine g_blk (Bs := [xw (xG E) x A f1 _, mw (xG E) (A 17) b rm fm1 gm1, p1w (A 14) x, ww (xG E) (A 11) c2 fw1 gw1]) (Bs' := [ww (xG E) (A 11) c2 fw1 gw1, xw (xG E) x A f1 _, mw (xG E) (A 17) b rm fm1 gm1, p1w (A 14) x]) [3, 0, 1, 2] (nB := 4) rfl rfl (by decide) ?_
        refine xc_199 (q := 146) (fs := [.int (fw1 0), .int (fw1 1), .int (fw1 2), .int (fw1 3), .ref c2]) (wr := bw [xw (xG E) x A f1 _, mw (xG E) (A 17) b rm fm1 gm1, p1w (A 14) x]) C hR (c_Wr_end hW o2 (by omega)) rfl d_X_pack_143 rfl (by decide) (by decide) (by decide) (Nat.le_of_ble_eq_true rfl) (fun v ws' hp => ?_)
        obtain ⟨z, fw2, gw2, rfl, rfl, rfl, hW2⟩ := hp
        refine g_blk (Bs := [ww (xG E) (A 11) c2 fw2 gw2, xw (xG E) x A f1 _, mw (xG E) (A 17) b rm fm1 gm1, p1w (A 14) x]) (Bs' := [xw (xG E) x A f1 _, ww (xG E) (A 11) c2 fw2 gw2, mw (xG E) (A 17) b rm fm1 gm1, p1w (A 14) x]) [1, 0, 2, 3] (nB := 4) rfl rfl (by decide) ?_
        show G E 0 0 146 _ [.int _, .ref x] (bw [xw (xG E) x A f1 _, ww (xG E) (A 11) c2 fw2 gw2, mw (xG E) (A 17) b rm fm1 gm1, p1w (A 14) x])
        refine xp_172 (q := 149) C d_X_pack_146 rfl ?_
        refine g_iconst (v := nI 0) (q := 150) C d_X_pack_149 rfl (by decide) ?_
        refine g_istore_1 (q := 151) C hL d_X_pack_150 rfl ?_
        refine copy _ 0 _ _ fm1 fw2 gw2 gm1 _ _ (Nat.zero_add _) (((hF.mono (by decide) (by decide)).updA (by decide)).upd (by decide)) rfl (fun i' hi' => absurd hi' (Nat.not_lt_zero _)) ?_ ?_ k1 k10 ks hW2 hM1
        · rfl
        · exact e21
      · exact absurd ((nI_ltI (by omega) (by omega)).mpr (by omega)) hc
    | succ j ih =>
      intro i f1 g1 fm1 fw1 gw1 gm1 l2 l3 hi hF k1 k10 ks hW hM1
      have e3 : f1 3 = nI ts := by rw [hF.1 3 (by decide)]; exact h2.1
      obtain ⟨o1, o2, o3, o4, o5⟩ := hok i (by omega)
      have hstep : wsq ord rm ts tx T (i + 1) = wst ord rm ts tx (wsq ord rm ts tx T i) i := rfl
      have hih := ih (i + 1)
      rw [hstep] at hih
      clear ih
      have hO1 : XO f1 g1 ou os := h3.keep (hF.1 4 (by decide)) (hF.2 4 (by decide))
      have hs256 : sgn ts tx i ≤ 256 := by
        unfold sgn
        split
        · rename_i h; exact Nat.le_of_lt (hr i h)
        · exact Nat.le_refl _
      have ks' : ∀ (g2 : Nat → Nat → Int32), (∀ i', i' ≠ i → g2 7 i' = g1 7 i' ∧ g2 8 i' = g1 8 i') → g2 7 i = nI (tell (wsq ord rm ts tx T i).1 (sgn ts tx i)).2.2.1 → g2 8 i = fenc (tell (wsq ord rm ts tx T i).1 (sgn ts tx i)).2.1 → ∀ i', i' < i + 1 → g2 7 i' = nI (tell (wsq ord rm ts tx T i').1 (sgn ts tx i')).2.2.1 ∧ g2 8 i' = fenc (tell (wsq ord rm ts tx T i').1 (sgn ts tx i')).2.1 := by
        intro g2 q1 q2 q3 i' hi'
        by_cases e : i' = i
        · subst e; exact ⟨q2, q3⟩
        · rw [(q1 i' e).1, (q1 i' e).2]; exact ks i' (by omega)
      generalize hwe : wsq ord rm ts tx T i = w at *
      obtain ⟨t1, t2, t3, t4, t5, t6⟩ := tell_ok o1 hs256
      have hL4 : tL w.1 ≤ 4 := o1.l
      have h47 : ∀ l2, G E 0 0 47 [some (.ref x), some (.int (nI i)), l2, l3] [.int (nI (sgn ts tx i))] (bw [xw (xG E) x A f1 g1, mw (xG E) (A 17) b rm fm1 gm1, p1w (A 14) x, ww (xG E) (A 11) c2 fw1 gw1]) := by
        intro l2
        refine g_istore_2 (q := 48) C hL d_X_pack_47 rfl ?_
        refine g_aload_0 (q := 49) C d_X_pack_48 rfl ?_
        refine g_aload_0 (q := 50) C d_X_pack_49 rfl ?_
        refine xg_73 (q := 53) C d_X_pack_50 rfl ?_
        refine g_iconst (v := nI 0) (q := 54) C d_X_pack_53 rfl (by decide) ?_
        refine xe_0 (q := 55) C d_X_pack_54 rfl ?_
        refine g_iload_2 (q := 56) C d_X_pack_55 rfl ?_
        refine g_aload_0 (q := 57) C d_X_pack_56 rfl ?_
        refine xg_132 (q := 60) C d_X_pack_57 rfl ?_
        refine g_ws (ws' := bw [xw (xG E) x A f1 g1, mw (xG E) (A 17) b rm fm1 gm1, p1w (A 14) x, ww (xG E) (A 11) c2 fw1 gw1] ++ []) (List.append_nil _).symm ?_
        refine xc_191 (q := 63) (fs := xfs A f1) C hR (c_X_tell (TK_1 (x := x) (A := A) (c2 := c2) (out := ou) (os := os)) hO1 hM1 o1 (s := w.2.1) (w := bw [p1w (A 14) x, ww (xG E) (A 11) c2 fw1 gw1]) ⟨fw1, gw1, rfl, hW⟩ hs256 (TKI_1 o1 hs256) ⟨rfl, o2, by omega⟩) rfl d_X_pack_60 rfl (by decide) (by decide) (by decide) (Nat.le_of_ble_eq_true rfl) (fun v ws' hp => ?_)
        obtain ⟨rfl, f2, g2, w2, ⟨fw2, gw2, rfl, hW2⟩, rfl, hF2, q0, q2, q1⟩ := hp
        refine g_ws (ws' := bw [xw (xG E) x A f2 g2, mw (xG E) (A 17) b rm fm1 gm1, p1w (A 14) x, ww (xG E) (A 11) c2 fw2 gw2]) (List.append_nil _) ?_
        show G E 0 0 63 _ [.int (nI (sgn ts tx i))] (bw [xw (xG E) x A f2 g2, mw (xG E) (A 17) b rm fm1 gm1, p1w (A 14) x, ww (xG E) (A 11) c2 fw2 gw2])
        have e32 : f2 3 = nI ts := by rw [hF2.1 3 (by decide)]; exact e3
        have e10 : f2 10 = nI w.2.2.2 := by rw [hF2.1 10 (by decide)]; exact k10
        have e1 : f2 1 = nI (w.2.2.1 + (tell w.1 (sgn ts tx i)).2.2.2) := by rw [q1, k1, nI_add]
        have e7 : g2 7 = g1 7 := hF2.2 7 (by decide)
        have e8 : g2 8 = g1 8 := hF2.2 8 (by decide)
        have hF3 : Fr [0, 1, 2, 10] [0, 7, 8] f f2 g g2 := hF.trans (hF2.mono (by decide) (by decide))
        refine g_istore_3 (q := 64) C hL d_X_pack_63 rfl ?_
        refine g_aload_0 (q := 65) C d_X_pack_64 rfl ?_
        refine xg_123 (q := 68) C d_X_pack_65 rfl ?_
        refine g_iload_1 (q := 69) C d_X_pack_68 rfl ?_
        refine g_aload_0 (q := 70) C d_X_pack_69 rfl ?_
        refine xg_22 (q := 73) C d_X_pack_70 rfl q0 ?_
        refine xs_7 (q := 74) C d_X_pack_73 rfl rfl (by omega) ?_
        refine g_aload_0 (q := 75) C d_X_pack_74 rfl ?_
        refine xg_126 (q := 78) C d_X_pack_75 rfl ?_
        refine g_iload_1 (q := 79) C d_X_pack_78 rfl ?_
        refine g_aload_0 (q := 80) C d_X_pack_79 rfl ?_
        refine xg_57 (q := 83) C d_X_pack_80 rfl q2 ?_
        refine xs_8 (q := 84) C d_X_pack_83 rfl rfl (by omega) ?_
        refine g_iload_1 (q := 85) C d_X_pack_84 rfl ?_
        refine g_aload_0 (q := 86) C d_X_pack_85 rfl ?_
        refine xg_160 (q := 89) C d_X_pack_86 rfl e32 ?_
        have ks2 := ks' (updA (updA g2 7 (upd (g2 7) i (nI (tell w.1 (sgn ts tx i)).2.2.1))) 8 (upd (g2 8) i (fenc (tell w.1 (sgn ts tx i)).2.1))) (fun i' hi' => by
          show upd (g2 7) i _ i' = _ ∧ upd (g2 8) i _ i' = _
          rw [upd_n hi', upd_n hi', e7, e8]; exact ⟨rfl, rfl⟩) upd_s upd_s
        refine g_icmp_ge (q := 92) (tgt := 119) C d_X_pack_89 rfl (by decide) (fun hc => ?_) (fun hc => ?_)
        · have hc := (nI_leI (by omega) (by omega)).mp hc
          refine g_iinc_1 (q := 122) C hL d_X_pack_119 rfl (nI_inc _) ?_
          refine g_goto (tgt := 19) C d_X_pack_122 (by decide) ?_
          refine hih f2 _ fm1 fw2 gw2 gm1 _ _ (by omega) ((hF3.updA (by decide)).updA (by decide)) e1 ?_ ks2 hW2 ?_
          · show _ = nI (w.2.2.2 + if i < ts ∧ _ then 1 else 0)
            rw [if_neg (fun q => absurd q.1 (by omega)), e10]; rfl
          · show MR fm1 gm1 ord rm (if i < ts then _ else _)
            rw [if_neg (by omega)]; exact hM1
        · have hc : i < ts := Nat.lt_of_not_le (fun q => hc ((nI_leI (by omega) (by omega)).mpr q))
          have hsr : sgn ts tx i = tx i := by unfold sgn; rw [if_pos hc]
          have hlp : (tell w.1 (sgn ts tx i)).2.1 - 1 = 0 ∨ chT w.1 (cx w.1 ((tell w.1 (sgn ts tx i)).2.1 - 1)) (sgn ts tx i) ≠ 0 := by
            rcases Nat.eq_zero_or_pos (tell w.1 (sgn ts tx i)).2.1 with z | z
            · left; omega
            · right; exact (t4 _ (by omega)).2
          refine g_aload_0 (q := 93) C d_X_pack_92 rfl ?_
          refine xg_73 (q := 96) C d_X_pack_93 rfl ?_
          refine g_iconst (v := nI 0) (q := 97) C d_X_pack_96 rfl (by decide) ?_
          refine xe_0 (q := 98) C d_X_pack_97 rfl ?_
          refine g_iload_3 (q := 99) C d_X_pack_98 rfl ?_
          refine g_aload_0 (q := 100) C d_X_pack_99 rfl ?_
          refine xg_57 (q := 103) C d_X_pack_100 rfl q2 ?_
          refine g_blk (Bs := [xw (xG E) x A f2 _, mw (xG E) (A 17) b rm fm1 gm1, p1w (A 14) x, ww (xG E) (A 11) c2 fw2 gw2]) (Bs' := [mw (xG E) (A 17) b rm fm1 gm1, xw (xG E) x A f2 _, p1w (A 14) x, ww (xG E) (A 11) c2 fw2 gw2]) [1, 0, 2, 3] (nB := 4) rfl rfl (by decide) ?_
          refine xc_195 (q := 106) (fs := mfs b fm1) (wr := bw [xw (xG E) x A f2 _, p1w (A 14) x, ww (xG E) (A 11) c2 fw2 gw2]) C hR (c_Mo_learns hM1 o1 (by rw [hsr]; exact hr i hc) t3 hlp) rfl d_X_pack_103 rfl (by decide) (by decide) (by decide) (Nat.le_of_ble_eq_true rfl) (fun v ws' hp => ?_)
          obtain ⟨z, fm2, gm2, rfl, rfl, hM2, rfl⟩ := hp
          refine g_blk (Bs := [mw (xG E) (A 17) b rm fm2 gm2, xw (xG E) x A f2 _, p1w (A 14) x, ww (xG E) (A 11) c2 fw2 gw2]) (Bs' := [xw (xG E) x A f2 _, mw (xG E) (A 17) b rm fm2 gm2, p1w (A 14) x, ww (xG E) (A 11) c2 fw2 gw2]) [1, 0, 2, 3] (nB := 4) rfl rfl (by decide) ?_
          have hlr : learnT ord rm (sgn ts tx i) ((tell w.1 (sgn ts tx i)).2.1 - 1) w.1 = learnT ord rm (tx i) ((tell w.1 (sgn ts tx i)).2.1 - 1) w.1 := congrArg (fun z => learnT ord rm z ((tell w.1 (sgn ts tx i)).2.1 - 1) w.1) hsr
          rw [hlr] at hM2 ⊢
          generalize hB : (learnT ord rm (tx i) ((tell w.1 (sgn ts tx i)).2.1 - 1) w.1).2 = B
          have hM3 : MR fm2 gm2 ord rm (wst ord rm ts tx w i).1 := by
            show MR fm2 gm2 ord rm (if i < ts then _ else _)
            rw [if_pos hc]; exact hM2
          have hW3 : WC fw2 gw2 (wst ord rm ts tx w i).2.1 := hW2
          show G E 0 0 106 _ [.int (nI (if B then 1 else 0))] (bw [xw (xG E) x A f2 _, mw (xG E) (A 17) b rm fm2 gm2, p1w (A 14) x, ww (xG E) (A 11) c2 fw2 gw2])
          refine g_if_eq (q := 109) (tgt := 119) C d_X_pack_106 rfl (by decide) (fun hb => ?_) (fun hb => ?_)
          · have hb : B = false := by
              cases q : B with
              | false => rfl
              | true => rw [q] at hb; exact absurd hb (by decide)
            refine g_iinc_1 (q := 122) C hL d_X_pack_119 rfl (nI_inc _) ?_
            refine g_goto (tgt := 19) C d_X_pack_122 (by decide) ?_
            refine hih f2 _ fm2 fw2 gw2 gm2 _ _ (by omega) ((hF3.updA (by decide)).updA (by decide)) e1 ?_ ks2 hW3 hM3
            show _ = nI (w.2.2.2 + if i < ts ∧ _ then 1 else 0)
            rw [hB, hb, if_neg (fun q => absurd q.2 (by decide)), e10]; rfl
          · have hb : B = true := by
              cases q : B with
              | true => rfl
              | false => rw [q] at hb; exact absurd (by decide) hb
            refine g_aload_0 (q := 110) C d_X_pack_109 rfl ?_
            refine g_dup_r (q := 111) C d_X_pack_110 rfl ?_
            refine xg_188 (q := 114) C d_X_pack_111 rfl e10 ?_
            refine g_iconst (v := nI 1) (q := 115) C d_X_pack_114 rfl (by decide) ?_
            refine g_iadd (q := 116) C d_X_pack_115 rfl (nI_1 _) ?_
            refine xp_188 (q := 119) C d_X_pack_116 rfl ?_
            refine g_iinc_1 (q := 122) C hL d_X_pack_119 rfl (nI_inc _) ?_
            refine g_goto (tgt := 19) C d_X_pack_122 (by decide) ?_
            refine hih _ _ fm2 fw2 gw2 gm2 _ _ (by omega) (((hF3.updA (by decide)).updA (by decide)).upd (by decide)) e1 ?_ ks2 hW3 hM3
            show _ = nI (w.2.2.2 + if i < ts ∧ _ then 1 else 0)
            rw [hB, if_pos ⟨hc, hb⟩]; rfl
      refine g_iload_1 (q := 20) C d_X_pack_19 rfl ?_
      refine g_aload_0 (q := 21) C d_X_pack_20 rfl ?_
      refine xg_160 (q := 24) C d_X_pack_21 rfl e3 ?_
      refine g_icmp_gt (q := 27) (tgt := 125) C d_X_pack_24 rfl (by decide) (fun hc => ?_) (fun hc => ?_)
      · exact absurd ((nI_ltI (by omega) (by omega)).mp hc) (by omega)
      refine g_iload_1 (q := 28) C d_X_pack_27 rfl ?_
      refine g_aload_0 (q := 29) C d_X_pack_28 rfl ?_
      refine xg_160 (q := 32) C d_X_pack_29 rfl e3 ?_
      refine g_icmp_ne (q := 35) (tgt := 41) C d_X_pack_32 rfl (by decide) (fun hq => ?_) (fun hq => ?_)
      · have hq : i ≠ ts := fun q => hq (by rw [q])
        have hsr : sgn ts tx i = tx i := by unfold sgn; rw [if_pos (by omega)]
        have et : g1 3 i = nI (sgn ts tx i) := by rw [hF.2 3 (by decide), hsr]; exact (h2.2.2 i (by omega)).1
        refine g_aload_0 (q := 42) C d_X_pack_41 rfl ?_
        refine xg_87 (q := 45) C d_X_pack_42 rfl ?_
        refine g_iload_1 (q := 46) C d_X_pack_45 rfl ?_
        refine xa_3 (q := 47) C d_X_pack_46 rfl rfl (by omega) et ?_
        exact h47 _
      · have hq : i = ts := (nI_eq (by omega) (by omega)).mp (Decidable.not_not.mp hq)
        have hsr : sgn ts tx i = 256 := by unfold sgn; rw [if_neg (by omega)]
        have h := h47 l2
        rw [hsr] at h
        refine g_sipush (v := nI 256) (q := 38) C d_X_pack_35 rfl (by decide) ?_
        refine g_goto (tgt := 47) C d_X_pack_38 (by decide) ?_
        exact h
  refine g_aload_0 (q := 1) C d_X_pack_0 rfl ?_
  refine xg_104 (q := 4) C d_X_pack_1 rfl ?_
  refine g_blk (Bs := [xw (xG E) x A f g, mw (xG E) (A 17) b rm fm gm, p1w (A 14) x, ww (xG E) (A 11) c2 fw gw]) (Bs' := [ww (xG E) (A 11) c2 fw gw, xw (xG E) x A f g, mw (xG E) (A 17) b rm fm gm, p1w (A 14) x]) [3, 0, 1, 2] (nB := 4) rfl rfl (by decide) ?_
  refine xc_185 (q := 7) (fs := [.int (fw 0), .int (fw 1), .int (fw 2), .int (fw 3), .ref c2]) (wr := bw [xw (xG E) x A f g, mw (xG E) (A 17) b rm fm gm, p1w (A 14) x]) C hR c_Wr_begin rfl d_X_pack_4 rfl (by decide) (by decide) (by decide) (Nat.le_of_ble_eq_true rfl) (fun v ws' hp => ?_)
  obtain ⟨rfl, fw1, gw1, rfl, hW1⟩ := hp
  refine g_blk (Bs := [ww (xG E) (A 11) c2 fw1 gw1, xw (xG E) x A f g, mw (xG E) (A 17) b rm fm gm, p1w (A 14) x]) (Bs' := [xw (xG E) x A f g, mw (xG E) (A 17) b rm fm gm, p1w (A 14) x, ww (xG E) (A 11) c2 fw1 gw1]) [1, 2, 3, 0] (nB := 4) rfl rfl (by decide) ?_
  show G E 0 0 7 _ [] (bw [xw (xG E) x A f g, mw (xG E) (A 17) b rm fm gm, p1w (A 14) x, ww (xG E) (A 11) c2 fw1 gw1])
  refine g_aload_0 (q := 8) C d_X_pack_7 rfl ?_
  refine g_iconst (v := nI 0) (q := 9) C d_X_pack_8 rfl (by decide) ?_
  refine xp_60 (q := 12) C d_X_pack_9 rfl ?_
  refine g_aload_0 (q := 13) C d_X_pack_12 rfl ?_
  refine g_iconst (v := nI 0) (q := 14) C d_X_pack_13 rfl (by decide) ?_
  refine xp_188 (q := 17) C d_X_pack_14 rfl ?_
  refine g_iconst (v := nI 0) (q := 18) C d_X_pack_17 rfl (by decide) ?_
  refine g_istore_1 (q := 19) C hL d_X_pack_18 rfl ?_
  exact loop (ts + 1) 0 _ g fm fw1 gw1 gm _ _ (by omega) ((Fr.rf.upd (by decide)).upd (by decide)) rfl rfl (fun i' hi' => absurd hi' (Nat.not_lt_zero _)) hW1 hM0
end
