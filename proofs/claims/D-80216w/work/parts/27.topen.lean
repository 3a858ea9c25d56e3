/-! THE TWIN: open -/
abbrev KO : List Nat := [7, 8, 9, 10, 11, 12, 13, 14, 15, 16, 17, 18, 19, 22, 23, 25, 26]
abbrev JO : List Nat := [3, 4, 5, 6, 7, 8, 10, 11, 12, 13, 14, 18]
theorem MW.fr {ord room : Nat} {f f' : Nat → Int32} {g g' : Nat → Nat → Int32} {S : Sg} (h : MW ord room f g S) (hF : Fr KO JO f f' g g') (hB : Bd 2 g g') : MW ord room f' g' S :=
  h.keep (fun k hk => hF.1 k (by intro q; revert hk; revert q; simp; omega)) (fun j hj => hF.2 j (by intro q; revert hj; revert q; simp; omega)) hB
theorem num0_lt {nb : Nat → Nat} (hnb : ∀ i, nb i < 2) : ∀ k, num0 nb k < 2 ^ k
  | 0 => Nat.one_pos
  | k + 1 => by
    have h1 := num0_lt hnb k
    have h2 := hnb k
    show 2 * num0 nb k + nb k < _
    rw [Nat.pow_succ]; omega
theorem rd0_ok {n : Nat} (h : n < 2 ^ 16) : RdOk (0, 65535, n, 16) := by
  unfold RdOk
  simp only
  omega
section
variable {l : Launch} {Γ : Gl} {o : Nat} {ad : Nat → Nat} {f : Nat → Int32} {g : Nat → Nat → Int32} {ord room : Nat} {S : Sg}
theorem c_T_open (hS : MW ord room f g S) : Ct l Γ y_T_open b_T_open 6 (some .int) 4 0 0 [.ref o] (tw Γ o ad f g) (pi Γ o ad (fun x f' g' => x = (oOpen ord room S).1 ∧ MW ord room f' g' (oOpen ord room S).2)) := by
  obtain ⟨ts, tx, os, ou, rc, re, EE, K, kT, R, pl, ip, to, pn, px, pf⟩ := S
  obtain ⟨h1, h2, h3, h4, h5, h6, h7, h8, h9⟩ := id hS
  obtain ⟨hT, hI⟩ := h5 1 (by decide)
  have hos := h3.2.1
  have hnb : ∀ i, nbit ou os i < 2 := fun i => nbit_lt
  obtain ⟨P, hP⟩ : ∃ P, P = opl ord room os (nbit ou os) 302 (EE 1) (0, 65535, num0 (nbit ou os) 16, 16) 0 (fun _ => 0) 0 := ⟨_, rfl⟩
  have hd : oOpen ord room (ts, tx, os, ou, rc, re, EE, K, kT, R, pl, ip, to, pn, px, pf) = if P.1 = 1 then (-11, (ts, tx, os, ou, rc, re, EE, K, kT, R, -3, ip, to, pn, px, pf)) else if P.1 = 2 then (-12, (ts, tx, os, ou, rc, re, EE, K, kT, R, -3, ip, to, pn, px, pf)) else if dif (wrt ord room P.2.1 P.2.2.1 (EE 1)).2.2.2.2 ou (min (((wrt ord room P.2.1 P.2.2.1 (EE 1)).2.2.2.1 + 7) / 8) os) 0 < ((wrt ord room P.2.1 P.2.2.1 (EE 1)).2.2.2.1 + 7) / 8 ∨ dif (wrt ord room P.2.1 P.2.2.1 (EE 1)).2.2.2.2 ou (min (((wrt ord room P.2.1 P.2.2.1 (EE 1)).2.2.2.1 + 7) / 8) os) 0 < os then (-13, (ts, tx, os, ou, rc, re, EE, K, kT, R, nI (dif (wrt ord room P.2.1 P.2.2.1 (EE 1)).2.2.2.2 ou (min (((wrt ord room P.2.1 P.2.2.1 (EE 1)).2.2.2.1 + 7) / 8) os) 0), ip, to, pn, px, pf)) else (nI P.2.1, (ts, tx, os, ou, P.2.1, P.2.2.1, upT EE 1 (wsq ord room P.2.1 P.2.2.1 (EE 1) (P.2.1 + 1)).1, K, kT, upd R 1 (R 1 + nI P.2.2.2), -3, ip, to, pn, px, pf)) := by
    subst hP; rfl
  refine Ct.of (by decide) (by simp [Value.category]) (Nat.le_of_ble_eq_true rfl) (fun E eG el en C hR F hnm => ?_)
  subst eG
  subst el
  have hL : 6 ≤ xn E := Nat.le_of_eq en.symm
  show G E 0 0 0 [some (.ref o), none, none, none, none, none] [] (tw (xG E) o ad f g)
  refine g_aload_0 (q := 1) C d_T_open_0 rfl ?_
  refine g_iconst (v := nI 0) (q := 2) C d_T_open_1 rfl (by decide) ?_
  refine tp_82 (q := 5) C d_T_open_2 rfl ?_
  refine g_aload_0 (q := 6) C d_T_open_5 rfl ?_
  refine g_iconst (v := nI 1) (q := 7) C d_T_open_6 rfl (by decide) ?_
  refine g_iconst (v := nI 2) (q := 8) C d_T_open_7 rfl (by decide) ?_
  refine tc_219 (q := 11) C hR (c_T_copy (m := 1) (m2 := 2) (by decide) (by decide) (by decide) hT hI.1) d_T_open_8 rfl (by decide) (by decide) (by decide) (Nat.le_of_ble_eq_true rfl) (fun f2 g2 hp => ?_)
  obtain ⟨hF2, hB2, hT2⟩ := hp
  -- the state with place undone
  have hS2 : MW ord room (upd f2 24 (-3)) g2 (ts, tx, os, ou, rc, re, EE, K, kT, R, -3, ip, to, pn, px, pf) := by
    have ha := hS.keep (f' := f2) (g' := g2) (fun k hk => by rw [hF2.1 k (by simp)]; exact upd_n (fun e => by subst e; revert hk; decide)) (fun j hj => hF2.2 j (by intro q; revert hj; revert q; simp; omega)) hB2
    obtain ⟨a1, a2, a3, a4, a5, a6, a7, a8, a9⟩ := ha
    exact ⟨a1, a2, a3.keep rfl rfl, a4, a5, a6, a7, rfl, a9⟩
  generalize hf3 : upd f2 24 (-3) = f3 at hS2
  have hS2' := hS2
  obtain ⟨b1, b2, b3, b4, b5, b6, b7, b8, b9⟩ := hS2'
  -- what is written is what was read
  have hfin : ∀ (f1 : Nat → Int32) (g1 : Nat → Nat → Int32) (l2 l3 l4 l5 : Option Value), P.1 = 0 → P.2.1 ≤ 300 → (∀ i, i < P.2.1 → g1 18 i = nI (P.2.2.1 i) ∧ P.2.2.1 i < 256) → f1 25 = nI P.2.1 → Fr KO JO f3 f1 g2 g1 → Bd 2 g2 g1 → G E 0 0 177 [some (.ref o), some (.int (nI P.2.2.2)), l2, l3, l4, l5] [] (tw (xG E) o ad f1 g1) := by
    intro f1 g1 l2 l3 l4 l5 hP0 hn hrow h25 hF hB
    rw [if_neg (by omega), if_neg (by omega)] at hd
    obtain ⟨hw1, hw2⟩ := wrt_ok hI (fun i hi => (hrow i hi).2) hn
    obtain ⟨o1, -⟩ := wsq_ok (n := P.2.1) (row := P.2.2.1) hI (fun i hi => (hrow i hi).2) (P.2.1 + 1) (Nat.le_refl _)
    have hM1 := hS2.fr hF hB
    have hM1' := hM1
    obtain ⟨c1, c2, c3, c4, c5, c6, c7, c8, c9⟩ := hM1'
    refine g_aload_0 (q := 178) C d_T_open_177 rfl ?_
    refine g_iconst (v := nI 1) (q := 179) C d_T_open_178 rfl (by decide) ?_
    refine g_iconst (v := nI 2) (q := 180) C d_T_open_179 rfl (by decide) ?_
    refine tc_219 (q := 183) C hR (c_T_copy (m := 1) (m2 := 2) (by decide) (by decide) (by decide) (c5 1 (by decide)).1 hI.1) d_T_open_180 rfl (by decide) (by decide) (by decide) (Nat.le_of_ble_eq_true rfl) (fun f4 g4 hp => ?_)
    obtain ⟨hF4, hB4, hT4⟩ := hp
    have hF4' := hF.trans (hF4.mono (K' := KO) (J' := JO) (by decide) (by decide))
    have k25 : f4 25 = nI P.2.1 := by rw [hF4.1 25 (by decide)]; exact h25
    have hM4 := hS2.fr hF4' (hB.trans hB4)
    refine g_aload_0 (q := 184) C d_T_open_183 rfl ?_
    refine g_iconst (v := nI 2) (q := 185) C d_T_open_184 rfl (by decide) ?_
    refine g_aload_0 (q := 186) C d_T_open_185 rfl ?_
    refine tg_69 (q := 189) C d_T_open_186 rfl ?_
    refine g_aload_0 (q := 190) C d_T_open_189 rfl ?_
    refine tg_222 (q := 193) C d_T_open_190 rfl k25 ?_
    refine tc_190 (q := 196) C hR (c_T_writeAll (m := 2) (jr := 18) (n := P.2.1) (row := P.2.2.1) (by decide) (Or.inr rfl) hT4 hI hn (fun i hi => by rw [hF4.2 18 (by decide)]; exact hrow i hi) hM4.1.1 hM4.1.2) d_T_open_193 rfl (by decide) (by decide) (by decide) (Nat.le_of_ble_eq_true rfl) (fun f5 g5 hp => ?_)
    obtain ⟨hF5, hB5, hT5, e17, eB, -, -, -⟩ := hp
    have hF5' := hF4'.trans (hF5.mono (K' := KO) (J' := JO) (by decide) (by decide))
    have hB5' := (hB.trans hB4).trans hB5
    have hM5 := hS2.fr hF5' hB5'
    have hM5' := hM5
    obtain ⟨q1, q2, q3, q4, q5, q6, q7, q8, q9⟩ := hM5'
    have k25 : f5 25 = nI P.2.1 := by rw [hF5.1 25 (by decide)]; exact k25
    have hr18 : ∀ i, i < P.2.1 → g5 18 i = nI (P.2.2.1 i) := fun i hi => by rw [hF5.2 18 (by decide), hF4.2 18 (by decide)]; exact (hrow i hi).1
    have eB : ∀ i, 8 * i < (wrt ord room P.2.1 P.2.2.1 (EE 1)).2.2.2.1 → g5 12 i = nI ((wrt ord room P.2.1 P.2.2.1 (EE 1)).2.2.2.2 i) := eB
    obtain ⟨z, hz⟩ : ∃ z, z = ((wrt ord room P.2.1 P.2.2.1 (EE 1)).2.2.2.1 + 7) / 8 := ⟨_, rfl⟩
    have hz1 : z ≤ 4096 := by omega
    have hz8 : ∀ i, i < z → 8 * i < (wrt ord room P.2.1 P.2.2.1 (EE 1)).2.2.2.1 := fun i hi => by omega
    rw [← hz] at hd
    obtain ⟨Q, hQ⟩ : ∃ Q, Q = wsq ord room P.2.1 P.2.2.1 (EE 1) (P.2.1 + 1) := ⟨_, rfl⟩
    rw [← hQ] at hd hT5 o1
    generalize (wrt ord room P.2.1 P.2.2.1 (EE 1)) = WR at *
    -- behind the comparison
    have h248 : ∀ i, i = dif WR.2.2.2.2 ou (min z os) 0 → i ≤ z → i ≤ os → G E 0 0 248 [some (.ref o), some (.int (nI P.2.2.2)), l2, some (.int (nI z)), some (.int (nI i)), l5] [] (tw (xG E) o ad f5 g5) := by
      intro i hi hiz hios
      rw [← hi] at hd
      have h263 : (i < z ∨ i < os) → G E 0 0 263 [some (.ref o), some (.int (nI P.2.2.2)), l2, some (.int (nI z)), some (.int (nI i)), l5] [] (tw (xG E) o ad f5 g5) := by
        intro hc
        rw [if_pos hc] at hd
        refine g_aload_0 (q := 264) C d_T_open_263 rfl ?_
        refine g_iload_4 (q := 266) C d_T_open_264 rfl ?_
        refine tp_65 (q := 269) C d_T_open_266 rfl ?_
        refine g_bipush (v := (-13)) (q := 271) C d_T_open_269 rfl (by decide) ?_
        refine g_iret C F d_T_open_271 (Nat.le_refl _) (Nat.le_refl _) ⟨_, _, _, rfl, rfl, by rw [hd], ?_⟩
        rw [hd]
        exact ⟨q1, q2, q3.keep rfl rfl, q4, q5, q6, q7, rfl, q9⟩
      refine g_iload_4 (q := 250) C d_T_open_248 rfl ?_
      refine g_iload_3 (q := 251) C d_T_open_250 rfl ?_
      refine g_icmp_lt (q := 254) (tgt := 263) C d_T_open_251 rfl (by decide) (fun hc => ?_) (fun hc => ?_)
      · exact h263 (Or.inl ((nI_ltI (by omega) (by omega)).mp hc))
      have hc : ¬ i < z := fun q => hc ((nI_ltI (by omega) (by omega)).mpr q)
      refine g_iload_4 (q := 256) C d_T_open_254 rfl ?_
      refine g_aload_0 (q := 257) C d_T_open_256 rfl ?_
      refine tg_93 (q := 260) C d_T_open_257 rfl q3.1 ?_
      refine g_icmp_ge (q := 263) (tgt := 272) C d_T_open_260 rfl (by decide) (fun hc2 => ?_) (fun hc2 => ?_)
      · have hc2 := (nI_leI (by omega) (by omega)).mp hc2
        rw [if_neg (by omega)] at hd
        refine g_aload_0 (q := 273) C d_T_open_272 rfl ?_
        refine g_iconst (v := nI 2) (q := 274) C d_T_open_273 rfl (by decide) ?_
        refine g_iconst (v := nI 1) (q := 275) C d_T_open_274 rfl (by decide) ?_
        refine tc_219 (q := 278) C hR (c_T_copy (m := 2) (m2 := 1) (by decide) (by decide) (by decide) hT5 o1.1) d_T_open_275 rfl (by decide) (by decide) (by decide) (Nat.le_of_ble_eq_true rfl) (fun f6 g6 hp => ?_)
        obtain ⟨hF6, hB6, hT6⟩ := hp
        have ef6 : ∀ k, f6 k = f5 k := fun k => hF6.1 k (by simp)
        have eg6 : ∀ a, a ∉ [3, 4, 5, 6, 7, 8] → g6 a = g5 a := hF6.2
        have r1 : g6 9 1 = R 1 := by rw [eg6 9 (by decide)]; exact q7 1 (by decide)
        have k25' : f6 25 = nI P.2.1 := by rw [ef6 25]; exact k25
        have loop : ∀ (j k : Nat) (f7 : Nat → Int32) (g7 : Nat → Nat → Int32), k + j = P.2.1 → Fr [5] [2, 9] f6 f7 g6 g7 → f7 5 = nI P.2.1 → g7 9 0 = R 0 → g7 9 1 = R 1 + nI P.2.2.2 → (∀ k', k' < k → g7 2 k' = nI (P.2.2.1 k')) → G E 0 0 299 [some (.ref o), some (.int (nI P.2.2.2)), l2, some (.int (nI z)), some (.int (nI i)), some (.int (nI k))] [] (tw (xG E) o ad f7 g7) := by
          intro j
          induction j with
          | zero =>
            intro k f7 g7 hk hF7 h5' h90 h91 h2'
            have e25 : f7 25 = nI P.2.1 := by rw [hF7.1 25 (by decide)]; exact k25'
            refine g_iload_5 (q := 301) C d_T_open_299 rfl ?_
            refine g_aload_0 (q := 302) C d_T_open_301 rfl ?_
            refine tg_222 (q := 305) C d_T_open_302 rfl e25 ?_
            refine g_icmp_ge (q := 308) (tgt := 328) C d_T_open_305 rfl (by decide) (fun hx => ?_) (fun hx => ?_)
            · refine g_aload_0 (q := 329) C d_T_open_328 rfl ?_
              refine tg_222 (q := 332) C d_T_open_329 rfl e25 ?_
              refine g_iret C F d_T_open_332 (Nat.le_refl _) (Nat.le_refl _) ⟨_, _, _, rfl, rfl, by rw [hd], ?_⟩
              rw [hd]
              have ef : ∀ k, k ≠ 5 → f7 k = f5 k := fun k hk => by rw [hF7.1 k (by simpa using hk)]; exact ef6 k
              have eg7 : ∀ a, a ∉ [2, 9] → g7 a = g6 a := hF7.2
              have eg : ∀ a, a ∉ [2, 9] → a ∉ [3, 4, 5, 6, 7, 8] → g7 a = g5 a := fun a x y => by rw [eg7 a x]; exact eg6 a y
              have hB7 : Bd 1 g5 g7 := hB6.trans (Bd.same (eg7 3 (by decide)) (eg7 4 (by decide)) (eg7 5 (by decide)) (eg7 6 (by decide)) (eg7 7 (by decide)) (eg7 8 (by decide)))
              refine ⟨?_, ?_, q3.keep (ef 4 (by decide)) (eg 1 (by decide) (by decide)), ⟨h5', hn, fun k' hk' => h2' k' (by omega)⟩, fun m hm => ?_, ⟨?_, q6.2.1, fun k hk => ?_⟩, fun m hm => ?_, ?_, ?_⟩
              · rw [ef 1 (by decide), ef 2 (by decide)]; exact q1
              · rw [ef 3 (by decide), eg 0 (by decide) (by decide)]; exact q2
              · by_cases em : m = 1
                · subst em; rw [upT_s]; exact ⟨hT6.keep (eg7 3 (by decide)) (eg7 4 (by decide)) (eg7 5 (by decide)) (eg7 6 (by decide)) (eg7 7 (by decide)) (eg7 8 (by decide)), o1⟩
                · rw [upT_n em]
                  obtain ⟨a, b⟩ := q5 m hm
                  exact ⟨hB7.other em b.n b.l a, b⟩
              · rw [ef 6 (by decide)]; exact q6.1
              · obtain ⟨a, b⟩ := q6.2.2 k hk
                exact ⟨hB7.other (by omega) b.n b.l a, b⟩
              · by_cases em : m = 1
                · subst em; rw [upd_s]; exact h91
                · have : m = 0 := by omega
                  subst this; rw [upd_n (by decide)]; exact h90
              · rw [ef 24 (by decide)]; exact q8
              · rw [ef 20 (by decide), ef 21 (by decide), eg 15 (by decide) (by decide), eg 16 (by decide) (by decide), eg 17 (by decide) (by decide)]; exact q9
            · exact absurd ((nI_leI (by omega) (by omega)).mpr (by omega)) hx
          | succ j ih =>
            intro k f7 g7 hk hF7 h5' h90 h91 h2'
            have e25 : f7 25 = nI P.2.1 := by rw [hF7.1 25 (by decide)]; exact k25'
            have e18 : g7 18 k = nI (P.2.2.1 k) := by rw [hF7.2 18 (by decide), eg6 18 (by decide)]; exact hr18 k (by omega)
            refine g_iload_5 (q := 301) C d_T_open_299 rfl ?_
            refine g_aload_0 (q := 302) C d_T_open_301 rfl ?_
            refine tg_222 (q := 305) C d_T_open_302 rfl e25 ?_
            refine g_icmp_ge (q := 308) (tgt := 328) C d_T_open_305 rfl (by decide) (fun hx => ?_) (fun hx => ?_)
            · exact absurd ((nI_leI (by omega) (by omega)).mp hx) (by omega)
            refine g_aload_0 (q := 309) C d_T_open_308 rfl ?_
            refine tg_16 (q := 312) C d_T_open_309 rfl ?_
            refine g_iload_5 (q := 314) C d_T_open_312 rfl ?_
            refine g_aload_0 (q := 315) C d_T_open_314 rfl ?_
            refine tg_69 (q := 318) C d_T_open_315 rfl ?_
            refine g_iload_5 (q := 320) C d_T_open_318 rfl ?_
            refine ta_18 (q := 321) C d_T_open_320 rfl rfl (by omega) e18 ?_
            refine ts_2 (q := 322) C d_T_open_321 rfl rfl (by omega) ?_
            refine g_iinc_5 (q := 325) C hL d_T_open_322 rfl (nI_inc _) ?_
            refine g_goto (tgt := 299) C d_T_open_325 (by decide) ?_
            refine ih (k + 1) f7 _ (by omega) (hF7.updA (by decide)) h5' h90 h91 (fun k' hk' => ?_)
            rw [updA_s]
            by_cases e : k' = k
            · rw [e, upd_s]
            · rw [upd_n e]; exact h2' k' (by omega)
        refine g_aload_0 (q := 279) C d_T_open_278 rfl ?_
        refine tg_37 (q := 282) C d_T_open_279 rfl ?_
        refine g_iconst (v := nI 1) (q := 283) C d_T_open_282 rfl (by decide) ?_
        refine g_dup2 (q := 284) C d_T_open_283 rfl rfl rfl ?_
        refine ta_9 (q := 285) C d_T_open_284 rfl rfl (by decide) r1 ?_
        refine g_iload_1 (q := 286) C d_T_open_285 rfl ?_
        refine g_iadd (q := 287) C d_T_open_286 rfl rfl ?_
        refine ts_9 (q := 288) C d_T_open_287 rfl rfl (by decide) ?_
        refine g_aload_0 (q := 289) C d_T_open_288 rfl ?_
        refine g_aload_0 (q := 290) C d_T_open_289 rfl ?_
        refine tg_222 (q := 293) C d_T_open_290 rfl k25' ?_
        refine tp_96 (q := 296) C d_T_open_293 rfl ?_
        refine g_iconst (v := nI 0) (q := 297) C d_T_open_296 rfl (by decide) ?_
        refine g_istore_5 (q := 299) C hL d_T_open_297 rfl ?_
        refine loop P.2.1 0 _ _ (by omega) ((Fr.rf.updA (by decide)).upd (by decide)) rfl ?_ rfl (fun k' hk' => absurd hk' (Nat.not_lt_zero _))
        show g6 9 0 = _
        rw [eg6 9 (by decide)]
        exact q7 0 (by decide)
      · exact h263 (Or.inr (Nat.lt_of_not_le (fun q => hc2 ((nI_leI (by omega) (by omega)).mpr q))))
    have cmp : ∀ j i, i + j = min z os → dif WR.2.2.2.2 ou j i = dif WR.2.2.2.2 ou (min z os) 0 → G E 0 0 210 [some (.ref o), some (.int (nI P.2.2.2)), l2, some (.int (nI z)), some (.int (nI i)), l5] [] (tw (xG E) o ad f5 g5) := by
      intro j
      induction j with
      | zero =>
        intro i hi he
        have h := h248 i he (by omega) (by omega)
        refine g_iload_4 (q := 212) C d_T_open_210 rfl ?_
        refine g_iload_3 (q := 213) C d_T_open_212 rfl ?_
        refine g_icmp_ge (q := 216) (tgt := 248) C d_T_open_213 rfl (by decide) (fun hc => ?_) (fun hc => ?_)
        · exact h
        have hc : i < z := Nat.lt_of_not_le (fun q => hc ((nI_leI (by omega) (by omega)).mpr q))
        refine g_iload_4 (q := 218) C d_T_open_216 rfl ?_
        refine g_aload_0 (q := 219) C d_T_open_218 rfl ?_
        refine tg_93 (q := 222) C d_T_open_219 rfl q3.1 ?_
        refine g_icmp_ge (q := 225) (tgt := 248) C d_T_open_222 rfl (by decide) (fun hc2 => ?_) (fun hc2 => ?_)
        · exact h
        have hc2 : i < os := Nat.lt_of_not_le (fun q => hc2 ((nI_leI (by omega) (by omega)).mpr q))
        omega
      | succ j ih =>
        intro i hi he
        have hiz : i < z := by omega
        have hio : i < os := by omega
        obtain ⟨u1, u2⟩ := q3.2.2 i hio
        have u3 := hw2 i
        refine g_iload_4 (q := 212) C d_T_open_210 rfl ?_
        refine g_iload_3 (q := 213) C d_T_open_212 rfl ?_
        refine g_icmp_ge (q := 216) (tgt := 248) C d_T_open_213 rfl (by decide) (fun hc => ?_) (fun hc => ?_)
        · exact absurd ((nI_leI (by omega) (by omega)).mp hc) (by omega)
        refine g_iload_4 (q := 218) C d_T_open_216 rfl ?_
        refine g_aload_0 (q := 219) C d_T_open_218 rfl ?_
        refine tg_93 (q := 222) C d_T_open_219 rfl q3.1 ?_
        refine g_icmp_ge (q := 225) (tgt := 248) C d_T_open_222 rfl (by decide) (fun hc2 => ?_) (fun hc2 => ?_)
        · exact absurd ((nI_leI (by omega) (by omega)).mp hc2) (by omega)
        refine g_aload_0 (q := 226) C d_T_open_225 rfl ?_
        refine tg_47 (q := 229) C d_T_open_226 rfl ?_
        refine g_iload_4 (q := 231) C d_T_open_229 rfl ?_
        refine ta_12 (q := 232) C d_T_open_231 rfl rfl (by omega) (eB i (hz8 i hiz)) ?_
        refine g_aload_0 (q := 233) C d_T_open_232 rfl ?_
        refine tg_13 (q := 236) C d_T_open_233 rfl ?_
        refine g_iload_4 (q := 238) C d_T_open_236 rfl ?_
        refine ta_1 (q := 239) C d_T_open_238 rfl rfl (by omega) u1 ?_
        refine g_icmp_ne (q := 242) (tgt := 248) C d_T_open_239 rfl (by decide) (fun hc3 => ?_) (fun hc3 => ?_)
        · have hne : ¬ WR.2.2.2.2 i = ou i := fun q => hc3 (by rw [q])
          refine h248 i ?_ (by omega) (by omega)
          rw [← he]
          show _ = (if _ then _ else _)
          rw [if_neg hne]
        · have heq : WR.2.2.2.2 i = ou i := (nI_eq (by omega) (by omega)).mp (Decidable.not_not.mp hc3)
          refine g_iinc_4 (q := 245) C hL d_T_open_242 rfl (nI_inc _) ?_
          refine g_goto (tgt := 210) C d_T_open_245 (by decide) ?_
          refine ih (i + 1) (by omega) ?_
          rw [← he]
          show _ = (if _ then _ else _)
          rw [if_pos heq]
    refine g_aload_0 (q := 197) C d_T_open_196 rfl ?_
    refine tg_137 (q := 200) C d_T_open_197 rfl e17 ?_
    refine g_bipush (v := nI 7) (q := 202) C d_T_open_200 rfl (by decide) ?_
    refine g_iadd (q := 203) C d_T_open_202 rfl (nI_add _ _) ?_
    refine g_bipush (v := nI 8) (q := 205) C d_T_open_203 rfl (by decide) ?_
    refine g_idiv (q := 206) C d_T_open_205 rfl (by decide) (pk_div (d := 8) (by omega) (by decide) (by decide)) ?_
    rw [← hz]
    refine g_istore_3 (q := 207) C hL d_T_open_206 rfl ?_
    refine g_iconst (v := nI 0) (q := 208) C d_T_open_207 rfl (by decide) ?_
    refine g_istore_4 (q := 210) C hL d_T_open_208 rfl ?_
    exact cmp (min z os) 0 (Nat.zero_add _) rfl
  -- the loop of reading
  have loop : ∀ (j : Nat) (T : Tr) (r : Rd) (n : Nat) (row : Nat → Nat) (an s : Nat) (f1 : Nat → Int32) (g1 : Nat → Nat → Int32) (l3 l4 l5 : Option Value), n + j = 302 → n ≤ 300 → s < 256 → opl ord room os (nbit ou os) j T r n row an = P → TM g1 2 T → TI ord room T → RW f1 r → RdOk r → r.2.2.2 ≤ 16 + 96 * n → (∀ i, i < n → g1 18 i = nI (row i) ∧ row i < 256) → f1 25 = nI n → Fr KO JO f3 f1 g2 g1 → Bd 2 g2 g1 → G E 0 0 76 [some (.ref o), some (.int (nI an)), some (.int (nI s)), l3, l4, l5] [] (tw (xG E) o ad f1 g1) := by
    intro j
    induction j with
    | zero => intro T r n row an s f1 g1 l3 l4 l5 hj hn; omega
    | succ j ih =>
      intro T r n row an s f1 g1 l3 l4 l5 hj hn hs he hT1 hI1 hW1 hr1 htk hrow h25 hF hB
      have hM1 := hS2.fr hF hB
      have hM1' := hM1
      obtain ⟨c1, c2, c3, c4, c5, c6, c7, c8, c9⟩ := hM1'
      have hW1' := hW1
      obtain ⟨w14, w15, w22, w23⟩ := hW1'
      refine g_iload_2 (q := 77) C d_T_open_76 rfl ?_
      refine g_sipush (v := nI 256) (q := 80) C d_T_open_77 rfl (by decide) ?_
      refine g_icmp_ge (q := 83) (tgt := 177) C d_T_open_80 rfl (by decide) (fun hc => ?_) (fun hc => ?_)
      · exact absurd ((nI_leI (by omega) (by omega)).mp hc) (by omega)
      refine g_aload_0 (q := 84) C d_T_open_83 rfl ?_
      refine tg_200 (q := 87) C d_T_open_84 rfl w23 ?_
      refine g_bipush (v := nI 8) (q := 89) C d_T_open_87 rfl (by decide) ?_
      refine g_aload_0 (q := 90) C d_T_open_89 rfl ?_
      refine tg_93 (q := 93) C d_T_open_90 rfl c3.1 ?_
      refine g_imul (q := 94) C d_T_open_93 rfl (pk_mul _ _) ?_
      have hsub : (nI r.2.2.2 - nI (8 * os) ≤ nI 16) ↔ ¬ (8 * os + 16 < r.2.2.2) := by
        rw [Int32.le_iff_toInt_le, pk_sub_toInt (by omega) (by omega), nI_toInt (by decide)]
        omega
      refine g_isub (q := 95) C d_T_open_94 rfl rfl ?_
      refine g_bipush (v := nI 16) (q := 97) C d_T_open_95 rfl (by decide) ?_
      refine g_icmp_le (q := 100) (tgt := 103) C d_T_open_97 rfl (by decide) (fun hc2 => ?_) (fun hc2 => ?_)
      · have hc2 := hsub.mp hc2
        have he' := he
        unfold opl at he'
        rw [if_neg hc2] at he'
        obtain ⟨s1, s2, s3, s4⟩ := rsg_ok hI1.1 hI1.2.2.2 hnb (tL T + 1) (fun _ => false) 0 r EI_0 hr1
        have hl4 := hI1.l
        refine g_aload_0 (q := 104) C d_T_open_103 rfl ?_
        refine g_iconst (v := nI 2) (q := 105) C d_T_open_104 rfl (by decide) ?_
        refine tc_225 (q := 108) C hR (c_T_readSign (m := 2) (out := ou) (os := os) (by decide) hT1 hI1 hW1 hr1 c3 (by omega)) d_T_open_105 rfl (by decide) (by decide) (by decide) (Nat.le_of_ble_eq_true rfl) (fun x f5 g5 hp => ?_)
        obtain ⟨hF5, rfl, hW5, h26⟩ := hp
        have e5 : ∀ a, a ≠ 10 → a ≠ 11 → g5 a = g1 a := fun a x y => hF5.2 a (by simp [x, y])
        have hF5' := hF.trans (hF5.mono (K' := KO) (J' := JO) (by decide) (by decide))
        have hB5 := hB.trans (Bd.same (e5 3 (by decide) (by decide)) (e5 4 (by decide) (by decide)) (e5 5 (by decide) (by decide)) (e5 6 (by decide) (by decide)) (e5 7 (by decide) (by decide)) (e5 8 (by decide) (by decide)))
        have k25 : f5 25 = nI n := by rw [hF5.1 25 (by decide)]; exact h25
        have hrow5 : ∀ i, i < n → g5 18 i = nI (row i) ∧ row i < 256 := fun i hi => by rw [e5 18 (by decide) (by decide)]; exact hrow i hi
        have hsle : rsign T (nbit ou os) r ≤ 256 := s1
        obtain ⟨t1, t2, t3, t4, t5, t6⟩ := tell_ok hI1 hsle
        refine g_istore_2 (q := 109) C hL d_T_open_108 rfl ?_
        refine g_iload_2 (q := 110) C d_T_open_109 rfl ?_
        refine g_sipush (v := nI 256) (q := 113) C d_T_open_110 rfl (by decide) ?_
        refine g_icmp_ge (q := 116) (tgt := 76) C d_T_open_113 rfl (by decide) (fun hc3 => ?_) (fun hc3 => ?_)
        · have hc3 := (nI_leI (by omega) (by omega)).mp hc3
          rw [if_neg (by omega)] at he'
          refine g_iload_2 (q := 77) C d_T_open_76 rfl ?_
          refine g_sipush (v := nI 256) (q := 80) C d_T_open_77 rfl (by decide) ?_
          refine g_icmp_ge (q := 83) (tgt := 177) C d_T_open_80 rfl (by decide) (fun hc4 => ?_) (fun hc4 => ?_)
          · subst he'
            exact hfin f5 g5 _ _ _ _ rfl hn hrow5 k25 hF5' hB5
          · exact absurd ((nI_leI (by omega) (by omega)).mpr (by omega)) hc4
        · have hc3 : rsign T (nbit ou os) r < 256 := Nat.lt_of_not_le (fun q => hc3 ((nI_leI (by omega) (by omega)).mpr q))
          rw [if_pos hc3] at he'
          refine g_aload_0 (q := 117) C d_T_open_116 rfl ?_
          refine tg_222 (q := 120) C d_T_open_117 rfl k25 ?_
          refine g_sipush (v := nI 300) (q := 123) C d_T_open_120 rfl (by decide) ?_
          refine g_icmp_ne (q := 126) (tgt := 129) C d_T_open_123 rfl (by decide) (fun hc4 => ?_) (fun hc4 => ?_)
          · have hc4 : n ≠ 300 := fun q => hc4 (by rw [q])
            rw [if_neg hc4] at he'
            have hf1 : f5 1 = nI ord := by rw [hF5.1 1 (by decide)]; exact c1.1
            have hf2 : f5 2 = nI room := by rw [hF5.1 2 (by decide)]; exact c1.2
            refine g_aload_0 (q := 130) C d_T_open_129 rfl ?_
            refine tg_69 (q := 133) C d_T_open_130 rfl ?_
            refine g_aload_0 (q := 134) C d_T_open_133 rfl ?_
            refine tg_222 (q := 137) C d_T_open_134 rfl k25 ?_
            refine g_iload_2 (q := 138) C d_T_open_137 rfl ?_
            refine ts_18 (q := 139) C d_T_open_138 rfl rfl (by omega) ?_
            refine g_aload_0 (q := 140) C d_T_open_139 rfl ?_
            refine g_dup_r (q := 141) C d_T_open_140 rfl ?_
            refine tg_222 (q := 144) C d_T_open_141 rfl k25 ?_
            refine g_iconst (v := nI 1) (q := 145) C d_T_open_144 rfl (by decide) ?_
            refine g_iadd (q := 146) C d_T_open_145 rfl (nI_1 _) ?_
            refine tp_222 (q := 149) C d_T_open_146 rfl ?_
            refine g_aload_0 (q := 150) C d_T_open_149 rfl ?_
            refine g_iconst (v := nI 2) (q := 151) C d_T_open_150 rfl (by decide) ?_
            refine g_iload_2 (q := 152) C d_T_open_151 rfl ?_
            refine g_aload_0 (q := 153) C d_T_open_152 rfl ?_
            refine tg_216 (q := 156) C d_T_open_153 rfl h26 ?_
            refine tc_186 (q := 159) C hR (c_T_learn (m := 2) (T := T) (b := rsign T (nbit ou os) r) (fnd := (tell T (rsign T (nbit ou os) r)).2.1 - 1) (by decide) (hT1.keep (e5 3 (by decide) (by decide)) (e5 4 (by decide) (by decide)) (e5 5 (by decide) (by decide)) (e5 6 (by decide) (by decide)) (e5 7 (by decide) (by decide)) (e5 8 (by decide) (by decide))) hI1 hc3 (by omega) ?_ hf1 hf2) d_T_open_156 rfl (by decide) (by decide) (by decide) (Nat.le_of_ble_eq_true rfl) (fun f6 g6 hp => ?_)
            · rcases Nat.eq_zero_or_pos (tell T (rsign T (nbit ou os) r)).2.1 with z | z
              · left; omega
              · right; exact (t4 _ (by omega)).2
            obtain ⟨hF6, hB6, hT6, h13⟩ := hp
            have hpf : (tell T (rsign T (nbit ou os) r)).2.1 - 1 = 0 ∨ chT T (cx T ((tell T (rsign T (nbit ou os) r)).2.1 - 1)) (rsign T (nbit ou os) r) ≠ 0 := by
              rcases Nat.eq_zero_or_pos (tell T (rsign T (nbit ou os) r)).2.1 with z | z
              · left; omega
              · right; exact (t4 _ (by omega)).2
            have hI6 := learn_TI hc3 hI1 (fnd := (tell T (rsign T (nbit ou os) r)).2.1 - 1) (by omega) hpf
            have hFa : Fr KO JO f3 (upd f5 25 (nI (n + 1))) g2 (updA g5 18 (upd (g5 18) n (nI (rsign T (nbit ou os) r)))) := (hF5'.updA (by decide)).upd (by decide)
            have hF6' := hFa.trans (hF6.mono (K' := KO) (J' := JO) (by decide) (by decide))
            have hBa : Bd 2 g2 (updA g5 18 (upd (g5 18) n (nI (rsign T (nbit ou os) r)))) := hB5.set (by omega)
            have h172 : ∀ d, d = (if (learnT ord room (rsign T (nbit ou os) r) ((tell T (rsign T (nbit ou os) r)).2.1 - 1) T).2 then 1 else 0) → ∀ l3 l4 l5, G E 0 0 172 [some (.ref o), some (.int (nI an)), some (.int (nI (rsign T (nbit ou os) r))), l3, l4, l5] [.int (nI d), .int (nI an)] (tw (xG E) o ad f6 g6) := by
              intro d hd2 l3 l4 l5
              refine g_iadd (q := 173) C d_T_open_172 rfl (nI_add _ _) ?_
              refine g_istore_1 (q := 174) C hL d_T_open_173 rfl ?_
              refine g_goto (tgt := 76) C d_T_open_174 (by decide) ?_
              refine ih _ (rf (nbit ou os) (tell T (rsign T (nbit ou os) r)).1 r) (n + 1) (upN row n (rsign T (nbit ou os) r)) (an + d) _ f6 g6 _ _ _ (by omega) (by omega) hc3 ?_ hT6 hI6 ?_ s3 ?_ (fun i hi => ?_) ?_ hF6' (hBa.trans hB6)
              · rw [hd2]; exact he'
              · exact hW5.keep (hF6.1 14 (by decide)) (hF6.1 15 (by decide)) (hF6.1 22 (by decide)) (hF6.1 23 (by decide))
              · exact Nat.le_trans s4 (by omega)
              · rw [hF6.2 18 (by decide), updA_s]
                by_cases e : i = n
                · rw [e, upd_s, upN_s]; exact ⟨rfl, hc3⟩
                · rw [upd_n e, upN_n e]; exact hrow5 i (by omega)
              · rw [hF6.1 25 (by decide)]; exact upd_s
            refine g_iload_1 (q := 160) C d_T_open_159 rfl ?_
            refine g_aload_0 (q := 161) C d_T_open_160 rfl ?_
            refine tg_129 (q := 164) C d_T_open_161 rfl h13 ?_
            refine g_if_eq (q := 167) (tgt := 171) C d_T_open_164 rfl (by decide) (fun hz => ?_) (fun hz => ?_)
            · refine g_iconst (v := nI 0) (q := 172) C d_T_open_171 rfl (by decide) ?_
              refine h172 0 ?_ _ _ _
              cases q : (learnT ord room (rsign T (nbit ou os) r) ((tell T (rsign T (nbit ou os) r)).2.1 - 1) T).2 with
              | false => rfl
              | true => rw [q] at hz; exact absurd hz (by decide)
            · refine g_iconst (v := nI 1) (q := 168) C d_T_open_167 rfl (by decide) ?_
              refine g_goto (tgt := 172) C d_T_open_168 (by decide) ?_
              refine h172 1 ?_ _ _ _
              cases q : (learnT ord room (rsign T (nbit ou os) r) ((tell T (rsign T (nbit ou os) r)).2.1 - 1) T).2 with
              | true => rfl
              | false => rw [q] at hz; exact absurd rfl hz
          · have hc4 : n = 300 := (nI_eq (by omega) (by omega)).mp (Decidable.not_not.mp hc4)
            rw [if_pos hc4] at he'
            have hP2 : P.1 = 2 := by rw [← he']
            rw [if_neg (by omega), if_pos hP2] at hd
            refine g_bipush (v := (-12)) (q := 128) C d_T_open_126 rfl (by decide) ?_
            exact g_iret C F d_T_open_128 (Nat.le_refl _) (Nat.le_refl _) ⟨_, _, _, rfl, rfl, by rw [hd], by rw [hd]; exact hS2.fr hF5' hB5⟩
      · have hc2 : 8 * os + 16 < r.2.2.2 := Decidable.not_not.mp (fun q => hc2 (hsub.mpr q))
        have he' := he
        unfold opl at he'
        rw [if_pos hc2] at he'
        have hP1 : P.1 = 1 := by rw [← he']
        rw [if_pos hP1] at hd
        refine g_bipush (v := (-11)) (q := 102) C d_T_open_100 rfl (by decide) ?_
        exact g_iret C F d_T_open_102 (Nat.le_refl _) (Nat.le_refl _) ⟨_, _, _, rfl, rfl, by rw [hd], by rw [hd]; exact hM1⟩
  -- the first bits
  have bits : ∀ (j k : Nat) (f1 : Nat → Int32), k + j = 16 → Fr KO JO f3 f1 g2 g2 → RW f1 (0, 65535, num0 (nbit ou os) k, k) → f1 25 = nI 0 → G E 0 0 47 [some (.ref o), some (.int (nI 0)), some (.int (nI k)), none, none, none] [] (tw (xG E) o ad f1 g2) := by
    intro j
    induction j with
    | zero =>
      intro k f1 hk hF hW h25
      have : k = 16 := by omega
      subst this
      have hn0 := num0_lt hnb 16
      refine g_iload_2 (q := 48) C d_T_open_47 rfl ?_
      refine g_bipush (v := nI 16) (q := 50) C d_T_open_48 rfl (by decide) ?_
      refine g_icmp_ge (q := 53) (tgt := 74) C d_T_open_50 rfl (by decide) (fun hc => ?_) (fun hc => ?_)
      · refine g_iconst (v := nI 0) (q := 75) C d_T_open_74 rfl (by decide) ?_
        refine g_istore_2 (q := 76) C hL d_T_open_75 rfl ?_
        exact loop 302 (EE 1) (0, 65535, num0 (nbit ou os) 16, 16) 0 (fun _ => 0) 0 0 f1 g2 _ _ _ (by omega) (by omega) (by decide) hP.symm hT2 hI hW (rd0_ok hn0) (Nat.le_refl _) (fun i hi => absurd hi (Nat.not_lt_zero _)) h25 hF Bd.rf
      · exact absurd ((nI_leI (by omega) (by omega)).mpr (by omega)) hc
    | succ j ih =>
      intro k f1 hk hF hW h25
      have hW' := hW
      obtain ⟨w14, w15, w22, w23⟩ := hW'
      have hn0 := num0_lt hnb k
      refine g_iload_2 (q := 48) C d_T_open_47 rfl ?_
      refine g_bipush (v := nI 16) (q := 50) C d_T_open_48 rfl (by decide) ?_
      refine g_icmp_ge (q := 53) (tgt := 74) C d_T_open_50 rfl (by decide) (fun hc => ?_) (fun hc => ?_)
      · exact absurd ((nI_leI (by omega) (by omega)).mp hc) (by omega)
      refine g_aload_0 (q := 54) C d_T_open_53 rfl ?_
      refine g_iconst (v := nI 2) (q := 55) C d_T_open_54 rfl (by decide) ?_
      refine g_aload_0 (q := 56) C d_T_open_55 rfl ?_
      refine tg_203 (q := 59) C d_T_open_56 rfl w22 ?_
      refine g_imul (q := 60) C d_T_open_59 rfl (pk_mul _ _) ?_
      refine g_aload_0 (q := 61) C d_T_open_60 rfl ?_
      refine tc_206 (q := 64) C hR (c_T_next (out := ou) (os := os) (tk := k) ((hS2.fr hF Bd.rf).2.2.1) w23 (by omega)) d_T_open_61 rfl (by decide) (by decide) (by decide) (Nat.le_of_ble_eq_true rfl) (fun x f5 g5 hp => ?_)
      obtain ⟨rfl, rfl, rfl⟩ := hp
      refine g_iadd (q := 65) C d_T_open_64 rfl (nI_add _ _) ?_
      refine tp_203 (q := 68) C d_T_open_65 rfl ?_
      refine g_iinc_2 (q := 71) C hL d_T_open_68 rfl (nI_inc _) ?_
      refine g_goto (tgt := 47) C d_T_open_71 (by decide) ?_
      exact ih (k + 1) _ (by omega) ((hF.upd (by decide)).upd (by decide)) ⟨w14, w15, rfl, rfl⟩ h25
  refine g_aload_0 (q := 12) C d_T_open_11 rfl ?_
  refine g_bipush (v := (-3)) (q := 14) C d_T_open_12 rfl (by decide) ?_
  refine tp_65 (q := 17) C d_T_open_14 rfl ?_
  refine g_aload_0 (q := 18) C d_T_open_17 rfl ?_
  refine g_iconst (v := nI 0) (q := 19) C d_T_open_18 rfl (by decide) ?_
  refine tp_149 (q := 22) C d_T_open_19 rfl ?_
  refine g_aload_0 (q := 23) C d_T_open_22 rfl ?_
  refine g_ldc (v := nI 65535) (q := 25) C d_T_open_23 rfl w_943 ?_
  refine tp_146 (q := 28) C d_T_open_25 rfl ?_
  refine g_aload_0 (q := 29) C d_T_open_28 rfl ?_
  refine g_iconst (v := nI 0) (q := 30) C d_T_open_29 rfl (by decide) ?_
  refine tp_203 (q := 33) C d_T_open_30 rfl ?_
  refine g_aload_0 (q := 34) C d_T_open_33 rfl ?_
  refine g_iconst (v := nI 0) (q := 35) C d_T_open_34 rfl (by decide) ?_
  refine tp_200 (q := 38) C d_T_open_35 rfl ?_
  refine g_aload_0 (q := 39) C d_T_open_38 rfl ?_
  refine g_iconst (v := nI 0) (q := 40) C d_T_open_39 rfl (by decide) ?_
  refine tp_222 (q := 43) C d_T_open_40 rfl ?_
  refine g_iconst (v := nI 0) (q := 44) C d_T_open_43 rfl (by decide) ?_
  refine g_istore_1 (q := 45) C hL d_T_open_44 rfl ?_
  refine g_iconst (v := nI 0) (q := 46) C d_T_open_45 rfl (by decide) ?_
  refine g_istore_2 (q := 47) C hL d_T_open_46 rfl ?_
  rw [hf3]
  exact bits 16 0 _ (by omega) (((((Fr.rf.upd (by decide)).upd (by decide)).upd (by decide)).upd (by decide)).upd (by decide)) ⟨rfl, rfl, rfl, rfl⟩ rfl
end
