/-! THE TWIN: learn, copy -/
section
variable {l : Launch} {Γ : Gl} {o : Nat} {ad : Nat → Nat} {f : Nat → Int32} {g : Nat → Nat → Int32} {T : Tr} {ord room m : Nat}
/-- a tree is held by the same rows -/
theorem TM.keep {g g' : Nat → Nat → Int32} (hT : TM g m T) (h3 : g' 3 = g 3) (h4 : g' 4 = g 4) (h5 : g' 5 = g 5) (h6 : g' 6 = g 6) (h7 : g' 7 = g 7) (h8 : g' 8 = g 8) : TM g' m T := by
  unfold TM; rw [h3, h4, h5, h6, h7, h8]; exact hT
theorem c_T_learn {b fnd : Nat} (hm : m < 7) (hT : TM g m T) (hI : TI ord room T) (hb : b < 256) (hf : fnd ≤ tL T) (hp : fnd = 0 ∨ chT T (cx T fnd) b ≠ 0) (h1 : f 1 = nI ord) (h2 : f 2 = nI room) :
    Ct l Γ y_T_learn b_T_learn 8 none 2 0 0 [.ref o, .int (nI m), .int (nI b), .int (nI fnd)] (tw Γ o ad f g) (pv Γ o ad (fun f' g' => Fr [13] [3, 4, 5, 6, 7, 8] f f' g g' ∧ Bd m g g' ∧ TM g' m (learnT ord room b fnd T).1 ∧ f' 13 = nI (if (learnT ord room b fnd T).2 then 1 else 0))) := by
  refine Ct.of (by decide) (by simp [Value.category]) (Nat.le_of_ble_eq_true rfl) (fun E eG el en C hR F hnm => ?_)
  subst eG
  subst el
  have hL : 8 ≤ xn E := Nat.le_of_eq en.symm
  show G E 0 0 0 [some (.ref o), some (.int (nI m)), some (.int (nI b)), some (.int (nI fnd)), none, none, none, none] [] (tw (xG E) o ad f g)
  have hL4 : tL T ≤ 4 := Nat.le_trans hI.1.2.2.2.2.1 hI.1.2.2.2.2.2.1
  -- behind the loop, nothing began anew
  have h176 : ∀ (T1 : Tr) (f1 : Nat → Int32) (g1 : Nat → Nat → Int32) (l5 : Int32), Fr [13] [3, 4, 5, 6, 7, 8] f f1 g g1 → Bd m g g1 → TM g1 m T1 → tL T1 = tL T → lr room b (tL T + 1 - fnd) fnd T = (T1, false) → f1 13 = nI 0 → G E 0 0 176 [some (.ref o), some (.int (nI m)), some (.int (nI b)), some (.int (nI fnd)), some (.int (nI (tL T))), some (.int l5), none, none] [] (tw (xG E) o ad f1 g1) := by
    intro T1 f1 g1 l5 hF hB hT1 hL1 he h13
    have hle : learnT ord room b fnd T = (rem ord b T1, false) := by unfold learnT; rw [he]; rfl
    have e1 : f1 1 = nI ord := by rw [hF.1 1 (by decide)]; exact h1
    have hord : ord ≤ 4 := hI.1.2.2.2.2.2.1
    refine g_aload_0 (q := 177) C d_T_learn_176 rfl ?_
    refine tg_129 (q := 180) C d_T_learn_177 rfl h13 ?_
    refine g_if_ne (q := 183) (tgt := 275) C d_T_learn_180 rfl (by decide) (fun hz => ?_) (fun hz => ?_)
    · exact absurd rfl hz
    refine g_aload_0 (q := 184) C d_T_learn_183 rfl ?_
    refine tg_72 (q := 187) C d_T_learn_184 rfl e1 ?_
    refine g_if_le (q := 190) (tgt := 275) C d_T_learn_187 rfl (by decide) (fun hz => ?_) (fun hz => ?_)
    · have hz := (nILe0 (by omega)).mp hz
      refine g_vret C F d_T_learn_275 (Nat.le_refl _) (Nat.le_refl _) ⟨rfl, _, _, rfl, hF, hB, ?_, ?_⟩
      · rw [hle]; unfold rem; rw [if_pos hz]; exact hT1
      · rw [hle]; exact h13
    have hz : ord ≠ 0 := fun q => hz ((nILe0 (by omega)).mpr q)
    -- the byte is put at place L'
    have h249 : ∀ (L' : Nat) (g2 : Nat → Nat → Int32), L' < 4 → Fr [13] [3, 4, 5, 6, 7, 8] f f1 g g2 → Bd m g g2 → g2 7 m = nI L' → (∀ E', (∀ i, i < L' → g2 8 (4 * m + i) = nI (E' i)) → TM (updA (updA g2 8 (upd (g2 8) (4 * m + L') (nI b))) 7 (upd (g2 7) m (nI (L' + 1)))) m (tN T1, tP T1, tB T1, tC T1, L' + 1, upN E' L' b)) → (∃ E', (∀ i, i < L' → g2 8 (4 * m + i) = nI (E' i)) ∧ ∀ i, i < L' + 1 → tE (rem ord b T1) i = upN E' L' b i) → tL (rem ord b T1) = L' + 1 → G E 0 0 249 [some (.ref o), some (.int (nI m)), some (.int (nI b)), some (.int (nI fnd)), some (.int (nI (tL T))), none, none, none] [] (tw (xG E) o ad f1 g2) := by
      intro L' g2 hL4' hF2 hB2 h7 hTM hEx hLr
      obtain ⟨E', hE1, hE2⟩ := hEx
      refine g_aload_0 (q := 250) C d_T_learn_249 rfl ?_
      refine tg_34 (q := 253) C d_T_learn_250 rfl ?_
      refine g_iconst (v := nI 4) (q := 254) C d_T_learn_253 rfl (by decide) ?_
      refine g_iload_1 (q := 255) C d_T_learn_254 rfl ?_
      refine g_imul (q := 256) C d_T_learn_255 rfl (pk_mul _ _) ?_
      refine g_aload_0 (q := 257) C d_T_learn_256 rfl ?_
      refine tg_31 (q := 260) C d_T_learn_257 rfl ?_
      refine g_iload_1 (q := 261) C d_T_learn_260 rfl ?_
      refine ta_7 (q := 262) C d_T_learn_261 rfl rfl (by omega) h7 ?_
      refine g_iadd (q := 263) C d_T_learn_262 rfl (nI_add _ _) ?_
      refine g_iload_2 (q := 264) C d_T_learn_263 rfl ?_
      refine ts_8 (q := 265) C d_T_learn_264 rfl rfl (by omega) ?_
      refine g_aload_0 (q := 266) C d_T_learn_265 rfl ?_
      refine tg_31 (q := 269) C d_T_learn_266 rfl ?_
      refine g_iload_1 (q := 270) C d_T_learn_269 rfl ?_
      refine g_dup2 (q := 271) C d_T_learn_270 rfl rfl rfl ?_
      refine ta_7 (q := 272) C d_T_learn_271 rfl rfl (by omega) h7 ?_
      refine g_iconst (v := nI 1) (q := 273) C d_T_learn_272 rfl (by decide) ?_
      refine g_iadd (q := 274) C d_T_learn_273 rfl (nI_1 _) ?_
      refine ts_7 (q := 275) C d_T_learn_274 rfl rfl (by omega) ?_
      refine g_vret C F d_T_learn_275 (Nat.le_refl _) (Nat.le_refl _) ⟨rfl, _, _, rfl, (hF2.updA (by decide)).updA (by decide), (hB2.set (by omega)).set (by omega), ?_, by rw [hle]; exact h13⟩
      rw [hle]
      have hTM := hTM E' hE1
      obtain ⟨a3, a7, a4, a5, a6, aR, a8⟩ := hTM
      have eN : tN (rem ord b T1) = tN T1 := by unfold rem; split; rfl; split <;> rfl
      have eP : tP (rem ord b T1) = tP T1 := by unfold rem; split; rfl; split <;> rfl
      have eB : tB (rem ord b T1) = tB T1 := by unfold rem; split; rfl; split <;> rfl
      have eC : tC (rem ord b T1) = tC T1 := by unfold rem; split; rfl; split <;> rfl
      refine ⟨by rw [eN]; exact a3, by rw [hLr]; exact a7, a4, a5, a6, by rw [eN, eP, eB, eC]; exact aR, fun i hi => ?_⟩
      rw [hLr] at hi
      rw [hE2 i hi]
      exact a8 i hi
    -- such rows hold the tree with the byte at L'
    have hrows : ∀ (L' : Nat) (g2 : Nat → Nat → Int32), L' < 4 → g2 3 = g1 3 → g2 4 = g1 4 → g2 5 = g1 5 → g2 6 = g1 6 → ∀ E', (∀ i, i < L' → g2 8 (4 * m + i) = nI (E' i)) → TM (updA (updA g2 8 (upd (g2 8) (4 * m + L') (nI b))) 7 (upd (g2 7) m (nI (L' + 1)))) m (tN T1, tP T1, tB T1, tC T1, L' + 1, upN E' L' b) := by
      intro L' g2 _ q3 q4 q5 q6 E' hE
      obtain ⟨a3, a7, a4, a5, a6, aR, a8⟩ := hT1
      refine ⟨by show g2 3 m = _; rw [q3]; exact a3, upd_s, by show g2 4 _ = _; rw [q4]; exact a4, by show g2 5 _ = _; rw [q5]; exact a5, by show g2 6 _ = _; rw [q6]; exact a6, fun i h0 hi => ?_, fun i hi => ?_⟩
      · show g2 4 _ = _ ∧ g2 5 _ = _ ∧ g2 6 _ = _
        rw [q4, q5, q6]; exact aR i h0 hi
      · show upd (g2 8) (4 * m + L') (nI b) (4 * m + i) = nI (upN E' L' b i)
        by_cases e : i = L'
        · rw [e, upd_s, upN_s]
        · have hi : i < L' + 1 := hi
          rw [upd_n (by omega), upN_n e]; exact hE i (by omega)
    refine g_iload_4 (q := 192) C d_T_learn_190 rfl ?_
    refine g_aload_0 (q := 193) C d_T_learn_192 rfl ?_
    refine tg_72 (q := 196) C d_T_learn_193 rfl e1 ?_
    refine g_icmp_ne (q := 199) (tgt := 249) C d_T_learn_196 rfl (by decide) (fun hLo => ?_) (fun hLo => ?_)
    · have hLo : tL T ≠ ord := fun q => hLo (by rw [q])
      have hlt : tL T < ord := by have := hI.1.2.2.2.2.1; omega
      have e7 : g1 7 m = nI (tL T) := by rw [← hL1]; exact hT1.2.1
      refine g_weak (lv' := [some (.ref o), some (.int (nI m)), some (.int (nI b)), some (.int (nI fnd)), some (.int (nI (tL T))), none, none, none]) (by simp [lvle]) ?_
      refine h249 (tL T) g1 (by omega) hF hB e7 (hrows (tL T) g1 (by omega) rfl rfl rfl rfl) ⟨tE T1, fun i hi => hT1.2.2.2.2.2.2 i (by omega), fun i hi => ?_⟩ ?_
      · unfold rem; rw [if_neg hz, if_neg (by omega), hL1]
      · unfold rem; rw [if_neg hz, if_neg (by omega)]; show tL T1 + 1 = _; rw [hL1]
    · have hLo : tL T = ord := (nI_eq (by omega) (by omega)).mp (Decidable.not_not.mp hLo)
      -- the shift
      have shift : ∀ j i g2, i + j = tL T → 0 < i → Fr [13] [3, 4, 5, 6, 7, 8] f f1 g g2 → Bd m g g2 → g2 3 = g1 3 → g2 4 = g1 4 → g2 5 = g1 5 → g2 6 = g1 6 → g2 7 = g1 7 → (∀ i', i' + 1 < i → g2 8 (4 * m + i') = nI (tE T1 (i' + 1))) → (∀ i', i ≤ i' → i' < tL T → g2 8 (4 * m + i') = nI (tE T1 i')) → G E 0 0 202 [some (.ref o), some (.int (nI m)), some (.int (nI b)), some (.int (nI fnd)), some (.int (nI (tL T))), some (.int (nI i)), none, none] [] (tw (xG E) o ad f1 g2) := by
        intro j
        induction j with
        | zero =>
          intro i g2 hi h0 hF2 hB2 q3 q4 q5 q6 q7 hlo hhi
          have e7 : g2 7 m = nI (tL T) := by rw [q7, ← hL1]; exact hT1.2.1
          refine g_iload_5 (q := 204) C d_T_learn_202 rfl ?_
          refine g_iload_4 (q := 206) C d_T_learn_204 rfl ?_
          refine g_icmp_ge (q := 209) (tgt := 239) C d_T_learn_206 rfl (by decide) (fun hc => ?_) (fun hc => ?_)
          · refine g_aload_0 (q := 240) C d_T_learn_239 rfl ?_
            refine tg_31 (q := 243) C d_T_learn_240 rfl ?_
            refine g_iload_1 (q := 244) C d_T_learn_243 rfl ?_
            refine g_dup2 (q := 245) C d_T_learn_244 rfl rfl rfl ?_
            refine ta_7 (q := 246) C d_T_learn_245 rfl rfl (by omega) e7 ?_
            refine g_iconst (v := nI 1) (q := 247) C d_T_learn_246 rfl (by decide) ?_
            refine g_isub (q := 248) C d_T_learn_247 rfl (pk_sub (a := tL T) (b := 1) (by omega)) ?_
            refine ts_7 (q := 249) C d_T_learn_248 rfl rfl (by omega) ?_
            refine g_weak (lv' := [some (.ref o), some (.int (nI m)), some (.int (nI b)), some (.int (nI fnd)), some (.int (nI (tL T))), none, none, none]) (by simp [lvle]) ?_
            refine h249 (tL T - 1) _ (by omega) (hF2.updA (by decide)) (hB2.set (by omega)) upd_s (hrows (tL T - 1) _ (by omega) q3 q4 q5 q6) ⟨fun i => tE T1 (i + 1), fun i' hi' => hlo i' (by omega), fun i' hi' => ?_⟩ ?_
            · unfold rem; rw [if_neg hz, if_pos (by omega)]
              show (if i' + 1 < tL T1 then tE T1 (i' + 1) else b) = _
              by_cases e : i' = tL T - 1
              · rw [e, upN_s, if_neg (by omega)]
              · rw [upN_n e, if_pos (by omega)]
            · unfold rem; rw [if_neg hz, if_pos (by omega)]; show tL T1 = _; omega
          · exact absurd ((nI_leI (by omega) (by omega)).mpr (by omega)) hc
        | succ j ih =>
          intro i g2 hi h0 hF2 hB2 q3 q4 q5 q6 q7 hlo hhi
          refine g_iload_5 (q := 204) C d_T_learn_202 rfl ?_
          refine g_iload_4 (q := 206) C d_T_learn_204 rfl ?_
          refine g_icmp_ge (q := 209) (tgt := 239) C d_T_learn_206 rfl (by decide) (fun hc => ?_) (fun hc => ?_)
          · exact absurd ((nI_leI (by omega) (by omega)).mp hc) (by omega)
          refine g_aload_0 (q := 210) C d_T_learn_209 rfl ?_
          refine tg_34 (q := 213) C d_T_learn_210 rfl ?_
          refine g_iconst (v := nI 4) (q := 214) C d_T_learn_213 rfl (by decide) ?_
          refine g_iload_1 (q := 215) C d_T_learn_214 rfl ?_
          refine g_imul (q := 216) C d_T_learn_215 rfl (pk_mul _ _) ?_
          refine g_iload_5 (q := 218) C d_T_learn_216 rfl ?_
          refine g_iadd (q := 219) C d_T_learn_218 rfl (nI_add _ _) ?_
          refine g_iconst (v := nI 1) (q := 220) C d_T_learn_219 rfl (by decide) ?_
          refine g_isub (q := 221) C d_T_learn_220 rfl (pk_sub (by omega)) ?_
          refine g_aload_0 (q := 222) C d_T_learn_221 rfl ?_
          refine tg_34 (q := 225) C d_T_learn_222 rfl ?_
          refine g_iconst (v := nI 4) (q := 226) C d_T_learn_225 rfl (by decide) ?_
          refine g_iload_1 (q := 227) C d_T_learn_226 rfl ?_
          refine g_imul (q := 228) C d_T_learn_227 rfl (pk_mul _ _) ?_
          refine g_iload_5 (q := 230) C d_T_learn_228 rfl ?_
          refine g_iadd (q := 231) C d_T_learn_230 rfl (nI_add _ _) ?_
          refine ta_8 (q := 232) C d_T_learn_231 rfl rfl (by omega) (hhi i (Nat.le_refl _) (by omega)) ?_
          refine ts_8 (q := 233) C d_T_learn_232 rfl rfl (by omega) ?_
          refine g_iinc_5 (q := 236) C hL d_T_learn_233 rfl (nI_inc _) ?_
          refine g_goto (tgt := 202) C d_T_learn_236 (by decide) ?_
          refine ih (i + 1) _ (by omega) (by omega) (hF2.updA (by decide)) (hB2.set (by omega)) q3 q4 q5 q6 q7 (fun i' hi' => ?_) (fun i' h1' h2' => ?_)
          · rw [updA_s]
            by_cases e : i' + 1 = i
            · rw [show 4 * m + i' = 4 * m + i - 1 by omega, upd_s, ← e]
            · rw [upd_n (by omega)]; exact hlo i' (by omega)
          · rw [updA_s, upd_n (by omega)]; exact hhi i' (by omega) h2'
      refine g_iconst (v := nI 1) (q := 200) C d_T_learn_199 rfl (by decide) ?_
      refine g_istore_5 (q := 202) C hL d_T_learn_200 rfl ?_
      exact shift (tL T - 1) 1 g1 (by omega) (by omega) hF hB rfl rfl rfl rfl rfl (fun i' hi' => by omega) (fun i' _ hi' => hT1.2.2.2.2.2.2 i' (by omega))
  -- the loop over the contexts
  have loop : ∀ (j k : Nat) (T1 : Tr) (f1 : Nat → Int32) (g1 : Nat → Nat → Int32), k + j = tL T + 1 → fnd ≤ k → Fr [13] [3, 4, 5, 6, 7, 8] f f1 g g1 → Bd m g g1 → TM g1 m T1 → TI ord room T1 → tL T1 = tL T → (k = 0 ∨ chT T1 (cx T1 (k - 1)) b ≠ 0) → lr room b (tL T + 1 - fnd) fnd T = lr room b j k T1 → f1 13 = nI 0 → G E 0 0 16 [some (.ref o), some (.int (nI m)), some (.int (nI b)), some (.int (nI fnd)), some (.int (nI (tL T))), some (.int (nI k)), none, none] [] (tw (xG E) o ad f1 g1) := by
    intro j
    induction j with
    | zero =>
      intro k T1 f1 g1 hk hfk hF hB hT1 hI1 hL1 hp1 he h13
      refine g_iload_5 (q := 18) C d_T_learn_16 rfl ?_
      refine g_iload_4 (q := 20) C d_T_learn_18 rfl ?_
      refine g_icmp_gt (q := 23) (tgt := 176) C d_T_learn_20 rfl (by decide) (fun hc => ?_) (fun hc => ?_)
      · exact h176 T1 f1 g1 _ hF hB hT1 hL1 he h13
      · exact absurd ((nI_ltI (by omega) (by omega)).mpr (by omega)) hc
    | succ j ih =>
      intro k T1 f1 g1 hk hfk hF hB hT1 hI1 hL1 hp1 he h13
      obtain ⟨hk1, hx1, hS1, hB1⟩ := id hI1
      obtain ⟨T3, T7, T4, T5, T6, TR, T8⟩ := id hT1
      obtain ⟨k1, k2, k3, k4, k5, k6, kR, kD, k9⟩ := id hk1
      have e2 : f1 2 = nI room := by rw [hF.1 2 (by decide)]; exact h2
      have hvl : cx T1 k < tN T1 := cxp_lt k1 k k
      refine g_iload_5 (q := 18) C d_T_learn_16 rfl ?_
      refine g_iload_4 (q := 20) C d_T_learn_18 rfl ?_
      refine g_icmp_gt (q := 23) (tgt := 176) C d_T_learn_20 rfl (by decide) (fun hc => ?_) (fun hc => ?_)
      · exact absurd ((nI_ltI (by omega) (by omega)).mp hc) (by omega)
      refine g_aload_0 (q := 24) C d_T_learn_23 rfl ?_
      refine tg_129 (q := 27) C d_T_learn_24 rfl h13 ?_
      refine g_if_ne (q := 30) (tgt := 176) C d_T_learn_27 rfl (by decide) (fun hc2 => ?_) (fun hc2 => ?_)
      · exact absurd rfl hc2
      refine g_aload_0 (q := 31) C d_T_learn_30 rfl ?_
      refine g_iload_1 (q := 32) C d_T_learn_31 rfl ?_
      refine g_iload_5 (q := 34) C d_T_learn_32 rfl ?_
      refine tc_106 (q := 37) C hR (c_T_context hm hT1 hk1 hx1 (by omega)) d_T_learn_34 rfl (by decide) (by decide) (by decide) (Nat.le_of_ble_eq_true rfl) (fun x f2 g2 hp => ?_)
      obtain ⟨rfl, rfl, rfl⟩ := hp
      refine g_istore_6 (q := 39) C hL d_T_learn_37 rfl ?_
      refine g_aload_0 (q := 40) C d_T_learn_39 rfl ?_
      refine g_iload_1 (q := 41) C d_T_learn_40 rfl ?_
      refine g_iload_6 (q := 43) C d_T_learn_41 rfl ?_
      refine g_iload_2 (q := 44) C d_T_learn_43 rfl ?_
      refine tc_99 (q := 47) C hR (c_T_child hm hT1 hk1 (by omega) (by omega)) d_T_learn_44 rfl (by decide) (by decide) (by decide) (Nat.le_of_ble_eq_true rfl) (fun x f2 g2 hp => ?_)
      obtain ⟨rfl, rfl, rfl⟩ := hp
      -- behind halve: on to the next context
      have hnext : ∀ (f3 : Nat → Int32) (g3 : Nat → Nat → Int32) (c : Int32), ¬ (chT T1 (cx T1 k) b = 0 ∧ tN T1 = room) → Fr [13] [3, 4, 5, 6, 7, 8] f f3 g g3 → Bd m g g3 → TM g3 m (inc T1 (cx T1 k) b) → f3 13 = nI 0 → G E 0 0 163 [some (.ref o), some (.int (nI m)), some (.int (nI b)), some (.int (nI fnd)), some (.int (nI (tL T))), some (.int (nI k)), some (.int (nI (cx T1 k))), some (.int c)] [] (tw (xG E) o ad f3 g3) := by
        intro f3 g3 c hr hF3 hB3 hT3 h133
        have hok := inc_ok hk1 hvl hb hr
        obtain ⟨hs1, hs2⟩ := hi_s hk1 hB1 hvl hb hr
        obtain ⟨hc1, hc2⟩ := hi_cx k1 hx1 (cx T1 k) b
        refine g_aload_0 (q := 164) C d_T_learn_163 rfl ?_
        refine g_iload_1 (q := 165) C d_T_learn_164 rfl ?_
        refine g_iload_6 (q := 167) C d_T_learn_165 rfl ?_
        refine tc_133 (q := 170) C hR (c_T_halve hm hT3 hok (by omega) hs2) d_T_learn_167 rfl (by decide) (by decide) (by decide) (Nat.le_of_ble_eq_true rfl) (fun f4 g4 hp => ?_)
        obtain ⟨hF4, hB4, hT4⟩ := hp
        refine g_iinc_5 (q := 173) C hL d_T_learn_170 rfl (nI_inc _) ?_
        refine g_goto (tgt := 16) C d_T_learn_173 (by decide) ?_
        refine g_weak (lv' := [some (.ref o), some (.int (nI m)), some (.int (nI b)), some (.int (nI fnd)), some (.int (nI (tL T))), some (.int (nI (k + 1))), none, none]) (by simp [lvle]) ?_
        have hLL : tL (hv (inc T1 (cx T1 k) b) (cx T1 k)) = tL T1 := by rw [hv_L, inc_L]
        refine ih (k + 1) (hv (inc T1 (cx T1 k) b) (cx T1 k)) f4 g4 (by omega) (by omega) (hF3.trans (hF4.mono (by decide) (by decide))) (hB3.trans hB4) hT4 ⟨hv_ok hok _, hc2, hv_sfx (inc_sfx hk1 hx1 hS1 (by omega) hp1), hs1⟩ (by rw [hLL]; exact hL1) (Or.inr ?_) ?_ ?_
        · rw [show k + 1 - 1 = k by omega, hc1 k (by omega), hv_ch, ch_inc k1]
          by_cases hcc : chT T1 (cx T1 k) b = 0
          · rw [if_pos ⟨hcc, rfl, rfl⟩]; omega
          · rw [if_neg (fun q => hcc q.1)]; exact hcc
        · rw [he]
          show (if _ then _ else _) = _
          rw [if_neg hr]
        · rw [hF4.1 13 (by decide)]; exact h133
      refine g_istore_7 (q := 49) C hL d_T_learn_47 rfl ?_
      refine g_iload_7 (q := 51) C d_T_learn_49 rfl ?_
      by_cases hcc : chT T1 (cx T1 k) b = 0
      · have hen : enc (chT T1 (cx T1 k) b) = -1 := by unfold enc; rw [if_pos hcc]
        rw [hen]
        refine g_if_ge (q := 54) (tgt := 80) C d_T_learn_51 rfl (by decide) (fun hz => ?_) (fun hz => ?_)
        · exact absurd hz (by decide)
        refine g_aload_0 (q := 55) C d_T_learn_54 rfl ?_
        refine tg_19 (q := 58) C d_T_learn_55 rfl ?_
        refine g_iload_1 (q := 59) C d_T_learn_58 rfl ?_
        refine ta_3 (q := 60) C d_T_learn_59 rfl rfl (by omega) T3 ?_
        refine g_aload_0 (q := 61) C d_T_learn_60 rfl ?_
        refine tg_75 (q := 64) C d_T_learn_61 rfl e2 ?_
        refine g_icmp_ne (q := 67) (tgt := 80) C d_T_learn_64 rfl (by decide) (fun hr => ?_) (fun hr => ?_)
        · have hr : tN T1 ≠ room := fun q => hr (by rw [q])
          have hr' : ¬ (chT T1 (cx T1 k) b = 0 ∧ tN T1 = room) := fun q => hr q.2
          refine g_iload_7 (q := 82) C d_T_learn_80 rfl ?_
          refine g_if_ge (q := 85) (tgt := 146) C d_T_learn_82 rfl (by decide) (fun hz => ?_) (fun hz => ?_)
          · exact absurd hz (by decide)
          have hinc : inc T1 (cx T1 k) b = (tN T1 + 1, upN (tP T1) (tN T1) (cx T1 k), upN (tB T1) (tN T1) b, upN (tC T1) (tN T1) 1, tL T1, tE T1) := by unfold inc; rw [if_pos hcc]
          refine g_aload_0 (q := 86) C d_T_learn_85 rfl ?_
          refine tg_19 (q := 89) C d_T_learn_86 rfl ?_
          refine g_iload_1 (q := 90) C d_T_learn_89 rfl ?_
          refine ta_3 (q := 91) C d_T_learn_90 rfl rfl (by omega) T3 ?_
          refine g_istore_7 (q := 93) C hL d_T_learn_91 rfl ?_
          refine g_aload_0 (q := 94) C d_T_learn_93 rfl ?_
          refine tg_19 (q := 97) C d_T_learn_94 rfl ?_
          refine g_iload_1 (q := 98) C d_T_learn_97 rfl ?_
          refine g_dup2 (q := 99) C d_T_learn_98 rfl rfl rfl ?_
          refine ta_3 (q := 100) C d_T_learn_99 rfl rfl (by omega) T3 ?_
          refine g_iconst (v := nI 1) (q := 101) C d_T_learn_100 rfl (by decide) ?_
          refine g_iadd (q := 102) C d_T_learn_101 rfl (nI_1 _) ?_
          refine ts_3 (q := 103) C d_T_learn_102 rfl rfl (by omega) ?_
          refine g_aload_0 (q := 104) C d_T_learn_103 rfl ?_
          refine tg_22 (q := 107) C d_T_learn_104 rfl ?_
          refine g_sipush (v := nI 1500) (q := 110) C d_T_learn_107 rfl (by decide) ?_
          refine g_iload_1 (q := 111) C d_T_learn_110 rfl ?_
          refine g_imul (q := 112) C d_T_learn_111 rfl (pk_mul _ _) ?_
          refine g_iload_7 (q := 114) C d_T_learn_112 rfl ?_
          refine g_iadd (q := 115) C d_T_learn_114 rfl (nI_add _ _) ?_
          refine g_iload_6 (q := 117) C d_T_learn_115 rfl ?_
          refine ts_4 (q := 118) C d_T_learn_117 rfl rfl (by omega) ?_
          refine g_aload_0 (q := 119) C d_T_learn_118 rfl ?_
          refine tg_25 (q := 122) C d_T_learn_119 rfl ?_
          refine g_sipush (v := nI 1500) (q := 125) C d_T_learn_122 rfl (by decide) ?_
          refine g_iload_1 (q := 126) C d_T_learn_125 rfl ?_
          refine g_imul (q := 127) C d_T_learn_126 rfl (pk_mul _ _) ?_
          refine g_iload_7 (q := 129) C d_T_learn_127 rfl ?_
          refine g_iadd (q := 130) C d_T_learn_129 rfl (nI_add _ _) ?_
          refine g_iload_2 (q := 131) C d_T_learn_130 rfl ?_
          refine ts_5 (q := 132) C d_T_learn_131 rfl rfl (by omega) ?_
          refine g_aload_0 (q := 133) C d_T_learn_132 rfl ?_
          refine tg_28 (q := 136) C d_T_learn_133 rfl ?_
          refine g_sipush (v := nI 1500) (q := 139) C d_T_learn_136 rfl (by decide) ?_
          refine g_iload_1 (q := 140) C d_T_learn_139 rfl ?_
          refine g_imul (q := 141) C d_T_learn_140 rfl (pk_mul _ _) ?_
          refine g_iload_7 (q := 143) C d_T_learn_141 rfl ?_
          refine g_iadd (q := 144) C d_T_learn_143 rfl (nI_add _ _) ?_
          refine g_iconst (v := nI 0) (q := 145) C d_T_learn_144 rfl (by decide) ?_
          refine ts_6 (q := 146) C d_T_learn_145 rfl rfl (by omega) ?_
          refine g_aload_0 (q := 147) C d_T_learn_146 rfl ?_
          refine tg_28 (q := 150) C d_T_learn_147 rfl ?_
          refine g_sipush (v := nI 1500) (q := 153) C d_T_learn_150 rfl (by decide) ?_
          refine g_iload_1 (q := 154) C d_T_learn_153 rfl ?_
          refine g_imul (q := 155) C d_T_learn_154 rfl (pk_mul _ _) ?_
          refine g_iload_7 (q := 157) C d_T_learn_155 rfl ?_
          refine g_iadd (q := 158) C d_T_learn_157 rfl (nI_add _ _) ?_
          refine g_dup2 (q := 159) C d_T_learn_158 rfl rfl rfl ?_
          refine ta_6 (q := 160) C d_T_learn_159 rfl rfl (by omega) upd_s ?_
          refine g_iconst (v := nI 1) (q := 161) C d_T_learn_160 rfl (by decide) ?_
          refine g_iadd (q := 162) C d_T_learn_161 rfl (nI_add _ _) ?_
          refine ts_6 (q := 163) C d_T_learn_162 rfl rfl (by omega) ?_
          refine hnext _ _ _ hr' (((((hF.updA (by decide)).updA (by decide)).updA (by decide)).updA (by decide)).updA (by decide)) (((((hB.set (by omega)).set (by omega)).set (by omega)).set (by omega)).set (by omega)) ?_ h13
          rw [hinc]
          refine ⟨upd_s, T7, ?_, ?_, ?_, fun i h0 hi => ?_, T8⟩
          · show upd (g2 4) (1500 * m + tN T1) _ (1500 * m) = _
            rw [upd_n (by omega)]; exact T4
          · show upd (g2 5) (1500 * m + tN T1) _ (1500 * m) = _
            rw [upd_n (by omega)]; exact T5
          · show upd (upd (g2 6) (1500 * m + tN T1) _) (1500 * m + tN T1) _ (1500 * m) = _
            rw [upd_n (by omega), upd_n (by omega)]; exact T6
          · show upd (g2 4) (1500 * m + tN T1) _ (1500 * m + i) = nI (upN (tP T1) (tN T1) (cx T1 k) i) ∧ upd (g2 5) (1500 * m + tN T1) _ (1500 * m + i) = nI (upN (tB T1) (tN T1) b i) ∧ upd (upd (g2 6) (1500 * m + tN T1) _) (1500 * m + tN T1) _ (1500 * m + i) = nI (upN (tC T1) (tN T1) 1 i)
            have hi : i < tN T1 + 1 := hi
            by_cases ei : i = tN T1
            · rw [ei, upd_s, upd_s, upd_s, upN_s, upN_s, upN_s]; exact ⟨rfl, rfl, rfl⟩
            · rw [upd_n (by omega), upd_n (by omega), upd_n (by omega), upd_n (by omega), upN_n ei, upN_n ei, upN_n ei]; exact TR i h0 (by omega)
        · have hr : tN T1 = room := (nI_eq (by omega) (by omega)).mp (Decidable.not_not.mp hr)
          refine g_aload_0 (q := 68) C d_T_learn_67 rfl ?_
          refine g_iload_1 (q := 69) C d_T_learn_68 rfl ?_
          refine tc_78 (q := 72) C hR (c_T_begin hm) d_T_learn_69 rfl (by decide) (by decide) (by decide) (Nat.le_of_ble_eq_true rfl) (fun f4 g4 hp => ?_)
          obtain ⟨hF4, hB4, hT4⟩ := hp
          have hle : learnT ord room b fnd T = (rs T1, true) := by
            have : lr room b (tL T + 1 - fnd) fnd T = (rs T1, true) := by
              rw [he]
              show (if _ then _ else _) = _
              rw [if_pos ⟨hcc, hr⟩]
            unfold learnT; rw [this]; rfl
          have hend : ∀ lv, G E 0 0 176 lv [] (tw (xG E) o ad (upd f4 13 (nI 1)) g4) → True := fun _ _ => trivial
          have h176' : ∀ l5 l6 l7, G E 0 0 176 [some (.ref o), some (.int (nI m)), some (.int (nI b)), some (.int (nI fnd)), some (.int (nI (tL T))), l5, l6, l7] [] (tw (xG E) o ad (upd f4 13 (nI 1)) g4) := by
            intro l5 l6 l7
            refine g_aload_0 (q := 177) C d_T_learn_176 rfl ?_
            refine tg_129 (q := 180) C d_T_learn_177 rfl upd_s ?_
            refine g_if_ne (q := 183) (tgt := 275) C d_T_learn_180 rfl (by decide) (fun hz => ?_) (fun hz => ?_)
            · exact g_vret C F d_T_learn_275 (Nat.le_refl _) (Nat.le_refl _) ⟨rfl, _, _, rfl, (hF.trans (hF4.mono (by decide) (by decide))).upd (by decide), hB.trans hB4, by rw [hle]; exact hT4 T1, by rw [hle]; exact upd_s⟩
            · exact absurd (by decide) hz
          refine g_aload_0 (q := 73) C d_T_learn_72 rfl ?_
          refine g_iconst (v := nI 1) (q := 74) C d_T_learn_73 rfl (by decide) ?_
          refine tp_129 (q := 77) C d_T_learn_74 rfl (Or.inr rfl) ?_
          refine g_goto (tgt := 170) C d_T_learn_77 (by decide) ?_
          refine g_iinc_5 (q := 173) C hL d_T_learn_170 rfl (nI_inc _) ?_
          refine g_goto (tgt := 16) C d_T_learn_173 (by decide) ?_
          refine g_iload_5 (q := 18) C d_T_learn_16 rfl ?_
          refine g_iload_4 (q := 20) C d_T_learn_18 rfl ?_
          refine g_icmp_gt (q := 23) (tgt := 176) C d_T_learn_20 rfl (by decide) (fun hc => ?_) (fun hc => ?_)
          · exact h176' _ _ _
          refine g_aload_0 (q := 24) C d_T_learn_23 rfl ?_
          refine tg_129 (q := 27) C d_T_learn_24 rfl upd_s ?_
          refine g_if_ne (q := 30) (tgt := 176) C d_T_learn_27 rfl (by decide) (fun hc2 => ?_) (fun hc2 => ?_)
          · exact h176' _ _ _
          exact absurd (by decide) hc2
      · have hen : enc (chT T1 (cx T1 k) b) = nI (chT T1 (cx T1 k) b) := by unfold enc; rw [if_neg hcc]
        obtain ⟨c0, c1, c2, c3⟩ := ch_some hcc
        have cR := TR _ c0 c1
        have c1 : chT T1 (cx T1 k) b < tN T1 := c1
        have c0 : 0 < chT T1 (cx T1 k) b := c0
        rw [hen]
        have h80 : G E 0 0 80 [some (.ref o), some (.int (nI m)), some (.int (nI b)), some (.int (nI fnd)), some (.int (nI (tL T))), some (.int (nI k)), some (.int (nI (cx T1 k))), some (.int (nI (chT T1 (cx T1 k) b)))] [] (tw (xG E) o ad f2 g2) := by
          refine g_iload_7 (q := 82) C d_T_learn_80 rfl ?_
          refine g_if_ge (q := 85) (tgt := 146) C d_T_learn_82 rfl (by decide) (fun hz => ?_) (fun hz => ?_)
          · refine g_aload_0 (q := 147) C d_T_learn_146 rfl ?_
            refine tg_28 (q := 150) C d_T_learn_147 rfl ?_
            refine g_sipush (v := nI 1500) (q := 153) C d_T_learn_150 rfl (by decide) ?_
            refine g_iload_1 (q := 154) C d_T_learn_153 rfl ?_
            refine g_imul (q := 155) C d_T_learn_154 rfl (pk_mul _ _) ?_
            refine g_iload_7 (q := 157) C d_T_learn_155 rfl ?_
            refine g_iadd (q := 158) C d_T_learn_157 rfl (nI_add _ _) ?_
            refine g_dup2 (q := 159) C d_T_learn_158 rfl rfl rfl ?_
            refine ta_6 (q := 160) C d_T_learn_159 rfl rfl (by omega) cR.2.2 ?_
            refine g_iconst (v := nI 1) (q := 161) C d_T_learn_160 rfl (by decide) ?_
            refine g_iadd (q := 162) C d_T_learn_161 rfl (nI_1 _) ?_
            refine ts_6 (q := 163) C d_T_learn_162 rfl rfl (by omega) ?_
            refine hnext _ _ _ (fun q => hcc q.1) (hF.updA (by decide)) (hB.set (by omega)) ?_ h13
            have hinc : inc T1 (cx T1 k) b = (tN T1, tP T1, tB T1, upN (tC T1) (chT T1 (cx T1 k) b) (tC T1 (chT T1 (cx T1 k) b) + 1), tL T1, tE T1) := by unfold inc; rw [if_neg hcc]
            rw [hinc]
            refine ⟨T3, T7, T4, T5, ?_, fun i h0 hi => ?_, T8⟩
            · show upd (g2 6) _ _ (1500 * m) = _
              rw [upd_n (by omega)]; exact T6
            · obtain ⟨r1, r2, r3⟩ := TR i h0 hi
              refine ⟨r1, r2, ?_⟩
              show upd (g2 6) (1500 * m + chT T1 (cx T1 k) b) _ (1500 * m + i) = nI (upN (tC T1) _ _ i)
              by_cases ei : i = chT T1 (cx T1 k) b
              · rw [ei, upd_s, upN_s]
              · rw [upd_n (by omega), upN_n ei]; exact r3
          · exact absurd (nI_pos' (by omega)) hz
        refine g_if_ge (q := 54) (tgt := 80) C d_T_learn_51 rfl (by decide) (fun hz => ?_) (fun hz => ?_)
        · exact h80
        · exact absurd (nI_pos' (by omega)) hz
  refine g_aload_0 (q := 1) C d_T_learn_0 rfl ?_
  refine g_iconst (v := nI 0) (q := 2) C d_T_learn_1 rfl (by decide) ?_
  refine tp_129 (q := 5) C d_T_learn_2 rfl (Or.inl rfl) ?_
  refine g_aload_0 (q := 6) C d_T_learn_5 rfl ?_
  refine tg_31 (q := 9) C d_T_learn_6 rfl ?_
  refine g_iload_1 (q := 10) C d_T_learn_9 rfl ?_
  refine ta_7 (q := 11) C d_T_learn_10 rfl rfl (by omega) hT.2.1 ?_
  refine g_istore_4 (q := 13) C hL d_T_learn_11 rfl ?_
  refine g_iload_3 (q := 14) C d_T_learn_13 rfl ?_
  refine g_istore_5 (q := 16) C hL d_T_learn_14 rfl ?_
  refine loop (tL T + 1 - fnd) fnd T _ _ (by omega) (Nat.le_refl _) (Fr.rf.upd (by decide)) Bd.rf hT hI rfl ?_ rfl upd_s
  rcases hp with q | q
  · exact Or.inl q
  · rcases Nat.eq_zero_or_pos fnd with z | z
    · exact Or.inl z
    · right
      refine ctx_down hI.2.1 hI.2.2.1 (k := fnd - 1) (by omega) ?_
      rw [show fnd - 1 + 1 = fnd by omega]; exact q
theorem c_T_copy {m2 : Nat} (hm : m < 7) (hm2 : m2 < 7) (hne : m ≠ m2) (hT : TM g m T) (hk : TOk ord room T) :
    Ct l Γ y_T_copy b_T_copy 4 none 0 0 0 [.ref o, .int (nI m), .int (nI m2)] (tw Γ o ad f g) (pv Γ o ad (fun f' g' => Fr [] [3, 4, 5, 6, 7, 8] f f' g g' ∧ Bd m2 g g' ∧ TM g' m2 T)) := by
  obtain ⟨T3, T7, T4, T5, T6, TR, T8⟩ := id hT
  obtain ⟨k1, k2, k3, k4, k5, k6, kR, kD, k9⟩ := id hk
  refine Ct.of (by decide) (by simp [Value.category]) (Nat.le_of_ble_eq_true rfl) (fun E eG el en C hR F hnm => ?_)
  subst eG
  subst el
  have hL : 4 ≤ xn E := Nat.le_of_eq en.symm
  show G E 0 0 0 [some (.ref o), some (.int (nI m)), some (.int (nI m2)), none] [] (tw (xG E) o ad f g)
  have loop2 : ∀ j i g1, i + j = tL T → Fr [] [3, 4, 5, 6, 7, 8] f f g g1 → Bd m2 g g1 → g1 3 m2 = nI (tN T) → g1 7 m2 = nI (tL T) → (∀ i', i' < tN T → g1 4 (1500 * m2 + i') = g 4 (1500 * m + i') ∧ g1 5 (1500 * m2 + i') = g 5 (1500 * m + i') ∧ g1 6 (1500 * m2 + i') = g 6 (1500 * m + i')) → (∀ i', i' < i → g1 8 (4 * m2 + i') = nI (tE T i')) → G E 0 0 116 [some (.ref o), some (.int (nI m)), some (.int (nI m2)), some (.int (nI i))] [] (tw (xG E) o ad f g1) := by
    intro j
    induction j with
    | zero =>
      intro i g1 hi hF hB h3 h7 hr h8
      have e7 : g1 7 m = nI (tL T) := by rw [hB.2.1 m hne]; exact T7
      refine g_iload_3 (q := 117) C d_T_copy_116 rfl ?_
      refine g_aload_0 (q := 118) C d_T_copy_117 rfl ?_
      refine tg_31 (q := 121) C d_T_copy_118 rfl ?_
      refine g_iload_1 (q := 122) C d_T_copy_121 rfl ?_
      refine ta_7 (q := 123) C d_T_copy_122 rfl rfl (by omega) e7 ?_
      refine g_icmp_ge (q := 126) (tgt := 152) C d_T_copy_123 rfl (by decide) (fun hc => ?_) (fun hc => ?_)
      · refine g_vret C F d_T_copy_152 (Nat.le_refl _) (Nat.le_refl _) ⟨rfl, _, _, rfl, hF, hB, h3, h7, ?_, ?_, ?_, fun i' h0 hi' => ?_, fun i' hi' => h8 i' (by omega)⟩
        · exact ((hr 0 k1).1).trans T4
        · exact ((hr 0 k1).2.1).trans T5
        · exact ((hr 0 k1).2.2).trans T6
        · obtain ⟨a, b, c⟩ := hr i' hi'
          rw [a, b, c]; exact TR i' h0 hi'
      · exact absurd ((nI_leI (by omega) (by omega)).mpr (by omega)) hc
    | succ j ih =>
      intro i g1 hi hF hB h3 h7 hr h8
      have e7 : g1 7 m = nI (tL T) := by rw [hB.2.1 m hne]; exact T7
      have e8 : g1 8 (4 * m + i) = nI (tE T i) := by rw [hB.2.2.2 _ (by omega)]; exact T8 i (by omega)
      refine g_iload_3 (q := 117) C d_T_copy_116 rfl ?_
      refine g_aload_0 (q := 118) C d_T_copy_117 rfl ?_
      refine tg_31 (q := 121) C d_T_copy_118 rfl ?_
      refine g_iload_1 (q := 122) C d_T_copy_121 rfl ?_
      refine ta_7 (q := 123) C d_T_copy_122 rfl rfl (by omega) e7 ?_
      refine g_icmp_ge (q := 126) (tgt := 152) C d_T_copy_123 rfl (by decide) (fun hc => ?_) (fun hc => ?_)
      · exact absurd ((nI_leI (by omega) (by omega)).mp hc) (by omega)
      refine g_aload_0 (q := 127) C d_T_copy_126 rfl ?_
      refine tg_34 (q := 130) C d_T_copy_127 rfl ?_
      refine g_iconst (v := nI 4) (q := 131) C d_T_copy_130 rfl (by decide) ?_
      refine g_iload_2 (q := 132) C d_T_copy_131 rfl ?_
      refine g_imul (q := 133) C d_T_copy_132 rfl (pk_mul _ _) ?_
      refine g_iload_3 (q := 134) C d_T_copy_133 rfl ?_
      refine g_iadd (q := 135) C d_T_copy_134 rfl (nI_add _ _) ?_
      refine g_aload_0 (q := 136) C d_T_copy_135 rfl ?_
      refine tg_34 (q := 139) C d_T_copy_136 rfl ?_
      refine g_iconst (v := nI 4) (q := 140) C d_T_copy_139 rfl (by decide) ?_
      refine g_iload_1 (q := 141) C d_T_copy_140 rfl ?_
      refine g_imul (q := 142) C d_T_copy_141 rfl (pk_mul _ _) ?_
      refine g_iload_3 (q := 143) C d_T_copy_142 rfl ?_
      refine g_iadd (q := 144) C d_T_copy_143 rfl (nI_add _ _) ?_
      refine ta_8 (q := 145) C d_T_copy_144 rfl rfl (by omega) e8 ?_
      refine ts_8 (q := 146) C d_T_copy_145 rfl rfl (by omega) ?_
      refine g_iinc_3 (q := 149) C hL d_T_copy_146 rfl (nI_inc _) ?_
      refine g_goto (tgt := 116) C d_T_copy_149 (by decide) ?_
      refine ih (i + 1) _ (by omega) (hF.updA (by decide)) (hB.set (by omega)) h3 h7 hr (fun i' hi' => ?_)
      rw [updA_s]
      by_cases e : i' = i
      · rw [e, upd_s]
      · rw [upd_n (by omega)]; exact h8 i' (by omega)
  have loop1 : ∀ j i g1, i + j = tN T → Fr [] [3, 4, 5, 6, 7, 8] f f g g1 → Bd m2 g g1 → g1 3 m2 = nI (tN T) → g1 7 m2 = nI (tL T) → (∀ i', i' < i → g1 4 (1500 * m2 + i') = g 4 (1500 * m + i') ∧ g1 5 (1500 * m2 + i') = g 5 (1500 * m + i') ∧ g1 6 (1500 * m2 + i') = g 6 (1500 * m + i')) → G E 0 0 26 [some (.ref o), some (.int (nI m)), some (.int (nI m2)), some (.int (nI i))] [] (tw (xG E) o ad f g1) := by
    intro j
    induction j with
    | zero =>
      intro i g1 hi hF hB h3 h7 hr
      have e3 : g1 3 m = nI (tN T) := by rw [hB.1 m hne]; exact T3
      refine g_iload_3 (q := 27) C d_T_copy_26 rfl ?_
      refine g_aload_0 (q := 28) C d_T_copy_27 rfl ?_
      refine tg_19 (q := 31) C d_T_copy_28 rfl ?_
      refine g_iload_1 (q := 32) C d_T_copy_31 rfl ?_
      refine ta_3 (q := 33) C d_T_copy_32 rfl rfl (by omega) e3 ?_
      refine g_icmp_ge (q := 36) (tgt := 114) C d_T_copy_33 rfl (by decide) (fun hc => ?_) (fun hc => ?_)
      · refine g_iconst (v := nI 0) (q := 115) C d_T_copy_114 rfl (by decide) ?_
        refine g_istore_3 (q := 116) C hL d_T_copy_115 rfl ?_
        exact loop2 (tL T) 0 g1 (by omega) hF hB h3 h7 (fun i' hi' => hr i' (by omega)) (fun i' hi' => absurd hi' (Nat.not_lt_zero _))
      · exact absurd ((nI_leI (by omega) (by omega)).mpr (by omega)) hc
    | succ j ih =>
      intro i g1 hi hF hB h3 h7 hr
      have e3 : g1 3 m = nI (tN T) := by rw [hB.1 m hne]; exact T3
      obtain ⟨e4, e5, e6⟩ := hB.2.2.1 (1500 * m + i) (by omega)
      refine g_iload_3 (q := 27) C d_T_copy_26 rfl ?_
      refine g_aload_0 (q := 28) C d_T_copy_27 rfl ?_
      refine tg_19 (q := 31) C d_T_copy_28 rfl ?_
      refine g_iload_1 (q := 32) C d_T_copy_31 rfl ?_
      refine ta_3 (q := 33) C d_T_copy_32 rfl rfl (by omega) e3 ?_
      refine g_icmp_ge (q := 36) (tgt := 114) C d_T_copy_33 rfl (by decide) (fun hc => ?_) (fun hc => ?_)
      · exact absurd ((nI_leI (by omega) (by omega)).mp hc) (by omega)
      refine g_aload_0 (q := 37) C d_T_copy_36 rfl ?_
      refine tg_22 (q := 40) C d_T_copy_37 rfl ?_
      refine g_sipush (v := nI 1500) (q := 43) C d_T_copy_40 rfl (by decide) ?_
      refine g_iload_2 (q := 44) C d_T_copy_43 rfl ?_
      refine g_imul (q := 45) C d_T_copy_44 rfl (pk_mul _ _) ?_
      refine g_iload_3 (q := 46) C d_T_copy_45 rfl ?_
      refine g_iadd (q := 47) C d_T_copy_46 rfl (nI_add _ _) ?_
      refine g_aload_0 (q := 48) C d_T_copy_47 rfl ?_
      refine tg_22 (q := 51) C d_T_copy_48 rfl ?_
      refine g_sipush (v := nI 1500) (q := 54) C d_T_copy_51 rfl (by decide) ?_
      refine g_iload_1 (q := 55) C d_T_copy_54 rfl ?_
      refine g_imul (q := 56) C d_T_copy_55 rfl (pk_mul _ _) ?_
      refine g_iload_3 (q := 57) C d_T_copy_56 rfl ?_
      refine g_iadd (q := 58) C d_T_copy_57 rfl (nI_add _ _) ?_
      refine ta_4 (q := 59) C d_T_copy_58 rfl rfl (by omega) e4 ?_
      refine ts_4 (q := 60) C d_T_copy_59 rfl rfl (by omega) ?_
      refine g_aload_0 (q := 61) C d_T_copy_60 rfl ?_
      refine tg_25 (q := 64) C d_T_copy_61 rfl ?_
      refine g_sipush (v := nI 1500) (q := 67) C d_T_copy_64 rfl (by decide) ?_
      refine g_iload_2 (q := 68) C d_T_copy_67 rfl ?_
      refine g_imul (q := 69) C d_T_copy_68 rfl (pk_mul _ _) ?_
      refine g_iload_3 (q := 70) C d_T_copy_69 rfl ?_
      refine g_iadd (q := 71) C d_T_copy_70 rfl (nI_add _ _) ?_
      refine g_aload_0 (q := 72) C d_T_copy_71 rfl ?_
      refine tg_25 (q := 75) C d_T_copy_72 rfl ?_
      refine g_sipush (v := nI 1500) (q := 78) C d_T_copy_75 rfl (by decide) ?_
      refine g_iload_1 (q := 79) C d_T_copy_78 rfl ?_
      refine g_imul (q := 80) C d_T_copy_79 rfl (pk_mul _ _) ?_
      refine g_iload_3 (q := 81) C d_T_copy_80 rfl ?_
      refine g_iadd (q := 82) C d_T_copy_81 rfl (nI_add _ _) ?_
      refine ta_5 (q := 83) C d_T_copy_82 rfl rfl (by omega) e5 ?_
      refine ts_5 (q := 84) C d_T_copy_83 rfl rfl (by omega) ?_
      refine g_aload_0 (q := 85) C d_T_copy_84 rfl ?_
      refine tg_28 (q := 88) C d_T_copy_85 rfl ?_
      refine g_sipush (v := nI 1500) (q := 91) C d_T_copy_88 rfl (by decide) ?_
      refine g_iload_2 (q := 92) C d_T_copy_91 rfl ?_
      refine g_imul (q := 93) C d_T_copy_92 rfl (pk_mul _ _) ?_
      refine g_iload_3 (q := 94) C d_T_copy_93 rfl ?_
      refine g_iadd (q := 95) C d_T_copy_94 rfl (nI_add _ _) ?_
      refine g_aload_0 (q := 96) C d_T_copy_95 rfl ?_
      refine tg_28 (q := 99) C d_T_copy_96 rfl ?_
      refine g_sipush (v := nI 1500) (q := 102) C d_T_copy_99 rfl (by decide) ?_
      refine g_iload_1 (q := 103) C d_T_copy_102 rfl ?_
      refine g_imul (q := 104) C d_T_copy_103 rfl (pk_mul _ _) ?_
      refine g_iload_3 (q := 105) C d_T_copy_104 rfl ?_
      refine g_iadd (q := 106) C d_T_copy_105 rfl (nI_add _ _) ?_
      refine ta_6 (q := 107) C d_T_copy_106 rfl rfl (by omega) e6 ?_
      refine ts_6 (q := 108) C d_T_copy_107 rfl rfl (by omega) ?_
      refine g_iinc_3 (q := 111) C hL d_T_copy_108 rfl (nI_inc _) ?_
      refine g_goto (tgt := 26) C d_T_copy_111 (by decide) ?_
      refine ih (i + 1) _ (by omega) (((hF.updA (by decide)).updA (by decide)).updA (by decide)) (((hB.set (by omega)).set (by omega)).set (by omega)) h3 h7 (fun i' hi' => ?_)
      show upd (g1 4) _ _ _ = _ ∧ upd (g1 5) _ _ _ = _ ∧ upd (g1 6) _ _ _ = _
      by_cases e : i' = i
      · rw [e, upd_s, upd_s, upd_s]; exact ⟨rfl, rfl, rfl⟩
      · rw [upd_n (by omega), upd_n (by omega), upd_n (by omega)]; exact hr i' (by omega)
  refine g_aload_0 (q := 1) C d_T_copy_0 rfl ?_
  refine tg_19 (q := 4) C d_T_copy_1 rfl ?_
  refine g_iload_2 (q := 5) C d_T_copy_4 rfl ?_
  refine g_aload_0 (q := 6) C d_T_copy_5 rfl ?_
  refine tg_19 (q := 9) C d_T_copy_6 rfl ?_
  refine g_iload_1 (q := 10) C d_T_copy_9 rfl ?_
  refine ta_3 (q := 11) C d_T_copy_10 rfl rfl (by omega) T3 ?_
  refine ts_3 (q := 12) C d_T_copy_11 rfl rfl (by omega) ?_
  refine g_aload_0 (q := 13) C d_T_copy_12 rfl ?_
  refine tg_31 (q := 16) C d_T_copy_13 rfl ?_
  refine g_iload_2 (q := 17) C d_T_copy_16 rfl ?_
  refine g_aload_0 (q := 18) C d_T_copy_17 rfl ?_
  refine tg_31 (q := 21) C d_T_copy_18 rfl ?_
  refine g_iload_1 (q := 22) C d_T_copy_21 rfl ?_
  refine ta_7 (q := 23) C d_T_copy_22 rfl rfl (by omega) T7 ?_
  refine ts_7 (q := 24) C d_T_copy_23 rfl rfl (by omega) ?_
  refine g_iconst (v := nI 0) (q := 25) C d_T_copy_24 rfl (by decide) ?_
  refine g_istore_3 (q := 26) C hL d_T_copy_25 rfl ?_
  exact loop1 (tN T) 0 _ (by omega) ((Fr.rf.updA (by decide)).updA (by decide)) ((Bd.rf.set (by omega)).set (by omega)) upd_s upd_s (fun i' hi' => absurd hi' (Nat.not_lt_zero _))
end
