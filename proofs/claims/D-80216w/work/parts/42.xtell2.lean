/-! PpmTrees: tell -/
/-- a child's count -/
theorem ct_c {T : Tr} {e : Nat → Bool} {v b c : Nat} (h : chT T v b = c) (hc : c ≠ 0) : ct T e v b = if e b then 0 else tC T c := by
  show (if e b then 0 else if chT T v b = 0 then 0 else tC T (chT T v b)) = _
  rw [h, if_neg hc]
def eb (e : Nat → Bool) (t : Nat → Nat) (β : Nat) : Nat → Bool := fun b => e b || (decide (b < β) && decide (0 < t b))
theorem x_swap {Γ : Gl} {x : Nat} {A : Nat → Nat} {f : Nat → Int32} {g : Nat → Nat → Int32} {W : va_W} : (xw Γ x A f g ++ W).Perm ([(A 0, .inl (Γ.2 1, 257, .inl (g 0)))] ++ ((x, .inr (1, xfs A f)) :: ((xw Γ x A f g).drop 2 ++ W))) := by
  show List.Perm ((x, (.inr (1, xfs A f) : va_E)) :: (A 0, (.inl (Γ.2 1, 257, .inl (g 0)) : va_E)) :: ((xw Γ x A f g).drop 2 ++ W)) ((A 0, (.inl (Γ.2 1, 257, .inl (g 0)) : va_E)) :: (x, (.inr (1, xfs A f) : va_E)) :: ((xw Γ x A f g).drop 2 ++ W))
  exact List.Perm.swap _ _ _
section
variable {l : Launch} {Γ : Gl} {x t a ord rm : Nat} {A b : Nat → Nat} {f fm : Nat → Int32} {g gm : Nat → Nat → Int32} {T : Tr} {out : Nat → Nat} {os : Nat} {α : Type} {Q : α → va_W → Prop} {pt : α → Nat → Int32} {step : α → Sp → α} {okP : α → Nat → Prop} {adm : α → Sp → Prop} {Inv : Nat → (Nat → Bool) → Nat → α → Prop}
theorem c_X_tell (hK : TK l Γ x A out os Q pt step okP adm t) (hO : XO f g out os) (hM : MR fm gm ord rm T) (hI : TI ord rm T) {arg : Int32} {sg : Nat} {s : α} {w : va_W} (hQ : Q s w) (hsg : sg ≤ 256) (hKI : TKI T sg arg pt step okP adm Inv) (hInv : Inv (tL T + 1) (fun _ => false) 0 s) :
    Ct l Γ y_X_tell b_X_tell 11 (some .int) 7 0 0 [.ref x, .ref a, .int arg, .ref t] (xw Γ x A f g ++ (mw Γ a b rm fm gm ++ w)) (fun r w' => r = some (.int (nI sg)) ∧ ∃ f' g' w2, Q ((tell T sg).1.foldl step s) w2 ∧ w' = xw Γ x A f' g' ++ (mw Γ a b rm fm gm ++ w2) ∧ Fr [0, 1, 2] [0] f f' g g' ∧ f' 0 = nI (tell T sg).2.2.1 ∧ f' 2 = fenc (tell T sg).2.1 ∧ f' 1 = f 1 + nI (tell T sg).2.2.2) := by
  have hK' := hK
  obtain ⟨cls, ci, TT, N, yP, bP, mP, yT, bT, mT, dP, F1, F2, hcl, hdP, hwt, hPt, hTk⟩ := hK'
  obtain ⟨⟨M0, M1, M2, M3⟩, -, MRw, MF, M5⟩ := id hM
  obtain ⟨hk, hcx, -, hS⟩ := id hI
  have hrm : rm ≤ 1500 := hk.2.2.1
  have hn := hk.2.1
  have hn1 := hk.1
  have hl4 := hI.l
  obtain ⟨hLev, hFlat⟩ := hKI
  refine Ct.of (by decide) (by simp [Value.category]) (Nat.le_of_ble_eq_true rfl) (fun E eG el en C hR F hnm => ?_)
  subst eG
  subst el
  have hL : 11 ≤ xn E := Nat.le_of_eq en.symm
  show G E 0 0 0 [some (.ref x), some (.ref a), some (.int arg), some (.ref t), none, none, none, none, none, none, none] [] (xw (xG E) x A f g ++ (mw (xG E) a b rm fm gm ++ w))
  have level : ∀ (kk : Nat) (e : Nat → Bool) (n : Nat) (s1 : α) (w1 : va_W) (f1 : Nat → Int32) (g1 : Nat → Nat → Int32) (es : Nat) (l5 l6 l7 l8 l9 l10 : Option Value), kk ≤ tL T + 1 → EI e n → Q s1 w1 → Inv kk e n s1 → EXx g1 e → f1 0 = nI n → Fr [0, 1, 2] [0] f f1 g g1 → f1 1 = f 1 + nI es → (tl T sg kk e n).1.foldl step s1 = (tell T sg).1.foldl step s → (tl T sg kk e n).2.1 = (tell T sg).2.1 → (tl T sg kk e n).2.2.1 = (tell T sg).2.2.1 → es + (tl T sg kk e n).2.2.2 = (tell T sg).2.2.2 →
      G E 0 0 19 [some (.ref x), some (.ref a), some (.int arg), some (.ref t), some (.int (dk kk)), l5, l6, l7, l8, l9, l10] [] (xw (xG E) x A f1 g1 ++ (mw (xG E) a b rm fm gm ++ w1)) := by
    intro kk
    induction kk with
    | zero =>
      intro e n s1 w1 f1 g1 es l5 l6 l7 l8 l9 l10 hkk hE hQ1 hI1 hX h0 hF hes t1 t2 t3 t4
      have hO1 : XO f1 g1 out os := hO.keep (hF.1 4 (by decide)) (hF.2 4 (by decide))
      obtain ⟨p1, p2, p3, p4⟩ := hFlat e n s1 hE hI1
      refine g_iload_4 (q := 21) C d_X_tell_19 rfl ?_
      refine g_if_lt (q := 24) (tgt := 326) C d_X_tell_21 rfl (by decide) (fun hc => ?_) (fun hc => ?_)
      · refine g_aload_0 (q := 327) C d_X_tell_326 rfl ?_
        refine g_iload_2 (q := 328) C d_X_tell_327 rfl ?_
        refine g_aload_3 (q := 329) C d_X_tell_328 rfl ?_
        refine g_perm (perm_am _ _ _) ?_
        refine xc_63 (q := 332) (fs := xfs A f1) C hR (c_X_flat hK hO1 hQ1 hE hX h0 hsg p1 p2 p3 p4) rfl d_X_tell_329 rfl (by decide) (by decide) (by decide) (Nat.le_of_ble_eq_true rfl) (fun v ws' hp => ?_)
        obtain ⟨rfl, w2, hQ2, rfl⟩ := hp
        refine g_perm (perm_am _ _ _).symm ?_
        exact g_iret C F d_X_tell_332 (Nat.le_refl _) (Nat.le_refl _) ⟨rfl, _, _, w2, by rw [← t1]; exact hQ2, rfl, hF.upd (by decide), by rw [← t3]; exact h0, by rw [← t2]; rfl, by rw [← t4]; exact hes⟩
      · exact absurd (by decide) hc
    | succ k ih =>
      intro e n s1 w1 f1 g1 es l5 l6 l7 l8 l9 l10 hkk hE hQ1 hI1 hX h0 hF hes t1 t2 t3 t4
      have h0' := h0
      have hO1 : XO f1 g1 out os := hO.keep (hF.1 4 (by decide)) (hF.2 4 (by decide))
      obtain ⟨hz, hnz⟩ := hLev k e n s1 (by omega) hE hI1
      rw [dk_s]
      refine g_iload_4 (q := 21) C d_X_tell_19 rfl ?_
      refine g_if_lt (q := 24) (tgt := 326) C d_X_tell_21 rfl (by decide) (fun hc => ?_) (fun hc => ?_)
      · exact absurd hc (Int32.not_lt.mpr (nI_pos' (by omega)))
      refine g_aload_1 (q := 25) C d_X_tell_24 rfl ?_
      refine g_iload_4 (q := 27) C d_X_tell_25 rfl ?_
      refine g_perm (List.perm_append_comm_assoc _ _ _) ?_
      refine xc_31 (q := 30) (fs := mfs b fm) C hR (c_Mo_context hM hk hcx (by omega)) rfl d_X_tell_27 rfl (by decide) (by decide) (by decide) (Nat.le_of_ble_eq_true rfl) (fun v ws' hp => ?_)
      obtain ⟨z, f', g', rfl, rfl, rfl, rfl, rfl⟩ := hp
      refine g_perm (List.perm_append_comm_assoc _ _ _) ?_
      show G E 0 0 30 _ [.int (nI (cx T k))] (xw (xG E) x A f1 g1 ++ (mw (xG E) a b rm f' g' ++ w1))
      have hcxl : cx T k < tN T := cxp_lt hn1 k k
      have hsum := ct_sum hk hS e (cx T k)
      have hnb := nz_bl (t := ct T e (cx T k)) 256
      have hctc : ∀ β c, chT T (cx T k) β = c → c ≠ 0 → ct T e (cx T k) β = if e β then 0 else tC T c := fun β c h1 h2 => ct_c h1 h2
      have hct0 : ∀ β, chT T (cx T k) β = 0 → ct T e (cx T k) β = 0 := fun β h => ct_0 h
      have hfch : sg < 256 ∧ 0 < ct T e (cx T k) sg → chT T (cx T k) sg ≠ 0 := fun h q => by have := hct0 sg q; omega
      generalize hct : ct T e (cx T k) = ta at *
      generalize hvv : cx T k = v at *
      -- the next level
      have h320 : ∀ (e' : Nat → Bool) (n' : Nat) (s2 : α) (w2 : va_W) (f2 : Nat → Int32) (g2 : Nat → Nat → Int32) (es' : Nat) (m5 m6 m7 m8 m9 m10 : Option Value), EI e' n' → Q s2 w2 → Inv k e' n' s2 → EXx g2 e' → f2 0 = nI n' → Fr [0, 1, 2] [0] f f2 g g2 → f2 1 = f 1 + nI es' → (tl T sg k e' n').1.foldl step s2 = (tell T sg).1.foldl step s → (tl T sg k e' n').2.1 = (tell T sg).2.1 → (tl T sg k e' n').2.2.1 = (tell T sg).2.2.1 → es' + (tl T sg k e' n').2.2.2 = (tell T sg).2.2.2 →
          G E 0 0 320 [some (.ref x), some (.ref a), some (.int arg), some (.ref t), some (.int (nI k)), m5, m6, m7, m8, m9, m10] [] (xw (xG E) x A f2 g2 ++ (mw (xG E) a b rm f' g' ++ w2)) := by
        intro e' n' s2 w2 f2 g2 es' m5 m6 m7 m8 m9 m10 q1 q2 q3 q4 q5 q6 q7 q8 q9 q10 q11
        refine g_iinc_4 (q := 323) C hL d_X_tell_320 rfl (dk_dec k) ?_
        refine g_goto (tgt := 19) C d_X_tell_323 (by decide) ?_
        exact ih e' n' s2 w2 f2 g2 es' m5 m6 m7 m8 m9 m10 (by omega) q1 q2 q3 q4 q5 q6 q7 q8 q9 q10 q11
      -- all are told
      have h97 : ∀ m8 m9 m10, G E 0 0 97 [some (.ref x), some (.ref a), some (.int arg), some (.ref t), some (.int (nI k)), some (.int (nI v)), some (.int (nI (bl ta 256))), some (.int (nI (nz ta 256))), m8, m9, m10] [] (xw (xG E) x A f1 g1 ++ (mw (xG E) a b rm f' g' ++ w1)) := by
        intro m8 m9 m10
        refine g_iload_7 (q := 99) C d_X_tell_97 rfl ?_
        refine g_if_ne (q := 102) (tgt := 105) C d_X_tell_99 rfl (by decide) (fun hq => ?_) (fun hq => ?_)
        · have hq : nz ta 256 ≠ 0 := fun q => hq (by rw [q]; rfl)
          obtain ⟨okp, sel, adF, adE⟩ := hnz hq
          obtain ⟨fs, hwt1⟩ := hwt s1 w1 f1 g1 hQ1
          refine g_aload_3 (q := 106) C d_X_tell_105 rfl ?_
          refine g_iload_6 (q := 108) C d_X_tell_106 rfl ?_
          refine g_iload_7 (q := 110) C d_X_tell_108 rfl ?_
          refine g_iadd (q := 111) C d_X_tell_110 rfl (nI_add _ _) ?_
          refine g_perm (perm_am _ _ _) ?_
          refine g_callFW (q := 116) (As := [.int (nI (bl ta 256 + nz ta 256))]) (rest := []) C hR F1 (hPt s1 w1 f1 g1 _ hO1 hQ1 okp) 10 hcl hwt1 d_X_tell_111 rfl rfl (by omega) (by decide) (by decide) (Nat.le_of_ble_eq_true rfl) (fun v' ws' hp => ?_)
          obtain ⟨rfl, rfl⟩ := hp
          refine g_perm (perm_am _ _ _).symm ?_
          generalize hpv : pt s1 (bl ta 256 + nz ta 256) = pv at *
          show G E 0 0 116 _ [.int pv] (xw (xG E) x A f1 g1 ++ (mw (xG E) a b rm f' g' ++ w1))
          -- it isn't found here: an escape
          have h245 : ¬ (sg < 256 ∧ 0 < ta sg) → ∀ m8 m9 m10, G E 0 0 245 [some (.ref x), some (.ref a), some (.int arg), some (.ref t), some (.int (nI k)), some (.int (nI v)), some (.int (nI (bl ta 256))), some (.int (nI (nz ta 256))), m8, m9, m10] [] (xw (xG E) x A f1 g1 ++ (mw (xG E) a b rm f' g' ++ w1)) := by
            intro hnf m8 m9 m10
            obtain ⟨ad1, inv1⟩ := adE hnf
            have htl := tl_e (T := T) (s := sg) (k := k) (x := n) (e := e) (by rw [hvv, hct]; exact hq) (by rw [hvv, hct]; exact hnf)
            rw [hvv, hct] at htl
            rw [htl] at t1 t2 t3 t4
            obtain ⟨dT, hdT, hMt⟩ := hTk s1 w1 f1 g1 (bl ta 256, nz ta 256, bl ta 256 + nz ta 256) hO1 hQ1 (esc_ok hsum hq) ad1
            refine g_aload_3 (q := 246) C d_X_tell_245 rfl ?_
            refine g_iload_6 (q := 248) C d_X_tell_246 rfl ?_
            refine g_iload_7 (q := 250) C d_X_tell_248 rfl ?_
            refine g_iload_6 (q := 252) C d_X_tell_250 rfl ?_
            refine g_iload_7 (q := 254) C d_X_tell_252 rfl ?_
            refine g_iadd (q := 255) C d_X_tell_254 rfl (nI_add _ _) ?_
            refine g_perm (perm_am _ _ _) ?_
            refine g_callFW (q := 260) (As := [.int (nI (bl ta 256)), .int (nI (nz ta 256)), .int (nI (bl ta 256 + nz ta 256))]) (rest := []) C hR F2 hMt 10 hcl hwt1 d_X_tell_255 rfl rfl (by omega) (by decide) (by decide) (Nat.le_of_ble_eq_true rfl) (fun v' ws' hp => ?_)
            obtain ⟨rfl, w2, hQ2, rfl⟩ := hp
            refine g_perm (perm_am _ _ _).symm ?_
            show G E 0 0 260 _ [] (xw (xG E) x A f1 g1 ++ (mw (xG E) a b rm f' g' ++ w2))
            have marks : ∀ j β, β + j = 256 → ∀ (f2 : Nat → Int32) (g2 : Nat → Nat → Int32), EXx g2 (eb e ta β) → f2 0 = nI (n + nz ta 256) → Fr [0, 1, 2] [0] f f2 g g2 → f2 1 = f 1 + nI (es + 1) → G E 0 0 290 [some (.ref x), some (.ref a), some (.int arg), some (.ref t), some (.int (nI k)), some (.int (nI v)), some (.int (nI (bl ta 256))), some (.int (nI (nz ta 256))), m8, m9, some (.int (nI (nb T v β)))] [] (xw (xG E) x A f2 g2 ++ (mw (xG E) a b rm f' g' ++ w2)) := by
              intro j
              induction j using Nat.strongRecOn with
              | ind j ihj =>
                intro β hj f2 g2 hX2 h02 hF2 hes2
                have hlt := nb_lt (v := v) (b := β) hk (by omega)
                by_cases h0 : nb T v β = 0
                · have hz := nb_zero (by omega) h0
                  rw [h0]
                  refine g_iload_10 (q := 292) C d_X_tell_290 rfl ?_
                  refine g_if_le (q := 295) (tgt := 320) C d_X_tell_292 rfl (by decide) (fun hx => ?_) (fun hx => ?_)
                  · have hE2 := hE.ex (T := T) (v := v)
                    rw [hct] at hE2
                    refine h320 (ex e ta) (n + nz ta 256) _ w2 f2 g2 (es + 1) _ _ _ _ _ _ hE2 hQ2 inv1 (fun b' hb => ?_) h02 hF2 hes2 t1 t2 t3 (by simp only at t4 ⊢; omega)
                    rw [hX2 b' hb]
                    have : eb e ta β b' = ex e ta b' := by
                      unfold eb ex
                      by_cases h1 : b' < β
                      · simp [h1, show b' < 256 by omega]
                      · by_cases h2 : b' < 256
                        · have := hct0 b' (hz b' (by omega) h2)
                          simp [h1, h2, this]
                        · simp [h1, h2]
                    rw [this]
                  · exact absurd (by decide) hx
                · obtain ⟨p1, p2, p3, p4, p5, p6⟩ := nb_get hk (by omega) h0
                  obtain ⟨r1, r2, r3, r4⟩ := MRw _ (Nat.pos_of_ne_zero h0) p1
                  rw [p2] at r4
                  generalize hcc : nb T v β = y at *
                  have hty := hctc _ y p5 h0
                  have hpos := (hk.2.2.2.2.2.2.1 y (Nat.pos_of_ne_zero h0) p1).2.2
                  refine g_iload_10 (q := 292) C d_X_tell_290 rfl ?_
                  refine g_if_le (q := 295) (tgt := 320) C d_X_tell_292 rfl (by decide) (fun hx => ?_) (fun hx => ?_)
                  · exact absurd ((nILe0 (by omega)).mp hx) h0
                  refine g_aload_0 (q := 296) C d_X_tell_295 rfl ?_
                  refine xg_10 (q := 299) C d_X_tell_296 rfl ?_
                  refine g_aload_1 (q := 300) C d_X_tell_299 rfl ?_
                  refine xm_39 (q := 303) C d_X_tell_300 rfl ?_
                  refine g_iload_10 (q := 305) C d_X_tell_303 rfl ?_
                  refine xma_1 (q := 306) C hrm d_X_tell_305 rfl rfl (by omega) r2 ?_
                  refine g_iconst (v := nI 1) (q := 307) C d_X_tell_306 rfl (by decide) ?_
                  refine xs_0 (q := 308) C d_X_tell_307 rfl rfl (by omega) ?_
                  refine g_aload_1 (q := 309) C d_X_tell_308 rfl ?_
                  refine xm_45 (q := 312) C d_X_tell_309 rfl ?_
                  refine g_iload_10 (q := 314) C d_X_tell_312 rfl ?_
                  refine xma_4 (q := 315) C hrm d_X_tell_314 rfl rfl (by omega) r4 ?_
                  refine g_istore_10 (q := 317) C hL d_X_tell_315 rfl ?_
                  refine g_goto (tgt := 290) C d_X_tell_317 (by decide) ?_
                  refine ihj (256 - (tB T y + 1)) (by omega) (tB T y + 1) (by omega) f2 _ (fun b' hb => ?_) h02 (hF2.updA (by decide)) hes2
                  by_cases hbb : b' = tB T y
                  · subst hbb
                    have hebt : eb e ta (tB T y + 1) (tB T y) = true := by
                      unfold eb
                      cases q : e (tB T y) with
                      | true => rfl
                      | false =>
                        rw [q, if_neg Bool.false_ne_true] at hty
                        simp [hty, hpos]
                    rw [hebt]
                    show upd (g2 0) (tB T y) _ (tB T y) = _
                    rw [upd_s]; rfl
                  · show upd (g2 0) (tB T y) _ b' = _
                    rw [upd_n hbb, hX2 b' hb]
                    have : eb e ta β b' = eb e ta (tB T y + 1) b' := by
                      unfold eb
                      by_cases h1 : b' < β
                      · simp [h1, show b' < tB T y + 1 by omega]
                      · by_cases h2 : b' < tB T y + 1
                        · have := hct0 b' (p6 b' (by omega) (by omega))
                          simp [h1, h2, this]
                        · simp [h1, h2]
                    rw [this]
            refine g_aload_0 (q := 261) C d_X_tell_260 rfl ?_
            refine g_dup_r (q := 262) C d_X_tell_261 rfl ?_
            refine xg_60 (q := 265) C d_X_tell_262 rfl rfl ?_
            refine g_iconst (v := nI 1) (q := 266) C d_X_tell_265 rfl (by decide) ?_
            refine g_iadd (q := 267) C d_X_tell_266 rfl (show f1 1 + nI 1 = f 1 + nI (es + 1) by rw [hes, Int32.add_assoc, nI_add]) ?_
            refine xp_60 (q := 270) C d_X_tell_267 rfl ?_
            refine g_aload_0 (q := 271) C d_X_tell_270 rfl ?_
            refine g_dup_r (q := 272) C d_X_tell_271 rfl ?_
            refine xg_22 (q := 275) C d_X_tell_272 rfl h0 ?_
            refine g_iload_7 (q := 277) C d_X_tell_275 rfl ?_
            refine g_iadd (q := 278) C d_X_tell_277 rfl (nI_add _ _) ?_
            refine xp_22 (q := 281) C d_X_tell_278 rfl ?_
            refine g_aload_1 (q := 282) C d_X_tell_281 rfl ?_
            refine xm_35 (q := 285) C d_X_tell_282 rfl ?_
            refine g_iload_5 (q := 287) C d_X_tell_285 rfl ?_
            refine xma_3 (q := 288) C hrm d_X_tell_287 rfl rfl (by omega) (MF v hcxl) ?_
            refine g_istore_10 (q := 290) C hL d_X_tell_288 rfl ?_
            refine marks 256 0 (by omega) _ _ (fun b' hb => ?_) rfl ((hF.upd (by decide)).upd (by decide)) rfl
            rw [hX b' hb]
            have : eb e ta 0 b' = e b' := by unfold eb; simp
            rw [this]
          have pick : ∀ j β, β + j = 256 → (sg < 256 ∧ 0 < ta sg → β ≤ sg) → G E 0 0 130 [some (.ref x), some (.ref a), some (.int arg), some (.ref t), some (.int (nI k)), some (.int (nI v)), some (.int (nI (bl ta 256))), some (.int (nI (nz ta 256))), some (.int pv), some (.int (nI (bl ta β))), some (.int (nI (nb T v β)))] [] (xw (xG E) x A f1 g1 ++ (mw (xG E) a b rm f' g' ++ w1)) := by
            intro j
            induction j using Nat.strongRecOn with
            | ind j ihj =>
              intro β hj hfβ
              have hlt := nb_lt (v := v) (b := β) hk (by omega)
              by_cases h0 : nb T v β = 0
              · have hz := nb_zero (by omega) h0
                rw [h0]
                refine g_iload_10 (q := 132) C d_X_tell_130 rfl ?_
                refine g_if_le (q := 135) (tgt := 245) C d_X_tell_132 rfl (by decide) (fun hx => ?_) (fun hx => ?_)
                · exact h245 (fun q => hfch q (hz sg (hfβ q) q.1)) _ _ _
                · exact absurd (by decide) hx
              · obtain ⟨p1, p2, p3, p4, p5, p6⟩ := nb_get hk (by omega) h0
                obtain ⟨r1, r2, r3, r4⟩ := MRw _ (Nat.pos_of_ne_zero h0) p1
                rw [p2] at r4
                generalize hcc : nb T v β = y at *
                have hty := hctc _ y p5 h0
                have hpos := (hk.2.2.2.2.2.2.1 y (Nat.pos_of_ne_zero h0) p1).2.2
                have e1 : bl ta β = bl ta (tB T y) := bl_gap p3 (fun γ h1 h2 => hct0 γ (p6 γ h1 h2))
                have hx0 := hX (tB T y) (by omega)
                have hge : sg < 256 ∧ 0 < ta sg → tB T y ≤ sg := fun q => Nat.le_of_not_lt (fun q2 => hfch q (p6 sg (hfβ q) q2))
                have hblc := bl_le (t := ta) p4
                have hgo : (sg < 256 ∧ 0 < ta sg → tB T y ≠ sg) → _ := fun q => ihj (256 - (tB T y + 1)) (by omega) (tB T y + 1) (by omega) (fun q2 => by have := hge q2; have := q q2; omega)
                rw [show bl ta (tB T y + 1) = bl ta β + ta (tB T y) by rw [e1]; rfl] at hgo
                refine g_iload_10 (q := 132) C d_X_tell_130 rfl ?_
                refine g_if_le (q := 135) (tgt := 245) C d_X_tell_132 rfl (by decide) (fun hx => ?_) (fun hx => ?_)
                · exact absurd ((nILe0 (by omega)).mp hx) h0
                refine g_aload_0 (q := 136) C d_X_tell_135 rfl ?_
                refine xg_10 (q := 139) C d_X_tell_136 rfl ?_
                refine g_aload_1 (q := 140) C d_X_tell_139 rfl ?_
                refine xm_39 (q := 143) C d_X_tell_140 rfl ?_
                refine g_iload_10 (q := 145) C d_X_tell_143 rfl ?_
                refine xma_1 (q := 146) C hrm d_X_tell_145 rfl rfl (by omega) r2 ?_
                refine xa_0 (q := 147) C d_X_tell_146 rfl rfl (by omega) hx0 ?_
                refine g_if_eq (q := 150) (tgt := 153) C d_X_tell_147 rfl (by decide) (fun hxe => ?_) (fun hxe => ?_)
                · have he : e (tB T y) = false := by
                    cases q : e (tB T y) with
                    | false => rfl
                    | true => rw [q] at hxe; exact absurd hxe (by decide)
                  rw [he, if_neg Bool.false_ne_true] at hty
                  rw [hty] at hgo hblc
                  have h221 : (sg < 256 ∧ 0 < ta sg → tB T y ≠ sg) → G E 0 0 221 [some (.ref x), some (.ref a), some (.int arg), some (.ref t), some (.int (nI k)), some (.int (nI v)), some (.int (nI (bl ta 256))), some (.int (nI (nz ta 256))), some (.int pv), some (.int (nI (bl ta β))), some (.int (nI y))] [] (xw (xG E) x A f1 g1 ++ (mw (xG E) a b rm f' g' ++ w1)) := by
                    intro q
                    refine g_iload_9 (q := 223) C d_X_tell_221 rfl ?_
                    refine g_aload_1 (q := 224) C d_X_tell_223 rfl ?_
                    refine xm_42 (q := 227) C d_X_tell_224 rfl ?_
                    refine g_iload_10 (q := 229) C d_X_tell_227 rfl ?_
                    refine xma_2 (q := 230) C hrm d_X_tell_229 rfl rfl (by omega) r3 ?_
                    refine g_iadd (q := 231) C d_X_tell_230 rfl (nI_add _ _) ?_
                    refine g_istore_9 (q := 233) C hL d_X_tell_231 rfl ?_
                    refine g_aload_1 (q := 234) C d_X_tell_233 rfl ?_
                    refine xm_45 (q := 237) C d_X_tell_234 rfl ?_
                    refine g_iload_10 (q := 239) C d_X_tell_237 rfl ?_
                    refine xma_4 (q := 240) C hrm d_X_tell_239 rfl rfl (by omega) r4 ?_
                    refine g_istore_10 (q := 242) C hL d_X_tell_240 rfl ?_
                    refine g_goto (tgt := 130) C d_X_tell_242 (by decide) ?_
                    exact hgo q
                  have h187 : tB T y = sg → G E 0 0 187 [some (.ref x), some (.ref a), some (.int arg), some (.ref t), some (.int (nI k)), some (.int (nI v)), some (.int (nI (bl ta 256))), some (.int (nI (nz ta 256))), some (.int pv), some (.int (nI (bl ta β))), some (.int (nI y))] [] (xw (xG E) x A f1 g1 ++ (mw (xG E) a b rm f' g' ++ w1)) := by
                    intro q
                    rw [q] at hty e1 p4 r2
                    have hfd : sg < 256 ∧ 0 < ta sg := ⟨p4, by omega⟩
                    have htl := tl_f (T := T) (s := sg) (k := k) (x := n) (e := e) (by rw [hvv, hct]; exact hq) (by rw [hvv, hct]; exact hfd)
                    rw [hvv, hct] at htl
                    rw [htl] at t1 t2 t3 t4
                    obtain ⟨dT, hdT, hMt⟩ := hTk s1 w1 f1 g1 (bl ta sg, ta sg, bl ta 256 + nz ta 256) hO1 hQ1 (sp_ok hsum hfd) (adF hfd)
                    rw [e1]
                    refine g_aload_3 (q := 188) C d_X_tell_187 rfl ?_
                    refine g_iload_9 (q := 190) C d_X_tell_188 rfl ?_
                    refine g_aload_1 (q := 191) C d_X_tell_190 rfl ?_
                    refine xm_42 (q := 194) C d_X_tell_191 rfl ?_
                    refine g_iload_10 (q := 196) C d_X_tell_194 rfl ?_
                    refine xma_2 (q := 197) C hrm d_X_tell_196 rfl rfl (by omega) (r3.trans (by rw [← hty])) ?_
                    refine g_iload_6 (q := 199) C d_X_tell_197 rfl ?_
                    refine g_iload_7 (q := 201) C d_X_tell_199 rfl ?_
                    refine g_iadd (q := 202) C d_X_tell_201 rfl (nI_add _ _) ?_
                    refine g_perm (perm_am _ _ _) ?_
                    refine g_callFW (q := 207) (As := [.int (nI (bl ta sg)), .int (nI (ta sg)), .int (nI (bl ta 256 + nz ta 256))]) (rest := []) C hR F2 hMt 10 hcl hwt1 d_X_tell_202 rfl rfl (by omega) (by decide) (by decide) (Nat.le_of_ble_eq_true rfl) (fun v' ws' hp => ?_)
                    obtain ⟨rfl, w2, hQ2, rfl⟩ := hp
                    refine g_perm (perm_am _ _ _).symm ?_
                    show G E 0 0 207 _ [] (xw (xG E) x A f1 g1 ++ (mw (xG E) a b rm f' g' ++ w2))
                    refine g_aload_0 (q := 208) C d_X_tell_207 rfl ?_
                    refine g_iload_4 (q := 210) C d_X_tell_208 rfl ?_
                    refine xp_57 (q := 213) C d_X_tell_210 rfl ?_
                    refine g_aload_1 (q := 214) C d_X_tell_213 rfl ?_
                    refine xm_39 (q := 217) C d_X_tell_214 rfl ?_
                    refine g_iload_10 (q := 219) C d_X_tell_217 rfl ?_
                    refine xma_1 (q := 220) C hrm d_X_tell_219 rfl rfl (by omega) r2 ?_
                    exact g_iret C F d_X_tell_220 (Nat.le_refl _) (Nat.le_refl _) ⟨rfl, _, _, w2, by rw [← t1]; exact hQ2, rfl, hF.upd (by decide), by rw [← t3]; exact h0', by rw [← t2]; rfl, by rw [← t4]; exact hes⟩
                  refine g_iload_8 (q := 155) C d_X_tell_153 rfl ?_
                  refine g_if_ge (q := 158) (tgt := 172) C d_X_tell_155 rfl (by decide) (fun hv1 => ?_) (fun hv1 => ?_)
                  · rcases sel with ⟨q, -⟩ | ⟨u, q, hu, hc2⟩
                    · rw [q] at hv1; exact absurd hv1 (by decide)
                    subst q
                    refine g_iload_8 (q := 174) C d_X_tell_172 rfl ?_
                    refine g_iload_9 (q := 176) C d_X_tell_174 rfl ?_
                    refine g_aload_1 (q := 177) C d_X_tell_176 rfl ?_
                    refine xm_42 (q := 180) C d_X_tell_177 rfl ?_
                    refine g_iload_10 (q := 182) C d_X_tell_180 rfl ?_
                    refine xma_2 (q := 183) C hrm d_X_tell_182 rfl rfl (by omega) r3 ?_
                    refine g_iadd (q := 184) C d_X_tell_183 rfl (nI_add _ _) ?_
                    refine g_icmp_ge (q := 187) (tgt := 221) C d_X_tell_184 rfl (by decide) (fun hq2 => ?_) (fun hq2 => ?_)
                    · have hq2 := (nI_leI (by omega) (by omega)).mp hq2
                      refine h221 (fun q3 q4 => ?_)
                      rcases hc2 with ⟨c1, c2, c3, c4⟩ | ⟨c1, c2⟩
                      · rw [← q4, ← e1, hty] at c4; omega
                      · exact c1 q3
                    · have hq2 : u < bl ta β + tC T y := Nat.lt_of_not_le (fun q => hq2 ((nI_leI (by omega) (by omega)).mpr q))
                      refine h187 ?_
                      rcases hc2 with ⟨c1, c2, c3, c4⟩ | ⟨c1, c2⟩
                      · have h9 := hge ⟨c1, c2⟩
                        rcases Nat.lt_or_ge (tB T y) sg with h8 | h8
                        · have := bl_mono (t := ta) (a := tB T y + 1) (b := sg) h8
                          have h7 : bl ta (tB T y + 1) = bl ta β + tC T y := by rw [e1, ← hty]; rfl
                          omega
                        · omega
                      · rw [← e1] at hblc; omega
                  · rcases sel with ⟨q, q2⟩ | ⟨u, q, hu, -⟩
                    · refine g_aload_1 (q := 159) C d_X_tell_158 rfl ?_
                      refine xm_39 (q := 162) C d_X_tell_159 rfl ?_
                      refine g_iload_10 (q := 164) C d_X_tell_162 rfl ?_
                      refine xma_1 (q := 165) C hrm d_X_tell_164 rfl rfl (by omega) r2 ?_
                      refine g_iload_2 (q := 166) C d_X_tell_165 rfl ?_
                      refine g_icmp_ne (q := 169) (tgt := 221) C d_X_tell_166 rfl (by decide) (fun hq2 => ?_) (fun hq2 => ?_)
                      · refine h221 (fun q3 q4 => hq2 ?_)
                        rw [q2, q4]
                      · rw [q2] at hq2
                        refine g_goto (tgt := 187) C d_X_tell_169 (by decide) ?_
                        exact h187 ((nI_eq (by omega) (by omega)).mp (Decidable.not_not.mp hq2))
                    · rw [q] at hv1
                      exact absurd (nI_pos' (by omega)) hv1
                · have he : e (tB T y) = true := by
                    cases q : e (tB T y) with
                    | true => rfl
                    | false => rw [q] at hxe; exact absurd (by decide) hxe
                  rw [he, if_pos rfl] at hty
                  rw [hty] at hgo
                  refine g_goto (tgt := 233) C d_X_tell_150 (by decide) ?_
                  refine g_aload_1 (q := 234) C d_X_tell_233 rfl ?_
                  refine xm_45 (q := 237) C d_X_tell_234 rfl ?_
                  refine g_iload_10 (q := 239) C d_X_tell_237 rfl ?_
                  refine xma_4 (q := 240) C hrm d_X_tell_239 rfl rfl (by omega) r4 ?_
                  refine g_istore_10 (q := 242) C hL d_X_tell_240 rfl ?_
                  refine g_goto (tgt := 130) C d_X_tell_242 (by decide) ?_
                  exact hgo (fun q3 q4 => by rw [← q4, hty] at q3; omega)
          refine g_istore_8 (q := 118) C hL d_X_tell_116 rfl ?_
          refine g_iconst (v := nI 0) (q := 119) C d_X_tell_118 rfl (by decide) ?_
          refine g_istore_9 (q := 121) C hL d_X_tell_119 rfl ?_
          refine g_aload_1 (q := 122) C d_X_tell_121 rfl ?_
          refine xm_35 (q := 125) C d_X_tell_122 rfl ?_
          refine g_iload_5 (q := 127) C d_X_tell_125 rfl ?_
          refine xma_3 (q := 128) C hrm d_X_tell_127 rfl rfl (by omega) (MF v hcxl) ?_
          refine g_istore_10 (q := 130) C hL d_X_tell_128 rfl ?_
          exact pick 256 0 (by omega) (fun _ => Nat.zero_le _)
        · have hq : nz ta 256 = 0 := (nI0 (by omega)).mp (Decidable.not_not.mp hq)
          have htl := tl_z (T := T) (s := sg) (k := k) (x := n) (e := e) (by rw [hvv, hct]; exact hq)
          rw [htl] at t1 t2 t3 t4
          refine g_goto (tgt := 320) C d_X_tell_102 (by decide) ?_
          exact h320 e n s1 w1 f1 g1 es _ _ _ _ _ _ hE hQ1 (hz hq) hX h0 hF hes t1 t2 t3 t4
      have sums : ∀ j β, β + j = 256 → ∀ m9 m10, G E 0 0 47 [some (.ref x), some (.ref a), some (.int arg), some (.ref t), some (.int (nI k)), some (.int (nI v)), some (.int (nI (bl ta β))), some (.int (nI (nz ta β))), some (.int (nI (nb T v β))), m9, m10] [] (xw (xG E) x A f1 g1 ++ (mw (xG E) a b rm f' g' ++ w1)) := by
        intro j
        induction j using Nat.strongRecOn with
        | ind j ihj =>
          intro β hj m9 m10
          have hlt := nb_lt (v := v) (b := β) hk (by omega)
          by_cases h0 : nb T v β = 0
          · have hz := nb_zero (by omega) h0
            have e1 : bl ta β = bl ta 256 := bl_gap (by omega) (fun γ h1 h2 => hct0 γ (hz γ h1 h2))
            have e2 : nz ta β = nz ta 256 := nz_gap (by omega) (fun γ h1 h2 => hct0 γ (hz γ h1 h2))
            rw [h0, e1, e2]
            refine g_iload_8 (q := 49) C d_X_tell_47 rfl ?_
            refine g_if_le (q := 52) (tgt := 97) C d_X_tell_49 rfl (by decide) (fun hx => ?_) (fun hx => ?_)
            · exact h97 _ _ _
            · exact absurd (by decide) hx
          · obtain ⟨p1, p2, p3, p4, p5, p6⟩ := nb_get hk (by omega) h0
            obtain ⟨r1, r2, r3, r4⟩ := MRw _ (Nat.pos_of_ne_zero h0) p1
            rw [p2] at r4
            generalize hcc : nb T v β = y at *
            have hty := hctc _ y p5 h0
            have e1 : bl ta β = bl ta (tB T y) := bl_gap p3 (fun γ h1 h2 => hct0 γ (p6 γ h1 h2))
            have e2 : nz ta β = nz ta (tB T y) := nz_gap p3 (fun γ h1 h2 => hct0 γ (p6 γ h1 h2))
            have hx0 := hX (tB T y) (by omega)
            have hgo := ihj (256 - (tB T y + 1)) (by omega) (tB T y + 1) (by omega) m9 m10
            rw [show bl ta (tB T y + 1) = bl ta β + ta (tB T y) by rw [e1]; rfl, show nz ta (tB T y + 1) = nz ta β + (if 0 < ta (tB T y) then 1 else 0) by rw [e2]; rfl] at hgo
            refine g_iload_8 (q := 49) C d_X_tell_47 rfl ?_
            refine g_if_le (q := 52) (tgt := 97) C d_X_tell_49 rfl (by decide) (fun hx => ?_) (fun hx => ?_)
            · exact absurd ((nILe0 (by omega)).mp hx) h0
            refine g_aload_0 (q := 53) C d_X_tell_52 rfl ?_
            refine xg_10 (q := 56) C d_X_tell_53 rfl ?_
            refine g_aload_1 (q := 57) C d_X_tell_56 rfl ?_
            refine xm_39 (q := 60) C d_X_tell_57 rfl ?_
            refine g_iload_8 (q := 62) C d_X_tell_60 rfl ?_
            refine xma_1 (q := 63) C hrm d_X_tell_62 rfl rfl (by omega) r2 ?_
            refine xa_0 (q := 64) C d_X_tell_63 rfl rfl (by omega) hx0 ?_
            refine g_if_eq (q := 67) (tgt := 70) C d_X_tell_64 rfl (by decide) (fun hq => ?_) (fun hq => ?_)
            · have he : e (tB T y) = false := by
                cases q : e (tB T y) with
                | false => rfl
                | true => rw [q] at hq; exact absurd hq (by decide)
              rw [he, if_neg Bool.false_ne_true] at hty
              have hpos := (hk.2.2.2.2.2.2.1 y (Nat.pos_of_ne_zero h0) p1).2.2
              rw [hty, if_pos hpos] at hgo
              refine g_iload_6 (q := 72) C d_X_tell_70 rfl ?_
              refine g_aload_1 (q := 73) C d_X_tell_72 rfl ?_
              refine xm_42 (q := 76) C d_X_tell_73 rfl ?_
              refine g_iload_8 (q := 78) C d_X_tell_76 rfl ?_
              refine xma_2 (q := 79) C hrm d_X_tell_78 rfl rfl (by omega) r3 ?_
              refine g_iadd (q := 80) C d_X_tell_79 rfl (nI_add _ _) ?_
              refine g_istore_6 (q := 82) C hL d_X_tell_80 rfl ?_
              refine g_iinc_7 (q := 85) C hL d_X_tell_82 rfl (nI_inc _) ?_
              refine g_aload_1 (q := 86) C d_X_tell_85 rfl ?_
              refine xm_45 (q := 89) C d_X_tell_86 rfl ?_
              refine g_iload_8 (q := 91) C d_X_tell_89 rfl ?_
              refine xma_4 (q := 92) C hrm d_X_tell_91 rfl rfl (by omega) r4 ?_
              refine g_istore_8 (q := 94) C hL d_X_tell_92 rfl ?_
              refine g_goto (tgt := 47) C d_X_tell_94 (by decide) ?_
              exact hgo
            · have he : e (tB T y) = true := by
                cases q : e (tB T y) with
                | true => rfl
                | false => rw [q] at hq; exact absurd (by decide) hq
              rw [he, if_pos rfl] at hty
              rw [hty, if_neg (by decide)] at hgo
              refine g_goto (tgt := 85) C d_X_tell_67 (by decide) ?_
              refine g_aload_1 (q := 86) C d_X_tell_85 rfl ?_
              refine xm_45 (q := 89) C d_X_tell_86 rfl ?_
              refine g_iload_8 (q := 91) C d_X_tell_89 rfl ?_
              refine xma_4 (q := 92) C hrm d_X_tell_91 rfl rfl (by omega) r4 ?_
              refine g_istore_8 (q := 94) C hL d_X_tell_92 rfl ?_
              refine g_goto (tgt := 47) C d_X_tell_94 (by decide) ?_
              exact hgo
      refine g_istore_5 (q := 32) C hL d_X_tell_30 rfl ?_
      refine g_iconst (v := nI 0) (q := 33) C d_X_tell_32 rfl (by decide) ?_
      refine g_istore_6 (q := 35) C hL d_X_tell_33 rfl ?_
      refine g_iconst (v := nI 0) (q := 36) C d_X_tell_35 rfl (by decide) ?_
      refine g_istore_7 (q := 38) C hL d_X_tell_36 rfl ?_
      refine g_aload_1 (q := 39) C d_X_tell_38 rfl ?_
      refine xm_35 (q := 42) C d_X_tell_39 rfl ?_
      refine g_iload_5 (q := 44) C d_X_tell_42 rfl ?_
      refine xma_3 (q := 45) C hrm d_X_tell_44 rfl rfl (by omega) (MF v hcxl) ?_
      refine g_istore_8 (q := 47) C hL d_X_tell_45 rfl ?_
      exact sums 256 0 (by omega) _ _
  refine g_aload_0 (q := 1) C d_X_tell_0 rfl ?_
  refine xg_10 (q := 4) C d_X_tell_1 rfl ?_
  refine g_iconst (v := nI 0) (q := 5) C d_X_tell_4 rfl (by decide) ?_
  refine g_perm x_swap ?_
  refine xc_16 (q := 8) C hR c_Ar_fill d_X_tell_5 rfl (by decide) (by decide) (by decide) (Nat.le_of_ble_eq_true rfl) (fun v ws' hp => ?_)
  obtain ⟨rfl, p', hp', rfl⟩ := hp
  refine g_perm (x_swap (g := updA g 0 p')).symm ?_
  refine g_aload_0 (q := 9) C d_X_tell_8 rfl ?_
  refine g_iconst (v := nI 0) (q := 10) C d_X_tell_9 rfl (by decide) ?_
  refine xp_22 (q := 13) C d_X_tell_10 rfl ?_
  refine g_aload_1 (q := 14) C d_X_tell_13 rfl ?_
  refine xm_26 (q := 17) C d_X_tell_14 rfl M3 ?_
  refine g_istore_4 (q := 19) C hL d_X_tell_17 rfl ?_
  exact level (tL T + 1) (fun _ => false) 0 s w _ _ 0 _ _ _ _ _ _ (Nat.le_refl _) EI_0 hQ hInv (fun b' hb => hp' b' hb) rfl ((Fr.rf.updA (by decide)).upd (by decide)) (by show f 1 = f 1 + nI 0; rw [show nI 0 = (0 : Int32) from rfl, Int32.add_zero]) rfl rfl rfl (Nat.zero_add _)
end
