/-! THE TWIN: cost, pack, open, and its constructor's end -/
theorem wrt_ok {ord room n : Nat} {row : Nat → Nat} {T : Tr} (hI : TI ord room T) (hr : ∀ i, i < n → row i < 256) (hn : n ≤ 300) : (wrt ord room n row T).2.2.2.1 ≤ 28898 ∧ ∀ i, (wrt ord room n row T).2.2.2.2 i < 256 := by
  obtain ⟨a, b, c, d, e⟩ := wsq_ok hI hr (n + 1) (Nat.le_refl _)
  unfold wrt cend
  generalize wsq ord room n row T (n + 1) = w at *
  refine ⟨by show w.2.1.2.2.2.1 + 1 + (w.2.1.2.2.1 + 1) ≤ _; omega, fun i => ?_⟩
  exact wput_lt (by split <;> decide) b.2.2.2.2 i
section
variable {l : Launch} {Γ : Gl} {o : Nat} {ad : Nat → Nat} {f : Nat → Int32} {g : Nat → Nat → Int32} {ord room : Nat} {S : Sg}
theorem c_T_cost {e s : Int32} (hS : MW ord room f g S) : Ct l Γ y_T_cost b_T_cost 6 (some .int) 3 0 0 [.ref o, .int e, .int s] (tw Γ o ad f g) (pi Γ o ad (fun x f' g' => x = (oCost e s S).1 ∧ MW ord room f' g' (oCost e s S).2)) := by
  obtain ⟨ts, tx, os, ou, rc, re, EE, K, kT, R, pl, ip, to, pn, px, pf⟩ := S
  obtain ⟨h1, h2, h3, h4, h5, h6, h7, h8, h9⟩ := id hS
  refine Ct.of (by decide) (by simp [Value.category]) (Nat.le_of_ble_eq_true rfl) (fun E eG el en C hR F hnm => ?_)
  subst eG
  subst el
  have hL : 6 ≤ xn E := Nat.le_of_eq en.symm
  show G E 0 0 0 [some (.ref o), some (.int e), some (.int s), none, none, none] [] (tw (xG E) o ad f g)
  have hd : (oCost e s (ts, tx, os, ou, rc, re, EE, K, kT, R, pl, ip, to, pn, px, pf)).1 = if ¬ isE e ∨ ¬ (nI 0 ≤ s ∧ s ≤ nI 256) then -1 else nI (cst (tell (EE (cl e)) (cl s)).1) := rfl
  have h25 : (¬ isE e ∨ ¬ (nI 0 ≤ s ∧ s ≤ nI 256)) → G E 0 0 25 [some (.ref o), some (.int e), some (.int s), none, none, none] [] (tw (xG E) o ad (upd f 0 (nI 0)) g) := by
    intro hno
    refine g_iconst (v := (-1)) (q := 26) C d_T_cost_25 rfl (by decide) ?_
    exact g_iret C F d_T_cost_26 (Nat.le_refl _) (Nat.le_refl _) ⟨_, _, _, rfl, rfl, by rw [hd, if_pos hno], hS.thrown⟩
  refine g_aload_0 (q := 1) C d_T_cost_0 rfl ?_
  refine g_iconst (v := nI 0) (q := 2) C d_T_cost_1 rfl (by decide) ?_
  refine tp_82 (q := 5) C d_T_cost_2 rfl ?_
  refine g_iload_1 (q := 6) C d_T_cost_5 rfl ?_
  refine g_iconst (v := nI 0) (q := 7) C d_T_cost_6 rfl (by decide) ?_
  refine g_iconst (v := nI 1) (q := 8) C d_T_cost_7 rfl (by decide) ?_
  refine tc_88 (q := 11) C hR (c_T_in _ _ _) d_T_cost_8 rfl (by decide) (by decide) (by decide) (Nat.le_of_ble_eq_true rfl) (fun x hx => ?_)
  rcases hx with ⟨i1, i2, rfl⟩ | ⟨hno, rfl⟩
  · refine g_if_eq (q := 14) (tgt := 25) C d_T_cost_11 rfl (by decide) (fun hz => ?_) (fun hz => ?_)
    · exact absurd hz (by decide)
    refine g_iload_2 (q := 15) C d_T_cost_14 rfl ?_
    refine g_iconst (v := nI 0) (q := 16) C d_T_cost_15 rfl (by decide) ?_
    refine g_sipush (v := nI 256) (q := 19) C d_T_cost_16 rfl (by decide) ?_
    refine tc_88 (q := 22) C hR (c_T_in _ _ _) d_T_cost_19 rfl (by decide) (by decide) (by decide) (Nat.le_of_ble_eq_true rfl) (fun x hx => ?_)
    rcases hx with ⟨w1, w2, rfl⟩ | ⟨hno, rfl⟩
    · refine g_if_ne (q := 25) (tgt := 27) C d_T_cost_22 rfl (by decide) (fun hz => ?_) (fun hz => ?_)
      · rw [if_neg (fun q => by rcases q with q | q; exact q ⟨i1, i2⟩; exact q ⟨w1, w2⟩)] at hd
        obtain ⟨m, hm, rfl⟩ := ix_of2 (n := 1) (by decide) ⟨i1, i2⟩
        obtain ⟨c, hc, rfl⟩ := ix_of2 (n := 256) (by decide) ⟨w1, w2⟩
        rw [show cl (nI m) = m from cl_nI (by omega), show cl (nI c) = c from cl_nI (by omega)] at hd
        obtain ⟨hT, hI⟩ := h5 m (by omega)
        generalize EE m = T at *
        have hl4 := hI.l
        have hMW : ∀ f' g', Fr [0, 7, 8, 9, 10, 11, 12] [10, 11] f f' g g' → MW ord room f' g' (ts, tx, os, ou, rc, re, EE, K, kT, R, pl, ip, to, pn, px, pf) := fun f' g' hF =>
          hS.keep (fun k hk => hF.1 k (by intro q; revert hk; revert q; simp; omega)) (fun j hj => hF.2 j (by intro q; revert hj; revert q; simp; omega)) (Bd.same (hF.2 3 (by decide)) (hF.2 4 (by decide)) (hF.2 5 (by decide)) (hF.2 6 (by decide)) (hF.2 7 (by decide)) (hF.2 8 (by decide)))
        have inner : ∀ (kk : Nat) (ee : Nat → Bool) (x acc : Nat) (f1 : Nat → Int32) (g1 : Nat → Nat → Int32) (l5 : Option Value), kk ≤ tL T + 1 → EI ee x → ee c = false → Fr [0, 7, 8, 9, 10, 11, 12] [10, 11] f f1 g g1 → EX g1 ee → f1 7 = nI x → acc + cst (tl T c kk ee x).1 = cst (tell T c).1 → G E 0 0 41 [some (.ref o), some (.int (nI m)), some (.int (nI c)), some (.int (nI acc)), some (.int (dk kk)), l5] [] (tw (xG E) o ad f1 g1) := by
          intro kk
          induction kk with
          | zero =>
            intro ee x acc f1 g1 l5 hkk hEI hes hF hE k7 he
            have hfo := flat_ok hEI hc hes
            refine g_iload_4 (q := 43) C d_T_cost_41 rfl ?_
            refine g_if_lt (q := 46) (tgt := 91) C d_T_cost_43 rfl (by decide) (fun hz => ?_) (fun hz => ?_)
            · refine g_aload_0 (q := 92) C d_T_cost_91 rfl ?_
              refine g_iload_2 (q := 93) C d_T_cost_92 rfl ?_
              refine tc_183 (q := 96) C hR (c_T_flat (e := ee) (x := x) (s := c) hE k7 (by have := hEI.1; omega) hc) d_T_cost_93 rfl (by decide) (by decide) (by decide) (Nat.le_of_ble_eq_true rfl) (fun f2 g2 hp => ?_)
              obtain ⟨hF2, a10, a11, a12⟩ := hp
              have hF2' := hF.trans (hF2.mono (K' := [0, 7, 8, 9, 10, 11, 12]) (J' := [10, 11]) (by decide) (by decide))
              refine g_iload_3 (q := 97) C d_T_cost_96 rfl ?_
              refine g_aload_0 (q := 98) C d_T_cost_97 rfl ?_
              refine tc_231 (q := 101) C hR (c_T_bitsOf a11 a12 (by decide) (by have := hEI.1; omega) (by omega)) d_T_cost_98 rfl (by decide) (by decide) (by decide) (Nat.le_of_ble_eq_true rfl) (fun y f3 g3 hp => ?_)
              obtain ⟨rfl, rfl, rfl⟩ := hp
              refine g_iadd (q := 102) C d_T_cost_101 rfl (nI_add _ _) ?_
              refine g_iret C F d_T_cost_102 (Nat.le_refl _) (Nat.le_refl _) ⟨_, _, _, rfl, rfl, ?_, hMW _ _ hF2'⟩
              rw [hd, ← he]; rfl
            · exact absurd (by decide) hz
          | succ k ih =>
            intro ee x acc f1 g1 l5 hkk hEI hes hF hE k7 he
            have hbs := ct_sum hI.1 hI.2.2.2 ee (cx T k)
            have hnz := nz_bl (t := ct T ee (cx T k)) 256
            have hT1 : TM g1 m T := hT.keep (hF.2 3 (by decide)) (hF.2 4 (by decide)) (hF.2 5 (by decide)) (hF.2 6 (by decide)) (hF.2 7 (by decide)) (hF.2 8 (by decide))
            rw [dk_s]
            refine g_iload_4 (q := 43) C d_T_cost_41 rfl ?_
            refine g_if_lt (q := 46) (tgt := 91) C d_T_cost_43 rfl (by decide) (fun hz => ?_) (fun hz => ?_)
            · exact absurd (nI_pos' (by omega)) (Int32.not_le.mpr hz)
            refine g_aload_0 (q := 47) C d_T_cost_46 rfl ?_
            refine g_iload_1 (q := 48) C d_T_cost_47 rfl ?_
            refine g_iload_4 (q := 50) C d_T_cost_48 rfl ?_
            refine tc_170 (q := 53) C hR (c_T_look (k := k) (e := ee) (by omega) hT1 hI.1 hI.2.1 (by omega) hE) d_T_cost_50 rfl (by decide) (by decide) (by decide) (Nat.le_of_ble_eq_true rfl) (fun f2 g2 hp => ?_)
            obtain ⟨hF2, hC2, a8, a9⟩ := hp
            have e2 : ∀ a, a ≠ 11 → g2 a = g1 a := fun a ha => hF2.2 a (by simpa using ha)
            have hF2' := hF.trans (hF2.mono (K' := [0, 7, 8, 9, 10, 11, 12]) (J' := [10, 11]) (by decide) (by decide))
            have b7 : f2 7 = nI x := by rw [hF2.1 7 (by decide)]; exact k7
            have hE2 : EX g2 ee := hE.keep (e2 10 (by decide))
            refine g_aload_0 (q := 54) C d_T_cost_53 rfl ?_
            refine tg_113 (q := 57) C d_T_cost_54 rfl a9 ?_
            refine g_if_le (q := 60) (tgt := 85) C d_T_cost_57 rfl (by decide) (fun hm0 => ?_) (fun hm0 => ?_)
            · have hm0 := (nILe0 (by omega)).mp hm0
              rw [tl_z hm0] at he
              refine g_iinc_4 (q := 88) C hL d_T_cost_85 rfl (dk_dec _) ?_
              refine g_goto (tgt := 41) C d_T_cost_88 (by decide) ?_
              exact ih ee x acc f2 g2 _ (by omega) hEI hes hF2' hE2 b7 he
            have hm0 : nz (ct T ee (cx T k)) 256 ≠ 0 := fun q => hm0 ((nILe0 (by omega)).mpr q)
            refine g_aload_0 (q := 61) C d_T_cost_60 rfl ?_
            refine g_iload_2 (q := 62) C d_T_cost_61 rfl ?_
            refine tc_173 (q := 65) C hR (c_T_isFound (s := c) hC2 a8 a9 hc hbs) d_T_cost_62 rfl (by decide) (by decide) (by decide) (Nat.le_of_ble_eq_true rfl) (fun x1 f3 g3 hp => ?_)
            obtain ⟨hF3, a12, hcase⟩ := hp
            have eg3 : g3 = g2 := funext (fun a => hF3.2 a (by simp))
            subst eg3
            have hF3' := hF2'.trans (hF3.mono (K' := [0, 7, 8, 9, 10, 11, 12]) (J' := [10, 11]) (by decide) (by decide))
            have c7 : f3 7 = nI x := by rw [hF3.1 7 (by decide)]; exact b7
            rcases hcase with ⟨q1, q2, rfl, a10, a11⟩ | ⟨hno, rfl, a10, a11⟩
            · have hsp := sp_ok hbs ⟨q1, q2⟩
              rw [tl_f hm0 ⟨q1, q2⟩] at he
              refine g_istore_5 (q := 67) C hL d_T_cost_65 rfl ?_
              refine g_iload_3 (q := 68) C d_T_cost_67 rfl ?_
              refine g_aload_0 (q := 69) C d_T_cost_68 rfl ?_
              refine tc_231 (q := 72) C hR (c_T_bitsOf a11 a12 hsp.1 (by have := hsp.2.1; simp only at this; omega) hsp.2.2) d_T_cost_69 rfl (by decide) (by decide) (by decide) (Nat.le_of_ble_eq_true rfl) (fun y f4 g4 hp => ?_)
              obtain ⟨rfl, rfl, rfl⟩ := hp
              refine g_iadd (q := 73) C d_T_cost_72 rfl (nI_add _ _) ?_
              refine g_istore_3 (q := 74) C hL d_T_cost_73 rfl ?_
              refine g_iload_5 (q := 76) C d_T_cost_74 rfl ?_
              refine g_if_eq (q := 79) (tgt := 81) C d_T_cost_76 rfl (by decide) (fun hz => ?_) (fun hz => ?_)
              · exact absurd hz (by decide)
              refine g_iload_3 (q := 80) C d_T_cost_79 rfl ?_
              refine g_iret C F d_T_cost_80 (Nat.le_refl _) (Nat.le_refl _) ⟨_, _, _, rfl, rfl, ?_, hMW _ _ hF3'⟩
              rw [hd, ← he]; rfl
            · have hsp := esc_ok hbs hm0
              rw [tl_e hm0 hno] at he
              refine g_istore_5 (q := 67) C hL d_T_cost_65 rfl ?_
              refine g_iload_3 (q := 68) C d_T_cost_67 rfl ?_
              refine g_aload_0 (q := 69) C d_T_cost_68 rfl ?_
              refine tc_231 (q := 72) C hR (c_T_bitsOf a11 a12 hsp.1 (by omega) hsp.2.2) d_T_cost_69 rfl (by decide) (by decide) (by decide) (Nat.le_of_ble_eq_true rfl) (fun y f4 g4 hp => ?_)
              obtain ⟨rfl, rfl, rfl⟩ := hp
              refine g_iadd (q := 73) C d_T_cost_72 rfl (nI_add _ _) ?_
              refine g_istore_3 (q := 74) C hL d_T_cost_73 rfl ?_
              refine g_iload_5 (q := 76) C d_T_cost_74 rfl ?_
              refine g_if_eq (q := 79) (tgt := 81) C d_T_cost_76 rfl (by decide) (fun hz => ?_) (fun hz => ?_)
              · refine g_aload_0 (q := 82) C d_T_cost_81 rfl ?_
                refine tc_177 (q := 85) C hR (c_T_exclude (t := ct T ee (cx T k)) (e := ee) (x := x) hC2 hE2 c7 (fun b hb => by have := bl_le (t := ct T ee (cx T k)) hb; omega)) d_T_cost_82 rfl (by decide) (by decide) (by decide) (Nat.le_of_ble_eq_true rfl) (fun f5 g5 hp => ?_)
                obtain ⟨hF5, hE5, p7⟩ := hp
                refine g_iinc_4 (q := 88) C hL d_T_cost_85 rfl (dk_dec _) ?_
                refine g_goto (tgt := 41) C d_T_cost_88 (by decide) ?_
                refine ih _ _ _ f5 g5 _ (by omega) hEI.ex (ex_s hes hno) (hF3'.trans (hF5.mono (by decide) (by decide))) hE5 p7 ?_
                rw [← he]
                exact Nat.add_assoc _ _ _
              · exact absurd rfl hz
        refine g_aload_0 (q := 28) C d_T_cost_27 rfl ?_
        refine tc_167 (q := 31) C hR c_T_beginSign d_T_cost_28 rfl (by decide) (by decide) (by decide) (Nat.le_of_ble_eq_true rfl) (fun f2 g2 hp => ?_)
        obtain ⟨hF2, hE2, a7⟩ := hp
        refine g_iconst (v := nI 0) (q := 32) C d_T_cost_31 rfl (by decide) ?_
        refine g_istore_3 (q := 33) C hL d_T_cost_32 rfl ?_
        refine g_aload_0 (q := 34) C d_T_cost_33 rfl ?_
        refine tg_31 (q := 37) C d_T_cost_34 rfl ?_
        refine g_iload_1 (q := 38) C d_T_cost_37 rfl ?_
        refine ta_7 (q := 39) C d_T_cost_38 rfl rfl (by omega) ((congrFun (hF2.2 7 (by decide)) m).trans hT.2.1) ?_
        refine g_istore_4 (q := 41) C hL d_T_cost_39 rfl ?_
        exact inner (tL T + 1) (fun _ => false) 0 0 f2 g2 _ (Nat.le_refl _) EI_0 rfl ((Fr.rf.upd (by decide)).trans (hF2.mono (by decide) (by decide))) hE2 a7 (Nat.zero_add _)
      · exact absurd (by decide) hz
    · refine g_if_ne (q := 25) (tgt := 27) C d_T_cost_22 rfl (by decide) (fun hz => ?_) (fun hz => ?_)
      · exact absurd rfl hz
      · exact h25 (Or.inr hno)
  · refine g_if_eq (q := 14) (tgt := 25) C d_T_cost_11 rfl (by decide) (fun hz => ?_) (fun hz => ?_)
    · exact h25 (Or.inl hno)
    · exact absurd rfl hz
theorem c_T_pack (hS : MW ord room f g S) : Ct l Γ y_T_pack b_T_pack 2 (some .int) 4 0 0 [.ref o] (tw Γ o ad f g) (pi Γ o ad (fun x f' g' => x = (oPack ord room S).1 ∧ MW ord room f' g' (oPack ord room S).2)) := by
  obtain ⟨ts, tx, os, ou, rc, re, EE, K, kT, R, pl, ip, to, pn, px, pf⟩ := S
  obtain ⟨h1, h2, h3, h4, h5, h6, h7, h8, h9⟩ := id hS
  obtain ⟨hT, hI⟩ := h5 0 (by decide)
  obtain ⟨hw1, hw2⟩ := wrt_ok hI (fun i hi => (h2.2.2 i hi).2) h2.2.1
  obtain ⟨o1, o2, o3, o4, o5⟩ := wsq_ok (n := ts) (row := tx) hI (fun i hi => (h2.2.2 i hi).2) (ts + 1) (Nat.le_refl _)
  have hts := h2.2.1
  have hdef : oPack ord room (ts, tx, os, ou, rc, re, EE, K, kT, R, pl, ip, to, pn, px, pf) = (nI (((wrt ord room ts tx (EE 0)).2.2.2.1 + 7) / 8), (ts, tx, ((wrt ord room ts tx (EE 0)).2.2.2.1 + 7) / 8, (wrt ord room ts tx (EE 0)).2.2.2.2, rc, re, upT EE 0 (wsq ord room ts tx (EE 0) (ts + 1)).1, K, kT, upd R 0 (R 0 + nI (wsq ord room ts tx (EE 0) (ts + 1)).2.2.2), pl, true, (fun w => if w = 0 then (wrt ord room ts tx (EE 0)).2.2.2.1 else if w = 1 then (wsq ord room ts tx (EE 0) (ts + 1)).2.2.1 else (wsq ord room ts tx (EE 0) (ts + 1)).2.2.2), ts + 1, (fun i => (tell (wsq ord room ts tx (EE 0) i).1 (sgn ts tx i)).2.2.1), (fun i => (tell (wsq ord room ts tx (EE 0) i).1 (sgn ts tx i)).2.1))) := rfl
  refine Ct.of (by decide) (by simp [Value.category]) (Nat.le_of_ble_eq_true rfl) (fun E eG el en C hR F hnm => ?_)
  subst eG
  subst el
  have hL : 2 ≤ xn E := Nat.le_of_eq en.symm
  show G E 0 0 0 [some (.ref o), none] [] (tw (xG E) o ad f g)
  refine g_aload_0 (q := 1) C d_T_pack_0 rfl ?_
  refine g_iconst (v := nI 0) (q := 2) C d_T_pack_1 rfl (by decide) ?_
  refine tp_82 (q := 5) C d_T_pack_2 rfl ?_
  refine g_aload_0 (q := 6) C d_T_pack_5 rfl ?_
  refine g_iconst (v := nI 0) (q := 7) C d_T_pack_6 rfl (by decide) ?_
  refine g_aload_0 (q := 8) C d_T_pack_7 rfl ?_
  refine tg_7 (q := 11) C d_T_pack_8 rfl ?_
  refine g_aload_0 (q := 12) C d_T_pack_11 rfl ?_
  refine tg_85 (q := 15) C d_T_pack_12 rfl h2.1 ?_
  refine tc_190 (q := 18) C hR (c_T_writeAll (m := 0) (jr := 0) (n := ts) (row := tx) (by decide) (Or.inl rfl) hT hI h2.2.1 h2.2.2 h1.1 h1.2) d_T_pack_15 rfl (by decide) (by decide) (by decide) (Nat.le_of_ble_eq_true rfl) (fun f2 g2 hp => ?_)
  obtain ⟨hF2, hB2, hT2, e17, eB, e18, e19, esg⟩ := hp
  have k3 : f2 3 = nI ts := by rw [hF2.1 3 (by decide)]; exact h2.1
  have r0 : g2 9 0 = R 0 := by rw [hF2.2 9 (by decide)]; exact h7 0 (by decide)
  have hB8 : ∀ i, 8 * i < (wrt ord room ts tx (EE 0)).2.2.2.1 → g2 12 i = nI ((wrt ord room ts tx (EE 0)).2.2.2.2 i) := eB
  -- the end: what is left
  have hend : ∀ (f' : Nat → Int32) (g' : Nat → Nat → Int32), Fr [4, 20, 21] [1, 9, 15, 16, 17] f2 f' g2 g' → f' 4 = nI (((wrt ord room ts tx (EE 0)).2.2.2.1 + 7) / 8) → (∀ i, i < ((wrt ord room ts tx (EE 0)).2.2.2.1 + 7) / 8 → g' 1 i = nI ((wrt ord room ts tx (EE 0)).2.2.2.2 i)) → g' 9 0 = R 0 + nI (wsq ord room ts tx (EE 0) (ts + 1)).2.2.2 → g' 9 1 = R 1 → f' 20 = nI 1 → f' 21 = nI (ts + 1) → g' 15 0 = nI (wrt ord room ts tx (EE 0)).2.2.2.1 → g' 15 1 = nI (wsq ord room ts tx (EE 0) (ts + 1)).2.2.1 → g' 15 2 = nI (wsq ord room ts tx (EE 0) (ts + 1)).2.2.2 → (∀ i, i < ts + 1 → g' 16 i = nI (tell (wsq ord room ts tx (EE 0) i).1 (sgn ts tx i)).2.2.1 ∧ g' 17 i = fenc (tell (wsq ord room ts tx (EE 0) i).1 (sgn ts tx i)).2.1) → MW ord room f' g' (oPack ord room (ts, tx, os, ou, rc, re, EE, K, kT, R, pl, ip, to, pn, px, pf)).2 := by
    intro f' g' hF hf4 hg1 h90 h91 hf20 hf21 t0 t1 t2 hps
    rw [hdef]
    have ef : ∀ k, k ∉ [4, 20, 21] → k ∉ KW → k ≠ 0 → f' k = f k := fun k a b c => by rw [hF.1 k a, hF2.1 k b]; exact upd_n c
    have eg : ∀ j, j ∉ [1, 9, 15, 16, 17] → j ∉ JW → g' j = g j := fun j a b => by rw [hF.2 j a, hF2.2 j b]
    have eg2 : ∀ j, j ∉ [1, 9, 15, 16, 17] → g' j = g2 j := hF.2
    have hBB : Bd 0 g g' := hB2.trans (Bd.same (eg2 3 (by decide)) (eg2 4 (by decide)) (eg2 5 (by decide)) (eg2 6 (by decide)) (eg2 7 (by decide)) (eg2 8 (by decide)))
    refine ⟨?_, ?_, ⟨hf4, by show (_ + 7) / 8 ≤ 4096; omega, fun i hi => ⟨hg1 i hi, hw2 i⟩⟩, ?_, fun m hm => ?_, ⟨?_, h6.2.1, fun k hk => ?_⟩, fun m hm => ?_, ?_, ⟨hf20, hf21, by show ts + 1 ≤ 301; omega, fun q => absurd q (by decide), fun _ w hw => ?_, hps⟩⟩
    · rw [ef 1 (by decide) (by decide) (by decide), ef 2 (by decide) (by decide) (by decide)]; exact h1
    · rw [ef 3 (by decide) (by decide) (by decide), eg 0 (by decide) (by decide)]; exact h2
    · rw [ef 5 (by decide) (by decide) (by decide), eg 2 (by decide) (by decide)]; exact h4
    · by_cases em : m = 0
      · subst em
        rw [upT_s]
        exact ⟨hT2.keep (eg2 3 (by decide)) (eg2 4 (by decide)) (eg2 5 (by decide)) (eg2 6 (by decide)) (eg2 7 (by decide)) (eg2 8 (by decide)), o1⟩
      · rw [upT_n em]
        obtain ⟨a, b⟩ := h5 m hm
        exact ⟨hBB.other em b.n b.l a, b⟩
    · rw [ef 6 (by decide) (by decide) (by decide)]; exact h6.1
    · obtain ⟨a, b⟩ := h6.2.2 k hk
      exact ⟨hBB.other (by omega) b.n b.l a, b⟩
    · by_cases em : m = 0
      · subst em; rw [upd_s]; exact h90
      · have : m = 1 := by omega
        subst this
        rw [upd_n (by decide)]; exact h91
    · rw [ef 24 (by decide) (by decide) (by decide)]; exact h8
    · rcases (show w = 0 ∨ w = 1 ∨ w = 2 by omega) with rfl | rfl | rfl
      · exact t0
      · exact t1
      · exact t2
  have loop2 : ∀ (j i : Nat) (f1 : Nat → Int32) (g1 : Nat → Nat → Int32), i + j = ((wrt ord room ts tx (EE 0)).2.2.2.1 + 7) / 8 → Fr [4, 20, 21] [1, 9, 15, 16, 17] f2 f1 g2 g1 → f1 4 = nI (((wrt ord room ts tx (EE 0)).2.2.2.1 + 7) / 8) → (∀ i', i' < i → g1 1 i' = nI ((wrt ord room ts tx (EE 0)).2.2.2.2 i')) → g1 9 0 = R 0 + nI (wsq ord room ts tx (EE 0) (ts + 1)).2.2.2 → g1 9 1 = R 1 → f1 20 = nI 1 → f1 21 = nI (ts + 1) → g1 15 0 = nI (wrt ord room ts tx (EE 0)).2.2.2.1 → g1 15 1 = nI (wsq ord room ts tx (EE 0) (ts + 1)).2.2.1 → g1 15 2 = nI (wsq ord room ts tx (EE 0) (ts + 1)).2.2.2 → (∀ i, i < ts + 1 → g1 16 i = nI (tell (wsq ord room ts tx (EE 0) i).1 (sgn ts tx i)).2.2.1 ∧ g1 17 i = fenc (tell (wsq ord room ts tx (EE 0) i).1 (sgn ts tx i)).2.1) → G E 0 0 132 [some (.ref o), some (.int (nI i))] [] (tw (xG E) o ad f1 g1) := by
    intro j
    induction j with
    | zero =>
      intro i f1 g1 hi hF h4' h1' h90 h91 h20 h21 t0 t1 t2 hps
      refine g_iload_1 (q := 133) C d_T_pack_132 rfl ?_
      refine g_aload_0 (q := 134) C d_T_pack_133 rfl ?_
      refine tg_93 (q := 137) C d_T_pack_134 rfl h4' ?_
      refine g_icmp_ge (q := 140) (tgt := 158) C d_T_pack_137 rfl (by decide) (fun hc => ?_) (fun hc => ?_)
      · refine g_aload_0 (q := 159) C d_T_pack_158 rfl ?_
        refine tg_93 (q := 162) C d_T_pack_159 rfl h4' ?_
        exact g_iret C F d_T_pack_162 (Nat.le_refl _) (Nat.le_refl _) ⟨_, _, _, rfl, rfl, by rw [hdef], hend f1 g1 hF h4' (fun i' hi' => h1' i' (by omega)) h90 h91 h20 h21 t0 t1 t2 hps⟩
      · exact absurd ((nI_leI (by omega) (by omega)).mpr (by omega)) hc
    | succ j ih =>
      intro i f1 g1 hi hF h4' h1' h90 h91 h20 h21 t0 t1 t2 hps
      have e12 : g1 12 i = nI ((wrt ord room ts tx (EE 0)).2.2.2.2 i) := by rw [hF.2 12 (by decide)]; exact hB8 i (by omega)
      refine g_iload_1 (q := 133) C d_T_pack_132 rfl ?_
      refine g_aload_0 (q := 134) C d_T_pack_133 rfl ?_
      refine tg_93 (q := 137) C d_T_pack_134 rfl h4' ?_
      refine g_icmp_ge (q := 140) (tgt := 158) C d_T_pack_137 rfl (by decide) (fun hc => ?_) (fun hc => ?_)
      · exact absurd ((nI_leI (by omega) (by omega)).mp hc) (by omega)
      refine g_aload_0 (q := 141) C d_T_pack_140 rfl ?_
      refine tg_13 (q := 144) C d_T_pack_141 rfl ?_
      refine g_iload_1 (q := 145) C d_T_pack_144 rfl ?_
      refine g_aload_0 (q := 146) C d_T_pack_145 rfl ?_
      refine tg_47 (q := 149) C d_T_pack_146 rfl ?_
      refine g_iload_1 (q := 150) C d_T_pack_149 rfl ?_
      refine ta_12 (q := 151) C d_T_pack_150 rfl rfl (by omega) e12 ?_
      refine ts_1 (q := 152) C d_T_pack_151 rfl rfl (by omega) ?_
      refine g_iinc_1 (q := 155) C hL d_T_pack_152 rfl (nI_inc _) ?_
      refine g_goto (tgt := 132) C d_T_pack_155 (by decide) ?_
      refine ih (i + 1) f1 _ (by omega) (hF.updA (by decide)) h4' (fun i' hi' => ?_) h90 h91 h20 h21 t0 t1 t2 hps
      rw [updA_s]
      by_cases e : i' = i
      · rw [e, upd_s]
      · rw [upd_n e]; exact h1' i' (by omega)
  have loop1 : ∀ (j i : Nat) (f1 : Nat → Int32) (g1 : Nat → Nat → Int32), i + j = ts + 1 → Fr [4, 20, 21] [1, 9, 15, 16, 17] f2 f1 g2 g1 → g1 9 0 = R 0 + nI (wsq ord room ts tx (EE 0) (ts + 1)).2.2.2 → g1 9 1 = R 1 → f1 20 = nI 1 → f1 21 = nI (ts + 1) → g1 15 0 = nI (wrt ord room ts tx (EE 0)).2.2.2.1 → g1 15 1 = nI (wsq ord room ts tx (EE 0) (ts + 1)).2.2.1 → g1 15 2 = nI (wsq ord room ts tx (EE 0) (ts + 1)).2.2.2 → (∀ i', i' < i → g1 16 i' = nI (tell (wsq ord room ts tx (EE 0) i').1 (sgn ts tx i')).2.2.1 ∧ g1 17 i' = fenc (tell (wsq ord room ts tx (EE 0) i').1 (sgn ts tx i')).2.1) → G E 0 0 78 [some (.ref o), some (.int (nI i))] [] (tw (xG E) o ad f1 g1) := by
    intro j
    induction j with
    | zero =>
      intro i f1 g1 hi hF h90 h91 h20 h21 t0 t1 t2 hps
      have e17' : f1 17 = nI (wrt ord room ts tx (EE 0)).2.2.2.1 := by rw [hF.1 17 (by decide)]; exact e17
      refine g_iload_1 (q := 79) C d_T_pack_78 rfl ?_
      refine g_aload_0 (q := 80) C d_T_pack_79 rfl ?_
      refine tg_197 (q := 83) C d_T_pack_80 rfl h21 ?_
      refine g_icmp_ge (q := 86) (tgt := 116) C d_T_pack_83 rfl (by decide) (fun hc => ?_) (fun hc => ?_)
      · refine g_aload_0 (q := 117) C d_T_pack_116 rfl ?_
        refine g_aload_0 (q := 118) C d_T_pack_117 rfl ?_
        refine tg_137 (q := 121) C d_T_pack_118 rfl e17' ?_
        refine g_bipush (v := nI 7) (q := 123) C d_T_pack_121 rfl (by decide) ?_
        refine g_iadd (q := 124) C d_T_pack_123 rfl (nI_add _ _) ?_
        refine g_bipush (v := nI 8) (q := 126) C d_T_pack_124 rfl (by decide) ?_
        refine g_idiv (q := 127) C d_T_pack_126 rfl (by decide) (pk_div (d := 8) (by omega) (by decide) (by decide)) ?_
        refine tp_93 (q := 130) C d_T_pack_127 rfl ?_
        refine g_iconst (v := nI 0) (q := 131) C d_T_pack_130 rfl (by decide) ?_
        refine g_istore_1 (q := 132) C hL d_T_pack_131 rfl ?_
        exact loop2 _ 0 _ g1 (Nat.zero_add _) (hF.upd (by decide)) upd_s (fun i' hi' => absurd hi' (Nat.not_lt_zero _)) h90 h91 h20 h21 t0 t1 t2 (fun i' hi' => hps i' (by omega))
      · exact absurd ((nI_leI (by omega) (by omega)).mpr (by omega)) hc
    | succ j ih =>
      intro i f1 g1 hi hF h90 h91 h20 h21 t0 t1 t2 hps
      obtain ⟨q1, q2⟩ := esg i (by omega)
      have q1 := (congrFun (hF.2 13 (by decide)) i).trans q1
      have q2 := (congrFun (hF.2 14 (by decide)) i).trans q2
      refine g_iload_1 (q := 79) C d_T_pack_78 rfl ?_
      refine g_aload_0 (q := 80) C d_T_pack_79 rfl ?_
      refine tg_197 (q := 83) C d_T_pack_80 rfl h21 ?_
      refine g_icmp_ge (q := 86) (tgt := 116) C d_T_pack_83 rfl (by decide) (fun hc => ?_) (fun hc => ?_)
      · exact absurd ((nI_leI (by omega) (by omega)).mp hc) (by omega)
      refine g_aload_0 (q := 87) C d_T_pack_86 rfl ?_
      refine tg_59 (q := 90) C d_T_pack_87 rfl ?_
      refine g_iload_1 (q := 91) C d_T_pack_90 rfl ?_
      refine g_aload_0 (q := 92) C d_T_pack_91 rfl ?_
      refine tg_50 (q := 95) C d_T_pack_92 rfl ?_
      refine g_iload_1 (q := 96) C d_T_pack_95 rfl ?_
      refine ta_13 (q := 97) C d_T_pack_96 rfl rfl (by omega) q1 ?_
      refine ts_16 (q := 98) C d_T_pack_97 rfl rfl (by omega) ?_
      refine g_aload_0 (q := 99) C d_T_pack_98 rfl ?_
      refine tg_62 (q := 102) C d_T_pack_99 rfl ?_
      refine g_iload_1 (q := 103) C d_T_pack_102 rfl ?_
      refine g_aload_0 (q := 104) C d_T_pack_103 rfl ?_
      refine tg_53 (q := 107) C d_T_pack_104 rfl ?_
      refine g_iload_1 (q := 108) C d_T_pack_107 rfl ?_
      refine ta_14 (q := 109) C d_T_pack_108 rfl rfl (by omega) q2 ?_
      refine ts_17 (q := 110) C d_T_pack_109 rfl rfl (by omega) ?_
      refine g_iinc_1 (q := 113) C hL d_T_pack_110 rfl (nI_inc _) ?_
      refine g_goto (tgt := 78) C d_T_pack_113 (by decide) ?_
      refine ih (i + 1) f1 _ (by omega) ((hF.updA (by decide)).updA (by decide)) h90 h91 h20 h21 t0 t1 t2 (fun i' hi' => ?_)
      show upd (g1 16) i _ i' = _ ∧ upd (g1 17) i _ i' = _
      by_cases e : i' = i
      · rw [e, upd_s, upd_s]; exact ⟨rfl, rfl⟩
      · rw [upd_n e, upd_n e]; exact hps i' (by omega)
  refine g_aload_0 (q := 19) C d_T_pack_18 rfl ?_
  refine g_iconst (v := nI 1) (q := 20) C d_T_pack_19 rfl (by decide) ?_
  refine tp_194 (q := 23) C d_T_pack_20 rfl (Or.inr rfl) ?_
  refine g_aload_0 (q := 24) C d_T_pack_23 rfl ?_
  refine tg_56 (q := 27) C d_T_pack_24 rfl ?_
  refine g_iconst (v := nI 0) (q := 28) C d_T_pack_27 rfl (by decide) ?_
  refine g_aload_0 (q := 29) C d_T_pack_28 rfl ?_
  refine tg_137 (q := 32) C d_T_pack_29 rfl e17 ?_
  refine ts_15 (q := 33) C d_T_pack_32 rfl rfl (by decide) ?_
  refine g_aload_0 (q := 34) C d_T_pack_33 rfl ?_
  refine tg_56 (q := 37) C d_T_pack_34 rfl ?_
  refine g_iconst (v := nI 1) (q := 38) C d_T_pack_37 rfl (by decide) ?_
  refine g_aload_0 (q := 39) C d_T_pack_38 rfl ?_
  refine tg_161 (q := 42) C d_T_pack_39 rfl e18 ?_
  refine ts_15 (q := 43) C d_T_pack_42 rfl rfl (by decide) ?_
  refine g_aload_0 (q := 44) C d_T_pack_43 rfl ?_
  refine tg_56 (q := 47) C d_T_pack_44 rfl ?_
  refine g_iconst (v := nI 2) (q := 48) C d_T_pack_47 rfl (by decide) ?_
  refine g_aload_0 (q := 49) C d_T_pack_48 rfl ?_
  refine tg_164 (q := 52) C d_T_pack_49 rfl e19 ?_
  refine ts_15 (q := 53) C d_T_pack_52 rfl rfl (by decide) ?_
  refine g_aload_0 (q := 54) C d_T_pack_53 rfl ?_
  refine tg_37 (q := 57) C d_T_pack_54 rfl ?_
  refine g_iconst (v := nI 0) (q := 58) C d_T_pack_57 rfl (by decide) ?_
  refine g_dup2 (q := 59) C d_T_pack_58 rfl rfl rfl ?_
  refine ta_9 (q := 60) C d_T_pack_59 rfl rfl (by decide) r0 ?_
  refine g_aload_0 (q := 61) C d_T_pack_60 rfl ?_
  refine tg_164 (q := 64) C d_T_pack_61 rfl e19 ?_
  refine g_iadd (q := 65) C d_T_pack_64 rfl rfl ?_
  refine ts_9 (q := 66) C d_T_pack_65 rfl rfl (by decide) ?_
  refine g_aload_0 (q := 67) C d_T_pack_66 rfl ?_
  refine g_aload_0 (q := 68) C d_T_pack_67 rfl ?_
  refine tg_85 (q := 71) C d_T_pack_68 rfl k3 ?_
  refine g_iconst (v := nI 1) (q := 72) C d_T_pack_71 rfl (by decide) ?_
  refine g_iadd (q := 73) C d_T_pack_72 rfl (nI_1 _) ?_
  refine tp_197 (q := 76) C d_T_pack_73 rfl ?_
  refine g_iconst (v := nI 0) (q := 77) C d_T_pack_76 rfl (by decide) ?_
  refine g_istore_1 (q := 78) C hL d_T_pack_77 rfl ?_
  refine loop1 (ts + 1) 0 _ _ (by omega) (((((((Fr.rf.upd (by decide)).updA (by decide)).updA (by decide)).updA (by decide)).updA (by decide)).upd (by decide))) rfl ?_ rfl rfl rfl rfl rfl (fun i' hi' => absurd hi' (Nat.not_lt_zero _))
  show g2 9 1 = _
  rw [hF2.2 9 (by decide)]
  exact h7 1 (by decide)
end
