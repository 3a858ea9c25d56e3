/-! THE CLASS Model: halve, remember, learns -/
section
variable {l : Launch} {Γ : Gl} {a : Nat} {b : Nat → Nat} {f : Nat → Int32} {g : Nat → Nat → Int32} {T : Tr} {ord rm : Nat}
theorem nbf_same {T T' : Tr} (hN : tN T' = tN T) (hP : tP T' = tP T) (hB : tB T' = tB T) (v : Nat) : ∀ j b, nbf T' v j b = nbf T v j b
  | 0, _ => rfl
  | j + 1, b => by
    have e : chT T' v b = chT T v b := by unfold chT; rw [hN, hP, hB]
    unfold nbf
    rw [e, nbf_same hN hP hB v j (b + 1)]
theorem nb_same {T T' : Tr} (hN : tN T' = tN T) (hP : tP T' = tP T) (hB : tB T' = tB T) (v b : Nat) : nb T' v b = nb T v b := nbf_same hN hP hB v _ _
theorem hv_nb (T : Tr) (v v' b : Nat) (hb : b ≤ 256) : nb (hv T v) v' b = nb T v' b := nb_congr hb (fun β _ _ => hv_ch T v v' β)
theorem c_Mo_halve {v : Nat} (hM : MR f g ord rm T) (hk : TOk ord rm T) (hvv : v < tN T) (hs : sT T v ≤ 601) :
    Ct l Γ y_Mo_halve b_Mo_halve 4 none 0 0 0 [.ref a, .int (nI v)] (mw Γ a b rm f g) (pvm Γ a b rm (fun f' g' => MR f' g' ord rm (hv T v))) := by
  obtain ⟨M0, M4, MRw, MF, ML⟩ := id hM
  have hrm : rm ≤ 1500 := hk.2.2.1
  have hn1 := hk.1
  have hn2 := hk.2.1
  have kR := hk.2.2.2.2.2.2.1
  have hsum : bl (ct T (fun _ => false) v) 256 = sT T v := sc_bl hk v (tN T) (Nat.le_refl _)
  refine Ct.of (by decide) (by simp [Value.category]) (Nat.le_of_ble_eq_true rfl) (fun E eG el en C hR F hnm => ?_)
  subst eG
  subst el
  have hL : 4 ≤ xn E := Nat.le_of_eq en.symm
  show G E 0 0 0 [some (.ref a), some (.int (nI v)), none, none] [] (mw (xG E) a b rm f g)
  have hcs : ∀ i, 0 < i → i < tN T → tP T i = v → tC T i ≤ 601 := fun i h0 hi hp => Nat.le_trans (sc_le h0 hi hp) hs
  have loop2 : ∀ (j β : Nat) (g1 : Nat → Nat → Int32), β + j = 256 → 200 < sT T v → (∀ k, k ≠ 2 → g1 k = g k) → (∀ i, (i = 0 ∨ tN T ≤ i ∨ tP T i ≠ v ∨ β ≤ tB T i) → g1 2 i = g 2 i) → (∀ i, 0 < i → i < tN T → tP T i = v → tB T i < β → g1 2 i = nI ((tC T i + 1) / 2)) → G E 0 0 39 [some (.ref a), some (.int (nI v)), some (.int (nI (sT T v))), some (.int (nI (nb T v β)))] [] (mw (xG E) a b rm f g1) := by
    intro j
    induction j using Nat.strongRecOn with
    | ind j ih =>
      intro β g1 hj hS ho hu hd
      have hlt := nb_lt (v := v) (b := β) hk (by omega)
      by_cases hz : nb T v β = 0
      · have hzz := nb_zero (by omega) hz
        rw [hz]
        refine g_iload_3 (q := 40) C d_Mo_halve_39 rfl ?_
        refine g_if_le (q := 43) (tgt := 76) C d_Mo_halve_40 rfl (by decide) (fun hx => ?_) (fun hx => ?_)
        · refine g_vret C F d_Mo_halve_76 (Nat.le_refl _) (Nat.le_refl _) ⟨rfl, _, _, rfl, ?_⟩
          refine ⟨by rw [hv_N, hv_L]; exact M0, ?_, ?_, ?_, ?_⟩
          · rw [ho 0 (by decide), ho 1 (by decide), hu 0 (Or.inl rfl)]; exact M4
          · rw [hv_N, hv_P, hv_B]
            intro i i0 hi
            obtain ⟨r1, r2, r3, r4⟩ := MRw i i0 hi
            have hbi := (kR i i0 hi).2.1
            rw [ho 0 (by decide), ho 1 (by decide), ho 4 (by decide), hv_nb _ _ _ _ (by omega)]
            refine ⟨r1, r2, ?_, r4⟩
            have hC : tC (hv T v) i = if tP T i = v then (tC T i + 1) / 2 else tC T i := by unfold hv; rw [if_pos hS]
            rw [hC]
            by_cases hp : tP T i = v
            · rw [if_pos hp]
              refine hd i i0 hi hp (Nat.lt_of_not_le (fun q => ?_))
              have := hzz (tB T i) q hbi
              rw [← hp, show chT T (tP T i) (tB T i) = i from ch_uniq hk.2.2.2.2.2.2.2.1 i0 hi] at this
              omega
            · rw [if_neg hp, hu i (Or.inr (Or.inr (Or.inl hp)))]; exact r3
          · rw [hv_N, ho 3 (by decide)]
            intro i hi
            rw [hv_nb _ _ _ _ (by decide)]; exact MF i hi
          · rw [hv_L, hv_E, ho 5 (by decide)]; exact ML
        · exact absurd (by decide) hx
      · obtain ⟨p1, p2, p3, p4, p5, p6⟩ := nb_get hk (by omega) hz
        obtain ⟨r1, r2, r3, r4⟩ := MRw _ (Nat.pos_of_ne_zero hz) p1
        rw [p2] at r4
        generalize hcc : nb T v β = y at *
        have hc1 := hcs y (by omega) p1 p2
        have r3' : g1 2 y = nI (tC T y) := by rw [hu y (by omega)]; exact r3
        have r4' : g1 4 y = nI (nb T v (tB T y + 1)) := by rw [ho 4 (by decide)]; exact r4
        refine g_iload_3 (q := 40) C d_Mo_halve_39 rfl ?_
        refine g_if_le (q := 43) (tgt := 76) C d_Mo_halve_40 rfl (by decide) (fun hx => ?_) (fun hx => ?_)
        · exact absurd ((nILe0 (by omega)).mp hx) hz
        refine g_iload_2 (q := 44) C d_Mo_halve_43 rfl ?_
        refine g_sipush (v := nI 200) (q := 47) C d_Mo_halve_44 rfl (by decide) ?_
        refine g_icmp_le (q := 50) (tgt := 76) C d_Mo_halve_47 rfl (by decide) (fun hx2 => ?_) (fun hx2 => ?_)
        · exact absurd ((nI_leI (by omega) (by omega)).mp hx2) (by omega)
        refine g_aload_0 (q := 51) C d_Mo_halve_50 rfl ?_
        refine mg_28 (q := 54) C d_Mo_halve_51 rfl ?_
        refine g_iload_3 (q := 55) C d_Mo_halve_54 rfl ?_
        refine g_aload_0 (q := 56) C d_Mo_halve_55 rfl ?_
        refine mg_28 (q := 59) C d_Mo_halve_56 rfl ?_
        refine g_iload_3 (q := 60) C d_Mo_halve_59 rfl ?_
        refine ma_2 (q := 61) C hrm d_Mo_halve_60 rfl rfl (by omega) r3' ?_
        refine g_iconst (v := nI 1) (q := 62) C d_Mo_halve_61 rfl (by decide) ?_
        refine g_iadd (q := 63) C d_Mo_halve_62 rfl (nI_add _ _) ?_
        refine g_iconst (v := nI 2) (q := 64) C d_Mo_halve_63 rfl (by decide) ?_
        refine g_idiv (q := 65) C d_Mo_halve_64 rfl (by decide) (pk_div (d := 2) (by omega) (by decide) (by decide)) ?_
        refine ms_2 (q := 66) C hrm d_Mo_halve_65 rfl rfl (by omega) ?_
        refine g_aload_0 (q := 67) C d_Mo_halve_66 rfl ?_
        refine mg_34 (q := 70) C d_Mo_halve_67 rfl ?_
        refine g_iload_3 (q := 71) C d_Mo_halve_70 rfl ?_
        refine ma_4 (q := 72) C hrm d_Mo_halve_71 rfl rfl (by omega) r4' ?_
        refine g_istore_3 (q := 73) C hL d_Mo_halve_72 rfl ?_
        refine g_goto (tgt := 39) C d_Mo_halve_73 (by decide) ?_
        refine ih (256 - (tB T y + 1)) (by omega) (tB T y + 1) _ (by omega) hS (fun k hk' => by rw [updA_n hk']; exact ho k hk') (fun i hi => ?_) (fun i i0 hi hp hbi => ?_)
        · rw [updA_s, upd_n]
          · exact hu i (by omega)
          · intro e; subst e; omega
        · rw [updA_s]
          by_cases e : i = y
          · rw [e, upd_s]
          · rw [upd_n e]
            refine hd i i0 hi hp ?_
            have hci : chT T v (tB T i) = i := by rw [← hp]; exact ch_uniq hk.2.2.2.2.2.2.2.1 i0 hi
            rcases Nat.lt_trichotomy (tB T i) (tB T y) with q | q | q
            · rcases Nat.lt_or_ge (tB T i) β with q2 | q2
              · exact q2
              · have := p6 (tB T i) q2 q; omega
            · rw [q, p5] at hci; omega
            · omega
  have loop1 : ∀ (j β : Nat), β + j = 256 → G E 0 0 9 [some (.ref a), some (.int (nI v)), some (.int (nI (bl (ct T (fun _ => false) v) β))), some (.int (nI (nb T v β)))] [] (mw (xG E) a b rm f g) := by
    intro j
    induction j using Nat.strongRecOn with
    | ind j ih =>
      intro β hj
      have hlt := nb_lt (v := v) (b := β) hk (by omega)
      by_cases hz : nb T v β = 0
      · have hzz := nb_zero (by omega) hz
        have hgap : bl (ct T (fun _ => false) v) β = sT T v := by
          rw [← hsum]
          exact bl_gap (by omega) (fun γ q1 q2 => ct_0 (hzz γ q1 q2))
        rw [hz, hgap]
        refine g_iload_3 (q := 10) C d_Mo_halve_9 rfl ?_
        refine g_if_le (q := 13) (tgt := 32) C d_Mo_halve_10 rfl (by decide) (fun hx => ?_) (fun hx => ?_)
        · by_cases hS : 200 < sT T v
          · refine g_aload_0 (q := 33) C d_Mo_halve_32 rfl ?_
            refine mg_31 (q := 36) C d_Mo_halve_33 rfl ?_
            refine g_iload_1 (q := 37) C d_Mo_halve_36 rfl ?_
            refine ma_3 (q := 38) C hrm d_Mo_halve_37 rfl rfl (by omega) (MF v hvv) ?_
            refine g_istore_3 (q := 39) C hL d_Mo_halve_38 rfl ?_
            exact loop2 256 0 g (by omega) hS (fun _ _ => rfl) (fun _ _ => rfl) (fun i _ _ _ q => absurd q (Nat.not_lt_zero _))
          · have he : hv T v = T := by unfold hv; rw [if_neg hS]
            have hend : ∀ lv, G E 0 0 76 lv [] (mw (xG E) a b rm f g) := fun lv => g_vret C F d_Mo_halve_76 (Nat.le_refl _) (Nat.le_refl _) ⟨rfl, _, _, rfl, by rw [he]; exact hM⟩
            refine g_aload_0 (q := 33) C d_Mo_halve_32 rfl ?_
            refine mg_31 (q := 36) C d_Mo_halve_33 rfl ?_
            refine g_iload_1 (q := 37) C d_Mo_halve_36 rfl ?_
            refine ma_3 (q := 38) C hrm d_Mo_halve_37 rfl rfl (by omega) (MF v hvv) ?_
            refine g_istore_3 (q := 39) C hL d_Mo_halve_38 rfl ?_
            refine g_iload_3 (q := 40) C d_Mo_halve_39 rfl ?_
            refine g_if_le (q := 43) (tgt := 76) C d_Mo_halve_40 rfl (by decide) (fun hx => ?_) (fun hx => ?_)
            · exact hend _
            refine g_iload_2 (q := 44) C d_Mo_halve_43 rfl ?_
            refine g_sipush (v := nI 200) (q := 47) C d_Mo_halve_44 rfl (by decide) ?_
            refine g_icmp_le (q := 50) (tgt := 76) C d_Mo_halve_47 rfl (by decide) (fun hx2 => ?_) (fun hx2 => ?_)
            · exact hend _
            exact absurd ((nI_leI (by omega) (by omega)).mpr (by omega)) hx2
        · exact absurd (by decide) hx
      · obtain ⟨p1, p2, p3, p4, p5, p6⟩ := nb_get hk (by omega) hz
        obtain ⟨r1, r2, r3, r4⟩ := MRw _ (Nat.pos_of_ne_zero hz) p1
        rw [p2] at r4
        generalize hcc : nb T v β = y at *
        have hadd : bl (ct T (fun _ => false) v) β + tC T y = bl (ct T (fun _ => false) v) (tB T y + 1) := by
          rw [bl_gap p3 (fun γ q1 q2 => ct_0 (p6 γ q1 q2))]
          show _ = bl _ (tB T y) + ct T (fun _ => false) v (tB T y)
          rw [ct_f (by rw [p5]; exact hz), p5]
        refine g_iload_3 (q := 10) C d_Mo_halve_9 rfl ?_
        refine g_if_le (q := 13) (tgt := 32) C d_Mo_halve_10 rfl (by decide) (fun hx => ?_) (fun hx => ?_)
        · exact absurd ((nILe0 (by omega)).mp hx) hz
        refine g_iload_2 (q := 14) C d_Mo_halve_13 rfl ?_
        refine g_aload_0 (q := 15) C d_Mo_halve_14 rfl ?_
        refine mg_28 (q := 18) C d_Mo_halve_15 rfl ?_
        refine g_iload_3 (q := 19) C d_Mo_halve_18 rfl ?_
        refine ma_2 (q := 20) C hrm d_Mo_halve_19 rfl rfl (by omega) r3 ?_
        refine g_iadd (q := 21) C d_Mo_halve_20 rfl (nI_add _ _) ?_
        refine g_istore_2 (q := 22) C hL d_Mo_halve_21 rfl ?_
        refine g_aload_0 (q := 23) C d_Mo_halve_22 rfl ?_
        refine mg_34 (q := 26) C d_Mo_halve_23 rfl ?_
        refine g_iload_3 (q := 27) C d_Mo_halve_26 rfl ?_
        refine ma_4 (q := 28) C hrm d_Mo_halve_27 rfl rfl (by omega) r4 ?_
        refine g_istore_3 (q := 29) C hL d_Mo_halve_28 rfl ?_
        refine g_goto (tgt := 9) C d_Mo_halve_29 (by decide) ?_
        rw [hadd]
        exact ih (256 - (tB T y + 1)) (by omega) (tB T y + 1) (by omega)
  refine g_iconst (v := nI 0) (q := 1) C d_Mo_halve_0 rfl (by decide) ?_
  refine g_istore_2 (q := 2) C hL d_Mo_halve_1 rfl ?_
  refine g_aload_0 (q := 3) C d_Mo_halve_2 rfl ?_
  refine mg_31 (q := 6) C d_Mo_halve_3 rfl ?_
  refine g_iload_1 (q := 7) C d_Mo_halve_6 rfl ?_
  refine ma_3 (q := 8) C hrm d_Mo_halve_7 rfl rfl (by omega) (MF v hvv) ?_
  refine g_istore_3 (q := 9) C hL d_Mo_halve_8 rfl ?_
  exact loop1 256 0 (by omega)
theorem c_Mo_remember {c : Nat} (hM : MR f g ord rm T) (hk : TOk ord rm T) (hc : c < 256) :
    Ct l Γ y_Mo_remember b_Mo_remember 2 none 1 0 0 [.ref a, .int (nI c)] (mw Γ a b rm f g) (pvm Γ a b rm (fun f' g' => MR f' g' ord rm (rem ord c T))) := by
  obtain ⟨⟨M0, M1, M2, M3⟩, M4, MRw, MF, ML⟩ := id hM
  have hrm : rm ≤ 1500 := hk.2.2.1
  have k5 := hk.2.2.2.2.1
  have k6 := hk.2.2.2.2.2.1
  refine Ct.of (by decide) (by simp [Value.category]) (Nat.le_of_ble_eq_true rfl) (fun E eG el en C hR F hnm => ?_)
  subst eG
  subst el
  have hL : 2 ≤ xn E := Nat.le_of_eq en.symm
  show G E 0 0 0 [some (.ref a), some (.int (nI c))] [] (mw (xG E) a b rm f g)
  -- the byte is put at the place L'
  have h48 : ∀ (L' : Nat) (f1 : Nat → Int32) (g1 : Nat → Nat → Int32), L' < 4 → f1 0 = f 0 → f1 1 = f 1 → f1 2 = f 2 → f1 3 = nI L' → (∀ k, k ≠ 5 → g1 k = g k) → rem ord c T = (tN T, tP T, tB T, tC T, L' + 1, tE (rem ord c T)) → (∀ i, i < L' → g1 5 i = nI (tE (rem ord c T) i)) → tE (rem ord c T) L' = c → G E 0 0 48 [some (.ref a), some (.int (nI c))] [] (mw (xG E) a b rm f1 g1) := by
    intro L' f1 g1 hL e0 e1 e2 e3 eg hr hE hE2
    refine g_aload_0 (q := 49) C d_Mo_remember_48 rfl ?_
    refine mg_9 (q := 52) C d_Mo_remember_49 rfl ?_
    refine g_aload_0 (q := 53) C d_Mo_remember_52 rfl ?_
    refine g_dup_r (q := 54) C d_Mo_remember_53 rfl ?_
    refine mg_43 (q := 57) C d_Mo_remember_54 rfl e3 ?_
    refine g_dup_x1 (q := 58) C d_Mo_remember_57 rfl rfl rfl ?_
    refine g_iconst (v := nI 1) (q := 59) C d_Mo_remember_58 rfl (by decide) ?_
    refine g_iadd (q := 60) C d_Mo_remember_59 rfl (nI_1 _) ?_
    refine mp_43 (q := 63) C d_Mo_remember_60 rfl ?_
    refine g_iload_1 (q := 64) C d_Mo_remember_63 rfl ?_
    refine ms_5 (q := 65) C d_Mo_remember_64 rfl rfl (by omega) ?_
    refine g_vret C F d_Mo_remember_65 (Nat.le_refl _) (Nat.le_refl _) ⟨rfl, _, _, rfl, ?_⟩
    have hnb : ∀ v' β, nb (rem ord c T) v' β = nb T v' β := fun v' β => nb_same (by rw [hr]) (by rw [hr]) (by rw [hr]) v' β
    refine ⟨⟨?_, ?_, ?_, ?_⟩, ?_, ?_, ?_, fun i hi => ?_⟩
    · show f1 0 = _
      rw [e0]; exact M0
    · show f1 1 = _
      rw [e1]; exact M1
    · show f1 2 = _
      rw [e2, hr]; exact M2
    · rw [hr]; exact upd_s
    · show g1 0 0 = _ ∧ g1 1 0 = _ ∧ g1 2 0 = _
      rw [eg 0 (by decide), eg 1 (by decide), eg 2 (by decide)]; exact M4
    · intro i i0 hi
      rw [hnb]
      rw [hr] at hi ⊢
      show g1 0 i = _ ∧ g1 1 i = _ ∧ g1 2 i = _ ∧ g1 4 i = _
      rw [eg 0 (by decide), eg 1 (by decide), eg 2 (by decide), eg 4 (by decide)]
      exact MRw i i0 hi
    · intro i hi
      rw [hnb]
      rw [hr] at hi
      show g1 3 i = _
      rw [eg 3 (by decide)]
      exact MF i hi
    · rw [hr] at hi
      have hi : i < L' + 1 := hi
      show upd (g1 5) L' (nI c) i = _
      by_cases e : i = L'
      · rw [e, upd_s, hE2]
      · rw [upd_n e]; exact hE i (by omega)
  refine g_aload_0 (q := 1) C d_Mo_remember_0 rfl ?_
  refine mg_15 (q := 4) C d_Mo_remember_1 rfl M0 ?_
  refine g_if_ne (q := 7) (tgt := 8) C d_Mo_remember_4 rfl (by decide) (fun hz => ?_) (fun hz => ?_)
  · have hz : ord ≠ 0 := fun q => hz (by rw [q]; rfl)
    refine g_aload_0 (q := 9) C d_Mo_remember_8 rfl ?_
    refine mg_43 (q := 12) C d_Mo_remember_9 rfl M3 ?_
    refine g_aload_0 (q := 13) C d_Mo_remember_12 rfl ?_
    refine mg_15 (q := 16) C d_Mo_remember_13 rfl M0 ?_
    refine g_icmp_ne (q := 19) (tgt := 48) C d_Mo_remember_16 rfl (by decide) (fun hq => ?_) (fun hq => ?_)
    · have hq : tL T ≠ ord := fun q => hq (by rw [q])
      have hr : rem ord c T = (tN T, tP T, tB T, tC T, tL T + 1, upN (tE T) (tL T) c) := by unfold rem; rw [if_neg hz, if_neg hq]
      exact h48 (tL T) f g (by omega) rfl rfl rfl M3 (fun _ _ => rfl) (by rw [hr]) (fun i hi => by rw [hr]; show _ = nI (upN _ _ _ i); rw [upN_n (by omega)]; exact ML i hi) (by rw [hr]; exact upN_s)
    · have hq : tL T = ord := (nI_eq (by omega) (by omega)).mp (Decidable.not_not.mp hq)
      have hr : rem ord c T = (tN T, tP T, tB T, tC T, tL T, fun i => if i + 1 < tL T then tE T (i + 1) else c) := by unfold rem; rw [if_neg hz, if_pos hq]
      refine g_aload_0 (q := 20) C d_Mo_remember_19 rfl ?_
      refine mg_9 (q := 23) C d_Mo_remember_20 rfl ?_
      refine g_iconst (v := nI 1) (q := 24) C d_Mo_remember_23 rfl (by decide) ?_
      refine g_aload_0 (q := 25) C d_Mo_remember_24 rfl ?_
      refine mg_9 (q := 28) C d_Mo_remember_25 rfl ?_
      refine g_iconst (v := nI 0) (q := 29) C d_Mo_remember_28 rfl (by decide) ?_
      refine g_aload_0 (q := 30) C d_Mo_remember_29 rfl ?_
      refine mg_15 (q := 33) C d_Mo_remember_30 rfl M0 ?_
      refine g_iconst (v := nI 1) (q := 34) C d_Mo_remember_33 rfl (by decide) ?_
      refine g_isub (q := 35) C d_Mo_remember_34 rfl (pk_sub (by omega)) ?_
      refine g_acopy (q := 38) (s := 1) (d := 0) (m' := ord - 1) C hR 6 6 w_471 rfl rfl d_Mo_remember_35 rfl rfl rfl rfl (by omega) (by omega) (by decide) (by decide) (by decide) (Nat.le_of_ble_eq_true rfl) ?_
      refine g_ws (ws' := mw (xG E) a b rm f (updA g 5 (va_cpy (g 5) (g 5) 1 0 (ord - 1)))) rfl ?_
      refine g_aload_0 (q := 39) C d_Mo_remember_38 rfl ?_
      refine g_dup_r (q := 40) C d_Mo_remember_39 rfl ?_
      refine mg_43 (q := 43) C d_Mo_remember_40 rfl M3 ?_
      refine g_iconst (v := nI 1) (q := 44) C d_Mo_remember_43 rfl (by decide) ?_
      refine g_isub (q := 45) C d_Mo_remember_44 rfl (pk_sub (by omega)) ?_
      refine mp_43 (q := 48) C d_Mo_remember_45 rfl ?_
      refine h48 (tL T - 1) _ _ (by omega) rfl rfl rfl upd_s (fun k hk' => updA_n hk') (by rw [hr, show tL T - 1 + 1 = tL T by omega]) (fun i hi => ?_) (by rw [hr]; show (if tL T - 1 + 1 < tL T then _ else c) = c; rw [if_neg (by omega)])
      rw [updA_s, pk_cpy_in (by omega) (by omega), hr]
      show _ = nI (if i + 1 < tL T then tE T (i + 1) else c)
      rw [if_pos (by omega), show 1 + (i - 0) = i + 1 by omega]
      exact ML (i + 1) (by omega)
  · have hz : ord = 0 := (nI0 (by omega)).mp (Decidable.not_not.mp hz)
    refine g_vret C F d_Mo_remember_7 (Nat.le_refl _) (Nat.le_refl _) ⟨rfl, _, _, rfl, ?_⟩
    unfold rem; rw [if_pos hz]; exact hM
theorem c_Mo_learns {c fd : Nat} (hM : MR f g ord rm T) (hI : TI ord rm T) (hc : c < 256) (hf : fd ≤ tL T + 1) (hp : fd - 1 = 0 ∨ chT T (cx T (fd - 1)) c ≠ 0) :
    Ct l Γ y_Mo_learns b_Mo_learns 6 (some .boolean) 2 0 0 [.ref a, .int (nI c), .int (fenc fd)] (mw Γ a b rm f g) (pim Γ a b rm (fun x f' g' => MR f' g' ord rm (learnT ord rm c (fd - 1) T).1 ∧ x = nI (if (learnT ord rm c (fd - 1) T).2 then 1 else 0))) := by
  have hrm : rm ≤ 1500 := hI.1.2.2.1
  have hl4 := hI.l
  refine Ct.of (by decide) (by simp [Value.category]) (Nat.le_of_ble_eq_true rfl) (fun E eG el en C hR F hnm => ?_)
  subst eG
  subst el
  have hL : 6 ≤ xn E := Nat.le_of_eq en.symm
  show G E 0 0 0 [some (.ref a), some (.int (nI c)), some (.int (fenc fd)), none, none, none] [] (mw (xG E) a b rm f g)
  have loop : ∀ (j k : Nat) (T1 : Tr) (f1 : Nat → Int32) (g1 : Nat → Nat → Int32), k + j = tL T + 1 → MR f1 g1 ord rm T1 → TI ord rm T1 → tL T1 = tL T → (k = 0 ∨ chT T1 (cx T1 (k - 1)) c ≠ 0) → lr rm c (tL T + 1 - (fd - 1)) (fd - 1) T = lr rm c j k T1 → G E 0 0 6 [some (.ref a), some (.int (nI c)), some (.int (fenc fd)), some (.int (nI k)), none, none] [] (mw (xG E) a b rm f1 g1) := by
    intro j
    induction j with
    | zero =>
      intro k T1 f1 g1 hk hM1 hI1 hL1 hp1 he
      have M3 := hM1.1.2.2.2
      rw [hL1] at M3
      have hle : learnT ord rm c (fd - 1) T = (rem ord c T1, false) := by unfold learnT; rw [he]; rfl
      refine g_iload_3 (q := 7) C d_Mo_learns_6 rfl ?_
      refine g_aload_0 (q := 8) C d_Mo_learns_7 rfl ?_
      refine mg_43 (q := 11) C d_Mo_learns_8 rfl M3 ?_
      refine g_icmp_gt (q := 14) (tgt := 85) C d_Mo_learns_11 rfl (by decide) (fun hx => ?_) (fun hx => ?_)
      · refine g_aload_0 (q := 86) C d_Mo_learns_85 rfl ?_
        refine g_iload_1 (q := 87) C d_Mo_learns_86 rfl ?_
        refine mc_77 (q := 90) C hR (c_Mo_remember hM1 hI1.1 hc) d_Mo_learns_87 rfl (by decide) (by decide) (by decide) (Nat.le_of_ble_eq_true rfl) (fun f2 g2 hp => ?_)
        refine g_iconst (v := nI 0) (q := 91) C d_Mo_learns_90 rfl (by decide) ?_
        exact g_zret C F d_Mo_learns_91 (Or.inl rfl) (Nat.le_refl _) (Nat.le_refl _) ⟨_, _, _, rfl, rfl, by rw [hle]; exact hp, by rw [hle]; rfl⟩
      · exact absurd ((nI_ltI (by omega) (by omega)).mpr (by omega)) hx
    | succ j ih =>
      intro k T1 f1 g1 hk hM1 hI1 hL1 hp1 he
      obtain ⟨hk1, hx1, hS1, hB1⟩ := id hI1
      obtain ⟨⟨M0, M1, M2, M3⟩, M4, MRw, MF, ML⟩ := id hM1
      have hn := hI1.n
      have k1 := hk1.1
      have k2 := hk1.2.1
      rw [hL1] at M3
      have hvl : cx T1 k < tN T1 := cxp_lt k1 k k
      refine g_iload_3 (q := 7) C d_Mo_learns_6 rfl ?_
      refine g_aload_0 (q := 8) C d_Mo_learns_7 rfl ?_
      refine mg_43 (q := 11) C d_Mo_learns_8 rfl M3 ?_
      refine g_icmp_gt (q := 14) (tgt := 85) C d_Mo_learns_11 rfl (by decide) (fun hx => ?_) (fun hx => ?_)
      · exact absurd ((nI_ltI (by omega) (by omega)).mp hx) (by omega)
      refine g_aload_0 (q := 15) C d_Mo_learns_14 rfl ?_
      refine g_iload_3 (q := 16) C d_Mo_learns_15 rfl ?_
      refine mc_65 (q := 19) C hR (c_Mo_context hM1 hk1 hx1 (by omega)) d_Mo_learns_16 rfl (by decide) (by decide) (by decide) (Nat.le_of_ble_eq_true rfl) (fun x f2 g2 hp => ?_)
      obtain ⟨rfl, rfl, rfl⟩ := hp
      refine g_istore_4 (q := 21) C hL d_Mo_learns_19 rfl ?_
      refine g_aload_0 (q := 22) C d_Mo_learns_21 rfl ?_
      refine g_iload_4 (q := 24) C d_Mo_learns_22 rfl ?_
      refine g_iload_1 (q := 25) C d_Mo_learns_24 rfl ?_
      refine mc_56 (q := 28) C hR (c_Mo_childOf hM1 hk1 hvl hc) d_Mo_learns_25 rfl (by decide) (by decide) (by decide) (Nat.le_of_ble_eq_true rfl) (fun x f2 g2 hp => ?_)
      obtain ⟨rfl, rfl, rfl⟩ := hp
      -- behind the child: halve, on
      have h73 : ∀ (f3 : Nat → Int32) (g3 : Nat → Nat → Int32) (l5 : Option Value), ¬ (chT T1 (cx T1 k) c = 0 ∧ tN T1 = rm) → MR f3 g3 ord rm (inc T1 (cx T1 k) c) → G E 0 0 73 [some (.ref a), some (.int (nI c)), some (.int (fenc fd)), some (.int (nI k)), some (.int (nI (cx T1 k))), l5] [] (mw (xG E) a b rm f3 g3) := by
        intro f3 g3 l5 hr hM3
        have hok := inc_ok hk1 hvl hc hr
        obtain ⟨hs1, hs2⟩ := hi_s hk1 hB1 hvl hc hr
        obtain ⟨hc1, hc2⟩ := hi_cx k1 hx1 (cx T1 k) c
        have hNi : tN T1 ≤ tN (inc T1 (cx T1 k) c) := by
          unfold inc
          split
          · exact Nat.le_succ _
          · exact Nat.le_refl _
        refine g_aload_0 (q := 74) C d_Mo_learns_73 rfl ?_
        refine g_iload_4 (q := 76) C d_Mo_learns_74 rfl ?_
        refine mc_73 (q := 79) C hR (c_Mo_halve hM3 hok (by omega) hs2) d_Mo_learns_76 rfl (by decide) (by decide) (by decide) (Nat.le_of_ble_eq_true rfl) (fun f4 g4 hM4 => ?_)
        refine g_iinc_3 (q := 82) C hL d_Mo_learns_79 rfl (nI_inc _) ?_
        refine g_goto (tgt := 6) C d_Mo_learns_82 (by decide) ?_
        refine g_weak (lv' := [some (.ref a), some (.int (nI c)), some (.int (fenc fd)), some (.int (nI (k + 1))), none, none]) (by simp [lvle]) ?_
        have hLL : tL (hv (inc T1 (cx T1 k) c) (cx T1 k)) = tL T1 := by rw [hv_L, inc_L]
        refine ih (k + 1) (hv (inc T1 (cx T1 k) c) (cx T1 k)) f4 g4 (by omega) hM4 ⟨hv_ok hok _, hc2, hv_sfx (inc_sfx hk1 hx1 hS1 (by omega) hp1), hs1⟩ (by rw [hLL]; exact hL1) (Or.inr ?_) ?_
        · rw [show k + 1 - 1 = k by omega, hc1 k (by omega), hv_ch, ch_inc k1]
          by_cases hcc : chT T1 (cx T1 k) c = 0
          · rw [if_pos ⟨hcc, rfl, rfl⟩]; omega
          · rw [if_neg (fun q => hcc q.1)]; exact hcc
        · rw [he]
          show (if _ then _ else _) = _
          rw [if_neg hr]
      refine g_istore_5 (q := 30) C hL d_Mo_learns_28 rfl ?_
      refine g_iload_5 (q := 32) C d_Mo_learns_30 rfl ?_
      by_cases hcc : chT T1 (cx T1 k) c = 0
      · rw [hcc]
        refine g_if_le (q := 35) (tgt := 49) C d_Mo_learns_32 rfl (by decide) (fun hz => ?_) (fun hz => ?_)
        · refine g_aload_0 (q := 50) C d_Mo_learns_49 rfl ?_
          refine mg_40 (q := 53) C d_Mo_learns_50 rfl M2 ?_
          refine g_aload_0 (q := 54) C d_Mo_learns_53 rfl ?_
          refine mg_19 (q := 57) C d_Mo_learns_54 rfl M1 ?_
          refine g_icmp_ne (q := 60) (tgt := 66) C d_Mo_learns_57 rfl (by decide) (fun hr => ?_) (fun hr => ?_)
          · have hr : tN T1 ≠ rm := fun q => hr (by rw [q])
            refine g_aload_0 (q := 67) C d_Mo_learns_66 rfl ?_
            refine g_iload_4 (q := 69) C d_Mo_learns_67 rfl ?_
            refine g_iload_1 (q := 70) C d_Mo_learns_69 rfl ?_
            refine mc_69 (q := 73) C hR (c_Mo_bear hM1 hk1 hvl hc hcc hr) d_Mo_learns_70 rfl (by decide) (by decide) (by decide) (Nat.le_of_ble_eq_true rfl) (fun f3 g3 hp => ?_)
            exact h73 f3 g3 _ (fun q => hr q.2) hp
          · have hr : tN T1 = rm := (nI_eq (by omega) (by omega)).mp (Decidable.not_not.mp hr)
            have hle : learnT ord rm c (fd - 1) T = (rs T1, true) := by
              have : lr rm c (tL T + 1 - (fd - 1)) (fd - 1) T = (rs T1, true) := by
                rw [he]
                show (if _ then _ else _) = _
                rw [if_pos ⟨hcc, hr⟩]
              unfold learnT; rw [this]; rfl
            refine g_aload_0 (q := 61) C d_Mo_learns_60 rfl ?_
            refine mc_37 (q := 64) C hR (c_Mo_begin (ord := ord) hrm hk1.2.2.2.1 M0 M1 M4.2.2) d_Mo_learns_61 rfl (by decide) (by decide) (by decide) (Nat.le_of_ble_eq_true rfl) (fun f3 g3 hp => ?_)
            refine g_iconst (v := nI 1) (q := 65) C d_Mo_learns_64 rfl (by decide) ?_
            exact g_zret C F d_Mo_learns_65 (Or.inr rfl) (Nat.le_refl _) (Nat.le_refl _) ⟨_, _, _, rfl, rfl, by rw [hle]; exact hp T1, by rw [hle]; rfl⟩
        · exact absurd (by decide) hz
      · obtain ⟨c0, c1, c2, c3⟩ := ch_some hcc
        have cR := MRw _ c0 c1
        have c1 : chT T1 (cx T1 k) c < tN T1 := c1
        have c0 : 0 < chT T1 (cx T1 k) c := c0
        refine g_if_le (q := 35) (tgt := 49) C d_Mo_learns_32 rfl (by decide) (fun hz => ?_) (fun hz => ?_)
        · exact absurd ((nILe0 (by omega)).mp hz) hcc
        refine g_aload_0 (q := 36) C d_Mo_learns_35 rfl ?_
        refine mg_28 (q := 39) C d_Mo_learns_36 rfl ?_
        refine g_iload_5 (q := 41) C d_Mo_learns_39 rfl ?_
        refine g_dup2 (q := 42) C d_Mo_learns_41 rfl rfl rfl ?_
        refine ma_2 (q := 43) C hrm d_Mo_learns_42 rfl rfl (by omega) cR.2.2.1 ?_
        refine g_iconst (v := nI 1) (q := 44) C d_Mo_learns_43 rfl (by decide) ?_
        refine g_iadd (q := 45) C d_Mo_learns_44 rfl (nI_1 _) ?_
        refine ms_2 (q := 46) C hrm d_Mo_learns_45 rfl rfl (by omega) ?_
        refine g_goto (tgt := 73) C d_Mo_learns_46 (by decide) ?_
        refine h73 _ _ _ (fun q => hcc q.1) ?_
        have hinc : inc T1 (cx T1 k) c = (tN T1, tP T1, tB T1, upN (tC T1) (chT T1 (cx T1 k) c) (tC T1 (chT T1 (cx T1 k) c) + 1), tL T1, tE T1) := by unfold inc; rw [if_neg hcc]
        have hnb : ∀ v' β, nb (tN T1, tP T1, tB T1, upN (tC T1) (chT T1 (cx T1 k) c) (tC T1 (chT T1 (cx T1 k) c) + 1), tL T1, tE T1) v' β = nb T1 v' β := fun v' β => nb_same (T := T1) (T' := (tN T1, tP T1, tB T1, upN (tC T1) (chT T1 (cx T1 k) c) (tC T1 (chT T1 (cx T1 k) c) + 1), tL T1, tE T1)) rfl rfl rfl v' β
        rw [hinc]
        refine ⟨hM1.1, ⟨M4.1, M4.2.1, ?_⟩, fun i h0 hi => ?_, fun v hv' => by rw [hnb]; exact MF v hv', ML⟩
        · show upd (g2 2) _ _ 0 = _
          rw [upd_n (by omega)]; exact M4.2.2
        · obtain ⟨r1, r2, r3, r4⟩ := MRw i h0 hi
          refine ⟨r1, r2, ?_, by rw [hnb]; exact r4⟩
          show upd (g2 2) (chT T1 (cx T1 k) c) _ i = nI (upN (tC T1) _ _ i)
          by_cases ei : i = chT T1 (cx T1 k) c
          · rw [ei, upd_s, upN_s]
          · rw [upd_n ei, upN_n ei]; exact r3
  have hmax : (if fenc fd < nI 0 then nI 0 else fenc fd) = nI (fd - 1) := by
    rcases Nat.eq_zero_or_pos fd with z | z
    · subst z; decide
    · have e : fenc fd = nI (fd - 1) := by unfold fenc; rw [if_neg (by omega)]
      rw [e, if_neg]
      exact Int32.not_lt.mpr (nI_le (Nat.zero_le _) (by omega))
  refine g_iload_2 (q := 1) C d_Mo_learns_0 rfl ?_
  refine g_iconst (v := nI 0) (q := 2) C d_Mo_learns_1 rfl (by decide) ?_
  refine g_mmax (q := 5) C hR w_457 d_Mo_learns_2 rfl (by decide) (by decide) (by decide) (Nat.le_of_ble_eq_true rfl) ?_
  rw [hmax]
  refine g_istore_3 (q := 6) C hL d_Mo_learns_5 rfl ?_
  refine loop (tL T + 1 - (fd - 1)) (fd - 1) T f g (by omega) hM hI rfl ?_ rfl
  rcases hp with q | q
  · exact Or.inl q
  · rcases Nat.eq_zero_or_pos (fd - 1) with z | z
    · exact Or.inl z
    · right
      refine ctx_down hI.2.1 hI.2.2.1 (k := fd - 1 - 1) (by omega) ?_
      rw [show fd - 1 - 1 + 1 = fd - 1 by omega]; exact q
end
