/-! THE CLASS Model: take, areLike, isLike, the constructor -/
section
variable {l : Launch} {Γ : Gl} {a a2 : Nat} {b b2 : Nat → Nat} {f f2 : Nat → Int32} {g g2 : Nat → Nat → Int32} {T T2 : Tr} {ord rm : Nat}
theorem c_Mo_take (hM : MR f2 g2 ord rm T) (hI : TI ord rm T) (h0 : f 0 = nI ord) (h1 : f 1 = nI rm) :
    Ct l Γ y_Mo_take b_Mo_take 2 none 1 0 0 [.ref a, .ref a2] (mw Γ a b rm f g ++ mw Γ a2 b2 rm f2 g2) (fun r w => r = none ∧ ∃ f' g', w = mw Γ a b rm f' g' ++ mw Γ a2 b2 rm f2 g2 ∧ MR f' g' ord rm T) := by
  obtain ⟨⟨M0, M1, M2, M3⟩, ⟨M4, M5, M6⟩, MRw, MF, ML⟩ := id hM
  have hrm : rm ≤ 1500 := hI.1.2.2.1
  have hn := hI.1.2.1
  have hn1 := hI.1.1
  have hl := hI.l
  refine Ct.of (by decide) (by simp [Value.category]) (Nat.le_of_ble_eq_true rfl) (fun E eG el en C hR F hnm => ?_)
  subst eG
  subst el
  have hL : 2 ≤ xn E := Nat.le_of_eq en.symm
  show G E 0 0 0 [some (.ref a), some (.ref a2)] [] (mw (xG E) a b rm f g ++ mw (xG E) a2 b2 rm f2 g2)
  refine g_aload_0 (q := 1) C d_Mo_take_0 rfl ?_
  refine g_aload_1 (q := 2) C d_Mo_take_1 rfl ?_
  refine mgB_40 (q := 5) C d_Mo_take_2 rfl M2 ?_
  refine mpA_40 (q := 8) C d_Mo_take_5 rfl ?_
  refine g_aload_0 (q := 9) C d_Mo_take_8 rfl ?_
  refine g_aload_1 (q := 10) C d_Mo_take_9 rfl ?_
  refine mgB_43 (q := 13) C d_Mo_take_10 rfl M3 ?_
  refine mpA_43 (q := 16) C d_Mo_take_13 rfl ?_
  refine g_aload_1 (q := 17) C d_Mo_take_16 rfl ?_
  refine mgB_22 (q := 20) C d_Mo_take_17 rfl ?_
  refine g_iconst (v := nI 0) (q := 21) C d_Mo_take_20 rfl (by decide) ?_
  refine g_aload_0 (q := 22) C d_Mo_take_21 rfl ?_
  refine mgA_22 (q := 25) C d_Mo_take_22 rfl ?_
  refine g_iconst (v := nI 0) (q := 26) C d_Mo_take_25 rfl (by decide) ?_
  refine g_aload_0 (q := 27) C d_Mo_take_26 rfl ?_
  refine mgA_40 (q := 30) C d_Mo_take_27 rfl rfl ?_
  refine mcp_0 (q := 33) (m' := tN T) C hR hrm d_Mo_take_30 rfl rfl hn (by decide) (Nat.le_of_ble_eq_true rfl) ?_
  refine g_aload_1 (q := 34) C d_Mo_take_33 rfl ?_
  refine mgB_25 (q := 37) C d_Mo_take_34 rfl ?_
  refine g_iconst (v := nI 0) (q := 38) C d_Mo_take_37 rfl (by decide) ?_
  refine g_aload_0 (q := 39) C d_Mo_take_38 rfl ?_
  refine mgA_25 (q := 42) C d_Mo_take_39 rfl ?_
  refine g_iconst (v := nI 0) (q := 43) C d_Mo_take_42 rfl (by decide) ?_
  refine g_aload_0 (q := 44) C d_Mo_take_43 rfl ?_
  refine mgA_40 (q := 47) C d_Mo_take_44 rfl rfl ?_
  refine mcp_1 (q := 50) (m' := tN T) C hR hrm d_Mo_take_47 rfl rfl hn (by decide) (Nat.le_of_ble_eq_true rfl) ?_
  refine g_aload_1 (q := 51) C d_Mo_take_50 rfl ?_
  refine mgB_28 (q := 54) C d_Mo_take_51 rfl ?_
  refine g_iconst (v := nI 0) (q := 55) C d_Mo_take_54 rfl (by decide) ?_
  refine g_aload_0 (q := 56) C d_Mo_take_55 rfl ?_
  refine mgA_28 (q := 59) C d_Mo_take_56 rfl ?_
  refine g_iconst (v := nI 0) (q := 60) C d_Mo_take_59 rfl (by decide) ?_
  refine g_aload_0 (q := 61) C d_Mo_take_60 rfl ?_
  refine mgA_40 (q := 64) C d_Mo_take_61 rfl rfl ?_
  refine mcp_2 (q := 67) (m' := tN T) C hR hrm d_Mo_take_64 rfl rfl hn (by decide) (Nat.le_of_ble_eq_true rfl) ?_
  refine g_aload_1 (q := 68) C d_Mo_take_67 rfl ?_
  refine mgB_31 (q := 71) C d_Mo_take_68 rfl ?_
  refine g_iconst (v := nI 0) (q := 72) C d_Mo_take_71 rfl (by decide) ?_
  refine g_aload_0 (q := 73) C d_Mo_take_72 rfl ?_
  refine mgA_31 (q := 76) C d_Mo_take_73 rfl ?_
  refine g_iconst (v := nI 0) (q := 77) C d_Mo_take_76 rfl (by decide) ?_
  refine g_aload_0 (q := 78) C d_Mo_take_77 rfl ?_
  refine mgA_40 (q := 81) C d_Mo_take_78 rfl rfl ?_
  refine mcp_3 (q := 84) (m' := tN T) C hR hrm d_Mo_take_81 rfl rfl hn (by decide) (Nat.le_of_ble_eq_true rfl) ?_
  refine g_aload_1 (q := 85) C d_Mo_take_84 rfl ?_
  refine mgB_34 (q := 88) C d_Mo_take_85 rfl ?_
  refine g_iconst (v := nI 0) (q := 89) C d_Mo_take_88 rfl (by decide) ?_
  refine g_aload_0 (q := 90) C d_Mo_take_89 rfl ?_
  refine mgA_34 (q := 93) C d_Mo_take_90 rfl ?_
  refine g_iconst (v := nI 0) (q := 94) C d_Mo_take_93 rfl (by decide) ?_
  refine g_aload_0 (q := 95) C d_Mo_take_94 rfl ?_
  refine mgA_40 (q := 98) C d_Mo_take_95 rfl rfl ?_
  refine mcp_4 (q := 101) (m' := tN T) C hR hrm d_Mo_take_98 rfl rfl hn (by decide) (Nat.le_of_ble_eq_true rfl) ?_
  refine g_aload_1 (q := 102) C d_Mo_take_101 rfl ?_
  refine mgB_9 (q := 105) C d_Mo_take_102 rfl ?_
  refine g_iconst (v := nI 0) (q := 106) C d_Mo_take_105 rfl (by decide) ?_
  refine g_aload_0 (q := 107) C d_Mo_take_106 rfl ?_
  refine mgA_9 (q := 110) C d_Mo_take_107 rfl ?_
  refine g_iconst (v := nI 0) (q := 111) C d_Mo_take_110 rfl (by decide) ?_
  refine g_iconst (v := nI 4) (q := 112) C d_Mo_take_111 rfl (by decide) ?_
  refine mcp_5 (q := 115) (m' := 4) C hR hrm d_Mo_take_112 rfl rfl (by decide) (by decide) (Nat.le_of_ble_eq_true rfl) ?_
  refine g_vret C F d_Mo_take_115 (Nat.le_refl _) (Nat.le_refl _) ⟨rfl, _, _, rfl, ⟨⟨h0, h1, rfl, rfl⟩, ⟨?_, ?_, ?_⟩, fun i i0 hi => ⟨?_, ?_, ?_, ?_⟩, fun v hv' => ?_, fun i hi => ?_⟩⟩
  · exact (pk_cpy_in (Nat.zero_le _) (by omega)).trans M4
  · exact (pk_cpy_in (Nat.zero_le _) (by omega)).trans M5
  · exact (pk_cpy_in (Nat.zero_le _) (by omega)).trans M6
  · refine (pk_cpy_in (Nat.zero_le _) (by omega)).trans ?_
    rw [show 0 + (i - 0) = i by omega]; exact (MRw i i0 hi).1
  · refine (pk_cpy_in (Nat.zero_le _) (by omega)).trans ?_
    rw [show 0 + (i - 0) = i by omega]; exact (MRw i i0 hi).2.1
  · refine (pk_cpy_in (Nat.zero_le _) (by omega)).trans ?_
    rw [show 0 + (i - 0) = i by omega]; exact (MRw i i0 hi).2.2.1
  · refine (pk_cpy_in (Nat.zero_le _) (by omega)).trans ?_
    rw [show 0 + (i - 0) = i by omega]; exact (MRw i i0 hi).2.2.2
  · refine (pk_cpy_in (Nat.zero_le _) (by omega)).trans ?_
    rw [show 0 + (v - 0) = v by omega]; exact MF v hv'
  · refine (pk_cpy_in (Nat.zero_le _) (by omega)).trans ?_
    rw [show 0 + (i - 0) = i by omega]; exact ML i hi
theorem c_Mo_areLike {x y N M n : Nat} {p q : Nat → Int32} (hN : n ≤ N) (hM : n ≤ M) (hn : N ≤ 1500) (hm : M ≤ 1500) :
    Ct l Γ y_Mo_areLike b_Mo_areLike 4 (some .boolean) 0 0 0 [.ref x, .ref y, .int (nI n)] [(x, .inl (Γ.2 0, N, .inl p)), (y, .inl (Γ.2 0, M, .inl q))] (fun r w => ∃ z, r = some (.int z) ∧ w = [(x, .inl (Γ.2 0, N, .inl p)), (y, .inl (Γ.2 0, M, .inl q))] ∧ (((∀ k, k < n → p k = q k) ∧ z = nI 1) ∨ (¬ (∀ k, k < n → p k = q k) ∧ z = nI 0))) := by
  refine Ct.of (by decide) (by simp [Value.category]) (Nat.le_of_ble_eq_true rfl) (fun E eG el en C hR F hnm => ?_)
  subst eG
  subst el
  have hL : 4 ≤ xn E := Nat.le_of_eq en.symm
  show G E 0 0 0 [some (.ref x), some (.ref y), some (.int (nI n)), none] [] [(x, .inl ((xG E).2 0, N, .inl p)), (y, .inl ((xG E).2 0, M, .inl q))]
  have loop : ∀ j i, i + j = n → (∀ k, k < i → p k = q k) → G E 0 0 2 [some (.ref x), some (.ref y), some (.int (nI n)), some (.int (nI i))] [] [(x, .inl ((xG E).2 0, N, .inl p)), (y, .inl ((xG E).2 0, M, .inl q))] := by
    intro j
    induction j with
    | zero =>
      intro i hi he
      refine g_iload_3 (q := 3) C d_Mo_areLike_2 rfl ?_
      refine g_iload_2 (q := 4) C d_Mo_areLike_3 rfl ?_
      refine g_icmp_ge (q := 7) (tgt := 24) C d_Mo_areLike_4 rfl (by decide) (fun hc => ?_) (fun hc => ?_)
      · refine g_iconst (v := nI 1) (q := 25) C d_Mo_areLike_24 rfl (by decide) ?_
        exact g_zret C F d_Mo_areLike_25 (Or.inr rfl) (Nat.le_refl _) (Nat.le_refl _) ⟨_, rfl, rfl, Or.inl ⟨fun k hk => he k (by omega), rfl⟩⟩
      · exact absurd ((nI_leI (by omega) (by omega)).mpr (by omega)) hc
    | succ j ih =>
      intro i hi he
      refine g_iload_3 (q := 3) C d_Mo_areLike_2 rfl ?_
      refine g_iload_2 (q := 4) C d_Mo_areLike_3 rfl ?_
      refine g_icmp_ge (q := 7) (tgt := 24) C d_Mo_areLike_4 rfl (by decide) (fun hc => ?_) (fun hc => ?_)
      · exact absurd ((nI_leI (by omega) (by omega)).mp hc) (by omega)
      refine g_aload_0 (q := 8) C d_Mo_areLike_7 rfl ?_
      refine g_iload_3 (q := 9) C d_Mo_areLike_8 rfl ?_
      refine g_iald (q := 10) C 0 rfl (vp_in_nI (n := i) (by omega) (by omega)) d_Mo_areLike_9 rfl ?_
      refine g_aload_1 (q := 11) C d_Mo_areLike_10 rfl ?_
      refine g_iload_3 (q := 12) C d_Mo_areLike_11 rfl ?_
      refine g_iald (q := 13) C 1 rfl (vp_in_nI (n := i) (by omega) (by omega)) d_Mo_areLike_12 rfl ?_
      rw [nI_clamp (by omega)]
      refine g_icmp_eq (q := 16) (tgt := 18) C d_Mo_areLike_13 rfl (by decide) (fun hq => ?_) (fun hq => ?_)
      · refine g_iinc_3 (q := 21) C hL d_Mo_areLike_18 rfl (nI_inc _) ?_
        refine g_goto (tgt := 2) C d_Mo_areLike_21 (by decide) ?_
        exact ih (i + 1) (by omega) (fun k hk => by
          by_cases e : k = i
          · rw [e]; exact hq
          · exact he k (by omega))
      · refine g_iconst (v := nI 0) (q := 17) C d_Mo_areLike_16 rfl (by decide) ?_
        exact g_zret C F d_Mo_areLike_17 (Or.inl rfl) (Nat.le_refl _) (Nat.le_refl _) ⟨_, rfl, rfl, Or.inr ⟨fun h => hq (h i (by omega)), rfl⟩⟩
  refine g_iconst (v := nI 0) (q := 1) C d_Mo_areLike_0 rfl (by decide) ?_
  refine g_istore_3 (q := 2) C hL d_Mo_areLike_1 rfl ?_
  exact loop n 0 (by omega) (fun k hk => absurd hk (Nat.not_lt_zero _))
theorem c_Mo_isLike (hM : MR f g ord rm T) (hI : TI ord rm T) (hM2 : MR f2 g2 ord rm T2) (hI2 : TI ord rm T2) :
    Ct l Γ y_Mo_isLike b_Mo_isLike 2 (some .boolean) 1 0 0 [.ref a, .ref a2] (mw Γ a b rm f g ++ mw Γ a2 b2 rm f2 g2) (fun r w => ∃ z, r = some (.int z) ∧ w = mw Γ a b rm f g ++ mw Γ a2 b2 rm f2 g2 ∧ ((eqT T T2 ∧ z = nI 1) ∨ (¬ eqT T T2 ∧ z = nI 0))) := by
  obtain ⟨⟨M0, M1, M2, M3⟩, ⟨M4, M5, M6⟩, MRw, MF, ML⟩ := id hM
  obtain ⟨⟨N0, N1, N2, N3⟩, ⟨N4, N5, N6⟩, NRw, NF, NL⟩ := id hM2
  have hrm : rm ≤ 1500 := hI.1.2.2.1
  have hn := hI.1.2.1
  have hn2 := hI2.1.2.1
  have hn1 := hI.1.1
  have hl := hI.l
  have hl2 := hI2.l
  have kR := hI.1.2.2.2.2.2.2.1
  have kR2 := hI2.1.2.2.2.2.2.2.1
  have k9 := hI.1.2.2.2.2.2.2.2.2
  have k92 := hI2.1.2.2.2.2.2.2.2.2
  refine Ct.of (by decide) (by simp [Value.category]) (Nat.le_of_ble_eq_true rfl) (fun E eG el en C hR F hnm => ?_)
  subst eG
  subst el
  have hL : 2 ≤ xn E := Nat.le_of_eq en.symm
  show G E 0 0 0 [some (.ref a), some (.ref a2)] [] (mw (xG E) a b rm f g ++ mw (xG E) a2 b2 rm f2 g2)
  have h98 : ¬ eqT T T2 → G E 0 0 98 [some (.ref a), some (.ref a2)] [] (mw (xG E) a b rm f g ++ mw (xG E) a2 b2 rm f2 g2) := by
    intro hno
    refine g_iconst (v := nI 0) (q := 99) C d_Mo_isLike_98 rfl (by decide) ?_
    exact g_zret C F d_Mo_isLike_99 (Or.inl rfl) (Nat.le_refl _) (Nat.le_refl _) ⟨_, rfl, rfl, Or.inr ⟨hno, rfl⟩⟩
  refine g_aload_0 (q := 1) C d_Mo_isLike_0 rfl ?_
  refine mgA_40 (q := 4) C d_Mo_isLike_1 rfl M2 ?_
  refine g_aload_1 (q := 5) C d_Mo_isLike_4 rfl ?_
  refine mgB_40 (q := 8) C d_Mo_isLike_5 rfl N2 ?_
  refine g_icmp_ne (q := 11) (tgt := 98) C d_Mo_isLike_8 rfl (by decide) (fun q1 => ?_) (fun q1 => ?_)
  · exact h98 (fun h => q1 (by rw [h.1]))
  have q1 : tN T = tN T2 := (nI_eq (by omega) (by omega)).mp (Decidable.not_not.mp q1)
  refine g_aload_0 (q := 12) C d_Mo_isLike_11 rfl ?_
  refine mgA_43 (q := 15) C d_Mo_isLike_12 rfl M3 ?_
  refine g_aload_1 (q := 16) C d_Mo_isLike_15 rfl ?_
  refine mgB_43 (q := 19) C d_Mo_isLike_16 rfl N3 ?_
  refine g_icmp_ne (q := 22) (tgt := 98) C d_Mo_isLike_19 rfl (by decide) (fun q2 => ?_) (fun q2 => ?_)
  · exact h98 (fun h => q2 (by rw [h.2.1]))
  have q2 : tL T = tL T2 := (nI_eq (by omega) (by omega)).mp (Decidable.not_not.mp q2)
  refine g_aload_0 (q := 23) C d_Mo_isLike_22 rfl ?_
  refine mgA_22 (q := 26) C d_Mo_isLike_23 rfl ?_
  refine g_aload_1 (q := 27) C d_Mo_isLike_26 rfl ?_
  refine mgB_22 (q := 30) C d_Mo_isLike_27 rfl ?_
  refine g_aload_0 (q := 31) C d_Mo_isLike_30 rfl ?_
  refine mgA_40 (q := 34) C d_Mo_isLike_31 rfl M2 ?_
  refine mlk_0 (q := 37) C hR (c_Mo_areLike (n := tN T) hn hn hrm hrm) d_Mo_isLike_34 rfl (by decide) (by decide) (by decide) (Nat.le_of_ble_eq_true rfl) (fun z hz => ?_)
  rcases hz.symm with ⟨hno, rfl⟩ | ⟨e0, rfl⟩
  · refine g_if_eq (q := 40) (tgt := 98) C d_Mo_isLike_37 rfl (by decide) (fun hx => ?_) (fun hx => ?_)
    · refine h98 (fun h => hno (fun k hk => ?_))
      rcases Nat.eq_zero_or_pos k with z | z
      · rw [z, M4, N4]
      · rw [(MRw k z hk).1, (NRw k z (by omega)).1, (h.2.2.1 k z hk).1]
    · exact absurd rfl hx
  refine g_if_eq (q := 40) (tgt := 98) C d_Mo_isLike_37 rfl (by decide) (fun hx => ?_) (fun hx => ?_)
  · exact absurd hx (by decide)
  refine g_aload_0 (q := 41) C d_Mo_isLike_40 rfl ?_
  refine mgA_25 (q := 44) C d_Mo_isLike_41 rfl ?_
  refine g_aload_1 (q := 45) C d_Mo_isLike_44 rfl ?_
  refine mgB_25 (q := 48) C d_Mo_isLike_45 rfl ?_
  refine g_aload_0 (q := 49) C d_Mo_isLike_48 rfl ?_
  refine mgA_40 (q := 52) C d_Mo_isLike_49 rfl M2 ?_
  refine mlk_1 (q := 55) C hR (c_Mo_areLike (n := tN T) hn hn hrm hrm) d_Mo_isLike_52 rfl (by decide) (by decide) (by decide) (Nat.le_of_ble_eq_true rfl) (fun z hz => ?_)
  rcases hz.symm with ⟨hno, rfl⟩ | ⟨e1, rfl⟩
  · refine g_if_eq (q := 58) (tgt := 98) C d_Mo_isLike_55 rfl (by decide) (fun hx => ?_) (fun hx => ?_)
    · refine h98 (fun h => hno (fun k hk => ?_))
      rcases Nat.eq_zero_or_pos k with z | z
      · rw [z, M5, N5]
      · rw [(MRw k z hk).2.1, (NRw k z (by omega)).2.1, (h.2.2.1 k z hk).2.1]
    · exact absurd rfl hx
  refine g_if_eq (q := 58) (tgt := 98) C d_Mo_isLike_55 rfl (by decide) (fun hx => ?_) (fun hx => ?_)
  · exact absurd hx (by decide)
  refine g_aload_0 (q := 59) C d_Mo_isLike_58 rfl ?_
  refine mgA_28 (q := 62) C d_Mo_isLike_59 rfl ?_
  refine g_aload_1 (q := 63) C d_Mo_isLike_62 rfl ?_
  refine mgB_28 (q := 66) C d_Mo_isLike_63 rfl ?_
  refine g_aload_0 (q := 67) C d_Mo_isLike_66 rfl ?_
  refine mgA_40 (q := 70) C d_Mo_isLike_67 rfl M2 ?_
  refine mlk_2 (q := 73) C hR (c_Mo_areLike (n := tN T) hn hn hrm hrm) d_Mo_isLike_70 rfl (by decide) (by decide) (by decide) (Nat.le_of_ble_eq_true rfl) (fun z hz => ?_)
  rcases hz.symm with ⟨hno, rfl⟩ | ⟨e2, rfl⟩
  · refine g_if_eq (q := 76) (tgt := 98) C d_Mo_isLike_73 rfl (by decide) (fun hx => ?_) (fun hx => ?_)
    · refine h98 (fun h => hno (fun k hk => ?_))
      rcases Nat.eq_zero_or_pos k with z | z
      · rw [z, M6, N6]
      · rw [(MRw k z hk).2.2.1, (NRw k z (by omega)).2.2.1, (h.2.2.1 k z hk).2.2]
    · exact absurd rfl hx
  refine g_if_eq (q := 76) (tgt := 98) C d_Mo_isLike_73 rfl (by decide) (fun hx => ?_) (fun hx => ?_)
  · exact absurd hx (by decide)
  refine g_aload_0 (q := 77) C d_Mo_isLike_76 rfl ?_
  refine mgA_9 (q := 80) C d_Mo_isLike_77 rfl ?_
  refine g_aload_1 (q := 81) C d_Mo_isLike_80 rfl ?_
  refine mgB_9 (q := 84) C d_Mo_isLike_81 rfl ?_
  refine g_aload_0 (q := 85) C d_Mo_isLike_84 rfl ?_
  refine mgA_43 (q := 88) C d_Mo_isLike_85 rfl M3 ?_
  refine mlk_5 (q := 91) C hR (c_Mo_areLike (n := tL T) (by omega) (by omega) (by omega) (by omega)) d_Mo_isLike_88 rfl (by decide) (by decide) (by decide) (Nat.le_of_ble_eq_true rfl) (fun z hz => ?_)
  rcases hz.symm with ⟨hno, rfl⟩ | ⟨e5, rfl⟩
  · refine g_if_eq (q := 94) (tgt := 98) C d_Mo_isLike_91 rfl (by decide) (fun hx => ?_) (fun hx => ?_)
    · refine h98 (fun h => hno (fun k hk => ?_))
      rw [ML k hk, NL k (by omega), h.2.2.2 k hk]
    · exact absurd rfl hx
  refine g_if_eq (q := 94) (tgt := 98) C d_Mo_isLike_91 rfl (by decide) (fun hx => ?_) (fun hx => ?_)
  · exact absurd hx (by decide)
  refine g_iconst (v := nI 1) (q := 95) C d_Mo_isLike_94 rfl (by decide) ?_
  refine g_goto (tgt := 99) C d_Mo_isLike_95 (by decide) ?_
  refine g_zret C F d_Mo_isLike_99 (Or.inr rfl) (Nat.le_refl _) (Nat.le_refl _) ⟨_, rfl, rfl, Or.inl ⟨⟨q1, q2, fun i i0 hi => ?_, fun i hi => ?_⟩, rfl⟩⟩
  · obtain ⟨r1, r2, r3, -⟩ := MRw i i0 hi
    obtain ⟨s1, s2, s3, -⟩ := NRw i i0 (by omega)
    have p1 := kR i i0 hi
    have p2 := kR2 i i0 (by omega)
    have c1 : tC T i ≤ 600 := Nat.le_trans (sc_le i0 hi rfl) (hI.2.2.2 (tP T i))
    have c2 : tC T2 i ≤ 600 := Nat.le_trans (sc_le i0 (by omega) rfl) (hI2.2.2.2 (tP T2 i))
    have e0 := e0 i hi
    have e1 := e1 i hi
    have e2 := e2 i hi
    rw [r1, s1] at e0
    rw [r2, s2] at e1
    rw [r3, s3] at e2
    exact ⟨(nI_eq (by omega) (by omega)).mp e0, (nI_eq (by omega) (by omega)).mp e1, (nI_eq (by omega) (by omega)).mp e2⟩
  · have e5 := e5 i hi
    rw [ML i hi, NL i (by omega)] at e5
    have := k9 i hi
    have := k92 i (by omega)
    exact (nI_eq (by omega) (by omega)).mp e5
end
