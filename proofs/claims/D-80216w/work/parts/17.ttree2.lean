/-! THE TWIN'S TREES: look, isFound, halve, copy -/
theorem ctI_one {T : Tr} {e : Nat → Bool} {v : Nat} (b : Nat) : ctI T e v 1 b = 0 := by
  unfold ctI
  have : ch (tP T) (tB T) v b 1 = 0 := by
    show (if 0 < 0 ∧ _ then _ else 0) = 0
    rw [if_neg (fun q => absurd q.1 (Nat.lt_irrefl 0))]
  rw [this]; simp
theorem bl_0 {t : Nat → Nat} (h : ∀ b, t b = 0) : ∀ n, bl t n = 0
  | 0 => rfl
  | n + 1 => by show bl t n + t n = 0; rw [bl_0 h n, h n]
theorem nz_0 {t : Nat → Nat} (h : ∀ b, t b = 0) : ∀ n, nz t n = 0
  | 0 => rfl
  | n + 1 => by show nz t n + (if 0 < t n then 1 else 0) = 0; rw [nz_0 h n, h n]; rfl
section
variable {l : Launch} {Γ : Gl} {o : Nat} {ad : Nat → Nat} {f : Nat → Int32} {g : Nat → Nat → Int32} {T : Tr} {ord room m : Nat}
theorem c_T_look {k : Nat} {e : Nat → Bool} (hm : m < 7) (hT : TM g m T) (hk : TOk ord room T) (hx : CtxOk T) (hkL : k ≤ tL T) (hE : EX g e) :
    Ct l Γ y_T_look b_T_look 6 none 2 0 0 [.ref o, .int (nI m), .int (nI k)] (tw Γ o ad f g) (pv Γ o ad (fun f' g' => Fr [8, 9] [11] f f' g g' ∧ CT g' (ct T e (cx T k)) ∧ f' 8 = nI (bl (ct T e (cx T k)) 256) ∧ f' 9 = nI (nz (ct T e (cx T k)) 256))) := by
  obtain ⟨T3, T7, -, -, -, TR, T8⟩ := id hT
  obtain ⟨k1, k2, k3, -, k5, k6, kR, kD, k9⟩ := id hk
  refine Ct.of (by decide) (by simp [Value.category]) (Nat.le_of_ble_eq_true rfl) (fun E eG el en C hR F hnm => ?_)
  subst eG
  subst el
  have hL : 6 ≤ xn E := Nat.le_of_eq en.symm
  show G E 0 0 0 [some (.ref o), some (.int (nI m)), some (.int (nI k)), none, none, none] [] (tw (xG E) o ad f g)
  have hvv : cx T k < tN T := cxp_lt (T := T) k1 k k
  have loop2 : ∀ j i f1 g1 l5, i + j = tN T → 0 < i → Fr [8, 9] [11] f f1 g g1 → CT g1 (ctI T e (cx T k) i) → f1 8 = nI (bl (ctI T e (cx T k) i) 256) → f1 9 = nI (nz (ctI T e (cx T k) i) 256) → G E 0 0 45 [some (.ref o), some (.int (nI m)), some (.int (nI k)), some (.int (nI (cx T k))), some (.int (nI i)), l5] [] (tw (xG E) o ad f1 g1) := by
    intro j
    induction j with
    | zero =>
      intro i f1 g1 l5 hi h0 hF hC h8 h9
      have e3 : g1 3 m = nI (tN T) := by rw [hF.2 3 (by decide)]; exact T3
      refine g_iload_4 (q := 47) C d_T_look_45 rfl ?_
      refine g_aload_0 (q := 48) C d_T_look_47 rfl ?_
      refine tg_19 (q := 51) C d_T_look_48 rfl ?_
      refine g_iload_1 (q := 52) C d_T_look_51 rfl ?_
      refine ta_3 (q := 53) C d_T_look_52 rfl rfl (by omega) e3 ?_
      refine g_icmp_ge (q := 56) (tgt := 150) C d_T_look_53 rfl (by decide) (fun hc => ?_) (fun hc => ?_)
      · have : i = tN T := by omega
        subst this
        exact g_vret C F d_T_look_150 (Nat.le_refl _) (Nat.le_refl _) ⟨rfl, _, _, rfl, hF, hC, h8, h9⟩
      · exact absurd ((nI_leI (by omega) (by omega)).mpr (by omega)) hc
    | succ j ih =>
      intro i f1 g1 l5 hi h0 hF hC h8 h9
      have e3 : g1 3 m = nI (tN T) := by rw [hF.2 3 (by decide)]; exact T3
      obtain ⟨r1, r2, r3⟩ := TR i h0 (by omega)
      have r1 : g1 4 (1500 * m + i) = nI (tP T i) := by rw [hF.2 4 (by decide)]; exact r1
      have r2 : g1 5 (1500 * m + i) = nI (tB T i) := by rw [hF.2 5 (by decide)]; exact r2
      have r3 : g1 6 (1500 * m + i) = nI (tC T i) := by rw [hF.2 6 (by decide)]; exact r3
      obtain ⟨q1, q2, q3⟩ := kR i h0 (by omega)
      have hEb : g1 10 (tB T i) = if e (tB T i) then nI 1 else nI 0 := by rw [hF.2 10 (by decide)]; exact hE _ (by omega)
      refine g_iload_4 (q := 47) C d_T_look_45 rfl ?_
      refine g_aload_0 (q := 48) C d_T_look_47 rfl ?_
      refine tg_19 (q := 51) C d_T_look_48 rfl ?_
      refine g_iload_1 (q := 52) C d_T_look_51 rfl ?_
      refine ta_3 (q := 53) C d_T_look_52 rfl rfl (by omega) e3 ?_
      refine g_icmp_ge (q := 56) (tgt := 150) C d_T_look_53 rfl (by decide) (fun hc => ?_) (fun hc => ?_)
      · exact absurd ((nI_leI (by omega) (by omega)).mp hc) (by omega)
      have h144 : ¬ (0 < i ∧ tP T i = cx T k ∧ e (tB T i) = false) → G E 0 0 144 [some (.ref o), some (.int (nI m)), some (.int (nI k)), some (.int (nI (cx T k))), some (.int (nI i)), some (.int (nI (tB T i)))] [] (tw (xG E) o ad f1 g1) := by
        intro hno
        refine g_iinc_4 (q := 147) C hL d_T_look_144 rfl (nI_inc _) ?_
        refine g_goto (tgt := 45) C d_T_look_147 (by decide) ?_
        have hs := ctI_same (T := T) (e := e) (v := cx T k) hno
        exact ih (i + 1) _ _ _ (by omega) (by omega) hF (fun b hb => by rw [hs b]; exact hC b hb) (by rw [bl_congr (fun b _ => hs b)]; exact h8) (by rw [nz_congr (fun b _ => hs b)]; exact h9)
      refine g_aload_0 (q := 57) C d_T_look_56 rfl ?_
      refine tg_25 (q := 60) C d_T_look_57 rfl ?_
      refine g_sipush (v := nI 1500) (q := 63) C d_T_look_60 rfl (by decide) ?_
      refine g_iload_1 (q := 64) C d_T_look_63 rfl ?_
      refine g_imul (q := 65) C d_T_look_64 rfl (pk_mul _ _) ?_
      refine g_iload_4 (q := 67) C d_T_look_65 rfl ?_
      refine g_iadd (q := 68) C d_T_look_67 rfl (nI_add _ _) ?_
      refine ta_5 (q := 69) C d_T_look_68 rfl rfl (by omega) r2 ?_
      refine g_istore_5 (q := 71) C hL d_T_look_69 rfl ?_
      refine g_aload_0 (q := 72) C d_T_look_71 rfl ?_
      refine tg_22 (q := 75) C d_T_look_72 rfl ?_
      refine g_sipush (v := nI 1500) (q := 78) C d_T_look_75 rfl (by decide) ?_
      refine g_iload_1 (q := 79) C d_T_look_78 rfl ?_
      refine g_imul (q := 80) C d_T_look_79 rfl (pk_mul _ _) ?_
      refine g_iload_4 (q := 82) C d_T_look_80 rfl ?_
      refine g_iadd (q := 83) C d_T_look_82 rfl (nI_add _ _) ?_
      refine ta_4 (q := 84) C d_T_look_83 rfl rfl (by omega) r1 ?_
      refine g_iload_3 (q := 85) C d_T_look_84 rfl ?_
      refine g_icmp_ne (q := 88) (tgt := 144) C d_T_look_85 rfl (by decide) (fun hp => ?_) (fun hp => ?_)
      · exact h144 (fun q => hp (by rw [q.2.1]))
      have hp : tP T i = cx T k := (nI_eq (by omega) (by omega)).mp (Decidable.not_not.mp hp)
      refine g_aload_0 (q := 89) C d_T_look_88 rfl ?_
      refine tg_40 (q := 92) C d_T_look_89 rfl ?_
      refine g_iload_5 (q := 94) C d_T_look_92 rfl ?_
      refine ta_10 (q := 95) C d_T_look_94 rfl rfl (by omega) hEb ?_
      refine g_if_ne (q := 98) (tgt := 144) C d_T_look_95 rfl (by decide) (fun hq => ?_) (fun hq => ?_)
      · exact h144 (fun q => hq (by rw [q.2.2]; rfl))
      have hq : e (tB T i) = false := by
        cases hh : e (tB T i) with
        | false => rfl
        | true => rw [hh, if_pos rfl] at hq; exact absurd (Decidable.not_not.mp hq) (by decide)
      obtain ⟨s1, s2, s3⟩ := ctI_step (v := cx T k) kD h0 (by omega) hp hq
      refine g_aload_0 (q := 99) C d_T_look_98 rfl ?_
      refine tg_44 (q := 102) C d_T_look_99 rfl ?_
      refine g_iload_5 (q := 104) C d_T_look_102 rfl ?_
      refine g_aload_0 (q := 105) C d_T_look_104 rfl ?_
      refine tg_28 (q := 108) C d_T_look_105 rfl ?_
      refine g_sipush (v := nI 1500) (q := 111) C d_T_look_108 rfl (by decide) ?_
      refine g_iload_1 (q := 112) C d_T_look_111 rfl ?_
      refine g_imul (q := 113) C d_T_look_112 rfl (pk_mul _ _) ?_
      refine g_iload_4 (q := 115) C d_T_look_113 rfl ?_
      refine g_iadd (q := 116) C d_T_look_115 rfl (nI_add _ _) ?_
      refine ta_6 (q := 117) C d_T_look_116 rfl rfl (by omega) r3 ?_
      refine ts_11 (q := 118) C d_T_look_117 rfl rfl q2 ?_
      refine g_aload_0 (q := 119) C d_T_look_118 rfl ?_
      refine g_dup_r (q := 120) C d_T_look_119 rfl ?_
      refine tg_110 (q := 123) C d_T_look_120 rfl h8 ?_
      refine g_aload_0 (q := 124) C d_T_look_123 rfl ?_
      refine tg_44 (q := 127) C d_T_look_124 rfl ?_
      refine g_iload_5 (q := 129) C d_T_look_127 rfl ?_
      refine ta_11 (q := 130) C d_T_look_129 rfl rfl q2 upd_s ?_
      refine g_iadd (q := 131) C d_T_look_130 rfl (nI_add _ _) ?_
      refine tp_110 (q := 134) C d_T_look_131 rfl ?_
      refine g_aload_0 (q := 135) C d_T_look_134 rfl ?_
      refine g_dup_r (q := 136) C d_T_look_135 rfl ?_
      refine tg_113 (q := 139) C d_T_look_136 rfl h9 ?_
      refine g_iconst (v := nI 1) (q := 140) C d_T_look_139 rfl (by decide) ?_
      refine g_iadd (q := 141) C d_T_look_140 rfl (nI_1 _) ?_
      refine tp_113 (q := 144) C d_T_look_141 rfl ?_
      refine g_iinc_4 (q := 147) C hL d_T_look_144 rfl (nI_inc _) ?_
      refine g_goto (tgt := 45) C d_T_look_147 (by decide) ?_
      refine ih (i + 1) _ _ _ (by omega) (by omega) (((hF.updA (by decide)).upd (by decide)).upd (by decide)) (fun b hb => ?_) ?_ ?_
      · rw [updA_s]
        by_cases eb : b = tB T i
        · rw [eb, upd_s, s2]
        · rw [upd_n eb, s3 b eb]; exact hC b hb
      · rw [bl_set s1 s3 q2, s2]; rfl
      · rw [nz_set s1 (by rw [s2]; exact q3) s3 q2]; rfl
  have loop1 : ∀ j i g1, i + j = 256 → Fr [8, 9] [11] f f g g1 → (∀ b, b < i → g1 11 b = nI 0) → G E 0 0 10 [some (.ref o), some (.int (nI m)), some (.int (nI k)), some (.int (nI (cx T k))), some (.int (nI i)), none] [] (tw (xG E) o ad f g1) := by
    intro j
    induction j with
    | zero =>
      intro i g1 hi hF hz
      refine g_iload_4 (q := 12) C d_T_look_10 rfl ?_
      refine g_sipush (v := nI 256) (q := 15) C d_T_look_12 rfl (by decide) ?_
      refine g_icmp_ge (q := 18) (tgt := 32) C d_T_look_15 rfl (by decide) (fun hc => ?_) (fun hc => ?_)
      · refine g_aload_0 (q := 33) C d_T_look_32 rfl ?_
        refine g_iconst (v := nI 0) (q := 34) C d_T_look_33 rfl (by decide) ?_
        refine tp_110 (q := 37) C d_T_look_34 rfl ?_
        refine g_aload_0 (q := 38) C d_T_look_37 rfl ?_
        refine g_iconst (v := nI 0) (q := 39) C d_T_look_38 rfl (by decide) ?_
        refine tp_113 (q := 42) C d_T_look_39 rfl ?_
        refine g_iconst (v := nI 1) (q := 43) C d_T_look_42 rfl (by decide) ?_
        refine g_istore_4 (q := 45) C hL d_T_look_43 rfl ?_
        exact loop2 (tN T - 1) 1 _ _ _ (by omega) (by omega) ((hF.upd (by decide)).upd (by decide)) (fun b hb => by rw [ctI_one]; exact hz b (by omega)) (by rw [bl_0 (fun b => ctI_one b)]; rfl) (by rw [nz_0 (fun b => ctI_one b)]; rfl)
      · exact absurd ((nI_leI (by omega) (by omega)).mpr (by omega)) hc
    | succ j ih =>
      intro i g1 hi hF hz
      refine g_iload_4 (q := 12) C d_T_look_10 rfl ?_
      refine g_sipush (v := nI 256) (q := 15) C d_T_look_12 rfl (by decide) ?_
      refine g_icmp_ge (q := 18) (tgt := 32) C d_T_look_15 rfl (by decide) (fun hc => ?_) (fun hc => ?_)
      · exact absurd ((nI_leI (by omega) (by omega)).mp hc) (by omega)
      refine g_aload_0 (q := 19) C d_T_look_18 rfl ?_
      refine tg_44 (q := 22) C d_T_look_19 rfl ?_
      refine g_iload_4 (q := 24) C d_T_look_22 rfl ?_
      refine g_iconst (v := nI 0) (q := 25) C d_T_look_24 rfl (by decide) ?_
      refine ts_11 (q := 26) C d_T_look_25 rfl rfl (by omega) ?_
      refine g_iinc_4 (q := 29) C hL d_T_look_26 rfl (nI_inc _) ?_
      refine g_goto (tgt := 10) C d_T_look_29 (by decide) ?_
      exact ih (i + 1) _ (by omega) (hF.updA (by decide)) (fun b hb => by
        rw [updA_s]
        by_cases e : b = i
        · rw [e, upd_s]
        · rw [upd_n e]; exact hz b (by omega))
  refine g_aload_0 (q := 1) C d_T_look_0 rfl ?_
  refine g_iload_1 (q := 2) C d_T_look_1 rfl ?_
  refine g_iload_2 (q := 3) C d_T_look_2 rfl ?_
  refine tc_106 (q := 6) C hR (c_T_context hm hT hk hx hkL) d_T_look_3 rfl (by decide) (by decide) (by decide) (Nat.le_of_ble_eq_true rfl) (fun x f2 g2 hp => ?_)
  obtain ⟨rfl, rfl, rfl⟩ := hp
  refine g_istore_3 (q := 7) C hL d_T_look_6 rfl ?_
  refine g_iconst (v := nI 0) (q := 8) C d_T_look_7 rfl (by decide) ?_
  refine g_istore_4 (q := 10) C hL d_T_look_8 rfl ?_
  exact loop1 256 0 _ (by omega) Fr.rf (fun b hb => absurd hb (Nat.not_lt_zero _))
theorem c_T_isFound {t : Nat → Nat} {s : Nat} (hC : CT g t) (h8 : f 8 = nI (bl t 256)) (h9 : f 9 = nI (nz t 256)) (hs : s ≤ 256) (hb : bl t 256 ≤ 600) :
    Ct l Γ y_T_isFound b_T_isFound 3 (some .boolean) 1 0 0 [.ref o, .int (nI s)] (tw Γ o ad f g) (pi Γ o ad (fun x f' g' => Fr [10, 11, 12] [] f f' g g' ∧ f' 12 = nI (bl t 256 + nz t 256) ∧ ((s < 256 ∧ 0 < t s ∧ x = nI 1 ∧ f' 10 = nI (bl t s) ∧ f' 11 = nI (t s)) ∨ (¬ (s < 256 ∧ 0 < t s) ∧ x = nI 0 ∧ f' 10 = nI (bl t 256) ∧ f' 11 = nI (nz t 256))))) := by
  refine Ct.of (by decide) (by simp [Value.category]) (Nat.le_of_ble_eq_true rfl) (fun E eG el en C hR F hnm => ?_)
  subst eG
  subst el
  have hL : 3 ≤ xn E := Nat.le_of_eq en.symm
  show G E 0 0 0 [some (.ref o), some (.int (nI s)), none] [] (tw (xG E) o ad f g)
  have ht : ∀ b, b < 256 → t b ≤ 600 := fun b hb' => by have := bl_le (t := t) hb'; omega
  have hno : ¬ (s < 256 ∧ 0 < t s) → G E 0 0 33 [some (.ref o), some (.int (nI s)), none] [] (tw (xG E) o ad (upd f 12 (nI (bl t 256 + nz t 256))) g) := by
    intro hn
    refine g_iconst (v := nI 0) (q := 34) C d_T_isFound_33 rfl (by decide) ?_
    refine g_istore_2 (q := 35) C hL d_T_isFound_34 rfl ?_
    refine g_aload_0 (q := 36) C d_T_isFound_35 rfl ?_
    refine g_iload_2 (q := 37) C d_T_isFound_36 rfl ?_
    refine g_if_eq (q := 40) (tgt := 48) C d_T_isFound_37 rfl (by decide) (fun hz => ?_) (fun hz => ?_)
    · refine g_aload_0 (q := 49) C d_T_isFound_48 rfl ?_
      refine tg_110 (q := 52) C d_T_isFound_49 rfl h8 ?_
      refine tp_123 (q := 55) C d_T_isFound_52 rfl ?_
      refine g_aload_0 (q := 56) C d_T_isFound_55 rfl ?_
      refine g_iload_2 (q := 57) C d_T_isFound_56 rfl ?_
      refine g_if_eq (q := 60) (tgt := 69) C d_T_isFound_57 rfl (by decide) (fun hz2 => ?_) (fun hz2 => ?_)
      · refine g_aload_0 (q := 70) C d_T_isFound_69 rfl ?_
        refine tg_113 (q := 73) C d_T_isFound_70 rfl h9 ?_
        refine tp_126 (q := 76) C d_T_isFound_73 rfl ?_
        refine g_iload_2 (q := 77) C d_T_isFound_76 rfl ?_
        exact g_zret C F d_T_isFound_77 (Or.inl rfl) (Nat.le_refl _) (Nat.le_refl _) ⟨_, _, _, rfl, rfl, ((Fr.rf.upd (by decide)).upd (by decide)).upd (by decide), rfl, Or.inr ⟨hn, rfl, rfl, rfl⟩⟩
      · exact absurd rfl hz2
    · exact absurd rfl hz
  refine g_aload_0 (q := 1) C d_T_isFound_0 rfl ?_
  refine g_aload_0 (q := 2) C d_T_isFound_1 rfl ?_
  refine tg_110 (q := 5) C d_T_isFound_2 rfl h8 ?_
  refine g_aload_0 (q := 6) C d_T_isFound_5 rfl ?_
  refine tg_113 (q := 9) C d_T_isFound_6 rfl h9 ?_
  refine g_iadd (q := 10) C d_T_isFound_9 rfl (nI_add _ _) ?_
  refine tp_116 (q := 13) C d_T_isFound_10 rfl ?_
  refine g_iload_1 (q := 14) C d_T_isFound_13 rfl ?_
  refine g_sipush (v := nI 256) (q := 17) C d_T_isFound_14 rfl (by decide) ?_
  refine g_icmp_ge (q := 20) (tgt := 33) C d_T_isFound_17 rfl (by decide) (fun hc => ?_) (fun hc => ?_)
  · exact hno (fun q => absurd ((nI_leI (by omega) (by omega)).mp hc) (by omega))
  have hs1 : s < 256 := Nat.lt_of_not_le (fun q => hc ((nI_leI (by omega) (by omega)).mpr q))
  have hts := ht s hs1
  refine g_aload_0 (q := 21) C d_T_isFound_20 rfl ?_
  refine tg_44 (q := 24) C d_T_isFound_21 rfl ?_
  refine g_iload_1 (q := 25) C d_T_isFound_24 rfl ?_
  refine ta_11 (q := 26) C d_T_isFound_25 rfl rfl hs1 (hC s hs1) ?_
  refine g_if_le (q := 29) (tgt := 33) C d_T_isFound_26 rfl (by decide) (fun hc2 => ?_) (fun hc2 => ?_)
  · exact hno (fun q => absurd ((nILe0 (by omega)).mp hc2) (by omega))
  have hs2 : 0 < t s := Nat.pos_of_ne_zero (fun q => hc2 ((nILe0 (by omega)).mpr q))
  refine g_iconst (v := nI 1) (q := 30) C d_T_isFound_29 rfl (by decide) ?_
  refine g_goto (tgt := 34) C d_T_isFound_30 (by decide) ?_
  refine g_istore_2 (q := 35) C hL d_T_isFound_34 rfl ?_
  refine g_aload_0 (q := 36) C d_T_isFound_35 rfl ?_
  refine g_iload_2 (q := 37) C d_T_isFound_36 rfl ?_
  refine g_if_eq (q := 40) (tgt := 48) C d_T_isFound_37 rfl (by decide) (fun hz => ?_) (fun hz => ?_)
  · exact absurd hz (by decide)
  refine g_aload_0 (q := 41) C d_T_isFound_40 rfl ?_
  refine g_iload_1 (q := 42) C d_T_isFound_41 rfl ?_
  refine tc_119 (q := 45) C hR (c_T_below hC (by omega)) d_T_isFound_42 rfl (by decide) (by decide) (by decide) (Nat.le_of_ble_eq_true rfl) (fun x f2 g2 hp => ?_)
  obtain ⟨rfl, rfl, rfl⟩ := hp
  refine g_goto (tgt := 52) C d_T_isFound_45 (by decide) ?_
  refine tp_123 (q := 55) C d_T_isFound_52 rfl ?_
  refine g_aload_0 (q := 56) C d_T_isFound_55 rfl ?_
  refine g_iload_2 (q := 57) C d_T_isFound_56 rfl ?_
  refine g_if_eq (q := 60) (tgt := 69) C d_T_isFound_57 rfl (by decide) (fun hz2 => ?_) (fun hz2 => ?_)
  · exact absurd hz2 (by decide)
  refine g_aload_0 (q := 61) C d_T_isFound_60 rfl ?_
  refine tg_44 (q := 64) C d_T_isFound_61 rfl ?_
  refine g_iload_1 (q := 65) C d_T_isFound_64 rfl ?_
  refine ta_11 (q := 66) C d_T_isFound_65 rfl rfl hs1 (hC s hs1) ?_
  refine g_goto (tgt := 73) C d_T_isFound_66 (by decide) ?_
  refine tp_126 (q := 76) C d_T_isFound_73 rfl ?_
  refine g_iload_2 (q := 77) C d_T_isFound_76 rfl ?_
  exact g_zret C F d_T_isFound_77 (Or.inr rfl) (Nat.le_refl _) (Nat.le_refl _) ⟨_, _, _, rfl, rfl, ((Fr.rf.upd (by decide)).upd (by decide)).upd (by decide), rfl, Or.inl ⟨hs1, hs2, rfl, rfl, rfl⟩⟩
theorem c_T_halve {v : Nat} (hm : m < 7) (hT : TM g m T) (hk : TOk ord room T) (hvv : v < 2 ^ 31) (hs : sT T v ≤ 601) :
    Ct l Γ y_T_halve b_T_halve 5 none 0 0 0 [.ref o, .int (nI m), .int (nI v)] (tw Γ o ad f g) (pv Γ o ad (fun f' g' => Fr [] [6] f f' g g' ∧ Bd m g g' ∧ TM g' m (hv T v))) := by
  obtain ⟨T3, T7, T4, T5, T6, TR, T8⟩ := id hT
  obtain ⟨k1, k2, k3, -, k5, k6, kR, kD, k9⟩ := id hk
  refine Ct.of (by decide) (by simp [Value.category]) (Nat.le_of_ble_eq_true rfl) (fun E eG el en C hR F hnm => ?_)
  subst eG
  subst el
  have hL : 5 ≤ xn E := Nat.le_of_eq en.symm
  show G E 0 0 0 [some (.ref o), some (.int (nI m)), some (.int (nI v)), none, none] [] (tw (xG E) o ad f g)
  have hcs : ∀ i, 0 < i → i < tN T → tP T i = v → tC T i ≤ 601 := fun i h0 hi hp => Nat.le_trans (sc_le h0 hi hp) hs
  have loop2 : ∀ j i g1, i + j = tN T → 0 < i → 200 < sT T v → Fr [] [6] f f g g1 → Bd m g g1 → (∀ x, (x ≤ 1500 * m ∨ 1500 * m + i ≤ x) → g1 6 x = g 6 x) → (∀ i', 0 < i' → i' < i → g1 6 (1500 * m + i') = nI (if tP T i' = v then (tC T i' + 1) / 2 else tC T i')) → G E 0 0 62 [some (.ref o), some (.int (nI m)), some (.int (nI v)), some (.int (nI (sT T v))), some (.int (nI i))] [] (tw (xG E) o ad f g1) := by
    intro j
    induction j with
    | zero =>
      intro i g1 hi h0 hS hF hB ho hn
      have e3 : g1 3 m = nI (tN T) := by rw [hF.2 3 (by decide)]; exact T3
      refine g_iload_4 (q := 64) C d_T_halve_62 rfl ?_
      refine g_aload_0 (q := 65) C d_T_halve_64 rfl ?_
      refine tg_19 (q := 68) C d_T_halve_65 rfl ?_
      refine g_iload_1 (q := 69) C d_T_halve_68 rfl ?_
      refine ta_3 (q := 70) C d_T_halve_69 rfl rfl (by omega) e3 ?_
      refine g_icmp_ge (q := 73) (tgt := 133) C d_T_halve_70 rfl (by decide) (fun hc => ?_) (fun hc => ?_)
      · refine g_vret C F d_T_halve_133 (Nat.le_refl _) (Nat.le_refl _) ⟨rfl, _, _, rfl, hF, hB, ?_⟩
        unfold hv
        rw [if_pos hS]
        refine ⟨e3, by rw [hF.2 7 (by decide)]; exact T7, by rw [hF.2 4 (by decide)]; exact T4, by rw [hF.2 5 (by decide)]; exact T5, by rw [ho _ (by omega)]; exact T6, fun i' h0' hi' => ?_, by rw [hF.2 8 (by decide)]; exact T8⟩
        obtain ⟨r1, r2, r3⟩ := TR i' h0' hi'
        exact ⟨by rw [hF.2 4 (by decide)]; exact r1, by rw [hF.2 5 (by decide)]; exact r2, hn i' h0' (by have : i' < tN T := hi'; omega)⟩
      · exact absurd ((nI_leI (by omega) (by omega)).mpr (by omega)) hc
    | succ j ih =>
      intro i g1 hi h0 hS hF hB ho hn
      have e3 : g1 3 m = nI (tN T) := by rw [hF.2 3 (by decide)]; exact T3
      obtain ⟨r1, r2, r3⟩ := TR i h0 (by omega)
      obtain ⟨q1, q2, q3⟩ := kR i h0 (by omega)
      have r1 : g1 4 (1500 * m + i) = nI (tP T i) := by rw [hF.2 4 (by decide)]; exact r1
      have r3 : g1 6 (1500 * m + i) = nI (tC T i) := by rw [ho _ (by omega)]; exact r3
      refine g_iload_4 (q := 64) C d_T_halve_62 rfl ?_
      refine g_aload_0 (q := 65) C d_T_halve_64 rfl ?_
      refine tg_19 (q := 68) C d_T_halve_65 rfl ?_
      refine g_iload_1 (q := 69) C d_T_halve_68 rfl ?_
      refine ta_3 (q := 70) C d_T_halve_69 rfl rfl (by omega) e3 ?_
      refine g_icmp_ge (q := 73) (tgt := 133) C d_T_halve_70 rfl (by decide) (fun hc => ?_) (fun hc => ?_)
      · exact absurd ((nI_leI (by omega) (by omega)).mp hc) (by omega)
      refine g_iload_3 (q := 74) C d_T_halve_73 rfl ?_
      refine g_sipush (v := nI 200) (q := 77) C d_T_halve_74 rfl (by decide) ?_
      refine g_icmp_le (q := 80) (tgt := 133) C d_T_halve_77 rfl (by decide) (fun hc2 => ?_) (fun hc2 => ?_)
      · exact absurd ((nI_leI (by omega) (by omega)).mp hc2) (by omega)
      refine g_aload_0 (q := 81) C d_T_halve_80 rfl ?_
      refine tg_22 (q := 84) C d_T_halve_81 rfl ?_
      refine g_sipush (v := nI 1500) (q := 87) C d_T_halve_84 rfl (by decide) ?_
      refine g_iload_1 (q := 88) C d_T_halve_87 rfl ?_
      refine g_imul (q := 89) C d_T_halve_88 rfl (pk_mul _ _) ?_
      refine g_iload_4 (q := 91) C d_T_halve_89 rfl ?_
      refine g_iadd (q := 92) C d_T_halve_91 rfl (nI_add _ _) ?_
      refine ta_4 (q := 93) C d_T_halve_92 rfl rfl (by omega) r1 ?_
      refine g_iload_2 (q := 94) C d_T_halve_93 rfl ?_
      refine g_icmp_ne (q := 97) (tgt := 127) C d_T_halve_94 rfl (by decide) (fun hp => ?_) (fun hp => ?_)
      · refine g_iinc_4 (q := 130) C hL d_T_halve_127 rfl (nI_inc _) ?_
        refine g_goto (tgt := 62) C d_T_halve_130 (by decide) ?_
        refine ih (i + 1) _ (by omega) (by omega) hS hF hB (fun x hx => ho x (by omega)) (fun i' h0' hi' => ?_)
        by_cases e : i' = i
        · subst e; rw [r3, if_neg (fun q => hp (by rw [q]))]
        · exact hn i' h0' (by omega)
      · have hp : tP T i = v := (nI_eq (by omega) hvv).mp (Decidable.not_not.mp hp)
        have hci := hcs i h0 (by omega) hp
        refine g_aload_0 (q := 98) C d_T_halve_97 rfl ?_
        refine tg_28 (q := 101) C d_T_halve_98 rfl ?_
        refine g_sipush (v := nI 1500) (q := 104) C d_T_halve_101 rfl (by decide) ?_
        refine g_iload_1 (q := 105) C d_T_halve_104 rfl ?_
        refine g_imul (q := 106) C d_T_halve_105 rfl (pk_mul _ _) ?_
        refine g_iload_4 (q := 108) C d_T_halve_106 rfl ?_
        refine g_iadd (q := 109) C d_T_halve_108 rfl (nI_add _ _) ?_
        refine g_aload_0 (q := 110) C d_T_halve_109 rfl ?_
        refine tg_28 (q := 113) C d_T_halve_110 rfl ?_
        refine g_sipush (v := nI 1500) (q := 116) C d_T_halve_113 rfl (by decide) ?_
        refine g_iload_1 (q := 117) C d_T_halve_116 rfl ?_
        refine g_imul (q := 118) C d_T_halve_117 rfl (pk_mul _ _) ?_
        refine g_iload_4 (q := 120) C d_T_halve_118 rfl ?_
        refine g_iadd (q := 121) C d_T_halve_120 rfl (nI_add _ _) ?_
        refine ta_6 (q := 122) C d_T_halve_121 rfl rfl (by omega) r3 ?_
        refine g_iconst (v := nI 1) (q := 123) C d_T_halve_122 rfl (by decide) ?_
        refine g_iadd (q := 124) C d_T_halve_123 rfl (nI_add _ _) ?_
        refine g_iconst (v := nI 2) (q := 125) C d_T_halve_124 rfl (by decide) ?_
        refine g_idiv (q := 126) C d_T_halve_125 rfl (by decide) (pk_div (d := 2) (by omega) (by decide) (by decide)) ?_
        refine ts_6 (q := 127) C d_T_halve_126 rfl rfl (by omega) ?_
        refine g_iinc_4 (q := 130) C hL d_T_halve_127 rfl (nI_inc _) ?_
        refine g_goto (tgt := 62) C d_T_halve_130 (by decide) ?_
        refine ih (i + 1) _ (by omega) (by omega) hS (hF.updA (by decide)) (hB.set (by omega)) (fun x hx => ?_) (fun i' h0' hi' => ?_)
        · rw [updA_s, upd_n (by omega)]; exact ho x (by omega)
        · rw [updA_s]
          by_cases e : i' = i
          · subst e; rw [upd_s, if_pos hp]
          · rw [upd_n (by omega)]; exact hn i' h0' (by omega)
  have loop1 : ∀ j i, i + j = tN T → 0 < i → G E 0 0 5 [some (.ref o), some (.int (nI m)), some (.int (nI v)), some (.int (nI (sc (tP T) (tC T) v i))), some (.int (nI i))] [] (tw (xG E) o ad f g) := by
    intro j
    induction j with
    | zero =>
      intro i hi h0
      refine g_iload_4 (q := 7) C d_T_halve_5 rfl ?_
      refine g_aload_0 (q := 8) C d_T_halve_7 rfl ?_
      refine tg_19 (q := 11) C d_T_halve_8 rfl ?_
      refine g_iload_1 (q := 12) C d_T_halve_11 rfl ?_
      refine ta_3 (q := 13) C d_T_halve_12 rfl rfl (by omega) T3 ?_
      refine g_icmp_ge (q := 16) (tgt := 59) C d_T_halve_13 rfl (by decide) (fun hc => ?_) (fun hc => ?_)
      · have : i = tN T := by omega
        subst this
        refine g_iconst (v := nI 1) (q := 60) C d_T_halve_59 rfl (by decide) ?_
        refine g_istore_4 (q := 62) C hL d_T_halve_60 rfl ?_
        by_cases hS : 200 < sT T v
        · exact loop2 (tN T - 1) 1 g (by omega) (by omega) hS Fr.rf Bd.rf (fun _ _ => rfl) (fun i' h0' hi' => by omega)
        · have he : hv T v = T := by unfold hv; rw [if_neg hS]
          have hend : G E 0 0 133 [some (.ref o), some (.int (nI m)), some (.int (nI v)), some (.int (nI (sc (tP T) (tC T) v (tN T)))), some (.int (nI 1))] [] (tw (xG E) o ad f g) := g_vret C F d_T_halve_133 (Nat.le_refl _) (Nat.le_refl _) ⟨rfl, _, _, rfl, Fr.rf, Bd.rf, by rw [he]; exact hT⟩
          refine g_iload_4 (q := 64) C d_T_halve_62 rfl ?_
          refine g_aload_0 (q := 65) C d_T_halve_64 rfl ?_
          refine tg_19 (q := 68) C d_T_halve_65 rfl ?_
          refine g_iload_1 (q := 69) C d_T_halve_68 rfl ?_
          refine ta_3 (q := 70) C d_T_halve_69 rfl rfl (by omega) T3 ?_
          refine g_icmp_ge (q := 73) (tgt := 133) C d_T_halve_70 rfl (by decide) (fun hc => ?_) (fun hc => ?_)
          · exact hend
          refine g_iload_3 (q := 74) C d_T_halve_73 rfl ?_
          refine g_sipush (v := nI 200) (q := 77) C d_T_halve_74 rfl (by decide) ?_
          refine g_icmp_le (q := 80) (tgt := 133) C d_T_halve_77 rfl (by decide) (fun hc2 => ?_) (fun hc2 => ?_)
          · exact hend
          exact absurd ((nI_leI (by omega) (by omega)).mpr (Nat.le_of_not_lt hS)) hc2
      · exact absurd ((nI_leI (by omega) (by omega)).mpr (by omega)) hc
    | succ j ih =>
      intro i hi h0
      obtain ⟨r1, r2, r3⟩ := TR i h0 (by omega)
      obtain ⟨q1, q2, q3⟩ := kR i h0 (by omega)
      have h51 : ∀ d, d = (if 0 < i ∧ tP T i = v then tC T i else 0) → G E 0 0 51 [some (.ref o), some (.int (nI m)), some (.int (nI v)), some (.int (nI (sc (tP T) (tC T) v i))), some (.int (nI i))] [.int (nI d), .int (nI (sc (tP T) (tC T) v i))] (tw (xG E) o ad f g) := by
        intro d hd
        subst hd
        refine g_iadd (q := 52) C d_T_halve_51 rfl (nI_add _ _) ?_
        refine g_istore_3 (q := 53) C hL d_T_halve_52 rfl ?_
        refine g_iinc_4 (q := 56) C hL d_T_halve_53 rfl (nI_inc _) ?_
        refine g_goto (tgt := 5) C d_T_halve_56 (by decide) ?_
        exact ih (i + 1) (by omega) (by omega)
      refine g_iload_4 (q := 7) C d_T_halve_5 rfl ?_
      refine g_aload_0 (q := 8) C d_T_halve_7 rfl ?_
      refine tg_19 (q := 11) C d_T_halve_8 rfl ?_
      refine g_iload_1 (q := 12) C d_T_halve_11 rfl ?_
      refine ta_3 (q := 13) C d_T_halve_12 rfl rfl (by omega) T3 ?_
      refine g_icmp_ge (q := 16) (tgt := 59) C d_T_halve_13 rfl (by decide) (fun hc => ?_) (fun hc => ?_)
      · exact absurd ((nI_leI (by omega) (by omega)).mp hc) (by omega)
      refine g_iload_3 (q := 17) C d_T_halve_16 rfl ?_
      refine g_aload_0 (q := 18) C d_T_halve_17 rfl ?_
      refine tg_22 (q := 21) C d_T_halve_18 rfl ?_
      refine g_sipush (v := nI 1500) (q := 24) C d_T_halve_21 rfl (by decide) ?_
      refine g_iload_1 (q := 25) C d_T_halve_24 rfl ?_
      refine g_imul (q := 26) C d_T_halve_25 rfl (pk_mul _ _) ?_
      refine g_iload_4 (q := 28) C d_T_halve_26 rfl ?_
      refine g_iadd (q := 29) C d_T_halve_28 rfl (nI_add _ _) ?_
      refine ta_4 (q := 30) C d_T_halve_29 rfl rfl (by omega) r1 ?_
      refine g_iload_2 (q := 31) C d_T_halve_30 rfl ?_
      refine g_icmp_ne (q := 34) (tgt := 50) C d_T_halve_31 rfl (by decide) (fun hp => ?_) (fun hp => ?_)
      · refine g_iconst (v := nI 0) (q := 51) C d_T_halve_50 rfl (by decide) ?_
        exact h51 0 (by rw [if_neg (fun q => hp (by rw [q.2]))])
      · have hp : tP T i = v := (nI_eq (by omega) hvv).mp (Decidable.not_not.mp hp)
        refine g_aload_0 (q := 35) C d_T_halve_34 rfl ?_
        refine tg_28 (q := 38) C d_T_halve_35 rfl ?_
        refine g_sipush (v := nI 1500) (q := 41) C d_T_halve_38 rfl (by decide) ?_
        refine g_iload_1 (q := 42) C d_T_halve_41 rfl ?_
        refine g_imul (q := 43) C d_T_halve_42 rfl (pk_mul _ _) ?_
        refine g_iload_4 (q := 45) C d_T_halve_43 rfl ?_
        refine g_iadd (q := 46) C d_T_halve_45 rfl (nI_add _ _) ?_
        refine ta_6 (q := 47) C d_T_halve_46 rfl rfl (by omega) r3 ?_
        refine g_goto (tgt := 51) C d_T_halve_47 (by decide) ?_
        exact h51 _ (by rw [if_pos ⟨h0, hp⟩])
  refine g_iconst (v := nI 0) (q := 1) C d_T_halve_0 rfl (by decide) ?_
  refine g_istore_3 (q := 2) C hL d_T_halve_1 rfl ?_
  refine g_iconst (v := nI 1) (q := 3) C d_T_halve_2 rfl (by decide) ?_
  refine g_istore_4 (q := 5) C hL d_T_halve_3 rfl ?_
  exact loop1 (tN T - 1) 1 (by omega) (by omega)
end
