/-! THE TWIN: next, asked, read, readSign -/
theorem nIshr {a b : Nat} (ha : a < 2 ^ 31) (hb : b < 32) : nI a >>> (nI b &&& 31) = nI (a / 2 ^ b) := pk_shrN ha _ b (nIs b hb)
theorem nIand1 {a : Nat} (ha : a < 2 ^ 32) : nI a &&& nI 1 = nI (a % 2) := pk_andN ha 1 (by decide)
/-- what was written, or put in its place -/
def OUT (f : Nat → Int32) (g : Nat → Nat → Int32) (out : Nat → Nat) (os : Nat) : Prop := f 4 = nI os ∧ os ≤ 4096 ∧ ∀ i, i < os → g 1 i = nI (out i) ∧ out i < 256
theorem OUT.keep {f f' : Nat → Int32} {g g' : Nat → Nat → Int32} {out : Nat → Nat} {os : Nat} (h : OUT f g out os) (h4 : f' 4 = f 4) (h1 : g' 1 = g 1) : OUT f' g' out os := by
  unfold OUT; rw [h4, h1]; exact h
def RW (f : Nat → Int32) (r : Rd) : Prop := f 14 = nI r.1 ∧ f 15 = nI r.2.1 ∧ f 22 = nI r.2.2.1 ∧ f 23 = nI r.2.2.2
theorem RW.keep {f f' : Nat → Int32} {r : Rd} (h : RW f r) (h14 : f' 14 = f 14) (h15 : f' 15 = f 15) (h22 : f' 22 = f 22) (h23 : f' 23 = f 23) : RW f' r := by
  unfold RW; rw [h14, h15, h22, h23]; exact h
section
variable {l : Launch} {Γ : Gl} {o : Nat} {ad : Nat → Nat} {f : Nat → Int32} {g : Nat → Nat → Int32} {T : Tr} {ord room m os tk : Nat} {out : Nat → Nat} {r : Rd}
theorem c_T_next (hO : OUT f g out os) (h23 : f 23 = nI tk) (htk : tk < 2 ^ 30) : Ct l Γ y_T_next b_T_next 2 (some .int) 0 0 0 [.ref o] (tw Γ o ad f g) (pi Γ o ad (fun x f' g' => f' = upd f 23 (nI (tk + 1)) ∧ g' = g ∧ x = nI (nbit out os tk))) := by
  obtain ⟨h4, hos, hout⟩ := hO
  refine Ct.of (by decide) (by simp [Value.category]) (Nat.le_of_ble_eq_true rfl) (fun E eG el en C hR F hnm => ?_)
  subst eG
  subst el
  have hL : 2 ≤ xn E := Nat.le_of_eq en.symm
  show G E 0 0 0 [some (.ref o), none] [] (tw (xG E) o ad f g)
  refine g_aload_0 (q := 1) C d_T_next_0 rfl ?_
  refine tg_200 (q := 4) C d_T_next_1 rfl h23 ?_
  refine g_istore_1 (q := 5) C hL d_T_next_4 rfl ?_
  refine g_aload_0 (q := 6) C d_T_next_5 rfl ?_
  refine g_dup_r (q := 7) C d_T_next_6 rfl ?_
  refine tg_200 (q := 10) C d_T_next_7 rfl h23 ?_
  refine g_iconst (v := nI 1) (q := 11) C d_T_next_10 rfl (by decide) ?_
  refine g_iadd (q := 12) C d_T_next_11 rfl (nI_1 _) ?_
  refine tp_200 (q := 15) C d_T_next_12 rfl ?_
  refine g_iload_1 (q := 16) C d_T_next_15 rfl ?_
  refine g_bipush (v := nI 8) (q := 18) C d_T_next_16 rfl (by decide) ?_
  refine g_aload_0 (q := 19) C d_T_next_18 rfl ?_
  refine tg_93 (q := 22) C d_T_next_19 rfl h4 ?_
  refine g_imul (q := 23) C d_T_next_22 rfl (pk_mul _ _) ?_
  refine g_icmp_ge (q := 26) (tgt := 48) C d_T_next_23 rfl (by decide) (fun hc => ?_) (fun hc => ?_)
  · have hc := (nI_leI (by omega) (by omega)).mp hc
    refine g_iconst (v := nI 0) (q := 49) C d_T_next_48 rfl (by decide) ?_
    exact g_iret C F d_T_next_49 (Nat.le_refl _) (Nat.le_refl _) ⟨_, _, _, rfl, rfl, rfl, rfl, by unfold nbit; rw [if_neg (by omega)]⟩
  · have hc : tk < 8 * os := Nat.lt_of_not_le (fun q => hc ((nI_leI (by omega) (by omega)).mpr q))
    obtain ⟨q1, q2⟩ := hout (tk / 8) (by omega)
    have hd2 : out (tk / 8) / 2 ^ (7 - tk % 8) ≤ out (tk / 8) := Nat.div_le_self _ _
    refine g_aload_0 (q := 27) C d_T_next_26 rfl ?_
    refine tg_13 (q := 30) C d_T_next_27 rfl ?_
    refine g_iload_1 (q := 31) C d_T_next_30 rfl ?_
    refine g_bipush (v := nI 8) (q := 33) C d_T_next_31 rfl (by decide) ?_
    refine g_idiv (q := 34) C d_T_next_33 rfl (by decide) (pk_div (d := 8) (by omega) (by decide) (by decide)) ?_
    refine ta_1 (q := 35) C d_T_next_34 rfl rfl (by omega) q1 ?_
    refine g_bipush (v := nI 7) (q := 37) C d_T_next_35 rfl (by decide) ?_
    refine g_iload_1 (q := 38) C d_T_next_37 rfl ?_
    refine g_bipush (v := nI 8) (q := 40) C d_T_next_38 rfl (by decide) ?_
    refine g_irem (q := 41) C d_T_next_40 rfl (by decide) (pk_rem (d := 8) (by omega) (by decide) (by decide)) ?_
    refine g_isub (q := 42) C d_T_next_41 rfl (pk_sub (by omega)) ?_
    refine g_ishr (q := 43) C d_T_next_42 rfl (nIshr (by omega) (by omega)) ?_
    refine g_iconst (v := nI 1) (q := 44) C d_T_next_43 rfl (by decide) ?_
    refine g_iand (q := 45) C d_T_next_44 rfl (nIand1 (by omega)) ?_
    refine g_goto (tgt := 49) C d_T_next_45 (by decide) ?_
    exact g_iret C F d_T_next_49 (Nat.le_refl _) (Nat.le_refl _) ⟨_, _, _, rfl, rfl, rfl, rfl, by unfold nbit; rw [if_pos hc]⟩
theorem c_T_asked {of : Nat} (hW : RW f r) (h1 : r.1 ≤ r.2.2.1) (h2 : r.2.2.1 ≤ r.2.1) (h3 : r.2.1 < 65536) (ho : 0 < of) (ho2 : of ≤ 16384) : Ct l Γ y_T_asked b_T_asked 2 (some .int) 0 0 0 [.ref o, .int (nI of)] (tw Γ o ad f g) (pi Γ o ad (fun x f' g' => f' = f ∧ g' = g ∧ x = nI (ask r of))) := by
  obtain ⟨lo, hi, nu, tk⟩ := r
  obtain ⟨h14, h15, h22, h23⟩ := hW
  simp only at h1 h2 h3 h14 h15 h22 h23
  refine Ct.of (by decide) (by simp [Value.category]) (Nat.le_of_ble_eq_true rfl) (fun E eG el en C hR F hnm => ?_)
  subst eG
  subst el
  have hL : 2 ≤ xn E := Nat.le_of_eq en.symm
  show G E 0 0 0 [some (.ref o), some (.int (nI of))] [] (tw (xG E) o ad f g)
  have hm1 : (nu - lo + 1) * of ≤ 65536 * 16384 := Nat.mul_le_mul (by omega) ho2
  have hm2 : 1 * 1 ≤ (nu - lo + 1) * of := Nat.mul_le_mul (by omega) ho
  refine g_aload_0 (q := 1) C d_T_asked_0 rfl ?_
  refine tg_203 (q := 4) C d_T_asked_1 rfl h22 ?_
  refine g_aload_0 (q := 5) C d_T_asked_4 rfl ?_
  refine tg_149 (q := 8) C d_T_asked_5 rfl h14 ?_
  refine g_isub (q := 9) C d_T_asked_8 rfl (pk_sub (by omega)) ?_
  refine g_iconst (v := nI 1) (q := 10) C d_T_asked_9 rfl (by decide) ?_
  refine g_iadd (q := 11) C d_T_asked_10 rfl (nI_add _ _) ?_
  refine g_iload_1 (q := 12) C d_T_asked_11 rfl ?_
  refine g_imul (q := 13) C d_T_asked_12 rfl (pk_mul _ _) ?_
  refine g_iconst (v := nI 1) (q := 14) C d_T_asked_13 rfl (by decide) ?_
  refine g_isub (q := 15) C d_T_asked_14 rfl (pk_sub (by omega)) ?_
  refine g_aload_0 (q := 16) C d_T_asked_15 rfl ?_
  refine tg_146 (q := 19) C d_T_asked_16 rfl h15 ?_
  refine g_aload_0 (q := 20) C d_T_asked_19 rfl ?_
  refine tg_149 (q := 23) C d_T_asked_20 rfl h14 ?_
  refine g_isub (q := 24) C d_T_asked_23 rfl (pk_sub (by omega)) ?_
  refine g_iconst (v := nI 1) (q := 25) C d_T_asked_24 rfl (by decide) ?_
  refine g_iadd (q := 26) C d_T_asked_25 rfl (nI_add _ _) ?_
  refine g_idiv (q := 27) C d_T_asked_26 rfl (fun q => absurd ((nI0 (by omega)).mp q) (by omega)) (pk_div (by omega) (by omega) (by omega)) ?_
  exact g_iret C F d_T_asked_27 (Nat.le_refl _) (Nat.le_refl _) ⟨_, _, _, rfl, rfl, rfl, rfl, rfl⟩
theorem c_T_read {s : Sp} (hW : RW f r) (hr : RdOk r) (hO : OUT f g out os) (h10 : f 10 = nI s.1) (h11 : f 11 = nI s.2.1) (h12 : f 12 = nI s.2.2) (hs : SpOk s) (hl : s.1 ≤ ask r s.2.2) (hh : ask r s.2.2 < s.1 + s.2.1) (htk : r.2.2.2 + 17 < 2 ^ 30) :
    Ct l Γ y_T_read b_T_read 3 none 1 0 0 [.ref o] (tw Γ o ad f g) (pv Γ o ad (fun f' g' => Fr [14, 15, 22, 23] [] f f' g g' ∧ RW f' (rspan (nbit out os) s r))) := by
  obtain ⟨fr, len, of⟩ := s
  obtain ⟨lo, hi, nu, tk⟩ := r
  obtain ⟨h14, h15, h22, h23⟩ := hW
  obtain ⟨k1, k2, k3, k4, k5, k6⟩ := hr
  obtain ⟨s1, s2, s3⟩ := hs
  simp only at h14 h15 h22 h23 k1 k2 k3 k4 k5 k6 h10 h11 h12 hl hh s1 s2 s3 htk
  obtain ⟨n1, n2, n3⟩ := nar_ok k1 k2 k3 k4 s1 s2 s3
  obtain ⟨b1, b2⟩ := ask_in (r := (lo, hi, nu, tk)) (fr := fr) (len := len) (of := of) k5 k6 (by omega) hl hh
  simp only at b1 b2
  refine Ct.of (by decide) (by simp [Value.category]) (Nat.le_of_ble_eq_true rfl) (fun E eG el en C hR F hnm => ?_)
  subst eG
  subst el
  have hL : 3 ≤ xn E := Nat.le_of_eq en.symm
  show G E 0 0 0 [some (.ref o), none, none] [] (tw (xG E) o ad f g)
  have loop : ∀ (m lo1 hi1 nu1 tk1 : Nat) (f1 : Nat → Int32) (l2 : Option Value), Fr [14, 15, 22, 23] [] f f1 g g → RW f1 (lo1, hi1, nu1, tk1) → lo1 ≤ nu1 → nu1 ≤ hi1 → hi1 < 65536 → 65536 < (hi1 - lo1 + 1) * 2 ^ m → tk1 + m < 2 ^ 30 → rn (nbit out os) m (lo1, hi1, nu1, tk1) = rspan (nbit out os) (fr, len, of) (lo, hi, nu, tk) → G E 0 0 6 [some (.ref o), some (.int (nI 1)), l2] [] (tw (xG E) o ad f1 g) := by
    intro m
    induction m with
    | zero => intro lo1 hi1 nu1 tk1 f1 l2 hF hW a1 a1' a2 a3; omega
    | succ m ih =>
      intro lo1 hi1 nu1 tk1 f1 l2 hF hW a1 a1' a2 a3 a4 he
      obtain ⟨b14, b15, b22, b23⟩ := hW
      simp only at b14 b15 b22 b23
      have h63 : ∀ by1, by1 ≤ lo1 → hi1 < by1 + 32768 → by1 < 65536 → rn (nbit out os) m (2 * (lo1 - by1), 2 * (hi1 - by1) + 1, 2 * (nu1 - by1) + nbit out os tk1, tk1 + 1) = rspan (nbit out os) (fr, len, of) (lo, hi, nu, tk) → G E 0 0 63 [some (.ref o), some (.int (nI 1)), l2] [.int (nI by1)] (tw (xG E) o ad f1 g) := by
        intro by1 e1 e2 e3 e4
        have hnb := nbit_lt (out := out) (os := os) (i := tk1)
        refine g_istore_2 (q := 64) C hL d_T_read_63 rfl ?_
        refine g_iload_2 (q := 65) C d_T_read_64 rfl ?_
        refine g_if_lt (q := 68) (tgt := 72) C d_T_read_65 rfl (by decide) (fun hz => ?_) (fun hz => ?_)
        · exact absurd (nI_pos' (by omega)) (Int32.not_le.mpr hz)
        refine g_iconst (v := nI 1) (q := 69) C d_T_read_68 rfl (by decide) ?_
        refine g_goto (tgt := 73) C d_T_read_69 (by decide) ?_
        refine g_istore_1 (q := 74) C hL d_T_read_73 rfl ?_
        refine g_iload_1 (q := 75) C d_T_read_74 rfl ?_
        refine g_if_eq (q := 78) (tgt := 121) C d_T_read_75 rfl (by decide) (fun hz => ?_) (fun hz => ?_)
        · exact absurd hz (by decide)
        refine g_aload_0 (q := 79) C d_T_read_78 rfl ?_
        refine g_iconst (v := nI 2) (q := 80) C d_T_read_79 rfl (by decide) ?_
        refine g_aload_0 (q := 81) C d_T_read_80 rfl ?_
        refine tg_149 (q := 84) C d_T_read_81 rfl b14 ?_
        refine g_iload_2 (q := 85) C d_T_read_84 rfl ?_
        refine g_isub (q := 86) C d_T_read_85 rfl (pk_sub (by omega)) ?_
        refine g_imul (q := 87) C d_T_read_86 rfl (pk_mul _ _) ?_
        refine tp_149 (q := 90) C d_T_read_87 rfl ?_
        refine g_aload_0 (q := 91) C d_T_read_90 rfl ?_
        refine g_iconst (v := nI 2) (q := 92) C d_T_read_91 rfl (by decide) ?_
        refine g_aload_0 (q := 93) C d_T_read_92 rfl ?_
        refine tg_146 (q := 96) C d_T_read_93 rfl b15 ?_
        refine g_iload_2 (q := 97) C d_T_read_96 rfl ?_
        refine g_isub (q := 98) C d_T_read_97 rfl (pk_sub (by omega)) ?_
        refine g_imul (q := 99) C d_T_read_98 rfl (pk_mul _ _) ?_
        refine g_iconst (v := nI 1) (q := 100) C d_T_read_99 rfl (by decide) ?_
        refine g_iadd (q := 101) C d_T_read_100 rfl (nI_add _ _) ?_
        refine tp_146 (q := 104) C d_T_read_101 rfl ?_
        refine g_aload_0 (q := 105) C d_T_read_104 rfl ?_
        refine g_iconst (v := nI 2) (q := 106) C d_T_read_105 rfl (by decide) ?_
        refine g_aload_0 (q := 107) C d_T_read_106 rfl ?_
        refine tg_203 (q := 110) C d_T_read_107 rfl b22 ?_
        refine g_iload_2 (q := 111) C d_T_read_110 rfl ?_
        refine g_isub (q := 112) C d_T_read_111 rfl (pk_sub (by omega)) ?_
        refine g_imul (q := 113) C d_T_read_112 rfl (pk_mul _ _) ?_
        refine g_aload_0 (q := 114) C d_T_read_113 rfl ?_
        refine tc_206 (q := 117) C hR (c_T_next (out := out) (os := os) (tk := tk1) (hO.keep (hF.1 4 (by decide)) rfl) b23 (by omega)) d_T_read_114 rfl (by decide) (by decide) (by decide) (Nat.le_of_ble_eq_true rfl) (fun x f2 g2 hp => ?_)
        obtain ⟨rfl, rfl, rfl⟩ := hp
        refine g_iadd (q := 118) C d_T_read_117 rfl (nI_add _ _) ?_
        refine tp_203 (q := 121) C d_T_read_118 rfl ?_
        refine g_goto (tgt := 6) C d_T_read_121 (by decide) ?_
        refine ih (2 * (lo1 - by1)) (2 * (hi1 - by1) + 1) (2 * (nu1 - by1) + nbit out os tk1) (tk1 + 1) _ _ ((((hF.upd (by decide)).upd (by decide)).upd (by decide)).upd (by decide)) ⟨rfl, rfl, rfl, rfl⟩ (by omega) (by omega) (by omega) ?_ (by omega) e4
        rw [Nat.pow_succ] at a3
        have : 2 * (hi1 - by1) + 1 - 2 * (lo1 - by1) + 1 = 2 * (hi1 - lo1 + 1) := by omega
        rw [this]
        calc 65536 < _ := a3
          _ = _ := by rw [Nat.mul_comm (2 ^ m) 2, ← Nat.mul_assoc, Nat.mul_comm (hi1 - lo1 + 1) 2]
      unfold rn at he
      refine g_iload_1 (q := 7) C d_T_read_6 rfl ?_
      refine g_if_eq (q := 10) (tgt := 124) C d_T_read_7 rfl (by decide) (fun hz => ?_) (fun hz => ?_)
      · exact absurd hz (by decide)
      refine g_aload_0 (q := 11) C d_T_read_10 rfl ?_
      refine tg_146 (q := 14) C d_T_read_11 rfl b15 ?_
      refine g_ldc (v := nI 32768) (q := 16) C d_T_read_14 rfl w_980 ?_
      refine g_icmp_ge (q := 19) (tgt := 23) C d_T_read_16 rfl (by decide) (fun hz => ?_) (fun hz => ?_)
      · have hz := (nI_leI (by omega) (by omega)).mp hz
        rw [if_neg (by omega)] at he
        refine g_aload_0 (q := 24) C d_T_read_23 rfl ?_
        refine tg_149 (q := 27) C d_T_read_24 rfl b14 ?_
        refine g_ldc (v := nI 32768) (q := 29) C d_T_read_27 rfl w_980 ?_
        refine g_icmp_lt (q := 32) (tgt := 37) C d_T_read_29 rfl (by decide) (fun hz2 => ?_) (fun hz2 => ?_)
        · have hz2 := (nI_ltI (by omega) (by omega)).mp hz2
          rw [if_neg (by omega)] at he
          have h62 : ¬ (16384 ≤ lo1 ∧ hi1 < 49152) → G E 0 0 62 [some (.ref o), some (.int (nI 1)), l2] [] (tw (xG E) o ad f1 g) := by
            intro hno
            rw [if_neg hno] at he
            refine g_iconst (v := (-1)) (q := 63) C d_T_read_62 rfl (by decide) ?_
            refine g_istore_2 (q := 64) C hL d_T_read_63 rfl ?_
            refine g_iload_2 (q := 65) C d_T_read_64 rfl ?_
            refine g_if_lt (q := 68) (tgt := 72) C d_T_read_65 rfl (by decide) (fun hx => ?_) (fun hx => ?_)
            · refine g_iconst (v := nI 0) (q := 73) C d_T_read_72 rfl (by decide) ?_
              refine g_istore_1 (q := 74) C hL d_T_read_73 rfl ?_
              refine g_iload_1 (q := 75) C d_T_read_74 rfl ?_
              refine g_if_eq (q := 78) (tgt := 121) C d_T_read_75 rfl (by decide) (fun hx => ?_) (fun hx => ?_)
              · refine g_goto (tgt := 6) C d_T_read_121 (by decide) ?_
                refine g_iload_1 (q := 7) C d_T_read_6 rfl ?_
                refine g_if_eq (q := 10) (tgt := 124) C d_T_read_7 rfl (by decide) (fun hx => ?_) (fun hx => ?_)
                · exact g_vret C F d_T_read_124 (Nat.le_refl _) (Nat.le_refl _) ⟨rfl, _, _, rfl, hF, by rw [← he]; exact ⟨b14, b15, b22, b23⟩⟩
                · exact absurd rfl hx
              · exact absurd rfl hx
            · exact absurd (by decide) hx
          refine g_aload_0 (q := 38) C d_T_read_37 rfl ?_
          refine tg_149 (q := 41) C d_T_read_38 rfl b14 ?_
          refine g_sipush (v := nI 16384) (q := 44) C d_T_read_41 rfl (by decide) ?_
          refine g_icmp_lt (q := 47) (tgt := 62) C d_T_read_44 rfl (by decide) (fun hx => ?_) (fun hx => ?_)
          · have hx := (nI_ltI (by omega) (by omega)).mp hx
            exact h62 (by omega)
          have hx : 16384 ≤ lo1 := Nat.le_of_not_lt (fun e => hx ((nI_ltI (by omega) (by omega)).mpr e))
          refine g_aload_0 (q := 48) C d_T_read_47 rfl ?_
          refine tg_146 (q := 51) C d_T_read_48 rfl b15 ?_
          refine g_ldc (v := nI 49152) (q := 53) C d_T_read_51 rfl w_989 ?_
          refine g_icmp_ge (q := 56) (tgt := 62) C d_T_read_53 rfl (by decide) (fun hy => ?_) (fun hy => ?_)
          · have hy := (nI_leI (by omega) (by omega)).mp hy
            exact h62 (by omega)
          have hy : hi1 < 49152 := Nat.lt_of_not_le (fun e => hy ((nI_leI (by omega) (by omega)).mpr e))
          rw [if_pos ⟨hx, hy⟩] at he
          refine g_sipush (v := nI 16384) (q := 59) C d_T_read_56 rfl (by decide) ?_
          refine g_goto (tgt := 63) C d_T_read_59 (by decide) ?_
          exact h63 16384 hx (by omega) (by omega) he
        · have hz2 : 32768 ≤ lo1 := Nat.le_of_not_lt (fun e => hz2 ((nI_ltI (by omega) (by omega)).mpr e))
          rw [if_pos hz2] at he
          refine g_ldc (v := nI 32768) (q := 34) C d_T_read_32 rfl w_980 ?_
          refine g_goto (tgt := 63) C d_T_read_34 (by decide) ?_
          exact h63 32768 hz2 (by omega) (by omega) he
      · have hz : hi1 < 32768 := Nat.lt_of_not_le (fun e => hz ((nI_leI (by omega) (by omega)).mpr e))
        rw [if_pos hz] at he
        refine g_iconst (v := nI 0) (q := 20) C d_T_read_19 rfl (by decide) ?_
        refine g_goto (tgt := 63) C d_T_read_20 (by decide) ?_
        exact h63 0 (Nat.zero_le _) (by omega) (by omega) he
  refine g_aload_0 (q := 1) C d_T_read_0 rfl ?_
  refine tc_152 (q := 4) C hR (c_T_narrow h14 h15 h10 h11 h12 k1 k2 k3 k4 s1 s2 s3) d_T_read_1 rfl (by decide) (by decide) (by decide) (Nat.le_of_ble_eq_true rfl) (fun f2 g2 hp => ?_)
  obtain ⟨hF2, c14, c15⟩ := hp
  have eg : g2 = g := funext (fun a => hF2.2 a (by simp))
  subst eg
  refine g_iconst (v := nI 1) (q := 5) C d_T_read_4 rfl (by decide) ?_
  refine g_istore_1 (q := 6) C hL d_T_read_5 rfl ?_
  refine loop 17 (narL fr of lo hi) (narH fr len of lo hi) nu tk f2 _ (hF2.mono (by decide) (by decide)) ⟨c14, c15, by rw [hF2.1 22 (by decide)]; exact h22, by rw [hF2.1 23 (by decide)]; exact h23⟩ b1 b2 (by omega) ?_ (by omega) rfl
  have : 1 * 2 ^ 17 ≤ (narH fr len of lo hi - narL fr of lo hi + 1) * 2 ^ 17 := Nat.mul_le_mul_right _ (by omega)
  omega
theorem c_T_readSign (hm : m < 7) (hT : TM g m T) (hI : TI ord room T) (hW : RW f r) (hr : RdOk r) (hO : OUT f g out os) (htk : r.2.2.2 + 200 < 2 ^ 30) :
    Ct l Γ y_T_readSign b_T_readSign 6 (some .int) 3 0 0 [.ref o, .int (nI m)] (tw Γ o ad f g) (pi Γ o ad (fun x f' g' => Fr [7, 8, 9, 10, 11, 12, 14, 15, 22, 23, 26] [10, 11] f f' g g' ∧ x = nI (rsign T (nbit out os) r) ∧ RW f' (rf (nbit out os) (tell T (rsign T (nbit out os) r)).1 r) ∧ f' 26 = nI ((tell T (rsign T (nbit out os) r)).2.1 - 1))) := by
  have hL4 : tL T ≤ 4 := Nat.le_trans hI.1.2.2.2.2.1 hI.1.2.2.2.2.2.1
  have hnb : ∀ i, nbit out os i < 2 := fun i => nbit_lt
  refine Ct.of (by decide) (by simp [Value.category]) (Nat.le_of_ble_eq_true rfl) (fun E eG el en C hR F hnm => ?_)
  subst eG
  subst el
  have hL : 6 ≤ xn E := Nat.le_of_eq en.symm
  show G E 0 0 0 [some (.ref o), some (.int (nI m)), none, none, none, none] [] (tw (xG E) o ad f g)
  have inner : ∀ (kk : Nat) (e : Nat → Bool) (x : Nat) (r1 : Rd) (f1 : Nat → Int32) (g1 : Nat → Nat → Int32) (l3 l4 l5 : Option Value), kk ≤ tL T + 1 → EI e x → Fr [7, 8, 9, 10, 11, 12, 14, 15, 22, 23, 26] [10, 11] f f1 g g1 → RW f1 r1 → RdOk r1 → r1.2.2.2 + 16 * (kk + 1) + 17 < 2 ^ 30 → EX g1 e → f1 7 = nI x → rsg T (nbit out os) kk e x r1 = rsign T (nbit out os) r → rf (nbit out os) (tl T (rsign T (nbit out os) r) kk e x).1 r1 = rf (nbit out os) (tell T (rsign T (nbit out os) r)).1 r → (tl T (rsign T (nbit out os) r) kk e x).2.1 = (tell T (rsign T (nbit out os) r)).2.1 → G E 0 0 11 [some (.ref o), some (.int (nI m)), some (.int (dk kk)), l3, l4, l5] [] (tw (xG E) o ad f1 g1) := by
    intro kk
    induction kk with
    | zero =>
      intro e x r1 f1 g1 l3 l4 l5 hkk hE hF hW1 hr1 htk1 hEX h7 hs1 hs2 hs3
      obtain ⟨e1, e2, e3⟩ := id hE
      obtain ⟨q1, q2, q3, q4, q5, q6⟩ := id hr1
      have hv : ask r1 (257 - x) < 257 - x := ask_lt q5 q6 (by omega)
      have hrs : rsg T (nbit out os) 0 e x r1 = fsg e (ask r1 (257 - x)) 257 0 := rfl
      rw [hrs] at hs1
      obtain ⟨a, b, c⟩ := fsg_ok (e := e) (v := ask r1 (257 - x)) (by omega) 257 0 (by omega) (Nat.zero_le _)
      rw [hs1] at a b c
      -- the search
      have srch : ∀ (j s : Nat) (f2 : Nat → Int32), s + j = 257 → nx e s ≤ ask r1 (257 - x) → fsg e (ask r1 (257 - x)) j s = rsign T (nbit out os) r → Fr [7, 8, 9, 10, 11, 12, 14, 15, 22, 23, 26] [10, 11] f f2 g g1 → RW f2 r1 → f2 7 = nI x → f2 26 = nI 0 → G E 0 0 164 [some (.ref o), some (.int (nI m)), some (.int (nI (ask r1 (257 - x) - nx e s))), some (.int (nI s)), l4, l5] [] (tw (xG E) o ad f2 g1) := by
        intro j
        induction j with
        | zero =>
          intro s f2 hj hn
          have : s = 257 := by omega
          subst this
          exact absurd hn (by omega)
        | succ j ih =>
          intro s f2 hj hn hf hF2 hW2 k7 k26
          have hex := hEX s (by omega)
          have h177 : (e s = true ∨ nx e s < ask r1 (257 - x)) → G E 0 0 177 [some (.ref o), some (.int (nI m)), some (.int (nI (ask r1 (257 - x) - nx e s))), some (.int (nI s)), l4, l5] [] (tw (xG E) o ad f2 g1) := by
            intro hc
            have hf' : fsg e (ask r1 (257 - x)) j (s + 1) = rsign T (nbit out os) r := by
              rw [← hf]
              show _ = (if _ then _ else _)
              rw [if_pos hc]
            have h192 : ∀ d, d = (if e s then 0 else 1) → G E 0 0 192 [some (.ref o), some (.int (nI m)), some (.int (nI (ask r1 (257 - x) - nx e s))), some (.int (nI s)), l4, l5] [.int (nI d), .int (nI (ask r1 (257 - x) - nx e s))] (tw (xG E) o ad f2 g1) := by
              intro d hd
              have hle : nx e s + d ≤ ask r1 (257 - x) := by
                rcases hc with q | q
                · rw [q, if_pos rfl] at hd; omega
                · rw [hd]; split <;> omega
              have hnx : nx e (s + 1) = nx e s + d := by rw [hd]; rfl
              refine g_isub (q := 193) C d_T_readSign_192 rfl (pk_sub (by omega)) ?_
              refine g_istore_2 (q := 194) C hL d_T_readSign_193 rfl ?_
              refine g_iinc_3 (q := 197) C hL d_T_readSign_194 rfl (nI_inc _) ?_
              refine g_goto (tgt := 164) C d_T_readSign_197 (by decide) ?_
              have hh := ih (s + 1) f2 (by omega) (by rw [hnx]; exact hle) hf' hF2 hW2 k7 k26
              rw [hnx, show ask r1 (257 - x) - (nx e s + d) = ask r1 (257 - x) - nx e s - d by omega] at hh
              exact hh
            refine g_iload_2 (q := 178) C d_T_readSign_177 rfl ?_
            refine g_aload_0 (q := 179) C d_T_readSign_178 rfl ?_
            refine tg_40 (q := 182) C d_T_readSign_179 rfl ?_
            refine g_iload_3 (q := 183) C d_T_readSign_182 rfl ?_
            refine ta_10 (q := 184) C d_T_readSign_183 rfl rfl (by omega) hex ?_
            refine g_if_eq (q := 187) (tgt := 191) C d_T_readSign_184 rfl (by decide) (fun hz => ?_) (fun hz => ?_)
            · refine g_iconst (v := nI 1) (q := 192) C d_T_readSign_191 rfl (by decide) ?_
              refine h192 1 ?_
              cases q : e s with
              | false => rfl
              | true => rw [q, if_pos rfl] at hz; exact absurd hz (by decide)
            · refine g_iconst (v := nI 0) (q := 188) C d_T_readSign_187 rfl (by decide) ?_
              refine g_goto (tgt := 192) C d_T_readSign_188 (by decide) ?_
              refine h192 0 ?_
              cases q : e s with
              | true => rfl
              | false => rw [q, if_neg (by decide)] at hz; exact absurd rfl hz
          refine g_aload_0 (q := 165) C d_T_readSign_164 rfl ?_
          refine tg_40 (q := 168) C d_T_readSign_165 rfl ?_
          refine g_iload_3 (q := 169) C d_T_readSign_168 rfl ?_
          refine ta_10 (q := 170) C d_T_readSign_169 rfl rfl (by omega) hex ?_
          refine g_if_ne (q := 173) (tgt := 177) C d_T_readSign_170 rfl (by decide) (fun hz => ?_) (fun hz => ?_)
          · refine h177 (Or.inl ?_)
            cases q : e s with
            | true => rfl
            | false => rw [q, if_neg (by decide)] at hz; exact absurd rfl hz
          have hes : e s = false := by
            cases q : e s with
            | false => rfl
            | true => rw [q, if_pos rfl] at hz; exact absurd (Decidable.not_not.mp hz) (by decide)
          refine g_iload_2 (q := 174) C d_T_readSign_173 rfl ?_
          refine g_if_le (q := 177) (tgt := 200) C d_T_readSign_174 rfl (by decide) (fun hz2 => ?_) (fun hz2 => ?_)
          · have hz2 := (nILe0 (by omega)).mp hz2
            have hnl : ¬ (e s = true ∨ nx e s < ask r1 (257 - x)) := by
              rintro (q | q)
              · rw [hes] at q; exact absurd q (by decide)
              · omega
            have hss : s = rsign T (nbit out os) r := by
              rw [← hf]
              show _ = (if _ then _ else _)
              rw [if_neg hnl]
            have hfo := flat_ok hE (by omega : s ≤ 256) hes
            refine g_aload_0 (q := 201) C d_T_readSign_200 rfl ?_
            refine g_iload_3 (q := 202) C d_T_readSign_201 rfl ?_
            refine tc_183 (q := 205) C hR (c_T_flat (e := e) (x := x) (s := s) hEX k7 (by omega) (by omega)) d_T_readSign_202 rfl (by decide) (by decide) (by decide) (Nat.le_of_ble_eq_true rfl) (fun f3 g3 hp => ?_)
            obtain ⟨hF3, a10, a11, a12⟩ := hp
            have eg : g3 = g1 := funext (fun a => hF3.2 a (by simp))
            subst eg
            refine g_aload_0 (q := 206) C d_T_readSign_205 rfl ?_
            have hF23 := hF2.trans (hF3.mono (K' := [7, 8, 9, 10, 11, 12, 14, 15, 22, 23, 26]) (J' := [10, 11]) (by decide) (by decide))
            refine tc_213 (q := 209) C hR (c_T_read (s := (nx e s, 1, 257 - x)) (r := r1) (out := out) (os := os) (hW2.keep (hF3.1 14 (by decide)) (hF3.1 15 (by decide)) (hF3.1 22 (by decide)) (hF3.1 23 (by decide))) hr1 (hO.keep (hF23.1 4 (by decide)) (hF23.2 1 (by decide))) a10 a11 a12 hfo (by show nx e s ≤ ask r1 (257 - x); omega) (by show ask r1 (257 - x) < nx e s + 1; omega) (by omega)) d_T_readSign_206 rfl (by decide) (by decide) (by decide) (Nat.le_of_ble_eq_true rfl) (fun f4 g4 hp => ?_)
            obtain ⟨hF4, hW4⟩ := hp
            refine g_iload_3 (q := 210) C d_T_readSign_209 rfl ?_
            refine g_iret C F d_T_readSign_210 (Nat.le_refl _) (Nat.le_refl _) ⟨_, _, _, rfl, rfl, hF23.trans (hF4.mono (by decide) (by decide)), by rw [hss], ?_, ?_⟩
            · rw [← hs2, ← hss]; exact hW4
            · rw [← hs3, hF4.1 26 (by decide), hF3.1 26 (by decide)]; exact k26
          · have hz2 : ask r1 (257 - x) - nx e s ≠ 0 := fun q => hz2 ((nILe0 (by omega)).mpr q)
            exact h177 (Or.inr (by omega))
      refine g_iload_2 (q := 12) C d_T_readSign_11 rfl ?_
      refine g_if_lt (q := 15) (tgt := 144) C d_T_readSign_12 rfl (by decide) (fun hz => ?_) (fun hz => ?_)
      · refine g_aload_0 (q := 145) C d_T_readSign_144 rfl ?_
        refine g_iconst (v := nI 0) (q := 146) C d_T_readSign_145 rfl (by decide) ?_
        refine tp_216 (q := 149) C d_T_readSign_146 rfl ?_
        refine g_aload_0 (q := 150) C d_T_readSign_149 rfl ?_
        refine g_sipush (v := nI 257) (q := 153) C d_T_readSign_150 rfl (by decide) ?_
        refine g_aload_0 (q := 154) C d_T_readSign_153 rfl ?_
        refine tg_103 (q := 157) C d_T_readSign_154 rfl h7 ?_
        refine g_isub (q := 158) C d_T_readSign_157 rfl (pk_sub (by omega)) ?_
        refine tc_210 (q := 161) C hR (c_T_asked (r := r1) (of := 257 - x) hW1 q5 q6 q3 (by omega) (by omega)) d_T_readSign_158 rfl (by decide) (by decide) (by decide) (Nat.le_of_ble_eq_true rfl) (fun y f2 g2 hp => ?_)
        obtain ⟨rfl, rfl, rfl⟩ := hp
        refine g_istore_2 (q := 162) C hL d_T_readSign_161 rfl ?_
        refine g_iconst (v := nI 0) (q := 163) C d_T_readSign_162 rfl (by decide) ?_
        refine g_istore_3 (q := 164) C hL d_T_readSign_163 rfl ?_
        exact srch 257 0 _ (by omega) (Nat.zero_le _) hs1 (hF.upd (by decide)) hW1 h7 upd_s
      · exact absurd (by decide) hz
    | succ k ihk =>
      intro e x r1 f1 g1 l3 l4 l5 hkk hE hF hW1 hr1 htk1 hEX h7 hs1 hs2 hs3
      obtain ⟨q1, q2, q3, q4, q5, q6⟩ := id hr1
      have hTk : ∀ g', (∀ a, a ≠ 10 → a ≠ 11 → g' a = g a) → TM g' m T := fun g' q => hT.keep (q 3 (by decide) (by decide)) (q 4 (by decide) (by decide)) (q 5 (by decide) (by decide)) (q 6 (by decide) (by decide)) (q 7 (by decide) (by decide)) (q 8 (by decide) (by decide))
      have eF : ∀ a, a ≠ 10 → a ≠ 11 → g1 a = g a := fun a h1 h2 => hF.2 a (by simp [h1, h2])
      have hbs := ct_sum hI.1 hI.2.2.2 e (cx T k)
      have hnz := nz_bl (t := ct T e (cx T k)) 256
      rw [dk_s]
      refine g_iload_2 (q := 12) C d_T_readSign_11 rfl ?_
      refine g_if_lt (q := 15) (tgt := 144) C d_T_readSign_12 rfl (by decide) (fun hz => ?_) (fun hz => ?_)
      · exact absurd (nI_pos' (by omega)) (Int32.not_le.mpr hz)
      refine g_aload_0 (q := 16) C d_T_readSign_15 rfl ?_
      refine g_iload_1 (q := 17) C d_T_readSign_16 rfl ?_
      refine g_iload_2 (q := 18) C d_T_readSign_17 rfl ?_
      refine tc_170 (q := 21) C hR (c_T_look (k := k) (e := e) hm (hTk g1 eF) hI.1 hI.2.1 (by omega) hEX) d_T_readSign_18 rfl (by decide) (by decide) (by decide) (Nat.le_of_ble_eq_true rfl) (fun f2 g2 hp => ?_)
      obtain ⟨hF2, hC2, a8, a9⟩ := hp
      have e2 : ∀ a, a ≠ 11 → g2 a = g1 a := fun a ha => hF2.2 a (by simpa using ha)
      have hF2' := hF.trans (hF2.mono (K' := [7, 8, 9, 10, 11, 12, 14, 15, 22, 23, 26]) (J' := [10, 11]) (by decide) (by decide))
      have hW2 : RW f2 r1 := hW1.keep (hF2.1 14 (by decide)) (hF2.1 15 (by decide)) (hF2.1 22 (by decide)) (hF2.1 23 (by decide))
      have b7 : f2 7 = nI x := by rw [hF2.1 7 (by decide)]; exact h7
      refine g_aload_0 (q := 22) C d_T_readSign_21 rfl ?_
      refine tg_113 (q := 25) C d_T_readSign_22 rfl a9 ?_
      refine g_if_le (q := 28) (tgt := 138) C d_T_readSign_25 rfl (by decide) (fun hm0 => ?_) (fun hm0 => ?_)
      · have hm0 := (nILe0 (by omega)).mp hm0
        rw [tl_z hm0] at hs2 hs3
        have hrs : rsg T (nbit out os) (k + 1) e x r1 = rsg T (nbit out os) k e x r1 := by
          show (if nz (ct T e (cx T k)) 256 = 0 then _ else _) = _
          rw [if_pos hm0]
        rw [hrs] at hs1
        refine g_iinc_2 (q := 141) C hL d_T_readSign_138 rfl (dk_dec _) ?_
        refine g_goto (tgt := 11) C d_T_readSign_141 (by decide) ?_
        exact ihk e x r1 f2 g2 _ _ _ (by omega) hE hF2' hW2 hr1 (by omega) (hEX.keep (e2 10 (by decide))) b7 hs1 hs2 hs3
      have hm0 : nz (ct T e (cx T k)) 256 ≠ 0 := fun q => hm0 ((nILe0 (by omega)).mpr q)
      have hv : ask r1 (bl (ct T e (cx T k)) 256 + nz (ct T e (cx T k)) 256) < bl (ct T e (cx T k)) 256 + nz (ct T e (cx T k)) 256 := ask_lt q5 q6 (by omega)
      refine g_aload_0 (q := 29) C d_T_readSign_28 rfl ?_
      refine g_aload_0 (q := 30) C d_T_readSign_29 rfl ?_
      refine tg_110 (q := 33) C d_T_readSign_30 rfl a8 ?_
      refine g_aload_0 (q := 34) C d_T_readSign_33 rfl ?_
      refine tg_113 (q := 37) C d_T_readSign_34 rfl a9 ?_
      refine g_iadd (q := 38) C d_T_readSign_37 rfl (nI_add _ _) ?_
      refine tc_210 (q := 41) C hR (c_T_asked (r := r1) (of := bl (ct T e (cx T k)) 256 + nz (ct T e (cx T k)) 256) hW2 q5 q6 q3 (by omega) (by omega)) d_T_readSign_38 rfl (by decide) (by decide) (by decide) (Nat.le_of_ble_eq_true rfl) (fun y f3 g3 hp => ?_)
      obtain ⟨rfl, rfl, rfl⟩ := hp
      -- behind the choice
      have h109 : G E 0 0 109 [some (.ref o), some (.int (nI m)), some (.int (nI k)), some (.int (nI (ask r1 (bl (ct T e (cx T k)) 256 + nz (ct T e (cx T k)) 256)))), some (.int (nI (pk1 (ct T e (cx T k)) (ask r1 (bl (ct T e (cx T k)) 256 + nz (ct T e (cx T k)) 256)) 256))), none] [] (tw (xG E) o ad f3 g3) := by
        have hpk := pk1_ok (t := ct T e (cx T k)) (v := ask r1 (bl (ct T e (cx T k)) 256 + nz (ct T e (cx T k)) 256)) 256 (Nat.le_refl _)
        have hsle : pk1 (ct T e (cx T k)) (ask r1 (bl (ct T e (cx T k)) 256 + nz (ct T e (cx T k)) 256)) 256 ≤ 256 := by rcases hpk with h | h <;> omega
        refine g_aload_0 (q := 110) C d_T_readSign_109 rfl ?_
        refine g_iload_4 (q := 112) C d_T_readSign_110 rfl ?_
        refine tc_173 (q := 115) C hR (c_T_isFound (t := ct T e (cx T k)) hC2 a8 a9 hsle hbs) d_T_readSign_112 rfl (by decide) (by decide) (by decide) (Nat.le_of_ble_eq_true rfl) (fun x1 f4 g4 hp => ?_)
        obtain ⟨hF4, a12, hcase⟩ := hp
        have eg : g4 = g3 := funext (fun a => hF4.2 a (by simp))
        subst eg
        have hF4' := hF2'.trans (hF4.mono (K' := [7, 8, 9, 10, 11, 12, 14, 15, 22, 23, 26]) (J' := [10, 11]) (by decide) (by decide))
        have hW4 : RW f4 r1 := hW2.keep (hF4.1 14 (by decide)) (hF4.1 15 (by decide)) (hF4.1 22 (by decide)) (hF4.1 23 (by decide))
        have hO4 : OUT f4 g4 out os := hO.keep (hF4'.1 4 (by decide)) (hF4'.2 1 (by decide))
        rcases hcase with ⟨c1, c2, rfl, a10, a11⟩ | ⟨hno, rfl, a10, a11⟩
        · rcases hpk with ⟨p1, p2⟩ | ⟨p1, p2, p3, p4⟩
          · exact absurd c1 (by omega)
          have hrs : rsg T (nbit out os) (k + 1) e x r1 = pk1 (ct T e (cx T k)) (ask r1 (bl (ct T e (cx T k)) 256 + nz (ct T e (cx T k)) 256)) 256 := by
            show (if nz (ct T e (cx T k)) 256 = 0 then _ else if _ then _ else _) = _
            rw [if_neg hm0, if_pos p1]
          rw [hrs] at hs1
          rw [hs1] at p2 p3 p4 a10 a11 c1 c2 ⊢
          rw [tl_f hm0 ⟨c1, c2⟩] at hs2 hs3
          refine g_istore_5 (q := 117) C hL d_T_readSign_115 rfl ?_
          refine g_aload_0 (q := 118) C d_T_readSign_117 rfl ?_
          refine tc_213 (q := 121) C hR (c_T_read (s := (bl (ct T e (cx T k)) (rsign T (nbit out os) r), ct T e (cx T k) (rsign T (nbit out os) r), bl (ct T e (cx T k)) 256 + nz (ct T e (cx T k)) 256)) (r := r1) (out := out) (os := os) hW4 hr1 hO4 a10 a11 a12 (sp_ok hbs ⟨c1, c2⟩) p3 p4 (by omega)) d_T_readSign_118 rfl (by decide) (by decide) (by decide) (Nat.le_of_ble_eq_true rfl) (fun f5 g5 hp => ?_)
          obtain ⟨hF5, hW5⟩ := hp
          refine g_iload_5 (q := 123) C d_T_readSign_121 rfl ?_
          refine g_if_eq (q := 126) (tgt := 134) C d_T_readSign_123 rfl (by decide) (fun hz => ?_) (fun hz => ?_)
          · exact absurd hz (by decide)
          refine g_aload_0 (q := 127) C d_T_readSign_126 rfl ?_
          refine g_iload_2 (q := 128) C d_T_readSign_127 rfl ?_
          refine tp_216 (q := 131) C d_T_readSign_128 rfl ?_
          refine g_iload_4 (q := 133) C d_T_readSign_131 rfl ?_
          exact g_iret C F d_T_readSign_133 (Nat.le_refl _) (Nat.le_refl _) ⟨_, _, _, rfl, rfl, (hF4'.trans (hF5.mono (by decide) (by decide))).upd (by decide), rfl, by rw [← hs2]; exact hW5, by rw [← hs3]; exact upd_s⟩
        · rcases hpk with ⟨p1, p2⟩ | ⟨p1, p2, p3, p4⟩
          · have hrs : rsg T (nbit out os) (k + 1) e x r1 = rsg T (nbit out os) k (ex e (ct T e (cx T k))) (x + nz (ct T e (cx T k)) 256) (rspan (nbit out os) (bl (ct T e (cx T k)) 256, nz (ct T e (cx T k)) 256, bl (ct T e (cx T k)) 256 + nz (ct T e (cx T k)) 256) r1) := by
              show (if nz (ct T e (cx T k)) 256 = 0 then _ else if _ then _ else _) = _
              rw [if_neg hm0, if_neg (by omega)]
            rw [hrs] at hs1
            obtain ⟨z1, z2⟩ := rspan_ok hnb (s := (bl (ct T e (cx T k)) 256, nz (ct T e (cx T k)) 256, bl (ct T e (cx T k)) 256 + nz (ct T e (cx T k)) 256)) hr1 (esc_ok hbs hm0) p2 hv
            obtain ⟨-, hb2, -, -⟩ := rsg_ok hI.1 hI.2.2.2 hnb k _ _ _ (hE.ex (T := T) (v := cx T k)) z1
            rw [hs1] at hb2
            have hno2 : ¬ (rsign T (nbit out os) r < 256 ∧ 0 < ct T e (cx T k) (rsign T (nbit out os) r)) := by
              rintro ⟨y1, y2⟩
              unfold ex at hb2
              simp [y1, y2] at hb2
            rw [tl_e hm0 hno2] at hs2 hs3
            refine g_istore_5 (q := 117) C hL d_T_readSign_115 rfl ?_
            refine g_aload_0 (q := 118) C d_T_readSign_117 rfl ?_
            refine tc_213 (q := 121) C hR (c_T_read (s := (bl (ct T e (cx T k)) 256, nz (ct T e (cx T k)) 256, bl (ct T e (cx T k)) 256 + nz (ct T e (cx T k)) 256)) (r := r1) (out := out) (os := os) hW4 hr1 hO4 a10 a11 a12 (esc_ok hbs hm0) p2 hv (by omega)) d_T_readSign_118 rfl (by decide) (by decide) (by decide) (Nat.le_of_ble_eq_true rfl) (fun f5 g5 hp => ?_)
            obtain ⟨hF5, hW5⟩ := hp
            have eg5 : g5 = g4 := funext (fun a => hF5.2 a (by simp))
            subst eg5
            refine g_iload_5 (q := 123) C d_T_readSign_121 rfl ?_
            refine g_if_eq (q := 126) (tgt := 134) C d_T_readSign_123 rfl (by decide) (fun hz => ?_) (fun hz => ?_)
            · refine g_aload_0 (q := 135) C d_T_readSign_134 rfl ?_
              refine tc_177 (q := 138) C hR (c_T_exclude (t := ct T e (cx T k)) (e := e) (x := x) hC2 (hEX.keep (e2 10 (by decide))) (by rw [hF5.1 7 (by decide), hF4.1 7 (by decide)]; exact b7) (fun b hb => by have := bl_le (t := ct T e (cx T k)) hb; omega)) d_T_readSign_135 rfl (by decide) (by decide) (by decide) (Nat.le_of_ble_eq_true rfl) (fun f6 g6 hp => ?_)
              obtain ⟨hF6, hE6, p7⟩ := hp
              refine g_iinc_2 (q := 141) C hL d_T_readSign_138 rfl (dk_dec _) ?_
              refine g_goto (tgt := 11) C d_T_readSign_141 (by decide) ?_
              exact ihk _ _ _ f6 g6 _ _ _ (by omega) hE.ex ((hF4'.trans (hF5.mono (by decide) (by decide))).trans (hF6.mono (by decide) (by decide))) (hW5.keep (hF6.1 14 (by decide)) (hF6.1 15 (by decide)) (hF6.1 22 (by decide)) (hF6.1 23 (by decide))) z1 (by omega) hE6 p7 hs1 hs2 hs3
            · exact absurd rfl hz
          · exact absurd ⟨p1, p2⟩ hno
      have loop : ∀ (j b : Nat) (l5' : Option Value), b + j = 256 → G E 0 0 50 [some (.ref o), some (.int (nI m)), some (.int (nI k)), some (.int (nI (ask r1 (bl (ct T e (cx T k)) 256 + nz (ct T e (cx T k)) 256)))), some (.int (nI (pk1 (ct T e (cx T k)) (ask r1 (bl (ct T e (cx T k)) 256 + nz (ct T e (cx T k)) 256)) b))), some (.int (nI b))] [] (tw (xG E) o ad f3 g3) := by
        intro j
        induction j with
        | zero =>
          intro b l5' hb
          have : b = 256 := by omega
          subst this
          refine g_iload_5 (q := 52) C d_T_readSign_50 rfl ?_
          refine g_sipush (v := nI 256) (q := 55) C d_T_readSign_52 rfl (by decide) ?_
          refine g_icmp_ge (q := 58) (tgt := 109) C d_T_readSign_55 rfl (by decide) (fun hc => ?_) (fun hc => ?_)
          · exact g_weak (by simp [lvle]) h109
          · exact absurd ((nI_leI (by omega) (by omega)).mpr (by omega)) hc
        | succ j ih =>
          intro b l5' hb
          have hbl := bl_le (t := ct T e (cx T k)) (s := b) (n := 256) (by omega)
          have hpb := pk1_ok (t := ct T e (cx T k)) (v := ask r1 (bl (ct T e (cx T k)) 256 + nz (ct T e (cx T k)) 256)) b (by omega)
          have hps : pk1 (ct T e (cx T k)) (ask r1 (bl (ct T e (cx T k)) 256 + nz (ct T e (cx T k)) 256)) b ≤ 256 := by rcases hpb with h | h <;> omega
          have h101 : ∀ z, z = pk1 (ct T e (cx T k)) (ask r1 (bl (ct T e (cx T k)) 256 + nz (ct T e (cx T k)) 256)) (b + 1) → G E 0 0 101 [some (.ref o), some (.int (nI m)), some (.int (nI k)), some (.int (nI (ask r1 (bl (ct T e (cx T k)) 256 + nz (ct T e (cx T k)) 256)))), some (.int (nI (pk1 (ct T e (cx T k)) (ask r1 (bl (ct T e (cx T k)) 256 + nz (ct T e (cx T k)) 256)) b))), some (.int (nI b))] [.int (nI z)] (tw (xG E) o ad f3 g3) := by
            intro z hz
            subst hz
            refine g_istore_4 (q := 103) C hL d_T_readSign_101 rfl ?_
            refine g_iinc_5 (q := 106) C hL d_T_readSign_103 rfl (nI_inc _) ?_
            refine g_goto (tgt := 50) C d_T_readSign_106 (by decide) ?_
            exact ih (b + 1) none (by omega)
          have h99 : ¬ (pk1 (ct T e (cx T k)) (ask r1 (bl (ct T e (cx T k)) 256 + nz (ct T e (cx T k)) 256)) b = 256 ∧ 0 < ct T e (cx T k) b ∧ ask r1 (bl (ct T e (cx T k)) 256 + nz (ct T e (cx T k)) 256) < bl (ct T e (cx T k)) b + ct T e (cx T k) b) → G E 0 0 99 [some (.ref o), some (.int (nI m)), some (.int (nI k)), some (.int (nI (ask r1 (bl (ct T e (cx T k)) 256 + nz (ct T e (cx T k)) 256)))), some (.int (nI (pk1 (ct T e (cx T k)) (ask r1 (bl (ct T e (cx T k)) 256 + nz (ct T e (cx T k)) 256)) b))), some (.int (nI b))] [] (tw (xG E) o ad f3 g3) := by
            intro hno
            refine g_iload_4 (q := 101) C d_T_readSign_99 rfl ?_
            exact h101 _ (by show _ = (if _ then _ else _); rw [if_neg hno])
          refine g_iload_5 (q := 52) C d_T_readSign_50 rfl ?_
          refine g_sipush (v := nI 256) (q := 55) C d_T_readSign_52 rfl (by decide) ?_
          refine g_icmp_ge (q := 58) (tgt := 109) C d_T_readSign_55 rfl (by decide) (fun hc => ?_) (fun hc => ?_)
          · exact absurd ((nI_leI (by omega) (by omega)).mp hc) (by omega)
          refine g_iload_4 (q := 60) C d_T_readSign_58 rfl ?_
          refine g_sipush (v := nI 256) (q := 63) C d_T_readSign_60 rfl (by decide) ?_
          refine g_icmp_ne (q := 66) (tgt := 99) C d_T_readSign_63 rfl (by decide) (fun hc1 => ?_) (fun hc1 => ?_)
          · exact h99 (fun q => hc1 (by rw [q.1]))
          have hc1 := (nI_eq (by omega) (by omega)).mp (Decidable.not_not.mp hc1)
          refine g_aload_0 (q := 67) C d_T_readSign_66 rfl ?_
          refine tg_44 (q := 70) C d_T_readSign_67 rfl ?_
          refine g_iload_5 (q := 72) C d_T_readSign_70 rfl ?_
          refine ta_11 (q := 73) C d_T_readSign_72 rfl rfl (by omega) (hC2 b (by omega)) ?_
          refine g_if_le (q := 76) (tgt := 99) C d_T_readSign_73 rfl (by decide) (fun hc2 => ?_) (fun hc2 => ?_)
          · exact h99 (fun q => absurd ((nILe0 (by omega)).mp hc2) (by omega))
          have hc2 : ct T e (cx T k) b ≠ 0 := fun q => hc2 ((nILe0 (by omega)).mpr q)
          refine g_iload_3 (q := 77) C d_T_readSign_76 rfl ?_
          refine g_aload_0 (q := 78) C d_T_readSign_77 rfl ?_
          refine g_iload_5 (q := 80) C d_T_readSign_78 rfl ?_
          refine tc_119 (q := 83) C hR (c_T_below (t := ct T e (cx T k)) hC2 (by omega)) d_T_readSign_80 rfl (by decide) (by decide) (by decide) (Nat.le_of_ble_eq_true rfl) (fun y f4 g4 hp => ?_)
          obtain ⟨rfl, rfl, rfl⟩ := hp
          refine g_aload_0 (q := 84) C d_T_readSign_83 rfl ?_
          refine tg_44 (q := 87) C d_T_readSign_84 rfl ?_
          refine g_iload_5 (q := 89) C d_T_readSign_87 rfl ?_
          refine ta_11 (q := 90) C d_T_readSign_89 rfl rfl (by omega) (hC2 b (by omega)) ?_
          refine g_iadd (q := 91) C d_T_readSign_90 rfl (nI_add _ _) ?_
          refine g_icmp_ge (q := 94) (tgt := 99) C d_T_readSign_91 rfl (by decide) (fun hc3 => ?_) (fun hc3 => ?_)
          · have hc3 := (nI_leI (by omega) (by omega)).mp hc3
            exact h99 (fun q => by omega)
          have hc3 : ask r1 (bl (ct T e (cx T k)) 256 + nz (ct T e (cx T k)) 256) < bl (ct T e (cx T k)) b + ct T e (cx T k) b := Nat.lt_of_not_le (fun q => hc3 ((nI_leI (by omega) (by omega)).mpr q))
          refine g_iload_5 (q := 96) C d_T_readSign_94 rfl ?_
          refine g_goto (tgt := 101) C d_T_readSign_96 (by decide) ?_
          exact h101 _ (by show _ = (if _ then _ else _); rw [if_pos ⟨hc1, Nat.pos_of_ne_zero hc2, hc3⟩])
      refine g_istore_3 (q := 42) C hL d_T_readSign_41 rfl ?_
      refine g_sipush (v := nI 256) (q := 45) C d_T_readSign_42 rfl (by decide) ?_
      refine g_istore_4 (q := 47) C hL d_T_readSign_45 rfl ?_
      refine g_iconst (v := nI 0) (q := 48) C d_T_readSign_47 rfl (by decide) ?_
      refine g_istore_5 (q := 50) C hL d_T_readSign_48 rfl ?_
      exact loop 256 0 none (by omega)
  refine g_aload_0 (q := 1) C d_T_readSign_0 rfl ?_
  refine tc_167 (q := 4) C hR c_T_beginSign d_T_readSign_1 rfl (by decide) (by decide) (by decide) (Nat.le_of_ble_eq_true rfl) (fun f2 g2 hp => ?_)
  obtain ⟨hF2, hE2, a7⟩ := hp
  refine g_aload_0 (q := 5) C d_T_readSign_4 rfl ?_
  refine tg_31 (q := 8) C d_T_readSign_5 rfl ?_
  refine g_iload_1 (q := 9) C d_T_readSign_8 rfl ?_
  refine ta_7 (q := 10) C d_T_readSign_9 rfl rfl (by omega) ((congrFun (hF2.2 7 (by decide)) m).trans hT.2.1) ?_
  refine g_istore_2 (q := 11) C hL d_T_readSign_10 rfl ?_
  exact inner (tL T + 1) (fun _ => false) 0 r f2 g2 _ _ _ (Nat.le_refl _) EI_0 (hF2.mono (by decide) (by decide)) (hW.keep (hF2.1 14 (by decide)) (hF2.1 15 (by decide)) (hF2.1 22 (by decide)) (hF2.1 23 (by decide))) hr (by omega) hE2 a7 rfl rfl rfl
end
