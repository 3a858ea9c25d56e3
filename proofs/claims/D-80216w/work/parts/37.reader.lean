/-! THE CLASS Reader -/
def XO (fx : Nat → Int32) (gx : Nat → Nat → Int32) (out : Nat → Nat) (os : Nat) : Prop := fx 4 = nI os ∧ os ≤ 4096 ∧ ∀ i, i < os → gx 4 i = nI (out i) ∧ out i < 256
def RC (f : Nat → Int32) (r : Rd) : Prop := f 0 = nI r.2.2.1 ∧ f 1 = nI r.2.2.2 ∧ f 2 = nI r.1 ∧ f 3 = nI r.2.1
/-- a reader's widening -/
def rwd (nb : Nat → Nat) (less : Nat) (r : Rd) : Rd := (2 * (r.1 - less), 2 * (r.2.1 - less) + 1, 2 * (r.2.2.1 - less) + nb r.2.2.2, r.2.2.2 + 1)
section
variable {l : Launch} {Γ : Gl} {a x : Nat} {A : Nat → Nat} {f fx : Nat → Int32} {gx : Nat → Nat → Int32} {os tk : Nat} {out : Nat → Nat} {r : Rd}
theorem c_Re_next (hO : XO fx gx out os) (h1 : f 1 = nI tk) (htk : tk < 2 ^ 30) : Ct l Γ y_Re_next b_Re_next 2 (some .int) 0 0 0 [.ref a] (rw1 a x f ++ xw Γ x A fx gx) (pir Γ a x A fx gx (fun z f' => f' = upd f 1 (nI (tk + 1)) ∧ z = nI (nbit out os tk))) := by
  obtain ⟨h4, hos, hout⟩ := hO
  refine Ct.of (by decide) (by simp [Value.category]) (Nat.le_of_ble_eq_true rfl) (fun E eG el en C hR F hnm => ?_)
  subst eG
  subst el
  have hL : 2 ≤ xn E := Nat.le_of_eq en.symm
  show G E 0 0 0 [some (.ref a), none] [] (rw1 a x f ++ xw (xG E) x A fx gx)
  refine g_aload_0 (q := 1) C d_Re_next_0 rfl ?_
  refine g_dup_r (q := 2) C d_Re_next_1 rfl ?_
  refine eg_20 (q := 5) C d_Re_next_2 rfl h1 ?_
  refine g_dup_x1 (q := 6) C d_Re_next_5 rfl rfl rfl ?_
  refine g_iconst (v := nI 1) (q := 7) C d_Re_next_6 rfl (by decide) ?_
  refine g_iadd (q := 8) C d_Re_next_7 rfl (nI_1 _) ?_
  refine ep_20 (q := 11) C d_Re_next_8 rfl ?_
  refine g_istore_1 (q := 12) C hL d_Re_next_11 rfl ?_
  refine g_iload_1 (q := 13) C d_Re_next_12 rfl ?_
  refine g_bipush (v := nI 8) (q := 15) C d_Re_next_13 rfl (by decide) ?_
  refine g_aload_0 (q := 16) C d_Re_next_15 rfl ?_
  refine eg_1 (q := 19) C d_Re_next_16 rfl ?_
  refine ex_27 (q := 22) C d_Re_next_19 rfl h4 ?_
  refine g_imul (q := 23) C d_Re_next_22 rfl (pk_mul _ _) ?_
  refine g_icmp_ge (q := 26) (tgt := 51) C d_Re_next_23 rfl (by decide) (fun hc => ?_) (fun hc => ?_)
  · have hc := (nI_leI (by omega) (by omega)).mp hc
    refine g_iconst (v := nI 0) (q := 52) C d_Re_next_51 rfl (by decide) ?_
    exact g_iret C F d_Re_next_52 (Nat.le_refl _) (Nat.le_refl _) ⟨_, _, rfl, rfl, rfl, by unfold nbit; rw [if_neg (by omega)]⟩
  · have hc : tk < 8 * os := Nat.lt_of_not_le (fun q => hc ((nI_leI (by omega) (by omega)).mpr q))
    obtain ⟨q1, q2⟩ := hout (tk / 8) (by omega)
    have hd2 : out (tk / 8) / 2 ^ (7 - tk % 8) ≤ out (tk / 8) := Nat.div_le_self _ _
    refine g_aload_0 (q := 27) C d_Re_next_26 rfl ?_
    refine eg_1 (q := 30) C d_Re_next_27 rfl ?_
    refine ex_32 (q := 33) C d_Re_next_30 rfl ?_
    refine g_iload_1 (q := 34) C d_Re_next_33 rfl ?_
    refine g_bipush (v := nI 8) (q := 36) C d_Re_next_34 rfl (by decide) ?_
    refine g_idiv (q := 37) C d_Re_next_36 rfl (by decide) (pk_div (d := 8) (by omega) (by decide) (by decide)) ?_
    refine ex_ld (q := 38) C d_Re_next_37 rfl rfl (by omega) q1 ?_
    refine g_bipush (v := nI 7) (q := 40) C d_Re_next_38 rfl (by decide) ?_
    refine g_iload_1 (q := 41) C d_Re_next_40 rfl ?_
    refine g_bipush (v := nI 8) (q := 43) C d_Re_next_41 rfl (by decide) ?_
    refine g_irem (q := 44) C d_Re_next_43 rfl (by decide) (pk_rem (d := 8) (by omega) (by decide) (by decide)) ?_
    refine g_isub (q := 45) C d_Re_next_44 rfl (pk_sub (by omega)) ?_
    refine g_ishr (q := 46) C d_Re_next_45 rfl (nIshr (by omega) (by omega)) ?_
    refine g_iconst (v := nI 1) (q := 47) C d_Re_next_46 rfl (by decide) ?_
    refine g_iand (q := 48) C d_Re_next_47 rfl (nIand1 (by omega)) ?_
    refine g_goto (tgt := 52) C d_Re_next_48 (by decide) ?_
    exact g_iret C F d_Re_next_52 (Nat.le_refl _) (Nat.le_refl _) ⟨_, _, rfl, rfl, rfl, by unfold nbit; rw [if_pos hc]⟩
theorem c_Re_moved {less nu : Nat} {lo hi : Int32} (hO : XO fx gx out os) (h0 : f 0 = nI nu) (h1 : f 1 = nI tk) (h2 : f 2 = lo) (h3 : f 3 = hi) (hl : less ≤ nu) (htk : tk < 2 ^ 30) :
    Ct l Γ y_Re_moved b_Re_moved 2 none 1 0 0 [.ref a, .int (nI less)] (rw1 a x f ++ xw Γ x A fx gx) (pvr Γ a x A fx gx (fun f' => f' 0 = nI (2 * (nu - less) + nbit out os tk) ∧ f' 1 = nI (tk + 1) ∧ f' 2 = lo ∧ f' 3 = hi)) := by
  refine Ct.of (by decide) (by simp [Value.category]) (Nat.le_of_ble_eq_true rfl) (fun E eG el en C hR F hnm => ?_)
  subst eG
  subst el
  have hL : 2 ≤ xn E := Nat.le_of_eq en.symm
  show G E 0 0 0 [some (.ref a), some (.int (nI less))] [] (rw1 a x f ++ xw (xG E) x A fx gx)
  refine g_aload_0 (q := 1) C d_Re_moved_0 rfl ?_
  refine g_iconst (v := nI 2) (q := 2) C d_Re_moved_1 rfl (by decide) ?_
  refine g_aload_0 (q := 3) C d_Re_moved_2 rfl ?_
  refine eg_16 (q := 6) C d_Re_moved_3 rfl h0 ?_
  refine g_iload_1 (q := 7) C d_Re_moved_6 rfl ?_
  refine g_isub (q := 8) C d_Re_moved_7 rfl (pk_sub hl) ?_
  refine g_imul (q := 9) C d_Re_moved_8 rfl (pk_mul _ _) ?_
  refine g_aload_0 (q := 10) C d_Re_moved_9 rfl ?_
  refine ec_23 (q := 13) C hR (c_Re_next hO h1 htk) d_Re_moved_10 rfl (by decide) (by decide) (by decide) (Nat.le_of_ble_eq_true rfl) (fun z f2 hp => ?_)
  obtain ⟨rfl, rfl⟩ := hp
  refine g_iadd (q := 14) C d_Re_moved_13 rfl (nI_add _ _) ?_
  refine ep_16 (q := 17) C d_Re_moved_14 rfl ?_
  exact g_vret C F d_Re_moved_17 (Nat.le_refl _) (Nat.le_refl _) ⟨rfl, _, rfl, rfl, rfl, h2, h3⟩
theorem c_Re_widen {less : Nat} (hO : XO fx gx out os) (hW : RC f r) (h1 : less ≤ r.1) (h2 : r.1 ≤ r.2.2.1) (h3 : r.2.2.1 ≤ r.2.1) (htk : r.2.2.2 < 2 ^ 30) :
    Ct l Γ y_Ra_widen b_Ra_widen 2 none 2 0 0 [.ref a, .int (nI less)] (rw1 a x f ++ xw Γ x A fx gx) (pvr Γ a x A fx gx (fun f' => RC f' (rwd (nbit out os) less r))) := by
  obtain ⟨w0, w1, w2, w3⟩ := hW
  refine Ct.of (by decide) (by simp [Value.category]) (Nat.le_of_ble_eq_true rfl) (fun E eG el en C hR F hnm => ?_)
  subst eG
  subst el
  have hL : 2 ≤ xn E := Nat.le_of_eq en.symm
  show G E 0 0 0 [some (.ref a), some (.int (nI less))] [] (rw1 a x f ++ xw (xG E) x A fx gx)
  refine g_aload_0 (q := 1) C d_Ra_widen_0 rfl ?_
  refine g_iconst (v := nI 2) (q := 2) C d_Ra_widen_1 rfl (by decide) ?_
  refine g_aload_0 (q := 3) C d_Ra_widen_2 rfl ?_
  refine rgR_9 (q := 6) C d_Ra_widen_3 rfl w2 ?_
  refine g_iload_1 (q := 7) C d_Ra_widen_6 rfl ?_
  refine g_isub (q := 8) C d_Ra_widen_7 rfl (pk_sub h1) ?_
  refine g_imul (q := 9) C d_Ra_widen_8 rfl (pk_mul _ _) ?_
  refine rpR_9 (q := 12) C d_Ra_widen_9 rfl ?_
  refine g_aload_0 (q := 13) C d_Ra_widen_12 rfl ?_
  refine g_iconst (v := nI 2) (q := 14) C d_Ra_widen_13 rfl (by decide) ?_
  refine g_aload_0 (q := 15) C d_Ra_widen_14 rfl ?_
  refine rgR_16 (q := 18) C d_Ra_widen_15 rfl w3 ?_
  refine g_iload_1 (q := 19) C d_Ra_widen_18 rfl ?_
  refine g_isub (q := 20) C d_Ra_widen_19 rfl (pk_sub (by omega)) ?_
  refine g_imul (q := 21) C d_Ra_widen_20 rfl (pk_mul _ _) ?_
  refine g_iconst (v := nI 1) (q := 22) C d_Ra_widen_21 rfl (by decide) ?_
  refine g_iadd (q := 23) C d_Ra_widen_22 rfl (nI_add _ _) ?_
  refine rpR_16 (q := 26) C d_Ra_widen_23 rfl ?_
  refine g_aload_0 (q := 27) C d_Ra_widen_26 rfl ?_
  refine g_iload_1 (q := 28) C d_Ra_widen_27 rfl ?_
  refine rcR_25 (q := 31) C hR (c_Re_moved hO w0 w1 rfl rfl (by omega) htk) d_Ra_widen_28 rfl (by decide) (by decide) (by decide) (Nat.le_of_ble_eq_true rfl) (fun f2 hp => ?_)
  obtain ⟨e0, e1, e2, e3⟩ := hp
  exact g_vret C F d_Ra_widen_31 (Nat.le_refl _) (Nat.le_refl _) ⟨rfl, _, rfl, e0, e1, e2, e3⟩
theorem c_Re_span {s : Sp} (hO : XO fx gx out os) (hW : RC f r) (hr : RdOk r) (hs : SpOk s) (hl : s.1 ≤ ask r s.2.2) (hh : ask r s.2.2 < s.1 + s.2.1) (htk : r.2.2.2 + 17 < 2 ^ 30) :
    Ct l Γ y_Ra_span b_Ra_span 5 none 3 0 0 [.ref a, .int (nI s.1), .int (nI s.2.1), .int (nI s.2.2)] (rw1 a x f ++ xw Γ x A fx gx) (pvr Γ a x A fx gx (fun f' => RC f' (rspan (nbit out os) s r))) := by
  obtain ⟨fr, len, of⟩ := s
  obtain ⟨lo, hi, nu, tk⟩ := r
  obtain ⟨w0, w1, w2, w3⟩ := hW
  obtain ⟨k1, k2, k3, k4, k5, k6⟩ := hr
  obtain ⟨s1, s2, s3⟩ := hs
  simp only at w0 w1 w2 w3 k1 k2 k3 k4 k5 k6 s1 s2 s3 hl hh htk
  obtain ⟨n1, n2, n3⟩ := nar_ok k1 k2 k3 k4 s1 s2 s3
  obtain ⟨b1, b2⟩ := ask_in (r := (lo, hi, nu, tk)) (fr := fr) (len := len) (of := of) k5 k6 (by omega) hl hh
  simp only at b1 b2
  refine Ct.of (by decide) (by simp [Value.category]) (Nat.le_of_ble_eq_true rfl) (fun E eG el en C hR F hnm => ?_)
  subst eG
  subst el
  have hL : 5 ≤ xn E := Nat.le_of_eq en.symm
  show G E 0 0 0 [some (.ref a), some (.int (nI fr)), some (.int (nI len)), some (.int (nI of)), none] [] (rw1 a x f ++ xw (xG E) x A fx gx)
  have loop : ∀ (m lo1 hi1 nu1 tk1 : Nat) (f1 : Nat → Int32) (l4 : Option Value), RC f1 (lo1, hi1, nu1, tk1) → lo1 ≤ nu1 → nu1 ≤ hi1 → hi1 < 65536 → 65536 < (hi1 - lo1 + 1) * 2 ^ m → tk1 + m < 2 ^ 30 → rn (nbit out os) m (lo1, hi1, nu1, tk1) = rspan (nbit out os) (fr, len, of) (lo, hi, nu, tk) → G E 0 0 47 [some (.ref a), some (.int (nI fr)), some (.int (nI len)), some (.int (nI of)), l4] [] (rw1 a x f1 ++ xw (xG E) x A fx gx) := by
    intro m
    induction m with
    | zero => intro lo1 hi1 nu1 tk1 f1 l4 hW a1 a1' a2 a3; omega
    | succ m ih =>
      intro lo1 hi1 nu1 tk1 f1 l4 hW a1 a1' a2 a3 a4 he
      have hW' := hW
      obtain ⟨b0, b1, b2, b3⟩ := hW'
      simp only at b0 b1 b2 b3
      have hnb := nbit_lt (out := out) (os := os) (i := tk1)
      have go : ∀ (less : Nat), less ≤ lo1 → hi1 < less + 32768 → rn (nbit out os) m (2 * (lo1 - less), 2 * (hi1 - less) + 1, 2 * (nu1 - less) + nbit out os tk1, tk1 + 1) = rspan (nbit out os) (fr, len, of) (lo, hi, nu, tk) → ∀ f2, RC f2 (rwd (nbit out os) less (lo1, hi1, nu1, tk1)) → G E 0 0 47 [some (.ref a), some (.int (nI fr)), some (.int (nI len)), some (.int (nI of)), l4] [] (rw1 a x f2 ++ xw (xG E) x A fx gx) := by
        intro less e1 e2 e3 f2 hW2
        refine ih (2 * (lo1 - less)) (2 * (hi1 - less) + 1) (2 * (nu1 - less) + nbit out os tk1) (tk1 + 1) f2 l4 hW2 (by omega) (by omega) (by omega) ?_ (by omega) e3
        rw [Nat.pow_succ] at a3
        rw [show 2 * (hi1 - less) + 1 - 2 * (lo1 - less) + 1 = 2 * (hi1 - lo1 + 1) by omega]
        calc 65536 < _ := a3
          _ = _ := by rw [Nat.mul_comm (2 ^ m) 2, ← Nat.mul_assoc, Nat.mul_comm (hi1 - lo1 + 1) 2]
      unfold rn at he
      refine g_aload_0 (q := 48) C d_Ra_span_47 rfl ?_
      refine rgR_16 (q := 51) C d_Ra_span_48 rfl b3 ?_
      refine g_ldc (v := nI 32768) (q := 53) C d_Ra_span_51 rfl w_407 ?_
      refine g_icmp_ge (q := 56) (tgt := 64) C d_Ra_span_53 rfl (by decide) (fun hz => ?_) (fun hz => ?_)
      · have hz := (nI_leI (by omega) (by omega)).mp hz
        rw [if_neg (by omega)] at he
        refine g_aload_0 (q := 65) C d_Ra_span_64 rfl ?_
        refine rgR_9 (q := 68) C d_Ra_span_65 rfl b2 ?_
        refine g_ldc (v := nI 32768) (q := 70) C d_Ra_span_68 rfl w_407 ?_
        refine g_icmp_lt (q := 73) (tgt := 82) C d_Ra_span_70 rfl (by decide) (fun hz2 => ?_) (fun hz2 => ?_)
        · have hz2 := (nI_ltI (by omega) (by omega)).mp hz2
          rw [if_neg (by omega)] at he
          have h111 : ¬ (16384 ≤ lo1 ∧ hi1 < 49152) → G E 0 0 111 [some (.ref a), some (.int (nI fr)), some (.int (nI len)), some (.int (nI of)), l4] [] (rw1 a x f1 ++ xw (xG E) x A fx gx) := by
            intro hno
            rw [if_neg hno] at he
            exact g_vret C F d_Ra_span_111 (Nat.le_refl _) (Nat.le_refl _) ⟨rfl, _, rfl, by rw [← he]; exact hW⟩
          refine g_aload_0 (q := 83) C d_Ra_span_82 rfl ?_
          refine rgR_9 (q := 86) C d_Ra_span_83 rfl b2 ?_
          refine g_sipush (v := nI 16384) (q := 89) C d_Ra_span_86 rfl (by decide) ?_
          refine g_icmp_lt (q := 92) (tgt := 111) C d_Ra_span_89 rfl (by decide) (fun hx => ?_) (fun hx => ?_)
          · have hx := (nI_ltI (by omega) (by omega)).mp hx
            exact h111 (by omega)
          have hx : 16384 ≤ lo1 := Nat.le_of_not_lt (fun e => hx ((nI_ltI (by omega) (by omega)).mpr e))
          refine g_aload_0 (q := 93) C d_Ra_span_92 rfl ?_
          refine rgR_16 (q := 96) C d_Ra_span_93 rfl b3 ?_
          refine g_ldc (v := nI 49152) (q := 98) C d_Ra_span_96 rfl w_434 ?_
          refine g_icmp_ge (q := 101) (tgt := 111) C d_Ra_span_98 rfl (by decide) (fun hy => ?_) (fun hy => ?_)
          · have hy := (nI_leI (by omega) (by omega)).mp hy
            exact h111 (by omega)
          have hy : hi1 < 49152 := Nat.lt_of_not_le (fun e => hy ((nI_leI (by omega) (by omega)).mpr e))
          rw [if_pos ⟨hx, hy⟩] at he
          refine g_aload_0 (q := 102) C d_Ra_span_101 rfl ?_
          refine g_sipush (v := nI 16384) (q := 105) C d_Ra_span_102 rfl (by decide) ?_
          refine rcR_20 (q := 108) C hR (c_Re_widen (less := 16384) hO hW hx a1 a1' (by show tk1 < 2 ^ 30; omega)) d_Ra_span_105 rfl (by decide) (by decide) (by decide) (Nat.le_of_ble_eq_true rfl) (fun f2 hp => ?_)
          refine g_goto (tgt := 47) C d_Ra_span_108 (by decide) ?_
          exact go 16384 hx (by omega) he f2 hp
        · have hz2 : 32768 ≤ lo1 := Nat.le_of_not_lt (fun e => hz2 ((nI_ltI (by omega) (by omega)).mpr e))
          rw [if_pos hz2] at he
          refine g_aload_0 (q := 74) C d_Ra_span_73 rfl ?_
          refine g_ldc (v := nI 32768) (q := 76) C d_Ra_span_74 rfl w_407 ?_
          refine rcR_20 (q := 79) C hR (c_Re_widen (less := 32768) hO hW hz2 a1 a1' (by show tk1 < 2 ^ 30; omega)) d_Ra_span_76 rfl (by decide) (by decide) (by decide) (Nat.le_of_ble_eq_true rfl) (fun f2 hp => ?_)
          refine g_goto (tgt := 47) C d_Ra_span_79 (by decide) ?_
          exact go 32768 hz2 (by omega) he f2 hp
      · have hz : hi1 < 32768 := Nat.lt_of_not_le (fun e => hz ((nI_leI (by omega) (by omega)).mpr e))
        rw [if_pos hz] at he
        refine g_aload_0 (q := 57) C d_Ra_span_56 rfl ?_
        refine g_iconst (v := nI 0) (q := 58) C d_Ra_span_57 rfl (by decide) ?_
        refine rcR_20 (q := 61) C hR (c_Re_widen (less := 0) hO hW (Nat.zero_le _) a1 a1' (by show tk1 < 2 ^ 30; omega)) d_Ra_span_58 rfl (by decide) (by decide) (by decide) (Nat.le_of_ble_eq_true rfl) (fun f2 hp => ?_)
        refine g_goto (tgt := 47) C d_Ra_span_61 (by decide) ?_
        exact go 0 (Nat.zero_le _) (by omega) he f2 hp
  have m1 : (hi - lo + 1) * (fr + len) ≤ 65536 * 16384 := Nat.mul_le_mul (by omega) (by omega)
  have m2 : (hi - lo + 1) * fr ≤ 65536 * 16384 := Nat.mul_le_mul (by omega) (by omega)
  have hne : ¬ nI of = 0 := fun e => absurd ((nI0 (by omega)).mp e) (by omega)
  have hw : 1 ≤ (hi - lo + 1) * (fr + len) / of := by
    rw [Nat.le_div_iff_mul_le (by omega)]
    have : (hi - lo + 1) * 1 ≤ (hi - lo + 1) * (fr + len) := Nat.mul_le_mul_left _ (by omega)
    omega
  have hnL : narL fr of lo hi = lo + (hi - lo + 1) * fr / of := rfl
  have hnH : narH fr len of lo hi = lo + (hi - lo + 1) * (fr + len) / of - 1 := rfl
  generalize hr : hi - lo + 1 = r at m1 m2 hw hnL hnH
  refine g_aload_0 (q := 1) C d_Ra_span_0 rfl ?_
  refine rgR_16 (q := 4) C d_Ra_span_1 rfl w3 ?_
  refine g_aload_0 (q := 5) C d_Ra_span_4 rfl ?_
  refine rgR_9 (q := 8) C d_Ra_span_5 rfl w2 ?_
  refine g_isub (q := 9) C d_Ra_span_8 rfl (pk_sub (by omega)) ?_
  refine g_iconst (v := nI 1) (q := 10) C d_Ra_span_9 rfl (by decide) ?_
  refine g_iadd (q := 11) C d_Ra_span_10 rfl (by rw [nI_add, hr]) ?_
  refine g_istore_4 (q := 13) C hL d_Ra_span_11 rfl ?_
  refine g_aload_0 (q := 14) C d_Ra_span_13 rfl ?_
  refine g_aload_0 (q := 15) C d_Ra_span_14 rfl ?_
  refine rgR_9 (q := 18) C d_Ra_span_15 rfl w2 ?_
  refine g_iload_4 (q := 20) C d_Ra_span_18 rfl ?_
  refine g_iload_1 (q := 21) C d_Ra_span_20 rfl ?_
  refine g_iload_2 (q := 22) C d_Ra_span_21 rfl ?_
  refine g_iadd (q := 23) C d_Ra_span_22 rfl (nI_add _ _) ?_
  refine g_imul (q := 24) C d_Ra_span_23 rfl (pk_mul _ _) ?_
  refine g_iload_3 (q := 25) C d_Ra_span_24 rfl ?_
  refine g_idiv (q := 26) C d_Ra_span_25 rfl hne (pk_div (by omega) (by omega) (by omega)) ?_
  refine g_iadd (q := 27) C d_Ra_span_26 rfl (nI_add _ _) ?_
  refine g_iconst (v := nI 1) (q := 28) C d_Ra_span_27 rfl (by decide) ?_
  refine g_isub (q := 29) C d_Ra_span_28 rfl (pk_sub (Nat.le_trans hw (Nat.le_add_left _ _))) ?_
  refine rpR_16 (q := 32) C d_Ra_span_29 rfl ?_
  refine g_aload_0 (q := 33) C d_Ra_span_32 rfl ?_
  refine g_dup_r (q := 34) C d_Ra_span_33 rfl ?_
  refine rgR_9 (q := 37) C d_Ra_span_34 rfl w2 ?_
  refine g_iload_4 (q := 39) C d_Ra_span_37 rfl ?_
  refine g_iload_1 (q := 40) C d_Ra_span_39 rfl ?_
  refine g_imul (q := 41) C d_Ra_span_40 rfl (pk_mul _ _) ?_
  refine g_iload_3 (q := 42) C d_Ra_span_41 rfl ?_
  refine g_idiv (q := 43) C d_Ra_span_42 rfl hne (pk_div (by omega) (by omega) (by omega)) ?_
  refine g_iadd (q := 44) C d_Ra_span_43 rfl (nI_add _ _) ?_
  refine rpR_9 (q := 47) C d_Ra_span_44 rfl ?_
  refine loop 17 (narL fr of lo hi) (narH fr len of lo hi) nu tk _ _ ⟨w0, w1, by rw [hnL]; rfl, by rw [hnH]; rfl⟩ b1 b2 (Nat.lt_of_le_of_lt n2 k3) ?_ (by omega) rfl
  have : 1 * 2 ^ 17 ≤ (narH fr len of lo hi - narL fr of lo hi + 1) * 2 ^ 17 := Nat.mul_le_mul_right _ (by omega)
  omega
theorem c_RaR_begin : Ct l Γ y_Ra_begin b_Ra_begin 1 none 0 0 0 [.ref a] (rw1 a x f ++ xw Γ x A fx gx) (pvr Γ a x A fx gx (fun f' => f' = upd (upd f 2 (nI 0)) 3 (nI 65535))) := by
  refine Ct.of (by decide) (by simp [Value.category]) (Nat.le_of_ble_eq_true rfl) (fun E eG el en C hR F hnm => ?_)
  subst eG
  subst el
  have hL : 1 ≤ xn E := Nat.le_of_eq en.symm
  show G E 0 0 0 [some (.ref a)] [] (rw1 a x f ++ xw (xG E) x A fx gx)
  refine g_aload_0 (q := 1) C d_Ra_begin_0 rfl ?_
  refine g_iconst (v := nI 0) (q := 2) C d_Ra_begin_1 rfl (by decide) ?_
  refine rpR_9 (q := 5) C d_Ra_begin_2 rfl ?_
  refine g_aload_0 (q := 6) C d_Ra_begin_5 rfl ?_
  refine g_ldc (v := nI 65535) (q := 8) C d_Ra_begin_6 rfl w_350 ?_
  refine rpR_16 (q := 11) C d_Ra_begin_8 rfl ?_
  exact g_vret C F d_Ra_begin_11 (Nat.le_refl _) (Nat.le_refl _) ⟨rfl, _, rfl, rfl⟩
theorem c_Re_begin (hO : XO fx gx out os) : Ct l Γ y_Re_begin b_Re_begin 2 none 1 0 0 [.ref a] (rw1 a x f ++ xw Γ x A fx gx) (pvr Γ a x A fx gx (fun f' => RC f' (0, 65535, num0 (nbit out os) 16, 16))) := by
  have hnb : ∀ i, nbit out os i < 2 := fun i => nbit_lt
  refine Ct.of (by decide) (by simp [Value.category]) (Nat.le_of_ble_eq_true rfl) (fun E eG el en C hR F hnm => ?_)
  subst eG
  subst el
  have hL : 2 ≤ xn E := Nat.le_of_eq en.symm
  show G E 0 0 0 [some (.ref a), none] [] (rw1 a x f ++ xw (xG E) x A fx gx)
  have loop : ∀ (j k : Nat) (f1 : Nat → Int32), k + j = 16 → RC f1 (0, 65535, num0 (nbit out os) k, k) → G E 0 0 16 [some (.ref a), some (.int (nI k))] [] (rw1 a x f1 ++ xw (xG E) x A fx gx) := by
    intro j
    induction j with
    | zero =>
      intro k f1 hk hW
      have hk : k = 16 := by omega
      subst hk
      refine g_iload_1 (q := 17) C d_Re_begin_16 rfl ?_
      refine g_bipush (v := nI 16) (q := 19) C d_Re_begin_17 rfl (by decide) ?_
      refine g_icmp_ge (q := 22) (tgt := 43) C d_Re_begin_19 rfl (by decide) (fun hc => ?_) (fun hc => ?_)
      · exact g_vret C F d_Re_begin_43 (Nat.le_refl _) (Nat.le_refl _) ⟨rfl, _, rfl, hW⟩
      · exact absurd (by decide) hc
    | succ j ih =>
      intro k f1 hk hW
      obtain ⟨b0, b1, b2, b3⟩ := hW
      refine g_iload_1 (q := 17) C d_Re_begin_16 rfl ?_
      refine g_bipush (v := nI 16) (q := 19) C d_Re_begin_17 rfl (by decide) ?_
      refine g_icmp_ge (q := 22) (tgt := 43) C d_Re_begin_19 rfl (by decide) (fun hc => ?_) (fun hc => ?_)
      · exact absurd ((nI_leI (a := 16) (b := k) (by decide) (by omega)).mp hc) (by omega)
      refine g_aload_0 (q := 23) C d_Re_begin_22 rfl ?_
      refine g_iconst (v := nI 2) (q := 24) C d_Re_begin_23 rfl (by decide) ?_
      refine g_aload_0 (q := 25) C d_Re_begin_24 rfl ?_
      refine eg_16 (q := 28) C d_Re_begin_25 rfl b0 ?_
      refine g_imul (q := 29) C d_Re_begin_28 rfl (pk_mul _ _) ?_
      refine g_aload_0 (q := 30) C d_Re_begin_29 rfl ?_
      refine ec_23 (q := 33) C hR (c_Re_next hO b1 (by show k < 2 ^ 30; omega)) d_Re_begin_30 rfl (by decide) (by decide) (by decide) (Nat.le_of_ble_eq_true rfl) (fun z f2 hp => ?_)
      obtain ⟨rfl, rfl⟩ := hp
      refine g_iadd (q := 34) C d_Re_begin_33 rfl (nI_add _ _) ?_
      refine ep_16 (q := 37) C d_Re_begin_34 rfl ?_
      refine g_iinc_1 (q := 40) C hL d_Re_begin_37 rfl (nI_inc _) ?_
      refine g_goto (tgt := 16) C d_Re_begin_40 (by decide) ?_
      exact ih (k + 1) _ (by omega) ⟨rfl, rfl, b2, b3⟩
  refine g_aload_0 (q := 1) C d_Re_begin_0 rfl ?_
  refine ec_13 (q := 4) C hR c_RaR_begin d_Re_begin_1 rfl (by decide) (by decide) (by decide) (Nat.le_of_ble_eq_true rfl) (fun f2 hp => ?_)
  subst hp
  refine g_aload_0 (q := 5) C d_Re_begin_4 rfl ?_
  refine g_iconst (v := nI 0) (q := 6) C d_Re_begin_5 rfl (by decide) ?_
  refine ep_16 (q := 9) C d_Re_begin_6 rfl ?_
  refine g_aload_0 (q := 10) C d_Re_begin_9 rfl ?_
  refine g_iconst (v := nI 0) (q := 11) C d_Re_begin_10 rfl (by decide) ?_
  refine ep_20 (q := 14) C d_Re_begin_11 rfl ?_
  refine g_iconst (v := nI 0) (q := 15) C d_Re_begin_14 rfl (by decide) ?_
  refine g_istore_1 (q := 16) C hL d_Re_begin_15 rfl ?_
  exact loop 16 0 _ (by omega) ⟨rfl, rfl, rfl, rfl⟩
theorem c_Re_pointed {of : Nat} (hW : RC f r) (h1 : r.1 ≤ r.2.2.1) (h2 : r.2.2.1 ≤ r.2.1) (h3 : r.2.1 < 65536) (ho : 0 < of) (ho2 : of ≤ 16384) : Ct l Γ y_Re_pointed b_Re_pointed 2 (some .int) 0 0 0 [.ref a, .int (nI of)] (rw1 a x f ++ xw Γ x A fx gx) (pir Γ a x A fx gx (fun z f' => f' = f ∧ z = nI (ask r of))) := by
  obtain ⟨lo, hi, nu, tk⟩ := r
  obtain ⟨w0, w1, w2, w3⟩ := hW
  simp only at h1 h2 h3 w0 w1 w2 w3
  refine Ct.of (by decide) (by simp [Value.category]) (Nat.le_of_ble_eq_true rfl) (fun E eG el en C hR F hnm => ?_)
  subst eG
  subst el
  have hL : 2 ≤ xn E := Nat.le_of_eq en.symm
  show G E 0 0 0 [some (.ref a), some (.int (nI of))] [] (rw1 a x f ++ xw (xG E) x A fx gx)
  have hm1 : (nu - lo + 1) * of ≤ 65536 * 16384 := Nat.mul_le_mul (by omega) ho2
  have hm2 : 1 * 1 ≤ (nu - lo + 1) * of := Nat.mul_le_mul (by omega) ho
  refine g_aload_0 (q := 1) C d_Re_pointed_0 rfl ?_
  refine eg_16 (q := 4) C d_Re_pointed_1 rfl w0 ?_
  refine g_aload_0 (q := 5) C d_Re_pointed_4 rfl ?_
  refine eg_36 (q := 8) C d_Re_pointed_5 rfl w2 ?_
  refine g_isub (q := 9) C d_Re_pointed_8 rfl (pk_sub (by omega)) ?_
  refine g_iconst (v := nI 1) (q := 10) C d_Re_pointed_9 rfl (by decide) ?_
  refine g_iadd (q := 11) C d_Re_pointed_10 rfl (nI_add _ _) ?_
  refine g_iload_1 (q := 12) C d_Re_pointed_11 rfl ?_
  refine g_imul (q := 13) C d_Re_pointed_12 rfl (pk_mul _ _) ?_
  refine g_iconst (v := nI 1) (q := 14) C d_Re_pointed_13 rfl (by decide) ?_
  refine g_isub (q := 15) C d_Re_pointed_14 rfl (pk_sub (by omega)) ?_
  refine g_aload_0 (q := 16) C d_Re_pointed_15 rfl ?_
  refine eg_39 (q := 19) C d_Re_pointed_16 rfl w3 ?_
  refine g_aload_0 (q := 20) C d_Re_pointed_19 rfl ?_
  refine eg_36 (q := 23) C d_Re_pointed_20 rfl w2 ?_
  refine g_isub (q := 24) C d_Re_pointed_23 rfl (pk_sub (by omega)) ?_
  refine g_iconst (v := nI 1) (q := 25) C d_Re_pointed_24 rfl (by decide) ?_
  refine g_iadd (q := 26) C d_Re_pointed_25 rfl (nI_add _ _) ?_
  refine g_idiv (q := 27) C d_Re_pointed_26 rfl (fun q => absurd ((nI0 (by omega)).mp q) (by omega)) (pk_div (by omega) (by omega) (by omega)) ?_
  exact g_iret C F d_Re_pointed_27 (Nat.le_refl _) (Nat.le_refl _) ⟨_, _, rfl, rfl, rfl, rfl⟩
theorem nI_subLe16 {tk os : Nat} (h1 : tk < 2 ^ 30) (h2 : os ≤ 4096) : nI tk - nI (8 * os) ≤ nI 16 ↔ tk ≤ 8 * os + 16 := by
  rw [Int32.le_iff_toInt_le, pk_sub_toInt h1 (by omega), nI_toInt (by decide)]
  omega
theorem c_Re_isBeyond (h4 : fx 4 = nI os) (hos : os ≤ 4096) (h1 : f 1 = nI tk) (htk : tk < 2 ^ 30) : Ct l Γ y_Re_isBeyond b_Re_isBeyond 1 (some .boolean) 0 0 0 [.ref a] (rw1 a x f ++ xw Γ x A fx gx) (pir Γ a x A fx gx (fun z f' => f' = f ∧ ((z = nI 1 ∧ 8 * os + 16 < tk) ∨ (z = nI 0 ∧ tk ≤ 8 * os + 16)))) := by
  refine Ct.of (by decide) (by simp [Value.category]) (Nat.le_of_ble_eq_true rfl) (fun E eG el en C hR F hnm => ?_)
  subst eG
  subst el
  have hL : 1 ≤ xn E := Nat.le_of_eq en.symm
  show G E 0 0 0 [some (.ref a)] [] (rw1 a x f ++ xw (xG E) x A fx gx)
  refine g_aload_0 (q := 1) C d_Re_isBeyond_0 rfl ?_
  refine eg_20 (q := 4) C d_Re_isBeyond_1 rfl h1 ?_
  refine g_bipush (v := nI 8) (q := 6) C d_Re_isBeyond_4 rfl (by decide) ?_
  refine g_aload_0 (q := 7) C d_Re_isBeyond_6 rfl ?_
  refine eg_1 (q := 10) C d_Re_isBeyond_7 rfl ?_
  refine ex_27 (q := 13) C d_Re_isBeyond_10 rfl h4 ?_
  refine g_imul (q := 14) C d_Re_isBeyond_13 rfl (pk_mul _ _) ?_
  refine g_isub (q := 15) C d_Re_isBeyond_14 rfl rfl ?_
  refine g_bipush (v := nI 16) (q := 17) C d_Re_isBeyond_15 rfl (by decide) ?_
  refine g_icmp_le (q := 20) (tgt := 24) C d_Re_isBeyond_17 rfl (by decide) (fun hc => ?_) (fun hc => ?_)
  · refine g_iconst (v := nI 0) (q := 25) C d_Re_isBeyond_24 rfl (by decide) ?_
    exact g_zret C F d_Re_isBeyond_25 (Or.inl rfl) (Nat.le_refl _) (Nat.le_refl _) ⟨_, _, rfl, rfl, rfl, Or.inr ⟨rfl, (nI_subLe16 htk hos).mp hc⟩⟩
  · refine g_iconst (v := nI 1) (q := 21) C d_Re_isBeyond_20 rfl (by decide) ?_
    refine g_goto (tgt := 25) C d_Re_isBeyond_21 (by decide) ?_
    exact g_zret C F d_Re_isBeyond_25 (Or.inr rfl) (Nat.le_refl _) (Nat.le_refl _) ⟨_, _, rfl, rfl, rfl, Or.inl ⟨rfl, Nat.lt_of_not_le (fun e => hc ((nI_subLe16 htk hos).mpr e))⟩⟩
end
