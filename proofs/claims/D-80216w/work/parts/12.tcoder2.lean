/-- put(v): a bit, then the bits held -/
theorem c_T_put {l : Launch} {Γ : Gl} {o : Nat} {ad : Nat → Nat} {f : Nat → Int32} {g : Nat → Nat → Int32} {v n h : Nat} {B : Nat → Nat} (hv : v < 2) (hn : n + 1 + h ≤ 48000) (h16 : f 16 = nI h) (h17 : f 17 = nI n) (hB : MB g n B) :
    Ct l Γ y_T_put b_T_put 2 none 1 0 0 [.ref o, .int (nI v)] (tw Γ o ad f g) (pv Γ o ad (fun f' g' => Fr [16, 17] [12] f f' g g' ∧ f' 16 = nI 0 ∧ f' 17 = nI (n + 1 + h) ∧ MB g' (n + 1 + h) (wput v h n B))) := by
  refine Ct.of (by decide) (by simp [Value.category]) (Nat.le_of_ble_eq_true rfl) (fun E eG el en C hR F hnm => ?_)
  subst eG
  subst el
  have hL : 2 ≤ xn E := Nat.le_of_eq en.symm
  show G E 0 0 0 [some (.ref o), some (.int (nI v))] [] (tw (xG E) o ad f g)
  have loop : ∀ (h' n' : Nat) (B' : Nat → Nat) (f1 : Nat → Int32) (g1 : Nat → Nat → Int32), Fr [16, 17] [12] f f1 g g1 → f1 16 = nI h' → f1 17 = nI n' → n' + h' = n + 1 + h → MB g1 n' B' → wr (1 - v) h' n' B' = wput v h n B → G E 0 0 5 [some (.ref o), some (.int (nI v))] [] (tw (xG E) o ad f1 g1) := by
    intro h'
    induction h' with
    | zero =>
      intro n' B' f1 g1 hF a16 a17 hs hM he
      refine g_aload_0 (q := 6) C d_T_put_5 rfl ?_
      refine tg_143 (q := 9) C d_T_put_6 rfl a16 ?_
      refine g_if_le (q := 12) (tgt := 32) C d_T_put_9 rfl (by decide) (fun hc => ?_) (fun hc => ?_)
      · exact g_vret C F d_T_put_32 (Nat.le_refl _) (Nat.le_refl _) ⟨rfl, _, _, rfl, hF, a16, by rw [a17]; congr 1, by rw [← he, ← hs]; exact hM⟩
      · exact absurd (by decide) hc
    | succ h' ih =>
      intro n' B' f1 g1 hF a16 a17 hs hM he
      refine g_aload_0 (q := 6) C d_T_put_5 rfl ?_
      refine tg_143 (q := 9) C d_T_put_6 rfl a16 ?_
      refine g_if_le (q := 12) (tgt := 32) C d_T_put_9 rfl (by decide) (fun hc => ?_) (fun hc => ?_)
      · exact absurd ((nILe0 (by omega)).mp hc) (by omega)
      · refine g_aload_0 (q := 13) C d_T_put_12 rfl ?_
        refine g_iconst (v := nI 1) (q := 14) C d_T_put_13 rfl (by decide) ?_
        refine g_iload_1 (q := 15) C d_T_put_14 rfl ?_
        refine g_isub (q := 16) C d_T_put_15 rfl (pk_sub (by omega)) ?_
        refine tc_140 (q := 19) C hR (c_T_bit (v := 1 - v) (by omega) (by omega) a17 hM) d_T_put_16 rfl (by decide) (by decide) (by decide) (by decide) (fun f2 g2 hp => ?_)
        obtain ⟨hF2, b17, hM2⟩ := hp
        have b16 : f2 16 = nI (h' + 1) := by rw [hF2.1 16 (by decide)]; exact a16
        refine g_aload_0 (q := 20) C d_T_put_19 rfl ?_
        refine g_dup_r (q := 21) C d_T_put_20 rfl ?_
        refine tg_143 (q := 24) C d_T_put_21 rfl b16 ?_
        refine g_iconst (v := nI 1) (q := 25) C d_T_put_24 rfl (by decide) ?_
        refine g_isub (q := 26) C d_T_put_25 rfl (pk_sub (a := h' + 1) (b := 1) (by omega)) ?_
        refine tp_143 (q := 29) C d_T_put_26 rfl ?_
        refine g_goto (tgt := 5) C d_T_put_29 (by decide) ?_
        exact ih (n' + 1) _ _ _ ((hF.trans (hF2.mono (by decide) (by decide))).upd (by decide)) (by rw [upd_s]; rfl) (by rw [upd_n (by decide)]; exact b17) (by omega) hM2 he
  refine g_aload_0 (q := 1) C d_T_put_0 rfl ?_
  refine g_iload_1 (q := 2) C d_T_put_1 rfl ?_
  refine tc_140 (q := 5) C hR (c_T_bit hv (by omega) h17 hB) d_T_put_2 rfl (by decide) (by decide) (by decide) (by decide) (fun f2 g2 hp => ?_)
  obtain ⟨hF2, b17, hM2⟩ := hp
  exact loop h (n + 1) _ f2 g2 (hF2.mono (by decide) (by decide)) (by rw [hF2.1 16 (by decide)]; exact h16) b17 rfl hM2 rfl
/-- narrow() -/
theorem c_T_narrow {l : Launch} {Γ : Gl} {o : Nat} {ad : Nat → Nat} {f : Nat → Int32} {g : Nat → Nat → Int32} {lo hi fr len of : Nat} (h14 : f 14 = nI lo) (h15 : f 15 = nI hi) (h10 : f 10 = nI fr) (h11 : f 11 = nI len) (h12 : f 12 = nI of)
    (h1 : lo < 32768) (h2 : 32768 ≤ hi) (h3 : hi < 65536) (h4 : lo < 16384 ∨ 49152 ≤ hi) (hl : 0 < len) (ho : fr + len ≤ of) (h5 : of ≤ 16384) :
    Ct l Γ y_T_narrow b_T_narrow 2 none 0 0 0 [.ref o] (tw Γ o ad f g) (pv Γ o ad (fun f' g' => Fr [14, 15] [] f f' g g' ∧ f' 14 = nI (narL fr of lo hi) ∧ f' 15 = nI (narH fr len of lo hi))) := by
  refine Ct.of (by decide) (by simp [Value.category]) (Nat.le_of_ble_eq_true rfl) (fun E eG el en C hR F hnm => ?_)
  subst eG
  subst el
  have hL : 2 ≤ xn E := Nat.le_of_eq en.symm
  show G E 0 0 0 [some (.ref o), none] [] (tw (xG E) o ad f g)
  obtain ⟨n1, n2, n3⟩ := nar_ok h1 h2 h3 h4 hl ho h5
  have m1 : (hi - lo + 1) * (fr + len) ≤ 65536 * 16384 := Nat.mul_le_mul (by omega) (by omega)
  have m2 : (hi - lo + 1) * fr ≤ 65536 * 16384 := Nat.mul_le_mul (by omega) (by omega)
  unfold narL narH at n1
  have hne : ¬ nI of = 0 := fun e => absurd ((nI0 (by omega)).mp e) (by omega)
  have hw : 1 ≤ (hi - lo + 1) * (fr + len) / of := by
    rw [Nat.le_div_iff_mul_le (by omega)]
    have : (hi - lo + 1) * 1 ≤ (hi - lo + 1) * (fr + len) := Nat.mul_le_mul_left _ (by omega)
    omega
  generalize hr : hi - lo + 1 = r at m1 m2 n1 hw
  refine g_aload_0 (q := 1) C d_T_narrow_0 rfl ?_
  refine tg_146 (q := 4) C d_T_narrow_1 rfl h15 ?_
  refine g_aload_0 (q := 5) C d_T_narrow_4 rfl ?_
  refine tg_149 (q := 8) C d_T_narrow_5 rfl h14 ?_
  refine g_isub (q := 9) C d_T_narrow_8 rfl (pk_sub (by omega)) ?_
  refine g_iconst (v := nI 1) (q := 10) C d_T_narrow_9 rfl (by decide) ?_
  refine g_iadd (q := 11) C d_T_narrow_10 rfl (by rw [nI_add, hr]) ?_
  refine g_istore_1 (q := 12) C hL d_T_narrow_11 rfl ?_
  refine g_aload_0 (q := 13) C d_T_narrow_12 rfl ?_
  refine g_aload_0 (q := 14) C d_T_narrow_13 rfl ?_
  refine tg_149 (q := 17) C d_T_narrow_14 rfl h14 ?_
  refine g_iload_1 (q := 18) C d_T_narrow_17 rfl ?_
  refine g_aload_0 (q := 19) C d_T_narrow_18 rfl ?_
  refine tg_123 (q := 22) C d_T_narrow_19 rfl h10 ?_
  refine g_aload_0 (q := 23) C d_T_narrow_22 rfl ?_
  refine tg_126 (q := 26) C d_T_narrow_23 rfl h11 ?_
  refine g_iadd (q := 27) C d_T_narrow_26 rfl (nI_add _ _) ?_
  refine g_imul (q := 28) C d_T_narrow_27 rfl (pk_mul _ _) ?_
  refine g_aload_0 (q := 29) C d_T_narrow_28 rfl ?_
  refine tg_116 (q := 32) C d_T_narrow_29 rfl h12 ?_
  refine g_idiv (q := 33) C d_T_narrow_32 rfl hne (pk_div (by omega) (by omega) (by omega)) ?_
  refine g_iadd (q := 34) C d_T_narrow_33 rfl (nI_add _ _) ?_
  refine g_iconst (v := nI 1) (q := 35) C d_T_narrow_34 rfl (by decide) ?_
  refine g_isub (q := 36) C d_T_narrow_35 rfl (pk_sub (Nat.le_trans hw (Nat.le_add_left _ _))) ?_
  refine tp_146 (q := 39) C d_T_narrow_36 rfl ?_
  refine g_aload_0 (q := 40) C d_T_narrow_39 rfl ?_
  refine g_aload_0 (q := 41) C d_T_narrow_40 rfl ?_
  refine tg_149 (q := 44) C d_T_narrow_41 rfl h14 ?_
  refine g_iload_1 (q := 45) C d_T_narrow_44 rfl ?_
  refine g_aload_0 (q := 46) C d_T_narrow_45 rfl ?_
  refine tg_123 (q := 49) C d_T_narrow_46 rfl h10 ?_
  refine g_imul (q := 50) C d_T_narrow_49 rfl (pk_mul _ _) ?_
  refine g_aload_0 (q := 51) C d_T_narrow_50 rfl ?_
  refine tg_116 (q := 54) C d_T_narrow_51 rfl h12 ?_
  refine g_idiv (q := 55) C d_T_narrow_54 rfl hne (pk_div (by omega) (by omega) (by omega)) ?_
  refine g_iadd (q := 56) C d_T_narrow_55 rfl (nI_add _ _) ?_
  refine tp_149 (q := 59) C d_T_narrow_56 rfl ?_
  exact g_vret C F d_T_narrow_59 (Nat.le_refl _) (Nat.le_refl _) ⟨rfl, _, _, rfl, (Fr.rf.upd (by decide)).upd (by decide), by rw [upd_s]; unfold narL; rw [hr], by rw [upd_n (by decide), upd_s]; unfold narH; rw [hr]⟩
def CW (f : Nat → Int32) (g : Nat → Nat → Int32) (c : Cd) : Prop := f 14 = nI c.1 ∧ f 15 = nI c.2.1 ∧ f 16 = nI c.2.2.1 ∧ f 17 = nI c.2.2.2.1 ∧ MB g c.2.2.2.1 c.2.2.2.2
/-- write(): a span is written -/
theorem c_T_write {l : Launch} {Γ : Gl} {o : Nat} {ad : Nat → Nat} {f : Nat → Int32} {g : Nat → Nat → Int32} {s : Nat × Nat × Nat} {c : Cd} (hW : CW f g c) (hc : CdOk c) (h10 : f 10 = nI s.1) (h11 : f 11 = nI s.2.1) (h12 : f 12 = nI s.2.2) (hl : 0 < s.2.1) (ho : s.1 + s.2.1 ≤ s.2.2) (h5 : s.2.2 ≤ 16384) (hn : c.2.2.1 + c.2.2.2.1 + 17 ≤ 48000) :
    Ct l Γ y_T_write b_T_write 2 none 2 0 0 [.ref o] (tw Γ o ad f g) (pv Γ o ad (fun f' g' => Fr [14, 15, 16, 17] [12] f f' g g' ∧ CW f' g' (wspan s c))) := by
  obtain ⟨fr, len, of⟩ := s
  obtain ⟨lo, hi, h, n, B⟩ := c
  obtain ⟨h14, h15, h16, h17, hB⟩ := hW
  obtain ⟨k1, k2, k3, k4, k5⟩ := hc
  simp only at h14 h15 h16 h17 hB k1 k2 k3 k4 k5 h10 h11 h12 hl ho h5 hn
  obtain ⟨n1, n2, n3⟩ := nar_ok k1 k2 k3 k4 hl ho h5
  refine Ct.of (by decide) (by simp [Value.category]) (Nat.le_of_ble_eq_true rfl) (fun E eG el en C hR F hnm => ?_)
  subst eG
  subst el
  have hL : 2 ≤ xn E := Nat.le_of_eq en.symm
  show G E 0 0 0 [some (.ref o), none] [] (tw (xG E) o ad f g)
  have loop : ∀ (m lo1 hi1 h1 m1 : Nat) (B1 : Nat → Nat) (f1 : Nat → Int32) (g1 : Nat → Nat → Int32), Fr [14, 15, 16, 17] [12] f f1 g g1 → CW f1 g1 (lo1, hi1, h1, m1, B1) → lo1 ≤ hi1 → hi1 < 65536 → 65536 < (hi1 - lo1 + 1) * 2 ^ m → m1 + h1 + m ≤ 48000 → wn m (lo1, hi1, h1, m1, B1) = wspan (fr, len, of) (lo, hi, h, n, B) → G E 0 0 6 [some (.ref o), some (.int (nI 1))] [] (tw (xG E) o ad f1 g1) := by
    intro m
    induction m with
    | zero => intro lo1 hi1 h1 m1 B1 f1 g1 hF hW a1 a2 a3; omega
    | succ m ih =>
      intro lo1 hi1 h1 m1 B1 f1 g1 hF hW a1 a2 a3 a4 he
      obtain ⟨b14, b15, b16, b17, bB⟩ := hW
      simp only at b14 b15 b16 b17 bB
      have h124 : ∀ (lo2 hi2 h2 m2 : Nat) (B2 : Nat → Nat) (f2 : Nat → Int32) (g2 : Nat → Nat → Int32), Fr [14, 15, 16, 17] [12] f f2 g g2 → CW f2 g2 (lo2, hi2, h2, m2, B2) → lo2 ≤ hi2 → hi2 < 32768 → hi2 - lo2 = hi1 - lo1 → m2 + h2 ≤ m1 + h1 + 1 → wn m (2 * lo2, 2 * hi2 + 1, h2, m2, B2) = wspan (fr, len, of) (lo, hi, h, n, B) → G E 0 0 124 [some (.ref o), some (.int (nI 1))] [] (tw (xG E) o ad f2 g2) := by
        intro lo2 hi2 h2 m2 B2 f2 g2 hF2 hW2 e1 e2 e3 e4 e5
        obtain ⟨d14, d15, d16, d17, dB⟩ := hW2
        simp only at d14 d15 d16 d17 dB
        refine g_iload_1 (q := 125) C d_T_write_124 rfl ?_
        refine g_if_eq (q := 128) (tgt := 6) C d_T_write_125 rfl (by decide) (fun hz => ?_) (fun hz => ?_)
        · exact absurd hz (by decide)
        refine g_aload_0 (q := 129) C d_T_write_128 rfl ?_
        refine g_iconst (v := nI 2) (q := 130) C d_T_write_129 rfl (by decide) ?_
        refine g_aload_0 (q := 131) C d_T_write_130 rfl ?_
        refine tg_149 (q := 134) C d_T_write_131 rfl d14 ?_
        refine g_imul (q := 135) C d_T_write_134 rfl (pk_mul _ _) ?_
        refine tp_149 (q := 138) C d_T_write_135 rfl ?_
        refine g_aload_0 (q := 139) C d_T_write_138 rfl ?_
        refine g_iconst (v := nI 2) (q := 140) C d_T_write_139 rfl (by decide) ?_
        refine g_aload_0 (q := 141) C d_T_write_140 rfl ?_
        refine tg_146 (q := 144) C d_T_write_141 rfl d15 ?_
        refine g_imul (q := 145) C d_T_write_144 rfl (pk_mul _ _) ?_
        refine g_iconst (v := nI 1) (q := 146) C d_T_write_145 rfl (by decide) ?_
        refine g_iadd (q := 147) C d_T_write_146 rfl (nI_add _ _) ?_
        refine tp_146 (q := 150) C d_T_write_147 rfl ?_
        refine g_goto (tgt := 6) C d_T_write_150 (by decide) ?_
        refine ih (2 * lo2) (2 * hi2 + 1) h2 m2 B2 _ _ ((hF2.upd (by decide)).upd (by decide)) ⟨rfl, rfl, d16, d17, dB⟩ (by omega) (by omega) ?_ (by omega) e5
        rw [Nat.pow_succ] at a3
        have : 2 * hi2 + 1 - 2 * lo2 + 1 = 2 * (hi1 - lo1 + 1) := by omega
        rw [this]
        calc 65536 < _ := a3
          _ = _ := by rw [Nat.mul_comm (2 ^ m) 2, ← Nat.mul_assoc, Nat.mul_comm (hi1 - lo1 + 1) 2]
      unfold wn at he
      refine g_iload_1 (q := 7) C d_T_write_6 rfl ?_
      refine g_if_eq (q := 10) (tgt := 153) C d_T_write_7 rfl (by decide) (fun hz => ?_) (fun hz => ?_)
      · exact absurd hz (by decide)
      refine g_aload_0 (q := 11) C d_T_write_10 rfl ?_
      refine tg_146 (q := 14) C d_T_write_11 rfl b15 ?_
      refine g_ldc (v := nI 32768) (q := 16) C d_T_write_14 rfl w_980 ?_
      refine g_icmp_ge (q := 19) (tgt := 27) C d_T_write_16 rfl (by decide) (fun hz => ?_) (fun hz => ?_)
      · have hz := (nI_leI (by omega) (by omega)).mp hz
        rw [if_neg (by omega)] at he
        refine g_aload_0 (q := 28) C d_T_write_27 rfl ?_
        refine tg_149 (q := 31) C d_T_write_28 rfl b14 ?_
        refine g_ldc (v := nI 32768) (q := 33) C d_T_write_31 rfl w_980 ?_
        refine g_icmp_lt (q := 36) (tgt := 66) C d_T_write_33 rfl (by decide) (fun hz2 => ?_) (fun hz2 => ?_)
        · have hz2 := (nI_ltI (by omega) (by omega)).mp hz2
          rw [if_neg (by omega)] at he
          have h122 : ¬ (16384 ≤ lo1 ∧ hi1 < 49152) → G E 0 0 122 [some (.ref o), some (.int (nI 1))] [] (tw (xG E) o ad f1 g1) := by
            intro hno
            rw [if_neg hno] at he
            refine g_iconst (v := nI 0) (q := 123) C d_T_write_122 rfl (by decide) ?_
            refine g_istore_1 (q := 124) C hL d_T_write_123 rfl ?_
            refine g_iload_1 (q := 125) C d_T_write_124 rfl ?_
            refine g_if_eq (q := 128) (tgt := 6) C d_T_write_125 rfl (by decide) (fun hx => ?_) (fun hx => ?_)
            · refine g_iload_1 (q := 7) C d_T_write_6 rfl ?_
              refine g_if_eq (q := 10) (tgt := 153) C d_T_write_7 rfl (by decide) (fun hx => ?_) (fun hx => ?_)
              · exact g_vret C F d_T_write_153 (Nat.le_refl _) (Nat.le_refl _) ⟨rfl, _, _, rfl, hF, by rw [← he]; exact ⟨b14, b15, b16, b17, bB⟩⟩
              · exact absurd rfl hx
            · exact absurd rfl hx
          refine g_aload_0 (q := 67) C d_T_write_66 rfl ?_
          refine tg_149 (q := 70) C d_T_write_67 rfl b14 ?_
          refine g_sipush (v := nI 16384) (q := 73) C d_T_write_70 rfl (by decide) ?_
          refine g_icmp_lt (q := 76) (tgt := 122) C d_T_write_73 rfl (by decide) (fun hx => ?_) (fun hx => ?_)
          · have hx := (nI_ltI (by omega) (by omega)).mp hx
            exact h122 (by omega)
          have hx : 16384 ≤ lo1 := Nat.le_of_not_lt (fun e => hx ((nI_ltI (by omega) (by omega)).mpr e))
          refine g_aload_0 (q := 77) C d_T_write_76 rfl ?_
          refine tg_146 (q := 80) C d_T_write_77 rfl b15 ?_
          refine g_ldc (v := nI 49152) (q := 82) C d_T_write_80 rfl w_989 ?_
          refine g_icmp_ge (q := 85) (tgt := 122) C d_T_write_82 rfl (by decide) (fun hy => ?_) (fun hy => ?_)
          · have hy := (nI_leI (by omega) (by omega)).mp hy
            exact h122 (by omega)
          have hy : hi1 < 49152 := Nat.lt_of_not_le (fun e => hy ((nI_leI (by omega) (by omega)).mpr e))
          rw [if_pos ⟨hx, hy⟩] at he
          refine g_aload_0 (q := 86) C d_T_write_85 rfl ?_
          refine g_dup_r (q := 87) C d_T_write_86 rfl ?_
          refine tg_143 (q := 90) C d_T_write_87 rfl b16 ?_
          refine g_iconst (v := nI 1) (q := 91) C d_T_write_90 rfl (by decide) ?_
          refine g_iadd (q := 92) C d_T_write_91 rfl (nI_1 _) ?_
          refine tp_143 (q := 95) C d_T_write_92 rfl ?_
          refine g_aload_0 (q := 96) C d_T_write_95 rfl ?_
          refine g_dup_r (q := 97) C d_T_write_96 rfl ?_
          refine tg_149 (q := 100) C d_T_write_97 rfl b14 ?_
          refine g_sipush (v := nI 16384) (q := 103) C d_T_write_100 rfl (by decide) ?_
          refine g_isub (q := 104) C d_T_write_103 rfl (pk_sub (by omega)) ?_
          refine tp_149 (q := 107) C d_T_write_104 rfl ?_
          refine g_aload_0 (q := 108) C d_T_write_107 rfl ?_
          refine g_dup_r (q := 109) C d_T_write_108 rfl ?_
          refine tg_146 (q := 112) C d_T_write_109 rfl b15 ?_
          refine g_sipush (v := nI 16384) (q := 115) C d_T_write_112 rfl (by decide) ?_
          refine g_isub (q := 116) C d_T_write_115 rfl (pk_sub (by omega)) ?_
          refine tp_146 (q := 119) C d_T_write_116 rfl ?_
          refine g_goto (tgt := 124) C d_T_write_119 (by decide) ?_
          exact h124 (lo1 - 16384) (hi1 - 16384) (h1 + 1) m1 B1 _ _ (((hF.upd (by decide)).upd (by decide)).upd (by decide)) ⟨rfl, rfl, rfl, b17, bB⟩ (by omega) (by omega) (by omega) (by omega) he
        · have hz2 : 32768 ≤ lo1 := Nat.le_of_not_lt (fun e => hz2 ((nI_ltI (by omega) (by omega)).mpr e))
          rw [if_pos hz2] at he
          refine g_aload_0 (q := 37) C d_T_write_36 rfl ?_
          refine g_iconst (v := nI 1) (q := 38) C d_T_write_37 rfl (by decide) ?_
          refine tc_156 (q := 41) C hR (c_T_put (v := 1) (by decide) (by omega) b16 b17 bB) d_T_write_38 rfl (by decide) (by decide) (by decide) (by decide) (fun f2 g2 hp => ?_)
          obtain ⟨hF2, c16, c17, cB⟩ := hp
          have c14 : f2 14 = nI lo1 := by rw [hF2.1 14 (by decide)]; exact b14
          have c15 : f2 15 = nI hi1 := by rw [hF2.1 15 (by decide)]; exact b15
          refine g_aload_0 (q := 42) C d_T_write_41 rfl ?_
          refine g_dup_r (q := 43) C d_T_write_42 rfl ?_
          refine tg_149 (q := 46) C d_T_write_43 rfl c14 ?_
          refine g_ldc (v := nI 32768) (q := 48) C d_T_write_46 rfl w_980 ?_
          refine g_isub (q := 49) C d_T_write_48 rfl (pk_sub (by omega)) ?_
          refine tp_149 (q := 52) C d_T_write_49 rfl ?_
          refine g_aload_0 (q := 53) C d_T_write_52 rfl ?_
          refine g_dup_r (q := 54) C d_T_write_53 rfl ?_
          refine tg_146 (q := 57) C d_T_write_54 rfl c15 ?_
          refine g_ldc (v := nI 32768) (q := 59) C d_T_write_57 rfl w_980 ?_
          refine g_isub (q := 60) C d_T_write_59 rfl (pk_sub (by omega)) ?_
          refine tp_146 (q := 63) C d_T_write_60 rfl ?_
          refine g_goto (tgt := 124) C d_T_write_63 (by decide) ?_
          exact h124 (lo1 - 32768) (hi1 - 32768) 0 (m1 + 1 + h1) _ _ _ (((hF.trans (hF2.mono (by decide) (by decide))).upd (by decide)).upd (by decide)) ⟨rfl, rfl, c16, c17, cB⟩ (by omega) (by omega) (by omega) (by omega) he
      · have hz : hi1 < 32768 := Nat.lt_of_not_le (fun e => hz ((nI_leI (by omega) (by omega)).mpr e))
        rw [if_pos hz] at he
        refine g_aload_0 (q := 20) C d_T_write_19 rfl ?_
        refine g_iconst (v := nI 0) (q := 21) C d_T_write_20 rfl (by decide) ?_
        refine tc_156 (q := 24) C hR (c_T_put (v := 0) (by decide) (by omega) b16 b17 bB) d_T_write_21 rfl (by decide) (by decide) (by decide) (by decide) (fun f2 g2 hp => ?_)
        obtain ⟨hF2, c16, c17, cB⟩ := hp
        have c14 : f2 14 = nI lo1 := by rw [hF2.1 14 (by decide)]; exact b14
        have c15 : f2 15 = nI hi1 := by rw [hF2.1 15 (by decide)]; exact b15
        refine g_goto (tgt := 124) C d_T_write_24 (by decide) ?_
        exact h124 lo1 hi1 0 (m1 + 1 + h1) _ _ _ (hF.trans (hF2.mono (by decide) (by decide))) ⟨c14, c15, c16, c17, cB⟩ a1 hz rfl (by omega) he
  refine g_aload_0 (q := 1) C d_T_write_0 rfl ?_
  refine tc_152 (q := 4) C hR (c_T_narrow h14 h15 h10 h11 h12 k1 k2 k3 k4 hl ho h5) d_T_write_1 rfl (by decide) (by decide) (by decide) (by decide) (fun f2 g2 hp => ?_)
  obtain ⟨hF2, c14, c15⟩ := hp
  refine g_iconst (v := nI 1) (q := 5) C d_T_write_4 rfl (by decide) ?_
  refine g_istore_1 (q := 6) C hL d_T_write_5 rfl ?_
  refine loop 17 (narL fr of lo hi) (narH fr len of lo hi) h n B f2 g2 (hF2.mono (by decide) (by decide)) ⟨c14, c15, by rw [hF2.1 16 (by decide)]; exact h16, by rw [hF2.1 17 (by decide)]; exact h17, by rw [show MB g2 n B ↔ MB g n B by unfold MB; rw [hF2.2 12 (by decide)]]; exact hB⟩ n1 (by omega) ?_ (by omega) rfl
  have : 1 * 2 ^ 17 ≤ (narH fr len of lo hi - narL fr of lo hi + 1) * 2 ^ 17 := Nat.mul_le_mul_right _ (by omega)
  omega
