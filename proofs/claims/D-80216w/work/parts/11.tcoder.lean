/-! THE TWIN'S CODER: in, bit, put, narrow, write -/
theorem nIor (a b : Nat) : nI a ||| nI b = nI (a ||| b) := by
  unfold nI
  apply Int32.toBitVec_inj.mp
  simp only [Int32.toBitVec_or, Int32.toBitVec_ofNat']
  apply BitVec.eq_of_getLsbD_eq
  intro i hi
  simp [BitVec.getLsbD_ofNat, Nat.testBit_or, hi]
theorem nIs : ∀ n, n < 32 → ((nI n &&& nI 31).toBitVec.smod 32).toNat = n := by decide +kernel
theorem nIshl {a b : Nat} (hb : b < 32) (h : a * 2 ^ b < 2 ^ 32) : nI a <<< (nI b &&& 31) = nI (a * 2 ^ b) := pk_shlN _ b (nIs b hb) h
theorem nI0 {a : Nat} (h : a < 2 ^ 31) : nI a = 0 ↔ a = 0 := nI_eq (b := 0) h (by decide)
theorem nILe0 {a : Nat} (h : a < 2 ^ 31) : nI a ≤ 0 ↔ a = 0 := (nI_leI (b := 0) h (by decide)).trans Nat.le_zero
theorem upd_s {f : Nat → Int32} {k : Nat} {v : Int32} : upd f k v k = v := by unfold upd; rw [if_pos rfl]
theorem upd_n {f : Nat → Int32} {k j : Nat} {v : Int32} (h : j ≠ k) : upd f k v j = f j := by unfold upd; rw [if_neg h]
theorem updA_s {g : Nat → Nat → Int32} {k : Nat} {v : Nat → Int32} : updA g k v k = v := by unfold updA; rw [if_pos rfl]
theorem updA_n {g : Nat → Nat → Int32} {k j : Nat} {v : Nat → Int32} (h : j ≠ k) : updA g k v j = g j := by unfold updA; rw [if_neg h]
/-- the bytes made -/
def MB (g : Nat → Nat → Int32) (n : Nat) (B : Nat → Nat) : Prop := ∀ i, 8 * i < n → g 12 i = nI (B i)
/-- in(v, low, high) -/
theorem c_T_in {l : Launch} {Γ : Gl} (v a b : Int32) : Ct l Γ y_T_in b_T_in 3 (some .boolean) 0 0 0 [.int v, .int a, .int b] [] (fun r w => ∃ x, r = some (.int x) ∧ w = [] ∧ ((a ≤ v ∧ v ≤ b ∧ x = nI 1) ∨ (¬ (a ≤ v ∧ v ≤ b) ∧ x = nI 0))) := by
  refine Ct.of (by decide) (by simp [Value.category]) (Nat.le_of_ble_eq_true rfl) (fun E eG el en C hR F hnm => ?_)
  subst eG
  subst el
  have hL : 3 ≤ xn E := Nat.le_of_eq en.symm
  show G E 0 0 0 [some (.int v), some (.int a), some (.int b)] [] []
  have h14 : ¬ (a ≤ v ∧ v ≤ b) → G E 0 0 14 [some (.int v), some (.int a), some (.int b)] [] [] := fun h => by
    refine g_iconst (v := nI 0) (q := 15) C d_T_in_14 rfl (by decide) ?_
    exact g_zret C F d_T_in_15 (Or.inl rfl) (Nat.le_refl _) (Nat.le_refl _) ⟨_, rfl, rfl, Or.inr ⟨h, rfl⟩⟩
  refine g_iload_0 (q := 1) C d_T_in_0 rfl ?_
  refine g_iload_1 (q := 2) C d_T_in_1 rfl ?_
  refine g_icmp_lt (q := 5) (tgt := 14) C d_T_in_2 rfl (by decide) (fun h1 => ?_) (fun h1 => ?_)
  · exact h14 (fun h => Int32.not_le.mpr h1 h.1)
  refine g_iload_0 (q := 6) C d_T_in_5 rfl ?_
  refine g_iload_2 (q := 7) C d_T_in_6 rfl ?_
  refine g_icmp_gt (q := 10) (tgt := 14) C d_T_in_7 rfl (by decide) (fun h2 => ?_) (fun h2 => ?_)
  · exact h14 (fun h => Int32.not_le.mpr h2 h.2)
  refine g_iconst (v := nI 1) (q := 11) C d_T_in_10 rfl (by decide) ?_
  refine g_goto (tgt := 15) C d_T_in_11 (by decide) ?_
  exact g_zret C F d_T_in_15 (Or.inr rfl) (Nat.le_refl _) (Nat.le_refl _) ⟨_, rfl, rfl, Or.inl ⟨Int32.not_lt.mp h1, Int32.not_lt.mp h2, rfl⟩⟩
/-- bit(v): a bit more -/
theorem c_T_bit {l : Launch} {Γ : Gl} {o : Nat} {ad : Nat → Nat} {f : Nat → Int32} {g : Nat → Nat → Int32} {v n : Nat} {B : Nat → Nat} (hv : v < 2) (hn : n < 48000) (h17 : f 17 = nI n) (hB : MB g n B) :
    Ct l Γ y_T_bit b_T_bit 2 none 0 0 0 [.ref o, .int (nI v)] (tw Γ o ad f g) (pv Γ o ad (fun f' g' => Fr [17] [12] f f' g g' ∧ f' 17 = nI (n + 1) ∧ MB g' (n + 1) (wb v n B))) := by
  refine Ct.of (by decide) (by simp [Value.category]) (Nat.le_of_ble_eq_true rfl) (fun E eG el en C hR F hnm => ?_)
  subst eG
  subst el
  have hL : 2 ≤ xn E := Nat.le_of_eq en.symm
  show G E 0 0 0 [some (.ref o), some (.int (nI v))] [] (tw (xG E) o ad f g)
  have h23 : ∀ (g1 : Nat → Nat → Int32) (x0 : Nat), Fr [17] [12] f f g g1 → (∀ i, i ≠ n / 8 → g1 12 i = g 12 i) → g1 12 (n / 8) = nI x0 → x0 = (if n % 8 = 0 then 0 else B (n / 8)) → G E 0 0 23 [some (.ref o), some (.int (nI v))] [] (tw (xG E) o ad f g1) := by
    intro g1 x0 hF h1 h2 h3
    have hp : v * 2 ^ (7 - n % 8) ≤ 1 * 2 ^ 7 := Nat.mul_le_mul (by omega) (Nat.pow_le_pow_right (by decide) (by omega))
    refine g_aload_0 (q := 24) C d_T_bit_23 rfl ?_
    refine tg_47 (q := 27) C d_T_bit_24 rfl ?_
    refine g_aload_0 (q := 28) C d_T_bit_27 rfl ?_
    refine tg_137 (q := 31) C d_T_bit_28 rfl h17 ?_
    refine g_bipush (v := nI 8) (q := 33) C d_T_bit_31 rfl (by decide) ?_
    refine g_idiv (q := 34) C d_T_bit_33 rfl (by decide) (pk_div (d := 8) (by omega) (by decide) (by decide)) ?_
    refine g_dup2 (q := 35) C d_T_bit_34 rfl rfl rfl ?_
    refine ta_12 (q := 36) C d_T_bit_35 rfl rfl (by omega) h2 ?_
    refine g_iload_1 (q := 37) C d_T_bit_36 rfl ?_
    refine g_bipush (v := nI 7) (q := 39) C d_T_bit_37 rfl (by decide) ?_
    refine g_aload_0 (q := 40) C d_T_bit_39 rfl ?_
    refine tg_137 (q := 43) C d_T_bit_40 rfl h17 ?_
    refine g_bipush (v := nI 8) (q := 45) C d_T_bit_43 rfl (by decide) ?_
    refine g_irem (q := 46) C d_T_bit_45 rfl (by decide) (pk_rem (d := 8) (by omega) (by decide) (by decide)) ?_
    refine g_isub (q := 47) C d_T_bit_46 rfl (pk_sub (by omega)) ?_
    refine g_ishl (q := 48) C d_T_bit_47 rfl (nIshl (by omega) (by omega)) ?_
    refine g_ior (q := 49) C d_T_bit_48 rfl (nIor _ _) ?_
    refine ts_12 (q := 50) C d_T_bit_49 rfl rfl (by omega) ?_
    refine g_aload_0 (q := 51) C d_T_bit_50 rfl ?_
    refine g_dup_r (q := 52) C d_T_bit_51 rfl ?_
    refine tg_137 (q := 55) C d_T_bit_52 rfl h17 ?_
    refine g_iconst (v := nI 1) (q := 56) C d_T_bit_55 rfl (by decide) ?_
    refine g_iadd (q := 57) C d_T_bit_56 rfl (nI_1 n) ?_
    refine tp_137 (q := 60) C d_T_bit_57 rfl ?_
    refine g_vret C F d_T_bit_60 (Nat.le_refl _) (Nat.le_refl _) ⟨rfl, _, _, rfl, (hF.updA (by decide)).upd (by decide), upd_s, ?_⟩
    intro i hi
    rw [updA_s]
    unfold wb
    by_cases e : i = n / 8
    · subst e
      rw [upd_s, if_pos rfl, h3]
    · rw [upd_n e, if_neg e, h1 i e]
      exact hB i (by omega)
  refine g_aload_0 (q := 1) C d_T_bit_0 rfl ?_
  refine tg_137 (q := 4) C d_T_bit_1 rfl h17 ?_
  refine g_bipush (v := nI 8) (q := 6) C d_T_bit_4 rfl (by decide) ?_
  refine g_irem (q := 7) C d_T_bit_6 rfl (by decide) (pk_rem (d := 8) (by omega) (by decide) (by decide)) ?_
  refine g_if_ne (q := 10) (tgt := 23) C d_T_bit_7 rfl (by decide) (fun hz => ?_) (fun hz => ?_)
  · have hz : n % 8 ≠ 0 := fun e => hz ((nI0 (by omega)).mpr e)
    exact h23 g _ Fr.rf (fun _ _ => rfl) (hB _ (by omega)) (by rw [if_neg hz])
  · have hz : n % 8 = 0 := (nI0 (by omega)).mp (Decidable.not_not.mp hz)
    refine g_aload_0 (q := 11) C d_T_bit_10 rfl ?_
    refine tg_47 (q := 14) C d_T_bit_11 rfl ?_
    refine g_aload_0 (q := 15) C d_T_bit_14 rfl ?_
    refine tg_137 (q := 18) C d_T_bit_15 rfl h17 ?_
    refine g_bipush (v := nI 8) (q := 20) C d_T_bit_18 rfl (by decide) ?_
    refine g_idiv (q := 21) C d_T_bit_20 rfl (by decide) (pk_div (d := 8) (by omega) (by decide) (by decide)) ?_
    refine g_iconst (v := nI 0) (q := 22) C d_T_bit_21 rfl (by decide) ?_
    refine ts_12 (q := 23) C d_T_bit_22 rfl rfl (by omega) ?_
    exact h23 _ 0 (Fr.rf.updA (by decide)) (fun i hi => by rw [updA_s, upd_n hi]) (by rw [updA_s, upd_s]) (by rw [if_pos hz])
