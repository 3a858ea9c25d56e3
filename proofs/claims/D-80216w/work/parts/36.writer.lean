/-! THE CLASS Writer -/
def bt8 (n : Nat) : Int32 := (nI n).toInt8.toInt32
theorem bt8_or : ∀ x, x < 256 → ∀ k, k < 8 → (bt8 x ||| nI (2 ^ k)).toInt8.toInt32 = bt8 (x ||| 2 ^ k) := by decide +kernel
theorem bt8_or0 : ∀ x, x < 256 → (bt8 x ||| nI 0).toInt8.toInt32 = bt8 x := by decide +kernel
theorem bt8_and : ∀ x, x < 256 → bt8 x &&& nI 255 = nI x := by decide +kernel
theorem bt8_nar (z : Int32) : vp_nar .byte z.toInt8.toInt32 = z.toInt8.toInt32 := pk_vb z
def WB (g : Nat → Int32) (n : Nat) (B : Nat → Nat) : Prop := ∀ i, 8 * i < n → g i = bt8 (B i)
/-- a Writer holds the coder c -/
def WC (f : Nat → Int32) (g : Nat → Int32) (c : Cd) : Prop := f 0 = nI c.2.2.2.1 ∧ f 1 = nI c.2.2.1 ∧ f 2 = nI c.1 ∧ f 3 = nI c.2.1 ∧ WB g c.2.2.2.1 c.2.2.2.2
/-- what a widening does to a coder -/
def wd (less : Nat) (c : Cd) : Cd := if less = 16384 then (2 * (c.1 - less), 2 * (c.2.1 - less) + 1, c.2.2.1 + 1, c.2.2.2.1, c.2.2.2.2) else (2 * (c.1 - less), 2 * (c.2.1 - less) + 1, 0, c.2.2.2.1 + 1 + c.2.2.1, wput (if less = 32768 then 1 else 0) c.2.2.1 c.2.2.2.1 c.2.2.2.2)
section
variable {l : Launch} {Γ : Gl} {a ca : Nat} {f : Nat → Int32} {g : Nat → Int32}
theorem c_Wr_one {v n : Nat} {B : Nat → Nat} (hv : v < 2) (hn : n < 32768) (h0 : f 0 = nI n) (hB : WB g n B) (hB2 : ∀ i, B i < 256) :
    Ct l Γ y_Wr_one b_Wr_one 2 none 0 0 0 [.ref a, .int (nI v)] (ww Γ a ca f g) (pvw Γ a ca (fun f' g' => f' = upd f 0 (nI (n + 1)) ∧ WB g' (n + 1) (wb v n B))) := by
  refine Ct.of (by decide) (by simp [Value.category]) (Nat.le_of_ble_eq_true rfl) (fun E eG el en C hR F hnm => ?_)
  subst eG
  subst el
  have hL : 2 ≤ xn E := Nat.le_of_eq en.symm
  show G E 0 0 0 [some (.ref a), some (.int (nI v))] [] (ww (xG E) a ca f g)
  have h23 : ∀ (g1 : Nat → Int32) (x0 : Nat), (∀ i, i ≠ n / 8 → g1 i = g i) → g1 (n / 8) = bt8 x0 → x0 < 256 → x0 = (if n % 8 = 0 then 0 else B (n / 8)) → G E 0 0 23 [some (.ref a), some (.int (nI v))] [] (ww (xG E) a ca f g1) := by
    intro g1 x0 h1 h2 hx0 h3
    have hp : v * 2 ^ (7 - n % 8) ≤ 1 * 2 ^ 7 := Nat.mul_le_mul (by omega) (Nat.pow_le_pow_right (by decide) (by omega))
    have hor : (bt8 x0 ||| nI (v * 2 ^ (7 - n % 8))).toInt8.toInt32 = bt8 (x0 ||| v * 2 ^ (7 - n % 8)) := by
      rcases (show v = 0 ∨ v = 1 by omega) with e | e
      · subst e; rw [Nat.zero_mul, Nat.or_zero]; exact bt8_or0 x0 hx0
      · subst e; rw [Nat.one_mul]; exact bt8_or x0 hx0 _ (by omega)
    refine g_aload_0 (q := 24) C d_Wr_one_23 rfl ?_
    refine wg_9 (q := 27) C d_Wr_one_24 rfl ?_
    refine g_aload_0 (q := 28) C d_Wr_one_27 rfl ?_
    refine wg_18 (q := 31) C d_Wr_one_28 rfl h0 ?_
    refine g_bipush (v := nI 8) (q := 33) C d_Wr_one_31 rfl (by decide) ?_
    refine g_idiv (q := 34) C d_Wr_one_33 rfl (by decide) (pk_div (d := 8) (by omega) (by decide) (by decide)) ?_
    refine g_dup2 (q := 35) C d_Wr_one_34 rfl rfl rfl ?_
    refine wb_ld (q := 36) C d_Wr_one_35 rfl rfl (by omega) h2 ?_
    refine g_iload_1 (q := 37) C d_Wr_one_36 rfl ?_
    refine g_bipush (v := nI 7) (q := 39) C d_Wr_one_37 rfl (by decide) ?_
    refine g_aload_0 (q := 40) C d_Wr_one_39 rfl ?_
    refine wg_18 (q := 43) C d_Wr_one_40 rfl h0 ?_
    refine g_bipush (v := nI 8) (q := 45) C d_Wr_one_43 rfl (by decide) ?_
    refine g_irem (q := 46) C d_Wr_one_45 rfl (by decide) (pk_rem (d := 8) (by omega) (by decide) (by decide)) ?_
    refine g_isub (q := 47) C d_Wr_one_46 rfl (pk_sub (by omega)) ?_
    refine g_ishl (q := 48) C d_Wr_one_47 rfl (nIshl (by omega) (by omega)) ?_
    refine g_ior (q := 49) C d_Wr_one_48 rfl rfl ?_
    refine g_i2b (q := 50) C d_Wr_one_49 rfl hor ?_
    refine wb_st (q := 51) C d_Wr_one_50 rfl rfl (by omega) ?_
    have hnar : vp_nar .byte (bt8 (x0 ||| v * 2 ^ (7 - n % 8))) = bt8 (x0 ||| v * 2 ^ (7 - n % 8)) := bt8_nar _
    rw [hnar]
    refine g_aload_0 (q := 52) C d_Wr_one_51 rfl ?_
    refine g_dup_r (q := 53) C d_Wr_one_52 rfl ?_
    refine wg_18 (q := 56) C d_Wr_one_53 rfl h0 ?_
    refine g_iconst (v := nI 1) (q := 57) C d_Wr_one_56 rfl (by decide) ?_
    refine g_iadd (q := 58) C d_Wr_one_57 rfl (nI_1 _) ?_
    refine wp_18 (q := 61) C d_Wr_one_58 rfl ?_
    refine g_vret C F d_Wr_one_61 (Nat.le_refl _) (Nat.le_refl _) ⟨rfl, _, _, rfl, rfl, fun i hi => ?_⟩
    unfold wb
    by_cases e : i = n / 8
    · subst e
      rw [upd_s, if_pos rfl, h3]
    · rw [upd_n e, if_neg e, h1 i e]
      exact hB i (by omega)
  refine g_aload_0 (q := 1) C d_Wr_one_0 rfl ?_
  refine wg_18 (q := 4) C d_Wr_one_1 rfl h0 ?_
  refine g_bipush (v := nI 8) (q := 6) C d_Wr_one_4 rfl (by decide) ?_
  refine g_irem (q := 7) C d_Wr_one_6 rfl (by decide) (pk_rem (d := 8) (by omega) (by decide) (by decide)) ?_
  refine g_if_ne (q := 10) (tgt := 23) C d_Wr_one_7 rfl (by decide) (fun hz => ?_) (fun hz => ?_)
  · have hz : n % 8 ≠ 0 := fun e => hz ((nI0 (by omega)).mpr e)
    exact h23 g _ (fun _ _ => rfl) (hB _ (by omega)) (hB2 _) (by rw [if_neg hz])
  · have hz : n % 8 = 0 := (nI0 (by omega)).mp (Decidable.not_not.mp hz)
    refine g_aload_0 (q := 11) C d_Wr_one_10 rfl ?_
    refine wg_9 (q := 14) C d_Wr_one_11 rfl ?_
    refine g_aload_0 (q := 15) C d_Wr_one_14 rfl ?_
    refine wg_18 (q := 18) C d_Wr_one_15 rfl h0 ?_
    refine g_bipush (v := nI 8) (q := 20) C d_Wr_one_18 rfl (by decide) ?_
    refine g_idiv (q := 21) C d_Wr_one_20 rfl (by decide) (pk_div (d := 8) (by omega) (by decide) (by decide)) ?_
    refine g_iconst (v := nI 0) (q := 22) C d_Wr_one_21 rfl (by decide) ?_
    refine wb_st (q := 23) C d_Wr_one_22 rfl rfl (by omega) ?_
    exact h23 _ 0 (fun i hi => upd_n hi) upd_s (by decide) (by rw [if_pos hz])
theorem c_Wr_put {v n h : Nat} {B : Nat → Nat} (hv : v < 2) (hn : n + 1 + h ≤ 32768) (h0 : f 0 = nI n) (h1 : f 1 = nI h) (hB : WB g n B) (hB2 : ∀ i, B i < 256) :
    Ct l Γ y_Wr_put b_Wr_put 2 none 1 0 0 [.ref a, .int (nI v)] (ww Γ a ca f g) (pvw Γ a ca (fun f' g' => f' 0 = nI (n + 1 + h) ∧ f' 1 = nI 0 ∧ f' 2 = f 2 ∧ f' 3 = f 3 ∧ WB g' (n + 1 + h) (wput v h n B))) := by
  refine Ct.of (by decide) (by simp [Value.category]) (Nat.le_of_ble_eq_true rfl) (fun E eG el en C hR F hnm => ?_)
  subst eG
  subst el
  have hL : 2 ≤ xn E := Nat.le_of_eq en.symm
  show G E 0 0 0 [some (.ref a), some (.int (nI v))] [] (ww (xG E) a ca f g)
  have loop : ∀ (h' n' : Nat) (B' : Nat → Nat) (f1 : Nat → Int32) (g1 : Nat → Int32), f1 0 = nI n' → f1 1 = nI h' → f1 2 = f 2 → f1 3 = f 3 → n' + h' = n + 1 + h → WB g1 n' B' → (∀ i, B' i < 256) → wr (1 - v) h' n' B' = wput v h n B → G E 0 0 5 [some (.ref a), some (.int (nI v))] [] (ww (xG E) a ca f1 g1) := by
    intro h'
    induction h' with
    | zero =>
      intro n' B' f1 g1 a0 a1 a2 a3 hs hM hM2 he
      refine g_aload_0 (q := 6) C d_Wr_put_5 rfl ?_
      refine wg_22 (q := 9) C d_Wr_put_6 rfl a1 ?_
      refine g_if_le (q := 12) (tgt := 32) C d_Wr_put_9 rfl (by decide) (fun hc => ?_) (fun hc => ?_)
      · exact g_vret C F d_Wr_put_32 (Nat.le_refl _) (Nat.le_refl _) ⟨rfl, _, _, rfl, by rw [a0]; congr 1, a1, a2, a3, by rw [← he, ← hs]; exact hM⟩
      · exact absurd (by decide) hc
    | succ h' ih =>
      intro n' B' f1 g1 a0 a1 a2 a3 hs hM hM2 he
      refine g_aload_0 (q := 6) C d_Wr_put_5 rfl ?_
      refine wg_22 (q := 9) C d_Wr_put_6 rfl a1 ?_
      refine g_if_le (q := 12) (tgt := 32) C d_Wr_put_9 rfl (by decide) (fun hc => ?_) (fun hc => ?_)
      · exact absurd ((nILe0 (by omega)).mp hc) (by omega)
      refine g_aload_0 (q := 13) C d_Wr_put_12 rfl ?_
      refine g_iconst (v := nI 1) (q := 14) C d_Wr_put_13 rfl (by decide) ?_
      refine g_iload_1 (q := 15) C d_Wr_put_14 rfl ?_
      refine g_isub (q := 16) C d_Wr_put_15 rfl (pk_sub (by omega)) ?_
      refine wc_30 (q := 19) C hR (c_Wr_one (v := 1 - v) (by omega) (by omega) a0 hM hM2) d_Wr_put_16 rfl (by decide) (by decide) (by decide) (Nat.le_of_ble_eq_true rfl) (fun f2 g2 hp => ?_)
      obtain ⟨rfl, hM3⟩ := hp
      refine g_aload_0 (q := 20) C d_Wr_put_19 rfl ?_
      refine g_dup_r (q := 21) C d_Wr_put_20 rfl ?_
      refine wg_22 (q := 24) C d_Wr_put_21 rfl a1 ?_
      refine g_iconst (v := nI 1) (q := 25) C d_Wr_put_24 rfl (by decide) ?_
      refine g_isub (q := 26) C d_Wr_put_25 rfl (pk_sub (a := h' + 1) (b := 1) (by omega)) ?_
      refine wp_22 (q := 29) C d_Wr_put_26 rfl ?_
      refine g_goto (tgt := 5) C d_Wr_put_29 (by decide) ?_
      exact ih (n' + 1) _ _ _ rfl (by rw [upd_s]; rfl) a2 a3 (by omega) hM3 (wb_lt (by omega) hM2) he
  refine g_aload_0 (q := 1) C d_Wr_put_0 rfl ?_
  refine g_iload_1 (q := 2) C d_Wr_put_1 rfl ?_
  refine wc_30 (q := 5) C hR (c_Wr_one hv (by omega) h0 hB hB2) d_Wr_put_2 rfl (by decide) (by decide) (by decide) (Nat.le_of_ble_eq_true rfl) (fun f2 g2 hp => ?_)
  obtain ⟨rfl, hM3⟩ := hp
  exact loop h (n + 1) _ _ g2 rfl h1 rfl rfl rfl hM3 (wb_lt hv hB2) rfl
theorem c_Wr_moved {less : Nat} {c : Cd} (hl : less = 0 ∨ less = 16384 ∨ less = 32768) {lo hi : Int32} (hn : c.2.2.2.1 + 1 + c.2.2.1 ≤ 32768) (h0 : f 0 = nI c.2.2.2.1) (h1 : f 1 = nI c.2.2.1) (h2 : f 2 = lo) (h3 : f 3 = hi) (hB : WB g c.2.2.2.1 c.2.2.2.2) (hB2 : ∀ i, c.2.2.2.2 i < 256) :
    Ct l Γ y_Wr_moved b_Wr_moved 2 none 2 0 0 [.ref a, .int (nI less)] (ww Γ a ca f g) (pvw Γ a ca (fun f' g' => f' 0 = nI (wd less c).2.2.2.1 ∧ f' 1 = nI (wd less c).2.2.1 ∧ f' 2 = lo ∧ f' 3 = hi ∧ WB g' (wd less c).2.2.2.1 (wd less c).2.2.2.2)) := by
  refine Ct.of (by decide) (by simp [Value.category]) (Nat.le_of_ble_eq_true rfl) (fun E eG el en C hR F hnm => ?_)
  subst eG
  subst el
  have hL : 2 ≤ xn E := Nat.le_of_eq en.symm
  show G E 0 0 0 [some (.ref a), some (.int (nI less))] [] (ww (xG E) a ca f g)
  refine g_iload_1 (q := 1) C d_Wr_moved_0 rfl ?_
  refine g_sipush (v := nI 16384) (q := 4) C d_Wr_moved_1 rfl (by decide) ?_
  refine g_icmp_ne (q := 7) (tgt := 20) C d_Wr_moved_4 rfl (by decide) (fun hq => ?_) (fun hq => ?_)
  · have hq : less ≠ 16384 := fun e => hq (by rw [e])
    have hwd : wd less c = (2 * (c.1 - less), 2 * (c.2.1 - less) + 1, 0, c.2.2.2.1 + 1 + c.2.2.1, wput (if less = 32768 then 1 else 0) c.2.2.1 c.2.2.2.1 c.2.2.2.2) := by unfold wd; rw [if_neg hq]
    have h32 : ∀ v, v = (if less = 32768 then 1 else 0) → G E 0 0 32 [some (.ref a), some (.int (nI less))] [.int (nI v), .ref a] (ww (xG E) a ca f g) := by
      intro v hv
      refine wc_26 (q := 35) C hR (c_Wr_put (v := v) (by rw [hv]; split <;> decide) hn h0 h1 hB hB2) d_Wr_moved_32 rfl (by decide) (by decide) (by decide) (Nat.le_of_ble_eq_true rfl) (fun f2 g2 hp => ?_)
      obtain ⟨e0, e1, e2, e3, eB⟩ := hp
      refine g_vret C F d_Wr_moved_35 (Nat.le_refl _) (Nat.le_refl _) ⟨rfl, _, _, rfl, ?_⟩
      rw [hwd]
      exact ⟨e0, e1, e2.trans h2, e3.trans h3, by rw [← hv]; exact eB⟩
    refine g_aload_0 (q := 21) C d_Wr_moved_20 rfl ?_
    refine g_iload_1 (q := 22) C d_Wr_moved_21 rfl ?_
    refine g_ldc (v := nI 32768) (q := 24) C d_Wr_moved_22 rfl w_425 ?_
    refine g_icmp_ne (q := 27) (tgt := 31) C d_Wr_moved_24 rfl (by decide) (fun hx => ?_) (fun hx => ?_)
    · refine g_iconst (v := nI 0) (q := 32) C d_Wr_moved_31 rfl (by decide) ?_
      exact h32 0 (by rw [if_neg (fun e => hx (by rw [e]))])
    · refine g_iconst (v := nI 1) (q := 28) C d_Wr_moved_27 rfl (by decide) ?_
      refine g_goto (tgt := 32) C d_Wr_moved_28 (by decide) ?_
      exact h32 1 (by rw [if_pos ((nI_eq (by omega) (by decide)).mp (Decidable.not_not.mp hx))])
  · have hq : less = 16384 := (nI_eq (by omega) (by decide)).mp (Decidable.not_not.mp hq)
    have hwd : wd less c = (2 * (c.1 - less), 2 * (c.2.1 - less) + 1, c.2.2.1 + 1, c.2.2.2.1, c.2.2.2.2) := by unfold wd; rw [if_pos hq]
    refine g_aload_0 (q := 8) C d_Wr_moved_7 rfl ?_
    refine g_dup_r (q := 9) C d_Wr_moved_8 rfl ?_
    refine wg_22 (q := 12) C d_Wr_moved_9 rfl h1 ?_
    refine g_iconst (v := nI 1) (q := 13) C d_Wr_moved_12 rfl (by decide) ?_
    refine g_iadd (q := 14) C d_Wr_moved_13 rfl (nI_1 _) ?_
    refine wp_22 (q := 17) C d_Wr_moved_14 rfl ?_
    refine g_goto (tgt := 35) C d_Wr_moved_17 (by decide) ?_
    refine g_vret C F d_Wr_moved_35 (Nat.le_refl _) (Nat.le_refl _) ⟨rfl, _, _, rfl, ?_⟩
    rw [hwd]
    exact ⟨h0, rfl, h2, h3, hB⟩
theorem c_Wr_widen {less : Nat} {c : Cd} (hl : less = 0 ∨ less = 16384 ∨ less = 32768) (hW : WC f g c) (h1 : less ≤ c.1) (h2 : c.1 ≤ c.2.1) (hn : c.2.2.2.1 + 1 + c.2.2.1 ≤ 32768) (hB2 : ∀ i, c.2.2.2.2 i < 256) :
    Ct l Γ y_Ra_widen b_Ra_widen 2 none 3 0 0 [.ref a, .int (nI less)] (ww Γ a ca f g) (pvw Γ a ca (fun f' g' => WC f' g' (wd less c))) := by
  obtain ⟨w0, w1, w2, w3, wB⟩ := hW
  refine Ct.of (by decide) (by simp [Value.category]) (Nat.le_of_ble_eq_true rfl) (fun E eG el en C hR F hnm => ?_)
  subst eG
  subst el
  have hL : 2 ≤ xn E := Nat.le_of_eq en.symm
  show G E 0 0 0 [some (.ref a), some (.int (nI less))] [] (ww (xG E) a ca f g)
  refine g_aload_0 (q := 1) C d_Ra_widen_0 rfl ?_
  refine g_iconst (v := nI 2) (q := 2) C d_Ra_widen_1 rfl (by decide) ?_
  refine g_aload_0 (q := 3) C d_Ra_widen_2 rfl ?_
  refine rgW_9 (q := 6) C d_Ra_widen_3 rfl w2 ?_
  refine g_iload_1 (q := 7) C d_Ra_widen_6 rfl ?_
  refine g_isub (q := 8) C d_Ra_widen_7 rfl (pk_sub h1) ?_
  refine g_imul (q := 9) C d_Ra_widen_8 rfl (pk_mul _ _) ?_
  refine rpW_9 (q := 12) C d_Ra_widen_9 rfl ?_
  refine g_aload_0 (q := 13) C d_Ra_widen_12 rfl ?_
  refine g_iconst (v := nI 2) (q := 14) C d_Ra_widen_13 rfl (by decide) ?_
  refine g_aload_0 (q := 15) C d_Ra_widen_14 rfl ?_
  refine rgW_16 (q := 18) C d_Ra_widen_15 rfl w3 ?_
  refine g_iload_1 (q := 19) C d_Ra_widen_18 rfl ?_
  refine g_isub (q := 20) C d_Ra_widen_19 rfl (pk_sub (Nat.le_trans h1 h2)) ?_
  refine g_imul (q := 21) C d_Ra_widen_20 rfl (pk_mul _ _) ?_
  refine g_iconst (v := nI 1) (q := 22) C d_Ra_widen_21 rfl (by decide) ?_
  refine g_iadd (q := 23) C d_Ra_widen_22 rfl (nI_add _ _) ?_
  refine rpW_16 (q := 26) C d_Ra_widen_23 rfl ?_
  refine g_aload_0 (q := 27) C d_Ra_widen_26 rfl ?_
  refine g_iload_1 (q := 28) C d_Ra_widen_27 rfl ?_
  refine rcW_25 (q := 31) C hR (c_Wr_moved (c := c) hl hn w0 w1 rfl rfl wB hB2) d_Ra_widen_28 rfl (by decide) (by decide) (by decide) (Nat.le_of_ble_eq_true rfl) (fun f2 g2 hp => ?_)
  obtain ⟨e0, e1, e2, e3, eB⟩ := hp
  refine g_vret C F d_Ra_widen_31 (Nat.le_refl _) (Nat.le_refl _) ⟨rfl, _, _, rfl, e0, e1, ?_, ?_, eB⟩
  · rw [e2]; unfold wd; split <;> rfl
  · rw [e3]; unfold wd; split <;> rfl
theorem c_Wr_span {s : Sp} {c : Cd} (hW : WC f g c) (hc : CdOk c) (hs : SpOk s) (hn : c.2.2.1 + c.2.2.2.1 + 17 ≤ 32768) :
    Ct l Γ y_Ra_span b_Ra_span 5 none 4 0 0 [.ref a, .int (nI s.1), .int (nI s.2.1), .int (nI s.2.2)] (ww Γ a ca f g) (pvw Γ a ca (fun f' g' => WC f' g' (wspan s c))) := by
  obtain ⟨fr, len, of⟩ := s
  obtain ⟨lo, hi, h, n, B⟩ := c
  obtain ⟨w0, w1, w2, w3, wB⟩ := hW
  obtain ⟨k1, k2, k3, k4, k5⟩ := hc
  obtain ⟨s1, s2, s3⟩ := hs
  simp only at w0 w1 w2 w3 wB k1 k2 k3 k4 k5 s1 s2 s3 hn
  obtain ⟨n1, n2, n3⟩ := nar_ok k1 k2 k3 k4 s1 s2 s3
  refine Ct.of (by decide) (by simp [Value.category]) (Nat.le_of_ble_eq_true rfl) (fun E eG el en C hR F hnm => ?_)
  subst eG
  subst el
  have hL : 5 ≤ xn E := Nat.le_of_eq en.symm
  show G E 0 0 0 [some (.ref a), some (.int (nI fr)), some (.int (nI len)), some (.int (nI of)), none] [] (ww (xG E) a ca f g)
  have loop : ∀ (m : Nat) (c1 : Cd) (f1 : Nat → Int32) (g1 : Nat → Int32) (l4 : Option Value), WC f1 g1 c1 → c1.1 ≤ c1.2.1 → c1.2.1 < 65536 → 65536 < (c1.2.1 - c1.1 + 1) * 2 ^ m → c1.2.2.2.1 + c1.2.2.1 + m ≤ 32768 → (∀ i, c1.2.2.2.2 i < 256) → wn m c1 = wspan (fr, len, of) (lo, hi, h, n, B) → G E 0 0 47 [some (.ref a), some (.int (nI fr)), some (.int (nI len)), some (.int (nI of)), l4] [] (ww (xG E) a ca f1 g1) := by
    intro m
    induction m with
    | zero => intro c1 f1 g1 l4 hW a1 a2 a3; omega
    | succ m ih =>
      intro c1 f1 g1 l4 hW a1 a2 a3 a4 aB he
      have hW' := hW
      obtain ⟨b0, b1, b2, b3, bB⟩ := hW'
      -- a widening by less, and on
      have go : ∀ (less : Nat), (less = 0 ∨ less = 16384 ∨ less = 32768) → less ≤ c1.1 → c1.2.1 < less + 32768 → wn m (wd less c1) = wspan (fr, len, of) (lo, hi, h, n, B) → ∀ f2 g2, WC f2 g2 (wd less c1) → G E 0 0 47 [some (.ref a), some (.int (nI fr)), some (.int (nI len)), some (.int (nI of)), l4] [] (ww (xG E) a ca f2 g2) := by
        intro less hl e1 e2 e3 f2 g2 hW2
        have x1 : (wd less c1).1 = 2 * (c1.1 - less) := by unfold wd; split <;> rfl
        have x2 : (wd less c1).2.1 = 2 * (c1.2.1 - less) + 1 := by unfold wd; split <;> rfl
        have x3 : (wd less c1).2.2.2.1 + (wd less c1).2.2.1 ≤ c1.2.2.2.1 + c1.2.2.1 + 1 := by
          unfold wd
          split
          · show c1.2.2.2.1 + (c1.2.2.1 + 1) ≤ _; omega
          · show c1.2.2.2.1 + 1 + c1.2.2.1 + 0 ≤ _; omega
        refine ih (wd less c1) f2 g2 l4 hW2 (by omega) (by omega) ?_ (by omega) ?_ e3
        · rw [Nat.pow_succ] at a3
          rw [x1, x2, show 2 * (c1.2.1 - less) + 1 - 2 * (c1.1 - less) + 1 = 2 * (c1.2.1 - c1.1 + 1) by omega]
          calc 65536 < _ := a3
            _ = _ := by rw [Nat.mul_comm (2 ^ m) 2, ← Nat.mul_assoc, Nat.mul_comm (c1.2.1 - c1.1 + 1) 2]
        · unfold wd
          split
          · exact aB
          · exact wput_lt (by split <;> decide) aB
      obtain ⟨lo1, hi1, h1, m1, B1⟩ := c1
      simp only at a1 a2 a3 a4 aB b0 b1 b2 b3
      simp only at go
      unfold wn at he
      refine g_aload_0 (q := 48) C d_Ra_span_47 rfl ?_
      refine rgW_16 (q := 51) C d_Ra_span_48 rfl b3 ?_
      refine g_ldc (v := nI 32768) (q := 53) C d_Ra_span_51 rfl w_407 ?_
      refine g_icmp_ge (q := 56) (tgt := 64) C d_Ra_span_53 rfl (by decide) (fun hz => ?_) (fun hz => ?_)
      · have hz := (nI_leI (by omega) (by omega)).mp hz
        rw [if_neg (by omega)] at he
        refine g_aload_0 (q := 65) C d_Ra_span_64 rfl ?_
        refine rgW_9 (q := 68) C d_Ra_span_65 rfl b2 ?_
        refine g_ldc (v := nI 32768) (q := 70) C d_Ra_span_68 rfl w_407 ?_
        refine g_icmp_lt (q := 73) (tgt := 82) C d_Ra_span_70 rfl (by decide) (fun hz2 => ?_) (fun hz2 => ?_)
        · have hz2 := (nI_ltI (by omega) (by omega)).mp hz2
          rw [if_neg (by omega)] at he
          have h111 : ¬ (16384 ≤ lo1 ∧ hi1 < 49152) → G E 0 0 111 [some (.ref a), some (.int (nI fr)), some (.int (nI len)), some (.int (nI of)), l4] [] (ww (xG E) a ca f1 g1) := by
            intro hno
            rw [if_neg hno] at he
            exact g_vret C F d_Ra_span_111 (Nat.le_refl _) (Nat.le_refl _) ⟨rfl, _, _, rfl, by rw [← he]; exact hW⟩
          refine g_aload_0 (q := 83) C d_Ra_span_82 rfl ?_
          refine rgW_9 (q := 86) C d_Ra_span_83 rfl b2 ?_
          refine g_sipush (v := nI 16384) (q := 89) C d_Ra_span_86 rfl (by decide) ?_
          refine g_icmp_lt (q := 92) (tgt := 111) C d_Ra_span_89 rfl (by decide) (fun hx => ?_) (fun hx => ?_)
          · have hx := (nI_ltI (by omega) (by omega)).mp hx
            exact h111 (by omega)
          have hx : 16384 ≤ lo1 := Nat.le_of_not_lt (fun e => hx ((nI_ltI (by omega) (by omega)).mpr e))
          refine g_aload_0 (q := 93) C d_Ra_span_92 rfl ?_
          refine rgW_16 (q := 96) C d_Ra_span_93 rfl b3 ?_
          refine g_ldc (v := nI 49152) (q := 98) C d_Ra_span_96 rfl w_434 ?_
          refine g_icmp_ge (q := 101) (tgt := 111) C d_Ra_span_98 rfl (by decide) (fun hy => ?_) (fun hy => ?_)
          · have hy := (nI_leI (by omega) (by omega)).mp hy
            exact h111 (by omega)
          have hy : hi1 < 49152 := Nat.lt_of_not_le (fun e => hy ((nI_leI (by omega) (by omega)).mpr e))
          rw [if_pos ⟨hx, hy⟩] at he
          refine g_aload_0 (q := 102) C d_Ra_span_101 rfl ?_
          refine g_sipush (v := nI 16384) (q := 105) C d_Ra_span_102 rfl (by decide) ?_
          refine rcW_20 (q := 108) C hR (c_Wr_widen (less := 16384) (Or.inr (Or.inl rfl)) hW hx a1 (by show m1 + 1 + h1 ≤ 32768; omega) aB) d_Ra_span_105 rfl (by decide) (by decide) (by decide) (Nat.le_of_ble_eq_true rfl) (fun f2 g2 hp => ?_)
          refine g_goto (tgt := 47) C d_Ra_span_108 (by decide) ?_
          exact go 16384 (Or.inr (Or.inl rfl)) hx (by omega) he f2 g2 hp
        · have hz2 : 32768 ≤ lo1 := Nat.le_of_not_lt (fun e => hz2 ((nI_ltI (by omega) (by omega)).mpr e))
          rw [if_pos hz2] at he
          refine g_aload_0 (q := 74) C d_Ra_span_73 rfl ?_
          refine g_ldc (v := nI 32768) (q := 76) C d_Ra_span_74 rfl w_407 ?_
          refine rcW_20 (q := 79) C hR (c_Wr_widen (less := 32768) (Or.inr (Or.inr rfl)) hW hz2 a1 (by show m1 + 1 + h1 ≤ 32768; omega) aB) d_Ra_span_76 rfl (by decide) (by decide) (by decide) (Nat.le_of_ble_eq_true rfl) (fun f2 g2 hp => ?_)
          refine g_goto (tgt := 47) C d_Ra_span_79 (by decide) ?_
          exact go 32768 (Or.inr (Or.inr rfl)) hz2 (by omega) he f2 g2 hp
      · have hz : hi1 < 32768 := Nat.lt_of_not_le (fun e => hz ((nI_leI (by omega) (by omega)).mpr e))
        rw [if_pos hz] at he
        refine g_aload_0 (q := 57) C d_Ra_span_56 rfl ?_
        refine g_iconst (v := nI 0) (q := 58) C d_Ra_span_57 rfl (by decide) ?_
        refine rcW_20 (q := 61) C hR (c_Wr_widen (less := 0) (Or.inl rfl) hW (Nat.zero_le _) a1 (by show m1 + 1 + h1 ≤ 32768; omega) aB) d_Ra_span_58 rfl (by decide) (by decide) (by decide) (Nat.le_of_ble_eq_true rfl) (fun f2 g2 hp => ?_)
        refine g_goto (tgt := 47) C d_Ra_span_61 (by decide) ?_
        exact go 0 (Or.inl rfl) (Nat.zero_le _) (by omega) he f2 g2 hp
  have m1 : (hi - lo + 1) * (fr + len) ≤ 65536 * 16384 := Nat.mul_le_mul (by omega) (by omega)
  have m2 : (hi - lo + 1) * fr ≤ 65536 * 16384 := Nat.mul_le_mul (by omega) (by omega)
  have hne : ¬ nI of = 0 := fun e => absurd ((nI0 (by omega)).mp e) (by omega)
  have hw : 1 ≤ (hi - lo + 1) * (fr + len) / of := by
    rw [Nat.le_div_iff_mul_le (by omega)]
    have : (hi - lo + 1) * 1 ≤ (hi - lo + 1) * (fr + len) := Nat.mul_le_mul_left _ (by omega)
    omega
  have hnL : narL fr of lo hi = lo + (hi - lo + 1) * fr / of := rfl
  have hnH : narH fr len of lo hi = lo + (hi - lo + 1) * (fr + len) / of - 1 := rfl
  generalize hr : hi - lo + 1 = r at m1 m2 hw hnL hnH
  refine g_aload_0 (q := 1) C d_Ra_span_0 rfl ?_
  refine rgW_16 (q := 4) C d_Ra_span_1 rfl w3 ?_
  refine g_aload_0 (q := 5) C d_Ra_span_4 rfl ?_
  refine rgW_9 (q := 8) C d_Ra_span_5 rfl w2 ?_
  refine g_isub (q := 9) C d_Ra_span_8 rfl (pk_sub (by omega)) ?_
  refine g_iconst (v := nI 1) (q := 10) C d_Ra_span_9 rfl (by decide) ?_
  refine g_iadd (q := 11) C d_Ra_span_10 rfl (by rw [nI_add, hr]) ?_
  refine g_istore_4 (q := 13) C hL d_Ra_span_11 rfl ?_
  refine g_aload_0 (q := 14) C d_Ra_span_13 rfl ?_
  refine g_aload_0 (q := 15) C d_Ra_span_14 rfl ?_
  refine rgW_9 (q := 18) C d_Ra_span_15 rfl w2 ?_
  refine g_iload_4 (q := 20) C d_Ra_span_18 rfl ?_
  refine g_iload_1 (q := 21) C d_Ra_span_20 rfl ?_
  refine g_iload_2 (q := 22) C d_Ra_span_21 rfl ?_
  refine g_iadd (q := 23) C d_Ra_span_22 rfl (nI_add _ _) ?_
  refine g_imul (q := 24) C d_Ra_span_23 rfl (pk_mul _ _) ?_
  refine g_iload_3 (q := 25) C d_Ra_span_24 rfl ?_
  refine g_idiv (q := 26) C d_Ra_span_25 rfl hne (pk_div (by omega) (by omega) (by omega)) ?_
  refine g_iadd (q := 27) C d_Ra_span_26 rfl (nI_add _ _) ?_
  refine g_iconst (v := nI 1) (q := 28) C d_Ra_span_27 rfl (by decide) ?_
  refine g_isub (q := 29) C d_Ra_span_28 rfl (pk_sub (Nat.le_trans hw (Nat.le_add_left _ _))) ?_
  refine rpW_16 (q := 32) C d_Ra_span_29 rfl ?_
  refine g_aload_0 (q := 33) C d_Ra_span_32 rfl ?_
  refine g_dup_r (q := 34) C d_Ra_span_33 rfl ?_
  refine rgW_9 (q := 37) C d_Ra_span_34 rfl w2 ?_
  refine g_iload_4 (q := 39) C d_Ra_span_37 rfl ?_
  refine g_iload_1 (q := 40) C d_Ra_span_39 rfl ?_
  refine g_imul (q := 41) C d_Ra_span_40 rfl (pk_mul _ _) ?_
  refine g_iload_3 (q := 42) C d_Ra_span_41 rfl ?_
  refine g_idiv (q := 43) C d_Ra_span_42 rfl hne (pk_div (by omega) (by omega) (by omega)) ?_
  refine g_iadd (q := 44) C d_Ra_span_43 rfl (nI_add _ _) ?_
  refine rpW_9 (q := 47) C d_Ra_span_44 rfl ?_
  refine loop 17 (narL fr of lo hi, narH fr len of lo hi, h, n, B) _ _ _ ⟨w0, w1, by rw [hnL]; rfl, by rw [hnH]; rfl, wB⟩ n1 (Nat.lt_of_le_of_lt n2 k3) ?_ (by show n + h + 17 ≤ _; omega) k5 rfl
  have : 1 * 2 ^ 17 ≤ (narH fr len of lo hi - narL fr of lo hi + 1) * 2 ^ 17 := Nat.mul_le_mul_right _ (by omega)
  show 65536 < (narH fr len of lo hi - narL fr of lo hi + 1) * 2 ^ 17
  omega
theorem c_RaW_begin : Ct l Γ y_Ra_begin b_Ra_begin 1 none 0 0 0 [.ref a] (ww Γ a ca f g) (pvw Γ a ca (fun f' g' => f' = upd (upd f 2 (nI 0)) 3 (nI 65535) ∧ g' = g)) := by
  refine Ct.of (by decide) (by simp [Value.category]) (Nat.le_of_ble_eq_true rfl) (fun E eG el en C hR F hnm => ?_)
  subst eG
  subst el
  have hL : 1 ≤ xn E := Nat.le_of_eq en.symm
  show G E 0 0 0 [some (.ref a)] [] (ww (xG E) a ca f g)
  refine g_aload_0 (q := 1) C d_Ra_begin_0 rfl ?_
  refine g_iconst (v := nI 0) (q := 2) C d_Ra_begin_1 rfl (by decide) ?_
  refine rpW_9 (q := 5) C d_Ra_begin_2 rfl ?_
  refine g_aload_0 (q := 6) C d_Ra_begin_5 rfl ?_
  refine g_ldc (v := nI 65535) (q := 8) C d_Ra_begin_6 rfl w_350 ?_
  refine rpW_16 (q := 11) C d_Ra_begin_8 rfl ?_
  exact g_vret C F d_Ra_begin_11 (Nat.le_refl _) (Nat.le_refl _) ⟨rfl, _, _, rfl, rfl, rfl⟩
theorem c_Wr_begin : Ct l Γ y_Wr_begin b_Wr_begin 1 none 1 0 0 [.ref a] (ww Γ a ca f g) (pvw Γ a ca (fun f' g' => WC f' g' c0)) := by
  refine Ct.of (by decide) (by simp [Value.category]) (Nat.le_of_ble_eq_true rfl) (fun E eG el en C hR F hnm => ?_)
  subst eG
  subst el
  have hL : 1 ≤ xn E := Nat.le_of_eq en.symm
  show G E 0 0 0 [some (.ref a)] [] (ww (xG E) a ca f g)
  refine g_aload_0 (q := 1) C d_Wr_begin_0 rfl ?_
  refine wc_15 (q := 4) C hR c_RaW_begin d_Wr_begin_1 rfl (by decide) (by decide) (by decide) (Nat.le_of_ble_eq_true rfl) (fun f2 g2 hp => ?_)
  obtain ⟨rfl, rfl⟩ := hp
  refine g_aload_0 (q := 5) C d_Wr_begin_4 rfl ?_
  refine g_iconst (v := nI 0) (q := 6) C d_Wr_begin_5 rfl (by decide) ?_
  refine wp_18 (q := 9) C d_Wr_begin_6 rfl ?_
  refine g_aload_0 (q := 10) C d_Wr_begin_9 rfl ?_
  refine g_iconst (v := nI 0) (q := 11) C d_Wr_begin_10 rfl (by decide) ?_
  refine wp_22 (q := 14) C d_Wr_begin_11 rfl ?_
  exact g_vret C F d_Wr_begin_14 (Nat.le_refl _) (Nat.le_refl _) ⟨rfl, _, _, rfl, rfl, rfl, rfl, rfl, fun i hi => absurd hi (Nat.not_lt_zero _)⟩
theorem c_Wr_end {c : Cd} (hW : WC f g c) (hc : CdOk c) (hn : c.2.2.1 + c.2.2.2.1 + 2 ≤ 32768) :
    Ct l Γ y_Wr_end b_Wr_end 1 (some .int) 2 0 0 [.ref a] (ww Γ a ca f g) (piw Γ a ca (fun x f' g' => x = nI (((cend c).2.2.2.1 + 7) / 8) ∧ WC f' g' (cend c))) := by
  obtain ⟨lo, hi, h, n, B⟩ := c
  obtain ⟨w0, w1, w2, w3, wB⟩ := hW
  obtain ⟨k1, k2, k3, k4, k5⟩ := hc
  simp only at w0 w1 w2 w3 wB k1 k2 k3 k4 k5 hn
  have hce : cend (lo, hi, h, n, B) = (lo, hi, 0, n + 1 + (h + 1), wput (if lo < 16384 then 0 else 1) (h + 1) n B) := rfl
  refine Ct.of (by decide) (by simp [Value.category]) (Nat.le_of_ble_eq_true rfl) (fun E eG el en C hR F hnm => ?_)
  subst eG
  subst el
  have hL : 1 ≤ xn E := Nat.le_of_eq en.symm
  show G E 0 0 0 [some (.ref a)] [] (ww (xG E) a ca f g)
  have h26 : ∀ (v : Nat) (f2 : Nat → Int32), v = (if lo < 16384 then 0 else 1) → f2 = upd f 1 (nI (h + 1)) → G E 0 0 26 [some (.ref a)] [.int (nI v), .ref a] (ww (xG E) a ca f2 g) := by
    intro v f2 hv hf2
    subst hf2
    refine wc_26 (q := 29) C hR (c_Wr_put (v := v) (h := h + 1) (n := n) (B := B) (by rw [hv]; split <;> decide) (by omega) w0 upd_s wB k5) d_Wr_end_26 rfl (by decide) (by decide) (by decide) (Nat.le_of_ble_eq_true rfl) (fun f3 g3 hp => ?_)
    obtain ⟨e0, e1, e2, e3, eB⟩ := hp
    refine g_aload_0 (q := 30) C d_Wr_end_29 rfl ?_
    refine wg_18 (q := 33) C d_Wr_end_30 rfl e0 ?_
    refine g_bipush (v := nI 7) (q := 35) C d_Wr_end_33 rfl (by decide) ?_
    refine g_iadd (q := 36) C d_Wr_end_35 rfl (nI_add _ _) ?_
    refine g_bipush (v := nI 8) (q := 38) C d_Wr_end_36 rfl (by decide) ?_
    refine g_idiv (q := 39) C d_Wr_end_38 rfl (by decide) (pk_div (d := 8) (by omega) (by decide) (by decide)) ?_
    refine g_iret C F d_Wr_end_39 (Nat.le_refl _) (Nat.le_refl _) ⟨_, _, _, rfl, rfl, by rw [hce], ?_⟩
    rw [hce]
    exact ⟨e0, e1, e2.trans w2, e3.trans w3, by rw [← hv]; exact eB⟩
  refine g_aload_0 (q := 1) C d_Wr_end_0 rfl ?_
  refine g_dup_r (q := 2) C d_Wr_end_1 rfl ?_
  refine wg_22 (q := 5) C d_Wr_end_2 rfl w1 ?_
  refine g_iconst (v := nI 1) (q := 6) C d_Wr_end_5 rfl (by decide) ?_
  refine g_iadd (q := 7) C d_Wr_end_6 rfl (nI_1 _) ?_
  refine wp_22 (q := 10) C d_Wr_end_7 rfl ?_
  refine g_aload_0 (q := 11) C d_Wr_end_10 rfl ?_
  refine g_aload_0 (q := 12) C d_Wr_end_11 rfl ?_
  refine wg_33 (q := 15) C d_Wr_end_12 rfl w2 ?_
  refine g_sipush (v := nI 16384) (q := 18) C d_Wr_end_15 rfl (by decide) ?_
  refine g_icmp_ge (q := 21) (tgt := 25) C d_Wr_end_18 rfl (by decide) (fun hq => ?_) (fun hq => ?_)
  · have hq := (nI_leI (by omega) (by omega)).mp hq
    refine g_iconst (v := nI 1) (q := 26) C d_Wr_end_25 rfl (by decide) ?_
    exact h26 1 _ (by rw [if_neg (by omega)]) rfl
  · have hq : lo < 16384 := Nat.lt_of_not_le (fun e => hq ((nI_leI (by omega) (by omega)).mpr e))
    refine g_iconst (v := nI 0) (q := 22) C d_Wr_end_21 rfl (by decide) ?_
    refine g_goto (tgt := 26) C d_Wr_end_22 (by decide) ?_
    exact h26 0 _ (by rw [if_pos hq]) rfl
end
