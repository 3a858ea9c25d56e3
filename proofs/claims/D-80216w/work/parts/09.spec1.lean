/-! THE PLAIN MODEL, part 1: the coder. A coder is (low, high, held, bits, bytes). -/
def wb (v n : Nat) (B : Nat → Nat) : Nat → Nat := fun i => if i = n / 8 then (if n % 8 = 0 then 0 else B i) ||| (v * 2 ^ (7 - n % 8)) else B i
/-- h bits v -/
def wr (v : Nat) : Nat → Nat → (Nat → Nat) → (Nat → Nat)
  | 0, _, B => B
  | h + 1, n, B => wr v h (n + 1) (wb v n B)
abbrev Cd : Type := Nat × Nat × Nat × Nat × (Nat → Nat)
def wput (v h n : Nat) (B : Nat → Nat) : Nat → Nat := wr (1 - v) h (n + 1) (wb v n B)
def wn : Nat → Cd → Cd
  | 0, c => c
  | m + 1, (lo, hi, h, n, B) =>
    if hi < 32768 then wn m (2 * lo, 2 * hi + 1, 0, n + 1 + h, wput 0 h n B)
    else if 32768 ≤ lo then wn m (2 * (lo - 32768), 2 * (hi - 32768) + 1, 0, n + 1 + h, wput 1 h n B)
    else if 16384 ≤ lo ∧ hi < 49152 then wn m (2 * (lo - 16384), 2 * (hi - 16384) + 1, h + 1, n, B)
    else (lo, hi, h, n, B)
def narL (fr of lo hi : Nat) : Nat := lo + (hi - lo + 1) * fr / of
def narH (fr len of lo hi : Nat) : Nat := lo + (hi - lo + 1) * (fr + len) / of - 1
def wspan (s : Nat × Nat × Nat) (c : Cd) : Cd := wn 17 (narL s.1 s.2.2 c.1 c.2.1, narH s.1 s.2.1 s.2.2 c.1 c.2.1, c.2.2)
/-- a coder between spans -/
def CdOk (c : Cd) : Prop := c.1 < 32768 ∧ 32768 ≤ c.2.1 ∧ c.2.1 < 65536 ∧ (c.1 < 16384 ∨ 49152 ≤ c.2.1) ∧ ∀ i, c.2.2.2.2 i < 256
theorem wb_lt {v n : Nat} {B : Nat → Nat} (hv : v < 2) (hB : ∀ i, B i < 256) (i : Nat) : wb v n B i < 256 := by
  unfold wb
  split
  · refine Nat.or_lt_two_pow (n := 8) ?_ ?_
    · split
      · decide
      · exact hB i
    · have : 2 ^ (7 - n % 8) ≤ 2 ^ 7 := Nat.pow_le_pow_right (by decide) (by omega)
      have h2 : v * 2 ^ (7 - n % 8) ≤ 1 * 2 ^ 7 := Nat.mul_le_mul (by omega) this
      omega
  · exact hB i
theorem wr_lt {v : Nat} (hv : v < 2) : ∀ (h n : Nat) (B : Nat → Nat), (∀ i, B i < 256) → ∀ i, wr v h n B i < 256
  | 0, _, _, hB, i => hB i
  | h + 1, n, B, hB, i => wr_lt hv h (n + 1) _ (wb_lt hv hB) i
theorem wput_lt {v h n : Nat} {B : Nat → Nat} (hv : v < 2) (hB : ∀ i, B i < 256) (i : Nat) : wput v h n B i < 256 := wr_lt (by omega) h _ _ (wb_lt hv hB) i
/-- a bit's place doesn't touch earlier bytes -/
theorem wb_old {v n i : Nat} {B : Nat → Nat} (h : i ≠ n / 8) : wb v n B i = B i := by unfold wb; rw [if_neg h]
theorem nar_ok {fr len of lo hi : Nat} (h1 : lo < 32768) (h2 : 32768 ≤ hi) (h3 : hi < 65536) (h4 : lo < 16384 ∨ 49152 ≤ hi) (hl : 0 < len) (ho : fr + len ≤ of) (h5 : of ≤ 16384) :
    narL fr of lo hi ≤ narH fr len of lo hi ∧ narH fr len of lo hi ≤ hi ∧ lo ≤ narL fr of lo hi := by
  unfold narL narH
  have hr : 16384 ≤ hi - lo + 1 := by omega
  generalize hR : hi - lo + 1 = r at hr
  have hof : 0 < of := by omega
  have a1 : r * fr / of + 1 ≤ r * (fr + len) / of := by
    rw [Nat.le_div_iff_mul_le hof, Nat.add_mul, Nat.one_mul, Nat.mul_add]
    have b1 : r * fr / of * of ≤ r * fr := Nat.div_mul_le_self _ _
    have b2 : r * 1 ≤ r * len := Nat.mul_le_mul_left _ hl
    omega
  have a2 : r * (fr + len) / of ≤ r := by
    have : r * (fr + len) ≤ r * of := Nat.mul_le_mul_left _ ho
    calc r * (fr + len) / of ≤ r * of / of := Nat.div_le_div_right this
      _ = r := Nat.mul_div_cancel _ hof
  generalize r * fr / of = u at a1
  generalize r * (fr + len) / of = w at a1 a2
  omega
/-- 17 widenings are enough, and how many bits they make -/
theorem wn_ok : ∀ (m : Nat) (c : Cd), c.1 ≤ c.2.1 → c.2.1 < 65536 → 65536 < (c.2.1 - c.1 + 1) * 2 ^ m → (∀ i, c.2.2.2.2 i < 256) → CdOk (wn m c) ∧ (wn m c).2.2.1 + (wn m c).2.2.2.1 ≤ c.2.2.1 + c.2.2.2.1 + m - 1
  | 0, (lo, hi, h, n, B), h1, h2, h3, _ => by simp only [Nat.pow_zero, Nat.mul_one] at h3; simp only at h1 h2 h3; omega
  | m + 1, (lo, hi, h, n, B), h1, h2, h3, hB => by
    simp only at h1 h2 h3 hB
    have hm : m = 0 → 65536 < (hi - lo + 1) * 2 := fun e => by subst e; simpa using h3
    have key : ∀ lo' hi' h' n' B', lo' ≤ hi' → hi' < 65536 → hi' - lo' + 1 = 2 * (hi - lo + 1) → (∀ i, B' i < 256) → h' + n' ≤ h + n + 1 → CdOk (wn m (lo', hi', h', n', B')) ∧ (wn m (lo', hi', h', n', B')).2.2.1 + (wn m (lo', hi', h', n', B')).2.2.2.1 ≤ h + n + (m + 1) - 1 := by
      intro lo' hi' h' n' B' a1 a2 a3 a4 a5
      have hm0 : m ≠ 0 := fun e => by have := hm e; omega
      have := wn_ok m (lo', hi', h', n', B') a1 a2 (by simp only; rw [a3]; rw [Nat.pow_succ] at h3; calc 65536 < _ := h3
        _ = _ := by rw [Nat.mul_comm (2 ^ m) 2, ← Nat.mul_assoc, Nat.mul_comm (hi - lo + 1) 2]) a4
      simp only at this
      exact ⟨this.1, by omega⟩
    unfold wn
    split
    · rename_i hh
      exact key _ _ _ _ _ (by omega) (by omega) (by omega) (wput_lt (by decide) hB) (by omega)
    · split
      · rename_i _ hl
        exact key _ _ _ _ _ (by omega) (by omega) (by omega) (wput_lt (by decide) hB) (by omega)
      · split
        · rename_i hh hl hq
          exact key _ _ _ _ _ (by omega) (by omega) (by omega) hB (by omega)
        · rename_i hh hl hq
          refine ⟨⟨by simp only; omega, by simp only; omega, h2, ?_, hB⟩, by simp only; omega⟩
          simp only
          by_cases hx : lo < 16384
          · exact Or.inl hx
          · exact Or.inr (by have : ¬ hi < 49152 := fun e => hq ⟨by omega, e⟩; omega)
theorem wspan_ok {s : Nat × Nat × Nat} {c : Cd} (hc : CdOk c) (hl : 0 < s.2.1) (ho : s.1 + s.2.1 ≤ s.2.2) (h5 : s.2.2 ≤ 16384) : CdOk (wspan s c) ∧ (wspan s c).2.2.1 + (wspan s c).2.2.2.1 ≤ c.2.2.1 + c.2.2.2.1 + 16 := by
  obtain ⟨h1, h2, h3, h4, hB⟩ := hc
  obtain ⟨a1, a2, a3⟩ := nar_ok h1 h2 h3 h4 hl ho h5
  have := wn_ok 17 (narL s.1 s.2.2 c.1 c.2.1, narH s.1 s.2.1 s.2.2 c.1 c.2.1, c.2.2) a1 (Nat.lt_of_le_of_lt a2 h3) (by
    simp only
    have : 1 * 2 ^ 17 ≤ (narH s.1 s.2.1 s.2.2 c.1 c.2.1 - narL s.1 s.2.2 c.1 c.2.1 + 1) * 2 ^ 17 := Nat.mul_le_mul_right _ (by omega)
    omega) hB
  exact this
