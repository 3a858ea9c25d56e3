/-! THE PLAIN MODEL, part 2: trees (nodes, parent, byte, count, latest many, latest) -/
abbrev Tr : Type := Nat × (Nat → Nat) × (Nat → Nat) × (Nat → Nat) × Nat × (Nat → Nat)
abbrev tN (T : Tr) : Nat := T.1
abbrev tP (T : Tr) : Nat → Nat := T.2.1
abbrev tB (T : Tr) : Nat → Nat := T.2.2.1
abbrev tC (T : Tr) : Nat → Nat := T.2.2.2.1
abbrev tL (T : Tr) : Nat := T.2.2.2.2.1
abbrev tE (T : Tr) : Nat → Nat := T.2.2.2.2.2
/-- the child of v by the byte b among the nodes below n; 0: none -/
def ch (par byt : Nat → Nat) (v b : Nat) : Nat → Nat
  | 0 => 0
  | i + 1 => if 0 < i ∧ par i = v ∧ byt i = b then i else ch par byt v b i
abbrev chT (T : Tr) (v b : Nat) : Nat := ch (tP T) (tB T) v b (tN T)
theorem ch_some {par byt : Nat → Nat} {v b : Nat} : ∀ {n : Nat}, ch par byt v b n ≠ 0 → 0 < ch par byt v b n ∧ ch par byt v b n < n ∧ par (ch par byt v b n) = v ∧ byt (ch par byt v b n) = b
  | 0, h => absurd rfl h
  | n + 1, h => by
    unfold ch at h ⊢
    split
    · rename_i hc
      exact ⟨hc.1, Nat.lt_succ_self _, hc.2.1, hc.2.2⟩
    · rename_i hc
      rw [if_neg hc] at h
      obtain ⟨a, b, c⟩ := ch_some h
      exact ⟨a, by omega, c⟩
theorem ch_none {par byt : Nat → Nat} {v b : Nat} : ∀ {n : Nat}, ch par byt v b n = 0 → ∀ i, 0 < i → i < n → ¬ (par i = v ∧ byt i = b)
  | 0, _, i, _, h => absurd h (Nat.not_lt_zero _)
  | n + 1, h, i, h0, hi => by
    unfold ch at h
    split at h
    · rename_i hc; omega
    · rename_i hc
      rcases Nat.lt_or_ge i n with h1 | h1
      · exact ch_none h i h0 h1
      · have : i = n := by omega
        subst this
        exact fun e => hc ⟨h0, e⟩
theorem ch_lt {par byt : Nat → Nat} {v b n : Nat} (hn : 0 < n) : ch par byt v b n < n := by
  by_cases h : ch par byt v b n = 0
  · rw [h]; exact hn
  · exact (ch_some h).2.1
/-- no two children of a node by one byte -/
def Dst (par byt : Nat → Nat) (n : Nat) : Prop := ∀ i j, 0 < i → i < n → 0 < j → j < n → par i = par j → byt i = byt j → i = j
theorem ch_uniq {par byt : Nat → Nat} {n i : Nat} (hd : Dst par byt n) (h0 : 0 < i) (hi : i < n) : ch par byt (par i) (byt i) n = i := by
  by_cases h : ch par byt (par i) (byt i) n = 0
  · exact absurd ⟨rfl, rfl⟩ (ch_none h i h0 hi)
  · obtain ⟨a, b, c, d⟩ := ch_some h
    exact hd _ _ a b h0 hi c d
/-- the node of the last k bytes, by its first j of them -/
def cxp (T : Tr) (k : Nat) : Nat → Nat
  | 0 => 0
  | j + 1 => chT T (cxp T k j) (tE T (tL T - k + j))
abbrev cx (T : Tr) (k : Nat) : Nat := cxp T k k
def CtxOk (T : Tr) : Prop := ∀ k, k ≤ tL T → ∀ j, j < k → chT T (cxp T k j) (tE T (tL T - k + j)) ≠ 0
theorem cxp_lt {T : Tr} (hn : 0 < tN T) (k : Nat) : ∀ j, cxp T k j < tN T
  | 0 => hn
  | _ + 1 => ch_lt hn
/-- sums and numbers of a table's first entries -/
def bl (t : Nat → Nat) : Nat → Nat
  | 0 => 0
  | b + 1 => bl t b + t b
def nz (t : Nat → Nat) : Nat → Nat
  | 0 => 0
  | b + 1 => nz t b + (if 0 < t b then 1 else 0)
theorem nz_le {t : Nat → Nat} : ∀ n, nz t n ≤ n
  | 0 => Nat.le_refl _
  | n + 1 => by
    have := nz_le (t := t) n
    unfold nz
    split <;> omega
theorem nz_bl {t : Nat → Nat} : ∀ n, nz t n ≤ bl t n
  | 0 => Nat.le_refl _
  | n + 1 => by
    have := nz_bl (t := t) n
    unfold nz bl
    split <;> omega
theorem bl_mono {t : Nat → Nat} {a : Nat} : ∀ {b}, a ≤ b → bl t a ≤ bl t b
  | 0, h => by have : a = 0 := by omega
               subst this; exact Nat.le_refl _
  | b + 1, h => by
    rcases Nat.lt_or_ge a (b + 1) with h1 | h1
    · have := bl_mono (t := t) (Nat.le_of_lt_succ h1)
      show bl t a ≤ bl t b + t b; omega
    · have : a = b + 1 := by omega
      subst this; exact Nat.le_refl _
theorem bl_le {t : Nat → Nat} {s n : Nat} (h : s < n) : bl t s + t s ≤ bl t n := bl_mono (t := t) (a := s + 1) h
theorem bl_congr {t t' : Nat → Nat} : ∀ {n}, (∀ b, b < n → t b = t' b) → bl t n = bl t' n
  | 0, _ => rfl
  | n + 1, h => by unfold bl; rw [bl_congr (fun b hb => h b (by omega)), h n (by omega)]
theorem nz_congr {t t' : Nat → Nat} : ∀ {n}, (∀ b, b < n → t b = t' b) → nz t n = nz t' n
  | 0, _ => rfl
  | n + 1, h => by unfold nz; rw [nz_congr (fun b hb => h b (by omega)), h n (by omega)]
theorem bl_set {t t' : Nat → Nat} {x : Nat} (h0 : t x = 0) (ho : ∀ b, b ≠ x → t' b = t b) : ∀ {n}, x < n → bl t' n = bl t n + t' x
  | 0, h => absurd h (Nat.not_lt_zero _)
  | n + 1, h => by
    unfold bl
    rcases Nat.lt_or_ge x n with h1 | h1
    · rw [bl_set h0 ho h1, ho n (by omega)]; omega
    · have : x = n := by omega
      subst this
      rw [bl_congr (t' := t) (fun b hb => ho b (by omega)), h0]; rfl
theorem nz_set {t t' : Nat → Nat} {x : Nat} (h0 : t x = 0) (h1 : 0 < t' x) (ho : ∀ b, b ≠ x → t' b = t b) : ∀ {n}, x < n → nz t' n = nz t n + 1
  | 0, h => absurd h (Nat.not_lt_zero _)
  | n + 1, h => by
    unfold nz
    rcases Nat.lt_or_ge x n with h2 | h2
    · rw [nz_set h0 h1 ho h2, ho n (by omega)]; omega
    · have : x = n := by omega
      subst this
      rw [nz_congr (t' := t) (fun b hb => ho b (by omega)), h0, if_pos h1]; rfl
/-- a context's counts that aren't excluded, by bytes, of the nodes below n -/
def ctI (T : Tr) (e : Nat → Bool) (v n b : Nat) : Nat := if e b then 0 else if ch (tP T) (tB T) v b n = 0 then 0 else tC T (ch (tP T) (tB T) v b n)
abbrev ct (T : Tr) (e : Nat → Bool) (v b : Nat) : Nat := ctI T e v (tN T) b
def ex (e : Nat → Bool) (t : Nat → Nat) : Nat → Bool := fun b => e b || (decide (b < 256) && decide (0 < t b))
/-- how many of the first s signs aren't excluded -/
def nx (e : Nat → Bool) : Nat → Nat
  | 0 => 0
  | b + 1 => nx e b + (if e b then 0 else 1)
abbrev Sp : Type := Nat × Nat × Nat
/-- a sign is told: its spans; in which context it is found (k + 1; 0: in none); how many are excluded; escapes -/
def tl (T : Tr) (s : Nat) : Nat → (Nat → Bool) → Nat → List Sp × Nat × Nat × Nat
  | 0, e, x => ([(nx e s, 1, 257 - x)], 0, x, 0)
  | k + 1, e, x =>
    let t := ct T e (cx T k)
    if nz t 256 = 0 then tl T s k e x
    else if s < 256 ∧ 0 < t s then ([(bl t s, t s, bl t 256 + nz t 256)], k + 1, x, 0)
    else ((bl t 256, nz t 256, bl t 256 + nz t 256) :: (tl T s k (ex e t) (x + nz t 256)).1, (tl T s k (ex e t) (x + nz t 256)).2.1, (tl T s k (ex e t) (x + nz t 256)).2.2.1, (tl T s k (ex e t) (x + nz t 256)).2.2.2 + 1)
abbrev tell (T : Tr) (s : Nat) : List Sp × Nat × Nat × Nat := tl T s (tL T + 1) (fun _ => false) 0
/-- what is in a tree's rows -/
def TOk (ord room : Nat) (T : Tr) : Prop := 1 ≤ tN T ∧ tN T ≤ room ∧ room ≤ 1500 ∧ 8 ≤ room ∧ tL T ≤ ord ∧ ord ≤ 4 ∧ (∀ i, 0 < i → i < tN T → tP T i < i ∧ tB T i < 256 ∧ 0 < tC T i) ∧ Dst (tP T) (tB T) (tN T) ∧ (∀ i, i < tL T → tE T i < 256)
theorem ctI_step {T : Tr} {e : Nat → Bool} {v i : Nat} (hd : Dst (tP T) (tB T) (tN T)) (h0 : 0 < i) (hi : i < tN T) (hp : tP T i = v) (he : e (tB T i) = false) :
    ctI T e v i (tB T i) = 0 ∧ ctI T e v (i + 1) (tB T i) = tC T i ∧ ∀ b, b ≠ tB T i → ctI T e v (i + 1) b = ctI T e v i b := by
  have hz : ch (tP T) (tB T) v (tB T i) i = 0 := by
    by_cases h : ch (tP T) (tB T) v (tB T i) i = 0
    · exact h
    · obtain ⟨a, b, c, d⟩ := ch_some h
      exact absurd (hd _ _ a (by omega) h0 hi (c.trans hp.symm) d) (by omega)
  have h1 : ch (tP T) (tB T) v (tB T i) (i + 1) = i := by unfold ch; rw [if_pos ⟨h0, hp, rfl⟩]
  refine ⟨by unfold ctI; rw [hz]; simp, by unfold ctI; rw [h1, he, if_neg (by decide), if_neg (by omega)], fun b hb => ?_⟩
  have : ch (tP T) (tB T) v b (i + 1) = ch (tP T) (tB T) v b i := by
    show (if _ then _ else _) = _
    rw [if_neg (fun h => hb h.2.2.symm)]
  unfold ctI
  rw [this]
theorem ctI_same {T : Tr} {e : Nat → Bool} {v i : Nat} (h : ¬ (0 < i ∧ tP T i = v ∧ e (tB T i) = false)) (b : Nat) : ctI T e v (i + 1) b = ctI T e v i b := by
  unfold ctI
  by_cases he : e b = true
  · rw [if_pos he, if_pos he]
  · rw [if_neg he, if_neg he]
    have : ch (tP T) (tB T) v b (i + 1) = ch (tP T) (tB T) v b i := by
      show (if _ then _ else _) = _
      rw [if_neg (fun h1 => h ⟨h1.1, h1.2.1, by rw [h1.2.2]; simpa using he⟩)]
    rw [this]
