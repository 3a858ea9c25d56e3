/-! THE PLAIN MODEL, part 8: children by their bytes, as the class Model links them -/
def nbf (T : Tr) (v : Nat) : Nat → Nat → Nat
  | 0, _ => 0
  | j + 1, b => if chT T v b = 0 then nbf T v j (b + 1) else chT T v b
/-- the child of v with the least byte that is at least b; 0: none -/
def nb (T : Tr) (v b : Nat) : Nat := nbf T v (256 - b) b
theorem nbf_spec {T : Tr} {v : Nat} : ∀ j b, b + j = 256 → (nbf T v j b = 0 ∧ ∀ β, b ≤ β → β < 256 → chT T v β = 0) ∨ (∃ β, b ≤ β ∧ β < 256 ∧ nbf T v j b = chT T v β ∧ chT T v β ≠ 0 ∧ ∀ β', b ≤ β' → β' < β → chT T v β' = 0)
  | 0, b, h => Or.inl ⟨rfl, fun β h1 h2 => by omega⟩
  | j + 1, b, h => by
    unfold nbf
    by_cases hc : chT T v b = 0
    · rw [if_pos hc]
      rcases nbf_spec (T := T) (v := v) j (b + 1) (by omega) with ⟨a, c⟩ | ⟨β, c1, c2, c3, c4, c5⟩
      · refine Or.inl ⟨a, fun β h1 h2 => ?_⟩
        by_cases e : β = b
        · rw [e]; exact hc
        · exact c β (by omega) h2
      · refine Or.inr ⟨β, by omega, c2, c3, c4, fun β' h1 h2 => ?_⟩
        by_cases e : β' = b
        · rw [e]; exact hc
        · exact c5 β' (by omega) h2
    · rw [if_neg hc]
      exact Or.inr ⟨b, Nat.le_refl _, by omega, rfl, hc, fun β' h1 h2 => by omega⟩
theorem nb_spec {T : Tr} {v b : Nat} (h : b ≤ 256) : (nb T v b = 0 ∧ ∀ β, b ≤ β → β < 256 → chT T v β = 0) ∨ (∃ β, b ≤ β ∧ β < 256 ∧ nb T v b = chT T v β ∧ chT T v β ≠ 0 ∧ ∀ β', b ≤ β' → β' < β → chT T v β' = 0) := nbf_spec (256 - b) b (by omega)
theorem nb_eq {T : Tr} {v b β : Nat} (h1 : b ≤ β) (h2 : β < 256) (h3 : chT T v β ≠ 0) (h4 : ∀ β', b ≤ β' → β' < β → chT T v β' = 0) : nb T v b = chT T v β := by
  rcases nb_spec (T := T) (v := v) (b := b) (by omega) with ⟨_, c⟩ | ⟨γ, c1, c2, c3, c4, c5⟩
  · exact absurd (c β h1 h2) h3
  · rcases Nat.lt_trichotomy γ β with h | h | h
    · exact absurd (h4 γ c1 h) c4
    · rw [← h]; exact c3
    · exact absurd (c5 β h1 h) h3
theorem nb_none {T : Tr} {v b : Nat} (hb : b ≤ 256) (h : ∀ β, b ≤ β → β < 256 → chT T v β = 0) : nb T v b = 0 := by
  rcases nb_spec (T := T) (v := v) hb with ⟨a, _⟩ | ⟨γ, c1, c2, c3, c4, c5⟩
  · exact a
  · exact absurd (h γ c1 c2) c4
/-- as one reads it: a child c > 0 has its byte at least b, and none lies between -/
theorem nb_get {T : Tr} {ord room v b : Nat} (hk : TOk ord room T) (hb : b ≤ 256) (hc : nb T v b ≠ 0) : nb T v b < tN T ∧ tP T (nb T v b) = v ∧ b ≤ tB T (nb T v b) ∧ tB T (nb T v b) < 256 ∧ chT T v (tB T (nb T v b)) = nb T v b ∧ ∀ β', b ≤ β' → β' < tB T (nb T v b) → chT T v β' = 0 := by
  rcases nb_spec (T := T) (v := v) hb with ⟨a, _⟩ | ⟨γ, c1, c2, c3, c4, c5⟩
  · exact absurd a hc
  · obtain ⟨a1, a2, a3, a4⟩ := ch_some c4
    rw [c3]
    rw [a4]
    exact ⟨a2, a3, c1, c2, rfl, c5⟩
theorem nb_lt {T : Tr} {ord room v b : Nat} (hk : TOk ord room T) (hb : b ≤ 256) : nb T v b < tN T := by
  by_cases h : nb T v b = 0
  · rw [h]; exact hk.1
  · exact (nb_get hk hb h).1
theorem nb_zero {T : Tr} {v b : Nat} (hb : b ≤ 256) (hc : nb T v b = 0) : ∀ β, b ≤ β → β < 256 → chT T v β = 0 := by
  rcases nb_spec (T := T) (v := v) hb with ⟨_, c⟩ | ⟨γ, c1, c2, c3, c4, c5⟩
  · exact c
  · rw [hc] at c3; exact absurd c3.symm c4
theorem nb_congr {T T' : Tr} {v b : Nat} (hb : b ≤ 256) (h : ∀ β, b ≤ β → β < 256 → chT T' v β = chT T v β) : nb T' v b = nb T v b := by
  rcases nb_spec (T := T) (v := v) hb with ⟨a, c⟩ | ⟨γ, c1, c2, c3, c4, c5⟩
  · rw [a]; exact nb_none hb (fun β h1 h2 => by rw [h β h1 h2]; exact c β h1 h2)
  · rw [c3, ← h γ c1 c2]
    exact nb_eq c1 c2 (by rw [h γ c1 c2]; exact c4) (fun β' h1 h2 => by rw [h β' h1 (by omega)]; exact c5 β' h1 h2)
theorem bl_gap {t : Nat → Nat} {a : Nat} : ∀ {c}, a ≤ c → (∀ β, a ≤ β → β < c → t β = 0) → bl t a = bl t c
  | 0, h, _ => by have : a = 0 := by omega
                  subst this; rfl
  | c + 1, h, hz => by
    rcases Nat.lt_or_ge a (c + 1) with h1 | h1
    · rw [bl_gap (t := t) (Nat.le_of_lt_succ h1) (fun β h2 h3 => hz β h2 (by omega))]
      show bl t c = bl t c + t c
      rw [hz c (by omega) (by omega)]; rfl
    · have : a = c + 1 := by omega
      subst this; rfl
theorem nz_gap {t : Nat → Nat} {a : Nat} : ∀ {c}, a ≤ c → (∀ β, a ≤ β → β < c → t β = 0) → nz t a = nz t c
  | 0, h, _ => by have : a = 0 := by omega
                  subst this; rfl
  | c + 1, h, hz => by
    rcases Nat.lt_or_ge a (c + 1) with h1 | h1
    · rw [nz_gap (t := t) (Nat.le_of_lt_succ h1) (fun β h2 h3 => hz β h2 (by omega))]
      show nz t c = nz t c + (if 0 < t c then 1 else 0)
      rw [hz c (by omega) (by omega)]; rfl
    · have : a = c + 1 := by omega
      subst this; rfl
theorem ct_0 {T : Tr} {e : Nat → Bool} {v b : Nat} (h : chT T v b = 0) : ct T e v b = 0 := by
  show (if e b then 0 else if chT T v b = 0 then 0 else _) = 0
  rw [if_pos h]
  split <;> rfl
theorem ct_f {T : Tr} {v b : Nat} (h : chT T v b ≠ 0) : ct T (fun _ => false) v b = tC T (chT T v b) := by
  show (if false = true then 0 else if chT T v b = 0 then 0 else tC T (chT T v b)) = _
  rw [if_neg Bool.false_ne_true, if_neg h]
/-- the class Model holds the tree T -/
def MR (f : Nat → Int32) (g : Nat → Nat → Int32) (ord room : Nat) (T : Tr) : Prop := (f 0 = nI ord ∧ f 1 = nI room ∧ f 2 = nI (tN T) ∧ f 3 = nI (tL T)) ∧ (g 0 0 = -1 ∧ g 1 0 = -1 ∧ g 2 0 = nI 0) ∧ (∀ i, 0 < i → i < tN T → g 0 i = nI (tP T i) ∧ g 1 i = nI (tB T i) ∧ g 2 i = nI (tC T i) ∧ g 4 i = nI (nb T (tP T i) (tB T i + 1))) ∧ (∀ v, v < tN T → g 3 v = nI (nb T v 0)) ∧ ∀ i, i < tL T → g 5 i = nI (tE T i)
