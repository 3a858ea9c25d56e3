/-! THE PLAIN MODEL, part 6: reading. A reader is (low, high, number, taken) -/
def nbit (out : Nat → Nat) (os i : Nat) : Nat := if i < 8 * os then out (i / 8) / 2 ^ (7 - i % 8) % 2 else 0
theorem nbit_lt {out : Nat → Nat} {os i : Nat} : nbit out os i < 2 := by unfold nbit; split <;> omega
abbrev Rd : Type := Nat × Nat × Nat × Nat
def rn (nb : Nat → Nat) : Nat → Rd → Rd
  | 0, r => r
  | m + 1, (lo, hi, nu, tk) =>
    if hi < 32768 then rn nb m (2 * lo, 2 * hi + 1, 2 * nu + nb tk, tk + 1)
    else if 32768 ≤ lo then rn nb m (2 * (lo - 32768), 2 * (hi - 32768) + 1, 2 * (nu - 32768) + nb tk, tk + 1)
    else if 16384 ≤ lo ∧ hi < 49152 then rn nb m (2 * (lo - 16384), 2 * (hi - 16384) + 1, 2 * (nu - 16384) + nb tk, tk + 1)
    else (lo, hi, nu, tk)
def rspan (nb : Nat → Nat) (s : Sp) (r : Rd) : Rd := rn nb 17 (narL s.1 s.2.2 r.1 r.2.1, narH s.1 s.2.1 s.2.2 r.1 r.2.1, r.2.2)
abbrev rf (nb : Nat → Nat) (l : List Sp) (r : Rd) : Rd := l.foldl (fun r s => rspan nb s r) r
def RdOk (r : Rd) : Prop := r.1 < 32768 ∧ 32768 ≤ r.2.1 ∧ r.2.1 < 65536 ∧ (r.1 < 16384 ∨ 49152 ≤ r.2.1) ∧ r.1 ≤ r.2.2.1 ∧ r.2.2.1 ≤ r.2.1
/-- what place in a span of 'of' parts the number has -/
def ask (r : Rd) (of : Nat) : Nat := ((r.2.2.1 - r.1 + 1) * of - 1) / (r.2.1 - r.1 + 1)
theorem ask_lt {r : Rd} {of : Nat} (h1 : r.1 ≤ r.2.2.1) (h2 : r.2.2.1 ≤ r.2.1) (ho : 0 < of) : ask r of < of := by
  unfold ask
  have h3 : r.2.2.1 - r.1 + 1 ≤ r.2.1 - r.1 + 1 := by omega
  rw [Nat.div_lt_iff_lt_mul (by omega)]
  have h4 : (r.2.2.1 - r.1 + 1) * of ≤ (r.2.1 - r.1 + 1) * of := Nat.mul_le_mul_right _ h3
  have h5 : 1 * 1 ≤ (r.2.2.1 - r.1 + 1) * of := Nat.mul_le_mul (by omega) ho
  rw [Nat.mul_comm of]
  omega
theorem ask_in {r : Rd} {fr len of : Nat} (h1 : r.1 ≤ r.2.2.1) (h2 : r.2.2.1 ≤ r.2.1) (ho : 0 < of) (hl : fr ≤ ask r of) (hh : ask r of < fr + len) : narL fr of r.1 r.2.1 ≤ r.2.2.1 ∧ r.2.2.1 ≤ narH fr len of r.1 r.2.1 := by
  obtain ⟨lo, hi, nu, tk⟩ := r
  simp only at h1 h2
  unfold ask at hl hh
  unfold narL narH
  simp only at hl hh ⊢
  have hd : nu = lo + (nu - lo) := by omega
  generalize nu - lo = d at *
  have hR : 0 < hi - lo + 1 := Nat.succ_pos _
  generalize hi - lo + 1 = R at *
  have h5 : 1 * 1 ≤ (d + 1) * of := Nat.mul_le_mul (by omega) ho
  rw [Nat.le_div_iff_mul_le hR] at hl
  rw [Nat.div_lt_iff_lt_mul hR] at hh
  have a1 : R * fr / of < d + 1 := by
    rw [Nat.div_lt_iff_lt_mul ho, Nat.mul_comm R]; omega
  have a2 : d + 1 ≤ R * (fr + len) / of := by
    rw [Nat.le_div_iff_mul_le ho, Nat.mul_comm R]; omega
  generalize R * fr / of = u at *
  generalize R * (fr + len) / of = w at *
  omega
theorem rn_ok {nb : Nat → Nat} (hnb : ∀ i, nb i < 2) : ∀ (m : Nat) (r : Rd), r.1 ≤ r.2.2.1 → r.2.2.1 ≤ r.2.1 → r.2.1 < 65536 → 65536 < (r.2.1 - r.1 + 1) * 2 ^ m → RdOk (rn nb m r) ∧ (rn nb m r).2.2.2 ≤ r.2.2.2 + m - 1
  | 0, (lo, hi, nu, tk), h1, h1', h2, h3 => by simp only [Nat.pow_zero, Nat.mul_one] at h3; simp only at h1 h1' h2 h3; omega
  | m + 1, (lo, hi, nu, tk), h1, h1', h2, h3 => by
    simp only at h1 h1' h2 h3
    have hm : m = 0 → 65536 < (hi - lo + 1) * 2 := fun e => by subst e; simpa using h3
    have hb := hnb tk
    have key : ∀ lo' hi' nu', lo' ≤ nu' → nu' ≤ hi' → hi' < 65536 → hi' - lo' + 1 = 2 * (hi - lo + 1) → RdOk (rn nb m (lo', hi', nu', tk + 1)) ∧ (rn nb m (lo', hi', nu', tk + 1)).2.2.2 ≤ tk + (m + 1) - 1 := by
      intro lo' hi' nu' a1 a1' a2 a3
      have hm0 : m ≠ 0 := fun e => by have := hm e; omega
      have := rn_ok hnb m (lo', hi', nu', tk + 1) a1 a1' a2 (by simp only; rw [a3]; rw [Nat.pow_succ] at h3; calc 65536 < _ := h3
        _ = _ := by rw [Nat.mul_comm (2 ^ m) 2, ← Nat.mul_assoc, Nat.mul_comm (hi - lo + 1) 2])
      simp only at this
      exact ⟨this.1, by omega⟩
    unfold rn
    split
    · exact key _ _ _ (by omega) (by omega) (by omega) (by omega)
    · split
      · exact key _ _ _ (by omega) (by omega) (by omega) (by omega)
      · split
        · exact key _ _ _ (by omega) (by omega) (by omega) (by omega)
        · rename_i hh hl hq
          refine ⟨⟨by simp only; omega, by simp only; omega, h2, ?_, h1, h1'⟩, by simp only; omega⟩
          simp only
          by_cases hx : lo < 16384
          · exact Or.inl hx
          · exact Or.inr (by have : ¬ hi < 49152 := fun e => hq ⟨by omega, e⟩; omega)
theorem rspan_ok {nb : Nat → Nat} (hnb : ∀ i, nb i < 2) {s : Sp} {r : Rd} (hr : RdOk r) (hs : SpOk s) (hl : s.1 ≤ ask r s.2.2) (hh : ask r s.2.2 < s.1 + s.2.1) : RdOk (rspan nb s r) ∧ (rspan nb s r).2.2.2 ≤ r.2.2.2 + 16 := by
  obtain ⟨h1, h2, h3, h4, h5, h6⟩ := hr
  obtain ⟨s1, s2, s3⟩ := hs
  obtain ⟨a1, a2, a3⟩ := nar_ok h1 h2 h3 h4 s1 s2 s3
  obtain ⟨b1, b2⟩ := ask_in (fr := s.1) (len := s.2.1) (of := s.2.2) h5 h6 (by omega) hl hh
  exact rn_ok hnb 17 (narL s.1 s.2.2 r.1 r.2.1, narH s.1 s.2.1 s.2.2 r.1 r.2.1, r.2.2) b1 b2 (Nat.lt_of_le_of_lt a2 h3) (by
    simp only
    have : 1 * 2 ^ 17 ≤ (narH s.1 s.2.1 s.2.2 r.1 r.2.1 - narL s.1 s.2.2 r.1 r.2.1 + 1) * 2 ^ 17 := Nat.mul_le_mul_right _ (by omega)
    omega)
/-- the byte at the place v of a table; 256: none -/
def pk1 (t : Nat → Nat) (v : Nat) : Nat → Nat
  | 0 => 256
  | b + 1 => if pk1 t v b = 256 ∧ 0 < t b ∧ v < bl t b + t b then b else pk1 t v b
theorem pk1_ok {t : Nat → Nat} {v : Nat} : ∀ n, n ≤ 256 → (pk1 t v n = 256 ∧ bl t n ≤ v) ∨ (pk1 t v n < n ∧ 0 < t (pk1 t v n) ∧ bl t (pk1 t v n) ≤ v ∧ v < bl t (pk1 t v n) + t (pk1 t v n))
  | 0, _ => Or.inl ⟨rfl, Nat.zero_le _⟩
  | n + 1, hn => by
    unfold pk1
    rcases pk1_ok (t := t) (v := v) n (by omega) with ⟨a, b⟩ | ⟨a, b⟩
    · by_cases h : 0 < t n ∧ v < bl t n + t n
      · rw [if_pos ⟨a, h⟩]
        exact Or.inr ⟨Nat.lt_succ_self _, h.1, b, h.2⟩
      · rw [if_neg (fun q => h q.2)]
        left
        refine ⟨a, ?_⟩
        show bl t n + t n ≤ v
        rcases Nat.eq_zero_or_pos (t n) with z | z
        · omega
        · have : ¬ v < bl t n + t n := fun q => h ⟨z, q⟩
          omega
    · rw [if_neg (fun q => by omega)]
      exact Or.inr ⟨by omega, b⟩
/-- the sign at the place v of those that aren't excluded, from s on -/
def fsg (e : Nat → Bool) (v : Nat) : Nat → Nat → Nat
  | 0, s => s
  | j + 1, s => if e s = true ∨ nx e s < v then fsg e v j (s + 1) else s
theorem fsg_ok {e : Nat → Bool} {v : Nat} (hv : v < nx e 257) : ∀ j s, s + j = 257 → nx e s ≤ v → e (fsg e v j s) = false ∧ nx e (fsg e v j s) = v ∧ fsg e v j s ≤ 256
  | 0, s, hs, hn => by
    have : s = 257 := by omega
    subst this; omega
  | j + 1, s, hs, hn => by
    unfold fsg
    by_cases h : e s = true ∨ nx e s < v
    · rw [if_pos h]
      refine fsg_ok hv j (s + 1) (by omega) ?_
      show nx e s + (if e s then 0 else 1) ≤ v
      rcases h with h | h
      · rw [if_pos h]; exact hn
      · split <;> omega
    · rw [if_neg h]
      refine ⟨by cases q : e s with
        | false => rfl
        | true => exact absurd (Or.inl q) h, ?_, by omega⟩
      have : ¬ nx e s < v := fun q => h (Or.inr q)
      omega
/-- the sign that is read -/
def rsg (T : Tr) (nb : Nat → Nat) : Nat → (Nat → Bool) → Nat → Rd → Nat
  | 0, e, x, r => fsg e (ask r (257 - x)) 257 0
  | k + 1, e, x, r =>
    if nz (ct T e (cx T k)) 256 = 0 then rsg T nb k e x r
    else if pk1 (ct T e (cx T k)) (ask r (bl (ct T e (cx T k)) 256 + nz (ct T e (cx T k)) 256)) 256 < 256 then pk1 (ct T e (cx T k)) (ask r (bl (ct T e (cx T k)) 256 + nz (ct T e (cx T k)) 256)) 256
    else rsg T nb k (ex e (ct T e (cx T k))) (x + nz (ct T e (cx T k)) 256) (rspan nb (bl (ct T e (cx T k)) 256, nz (ct T e (cx T k)) 256, bl (ct T e (cx T k)) 256 + nz (ct T e (cx T k)) 256) r)
abbrev rsign (T : Tr) (nb : Nat → Nat) (r : Rd) : Nat := rsg T nb (tL T + 1) (fun _ => false) 0 r
theorem rsg_ok {T : Tr} {ord room : Nat} (hk : TOk ord room T) (hS : SB T) {nb : Nat → Nat} (hnb : ∀ i, nb i < 2) : ∀ (kk : Nat) (e : Nat → Bool) (x : Nat) (r : Rd), EI e x → RdOk r →
    rsg T nb kk e x r ≤ 256 ∧ e (rsg T nb kk e x r) = false ∧ RdOk (rf nb (tl T (rsg T nb kk e x r) kk e x).1 r) ∧ (rf nb (tl T (rsg T nb kk e x r) kk e x).1 r).2.2.2 ≤ r.2.2.2 + 16 * (kk + 1)
  | 0, e, x, r, hE, hr => by
    obtain ⟨h1, h2, h3, h4, h5, h6⟩ := id hr
    obtain ⟨e1, e2, e3⟩ := id hE
    have hv : ask r (257 - x) < 257 - x := ask_lt h5 h6 (by omega)
    obtain ⟨a, b, c⟩ := fsg_ok (e := e) (v := ask r (257 - x)) (by omega) 257 0 (by omega) (Nat.zero_le _)
    have hsp := flat_ok hE c a
    have hrs : rsg T nb 0 e x r = fsg e (ask r (257 - x)) 257 0 := rfl
    rw [hrs]
    generalize fsg e (ask r (257 - x)) 257 0 = s at *
    obtain ⟨q1, q2⟩ := rspan_ok hnb (s := (nx e s, 1, 257 - x)) hr hsp (by show nx e s ≤ ask r (257 - x); omega) (by show ask r (257 - x) < nx e s + 1; omega)
    exact ⟨c, a, q1, q2⟩
  | k + 1, e, x, r, hE, hr => by
    have hb := ct_sum hk hS e (cx T k)
    obtain ⟨h1, h2, h3, h4, h5, h6⟩ := id hr
    by_cases h0 : nz (ct T e (cx T k)) 256 = 0
    · have hrs : rsg T nb (k + 1) e x r = rsg T nb k e x r := by
        show (if nz (ct T e (cx T k)) 256 = 0 then _ else _) = _
        rw [if_pos h0]
      rw [hrs, tl_z h0]
      obtain ⟨a, b, c, d⟩ := rsg_ok hk hS hnb k e x r hE hr
      exact ⟨a, b, c, by omega⟩
    · have hv : ask r (bl (ct T e (cx T k)) 256 + nz (ct T e (cx T k)) 256) < bl (ct T e (cx T k)) 256 + nz (ct T e (cx T k)) 256 := ask_lt h5 h6 (by omega)
      rcases pk1_ok (t := ct T e (cx T k)) (v := ask r (bl (ct T e (cx T k)) 256 + nz (ct T e (cx T k)) 256)) 256 (Nat.le_refl _) with ⟨p1, p2⟩ | ⟨p1, p2, p3, p4⟩
      · have hrs : rsg T nb (k + 1) e x r = rsg T nb k (ex e (ct T e (cx T k))) (x + nz (ct T e (cx T k)) 256) (rspan nb (bl (ct T e (cx T k)) 256, nz (ct T e (cx T k)) 256, bl (ct T e (cx T k)) 256 + nz (ct T e (cx T k)) 256) r) := by
          show (if nz (ct T e (cx T k)) 256 = 0 then _ else if _ then _ else _) = _
          rw [if_neg h0, if_neg (by omega)]
        obtain ⟨q1, q2⟩ := rspan_ok hnb (s := (bl (ct T e (cx T k)) 256, nz (ct T e (cx T k)) 256, bl (ct T e (cx T k)) 256 + nz (ct T e (cx T k)) 256)) hr (esc_ok hb h0) p2 hv
        obtain ⟨a, b, c, d⟩ := rsg_ok hk hS hnb k _ _ _ (hE.ex (T := T) (v := cx T k)) q1
        rw [hrs]
        generalize rsg T nb k (ex e (ct T e (cx T k))) (x + nz (ct T e (cx T k)) 256) (rspan nb (bl (ct T e (cx T k)) 256, nz (ct T e (cx T k)) 256, bl (ct T e (cx T k)) 256 + nz (ct T e (cx T k)) 256) r) = s at *
        have hes : e s = false ∧ ¬ (s < 256 ∧ 0 < ct T e (cx T k) s) := by
          unfold ex at b
          constructor
          · cases q : e s with
            | false => rfl
            | true => rw [q] at b; simp at b
          · rintro ⟨q1, q2⟩
            simp [q1, q2] at b
        rw [tl_e h0 hes.2]
        refine ⟨a, hes.1, c, ?_⟩
        show (rf nb (tl T s k (ex e (ct T e (cx T k))) (x + nz (ct T e (cx T k)) 256)).1 (rspan nb _ r)).2.2.2 ≤ _
        omega
      · have hrs : rsg T nb (k + 1) e x r = pk1 (ct T e (cx T k)) (ask r (bl (ct T e (cx T k)) 256 + nz (ct T e (cx T k)) 256)) 256 := by
          show (if nz (ct T e (cx T k)) 256 = 0 then _ else if _ then _ else _) = _
          rw [if_neg h0, if_pos p1]
        rw [hrs]
        generalize pk1 (ct T e (cx T k)) (ask r (bl (ct T e (cx T k)) 256 + nz (ct T e (cx T k)) 256)) 256 = s at *
        rw [tl_f h0 ⟨p1, p2⟩]
        obtain ⟨q1, q2⟩ := rspan_ok hnb (s := (bl (ct T e (cx T k)) s, ct T e (cx T k) s, bl (ct T e (cx T k)) 256 + nz (ct T e (cx T k)) 256)) hr (sp_ok hb ⟨p1, p2⟩) p3 p4
        exact ⟨by omega, (ct_ex p2).1, q1, Nat.le_trans q2 (by omega)⟩
