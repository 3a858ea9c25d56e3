/-! THE PLAIN MODEL, part 5: a sign's spans, a text's bits -/
def SpOk (s : Sp) : Prop := 0 < s.2.1 ∧ s.1 + s.2.1 ≤ s.2.2 ∧ s.2.2 ≤ 16384
abbrev wf (l : List Sp) (c : Cd) : Cd := l.foldl (fun c s => wspan s c) c
theorem wf_ok : ∀ (l : List Sp) (c : Cd), (∀ s ∈ l, SpOk s) → CdOk c → CdOk (wf l c) ∧ (wf l c).2.2.1 + (wf l c).2.2.2.1 ≤ c.2.2.1 + c.2.2.2.1 + 16 * l.length
  | [], c, _, h => ⟨h, Nat.le_refl _⟩
  | s :: l, c, hs, h => by
    obtain ⟨a, b, d⟩ := hs s List.mem_cons_self
    obtain ⟨h1, h2⟩ := wspan_ok h a b d
    obtain ⟨h3, h4⟩ := wf_ok l (wspan s c) (fun z hz => hs z (List.mem_cons_of_mem _ hz)) h1
    refine ⟨h3, ?_⟩
    have : (s :: l).length = l.length + 1 := rfl
    rw [this]
    exact Nat.le_trans h4 (by omega)
theorem nx_mono {e : Nat → Bool} {a : Nat} : ∀ {n}, a ≤ n → nx e a ≤ nx e n
  | 0, h => by have : a = 0 := by omega
               subst this; exact Nat.le_refl _
  | n + 1, h => by
    rcases Nat.lt_or_ge a (n + 1) with h1 | h1
    · have := nx_mono (e := e) (Nat.le_of_lt_succ h1)
      show nx e a ≤ nx e n + _
      omega
    · have : a = n + 1 := by omega
      subst this; exact Nat.le_refl _
theorem nx_ex {e : Nat → Bool} {t : Nat → Nat} (h : ∀ b, b < 256 → 0 < t b → e b = false) : ∀ n, n ≤ 256 → nx (ex e t) n + nz t n = nx e n
  | 0, _ => rfl
  | n + 1, hn => by
    have ih := nx_ex h n (by omega)
    show nx (ex e t) n + (if ex e t n then 0 else 1) + (nz t n + if 0 < t n then 1 else 0) = nx e n + if e n then 0 else 1
    have hlt : n < 256 := by omega
    unfold ex at *
    by_cases ht : 0 < t n
    · have he := h n hlt ht
      simp only [he, hlt, ht, decide_true, Bool.and_true, Bool.false_or, if_true, Bool.false_eq_true, if_false]; omega
    · simp only [ht, hlt, decide_true, decide_false, Bool.and_false, Bool.or_false, if_false]; omega
/-- x signs are excluded, END isn't -/
def EI (e : Nat → Bool) (x : Nat) : Prop := x ≤ 256 ∧ e 256 = false ∧ nx e 257 + x = 257
theorem EI_0 : EI (fun _ => false) 0 := by
  refine ⟨by decide, rfl, ?_⟩
  have : ∀ n, nx (fun _ => false) n = n := by
    intro n
    induction n with
    | zero => rfl
    | succ n ih => show nx _ n + 1 = n + 1; rw [ih]
  rw [this]
theorem ct_ex {T : Tr} {e : Nat → Bool} {v b : Nat} (h : 0 < ct T e v b) : e b = false ∧ chT T v b ≠ 0 := by
  unfold ct ctI at h
  by_cases he : e b = true
  · rw [if_pos he] at h; omega
  · rw [if_neg he] at h
    refine ⟨by simpa using he, fun q => ?_⟩
    rw [if_pos q] at h; omega
theorem EI.ex {T : Tr} {e : Nat → Bool} {x v : Nat} (h : EI e x) : EI (ex e (ct T e v)) (x + nz (ct T e v) 256) := by
  obtain ⟨h1, h2, h3⟩ := h
  have a := nx_ex (e := e) (t := ct T e v) (fun b _ hb => (ct_ex hb).1) 256 (Nat.le_refl _)
  have e1 : nx e 257 = nx e 256 + 1 := by show nx e 256 + (if e 256 then 0 else 1) = _; rw [h2]; rfl
  have e2 : Jvm.Pilot.CPpmTreesLaw_law_r8776_ba36b5.ex e (ct T e v) 256 = false := by unfold Jvm.Pilot.CPpmTreesLaw_law_r8776_ba36b5.ex; rw [h2]; rfl
  have e3 : nx (Jvm.Pilot.CPpmTreesLaw_law_r8776_ba36b5.ex e (ct T e v)) 257 = nx (Jvm.Pilot.CPpmTreesLaw_law_r8776_ba36b5.ex e (ct T e v)) 256 + 1 := by show nx _ 256 + (if Jvm.Pilot.CPpmTreesLaw_law_r8776_ba36b5.ex e (ct T e v) 256 then 0 else 1) = _; rw [e2]; rfl
  exact ⟨by omega, e2, by omega⟩
theorem tl_z {T : Tr} {s k x : Nat} {e : Nat → Bool} (h : nz (ct T e (cx T k)) 256 = 0) : tl T s (k + 1) e x = tl T s k e x := by
  show (if nz (ct T e (cx T k)) 256 = 0 then _ else _) = _
  rw [if_pos h]
theorem tl_f {T : Tr} {s k x : Nat} {e : Nat → Bool} (h : nz (ct T e (cx T k)) 256 ≠ 0) (h1 : s < 256 ∧ 0 < ct T e (cx T k) s) : tl T s (k + 1) e x = ([(bl (ct T e (cx T k)) s, ct T e (cx T k) s, bl (ct T e (cx T k)) 256 + nz (ct T e (cx T k)) 256)], k + 1, x, 0) := by
  show (if nz (ct T e (cx T k)) 256 = 0 then _ else if s < 256 ∧ 0 < ct T e (cx T k) s then _ else _) = _
  rw [if_neg h, if_pos h1]
theorem tl_e {T : Tr} {s k x : Nat} {e : Nat → Bool} (h : nz (ct T e (cx T k)) 256 ≠ 0) (h1 : ¬ (s < 256 ∧ 0 < ct T e (cx T k) s)) : tl T s (k + 1) e x = ((bl (ct T e (cx T k)) 256, nz (ct T e (cx T k)) 256, bl (ct T e (cx T k)) 256 + nz (ct T e (cx T k)) 256) :: (tl T s k (ex e (ct T e (cx T k))) (x + nz (ct T e (cx T k)) 256)).1, (tl T s k (ex e (ct T e (cx T k))) (x + nz (ct T e (cx T k)) 256)).2.1, (tl T s k (ex e (ct T e (cx T k))) (x + nz (ct T e (cx T k)) 256)).2.2.1, (tl T s k (ex e (ct T e (cx T k))) (x + nz (ct T e (cx T k)) 256)).2.2.2 + 1) := by
  show (if nz (ct T e (cx T k)) 256 = 0 then _ else if s < 256 ∧ 0 < ct T e (cx T k) s then _ else _) = _
  rw [if_neg h, if_neg h1]
theorem flat_ok {e : Nat → Bool} {x s : Nat} (hE : EI e x) (hs : s ≤ 256) (he : e s = false) : SpOk (nx e s, 1, 257 - x) := by
  obtain ⟨h1, h2, h3⟩ := hE
  have h4 := nx_mono (e := e) (a := s + 1) (n := 257) (by omega)
  have e1 : nx e (s + 1) = nx e s + 1 := by show nx e s + (if e s then 0 else 1) = _; rw [he]; rfl
  exact ⟨Nat.one_pos, by show nx e s + 1 ≤ 257 - x; omega, by show 257 - x ≤ 16384; omega⟩
theorem sp_ok {t : Nat → Nat} {s : Nat} (hb : bl t 256 ≤ 600) (h1 : s < 256 ∧ 0 < t s) : SpOk (bl t s, t s, bl t 256 + nz t 256) := by
  have h2 := bl_le (t := t) h1.1
  have h3 := nz_bl (t := t) 256
  exact ⟨h1.2, by show bl t s + t s ≤ bl t 256 + nz t 256; omega, by show bl t 256 + nz t 256 ≤ 16384; omega⟩
theorem esc_ok {t : Nat → Nat} (hb : bl t 256 ≤ 600) (h0 : nz t 256 ≠ 0) : SpOk (bl t 256, nz t 256, bl t 256 + nz t 256) := by
  have h3 := nz_bl (t := t) 256
  exact ⟨Nat.pos_of_ne_zero h0, Nat.le_refl _, by show bl t 256 + nz t 256 ≤ 16384; omega⟩
theorem ex_s {e : Nat → Bool} {t : Nat → Nat} {s : Nat} (he : e s = false) (h1 : ¬ (s < 256 ∧ 0 < t s)) : ex e t s = false := by
  unfold ex
  rw [he]
  simpa using h1
theorem tl_ok {T : Tr} {ord room s : Nat} (hk : TOk ord room T) (hS : SB T) (hs : s ≤ 256) : ∀ (kk : Nat) (e : Nat → Bool) (x : Nat), EI e x → e s = false →
    (∀ sp ∈ (tl T s kk e x).1, SpOk sp) ∧ (tl T s kk e x).1.length ≤ kk + 1 ∧ (tl T s kk e x).2.1 ≤ kk ∧ (∀ k', (tl T s kk e x).2.1 = k' + 1 → s < 256 ∧ chT T (cx T k') s ≠ 0) ∧ (tl T s kk e x).2.2.1 ≤ 256 ∧ (tl T s kk e x).2.2.2 ≤ kk
  | 0, e, x, hE, he => by
    refine ⟨fun sp hsp => ?_, Nat.le_refl _, Nat.le_refl _, fun k' h => absurd h (by simp [tl]), hE.1, Nat.le_refl _⟩
    have : sp = (nx e s, 1, 257 - x) := by simpa [tl] using hsp
    subst this
    exact flat_ok hE hs he
  | kk + 1, e, x, hE, he => by
    have hb := ct_sum hk hS e (cx T kk)
    by_cases h0 : nz (ct T e (cx T kk)) 256 = 0
    · rw [tl_z h0]
      obtain ⟨a, b, c, d, f1, f2⟩ := tl_ok hk hS hs kk e x hE he
      exact ⟨a, by omega, by omega, d, f1, by omega⟩
    · by_cases h1 : s < 256 ∧ 0 < ct T e (cx T kk) s
      · rw [tl_f h0 h1]
        refine ⟨fun sp hsp => ?_, by simp, Nat.le_refl _, fun k' h => ?_, hE.1, Nat.zero_le _⟩
        · have : sp = (bl (ct T e (cx T kk)) s, ct T e (cx T kk) s, bl (ct T e (cx T kk)) 256 + nz (ct T e (cx T kk)) 256) := by simpa using hsp
          subst this
          exact sp_ok hb h1
        · have h : kk = k' := Nat.succ.inj h
          subst h
          exact ⟨h1.1, (ct_ex h1.2).2⟩
      · rw [tl_e h0 h1]
        obtain ⟨a, b, c, d, f1, f2⟩ := tl_ok hk hS hs kk _ _ (hE.ex (T := T) (v := cx T kk)) (ex_s he h1)
        refine ⟨fun sp hsp => ?_, by simp only [List.length_cons]; omega, Nat.le_trans c (Nat.le_succ _), d, f1, Nat.succ_le_succ f2⟩
        rcases List.mem_cons.mp hsp with rfl | h
        · exact esc_ok hb h0
        · exact a sp h
/-- writing a text: tree, coder, escapes, how often it began anew -/
abbrev WS : Type := Tr × Cd × Nat × Nat
def sgn (n : Nat) (row : Nat → Nat) (i : Nat) : Nat := if i < n then row i else 256
def wst (ord room n : Nat) (row : Nat → Nat) (w : WS) (i : Nat) : WS :=
  (if i < n then (learnT ord room (row i) ((tell w.1 (sgn n row i)).2.1 - 1) w.1).1 else w.1, wf (tell w.1 (sgn n row i)).1 w.2.1, w.2.2.1 + (tell w.1 (sgn n row i)).2.2.2, w.2.2.2 + if i < n ∧ (learnT ord room (row i) ((tell w.1 (sgn n row i)).2.1 - 1) w.1).2 = true then 1 else 0)
def c0 : Cd := (0, 65535, 0, 0, fun _ => 0)
theorem c0_ok : CdOk c0 := ⟨by decide, by decide, by decide, Or.inl (by decide), fun _ => by show 0 < 256; decide⟩
def wsq (ord room n : Nat) (row : Nat → Nat) (T : Tr) : Nat → WS
  | 0 => (T, c0, 0, 0)
  | i + 1 => wst ord room n row (wsq ord room n row T i) i
/-- the end of it: bits and bytes -/
def cend (c : Cd) : Cd := (c.1, c.2.1, 0, c.2.2.2.1 + 1 + (c.2.2.1 + 1), wput (if c.1 < 16384 then 0 else 1) (c.2.2.1 + 1) c.2.2.2.1 c.2.2.2.2)
def wrt (ord room n : Nat) (row : Nat → Nat) (T : Tr) : Cd := cend (wsq ord room n row T (n + 1)).2.1
theorem tell_ok {T : Tr} {ord room s : Nat} (hI : TI ord room T) (hs : s ≤ 256) : (∀ sp ∈ (tell T s).1, SpOk sp) ∧ (tell T s).1.length ≤ 6 ∧ (tell T s).2.1 ≤ tL T + 1 ∧ (∀ k', (tell T s).2.1 = k' + 1 → s < 256 ∧ chT T (cx T k') s ≠ 0) ∧ (tell T s).2.2.1 ≤ 256 ∧ (tell T s).2.2.2 ≤ 5 := by
  obtain ⟨a, b, c, d, e, f⟩ := tl_ok (s := s) hI.1 hI.2.2.2 hs (tL T + 1) (fun _ => false) 0 EI_0 rfl
  have h4 : tL T ≤ 4 := Nat.le_trans hI.1.2.2.2.2.1 hI.1.2.2.2.2.2.1
  exact ⟨a, Nat.le_trans b (by omega), c, d, e, Nat.le_trans f (by omega)⟩
theorem wsq_ok {ord room n : Nat} {row : Nat → Nat} {T : Tr} (hI : TI ord room T) (hr : ∀ i, i < n → row i < 256) : ∀ i, i ≤ n + 1 → TI ord room (wsq ord room n row T i).1 ∧ CdOk (wsq ord room n row T i).2.1 ∧ (wsq ord room n row T i).2.1.2.2.1 + (wsq ord room n row T i).2.1.2.2.2.1 ≤ 96 * i ∧ (wsq ord room n row T i).2.2.1 ≤ 5 * i ∧ (wsq ord room n row T i).2.2.2 ≤ i
  | 0, _ => ⟨hI, c0_ok, Nat.le_refl _, Nat.le_refl _, Nat.le_refl _⟩
  | i + 1, hi => by
    obtain ⟨a, b, c, d, e⟩ := wsq_ok hI hr i (by omega)
    have hstep : wsq ord room n row T (i + 1) = wst ord room n row (wsq ord room n row T i) i := rfl
    rw [hstep]
    generalize wsq ord room n row T i = w at *
    have hs : sgn n row i ≤ 256 := by
      unfold sgn
      split
      · rename_i h; exact Nat.le_of_lt (hr i h)
      · exact Nat.le_refl _
    obtain ⟨t1, t2, t3, t4, t5, t6⟩ := tell_ok a hs
    obtain ⟨w1, w2⟩ := wf_ok _ w.2.1 t1 b
    refine ⟨?_, w1, ?_, ?_, ?_⟩
    · show TI ord room (if i < n then _ else _)
      split
      · rename_i h
        refine learn_TI (hr i h) a (by omega) ?_
        rcases Nat.eq_zero_or_pos (tell w.1 (sgn n row i)).2.1 with z | z
        · left; rw [z]
        · right
          have := (t4 ((tell w.1 (sgn n row i)).2.1 - 1) (by omega)).2
          rwa [show sgn n row i = row i by unfold sgn; rw [if_pos h]] at this ⊢
      · exact a
    · show (wf (tell w.1 (sgn n row i)).1 w.2.1).2.2.1 + (wf (tell w.1 (sgn n row i)).1 w.2.1).2.2.2.1 ≤ 96 * (i + 1)
      omega
    · show w.2.2.1 + (tell w.1 (sgn n row i)).2.2.2 ≤ 5 * (i + 1)
      omega
    · show w.2.2.2 + (if _ then 1 else 0) ≤ i + 1
      split <;> omega
