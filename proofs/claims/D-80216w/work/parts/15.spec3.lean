/-! THE PLAIN MODEL, part 3: learning -/
def upN (f : Nat → Nat) (k v : Nat) : Nat → Nat := fun j => if j = k then v else f j
theorem upN_s {f : Nat → Nat} {k v : Nat} : upN f k v k = v := by unfold upN; rw [if_pos rfl]
theorem upN_n {f : Nat → Nat} {k v j : Nat} (h : j ≠ k) : upN f k v j = f j := by unfold upN; rw [if_neg h]
/-- the sum of the counts of a node's children, and how many they are -/
def sc (par cnt : Nat → Nat) (v : Nat) : Nat → Nat
  | 0 => 0
  | i + 1 => sc par cnt v i + (if 0 < i ∧ par i = v then cnt i else 0)
abbrev sT (T : Tr) (v : Nat) : Nat := sc (tP T) (tC T) v (tN T)
/-- the counts of a node's children are halved, if their sum is over 200 -/
def hv (T : Tr) (v : Nat) : Tr := if 200 < sT T v then (tN T, tP T, tB T, fun i => if tP T i = v then (tC T i + 1) / 2 else tC T i, tL T, tE T) else T
/-- a child more, or a count more -/
def inc (T : Tr) (v b : Nat) : Tr := if chT T v b = 0 then (tN T + 1, upN (tP T) (tN T) v, upN (tB T) (tN T) b, upN (tC T) (tN T) 1, tL T, tE T) else (tN T, tP T, tB T, upN (tC T) (chT T v b) (tC T (chT T v b) + 1), tL T, tE T)
def lr (room b : Nat) : Nat → Nat → Tr → Tr × Bool
  | 0, _, T => (T, false)
  | j + 1, k, T => if chT T (cx T k) b = 0 ∧ tN T = room then (rs T, true) else lr room b j (k + 1) (hv (inc T (cx T k) b) (cx T k))
def rem (ord b : Nat) (T : Tr) : Tr := if ord = 0 then T else if tL T = ord then (tN T, tP T, tB T, tC T, tL T, fun i => if i + 1 < tL T then tE T (i + 1) else b) else (tN T, tP T, tB T, tC T, tL T + 1, upN (tE T) (tL T) b)
/-- a byte found in the context fnd is learnt: the tree, and whether it began anew -/
def learnT (ord room b fnd : Nat) (T : Tr) : Tr × Bool := if (lr room b (tL T + 1 - fnd) fnd T).2 then lr room b (tL T + 1 - fnd) fnd T else (rem ord b (lr room b (tL T + 1 - fnd) fnd T).1, false)
/-- each node's path without its first byte is in the tree too -/
def Sfx (T : Tr) : Prop := ∃ sf : Nat → Nat, sf 0 = 0 ∧ ∀ i, 0 < i → i < tN T → (tP T i = 0 → sf i = 0) ∧ (tP T i ≠ 0 → chT T (sf (tP T i)) (tB T i) = sf i ∧ sf i ≠ 0)
def SB (T : Tr) : Prop := ∀ v, sT T v ≤ 600
/-- all that holds of a tree between signs -/
def TI (ord room : Nat) (T : Tr) : Prop := TOk ord room T ∧ CtxOk T ∧ Sfx T ∧ SB T
theorem sc_le {par cnt : Nat → Nat} {v i : Nat} : ∀ {n}, 0 < i → i < n → par i = v → cnt i ≤ sc par cnt v n
  | 0, _, h, _ => absurd h (Nat.not_lt_zero _)
  | n + 1, h0, h, hp => by
    show _ ≤ sc par cnt v n + _
    rcases Nat.lt_or_ge i n with h1 | h1
    · have := sc_le (cnt := cnt) h0 h1 hp; omega
    · have : i = n := by omega
      subst this
      rw [if_pos ⟨h0, hp⟩]; omega
theorem sc_mono {par cnt : Nat → Nat} {v a : Nat} : ∀ {n}, a ≤ n → sc par cnt v a ≤ sc par cnt v n
  | 0, h => by have : a = 0 := by omega
               subst this; exact Nat.le_refl _
  | n + 1, h => by
    rcases Nat.lt_or_ge a (n + 1) with h1 | h1
    · have := sc_mono (par := par) (cnt := cnt) (v := v) (Nat.le_of_lt_succ h1)
      show _ ≤ sc par cnt v n + _
      omega
    · have : a = n + 1 := by omega
      subst this; exact Nat.le_refl _
/-- sums by nodes are sums by bytes -/
theorem sc_bl {T : Tr} {ord room : Nat} (hk : TOk ord room T) (v : Nat) : ∀ i, i ≤ tN T → bl (ctI T (fun _ => false) v i) 256 = sc (tP T) (tC T) v i
  | 0, _ => by
    have : ∀ n, bl (ctI T (fun _ => false) v 0) n = 0 := by
      intro n
      induction n with
      | zero => rfl
      | succ n ih => show bl _ n + ctI T _ v 0 n = 0; rw [ih]; rfl
    exact this 256
  | i + 1, h => by
    have ih := sc_bl hk v i (by omega)
    obtain ⟨-, -, -, -, -, -, kR, kD, -⟩ := hk
    show _ = sc (tP T) (tC T) v i + _
    by_cases hc : 0 < i ∧ tP T i = v
    · obtain ⟨a, b, c⟩ := ctI_step (e := fun _ => false) kD hc.1 (by omega) hc.2 rfl
      rw [if_pos hc, bl_set a c (kR i hc.1 (by omega)).2.1, ih, b]
    · rw [if_neg hc, bl_congr (t' := ctI T (fun _ => false) v i) (fun b _ => ctI_same (fun h => hc ⟨h.1, h.2.1⟩) b), ih]; rfl
theorem ct_le {T : Tr} {e : Nat → Bool} {v : Nat} : ∀ n, bl (ct T e v) n ≤ bl (ct T (fun _ => false) v) n
  | 0 => Nat.le_refl _
  | n + 1 => by
    have := ct_le (T := T) (e := e) (v := v) n
    show bl (ct T e v) n + ct T e v n ≤ bl (ct T (fun _ => false) v) n + ct T (fun _ => false) v n
    have h2 : ct T e v n ≤ ct T (fun _ => false) v n := by
      unfold ct ctI
      by_cases h : e n = true
      · rw [if_pos h]; exact Nat.zero_le _
      · rw [if_neg h]; exact Nat.le_refl _
    omega
theorem ct_sum {T : Tr} {ord room : Nat} (hk : TOk ord room T) (hs : SB T) (e : Nat → Bool) (v : Nat) : bl (ct T e v) 256 ≤ 600 := by
  have h1 := ct_le (T := T) (e := e) (v := v) 256
  have h2 := sc_bl hk v (tN T) (Nat.le_refl _)
  have h3 := hs v
  exact Nat.le_trans h1 (Nat.le_trans (Nat.le_of_eq h2) h3)
theorem ch_congr {par byt par' byt' : Nat → Nat} {v b : Nat} : ∀ {n}, (∀ i, i < n → par' i = par i ∧ byt' i = byt i) → ch par' byt' v b n = ch par byt v b n
  | 0, _ => rfl
  | n + 1, h => by
    unfold ch
    rw [(h n (by omega)).1, (h n (by omega)).2, ch_congr (fun i hi => h i (by omega))]
theorem ch_inc {T : Tr} (hn : 0 < tN T) (v b v' b' : Nat) : chT (inc T v b) v' b' = if chT T v b = 0 ∧ v' = v ∧ b' = b then tN T else chT T v' b' := by
  unfold inc
  by_cases hc : chT T v b = 0
  · rw [if_pos hc]
    show (if 0 < tN T ∧ upN (tP T) (tN T) v (tN T) = v' ∧ upN (tB T) (tN T) b (tN T) = b' then tN T else ch (upN (tP T) (tN T) v) (upN (tB T) (tN T) b) v' b' (tN T)) = _
    rw [upN_s, upN_s]
    have e : ch (upN (tP T) (tN T) v) (upN (tB T) (tN T) b) v' b' (tN T) = chT T v' b' := ch_congr (fun i hi => ⟨upN_n (by omega), upN_n (by omega)⟩)
    by_cases h : v' = v ∧ b' = b
    · rw [if_pos ⟨hn, h.1.symm, h.2.symm⟩, if_pos ⟨hc, h⟩]
    · rw [if_neg (fun q => h ⟨q.2.1.symm, q.2.2.symm⟩), if_neg (fun q => h q.2)]
      exact e
  · rw [if_neg hc, if_neg (fun q => hc q.1)]
theorem hv_N (T : Tr) (v : Nat) : tN (hv T v) = tN T := by unfold hv; split <;> rfl
theorem hv_P (T : Tr) (v : Nat) : tP (hv T v) = tP T := by unfold hv; split <;> rfl
theorem hv_B (T : Tr) (v : Nat) : tB (hv T v) = tB T := by unfold hv; split <;> rfl
theorem hv_L (T : Tr) (v : Nat) : tL (hv T v) = tL T := by unfold hv; split <;> rfl
theorem hv_E (T : Tr) (v : Nat) : tE (hv T v) = tE T := by unfold hv; split <;> rfl
theorem hv_ch (T : Tr) (v v' b' : Nat) : chT (hv T v) v' b' = chT T v' b' := by unfold chT; rw [hv_N, hv_P, hv_B]
theorem inc_L (T : Tr) (v b : Nat) : tL (inc T v b) = tL T := by unfold inc; split <;> rfl
theorem inc_E (T : Tr) (v b : Nat) : tE (inc T v b) = tE T := by unfold inc; split <;> rfl
/-- more children, the same contexts -/
theorem cx_same {T T' : Tr} (hx : CtxOk T) (hL : tL T' = tL T) (hE : tE T' = tE T) (h : ∀ v b, chT T v b ≠ 0 → chT T' v b = chT T v b) : (∀ k, k ≤ tL T → ∀ j, j ≤ k → cxp T' k j = cxp T k j) ∧ CtxOk T' := by
  have key : ∀ k, k ≤ tL T → ∀ j, j ≤ k → cxp T' k j = cxp T k j := by
    intro k hk j
    induction j with
    | zero => intro _; rfl
    | succ j ih =>
      intro hj
      show chT T' (cxp T' k j) (tE T' (tL T' - k + j)) = chT T (cxp T k j) (tE T (tL T - k + j))
      rw [ih (by omega), hL, hE]
      exact h _ _ (hx k hk j (by omega))
  refine ⟨key, fun k hk j hj => ?_⟩
  rw [hL] at hk ⊢
  rw [hE, key k hk j (by omega), h _ _ (hx k hk j hj)]
  exact hx k hk j hj
theorem inc_ch {T : Tr} (hn : 0 < tN T) (v b v' b' : Nat) (h : chT T v' b' ≠ 0) : chT (inc T v b) v' b' = chT T v' b' := by
  rw [ch_inc hn, if_neg]
  rintro ⟨a, rfl, rfl⟩
  exact h a
theorem hi_cx {T : Tr} (hn : 0 < tN T) (hx : CtxOk T) (v b : Nat) : (∀ k, k ≤ tL T → cx (hv (inc T v b) v) k = cx T k) ∧ CtxOk (hv (inc T v b) v) := by
  obtain ⟨h1, h2⟩ := cx_same (T' := hv (inc T v b) v) hx (by rw [hv_L, inc_L]) (by rw [hv_E, inc_E]) (fun v' b' h => by rw [hv_ch, inc_ch hn v b v' b' h])
  exact ⟨fun k hk => h1 k hk k (Nat.le_refl _), h2⟩
theorem hi_N {T : Tr} (v b : Nat) : tN (hv (inc T v b) v) = if chT T v b = 0 then tN T + 1 else tN T := by
  rw [hv_N]; unfold inc; split <;> rfl
theorem inc_ok {T : Tr} {ord room : Nat} (hk : TOk ord room T) {v b : Nat} (hv : v < tN T) (hb : b < 256) (hr : ¬ (chT T v b = 0 ∧ tN T = room)) : TOk ord room (inc T v b) := by
  obtain ⟨k1, k2, k3, k4, k5, k6, kR, kD, k9⟩ := hk
  unfold inc
  by_cases hc : chT T v b = 0
  · rw [if_pos hc]
    have hno := ch_none hc
    refine ⟨Nat.le_add_left _ _, ?_, k3, k4, k5, k6, fun i h0 hi => ?_, fun i j i0 hi j0 hj hp hbb => ?_, k9⟩
    · show tN T + 1 ≤ room
      have : tN T ≠ room := fun e => hr ⟨hc, e⟩
      omega
    · show upN _ _ _ i < i ∧ upN _ _ _ i < 256 ∧ 0 < upN _ _ _ i
      have hi : i < tN T + 1 := hi
      by_cases e : i = tN T
      · subst e; rw [upN_s, upN_s, upN_s]; exact ⟨hv, hb, by decide⟩
      · rw [upN_n e, upN_n e, upN_n e]; exact kR i h0 (by omega)
    · have hi : i < tN T + 1 := hi
      have hj : j < tN T + 1 := hj
      have hp : upN (tP T) (tN T) v i = upN (tP T) (tN T) v j := hp
      have hbb : upN (tB T) (tN T) b i = upN (tB T) (tN T) b j := hbb
      by_cases e1 : i = tN T
      · by_cases e2 : j = tN T
        · omega
        · rw [e1, upN_s, upN_n e2] at hp hbb
          exact absurd ⟨hp.symm, hbb.symm⟩ (hno j j0 (by omega))
      · by_cases e2 : j = tN T
        · rw [e2, upN_s, upN_n e1] at hp hbb
          exact absurd ⟨hp, hbb⟩ (hno i i0 (by omega))
        · rw [upN_n e1, upN_n e2] at hp hbb
          exact kD i j i0 (by omega) j0 (by omega) hp hbb
  · rw [if_neg hc]
    refine ⟨k1, k2, k3, k4, k5, k6, fun i h0 hi => ?_, kD, k9⟩
    obtain ⟨a, b', c⟩ := kR i h0 hi
    refine ⟨a, b', ?_⟩
    show 0 < upN _ _ _ i
    unfold upN
    split <;> omega
theorem hv_ok {T : Tr} {ord room : Nat} (hk : TOk ord room T) (v : Nat) : TOk ord room (hv T v) := by
  obtain ⟨k1, k2, k3, k4, k5, k6, kR, kD, k9⟩ := hk
  refine ⟨by rw [hv_N]; exact k1, by rw [hv_N]; exact k2, k3, k4, by rw [hv_L]; exact k5, k6, ?_, by rw [hv_N, hv_P, hv_B]; exact kD, by rw [hv_L, hv_E]; exact k9⟩
  rw [hv_N, hv_P, hv_B]
  intro i h0 hi
  obtain ⟨a, b, c⟩ := kR i h0 hi
  refine ⟨a, b, ?_⟩
  unfold hv
  split
  · show 0 < (if tP T i = v then (tC T i + 1) / 2 else tC T i)
    split <;> omega
  · exact c
theorem sc_congr {par cnt par' cnt' : Nat → Nat} {v : Nat} : ∀ {n}, (∀ i, 0 < i → i < n → par' i = par i ∧ (par i = v → cnt' i = cnt i)) → sc par' cnt' v n = sc par cnt v n
  | 0, _ => rfl
  | n + 1, h => by
    show sc par' cnt' v n + _ = sc par cnt v n + _
    rw [sc_congr (fun i h0 hi => h i h0 (by omega))]
    by_cases h0 : 0 < n
    · obtain ⟨a, b⟩ := h n h0 (by omega)
      rw [a]
      by_cases hp : par n = v
      · rw [if_pos ⟨h0, hp⟩, if_pos ⟨h0, hp⟩, b hp]
      · rw [if_neg (fun q => hp q.2), if_neg (fun q => hp q.2)]
    · rw [if_neg (fun q => h0 q.1), if_neg (fun q => h0 q.1)]
theorem sc_one {par cnt : Nat → Nat} {v c : Nat} (h0 : 0 < c) (hp : par c = v) : ∀ {n}, c < n → sc par (upN cnt c (cnt c + 1)) v n = sc par cnt v n + 1
  | 0, h => absurd h (Nat.not_lt_zero _)
  | n + 1, h => by
    show sc par _ v n + _ = sc par cnt v n + _ + 1
    rcases Nat.lt_or_ge c n with h1 | h1
    · rw [sc_one h0 hp h1, upN_n (by omega)]; omega
    · have : c = n := by omega
      subst this
      rw [if_pos ⟨h0, hp⟩, if_pos ⟨h0, hp⟩, upN_s, sc_congr (cnt := cnt) (fun i _ hi => ⟨rfl, fun _ => upN_n (by omega)⟩)]
      omega
theorem inc_s {T : Tr} (hn : 0 < tN T) (v b v' : Nat) : sT (inc T v b) v' = sT T v' + if v' = v then 1 else 0 := by
  unfold inc
  by_cases hc : chT T v b = 0
  · rw [if_pos hc]
    show sc (upN (tP T) (tN T) v) (upN (tC T) (tN T) 1) v' (tN T) + (if 0 < tN T ∧ upN (tP T) (tN T) v (tN T) = v' then upN (tC T) (tN T) 1 (tN T) else 0) = _
    rw [upN_s, upN_s, sc_congr (par := tP T) (cnt := tC T) (fun i _ hi => ⟨upN_n (by omega), fun _ => upN_n (by omega)⟩)]
    by_cases h : v' = v
    · rw [if_pos ⟨hn, h.symm⟩, if_pos h]
    · rw [if_neg (fun q => h q.2.symm), if_neg h]
  · rw [if_neg hc]
    obtain ⟨c0, c1, c2, c3⟩ := ch_some hc
    show sc (tP T) (upN (tC T) (chT T v b) (tC T (chT T v b) + 1)) v' (tN T) = _
    by_cases h : v' = v
    · rw [if_pos h]
      exact sc_one c0 (c2.trans h.symm) c1
    · rw [if_neg h]
      exact sc_congr (fun i _ _ => ⟨rfl, fun hp => upN_n (fun e => h (by rw [← hp, e]; exact c2))⟩)
/-- how many children: at most 256 -/
theorem kc_le {T : Tr} {ord room : Nat} (hk : TOk ord room T) (v : Nat) : sc (tP T) (fun _ => 1) v (tN T) ≤ 256 := by
  have h : ∀ i, i ≤ tN T → nz (ctI T (fun _ => false) v i) 256 = sc (tP T) (fun _ => 1) v i := by
    intro i
    induction i with
    | zero =>
      intro _
      have : ∀ n, nz (ctI T (fun _ => false) v 0) n = 0 := by
        intro n
        induction n with
        | zero => rfl
        | succ n ih => show nz _ n + (if 0 < ctI T _ v 0 n then 1 else 0) = 0; rw [ih]; rfl
      exact this 256
    | succ i ih =>
      intro hi
      have ih := ih (by omega)
      obtain ⟨-, -, -, -, -, -, kR, kD, -⟩ := hk
      show _ = sc (tP T) (fun _ => 1) v i + _
      by_cases hc : 0 < i ∧ tP T i = v
      · obtain ⟨a, b, c⟩ := ctI_step (e := fun _ => false) kD hc.1 (by omega) hc.2 rfl
        rw [if_pos hc, nz_set a (by rw [b]; exact (kR i hc.1 (by omega)).2.2) c (kR i hc.1 (by omega)).2.1, ih]
      · rw [if_neg hc, nz_congr (t' := ctI T (fun _ => false) v i) (fun b _ => ctI_same (fun h => hc ⟨h.1, h.2.1⟩) b), ih]; rfl
  rw [← h _ (Nat.le_refl _)]
  exact nz_le 256
theorem sc_half {par cnt : Nat → Nat} {v : Nat} : ∀ n, 2 * sc par (fun i => if par i = v then (cnt i + 1) / 2 else cnt i) v n ≤ sc par cnt v n + sc par (fun _ => 1) v n
  | 0 => Nat.le_refl _
  | n + 1 => by
    have := sc_half (par := par) (cnt := cnt) (v := v) n
    show 2 * (sc par _ v n + _) ≤ sc par cnt v n + _ + (sc par _ v n + _)
    by_cases h : 0 < n ∧ par n = v
    · rw [if_pos h, if_pos h, if_pos h]
      show 2 * (_ + (if par n = v then (cnt n + 1) / 2 else cnt n)) ≤ _ + cnt n + (_ + 1)
      rw [if_pos h.2]; omega
    · rw [if_neg h, if_neg h, if_neg h]; omega
theorem hi_s {T : Tr} {ord room : Nat} (hk : TOk ord room T) (hs : SB T) {v b : Nat} (hvn : v < tN T) (hb : b < 256) (hr : ¬ (chT T v b = 0 ∧ tN T = room)) : SB (hv (inc T v b) v) ∧ sT (inc T v b) v ≤ 601 := by
  have hk' := inc_ok hk hvn hb hr
  have h1 : ∀ v', sT (inc T v b) v' ≤ 600 + if v' = v then 1 else 0 := fun v' => by
    rw [inc_s hk.1]; have := hs v'; omega
  have h2 : sT (inc T v b) v ≤ 601 := by have := h1 v; rw [if_pos rfl] at this; exact this
  refine ⟨fun v' => ?_, h2⟩
  unfold hv
  by_cases hc : 200 < sT (inc T v b) v
  · rw [if_pos hc]
    generalize inc T v b = T' at *
    show sc (tP T') (fun i => if tP T' i = v then (tC T' i + 1) / 2 else tC T' i) v' (tN T') ≤ 600
    by_cases hv' : v' = v
    · subst hv'
      have a := sc_half (par := tP T') (cnt := tC T') (v := v') (tN T')
      have c := kc_le hk' v'
      unfold sT at h2
      omega
    · rw [sc_congr (par := tP T') (cnt := tC T') (fun i _ _ => ⟨rfl, fun hp => if_neg (fun e => hv' (hp.symm.trans e))⟩)]
      have := h1 v'
      rw [if_neg hv'] at this
      exact this
  · rw [if_neg hc]
    by_cases hv' : v' = v
    · subst hv'; omega
    · have := h1 v'
      rw [if_neg hv'] at this
      exact this
