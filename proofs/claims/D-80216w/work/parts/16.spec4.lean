/-! THE PLAIN MODEL, part 4: learning keeps what holds of a tree -/
theorem cxs_ne {T : Tr} (hx : CtxOk T) {k j : Nat} (hk : k ≤ tL T) (hj : j < k) : cxp T k (j + 1) ≠ 0 := hx k hk j hj
theorem sfx_cx {T : Tr} (hx : CtxOk T) {sf : Nat → Nat} (h0 : sf 0 = 0) (hs : ∀ i, 0 < i → i < tN T → (tP T i = 0 → sf i = 0) ∧ (tP T i ≠ 0 → chT T (sf (tP T i)) (tB T i) = sf i ∧ sf i ≠ 0)) {k : Nat} (hk : k < tL T) : ∀ j, j ≤ k → sf (cxp T (k + 1) (j + 1)) = cxp T k j
  | 0, _ => by
    have hne := cxs_ne hx (k := k + 1) (j := 0) (by omega) (by omega)
    obtain ⟨a, b, c, d⟩ := ch_some hne
    exact (hs _ a b).1 c
  | j + 1, hj => by
    have ih := sfx_cx hx h0 hs hk j (by omega)
    have hne := cxs_ne hx (k := k + 1) (j := j + 1) (by omega) (by omega)
    have hne1 := cxs_ne hx (k := k + 1) (j := j) (by omega) (by omega)
    obtain ⟨a, b, c, d⟩ := ch_some hne
    have h2 := (hs _ a b).2 (by rw [c]; exact hne1)
    show sf (cxp T (k + 1) (j + 1 + 1)) = chT T (cxp T k j) (tE T (tL T - k + j))
    have e : tL T - (k + 1) + (j + 1) = tL T - k + j := by omega
    rw [c, d, ih] at h2
    rw [e] at h2
    have h3 : sf (cxp T (k + 1) (j + 1 + 1)) = chT T (cxp T k j) (tE T (tL T - k + j)) := by
      rw [h2.1]
      show sf (chT T (cxp T (k + 1) (j + 1)) (tE T (tL T - (k + 1) + (j + 1)))) = _
      rw [e]
    exact h3
/-- a byte known in a context is known in the shorter one -/
theorem ctx_down {T : Tr} (hx : CtxOk T) (hS : Sfx T) {k b : Nat} (hk : k < tL T) (h : chT T (cx T (k + 1)) b ≠ 0) : chT T (cx T k) b ≠ 0 := by
  obtain ⟨sf, h0, hs⟩ := hS
  obtain ⟨a, b', c, d⟩ := ch_some h
  have hne := cxs_ne hx (k := k + 1) (j := k) (by omega) (by omega)
  have h2 := (hs _ a b').2 (by rw [c]; exact hne)
  have h3 := sfx_cx hx h0 hs hk k (Nat.le_refl _)
  rw [c, d, h3] at h2
  rw [h2.1]
  exact h2.2
theorem ctx_all {T : Tr} (hx : CtxOk T) (hS : Sfx T) {b : Nat} : ∀ (j k : Nat), k + j ≤ tL T → chT T (cx T (k + j)) b ≠ 0 → chT T (cx T k) b ≠ 0
  | 0, _, _, h => h
  | j + 1, k, hk, h => ctx_all hx hS j k (by omega) (ctx_down hx hS (by omega) h)
theorem inc_sfx {T : Tr} {ord room k b : Nat} (hk : TOk ord room T) (hx : CtxOk T) (hS : Sfx T) (hkL : k ≤ tL T) (hp : k = 0 ∨ chT T (cx T (k - 1)) b ≠ 0) : Sfx (inc T (cx T k) b) := by
  obtain ⟨sf, h0, hs⟩ := hS
  have hn : 0 < tN T := hk.1
  have hkR := hk.2.2.2.2.2.2.1
  by_cases hc : chT T (cx T k) b = 0
  · have e : inc T (cx T k) b = (tN T + 1, upN (tP T) (tN T) (cx T k), upN (tB T) (tN T) b, upN (tC T) (tN T) 1, tL T, tE T) := by unfold inc; rw [if_pos hc]
    have hch := ch_inc (T := T) hn (cx T k) b
    rw [e] at hch ⊢
    refine ⟨upN sf (tN T) (if k = 0 then 0 else chT T (cx T (k - 1)) b), by rw [upN_n (by omega)]; exact h0, fun i i0 hi => ?_⟩
    have hi : i < tN T + 1 := hi
    show (upN (tP T) (tN T) (cx T k) i = 0 → _) ∧ (upN (tP T) (tN T) (cx T k) i ≠ 0 → chT _ (upN sf _ _ (upN (tP T) (tN T) (cx T k) i)) (upN (tB T) (tN T) b i) = _ ∧ _)
    by_cases ei : i = tN T
    · subst ei
      rw [upN_s, upN_s, upN_s, upN_n (show cx T k ≠ tN T from Nat.ne_of_lt (cxp_lt hn k k))]
      by_cases k0 : k = 0
      · subst k0
        exact ⟨fun _ => by rw [if_pos rfl], fun q => absurd rfl q⟩
      · rw [if_neg k0]
        have hcne : cx T k ≠ 0 := by
          have := cxs_ne hx (k := k) (j := k - 1) hkL (by omega)
          rwa [show k - 1 + 1 = k by omega] at this
        refine ⟨fun q => absurd q hcne, fun _ => ?_⟩
        have hpne : chT T (cx T (k - 1)) b ≠ 0 := by rcases hp with q | q; exact absurd q k0; exact q
        have hsf : sf (cx T k) = cx T (k - 1) := by
          have := sfx_cx hx h0 hs (k := k - 1) (by omega) (k - 1) (Nat.le_refl _)
          rwa [show k - 1 + 1 = k by omega] at this
        rw [hsf, hch, if_neg (fun q => hpne (by rw [q.2.1]; exact q.1))]
        exact ⟨rfl, hpne⟩
    · have hi : i < tN T := by omega
      have hpi := (hkR i i0 hi).1
      rw [upN_n ei, upN_n ei, upN_n ei, upN_n (show tP T i ≠ tN T by omega)]
      refine ⟨(hs i i0 hi).1, fun q => ?_⟩
      obtain ⟨a, b'⟩ := (hs i i0 hi).2 q
      rw [hch, if_neg (fun q => b' (by rw [← a, q.2.1, q.2.2]; exact q.1))]
      exact ⟨a, b'⟩
  · have e : inc T (cx T k) b = (tN T, tP T, tB T, upN (tC T) (chT T (cx T k) b) (tC T (chT T (cx T k) b) + 1), tL T, tE T) := by unfold inc; rw [if_neg hc]
    rw [e]
    exact ⟨sf, h0, hs⟩
theorem hv_sfx {T : Tr} {v : Nat} (hS : Sfx T) : Sfx (hv T v) := by
  obtain ⟨sf, h0, hs⟩ := hS
  refine ⟨sf, h0, ?_⟩
  rw [hv_N, hv_P, hv_B]
  intro i i0 hi
  rw [hv_ch]
  exact hs i i0 hi
theorem rs_TI {T : Tr} {ord room : Nat} (hk : TOk ord room T) : TI ord room (rs T) := by
  obtain ⟨k1, k2, k3, k4, k5, k6, kR, kD, k9⟩ := hk
  refine ⟨⟨Nat.le_refl _, by show 1 ≤ room; omega, k3, k4, Nat.zero_le _, k6, fun i h0 hi => ?_, fun i j i0 hi => ?_, fun i hi => absurd hi (Nat.not_lt_zero _)⟩, fun k hk j hj => ?_, ⟨fun _ => 0, rfl, fun i h0 hi => ?_⟩, fun v => ?_⟩
  · have hi : i < 1 := hi
    omega
  · have hi : i < 1 := hi
    omega
  · have hk : k ≤ 0 := hk
    omega
  · have hi : i < 1 := hi
    omega
  · show 0 + (if 0 < 0 ∧ _ then _ else 0) ≤ 600
    rw [if_neg (fun q => absurd q.1 (Nat.lt_irrefl 0))]; decide
theorem lr_TI {ord room b : Nat} (hb : b < 256) : ∀ (j k : Nat) (T : Tr), TI ord room T → k + j = tL T + 1 → (k = 0 ∨ chT T (cx T (k - 1)) b ≠ 0) →
    TI ord room (lr room b j k T).1 ∧ ((lr room b j k T).2 = false → tL (lr room b j k T).1 = tL T ∧ tE (lr room b j k T).1 = tE T ∧ (0 < j → chT (lr room b j k T).1 (cx (lr room b j k T).1 (tL T)) b ≠ 0))
  | 0, k, T, hT, _, _ => ⟨hT, fun _ => ⟨rfl, rfl, fun h => absurd h (Nat.lt_irrefl 0)⟩⟩
  | j + 1, k, T, hT, hkj, hp => by
    obtain ⟨hk, hx, hS, hB⟩ := hT
    have hn : 0 < tN T := hk.1
    unfold lr
    by_cases hr : chT T (cx T k) b = 0 ∧ tN T = room
    · rw [if_pos hr]
      exact ⟨rs_TI hk, fun h => absurd h (by simp)⟩
    · rw [if_neg hr]
      have hv0 : cx T k < tN T := cxp_lt hn k k
      obtain ⟨hc1, hc2⟩ := hi_cx hn hx (cx T k) b
      have hL' : tL (hv (inc T (cx T k) b) (cx T k)) = tL T := by rw [hv_L, inc_L]
      have hE' : tE (hv (inc T (cx T k) b) (cx T k)) = tE T := by rw [hv_E, inc_E]
      have hne : chT (hv (inc T (cx T k) b) (cx T k)) (cx T k) b ≠ 0 := by
        rw [hv_ch, ch_inc hn]
        by_cases hc : chT T (cx T k) b = 0
        · rw [if_pos ⟨hc, rfl, rfl⟩]; omega
        · rw [if_neg (fun q => hc q.1)]; exact hc
      have hTI : TI ord room (hv (inc T (cx T k) b) (cx T k)) := ⟨hv_ok (inc_ok hk hv0 hb hr) _, hc2, hv_sfx (inc_sfx hk hx hS (by omega) hp), (hi_s hk hB hv0 hb hr).1⟩
      have ih := lr_TI hb j (k + 1) _ hTI (by rw [hL']; omega) (Or.inr (by rw [show k + 1 - 1 = k by omega, hc1 k (by omega)]; exact hne))
      rw [hL', hE'] at ih
      refine ⟨ih.1, fun h => ?_⟩
      obtain ⟨a, c, d⟩ := ih.2 h
      refine ⟨a, c, fun _ => ?_⟩
      rcases Nat.eq_zero_or_pos j with hj | hj
      · subst hj
        show chT (hv (inc T (cx T k) b) (cx T k)) (cx (hv (inc T (cx T k) b) (cx T k)) (tL T)) b ≠ 0
        rw [hc1 (tL T) (Nat.le_refl _), show tL T = k by omega]
        exact hne
      · exact d hj
theorem rem_TI {ord room b : Nat} {T : Tr} (hb : b < 256) (hT : TI ord room T) (hc : chT T (cx T (tL T)) b ≠ 0) : TI ord room (rem ord b T) := by
  obtain ⟨hk, hx, hS, hB⟩ := hT
  have hall : ∀ k, k ≤ tL T → chT T (cx T k) b ≠ 0 := fun k hkL => ctx_all hx hS (tL T - k) k (by omega) (by rw [show k + (tL T - k) = tL T by omega]; exact hc)
  obtain ⟨k1, k2, k3, k4, k5, k6, kR, kD, k9⟩ := hk
  -- a tree with the same rows, whose latest are one byte further
  have key : ∀ (L' : Nat) (E' : Nat → Nat), L' ≤ ord → L' ≤ tL T + 1 → (∀ i, i < L' → E' i = if i + 1 < L' then tE T (tL T + 1 - L' + i) else b) → TI ord room (tN T, tP T, tB T, tC T, L', E') := by
    intro L' E' hL1 hL2 hE
    have hcx : ∀ k, k ≤ L' → ∀ j, j < k → cxp (tN T, tP T, tB T, tC T, L', E') k j = cxp T (k - 1) j := by
      intro k hk j
      induction j with
      | zero => intro _; rfl
      | succ j ih =>
        intro hj
        show chT T (cxp (tN T, tP T, tB T, tC T, L', E') k j) (E' (L' - k + j)) = chT T (cxp T (k - 1) j) (tE T (tL T - (k - 1) + j))
        rw [ih (by omega), hE _ (by omega), if_pos (by omega), show tL T + 1 - L' + (L' - k + j) = tL T - (k - 1) + j by omega]
    refine ⟨⟨k1, k2, k3, k4, hL1, k6, kR, kD, fun i hi => ?_⟩, fun k hk j hj => ?_, hS, hB⟩
    · have hi : i < L' := hi
      show E' i < 256
      rw [hE i hi]
      split
      · exact k9 _ (by omega)
      · exact hb
    · have hk : k ≤ L' := hk
      show chT T (cxp (tN T, tP T, tB T, tC T, L', E') k j) (E' (L' - k + j)) ≠ 0
      rw [hcx k hk j hj, hE _ (by omega)]
      by_cases hlast : L' - k + j + 1 < L'
      · rw [if_pos hlast, show tL T + 1 - L' + (L' - k + j) = tL T - (k - 1) + j by omega]
        exact hx (k - 1) (by omega) j (by omega)
      · rw [if_neg hlast, show j = k - 1 by omega]
        exact hall (k - 1) (by omega)
  unfold rem
  split
  · exact ⟨⟨k1, k2, k3, k4, k5, k6, kR, kD, k9⟩, hx, hS, hB⟩
  · rename_i h0
    split
    · rename_i hL
      refine key (tL T) _ k5 (by omega) (fun i hi => ?_)
      by_cases h : i + 1 < tL T
      · rw [if_pos h, if_pos h, show tL T + 1 - tL T + i = i + 1 by omega]
      · rw [if_neg h, if_neg h]
    · rename_i hL
      refine key (tL T + 1) _ (by omega) (Nat.le_refl _) (fun i hi => ?_)
      by_cases h : i + 1 < tL T + 1
      · rw [if_pos h, upN_n (by omega), show tL T + 1 - (tL T + 1) + i = i by omega]
      · rw [if_neg h, show i = tL T by omega, upN_s]
theorem learn_TI {ord room b fnd : Nat} {T : Tr} (hb : b < 256) (hT : TI ord room T) (hf : fnd ≤ tL T) (hp : fnd = 0 ∨ chT T (cx T fnd) b ≠ 0) : TI ord room (learnT ord room b fnd T).1 := by
  obtain ⟨h1, h2⟩ := lr_TI hb (tL T + 1 - fnd) fnd T hT (by omega) (by
    rcases hp with q | q
    · exact Or.inl q
    · rcases Nat.eq_zero_or_pos fnd with z | z
      · exact Or.inl z
      · right
        refine ctx_down hT.2.1 hT.2.2.1 (k := fnd - 1) (by omega) ?_
        rw [show fnd - 1 + 1 = fnd by omega]; exact q)
  unfold learnT
  split
  · exact h1
  · rename_i hr
    obtain ⟨a, -, c⟩ := h2 (by simpa using hr)
    exact rem_TI hb h1 (by rw [a]; exact c (by omega))
