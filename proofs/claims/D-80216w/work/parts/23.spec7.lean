/-! THE PLAIN MODEL, part 7: the whole state, and what each call answers and leaves.
S = (text's size, text, out's size, out, received's size, received, ends, kept many, kept, restarts, place, packed?, told, signs told, excluded, found) -/
abbrev Sg : Type := Nat × (Nat → Nat) × Nat × (Nat → Nat) × Nat × (Nat → Nat) × (Nat → Tr) × Nat × (Nat → Tr) × (Nat → Int32) × Int32 × Bool × (Nat → Nat) × Nat × (Nat → Nat) × (Nat → Nat)
def upT (f : Nat → Tr) (k : Nat) (v : Tr) : Nat → Tr := fun j => if j = k then v else f j
theorem upT_s {f : Nat → Tr} {k : Nat} {v : Tr} : upT f k v k = v := by unfold upT; rw [if_pos rfl]
theorem upT_n {f : Nat → Tr} {k j : Nat} {v : Tr} (h : j ≠ k) : upT f k v j = f j := by unfold upT; rw [if_neg h]
abbrev cl (x : Int32) : Nat := x.toNatClampNeg
theorem cl_nI {n : Nat} (h : n < 2 ^ 31) : cl (nI n) = n := nI_clamp h
/-- a number between 0 and n - 1 -/
theorem ix_of {i : Int32} {n : Nat} (hn : n < 2 ^ 30) (h : nI 0 ≤ i ∧ i ≤ nI n - nI 1) : ∃ j, j < n ∧ i = nI j := by
  obtain ⟨h1, h2⟩ := h
  rw [Int32.le_iff_toInt_le] at h1 h2
  rw [pk_sub_toInt hn (by decide)] at h2
  rw [nI_toInt (by decide)] at h1
  obtain ⟨j, hj, rfl⟩ := nI_of (x := i) (by rw [Int32.lt_iff_toInt_lt, Int32.toInt_zero]; omega)
  rw [nI_toInt hj] at h2
  exact ⟨j, by omega, rfl⟩
theorem ix_of2 {i : Int32} {n : Nat} (hn : n < 2 ^ 30) (h : nI 0 ≤ i ∧ i ≤ nI n) : ∃ j, j ≤ n ∧ i = nI j := by
  obtain ⟨h1, h2⟩ := h
  rw [Int32.le_iff_toInt_le] at h1 h2
  rw [nI_toInt (by omega)] at h1 h2
  obtain ⟨j, hj, rfl⟩ := nI_of (x := i) (by rw [Int32.lt_iff_toInt_lt, Int32.toInt_zero]; omega)
  rw [nI_toInt hj] at h2
  exact ⟨j, by omega, rfl⟩
theorem ix_in {j n : Nat} (hn : n < 2 ^ 30) (h : j < n) : nI 0 ≤ nI j ∧ nI j ≤ nI n - nI 1 := by
  rw [pk_sub (by omega)]
  exact ⟨nI_le (Nat.zero_le _) (by omega), nI_le (by omega) (by omega)⟩
def oClear : Sg → Int32 × Sg := fun (ts, tx, os, ou, rc, re, E, K, kT, R, pl, ip, to, pn, px, pf) => (nI ts, (0, tx, os, ou, rc, re, E, K, kT, R, pl, ip, to, pn, px, pf))
def oAdd (b : Int32) : Sg → Int32 × Sg := fun (ts, tx, os, ou, rc, re, E, K, kT, R, pl, ip, to, pn, px, pf) =>
  if ¬ (nI 0 ≤ b ∧ b ≤ nI 255) then (-1, (ts, tx, os, ou, rc, re, E, K, kT, R, pl, ip, to, pn, px, pf))
  else if ts = 300 then (-2, (ts, tx, os, ou, rc, re, E, K, kT, R, pl, ip, to, pn, px, pf))
  else (nI (ts + 1), (ts + 1, upN tx ts (cl b), os, ou, rc, re, E, K, kT, R, pl, ip, to, pn, px, pf))
def fz (x : Int32) : Nat := x.toBitVec.toNat / 2 ^ 16
def fq (x : Int32) : Nat := x.toBitVec.toNat / 2 ^ 28
def fb (how bk : Nat) (x : Int32) (last ts : Nat) (tx : Nat → Nat) : Nat :=
  if how = 2 then (if ts < bk then 0 else (tx (ts - bk) + if fz x % 16 = 0 then 1 else 0) % 256) else if how = 0 then fz x % 256 else if how = 1 then fz x % 4 else (last + fz x % 4) % 256
def fil (how bk : Nat) : Nat → Int32 → Nat → Nat → (Nat → Nat) → Nat → Nat
  | 0, _, _, _, tx => tx
  | j + 1, x, last, ts, tx => fil how bk j (x * nI 1103515245 + nI 12345) (fb how bk (x * nI 1103515245 + nI 12345) last ts tx) (ts + 1) (upN tx ts (fb how bk (x * nI 1103515245 + nI 12345) last ts tx))
def oFill (n seed how : Int32) : Sg → Int32 × Sg := fun (ts, tx, os, ou, rc, re, E, K, kT, R, pl, ip, to, pn, px, pf) =>
  if ¬ (nI 1 ≤ n ∧ n ≤ nI 300) ∨ ¬ (nI 0 ≤ how ∧ how ≤ nI 3) then (-1, (ts, tx, os, ou, rc, re, E, K, kT, R, pl, ip, to, pn, px, pf))
  else if 300 < ts + cl n then (-2, (ts, tx, os, ou, rc, re, E, K, kT, R, pl, ip, to, pn, px, pf))
  else (nI (ts + cl n), (ts + cl n, fil (cl how) (1 + fq seed) (cl n) seed 0 ts tx, os, ou, rc, re, E, K, kT, R, pl, ip, to, pn, px, pf))
def oSize (w : Int32) : Sg → Int32 × Sg := fun (ts, tx, os, ou, rc, re, E, K, kT, R, pl, ip, to, pn, px, pf) =>
  (if w = 0 then nI ts else if w = nI 1 then nI os else if w = nI 2 then nI rc else -1, (ts, tx, os, ou, rc, re, E, K, kT, R, pl, ip, to, pn, px, pf))
def oOctet (w i : Int32) : Sg → Int32 × Sg := fun (ts, tx, os, ou, rc, re, E, K, kT, R, pl, ip, to, pn, px, pf) =>
  (if w = 0 ∧ nI 0 ≤ i ∧ i ≤ nI ts - nI 1 then nI (tx (cl i)) else if w = nI 1 ∧ nI 0 ≤ i ∧ i ≤ nI os - nI 1 then nI (ou (cl i)) else if w = nI 2 ∧ nI 0 ≤ i ∧ i ≤ nI rc - nI 1 then nI (re (cl i)) else -1, (ts, tx, os, ou, rc, re, E, K, kT, R, pl, ip, to, pn, px, pf))
def oAlter (i b : Int32) : Sg → Int32 × Sg := fun (ts, tx, os, ou, rc, re, E, K, kT, R, pl, ip, to, pn, px, pf) =>
  if ¬ (nI 0 ≤ i ∧ i ≤ nI os - nI 1) ∨ ¬ (nI 0 ≤ b ∧ b ≤ nI 255) then (-1, (ts, tx, os, ou, rc, re, E, K, kT, R, pl, ip, to, pn, px, pf))
  else (nI (ou (cl i)), (ts, tx, os, upN ou (cl i) (cl b), rc, re, E, K, kT, R, pl, ip, to, pn, px, pf))
def oCut (n : Int32) : Sg → Int32 × Sg := fun (ts, tx, os, ou, rc, re, E, K, kT, R, pl, ip, to, pn, px, pf) =>
  if ¬ (nI 0 ≤ n ∧ n ≤ nI os) then (-1, (ts, tx, os, ou, rc, re, E, K, kT, R, pl, ip, to, pn, px, pf))
  else (nI (os - cl n), (ts, tx, cl n, ou, rc, re, E, K, kT, R, pl, ip, to, pn, px, pf))
/-- pack(): the text is written by the first end's tree -/
def oPack (ord room : Nat) : Sg → Int32 × Sg := fun (ts, tx, _, _, rc, re, E, K, kT, R, pl, _, _, _, _, _) =>
  (nI (((wrt ord room ts tx (E 0)).2.2.2.1 + 7) / 8), (ts, tx, ((wrt ord room ts tx (E 0)).2.2.2.1 + 7) / 8, (wrt ord room ts tx (E 0)).2.2.2.2, rc, re, upT E 0 (wsq ord room ts tx (E 0) (ts + 1)).1, K, kT, upd R 0 (R 0 + nI (wsq ord room ts tx (E 0) (ts + 1)).2.2.2), pl, true,
    (fun w => if w = 0 then (wrt ord room ts tx (E 0)).2.2.2.1 else if w = 1 then (wsq ord room ts tx (E 0) (ts + 1)).2.2.1 else (wsq ord room ts tx (E 0) (ts + 1)).2.2.2), ts + 1, (fun i => (tell (wsq ord room ts tx (E 0) i).1 (sgn ts tx i)).2.2.1), (fun i => (tell (wsq ord room ts tx (E 0) i).1 (sgn ts tx i)).2.1)))
/-- the first 16 bits -/
def num0 (nb : Nat → Nat) : Nat → Nat
  | 0 => 0
  | k + 1 => 2 * num0 nb k + nb k
/-- reading: fault, how many bytes, the bytes, how often it began anew -/
def opl (ord room os : Nat) (nb : Nat → Nat) : Nat → Tr → Rd → Nat → (Nat → Nat) → Nat → Nat × Nat × (Nat → Nat) × Nat
  | 0, _, _, n, row, an => (1, n, row, an)
  | j + 1, T, r, n, row, an =>
    if 8 * os + 16 < r.2.2.2 then (1, n, row, an)
    else if rsign T nb r < 256 then
      if n = 300 then (2, n, row, an)
      else opl ord room os nb j (learnT ord room (rsign T nb r) ((tell T (rsign T nb r)).2.1 - 1) T).1 (rf nb (tell T (rsign T nb r)).1 r) (n + 1) (upN row n (rsign T nb r)) (an + if (learnT ord room (rsign T nb r) ((tell T (rsign T nb r)).2.1 - 1) T).2 then 1 else 0)
    else (0, n, row, an)
/-- where two rows of bytes differ first, from i on -/
def dif (a b : Nat → Nat) : Nat → Nat → Nat
  | 0, i => i
  | j + 1, i => if a i = b i then dif a b j (i + 1) else i
def oOpen (ord room : Nat) : Sg → Int32 × Sg := fun (ts, tx, os, ou, rc, re, E, K, kT, R, pl, ip, to, pn, px, pf) =>
  let P := opl ord room os (nbit ou os) 302 (E 1) (0, 65535, num0 (nbit ou os) 16, 16) 0 (fun _ => 0) 0
  let z := ((wrt ord room P.2.1 P.2.2.1 (E 1)).2.2.2.1 + 7) / 8
  let i := dif (wrt ord room P.2.1 P.2.2.1 (E 1)).2.2.2.2 ou (min z os) 0
  if P.1 = 1 then (-11, (ts, tx, os, ou, rc, re, E, K, kT, R, -3, ip, to, pn, px, pf))
  else if P.1 = 2 then (-12, (ts, tx, os, ou, rc, re, E, K, kT, R, -3, ip, to, pn, px, pf))
  else if i < z ∨ i < os then (-13, (ts, tx, os, ou, rc, re, E, K, kT, R, nI i, ip, to, pn, px, pf))
  else (nI P.2.1, (ts, tx, os, ou, P.2.1, P.2.2.1, upT E 1 (wsq ord room P.2.1 P.2.2.1 (E 1) (P.2.1 + 1)).1, K, kT, upd R 1 (R 1 + nI P.2.2.2), -3, ip, to, pn, px, pf))
def oPlace : Sg → Int32 × Sg := fun (ts, tx, os, ou, rc, re, E, K, kT, R, pl, ip, to, pn, px, pf) => (pl, (ts, tx, os, ou, rc, re, E, K, kT, R, pl, ip, to, pn, px, pf))
def oTold (w : Int32) : Sg → Int32 × Sg := fun (ts, tx, os, ou, rc, re, E, K, kT, R, pl, ip, to, pn, px, pf) =>
  (if ¬ (nI 0 ≤ w ∧ w ≤ nI 2) then -1 else if ip = true then nI (to (cl w)) else -3, (ts, tx, os, ou, rc, re, E, K, kT, R, pl, ip, to, pn, px, pf))
def oSign (i w : Int32) : Sg → Int32 × Sg := fun (ts, tx, os, ou, rc, re, E, K, kT, R, pl, ip, to, pn, px, pf) =>
  (if ¬ (nI 0 ≤ i ∧ i ≤ nI pn - nI 1) ∨ ¬ (nI 0 ≤ w ∧ w ≤ nI 1) then -1 else if w = 0 then nI (px (cl i)) else fenc (pf (cl i)), (ts, tx, os, ou, rc, re, E, K, kT, R, pl, ip, to, pn, px, pf))
abbrev isE (e : Int32) : Prop := nI 0 ≤ e ∧ e ≤ nI 1
def oNodes (e : Int32) : Sg → Int32 × Sg := fun (ts, tx, os, ou, rc, re, E, K, kT, R, pl, ip, to, pn, px, pf) =>
  (if isE e then nI (tN (E (cl e))) else -1, (ts, tx, os, ou, rc, re, E, K, kT, R, pl, ip, to, pn, px, pf))
/-- how deep a node is -/
def dpt (par : Nat → Nat) : Nat → Nat → Nat
  | 0, _ => 0
  | j + 1, i => if i = 0 then 0 else 1 + dpt par j (par i)
/-- node(): the answer; none: it is thrown -/
def oNode (e i w : Int32) (S : Sg) : Option Int32 :=
  let T := S.2.2.2.2.2.2.1 (cl e)
  if ¬ isE e ∨ ¬ (nI 0 ≤ w ∧ w ≤ nI 3) then some (-1)
  else if ¬ (nI 0 ≤ i ∧ i ≤ nI (tN T) - nI 1) then none
  else if w = 0 then some (if cl i = 0 then -1 else nI (tP T (cl i)))
  else if w = nI 1 then some (if cl i = 0 then -1 else nI (tB T (cl i)))
  else if w = nI 2 then some (if cl i = 0 then nI 0 else nI (tC T (cl i)))
  else some (nI (dpt (tP T) (tN T) (cl i)))
def oLatest (e i : Int32) : Sg → Int32 × Sg := fun (ts, tx, os, ou, rc, re, E, K, kT, R, pl, ip, to, pn, px, pf) =>
  (if isE e ∧ nI 0 ≤ i ∧ i ≤ nI (tL (E (cl e))) - nI 1 then nI (tE (E (cl e)) (cl i)) else -1, (ts, tx, os, ou, rc, re, E, K, kT, R, pl, ip, to, pn, px, pf))
def oRestarted (e : Int32) : Sg → Int32 × Sg := fun (ts, tx, os, ou, rc, re, E, K, kT, R, pl, ip, to, pn, px, pf) =>
  (if isE e then R (cl e) else -1, (ts, tx, os, ou, rc, re, E, K, kT, R, pl, ip, to, pn, px, pf))
def oReset (e : Int32) : Sg → Int32 × Sg := fun (ts, tx, os, ou, rc, re, E, K, kT, R, pl, ip, to, pn, px, pf) =>
  if isE e then (nI (tN (E (cl e))), (ts, tx, os, ou, rc, re, upT E (cl e) (rs (E (cl e))), K, kT, R, pl, ip, to, pn, px, pf)) else (-1, (ts, tx, os, ou, rc, re, E, K, kT, R, pl, ip, to, pn, px, pf))
/-- two trees' rows are the same -/
def eqT (A B : Tr) : Prop := tN A = tN B ∧ tL A = tL B ∧ (∀ i, 0 < i → i < tN A → tP A i = tP B i ∧ tB A i = tB B i ∧ tC A i = tC B i) ∧ ∀ i, i < tL A → tE A i = tE B i
/-- equal(): x is the answer -/
def oEqual (S : Sg) (x : Int32) : Prop := (eqT (S.2.2.2.2.2.2.1 0) (S.2.2.2.2.2.2.1 1) ∧ x = nI 1) ∨ (¬ eqT (S.2.2.2.2.2.2.1 0) (S.2.2.2.2.2.2.1 1) ∧ x = nI 0)
def oSave (e : Int32) : Sg → Int32 × Sg := fun (ts, tx, os, ou, rc, re, E, K, kT, R, pl, ip, to, pn, px, pf) =>
  if ¬ isE e then (-1, (ts, tx, os, ou, rc, re, E, K, kT, R, pl, ip, to, pn, px, pf)) else if K = 4 then (-2, (ts, tx, os, ou, rc, re, E, K, kT, R, pl, ip, to, pn, px, pf))
  else (nI K, (ts, tx, os, ou, rc, re, E, K + 1, upT kT K (E (cl e)), R, pl, ip, to, pn, px, pf))
def oRestore (e k : Int32) : Sg → Int32 × Sg := fun (ts, tx, os, ou, rc, re, E, K, kT, R, pl, ip, to, pn, px, pf) =>
  if ¬ isE e ∨ ¬ (nI 0 ≤ k ∧ k ≤ nI K - nI 1) then (-1, (ts, tx, os, ou, rc, re, E, K, kT, R, pl, ip, to, pn, px, pf))
  else (nI (tN (kT (cl k))), (ts, tx, os, ou, rc, re, upT E (cl e) (kT (cl k)), K, kT, R, pl, ip, to, pn, px, pf))
def oForget : Sg → Int32 × Sg := fun (ts, tx, os, ou, rc, re, E, K, kT, R, pl, ip, to, pn, px, pf) => (nI K, (ts, tx, os, ou, rc, re, E, 0, kT, R, pl, ip, to, pn, px, pf))
/-- how many doublings of len reach of -/
def kb (len of : Nat) : Nat → Nat → Nat
  | 0, k => k
  | j + 1, k => if len * 2 ^ k < of then kb len of j (k + 1) else k
abbrev bo (s : Sp) : Nat := kb s.2.1 s.2.2 15 0
def cst : List Sp → Nat
  | [] => 0
  | s :: l => bo s + cst l
def oCost (e s : Int32) : Sg → Int32 × Sg := fun (ts, tx, os, ou, rc, re, E, K, kT, R, pl, ip, to, pn, px, pf) =>
  (if ¬ isE e ∨ ¬ (nI 0 ≤ s ∧ s ≤ nI 256) then -1 else nI (cst (tell (E (cl e)) (cl s)).1), (ts, tx, os, ou, rc, re, E, K, kT, R, pl, ip, to, pn, px, pf))
/-- the twin holds the state -/
def MW (ord room : Nat) (f : Nat → Int32) (g : Nat → Nat → Int32) : Sg → Prop := fun (ts, tx, os, ou, rc, re, E, K, kT, R, pl, ip, to, pn, px, pf) =>
  (f 1 = nI ord ∧ f 2 = nI room) ∧ (f 3 = nI ts ∧ ts ≤ 300 ∧ ∀ i, i < ts → g 0 i = nI (tx i) ∧ tx i < 256) ∧ OUT f g ou os ∧ (f 5 = nI rc ∧ rc ≤ 300 ∧ ∀ i, i < rc → g 2 i = nI (re i)) ∧
  (∀ m, m < 2 → TM g m (E m) ∧ TI ord room (E m)) ∧ (f 6 = nI K ∧ K ≤ 4 ∧ ∀ k, k < K → TM g (3 + k) (kT k) ∧ TI ord room (kT k)) ∧ (∀ m, m < 2 → g 9 m = R m) ∧ f 24 = pl ∧
  (f 20 = nI (if ip then 1 else 0) ∧ f 21 = nI pn ∧ pn ≤ 301 ∧ (ip = false → pn = 0) ∧ (ip = true → ∀ w, w < 3 → g 15 w = nI (to w)) ∧ ∀ i, i < pn → g 16 i = nI (px i) ∧ g 17 i = fenc (pf i))
theorem TI.n {ord room : Nat} {T : Tr} (h : TI ord room T) : tN T ≤ 1500 := Nat.le_trans h.1.2.1 h.1.2.2.1
theorem TI.l {ord room : Nat} {T : Tr} (h : TI ord room T) : tL T ≤ 4 := Nat.le_trans h.1.2.2.2.2.1 h.1.2.2.2.2.2.1
theorem MW.keep {ord room : Nat} {f f' : Nat → Int32} {g g' : Nat → Nat → Int32} {S : Sg} (h : MW ord room f g S) (hf : ∀ k, k ∈ [1, 2, 3, 4, 5, 6, 20, 21, 24] → f' k = f k) (hg : ∀ j, j ∈ [0, 1, 2, 9, 15, 16, 17] → g' j = g j) (hB : Bd 2 g g') : MW ord room f' g' S := by
  obtain ⟨ts, tx, os, ou, rc, re, E, K, kT, R, pl, ip, to, pn, px, pf⟩ := S
  obtain ⟨h1, h2, h3, h4, h5, h6, h7, h8, h9⟩ := h
  refine ⟨?_, ?_, ?_, ?_, fun m hm => ?_, ⟨?_, h6.2.1, fun k hk => ?_⟩, ?_, ?_, ?_⟩
  · rw [hf 1 (by decide), hf 2 (by decide)]; exact h1
  · rw [hf 3 (by decide), hg 0 (by decide)]; exact h2
  · exact h3.keep (hf 4 (by decide)) (hg 1 (by decide))
  · rw [hf 5 (by decide), hg 2 (by decide)]; exact h4
  · obtain ⟨a, b⟩ := h5 m hm
    exact ⟨hB.other (by omega) b.n b.l a, b⟩
  · rw [hf 6 (by decide)]; exact h6.1
  · obtain ⟨a, b⟩ := h6.2.2 k hk
    exact ⟨hB.other (by omega) b.n b.l a, b⟩
  · rw [hg 9 (by decide)]; exact h7
  · rw [hf 24 (by decide)]; exact h8
  · rw [hf 20 (by decide), hf 21 (by decide), hg 15 (by decide), hg 16 (by decide), hg 17 (by decide)]; exact h9
theorem MW.thrown {ord room : Nat} {f : Nat → Int32} {g : Nat → Nat → Int32} {S : Sg} {v : Int32} (h : MW ord room f g S) : MW ord room (upd f 0 v) g S :=
  h.keep (fun k hk => upd_n (fun e => by subst e; revert hk; decide)) (fun _ _ => rfl) Bd.rf
