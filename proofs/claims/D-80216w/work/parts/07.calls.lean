/-! CALLS: the callee's cells wc stand first in the world, the rest wr is the frame -/
theorem vaP_split {D : va_G} {cl : List vw_C} {w1 w2 : va_W} {H : Heap} (h : va_P D cl (w1 ++ w2) H) : va_P D cl w1 H ∧ va_P D cl w2 H := by
  refine ⟨fun k q hk => h k q ?_, fun k q hk => h (w1.length + k) q ?_⟩
  · rw [List.getElem?_append_left (List.getElem?_eq_some_iff.mp hk).1]; exact hk
  · rw [List.getElem?_append_right (Nat.le_add_right _ _), Nat.add_sub_cancel_left]; exact hk
theorem vaD_split {A : Nat → Prop} {w1 w2 : va_W} (h : va_D A (w1 ++ w2)) : va_D A w1 ∧ va_D A w2 ∧ ∀ (i j : Nat) (p q : Nat × va_E), w1[i]? = some p → w2[j]? = some q → p.1 ≠ q.1 := by
  have l1 : ∀ (k : Nat) (q : Nat × va_E), w1[k]? = some q → (w1 ++ w2)[k]? = some q := fun k q hk => by
    rw [List.getElem?_append_left (List.getElem?_eq_some_iff.mp hk).1]; exact hk
  have l2 : ∀ (k : Nat) (q : Nat × va_E), w2[k]? = some q → (w1 ++ w2)[w1.length + k]? = some q := fun k q hk => by
    rw [List.getElem?_append_right (Nat.le_add_right _ _), Nat.add_sub_cancel_left]; exact hk
  refine ⟨⟨fun i j p q hi hj e => h.1 i j p q (l1 _ _ hi) (l1 _ _ hj) e, fun k q hk => h.2 k q (l1 _ _ hk)⟩, ⟨fun i j p q hi hj e => ?_, fun k q hk => h.2 _ q (l2 _ _ hk)⟩, fun i j p q hi hj e => ?_⟩
  · have := h.1 _ _ p q (l2 _ _ hi) (l2 _ _ hj) e; omega
  · have h1 := h.1 _ _ p q (l1 _ _ hi) (l2 _ _ hj) e
    have h2 := (List.getElem?_eq_some_iff.mp hi).1
    omega
theorem PcK_blind {Γ : Gl} {av : List Value} {ws : va_W} {sz : Nat} : FrameBlind (PcK Γ av ws sz) := fun a U g mk q => by
  obtain ⟨q0, q1, qP, qK, qD, qN⟩ := q
  exact ⟨q0, q1, qP, va_K.moved (u := U) (U := U.calling g mk a) (Vm.Alike.refl U.vm) qK, qD, qN.calling⟩
theorem gS {own : String} {idx : Nat} {y : MethodName} {b : ByteArray} {mL : Nat} {r : Option FieldType} (h1 : Cond.methodLink own idx y ∈ Tg) (h2 : Cond.static y ∈ Tg) (h3 : Cond.initialized own ∈ Tg) (h4 : Cond.code y b mL r ∈ Tg) : GoodIn Tg (wsS own idx y (.code y b mL r :: Tg)) := by
  intro w hw
  have ok : w ∈ Tg → w ∈ Tg ∧ ((w.onTables && w.keeps) = true ∨ ∃ ty, w = .arrayClass ty) := fun h => ⟨h, good_of_word (List.mem_filter.mp h).2⟩
  apply ok
  simp only [wsS, List.mem_append, List.mem_cons, List.not_mem_nil, or_false] at hw
  rcases hw with (rfl | rfl | rfl) | rfl | h
  · exact h1
  · exact h2
  · exact h3
  · exact h4
  · exact h
theorem gV {own C : String} {idx : Nat} {y : MethodName} {b : ByteArray} {mL : Nat} {r : Option FieldType} (h1 : Cond.methodLink own idx y ∈ Tg) (h2 : Cond.instanceMethod y ∈ Tg) (h3 : Cond.selects C y y ∈ Tg) (h3' : Cond.initialized C ∈ Tg) (h4 : Cond.code y b mL r ∈ Tg) : GoodIn Tg (wsV own idx C y (.code y b mL r :: Tg)) := by
  intro w hw
  have ok : w ∈ Tg → w ∈ Tg ∧ ((w.onTables && w.keeps) = true ∨ ∃ ty, w = .arrayClass ty) := fun h => ⟨h, good_of_word (List.mem_filter.mp h).2⟩
  apply ok
  simp only [wsV, List.mem_append, List.mem_cons, List.not_mem_nil, or_false] at hw
  rcases hw with (rfl | rfl | rfl | rfl) | rfl | h
  · exact h1
  · exact h2
  · exact h3
  · exact h3'
  · exact h4
  · exact h
theorem gI {y : MethodName} {b : ByteArray} {mL : Nat} {r : Option FieldType} (h4 : Cond.code y b mL r ∈ Tg) : GoodIn Tg (.code y b mL r :: Tg) := by
  intro w hw
  have ok : w ∈ Tg → w ∈ Tg ∧ ((w.onTables && w.keeps) = true ∨ ∃ ty, w = .arrayClass ty) := fun h => ⟨h, good_of_word (List.mem_filter.mp h).2⟩
  apply ok
  rcases List.mem_cons.mp hw with rfl | h
  · exact h4
  · exact h
section
variable {E : Ev} {own : String} {cc : ByteArray} {k n pc q dE mcE msE : Nat} {lv : LV} {st : List Value} {wc wr : va_W} {y : MethodName} {b : ByteArray} {mL : Nat} {r : Option FieldType} {d mc ms idx : Nat} {av As rest : List Value} {post : Option Value → va_W → Prop}
/-- what comes back from a call, whatever its kind: len is the call's length -/
theorem g_back (C : Cx E own cc) {len : Nat} {a : Array Value} (hrun : ∀ (H : Heap) (locs : List Loc) (ls : Array Slot), va_P (xG E).1 classes wc H → va_D (fun _ => True) wc → LH ls (xn E) lv →
      ∀ T : State, T.heap = H → Stand (xp E) (xl E) (xe E) (xR E) (xs E) (xm E) (xa E) (xb E) (xh E) (xc E) T locs k n → ∃ (v : Option Value) (st₀ t T' : State) (L : List Loc), st₀.heap = H ∧ Stand (xp E) (xl E) (xe E) (xR E) (xs E) (xm E) (xa E) (xb E) (xh E) (xc E) T' (locs ++ L) (k + mc) (n + ms) ∧ (∀ q ∈ L, va_A wc H.size q.base) ∧ T'.heap = t.heap ∧ T'.vm = t.vm ∧ Qcf (xG E) (va_A wc H.size) post a st₀ (.returned v) t ∧
        Goes (xp E) (xe E) (xb E) T (F0 (xm E) pc ls st) T' { F0 (xm E) pc ls st with pc := pc + len, stack := v.toList ++ rest })
    (kk : ∀ (v : Option Value) (ws' : va_W), post v ws' → G E (k + mc) (n + ms) (pc + len) lv (v.toList ++ rest) (ws' ++ wr)) : G E k n pc lv st (wc ++ wr) := by
  intro H locs ls hP hD hS hl T hT X
  obtain ⟨hPc, hPr⟩ := vaP_split hP
  obtain ⟨hDc, hDr, hx⟩ := vaD_split hD
  obtain ⟨v, st₀, t, T', L, h0, X', hL, e1, e2, ⟨⟨v', ws', hv', hpost, hP1, hD1⟩, hF⟩, hgo⟩ := hrun H locs ls hPc (hDc.weaken (fun _ _ _ _ => trivial)) hl T hT X
  cases hv'
  have hfree : ∀ q, va_A wc H.size q → xA E q := by
    rintro q (⟨j, e, hj⟩ | hq)
    · exact hDc.2 j _ hj
    · exact C.2.2.2.2.2.2.2.1 q (Nat.le_trans hS.1 hq)
  have hkeep : ∀ q : Nat, q < H.size → ¬ va_A wc H.size q → t.heap[q]? = H[q]? := fun q h1 h2 => by have h3 := hF.2 q (by rw [h0]; exact h1) h2; rw [h0] at h3; exact h3
  have hcross : ∀ (j : Nat) (p : Nat × va_E), wr[j]? = some p → ¬ va_A wc H.size p.1 := by
    rintro j p hj (⟨i, e, hi⟩ | hq)
    · exact hx i j _ _ hi hj rfl
    · exact absurd ((hPr j p hj).lt) (by omega)
  have hPr1 : va_P (xG E).1 classes wr t.heap := hPr.kept (fun j p hj => hkeep p.1 (hPr j p hj).lt (hcross j p hj))
  have hsz : H.size ≤ t.heap.size := by rw [← h0]; exact hF.1
  obtain ⟨t2, a1, b1⟩ := kk v ws' hpost t.heap (locs ++ L) ls (hP1.app hPr1)
    ((hD1.weaken (fun _ _ _ h => hfree _ h)).app hDr (fun i j p q hi hj e => hcross j q hj (e ▸ hD1.2 i p hi)))
    ⟨Nat.le_trans hS.1 hsz, fun q h1 h2 => by rw [hkeep q (Nat.lt_of_lt_of_le h1 hS.1) (fun h => h2 (hfree q h))]; exact hS.2.1 q h1 h2, fun z hz => by
      rcases List.mem_append.mp hz with h | h
      · exact hS.2.2 z h
      · exact hfree _ (hL z h)⟩ hl T' e1 X'
  exact ⟨t2, hgo t2 a1, b1⟩
theorem g_callS (C : Cx E own cc) (hR : Rm E dE mcE msE) (hM : Ct (xl E) (xG E) y b mL r d mc ms As wc post) (h1 : Cond.methodLink own idx y ∈ Tg) (h2 : Cond.static y ∈ Tg) (h3 : Cond.initialized own ∈ Tg) (h4 : Cond.code y b mL r ∈ Tg)
    (hy : y.cls = own ∧ y.cls ≠ "java/lang/invoke/MethodHandle" ∧ y.cls ≠ "java/lang/invoke/VarHandle" ∧ (parseMethodDescriptor y.desc).map (fun d => d.parameters.length) = some As.length) (hd : decode cc pc = .ok (.invokestatic idx, 3)) (hq : pc + 3 = q) (hst : st = As.reverse ++ rest) (hmL : mL ≤ 45) (hdp : d + 1 ≤ dE) (hk : k + mc ≤ mcE) (hn : n + ms ≤ msE) (hrest : (rest.map fun v => v.category).sum ≤ 8)
    (kk : ∀ (v : Option Value) (ws' : va_W), post v ws' → G E (k + mc) (n + ms) q lv (v.toList ++ rest) (ws' ++ wr)) : G E k n pc lv st (wc ++ wr) := by
  subst hq
  obtain ⟨r1, r2, r3, r4⟩ := hR
  refine g_back (a := As.toArray) C (fun H locs ls hP hD hl => ?_) kk
  exact va_runS (rest := rest) ⟨C.1, C.2.1, C.2.2.1, C.2.2.2.1, C.2.2.2.2.1⟩ (hM H.size) (cwS As.length C.2.2.2.2.1 (gS h1 h2 h3 h4) rfl rfl rfl hy ⟨by show d + 1 ≤ _; omega, by show 8 + (mL + 11) + 64 * d ≤ _; omega⟩)
    ⟨PcK_blind, fun U hU hW => ⟨rfl, by rw [hU], by rw [hU]; exact hP, va_K.moved hW.alike C.2.2.2.2.2.1, hD, C.2.2.2.2.2.2.2.2.warm hW⟩⟩ rfl rfl hl.1 hst (lv_room hrest) hd ⟨by omega, by omega⟩
theorem g_callV (C : Cx E own cc) (hR : Rm E dE mcE msE) {o ci : Nat} {T : u_T} {N : Nat} {fs : List Value} {cls : String} (hM : Ct (xl E) (xG E) y b mL r d mc ms (.ref o :: As) wc post) (h1 : Cond.methodLink own idx y ∈ Tg) (h2 : Cond.instanceMethod y ∈ Tg) (h3 : Cond.selects cls y y ∈ Tg) (h3' : Cond.initialized cls ∈ Tg) (h4 : Cond.code y b mL r ∈ Tg)
    (hy : y.cls = cls ∧ y.cls ≠ "java/lang/invoke/MethodHandle" ∧ y.cls ≠ "java/lang/invoke/VarHandle" ∧ (parseMethodDescriptor y.desc).map (fun d => d.parameters.length) = some As.length) (i0 : Nat) (hc : classes[ci]? = some (cls, T, N)) (hw : wc[i0]? = some (o, .inr (ci, fs))) (hd : decode cc pc = .ok (.invokevirtual idx, 3)) (hq : pc + 3 = q) (hst : st = As.reverse ++ .ref o :: rest) (hmL : mL ≤ 45) (hdp : d + 1 ≤ dE) (hk : k + mc ≤ mcE) (hn : n + ms ≤ msE) (hrest : (rest.map fun v => v.category).sum ≤ 8)
    (kk : ∀ (v : Option Value) (ws' : va_W), post v ws' → G E (k + mc) (n + ms) q lv (v.toList ++ rest) (ws' ++ wr)) : G E k n pc lv st (wc ++ wr) := by
  subst hq
  obtain ⟨r1, r2, r3, r4⟩ := hR
  refine g_back (a := (Value.ref o :: As).toArray) C (fun H locs ls hP hD hl => ?_) kk
  exact va_runV (rest := rest) ⟨C.1, C.2.1, C.2.2.1, C.2.2.2.1, C.2.2.2.2.1⟩ (hM H.size) (cwV As.length C.2.2.2.2.1 (gV h1 h2 h3 h3' h4) rfl rfl rfl hy ⟨by show d + 1 ≤ _; omega, by show 8 + (mL + 11) + 64 * d ≤ _; omega⟩)
    ⟨PcK_blind, va_recv C.2.2.2.2.2.1 hP hc hw, fun U hU hW => ⟨rfl, by rw [hU], by rw [hU]; exact hP, va_K.moved hW.alike C.2.2.2.2.2.1, hD, C.2.2.2.2.2.2.2.2.warm hW⟩⟩ rfl rfl hl.1 hst (lv_room hrest) hd ⟨by omega, by omega⟩
theorem g_callI (C : Cx E own cc) (hR : Rm E dE mcE msE) {o : Nat} (hM : Ct (xl E) (xG E) y b mL none d mc ms (.ref o :: As) wc post) (h1 : Cond.methodLink own idx y ∈ Tg) (h2 : Cond.instanceMethod y ∈ Tg) (h3 : Cond.initialized y.cls ∈ Tg) (h4 : Cond.code y b mL none ∈ Tg) (hini : y.name = "<init>")
    (hy : y.cls ≠ "java/lang/invoke/MethodHandle" ∧ y.cls ≠ "java/lang/invoke/VarHandle" ∧ (parseMethodDescriptor y.desc).map (fun d => d.parameters.length) = some As.length) (hd : decode cc pc = .ok (.invokespecial idx, 3)) (hq : pc + 3 = q) (hst : st = As.reverse ++ .ref o :: rest) (hmL : mL ≤ 45) (hdp : d + 1 ≤ dE) (hk : k + mc ≤ mcE) (hn : n + ms ≤ msE) (hrest : (rest.map fun v => v.category).sum ≤ 8)
    (kk : ∀ (v : Option Value) (ws' : va_W), post v ws' → G E (k + mc) (n + ms) q lv (v.toList ++ rest) (ws' ++ wr)) : G E k n pc lv st (wc ++ wr) := by
  subst hq
  obtain ⟨r1, r2, r3, r4⟩ := hR
  refine g_back (a := (Value.ref o :: As).toArray) C (fun H locs ls hP hD hl => ?_) kk
  exact va_runI (rest := rest) ⟨C.1, C.2.1, C.2.2.1, C.2.2.2.1, C.2.2.2.2.1⟩ (hM H.size) (cwI As.length C.2.2.2.2.1 (gI h4) rfl rfl rfl (C.2.2.2.2.1 _ h3) (C.2.2.2.2.1 _ h1) (C.2.2.2.2.1 _ h2) hini hy ⟨by show d + 1 ≤ _; omega, by show 8 + (mL + 11) + 64 * d ≤ _; omega⟩)
    ⟨PcK_blind, fun U hU hW => ⟨rfl, by rw [hU], by rw [hU]; exact hP, va_K.moved hW.alike C.2.2.2.2.2.1, hD, C.2.2.2.2.2.2.2.2.warm hW⟩⟩ rfl rfl hl.1 hst (lv_room hrest) hd ⟨by omega, by omega⟩
/-- Object.<init> -/
theorem g_objInit (C : Cx E own cc) (hR : Rm E dE mcE msE) {o : Nat} {ws : va_W} (h1 : Cond.methodLink own idx objectInit ∈ Tg) (hd : decode cc pc = .ok (.invokespecial idx, 3)) (hq : pc + 3 = q) (hdp : 1 ≤ dE) (hrest : (st.map fun v => v.category).sum ≤ 8) (kk : G E k n q lv st ws) : G E k n pc lv (.ref o :: st) ws := by
  subst hq
  obtain ⟨r1, r2, r3, r4⟩ := hR
  intro H locs ls hP hD hS hl
  have hro := lv_room (m := xm E) (pc := pc) (ls := ls) (rest := .ref o :: st) hrest
  exact W.objInit C.1 C.2.1 C.2.2.2.1 (C.2.2.2.2.1 _ h1) (C.2.2.2.2.1 _ w_31) (C.2.2.2.2.1 _ w_32) rfl (by rw [C.2.2.1]; exact hl.1) rfl hd (by omega) (by omega) (kk H locs ls hP hD hS hl)
end
