/-! PpmTrees: blocks of cells in any order; references from an array; a call through an interface; a call of another class' static method -/
abbrev bw : List va_W → va_W := List.flatten
/-- the cells in another order -/
theorem va_perm {A : Nat → Prop} {ws ws' : va_W} (h : ws.Perm ws') (hD : va_D A ws) : va_D A ws' := by
  have nd : (ws.map Prod.fst).Nodup := by
    refine List.pairwise_iff_getElem.mpr (fun i j hi hj hij e => ?_)
    rw [List.length_map] at hi hj
    rw [List.getElem_map, List.getElem_map] at e
    have := hD.1 i j _ _ (List.getElem?_eq_getElem hi) (List.getElem?_eq_getElem hj) e
    omega
  have nd' : (ws'.map Prod.fst).Nodup := (h.map Prod.fst).nodup_iff.mp nd
  have key : ∀ (i j : Nat) (p q : Nat × va_E), ws'[i]? = some p → ws'[j]? = some q → i < j → p.1 ≠ q.1 := by
    intro i j p q hi hj hij e
    obtain ⟨h1, h2⟩ := List.getElem?_eq_some_iff.mp hi
    obtain ⟨h3, h4⟩ := List.getElem?_eq_some_iff.mp hj
    have := List.pairwise_iff_getElem.mp nd' i j (by rw [List.length_map]; exact h1) (by rw [List.length_map]; exact h3) hij
    rw [List.getElem_map, List.getElem_map, h2, h4] at this
    exact this e
  refine ⟨fun i j p q hi hj e => ?_, fun k q hk => ?_⟩
  · rcases Nat.lt_trichotomy i j with h1 | h1 | h1
    · exact absurd e (key i j p q hi hj h1)
    · exact h1
    · exact absurd e.symm (key j i q p hj hi h1)
  · obtain ⟨j, hj, e⟩ := List.getElem_of_mem (h.symm.subset (List.mem_of_getElem? hk))
    exact hD.2 j q (by rw [List.getElem?_eq_getElem hj, e])
theorem vaP_perm {D : va_G} {cl : List vw_C} {ws ws' : va_W} {H : Heap} (h : ws.Perm ws') (hP : va_P D cl ws H) : va_P D cl ws' H := fun k q hk => by
  obtain ⟨j, hj, e⟩ := List.getElem_of_mem (h.symm.subset (List.mem_of_getElem? hk))
  exact hP j q (by rw [List.getElem?_eq_getElem hj, e])
/-- blocks by their numbers -/
theorem blk_perm : ∀ (is : List Nat) (Bs Bs' : List va_W), is.map (fun i => Bs[i]?) = Bs'.map some → is.Perm (List.range Bs.length) → Bs'.Perm Bs := by
  intro is Bs Bs' hs hp
  have h1 : (is.map (fun i => Bs[i]?)).Perm ((List.range Bs.length).map (fun i => Bs[i]?)) := hp.map _
  have h2 : (List.range Bs.length).map (fun i => Bs[i]?) = Bs.map some := by
    apply List.ext_getElem?
    intro i
    rw [List.getElem?_map, List.getElem?_map]
    by_cases hi : i < Bs.length
    · rw [List.getElem?_range hi, List.getElem?_eq_getElem hi]; simp [hi]
    · rw [List.getElem?_eq_none (by simpa using Nat.le_of_not_lt hi), List.getElem?_eq_none (Nat.le_of_not_lt hi)]; rfl
  rw [hs, h2] at h1
  have h3 := h1.filterMap id
  rw [List.filterMap_map, List.filterMap_map] at h3
  simpa using h3
section
variable {E : Ev} {own : String} {cc : ByteArray} {k n pc q dE mcE msE : Nat} {lv : LV} {st : List Value} {wc wr ws : va_W} {x y : MethodName} {b : ByteArray} {mL : Nat} {r : Option FieldType} {d mc ms idx : Nat} {As rest : List Value} {post : Option Value → va_W → Prop}
theorem g_perm {ws' : va_W} (h : ws.Perm ws') (kk : G E k n pc lv st ws') : G E k n pc lv st ws := fun H locs ls hP hD hS hl => kk H locs ls (vaP_perm h hP) (va_perm h hD) hS hl
theorem g_blk {Bs Bs' : List va_W} (is : List Nat) {nB : Nat} (hs : is.map (fun i => Bs[i]?) = Bs'.map some) (hl : Bs.length = nB) (hp : is.Perm (List.range nB)) (kk : G E k n pc lv st (bw Bs')) : G E k n pc lv st (bw Bs) :=
  g_perm (blk_perm is Bs Bs' hs (hl ▸ hp)).symm.flatten kk
theorem g_aald (C : Cx E own cc) {a N ti : Nat} {cls : String} {cA : ClassId} {f : Nat → Option Nat} {i : Int32} {v : Nat} (i0 : Nat) (hw : ws[i0]? = some (a, .inl (cA, N, .inr (.inr (.inr (.inr f)))))) (ht : (TY (xG E).2)[ti]? = some (cA, .object cls)) (hin : vp_in i N) (hv : f i.toNatClampNeg = some v) (hd : decode cc pc = .ok (.aaload, 1)) (hq : pc + 1 = q) (kk : G E k n q lv (.ref v :: st) ws) : G E k n pc lv (.int i :: .ref a :: st) ws := by
  subst hq
  exact fun H locs ls hP hD hS hl => va_aldq C.1 C.2.1 C.2.2.2.2.2.1 hP i0 ti hw ht hin hd (by rw [hv]; exact kk H locs ls hP hD hS hl)
theorem g_callF (C : Cx E own cc) (hR : Rm E dE mcE msE) {o ci cnt : Nat} {T : u_T} {N : Nat} {fs : List Value} {cls : String} (hM : Ct (xl E) (xG E) y b mL r d mc ms (.ref o :: As) wc post) (h1 : Cond.methodLink own idx x ∈ Tg) (h2 : Cond.selects cls x y ∈ Tg) (h3 : Cond.instanceMethod y ∈ Tg) (h4 : Cond.initialized y.cls ∈ Tg) (h5 : Cond.code y b mL r ∈ Tg)
    (f1 : Cond.declares x ∈ Tn) (f2 : Cond.interfaceMethod x.cls x.cls x.name x.desc ∈ Tn) (f3 : Cond.publicMethod y ∈ Tn) (f4 : Cond.unhidden cls x.name x.desc ∈ Tn) (f5 : Cond.castable cls x.cls ∈ Tn)
    (hy : x.cls ≠ "java/lang/invoke/MethodHandle" ∧ x.cls ≠ "java/lang/invoke/VarHandle" ∧ (parseMethodDescriptor x.desc).map (fun d => d.parameters.length) = some As.length) (i0 : Nat) (hc : classes[ci]? = some (cls, T, N)) (hw : wc[i0]? = some (o, .inr (ci, fs))) (hd : decode cc pc = .ok (.invokeinterface idx cnt, 5)) (hq : pc + 5 = q) (hst : st = As.reverse ++ .ref o :: rest) (hmL : mL ≤ 45) (hdp : d + 1 ≤ dE) (hk : k + mc ≤ mcE) (hn : n + ms ≤ msE) (hrest : (rest.map fun v => v.category).sum ≤ 8)
    (kk : ∀ (v : Option Value) (ws' : va_W), post v ws' → G E (k + mc) (n + ms) q lv (v.toList ++ rest) (ws' ++ wr)) : G E k n pc lv st (wc ++ wr) := by
  subst hq
  obtain ⟨r1, r2, r3, r4⟩ := hR
  refine g_back (a := (Value.ref o :: As).toArray) C (fun H locs ls hP hD hl => ?_) kk
  have hN := C.2.2.2.2.2.2.2.2.1
  have gF : GoodIn Tg (va_wsF own idx cls x y (.code y b mL r :: Tg)) := by
    intro w hw
    have ok : w ∈ Tg → w ∈ Tg ∧ ((w.onTables && w.keeps) = true ∨ ∃ ty, w = .arrayClass ty) := fun h => ⟨h, good_of_word (List.mem_filter.mp h).2⟩
    apply ok
    simp only [va_wsF, List.mem_append, List.mem_cons, List.not_mem_nil, or_false] at hw
    rcases hw with (rfl | rfl | rfl | rfl) | rfl | h
    · exact h1
    · exact h2
    · exact h3
    · exact h4
    · exact h5
    · exact h
  have cw := va_cwF (R := xR E) (s := xs E) (args := xa E) (rm := rmK d mc ms) As.length C.2.2.2.2.1 gF rfl rfl rfl (va_Fw.of (A := #[]) (va_Nw.use rfl (hN _ f1)) (va_Nw.use rfl (hN _ f2)) (va_Nw.use rfl (hN _ f3)) (va_Nw.use rfl (hN _ f4)) (va_Nw.use rfl (hN _ f5))) hy ⟨by show d + 1 ≤ _; omega, by show 8 + (mL + 11) + 64 * d ≤ _; omega⟩
  exact va_runF (rest := rest) (C.2.2.2.2.2.1.1 ci _ hc).2 ⟨C.1, C.2.1, C.2.2.1, C.2.2.2.1, C.2.2.2.2.1⟩ (hM H.size) cw
    ⟨PcK_blind, va_recv C.2.2.2.2.2.1 hP hc hw, fun U hU hW => ⟨rfl, by rw [hU], by rw [hU]; exact hP, va_K.moved hW.alike C.2.2.2.2.2.1, hD, C.2.2.2.2.2.2.2.2.warm hW⟩⟩ rfl rfl hl.1 hst (lv_room hrest) hd ⟨by omega, by omega⟩
theorem g_callSX (C : Cx E own cc) (hR : Rm E dE mcE msE) (hM : Ct (xl E) (xG E) y b mL r d mc ms As wc post) (h1 : Cond.methodLink own idx y ∈ Tg) (h2 : Cond.static y ∈ Tg) (h3 : Cond.initialized y.cls ∈ Tg) (h4 : Cond.code y b mL r ∈ Tg)
    (hy : y.cls ≠ "java/lang/invoke/MethodHandle" ∧ y.cls ≠ "java/lang/invoke/VarHandle" ∧ (parseMethodDescriptor y.desc).map (fun d => d.parameters.length) = some As.length) (hd : decode cc pc = .ok (.invokestatic idx, 3)) (hq : pc + 3 = q) (hst : st = As.reverse ++ rest) (hmL : mL ≤ 45) (hdp : d + 1 ≤ dE) (hk : k + mc ≤ mcE) (hn : n + ms ≤ msE) (hrest : (rest.map fun v => v.category).sum ≤ 8)
    (kk : ∀ (v : Option Value) (ws' : va_W), post v ws' → G E (k + mc) (n + ms) q lv (v.toList ++ rest) (ws' ++ wr)) : G E k n pc lv st (wc ++ wr) := by
  subst hq
  obtain ⟨r1, r2, r3, r4⟩ := hR
  refine g_back (a := As.toArray) C (fun H locs ls hP hD hl => ?_) kk
  have gX : GoodIn Tg (va_wsS own idx y (.code y b mL r :: Tg)) := by
    intro w hw
    have ok : w ∈ Tg → w ∈ Tg ∧ ((w.onTables && w.keeps) = true ∨ ∃ ty, w = .arrayClass ty) := fun h => ⟨h, good_of_word (List.mem_filter.mp h).2⟩
    apply ok
    simp only [va_wsS, List.mem_append, List.mem_cons, List.not_mem_nil, or_false] at hw
    rcases hw with (rfl | rfl | rfl) | rfl | h
    · exact h1
    · exact h2
    · exact h3
    · exact h4
    · exact h
  exact va_runS (rest := rest) ⟨C.1, C.2.1, C.2.2.1, C.2.2.2.1, C.2.2.2.2.1⟩ (hM H.size) (va_cwS As.length C.2.2.2.2.1 gX rfl rfl rfl hy ⟨by show d + 1 ≤ _; omega, by show 8 + (mL + 11) + 64 * d ≤ _; omega⟩)
    ⟨PcK_blind, fun U hU hW => ⟨rfl, by rw [hU], by rw [hU]; exact hP, va_K.moved hW.alike C.2.2.2.2.2.1, hD, C.2.2.2.2.2.2.2.2.warm hW⟩⟩ rfl rfl hl.1 hst (lv_room hrest) hd ⟨by omega, by omega⟩
end
