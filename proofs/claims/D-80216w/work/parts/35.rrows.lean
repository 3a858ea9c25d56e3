def xfs (A : Nat → Nat) (f : Nat → Int32) : List Value := [.int (f 0), .int (f 1), .int (f 2), .int (f 3), .int (f 4), .int (f 5), .int (f 6), .int (f 7), .int (f 8), .int (f 9), .int (f 10), .int (f 11), .ref (A 0), .ref (A 1), .ref (A 2), .ref (A 3), .ref (A 4), .ref (A 5), .ref (A 6), .ref (A 7), .ref (A 8), .ref (A 9), .ref (A 10), .ref (A 11), .ref (A 12), .ref (A 13), .ref (A 14), .ref (A 15), .ref (A 16)]
/-- the object of PpmTrees and its own arrays. f: 0 excluded; 1 escapes; 2 found; 3 textSize; 4 outSize; 5 receivedSize; 6 place; 7 isPacked; 8 bitsTold; 9 escapesTold; 10 restartsTold; 11 signsTold. A: 0 isExcluded; 1 ends; 2 restarts; 3 text; 4 out; 5 received; 6 fresh; 7 excludedTold; 8 foundTold; 9 kept; 10 before; 11 writer; 12 again; 13 reader; 14 writing; 15 reading; 16 sum; 17, 18: the two ends -/
def xw (Γ : Gl) (x : Nat) (A : Nat → Nat) (f : Nat → Int32) (g : Nat → Nat → Int32) : va_W := [(x, .inr (1, xfs A f)), (A 0, .inl (Γ.2 1, 257, .inl (g 0))), (A 1, .inl (Γ.2 4, 2, .inr (.inr (.inr (.inr (fun i => if i = 0 then some (A 17) else some (A 18))))))), (A 2, .inl (Γ.2 0, 2, .inl (g 2))), (A 3, .inl (Γ.2 0, 300, .inl (g 3))), (A 4, .inl (Γ.2 0, 4096, .inl (g 4))), (A 5, .inl (Γ.2 0, 300, .inl (g 5))), (A 6, .inl (Γ.2 0, 300, .inl (g 6))), (A 7, .inl (Γ.2 0, 301, .inl (g 7))), (A 8, .inl (Γ.2 0, 301, .inl (g 8)))]
def ww (Γ : Gl) (a c : Nat) (f : Nat → Int32) (g : Nat → Int32) : va_W := [(a, .inr (3, [.int (f 0), .int (f 1), .int (f 2), .int (f 3), .ref c])), (c, .inl (Γ.2 2, 4096, .inl g))]
def rw1 (a x : Nat) (f : Nat → Int32) : va_W := [(a, .inr (4, [.int (f 0), .int (f 1), .int (f 2), .int (f 3), .ref x]))]
theorem mTn {w : Cond} (h : w ∈ lw_tbl) (g : nWord w = true) : w ∈ Tn := List.mem_filter.mpr ⟨h, g⟩
/-- a private method is selected whatever the receiver's class -/
theorem sel_priv {C : String} {y : MethodName} {s : State} {args : Array Value} {n : Nat} (hy : y.cls ≠ "java/lang/invoke/MethodHandle" ∧ y.cls ≠ "java/lang/invoke/VarHandle") (hins : (Cond.instantiable C n).before args s = true) (hpriv : (Cond.privateMethod y).before args s = true) (hinst : (Cond.instanceMethod y).before args s = true) {x2 y2 : MethodName} (hyy : y2.cls = y.cls) (hsp : (Cond.selects C x2 y2).before args s = true) : (Cond.selects C y y).before args s = true := by
  obtain ⟨-, -, m2, -, -, hn2, -, k2, hk2, hi2⟩ := Cond.selects_spec hsp
  obtain ⟨c, k, hc, hk, -, hniab, -, -⟩ := Cond.instantiable_spec hins
  have hni : k.isInterface = false := (Bool.or_eq_false_iff.mp hniab).1
  obtain ⟨mk, methM, hnamed, hmethM, -, -⟩ := Cond.instanceMethod_spec hinst
  have hfound : s.methodFound? y.cls y.name y.desc = some mk := State.methodFound?_of_named hnamed hy
  have hsel : selectMethod {} s.vm c mk = .method mk := selectMethod_private hmethM (Cond.privateMethod_at hpriv mk methM hnamed hmethM)
  have hcl : m2.cls = mk.cls := by
    have e1 := findClass_of_methodNamed hn2
    have e2 := findClass_of_methodNamed hnamed
    rw [hyy] at e1
    exact Option.some.inj (e1.symm.trans e2)
  rw [hcl] at hk2
  simp only [Cond.before, Cond.holds, Cond.value, hc, hfound, hnamed, hsel, hk2]
  simp [hi2]
section
variable {E : Ev} {own : String} {cc : ByteArray} {k n pc q dE mcE msE : Nat} {lv : LV} {st : List Value} {wc wr : va_W} {x y : MethodName} {b : ByteArray} {mL : Nat} {r : Option FieldType} {d mc ms idx : Nat} {As rest : List Value} {post : Option Value → va_W → Prop}
theorem g_callU (C : Cx E own cc) (hR : Rm E dE mcE msE) {o ci : Nat} {T : u_T} {N : Nat} {fs : List Value} {cls owner : String} (hM : Ct (xl E) (xG E) y b mL r d mc ms (.ref o :: As) wc post) (h1 : Cond.methodLink own idx x ∈ Tg) (hsame : Cond.sameMethod x.cls owner x.name x.desc ∈ Tg) (hdecl : va_Decl (xs E) ⟨owner, x.name, x.desc⟩) (hsel : (Cond.selects cls x y).before (xa E) (xs E) = true) (h2 : Cond.instanceMethod y ∈ Tg) (h3 : Cond.initialized y.cls ∈ Tg) (h4 : Cond.code y b mL r ∈ Tg)
    (hy : owner ≠ "java/lang/invoke/MethodHandle" ∧ owner ≠ "java/lang/invoke/VarHandle" ∧ (parseMethodDescriptor x.desc).map (fun d => d.parameters.length) = some As.length) (i0 : Nat) (hc : classes[ci]? = some (cls, T, N)) (hw : wc[i0]? = some (o, .inr (ci, fs))) (hd : decode cc pc = .ok (.invokevirtual idx, 3)) (hq : pc + 3 = q) (hst : st = As.reverse ++ .ref o :: rest) (hmL : mL ≤ 45) (hdp : d + 1 ≤ dE) (hk : k + mc ≤ mcE) (hn : n + ms ≤ msE) (hrest : (rest.map fun v => v.category).sum ≤ 8)
    (kk : ∀ (v : Option Value) (ws' : va_W), post v ws' → G E (k + mc) (n + ms) q lv (v.toList ++ rest) (ws' ++ wr)) : G E k n pc lv st (wc ++ wr) := by
  subst hq
  obtain ⟨r1, r2, r3, r4⟩ := hR
  refine g_back (a := (Value.ref o :: As).toArray) C (fun H locs ls hP hD hl => ?_) kk
  have cw : va_CU (xR E) (xs E) (xa E) own cls owner idx x y b mL r (.code y b mL r :: Tg) (rmK d mc ms) mc ms As.length := by
    refine ⟨⟨rfl, rfl, by show d + 1 ≤ _; omega, by show 8 + (mL + 11) + 64 * d ≤ _; omega, pay_in C.2.2.2.2.1 (gI h4), List.mem_cons_self⟩, C.2.2.2.2.1 _ h4, C.2.2.2.2.1 _ h3, ⟨hy.1, hy.2.1⟩, fun sig h => ?_, C.2.2.2.2.1 _ h1, C.2.2.2.2.1 _ hsame, hdecl, hsel, C.2.2.2.2.1 _ h2⟩
    have h2 := hy.2.2
    rw [h] at h2
    exact (Option.some.inj h2).symm
  exact va_runU (rest := rest) ⟨C.1, C.2.1, C.2.2.1, C.2.2.2.1, C.2.2.2.2.1⟩ (hM H.size) cw
    ⟨PcK_blind, va_recv C.2.2.2.2.2.1 hP hc hw, fun U hU hW => ⟨rfl, by rw [hU], by rw [hU]; exact hP, va_K.moved hW.alike C.2.2.2.2.2.1, hD, C.2.2.2.2.2.2.2.2.warm hW⟩⟩ rfl rfl hl.1 hst (lv_room hrest) hd ⟨by omega, by omega⟩
/-- a call of the superclass' method -/
theorem g_callSU (C : Cx E own cc) (hR : Rm E dE mcE msE) {o ci : Nat} {T : u_T} {N : Nat} {fs : List Value} {cls : String} (hM : Ct (xl E) (xG E) y b mL r d mc ms (.ref o :: As) wc post) (h1 : Cond.methodLink own idx y ∈ Tg) (hsame : Cond.sameMethod y.cls y.cls y.name y.desc ∈ Tg) (hsup : Cond.superclass own y.cls ∈ Tg) (h2 : Cond.instanceMethod y ∈ Tg) (h3 : Cond.initialized y.cls ∈ Tg) (h4 : Cond.code y b mL r ∈ Tg)
    (hy : y.name ≠ "<init>" ∧ (parseMethodDescriptor y.desc).map (fun d => d.parameters.length) = some As.length) (i0 : Nat) (hc : classes[ci]? = some (cls, T, N)) (hw : wc[i0]? = some (o, .inr (ci, fs))) (hd : decode cc pc = .ok (.invokespecial idx, 3)) (hq : pc + 3 = q) (hst : st = As.reverse ++ .ref o :: rest) (hmL : mL ≤ 45) (hdp : d + 1 ≤ dE) (hk : k + mc ≤ mcE) (hn : n + ms ≤ msE) (hrest : (rest.map fun v => v.category).sum ≤ 8)
    (kk : ∀ (v : Option Value) (ws' : va_W), post v ws' → G E (k + mc) (n + ms) q lv (v.toList ++ rest) (ws' ++ wr)) : G E k n pc lv st (wc ++ wr) := by
  subst hq
  obtain ⟨r1, r2, r3, r4⟩ := hR
  refine g_back (a := (Value.ref o :: As).toArray) C (fun H locs ls hP hD hl => ?_) kk
  have cw : va_CS (xR E) (xs E) (xa E) own idx y b mL r (.code y b mL r :: Tg) (rmK d mc ms) mc ms As.length := by
    refine ⟨⟨rfl, rfl, by show d + 1 ≤ _; omega, by show 8 + (mL + 11) + 64 * d ≤ _; omega, pay_in C.2.2.2.2.1 (gI h4), List.mem_cons_self⟩, C.2.2.2.2.1 _ h1, C.2.2.2.2.1 _ hsame, C.2.2.2.2.1 _ hsup, C.2.2.2.2.1 _ h2, C.2.2.2.2.1 _ h3, C.2.2.2.2.1 _ h4, hy.1, fun sig h => ?_⟩
    have h2 := hy.2
    rw [h] at h2
    exact (Option.some.inj h2).symm
  exact va_runSU (rest := rest) (C.2.2.2.2.2.1.1 ci _ hc).2 ⟨C.1, C.2.1, C.2.2.1, C.2.2.2.1, C.2.2.2.2.1⟩ (hM H.size) cw
    ⟨PcK_blind, va_recv C.2.2.2.2.2.1 hP hc hw, fun U hU hW => ⟨rfl, by rw [hU], by rw [hU]; exact hP, va_K.moved hW.alike C.2.2.2.2.2.1, hD, C.2.2.2.2.2.2.2.2.warm hW⟩⟩ rfl rfl hl.1 hst (lv_room hrest) hd ⟨by omega, by omega⟩
end
theorem w_95 : (Cond.superclass "PpmTrees$Writer" "PpmTrees$Range") ∈ Tg := mTg (mT1 95 rfl) rfl
theorem w_114 : (Cond.superclass "PpmTrees$Reader" "PpmTrees$Range") ∈ Tg := mTg (mT1 114 rfl) rfl
section
variable {E : Ev} {cc : ByteArray} {k n pc q a c x d dE mcE msE : Nat} {lv : LV} {st rest : List Value} {A : Nat → Nat} {f fx : Nat → Int32} {g : Nat → Int32} {gx : Nat → Nat → Int32}
theorem wg_18 (C : Cx E "PpmTrees$Writer" cc) {v : Int32} (hd : decode cc pc = .ok (.getfield 18, 3)) (hq : pc + 3 = q) (hv : f 0 = v) (kk : G E k n q lv (.int v :: st) (ww (xG E) a c f g)) : G E k n pc lv (.ref a :: st) (ww (xG E) a c f g) := by
  subst hv
  exact g_get C 0 fi_Wr rfl rfl (j := 0) (by decide) rfl w_74 (Or.inl rfl) hd hq kk
theorem wp_18 (C : Cx E "PpmTrees$Writer" cc) {v : Int32} (hd : decode cc pc = .ok (.putfield 18, 3)) (hq : pc + 3 = q) (kk : G E k n q lv st (ww (xG E) a c (upd f 0 v) g)) : G E k n pc lv (.int v :: .ref a :: st) (ww (xG E) a c f g) :=
  g_put C 0 fi_Wr fty_Wr_ok fn_Wr rfl rfl (j := 0) (ty := .int) (by decide) (Nat.le_of_ble_eq_true rfl) w_74 (Or.inl rfl) rfl (by decide +kernel) rfl rfl hd hq kk
theorem wg_22 (C : Cx E "PpmTrees$Writer" cc) {v : Int32} (hd : decode cc pc = .ok (.getfield 22, 3)) (hq : pc + 3 = q) (hv : f 1 = v) (kk : G E k n q lv (.int v :: st) (ww (xG E) a c f g)) : G E k n pc lv (.ref a :: st) (ww (xG E) a c f g) := by
  subst hv
  exact g_get C 0 fi_Wr rfl rfl (j := 1) (by decide) rfl w_76 (Or.inl rfl) hd hq kk
theorem wp_22 (C : Cx E "PpmTrees$Writer" cc) {v : Int32} (hd : decode cc pc = .ok (.putfield 22, 3)) (hq : pc + 3 = q) (kk : G E k n q lv st (ww (xG E) a c (upd f 1 v) g)) : G E k n pc lv (.int v :: .ref a :: st) (ww (xG E) a c f g) :=
  g_put C 0 fi_Wr fty_Wr_ok fn_Wr rfl rfl (j := 1) (ty := .int) (by decide) (Nat.le_of_ble_eq_true rfl) w_76 (Or.inl rfl) rfl (by decide +kernel) rfl rfl hd hq kk
theorem wg_33 (C : Cx E "PpmTrees$Writer" cc) {v : Int32} (hd : decode cc pc = .ok (.getfield 33, 3)) (hq : pc + 3 = q) (hv : f 2 = v) (kk : G E k n q lv (.int v :: st) (ww (xG E) a c f g)) : G E k n pc lv (.ref a :: st) (ww (xG E) a c f g) := by
  subst hv
  exact g_get C 0 fi_Wr rfl rfl (j := 2) (by decide) rfl w_80 (Or.inr w_81) hd hq kk
theorem wp_33 (C : Cx E "PpmTrees$Writer" cc) {v : Int32} (hd : decode cc pc = .ok (.putfield 33, 3)) (hq : pc + 3 = q) (kk : G E k n q lv st (ww (xG E) a c (upd f 2 v) g)) : G E k n pc lv (.int v :: .ref a :: st) (ww (xG E) a c f g) :=
  g_put C 0 fi_Wr fty_Wr_ok fn_Wr rfl rfl (j := 2) (ty := .int) (by decide) (Nat.le_of_ble_eq_true rfl) w_80 (Or.inr w_81) rfl (by decide +kernel) rfl rfl hd hq kk
theorem wg_9 (C : Cx E "PpmTrees$Writer" cc) (hd : decode cc pc = .ok (.getfield 9, 3)) (hq : pc + 3 = q) (kk : G E k n q lv (.ref c :: st) (ww (xG E) a c f g)) : G E k n pc lv (.ref a :: st) (ww (xG E) a c f g) :=
  g_get C 0 fi_Wr rfl rfl (j := 4) (by decide) rfl w_72 (Or.inl rfl) hd hq kk
theorem rgW_9 (C : Cx E "PpmTrees$Range" cc) {v : Int32} (hd : decode cc pc = .ok (.getfield 9, 3)) (hq : pc + 3 = q) (hv : f 2 = v) (kk : G E k n q lv (.int v :: st) (ww (xG E) a c f g)) : G E k n pc lv (.ref a :: st) (ww (xG E) a c f g) := by
  subst hv
  exact g_get C 0 fi_Wr rfl rfl (j := 2) (by decide) rfl w_77 (Or.inl rfl) hd hq kk
theorem rpW_9 (C : Cx E "PpmTrees$Range" cc) {v : Int32} (hd : decode cc pc = .ok (.putfield 9, 3)) (hq : pc + 3 = q) (kk : G E k n q lv st (ww (xG E) a c (upd f 2 v) g)) : G E k n pc lv (.int v :: .ref a :: st) (ww (xG E) a c f g) :=
  g_put C 0 fi_Wr fty_Wr_ok fn_Wr rfl rfl (j := 2) (ty := .int) (by decide) (Nat.le_of_ble_eq_true rfl) w_77 (Or.inl rfl) rfl (by decide +kernel) rfl rfl hd hq kk
theorem rgW_16 (C : Cx E "PpmTrees$Range" cc) {v : Int32} (hd : decode cc pc = .ok (.getfield 16, 3)) (hq : pc + 3 = q) (hv : f 3 = v) (kk : G E k n q lv (.int v :: st) (ww (xG E) a c f g)) : G E k n pc lv (.ref a :: st) (ww (xG E) a c f g) := by
  subst hv
  exact g_get C 0 fi_Wr rfl rfl (j := 3) (by decide) rfl w_82 (Or.inl rfl) hd hq kk
theorem rpW_16 (C : Cx E "PpmTrees$Range" cc) {v : Int32} (hd : decode cc pc = .ok (.putfield 16, 3)) (hq : pc + 3 = q) (kk : G E k n q lv st (ww (xG E) a c (upd f 3 v) g)) : G E k n pc lv (.int v :: .ref a :: st) (ww (xG E) a c f g) :=
  g_put C 0 fi_Wr fty_Wr_ok fn_Wr rfl rfl (j := 3) (ty := .int) (by decide) (Nat.le_of_ble_eq_true rfl) w_82 (Or.inl rfl) rfl (by decide +kernel) rfl rfl hd hq kk
theorem eg_16 (C : Cx E "PpmTrees$Reader" cc) {v : Int32} (hd : decode cc pc = .ok (.getfield 16, 3)) (hq : pc + 3 = q) (hv : f 0 = v) (kk : G E k n q lv (.int v :: st) (rw1 a x f ++ xw (xG E) x A fx gx)) : G E k n pc lv (.ref a :: st) (rw1 a x f ++ xw (xG E) x A fx gx) := by
  subst hv
  exact g_get C 0 fi_Re rfl rfl (j := 0) (by decide) rfl w_103 (Or.inl rfl) hd hq kk
theorem ep_16 (C : Cx E "PpmTrees$Reader" cc) {v : Int32} (hd : decode cc pc = .ok (.putfield 16, 3)) (hq : pc + 3 = q) (kk : G E k n q lv st (rw1 a x (upd f 0 v) ++ xw (xG E) x A fx gx)) : G E k n pc lv (.int v :: .ref a :: st) (rw1 a x f ++ xw (xG E) x A fx gx) :=
  g_put C 0 fi_Re fty_Re_ok fn_Re rfl rfl (j := 0) (ty := .int) (by decide) (Nat.le_of_ble_eq_true rfl) w_103 (Or.inl rfl) rfl (by decide +kernel) rfl rfl hd hq kk
theorem eg_20 (C : Cx E "PpmTrees$Reader" cc) {v : Int32} (hd : decode cc pc = .ok (.getfield 20, 3)) (hq : pc + 3 = q) (hv : f 1 = v) (kk : G E k n q lv (.int v :: st) (rw1 a x f ++ xw (xG E) x A fx gx)) : G E k n pc lv (.ref a :: st) (rw1 a x f ++ xw (xG E) x A fx gx) := by
  subst hv
  exact g_get C 0 fi_Re rfl rfl (j := 1) (by decide) rfl w_104 (Or.inl rfl) hd hq kk
theorem ep_20 (C : Cx E "PpmTrees$Reader" cc) {v : Int32} (hd : decode cc pc = .ok (.putfield 20, 3)) (hq : pc + 3 = q) (kk : G E k n q lv st (rw1 a x (upd f 1 v) ++ xw (xG E) x A fx gx)) : G E k n pc lv (.int v :: .ref a :: st) (rw1 a x f ++ xw (xG E) x A fx gx) :=
  g_put C 0 fi_Re fty_Re_ok fn_Re rfl rfl (j := 1) (ty := .int) (by decide) (Nat.le_of_ble_eq_true rfl) w_104 (Or.inl rfl) rfl (by decide +kernel) rfl rfl hd hq kk
theorem eg_36 (C : Cx E "PpmTrees$Reader" cc) {v : Int32} (hd : decode cc pc = .ok (.getfield 36, 3)) (hq : pc + 3 = q) (hv : f 2 = v) (kk : G E k n q lv (.int v :: st) (rw1 a x f ++ xw (xG E) x A fx gx)) : G E k n pc lv (.ref a :: st) (rw1 a x f ++ xw (xG E) x A fx gx) := by
  subst hv
  exact g_get C 0 fi_Re rfl rfl (j := 2) (by decide) rfl w_78 (Or.inr w_79) hd hq kk
theorem ep_36 (C : Cx E "PpmTrees$Reader" cc) {v : Int32} (hd : decode cc pc = .ok (.putfield 36, 3)) (hq : pc + 3 = q) (kk : G E k n q lv st (rw1 a x (upd f 2 v) ++ xw (xG E) x A fx gx)) : G E k n pc lv (.int v :: .ref a :: st) (rw1 a x f ++ xw (xG E) x A fx gx) :=
  g_put C 0 fi_Re fty_Re_ok fn_Re rfl rfl (j := 2) (ty := .int) (by decide) (Nat.le_of_ble_eq_true rfl) w_78 (Or.inr w_79) rfl (by decide +kernel) rfl rfl hd hq kk
theorem eg_39 (C : Cx E "PpmTrees$Reader" cc) {v : Int32} (hd : decode cc pc = .ok (.getfield 39, 3)) (hq : pc + 3 = q) (hv : f 3 = v) (kk : G E k n q lv (.int v :: st) (rw1 a x f ++ xw (xG E) x A fx gx)) : G E k n pc lv (.ref a :: st) (rw1 a x f ++ xw (xG E) x A fx gx) := by
  subst hv
  exact g_get C 0 fi_Re rfl rfl (j := 3) (by decide) rfl w_83 (Or.inr w_84) hd hq kk
theorem ep_39 (C : Cx E "PpmTrees$Reader" cc) {v : Int32} (hd : decode cc pc = .ok (.putfield 39, 3)) (hq : pc + 3 = q) (kk : G E k n q lv st (rw1 a x (upd f 3 v) ++ xw (xG E) x A fx gx)) : G E k n pc lv (.int v :: .ref a :: st) (rw1 a x f ++ xw (xG E) x A fx gx) :=
  g_put C 0 fi_Re fty_Re_ok fn_Re rfl rfl (j := 3) (ty := .int) (by decide) (Nat.le_of_ble_eq_true rfl) w_83 (Or.inr w_84) rfl (by decide +kernel) rfl rfl hd hq kk
theorem eg_1 (C : Cx E "PpmTrees$Reader" cc) (hd : decode cc pc = .ok (.getfield 1, 3)) (hq : pc + 3 = q) (kk : G E k n q lv (.ref x :: st) (rw1 a x f ++ xw (xG E) x A fx gx)) : G E k n pc lv (.ref a :: st) (rw1 a x f ++ xw (xG E) x A fx gx) :=
  g_get C 0 fi_Re rfl rfl (j := 4) (by decide) rfl w_105 (Or.inl rfl) hd hq kk
theorem rgR_9 (C : Cx E "PpmTrees$Range" cc) {v : Int32} (hd : decode cc pc = .ok (.getfield 9, 3)) (hq : pc + 3 = q) (hv : f 2 = v) (kk : G E k n q lv (.int v :: st) (rw1 a x f ++ xw (xG E) x A fx gx)) : G E k n pc lv (.ref a :: st) (rw1 a x f ++ xw (xG E) x A fx gx) := by
  subst hv
  exact g_get C 0 fi_Re rfl rfl (j := 2) (by decide) rfl w_77 (Or.inl rfl) hd hq kk
theorem rpR_9 (C : Cx E "PpmTrees$Range" cc) {v : Int32} (hd : decode cc pc = .ok (.putfield 9, 3)) (hq : pc + 3 = q) (kk : G E k n q lv st (rw1 a x (upd f 2 v) ++ xw (xG E) x A fx gx)) : G E k n pc lv (.int v :: .ref a :: st) (rw1 a x f ++ xw (xG E) x A fx gx) :=
  g_put C 0 fi_Re fty_Re_ok fn_Re rfl rfl (j := 2) (ty := .int) (by decide) (Nat.le_of_ble_eq_true rfl) w_77 (Or.inl rfl) rfl (by decide +kernel) rfl rfl hd hq kk
theorem rgR_16 (C : Cx E "PpmTrees$Range" cc) {v : Int32} (hd : decode cc pc = .ok (.getfield 16, 3)) (hq : pc + 3 = q) (hv : f 3 = v) (kk : G E k n q lv (.int v :: st) (rw1 a x f ++ xw (xG E) x A fx gx)) : G E k n pc lv (.ref a :: st) (rw1 a x f ++ xw (xG E) x A fx gx) := by
  subst hv
  exact g_get C 0 fi_Re rfl rfl (j := 3) (by decide) rfl w_82 (Or.inl rfl) hd hq kk
theorem rpR_16 (C : Cx E "PpmTrees$Range" cc) {v : Int32} (hd : decode cc pc = .ok (.putfield 16, 3)) (hq : pc + 3 = q) (kk : G E k n q lv st (rw1 a x (upd f 3 v) ++ xw (xG E) x A fx gx)) : G E k n pc lv (.int v :: .ref a :: st) (rw1 a x f ++ xw (xG E) x A fx gx) :=
  g_put C 0 fi_Re fty_Re_ok fn_Re rfl rfl (j := 3) (ty := .int) (by decide) (Nat.le_of_ble_eq_true rfl) w_82 (Or.inl rfl) rfl (by decide +kernel) rfl rfl hd hq kk
theorem wb_ld (C : Cx E "PpmTrees$Writer" cc) {i v : Int32} {t : Nat} (hd : decode cc pc = .ok (.baload, 1)) (hq : pc + 1 = q) (hi : i = nI t) (hlt : t < 4096) (hv : g t = v) (kk : G E k n q lv (.int v :: st) (ww (xG E) a c f g)) : G E k n pc lv (.int i :: .ref c :: st) (ww (xG E) a c f g) := by
  subst hv; subst hi
  exact g_bald C 1 rfl (vp_in_nI hlt (by decide)) hd hq (by rw [nI_clamp (by omega)]; exact kk)
theorem wb_st (C : Cx E "PpmTrees$Writer" cc) {i x : Int32} {t : Nat} (hd : decode cc pc = .ok (.bastore, 1)) (hq : pc + 1 = q) (hi : i = nI t) (hlt : t < 4096) (kk : G E k n q lv st (ww (xG E) a c f (upd g t (vp_nar .byte x)))) : G E k n pc lv (.int x :: .int i :: .ref c :: st) (ww (xG E) a c f g) := by
  subst hi
  refine g_bast C 1 rfl (vp_in_nI hlt (by decide)) hd hq ?_
  rw [nI_clamp (by omega)]
  exact kk
theorem ex_27 (C : Cx E "PpmTrees$Reader" cc) {v : Int32} (hd : decode cc pc = .ok (.getfield 27, 3)) (hq : pc + 3 = q) (hv : fx 4 = v) (kk : G E k n q lv (.int v :: st) (rw1 a x f ++ xw (xG E) x A fx gx)) : G E k n pc lv (.ref x :: st) (rw1 a x f ++ xw (xG E) x A fx gx) := by
  subst hv
  exact g_getN C 1 fi_X rfl rfl (j := 4) (by decide) rfl (mTn (mT1 217 rfl) rfl) hd hq kk
theorem ex_32 (C : Cx E "PpmTrees$Reader" cc) (hd : decode cc pc = .ok (.getfield 32, 3)) (hq : pc + 3 = q) (kk : G E k n q lv (.ref (A 4) :: st) (rw1 a x f ++ xw (xG E) x A fx gx)) : G E k n pc lv (.ref x :: st) (rw1 a x f ++ xw (xG E) x A fx gx) :=
  g_getN C 1 fi_X rfl rfl (j := 16) (by decide) rfl (mTn (mT1 215 rfl) rfl) hd hq kk
theorem ex_ld (C : Cx E "PpmTrees$Reader" cc) {i v : Int32} {t : Nat} (hd : decode cc pc = .ok (.iaload, 1)) (hq : pc + 1 = q) (hi : i = nI t) (hlt : t < 4096) (hv : gx 4 t = v) (kk : G E k n q lv (.int v :: st) (rw1 a x f ++ xw (xG E) x A fx gx)) : G E k n pc lv (.int i :: .ref (A 4) :: st) (rw1 a x f ++ xw (xG E) x A fx gx) := by
  subst hv; subst hi
  exact g_iald C 6 rfl (vp_in_nI hlt (by decide)) hd hq (by rw [nI_clamp (by omega)]; exact kk)
def pvw (Γ : Gl) (a c : Nat) (P : (Nat → Int32) → (Nat → Int32) → Prop) : Option Value → va_W → Prop := fun r w => r = none ∧ ∃ f' g', w = ww Γ a c f' g' ∧ P f' g'
def piw (Γ : Gl) (a c : Nat) (P : Int32 → (Nat → Int32) → (Nat → Int32) → Prop) : Option Value → va_W → Prop := fun r w => ∃ x f' g', r = some (.int x) ∧ w = ww Γ a c f' g' ∧ P x f' g'
def pvr (Γ : Gl) (a x : Nat) (A : Nat → Nat) (fx : Nat → Int32) (gx : Nat → Nat → Int32) (P : (Nat → Int32) → Prop) : Option Value → va_W → Prop := fun r w => r = none ∧ ∃ f', w = rw1 a x f' ++ xw Γ x A fx gx ∧ P f'
def pir (Γ : Gl) (a x : Nat) (A : Nat → Nat) (fx : Nat → Int32) (gx : Nat → Nat → Int32) (P : Int32 → (Nat → Int32) → Prop) : Option Value → va_W → Prop := fun r w => ∃ z f', r = some (.int z) ∧ w = rw1 a x f' ++ xw Γ x A fx gx ∧ P z f'
theorem wc_26 (C : Cx E "PpmTrees$Writer" cc) (hR : Rm E dE mcE msE) {a0 : Int32} {P : (Nat → Int32) → (Nat → Int32) → Prop} (hM : Ct (xl E) (xG E) y_Wr_put b_Wr_put 2 none d 0 0 [.ref a, .int a0] (ww (xG E) a c f g) (pvw (xG E) a c P)) (hd : decode cc pc = .ok (.invokevirtual 26, 3)) (hq : pc + 3 = q) (hdp : d + 1 ≤ dE) (hk : k ≤ mcE) (hn : n ≤ msE) (hrest : (rest.map fun v => v.category).sum ≤ 8) (kk : ∀ f' g', P f' g' → G E k n q lv (rest) (ww (xG E) a c f' g')) : G E k n pc lv (.int a0 :: .ref a :: rest) (ww (xG E) a c f g) := by
  have h := g_callV (wr := []) (As := [.int a0]) (lv := lv) (i0 := 0) (k := k) (n := n) C hR hM w_426 w_428 (mTg (mT0 4 rfl) rfl) w_6 w_429 ⟨rfl, by decide, by decide, (by decide +kernel : (parseMethodDescriptor "(I)V").map (fun d => d.parameters.length) = some 1)⟩ rfl rfl hd hq rfl (by decide) hdp (by omega) (by omega) hrest (fun v ws' hp => by
    obtain ⟨rfl, f', g', rfl, hP⟩ := hp
    rw [List.append_nil]
    exact kk f' g' hP)
  rw [List.append_nil] at h
  exact h
theorem wc_30 (C : Cx E "PpmTrees$Writer" cc) (hR : Rm E dE mcE msE) {a0 : Int32} {P : (Nat → Int32) → (Nat → Int32) → Prop} (hM : Ct (xl E) (xG E) y_Wr_one b_Wr_one 2 none d 0 0 [.ref a, .int a0] (ww (xG E) a c f g) (pvw (xG E) a c P)) (hd : decode cc pc = .ok (.invokevirtual 30, 3)) (hq : pc + 3 = q) (hdp : d + 1 ≤ dE) (hk : k ≤ mcE) (hn : n ≤ msE) (hrest : (rest.map fun v => v.category).sum ≤ 8) (kk : ∀ f' g', P f' g' → G E k n q lv (rest) (ww (xG E) a c f' g')) : G E k n pc lv (.int a0 :: .ref a :: rest) (ww (xG E) a c f g) := by
  have h := g_callV (wr := []) (As := [.int a0]) (lv := lv) (i0 := 0) (k := k) (n := n) C hR hM w_430 w_432 (mTg (mT0 5 rfl) rfl) w_6 w_433 ⟨rfl, by decide, by decide, (by decide +kernel : (parseMethodDescriptor "(I)V").map (fun d => d.parameters.length) = some 1)⟩ rfl rfl hd hq rfl (by decide) hdp (by omega) (by omega) hrest (fun v ws' hp => by
    obtain ⟨rfl, f', g', rfl, hP⟩ := hp
    rw [List.append_nil]
    exact kk f' g' hP)
  rw [List.append_nil] at h
  exact h
theorem wc_15 (C : Cx E "PpmTrees$Writer" cc) (hR : Rm E dE mcE msE)  {P : (Nat → Int32) → (Nat → Int32) → Prop} (hM : Ct (xl E) (xG E) y_Ra_begin b_Ra_begin 1 none d 0 0 [.ref a] (ww (xG E) a c f g) (pvw (xG E) a c P)) (hd : decode cc pc = .ok (.invokespecial 15, 3)) (hq : pc + 3 = q) (hdp : d + 1 ≤ dE) (hk : k ≤ mcE) (hn : n ≤ msE) (hrest : (rest.map fun v => v.category).sum ≤ 8) (kk : ∀ f' g', P f' g' → G E k n q lv (rest) (ww (xG E) a c f' g')) : G E k n pc lv (.ref a :: rest) (ww (xG E) a c f g) := by
  have h := g_callSU (wr := []) (As := []) (lv := lv) (i0 := 0) (k := k) (n := n) C hR hM w_347 w_1083 w_95 w_348 w_5 w_349 ⟨by decide, (by decide +kernel : (parseMethodDescriptor "()V").map (fun d => d.parameters.length) = some 0)⟩ rfl rfl hd hq rfl (by decide) hdp (by omega) (by omega) hrest (fun v ws' hp => by
    obtain ⟨rfl, f', g', rfl, hP⟩ := hp
    rw [List.append_nil]
    exact kk f' g' hP)
  rw [List.append_nil] at h
  exact h
theorem ec_13 (C : Cx E "PpmTrees$Reader" cc) (hR : Rm E dE mcE msE)  {P : (Nat → Int32) → Prop} (hM : Ct (xl E) (xG E) y_Ra_begin b_Ra_begin 1 none d 0 0 [.ref a] (rw1 a x f ++ xw (xG E) x A fx gx) (pvr (xG E) a x A fx gx P)) (hd : decode cc pc = .ok (.invokespecial 13, 3)) (hq : pc + 3 = q) (hdp : d + 1 ≤ dE) (hk : k ≤ mcE) (hn : n ≤ msE) (hrest : (rest.map fun v => v.category).sum ≤ 8) (kk : ∀ f', P f' → G E k n q lv (rest) (rw1 a x f' ++ xw (xG E) x A fx gx)) : G E k n pc lv (.ref a :: rest) (rw1 a x f ++ xw (xG E) x A fx gx) := by
  have h := g_callSU (wr := []) (As := []) (lv := lv) (i0 := 0) (k := k) (n := n) C hR hM w_490 w_1083 w_114 w_348 w_5 w_349 ⟨by decide, (by decide +kernel : (parseMethodDescriptor "()V").map (fun d => d.parameters.length) = some 0)⟩ rfl rfl hd hq rfl (by decide) hdp (by omega) (by omega) hrest (fun v ws' hp => by
    obtain ⟨rfl, f', rfl, hP⟩ := hp
    rw [List.append_nil]
    exact kk f' hP)
  rw [List.append_nil] at h
  exact h
theorem ec_23 (C : Cx E "PpmTrees$Reader" cc) (hR : Rm E dE mcE msE)  {P : Int32 → (Nat → Int32) → Prop} (hM : Ct (xl E) (xG E) y_Re_next b_Re_next 2 (some FieldType.int) d 0 0 [.ref a] (rw1 a x f ++ xw (xG E) x A fx gx) (pir (xG E) a x A fx gx P)) (hd : decode cc pc = .ok (.invokevirtual 23, 3)) (hq : pc + 3 = q) (hdp : d + 1 ≤ dE) (hk : k ≤ mcE) (hn : n ≤ msE) (hrest : (rest.map fun v => v.category).sum ≤ 8) (kk : ∀ z f', P z f' → G E k n q lv (.int z :: rest) (rw1 a x f' ++ xw (xG E) x A fx gx)) : G E k n pc lv (.ref a :: rest) (rw1 a x f ++ xw (xG E) x A fx gx) := by
  have h := g_callV (wr := []) (As := []) (lv := lv) (i0 := 0) (k := k) (n := n) C hR hM w_418 w_420 (mTg (mT0 3 rfl) rfl) w_7 w_421 ⟨rfl, by decide, by decide, (by decide +kernel : (parseMethodDescriptor "()I").map (fun d => d.parameters.length) = some 0)⟩ rfl rfl hd hq rfl (by decide) hdp (by omega) (by omega) hrest (fun v ws' hp => by
    obtain ⟨z, f', rfl, rfl, hP⟩ := hp
    rw [List.append_nil]
    exact kk z f' hP)
  rw [List.append_nil] at h
  exact h
theorem rcW_20 (C : Cx E "PpmTrees$Range" cc) (hR : Rm E dE mcE msE) {a0 : Int32} {P : (Nat → Int32) → (Nat → Int32) → Prop} (hM : Ct (xl E) (xG E) y_Ra_widen b_Ra_widen 2 none d 0 0 [.ref a, .int a0] (ww (xG E) a c f g) (pvw (xG E) a c P)) (hd : decode cc pc = .ok (.invokevirtual 20, 3)) (hq : pc + 3 = q) (hdp : d + 1 ≤ dE) (hk : k ≤ mcE) (hn : n ≤ msE) (hrest : (rest.map fun v => v.category).sum ≤ 8) (kk : ∀ f' g', P f' g' → G E k n q lv (rest) (ww (xG E) a c f' g')) : G E k n pc lv (.int a0 :: .ref a :: rest) (ww (xG E) a c f g) := by
  have h := g_callU (wr := []) (As := [.int a0]) (lv := lv) (i0 := 0) (k := k) (n := n) C hR hM w_408 w_1084 (va_Decl.of (C.2.2.2.2.1 _ w_410) (C.2.2.2.2.1 _ w_411)) (sel_priv (C := "PpmTrees$Writer") (y2 := ⟨"PpmTrees$Range", "span", "(III)V"⟩) ⟨by decide, by decide⟩ (C.2.2.2.2.1 _ w_64) (va_Nw.use rfl (C.2.2.2.2.2.2.2.2.1 _ (mTn (mT2 169 rfl) rfl))) (C.2.2.2.2.1 _ w_410) rfl (C.2.2.2.2.1 _ w_404)) w_410 w_5 w_411 ⟨by decide, by decide, (by decide +kernel : (parseMethodDescriptor "(I)V").map (fun d => d.parameters.length) = some 1)⟩ rfl rfl hd hq rfl (by decide) hdp (by omega) (by omega) hrest (fun v ws' hp => by
    obtain ⟨rfl, f', g', rfl, hP⟩ := hp
    rw [List.append_nil]
    exact kk f' g' hP)
  rw [List.append_nil] at h
  exact h
theorem rcW_25 (C : Cx E "PpmTrees$Range" cc) (hR : Rm E dE mcE msE) {a0 : Int32} {P : (Nat → Int32) → (Nat → Int32) → Prop} (hM : Ct (xl E) (xG E) y_Wr_moved b_Wr_moved 2 none d 0 0 [.ref a, .int a0] (ww (xG E) a c f g) (pvw (xG E) a c P)) (hd : decode cc pc = .ok (.invokevirtual 25, 3)) (hq : pc + 3 = q) (hdp : d + 1 ≤ dE) (hk : k ≤ mcE) (hn : n ≤ msE) (hrest : (rest.map fun v => v.category).sum ≤ 8) (kk : ∀ f' g', P f' g' → G E k n q lv (rest) (ww (xG E) a c f' g')) : G E k n pc lv (.int a0 :: .ref a :: rest) (ww (xG E) a c f g) := by
  have h := g_callU (wr := []) (As := [.int a0]) (lv := lv) (i0 := 0) (k := k) (n := n) C hR hM w_412 w_414 (va_Decl.abs (C.2.2.2.2.2.2.2.2.1 _ (mTn (mT2 173 rfl) rfl))) (C.2.2.2.2.1 _ w_422) w_423 w_6 w_424 ⟨by decide, by decide, (by decide +kernel : (parseMethodDescriptor "(I)V").map (fun d => d.parameters.length) = some 1)⟩ rfl rfl hd hq rfl (by decide) hdp (by omega) (by omega) hrest (fun v ws' hp => by
    obtain ⟨rfl, f', g', rfl, hP⟩ := hp
    rw [List.append_nil]
    exact kk f' g' hP)
  rw [List.append_nil] at h
  exact h
theorem rcR_20 (C : Cx E "PpmTrees$Range" cc) (hR : Rm E dE mcE msE) {a0 : Int32} {P : (Nat → Int32) → Prop} (hM : Ct (xl E) (xG E) y_Ra_widen b_Ra_widen 2 none d 0 0 [.ref a, .int a0] (rw1 a x f ++ xw (xG E) x A fx gx) (pvr (xG E) a x A fx gx P)) (hd : decode cc pc = .ok (.invokevirtual 20, 3)) (hq : pc + 3 = q) (hdp : d + 1 ≤ dE) (hk : k ≤ mcE) (hn : n ≤ msE) (hrest : (rest.map fun v => v.category).sum ≤ 8) (kk : ∀ f', P f' → G E k n q lv (rest) (rw1 a x f' ++ xw (xG E) x A fx gx)) : G E k n pc lv (.int a0 :: .ref a :: rest) (rw1 a x f ++ xw (xG E) x A fx gx) := by
  have h := g_callU (wr := []) (As := [.int a0]) (lv := lv) (i0 := 0) (k := k) (n := n) C hR hM w_408 w_1084 (va_Decl.of (C.2.2.2.2.1 _ w_410) (C.2.2.2.2.1 _ w_411)) (sel_priv (C := "PpmTrees$Reader") (y2 := ⟨"PpmTrees$Range", "span", "(III)V"⟩) ⟨by decide, by decide⟩ (C.2.2.2.2.1 _ w_98) (va_Nw.use rfl (C.2.2.2.2.2.2.2.2.1 _ (mTn (mT2 169 rfl) rfl))) (C.2.2.2.2.1 _ w_410) rfl (C.2.2.2.2.1 _ w_442)) w_410 w_5 w_411 ⟨by decide, by decide, (by decide +kernel : (parseMethodDescriptor "(I)V").map (fun d => d.parameters.length) = some 1)⟩ rfl rfl hd hq rfl (by decide) hdp (by omega) (by omega) hrest (fun v ws' hp => by
    obtain ⟨rfl, f', rfl, hP⟩ := hp
    rw [List.append_nil]
    exact kk f' hP)
  rw [List.append_nil] at h
  exact h
theorem rcR_25 (C : Cx E "PpmTrees$Range" cc) (hR : Rm E dE mcE msE) {a0 : Int32} {P : (Nat → Int32) → Prop} (hM : Ct (xl E) (xG E) y_Re_moved b_Re_moved 2 none d 0 0 [.ref a, .int a0] (rw1 a x f ++ xw (xG E) x A fx gx) (pvr (xG E) a x A fx gx P)) (hd : decode cc pc = .ok (.invokevirtual 25, 3)) (hq : pc + 3 = q) (hdp : d + 1 ≤ dE) (hk : k ≤ mcE) (hn : n ≤ msE) (hrest : (rest.map fun v => v.category).sum ≤ 8) (kk : ∀ f', P f' → G E k n q lv (rest) (rw1 a x f' ++ xw (xG E) x A fx gx)) : G E k n pc lv (.int a0 :: .ref a :: rest) (rw1 a x f ++ xw (xG E) x A fx gx) := by
  have h := g_callU (wr := []) (As := [.int a0]) (lv := lv) (i0 := 0) (k := k) (n := n) C hR hM w_412 w_414 (va_Decl.abs (C.2.2.2.2.2.2.2.2.1 _ (mTn (mT2 173 rfl) rfl))) (C.2.2.2.2.1 _ w_415) w_416 w_7 w_417 ⟨by decide, by decide, (by decide +kernel : (parseMethodDescriptor "(I)V").map (fun d => d.parameters.length) = some 1)⟩ rfl rfl hd hq rfl (by decide) hdp (by omega) (by omega) hrest (fun v ws' hp => by
    obtain ⟨rfl, f', rfl, hP⟩ := hp
    rw [List.append_nil]
    exact kk f' hP)
  rw [List.append_nil] at h
  exact h
end
