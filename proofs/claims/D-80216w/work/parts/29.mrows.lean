/-! THE CLASS Model: its world mw; f: 0 order; 1 room; 2 size; 3 lateMany. Arrays of rm places: 0 parents; 1 bytes; 2 counts; 3 firsts; 4 nexts; 5 late (late: 4) -/
def mfs (b : Nat → Nat) (f : Nat → Int32) : List Value := [.int (f 0), .int (f 1), .int (f 2), .int (f 3), .ref (b 0), .ref (b 1), .ref (b 2), .ref (b 3), .ref (b 4), .ref (b 5)]
def mw (Γ : Gl) (a : Nat) (b : Nat → Nat) (rm : Nat) (f : Nat → Int32) (g : Nat → Nat → Int32) : va_W := [(a, .inr (2, mfs b f)), (b 0, .inl (Γ.2 0, rm, .inl (g 0))), (b 1, .inl (Γ.2 0, rm, .inl (g 1))), (b 2, .inl (Γ.2 0, rm, .inl (g 2))), (b 3, .inl (Γ.2 0, rm, .inl (g 3))), (b 4, .inl (Γ.2 0, rm, .inl (g 4))), (b 5, .inl (Γ.2 0, 4, .inl (g 5)))]
section
variable {E : Ev} {own : String} {cc : ByteArray} {k n pc q dE mcE msE idx : Nat} {lv : LV} {st : List Value} {ws : va_W}
theorem g_mmax (C : Cx E own cc) (hR : Rm E dE mcE msE) {x y : Int32} (h1 : Cond.methodLink own idx ⟨"java/lang/Math", "max", "(II)I"⟩ ∈ Tg) (hd : decode cc pc = .ok (.invokestatic idx, 3)) (hq : pc + 3 = q) (hdp : 1 ≤ dE) (hk : k ≤ mcE) (hn : n ≤ msE) (hrest : (st.map fun v => v.category).sum ≤ 8) (kk : G E k n q lv (.int (if x < y then y else x) :: st) ws) : G E k n pc lv (.int y :: .int x :: st) ws := by
  subst hq
  obtain ⟨r1, r2, r3, r4⟩ := hR
  exact fun H locs ls hP hD hS hl => va_mmax C.1 C.2.1 (C.2.2.1.trans hl.1.symm) C.2.2.2.1 (C.2.2.2.2.1 _ h1) (C.2.2.2.2.1 _ w_153) (C.2.2.2.2.1 _ w_11) (C.2.2.2.2.1 _ w_154) (by omega) (by omega) (by omega) (by omega) hd (kk H locs ls hP hD hS hl)
theorem g_mmin (C : Cx E own cc) (hR : Rm E dE mcE msE) {x y : Int32} (h1 : Cond.methodLink own idx ⟨"java/lang/Math", "min", "(II)I"⟩ ∈ Tg) (hd : decode cc pc = .ok (.invokestatic idx, 3)) (hq : pc + 3 = q) (hdp : 1 ≤ dE) (hk : k ≤ mcE) (hn : n ≤ msE) (hrest : (st.map fun v => v.category).sum ≤ 8) (kk : G E k n q lv (.int (if y < x then y else x) :: st) ws) : G E k n pc lv (.int y :: .int x :: st) ws := by
  subst hq
  obtain ⟨r1, r2, r3, r4⟩ := hR
  exact fun H locs ls hP hD hS hl => va_mmin C.1 C.2.1 (C.2.2.1.trans hl.1.symm) C.2.2.2.1 (C.2.2.2.2.1 _ h1) (C.2.2.2.2.1 _ w_150) (C.2.2.2.2.1 _ w_11) (C.2.2.2.2.1 _ w_151) (by omega) (by omega) (by omega) (by omega) hd (kk H locs ls hP hD hS hl)
theorem g_acopy (C : Cx E own cc) (hR : Rm E dE mcE msE) {a0 a N0 N1 : Nat} {f g : Nat → Int32} {sp dp m : Int32} {s d m' : Nat} (i0 i1 : Nat) (h1 : Cond.methodLink own idx ⟨"java/lang/System", "arraycopy", "(Ljava/lang/Object;ILjava/lang/Object;II)V"⟩ ∈ Tg) (hw0 : ws[i0]? = some (a0, .inl ((xG E).2 0, N0, .inl f))) (hw1 : ws[i1]? = some (a, .inl ((xG E).2 0, N1, .inl g))) (hd : decode cc pc = .ok (.invokestatic idx, 3)) (hq : pc + 3 = q) (es : sp = nI s) (ed : dp = nI d) (em : m = nI m') (b0 : s + m' ≤ N0) (b1 : d + m' ≤ N1) (hN0 : N0 < 2 ^ 31) (hN1 : N1 < 2 ^ 31) (hdp : 1 ≤ dE) (hrest : (st.map fun v => v.category).sum ≤ 8)
    (kk : G E k n q lv st (ws.set i1 (a, .inl ((xG E).2 0, N1, .inl (va_cpy f g s d m'))))) : G E k n pc lv (.int m :: .int dp :: .ref a :: .int sp :: .ref a0 :: st) ws := by
  subst hq; subst es; subst ed; subst em
  obtain ⟨r1, r2, r3, r4⟩ := hR
  have c1 : (nI s).toNatClampNeg = s := nI_clamp (by omega)
  have c2 : (nI d).toNatClampNeg = d := nI_clamp (by omega)
  have c3 : (nI m').toNatClampNeg = m' := nI_clamp (by omega)
  have hnf : nativeFrameWords "java/lang/System" "arraycopy" 5 + 11 ≤ 56 := by decide +kernel
  refine fun H locs ls hP hD hS hl => va_copyi C.1 C.2.1 (C.2.2.1.trans hl.1.symm) C.2.2.2.1 (C.2.2.2.2.1 _ h1) (C.2.2.2.2.1 _ w_473) (C.2.2.2.2.1 _ w_472) (C.2.2.2.2.1 _ w_15) C.2.2.2.2.2.1 hP hD hS i0 i1 0 0 hw0 hw1 rfl rfl rfl (nI_pos (by omega)) (nI_pos (by omega)) (nI_pos (by omega)) (by rw [c1, c3]; exact b0) (by rw [c2, c3]; exact b1) (fun _ _ => rfl) (by omega) (by omega) hd (fun H1 locs1 hP1 hD1 hS1 => ?_)
  rw [c1, c2, c3] at hP1 hD1
  exact kk H1 locs1 ls hP1 hD1 hS1 hl
/-- some of the cells, in another order -/
theorem g_sub {ws' : va_W} (is : List Nat) (hs : is.map (fun i => ws[i]?) = ws'.map some) (hn : va_nd is = true) (kk : G E k n pc lv st ws') : G E k n pc lv st ws := by
  refine fun H locs ls hP hD hS hl => kk H locs ls (hP.sub is ?_) (hD.sub is hn hs) hS hl
  have h : ∀ (is : List Nat) (ws' : va_W), is.map (fun i => ws[i]?) = ws'.map some → is.filterMap (fun i => ws[i]?) = ws' := by
    intro is
    induction is with
    | nil => intro ws' h; cases ws' with
      | nil => rfl
      | cons a t => simp at h
    | cons i is ih =>
      intro ws' h
      cases ws' with
      | nil => simp at h
      | cons a t =>
        rw [List.map_cons, List.map_cons] at h
        injection h with h1 h2
        rw [List.filterMap_cons, h1]
        simp only
        rw [ih t h2]
  exact h is ws' hs
end
section
variable {E : Ev} {cc : ByteArray} {k n pc q a rm d dE mcE msE : Nat} {lv : LV} {st rest : List Value} {b : Nat → Nat} {f : Nat → Int32} {g : Nat → Nat → Int32}
theorem mg_15 (C : Cx E "PpmTrees$Model" cc) {v : Int32} (hd : decode cc pc = .ok (.getfield 15, 3)) (hq : pc + 3 = q) (hv : f 0 = v) (kk : G E k n q lv (.int v :: st) (mw (xG E) a b rm f g)) : G E k n pc lv (.ref a :: st) (mw (xG E) a b rm f g) := by
  subst hv
  exact g_get C 0 fi_Mo rfl rfl (j := 0) (by decide) rfl w_164 (Or.inl rfl) hd hq kk
theorem mg_19 (C : Cx E "PpmTrees$Model" cc) {v : Int32} (hd : decode cc pc = .ok (.getfield 19, 3)) (hq : pc + 3 = q) (hv : f 1 = v) (kk : G E k n q lv (.int v :: st) (mw (xG E) a b rm f g)) : G E k n pc lv (.ref a :: st) (mw (xG E) a b rm f g) := by
  subst hv
  exact g_get C 0 fi_Mo rfl rfl (j := 1) (by decide) rfl w_166 (Or.inl rfl) hd hq kk
theorem mg_40 (C : Cx E "PpmTrees$Model" cc) {v : Int32} (hd : decode cc pc = .ok (.getfield 40, 3)) (hq : pc + 3 = q) (hv : f 2 = v) (kk : G E k n q lv (.int v :: st) (mw (xG E) a b rm f g)) : G E k n pc lv (.ref a :: st) (mw (xG E) a b rm f g) := by
  subst hv
  exact g_get C 0 fi_Mo rfl rfl (j := 2) (by decide) rfl w_178 (Or.inl rfl) hd hq kk
theorem mp_40 (C : Cx E "PpmTrees$Model" cc) {v : Int32} (hd : decode cc pc = .ok (.putfield 40, 3)) (hq : pc + 3 = q) (kk : G E k n q lv st (mw (xG E) a b rm (upd f 2 v) g)) : G E k n pc lv (.int v :: .ref a :: st) (mw (xG E) a b rm f g) :=
  g_put C 0 fi_Mo fty_Mo_ok fn_Mo rfl rfl (j := 2) (ty := .int) (by decide) (Nat.le_of_ble_eq_true rfl) w_178 (Or.inl rfl) rfl (by decide +kernel) rfl rfl hd hq kk
theorem mg_43 (C : Cx E "PpmTrees$Model" cc) {v : Int32} (hd : decode cc pc = .ok (.getfield 43, 3)) (hq : pc + 3 = q) (hv : f 3 = v) (kk : G E k n q lv (.int v :: st) (mw (xG E) a b rm f g)) : G E k n pc lv (.ref a :: st) (mw (xG E) a b rm f g) := by
  subst hv
  exact g_get C 0 fi_Mo rfl rfl (j := 3) (by decide) rfl w_182 (Or.inl rfl) hd hq kk
theorem mp_43 (C : Cx E "PpmTrees$Model" cc) {v : Int32} (hd : decode cc pc = .ok (.putfield 43, 3)) (hq : pc + 3 = q) (kk : G E k n q lv st (mw (xG E) a b rm (upd f 3 v) g)) : G E k n pc lv (.int v :: .ref a :: st) (mw (xG E) a b rm f g) :=
  g_put C 0 fi_Mo fty_Mo_ok fn_Mo rfl rfl (j := 3) (ty := .int) (by decide) (Nat.le_of_ble_eq_true rfl) w_182 (Or.inl rfl) rfl (by decide +kernel) rfl rfl hd hq kk
theorem mg_22 (C : Cx E "PpmTrees$Model" cc) (hd : decode cc pc = .ok (.getfield 22, 3)) (hq : pc + 3 = q) (kk : G E k n q lv (.ref (b 0) :: st) (mw (xG E) a b rm f g)) : G E k n pc lv (.ref a :: st) (mw (xG E) a b rm f g) :=
  g_get C 0 fi_Mo rfl rfl (j := 4) (by decide) rfl w_168 (Or.inl rfl) hd hq kk
theorem ma_0 (C : Cx E "PpmTrees$Model" cc) (hrm : rm ≤ 1500) {i v : Int32} {t : Nat} (hd : decode cc pc = .ok (.iaload, 1)) (hq : pc + 1 = q) (hi : i = nI t) (hlt : t < rm) (hv : g 0 t = v) (kk : G E k n q lv (.int v :: st) (mw (xG E) a b rm f g)) : G E k n pc lv (.int i :: .ref (b 0) :: st) (mw (xG E) a b rm f g) := by
  subst hv
  subst hi
  exact g_iald C 1 rfl (vp_in_nI hlt (by omega)) hd hq (by rw [nI_clamp (by omega)]; exact kk)
theorem ms_0 (C : Cx E "PpmTrees$Model" cc) (hrm : rm ≤ 1500) {i x : Int32} {t : Nat} (hd : decode cc pc = .ok (.iastore, 1)) (hq : pc + 1 = q) (hi : i = nI t) (hlt : t < rm) (kk : G E k n q lv st (mw (xG E) a b rm f (updA g 0 (upd (g 0) t x)))) : G E k n pc lv (.int x :: .int i :: .ref (b 0) :: st) (mw (xG E) a b rm f g) := by
  subst hi
  refine g_iast C 1 rfl (vp_in_nI hlt (by omega)) hd hq ?_
  rw [nI_clamp (by omega)]
  exact kk
theorem mg_25 (C : Cx E "PpmTrees$Model" cc) (hd : decode cc pc = .ok (.getfield 25, 3)) (hq : pc + 3 = q) (kk : G E k n q lv (.ref (b 1) :: st) (mw (xG E) a b rm f g)) : G E k n pc lv (.ref a :: st) (mw (xG E) a b rm f g) :=
  g_get C 0 fi_Mo rfl rfl (j := 5) (by decide) rfl w_170 (Or.inl rfl) hd hq kk
theorem ma_1 (C : Cx E "PpmTrees$Model" cc) (hrm : rm ≤ 1500) {i v : Int32} {t : Nat} (hd : decode cc pc = .ok (.iaload, 1)) (hq : pc + 1 = q) (hi : i = nI t) (hlt : t < rm) (hv : g 1 t = v) (kk : G E k n q lv (.int v :: st) (mw (xG E) a b rm f g)) : G E k n pc lv (.int i :: .ref (b 1) :: st) (mw (xG E) a b rm f g) := by
  subst hv
  subst hi
  exact g_iald C 2 rfl (vp_in_nI hlt (by omega)) hd hq (by rw [nI_clamp (by omega)]; exact kk)
theorem ms_1 (C : Cx E "PpmTrees$Model" cc) (hrm : rm ≤ 1500) {i x : Int32} {t : Nat} (hd : decode cc pc = .ok (.iastore, 1)) (hq : pc + 1 = q) (hi : i = nI t) (hlt : t < rm) (kk : G E k n q lv st (mw (xG E) a b rm f (updA g 1 (upd (g 1) t x)))) : G E k n pc lv (.int x :: .int i :: .ref (b 1) :: st) (mw (xG E) a b rm f g) := by
  subst hi
  refine g_iast C 2 rfl (vp_in_nI hlt (by omega)) hd hq ?_
  rw [nI_clamp (by omega)]
  exact kk
theorem mg_28 (C : Cx E "PpmTrees$Model" cc) (hd : decode cc pc = .ok (.getfield 28, 3)) (hq : pc + 3 = q) (kk : G E k n q lv (.ref (b 2) :: st) (mw (xG E) a b rm f g)) : G E k n pc lv (.ref a :: st) (mw (xG E) a b rm f g) :=
  g_get C 0 fi_Mo rfl rfl (j := 6) (by decide) rfl w_172 (Or.inl rfl) hd hq kk
theorem ma_2 (C : Cx E "PpmTrees$Model" cc) (hrm : rm ≤ 1500) {i v : Int32} {t : Nat} (hd : decode cc pc = .ok (.iaload, 1)) (hq : pc + 1 = q) (hi : i = nI t) (hlt : t < rm) (hv : g 2 t = v) (kk : G E k n q lv (.int v :: st) (mw (xG E) a b rm f g)) : G E k n pc lv (.int i :: .ref (b 2) :: st) (mw (xG E) a b rm f g) := by
  subst hv
  subst hi
  exact g_iald C 3 rfl (vp_in_nI hlt (by omega)) hd hq (by rw [nI_clamp (by omega)]; exact kk)
theorem ms_2 (C : Cx E "PpmTrees$Model" cc) (hrm : rm ≤ 1500) {i x : Int32} {t : Nat} (hd : decode cc pc = .ok (.iastore, 1)) (hq : pc + 1 = q) (hi : i = nI t) (hlt : t < rm) (kk : G E k n q lv st (mw (xG E) a b rm f (updA g 2 (upd (g 2) t x)))) : G E k n pc lv (.int x :: .int i :: .ref (b 2) :: st) (mw (xG E) a b rm f g) := by
  subst hi
  refine g_iast C 3 rfl (vp_in_nI hlt (by omega)) hd hq ?_
  rw [nI_clamp (by omega)]
  exact kk
theorem mg_31 (C : Cx E "PpmTrees$Model" cc) (hd : decode cc pc = .ok (.getfield 31, 3)) (hq : pc + 3 = q) (kk : G E k n q lv (.ref (b 3) :: st) (mw (xG E) a b rm f g)) : G E k n pc lv (.ref a :: st) (mw (xG E) a b rm f g) :=
  g_get C 0 fi_Mo rfl rfl (j := 7) (by decide) rfl w_174 (Or.inl rfl) hd hq kk
theorem ma_3 (C : Cx E "PpmTrees$Model" cc) (hrm : rm ≤ 1500) {i v : Int32} {t : Nat} (hd : decode cc pc = .ok (.iaload, 1)) (hq : pc + 1 = q) (hi : i = nI t) (hlt : t < rm) (hv : g 3 t = v) (kk : G E k n q lv (.int v :: st) (mw (xG E) a b rm f g)) : G E k n pc lv (.int i :: .ref (b 3) :: st) (mw (xG E) a b rm f g) := by
  subst hv
  subst hi
  exact g_iald C 4 rfl (vp_in_nI hlt (by omega)) hd hq (by rw [nI_clamp (by omega)]; exact kk)
theorem ms_3 (C : Cx E "PpmTrees$Model" cc) (hrm : rm ≤ 1500) {i x : Int32} {t : Nat} (hd : decode cc pc = .ok (.iastore, 1)) (hq : pc + 1 = q) (hi : i = nI t) (hlt : t < rm) (kk : G E k n q lv st (mw (xG E) a b rm f (updA g 3 (upd (g 3) t x)))) : G E k n pc lv (.int x :: .int i :: .ref (b 3) :: st) (mw (xG E) a b rm f g) := by
  subst hi
  refine g_iast C 4 rfl (vp_in_nI hlt (by omega)) hd hq ?_
  rw [nI_clamp (by omega)]
  exact kk
theorem mg_34 (C : Cx E "PpmTrees$Model" cc) (hd : decode cc pc = .ok (.getfield 34, 3)) (hq : pc + 3 = q) (kk : G E k n q lv (.ref (b 4) :: st) (mw (xG E) a b rm f g)) : G E k n pc lv (.ref a :: st) (mw (xG E) a b rm f g) :=
  g_get C 0 fi_Mo rfl rfl (j := 8) (by decide) rfl w_176 (Or.inl rfl) hd hq kk
theorem ma_4 (C : Cx E "PpmTrees$Model" cc) (hrm : rm ≤ 1500) {i v : Int32} {t : Nat} (hd : decode cc pc = .ok (.iaload, 1)) (hq : pc + 1 = q) (hi : i = nI t) (hlt : t < rm) (hv : g 4 t = v) (kk : G E k n q lv (.int v :: st) (mw (xG E) a b rm f g)) : G E k n pc lv (.int i :: .ref (b 4) :: st) (mw (xG E) a b rm f g) := by
  subst hv
  subst hi
  exact g_iald C 5 rfl (vp_in_nI hlt (by omega)) hd hq (by rw [nI_clamp (by omega)]; exact kk)
theorem ms_4 (C : Cx E "PpmTrees$Model" cc) (hrm : rm ≤ 1500) {i x : Int32} {t : Nat} (hd : decode cc pc = .ok (.iastore, 1)) (hq : pc + 1 = q) (hi : i = nI t) (hlt : t < rm) (kk : G E k n q lv st (mw (xG E) a b rm f (updA g 4 (upd (g 4) t x)))) : G E k n pc lv (.int x :: .int i :: .ref (b 4) :: st) (mw (xG E) a b rm f g) := by
  subst hi
  refine g_iast C 5 rfl (vp_in_nI hlt (by omega)) hd hq ?_
  rw [nI_clamp (by omega)]
  exact kk
theorem mg_9 (C : Cx E "PpmTrees$Model" cc) (hd : decode cc pc = .ok (.getfield 9, 3)) (hq : pc + 3 = q) (kk : G E k n q lv (.ref (b 5) :: st) (mw (xG E) a b rm f g)) : G E k n pc lv (.ref a :: st) (mw (xG E) a b rm f g) :=
  g_get C 0 fi_Mo rfl rfl (j := 9) (by decide) rfl w_180 (Or.inl rfl) hd hq kk
theorem ma_5 (C : Cx E "PpmTrees$Model" cc) {i v : Int32} {t : Nat} (hd : decode cc pc = .ok (.iaload, 1)) (hq : pc + 1 = q) (hi : i = nI t) (hlt : t < 4) (hv : g 5 t = v) (kk : G E k n q lv (.int v :: st) (mw (xG E) a b rm f g)) : G E k n pc lv (.int i :: .ref (b 5) :: st) (mw (xG E) a b rm f g) := by
  subst hv
  subst hi
  exact g_iald C 6 rfl (vp_in_nI hlt (by omega)) hd hq (by rw [nI_clamp (by omega)]; exact kk)
theorem ms_5 (C : Cx E "PpmTrees$Model" cc) {i x : Int32} {t : Nat} (hd : decode cc pc = .ok (.iastore, 1)) (hq : pc + 1 = q) (hi : i = nI t) (hlt : t < 4) (kk : G E k n q lv st (mw (xG E) a b rm f (updA g 5 (upd (g 5) t x)))) : G E k n pc lv (.int x :: .int i :: .ref (b 5) :: st) (mw (xG E) a b rm f g) := by
  subst hi
  refine g_iast C 6 rfl (vp_in_nI hlt (by omega)) hd hq ?_
  rw [nI_clamp (by omega)]
  exact kk
def pvm (Γ : Gl) (a : Nat) (b : Nat → Nat) (rm : Nat) (P : (Nat → Int32) → (Nat → Nat → Int32) → Prop) : Option Value → va_W → Prop := fun r w => r = none ∧ ∃ f' g', w = mw Γ a b rm f' g' ∧ P f' g'
def pim (Γ : Gl) (a : Nat) (b : Nat → Nat) (rm : Nat) (P : Int32 → (Nat → Int32) → (Nat → Nat → Int32) → Prop) : Option Value → va_W → Prop := fun r w => ∃ x f' g', r = some (.int x) ∧ w = mw Γ a b rm f' g' ∧ P x f' g'
theorem mc_37 (C : Cx E "PpmTrees$Model" cc) (hR : Rm E dE mcE msE)  {P : (Nat → Int32) → (Nat → Nat → Int32) → Prop} (hM : Ct (xl E) (xG E) y_Mo_begin b_Mo_begin 1 none d 0 0 [.ref a] (mw (xG E) a b rm f g) (pvm (xG E) a b rm P)) (hd : decode cc pc = .ok (.invokevirtual 37, 3)) (hq : pc + 3 = q) (hdp : d + 1 ≤ dE) (hk : k ≤ mcE) (hn : n ≤ msE) (hrest : (rest.map fun v => v.category).sum ≤ 8) (kk : ∀ f' g', P f' g' → G E k n q lv (rest) (mw (xG E) a b rm f' g')) : G E k n pc lv (.ref a :: rest) (mw (xG E) a b rm f g) := by
  have h := g_callV (wr := []) (As := []) (lv := lv) (i0 := 0) (k := k) (n := n) C hR hM w_160 w_161 w_162 w_12 w_163 ⟨rfl, by decide, by decide, (by decide +kernel : (parseMethodDescriptor y_Mo_begin.desc).map (fun d => d.parameters.length) = some 0)⟩ rfl rfl hd hq rfl (by decide) hdp (by omega) (by omega) hrest (fun v ws' hp => by
    obtain ⟨rfl, f', g', rfl, hP⟩ := hp
    rw [List.append_nil]
    exact kk f' g' hP)
  rw [List.append_nil] at h
  exact h
theorem mc_56 (C : Cx E "PpmTrees$Model" cc) (hR : Rm E dE mcE msE) {a0 : Int32} {a1 : Int32} {P : Int32 → (Nat → Int32) → (Nat → Nat → Int32) → Prop} (hM : Ct (xl E) (xG E) y_Mo_childOf b_Mo_childOf 4 (some FieldType.int) d 0 0 [.ref a, .int a0, .int a1] (mw (xG E) a b rm f g) (pim (xG E) a b rm P)) (hd : decode cc pc = .ok (.invokevirtual 56, 3)) (hq : pc + 3 = q) (hdp : d + 1 ≤ dE) (hk : k ≤ mcE) (hn : n ≤ msE) (hrest : (rest.map fun v => v.category).sum ≤ 8) (kk : ∀ x f' g', P x f' g' → G E k n q lv (.int x :: rest) (mw (xG E) a b rm f' g')) : G E k n pc lv (.int a1 :: .int a0 :: .ref a :: rest) (mw (xG E) a b rm f g) := by
  have h := g_callV (wr := []) (As := [.int a0, .int a1]) (lv := lv) (i0 := 0) (k := k) (n := n) C hR hM w_362 w_363 w_364 w_12 w_365 ⟨rfl, by decide, by decide, (by decide +kernel : (parseMethodDescriptor y_Mo_childOf.desc).map (fun d => d.parameters.length) = some 2)⟩ rfl rfl hd hq rfl (by decide) hdp (by omega) (by omega) hrest (fun v ws' hp => by
    obtain ⟨x, f', g', rfl, rfl, hP⟩ := hp
    rw [List.append_nil]
    exact kk x f' g' hP)
  rw [List.append_nil] at h
  exact h
theorem mc_65 (C : Cx E "PpmTrees$Model" cc) (hR : Rm E dE mcE msE) {a0 : Int32} {P : Int32 → (Nat → Int32) → (Nat → Nat → Int32) → Prop} (hM : Ct (xl E) (xG E) y_Mo_context b_Mo_context 4 (some FieldType.int) d 0 0 [.ref a, .int a0] (mw (xG E) a b rm f g) (pim (xG E) a b rm P)) (hd : decode cc pc = .ok (.invokevirtual 65, 3)) (hq : pc + 3 = q) (hdp : d + 1 ≤ dE) (hk : k ≤ mcE) (hn : n ≤ msE) (hrest : (rest.map fun v => v.category).sum ≤ 8) (kk : ∀ x f' g', P x f' g' → G E k n q lv (.int x :: rest) (mw (xG E) a b rm f' g')) : G E k n pc lv (.int a0 :: .ref a :: rest) (mw (xG E) a b rm f g) := by
  have h := g_callV (wr := []) (As := [.int a0]) (lv := lv) (i0 := 0) (k := k) (n := n) C hR hM w_458 w_359 w_360 w_12 w_361 ⟨rfl, by decide, by decide, (by decide +kernel : (parseMethodDescriptor y_Mo_context.desc).map (fun d => d.parameters.length) = some 1)⟩ rfl rfl hd hq rfl (by decide) hdp (by omega) (by omega) hrest (fun v ws' hp => by
    obtain ⟨x, f', g', rfl, rfl, hP⟩ := hp
    rw [List.append_nil]
    exact kk x f' g' hP)
  rw [List.append_nil] at h
  exact h
theorem mc_69 (C : Cx E "PpmTrees$Model" cc) (hR : Rm E dE mcE msE) {a0 : Int32} {a1 : Int32} {P : (Nat → Int32) → (Nat → Nat → Int32) → Prop} (hM : Ct (xl E) (xG E) y_Mo_bear b_Mo_bear 6 none d 0 0 [.ref a, .int a0, .int a1] (mw (xG E) a b rm f g) (pvm (xG E) a b rm P)) (hd : decode cc pc = .ok (.invokevirtual 69, 3)) (hq : pc + 3 = q) (hdp : d + 1 ≤ dE) (hk : k ≤ mcE) (hn : n ≤ msE) (hrest : (rest.map fun v => v.category).sum ≤ 8) (kk : ∀ f' g', P f' g' → G E k n q lv (rest) (mw (xG E) a b rm f' g')) : G E k n pc lv (.int a1 :: .int a0 :: .ref a :: rest) (mw (xG E) a b rm f g) := by
  have h := g_callV (wr := []) (As := [.int a0, .int a1]) (lv := lv) (i0 := 0) (k := k) (n := n) C hR hM w_459 w_461 (mTg (mT0 7 rfl) rfl) w_12 w_462 ⟨rfl, by decide, by decide, (by decide +kernel : (parseMethodDescriptor y_Mo_bear.desc).map (fun d => d.parameters.length) = some 2)⟩ rfl rfl hd hq rfl (by decide) hdp (by omega) (by omega) hrest (fun v ws' hp => by
    obtain ⟨rfl, f', g', rfl, hP⟩ := hp
    rw [List.append_nil]
    exact kk f' g' hP)
  rw [List.append_nil] at h
  exact h
theorem mc_73 (C : Cx E "PpmTrees$Model" cc) (hR : Rm E dE mcE msE) {a0 : Int32} {P : (Nat → Int32) → (Nat → Nat → Int32) → Prop} (hM : Ct (xl E) (xG E) y_Mo_halve b_Mo_halve 4 none d 0 0 [.ref a, .int a0] (mw (xG E) a b rm f g) (pvm (xG E) a b rm P)) (hd : decode cc pc = .ok (.invokevirtual 73, 3)) (hq : pc + 3 = q) (hdp : d + 1 ≤ dE) (hk : k ≤ mcE) (hn : n ≤ msE) (hrest : (rest.map fun v => v.category).sum ≤ 8) (kk : ∀ f' g', P f' g' → G E k n q lv (rest) (mw (xG E) a b rm f' g')) : G E k n pc lv (.int a0 :: .ref a :: rest) (mw (xG E) a b rm f g) := by
  have h := g_callV (wr := []) (As := [.int a0]) (lv := lv) (i0 := 0) (k := k) (n := n) C hR hM w_463 w_465 (mTg (mT0 8 rfl) rfl) w_12 w_466 ⟨rfl, by decide, by decide, (by decide +kernel : (parseMethodDescriptor y_Mo_halve.desc).map (fun d => d.parameters.length) = some 1)⟩ rfl rfl hd hq rfl (by decide) hdp (by omega) (by omega) hrest (fun v ws' hp => by
    obtain ⟨rfl, f', g', rfl, hP⟩ := hp
    rw [List.append_nil]
    exact kk f' g' hP)
  rw [List.append_nil] at h
  exact h
theorem mc_77 (C : Cx E "PpmTrees$Model" cc) (hR : Rm E dE mcE msE) {a0 : Int32} {P : (Nat → Int32) → (Nat → Nat → Int32) → Prop} (hM : Ct (xl E) (xG E) y_Mo_remember b_Mo_remember 2 none d 0 0 [.ref a, .int a0] (mw (xG E) a b rm f g) (pvm (xG E) a b rm P)) (hd : decode cc pc = .ok (.invokevirtual 77, 3)) (hq : pc + 3 = q) (hdp : d + 1 ≤ dE) (hk : k ≤ mcE) (hn : n ≤ msE) (hrest : (rest.map fun v => v.category).sum ≤ 8) (kk : ∀ f' g', P f' g' → G E k n q lv (rest) (mw (xG E) a b rm f' g')) : G E k n pc lv (.int a0 :: .ref a :: rest) (mw (xG E) a b rm f g) := by
  have h := g_callV (wr := []) (As := [.int a0]) (lv := lv) (i0 := 0) (k := k) (n := n) C hR hM w_467 w_469 (mTg (mT0 9 rfl) rfl) w_12 w_470 ⟨rfl, by decide, by decide, (by decide +kernel : (parseMethodDescriptor y_Mo_remember.desc).map (fun d => d.parameters.length) = some 1)⟩ rfl rfl hd hq rfl (by decide) hdp (by omega) (by omega) hrest (fun v ws' hp => by
    obtain ⟨rfl, f', g', rfl, hP⟩ := hp
    rw [List.append_nil]
    exact kk f' g' hP)
  rw [List.append_nil] at h
  exact h
end
