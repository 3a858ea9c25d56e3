section
variable {E : Ev} {own : String} {cc : ByteArray} {k n pc q dE mcE msE idx : Nat} {lv : LV} {st : List Value} {ws : va_W}
theorem arr_same {D : va_G} {tys : List (ClassId × FieldType)} {s : State} {cA cB : ClassId} {ty : FieldType} {i : Nat} (hp : refKind ty = false) (hi : tys[i]? = some (cB, ty)) (hK : va_K D classes (tys ++ [(cA, ty)]) s) : cA = cB := by
  have hlt := (List.getElem?_eq_some_iff.mp hi).1
  have h1 := (hK.2 i (cB, ty) (by rw [List.getElem?_append_left hlt]; exact hi)).2
  have h2 := (hK.2 tys.length (cA, ty) (by rw [List.getElem?_append_right (Nat.le_refl _), Nat.sub_self]; rfl)).2
  cases ty <;> first | (simp [refKind] at hp; done) | exact Option.some.inj (h2.symm.trans h1)
theorem g_newa_i (C : Cx E own cc) (hR : Rm E dE mcE msE) {N : Nat} {i : Int32} (hd : decode cc pc = .ok (.newarray .int, 2)) (hq : pc + 2 = q) (hi : i = nI N) (hN : N ≤ 10500) (hk : k + 1 ≤ mcE) (hn : n + N ≤ msE) (kk : ∀ a : Nat, G E (k + 1) (n + N) q lv (.ref a :: st) (ws ++ [(a, .inl ((xG E).2 0, N, .inl (fun _ => 0)))])) : G E k n pc lv (.int i :: st) ws := by
  subst hq; subst hi
  obtain ⟨r1, r2, r3, r4⟩ := hR
  have hc : (nI N).toNatClampNeg = N := nI_clamp (by omega)
  intro H locs ls hP hD hS hl
  refine va_newa (atype := .int) (ty := .int) (a0 := (N, .inl (fun _ => 0))) (N' := N) C.1 C.2.1 (C.2.2.2.2.1 _ w_62) rfl C.2.2.2.2.2.1 hP hD hS C.2.2.2.2.2.2.2.1 (fun _ => rfl) (nI_pos (by omega)) hc (by show N * _ ≤ _; simp only [componentBytes]; omega) (by omega) (by omega) hd (fun a cA H1 hK1 hP1 hD1 hS1 => ?_)
  have hcA : cA = (xG E).2 0 := arr_same (i := 0) rfl rfl hK1
  subst hcA
  exact kk a H1 locs ls hP1 hD1 hS1 hl
theorem g_newa_z (C : Cx E own cc) (hR : Rm E dE mcE msE) {N : Nat} {i : Int32} (hd : decode cc pc = .ok (.newarray .boolean, 2)) (hq : pc + 2 = q) (hi : i = nI N) (hN : N ≤ 10500) (hk : k + 1 ≤ mcE) (hn : n + N ≤ msE) (kk : ∀ a : Nat, G E (k + 1) (n + N) q lv (.ref a :: st) (ws ++ [(a, .inl ((xG E).2 1, N, .inl (fun _ => 0)))])) : G E k n pc lv (.int i :: st) ws := by
  subst hq; subst hi
  obtain ⟨r1, r2, r3, r4⟩ := hR
  have hc : (nI N).toNatClampNeg = N := nI_clamp (by omega)
  intro H locs ls hP hD hS hl
  refine va_newa (atype := .boolean) (ty := .boolean) (a0 := (N, .inl (fun _ => 0))) (N' := N) C.1 C.2.1 (C.2.2.2.2.1 _ w_61) rfl C.2.2.2.2.2.1 hP hD hS C.2.2.2.2.2.2.2.1 (fun _ => rfl) (nI_pos (by omega)) hc (by show N * _ ≤ _; simp only [componentBytes]; omega) (by omega) (by omega) hd (fun a cA H1 hK1 hP1 hD1 hS1 => ?_)
  have hcA : cA = (xG E).2 1 := arr_same (i := 1) rfl rfl hK1
  subst hcA
  exact kk a H1 locs ls hP1 hD1 hS1 hl
theorem g_newa_b (C : Cx E own cc) (hR : Rm E dE mcE msE) {N : Nat} {i : Int32} (hd : decode cc pc = .ok (.newarray .byte, 2)) (hq : pc + 2 = q) (hi : i = nI N) (hN : N ≤ 10500) (hk : k + 1 ≤ mcE) (hn : n + N ≤ msE) (kk : ∀ a : Nat, G E (k + 1) (n + N) q lv (.ref a :: st) (ws ++ [(a, .inl ((xG E).2 2, N, .inl (fun _ => 0)))])) : G E k n pc lv (.int i :: st) ws := by
  subst hq; subst hi
  obtain ⟨r1, r2, r3, r4⟩ := hR
  have hc : (nI N).toNatClampNeg = N := nI_clamp (by omega)
  intro H locs ls hP hD hS hl
  refine va_newa (atype := .byte) (ty := .byte) (a0 := (N, .inl (fun _ => 0))) (N' := N) C.1 C.2.1 (C.2.2.2.2.1 _ w_96) rfl C.2.2.2.2.2.1 hP hD hS C.2.2.2.2.2.2.2.1 (fun _ => rfl) (nI_pos (by omega)) hc (by show N * _ ≤ _; simp only [componentBytes]; omega) (by omega) (by omega) hd (fun a cA H1 hK1 hP1 hD1 hS1 => ?_)
  have hcA : cA = (xG E).2 2 := arr_same (i := 2) rfl rfl hK1
  subst hcA
  exact kk a H1 locs ls hP1 hD1 hS1 hl
theorem g_newa_l (C : Cx E own cc) (hR : Rm E dE mcE msE) {N : Nat} {i : Int32} (hd : decode cc pc = .ok (.newarray .long, 2)) (hq : pc + 2 = q) (hi : i = nI N) (hN : N ≤ 10500) (hk : k + 1 ≤ mcE) (hn : n + N ≤ msE) (kk : ∀ a : Nat, G E (k + 1) (n + N) q lv (.ref a :: st) (ws ++ [(a, .inl ((xG E).2 3, N, .inr (.inl (fun _ => 0))))])) : G E k n pc lv (.int i :: st) ws := by
  subst hq; subst hi
  obtain ⟨r1, r2, r3, r4⟩ := hR
  have hc : (nI N).toNatClampNeg = N := nI_clamp (by omega)
  intro H locs ls hP hD hS hl
  refine va_newa (atype := .long) (ty := .long) (a0 := (N, .inr (.inl (fun _ => 0)))) (N' := N) C.1 C.2.1 (C.2.2.2.2.1 _ w_1082) rfl C.2.2.2.2.2.1 hP hD hS C.2.2.2.2.2.2.2.1 (fun _ => rfl) (nI_pos (by omega)) hc (by show N * _ ≤ _; simp only [componentBytes]; omega) (by omega) (by omega) hd (fun a cA H1 hK1 hP1 hD1 hS1 => ?_)
  have hcA : cA = (xG E).2 3 := arr_same (i := 3) rfl rfl hK1
  subst hcA
  exact kk a H1 locs ls hP1 hD1 hS1 hl
theorem g_new (C : Cx E own cc) (hR : Rm E dE mcE msE) {ci N : Nat} {cls : String} {T : u_T} {ty : Nat → FieldType} {fs : List Value} (hin : ∀ w ∈ u_ws cls T N, w ∈ Tg) (hty : ∀ k, k < N → parseFieldDescriptor (T k).2.2.1 = some (ty k)) (hc : classes[ci]? = some (cls, T, N)) (h1 : Cond.classLink own idx cls ∈ Tg) (h2 : Cond.instantiable cls N ∈ Tg) (h3 : Cond.initialized cls ∈ Tg) (hfs : ∀ j, j < N → defaultValue (ty j) = vp_V fs j) (hd : decode cc pc = .ok (.new idx, 3)) (hq : pc + 3 = q) (hk : k + 1 ≤ mcE) (hn : n + N ≤ msE) (kk : ∀ a : Nat, G E (k + 1) (n + N) q lv (.ref a :: st) (ws ++ [(a, .inr (ci, fs))])) : G E k n pc lv st ws := by
  subst hq
  obtain ⟨r1, r2, r3, r4⟩ := hR
  intro H locs ls hP hD hS hl
  exact va_new C.1 C.2.1 C.2.2.2.2.1 hin ty hty C.2.2.2.1 (C.2.2.2.2.1 _ h1) (C.2.2.2.2.1 _ h2) (C.2.2.2.2.1 _ h3) C.2.2.2.2.2.1 hP hD hS C.2.2.2.2.2.2.2.1 hc hfs (by omega) (by omega) hd (fun a H1 hP1 hD1 hS1 => kk a H1 locs ls hP1 hD1 hS1 hl)
end
section
variable {E : Ev} {cc : ByteArray} {k n pc q a a2 rm d dE mcE msE : Nat} {lv : LV} {st rest : List Value} {b b2 : Nat → Nat} {f f2 : Nat → Int32} {g g2 : Nat → Nat → Int32}
theorem mgA_15 (C : Cx E "PpmTrees$Model" cc) {v : Int32} (hd : decode cc pc = .ok (.getfield 15, 3)) (hq : pc + 3 = q) (hv : f 0 = v) (kk : G E k n q lv (.int v :: st) (mw (xG E) a b rm f g ++ mw (xG E) a2 b2 rm f2 g2)) : G E k n pc lv (.ref a :: st) (mw (xG E) a b rm f g ++ mw (xG E) a2 b2 rm f2 g2) := by
  subst hv
  exact g_get C 0 fi_Mo rfl rfl (j := 0) (by decide) rfl w_164 (Or.inl rfl) hd hq kk
theorem mgB_15 (C : Cx E "PpmTrees$Model" cc) {v : Int32} (hd : decode cc pc = .ok (.getfield 15, 3)) (hq : pc + 3 = q) (hv : f2 0 = v) (kk : G E k n q lv (.int v :: st) (mw (xG E) a b rm f g ++ mw (xG E) a2 b2 rm f2 g2)) : G E k n pc lv (.ref a2 :: st) (mw (xG E) a b rm f g ++ mw (xG E) a2 b2 rm f2 g2) := by
  subst hv
  exact g_get C 7 fi_Mo rfl rfl (j := 0) (by decide) rfl w_164 (Or.inl rfl) hd hq kk
theorem mgA_19 (C : Cx E "PpmTrees$Model" cc) {v : Int32} (hd : decode cc pc = .ok (.getfield 19, 3)) (hq : pc + 3 = q) (hv : f 1 = v) (kk : G E k n q lv (.int v :: st) (mw (xG E) a b rm f g ++ mw (xG E) a2 b2 rm f2 g2)) : G E k n pc lv (.ref a :: st) (mw (xG E) a b rm f g ++ mw (xG E) a2 b2 rm f2 g2) := by
  subst hv
  exact g_get C 0 fi_Mo rfl rfl (j := 1) (by decide) rfl w_166 (Or.inl rfl) hd hq kk
theorem mgB_19 (C : Cx E "PpmTrees$Model" cc) {v : Int32} (hd : decode cc pc = .ok (.getfield 19, 3)) (hq : pc + 3 = q) (hv : f2 1 = v) (kk : G E k n q lv (.int v :: st) (mw (xG E) a b rm f g ++ mw (xG E) a2 b2 rm f2 g2)) : G E k n pc lv (.ref a2 :: st) (mw (xG E) a b rm f g ++ mw (xG E) a2 b2 rm f2 g2) := by
  subst hv
  exact g_get C 7 fi_Mo rfl rfl (j := 1) (by decide) rfl w_166 (Or.inl rfl) hd hq kk
theorem mgA_40 (C : Cx E "PpmTrees$Model" cc) {v : Int32} (hd : decode cc pc = .ok (.getfield 40, 3)) (hq : pc + 3 = q) (hv : f 2 = v) (kk : G E k n q lv (.int v :: st) (mw (xG E) a b rm f g ++ mw (xG E) a2 b2 rm f2 g2)) : G E k n pc lv (.ref a :: st) (mw (xG E) a b rm f g ++ mw (xG E) a2 b2 rm f2 g2) := by
  subst hv
  exact g_get C 0 fi_Mo rfl rfl (j := 2) (by decide) rfl w_178 (Or.inl rfl) hd hq kk
theorem mpA_40 (C : Cx E "PpmTrees$Model" cc) {v : Int32} (hd : decode cc pc = .ok (.putfield 40, 3)) (hq : pc + 3 = q) (kk : G E k n q lv st (mw (xG E) a b rm (upd f 2 v) g ++ mw (xG E) a2 b2 rm f2 g2)) : G E k n pc lv (.int v :: .ref a :: st) (mw (xG E) a b rm f g ++ mw (xG E) a2 b2 rm f2 g2) :=
  g_put C 0 fi_Mo fty_Mo_ok fn_Mo rfl rfl (j := 2) (ty := .int) (by decide) (Nat.le_of_ble_eq_true rfl) w_178 (Or.inl rfl) rfl (by decide +kernel) rfl rfl hd hq kk
theorem mgB_40 (C : Cx E "PpmTrees$Model" cc) {v : Int32} (hd : decode cc pc = .ok (.getfield 40, 3)) (hq : pc + 3 = q) (hv : f2 2 = v) (kk : G E k n q lv (.int v :: st) (mw (xG E) a b rm f g ++ mw (xG E) a2 b2 rm f2 g2)) : G E k n pc lv (.ref a2 :: st) (mw (xG E) a b rm f g ++ mw (xG E) a2 b2 rm f2 g2) := by
  subst hv
  exact g_get C 7 fi_Mo rfl rfl (j := 2) (by decide) rfl w_178 (Or.inl rfl) hd hq kk
theorem mgA_43 (C : Cx E "PpmTrees$Model" cc) {v : Int32} (hd : decode cc pc = .ok (.getfield 43, 3)) (hq : pc + 3 = q) (hv : f 3 = v) (kk : G E k n q lv (.int v :: st) (mw (xG E) a b rm f g ++ mw (xG E) a2 b2 rm f2 g2)) : G E k n pc lv (.ref a :: st) (mw (xG E) a b rm f g ++ mw (xG E) a2 b2 rm f2 g2) := by
  subst hv
  exact g_get C 0 fi_Mo rfl rfl (j := 3) (by decide) rfl w_182 (Or.inl rfl) hd hq kk
theorem mpA_43 (C : Cx E "PpmTrees$Model" cc) {v : Int32} (hd : decode cc pc = .ok (.putfield 43, 3)) (hq : pc + 3 = q) (kk : G E k n q lv st (mw (xG E) a b rm (upd f 3 v) g ++ mw (xG E) a2 b2 rm f2 g2)) : G E k n pc lv (.int v :: .ref a :: st) (mw (xG E) a b rm f g ++ mw (xG E) a2 b2 rm f2 g2) :=
  g_put C 0 fi_Mo fty_Mo_ok fn_Mo rfl rfl (j := 3) (ty := .int) (by decide) (Nat.le_of_ble_eq_true rfl) w_182 (Or.inl rfl) rfl (by decide +kernel) rfl rfl hd hq kk
theorem mgB_43 (C : Cx E "PpmTrees$Model" cc) {v : Int32} (hd : decode cc pc = .ok (.getfield 43, 3)) (hq : pc + 3 = q) (hv : f2 3 = v) (kk : G E k n q lv (.int v :: st) (mw (xG E) a b rm f g ++ mw (xG E) a2 b2 rm f2 g2)) : G E k n pc lv (.ref a2 :: st) (mw (xG E) a b rm f g ++ mw (xG E) a2 b2 rm f2 g2) := by
  subst hv
  exact g_get C 7 fi_Mo rfl rfl (j := 3) (by decide) rfl w_182 (Or.inl rfl) hd hq kk
theorem mgA_22 (C : Cx E "PpmTrees$Model" cc) (hd : decode cc pc = .ok (.getfield 22, 3)) (hq : pc + 3 = q) (kk : G E k n q lv (.ref (b 0) :: st) (mw (xG E) a b rm f g ++ mw (xG E) a2 b2 rm f2 g2)) : G E k n pc lv (.ref a :: st) (mw (xG E) a b rm f g ++ mw (xG E) a2 b2 rm f2 g2) :=
  g_get C 0 fi_Mo rfl rfl (j := 4) (by decide) rfl w_168 (Or.inl rfl) hd hq kk
theorem mgB_22 (C : Cx E "PpmTrees$Model" cc) (hd : decode cc pc = .ok (.getfield 22, 3)) (hq : pc + 3 = q) (kk : G E k n q lv (.ref (b2 0) :: st) (mw (xG E) a b rm f g ++ mw (xG E) a2 b2 rm f2 g2)) : G E k n pc lv (.ref a2 :: st) (mw (xG E) a b rm f g ++ mw (xG E) a2 b2 rm f2 g2) :=
  g_get C 7 fi_Mo rfl rfl (j := 4) (by decide) rfl w_168 (Or.inl rfl) hd hq kk
theorem mgA_25 (C : Cx E "PpmTrees$Model" cc) (hd : decode cc pc = .ok (.getfield 25, 3)) (hq : pc + 3 = q) (kk : G E k n q lv (.ref (b 1) :: st) (mw (xG E) a b rm f g ++ mw (xG E) a2 b2 rm f2 g2)) : G E k n pc lv (.ref a :: st) (mw (xG E) a b rm f g ++ mw (xG E) a2 b2 rm f2 g2) :=
  g_get C 0 fi_Mo rfl rfl (j := 5) (by decide) rfl w_170 (Or.inl rfl) hd hq kk
theorem mgB_25 (C : Cx E "PpmTrees$Model" cc) (hd : decode cc pc = .ok (.getfield 25, 3)) (hq : pc + 3 = q) (kk : G E k n q lv (.ref (b2 1) :: st) (mw (xG E) a b rm f g ++ mw (xG E) a2 b2 rm f2 g2)) : G E k n pc lv (.ref a2 :: st) (mw (xG E) a b rm f g ++ mw (xG E) a2 b2 rm f2 g2) :=
  g_get C 7 fi_Mo rfl rfl (j := 5) (by decide) rfl w_170 (Or.inl rfl) hd hq kk
theorem mgA_28 (C : Cx E "PpmTrees$Model" cc) (hd : decode cc pc = .ok (.getfield 28, 3)) (hq : pc + 3 = q) (kk : G E k n q lv (.ref (b 2) :: st) (mw (xG E) a b rm f g ++ mw (xG E) a2 b2 rm f2 g2)) : G E k n pc lv (.ref a :: st) (mw (xG E) a b rm f g ++ mw (xG E) a2 b2 rm f2 g2) :=
  g_get C 0 fi_Mo rfl rfl (j := 6) (by decide) rfl w_172 (Or.inl rfl) hd hq kk
theorem mgB_28 (C : Cx E "PpmTrees$Model" cc) (hd : decode cc pc = .ok (.getfield 28, 3)) (hq : pc + 3 = q) (kk : G E k n q lv (.ref (b2 2) :: st) (mw (xG E) a b rm f g ++ mw (xG E) a2 b2 rm f2 g2)) : G E k n pc lv (.ref a2 :: st) (mw (xG E) a b rm f g ++ mw (xG E) a2 b2 rm f2 g2) :=
  g_get C 7 fi_Mo rfl rfl (j := 6) (by decide) rfl w_172 (Or.inl rfl) hd hq kk
theorem mgA_31 (C : Cx E "PpmTrees$Model" cc) (hd : decode cc pc = .ok (.getfield 31, 3)) (hq : pc + 3 = q) (kk : G E k n q lv (.ref (b 3) :: st) (mw (xG E) a b rm f g ++ mw (xG E) a2 b2 rm f2 g2)) : G E k n pc lv (.ref a :: st) (mw (xG E) a b rm f g ++ mw (xG E) a2 b2 rm f2 g2) :=
  g_get C 0 fi_Mo rfl rfl (j := 7) (by decide) rfl w_174 (Or.inl rfl) hd hq kk
theorem mgB_31 (C : Cx E "PpmTrees$Model" cc) (hd : decode cc pc = .ok (.getfield 31, 3)) (hq : pc + 3 = q) (kk : G E k n q lv (.ref (b2 3) :: st) (mw (xG E) a b rm f g ++ mw (xG E) a2 b2 rm f2 g2)) : G E k n pc lv (.ref a2 :: st) (mw (xG E) a b rm f g ++ mw (xG E) a2 b2 rm f2 g2) :=
  g_get C 7 fi_Mo rfl rfl (j := 7) (by decide) rfl w_174 (Or.inl rfl) hd hq kk
theorem mgA_34 (C : Cx E "PpmTrees$Model" cc) (hd : decode cc pc = .ok (.getfield 34, 3)) (hq : pc + 3 = q) (kk : G E k n q lv (.ref (b 4) :: st) (mw (xG E) a b rm f g ++ mw (xG E) a2 b2 rm f2 g2)) : G E k n pc lv (.ref a :: st) (mw (xG E) a b rm f g ++ mw (xG E) a2 b2 rm f2 g2) :=
  g_get C 0 fi_Mo rfl rfl (j := 8) (by decide) rfl w_176 (Or.inl rfl) hd hq kk
theorem mgB_34 (C : Cx E "PpmTrees$Model" cc) (hd : decode cc pc = .ok (.getfield 34, 3)) (hq : pc + 3 = q) (kk : G E k n q lv (.ref (b2 4) :: st) (mw (xG E) a b rm f g ++ mw (xG E) a2 b2 rm f2 g2)) : G E k n pc lv (.ref a2 :: st) (mw (xG E) a b rm f g ++ mw (xG E) a2 b2 rm f2 g2) :=
  g_get C 7 fi_Mo rfl rfl (j := 8) (by decide) rfl w_176 (Or.inl rfl) hd hq kk
theorem mgA_9 (C : Cx E "PpmTrees$Model" cc) (hd : decode cc pc = .ok (.getfield 9, 3)) (hq : pc + 3 = q) (kk : G E k n q lv (.ref (b 5) :: st) (mw (xG E) a b rm f g ++ mw (xG E) a2 b2 rm f2 g2)) : G E k n pc lv (.ref a :: st) (mw (xG E) a b rm f g ++ mw (xG E) a2 b2 rm f2 g2) :=
  g_get C 0 fi_Mo rfl rfl (j := 9) (by decide) rfl w_180 (Or.inl rfl) hd hq kk
theorem mgB_9 (C : Cx E "PpmTrees$Model" cc) (hd : decode cc pc = .ok (.getfield 9, 3)) (hq : pc + 3 = q) (kk : G E k n q lv (.ref (b2 5) :: st) (mw (xG E) a b rm f g ++ mw (xG E) a2 b2 rm f2 g2)) : G E k n pc lv (.ref a2 :: st) (mw (xG E) a b rm f g ++ mw (xG E) a2 b2 rm f2 g2) :=
  g_get C 7 fi_Mo rfl rfl (j := 9) (by decide) rfl w_180 (Or.inl rfl) hd hq kk
theorem mcp_0 (C : Cx E "PpmTrees$Model" cc) (hR : Rm E dE mcE msE) (hrm : rm ≤ 1500) {m : Int32} {m' : Nat} (hd : decode cc pc = .ok (.invokestatic 46, 3)) (hq : pc + 3 = q) (em : m = nI m') (hm : m' ≤ rm) (hdp : 1 ≤ dE) (hrest : (st.map fun v => v.category).sum ≤ 8) (kk : G E k n q lv st (mw (xG E) a b rm f (updA g 0 (va_cpy (g2 0) (g 0) 0 0 m')) ++ mw (xG E) a2 b2 rm f2 g2)) : G E k n pc lv (.int m :: .int (nI 0) :: .ref (b 0) :: .int (nI 0) :: .ref (b2 0) :: st) (mw (xG E) a b rm f g ++ mw (xG E) a2 b2 rm f2 g2) :=
  g_acopy C hR 8 1 w_471 rfl rfl hd hq rfl rfl em (by omega) (by omega) (by omega) (by omega) hdp hrest kk
theorem mcp_1 (C : Cx E "PpmTrees$Model" cc) (hR : Rm E dE mcE msE) (hrm : rm ≤ 1500) {m : Int32} {m' : Nat} (hd : decode cc pc = .ok (.invokestatic 46, 3)) (hq : pc + 3 = q) (em : m = nI m') (hm : m' ≤ rm) (hdp : 1 ≤ dE) (hrest : (st.map fun v => v.category).sum ≤ 8) (kk : G E k n q lv st (mw (xG E) a b rm f (updA g 1 (va_cpy (g2 1) (g 1) 0 0 m')) ++ mw (xG E) a2 b2 rm f2 g2)) : G E k n pc lv (.int m :: .int (nI 0) :: .ref (b 1) :: .int (nI 0) :: .ref (b2 1) :: st) (mw (xG E) a b rm f g ++ mw (xG E) a2 b2 rm f2 g2) :=
  g_acopy C hR 9 2 w_471 rfl rfl hd hq rfl rfl em (by omega) (by omega) (by omega) (by omega) hdp hrest kk
theorem mcp_2 (C : Cx E "PpmTrees$Model" cc) (hR : Rm E dE mcE msE) (hrm : rm ≤ 1500) {m : Int32} {m' : Nat} (hd : decode cc pc = .ok (.invokestatic 46, 3)) (hq : pc + 3 = q) (em : m = nI m') (hm : m' ≤ rm) (hdp : 1 ≤ dE) (hrest : (st.map fun v => v.category).sum ≤ 8) (kk : G E k n q lv st (mw (xG E) a b rm f (updA g 2 (va_cpy (g2 2) (g 2) 0 0 m')) ++ mw (xG E) a2 b2 rm f2 g2)) : G E k n pc lv (.int m :: .int (nI 0) :: .ref (b 2) :: .int (nI 0) :: .ref (b2 2) :: st) (mw (xG E) a b rm f g ++ mw (xG E) a2 b2 rm f2 g2) :=
  g_acopy C hR 10 3 w_471 rfl rfl hd hq rfl rfl em (by omega) (by omega) (by omega) (by omega) hdp hrest kk
theorem mcp_3 (C : Cx E "PpmTrees$Model" cc) (hR : Rm E dE mcE msE) (hrm : rm ≤ 1500) {m : Int32} {m' : Nat} (hd : decode cc pc = .ok (.invokestatic 46, 3)) (hq : pc + 3 = q) (em : m = nI m') (hm : m' ≤ rm) (hdp : 1 ≤ dE) (hrest : (st.map fun v => v.category).sum ≤ 8) (kk : G E k n q lv st (mw (xG E) a b rm f (updA g 3 (va_cpy (g2 3) (g 3) 0 0 m')) ++ mw (xG E) a2 b2 rm f2 g2)) : G E k n pc lv (.int m :: .int (nI 0) :: .ref (b 3) :: .int (nI 0) :: .ref (b2 3) :: st) (mw (xG E) a b rm f g ++ mw (xG E) a2 b2 rm f2 g2) :=
  g_acopy C hR 11 4 w_471 rfl rfl hd hq rfl rfl em (by omega) (by omega) (by omega) (by omega) hdp hrest kk
theorem mcp_4 (C : Cx E "PpmTrees$Model" cc) (hR : Rm E dE mcE msE) (hrm : rm ≤ 1500) {m : Int32} {m' : Nat} (hd : decode cc pc = .ok (.invokestatic 46, 3)) (hq : pc + 3 = q) (em : m = nI m') (hm : m' ≤ rm) (hdp : 1 ≤ dE) (hrest : (st.map fun v => v.category).sum ≤ 8) (kk : G E k n q lv st (mw (xG E) a b rm f (updA g 4 (va_cpy (g2 4) (g 4) 0 0 m')) ++ mw (xG E) a2 b2 rm f2 g2)) : G E k n pc lv (.int m :: .int (nI 0) :: .ref (b 4) :: .int (nI 0) :: .ref (b2 4) :: st) (mw (xG E) a b rm f g ++ mw (xG E) a2 b2 rm f2 g2) :=
  g_acopy C hR 12 5 w_471 rfl rfl hd hq rfl rfl em (by omega) (by omega) (by omega) (by omega) hdp hrest kk
theorem mcp_5 (C : Cx E "PpmTrees$Model" cc) (hR : Rm E dE mcE msE) (hrm : rm ≤ 1500) {m : Int32} {m' : Nat} (hd : decode cc pc = .ok (.invokestatic 46, 3)) (hq : pc + 3 = q) (em : m = nI m') (hm : m' ≤ 4) (hdp : 1 ≤ dE) (hrest : (st.map fun v => v.category).sum ≤ 8) (kk : G E k n q lv st (mw (xG E) a b rm f (updA g 5 (va_cpy (g2 5) (g 5) 0 0 m')) ++ mw (xG E) a2 b2 rm f2 g2)) : G E k n pc lv (.int m :: .int (nI 0) :: .ref (b 5) :: .int (nI 0) :: .ref (b2 5) :: st) (mw (xG E) a b rm f g ++ mw (xG E) a2 b2 rm f2 g2) :=
  g_acopy C hR 13 6 w_471 rfl rfl hd hq rfl rfl em (by omega) (by omega) (by omega) (by omega) hdp hrest kk
theorem mlk_0 (C : Cx E "PpmTrees$Model" cc) (hR : Rm E dE mcE msE) {m : Int32} {P : Int32 → Prop} (hM : Ct (xl E) (xG E) y_Mo_areLike b_Mo_areLike 4 (some .boolean) d 0 0 [.ref (b 0), .ref (b2 0), .int m] [(b 0, .inl ((xG E).2 0, rm, .inl (g 0))), (b2 0, .inl ((xG E).2 0, rm, .inl (g2 0)))] (fun r w => ∃ x, r = some (.int x) ∧ w = [(b 0, .inl ((xG E).2 0, rm, .inl (g 0))), (b2 0, .inl ((xG E).2 0, rm, .inl (g2 0)))] ∧ P x)) (hd : decode cc pc = .ok (.invokestatic 52, 3)) (hq : pc + 3 = q) (hdp : d + 1 ≤ dE) (hk : k ≤ mcE) (hn : n ≤ msE) (hrest : (rest.map fun v => v.category).sum ≤ 8) (kk : ∀ x, P x → G E k n q lv (.int x :: rest) (mw (xG E) a b rm f g ++ mw (xG E) a2 b2 rm f2 g2)) : G E k n pc lv (.int m :: .ref (b2 0) :: .ref (b 0) :: rest) (mw (xG E) a b rm f g ++ mw (xG E) a2 b2 rm f2 g2) := by
  refine g_sub (ws' := [(b 0, .inl ((xG E).2 0, rm, .inl (g 0))), (b2 0, .inl ((xG E).2 0, rm, .inl (g2 0)))] ++ [(a, .inr (2, mfs b f)), (b 1, .inl ((xG E).2 0, rm, .inl (g 1))), (b 2, .inl ((xG E).2 0, rm, .inl (g 2))), (b 3, .inl ((xG E).2 0, rm, .inl (g 3))), (b 4, .inl ((xG E).2 0, rm, .inl (g 4))), (b 5, .inl ((xG E).2 0, 4, .inl (g 5))), (a2, .inr (2, mfs b2 f2)), (b2 1, .inl ((xG E).2 0, rm, .inl (g2 1))), (b2 2, .inl ((xG E).2 0, rm, .inl (g2 2))), (b2 3, .inl ((xG E).2 0, rm, .inl (g2 3))), (b2 4, .inl ((xG E).2 0, rm, .inl (g2 4))), (b2 5, .inl ((xG E).2 0, 4, .inl (g2 5)))]) [1, 8, 0, 2, 3, 4, 5, 6, 7, 9, 10, 11, 12, 13] rfl rfl ?_
  refine g_callS (As := [.ref (b 0), .ref (b2 0), .int m]) C hR hM w_540 w_541 w_12 w_542 ⟨rfl, by decide, by decide, (by decide +kernel : (parseMethodDescriptor y_Mo_areLike.desc).map (fun d => d.parameters.length) = some 3)⟩ hd hq rfl (by decide) hdp (by omega) (by omega) hrest (fun v ws' hp => ?_)
  obtain ⟨x, rfl, rfl, hP⟩ := hp
  exact g_sub [2, 0, 3, 4, 5, 6, 7, 8, 1, 9, 10, 11, 12, 13] rfl rfl (kk x hP)
theorem mlk_1 (C : Cx E "PpmTrees$Model" cc) (hR : Rm E dE mcE msE) {m : Int32} {P : Int32 → Prop} (hM : Ct (xl E) (xG E) y_Mo_areLike b_Mo_areLike 4 (some .boolean) d 0 0 [.ref (b 1), .ref (b2 1), .int m] [(b 1, .inl ((xG E).2 0, rm, .inl (g 1))), (b2 1, .inl ((xG E).2 0, rm, .inl (g2 1)))] (fun r w => ∃ x, r = some (.int x) ∧ w = [(b 1, .inl ((xG E).2 0, rm, .inl (g 1))), (b2 1, .inl ((xG E).2 0, rm, .inl (g2 1)))] ∧ P x)) (hd : decode cc pc = .ok (.invokestatic 52, 3)) (hq : pc + 3 = q) (hdp : d + 1 ≤ dE) (hk : k ≤ mcE) (hn : n ≤ msE) (hrest : (rest.map fun v => v.category).sum ≤ 8) (kk : ∀ x, P x → G E k n q lv (.int x :: rest) (mw (xG E) a b rm f g ++ mw (xG E) a2 b2 rm f2 g2)) : G E k n pc lv (.int m :: .ref (b2 1) :: .ref (b 1) :: rest) (mw (xG E) a b rm f g ++ mw (xG E) a2 b2 rm f2 g2) := by
  refine g_sub (ws' := [(b 1, .inl ((xG E).2 0, rm, .inl (g 1))), (b2 1, .inl ((xG E).2 0, rm, .inl (g2 1)))] ++ [(a, .inr (2, mfs b f)), (b 0, .inl ((xG E).2 0, rm, .inl (g 0))), (b 2, .inl ((xG E).2 0, rm, .inl (g 2))), (b 3, .inl ((xG E).2 0, rm, .inl (g 3))), (b 4, .inl ((xG E).2 0, rm, .inl (g 4))), (b 5, .inl ((xG E).2 0, 4, .inl (g 5))), (a2, .inr (2, mfs b2 f2)), (b2 0, .inl ((xG E).2 0, rm, .inl (g2 0))), (b2 2, .inl ((xG E).2 0, rm, .inl (g2 2))), (b2 3, .inl ((xG E).2 0, rm, .inl (g2 3))), (b2 4, .inl ((xG E).2 0, rm, .inl (g2 4))), (b2 5, .inl ((xG E).2 0, 4, .inl (g2 5)))]) [2, 9, 0, 1, 3, 4, 5, 6, 7, 8, 10, 11, 12, 13] rfl rfl ?_
  refine g_callS (As := [.ref (b 1), .ref (b2 1), .int m]) C hR hM w_540 w_541 w_12 w_542 ⟨rfl, by decide, by decide, (by decide +kernel : (parseMethodDescriptor y_Mo_areLike.desc).map (fun d => d.parameters.length) = some 3)⟩ hd hq rfl (by decide) hdp (by omega) (by omega) hrest (fun v ws' hp => ?_)
  obtain ⟨x, rfl, rfl, hP⟩ := hp
  exact g_sub [2, 3, 0, 4, 5, 6, 7, 8, 9, 1, 10, 11, 12, 13] rfl rfl (kk x hP)
theorem mlk_2 (C : Cx E "PpmTrees$Model" cc) (hR : Rm E dE mcE msE) {m : Int32} {P : Int32 → Prop} (hM : Ct (xl E) (xG E) y_Mo_areLike b_Mo_areLike 4 (some .boolean) d 0 0 [.ref (b 2), .ref (b2 2), .int m] [(b 2, .inl ((xG E).2 0, rm, .inl (g 2))), (b2 2, .inl ((xG E).2 0, rm, .inl (g2 2)))] (fun r w => ∃ x, r = some (.int x) ∧ w = [(b 2, .inl ((xG E).2 0, rm, .inl (g 2))), (b2 2, .inl ((xG E).2 0, rm, .inl (g2 2)))] ∧ P x)) (hd : decode cc pc = .ok (.invokestatic 52, 3)) (hq : pc + 3 = q) (hdp : d + 1 ≤ dE) (hk : k ≤ mcE) (hn : n ≤ msE) (hrest : (rest.map fun v => v.category).sum ≤ 8) (kk : ∀ x, P x → G E k n q lv (.int x :: rest) (mw (xG E) a b rm f g ++ mw (xG E) a2 b2 rm f2 g2)) : G E k n pc lv (.int m :: .ref (b2 2) :: .ref (b 2) :: rest) (mw (xG E) a b rm f g ++ mw (xG E) a2 b2 rm f2 g2) := by
  refine g_sub (ws' := [(b 2, .inl ((xG E).2 0, rm, .inl (g 2))), (b2 2, .inl ((xG E).2 0, rm, .inl (g2 2)))] ++ [(a, .inr (2, mfs b f)), (b 0, .inl ((xG E).2 0, rm, .inl (g 0))), (b 1, .inl ((xG E).2 0, rm, .inl (g 1))), (b 3, .inl ((xG E).2 0, rm, .inl (g 3))), (b 4, .inl ((xG E).2 0, rm, .inl (g 4))), (b 5, .inl ((xG E).2 0, 4, .inl (g 5))), (a2, .inr (2, mfs b2 f2)), (b2 0, .inl ((xG E).2 0, rm, .inl (g2 0))), (b2 1, .inl ((xG E).2 0, rm, .inl (g2 1))), (b2 3, .inl ((xG E).2 0, rm, .inl (g2 3))), (b2 4, .inl ((xG E).2 0, rm, .inl (g2 4))), (b2 5, .inl ((xG E).2 0, 4, .inl (g2 5)))]) [3, 10, 0, 1, 2, 4, 5, 6, 7, 8, 9, 11, 12, 13] rfl rfl ?_
  refine g_callS (As := [.ref (b 2), .ref (b2 2), .int m]) C hR hM w_540 w_541 w_12 w_542 ⟨rfl, by decide, by decide, (by decide +kernel : (parseMethodDescriptor y_Mo_areLike.desc).map (fun d => d.parameters.length) = some 3)⟩ hd hq rfl (by decide) hdp (by omega) (by omega) hrest (fun v ws' hp => ?_)
  obtain ⟨x, rfl, rfl, hP⟩ := hp
  exact g_sub [2, 3, 4, 0, 5, 6, 7, 8, 9, 10, 1, 11, 12, 13] rfl rfl (kk x hP)
theorem mlk_5 (C : Cx E "PpmTrees$Model" cc) (hR : Rm E dE mcE msE) {m : Int32} {P : Int32 → Prop} (hM : Ct (xl E) (xG E) y_Mo_areLike b_Mo_areLike 4 (some .boolean) d 0 0 [.ref (b 5), .ref (b2 5), .int m] [(b 5, .inl ((xG E).2 0, 4, .inl (g 5))), (b2 5, .inl ((xG E).2 0, 4, .inl (g2 5)))] (fun r w => ∃ x, r = some (.int x) ∧ w = [(b 5, .inl ((xG E).2 0, 4, .inl (g 5))), (b2 5, .inl ((xG E).2 0, 4, .inl (g2 5)))] ∧ P x)) (hd : decode cc pc = .ok (.invokestatic 52, 3)) (hq : pc + 3 = q) (hdp : d + 1 ≤ dE) (hk : k ≤ mcE) (hn : n ≤ msE) (hrest : (rest.map fun v => v.category).sum ≤ 8) (kk : ∀ x, P x → G E k n q lv (.int x :: rest) (mw (xG E) a b rm f g ++ mw (xG E) a2 b2 rm f2 g2)) : G E k n pc lv (.int m :: .ref (b2 5) :: .ref (b 5) :: rest) (mw (xG E) a b rm f g ++ mw (xG E) a2 b2 rm f2 g2) := by
  refine g_sub (ws' := [(b 5, .inl ((xG E).2 0, 4, .inl (g 5))), (b2 5, .inl ((xG E).2 0, 4, .inl (g2 5)))] ++ [(a, .inr (2, mfs b f)), (b 0, .inl ((xG E).2 0, rm, .inl (g 0))), (b 1, .inl ((xG E).2 0, rm, .inl (g 1))), (b 2, .inl ((xG E).2 0, rm, .inl (g 2))), (b 3, .inl ((xG E).2 0, rm, .inl (g 3))), (b 4, .inl ((xG E).2 0, rm, .inl (g 4))), (a2, .inr (2, mfs b2 f2)), (b2 0, .inl ((xG E).2 0, rm, .inl (g2 0))), (b2 1, .inl ((xG E).2 0, rm, .inl (g2 1))), (b2 2, .inl ((xG E).2 0, rm, .inl (g2 2))), (b2 3, .inl ((xG E).2 0, rm, .inl (g2 3))), (b2 4, .inl ((xG E).2 0, rm, .inl (g2 4)))]) [6, 13, 0, 1, 2, 3, 4, 5, 7, 8, 9, 10, 11, 12] rfl rfl ?_
  refine g_callS (As := [.ref (b 5), .ref (b2 5), .int m]) C hR hM w_540 w_541 w_12 w_542 ⟨rfl, by decide, by decide, (by decide +kernel : (parseMethodDescriptor y_Mo_areLike.desc).map (fun d => d.parameters.length) = some 3)⟩ hd hq rfl (by decide) hdp (by omega) (by omega) hrest (fun v ws' hp => ?_)
  obtain ⟨x, rfl, rfl, hP⟩ := hp
  exact g_sub [2, 3, 4, 5, 6, 7, 0, 8, 9, 10, 11, 12, 13, 1] rfl rfl (kk x hP)
end
