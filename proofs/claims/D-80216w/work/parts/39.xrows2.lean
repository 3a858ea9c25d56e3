def sw (a : Nat) (v : Int32) : va_W := [(a, .inr (5, [.int v]))]
def p1w (a x : Nat) : va_W := [(a, .inr (6, [.ref x]))]
def p2w (a x : Nat) : va_W := [(a, .inr (7, [.ref x]))]
section
variable {E : Ev} {cc : ByteArray} {k n pc q a c x rm d dE mcE msE : Nat} {lv : LV} {st rest : List Value} {A b : Nat → Nat} {f fm : Nat → Int32} {g gm : Nat → Nat → Int32} {fw gw : Nat → Int32} {s0 : Int32} {wr : va_W}
theorem xg_22 (C : Cx E "PpmTrees" cc) {v : Int32} (hd : decode cc pc = .ok (.getfield 22, 3)) (hq : pc + 3 = q) (hv : f 0 = v) (kk : G E k n q lv (.int v :: st) (xw (xG E) x A f g ++ wr)) : G E k n pc lv (.ref x :: st) (xw (xG E) x A f g ++ wr) := by
  subst hv
  exact g_get C 0 fi_X rfl rfl (j := 0) (by decide) rfl w_206 (Or.inl rfl) hd hq kk
theorem xp_22 (C : Cx E "PpmTrees" cc) {v : Int32} (hd : decode cc pc = .ok (.putfield 22, 3)) (hq : pc + 3 = q) (kk : G E k n q lv st (xw (xG E) x A (upd f 0 v) g ++ wr)) : G E k n pc lv (.int v :: .ref x :: st) (xw (xG E) x A f g ++ wr) :=
  g_put C 0 fi_X fty_X_ok fn_X rfl rfl (j := 0) (ty := .int) (by decide) (Nat.le_of_ble_eq_true rfl) w_206 (Or.inl rfl) rfl (by decide +kernel) rfl rfl hd hq kk
theorem xg_60 (C : Cx E "PpmTrees" cc) {v : Int32} (hd : decode cc pc = .ok (.getfield 60, 3)) (hq : pc + 3 = q) (hv : f 1 = v) (kk : G E k n q lv (.int v :: st) (xw (xG E) x A f g ++ wr)) : G E k n pc lv (.ref x :: st) (xw (xG E) x A f g ++ wr) := by
  subst hv
  exact g_get C 0 fi_X rfl rfl (j := 1) (by decide) rfl w_207 (Or.inl rfl) hd hq kk
theorem xp_60 (C : Cx E "PpmTrees" cc) {v : Int32} (hd : decode cc pc = .ok (.putfield 60, 3)) (hq : pc + 3 = q) (kk : G E k n q lv st (xw (xG E) x A (upd f 1 v) g ++ wr)) : G E k n pc lv (.int v :: .ref x :: st) (xw (xG E) x A f g ++ wr) :=
  g_put C 0 fi_X fty_X_ok fn_X rfl rfl (j := 1) (ty := .int) (by decide) (Nat.le_of_ble_eq_true rfl) w_207 (Or.inl rfl) rfl (by decide +kernel) rfl rfl hd hq kk
theorem xg_57 (C : Cx E "PpmTrees" cc) {v : Int32} (hd : decode cc pc = .ok (.getfield 57, 3)) (hq : pc + 3 = q) (hv : f 2 = v) (kk : G E k n q lv (.int v :: st) (xw (xG E) x A f g ++ wr)) : G E k n pc lv (.ref x :: st) (xw (xG E) x A f g ++ wr) := by
  subst hv
  exact g_get C 0 fi_X rfl rfl (j := 2) (by decide) rfl w_208 (Or.inl rfl) hd hq kk
theorem xp_57 (C : Cx E "PpmTrees" cc) {v : Int32} (hd : decode cc pc = .ok (.putfield 57, 3)) (hq : pc + 3 = q) (kk : G E k n q lv st (xw (xG E) x A (upd f 2 v) g ++ wr)) : G E k n pc lv (.int v :: .ref x :: st) (xw (xG E) x A f g ++ wr) :=
  g_put C 0 fi_X fty_X_ok fn_X rfl rfl (j := 2) (ty := .int) (by decide) (Nat.le_of_ble_eq_true rfl) w_208 (Or.inl rfl) rfl (by decide +kernel) rfl rfl hd hq kk
theorem xg_160 (C : Cx E "PpmTrees" cc) {v : Int32} (hd : decode cc pc = .ok (.getfield 160, 3)) (hq : pc + 3 = q) (hv : f 3 = v) (kk : G E k n q lv (.int v :: st) (xw (xG E) x A f g ++ wr)) : G E k n pc lv (.ref x :: st) (xw (xG E) x A f g ++ wr) := by
  subst hv
  exact g_get C 0 fi_X rfl rfl (j := 3) (by decide) rfl w_214 (Or.inl rfl) hd hq kk
theorem xp_160 (C : Cx E "PpmTrees" cc) {v : Int32} (hd : decode cc pc = .ok (.putfield 160, 3)) (hq : pc + 3 = q) (kk : G E k n q lv st (xw (xG E) x A (upd f 3 v) g ++ wr)) : G E k n pc lv (.int v :: .ref x :: st) (xw (xG E) x A f g ++ wr) :=
  g_put C 0 fi_X fty_X_ok fn_X rfl rfl (j := 3) (ty := .int) (by decide) (Nat.le_of_ble_eq_true rfl) w_214 (Or.inl rfl) rfl (by decide +kernel) rfl rfl hd hq kk
theorem xg_172 (C : Cx E "PpmTrees" cc) {v : Int32} (hd : decode cc pc = .ok (.getfield 172, 3)) (hq : pc + 3 = q) (hv : f 4 = v) (kk : G E k n q lv (.int v :: st) (xw (xG E) x A f g ++ wr)) : G E k n pc lv (.ref x :: st) (xw (xG E) x A f g ++ wr) := by
  subst hv
  exact g_get C 0 fi_X rfl rfl (j := 4) (by decide) rfl w_218 (Or.inl rfl) hd hq kk
theorem xp_172 (C : Cx E "PpmTrees" cc) {v : Int32} (hd : decode cc pc = .ok (.putfield 172, 3)) (hq : pc + 3 = q) (kk : G E k n q lv st (xw (xG E) x A (upd f 4 v) g ++ wr)) : G E k n pc lv (.int v :: .ref x :: st) (xw (xG E) x A f g ++ wr) :=
  g_put C 0 fi_X fty_X_ok fn_X rfl rfl (j := 4) (ty := .int) (by decide) (Nat.le_of_ble_eq_true rfl) w_218 (Or.inl rfl) rfl (by decide +kernel) rfl rfl hd hq kk
theorem xg_175 (C : Cx E "PpmTrees" cc) {v : Int32} (hd : decode cc pc = .ok (.getfield 175, 3)) (hq : pc + 3 = q) (hv : f 5 = v) (kk : G E k n q lv (.int v :: st) (xw (xG E) x A f g ++ wr)) : G E k n pc lv (.ref x :: st) (xw (xG E) x A f g ++ wr) := by
  subst hv
  exact g_get C 0 fi_X rfl rfl (j := 5) (by decide) rfl w_220 (Or.inl rfl) hd hq kk
theorem xp_175 (C : Cx E "PpmTrees" cc) {v : Int32} (hd : decode cc pc = .ok (.putfield 175, 3)) (hq : pc + 3 = q) (kk : G E k n q lv st (xw (xG E) x A (upd f 5 v) g ++ wr)) : G E k n pc lv (.int v :: .ref x :: st) (xw (xG E) x A f g ++ wr) :=
  g_put C 0 fi_X fty_X_ok fn_X rfl rfl (j := 5) (ty := .int) (by decide) (Nat.le_of_ble_eq_true rfl) w_220 (Or.inl rfl) rfl (by decide +kernel) rfl rfl hd hq kk
theorem xg_120 (C : Cx E "PpmTrees" cc) {v : Int32} (hd : decode cc pc = .ok (.getfield 120, 3)) (hq : pc + 3 = q) (hv : f 6 = v) (kk : G E k n q lv (.int v :: st) (xw (xG E) x A f g ++ wr)) : G E k n pc lv (.ref x :: st) (xw (xG E) x A f g ++ wr) := by
  subst hv
  exact g_get C 0 fi_X rfl rfl (j := 6) (by decide) rfl w_228 (Or.inl rfl) hd hq kk
theorem xp_120 (C : Cx E "PpmTrees" cc) {v : Int32} (hd : decode cc pc = .ok (.putfield 120, 3)) (hq : pc + 3 = q) (kk : G E k n q lv st (xw (xG E) x A (upd f 6 v) g ++ wr)) : G E k n pc lv (.int v :: .ref x :: st) (xw (xG E) x A f g ++ wr) :=
  g_put C 0 fi_X fty_X_ok fn_X rfl rfl (j := 6) (ty := .int) (by decide) (Nat.le_of_ble_eq_true rfl) w_228 (Or.inl rfl) rfl (by decide +kernel) rfl rfl hd hq kk
theorem xg_206 (C : Cx E "PpmTrees" cc) {v : Int32} (hd : decode cc pc = .ok (.getfield 206, 3)) (hq : pc + 3 = q) (hv : f 7 = v) (kk : G E k n q lv (.int v :: st) (xw (xG E) x A f g ++ wr)) : G E k n pc lv (.ref x :: st) (xw (xG E) x A f g ++ wr) := by
  subst hv
  exact g_get C 0 fi_X rfl rfl (j := 7) (by decide) rfl w_229 (Or.inl rfl) hd hq kk
theorem xp_206 (C : Cx E "PpmTrees" cc) (hd : decode cc pc = .ok (.putfield 206, 3)) (hq : pc + 3 = q) (kk : G E k n q lv st (xw (xG E) x A (upd f 7 (nI 1)) g ++ wr)) : G E k n pc lv (.int (nI 1) :: .ref x :: st) (xw (xG E) x A f g ++ wr) :=
  g_put C 0 fi_X fty_X_ok fn_X rfl rfl (j := 7) (ty := .boolean) (by decide) (Nat.le_of_ble_eq_true rfl) w_229 (Or.inl rfl) rfl (by decide +kernel) rfl rfl hd hq kk
theorem xg_213 (C : Cx E "PpmTrees" cc) {v : Int32} (hd : decode cc pc = .ok (.getfield 213, 3)) (hq : pc + 3 = q) (hv : f 8 = v) (kk : G E k n q lv (.int v :: st) (xw (xG E) x A f g ++ wr)) : G E k n pc lv (.ref x :: st) (xw (xG E) x A f g ++ wr) := by
  subst hv
  exact g_get C 0 fi_X rfl rfl (j := 8) (by decide) rfl w_230 (Or.inl rfl) hd hq kk
theorem xp_213 (C : Cx E "PpmTrees" cc) {v : Int32} (hd : decode cc pc = .ok (.putfield 213, 3)) (hq : pc + 3 = q) (kk : G E k n q lv st (xw (xG E) x A (upd f 8 v) g ++ wr)) : G E k n pc lv (.int v :: .ref x :: st) (xw (xG E) x A f g ++ wr) :=
  g_put C 0 fi_X fty_X_ok fn_X rfl rfl (j := 8) (ty := .int) (by decide) (Nat.le_of_ble_eq_true rfl) w_230 (Or.inl rfl) rfl (by decide +kernel) rfl rfl hd hq kk
theorem xg_216 (C : Cx E "PpmTrees" cc) {v : Int32} (hd : decode cc pc = .ok (.getfield 216, 3)) (hq : pc + 3 = q) (hv : f 9 = v) (kk : G E k n q lv (.int v :: st) (xw (xG E) x A f g ++ wr)) : G E k n pc lv (.ref x :: st) (xw (xG E) x A f g ++ wr) := by
  subst hv
  exact g_get C 0 fi_X rfl rfl (j := 9) (by decide) rfl w_231 (Or.inl rfl) hd hq kk
theorem xp_216 (C : Cx E "PpmTrees" cc) {v : Int32} (hd : decode cc pc = .ok (.putfield 216, 3)) (hq : pc + 3 = q) (kk : G E k n q lv st (xw (xG E) x A (upd f 9 v) g ++ wr)) : G E k n pc lv (.int v :: .ref x :: st) (xw (xG E) x A f g ++ wr) :=
  g_put C 0 fi_X fty_X_ok fn_X rfl rfl (j := 9) (ty := .int) (by decide) (Nat.le_of_ble_eq_true rfl) w_231 (Or.inl rfl) rfl (by decide +kernel) rfl rfl hd hq kk
theorem xg_188 (C : Cx E "PpmTrees" cc) {v : Int32} (hd : decode cc pc = .ok (.getfield 188, 3)) (hq : pc + 3 = q) (hv : f 10 = v) (kk : G E k n q lv (.int v :: st) (xw (xG E) x A f g ++ wr)) : G E k n pc lv (.ref x :: st) (xw (xG E) x A f g ++ wr) := by
  subst hv
  exact g_get C 0 fi_X rfl rfl (j := 10) (by decide) rfl w_232 (Or.inl rfl) hd hq kk
theorem xp_188 (C : Cx E "PpmTrees" cc) {v : Int32} (hd : decode cc pc = .ok (.putfield 188, 3)) (hq : pc + 3 = q) (kk : G E k n q lv st (xw (xG E) x A (upd f 10 v) g ++ wr)) : G E k n pc lv (.int v :: .ref x :: st) (xw (xG E) x A f g ++ wr) :=
  g_put C 0 fi_X fty_X_ok fn_X rfl rfl (j := 10) (ty := .int) (by decide) (Nat.le_of_ble_eq_true rfl) w_232 (Or.inl rfl) rfl (by decide +kernel) rfl rfl hd hq kk
theorem xg_219 (C : Cx E "PpmTrees" cc) {v : Int32} (hd : decode cc pc = .ok (.getfield 219, 3)) (hq : pc + 3 = q) (hv : f 11 = v) (kk : G E k n q lv (.int v :: st) (xw (xG E) x A f g ++ wr)) : G E k n pc lv (.ref x :: st) (xw (xG E) x A f g ++ wr) := by
  subst hv
  exact g_get C 0 fi_X rfl rfl (j := 11) (by decide) rfl w_233 (Or.inl rfl) hd hq kk
theorem xp_219 (C : Cx E "PpmTrees" cc) {v : Int32} (hd : decode cc pc = .ok (.putfield 219, 3)) (hq : pc + 3 = q) (kk : G E k n q lv st (xw (xG E) x A (upd f 11 v) g ++ wr)) : G E k n pc lv (.int v :: .ref x :: st) (xw (xG E) x A f g ++ wr) :=
  g_put C 0 fi_X fty_X_ok fn_X rfl rfl (j := 11) (ty := .int) (by decide) (Nat.le_of_ble_eq_true rfl) w_233 (Or.inl rfl) rfl (by decide +kernel) rfl rfl hd hq kk
theorem xg_10 (C : Cx E "PpmTrees" cc) (hd : decode cc pc = .ok (.getfield 10, 3)) (hq : pc + 3 = q) (kk : G E k n q lv (.ref (A 0) :: st) (xw (xG E) x A f g ++ wr)) : G E k n pc lv (.ref x :: st) (xw (xG E) x A f g ++ wr) :=
  g_get C 0 fi_X rfl rfl (j := 12) (by decide) rfl w_205 (Or.inl rfl) hd hq kk
theorem xg_73 (C : Cx E "PpmTrees" cc) (hd : decode cc pc = .ok (.getfield 73, 3)) (hq : pc + 3 = q) (kk : G E k n q lv (.ref (A 1) :: st) (xw (xG E) x A f g ++ wr)) : G E k n pc lv (.ref x :: st) (xw (xG E) x A f g ++ wr) :=
  g_get C 0 fi_X rfl rfl (j := 13) (by decide) rfl w_209 (Or.inl rfl) hd hq kk
theorem xg_77 (C : Cx E "PpmTrees" cc) (hd : decode cc pc = .ok (.getfield 77, 3)) (hq : pc + 3 = q) (kk : G E k n q lv (.ref (A 2) :: st) (xw (xG E) x A f g ++ wr)) : G E k n pc lv (.ref x :: st) (xw (xG E) x A f g ++ wr) :=
  g_get C 0 fi_X rfl rfl (j := 14) (by decide) rfl w_210 (Or.inl rfl) hd hq kk
theorem xg_87 (C : Cx E "PpmTrees" cc) (hd : decode cc pc = .ok (.getfield 87, 3)) (hq : pc + 3 = q) (kk : G E k n q lv (.ref (A 3) :: st) (xw (xG E) x A f g ++ wr)) : G E k n pc lv (.ref x :: st) (xw (xG E) x A f g ++ wr) :=
  g_get C 0 fi_X rfl rfl (j := 15) (by decide) rfl w_213 (Or.inl rfl) hd hq kk
theorem xg_90 (C : Cx E "PpmTrees" cc) (hd : decode cc pc = .ok (.getfield 90, 3)) (hq : pc + 3 = q) (kk : G E k n q lv (.ref (A 4) :: st) (xw (xG E) x A f g ++ wr)) : G E k n pc lv (.ref x :: st) (xw (xG E) x A f g ++ wr) :=
  g_get C 0 fi_X rfl rfl (j := 16) (by decide) rfl w_216 (Or.inl rfl) hd hq kk
theorem xg_93 (C : Cx E "PpmTrees" cc) (hd : decode cc pc = .ok (.getfield 93, 3)) (hq : pc + 3 = q) (kk : G E k n q lv (.ref (A 5) :: st) (xw (xG E) x A f g ++ wr)) : G E k n pc lv (.ref x :: st) (xw (xG E) x A f g ++ wr) :=
  g_get C 0 fi_X rfl rfl (j := 17) (by decide) rfl w_219 (Or.inl rfl) hd hq kk
theorem xg_96 (C : Cx E "PpmTrees" cc) (hd : decode cc pc = .ok (.getfield 96, 3)) (hq : pc + 3 = q) (kk : G E k n q lv (.ref (A 6) :: st) (xw (xG E) x A f g ++ wr)) : G E k n pc lv (.ref x :: st) (xw (xG E) x A f g ++ wr) :=
  g_get C 0 fi_X rfl rfl (j := 18) (by decide) rfl w_221 (Or.inl rfl) hd hq kk
theorem xg_123 (C : Cx E "PpmTrees" cc) (hd : decode cc pc = .ok (.getfield 123, 3)) (hq : pc + 3 = q) (kk : G E k n q lv (.ref (A 7) :: st) (xw (xG E) x A f g ++ wr)) : G E k n pc lv (.ref x :: st) (xw (xG E) x A f g ++ wr) :=
  g_get C 0 fi_X rfl rfl (j := 19) (by decide) rfl w_234 (Or.inl rfl) hd hq kk
theorem xg_126 (C : Cx E "PpmTrees" cc) (hd : decode cc pc = .ok (.getfield 126, 3)) (hq : pc + 3 = q) (kk : G E k n q lv (.ref (A 8) :: st) (xw (xG E) x A f g ++ wr)) : G E k n pc lv (.ref x :: st) (xw (xG E) x A f g ++ wr) :=
  g_get C 0 fi_X rfl rfl (j := 20) (by decide) rfl w_235 (Or.inl rfl) hd hq kk
theorem xg_83 (C : Cx E "PpmTrees" cc) (hd : decode cc pc = .ok (.getfield 83, 3)) (hq : pc + 3 = q) (kk : G E k n q lv (.ref (A 9) :: st) (xw (xG E) x A f g ++ wr)) : G E k n pc lv (.ref x :: st) (xw (xG E) x A f g ++ wr) :=
  g_get C 0 fi_X rfl rfl (j := 21) (by decide) rfl w_211 (Or.inl rfl) hd hq kk
theorem xg_156 (C : Cx E "PpmTrees" cc) (hd : decode cc pc = .ok (.getfield 156, 3)) (hq : pc + 3 = q) (kk : G E k n q lv (.ref (A 10) :: st) (xw (xG E) x A f g ++ wr)) : G E k n pc lv (.ref x :: st) (xw (xG E) x A f g ++ wr) :=
  g_get C 0 fi_X rfl rfl (j := 22) (by decide) rfl w_212 (Or.inl rfl) hd hq kk
theorem xg_104 (C : Cx E "PpmTrees" cc) (hd : decode cc pc = .ok (.getfield 104, 3)) (hq : pc + 3 = q) (kk : G E k n q lv (.ref (A 11) :: st) (xw (xG E) x A f g ++ wr)) : G E k n pc lv (.ref x :: st) (xw (xG E) x A f g ++ wr) :=
  g_get C 0 fi_X rfl rfl (j := 23) (by decide) rfl w_223 (Or.inl rfl) hd hq kk
theorem xg_108 (C : Cx E "PpmTrees" cc) (hd : decode cc pc = .ok (.getfield 108, 3)) (hq : pc + 3 = q) (kk : G E k n q lv (.ref (A 12) :: st) (xw (xG E) x A f g ++ wr)) : G E k n pc lv (.ref x :: st) (xw (xG E) x A f g ++ wr) :=
  g_get C 0 fi_X rfl rfl (j := 24) (by decide) rfl w_225 (Or.inl rfl) hd hq kk
theorem xg_116 (C : Cx E "PpmTrees" cc) (hd : decode cc pc = .ok (.getfield 116, 3)) (hq : pc + 3 = q) (kk : G E k n q lv (.ref (A 13) :: st) (xw (xG E) x A f g ++ wr)) : G E k n pc lv (.ref x :: st) (xw (xG E) x A f g ++ wr) :=
  g_get C 0 fi_X rfl rfl (j := 25) (by decide) rfl w_227 (Or.inl rfl) hd hq kk
theorem xg_132 (C : Cx E "PpmTrees" cc) (hd : decode cc pc = .ok (.getfield 132, 3)) (hq : pc + 3 = q) (kk : G E k n q lv (.ref (A 14) :: st) (xw (xG E) x A f g ++ wr)) : G E k n pc lv (.ref x :: st) (xw (xG E) x A f g ++ wr) :=
  g_get C 0 fi_X rfl rfl (j := 26) (by decide) rfl w_236 (Or.inl rfl) hd hq kk
theorem xg_139 (C : Cx E "PpmTrees" cc) (hd : decode cc pc = .ok (.getfield 139, 3)) (hq : pc + 3 = q) (kk : G E k n q lv (.ref (A 15) :: st) (xw (xG E) x A f g ++ wr)) : G E k n pc lv (.ref x :: st) (xw (xG E) x A f g ++ wr) :=
  g_get C 0 fi_X rfl rfl (j := 27) (by decide) rfl w_237 (Or.inl rfl) hd hq kk
theorem xg_145 (C : Cx E "PpmTrees" cc) (hd : decode cc pc = .ok (.getfield 145, 3)) (hq : pc + 3 = q) (kk : G E k n q lv (.ref (A 16) :: st) (xw (xG E) x A f g ++ wr)) : G E k n pc lv (.ref x :: st) (xw (xG E) x A f g ++ wr) :=
  g_get C 0 fi_X rfl rfl (j := 28) (by decide) rfl w_238 (Or.inl rfl) hd hq kk
theorem xa_0 (C : Cx E "PpmTrees" cc) {i v : Int32} {t : Nat} (hd : decode cc pc = .ok (.baload, 1)) (hq : pc + 1 = q) (hi : i = nI t) (hlt : t < 257) (hv : g 0 t = v) (kk : G E k n q lv (.int v :: st) (xw (xG E) x A f g ++ wr)) : G E k n pc lv (.int i :: .ref (A 0) :: st) (xw (xG E) x A f g ++ wr) := by
  subst hv; subst hi
  exact g_zald C 1 rfl (vp_in_nI hlt (by decide)) hd hq (by rw [nI_clamp (by omega)]; exact kk)
theorem xs_0 (C : Cx E "PpmTrees" cc) {i x1 : Int32} {t : Nat} (hd : decode cc pc = .ok (.bastore, 1)) (hq : pc + 1 = q) (hi : i = nI t) (hlt : t < 257) (kk : G E k n q lv st (xw (xG E) x A f (updA g 0 (upd (g 0) t (vp_nar .boolean x1))) ++ wr)) : G E k n pc lv (.int x1 :: .int i :: .ref (A 0) :: st) (xw (xG E) x A f g ++ wr) := by
  subst hi
  refine g_zast C 1 rfl (vp_in_nI hlt (by decide)) hd hq ?_
  rw [nI_clamp (by omega)]
  exact kk
theorem xa_2 (C : Cx E "PpmTrees" cc) {i v : Int32} {t : Nat} (hd : decode cc pc = .ok (.iaload, 1)) (hq : pc + 1 = q) (hi : i = nI t) (hlt : t < 2) (hv : g 2 t = v) (kk : G E k n q lv (.int v :: st) (xw (xG E) x A f g ++ wr)) : G E k n pc lv (.int i :: .ref (A 2) :: st) (xw (xG E) x A f g ++ wr) := by
  subst hv; subst hi
  exact g_iald C 3 rfl (vp_in_nI hlt (by decide)) hd hq (by rw [nI_clamp (by omega)]; exact kk)
theorem xs_2 (C : Cx E "PpmTrees" cc) {i x1 : Int32} {t : Nat} (hd : decode cc pc = .ok (.iastore, 1)) (hq : pc + 1 = q) (hi : i = nI t) (hlt : t < 2) (kk : G E k n q lv st (xw (xG E) x A f (updA g 2 (upd (g 2) t x1)) ++ wr)) : G E k n pc lv (.int x1 :: .int i :: .ref (A 2) :: st) (xw (xG E) x A f g ++ wr) := by
  subst hi
  refine g_iast C 3 rfl (vp_in_nI hlt (by decide)) hd hq ?_
  rw [nI_clamp (by omega)]
  exact kk
theorem xa_3 (C : Cx E "PpmTrees" cc) {i v : Int32} {t : Nat} (hd : decode cc pc = .ok (.iaload, 1)) (hq : pc + 1 = q) (hi : i = nI t) (hlt : t < 300) (hv : g 3 t = v) (kk : G E k n q lv (.int v :: st) (xw (xG E) x A f g ++ wr)) : G E k n pc lv (.int i :: .ref (A 3) :: st) (xw (xG E) x A f g ++ wr) := by
  subst hv; subst hi
  exact g_iald C 4 rfl (vp_in_nI hlt (by decide)) hd hq (by rw [nI_clamp (by omega)]; exact kk)
theorem xs_3 (C : Cx E "PpmTrees" cc) {i x1 : Int32} {t : Nat} (hd : decode cc pc = .ok (.iastore, 1)) (hq : pc + 1 = q) (hi : i = nI t) (hlt : t < 300) (kk : G E k n q lv st (xw (xG E) x A f (updA g 3 (upd (g 3) t x1)) ++ wr)) : G E k n pc lv (.int x1 :: .int i :: .ref (A 3) :: st) (xw (xG E) x A f g ++ wr) := by
  subst hi
  refine g_iast C 4 rfl (vp_in_nI hlt (by decide)) hd hq ?_
  rw [nI_clamp (by omega)]
  exact kk
theorem xa_4 (C : Cx E "PpmTrees" cc) {i v : Int32} {t : Nat} (hd : decode cc pc = .ok (.iaload, 1)) (hq : pc + 1 = q) (hi : i = nI t) (hlt : t < 4096) (hv : g 4 t = v) (kk : G E k n q lv (.int v :: st) (xw (xG E) x A f g ++ wr)) : G E k n pc lv (.int i :: .ref (A 4) :: st) (xw (xG E) x A f g ++ wr) := by
  subst hv; subst hi
  exact g_iald C 5 rfl (vp_in_nI hlt (by decide)) hd hq (by rw [nI_clamp (by omega)]; exact kk)
theorem xs_4 (C : Cx E "PpmTrees" cc) {i x1 : Int32} {t : Nat} (hd : decode cc pc = .ok (.iastore, 1)) (hq : pc + 1 = q) (hi : i = nI t) (hlt : t < 4096) (kk : G E k n q lv st (xw (xG E) x A f (updA g 4 (upd (g 4) t x1)) ++ wr)) : G E k n pc lv (.int x1 :: .int i :: .ref (A 4) :: st) (xw (xG E) x A f g ++ wr) := by
  subst hi
  refine g_iast C 5 rfl (vp_in_nI hlt (by decide)) hd hq ?_
  rw [nI_clamp (by omega)]
  exact kk
theorem xa_5 (C : Cx E "PpmTrees" cc) {i v : Int32} {t : Nat} (hd : decode cc pc = .ok (.iaload, 1)) (hq : pc + 1 = q) (hi : i = nI t) (hlt : t < 300) (hv : g 5 t = v) (kk : G E k n q lv (.int v :: st) (xw (xG E) x A f g ++ wr)) : G E k n pc lv (.int i :: .ref (A 5) :: st) (xw (xG E) x A f g ++ wr) := by
  subst hv; subst hi
  exact g_iald C 6 rfl (vp_in_nI hlt (by decide)) hd hq (by rw [nI_clamp (by omega)]; exact kk)
theorem xs_5 (C : Cx E "PpmTrees" cc) {i x1 : Int32} {t : Nat} (hd : decode cc pc = .ok (.iastore, 1)) (hq : pc + 1 = q) (hi : i = nI t) (hlt : t < 300) (kk : G E k n q lv st (xw (xG E) x A f (updA g 5 (upd (g 5) t x1)) ++ wr)) : G E k n pc lv (.int x1 :: .int i :: .ref (A 5) :: st) (xw (xG E) x A f g ++ wr) := by
  subst hi
  refine g_iast C 6 rfl (vp_in_nI hlt (by decide)) hd hq ?_
  rw [nI_clamp (by omega)]
  exact kk
theorem xa_6 (C : Cx E "PpmTrees" cc) {i v : Int32} {t : Nat} (hd : decode cc pc = .ok (.iaload, 1)) (hq : pc + 1 = q) (hi : i = nI t) (hlt : t < 300) (hv : g 6 t = v) (kk : G E k n q lv (.int v :: st) (xw (xG E) x A f g ++ wr)) : G E k n pc lv (.int i :: .ref (A 6) :: st) (xw (xG E) x A f g ++ wr) := by
  subst hv; subst hi
  exact g_iald C 7 rfl (vp_in_nI hlt (by decide)) hd hq (by rw [nI_clamp (by omega)]; exact kk)
theorem xs_6 (C : Cx E "PpmTrees" cc) {i x1 : Int32} {t : Nat} (hd : decode cc pc = .ok (.iastore, 1)) (hq : pc + 1 = q) (hi : i = nI t) (hlt : t < 300) (kk : G E k n q lv st (xw (xG E) x A f (updA g 6 (upd (g 6) t x1)) ++ wr)) : G E k n pc lv (.int x1 :: .int i :: .ref (A 6) :: st) (xw (xG E) x A f g ++ wr) := by
  subst hi
  refine g_iast C 7 rfl (vp_in_nI hlt (by decide)) hd hq ?_
  rw [nI_clamp (by omega)]
  exact kk
theorem xa_7 (C : Cx E "PpmTrees" cc) {i v : Int32} {t : Nat} (hd : decode cc pc = .ok (.iaload, 1)) (hq : pc + 1 = q) (hi : i = nI t) (hlt : t < 301) (hv : g 7 t = v) (kk : G E k n q lv (.int v :: st) (xw (xG E) x A f g ++ wr)) : G E k n pc lv (.int i :: .ref (A 7) :: st) (xw (xG E) x A f g ++ wr) := by
  subst hv; subst hi
  exact g_iald C 8 rfl (vp_in_nI hlt (by decide)) hd hq (by rw [nI_clamp (by omega)]; exact kk)
theorem xs_7 (C : Cx E "PpmTrees" cc) {i x1 : Int32} {t : Nat} (hd : decode cc pc = .ok (.iastore, 1)) (hq : pc + 1 = q) (hi : i = nI t) (hlt : t < 301) (kk : G E k n q lv st (xw (xG E) x A f (updA g 7 (upd (g 7) t x1)) ++ wr)) : G E k n pc lv (.int x1 :: .int i :: .ref (A 7) :: st) (xw (xG E) x A f g ++ wr) := by
  subst hi
  refine g_iast C 8 rfl (vp_in_nI hlt (by decide)) hd hq ?_
  rw [nI_clamp (by omega)]
  exact kk
theorem xa_8 (C : Cx E "PpmTrees" cc) {i v : Int32} {t : Nat} (hd : decode cc pc = .ok (.iaload, 1)) (hq : pc + 1 = q) (hi : i = nI t) (hlt : t < 301) (hv : g 8 t = v) (kk : G E k n q lv (.int v :: st) (xw (xG E) x A f g ++ wr)) : G E k n pc lv (.int i :: .ref (A 8) :: st) (xw (xG E) x A f g ++ wr) := by
  subst hv; subst hi
  exact g_iald C 9 rfl (vp_in_nI hlt (by decide)) hd hq (by rw [nI_clamp (by omega)]; exact kk)
theorem xs_8 (C : Cx E "PpmTrees" cc) {i x1 : Int32} {t : Nat} (hd : decode cc pc = .ok (.iastore, 1)) (hq : pc + 1 = q) (hi : i = nI t) (hlt : t < 301) (kk : G E k n q lv st (xw (xG E) x A f (updA g 8 (upd (g 8) t x1)) ++ wr)) : G E k n pc lv (.int x1 :: .int i :: .ref (A 8) :: st) (xw (xG E) x A f g ++ wr) := by
  subst hi
  refine g_iast C 9 rfl (vp_in_nI hlt (by decide)) hd hq ?_
  rw [nI_clamp (by omega)]
  exact kk
theorem xe_0 (C : Cx E "PpmTrees" cc) (hd : decode cc pc = .ok (.aaload, 1)) (hq : pc + 1 = q) (kk : G E k n q lv (.ref (A 17) :: st) (xw (xG E) x A f g ++ wr)) : G E k n pc lv (.int (nI 0) :: .ref (A 1) :: st) (xw (xG E) x A f g ++ wr) :=
  g_aald C (ti := 4) (f := fun i => if i = 0 then some (A 17) else some (A 18)) 2 rfl rfl (vp_in_nI (by decide) (by decide)) rfl hd hq kk
theorem xe_1 (C : Cx E "PpmTrees" cc) (hd : decode cc pc = .ok (.aaload, 1)) (hq : pc + 1 = q) (kk : G E k n q lv (.ref (A 18) :: st) (xw (xG E) x A f g ++ wr)) : G E k n pc lv (.int (nI 1) :: .ref (A 1) :: st) (xw (xG E) x A f g ++ wr) :=
  g_aald C (ti := 4) (f := fun i => if i = 0 then some (A 17) else some (A 18)) 2 rfl rfl (vp_in_nI (by decide) (by decide)) rfl hd hq kk
theorem xm_263 (C : Cx E "PpmTrees" cc) {v : Int32} (hd : decode cc pc = .ok (.getfield 263, 3)) (hq : pc + 3 = q) (hv : fm 0 = v) (kk : G E k n q lv (.int v :: st) (xw (xG E) x A f g ++ (mw (xG E) a b rm fm gm ++ wr))) : G E k n pc lv (.ref a :: st) (xw (xG E) x A f g ++ (mw (xG E) a b rm fm gm ++ wr)) := by
  subst hv
  exact g_getN C 10 fi_Mo rfl rfl (j := 0) (by decide) rfl (mTn (mT1 165 rfl) rfl) hd hq kk
theorem xm_266 (C : Cx E "PpmTrees" cc) {v : Int32} (hd : decode cc pc = .ok (.getfield 266, 3)) (hq : pc + 3 = q) (hv : fm 1 = v) (kk : G E k n q lv (.int v :: st) (xw (xG E) x A f g ++ (mw (xG E) a b rm fm gm ++ wr))) : G E k n pc lv (.ref a :: st) (xw (xG E) x A f g ++ (mw (xG E) a b rm fm gm ++ wr)) := by
  subst hv
  exact g_getN C 10 fi_Mo rfl rfl (j := 1) (by decide) rfl (mTn (mT1 167 rfl) rfl) hd hq kk
theorem xm_243 (C : Cx E "PpmTrees" cc) {v : Int32} (hd : decode cc pc = .ok (.getfield 243, 3)) (hq : pc + 3 = q) (hv : fm 2 = v) (kk : G E k n q lv (.int v :: st) (xw (xG E) x A f g ++ (mw (xG E) a b rm fm gm ++ wr))) : G E k n pc lv (.ref a :: st) (xw (xG E) x A f g ++ (mw (xG E) a b rm fm gm ++ wr)) := by
  subst hv
  exact g_getN C 10 fi_Mo rfl rfl (j := 2) (by decide) rfl (mTn (mT1 179 rfl) rfl) hd hq kk
theorem xm_26 (C : Cx E "PpmTrees" cc) {v : Int32} (hd : decode cc pc = .ok (.getfield 26, 3)) (hq : pc + 3 = q) (hv : fm 3 = v) (kk : G E k n q lv (.int v :: st) (xw (xG E) x A f g ++ (mw (xG E) a b rm fm gm ++ wr))) : G E k n pc lv (.ref a :: st) (xw (xG E) x A f g ++ (mw (xG E) a b rm fm gm ++ wr)) := by
  subst hv
  exact g_getN C 10 fi_Mo rfl rfl (j := 3) (by decide) rfl (mTn (mT1 183 rfl) rfl) hd hq kk
theorem xm_248 (C : Cx E "PpmTrees" cc) (hd : decode cc pc = .ok (.getfield 248, 3)) (hq : pc + 3 = q) (kk : G E k n q lv (.ref (b 0) :: st) (xw (xG E) x A f g ++ (mw (xG E) a b rm fm gm ++ wr))) : G E k n pc lv (.ref a :: st) (xw (xG E) x A f g ++ (mw (xG E) a b rm fm gm ++ wr)) :=
  g_getN C 10 fi_Mo rfl rfl (j := 4) (by decide) rfl (mTn (mT1 169 rfl) rfl) hd hq kk
theorem xma_0 (C : Cx E "PpmTrees" cc) (hrm : rm ≤ 1500) {i v : Int32} {t : Nat} (hd : decode cc pc = .ok (.iaload, 1)) (hq : pc + 1 = q) (hi : i = nI t) (hlt : t < rm) (hv : gm 0 t = v) (kk : G E k n q lv (.int v :: st) (xw (xG E) x A f g ++ (mw (xG E) a b rm fm gm ++ wr))) : G E k n pc lv (.int i :: .ref (b 0) :: st) (xw (xG E) x A f g ++ (mw (xG E) a b rm fm gm ++ wr)) := by
  subst hv; subst hi
  exact g_iald C 11 rfl (vp_in_nI hlt (by omega)) hd hq (by rw [nI_clamp (by omega)]; exact kk)
theorem xm_39 (C : Cx E "PpmTrees" cc) (hd : decode cc pc = .ok (.getfield 39, 3)) (hq : pc + 3 = q) (kk : G E k n q lv (.ref (b 1) :: st) (xw (xG E) x A f g ++ (mw (xG E) a b rm fm gm ++ wr))) : G E k n pc lv (.ref a :: st) (xw (xG E) x A f g ++ (mw (xG E) a b rm fm gm ++ wr)) :=
  g_getN C 10 fi_Mo rfl rfl (j := 5) (by decide) rfl (mTn (mT1 171 rfl) rfl) hd hq kk
theorem xma_1 (C : Cx E "PpmTrees" cc) (hrm : rm ≤ 1500) {i v : Int32} {t : Nat} (hd : decode cc pc = .ok (.iaload, 1)) (hq : pc + 1 = q) (hi : i = nI t) (hlt : t < rm) (hv : gm 1 t = v) (kk : G E k n q lv (.int v :: st) (xw (xG E) x A f g ++ (mw (xG E) a b rm fm gm ++ wr))) : G E k n pc lv (.int i :: .ref (b 1) :: st) (xw (xG E) x A f g ++ (mw (xG E) a b rm fm gm ++ wr)) := by
  subst hv; subst hi
  exact g_iald C 12 rfl (vp_in_nI hlt (by omega)) hd hq (by rw [nI_clamp (by omega)]; exact kk)
theorem xm_42 (C : Cx E "PpmTrees" cc) (hd : decode cc pc = .ok (.getfield 42, 3)) (hq : pc + 3 = q) (kk : G E k n q lv (.ref (b 2) :: st) (xw (xG E) x A f g ++ (mw (xG E) a b rm fm gm ++ wr))) : G E k n pc lv (.ref a :: st) (xw (xG E) x A f g ++ (mw (xG E) a b rm fm gm ++ wr)) :=
  g_getN C 10 fi_Mo rfl rfl (j := 6) (by decide) rfl (mTn (mT1 173 rfl) rfl) hd hq kk
theorem xma_2 (C : Cx E "PpmTrees" cc) (hrm : rm ≤ 1500) {i v : Int32} {t : Nat} (hd : decode cc pc = .ok (.iaload, 1)) (hq : pc + 1 = q) (hi : i = nI t) (hlt : t < rm) (hv : gm 2 t = v) (kk : G E k n q lv (.int v :: st) (xw (xG E) x A f g ++ (mw (xG E) a b rm fm gm ++ wr))) : G E k n pc lv (.int i :: .ref (b 2) :: st) (xw (xG E) x A f g ++ (mw (xG E) a b rm fm gm ++ wr)) := by
  subst hv; subst hi
  exact g_iald C 13 rfl (vp_in_nI hlt (by omega)) hd hq (by rw [nI_clamp (by omega)]; exact kk)
theorem xm_35 (C : Cx E "PpmTrees" cc) (hd : decode cc pc = .ok (.getfield 35, 3)) (hq : pc + 3 = q) (kk : G E k n q lv (.ref (b 3) :: st) (xw (xG E) x A f g ++ (mw (xG E) a b rm fm gm ++ wr))) : G E k n pc lv (.ref a :: st) (xw (xG E) x A f g ++ (mw (xG E) a b rm fm gm ++ wr)) :=
  g_getN C 10 fi_Mo rfl rfl (j := 7) (by decide) rfl (mTn (mT1 175 rfl) rfl) hd hq kk
theorem xma_3 (C : Cx E "PpmTrees" cc) (hrm : rm ≤ 1500) {i v : Int32} {t : Nat} (hd : decode cc pc = .ok (.iaload, 1)) (hq : pc + 1 = q) (hi : i = nI t) (hlt : t < rm) (hv : gm 3 t = v) (kk : G E k n q lv (.int v :: st) (xw (xG E) x A f g ++ (mw (xG E) a b rm fm gm ++ wr))) : G E k n pc lv (.int i :: .ref (b 3) :: st) (xw (xG E) x A f g ++ (mw (xG E) a b rm fm gm ++ wr)) := by
  subst hv; subst hi
  exact g_iald C 14 rfl (vp_in_nI hlt (by omega)) hd hq (by rw [nI_clamp (by omega)]; exact kk)
theorem xm_45 (C : Cx E "PpmTrees" cc) (hd : decode cc pc = .ok (.getfield 45, 3)) (hq : pc + 3 = q) (kk : G E k n q lv (.ref (b 4) :: st) (xw (xG E) x A f g ++ (mw (xG E) a b rm fm gm ++ wr))) : G E k n pc lv (.ref a :: st) (xw (xG E) x A f g ++ (mw (xG E) a b rm fm gm ++ wr)) :=
  g_getN C 10 fi_Mo rfl rfl (j := 8) (by decide) rfl (mTn (mT1 177 rfl) rfl) hd hq kk
theorem xma_4 (C : Cx E "PpmTrees" cc) (hrm : rm ≤ 1500) {i v : Int32} {t : Nat} (hd : decode cc pc = .ok (.iaload, 1)) (hq : pc + 1 = q) (hi : i = nI t) (hlt : t < rm) (hv : gm 4 t = v) (kk : G E k n q lv (.int v :: st) (xw (xG E) x A f g ++ (mw (xG E) a b rm fm gm ++ wr))) : G E k n pc lv (.int i :: .ref (b 4) :: st) (xw (xG E) x A f g ++ (mw (xG E) a b rm fm gm ++ wr)) := by
  subst hv; subst hi
  exact g_iald C 15 rfl (vp_in_nI hlt (by omega)) hd hq (by rw [nI_clamp (by omega)]; exact kk)
theorem xm_251 (C : Cx E "PpmTrees" cc) (hd : decode cc pc = .ok (.getfield 251, 3)) (hq : pc + 3 = q) (kk : G E k n q lv (.ref (b 5) :: st) (xw (xG E) x A f g ++ (mw (xG E) a b rm fm gm ++ wr))) : G E k n pc lv (.ref a :: st) (xw (xG E) x A f g ++ (mw (xG E) a b rm fm gm ++ wr)) :=
  g_getN C 10 fi_Mo rfl rfl (j := 9) (by decide) rfl (mTn (mT1 181 rfl) rfl) hd hq kk
theorem xma_5 (C : Cx E "PpmTrees" cc) {i v : Int32} {t : Nat} (hd : decode cc pc = .ok (.iaload, 1)) (hq : pc + 1 = q) (hi : i = nI t) (hlt : t < 4) (hv : gm 5 t = v) (kk : G E k n q lv (.int v :: st) (xw (xG E) x A f g ++ (mw (xG E) a b rm fm gm ++ wr))) : G E k n pc lv (.int i :: .ref (b 5) :: st) (xw (xG E) x A f g ++ (mw (xG E) a b rm fm gm ++ wr)) := by
  subst hv; subst hi
  exact g_iald C 16 rfl (vp_in_nI hlt (by omega)) hd hq (by rw [nI_clamp (by omega)]; exact kk)
theorem xw_210 (C : Cx E "PpmTrees" cc) {v : Int32} (hd : decode cc pc = .ok (.getfield 210, 3)) (hq : pc + 3 = q) (hv : fw 0 = v) (kk : G E k n q lv (.int v :: st) (xw (xG E) x A f g ++ (ww (xG E) a c fw gw ++ wr))) : G E k n pc lv (.ref a :: st) (xw (xG E) x A f g ++ (ww (xG E) a c fw gw ++ wr)) := by
  subst hv
  exact g_getN C 10 fi_Wr rfl rfl (j := 0) (by decide) rfl (mTn (mT1 75 rfl) rfl) hd hq kk
theorem xw_203 (C : Cx E "PpmTrees" cc) (hd : decode cc pc = .ok (.getfield 203, 3)) (hq : pc + 3 = q) (kk : G E k n q lv (.ref c :: st) (xw (xG E) x A f g ++ (ww (xG E) a c fw gw ++ wr))) : G E k n pc lv (.ref a :: st) (xw (xG E) x A f g ++ (ww (xG E) a c fw gw ++ wr)) :=
  g_getN C 10 fi_Wr rfl rfl (j := 4) (by decide) rfl (mTn (mT1 73 rfl) rfl) hd hq kk
theorem xwb (C : Cx E "PpmTrees" cc) {i v : Int32} {t : Nat} (hd : decode cc pc = .ok (.baload, 1)) (hq : pc + 1 = q) (hi : i = nI t) (hlt : t < 4096) (hv : gw t = v) (kk : G E k n q lv (.int v :: st) (xw (xG E) x A f g ++ (ww (xG E) a c fw gw ++ wr))) : G E k n pc lv (.int i :: .ref c :: st) (xw (xG E) x A f g ++ (ww (xG E) a c fw gw ++ wr)) := by
  subst hv; subst hi
  exact g_bald C 11 rfl (vp_in_nI hlt (by decide)) hd hq (by rw [nI_clamp (by omega)]; exact kk)
theorem xsg (C : Cx E "PpmTrees" cc) {v : Int32} (hd : decode cc pc = .ok (.getfield 280, 3)) (hq : pc + 3 = q) (hv : s0 = v) (kk : G E k n q lv (.int v :: st) (xw (xG E) x A f g ++ (sw a s0 ++ wr))) : G E k n pc lv (.ref a :: st) (xw (xG E) x A f g ++ (sw a s0 ++ wr)) := by
  subst hv
  exact g_getN C 10 fi_Su rfl rfl (j := 0) (by decide) rfl (mTn (mT1 142 rfl) rfl) hd hq kk
theorem xsp (C : Cx E "PpmTrees" cc) {v : Int32} (hd : decode cc pc = .ok (.putfield 280, 3)) (hq : pc + 3 = q) (kk : G E k n q lv st (xw (xG E) x A f g ++ (sw a v ++ wr))) : G E k n pc lv (.int v :: .ref a :: st) (xw (xG E) x A f g ++ (sw a s0 ++ wr)) :=
  g_putN C 10 fi_Su fty_Su_ok fn_Su rfl rfl (j := 0) (ty := .int) (by decide) (Nat.le_of_ble_eq_true rfl) (mTn (mT1 142 rfl) rfl) rfl (by decide +kernel) rfl rfl hd hq kk
end
section
variable {E : Ev} {cc : ByteArray} {k n pc q o d mc ms dE mcE msE : Nat} {lv : LV} {st rest : List Value} {wc wr : va_W} {fs : List Value} {post : Option Value → va_W → Prop}
theorem xc_16 (C : Cx E "PpmTrees" cc) (hR : Rm E dE mcE msE) {a0 : Value} {a1 : Value} (hM : Ct (xl E) (xG E) y_Ar_fill b_Ar_fill 4 none d mc ms [a0, a1] wc post) (hd : decode cc pc = .ok (.invokestatic 16, 3)) (hq : pc + 3 = q) (hdp : d + 1 ≤ dE) (hk : k + mc ≤ mcE) (hn : n + ms ≤ msE) (hrest : (rest.map fun v => v.category).sum ≤ 8) (kk : ∀ (v : Option Value) (ws' : va_W), post v ws' → G E (k + mc) (n + ms) q lv (v.toList ++ rest) (ws' ++ wr)) : G E k n pc lv (a1 :: a0 :: rest) (wc ++ wr) :=
  g_callSX (As := [a0, a1]) C hR hM w_355 w_356 w_14 w_357 ⟨by decide, by decide, (by decide +kernel : (parseMethodDescriptor y_Ar_fill.desc).map (fun d => d.parameters.length) = some 2)⟩ hd hq rfl (by decide) hdp hk hn hrest kk
theorem xc_31 (C : Cx E "PpmTrees" cc) (hR : Rm E dE mcE msE) {a0 : Value} (hM : Ct (xl E) (xG E) y_Mo_context b_Mo_context 4 (some FieldType.int) d mc ms [.ref o, a0] wc post) (hw : wc[0]? = some (o, .inr (2, fs))) (hd : decode cc pc = .ok (.invokevirtual 31, 3)) (hq : pc + 3 = q) (hdp : d + 1 ≤ dE) (hk : k + mc ≤ mcE) (hn : n + ms ≤ msE) (hrest : (rest.map fun v => v.category).sum ≤ 8) (kk : ∀ (v : Option Value) (ws' : va_W), post v ws' → G E (k + mc) (n + ms) q lv (v.toList ++ rest) (ws' ++ wr)) : G E k n pc lv (a0 :: .ref o :: rest) (wc ++ wr) :=
  g_callV (As := [a0]) (i0 := 0) C hR hM w_358 w_359 w_360 w_12 w_361 ⟨rfl, by decide, by decide, (by decide +kernel : (parseMethodDescriptor y_Mo_context.desc).map (fun d => d.parameters.length) = some 1)⟩ rfl hw hd hq rfl (by decide) hdp hk hn hrest kk
theorem xc_63 (C : Cx E "PpmTrees" cc) (hR : Rm E dE mcE msE) {a0 : Value} {a1 : Value} (hM : Ct (xl E) (xG E) y_X_flat b_X_flat 7 (some FieldType.int) d mc ms [.ref o, a0, a1] wc post) (hw : wc[0]? = some (o, .inr (1, fs))) (hd : decode cc pc = .ok (.invokevirtual 63, 3)) (hq : pc + 3 = q) (hdp : d + 1 ≤ dE) (hk : k + mc ≤ mcE) (hn : n + ms ≤ msE) (hrest : (rest.map fun v => v.category).sum ≤ 8) (kk : ∀ (v : Option Value) (ws' : va_W), post v ws' → G E (k + mc) (n + ms) q lv (v.toList ++ rest) (ws' ++ wr)) : G E k n pc lv (a1 :: a0 :: .ref o :: rest) (wc ++ wr) :=
  g_callV (As := [a0, a1]) (i0 := 0) C hR hM w_449 w_451 (mTg (mT0 6 rfl) rfl) w_1 w_452 ⟨rfl, by decide, by decide, (by decide +kernel : (parseMethodDescriptor y_X_flat.desc).map (fun d => d.parameters.length) = some 2)⟩ rfl hw hd hq rfl (by decide) hdp hk hn hrest kk
theorem xc_149 (C : Cx E "PpmTrees" cc) (hR : Rm E dE mcE msE) {a0 : Value} {a1 : Value} {a2 : Value} (hM : Ct (xl E) (xG E) y_X_nearest b_X_nearest 3 (some FieldType.int) d mc ms [a0, a1, a2] wc post) (hd : decode cc pc = .ok (.invokestatic 149, 3)) (hq : pc + 3 = q) (hdp : d + 1 ≤ dE) (hk : k + mc ≤ mcE) (hn : n + ms ≤ msE) (hrest : (rest.map fun v => v.category).sum ≤ 8) (kk : ∀ (v : Option Value) (ws' : va_W), post v ws' → G E (k + mc) (n + ms) q lv (v.toList ++ rest) (ws' ++ wr)) : G E k n pc lv (a2 :: a1 :: a0 :: rest) (wc ++ wr) :=
  g_callS (As := [a0, a1, a2]) C hR hM w_146 w_147 w_1 w_148 ⟨rfl, by decide, by decide, (by decide +kernel : (parseMethodDescriptor y_X_nearest.desc).map (fun d => d.parameters.length) = some 3)⟩ hd hq rfl (by decide) hdp hk hn hrest kk
theorem xc_163 (C : Cx E "PpmTrees" cc) (hR : Rm E dE mcE msE) {a0 : Value} {a1 : Value} {a2 : Value} (hM : Ct (xl E) (xG E) y_X_isIn b_X_isIn 3 (some FieldType.boolean) d mc ms [a0, a1, a2] wc post) (hd : decode cc pc = .ok (.invokestatic 163, 3)) (hq : pc + 3 = q) (hdp : d + 1 ≤ dE) (hk : k + mc ≤ mcE) (hn : n + ms ≤ msE) (hrest : (rest.map fun v => v.category).sum ≤ 8) (kk : ∀ (v : Option Value) (ws' : va_W), post v ws' → G E (k + mc) (n + ms) q lv (v.toList ++ rest) (ws' ++ wr)) : G E k n pc lv (a2 :: a1 :: a0 :: rest) (wc ++ wr) :=
  g_callS (As := [a0, a1, a2]) C hR hM w_306 w_307 w_1 w_308 ⟨rfl, by decide, by decide, (by decide +kernel : (parseMethodDescriptor y_X_isIn.desc).map (fun d => d.parameters.length) = some 3)⟩ hd hq rfl (by decide) hdp hk hn hrest kk
theorem xc_168 (C : Cx E "PpmTrees" cc) (hR : Rm E dE mcE msE) {a0 : Value} {a1 : Value} {a2 : Value} {a3 : Value} (hM : Ct (xl E) (xG E) y_X_drawn b_X_drawn 6 (some FieldType.int) d mc ms [.ref o, a0, a1, a2, a3] wc post) (hw : wc[0]? = some (o, .inr (1, fs))) (hd : decode cc pc = .ok (.invokevirtual 168, 3)) (hq : pc + 3 = q) (hdp : d + 1 ≤ dE) (hk : k + mc ≤ mcE) (hn : n + ms ≤ msE) (hrest : (rest.map fun v => v.category).sum ≤ 8) (kk : ∀ (v : Option Value) (ws' : va_W), post v ws' → G E (k + mc) (n + ms) q lv (v.toList ++ rest) (ws' ++ wr)) : G E k n pc lv (a3 :: a2 :: a1 :: a0 :: .ref o :: rest) (wc ++ wr) :=
  g_callV (As := [a0, a1, a2, a3]) (i0 := 0) C hR hM w_314 w_316 (mTg (mT0 0 rfl) rfl) w_1 w_317 ⟨rfl, by decide, by decide, (by decide +kernel : (parseMethodDescriptor y_X_drawn.desc).map (fun d => d.parameters.length) = some 4)⟩ rfl hw hd hq rfl (by decide) hdp hk hn hrest kk
theorem xc_178 (C : Cx E "PpmTrees" cc) (hR : Rm E dE mcE msE) {a0 : Value} (hM : Ct (xl E) (xG E) y_X_size b_X_size 2 (some FieldType.int) d mc ms [.ref o, a0] wc post) (hw : wc[0]? = some (o, .inr (1, fs))) (hd : decode cc pc = .ok (.invokevirtual 178, 3)) (hq : pc + 3 = q) (hdp : d + 1 ≤ dE) (hk : k + mc ≤ mcE) (hn : n + ms ≤ msE) (hrest : (rest.map fun v => v.category).sum ≤ 8) (kk : ∀ (v : Option Value) (ws' : va_W), post v ws' → G E (k + mc) (n + ms) q lv (v.toList ++ rest) (ws' ++ wr)) : G E k n pc lv (a0 :: .ref o :: rest) (wc ++ wr) :=
  g_callV (As := [a0]) (i0 := 0) C hR hM w_326 w_319 w_320 w_1 w_321 ⟨rfl, by decide, by decide, (by decide +kernel : (parseMethodDescriptor y_X_size.desc).map (fun d => d.parameters.length) = some 1)⟩ rfl hw hd hq rfl (by decide) hdp hk hn hrest kk
theorem xc_181 (C : Cx E "PpmTrees" cc) (hR : Rm E dE mcE msE) {a0 : Value} (hM : Ct (xl E) (xG E) y_X_row b_X_row 2 (some (FieldType.array FieldType.int)) d mc ms [.ref o, a0] wc post) (hw : wc[0]? = some (o, .inr (1, fs))) (hd : decode cc pc = .ok (.invokevirtual 181, 3)) (hq : pc + 3 = q) (hdp : d + 1 ≤ dE) (hk : k + mc ≤ mcE) (hn : n + ms ≤ msE) (hrest : (rest.map fun v => v.category).sum ≤ 8) (kk : ∀ (v : Option Value) (ws' : va_W), post v ws' → G E (k + mc) (n + ms) q lv (v.toList ++ rest) (ws' ++ wr)) : G E k n pc lv (a0 :: .ref o :: rest) (wc ++ wr) :=
  g_callV (As := [a0]) (i0 := 0) C hR hM w_327 w_329 (mTg (mT0 1 rfl) rfl) w_1 w_330 ⟨rfl, by decide, by decide, (by decide +kernel : (parseMethodDescriptor y_X_row.desc).map (fun d => d.parameters.length) = some 1)⟩ rfl hw hd hq rfl (by decide) hdp hk hn hrest kk
theorem xc_185 (C : Cx E "PpmTrees" cc) (hR : Rm E dE mcE msE)  (hM : Ct (xl E) (xG E) y_Wr_begin b_Wr_begin 1 none d mc ms [.ref o] wc post) (hw : wc[0]? = some (o, .inr (3, fs))) (hd : decode cc pc = .ok (.invokevirtual 185, 3)) (hq : pc + 3 = q) (hdp : d + 1 ≤ dE) (hk : k + mc ≤ mcE) (hn : n + ms ≤ msE) (hrest : (rest.map fun v => v.category).sum ≤ 8) (kk : ∀ (v : Option Value) (ws' : va_W), post v ws' → G E (k + mc) (n + ms) q lv (v.toList ++ rest) (ws' ++ wr)) : G E k n pc lv (.ref o :: rest) (wc ++ wr) :=
  g_callV (As := []) (i0 := 0) C hR hM w_343 w_344 w_345 w_6 w_346 ⟨rfl, by decide, by decide, (by decide +kernel : (parseMethodDescriptor y_Wr_begin.desc).map (fun d => d.parameters.length) = some 0)⟩ rfl hw hd hq rfl (by decide) hdp hk hn hrest kk
theorem xc_191 (C : Cx E "PpmTrees" cc) (hR : Rm E dE mcE msE) {a0 : Value} {a1 : Value} {a2 : Value} (hM : Ct (xl E) (xG E) y_X_tell b_X_tell 11 (some FieldType.int) d mc ms [.ref o, a0, a1, a2] wc post) (hw : wc[0]? = some (o, .inr (1, fs))) (hd : decode cc pc = .ok (.invokevirtual 191, 3)) (hq : pc + 3 = q) (hdp : d + 1 ≤ dE) (hk : k + mc ≤ mcE) (hn : n + ms ≤ msE) (hrest : (rest.map fun v => v.category).sum ≤ 8) (kk : ∀ (v : Option Value) (ws' : va_W), post v ws' → G E (k + mc) (n + ms) q lv (v.toList ++ rest) (ws' ++ wr)) : G E k n pc lv (a2 :: a1 :: a0 :: .ref o :: rest) (wc ++ wr) :=
  g_callV (As := [a0, a1, a2]) (i0 := 0) C hR hM w_351 w_353 (mTg (mT0 2 rfl) rfl) w_1 w_354 ⟨rfl, by decide, by decide, (by decide +kernel : (parseMethodDescriptor y_X_tell.desc).map (fun d => d.parameters.length) = some 3)⟩ rfl hw hd hq rfl (by decide) hdp hk hn hrest kk
theorem xc_195 (C : Cx E "PpmTrees" cc) (hR : Rm E dE mcE msE) {a0 : Value} {a1 : Value} (hM : Ct (xl E) (xG E) y_Mo_learns b_Mo_learns 6 (some FieldType.boolean) d mc ms [.ref o, a0, a1] wc post) (hw : wc[0]? = some (o, .inr (2, fs))) (hd : decode cc pc = .ok (.invokevirtual 195, 3)) (hq : pc + 3 = q) (hdp : d + 1 ≤ dE) (hk : k + mc ≤ mcE) (hn : n + ms ≤ msE) (hrest : (rest.map fun v => v.category).sum ≤ 8) (kk : ∀ (v : Option Value) (ws' : va_W), post v ws' → G E (k + mc) (n + ms) q lv (v.toList ++ rest) (ws' ++ wr)) : G E k n pc lv (a1 :: a0 :: .ref o :: rest) (wc ++ wr) :=
  g_callV (As := [a0, a1]) (i0 := 0) C hR hM w_453 w_454 w_455 w_12 w_456 ⟨rfl, by decide, by decide, (by decide +kernel : (parseMethodDescriptor y_Mo_learns.desc).map (fun d => d.parameters.length) = some 2)⟩ rfl hw hd hq rfl (by decide) hdp hk hn hrest kk
theorem xc_199 (C : Cx E "PpmTrees" cc) (hR : Rm E dE mcE msE)  (hM : Ct (xl E) (xG E) y_Wr_end b_Wr_end 1 (some FieldType.int) d mc ms [.ref o] wc post) (hw : wc[0]? = some (o, .inr (3, fs))) (hd : decode cc pc = .ok (.invokevirtual 199, 3)) (hq : pc + 3 = q) (hdp : d + 1 ≤ dE) (hk : k + mc ≤ mcE) (hn : n + ms ≤ msE) (hrest : (rest.map fun v => v.category).sum ≤ 8) (kk : ∀ (v : Option Value) (ws' : va_W), post v ws' → G E (k + mc) (n + ms) q lv (v.toList ++ rest) (ws' ++ wr)) : G E k n pc lv (.ref o :: rest) (wc ++ wr) :=
  g_callV (As := []) (i0 := 0) C hR hM w_474 w_475 w_476 w_6 w_477 ⟨rfl, by decide, by decide, (by decide +kernel : (parseMethodDescriptor y_Wr_end.desc).map (fun d => d.parameters.length) = some 0)⟩ rfl hw hd hq rfl (by decide) hdp hk hn hrest kk
theorem xc_222 (C : Cx E "PpmTrees" cc) (hR : Rm E dE mcE msE) {a0 : Value} (hM : Ct (xl E) (xG E) y_Mo_take b_Mo_take 2 none d mc ms [.ref o, a0] wc post) (hw : wc[0]? = some (o, .inr (2, fs))) (hd : decode cc pc = .ok (.invokevirtual 222, 3)) (hq : pc + 3 = q) (hdp : d + 1 ≤ dE) (hk : k + mc ≤ mcE) (hn : n + ms ≤ msE) (hrest : (rest.map fun v => v.category).sum ≤ 8) (kk : ∀ (v : Option Value) (ws' : va_W), post v ws' → G E (k + mc) (n + ms) q lv (v.toList ++ rest) (ws' ++ wr)) : G E k n pc lv (a0 :: .ref o :: rest) (wc ++ wr) :=
  g_callV (As := [a0]) (i0 := 0) C hR hM w_482 w_483 w_484 w_12 w_485 ⟨rfl, by decide, by decide, (by decide +kernel : (parseMethodDescriptor y_Mo_take.desc).map (fun d => d.parameters.length) = some 1)⟩ rfl hw hd hq rfl (by decide) hdp hk hn hrest kk
theorem xc_225 (C : Cx E "PpmTrees" cc) (hR : Rm E dE mcE msE)  (hM : Ct (xl E) (xG E) y_Re_begin b_Re_begin 2 none d mc ms [.ref o] wc post) (hw : wc[0]? = some (o, .inr (4, fs))) (hd : decode cc pc = .ok (.invokevirtual 225, 3)) (hq : pc + 3 = q) (hdp : d + 1 ≤ dE) (hk : k + mc ≤ mcE) (hn : n + ms ≤ msE) (hrest : (rest.map fun v => v.category).sum ≤ 8) (kk : ∀ (v : Option Value) (ws' : va_W), post v ws' → G E (k + mc) (n + ms) q lv (v.toList ++ rest) (ws' ++ wr)) : G E k n pc lv (.ref o :: rest) (wc ++ wr) :=
  g_callV (As := []) (i0 := 0) C hR hM w_486 w_487 w_488 w_7 w_489 ⟨rfl, by decide, by decide, (by decide +kernel : (parseMethodDescriptor y_Re_begin.desc).map (fun d => d.parameters.length) = some 0)⟩ rfl hw hd hq rfl (by decide) hdp hk hn hrest kk
theorem xc_226 (C : Cx E "PpmTrees" cc) (hR : Rm E dE mcE msE)  (hM : Ct (xl E) (xG E) y_Re_isBeyond b_Re_isBeyond 1 (some FieldType.boolean) d mc ms [.ref o] wc post) (hw : wc[0]? = some (o, .inr (4, fs))) (hd : decode cc pc = .ok (.invokevirtual 226, 3)) (hq : pc + 3 = q) (hdp : d + 1 ≤ dE) (hk : k + mc ≤ mcE) (hn : n + ms ≤ msE) (hrest : (rest.map fun v => v.category).sum ≤ 8) (kk : ∀ (v : Option Value) (ws' : va_W), post v ws' → G E (k + mc) (n + ms) q lv (v.toList ++ rest) (ws' ++ wr)) : G E k n pc lv (.ref o :: rest) (wc ++ wr) :=
  g_callV (As := []) (i0 := 0) C hR hM w_491 w_492 w_493 w_7 w_494 ⟨rfl, by decide, by decide, (by decide +kernel : (parseMethodDescriptor y_Re_isBeyond.desc).map (fun d => d.parameters.length) = some 0)⟩ rfl hw hd hq rfl (by decide) hdp hk hn hrest kk
theorem xc_230 (C : Cx E "PpmTrees" cc) (hR : Rm E dE mcE msE)  (hM : Ct (xl E) (xG E) y_X_isAsWritten b_X_isAsWritten 3 (some FieldType.boolean) d mc ms [.ref o] wc post) (hw : wc[0]? = some (o, .inr (1, fs))) (hd : decode cc pc = .ok (.invokevirtual 230, 3)) (hq : pc + 3 = q) (hdp : d + 1 ≤ dE) (hk : k + mc ≤ mcE) (hn : n + ms ≤ msE) (hrest : (rest.map fun v => v.category).sum ≤ 8) (kk : ∀ (v : Option Value) (ws' : va_W), post v ws' → G E (k + mc) (n + ms) q lv (v.toList ++ rest) (ws' ++ wr)) : G E k n pc lv (.ref o :: rest) (wc ++ wr) :=
  g_callV (As := []) (i0 := 0) C hR hM w_495 w_497 (mTg (mT0 10 rfl) rfl) w_1 w_498 ⟨rfl, by decide, by decide, (by decide +kernel : (parseMethodDescriptor y_X_isAsWritten.desc).map (fun d => d.parameters.length) = some 0)⟩ rfl hw hd hq rfl (by decide) hdp hk hn hrest kk
theorem xc_239 (C : Cx E "PpmTrees" cc) (hR : Rm E dE mcE msE) {a0 : Value} (hM : Ct (xl E) (xG E) y_X_isEnd b_X_isEnd 1 (some FieldType.boolean) d mc ms [a0] wc post) (hd : decode cc pc = .ok (.invokestatic 239, 3)) (hq : pc + 3 = q) (hdp : d + 1 ≤ dE) (hk : k + mc ≤ mcE) (hn : n + ms ≤ msE) (hrest : (rest.map fun v => v.category).sum ≤ 8) (kk : ∀ (v : Option Value) (ws' : va_W), post v ws' → G E (k + mc) (n + ms) q lv (v.toList ++ rest) (ws' ++ wr)) : G E k n pc lv (a0 :: rest) (wc ++ wr) :=
  g_callS (As := [a0]) C hR hM w_516 w_517 w_1 w_518 ⟨rfl, by decide, by decide, (by decide +kernel : (parseMethodDescriptor y_X_isEnd.desc).map (fun d => d.parameters.length) = some 1)⟩ hd hq rfl (by decide) hdp hk hn hrest kk
theorem xc_254 (C : Cx E "PpmTrees" cc) (hR : Rm E dE mcE msE)  (hM : Ct (xl E) (xG E) y_Mo_begin b_Mo_begin 1 none d mc ms [.ref o] wc post) (hw : wc[0]? = some (o, .inr (2, fs))) (hd : decode cc pc = .ok (.invokevirtual 254, 3)) (hq : pc + 3 = q) (hdp : d + 1 ≤ dE) (hk : k + mc ≤ mcE) (hn : n + ms ≤ msE) (hrest : (rest.map fun v => v.category).sum ≤ 8) (kk : ∀ (v : Option Value) (ws' : va_W), post v ws' → G E (k + mc) (n + ms) q lv (v.toList ++ rest) (ws' ++ wr)) : G E k n pc lv (.ref o :: rest) (wc ++ wr) :=
  g_callV (As := []) (i0 := 0) C hR hM w_531 w_161 w_162 w_12 w_163 ⟨rfl, by decide, by decide, (by decide +kernel : (parseMethodDescriptor y_Mo_begin.desc).map (fun d => d.parameters.length) = some 0)⟩ rfl hw hd hq rfl (by decide) hdp hk hn hrest kk
theorem xc_255 (C : Cx E "PpmTrees" cc) (hR : Rm E dE mcE msE) {a0 : Value} (hM : Ct (xl E) (xG E) y_Mo_isLike b_Mo_isLike 2 (some FieldType.boolean) d mc ms [.ref o, a0] wc post) (hw : wc[0]? = some (o, .inr (2, fs))) (hd : decode cc pc = .ok (.invokevirtual 255, 3)) (hq : pc + 3 = q) (hdp : d + 1 ≤ dE) (hk : k + mc ≤ mcE) (hn : n + ms ≤ msE) (hrest : (rest.map fun v => v.category).sum ≤ 8) (kk : ∀ (v : Option Value) (ws' : va_W), post v ws' → G E (k + mc) (n + ms) q lv (v.toList ++ rest) (ws' ++ wr)) : G E k n pc lv (a0 :: .ref o :: rest) (wc ++ wr) :=
  g_callV (As := [a0]) (i0 := 0) C hR hM w_536 w_537 w_538 w_12 w_539 ⟨rfl, by decide, by decide, (by decide +kernel : (parseMethodDescriptor y_Mo_isLike.desc).map (fun d => d.parameters.length) = some 1)⟩ rfl hw hd hq rfl (by decide) hdp hk hn hrest kk
end
/-- the words of a call through an interface -/
def FW (own : String) (idx : Nat) (x y : MethodName) (b : ByteArray) (mL : Nat) (r : Option FieldType) (cls : String) (np : Nat) : Prop := Cond.methodLink own idx x ∈ Tg ∧ Cond.selects cls x y ∈ Tg ∧ Cond.instanceMethod y ∈ Tg ∧ Cond.initialized y.cls ∈ Tg ∧ Cond.code y b mL r ∈ Tg ∧ Cond.declares x ∈ Tn ∧ Cond.interfaceMethod x.cls x.cls x.name x.desc ∈ Tn ∧ Cond.publicMethod y ∈ Tn ∧ Cond.unhidden cls x.name x.desc ∈ Tn ∧ Cond.castable cls x.cls ∈ Tn ∧ mL ≤ 45 ∧ x.cls ≠ "java/lang/invoke/MethodHandle" ∧ x.cls ≠ "java/lang/invoke/VarHandle" ∧ (parseMethodDescriptor x.desc).map (fun d => d.parameters.length) = some np
theorem g_callFW {E : Ev} {own : String} {cc : ByteArray} {k n pc q dE mcE msE : Nat} {lv : LV} {st : List Value} {wc wr : va_W} {x y : MethodName} {b : ByteArray} {mL : Nat} {r : Option FieldType} {d mc ms idx : Nat} {As rest : List Value} {post : Option Value → va_W → Prop} (C : Cx E own cc) (hR : Rm E dE mcE msE) {o ci cnt : Nat} {T : u_T} {N : Nat} {fs : List Value} {cls : String} (hF : FW own idx x y b mL r cls As.length) (hM : Ct (xl E) (xG E) y b mL r d mc ms (.ref o :: As) wc post) (i0 : Nat) (hc : classes[ci]? = some (cls, T, N)) (hw : wc[i0]? = some (o, .inr (ci, fs))) (hd : decode cc pc = .ok (.invokeinterface idx cnt, 5)) (hq : pc + 5 = q) (hst : st = As.reverse ++ .ref o :: rest) (hdp : d + 1 ≤ dE) (hk : k + mc ≤ mcE) (hn : n + ms ≤ msE) (hrest : (rest.map fun v => v.category).sum ≤ 8)
    (kk : ∀ (v : Option Value) (ws' : va_W), post v ws' → G E (k + mc) (n + ms) q lv (v.toList ++ rest) (ws' ++ wr)) : G E k n pc lv st (wc ++ wr) := by
  obtain ⟨h1, h2, h3, h4, h5, f1, f2, f3, f4, f5, hm, x1, x2, x3⟩ := hF
  exact g_callF C hR hM h1 h2 h3 h4 h5 f1 f2 f3 f4 f5 ⟨x1, x2, x3⟩ i0 hc hw hd hq hst hm hdp hk hn hrest kk
theorem fw_P1_pointed : FW "PpmTrees" 48 ⟨"PpmTrees$Taker", "pointed", "(I)I"⟩ y_P1_pointed b_P1_pointed 2 (some FieldType.int) "PpmTrees$1" 1 :=
  ⟨w_367, w_371, w_373, w_8, w_375, (mTn (mT2 129 rfl) rfl), (mTn (mT2 128 rfl) rfl), (mTn (mT2 134 rfl) rfl), (mTn (mT2 132 rfl) rfl), (mTn (mT2 130 rfl) rfl), by decide, by decide, by decide, by decide +kernel⟩
theorem fw_P1_take : FW "PpmTrees" 53 ⟨"PpmTrees$Taker", "take", "(III)V"⟩ y_P1_take b_P1_take 4 none "PpmTrees$1" 3 :=
  ⟨w_393, w_396, w_398, w_8, w_400, (mTn (mT2 155 rfl) rfl), (mTn (mT2 154 rfl) rfl), (mTn (mT2 159 rfl) rfl), (mTn (mT2 157 rfl) rfl), (mTn (mT2 130 rfl) rfl), by decide, by decide, by decide, by decide +kernel⟩
theorem fw_P2_pointed : FW "PpmTrees" 48 ⟨"PpmTrees$Taker", "pointed", "(I)I"⟩ y_P2_pointed b_P2_pointed 2 (some FieldType.int) "PpmTrees$2" 1 :=
  ⟨w_367, w_377, w_379, w_9, w_381, (mTn (mT2 129 rfl) rfl), (mTn (mT2 128 rfl) rfl), (mTn (mT2 140 rfl) rfl), (mTn (mT2 138 rfl) rfl), (mTn (mT2 136 rfl) rfl), by decide, by decide, by decide, by decide +kernel⟩
theorem fw_P2_take : FW "PpmTrees" 53 ⟨"PpmTrees$Taker", "take", "(III)V"⟩ y_P2_take b_P2_take 4 none "PpmTrees$2" 3 :=
  ⟨w_393, w_435, w_437, w_9, w_439, (mTn (mT2 155 rfl) rfl), (mTn (mT2 154 rfl) rfl), (mTn (mT2 198 rfl) rfl), (mTn (mT2 196 rfl) rfl), (mTn (mT2 136 rfl) rfl), by decide, by decide, by decide, by decide +kernel⟩
theorem fw_Su_pointed : FW "PpmTrees" 48 ⟨"PpmTrees$Taker", "pointed", "(I)I"⟩ y_Su_pointed b_Su_pointed 2 (some FieldType.int) "PpmTrees$Sum" 1 :=
  ⟨w_367, w_387, w_389, w_10, w_391, (mTn (mT2 129 rfl) rfl), (mTn (mT2 128 rfl) rfl), (mTn (mT2 150 rfl) rfl), (mTn (mT2 148 rfl) rfl), (mTn (mT2 146 rfl) rfl), by decide, by decide, by decide, by decide +kernel⟩
theorem fw_Su_take : FW "PpmTrees" 53 ⟨"PpmTrees$Taker", "take", "(III)V"⟩ y_Su_take b_Su_take 5 none "PpmTrees$Sum" 3 :=
  ⟨w_393, w_444, w_446, w_10, w_448, (mTn (mT2 155 rfl) rfl), (mTn (mT2 154 rfl) rfl), (mTn (mT2 207 rfl) rfl), (mTn (mT2 205 rfl) rfl), (mTn (mT2 146 rfl) rfl), by decide, by decide, by decide, by decide +kernel⟩
theorem fw_AL_size : FW "PpmTrees" 259 ⟨"java/util/List", "size", "()I"⟩ y_AL_size b_AL_size 1 (some FieldType.int) "java/util/ArrayList" 0 :=
  ⟨w_548, w_552, w_554, w_4, w_556, (mTn (mT3 70 rfl) rfl), (mTn (mT3 69 rfl) rfl), (mTn (mT3 75 rfl) rfl), (mTn (mT3 73 rfl) rfl), (mTn (mT3 71 rfl) rfl), by decide, by decide, by decide, by decide +kernel⟩
theorem fw_AL_add : FW "PpmTrees" 269 ⟨"java/util/List", "add", "(Ljava/lang/Object;)Z"⟩ y_AL_add b_AL_add 2 (some FieldType.boolean) "java/util/ArrayList" 1 :=
  ⟨w_558, w_561, w_563, w_4, w_565, (mTn (mT3 80 rfl) rfl), (mTn (mT3 79 rfl) rfl), (mTn (mT3 84 rfl) rfl), (mTn (mT3 82 rfl) rfl), (mTn (mT3 71 rfl) rfl), by decide, by decide, by decide, by decide +kernel⟩
theorem fw_AL_get : FW "PpmTrees" 273 ⟨"java/util/List", "get", "(I)Ljava/lang/Object;"⟩ y_AL_get b_AL_get 2 (some (FieldType.object "java/lang/Object")) "java/util/ArrayList" 1 :=
  ⟨w_618, w_621, w_623, w_4, w_625, (mTn (mT3 140 rfl) rfl), (mTn (mT3 139 rfl) rfl), (mTn (mT3 144 rfl) rfl), (mTn (mT3 142 rfl) rfl), (mTn (mT3 71 rfl) rfl), by decide, by decide, by decide, by decide +kernel⟩
theorem fw_AL_clear : FW "PpmTrees" 277 ⟨"java/util/List", "clear", "()V"⟩ y_AL_clear b_AL_clear 4 none "java/util/ArrayList" 0 :=
  ⟨w_641, w_644, w_646, w_4, w_648, (mTn (mT3 163 rfl) rfl), (mTn (mT3 162 rfl) rfl), (mTn (mT3 167 rfl) rfl), (mTn (mT3 165 rfl) rfl), (mTn (mT3 71 rfl) rfl), by decide, by decide, by decide, by decide +kernel⟩
section
variable {E : Ev} {cc : ByteArray} {k n pc q t a a2 c c2 x d dE mcE msE : Nat} {lv : LV} {st rest : List Value} {A : Nat → Nat} {f fr : Nat → Int32} {g : Nat → Nat → Int32} {fw gw : Nat → Int32} {s0 : Int32} {wr wc : va_W} {fs : List Value} {post : Option Value → va_W → Prop}
theorem P1g_1 (C : Cx E "PpmTrees$1" cc) (hd : decode cc pc = .ok (.getfield 1, 3)) (hq : pc + 3 = q) (kk : G E k n q lv (.ref x :: st) (p1w t x ++ (xw (xG E) x A f g ++ wr))) : G E k n pc lv (.ref t :: st) (p1w t x ++ (xw (xG E) x A f g ++ wr)) :=
  g_get C 0 fi_P1 rfl rfl (j := 0) (by decide) rfl w_121 (Or.inl rfl) hd hq kk
theorem P1g_13 (C : Cx E "PpmTrees$1" cc) (hd : decode cc pc = .ok (.getfield 13, 3)) (hq : pc + 3 = q) (kk : G E k n q lv (.ref (A 11) :: st) (p1w t x ++ (xw (xG E) x A f g ++ wr))) : G E k n pc lv (.ref x :: st) (p1w t x ++ (xw (xG E) x A f g ++ wr)) :=
  g_getN C 1 fi_X rfl rfl (j := 23) (by decide) rfl (mTn (mT1 222 rfl) rfl) hd hq kk
theorem P1c_19 (C : Cx E "PpmTrees$1" cc) (hR : Rm E dE mcE msE) {a0 a1 a2 : Value} (hM : Ct (xl E) (xG E) y_Ra_span b_Ra_span 5 none d 0 0 [.ref a, a0, a1, a2] wc post) (hw : wc[0]? = some (a, .inr (3, fs))) (hd : decode cc pc = .ok (.invokevirtual 19, 3)) (hq : pc + 3 = q) (hdp : d + 1 ≤ dE) (hk : k + 0 ≤ mcE) (hn : n + 0 ≤ msE) (hrest : (rest.map fun v => v.category).sum ≤ 8) (kk : ∀ (v : Option Value) (ws' : va_W), post v ws' → G E (k + 0) (n + 0) q lv (v.toList ++ rest) (ws' ++ wr)) : G E k n pc lv (a2 :: a1 :: a0 :: .ref a :: rest) (wc ++ wr) :=
  g_callU (As := [a0, a1, a2]) (i0 := 0) (x := ⟨"PpmTrees$Writer", "span", "(III)V"⟩) (owner := "PpmTrees$Range") (cls := "PpmTrees$Writer") C hR hM w_401 w_402 (va_Decl.of (C.2.2.2.2.1 _ w_405) (C.2.2.2.2.1 _ w_406)) (C.2.2.2.2.1 _ w_404) w_405 w_5 w_406 ⟨by decide, by decide, (by decide +kernel : (parseMethodDescriptor "(III)V").map (fun d => d.parameters.length) = some 3)⟩ rfl hw hd hq rfl (by decide) hdp hk hn hrest kk
theorem P2g_1 (C : Cx E "PpmTrees$2" cc) (hd : decode cc pc = .ok (.getfield 1, 3)) (hq : pc + 3 = q) (kk : G E k n q lv (.ref x :: st) (p2w t x ++ (xw (xG E) x A f g ++ wr))) : G E k n pc lv (.ref t :: st) (p2w t x ++ (xw (xG E) x A f g ++ wr)) :=
  g_get C 0 fi_P2 rfl rfl (j := 0) (by decide) rfl w_131 (Or.inl rfl) hd hq kk
theorem P2g_29 (C : Cx E "PpmTrees$2" cc) (hd : decode cc pc = .ok (.getfield 29, 3)) (hq : pc + 3 = q) (kk : G E k n q lv (.ref (A 12) :: st) (p2w t x ++ (xw (xG E) x A f g ++ wr))) : G E k n pc lv (.ref x :: st) (p2w t x ++ (xw (xG E) x A f g ++ wr)) :=
  g_getN C 1 fi_X rfl rfl (j := 24) (by decide) rfl (mTn (mT1 224 rfl) rfl) hd hq kk
theorem P2g_13 (C : Cx E "PpmTrees$2" cc) (hd : decode cc pc = .ok (.getfield 13, 3)) (hq : pc + 3 = q) (kk : G E k n q lv (.ref (A 13) :: st) (p2w t x ++ (xw (xG E) x A f g ++ wr))) : G E k n pc lv (.ref x :: st) (p2w t x ++ (xw (xG E) x A f g ++ wr)) :=
  g_getN C 1 fi_X rfl rfl (j := 25) (by decide) rfl (mTn (mT1 226 rfl) rfl) hd hq kk
theorem P2c_19 (C : Cx E "PpmTrees$2" cc) (hR : Rm E dE mcE msE) {a0 : Value} (hM : Ct (xl E) (xG E) y_Re_pointed b_Re_pointed 2 (some FieldType.int) d 0 0 [.ref a, a0] wc post) (hw : wc[0]? = some (a, .inr (4, fs))) (hd : decode cc pc = .ok (.invokevirtual 19, 3)) (hq : pc + 3 = q) (hdp : d + 1 ≤ dE) (hk : k + 0 ≤ mcE) (hn : n + 0 ≤ msE) (hrest : (rest.map fun v => v.category).sum ≤ 8) (kk : ∀ (v : Option Value) (ws' : va_W), post v ws' → G E (k + 0) (n + 0) q lv (v.toList ++ rest) (ws' ++ wr)) : G E k n pc lv (a0 :: .ref a :: rest) (wc ++ wr) :=
  g_callV (As := [a0]) (i0 := 0) C hR hM w_382 w_383 w_384 w_7 w_385 ⟨rfl, by decide, by decide, (by decide +kernel : (parseMethodDescriptor "(I)I").map (fun d => d.parameters.length) = some 1)⟩ rfl hw hd hq rfl (by decide) hdp hk hn hrest kk
theorem P2c_25 (C : Cx E "PpmTrees$2" cc) (hR : Rm E dE mcE msE) {a0 a1 a2 : Value} (hM : Ct (xl E) (xG E) y_Ra_span b_Ra_span 5 none d 0 0 [.ref a, a0, a1, a2] wc post) (hw : wc[0]? = some (a, .inr (4, fs))) (hd : decode cc pc = .ok (.invokevirtual 25, 3)) (hq : pc + 3 = q) (hdp : d + 1 ≤ dE) (hk : k + 0 ≤ mcE) (hn : n + 0 ≤ msE) (hrest : (rest.map fun v => v.category).sum ≤ 8) (kk : ∀ (v : Option Value) (ws' : va_W), post v ws' → G E (k + 0) (n + 0) q lv (v.toList ++ rest) (ws' ++ wr)) : G E k n pc lv (a2 :: a1 :: a0 :: .ref a :: rest) (wc ++ wr) :=
  g_callU (As := [a0, a1, a2]) (i0 := 0) (x := ⟨"PpmTrees$Reader", "span", "(III)V"⟩) (owner := "PpmTrees$Range") (cls := "PpmTrees$Reader") C hR hM w_440 w_441 (va_Decl.of (C.2.2.2.2.1 _ w_405) (C.2.2.2.2.1 _ w_406)) (C.2.2.2.2.1 _ w_442) w_405 w_5 w_406 ⟨by decide, by decide, (by decide +kernel : (parseMethodDescriptor "(III)V").map (fun d => d.parameters.length) = some 3)⟩ rfl hw hd hq rfl (by decide) hdp hk hn hrest kk
theorem P2c_33 (C : Cx E "PpmTrees$2" cc) (hR : Rm E dE mcE msE) {a0 a1 a2 : Value} (hM : Ct (xl E) (xG E) y_Ra_span b_Ra_span 5 none d 0 0 [.ref a, a0, a1, a2] wc post) (hw : wc[0]? = some (a, .inr (3, fs))) (hd : decode cc pc = .ok (.invokevirtual 33, 3)) (hq : pc + 3 = q) (hdp : d + 1 ≤ dE) (hk : k + 0 ≤ mcE) (hn : n + 0 ≤ msE) (hrest : (rest.map fun v => v.category).sum ≤ 8) (kk : ∀ (v : Option Value) (ws' : va_W), post v ws' → G E (k + 0) (n + 0) q lv (v.toList ++ rest) (ws' ++ wr)) : G E k n pc lv (a2 :: a1 :: a0 :: .ref a :: rest) (wc ++ wr) :=
  g_callU (As := [a0, a1, a2]) (i0 := 0) (x := ⟨"PpmTrees$Writer", "span", "(III)V"⟩) (owner := "PpmTrees$Range") (cls := "PpmTrees$Writer") C hR hM w_443 w_402 (va_Decl.of (C.2.2.2.2.1 _ w_405) (C.2.2.2.2.1 _ w_406)) (C.2.2.2.2.1 _ w_404) w_405 w_5 w_406 ⟨by decide, by decide, (by decide +kernel : (parseMethodDescriptor "(III)V").map (fun d => d.parameters.length) = some 3)⟩ rfl hw hd hq rfl (by decide) hdp hk hn hrest kk
theorem Sug_7 (C : Cx E "PpmTrees$Sum" cc) {v : Int32} (hd : decode cc pc = .ok (.getfield 7, 3)) (hq : pc + 3 = q) (hv : s0 = v) (kk : G E k n q lv (.int v :: st) (sw t s0 ++ wr)) : G E k n pc lv (.ref t :: st) (sw t s0 ++ wr) := by
  subst hv
  exact g_get C 0 fi_Su rfl rfl (j := 0) (by decide) rfl w_141 (Or.inl rfl) hd hq kk
theorem Sup_7 (C : Cx E "PpmTrees$Sum" cc) {v : Int32} (hd : decode cc pc = .ok (.putfield 7, 3)) (hq : pc + 3 = q) (kk : G E k n q lv st (sw t v ++ wr)) : G E k n pc lv (.int v :: .ref t :: st) (sw t s0 ++ wr) :=
  g_put C 0 fi_Su fty_Su_ok fn_Su rfl rfl (j := 0) (ty := .int) (by decide) (Nat.le_of_ble_eq_true rfl) w_141 (Or.inl rfl) rfl (by decide +kernel) rfl rfl hd hq kk
end
