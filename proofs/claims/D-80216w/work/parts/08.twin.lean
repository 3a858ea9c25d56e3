/-! THE TWIN (PpmTreesModel): its world tw; f: the int fields, g: the arrays. 0 thrown; 1 order; 2 room; 3 size; 4 outSize; 5 received; 6 kept; 7 excluded; 8 sum; 9 many; 10 from; 11 length; 12 of; 13 restarted; 14 low; 15 high; 16 held; 17 bits; 18 escapes; 19 begunAnew; 20 isPacked; 21 packed; 22 number; 23 taken; 24 place; 25 got; 26 readIn. Arrays: 0 text[300]; 1 out[6000]; 2 receivedByte[300]; 3 nodes[7]; 4 parent[10500]; 5 octet[10500]; 6 count[10500]; 7 latests[7]; 8 latest[28]; 9 restarts[2]; 10 isExcluded[257]; 11 counts[256]; 12 made[6000]; 13 signExcluded[301]; 14 signFound[301]; 15 toldOf[3]; 16 packedExcluded[301]; 17 packedFound[301]; 18 gotByte[300] -/
def tfs (ad : Nat → Nat) (f : Nat → Int32) : List Value := [.int (f 0), .int (f 1), .int (f 2), .int (f 3), .int (f 4), .int (f 5), .int (f 6), .int (f 7), .int (f 8), .int (f 9), .int (f 10), .int (f 11), .int (f 12), .int (f 13), .int (f 14), .int (f 15), .int (f 16), .int (f 17), .int (f 18), .int (f 19), .int (f 20), .int (f 21), .int (f 22), .int (f 23), .int (f 24), .int (f 25), .int (f 26), .ref (ad 0), .ref (ad 1), .ref (ad 2), .ref (ad 3), .ref (ad 4), .ref (ad 5), .ref (ad 6), .ref (ad 7), .ref (ad 8), .ref (ad 9), .ref (ad 10), .ref (ad 11), .ref (ad 12), .ref (ad 13), .ref (ad 14), .ref (ad 15), .ref (ad 16), .ref (ad 17), .ref (ad 18)]
def tw (Γ : Gl) (o : Nat) (ad : Nat → Nat) (f : Nat → Int32) (g : Nat → Nat → Int32) : va_W := [(o, .inr (0, tfs ad f)), (ad 0, .inl (Γ.2 0, 300, .inl (g 0))), (ad 1, .inl (Γ.2 0, 6000, .inl (g 1))), (ad 2, .inl (Γ.2 0, 300, .inl (g 2))), (ad 3, .inl (Γ.2 0, 7, .inl (g 3))), (ad 4, .inl (Γ.2 0, 10500, .inl (g 4))), (ad 5, .inl (Γ.2 0, 10500, .inl (g 5))), (ad 6, .inl (Γ.2 0, 10500, .inl (g 6))), (ad 7, .inl (Γ.2 0, 7, .inl (g 7))), (ad 8, .inl (Γ.2 0, 28, .inl (g 8))), (ad 9, .inl (Γ.2 0, 2, .inl (g 9))), (ad 10, .inl (Γ.2 1, 257, .inl (g 10))), (ad 11, .inl (Γ.2 0, 256, .inl (g 11))), (ad 12, .inl (Γ.2 0, 6000, .inl (g 12))), (ad 13, .inl (Γ.2 0, 301, .inl (g 13))), (ad 14, .inl (Γ.2 0, 301, .inl (g 14))), (ad 15, .inl (Γ.2 0, 3, .inl (g 15))), (ad 16, .inl (Γ.2 0, 301, .inl (g 16))), (ad 17, .inl (Γ.2 0, 301, .inl (g 17))), (ad 18, .inl (Γ.2 0, 300, .inl (g 18)))]
def updA (g : Nat → Nat → Int32) (j : Nat) (h : Nat → Int32) : Nat → Nat → Int32 := fun q => if q = j then h else g q
section
variable {E : Ev} {cc : ByteArray} {k n pc q o : Nat} {lv : LV} {st : List Value} {ad : Nat → Nat} {f : Nat → Int32} {g : Nat → Nat → Int32}
theorem tg_82 (C : Cx E "PpmTreesModel" cc) {v : Int32} (hd : decode cc pc = .ok (.getfield 82, 3)) (hq : pc + 3 = q) (hv : f 0 = v) (kk : G E k n q lv (.int v :: st) (tw (xG E) o ad f g)) : G E k n pc lv (.ref o :: st) (tw (xG E) o ad f g) := by
  subst hv
  exact g_get C 0 fi_T rfl rfl (j := 0) (by decide) rfl w_760 (Or.inl rfl) hd hq kk
theorem tp_82 (C : Cx E "PpmTreesModel" cc) {v : Int32} (hd : decode cc pc = .ok (.putfield 82, 3)) (hq : pc + 3 = q) (kk : G E k n q lv st (tw (xG E) o ad (upd f 0 v) g)) : G E k n pc lv (.int v :: .ref o :: st) (tw (xG E) o ad f g) :=
  g_put C 0 fi_T fty_T_ok fn_T rfl rfl (j := 0) (ty := .int) (by decide) (Nat.le_of_ble_eq_true rfl) w_760 (Or.inl rfl) rfl (by decide +kernel) rfl rfl hd hq kk
theorem tg_72 (C : Cx E "PpmTreesModel" cc) {v : Int32} (hd : decode cc pc = .ok (.getfield 72, 3)) (hq : pc + 3 = q) (hv : f 1 = v) (kk : G E k n q lv (.int v :: st) (tw (xG E) o ad f g)) : G E k n pc lv (.ref o :: st) (tw (xG E) o ad f g) := by
  subst hv
  exact g_get C 0 fi_T rfl rfl (j := 1) (by decide) rfl w_761 (Or.inl rfl) hd hq kk
theorem tg_75 (C : Cx E "PpmTreesModel" cc) {v : Int32} (hd : decode cc pc = .ok (.getfield 75, 3)) (hq : pc + 3 = q) (hv : f 2 = v) (kk : G E k n q lv (.int v :: st) (tw (xG E) o ad f g)) : G E k n pc lv (.ref o :: st) (tw (xG E) o ad f g) := by
  subst hv
  exact g_get C 0 fi_T rfl rfl (j := 2) (by decide) rfl w_762 (Or.inl rfl) hd hq kk
theorem tg_85 (C : Cx E "PpmTreesModel" cc) {v : Int32} (hd : decode cc pc = .ok (.getfield 85, 3)) (hq : pc + 3 = q) (hv : f 3 = v) (kk : G E k n q lv (.int v :: st) (tw (xG E) o ad f g)) : G E k n pc lv (.ref o :: st) (tw (xG E) o ad f g) := by
  subst hv
  exact g_get C 0 fi_T rfl rfl (j := 3) (by decide) rfl w_763 (Or.inl rfl) hd hq kk
theorem tp_85 (C : Cx E "PpmTreesModel" cc) {v : Int32} (hd : decode cc pc = .ok (.putfield 85, 3)) (hq : pc + 3 = q) (kk : G E k n q lv st (tw (xG E) o ad (upd f 3 v) g)) : G E k n pc lv (.int v :: .ref o :: st) (tw (xG E) o ad f g) :=
  g_put C 0 fi_T fty_T_ok fn_T rfl rfl (j := 3) (ty := .int) (by decide) (Nat.le_of_ble_eq_true rfl) w_763 (Or.inl rfl) rfl (by decide +kernel) rfl rfl hd hq kk
theorem tg_93 (C : Cx E "PpmTreesModel" cc) {v : Int32} (hd : decode cc pc = .ok (.getfield 93, 3)) (hq : pc + 3 = q) (hv : f 4 = v) (kk : G E k n q lv (.int v :: st) (tw (xG E) o ad f g)) : G E k n pc lv (.ref o :: st) (tw (xG E) o ad f g) := by
  subst hv
  exact g_get C 0 fi_T rfl rfl (j := 4) (by decide) rfl w_765 (Or.inl rfl) hd hq kk
theorem tp_93 (C : Cx E "PpmTreesModel" cc) {v : Int32} (hd : decode cc pc = .ok (.putfield 93, 3)) (hq : pc + 3 = q) (kk : G E k n q lv st (tw (xG E) o ad (upd f 4 v) g)) : G E k n pc lv (.int v :: .ref o :: st) (tw (xG E) o ad f g) :=
  g_put C 0 fi_T fty_T_ok fn_T rfl rfl (j := 4) (ty := .int) (by decide) (Nat.le_of_ble_eq_true rfl) w_765 (Or.inl rfl) rfl (by decide +kernel) rfl rfl hd hq kk
theorem tg_96 (C : Cx E "PpmTreesModel" cc) {v : Int32} (hd : decode cc pc = .ok (.getfield 96, 3)) (hq : pc + 3 = q) (hv : f 5 = v) (kk : G E k n q lv (.int v :: st) (tw (xG E) o ad f g)) : G E k n pc lv (.ref o :: st) (tw (xG E) o ad f g) := by
  subst hv
  exact g_get C 0 fi_T rfl rfl (j := 5) (by decide) rfl w_767 (Or.inl rfl) hd hq kk
theorem tp_96 (C : Cx E "PpmTreesModel" cc) {v : Int32} (hd : decode cc pc = .ok (.putfield 96, 3)) (hq : pc + 3 = q) (kk : G E k n q lv st (tw (xG E) o ad (upd f 5 v) g)) : G E k n pc lv (.int v :: .ref o :: st) (tw (xG E) o ad f g) :=
  g_put C 0 fi_T fty_T_ok fn_T rfl rfl (j := 5) (ty := .int) (by decide) (Nat.le_of_ble_eq_true rfl) w_767 (Or.inl rfl) rfl (by decide +kernel) rfl rfl hd hq kk
theorem tg_228 (C : Cx E "PpmTreesModel" cc) {v : Int32} (hd : decode cc pc = .ok (.getfield 228, 3)) (hq : pc + 3 = q) (hv : f 6 = v) (kk : G E k n q lv (.int v :: st) (tw (xG E) o ad f g)) : G E k n pc lv (.ref o :: st) (tw (xG E) o ad f g) := by
  subst hv
  exact g_get C 0 fi_T rfl rfl (j := 6) (by decide) rfl w_776 (Or.inl rfl) hd hq kk
theorem tp_228 (C : Cx E "PpmTreesModel" cc) {v : Int32} (hd : decode cc pc = .ok (.putfield 228, 3)) (hq : pc + 3 = q) (kk : G E k n q lv st (tw (xG E) o ad (upd f 6 v) g)) : G E k n pc lv (.int v :: .ref o :: st) (tw (xG E) o ad f g) :=
  g_put C 0 fi_T fty_T_ok fn_T rfl rfl (j := 6) (ty := .int) (by decide) (Nat.le_of_ble_eq_true rfl) w_776 (Or.inl rfl) rfl (by decide +kernel) rfl rfl hd hq kk
theorem tg_103 (C : Cx E "PpmTreesModel" cc) {v : Int32} (hd : decode cc pc = .ok (.getfield 103, 3)) (hq : pc + 3 = q) (hv : f 7 = v) (kk : G E k n q lv (.int v :: st) (tw (xG E) o ad f g)) : G E k n pc lv (.ref o :: st) (tw (xG E) o ad f g) := by
  subst hv
  exact g_get C 0 fi_T rfl rfl (j := 7) (by decide) rfl w_778 (Or.inl rfl) hd hq kk
theorem tp_103 (C : Cx E "PpmTreesModel" cc) {v : Int32} (hd : decode cc pc = .ok (.putfield 103, 3)) (hq : pc + 3 = q) (kk : G E k n q lv st (tw (xG E) o ad (upd f 7 v) g)) : G E k n pc lv (.int v :: .ref o :: st) (tw (xG E) o ad f g) :=
  g_put C 0 fi_T fty_T_ok fn_T rfl rfl (j := 7) (ty := .int) (by decide) (Nat.le_of_ble_eq_true rfl) w_778 (Or.inl rfl) rfl (by decide +kernel) rfl rfl hd hq kk
theorem tg_110 (C : Cx E "PpmTreesModel" cc) {v : Int32} (hd : decode cc pc = .ok (.getfield 110, 3)) (hq : pc + 3 = q) (hv : f 8 = v) (kk : G E k n q lv (.int v :: st) (tw (xG E) o ad f g)) : G E k n pc lv (.ref o :: st) (tw (xG E) o ad f g) := by
  subst hv
  exact g_get C 0 fi_T rfl rfl (j := 8) (by decide) rfl w_780 (Or.inl rfl) hd hq kk
theorem tp_110 (C : Cx E "PpmTreesModel" cc) {v : Int32} (hd : decode cc pc = .ok (.putfield 110, 3)) (hq : pc + 3 = q) (kk : G E k n q lv st (tw (xG E) o ad (upd f 8 v) g)) : G E k n pc lv (.int v :: .ref o :: st) (tw (xG E) o ad f g) :=
  g_put C 0 fi_T fty_T_ok fn_T rfl rfl (j := 8) (ty := .int) (by decide) (Nat.le_of_ble_eq_true rfl) w_780 (Or.inl rfl) rfl (by decide +kernel) rfl rfl hd hq kk
theorem tg_113 (C : Cx E "PpmTreesModel" cc) {v : Int32} (hd : decode cc pc = .ok (.getfield 113, 3)) (hq : pc + 3 = q) (hv : f 9 = v) (kk : G E k n q lv (.int v :: st) (tw (xG E) o ad f g)) : G E k n pc lv (.ref o :: st) (tw (xG E) o ad f g) := by
  subst hv
  exact g_get C 0 fi_T rfl rfl (j := 9) (by decide) rfl w_781 (Or.inl rfl) hd hq kk
theorem tp_113 (C : Cx E "PpmTreesModel" cc) {v : Int32} (hd : decode cc pc = .ok (.putfield 113, 3)) (hq : pc + 3 = q) (kk : G E k n q lv st (tw (xG E) o ad (upd f 9 v) g)) : G E k n pc lv (.int v :: .ref o :: st) (tw (xG E) o ad f g) :=
  g_put C 0 fi_T fty_T_ok fn_T rfl rfl (j := 9) (ty := .int) (by decide) (Nat.le_of_ble_eq_true rfl) w_781 (Or.inl rfl) rfl (by decide +kernel) rfl rfl hd hq kk
theorem tg_123 (C : Cx E "PpmTreesModel" cc) {v : Int32} (hd : decode cc pc = .ok (.getfield 123, 3)) (hq : pc + 3 = q) (hv : f 10 = v) (kk : G E k n q lv (.int v :: st) (tw (xG E) o ad f g)) : G E k n pc lv (.ref o :: st) (tw (xG E) o ad f g) := by
  subst hv
  exact g_get C 0 fi_T rfl rfl (j := 10) (by decide) rfl w_782 (Or.inl rfl) hd hq kk
theorem tp_123 (C : Cx E "PpmTreesModel" cc) {v : Int32} (hd : decode cc pc = .ok (.putfield 123, 3)) (hq : pc + 3 = q) (kk : G E k n q lv st (tw (xG E) o ad (upd f 10 v) g)) : G E k n pc lv (.int v :: .ref o :: st) (tw (xG E) o ad f g) :=
  g_put C 0 fi_T fty_T_ok fn_T rfl rfl (j := 10) (ty := .int) (by decide) (Nat.le_of_ble_eq_true rfl) w_782 (Or.inl rfl) rfl (by decide +kernel) rfl rfl hd hq kk
theorem tg_126 (C : Cx E "PpmTreesModel" cc) {v : Int32} (hd : decode cc pc = .ok (.getfield 126, 3)) (hq : pc + 3 = q) (hv : f 11 = v) (kk : G E k n q lv (.int v :: st) (tw (xG E) o ad f g)) : G E k n pc lv (.ref o :: st) (tw (xG E) o ad f g) := by
  subst hv
  exact g_get C 0 fi_T rfl rfl (j := 11) (by decide) rfl w_783 (Or.inl rfl) hd hq kk
theorem tp_126 (C : Cx E "PpmTreesModel" cc) {v : Int32} (hd : decode cc pc = .ok (.putfield 126, 3)) (hq : pc + 3 = q) (kk : G E k n q lv st (tw (xG E) o ad (upd f 11 v) g)) : G E k n pc lv (.int v :: .ref o :: st) (tw (xG E) o ad f g) :=
  g_put C 0 fi_T fty_T_ok fn_T rfl rfl (j := 11) (ty := .int) (by decide) (Nat.le_of_ble_eq_true rfl) w_783 (Or.inl rfl) rfl (by decide +kernel) rfl rfl hd hq kk
theorem tg_116 (C : Cx E "PpmTreesModel" cc) {v : Int32} (hd : decode cc pc = .ok (.getfield 116, 3)) (hq : pc + 3 = q) (hv : f 12 = v) (kk : G E k n q lv (.int v :: st) (tw (xG E) o ad f g)) : G E k n pc lv (.ref o :: st) (tw (xG E) o ad f g) := by
  subst hv
  exact g_get C 0 fi_T rfl rfl (j := 12) (by decide) rfl w_784 (Or.inl rfl) hd hq kk
theorem tp_116 (C : Cx E "PpmTreesModel" cc) {v : Int32} (hd : decode cc pc = .ok (.putfield 116, 3)) (hq : pc + 3 = q) (kk : G E k n q lv st (tw (xG E) o ad (upd f 12 v) g)) : G E k n pc lv (.int v :: .ref o :: st) (tw (xG E) o ad f g) :=
  g_put C 0 fi_T fty_T_ok fn_T rfl rfl (j := 12) (ty := .int) (by decide) (Nat.le_of_ble_eq_true rfl) w_784 (Or.inl rfl) rfl (by decide +kernel) rfl rfl hd hq kk
theorem tg_129 (C : Cx E "PpmTreesModel" cc) {v : Int32} (hd : decode cc pc = .ok (.getfield 129, 3)) (hq : pc + 3 = q) (hv : f 13 = v) (kk : G E k n q lv (.int v :: st) (tw (xG E) o ad f g)) : G E k n pc lv (.ref o :: st) (tw (xG E) o ad f g) := by
  subst hv
  exact g_get C 0 fi_T rfl rfl (j := 13) (by decide) rfl w_785 (Or.inl rfl) hd hq kk
theorem tp_129 (C : Cx E "PpmTreesModel" cc) {v : Int32} (hd : decode cc pc = .ok (.putfield 129, 3)) (hq : pc + 3 = q) (hz : v = 0 ∨ v = 1) (kk : G E k n q lv st (tw (xG E) o ad (upd f 13 v) g)) : G E k n pc lv (.int v :: .ref o :: st) (tw (xG E) o ad f g) :=
  g_put C 0 fi_T fty_T_ok fn_T rfl rfl (j := 13) (ty := .boolean) (by decide) (Nat.le_of_ble_eq_true rfl) w_785 (Or.inl rfl) rfl (by decide +kernel) (by rcases hz with rfl | rfl <;> rfl) (by rcases hz with rfl | rfl <;> rfl) hd hq kk
theorem tg_149 (C : Cx E "PpmTreesModel" cc) {v : Int32} (hd : decode cc pc = .ok (.getfield 149, 3)) (hq : pc + 3 = q) (hv : f 14 = v) (kk : G E k n q lv (.int v :: st) (tw (xG E) o ad f g)) : G E k n pc lv (.ref o :: st) (tw (xG E) o ad f g) := by
  subst hv
  exact g_get C 0 fi_T rfl rfl (j := 14) (by decide) rfl w_786 (Or.inl rfl) hd hq kk
theorem tp_149 (C : Cx E "PpmTreesModel" cc) {v : Int32} (hd : decode cc pc = .ok (.putfield 149, 3)) (hq : pc + 3 = q) (kk : G E k n q lv st (tw (xG E) o ad (upd f 14 v) g)) : G E k n pc lv (.int v :: .ref o :: st) (tw (xG E) o ad f g) :=
  g_put C 0 fi_T fty_T_ok fn_T rfl rfl (j := 14) (ty := .int) (by decide) (Nat.le_of_ble_eq_true rfl) w_786 (Or.inl rfl) rfl (by decide +kernel) rfl rfl hd hq kk
theorem tg_146 (C : Cx E "PpmTreesModel" cc) {v : Int32} (hd : decode cc pc = .ok (.getfield 146, 3)) (hq : pc + 3 = q) (hv : f 15 = v) (kk : G E k n q lv (.int v :: st) (tw (xG E) o ad f g)) : G E k n pc lv (.ref o :: st) (tw (xG E) o ad f g) := by
  subst hv
  exact g_get C 0 fi_T rfl rfl (j := 15) (by decide) rfl w_787 (Or.inl rfl) hd hq kk
theorem tp_146 (C : Cx E "PpmTreesModel" cc) {v : Int32} (hd : decode cc pc = .ok (.putfield 146, 3)) (hq : pc + 3 = q) (kk : G E k n q lv st (tw (xG E) o ad (upd f 15 v) g)) : G E k n pc lv (.int v :: .ref o :: st) (tw (xG E) o ad f g) :=
  g_put C 0 fi_T fty_T_ok fn_T rfl rfl (j := 15) (ty := .int) (by decide) (Nat.le_of_ble_eq_true rfl) w_787 (Or.inl rfl) rfl (by decide +kernel) rfl rfl hd hq kk
theorem tg_143 (C : Cx E "PpmTreesModel" cc) {v : Int32} (hd : decode cc pc = .ok (.getfield 143, 3)) (hq : pc + 3 = q) (hv : f 16 = v) (kk : G E k n q lv (.int v :: st) (tw (xG E) o ad f g)) : G E k n pc lv (.ref o :: st) (tw (xG E) o ad f g) := by
  subst hv
  exact g_get C 0 fi_T rfl rfl (j := 16) (by decide) rfl w_788 (Or.inl rfl) hd hq kk
theorem tp_143 (C : Cx E "PpmTreesModel" cc) {v : Int32} (hd : decode cc pc = .ok (.putfield 143, 3)) (hq : pc + 3 = q) (kk : G E k n q lv st (tw (xG E) o ad (upd f 16 v) g)) : G E k n pc lv (.int v :: .ref o :: st) (tw (xG E) o ad f g) :=
  g_put C 0 fi_T fty_T_ok fn_T rfl rfl (j := 16) (ty := .int) (by decide) (Nat.le_of_ble_eq_true rfl) w_788 (Or.inl rfl) rfl (by decide +kernel) rfl rfl hd hq kk
theorem tg_137 (C : Cx E "PpmTreesModel" cc) {v : Int32} (hd : decode cc pc = .ok (.getfield 137, 3)) (hq : pc + 3 = q) (hv : f 17 = v) (kk : G E k n q lv (.int v :: st) (tw (xG E) o ad f g)) : G E k n pc lv (.ref o :: st) (tw (xG E) o ad f g) := by
  subst hv
  exact g_get C 0 fi_T rfl rfl (j := 17) (by decide) rfl w_789 (Or.inl rfl) hd hq kk
theorem tp_137 (C : Cx E "PpmTreesModel" cc) {v : Int32} (hd : decode cc pc = .ok (.putfield 137, 3)) (hq : pc + 3 = q) (kk : G E k n q lv st (tw (xG E) o ad (upd f 17 v) g)) : G E k n pc lv (.int v :: .ref o :: st) (tw (xG E) o ad f g) :=
  g_put C 0 fi_T fty_T_ok fn_T rfl rfl (j := 17) (ty := .int) (by decide) (Nat.le_of_ble_eq_true rfl) w_789 (Or.inl rfl) rfl (by decide +kernel) rfl rfl hd hq kk
theorem tg_161 (C : Cx E "PpmTreesModel" cc) {v : Int32} (hd : decode cc pc = .ok (.getfield 161, 3)) (hq : pc + 3 = q) (hv : f 18 = v) (kk : G E k n q lv (.int v :: st) (tw (xG E) o ad f g)) : G E k n pc lv (.ref o :: st) (tw (xG E) o ad f g) := by
  subst hv
  exact g_get C 0 fi_T rfl rfl (j := 18) (by decide) rfl w_791 (Or.inl rfl) hd hq kk
theorem tp_161 (C : Cx E "PpmTreesModel" cc) {v : Int32} (hd : decode cc pc = .ok (.putfield 161, 3)) (hq : pc + 3 = q) (kk : G E k n q lv st (tw (xG E) o ad (upd f 18 v) g)) : G E k n pc lv (.int v :: .ref o :: st) (tw (xG E) o ad f g) :=
  g_put C 0 fi_T fty_T_ok fn_T rfl rfl (j := 18) (ty := .int) (by decide) (Nat.le_of_ble_eq_true rfl) w_791 (Or.inl rfl) rfl (by decide +kernel) rfl rfl hd hq kk
theorem tg_164 (C : Cx E "PpmTreesModel" cc) {v : Int32} (hd : decode cc pc = .ok (.getfield 164, 3)) (hq : pc + 3 = q) (hv : f 19 = v) (kk : G E k n q lv (.int v :: st) (tw (xG E) o ad f g)) : G E k n pc lv (.ref o :: st) (tw (xG E) o ad f g) := by
  subst hv
  exact g_get C 0 fi_T rfl rfl (j := 19) (by decide) rfl w_792 (Or.inl rfl) hd hq kk
theorem tp_164 (C : Cx E "PpmTreesModel" cc) {v : Int32} (hd : decode cc pc = .ok (.putfield 164, 3)) (hq : pc + 3 = q) (kk : G E k n q lv st (tw (xG E) o ad (upd f 19 v) g)) : G E k n pc lv (.int v :: .ref o :: st) (tw (xG E) o ad f g) :=
  g_put C 0 fi_T fty_T_ok fn_T rfl rfl (j := 19) (ty := .int) (by decide) (Nat.le_of_ble_eq_true rfl) w_792 (Or.inl rfl) rfl (by decide +kernel) rfl rfl hd hq kk
theorem tg_194 (C : Cx E "PpmTreesModel" cc) {v : Int32} (hd : decode cc pc = .ok (.getfield 194, 3)) (hq : pc + 3 = q) (hv : f 20 = v) (kk : G E k n q lv (.int v :: st) (tw (xG E) o ad f g)) : G E k n pc lv (.ref o :: st) (tw (xG E) o ad f g) := by
  subst hv
  exact g_get C 0 fi_T rfl rfl (j := 20) (by decide) rfl w_795 (Or.inl rfl) hd hq kk
theorem tp_194 (C : Cx E "PpmTreesModel" cc) {v : Int32} (hd : decode cc pc = .ok (.putfield 194, 3)) (hq : pc + 3 = q) (hz : v = 0 ∨ v = 1) (kk : G E k n q lv st (tw (xG E) o ad (upd f 20 v) g)) : G E k n pc lv (.int v :: .ref o :: st) (tw (xG E) o ad f g) :=
  g_put C 0 fi_T fty_T_ok fn_T rfl rfl (j := 20) (ty := .boolean) (by decide) (Nat.le_of_ble_eq_true rfl) w_795 (Or.inl rfl) rfl (by decide +kernel) (by rcases hz with rfl | rfl <;> rfl) (by rcases hz with rfl | rfl <;> rfl) hd hq kk
theorem tg_197 (C : Cx E "PpmTreesModel" cc) {v : Int32} (hd : decode cc pc = .ok (.getfield 197, 3)) (hq : pc + 3 = q) (hv : f 21 = v) (kk : G E k n q lv (.int v :: st) (tw (xG E) o ad f g)) : G E k n pc lv (.ref o :: st) (tw (xG E) o ad f g) := by
  subst hv
  exact g_get C 0 fi_T rfl rfl (j := 21) (by decide) rfl w_797 (Or.inl rfl) hd hq kk
theorem tp_197 (C : Cx E "PpmTreesModel" cc) {v : Int32} (hd : decode cc pc = .ok (.putfield 197, 3)) (hq : pc + 3 = q) (kk : G E k n q lv st (tw (xG E) o ad (upd f 21 v) g)) : G E k n pc lv (.int v :: .ref o :: st) (tw (xG E) o ad f g) :=
  g_put C 0 fi_T fty_T_ok fn_T rfl rfl (j := 21) (ty := .int) (by decide) (Nat.le_of_ble_eq_true rfl) w_797 (Or.inl rfl) rfl (by decide +kernel) rfl rfl hd hq kk
theorem tg_203 (C : Cx E "PpmTreesModel" cc) {v : Int32} (hd : decode cc pc = .ok (.getfield 203, 3)) (hq : pc + 3 = q) (hv : f 22 = v) (kk : G E k n q lv (.int v :: st) (tw (xG E) o ad f g)) : G E k n pc lv (.ref o :: st) (tw (xG E) o ad f g) := by
  subst hv
  exact g_get C 0 fi_T rfl rfl (j := 22) (by decide) rfl w_800 (Or.inl rfl) hd hq kk
theorem tp_203 (C : Cx E "PpmTreesModel" cc) {v : Int32} (hd : decode cc pc = .ok (.putfield 203, 3)) (hq : pc + 3 = q) (kk : G E k n q lv st (tw (xG E) o ad (upd f 22 v) g)) : G E k n pc lv (.int v :: .ref o :: st) (tw (xG E) o ad f g) :=
  g_put C 0 fi_T fty_T_ok fn_T rfl rfl (j := 22) (ty := .int) (by decide) (Nat.le_of_ble_eq_true rfl) w_800 (Or.inl rfl) rfl (by decide +kernel) rfl rfl hd hq kk
theorem tg_200 (C : Cx E "PpmTreesModel" cc) {v : Int32} (hd : decode cc pc = .ok (.getfield 200, 3)) (hq : pc + 3 = q) (hv : f 23 = v) (kk : G E k n q lv (.int v :: st) (tw (xG E) o ad f g)) : G E k n pc lv (.ref o :: st) (tw (xG E) o ad f g) := by
  subst hv
  exact g_get C 0 fi_T rfl rfl (j := 23) (by decide) rfl w_801 (Or.inl rfl) hd hq kk
theorem tp_200 (C : Cx E "PpmTreesModel" cc) {v : Int32} (hd : decode cc pc = .ok (.putfield 200, 3)) (hq : pc + 3 = q) (kk : G E k n q lv st (tw (xG E) o ad (upd f 23 v) g)) : G E k n pc lv (.int v :: .ref o :: st) (tw (xG E) o ad f g) :=
  g_put C 0 fi_T fty_T_ok fn_T rfl rfl (j := 23) (ty := .int) (by decide) (Nat.le_of_ble_eq_true rfl) w_801 (Or.inl rfl) rfl (by decide +kernel) rfl rfl hd hq kk
theorem tg_65 (C : Cx E "PpmTreesModel" cc) {v : Int32} (hd : decode cc pc = .ok (.getfield 65, 3)) (hq : pc + 3 = q) (hv : f 24 = v) (kk : G E k n q lv (.int v :: st) (tw (xG E) o ad f g)) : G E k n pc lv (.ref o :: st) (tw (xG E) o ad f g) := by
  subst hv
  exact g_get C 0 fi_T rfl rfl (j := 24) (by decide) rfl w_802 (Or.inl rfl) hd hq kk
theorem tp_65 (C : Cx E "PpmTreesModel" cc) {v : Int32} (hd : decode cc pc = .ok (.putfield 65, 3)) (hq : pc + 3 = q) (kk : G E k n q lv st (tw (xG E) o ad (upd f 24 v) g)) : G E k n pc lv (.int v :: .ref o :: st) (tw (xG E) o ad f g) :=
  g_put C 0 fi_T fty_T_ok fn_T rfl rfl (j := 24) (ty := .int) (by decide) (Nat.le_of_ble_eq_true rfl) w_802 (Or.inl rfl) rfl (by decide +kernel) rfl rfl hd hq kk
theorem tg_222 (C : Cx E "PpmTreesModel" cc) {v : Int32} (hd : decode cc pc = .ok (.getfield 222, 3)) (hq : pc + 3 = q) (hv : f 25 = v) (kk : G E k n q lv (.int v :: st) (tw (xG E) o ad f g)) : G E k n pc lv (.ref o :: st) (tw (xG E) o ad f g) := by
  subst hv
  exact g_get C 0 fi_T rfl rfl (j := 25) (by decide) rfl w_803 (Or.inl rfl) hd hq kk
theorem tp_222 (C : Cx E "PpmTreesModel" cc) {v : Int32} (hd : decode cc pc = .ok (.putfield 222, 3)) (hq : pc + 3 = q) (kk : G E k n q lv st (tw (xG E) o ad (upd f 25 v) g)) : G E k n pc lv (.int v :: .ref o :: st) (tw (xG E) o ad f g) :=
  g_put C 0 fi_T fty_T_ok fn_T rfl rfl (j := 25) (ty := .int) (by decide) (Nat.le_of_ble_eq_true rfl) w_803 (Or.inl rfl) rfl (by decide +kernel) rfl rfl hd hq kk
theorem tg_216 (C : Cx E "PpmTreesModel" cc) {v : Int32} (hd : decode cc pc = .ok (.getfield 216, 3)) (hq : pc + 3 = q) (hv : f 26 = v) (kk : G E k n q lv (.int v :: st) (tw (xG E) o ad f g)) : G E k n pc lv (.ref o :: st) (tw (xG E) o ad f g) := by
  subst hv
  exact g_get C 0 fi_T rfl rfl (j := 26) (by decide) rfl w_805 (Or.inl rfl) hd hq kk
theorem tp_216 (C : Cx E "PpmTreesModel" cc) {v : Int32} (hd : decode cc pc = .ok (.putfield 216, 3)) (hq : pc + 3 = q) (kk : G E k n q lv st (tw (xG E) o ad (upd f 26 v) g)) : G E k n pc lv (.int v :: .ref o :: st) (tw (xG E) o ad f g) :=
  g_put C 0 fi_T fty_T_ok fn_T rfl rfl (j := 26) (ty := .int) (by decide) (Nat.le_of_ble_eq_true rfl) w_805 (Or.inl rfl) rfl (by decide +kernel) rfl rfl hd hq kk
theorem tg_7 (C : Cx E "PpmTreesModel" cc) (hd : decode cc pc = .ok (.getfield 7, 3)) (hq : pc + 3 = q) (kk : G E k n q lv (.ref (ad 0) :: st) (tw (xG E) o ad f g)) : G E k n pc lv (.ref o :: st) (tw (xG E) o ad f g) :=
  g_get C 0 fi_T rfl rfl (j := 27) (by decide) rfl w_764 (Or.inl rfl) hd hq kk
theorem ta_0 (C : Cx E "PpmTreesModel" cc) {i v : Int32} {t : Nat} (hd : decode cc pc = .ok (.iaload, 1)) (hq : pc + 1 = q) (hi : i = nI t) (hlt : t < 300) (hv : g 0 t = v) (kk : G E k n q lv (.int v :: st) (tw (xG E) o ad f g)) : G E k n pc lv (.int i :: .ref (ad 0) :: st) (tw (xG E) o ad f g) := by
  subst hv
  subst hi
  exact g_iald C 1 rfl (vp_in_nI hlt (by decide)) hd hq (by rw [nI_clamp (by omega)]; exact kk)
theorem ts_0 (C : Cx E "PpmTreesModel" cc) {i x : Int32} {t : Nat} (hd : decode cc pc = .ok (.iastore, 1)) (hq : pc + 1 = q) (hi : i = nI t) (hlt : t < 300) (kk : G E k n q lv st (tw (xG E) o ad f (updA g 0 (upd (g 0) t x)))) : G E k n pc lv (.int x :: .int i :: .ref (ad 0) :: st) (tw (xG E) o ad f g) := by
  subst hi
  refine g_iast C 1 rfl (vp_in_nI hlt (by decide)) hd hq ?_
  rw [nI_clamp (by omega)]
  exact kk
theorem tg_13 (C : Cx E "PpmTreesModel" cc) (hd : decode cc pc = .ok (.getfield 13, 3)) (hq : pc + 3 = q) (kk : G E k n q lv (.ref (ad 1) :: st) (tw (xG E) o ad f g)) : G E k n pc lv (.ref o :: st) (tw (xG E) o ad f g) :=
  g_get C 0 fi_T rfl rfl (j := 28) (by decide) rfl w_766 (Or.inl rfl) hd hq kk
theorem ta_1 (C : Cx E "PpmTreesModel" cc) {i v : Int32} {t : Nat} (hd : decode cc pc = .ok (.iaload, 1)) (hq : pc + 1 = q) (hi : i = nI t) (hlt : t < 6000) (hv : g 1 t = v) (kk : G E k n q lv (.int v :: st) (tw (xG E) o ad f g)) : G E k n pc lv (.int i :: .ref (ad 1) :: st) (tw (xG E) o ad f g) := by
  subst hv
  subst hi
  exact g_iald C 2 rfl (vp_in_nI hlt (by decide)) hd hq (by rw [nI_clamp (by omega)]; exact kk)
theorem ts_1 (C : Cx E "PpmTreesModel" cc) {i x : Int32} {t : Nat} (hd : decode cc pc = .ok (.iastore, 1)) (hq : pc + 1 = q) (hi : i = nI t) (hlt : t < 6000) (kk : G E k n q lv st (tw (xG E) o ad f (updA g 1 (upd (g 1) t x)))) : G E k n pc lv (.int x :: .int i :: .ref (ad 1) :: st) (tw (xG E) o ad f g) := by
  subst hi
  refine g_iast C 2 rfl (vp_in_nI hlt (by decide)) hd hq ?_
  rw [nI_clamp (by omega)]
  exact kk
theorem tg_16 (C : Cx E "PpmTreesModel" cc) (hd : decode cc pc = .ok (.getfield 16, 3)) (hq : pc + 3 = q) (kk : G E k n q lv (.ref (ad 2) :: st) (tw (xG E) o ad f g)) : G E k n pc lv (.ref o :: st) (tw (xG E) o ad f g) :=
  g_get C 0 fi_T rfl rfl (j := 29) (by decide) rfl w_768 (Or.inl rfl) hd hq kk
theorem ta_2 (C : Cx E "PpmTreesModel" cc) {i v : Int32} {t : Nat} (hd : decode cc pc = .ok (.iaload, 1)) (hq : pc + 1 = q) (hi : i = nI t) (hlt : t < 300) (hv : g 2 t = v) (kk : G E k n q lv (.int v :: st) (tw (xG E) o ad f g)) : G E k n pc lv (.int i :: .ref (ad 2) :: st) (tw (xG E) o ad f g) := by
  subst hv
  subst hi
  exact g_iald C 3 rfl (vp_in_nI hlt (by decide)) hd hq (by rw [nI_clamp (by omega)]; exact kk)
theorem ts_2 (C : Cx E "PpmTreesModel" cc) {i x : Int32} {t : Nat} (hd : decode cc pc = .ok (.iastore, 1)) (hq : pc + 1 = q) (hi : i = nI t) (hlt : t < 300) (kk : G E k n q lv st (tw (xG E) o ad f (updA g 2 (upd (g 2) t x)))) : G E k n pc lv (.int x :: .int i :: .ref (ad 2) :: st) (tw (xG E) o ad f g) := by
  subst hi
  refine g_iast C 3 rfl (vp_in_nI hlt (by decide)) hd hq ?_
  rw [nI_clamp (by omega)]
  exact kk
theorem tg_19 (C : Cx E "PpmTreesModel" cc) (hd : decode cc pc = .ok (.getfield 19, 3)) (hq : pc + 3 = q) (kk : G E k n q lv (.ref (ad 3) :: st) (tw (xG E) o ad f g)) : G E k n pc lv (.ref o :: st) (tw (xG E) o ad f g) :=
  g_get C 0 fi_T rfl rfl (j := 30) (by decide) rfl w_769 (Or.inl rfl) hd hq kk
theorem ta_3 (C : Cx E "PpmTreesModel" cc) {i v : Int32} {t : Nat} (hd : decode cc pc = .ok (.iaload, 1)) (hq : pc + 1 = q) (hi : i = nI t) (hlt : t < 7) (hv : g 3 t = v) (kk : G E k n q lv (.int v :: st) (tw (xG E) o ad f g)) : G E k n pc lv (.int i :: .ref (ad 3) :: st) (tw (xG E) o ad f g) := by
  subst hv
  subst hi
  exact g_iald C 4 rfl (vp_in_nI hlt (by decide)) hd hq (by rw [nI_clamp (by omega)]; exact kk)
theorem ts_3 (C : Cx E "PpmTreesModel" cc) {i x : Int32} {t : Nat} (hd : decode cc pc = .ok (.iastore, 1)) (hq : pc + 1 = q) (hi : i = nI t) (hlt : t < 7) (kk : G E k n q lv st (tw (xG E) o ad f (updA g 3 (upd (g 3) t x)))) : G E k n pc lv (.int x :: .int i :: .ref (ad 3) :: st) (tw (xG E) o ad f g) := by
  subst hi
  refine g_iast C 4 rfl (vp_in_nI hlt (by decide)) hd hq ?_
  rw [nI_clamp (by omega)]
  exact kk
theorem tg_22 (C : Cx E "PpmTreesModel" cc) (hd : decode cc pc = .ok (.getfield 22, 3)) (hq : pc + 3 = q) (kk : G E k n q lv (.ref (ad 4) :: st) (tw (xG E) o ad f g)) : G E k n pc lv (.ref o :: st) (tw (xG E) o ad f g) :=
  g_get C 0 fi_T rfl rfl (j := 31) (by decide) rfl w_770 (Or.inl rfl) hd hq kk
theorem ta_4 (C : Cx E "PpmTreesModel" cc) {i v : Int32} {t : Nat} (hd : decode cc pc = .ok (.iaload, 1)) (hq : pc + 1 = q) (hi : i = nI t) (hlt : t < 10500) (hv : g 4 t = v) (kk : G E k n q lv (.int v :: st) (tw (xG E) o ad f g)) : G E k n pc lv (.int i :: .ref (ad 4) :: st) (tw (xG E) o ad f g) := by
  subst hv
  subst hi
  exact g_iald C 5 rfl (vp_in_nI hlt (by decide)) hd hq (by rw [nI_clamp (by omega)]; exact kk)
theorem ts_4 (C : Cx E "PpmTreesModel" cc) {i x : Int32} {t : Nat} (hd : decode cc pc = .ok (.iastore, 1)) (hq : pc + 1 = q) (hi : i = nI t) (hlt : t < 10500) (kk : G E k n q lv st (tw (xG E) o ad f (updA g 4 (upd (g 4) t x)))) : G E k n pc lv (.int x :: .int i :: .ref (ad 4) :: st) (tw (xG E) o ad f g) := by
  subst hi
  refine g_iast C 5 rfl (vp_in_nI hlt (by decide)) hd hq ?_
  rw [nI_clamp (by omega)]
  exact kk
theorem tg_25 (C : Cx E "PpmTreesModel" cc) (hd : decode cc pc = .ok (.getfield 25, 3)) (hq : pc + 3 = q) (kk : G E k n q lv (.ref (ad 5) :: st) (tw (xG E) o ad f g)) : G E k n pc lv (.ref o :: st) (tw (xG E) o ad f g) :=
  g_get C 0 fi_T rfl rfl (j := 32) (by decide) rfl w_771 (Or.inl rfl) hd hq kk
theorem ta_5 (C : Cx E "PpmTreesModel" cc) {i v : Int32} {t : Nat} (hd : decode cc pc = .ok (.iaload, 1)) (hq : pc + 1 = q) (hi : i = nI t) (hlt : t < 10500) (hv : g 5 t = v) (kk : G E k n q lv (.int v :: st) (tw (xG E) o ad f g)) : G E k n pc lv (.int i :: .ref (ad 5) :: st) (tw (xG E) o ad f g) := by
  subst hv
  subst hi
  exact g_iald C 6 rfl (vp_in_nI hlt (by decide)) hd hq (by rw [nI_clamp (by omega)]; exact kk)
theorem ts_5 (C : Cx E "PpmTreesModel" cc) {i x : Int32} {t : Nat} (hd : decode cc pc = .ok (.iastore, 1)) (hq : pc + 1 = q) (hi : i = nI t) (hlt : t < 10500) (kk : G E k n q lv st (tw (xG E) o ad f (updA g 5 (upd (g 5) t x)))) : G E k n pc lv (.int x :: .int i :: .ref (ad 5) :: st) (tw (xG E) o ad f g) := by
  subst hi
  refine g_iast C 6 rfl (vp_in_nI hlt (by decide)) hd hq ?_
  rw [nI_clamp (by omega)]
  exact kk
theorem tg_28 (C : Cx E "PpmTreesModel" cc) (hd : decode cc pc = .ok (.getfield 28, 3)) (hq : pc + 3 = q) (kk : G E k n q lv (.ref (ad 6) :: st) (tw (xG E) o ad f g)) : G E k n pc lv (.ref o :: st) (tw (xG E) o ad f g) :=
  g_get C 0 fi_T rfl rfl (j := 33) (by decide) rfl w_772 (Or.inl rfl) hd hq kk
theorem ta_6 (C : Cx E "PpmTreesModel" cc) {i v : Int32} {t : Nat} (hd : decode cc pc = .ok (.iaload, 1)) (hq : pc + 1 = q) (hi : i = nI t) (hlt : t < 10500) (hv : g 6 t = v) (kk : G E k n q lv (.int v :: st) (tw (xG E) o ad f g)) : G E k n pc lv (.int i :: .ref (ad 6) :: st) (tw (xG E) o ad f g) := by
  subst hv
  subst hi
  exact g_iald C 7 rfl (vp_in_nI hlt (by decide)) hd hq (by rw [nI_clamp (by omega)]; exact kk)
theorem ts_6 (C : Cx E "PpmTreesModel" cc) {i x : Int32} {t : Nat} (hd : decode cc pc = .ok (.iastore, 1)) (hq : pc + 1 = q) (hi : i = nI t) (hlt : t < 10500) (kk : G E k n q lv st (tw (xG E) o ad f (updA g 6 (upd (g 6) t x)))) : G E k n pc lv (.int x :: .int i :: .ref (ad 6) :: st) (tw (xG E) o ad f g) := by
  subst hi
  refine g_iast C 7 rfl (vp_in_nI hlt (by decide)) hd hq ?_
  rw [nI_clamp (by omega)]
  exact kk
theorem tg_31 (C : Cx E "PpmTreesModel" cc) (hd : decode cc pc = .ok (.getfield 31, 3)) (hq : pc + 3 = q) (kk : G E k n q lv (.ref (ad 7) :: st) (tw (xG E) o ad f g)) : G E k n pc lv (.ref o :: st) (tw (xG E) o ad f g) :=
  g_get C 0 fi_T rfl rfl (j := 34) (by decide) rfl w_773 (Or.inl rfl) hd hq kk
theorem ta_7 (C : Cx E "PpmTreesModel" cc) {i v : Int32} {t : Nat} (hd : decode cc pc = .ok (.iaload, 1)) (hq : pc + 1 = q) (hi : i = nI t) (hlt : t < 7) (hv : g 7 t = v) (kk : G E k n q lv (.int v :: st) (tw (xG E) o ad f g)) : G E k n pc lv (.int i :: .ref (ad 7) :: st) (tw (xG E) o ad f g) := by
  subst hv
  subst hi
  exact g_iald C 8 rfl (vp_in_nI hlt (by decide)) hd hq (by rw [nI_clamp (by omega)]; exact kk)
theorem ts_7 (C : Cx E "PpmTreesModel" cc) {i x : Int32} {t : Nat} (hd : decode cc pc = .ok (.iastore, 1)) (hq : pc + 1 = q) (hi : i = nI t) (hlt : t < 7) (kk : G E k n q lv st (tw (xG E) o ad f (updA g 7 (upd (g 7) t x)))) : G E k n pc lv (.int x :: .int i :: .ref (ad 7) :: st) (tw (xG E) o ad f g) := by
  subst hi
  refine g_iast C 8 rfl (vp_in_nI hlt (by decide)) hd hq ?_
  rw [nI_clamp (by omega)]
  exact kk
theorem tg_34 (C : Cx E "PpmTreesModel" cc) (hd : decode cc pc = .ok (.getfield 34, 3)) (hq : pc + 3 = q) (kk : G E k n q lv (.ref (ad 8) :: st) (tw (xG E) o ad f g)) : G E k n pc lv (.ref o :: st) (tw (xG E) o ad f g) :=
  g_get C 0 fi_T rfl rfl (j := 35) (by decide) rfl w_774 (Or.inl rfl) hd hq kk
theorem ta_8 (C : Cx E "PpmTreesModel" cc) {i v : Int32} {t : Nat} (hd : decode cc pc = .ok (.iaload, 1)) (hq : pc + 1 = q) (hi : i = nI t) (hlt : t < 28) (hv : g 8 t = v) (kk : G E k n q lv (.int v :: st) (tw (xG E) o ad f g)) : G E k n pc lv (.int i :: .ref (ad 8) :: st) (tw (xG E) o ad f g) := by
  subst hv
  subst hi
  exact g_iald C 9 rfl (vp_in_nI hlt (by decide)) hd hq (by rw [nI_clamp (by omega)]; exact kk)
theorem ts_8 (C : Cx E "PpmTreesModel" cc) {i x : Int32} {t : Nat} (hd : decode cc pc = .ok (.iastore, 1)) (hq : pc + 1 = q) (hi : i = nI t) (hlt : t < 28) (kk : G E k n q lv st (tw (xG E) o ad f (updA g 8 (upd (g 8) t x)))) : G E k n pc lv (.int x :: .int i :: .ref (ad 8) :: st) (tw (xG E) o ad f g) := by
  subst hi
  refine g_iast C 9 rfl (vp_in_nI hlt (by decide)) hd hq ?_
  rw [nI_clamp (by omega)]
  exact kk
theorem tg_37 (C : Cx E "PpmTreesModel" cc) (hd : decode cc pc = .ok (.getfield 37, 3)) (hq : pc + 3 = q) (kk : G E k n q lv (.ref (ad 9) :: st) (tw (xG E) o ad f g)) : G E k n pc lv (.ref o :: st) (tw (xG E) o ad f g) :=
  g_get C 0 fi_T rfl rfl (j := 36) (by decide) rfl w_775 (Or.inl rfl) hd hq kk
theorem ta_9 (C : Cx E "PpmTreesModel" cc) {i v : Int32} {t : Nat} (hd : decode cc pc = .ok (.iaload, 1)) (hq : pc + 1 = q) (hi : i = nI t) (hlt : t < 2) (hv : g 9 t = v) (kk : G E k n q lv (.int v :: st) (tw (xG E) o ad f g)) : G E k n pc lv (.int i :: .ref (ad 9) :: st) (tw (xG E) o ad f g) := by
  subst hv
  subst hi
  exact g_iald C 10 rfl (vp_in_nI hlt (by decide)) hd hq (by rw [nI_clamp (by omega)]; exact kk)
theorem ts_9 (C : Cx E "PpmTreesModel" cc) {i x : Int32} {t : Nat} (hd : decode cc pc = .ok (.iastore, 1)) (hq : pc + 1 = q) (hi : i = nI t) (hlt : t < 2) (kk : G E k n q lv st (tw (xG E) o ad f (updA g 9 (upd (g 9) t x)))) : G E k n pc lv (.int x :: .int i :: .ref (ad 9) :: st) (tw (xG E) o ad f g) := by
  subst hi
  refine g_iast C 10 rfl (vp_in_nI hlt (by decide)) hd hq ?_
  rw [nI_clamp (by omega)]
  exact kk
theorem tg_40 (C : Cx E "PpmTreesModel" cc) (hd : decode cc pc = .ok (.getfield 40, 3)) (hq : pc + 3 = q) (kk : G E k n q lv (.ref (ad 10) :: st) (tw (xG E) o ad f g)) : G E k n pc lv (.ref o :: st) (tw (xG E) o ad f g) :=
  g_get C 0 fi_T rfl rfl (j := 37) (by decide) rfl w_777 (Or.inl rfl) hd hq kk
theorem ta_10 (C : Cx E "PpmTreesModel" cc) {i v : Int32} {t : Nat} (hd : decode cc pc = .ok (.baload, 1)) (hq : pc + 1 = q) (hi : i = nI t) (hlt : t < 257) (hv : g 10 t = v) (kk : G E k n q lv (.int v :: st) (tw (xG E) o ad f g)) : G E k n pc lv (.int i :: .ref (ad 10) :: st) (tw (xG E) o ad f g) := by
  subst hv
  subst hi
  exact g_zald C 11 rfl (vp_in_nI hlt (by decide)) hd hq (by rw [nI_clamp (by omega)]; exact kk)
theorem ts_10 (C : Cx E "PpmTreesModel" cc) {i x : Int32} {t : Nat} (hd : decode cc pc = .ok (.bastore, 1)) (hq : pc + 1 = q) (hi : i = nI t) (hlt : t < 257) (hz : x = 0 ∨ x = 1) (kk : G E k n q lv st (tw (xG E) o ad f (updA g 10 (upd (g 10) t x)))) : G E k n pc lv (.int x :: .int i :: .ref (ad 10) :: st) (tw (xG E) o ad f g) := by
  subst hi
  refine g_zast C 11 rfl (vp_in_nI hlt (by decide)) hd hq ?_
  rw [nI_clamp (by omega)]
  rw [show vp_nar .boolean x = x by rcases hz with rfl | rfl <;> rfl]
  exact kk
theorem tg_44 (C : Cx E "PpmTreesModel" cc) (hd : decode cc pc = .ok (.getfield 44, 3)) (hq : pc + 3 = q) (kk : G E k n q lv (.ref (ad 11) :: st) (tw (xG E) o ad f g)) : G E k n pc lv (.ref o :: st) (tw (xG E) o ad f g) :=
  g_get C 0 fi_T rfl rfl (j := 38) (by decide) rfl w_779 (Or.inl rfl) hd hq kk
theorem ta_11 (C : Cx E "PpmTreesModel" cc) {i v : Int32} {t : Nat} (hd : decode cc pc = .ok (.iaload, 1)) (hq : pc + 1 = q) (hi : i = nI t) (hlt : t < 256) (hv : g 11 t = v) (kk : G E k n q lv (.int v :: st) (tw (xG E) o ad f g)) : G E k n pc lv (.int i :: .ref (ad 11) :: st) (tw (xG E) o ad f g) := by
  subst hv
  subst hi
  exact g_iald C 12 rfl (vp_in_nI hlt (by decide)) hd hq (by rw [nI_clamp (by omega)]; exact kk)
theorem ts_11 (C : Cx E "PpmTreesModel" cc) {i x : Int32} {t : Nat} (hd : decode cc pc = .ok (.iastore, 1)) (hq : pc + 1 = q) (hi : i = nI t) (hlt : t < 256) (kk : G E k n q lv st (tw (xG E) o ad f (updA g 11 (upd (g 11) t x)))) : G E k n pc lv (.int x :: .int i :: .ref (ad 11) :: st) (tw (xG E) o ad f g) := by
  subst hi
  refine g_iast C 12 rfl (vp_in_nI hlt (by decide)) hd hq ?_
  rw [nI_clamp (by omega)]
  exact kk
theorem tg_47 (C : Cx E "PpmTreesModel" cc) (hd : decode cc pc = .ok (.getfield 47, 3)) (hq : pc + 3 = q) (kk : G E k n q lv (.ref (ad 12) :: st) (tw (xG E) o ad f g)) : G E k n pc lv (.ref o :: st) (tw (xG E) o ad f g) :=
  g_get C 0 fi_T rfl rfl (j := 39) (by decide) rfl w_790 (Or.inl rfl) hd hq kk
theorem ta_12 (C : Cx E "PpmTreesModel" cc) {i v : Int32} {t : Nat} (hd : decode cc pc = .ok (.iaload, 1)) (hq : pc + 1 = q) (hi : i = nI t) (hlt : t < 6000) (hv : g 12 t = v) (kk : G E k n q lv (.int v :: st) (tw (xG E) o ad f g)) : G E k n pc lv (.int i :: .ref (ad 12) :: st) (tw (xG E) o ad f g) := by
  subst hv
  subst hi
  exact g_iald C 13 rfl (vp_in_nI hlt (by decide)) hd hq (by rw [nI_clamp (by omega)]; exact kk)
theorem ts_12 (C : Cx E "PpmTreesModel" cc) {i x : Int32} {t : Nat} (hd : decode cc pc = .ok (.iastore, 1)) (hq : pc + 1 = q) (hi : i = nI t) (hlt : t < 6000) (kk : G E k n q lv st (tw (xG E) o ad f (updA g 12 (upd (g 12) t x)))) : G E k n pc lv (.int x :: .int i :: .ref (ad 12) :: st) (tw (xG E) o ad f g) := by
  subst hi
  refine g_iast C 13 rfl (vp_in_nI hlt (by decide)) hd hq ?_
  rw [nI_clamp (by omega)]
  exact kk
theorem tg_50 (C : Cx E "PpmTreesModel" cc) (hd : decode cc pc = .ok (.getfield 50, 3)) (hq : pc + 3 = q) (kk : G E k n q lv (.ref (ad 13) :: st) (tw (xG E) o ad f g)) : G E k n pc lv (.ref o :: st) (tw (xG E) o ad f g) :=
  g_get C 0 fi_T rfl rfl (j := 40) (by decide) rfl w_793 (Or.inl rfl) hd hq kk
theorem ta_13 (C : Cx E "PpmTreesModel" cc) {i v : Int32} {t : Nat} (hd : decode cc pc = .ok (.iaload, 1)) (hq : pc + 1 = q) (hi : i = nI t) (hlt : t < 301) (hv : g 13 t = v) (kk : G E k n q lv (.int v :: st) (tw (xG E) o ad f g)) : G E k n pc lv (.int i :: .ref (ad 13) :: st) (tw (xG E) o ad f g) := by
  subst hv
  subst hi
  exact g_iald C 14 rfl (vp_in_nI hlt (by decide)) hd hq (by rw [nI_clamp (by omega)]; exact kk)
theorem ts_13 (C : Cx E "PpmTreesModel" cc) {i x : Int32} {t : Nat} (hd : decode cc pc = .ok (.iastore, 1)) (hq : pc + 1 = q) (hi : i = nI t) (hlt : t < 301) (kk : G E k n q lv st (tw (xG E) o ad f (updA g 13 (upd (g 13) t x)))) : G E k n pc lv (.int x :: .int i :: .ref (ad 13) :: st) (tw (xG E) o ad f g) := by
  subst hi
  refine g_iast C 14 rfl (vp_in_nI hlt (by decide)) hd hq ?_
  rw [nI_clamp (by omega)]
  exact kk
theorem tg_53 (C : Cx E "PpmTreesModel" cc) (hd : decode cc pc = .ok (.getfield 53, 3)) (hq : pc + 3 = q) (kk : G E k n q lv (.ref (ad 14) :: st) (tw (xG E) o ad f g)) : G E k n pc lv (.ref o :: st) (tw (xG E) o ad f g) :=
  g_get C 0 fi_T rfl rfl (j := 41) (by decide) rfl w_794 (Or.inl rfl) hd hq kk
theorem ta_14 (C : Cx E "PpmTreesModel" cc) {i v : Int32} {t : Nat} (hd : decode cc pc = .ok (.iaload, 1)) (hq : pc + 1 = q) (hi : i = nI t) (hlt : t < 301) (hv : g 14 t = v) (kk : G E k n q lv (.int v :: st) (tw (xG E) o ad f g)) : G E k n pc lv (.int i :: .ref (ad 14) :: st) (tw (xG E) o ad f g) := by
  subst hv
  subst hi
  exact g_iald C 15 rfl (vp_in_nI hlt (by decide)) hd hq (by rw [nI_clamp (by omega)]; exact kk)
theorem ts_14 (C : Cx E "PpmTreesModel" cc) {i x : Int32} {t : Nat} (hd : decode cc pc = .ok (.iastore, 1)) (hq : pc + 1 = q) (hi : i = nI t) (hlt : t < 301) (kk : G E k n q lv st (tw (xG E) o ad f (updA g 14 (upd (g 14) t x)))) : G E k n pc lv (.int x :: .int i :: .ref (ad 14) :: st) (tw (xG E) o ad f g) := by
  subst hi
  refine g_iast C 15 rfl (vp_in_nI hlt (by decide)) hd hq ?_
  rw [nI_clamp (by omega)]
  exact kk
theorem tg_56 (C : Cx E "PpmTreesModel" cc) (hd : decode cc pc = .ok (.getfield 56, 3)) (hq : pc + 3 = q) (kk : G E k n q lv (.ref (ad 15) :: st) (tw (xG E) o ad f g)) : G E k n pc lv (.ref o :: st) (tw (xG E) o ad f g) :=
  g_get C 0 fi_T rfl rfl (j := 42) (by decide) rfl w_796 (Or.inl rfl) hd hq kk
theorem ta_15 (C : Cx E "PpmTreesModel" cc) {i v : Int32} {t : Nat} (hd : decode cc pc = .ok (.iaload, 1)) (hq : pc + 1 = q) (hi : i = nI t) (hlt : t < 3) (hv : g 15 t = v) (kk : G E k n q lv (.int v :: st) (tw (xG E) o ad f g)) : G E k n pc lv (.int i :: .ref (ad 15) :: st) (tw (xG E) o ad f g) := by
  subst hv
  subst hi
  exact g_iald C 16 rfl (vp_in_nI hlt (by decide)) hd hq (by rw [nI_clamp (by omega)]; exact kk)
theorem ts_15 (C : Cx E "PpmTreesModel" cc) {i x : Int32} {t : Nat} (hd : decode cc pc = .ok (.iastore, 1)) (hq : pc + 1 = q) (hi : i = nI t) (hlt : t < 3) (kk : G E k n q lv st (tw (xG E) o ad f (updA g 15 (upd (g 15) t x)))) : G E k n pc lv (.int x :: .int i :: .ref (ad 15) :: st) (tw (xG E) o ad f g) := by
  subst hi
  refine g_iast C 16 rfl (vp_in_nI hlt (by decide)) hd hq ?_
  rw [nI_clamp (by omega)]
  exact kk
theorem tg_59 (C : Cx E "PpmTreesModel" cc) (hd : decode cc pc = .ok (.getfield 59, 3)) (hq : pc + 3 = q) (kk : G E k n q lv (.ref (ad 16) :: st) (tw (xG E) o ad f g)) : G E k n pc lv (.ref o :: st) (tw (xG E) o ad f g) :=
  g_get C 0 fi_T rfl rfl (j := 43) (by decide) rfl w_798 (Or.inl rfl) hd hq kk
theorem ta_16 (C : Cx E "PpmTreesModel" cc) {i v : Int32} {t : Nat} (hd : decode cc pc = .ok (.iaload, 1)) (hq : pc + 1 = q) (hi : i = nI t) (hlt : t < 301) (hv : g 16 t = v) (kk : G E k n q lv (.int v :: st) (tw (xG E) o ad f g)) : G E k n pc lv (.int i :: .ref (ad 16) :: st) (tw (xG E) o ad f g) := by
  subst hv
  subst hi
  exact g_iald C 17 rfl (vp_in_nI hlt (by decide)) hd hq (by rw [nI_clamp (by omega)]; exact kk)
theorem ts_16 (C : Cx E "PpmTreesModel" cc) {i x : Int32} {t : Nat} (hd : decode cc pc = .ok (.iastore, 1)) (hq : pc + 1 = q) (hi : i = nI t) (hlt : t < 301) (kk : G E k n q lv st (tw (xG E) o ad f (updA g 16 (upd (g 16) t x)))) : G E k n pc lv (.int x :: .int i :: .ref (ad 16) :: st) (tw (xG E) o ad f g) := by
  subst hi
  refine g_iast C 17 rfl (vp_in_nI hlt (by decide)) hd hq ?_
  rw [nI_clamp (by omega)]
  exact kk
theorem tg_62 (C : Cx E "PpmTreesModel" cc) (hd : decode cc pc = .ok (.getfield 62, 3)) (hq : pc + 3 = q) (kk : G E k n q lv (.ref (ad 17) :: st) (tw (xG E) o ad f g)) : G E k n pc lv (.ref o :: st) (tw (xG E) o ad f g) :=
  g_get C 0 fi_T rfl rfl (j := 44) (by decide) rfl w_799 (Or.inl rfl) hd hq kk
theorem ta_17 (C : Cx E "PpmTreesModel" cc) {i v : Int32} {t : Nat} (hd : decode cc pc = .ok (.iaload, 1)) (hq : pc + 1 = q) (hi : i = nI t) (hlt : t < 301) (hv : g 17 t = v) (kk : G E k n q lv (.int v :: st) (tw (xG E) o ad f g)) : G E k n pc lv (.int i :: .ref (ad 17) :: st) (tw (xG E) o ad f g) := by
  subst hv
  subst hi
  exact g_iald C 18 rfl (vp_in_nI hlt (by decide)) hd hq (by rw [nI_clamp (by omega)]; exact kk)
theorem ts_17 (C : Cx E "PpmTreesModel" cc) {i x : Int32} {t : Nat} (hd : decode cc pc = .ok (.iastore, 1)) (hq : pc + 1 = q) (hi : i = nI t) (hlt : t < 301) (kk : G E k n q lv st (tw (xG E) o ad f (updA g 17 (upd (g 17) t x)))) : G E k n pc lv (.int x :: .int i :: .ref (ad 17) :: st) (tw (xG E) o ad f g) := by
  subst hi
  refine g_iast C 18 rfl (vp_in_nI hlt (by decide)) hd hq ?_
  rw [nI_clamp (by omega)]
  exact kk
theorem tg_69 (C : Cx E "PpmTreesModel" cc) (hd : decode cc pc = .ok (.getfield 69, 3)) (hq : pc + 3 = q) (kk : G E k n q lv (.ref (ad 18) :: st) (tw (xG E) o ad f g)) : G E k n pc lv (.ref o :: st) (tw (xG E) o ad f g) :=
  g_get C 0 fi_T rfl rfl (j := 45) (by decide) rfl w_804 (Or.inl rfl) hd hq kk
theorem ta_18 (C : Cx E "PpmTreesModel" cc) {i v : Int32} {t : Nat} (hd : decode cc pc = .ok (.iaload, 1)) (hq : pc + 1 = q) (hi : i = nI t) (hlt : t < 300) (hv : g 18 t = v) (kk : G E k n q lv (.int v :: st) (tw (xG E) o ad f g)) : G E k n pc lv (.int i :: .ref (ad 18) :: st) (tw (xG E) o ad f g) := by
  subst hv
  subst hi
  exact g_iald C 19 rfl (vp_in_nI hlt (by decide)) hd hq (by rw [nI_clamp (by omega)]; exact kk)
theorem ts_18 (C : Cx E "PpmTreesModel" cc) {i x : Int32} {t : Nat} (hd : decode cc pc = .ok (.iastore, 1)) (hq : pc + 1 = q) (hi : i = nI t) (hlt : t < 300) (kk : G E k n q lv st (tw (xG E) o ad f (updA g 18 (upd (g 18) t x)))) : G E k n pc lv (.int x :: .int i :: .ref (ad 18) :: st) (tw (xG E) o ad f g) := by
  subst hi
  refine g_iast C 19 rfl (vp_in_nI hlt (by decide)) hd hq ?_
  rw [nI_clamp (by omega)]
  exact kk
end
