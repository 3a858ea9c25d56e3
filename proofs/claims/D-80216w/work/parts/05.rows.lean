section
variable {E : Ev} {own : String} {cc : ByteArray} {k n pc q tgt : Nat} {lv : LV} {st : List Value} {ws : va_W} {off : Int}
theorem g_wid {k' n' : Nat} (h1 : k ≤ k') (h2 : n ≤ n') (kk : G E k' n' pc lv st ws) : G E k n pc lv st ws := fun H locs ls hP hD hS hl => W.widen h1 h2 (kk H locs ls hP hD hS hl)
theorem g_val {x y : Int32} (h : x = y) (kk : G E k n pc lv (.int y :: st) ws) : G E k n pc lv (.int x :: st) ws := h ▸ kk
theorem g_ws {ws' : va_W} (h : ws = ws') (kk : G E k n pc lv st ws') : G E k n pc lv st ws := h ▸ kk
theorem g_lv {lv' : LV} (h : lv = lv') (kk : G E k n pc lv' st ws) : G E k n pc lv st ws := h ▸ kk
theorem g_st {st' : List Value} (h : st = st') (kk : G E k n pc lv st' ws) : G E k n pc lv st ws := h ▸ kk
/-- fewer locals are known -/
def lvle : LV → LV → Prop
  | [], _ => True
  | none :: t', _ :: t => lvle t' t
  | some v :: t', w :: t => w = some v ∧ lvle t' t
  | _ :: _, [] => False
theorem lvle_get : ∀ (a b : LV), lvle a b → ∀ (i : Nat) (v : Value), a[i]? = some (some v) → b[i]? = some (some v)
  | [], b, _, i, v, h => by simp at h
  | none :: t', [], h0, i, v, h => h0.elim
  | some w :: t', [], h0, i, v, h => h0.elim
  | none :: t', c :: t, h0, 0, v, h => by simp at h
  | none :: t', c :: t, h0, i + 1, v, h => by
    rw [List.getElem?_cons_succ] at h ⊢
    exact lvle_get t' t h0 i v h
  | some w :: t', c :: t, h0, 0, v, h => by
    rw [List.getElem?_cons_zero] at h ⊢
    rw [h0.1]; exact h
  | some w :: t', c :: t, h0, i + 1, v, h => by
    rw [List.getElem?_cons_succ] at h ⊢
    exact lvle_get t' t h0.2 i v h
theorem g_weak {lv' : LV} (h : lvle lv' lv) (kk : G E k n pc lv' st ws) : G E k n pc lv st ws := fun H locs ls hP hD hS hl => kk H locs ls hP hD hS ⟨hl.1, hl.2.1, fun i v hv => hl.2.2 i v (lvle_get _ _ h i v hv)⟩
theorem g_iconst (C : Cx E own cc) {i : Int} {v : Int32} (hd : decode cc pc = .ok (.iconst i, 1)) (hq : pc + 1 = q) (hv : Int32.ofInt i = v) (kk : G E k n q lv (.int v :: st) ws) : G E k n pc lv (st) ws := by
  subst hq
  exact fun H locs ls hP hD hS hl => lv_iconst C.1 C.2.1 hd hv (kk H locs ls hP hD hS hl)
theorem g_bipush (C : Cx E own cc) {i : Int} {v : Int32} (hd : decode cc pc = .ok (.bipush i, 2)) (hq : pc + 2 = q) (hv : (Int8.ofInt i).toInt32 = v) (kk : G E k n q lv (.int v :: st) ws) : G E k n pc lv (st) ws := by
  subst hq
  exact fun H locs ls hP hD hS hl => lv_bipush C.1 C.2.1 hd hv (kk H locs ls hP hD hS hl)
theorem g_sipush (C : Cx E own cc) {i : Int} {v : Int32} (hd : decode cc pc = .ok (.sipush i, 3)) (hq : pc + 3 = q) (hv : (Int16.ofInt i).toInt32 = v) (kk : G E k n q lv (.int v :: st) ws) : G E k n pc lv (st) ws := by
  subst hq
  exact fun H locs ls hP hD hS hl => lv_sipush C.1 C.2.1 hd hv (kk H locs ls hP hD hS hl)
theorem g_ldc (C : Cx E own cc) {i : Nat} {v : Int32} (hd : decode cc pc = .ok (.ldc i, 2)) (hq : pc + 2 = q) (hw : Cond.constant own i v ∈ Tg) (kk : G E k n q lv (.int v :: st) ws) : G E k n pc lv st ws := by
  subst hq
  exact fun H locs ls hP hD hS hl => lv_ldc C.1 C.2.1 C.2.2.2.1 (C.2.2.2.2.1 _ hw) hd (kk H locs ls hP hD hS hl)
theorem g_iadd (C : Cx E own cc) {x y z : Int32} (hd : decode cc pc = .ok (.iadd, 1)) (hq : pc + 1 = q) (hz : x + y = z) (kk : G E k n q lv (.int z :: st) ws) : G E k n pc lv (.int y :: .int x :: st) ws := by
  subst hq
  subst hz
  exact fun H locs ls hP hD hS hl => lv_iadd C.1 C.2.1 hd (kk H locs ls hP hD hS hl)
theorem g_isub (C : Cx E own cc) {x y z : Int32} (hd : decode cc pc = .ok (.isub, 1)) (hq : pc + 1 = q) (hz : x - y = z) (kk : G E k n q lv (.int z :: st) ws) : G E k n pc lv (.int y :: .int x :: st) ws := by
  subst hq
  subst hz
  exact fun H locs ls hP hD hS hl => lv_isub C.1 C.2.1 hd (kk H locs ls hP hD hS hl)
theorem g_imul (C : Cx E own cc) {x y z : Int32} (hd : decode cc pc = .ok (.imul, 1)) (hq : pc + 1 = q) (hz : x * y = z) (kk : G E k n q lv (.int z :: st) ws) : G E k n pc lv (.int y :: .int x :: st) ws := by
  subst hq
  subst hz
  exact fun H locs ls hP hD hS hl => lv_imul C.1 C.2.1 hd (kk H locs ls hP hD hS hl)
theorem g_iand (C : Cx E own cc) {x y z : Int32} (hd : decode cc pc = .ok (.iand, 1)) (hq : pc + 1 = q) (hz : x &&& y = z) (kk : G E k n q lv (.int z :: st) ws) : G E k n pc lv (.int y :: .int x :: st) ws := by
  subst hq
  subst hz
  exact fun H locs ls hP hD hS hl => lv_iand C.1 C.2.1 hd (kk H locs ls hP hD hS hl)
theorem g_ior (C : Cx E own cc) {x y z : Int32} (hd : decode cc pc = .ok (.ior, 1)) (hq : pc + 1 = q) (hz : x ||| y = z) (kk : G E k n q lv (.int z :: st) ws) : G E k n pc lv (.int y :: .int x :: st) ws := by
  subst hq
  subst hz
  exact fun H locs ls hP hD hS hl => lv_ior C.1 C.2.1 hd (kk H locs ls hP hD hS hl)
theorem g_ixor (C : Cx E own cc) {x y z : Int32} (hd : decode cc pc = .ok (.ixor, 1)) (hq : pc + 1 = q) (hz : x ^^^ y = z) (kk : G E k n q lv (.int z :: st) ws) : G E k n pc lv (.int y :: .int x :: st) ws := by
  subst hq
  subst hz
  exact fun H locs ls hP hD hS hl => lv_ixor C.1 C.2.1 hd (kk H locs ls hP hD hS hl)
theorem g_ishl (C : Cx E own cc) {x y z : Int32} (hd : decode cc pc = .ok (.ishl, 1)) (hq : pc + 1 = q) (hz : x <<< (y &&& 31) = z) (kk : G E k n q lv (.int z :: st) ws) : G E k n pc lv (.int y :: .int x :: st) ws := by
  subst hq
  subst hz
  exact fun H locs ls hP hD hS hl => lv_ishl C.1 C.2.1 hd (kk H locs ls hP hD hS hl)
theorem g_ishr (C : Cx E own cc) {x y z : Int32} (hd : decode cc pc = .ok (.ishr, 1)) (hq : pc + 1 = q) (hz : x >>> (y &&& 31) = z) (kk : G E k n q lv (.int z :: st) ws) : G E k n pc lv (.int y :: .int x :: st) ws := by
  subst hq
  subst hz
  exact fun H locs ls hP hD hS hl => lv_ishr C.1 C.2.1 hd (kk H locs ls hP hD hS hl)
theorem g_iushr (C : Cx E own cc) {x y z : Int32} (hd : decode cc pc = .ok (.iushr, 1)) (hq : pc + 1 = q) (hz : (x.toUInt32 >>> (y.toUInt32 &&& Int32.toUInt32 31)).toInt32 = z) (kk : G E k n q lv (.int z :: st) ws) : G E k n pc lv (.int y :: .int x :: st) ws := by
  subst hq
  subst hz
  exact fun H locs ls hP hD hS hl => lv_iushr C.1 C.2.1 hd rfl (kk H locs ls hP hD hS hl)
theorem g_idiv (C : Cx E own cc) {x y z : Int32} (hd : decode cc pc = .ok (.idiv, 1)) (hq : pc + 1 = q) (hne : ¬ y = 0) (hz : x / y = z) (kk : G E k n q lv (.int z :: st) ws) : G E k n pc lv (.int y :: .int x :: st) ws := by
  subst hq
  subst hz
  exact fun H locs ls hP hD hS hl => lv_idiv C.1 C.2.1 hd hne (kk H locs ls hP hD hS hl)
theorem g_irem (C : Cx E own cc) {x y z : Int32} (hd : decode cc pc = .ok (.irem, 1)) (hq : pc + 1 = q) (hne : ¬ y = 0) (hz : x - x / y * y = z) (kk : G E k n q lv (.int z :: st) ws) : G E k n pc lv (.int y :: .int x :: st) ws := by
  subst hq
  subst hz
  exact fun H locs ls hP hD hS hl => lv_irem C.1 C.2.1 hd hne (kk H locs ls hP hD hS hl)
theorem g_ineg (C : Cx E own cc) {x z : Int32} (hd : decode cc pc = .ok (.ineg, 1)) (hq : pc + 1 = q) (hz : -x = z) (kk : G E k n q lv (.int z :: st) ws) : G E k n pc lv (.int x :: st) ws := by
  subst hq
  subst hz
  exact fun H locs ls hP hD hS hl => lv_ineg C.1 C.2.1 hd (kk H locs ls hP hD hS hl)
theorem g_i2b (C : Cx E own cc) {x z : Int32} (hd : decode cc pc = .ok (.i2b, 1)) (hq : pc + 1 = q) (hz : x.toInt8.toInt32 = z) (kk : G E k n q lv (.int z :: st) ws) : G E k n pc lv (.int x :: st) ws := by
  subst hq
  subst hz
  exact fun H locs ls hP hD hS hl => lv_i2b C.1 C.2.1 hd rfl (kk H locs ls hP hD hS hl)
theorem g_i2l (C : Cx E own cc) {x : Int32} (hd : decode cc pc = .ok (.i2l, 1)) (hq : pc + 1 = q) (kk : G E k n q lv (.long x.toInt64 :: st) ws) : G E k n pc lv (.int x :: st) ws := by
  subst hq
  exact fun H locs ls hP hD hS hl => lv_i2l C.1 C.2.1 hd rfl (kk H locs ls hP hD hS hl)
theorem g_dup (C : Cx E own cc) {x : Int32} (hd : decode cc pc = .ok (.dup, 1)) (hq : pc + 1 = q) (kk : G E k n q lv (.int x :: .int x :: st) ws) : G E k n pc lv (.int x :: st) ws := by
  subst hq
  exact fun H locs ls hP hD hS hl => lv_dup C.1 C.2.1 hd rfl (kk H locs ls hP hD hS hl)
theorem g_pop (C : Cx E own cc) {x : Int32} (hd : decode cc pc = .ok (.pop, 1)) (hq : pc + 1 = q) (kk : G E k n q lv (st) ws) : G E k n pc lv (.int x :: st) ws := by
  subst hq
  exact fun H locs ls hP hD hS hl => lv_pop C.1 C.2.1 hd rfl (kk H locs ls hP hD hS hl)
theorem g_dup_r (C : Cx E own cc) {x : Nat} (hd : decode cc pc = .ok (.dup, 1)) (hq : pc + 1 = q) (kk : G E k n q lv (.ref x :: .ref x :: st) ws) : G E k n pc lv (.ref x :: st) ws := by
  subst hq
  exact fun H locs ls hP hD hS hl => lv_dup C.1 C.2.1 hd rfl (kk H locs ls hP hD hS hl)
theorem g_pop_r (C : Cx E own cc) {x : Nat} (hd : decode cc pc = .ok (.pop, 1)) (hq : pc + 1 = q) (kk : G E k n q lv (st) ws) : G E k n pc lv (.ref x :: st) ws := by
  subst hq
  exact fun H locs ls hP hD hS hl => lv_pop C.1 C.2.1 hd rfl (kk H locs ls hP hD hS hl)
theorem g_dup_x1 (C : Cx E own cc) {a b : Value} (hd : decode cc pc = .ok (.dup_x1, 1)) (hq : pc + 1 = q) (ha : a.category = 1) (hb : b.category = 1) (kk : G E k n q lv (a :: b :: a :: st) ws) : G E k n pc lv (a :: b :: st) ws := by
  subst hq
  exact fun H locs ls hP hD hS hl => lv_dup_x1 C.1 C.2.1 hd ha hb (kk H locs ls hP hD hS hl)
theorem g_dup_x2 (C : Cx E own cc) {a b c : Value} (hd : decode cc pc = .ok (.dup_x2, 1)) (hq : pc + 1 = q) (ha : a.category = 1) (hb : b.category = 1) (hc : c.category = 1) (kk : G E k n q lv (a :: b :: c :: a :: st) ws) : G E k n pc lv (a :: b :: c :: st) ws := by
  subst hq
  exact fun H locs ls hP hD hS hl => lv_dup_x2 C.1 C.2.1 hd ha hb hc (kk H locs ls hP hD hS hl)
theorem g_dup2 (C : Cx E own cc) {a b : Value} (hd : decode cc pc = .ok (.dup2, 1)) (hq : pc + 1 = q) (ha : a.category = 1) (hb : b.category = 1) (kk : G E k n q lv (a :: b :: a :: b :: st) ws) : G E k n pc lv (a :: b :: st) ws := by
  subst hq
  exact fun H locs ls hP hD hS hl => lv_dup2_11 C.1 C.2.1 hd ha hb (kk H locs ls hP hD hS hl)
theorem g_aconst_null (C : Cx E own cc) (hd : decode cc pc = .ok (.aconst_null, 1)) (hq : pc + 1 = q) (kk : G E k n q lv (.null :: st) ws) : G E k n pc lv (st) ws := by
  subst hq
  exact fun H locs ls hP hD hS hl => lv_null C.1 C.2.1 hd (kk H locs ls hP hD hS hl)
theorem g_if_eq (C : Cx E own cc) {x : Int32} (hd : decode cc pc = .ok (.ifCond .eq off, 3)) (hq : pc + 3 = q) (ht : (pc : Int) + off = (tgt : Int)) (kt : x = 0 → G E k n tgt lv st ws) (kf : ¬ (x = 0) → G E k n q lv st ws) : G E k n pc lv (.int x :: st) ws := by
  subst hq
  exact fun H locs ls hP hD hS hl => lv_if_eq C.1 C.2.1 hd ht (fun c => kt c H locs ls hP hD hS hl) (fun c => kf c H locs ls hP hD hS hl)
theorem g_icmp_eq (C : Cx E own cc) {x y : Int32} (hd : decode cc pc = .ok (.if_icmp .eq off, 3)) (hq : pc + 3 = q) (ht : (pc : Int) + off = (tgt : Int)) (kt : x = y → G E k n tgt lv st ws) (kf : ¬ (x = y) → G E k n q lv st ws) : G E k n pc lv (.int y :: .int x :: st) ws := by
  subst hq
  exact fun H locs ls hP hD hS hl => lv_icmp_eq C.1 C.2.1 hd ht (fun c => kt c H locs ls hP hD hS hl) (fun c => kf c H locs ls hP hD hS hl)
theorem g_if_ne (C : Cx E own cc) {x : Int32} (hd : decode cc pc = .ok (.ifCond .ne off, 3)) (hq : pc + 3 = q) (ht : (pc : Int) + off = (tgt : Int)) (kt : ¬ x = 0 → G E k n tgt lv st ws) (kf : ¬ (¬ x = 0) → G E k n q lv st ws) : G E k n pc lv (.int x :: st) ws := by
  subst hq
  exact fun H locs ls hP hD hS hl => lv_if_ne C.1 C.2.1 hd ht (fun c => kt c H locs ls hP hD hS hl) (fun c => kf (fun h => h c) H locs ls hP hD hS hl)
theorem g_icmp_ne (C : Cx E own cc) {x y : Int32} (hd : decode cc pc = .ok (.if_icmp .ne off, 3)) (hq : pc + 3 = q) (ht : (pc : Int) + off = (tgt : Int)) (kt : ¬ x = y → G E k n tgt lv st ws) (kf : ¬ (¬ x = y) → G E k n q lv st ws) : G E k n pc lv (.int y :: .int x :: st) ws := by
  subst hq
  exact fun H locs ls hP hD hS hl => lv_icmp_ne C.1 C.2.1 hd ht (fun c => kt c H locs ls hP hD hS hl) (fun c => kf (fun h => h c) H locs ls hP hD hS hl)
theorem g_if_lt (C : Cx E own cc) {x : Int32} (hd : decode cc pc = .ok (.ifCond .lt off, 3)) (hq : pc + 3 = q) (ht : (pc : Int) + off = (tgt : Int)) (kt : x < 0 → G E k n tgt lv st ws) (kf : ¬ (x < 0) → G E k n q lv st ws) : G E k n pc lv (.int x :: st) ws := by
  subst hq
  exact fun H locs ls hP hD hS hl => lv_if_lt C.1 C.2.1 hd ht (fun c => kt c H locs ls hP hD hS hl) (fun c => kf c H locs ls hP hD hS hl)
theorem g_icmp_lt (C : Cx E own cc) {x y : Int32} (hd : decode cc pc = .ok (.if_icmp .lt off, 3)) (hq : pc + 3 = q) (ht : (pc : Int) + off = (tgt : Int)) (kt : x < y → G E k n tgt lv st ws) (kf : ¬ (x < y) → G E k n q lv st ws) : G E k n pc lv (.int y :: .int x :: st) ws := by
  subst hq
  exact fun H locs ls hP hD hS hl => lv_icmp_lt C.1 C.2.1 hd ht (fun c => kt c H locs ls hP hD hS hl) (fun c => kf c H locs ls hP hD hS hl)
theorem g_if_ge (C : Cx E own cc) {x : Int32} (hd : decode cc pc = .ok (.ifCond .ge off, 3)) (hq : pc + 3 = q) (ht : (pc : Int) + off = (tgt : Int)) (kt : 0 ≤ x → G E k n tgt lv st ws) (kf : ¬ (0 ≤ x) → G E k n q lv st ws) : G E k n pc lv (.int x :: st) ws := by
  subst hq
  exact fun H locs ls hP hD hS hl => lv_if_ge C.1 C.2.1 hd ht (fun c => kt c H locs ls hP hD hS hl) (fun c => kf c H locs ls hP hD hS hl)
theorem g_icmp_ge (C : Cx E own cc) {x y : Int32} (hd : decode cc pc = .ok (.if_icmp .ge off, 3)) (hq : pc + 3 = q) (ht : (pc : Int) + off = (tgt : Int)) (kt : y ≤ x → G E k n tgt lv st ws) (kf : ¬ (y ≤ x) → G E k n q lv st ws) : G E k n pc lv (.int y :: .int x :: st) ws := by
  subst hq
  exact fun H locs ls hP hD hS hl => lv_icmp_ge C.1 C.2.1 hd ht (fun c => kt c H locs ls hP hD hS hl) (fun c => kf c H locs ls hP hD hS hl)
theorem g_if_gt (C : Cx E own cc) {x : Int32} (hd : decode cc pc = .ok (.ifCond .gt off, 3)) (hq : pc + 3 = q) (ht : (pc : Int) + off = (tgt : Int)) (kt : 0 < x → G E k n tgt lv st ws) (kf : ¬ (0 < x) → G E k n q lv st ws) : G E k n pc lv (.int x :: st) ws := by
  subst hq
  exact fun H locs ls hP hD hS hl => lv_if_gt C.1 C.2.1 hd ht (fun c => kt c H locs ls hP hD hS hl) (fun c => kf c H locs ls hP hD hS hl)
theorem g_icmp_gt (C : Cx E own cc) {x y : Int32} (hd : decode cc pc = .ok (.if_icmp .gt off, 3)) (hq : pc + 3 = q) (ht : (pc : Int) + off = (tgt : Int)) (kt : y < x → G E k n tgt lv st ws) (kf : ¬ (y < x) → G E k n q lv st ws) : G E k n pc lv (.int y :: .int x :: st) ws := by
  subst hq
  exact fun H locs ls hP hD hS hl => lv_icmp_gt C.1 C.2.1 hd ht (fun c => kt c H locs ls hP hD hS hl) (fun c => kf c H locs ls hP hD hS hl)
theorem g_if_le (C : Cx E own cc) {x : Int32} (hd : decode cc pc = .ok (.ifCond .le off, 3)) (hq : pc + 3 = q) (ht : (pc : Int) + off = (tgt : Int)) (kt : x ≤ 0 → G E k n tgt lv st ws) (kf : ¬ (x ≤ 0) → G E k n q lv st ws) : G E k n pc lv (.int x :: st) ws := by
  subst hq
  exact fun H locs ls hP hD hS hl => lv_if_le C.1 C.2.1 hd ht (fun c => kt c H locs ls hP hD hS hl) (fun c => kf c H locs ls hP hD hS hl)
theorem g_icmp_le (C : Cx E own cc) {x y : Int32} (hd : decode cc pc = .ok (.if_icmp .le off, 3)) (hq : pc + 3 = q) (ht : (pc : Int) + off = (tgt : Int)) (kt : x ≤ y → G E k n tgt lv st ws) (kf : ¬ (x ≤ y) → G E k n q lv st ws) : G E k n pc lv (.int y :: .int x :: st) ws := by
  subst hq
  exact fun H locs ls hP hD hS hl => lv_icmp_le C.1 C.2.1 hd ht (fun c => kt c H locs ls hP hD hS hl) (fun c => kf c H locs ls hP hD hS hl)
theorem g_goto (C : Cx E own cc) (hd : decode cc pc = .ok (.goto off, 3)) (ht : (pc : Int) + off = (tgt : Int)) (kk : G E k n tgt lv st ws) : G E k n pc lv st ws := fun H locs ls hP hD hS hl => lv_goto C.1 C.2.1 hd ht (kk H locs ls hP hD hS hl)
theorem g_iload (C : Cx E own cc) {i : Nat} {x : Int32} (hd : decode cc pc = .ok (.iload i, 2)) (hq : pc + 2 = q) (hl : lv[i]? = some (some (.int x))) (kk : G E k n q lv (.int x :: st) ws) : G E k n pc lv st ws := by
  subst hq
  exact fun H locs ls hP hD hS h => lv_iload C.1 C.2.1 hd (h.2.2 _ _ hl).1 (kk H locs ls hP hD hS h)
theorem g_iload_n (C : Cx E own cc) {i : Fin 4} {x : Int32} (hd : decode cc pc = .ok (.iload_n i, 1)) (hq : pc + 1 = q) (hl : lv[(i : Nat)]? = some (some (.int x))) (kk : G E k n q lv (.int x :: st) ws) : G E k n pc lv st ws := by
  subst hq
  exact fun H locs ls hP hD hS h => lv_iload_n C.1 C.2.1 hd rfl (h.2.2 _ _ hl).1 (kk H locs ls hP hD hS h)
theorem g_istore (C : Cx E own cc) {i : Nat} {x : Int32} (hd : decode cc pc = .ok (.istore i, 2)) (hq : pc + 2 = q) (hi : i < lv.length) (hn : lv.length ≤ xn E) (kk : G E k n q (lv.set i (some (.int x))) st ws) : G E k n pc lv (.int x :: st) ws := by
  subst hq
  exact fun H locs ls hP hD hS h => lv_istore C.1 C.2.1 hd h.all (Nat.lt_of_lt_of_le hi hn) rfl (fun ls' h' => kk H locs ls' hP hD hS (h.stored rfl hi h'))
theorem g_istore_n (C : Cx E own cc) {i : Fin 4} {x : Int32} (hd : decode cc pc = .ok (.istore_n i, 1)) (hq : pc + 1 = q) (hi : (i : Nat) < lv.length) (hn : lv.length ≤ xn E) (kk : G E k n q (lv.set (i : Nat) (some (.int x))) st ws) : G E k n pc lv (.int x :: st) ws := by
  subst hq
  exact fun H locs ls hP hD hS h => lv_istore_n C.1 C.2.1 hd rfl h.all (Nat.lt_of_lt_of_le hi hn) rfl (fun ls' h' => kk H locs ls' hP hD hS (h.stored rfl hi h'))
theorem g_aload (C : Cx E own cc) {i : Nat} {x : Nat} (hd : decode cc pc = .ok (.aload i, 2)) (hq : pc + 2 = q) (hl : lv[i]? = some (some (.ref x))) (kk : G E k n q lv (.ref x :: st) ws) : G E k n pc lv st ws := by
  subst hq
  exact fun H locs ls hP hD hS h => lv_aload C.1 C.2.1 hd (h.2.2 _ _ hl).1 (kk H locs ls hP hD hS h)
theorem g_aload_n (C : Cx E own cc) {i : Fin 4} {x : Nat} (hd : decode cc pc = .ok (.aload_n i, 1)) (hq : pc + 1 = q) (hl : lv[(i : Nat)]? = some (some (.ref x))) (kk : G E k n q lv (.ref x :: st) ws) : G E k n pc lv st ws := by
  subst hq
  exact fun H locs ls hP hD hS h => lv_aload_n C.1 C.2.1 hd rfl (h.2.2 _ _ hl).1 (kk H locs ls hP hD hS h)
theorem g_astore (C : Cx E own cc) {i : Nat} {x : Nat} (hd : decode cc pc = .ok (.astore i, 2)) (hq : pc + 2 = q) (hi : i < lv.length) (hn : lv.length ≤ xn E) (kk : G E k n q (lv.set i (some (.ref x))) st ws) : G E k n pc lv (.ref x :: st) ws := by
  subst hq
  exact fun H locs ls hP hD hS h => lv_astore C.1 C.2.1 hd h.all (Nat.lt_of_lt_of_le hi hn) rfl (fun ls' h' => kk H locs ls' hP hD hS (h.stored rfl hi h'))
theorem g_astore_n (C : Cx E own cc) {i : Fin 4} {x : Nat} (hd : decode cc pc = .ok (.astore_n i, 1)) (hq : pc + 1 = q) (hi : (i : Nat) < lv.length) (hn : lv.length ≤ xn E) (kk : G E k n q (lv.set (i : Nat) (some (.ref x))) st ws) : G E k n pc lv (.ref x :: st) ws := by
  subst hq
  exact fun H locs ls hP hD hS h => lv_astore_n C.1 C.2.1 hd rfl h.all (Nat.lt_of_lt_of_le hi hn) rfl (fun ls' h' => kk H locs ls' hP hD hS (h.stored rfl hi h'))
theorem g_iinc (C : Cx E own cc) {i : Nat} {c : Int} {x : Int32} (hd : decode cc pc = .ok (.iinc i c, 3)) (hq : pc + 3 = q) (hi : lv[i]? = some (some (.int x))) (hn : lv.length ≤ xn E) (kk : G E k n q (lv.set i (some (.int (x + Int32.ofInt c)))) st ws) : G E k n pc lv st ws := by
  subst hq
  have hlt : i < lv.length := (List.getElem?_eq_some_iff.mp hi).1
  intro H locs ls hP hD hS h
  obtain ⟨j, hj⟩ := List.getElem?_of_mem ((lvP_mem lv 0 (i, .int x)).mpr ⟨Nat.zero_le _, by simpa using hi⟩)
  exact lv_iinc C.1 C.2.1 hd h.all hj rfl (Nat.lt_of_lt_of_le hlt hn) rfl (fun ls' h' => kk H locs ls' hP hD hS (h.stored rfl hlt h'))
theorem g_iload_0 (C : Cx E own cc) {x : Int32} {t : LV} (hd : decode cc pc = .ok (.iload_n 0, 1)) (hq : pc + 1 = q) (kk : G E k n q (some (.int x) :: t) (.int x :: st) ws) : G E k n pc (some (.int x) :: t) st ws := g_iload_n C hd hq rfl kk
theorem g_istore_0 (C : Cx E own cc) {b : Option Value} {x : Int32} {t : LV} (hn : (b :: t).length ≤ xn E) (hd : decode cc pc = .ok (.istore_n 0, 1)) (hq : pc + 1 = q) (kk : G E k n q (some (.int x) :: t) st ws) : G E k n pc (b :: t) (.int x :: st) ws := g_istore_n C hd hq (by show 0 < _; simp only [List.length_cons]; omega) hn kk
theorem g_aload_0 (C : Cx E own cc) {x : Nat} {t : LV} (hd : decode cc pc = .ok (.aload_n 0, 1)) (hq : pc + 1 = q) (kk : G E k n q (some (.ref x) :: t) (.ref x :: st) ws) : G E k n pc (some (.ref x) :: t) st ws := g_aload_n C hd hq rfl kk
theorem g_astore_0 (C : Cx E own cc) {b : Option Value} {x : Nat} {t : LV} (hn : (b :: t).length ≤ xn E) (hd : decode cc pc = .ok (.astore_n 0, 1)) (hq : pc + 1 = q) (kk : G E k n q (some (.ref x) :: t) st ws) : G E k n pc (b :: t) (.ref x :: st) ws := g_astore_n C hd hq (by show 0 < _; simp only [List.length_cons]; omega) hn kk
theorem g_iinc_0 (C : Cx E own cc) {x y : Int32} {c : Int} {t : LV} (hn : (some (.int x) :: t).length ≤ xn E) (hd : decode cc pc = .ok (.iinc 0 c, 3)) (hq : pc + 3 = q) (hy : x + Int32.ofInt c = y) (kk : G E k n q (some (.int y) :: t) st ws) : G E k n pc (some (.int x) :: t) st ws := by
  subst hy
  exact g_iinc C hd hq rfl hn kk
theorem g_iload_1 (C : Cx E own cc) {a0 : Option Value} {x : Int32} {t : LV} (hd : decode cc pc = .ok (.iload_n 1, 1)) (hq : pc + 1 = q) (kk : G E k n q (a0 :: some (.int x) :: t) (.int x :: st) ws) : G E k n pc (a0 :: some (.int x) :: t) st ws := g_iload_n C hd hq rfl kk
theorem g_istore_1 (C : Cx E own cc) {a0 : Option Value} {b : Option Value} {x : Int32} {t : LV} (hn : (a0 :: b :: t).length ≤ xn E) (hd : decode cc pc = .ok (.istore_n 1, 1)) (hq : pc + 1 = q) (kk : G E k n q (a0 :: some (.int x) :: t) st ws) : G E k n pc (a0 :: b :: t) (.int x :: st) ws := g_istore_n C hd hq (by show 1 < _; simp only [List.length_cons]; omega) hn kk
theorem g_aload_1 (C : Cx E own cc) {a0 : Option Value} {x : Nat} {t : LV} (hd : decode cc pc = .ok (.aload_n 1, 1)) (hq : pc + 1 = q) (kk : G E k n q (a0 :: some (.ref x) :: t) (.ref x :: st) ws) : G E k n pc (a0 :: some (.ref x) :: t) st ws := g_aload_n C hd hq rfl kk
theorem g_astore_1 (C : Cx E own cc) {a0 : Option Value} {b : Option Value} {x : Nat} {t : LV} (hn : (a0 :: b :: t).length ≤ xn E) (hd : decode cc pc = .ok (.astore_n 1, 1)) (hq : pc + 1 = q) (kk : G E k n q (a0 :: some (.ref x) :: t) st ws) : G E k n pc (a0 :: b :: t) (.ref x :: st) ws := g_astore_n C hd hq (by show 1 < _; simp only [List.length_cons]; omega) hn kk
theorem g_iinc_1 (C : Cx E own cc) {a0 : Option Value} {x y : Int32} {c : Int} {t : LV} (hn : (a0 :: some (.int x) :: t).length ≤ xn E) (hd : decode cc pc = .ok (.iinc 1 c, 3)) (hq : pc + 3 = q) (hy : x + Int32.ofInt c = y) (kk : G E k n q (a0 :: some (.int y) :: t) st ws) : G E k n pc (a0 :: some (.int x) :: t) st ws := by
  subst hy
  exact g_iinc C hd hq rfl hn kk
theorem g_iload_2 (C : Cx E own cc) {a0 a1 : Option Value} {x : Int32} {t : LV} (hd : decode cc pc = .ok (.iload_n 2, 1)) (hq : pc + 1 = q) (kk : G E k n q (a0 :: a1 :: some (.int x) :: t) (.int x :: st) ws) : G E k n pc (a0 :: a1 :: some (.int x) :: t) st ws := g_iload_n C hd hq rfl kk
theorem g_istore_2 (C : Cx E own cc) {a0 a1 : Option Value} {b : Option Value} {x : Int32} {t : LV} (hn : (a0 :: a1 :: b :: t).length ≤ xn E) (hd : decode cc pc = .ok (.istore_n 2, 1)) (hq : pc + 1 = q) (kk : G E k n q (a0 :: a1 :: some (.int x) :: t) st ws) : G E k n pc (a0 :: a1 :: b :: t) (.int x :: st) ws := g_istore_n C hd hq (by show 2 < _; simp only [List.length_cons]; omega) hn kk
theorem g_aload_2 (C : Cx E own cc) {a0 a1 : Option Value} {x : Nat} {t : LV} (hd : decode cc pc = .ok (.aload_n 2, 1)) (hq : pc + 1 = q) (kk : G E k n q (a0 :: a1 :: some (.ref x) :: t) (.ref x :: st) ws) : G E k n pc (a0 :: a1 :: some (.ref x) :: t) st ws := g_aload_n C hd hq rfl kk
theorem g_astore_2 (C : Cx E own cc) {a0 a1 : Option Value} {b : Option Value} {x : Nat} {t : LV} (hn : (a0 :: a1 :: b :: t).length ≤ xn E) (hd : decode cc pc = .ok (.astore_n 2, 1)) (hq : pc + 1 = q) (kk : G E k n q (a0 :: a1 :: some (.ref x) :: t) st ws) : G E k n pc (a0 :: a1 :: b :: t) (.ref x :: st) ws := g_astore_n C hd hq (by show 2 < _; simp only [List.length_cons]; omega) hn kk
theorem g_iinc_2 (C : Cx E own cc) {a0 a1 : Option Value} {x y : Int32} {c : Int} {t : LV} (hn : (a0 :: a1 :: some (.int x) :: t).length ≤ xn E) (hd : decode cc pc = .ok (.iinc 2 c, 3)) (hq : pc + 3 = q) (hy : x + Int32.ofInt c = y) (kk : G E k n q (a0 :: a1 :: some (.int y) :: t) st ws) : G E k n pc (a0 :: a1 :: some (.int x) :: t) st ws := by
  subst hy
  exact g_iinc C hd hq rfl hn kk
theorem g_iload_3 (C : Cx E own cc) {a0 a1 a2 : Option Value} {x : Int32} {t : LV} (hd : decode cc pc = .ok (.iload_n 3, 1)) (hq : pc + 1 = q) (kk : G E k n q (a0 :: a1 :: a2 :: some (.int x) :: t) (.int x :: st) ws) : G E k n pc (a0 :: a1 :: a2 :: some (.int x) :: t) st ws := g_iload_n C hd hq rfl kk
theorem g_istore_3 (C : Cx E own cc) {a0 a1 a2 : Option Value} {b : Option Value} {x : Int32} {t : LV} (hn : (a0 :: a1 :: a2 :: b :: t).length ≤ xn E) (hd : decode cc pc = .ok (.istore_n 3, 1)) (hq : pc + 1 = q) (kk : G E k n q (a0 :: a1 :: a2 :: some (.int x) :: t) st ws) : G E k n pc (a0 :: a1 :: a2 :: b :: t) (.int x :: st) ws := g_istore_n C hd hq (by show 3 < _; simp only [List.length_cons]; omega) hn kk
theorem g_aload_3 (C : Cx E own cc) {a0 a1 a2 : Option Value} {x : Nat} {t : LV} (hd : decode cc pc = .ok (.aload_n 3, 1)) (hq : pc + 1 = q) (kk : G E k n q (a0 :: a1 :: a2 :: some (.ref x) :: t) (.ref x :: st) ws) : G E k n pc (a0 :: a1 :: a2 :: some (.ref x) :: t) st ws := g_aload_n C hd hq rfl kk
theorem g_astore_3 (C : Cx E own cc) {a0 a1 a2 : Option Value} {b : Option Value} {x : Nat} {t : LV} (hn : (a0 :: a1 :: a2 :: b :: t).length ≤ xn E) (hd : decode cc pc = .ok (.astore_n 3, 1)) (hq : pc + 1 = q) (kk : G E k n q (a0 :: a1 :: a2 :: some (.ref x) :: t) st ws) : G E k n pc (a0 :: a1 :: a2 :: b :: t) (.ref x :: st) ws := g_astore_n C hd hq (by show 3 < _; simp only [List.length_cons]; omega) hn kk
theorem g_iinc_3 (C : Cx E own cc) {a0 a1 a2 : Option Value} {x y : Int32} {c : Int} {t : LV} (hn : (a0 :: a1 :: a2 :: some (.int x) :: t).length ≤ xn E) (hd : decode cc pc = .ok (.iinc 3 c, 3)) (hq : pc + 3 = q) (hy : x + Int32.ofInt c = y) (kk : G E k n q (a0 :: a1 :: a2 :: some (.int y) :: t) st ws) : G E k n pc (a0 :: a1 :: a2 :: some (.int x) :: t) st ws := by
  subst hy
  exact g_iinc C hd hq rfl hn kk
theorem g_iload_4 (C : Cx E own cc) {a0 a1 a2 a3 : Option Value} {x : Int32} {t : LV} (hd : decode cc pc = .ok (.iload 4, 2)) (hq : pc + 2 = q) (kk : G E k n q (a0 :: a1 :: a2 :: a3 :: some (.int x) :: t) (.int x :: st) ws) : G E k n pc (a0 :: a1 :: a2 :: a3 :: some (.int x) :: t) st ws := g_iload C hd hq rfl kk
theorem g_istore_4 (C : Cx E own cc) {a0 a1 a2 a3 : Option Value} {b : Option Value} {x : Int32} {t : LV} (hn : (a0 :: a1 :: a2 :: a3 :: b :: t).length ≤ xn E) (hd : decode cc pc = .ok (.istore 4, 2)) (hq : pc + 2 = q) (kk : G E k n q (a0 :: a1 :: a2 :: a3 :: some (.int x) :: t) st ws) : G E k n pc (a0 :: a1 :: a2 :: a3 :: b :: t) (.int x :: st) ws := g_istore C hd hq (by show 4 < _; simp only [List.length_cons]; omega) hn kk
theorem g_aload_4 (C : Cx E own cc) {a0 a1 a2 a3 : Option Value} {x : Nat} {t : LV} (hd : decode cc pc = .ok (.aload 4, 2)) (hq : pc + 2 = q) (kk : G E k n q (a0 :: a1 :: a2 :: a3 :: some (.ref x) :: t) (.ref x :: st) ws) : G E k n pc (a0 :: a1 :: a2 :: a3 :: some (.ref x) :: t) st ws := g_aload C hd hq rfl kk
theorem g_astore_4 (C : Cx E own cc) {a0 a1 a2 a3 : Option Value} {b : Option Value} {x : Nat} {t : LV} (hn : (a0 :: a1 :: a2 :: a3 :: b :: t).length ≤ xn E) (hd : decode cc pc = .ok (.astore 4, 2)) (hq : pc + 2 = q) (kk : G E k n q (a0 :: a1 :: a2 :: a3 :: some (.ref x) :: t) st ws) : G E k n pc (a0 :: a1 :: a2 :: a3 :: b :: t) (.ref x :: st) ws := g_astore C hd hq (by show 4 < _; simp only [List.length_cons]; omega) hn kk
theorem g_iinc_4 (C : Cx E own cc) {a0 a1 a2 a3 : Option Value} {x y : Int32} {c : Int} {t : LV} (hn : (a0 :: a1 :: a2 :: a3 :: some (.int x) :: t).length ≤ xn E) (hd : decode cc pc = .ok (.iinc 4 c, 3)) (hq : pc + 3 = q) (hy : x + Int32.ofInt c = y) (kk : G E k n q (a0 :: a1 :: a2 :: a3 :: some (.int y) :: t) st ws) : G E k n pc (a0 :: a1 :: a2 :: a3 :: some (.int x) :: t) st ws := by
  subst hy
  exact g_iinc C hd hq rfl hn kk
theorem g_iload_5 (C : Cx E own cc) {a0 a1 a2 a3 a4 : Option Value} {x : Int32} {t : LV} (hd : decode cc pc = .ok (.iload 5, 2)) (hq : pc + 2 = q) (kk : G E k n q (a0 :: a1 :: a2 :: a3 :: a4 :: some (.int x) :: t) (.int x :: st) ws) : G E k n pc (a0 :: a1 :: a2 :: a3 :: a4 :: some (.int x) :: t) st ws := g_iload C hd hq rfl kk
theorem g_istore_5 (C : Cx E own cc) {a0 a1 a2 a3 a4 : Option Value} {b : Option Value} {x : Int32} {t : LV} (hn : (a0 :: a1 :: a2 :: a3 :: a4 :: b :: t).length ≤ xn E) (hd : decode cc pc = .ok (.istore 5, 2)) (hq : pc + 2 = q) (kk : G E k n q (a0 :: a1 :: a2 :: a3 :: a4 :: some (.int x) :: t) st ws) : G E k n pc (a0 :: a1 :: a2 :: a3 :: a4 :: b :: t) (.int x :: st) ws := g_istore C hd hq (by show 5 < _; simp only [List.length_cons]; omega) hn kk
theorem g_aload_5 (C : Cx E own cc) {a0 a1 a2 a3 a4 : Option Value} {x : Nat} {t : LV} (hd : decode cc pc = .ok (.aload 5, 2)) (hq : pc + 2 = q) (kk : G E k n q (a0 :: a1 :: a2 :: a3 :: a4 :: some (.ref x) :: t) (.ref x :: st) ws) : G E k n pc (a0 :: a1 :: a2 :: a3 :: a4 :: some (.ref x) :: t) st ws := g_aload C hd hq rfl kk
theorem g_astore_5 (C : Cx E own cc) {a0 a1 a2 a3 a4 : Option Value} {b : Option Value} {x : Nat} {t : LV} (hn : (a0 :: a1 :: a2 :: a3 :: a4 :: b :: t).length ≤ xn E) (hd : decode cc pc = .ok (.astore 5, 2)) (hq : pc + 2 = q) (kk : G E k n q (a0 :: a1 :: a2 :: a3 :: a4 :: some (.ref x) :: t) st ws) : G E k n pc (a0 :: a1 :: a2 :: a3 :: a4 :: b :: t) (.ref x :: st) ws := g_astore C hd hq (by show 5 < _; simp only [List.length_cons]; omega) hn kk
theorem g_iinc_5 (C : Cx E own cc) {a0 a1 a2 a3 a4 : Option Value} {x y : Int32} {c : Int} {t : LV} (hn : (a0 :: a1 :: a2 :: a3 :: a4 :: some (.int x) :: t).length ≤ xn E) (hd : decode cc pc = .ok (.iinc 5 c, 3)) (hq : pc + 3 = q) (hy : x + Int32.ofInt c = y) (kk : G E k n q (a0 :: a1 :: a2 :: a3 :: a4 :: some (.int y) :: t) st ws) : G E k n pc (a0 :: a1 :: a2 :: a3 :: a4 :: some (.int x) :: t) st ws := by
  subst hy
  exact g_iinc C hd hq rfl hn kk
theorem g_iload_6 (C : Cx E own cc) {a0 a1 a2 a3 a4 a5 : Option Value} {x : Int32} {t : LV} (hd : decode cc pc = .ok (.iload 6, 2)) (hq : pc + 2 = q) (kk : G E k n q (a0 :: a1 :: a2 :: a3 :: a4 :: a5 :: some (.int x) :: t) (.int x :: st) ws) : G E k n pc (a0 :: a1 :: a2 :: a3 :: a4 :: a5 :: some (.int x) :: t) st ws := g_iload C hd hq rfl kk
theorem g_istore_6 (C : Cx E own cc) {a0 a1 a2 a3 a4 a5 : Option Value} {b : Option Value} {x : Int32} {t : LV} (hn : (a0 :: a1 :: a2 :: a3 :: a4 :: a5 :: b :: t).length ≤ xn E) (hd : decode cc pc = .ok (.istore 6, 2)) (hq : pc + 2 = q) (kk : G E k n q (a0 :: a1 :: a2 :: a3 :: a4 :: a5 :: some (.int x) :: t) st ws) : G E k n pc (a0 :: a1 :: a2 :: a3 :: a4 :: a5 :: b :: t) (.int x :: st) ws := g_istore C hd hq (by show 6 < _; simp only [List.length_cons]; omega) hn kk
theorem g_aload_6 (C : Cx E own cc) {a0 a1 a2 a3 a4 a5 : Option Value} {x : Nat} {t : LV} (hd : decode cc pc = .ok (.aload 6, 2)) (hq : pc + 2 = q) (kk : G E k n q (a0 :: a1 :: a2 :: a3 :: a4 :: a5 :: some (.ref x) :: t) (.ref x :: st) ws) : G E k n pc (a0 :: a1 :: a2 :: a3 :: a4 :: a5 :: some (.ref x) :: t) st ws := g_aload C hd hq rfl kk
theorem g_astore_6 (C : Cx E own cc) {a0 a1 a2 a3 a4 a5 : Option Value} {b : Option Value} {x : Nat} {t : LV} (hn : (a0 :: a1 :: a2 :: a3 :: a4 :: a5 :: b :: t).length ≤ xn E) (hd : decode cc pc = .ok (.astore 6, 2)) (hq : pc + 2 = q) (kk : G E k n q (a0 :: a1 :: a2 :: a3 :: a4 :: a5 :: some (.ref x) :: t) st ws) : G E k n pc (a0 :: a1 :: a2 :: a3 :: a4 :: a5 :: b :: t) (.ref x :: st) ws := g_astore C hd hq (by show 6 < _; simp only [List.length_cons]; omega) hn kk
theorem g_iinc_6 (C : Cx E own cc) {a0 a1 a2 a3 a4 a5 : Option Value} {x y : Int32} {c : Int} {t : LV} (hn : (a0 :: a1 :: a2 :: a3 :: a4 :: a5 :: some (.int x) :: t).length ≤ xn E) (hd : decode cc pc = .ok (.iinc 6 c, 3)) (hq : pc + 3 = q) (hy : x + Int32.ofInt c = y) (kk : G E k n q (a0 :: a1 :: a2 :: a3 :: a4 :: a5 :: some (.int y) :: t) st ws) : G E k n pc (a0 :: a1 :: a2 :: a3 :: a4 :: a5 :: some (.int x) :: t) st ws := by
  subst hy
  exact g_iinc C hd hq rfl hn kk
theorem g_iload_7 (C : Cx E own cc) {a0 a1 a2 a3 a4 a5 a6 : Option Value} {x : Int32} {t : LV} (hd : decode cc pc = .ok (.iload 7, 2)) (hq : pc + 2 = q) (kk : G E k n q (a0 :: a1 :: a2 :: a3 :: a4 :: a5 :: a6 :: some (.int x) :: t) (.int x :: st) ws) : G E k n pc (a0 :: a1 :: a2 :: a3 :: a4 :: a5 :: a6 :: some (.int x) :: t) st ws := g_iload C hd hq rfl kk
theorem g_istore_7 (C : Cx E own cc) {a0 a1 a2 a3 a4 a5 a6 : Option Value} {b : Option Value} {x : Int32} {t : LV} (hn : (a0 :: a1 :: a2 :: a3 :: a4 :: a5 :: a6 :: b :: t).length ≤ xn E) (hd : decode cc pc = .ok (.istore 7, 2)) (hq : pc + 2 = q) (kk : G E k n q (a0 :: a1 :: a2 :: a3 :: a4 :: a5 :: a6 :: some (.int x) :: t) st ws) : G E k n pc (a0 :: a1 :: a2 :: a3 :: a4 :: a5 :: a6 :: b :: t) (.int x :: st) ws := g_istore C hd hq (by show 7 < _; simp only [List.length_cons]; omega) hn kk
theorem g_aload_7 (C : Cx E own cc) {a0 a1 a2 a3 a4 a5 a6 : Option Value} {x : Nat} {t : LV} (hd : decode cc pc = .ok (.aload 7, 2)) (hq : pc + 2 = q) (kk : G E k n q (a0 :: a1 :: a2 :: a3 :: a4 :: a5 :: a6 :: some (.ref x) :: t) (.ref x :: st) ws) : G E k n pc (a0 :: a1 :: a2 :: a3 :: a4 :: a5 :: a6 :: some (.ref x) :: t) st ws := g_aload C hd hq rfl kk
theorem g_astore_7 (C : Cx E own cc) {a0 a1 a2 a3 a4 a5 a6 : Option Value} {b : Option Value} {x : Nat} {t : LV} (hn : (a0 :: a1 :: a2 :: a3 :: a4 :: a5 :: a6 :: b :: t).length ≤ xn E) (hd : decode cc pc = .ok (.astore 7, 2)) (hq : pc + 2 = q) (kk : G E k n q (a0 :: a1 :: a2 :: a3 :: a4 :: a5 :: a6 :: some (.ref x) :: t) st ws) : G E k n pc (a0 :: a1 :: a2 :: a3 :: a4 :: a5 :: a6 :: b :: t) (.ref x :: st) ws := g_astore C hd hq (by show 7 < _; simp only [List.length_cons]; omega) hn kk
theorem g_iinc_7 (C : Cx E own cc) {a0 a1 a2 a3 a4 a5 a6 : Option Value} {x y : Int32} {c : Int} {t : LV} (hn : (a0 :: a1 :: a2 :: a3 :: a4 :: a5 :: a6 :: some (.int x) :: t).length ≤ xn E) (hd : decode cc pc = .ok (.iinc 7 c, 3)) (hq : pc + 3 = q) (hy : x + Int32.ofInt c = y) (kk : G E k n q (a0 :: a1 :: a2 :: a3 :: a4 :: a5 :: a6 :: some (.int y) :: t) st ws) : G E k n pc (a0 :: a1 :: a2 :: a3 :: a4 :: a5 :: a6 :: some (.int x) :: t) st ws := by
  subst hy
  exact g_iinc C hd hq rfl hn kk
theorem g_iload_8 (C : Cx E own cc) {a0 a1 a2 a3 a4 a5 a6 a7 : Option Value} {x : Int32} {t : LV} (hd : decode cc pc = .ok (.iload 8, 2)) (hq : pc + 2 = q) (kk : G E k n q (a0 :: a1 :: a2 :: a3 :: a4 :: a5 :: a6 :: a7 :: some (.int x) :: t) (.int x :: st) ws) : G E k n pc (a0 :: a1 :: a2 :: a3 :: a4 :: a5 :: a6 :: a7 :: some (.int x) :: t) st ws := g_iload C hd hq rfl kk
theorem g_istore_8 (C : Cx E own cc) {a0 a1 a2 a3 a4 a5 a6 a7 : Option Value} {b : Option Value} {x : Int32} {t : LV} (hn : (a0 :: a1 :: a2 :: a3 :: a4 :: a5 :: a6 :: a7 :: b :: t).length ≤ xn E) (hd : decode cc pc = .ok (.istore 8, 2)) (hq : pc + 2 = q) (kk : G E k n q (a0 :: a1 :: a2 :: a3 :: a4 :: a5 :: a6 :: a7 :: some (.int x) :: t) st ws) : G E k n pc (a0 :: a1 :: a2 :: a3 :: a4 :: a5 :: a6 :: a7 :: b :: t) (.int x :: st) ws := g_istore C hd hq (by show 8 < _; simp only [List.length_cons]; omega) hn kk
theorem g_aload_8 (C : Cx E own cc) {a0 a1 a2 a3 a4 a5 a6 a7 : Option Value} {x : Nat} {t : LV} (hd : decode cc pc = .ok (.aload 8, 2)) (hq : pc + 2 = q) (kk : G E k n q (a0 :: a1 :: a2 :: a3 :: a4 :: a5 :: a6 :: a7 :: some (.ref x) :: t) (.ref x :: st) ws) : G E k n pc (a0 :: a1 :: a2 :: a3 :: a4 :: a5 :: a6 :: a7 :: some (.ref x) :: t) st ws := g_aload C hd hq rfl kk
theorem g_astore_8 (C : Cx E own cc) {a0 a1 a2 a3 a4 a5 a6 a7 : Option Value} {b : Option Value} {x : Nat} {t : LV} (hn : (a0 :: a1 :: a2 :: a3 :: a4 :: a5 :: a6 :: a7 :: b :: t).length ≤ xn E) (hd : decode cc pc = .ok (.astore 8, 2)) (hq : pc + 2 = q) (kk : G E k n q (a0 :: a1 :: a2 :: a3 :: a4 :: a5 :: a6 :: a7 :: some (.ref x) :: t) st ws) : G E k n pc (a0 :: a1 :: a2 :: a3 :: a4 :: a5 :: a6 :: a7 :: b :: t) (.ref x :: st) ws := g_astore C hd hq (by show 8 < _; simp only [List.length_cons]; omega) hn kk
theorem g_iinc_8 (C : Cx E own cc) {a0 a1 a2 a3 a4 a5 a6 a7 : Option Value} {x y : Int32} {c : Int} {t : LV} (hn : (a0 :: a1 :: a2 :: a3 :: a4 :: a5 :: a6 :: a7 :: some (.int x) :: t).length ≤ xn E) (hd : decode cc pc = .ok (.iinc 8 c, 3)) (hq : pc + 3 = q) (hy : x + Int32.ofInt c = y) (kk : G E k n q (a0 :: a1 :: a2 :: a3 :: a4 :: a5 :: a6 :: a7 :: some (.int y) :: t) st ws) : G E k n pc (a0 :: a1 :: a2 :: a3 :: a4 :: a5 :: a6 :: a7 :: some (.int x) :: t) st ws := by
  subst hy
  exact g_iinc C hd hq rfl hn kk
theorem g_iload_9 (C : Cx E own cc) {a0 a1 a2 a3 a4 a5 a6 a7 a8 : Option Value} {x : Int32} {t : LV} (hd : decode cc pc = .ok (.iload 9, 2)) (hq : pc + 2 = q) (kk : G E k n q (a0 :: a1 :: a2 :: a3 :: a4 :: a5 :: a6 :: a7 :: a8 :: some (.int x) :: t) (.int x :: st) ws) : G E k n pc (a0 :: a1 :: a2 :: a3 :: a4 :: a5 :: a6 :: a7 :: a8 :: some (.int x) :: t) st ws := g_iload C hd hq rfl kk
theorem g_istore_9 (C : Cx E own cc) {a0 a1 a2 a3 a4 a5 a6 a7 a8 : Option Value} {b : Option Value} {x : Int32} {t : LV} (hn : (a0 :: a1 :: a2 :: a3 :: a4 :: a5 :: a6 :: a7 :: a8 :: b :: t).length ≤ xn E) (hd : decode cc pc = .ok (.istore 9, 2)) (hq : pc + 2 = q) (kk : G E k n q (a0 :: a1 :: a2 :: a3 :: a4 :: a5 :: a6 :: a7 :: a8 :: some (.int x) :: t) st ws) : G E k n pc (a0 :: a1 :: a2 :: a3 :: a4 :: a5 :: a6 :: a7 :: a8 :: b :: t) (.int x :: st) ws := g_istore C hd hq (by show 9 < _; simp only [List.length_cons]; omega) hn kk
theorem g_aload_9 (C : Cx E own cc) {a0 a1 a2 a3 a4 a5 a6 a7 a8 : Option Value} {x : Nat} {t : LV} (hd : decode cc pc = .ok (.aload 9, 2)) (hq : pc + 2 = q) (kk : G E k n q (a0 :: a1 :: a2 :: a3 :: a4 :: a5 :: a6 :: a7 :: a8 :: some (.ref x) :: t) (.ref x :: st) ws) : G E k n pc (a0 :: a1 :: a2 :: a3 :: a4 :: a5 :: a6 :: a7 :: a8 :: some (.ref x) :: t) st ws := g_aload C hd hq rfl kk
theorem g_astore_9 (C : Cx E own cc) {a0 a1 a2 a3 a4 a5 a6 a7 a8 : Option Value} {b : Option Value} {x : Nat} {t : LV} (hn : (a0 :: a1 :: a2 :: a3 :: a4 :: a5 :: a6 :: a7 :: a8 :: b :: t).length ≤ xn E) (hd : decode cc pc = .ok (.astore 9, 2)) (hq : pc + 2 = q) (kk : G E k n q (a0 :: a1 :: a2 :: a3 :: a4 :: a5 :: a6 :: a7 :: a8 :: some (.ref x) :: t) st ws) : G E k n pc (a0 :: a1 :: a2 :: a3 :: a4 :: a5 :: a6 :: a7 :: a8 :: b :: t) (.ref x :: st) ws := g_astore C hd hq (by show 9 < _; simp only [List.length_cons]; omega) hn kk
theorem g_iinc_9 (C : Cx E own cc) {a0 a1 a2 a3 a4 a5 a6 a7 a8 : Option Value} {x y : Int32} {c : Int} {t : LV} (hn : (a0 :: a1 :: a2 :: a3 :: a4 :: a5 :: a6 :: a7 :: a8 :: some (.int x) :: t).length ≤ xn E) (hd : decode cc pc = .ok (.iinc 9 c, 3)) (hq : pc + 3 = q) (hy : x + Int32.ofInt c = y) (kk : G E k n q (a0 :: a1 :: a2 :: a3 :: a4 :: a5 :: a6 :: a7 :: a8 :: some (.int y) :: t) st ws) : G E k n pc (a0 :: a1 :: a2 :: a3 :: a4 :: a5 :: a6 :: a7 :: a8 :: some (.int x) :: t) st ws := by
  subst hy
  exact g_iinc C hd hq rfl hn kk
theorem g_iload_10 (C : Cx E own cc) {a0 a1 a2 a3 a4 a5 a6 a7 a8 a9 : Option Value} {x : Int32} {t : LV} (hd : decode cc pc = .ok (.iload 10, 2)) (hq : pc + 2 = q) (kk : G E k n q (a0 :: a1 :: a2 :: a3 :: a4 :: a5 :: a6 :: a7 :: a8 :: a9 :: some (.int x) :: t) (.int x :: st) ws) : G E k n pc (a0 :: a1 :: a2 :: a3 :: a4 :: a5 :: a6 :: a7 :: a8 :: a9 :: some (.int x) :: t) st ws := g_iload C hd hq rfl kk
theorem g_istore_10 (C : Cx E own cc) {a0 a1 a2 a3 a4 a5 a6 a7 a8 a9 : Option Value} {b : Option Value} {x : Int32} {t : LV} (hn : (a0 :: a1 :: a2 :: a3 :: a4 :: a5 :: a6 :: a7 :: a8 :: a9 :: b :: t).length ≤ xn E) (hd : decode cc pc = .ok (.istore 10, 2)) (hq : pc + 2 = q) (kk : G E k n q (a0 :: a1 :: a2 :: a3 :: a4 :: a5 :: a6 :: a7 :: a8 :: a9 :: some (.int x) :: t) st ws) : G E k n pc (a0 :: a1 :: a2 :: a3 :: a4 :: a5 :: a6 :: a7 :: a8 :: a9 :: b :: t) (.int x :: st) ws := g_istore C hd hq (by show 10 < _; simp only [List.length_cons]; omega) hn kk
theorem g_aload_10 (C : Cx E own cc) {a0 a1 a2 a3 a4 a5 a6 a7 a8 a9 : Option Value} {x : Nat} {t : LV} (hd : decode cc pc = .ok (.aload 10, 2)) (hq : pc + 2 = q) (kk : G E k n q (a0 :: a1 :: a2 :: a3 :: a4 :: a5 :: a6 :: a7 :: a8 :: a9 :: some (.ref x) :: t) (.ref x :: st) ws) : G E k n pc (a0 :: a1 :: a2 :: a3 :: a4 :: a5 :: a6 :: a7 :: a8 :: a9 :: some (.ref x) :: t) st ws := g_aload C hd hq rfl kk
theorem g_astore_10 (C : Cx E own cc) {a0 a1 a2 a3 a4 a5 a6 a7 a8 a9 : Option Value} {b : Option Value} {x : Nat} {t : LV} (hn : (a0 :: a1 :: a2 :: a3 :: a4 :: a5 :: a6 :: a7 :: a8 :: a9 :: b :: t).length ≤ xn E) (hd : decode cc pc = .ok (.astore 10, 2)) (hq : pc + 2 = q) (kk : G E k n q (a0 :: a1 :: a2 :: a3 :: a4 :: a5 :: a6 :: a7 :: a8 :: a9 :: some (.ref x) :: t) st ws) : G E k n pc (a0 :: a1 :: a2 :: a3 :: a4 :: a5 :: a6 :: a7 :: a8 :: a9 :: b :: t) (.ref x :: st) ws := g_astore C hd hq (by show 10 < _; simp only [List.length_cons]; omega) hn kk
theorem g_iinc_10 (C : Cx E own cc) {a0 a1 a2 a3 a4 a5 a6 a7 a8 a9 : Option Value} {x y : Int32} {c : Int} {t : LV} (hn : (a0 :: a1 :: a2 :: a3 :: a4 :: a5 :: a6 :: a7 :: a8 :: a9 :: some (.int x) :: t).length ≤ xn E) (hd : decode cc pc = .ok (.iinc 10 c, 3)) (hq : pc + 3 = q) (hy : x + Int32.ofInt c = y) (kk : G E k n q (a0 :: a1 :: a2 :: a3 :: a4 :: a5 :: a6 :: a7 :: a8 :: a9 :: some (.int y) :: t) st ws) : G E k n pc (a0 :: a1 :: a2 :: a3 :: a4 :: a5 :: a6 :: a7 :: a8 :: a9 :: some (.int x) :: t) st ws := by
  subst hy
  exact g_iinc C hd hq rfl hn kk
theorem g_iload_11 (C : Cx E own cc) {a0 a1 a2 a3 a4 a5 a6 a7 a8 a9 a10 : Option Value} {x : Int32} {t : LV} (hd : decode cc pc = .ok (.iload 11, 2)) (hq : pc + 2 = q) (kk : G E k n q (a0 :: a1 :: a2 :: a3 :: a4 :: a5 :: a6 :: a7 :: a8 :: a9 :: a10 :: some (.int x) :: t) (.int x :: st) ws) : G E k n pc (a0 :: a1 :: a2 :: a3 :: a4 :: a5 :: a6 :: a7 :: a8 :: a9 :: a10 :: some (.int x) :: t) st ws := g_iload C hd hq rfl kk
theorem g_istore_11 (C : Cx E own cc) {a0 a1 a2 a3 a4 a5 a6 a7 a8 a9 a10 : Option Value} {b : Option Value} {x : Int32} {t : LV} (hn : (a0 :: a1 :: a2 :: a3 :: a4 :: a5 :: a6 :: a7 :: a8 :: a9 :: a10 :: b :: t).length ≤ xn E) (hd : decode cc pc = .ok (.istore 11, 2)) (hq : pc + 2 = q) (kk : G E k n q (a0 :: a1 :: a2 :: a3 :: a4 :: a5 :: a6 :: a7 :: a8 :: a9 :: a10 :: some (.int x) :: t) st ws) : G E k n pc (a0 :: a1 :: a2 :: a3 :: a4 :: a5 :: a6 :: a7 :: a8 :: a9 :: a10 :: b :: t) (.int x :: st) ws := g_istore C hd hq (by show 11 < _; simp only [List.length_cons]; omega) hn kk
theorem g_aload_11 (C : Cx E own cc) {a0 a1 a2 a3 a4 a5 a6 a7 a8 a9 a10 : Option Value} {x : Nat} {t : LV} (hd : decode cc pc = .ok (.aload 11, 2)) (hq : pc + 2 = q) (kk : G E k n q (a0 :: a1 :: a2 :: a3 :: a4 :: a5 :: a6 :: a7 :: a8 :: a9 :: a10 :: some (.ref x) :: t) (.ref x :: st) ws) : G E k n pc (a0 :: a1 :: a2 :: a3 :: a4 :: a5 :: a6 :: a7 :: a8 :: a9 :: a10 :: some (.ref x) :: t) st ws := g_aload C hd hq rfl kk
theorem g_astore_11 (C : Cx E own cc) {a0 a1 a2 a3 a4 a5 a6 a7 a8 a9 a10 : Option Value} {b : Option Value} {x : Nat} {t : LV} (hn : (a0 :: a1 :: a2 :: a3 :: a4 :: a5 :: a6 :: a7 :: a8 :: a9 :: a10 :: b :: t).length ≤ xn E) (hd : decode cc pc = .ok (.astore 11, 2)) (hq : pc + 2 = q) (kk : G E k n q (a0 :: a1 :: a2 :: a3 :: a4 :: a5 :: a6 :: a7 :: a8 :: a9 :: a10 :: some (.ref x) :: t) st ws) : G E k n pc (a0 :: a1 :: a2 :: a3 :: a4 :: a5 :: a6 :: a7 :: a8 :: a9 :: a10 :: b :: t) (.ref x :: st) ws := g_astore C hd hq (by show 11 < _; simp only [List.length_cons]; omega) hn kk
theorem g_iinc_11 (C : Cx E own cc) {a0 a1 a2 a3 a4 a5 a6 a7 a8 a9 a10 : Option Value} {x y : Int32} {c : Int} {t : LV} (hn : (a0 :: a1 :: a2 :: a3 :: a4 :: a5 :: a6 :: a7 :: a8 :: a9 :: a10 :: some (.int x) :: t).length ≤ xn E) (hd : decode cc pc = .ok (.iinc 11 c, 3)) (hq : pc + 3 = q) (hy : x + Int32.ofInt c = y) (kk : G E k n q (a0 :: a1 :: a2 :: a3 :: a4 :: a5 :: a6 :: a7 :: a8 :: a9 :: a10 :: some (.int y) :: t) st ws) : G E k n pc (a0 :: a1 :: a2 :: a3 :: a4 :: a5 :: a6 :: a7 :: a8 :: a9 :: a10 :: some (.int x) :: t) st ws := by
  subst hy
  exact g_iinc C hd hq rfl hn kk
variable {r : Option FieldType} {mc ms : Nat} {post : Option Value → va_W → Prop}
theorem g_iret (C : Cx E own cc) (F : Fn E (some .int) mc ms post) {v : Int32} (hd : decode cc pc = .ok (.ireturn, 1)) (hk : k ≤ mc) (hn : n ≤ ms) (hp : post (some (.int v)) ws) : G E k n pc lv [.int v] ws := by
  intro H locs ls hP hD hS hl
  rw [F.2]
  exact W.widen hk hn (W.iret (v := v) C.1 C.2.1 F.1 (fun t ht hW => ⟨⟨_, ws, rfl, hp, by rw [ht]; exact hP, hD⟩, hS.F ht⟩) hS.2.2 hd C.2.2.2.2.2.2.1)
theorem g_zret (C : Cx E own cc) (F : Fn E (some .boolean) mc ms post) {v : Int32} (hd : decode cc pc = .ok (.ireturn, 1)) (hv : v = 0 ∨ v = 1) (hk : k ≤ mc) (hn : n ≤ ms) (hp : post (some (.int v)) ws) : G E k n pc lv [.int v] ws := by
  intro H locs ls hP hD hS hl
  rw [F.2]
  exact W.widen hk hn (W.zret (v := v) C.1 C.2.1 F.1 (by rcases hv with rfl | rfl <;> rfl) (fun t ht hW => ⟨⟨_, ws, rfl, hp, by rw [ht]; exact hP, hD⟩, hS.F ht⟩) hS.2.2 hd C.2.2.2.2.2.2.1)
theorem g_vret (C : Cx E own cc) (F : Fn E none mc ms post) (hd : decode cc pc = .ok (.return_, 1)) (hk : k ≤ mc) (hn : n ≤ ms) (hp : post none ws) : G E k n pc lv [] ws := by
  intro H locs ls hP hD hS hl
  rw [F.2]
  exact W.widen hk hn (W.vret C.1 C.2.1 F.1 (fun t ht hW => ⟨⟨_, ws, rfl, hp, by rw [ht]; exact hP, hD⟩, hS.F ht⟩) hS.2.2 hd C.2.2.2.2.2.2.1)
theorem g_aret (C : Cx E own cc) {rt : FieldType} (F : Fn E (some rt) mc ms post) {v : Nat} (hrt : (∃ n, rt = .object n) ∨ ∃ t, rt = .array t) (hd : decode cc pc = .ok (.areturn, 1)) (hk : k ≤ mc) (hn : n ≤ ms) (hp : post (some (.ref v)) ws) : G E k n pc lv [.ref v] ws := by
  intro H locs ls hP hD hS hl
  rw [F.2]
  exact W.widen hk hn (W.aret (v := .ref v) C.1 C.2.1 F.1 hrt (Or.inr ⟨v, rfl⟩) (fun t ht hW => ⟨⟨_, ws, rfl, hp, by rw [ht]; exact hP, hD⟩, hS.F ht⟩) hS.2.2 hd C.2.2.2.2.2.2.1)

/-- a field is read -/
theorem g_get (C : Cx E own cc) {a ci idx N j : Nat} {ref cls : String} {T : u_T} {fs : List Value} {v : Value} (i0 : Nat) (hin : ∀ w ∈ u_ws cls T N, w ∈ Tg) (hc : classes[ci]? = some (cls, T, N)) (hw : ws[i0]? = some (a, .inr (ci, fs))) (hj : j < N) (hv : fs[j]? = some v) (hlk : Cond.fieldLink own idx ref (T j).2.1 (T j).2.2.1 ∈ Tg) (hsame : ref = (T j).1 ∨ Cond.sameField ref (T j).1 (T j).2.1 (T j).2.2.1 ∈ Tg) (hd : decode cc pc = .ok (.getfield idx, 3)) (hq : pc + 3 = q) (kk : G E k n q lv (v :: st) ws) : G E k n pc lv (.ref a :: st) ws := by
  subst hq
  refine fun H locs ls hP hD hS hl => va_get (D := (xG E).1) (ci := ci) (v := v) (C := cls) (T := T) (N := N) C.1 C.2.1 C.2.2.2.2.1 hin C.2.2.2.1 C.2.2.2.2.2.1 hP i0 hw hc j hj (C.2.2.2.2.1 _ hlk) ?_ hv hd (kk H locs ls hP hD hS hl)
  rcases hsame with h | h
  · subst h; exact fun _ h9 => h9
  · exact fun x9 h9 => u_same (C.2.2.2.2.1 _ h) x9 h9
/-- a field is written -/
theorem g_put (C : Cx E own cc) {a ci idx N j : Nat} {ref cls : String} {T : u_T} {ty0 : Nat → FieldType} {fs : List Value} {v : Value} {ty : FieldType} (i0 : Nat) (hin : ∀ w ∈ u_ws cls T N, w ∈ Tg) (hty : ∀ k, k < N → parseFieldDescriptor (T k).2.2.1 = some (ty0 k)) (hnm : ∀ a, a < N → ∀ b, b < N → a ≠ b → (T a).2.1 ≠ (T b).2.1) (hc : classes[ci]? = some (cls, T, N)) (hw : ws[i0]? = some (a, .inr (ci, fs))) (hj : j < N) (hl0 : j < fs.length) (hlk : Cond.fieldLink own idx ref (T j).2.1 (T j).2.2.1 ∈ Tg) (hsame : ref = (T j).1 ∨ Cond.sameField ref (T j).1 (T j).2.1 (T j).2.2.1 ∈ Tg) (hfin : (T j).2.2.2 = false) (hd0 : parseFieldDescriptor (T j).2.2.1 = some ty) (hnar : narrow ty v = v) (hfit : fits ty v = true) (hd : decode cc pc = .ok (.putfield idx, 3)) (hq : pc + 3 = q) (kk : G E k n q lv st (ws.set i0 (a, .inr (ci, fs.set j v)))) : G E k n pc lv (v :: .ref a :: st) ws := by
  subst hq
  refine fun H locs ls hP hD hS hl => va_put (D := (xG E).1) (ci := ci) (v := v) (ty := ty) (C := cls) (T := T) (N := N) C.1 C.2.1 C.2.2.2.2.1 hin ty0 hty hnm C.2.2.2.1 C.2.2.2.2.2.1 hP hD hS i0 hw hc j hj (C.2.2.2.2.1 _ hlk) ?_ hfin hd0 hnar hfit hl0 hd (fun H1 locs1 hP1 hD1 hS1 => kk H1 locs1 ls hP1 hD1 hS1 hl)
  rcases hsame with h | h
  · subst h; exact fun _ h9 => h9
  · exact fun x9 h9 => u_same (C.2.2.2.2.1 _ h) x9 h9
/-- a final field is written, in a constructor -/
theorem g_putF (C : Cx E own cc) {a ci idx N j : Nat} {ref cls : String} {T : u_T} {ty0 : Nat → FieldType} {fs : List Value} {v : Value} {ty : FieldType} (hini : (xh E).name = "<init>") (i0 : Nat) (hin : ∀ w ∈ u_ws cls T N, w ∈ Tg) (hty : ∀ k, k < N → parseFieldDescriptor (T k).2.2.1 = some (ty0 k)) (hnm : ∀ a, a < N → ∀ b, b < N → a ≠ b → (T a).2.1 ≠ (T b).2.1) (hc : classes[ci]? = some (cls, T, N)) (hw : ws[i0]? = some (a, .inr (ci, fs))) (hj : j < N) (hl0 : j < fs.length) (hlk : Cond.fieldLink own idx ref (T j).2.1 (T j).2.2.1 ∈ Tg) (hsame : ref = (T j).1 ∨ Cond.sameField ref (T j).1 (T j).2.1 (T j).2.2.1 ∈ Tg) (hfin : (T j).2.2.2 = true) (hdecl : (T j).1 = own) (hd0 : parseFieldDescriptor (T j).2.2.1 = some ty) (hnar : narrow ty v = v) (hfit : fits ty v = true) (hd : decode cc pc = .ok (.putfield idx, 3)) (hq : pc + 3 = q) (kk : G E k n q lv st (ws.set i0 (a, .inr (ci, fs.set j v)))) : G E k n pc lv (v :: .ref a :: st) ws := by
  subst hq
  refine fun H locs ls hP hD hS hl => va_putF (D := (xG E).1) (ci := ci) (v := v) (ty := ty) (C := cls) (T := T) (N := N) C.1 C.2.1 C.2.2.2.2.1 hin ty0 hty hnm C.2.2.2.1 C.2.2.2.2.2.1 hP hD hS i0 hw hc j hj (C.2.2.2.2.1 _ hlk) ?_ hfin hini hdecl hd0 hnar hfit hl0 hd (fun H1 locs1 hP1 hD1 hS1 => kk H1 locs1 ls hP1 hD1 hS1 hl)
  rcases hsame with h | h
  · subst h; exact fun _ h9 => h9
  · exact fun x9 h9 => u_same (C.2.2.2.2.1 _ h) x9 h9
/-- nest mates' fields -/
theorem g_getN (C : Cx E own cc) {a ci idx N j : Nat} {cls host : String} {T : u_T} {fs : List Value} {v : Value} (i0 : Nat) (hin : ∀ w ∈ u_ws cls T N, w ∈ Tg) (hc : classes[ci]? = some (cls, T, N)) (hw : ws[i0]? = some (a, .inr (ci, fs))) (hj : j < N) (hv : fs[j]? = some v) (hlk : Cond.fieldLinkNest own idx (T j).1 (T j).2.1 (T j).2.2.1 host ∈ Tn) (hd : decode cc pc = .ok (.getfield idx, 3)) (hq : pc + 3 = q) (kk : G E k n q lv (v :: st) ws) : G E k n pc lv (.ref a :: st) ws := by
  subst hq
  exact fun H locs ls hP hD hS hl => va_getN (D := (xG E).1) (ci := ci) (v := v) (C := cls) (T := T) (N := N) C.1 C.2.1 C.2.2.2.2.1 hin C.2.2.2.1 C.2.2.2.2.2.1 hP i0 hw hc j hj (va_Nw.use rfl (C.2.2.2.2.2.2.2.2.1 _ hlk)) (fun _ h9 => h9) hv hd (kk H locs ls hP hD hS hl)
theorem g_putN (C : Cx E own cc) {a ci idx N j : Nat} {cls host : String} {T : u_T} {ty0 : Nat → FieldType} {fs : List Value} {v : Value} {ty : FieldType} (i0 : Nat) (hin : ∀ w ∈ u_ws cls T N, w ∈ Tg) (hty : ∀ k, k < N → parseFieldDescriptor (T k).2.2.1 = some (ty0 k)) (hnm : ∀ a, a < N → ∀ b, b < N → a ≠ b → (T a).2.1 ≠ (T b).2.1) (hc : classes[ci]? = some (cls, T, N)) (hw : ws[i0]? = some (a, .inr (ci, fs))) (hj : j < N) (hl0 : j < fs.length) (hlk : Cond.fieldLinkNest own idx (T j).1 (T j).2.1 (T j).2.2.1 host ∈ Tn) (hfin : (T j).2.2.2 = false) (hd0 : parseFieldDescriptor (T j).2.2.1 = some ty) (hnar : narrow ty v = v) (hfit : fits ty v = true) (hd : decode cc pc = .ok (.putfield idx, 3)) (hq : pc + 3 = q) (kk : G E k n q lv st (ws.set i0 (a, .inr (ci, fs.set j v)))) : G E k n pc lv (v :: .ref a :: st) ws := by
  subst hq
  exact fun H locs ls hP hD hS hl => va_putN (D := (xG E).1) (ci := ci) (v := v) (ty := ty) (C := cls) (T := T) (N := N) C.1 C.2.1 C.2.2.2.2.1 hin ty0 hty hnm C.2.2.2.1 C.2.2.2.2.2.1 hP hD hS i0 hw hc j hj (va_Nw.use rfl (C.2.2.2.2.2.2.2.2.1 _ hlk)) (fun _ h9 => h9) hfin hd0 hnar hfit hl0 hd (fun H1 locs1 hP1 hD1 hS1 => kk H1 locs1 ls hP1 hD1 hS1 hl)
theorem g_iald (C : Cx E own cc) {a N : Nat} {f : Nat → Int32} {i : Int32} (i0 : Nat) (hw : ws[i0]? = some (a, .inl ((xG E).2 0, N, .inl f))) (hin : vp_in i N) (hd : decode cc pc = .ok (.iaload, 1)) (hq : pc + 1 = q) (kk : G E k n q lv (.int (f i.toNatClampNeg) :: st) ws) : G E k n pc lv (.int i :: .ref a :: st) ws := by
  subst hq
  exact fun H locs ls hP hD hS hl => va_iald C.1 C.2.1 C.2.2.2.2.2.1 hP i0 0 hw rfl hin hd (kk H locs ls hP hD hS hl)
theorem g_zald (C : Cx E own cc) {a N : Nat} {f : Nat → Int32} {i : Int32} (i0 : Nat) (hw : ws[i0]? = some (a, .inl ((xG E).2 1, N, .inl f))) (hin : vp_in i N) (hd : decode cc pc = .ok (.baload, 1)) (hq : pc + 1 = q) (kk : G E k n q lv (.int (f i.toNatClampNeg) :: st) ws) : G E k n pc lv (.int i :: .ref a :: st) ws := by
  subst hq
  exact fun H locs ls hP hD hS hl => va_zald C.1 C.2.1 C.2.2.2.2.2.1 hP i0 1 hw rfl hin hd (kk H locs ls hP hD hS hl)
theorem g_bald (C : Cx E own cc) {a N : Nat} {f : Nat → Int32} {i : Int32} (i0 : Nat) (hw : ws[i0]? = some (a, .inl ((xG E).2 2, N, .inl f))) (hin : vp_in i N) (hd : decode cc pc = .ok (.baload, 1)) (hq : pc + 1 = q) (kk : G E k n q lv (.int (f i.toNatClampNeg) :: st) ws) : G E k n pc lv (.int i :: .ref a :: st) ws := by
  subst hq
  exact fun H locs ls hP hD hS hl => va_bald C.1 C.2.1 C.2.2.2.2.2.1 hP i0 2 hw rfl hin hd (kk H locs ls hP hD hS hl)
theorem g_iast (C : Cx E own cc) {a N : Nat} {f : Nat → Int32} {i x : Int32} (i0 : Nat) (hw : ws[i0]? = some (a, .inl ((xG E).2 0, N, .inl f))) (hin : vp_in i N) (hd : decode cc pc = .ok (.iastore, 1)) (hq : pc + 1 = q) (kk : G E k n q lv st (ws.set i0 (a, .inl ((xG E).2 0, N, .inl (upd f i.toNatClampNeg x))))) : G E k n pc lv (.int x :: .int i :: .ref a :: st) ws := by
  subst hq
  exact fun H locs ls hP hD hS hl => va_iast C.1 C.2.1 C.2.2.2.2.2.1 hP hD hS i0 0 hw rfl hin hd (fun H1 locs1 hP1 hD1 hS1 => kk H1 locs1 ls hP1 hD1 hS1 hl)
theorem g_zast (C : Cx E own cc) {a N : Nat} {f : Nat → Int32} {i x : Int32} (i0 : Nat) (hw : ws[i0]? = some (a, .inl ((xG E).2 1, N, .inl f))) (hin : vp_in i N) (hd : decode cc pc = .ok (.bastore, 1)) (hq : pc + 1 = q) (kk : G E k n q lv st (ws.set i0 (a, .inl ((xG E).2 1, N, .inl (upd f i.toNatClampNeg (vp_nar .boolean x)))))) : G E k n pc lv (.int x :: .int i :: .ref a :: st) ws := by
  subst hq
  exact fun H locs ls hP hD hS hl => va_zast C.1 C.2.1 C.2.2.2.2.2.1 hP hD hS i0 1 hw rfl hin hd (fun H1 locs1 hP1 hD1 hS1 => kk H1 locs1 ls hP1 hD1 hS1 hl)
theorem g_bast (C : Cx E own cc) {a N : Nat} {f : Nat → Int32} {i x : Int32} (i0 : Nat) (hw : ws[i0]? = some (a, .inl ((xG E).2 2, N, .inl f))) (hin : vp_in i N) (hd : decode cc pc = .ok (.bastore, 1)) (hq : pc + 1 = q) (kk : G E k n q lv st (ws.set i0 (a, .inl ((xG E).2 2, N, .inl (upd f i.toNatClampNeg (vp_nar .byte x)))))) : G E k n pc lv (.int x :: .int i :: .ref a :: st) ws := by
  subst hq
  exact fun H locs ls hP hD hS hl => va_bast C.1 C.2.1 C.2.2.2.2.2.1 hP hD hS i0 2 hw rfl hin hd (fun H1 locs1 hP1 hD1 hS1 => kk H1 locs1 ls hP1 hD1 hS1 hl)
theorem g_alen (C : Cx E own cc) {a ti N : Nat} {ty : FieldType} {x : (Nat → Int32) ⊕ (Nat → Int64) ⊕ (Nat → UInt32) ⊕ (Nat → UInt64) ⊕ (Nat → Option Nat)} {cA : ClassId} (i0 : Nat) (hw : ws[i0]? = some (a, .inl (cA, N, x))) (ht : (TY (xG E).2)[ti]? = some (cA, ty)) (hd : decode cc pc = .ok (.arraylength, 1)) (hq : pc + 1 = q) (kk : G E k n q lv (.int (nI N) :: st) ws) : G E k n pc lv (.ref a :: st) ws := by
  subst hq
  exact fun H locs ls hP hD hS hl => va_alen C.1 C.2.1 C.2.2.2.2.2.1 hP i0 ti hw ht rfl hd (kk H locs ls hP hD hS hl)
end
