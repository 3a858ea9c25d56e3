/-! THE WALK'S OWN JUDGEMENT G: at pc, with locals lv, stack st and world ws, the machine comes to the method's end. Rows turn G at an instruction into G at the next. Ct: a contract. -/
abbrev Gl : Type := va_G × (Nat → ClassId)
/-- the array classes: int, boolean, byte, long, Model, Object -/
def TY (ca : Nat → ClassId) : List (ClassId × FieldType) := [(ca 0, .int), (ca 1, .boolean), (ca 2, .byte), (ca 3, .long), (ca 4, .object "PpmTrees$Model"), (ca 5, .object "java/lang/Object")]
def nWord : Cond → Bool
  | .fieldLinkNest .. | .methodLinkNest .. => true
  | c => c.faceAtom
def Tn : List Cond := lw_tbl.filter nWord
def Nst (U : State) : Prop := (∀ w ∈ Tn, va_Nw w U) ∧ va_AO "PpmTrees$Model" U ∧ va_AO "java/lang/Object" U
theorem nWord_on {w : Cond} (h : nWord w = true) : w.onTables = true := by
  cases w <;> first | rfl | (simp [nWord, Cond.faceAtom] at h)
theorem nw_warm {w : Cond} (hw : nWord w = true) {s U : State} (hW : s.WarmedH U.vm) (h : va_Nw w s) : va_Nw w U := by
  have hf : ∀ w : Cond, w.faceAtom = true → w.onTables = true → va_Nw w s → va_Nw w U := fun w h1 h2 h3 => va_tabs h2 (rfl : (s.setVm U.vm).vm = U.vm) (Cond.faceAtom_setVm (args := #[]) hW.alike w h1 h3)
  cases w with
  | fieldLinkNest a i b n d h' => exact va_Nw.warmF hW h
  | methodLinkNest a i x h' => exact va_Nw.warmM hW h
  | _ => exact hf _ hw (nWord_on hw) h
theorem Nst.warm {s U : State} (hW : s.WarmedH U.vm) (h : Nst s) : Nst U :=
  ⟨fun w hw => nw_warm (List.mem_filter.mp hw).2 hW (h.1 w hw), h.2.1.moved hW.alike, h.2.2.moved hW.alike⟩
theorem Nst.calling {U : State} {g : JFrame} {mk : MethodId} {a : Array Value} (h : Nst U) : Nst (U.calling g mk a) :=
  ⟨fun w hw => va_Nw.same (nWord_on (List.mem_filter.mp hw).2) (u := U) rfl (h.1 w hw), va_AO.moved (u := U) (U := U.calling g mk a) (Vm.Alike.refl U.vm) h.2.1, va_AO.moved (u := U) (U := U.calling g mk a) (Vm.Alike.refl U.vm) h.2.2⟩
abbrev Ev : Type := Gl × Program × Launch × Env × Room × State × MethodId × Array Value × List Frame × Method × Code × (Nat → Prop) × Nat × (State → Prop)
abbrev xG (E : Ev) : Gl := E.1
abbrev xp (E : Ev) : Program := E.2.1
abbrev xl (E : Ev) : Launch := E.2.2.1
abbrev xe (E : Ev) : Env := E.2.2.2.1
abbrev xR (E : Ev) : Room := E.2.2.2.2.1
abbrev xs (E : Ev) : State := E.2.2.2.2.2.1
abbrev xm (E : Ev) : MethodId := E.2.2.2.2.2.2.1
abbrev xa (E : Ev) : Array Value := E.2.2.2.2.2.2.2.1
abbrev xb (E : Ev) : List Frame := E.2.2.2.2.2.2.2.2.1
abbrev xh (E : Ev) : Method := E.2.2.2.2.2.2.2.2.2.1
abbrev xc (E : Ev) : Code := E.2.2.2.2.2.2.2.2.2.2.1
abbrev xA (E : Ev) : Nat → Prop := E.2.2.2.2.2.2.2.2.2.2.2.1
abbrev xn (E : Ev) : Nat := E.2.2.2.2.2.2.2.2.2.2.2.2.1
abbrev xQ (E : Ev) : State → Prop := E.2.2.2.2.2.2.2.2.2.2.2.2.2
abbrev LV : Type := List (Option Value)
def LH (ls : Array Slot) (nL : Nat) (lv : LV) : Prop := ls.size = nL ∧ lv_wf ls ∧ ∀ (i : Nat) (v : Value), lv[i]? = some (some v) → ls[i]? = some (.val v) ∧ v.category = 1
def G (E : Ev) (k n pc : Nat) (lv : LV) (st : List Value) (ws : va_W) : Prop :=
  ∀ (H : Heap) (locs : List Loc) (ls : Array Slot), va_P (xG E).1 classes ws H → va_D (xA E) ws → va_S (xA E) (xs E).heap H locs → LH ls (xn E) lv →
    W (xp E) (xl E) (xe E) (xR E) (xs E) (xm E) (xa E) (xb E) (xh E) (xc E) H locs k n (xQ E) (F0 (xm E) pc ls st)
def Cx (E : Ev) (own : String) (cc : ByteArray) : Prop :=
  (xp E).tables.exec = Jvm.exec ∧ (xc E).code = cc ∧ (xc E).maxLocals = xn E ∧ (xs E).vm.findClass own = some (xm E).cls ∧ (∀ w ∈ Tg, w.before (xa E) (xs E) = true) ∧ va_K (xG E).1 classes (TY (xG E).2) (xs E) ∧ (xh E).locks = false ∧ (∀ q, (xs E).heap.size ≤ q → xA E q) ∧ Nst (xs E)
/-- the room that the method has -/
def Rm (E : Ev) (d mc ms : Nat) : Prop := d ≤ (xR E).frames ∧ mc ≤ (xR E).cells ∧ ms ≤ (xR E).slots ∧ 64 * d ≤ (xR E).locals
def Qcf (Γ : Gl) (A : Nat → Prop) (post : Option Value → va_W → Prop) : Array Value → State → Outcome → State → Prop := fun _ st oc t =>
  (∃ (v : Option Value) (ws' : va_W), oc = .returned v ∧ post v ws' ∧ va_P Γ.1 classes ws' t.heap ∧ va_D A ws') ∧ va_F A st t
/-- the end that the method owes -/
def Fn (E : Ev) (r : Option FieldType) (mc ms : Nat) (post : Option Value → va_W → Prop) : Prop :=
  (xh E).sig.returnType = r ∧ xQ E = MQ (xb E) (Qcf (xG E) (xA E) post) (xa E) (xs E) mc ms (xA E)
def rmK (d mc ms : Nat) : Room := { frames := d, cells := mc, slots := ms, locals := 64 * d }
def PcK (Γ : Gl) (av : List Value) (ws : va_W) (sz : Nat) : Array Value → State → Prop := va_Pc av (fun U => U.heap.size = sz ∧ va_P Γ.1 classes ws U.heap ∧ va_K Γ.1 classes (TY Γ.2) U ∧ va_D (fun _ => True) ws ∧ Nst U)
def Ct (l : Launch) (Γ : Gl) (y : MethodName) (b : ByteArray) (n : Nat) (r : Option FieldType) (d mc ms : Nat) (av : List Value) (ws : va_W) (post : Option Value → va_W → Prop) : Prop :=
  ∀ sz, Met l y (.code y b n r :: Tg) (rmK d mc ms) (PcK Γ av ws sz) (Qcf Γ (va_A ws sz) post) mc ms (va_A ws sz)
abbrev lvA (n : Nat) (av : List Value) : LV := av.map some ++ List.replicate (n - av.length) none
theorem lv_args1 : ∀ (av : List Value) (k : Nat), (∀ v ∈ av, v.category = 1) → ∀ (i : Nat) (v : Value), av[i]? = some v → (k + i, v) ∈ lv_args k av
  | [], k, _, i, v, h => by simp at h
  | a :: t, k, hc, 0, v, h => by
    rw [List.getElem?_cons_zero] at h
    cases h
    exact List.mem_cons_self
  | a :: t, k, hc, i + 1, v, h => by
    rw [List.getElem?_cons_succ] at h
    have h1 : a.category = 1 := hc a List.mem_cons_self
    have h2 := lv_args1 t (k + 1) (fun v hv => hc v (List.mem_cons_of_mem _ hv)) i v h
    show (k + (i + 1), v) ∈ (k, a) :: lv_args (if a.category = 2 then k + 2 else k + 1) t
    rw [h1, if_neg (by decide), show k + (i + 1) = k + 1 + i by omega]
    exact List.mem_cons_of_mem _ h2
theorem LH.entry {ls : Array Slot} {n : Nat} {av : List Value} (hc : ∀ v ∈ av, v.category = 1) (h : lv_has ls n (lv_args 0 av)) : LH ls n (lvA n av) := by
  refine ⟨h.1, h.2.1, fun i v hv => ?_⟩
  by_cases hi : i < av.length
  · rw [List.getElem?_append_left (by simpa using hi), List.getElem?_map] at hv
    cases ha : av[i]? with
    | none => rw [ha] at hv; cases hv
    | some w =>
      rw [ha] at hv
      cases hv
      have h2 := lv_args1 av 0 hc i v ha
      rw [Nat.zero_add] at h2
      exact ⟨h.2.2 _ h2, hc v (List.mem_of_getElem? ha)⟩
  · rw [List.getElem?_append_right (by simpa using hi), List.getElem?_replicate] at hv
    split at hv <;> cases hv
theorem LH.toL {ls : Array Slot} {n : Nat} {lv : LV} (h : LH ls n lv) (l : List (Nat × Value)) (hl : ∀ q ∈ l, lv[q.1]? = some (some q.2)) : lv_has ls n l := ⟨h.1, h.2.1, fun q hq => (h.2.2 q.1 q.2 (hl q hq)).1⟩
def lvP : Nat → LV → List (Nat × Value)
  | _, [] => []
  | k, none :: t => lvP (k + 1) t
  | k, some v :: t => (k, v) :: lvP (k + 1) t
theorem lvP_mem : ∀ (lv : LV) (k : Nat) (q : Nat × Value), q ∈ lvP k lv ↔ k ≤ q.1 ∧ lv[q.1 - k]? = some (some q.2)
  | [], k, q => by simp [lvP]
  | none :: t, k, q => by
    rw [lvP, lvP_mem t (k + 1) q]
    constructor
    · rintro ⟨h1, h2⟩
      refine ⟨by omega, ?_⟩
      rw [show q.1 - k = (q.1 - (k + 1)) + 1 by omega, List.getElem?_cons_succ]; exact h2
    · rintro ⟨h1, h2⟩
      rcases Nat.eq_or_lt_of_le h1 with h | h
      · rw [← h, Nat.sub_self] at h2; cases h2
      · refine ⟨h, ?_⟩
        rw [show q.1 - k = (q.1 - (k + 1)) + 1 by omega, List.getElem?_cons_succ] at h2; exact h2
  | some v :: t, k, q => by
    rw [lvP, List.mem_cons, lvP_mem t (k + 1) q]
    constructor
    · rintro (rfl | ⟨h1, h2⟩)
      · exact ⟨Nat.le_refl _, by rw [Nat.sub_self]; rfl⟩
      · refine ⟨by omega, ?_⟩
        rw [show q.1 - k = (q.1 - (k + 1)) + 1 by omega, List.getElem?_cons_succ]; exact h2
    · rintro ⟨h1, h2⟩
      rcases Nat.eq_or_lt_of_le h1 with h | h
      · left
        rw [← h, Nat.sub_self, List.getElem?_cons_zero] at h2
        cases q; cases h2; cases h; rfl
      · right
        refine ⟨h, ?_⟩
        rw [show q.1 - k = (q.1 - (k + 1)) + 1 by omega, List.getElem?_cons_succ] at h2; exact h2
theorem LH.all {ls : Array Slot} {n : Nat} {lv : LV} (h : LH ls n lv) : lv_has ls n (lvP 0 lv) := h.toL _ (fun q hq => by have := (lvP_mem lv 0 q).mp hq; simpa using this.2)
theorem LH.stored {ls ls' : Array Slot} {n i : Nat} {lv : LV} {v : Value} (h : LH ls n lv) (hc : v.category = 1) (hi : i < lv.length)
    (h' : lv_has ls' n ((i, v) :: (lvP 0 lv).filter (fun q => !(q.1 == i) && !(q.1 + 1 == i && q.2.category == 2)))) : LH ls' n (lv.set i (some v)) := by
  refine ⟨h'.1, h'.2.1, fun j w hw => ?_⟩
  by_cases hj : j = i
  · subst hj
    rw [List.getElem?_set_self hi] at hw
    cases hw
    exact ⟨h'.2.2 _ List.mem_cons_self, hc⟩
  · rw [List.getElem?_set_ne (fun e => hj e.symm)] at hw
    obtain ⟨h1, h2⟩ := h.2.2 j w hw
    refine ⟨h'.2.2 (j, w) (List.mem_cons_of_mem _ (List.mem_filter.mpr ⟨(lvP_mem lv 0 (j, w)).mpr ⟨Nat.zero_le _, by simpa using hw⟩, ?_⟩)), h2⟩
    simp [hj, h2]
theorem Ct.of {l : Launch} {Γ : Gl} {y : MethodName} {b : ByteArray} {n : Nat} {r : Option FieldType} {d mc ms : Nat} {av : List Value} {ws : va_W} {post : Option Value → va_W → Prop} (hp : plainName y.cls = true) (hc : ∀ v ∈ av, v.category = 1) (hlen : av.length ≤ n)
    (body : ∀ E : Ev, xG E = Γ → xl E = l → xn E = n → Cx E y.cls b → Rm E d mc ms → Fn E r mc ms post → (xh E).name = y.name → G E 0 0 0 (lvA n av) [] ws) : Ct l Γ y b n r d mc ms av ws post := by
  intro sz
  refine Met.ofW (cc := b) (maxL := n) (ret := r) hp rfl ?_
  intro p e s m args below meth c s₁ B hml hv
  obtain ⟨rfl, hsz, hP, hK, hD0, hN⟩ := hv
  have hts := atoms_spec (ws := .code y b n r :: Tg) B.pre
  have hown : s.vm.findClass y.cls = some m.cls := findClass_of_methodNamed B.named
  subst hsz
  have hD := hD0.self (sz := s.heap.size)
  have hA : ∀ q : Nat, s.heap.size ≤ q → (va_A ws s.heap.size) q := fun q h => Or.inr h
  have hlg : (lg_sl av).length ≤ n := by
    have : ∀ av : List Value, (∀ v ∈ av, v.category = 1) → (lg_sl av).length = av.length := by
      intro av
      induction av with
      | nil => intro _; rfl
      | cons a t ih =>
        intro h
        have h1 := h a List.mem_cons_self
        have h2 := ih (fun v hv => h v (List.mem_cons_of_mem _ hv))
        cases a <;> simp_all [lg_sl, Value.category]
    rw [this av hc]; exact hlen
  have hl := lv_entry av (n := n) hlg
  rw [lg_entry_eq]
  generalize (lg_sl av ++ List.replicate (n - (lg_sl av).length) Slot.unset).toArray = ls at hl ⊢
  exact body (Γ, p, l, e, (headSpec (.code y b n r :: Tg) (rmK d mc ms)).room, s, m, av.toArray, below, meth, c, va_A ws s.heap.size, n, _) rfl rfl rfl
    ⟨B.exec, B.bytes, hml, hown, fun w hw => hts w (List.mem_cons_of_mem _ hw), hK, B.notSynchronized, hA, hN⟩ ⟨Nat.le_refl _, Nat.le_refl _, Nat.le_refl _, Nat.le_refl _⟩ ⟨B.returns, rfl⟩ (name_of_methodNamed B.named B.method).1 s.heap [] ls hP hD va_S.rf (LH.entry hc hl)
