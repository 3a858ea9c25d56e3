/-! The three takers, as tell wants them -/
theorem Ct.mono {l : Launch} {Γ : Gl} {y : MethodName} {b : ByteArray} {n : Nat} {r : Option FieldType} {d mc ms : Nat} {av : List Value} {ws : va_W} {post post' : Option Value → va_W → Prop} (h : Ct l Γ y b n r d mc ms av ws post) (hp : ∀ v w, post v w → post' v w) : Ct l Γ y b n r d mc ms av ws post' := by
  intro sz p e h1 h2 h3 s m args below h4 h5 h6 h7
  obtain ⟨k, o, a1, a2, a3, ⟨⟨v, ws', b1, b2, b3, b4⟩, b5⟩, a5⟩ := h sz p e h1 h2 h3 s m args below h4 h5 h6 h7
  exact ⟨k, o, a1, a2, a3, ⟨⟨v, ws', b1, hp _ _ b2, b3, b4⟩, b5⟩, a5⟩
def Q1 (Γ : Gl) (x : Nat) (A : Nat → Nat) (c2 : Nat) (c : Cd) (w : va_W) : Prop := ∃ fw gw, w = bw [p1w (A 14) x, ww Γ (A 11) c2 fw gw] ∧ WC fw gw c
def Q2 (Γ : Gl) (x : Nat) (A : Nat → Nat) (c2 : Nat) (s : Rd × Cd) (w : va_W) : Prop := ∃ fr fw gw, w = bw [p2w (A 15) x, rw1 (A 13) x fr, ww Γ (A 12) c2 fw gw] ∧ RC fr s.1 ∧ WC fw gw s.2
def Q3 (A : Nat → Nat) (n : Nat) (w : va_W) : Prop := w = bw [sw (A 16) (nI n)]
def adW (c : Cd) : Prop := CdOk c ∧ c.2.2.1 + c.2.2.2.1 + 17 ≤ 32768
def ok2 (s : Rd × Cd) (of : Nat) : Prop := s.1.1 ≤ s.1.2.2.1 ∧ s.1.2.2.1 ≤ s.1.2.1 ∧ s.1.2.1 < 65536 ∧ 0 < of ∧ of ≤ 16384
def ad2 (s : Rd × Cd) (sp : Sp) : Prop := RdOk s.1 ∧ sp.1 ≤ ask s.1 sp.2.2 ∧ ask s.1 sp.2.2 < sp.1 + sp.2.1 ∧ s.1.2.2.2 + 17 < 2 ^ 30 ∧ adW s.2
abbrev st1 : Cd → Sp → Cd := fun c s => wspan s c
abbrev st2 (nb : Nat → Nat) : Rd × Cd → Sp → Rd × Cd := fun c s => (rspan nb s c.1, wspan s c.2)
abbrev st3 : Nat → Sp → Nat := fun n s => n + bo s
section
variable {l : Launch} {Γ : Gl} {x c2 : Nat} {A : Nat → Nat} {out : Nat → Nat} {os : Nat} {T : Tr} {ord rm sg : Nat}
theorem TK_1 : TK l Γ x A out os (Q1 Γ x A c2) (fun _ _ => -1) st1 (fun _ _ => True) (fun c _ => adW c) (A 14) := by
  refine ⟨_, 6, F_P1, 1, _, _, _, _, _, _, 0, fw_P1_pointed, fw_P1_take, rfl, by decide, ?_, ?_, ?_⟩
  · rintro s w fx gx ⟨fw, gw, rfl, -⟩
    exact ⟨[.ref x], rfl⟩
  · rintro s w fx gx of - - -
    exact c_P1_pointed
  · rintro s w fx gx sp - ⟨fw, gw, rfl, hW⟩ hs ⟨h1, h2⟩
    refine ⟨5, by decide, ?_⟩
    have := c_P1_take (l := l) (Γ := Γ) (t := A 14) (x := x) (c2 := c2) (A := A) (f := fx) (g := gx) hW h1 hs h2
    refine this.mono (fun r w' h => ?_)
    obtain ⟨h3, fw', gw', h4, h5⟩ := h
    exact ⟨h3, _, ⟨fw', gw', rfl, h5⟩, h4⟩
theorem TK_2 : TK l Γ x A out os (Q2 Γ x A c2) (fun s of => nI (ask s.1 of)) (st2 (nbit out os)) ok2 ad2 (A 15) := by
  refine ⟨_, 7, F_P2, 1, _, _, _, _, _, _, 1, fw_P2_pointed, fw_P2_take, rfl, by decide, ?_, ?_, ?_⟩
  · rintro s w fx gx ⟨fr, fw, gw, rfl, -⟩
    exact ⟨[.ref x], rfl⟩
  · rintro s w fx gx of hO ⟨fr, fw, gw, rfl, hr, hW⟩ ⟨o1, o2, o3, o4, o5⟩
    exact c_P2_pointed (l := l) (Γ := Γ) (t := A 15) (x := x) (c2 := c2) (A := A) (f := fx) (g := gx) hr o1 o2 o3 o4 o5
  · rintro s w fx gx sp hO ⟨fr, fw, gw, rfl, hr, hW⟩ hs ⟨h1, h2, h3, h4, h5, h6⟩
    refine ⟨5, by decide, ?_⟩
    have := c_P2_take (l := l) (Γ := Γ) (t := A 15) (x := x) (c2 := c2) (A := A) (f := fx) (g := gx) hO hr h1 h2 h3 h4 hW h5 hs h6
    refine this.mono (fun r w' h => ?_)
    obtain ⟨h3, fr', fw', gw', h4, h5, h6⟩ := h
    exact ⟨h3, _, ⟨fr', fw', gw', rfl, h5, h6⟩, h4⟩
theorem TK_3 : TK l Γ x A out os (Q3 A) (fun _ _ => -1) st3 (fun _ _ => True) (fun _ _ => True) (A 16) := by
  refine ⟨_, 5, F_Su, 1, _, _, _, _, _, _, 0, fw_Su_pointed, fw_Su_take, rfl, by decide, ?_, ?_, ?_⟩
  · rintro s w fx gx rfl
    exact ⟨[.int (nI s)], rfl⟩
  · rintro s w fx gx of - - -
    exact c_Su_pointed
  · rintro s w fx gx sp - rfl hs -
    refine ⟨0, by decide, ?_⟩
    have := c_Su_take (l := l) (Γ := Γ) (t := A 16) (x := x) (A := A) (f := fx) (g := gx) (n := s) hs
    refine this.mono (fun r w' h => ?_)
    exact ⟨h.1, _, rfl, h.2⟩
def In1 (sg kk : Nat) (e : Nat → Bool) (c : Cd) : Prop := e sg = false ∧ CdOk c ∧ c.2.2.1 + c.2.2.2.1 + 16 * (kk + 1) + 1 ≤ 32768
theorem TKI_1 (hI : TI ord rm T) (hsg : sg ≤ 256) : TKI T sg (nI sg) (fun (_ : Cd) (_ : Nat) => (-1 : Int32)) st1 (fun _ _ => True) (fun c _ => adW c) (fun kk e _ c => In1 sg kk e c) := by
  refine ⟨fun k e x s hk hE hi => ⟨fun _ => ⟨hi.1, hi.2.1, by have := hi.2.2; omega⟩, fun h0 => ⟨trivial, Or.inl ⟨rfl, rfl⟩, fun _ => ⟨hi.2.1, by have := hi.2.2; omega⟩, fun hnf => ⟨⟨hi.2.1, by have := hi.2.2; omega⟩, ?_⟩⟩⟩, fun e x s hE hi => ⟨trivial, Or.inl ⟨rfl, rfl⟩, hi.1, hi.2.1, by have := hi.2.2; omega⟩⟩
  have hb := ct_sum hI.1 hI.2.2.2 e (cx T k)
  obtain ⟨a, b, c⟩ := esc_ok hb h0
  obtain ⟨w1, w2⟩ := wspan_ok hi.2.1 a b c
  refine ⟨ex_s hi.1 hnf, w1, ?_⟩
  have := hi.2.2
  show (wspan _ s).2.2.1 + (wspan _ s).2.2.2.1 + 16 * (k + 1) + 1 ≤ 32768
  omega
def In3 (sg : Nat) (e : Nat → Bool) : Prop := e sg = false
theorem TKI_3 (hsg : sg ≤ 256) : TKI T sg (nI sg) (fun (_ : Nat) (_ : Nat) => (-1 : Int32)) st3 (fun _ _ => True) (fun _ _ => True) (fun _ e _ _ => In3 sg e) :=
  ⟨fun k e x s hk hE hi => ⟨fun _ => hi, fun h0 => ⟨trivial, Or.inl ⟨rfl, rfl⟩, fun _ => trivial, fun hnf => ⟨trivial, ex_s hi hnf⟩⟩⟩, fun e x s hE hi => ⟨trivial, Or.inl ⟨rfl, rfl⟩, hi, trivial⟩⟩
def In2 (T : Tr) (nb : Nat → Nat) (sg kk : Nat) (e : Nat → Bool) (n : Nat) (s : Rd × Cd) : Prop := RdOk s.1 ∧ rsg T nb kk e n s.1 = sg ∧ s.1.2.2.2 + 16 * (kk + 1) + 1 < 2 ^ 30 ∧ CdOk s.2 ∧ s.2.2.2.1 + s.2.2.2.2.1 + 16 * (kk + 1) + 1 ≤ 32768
theorem TKI_2 (hI : TI ord rm T) (arg : Int32) : TKI T sg arg (fun s of => nI (ask s.1 of)) (st2 (nbit out os)) ok2 ad2 (fun kk e n s => In2 T (nbit out os) sg kk e n s) := by
  have hnb : ∀ i, nbit out os i < 2 := fun i => nbit_lt
  constructor
  · rintro k e x ⟨r, c⟩ hk hE ⟨i1, i2, i3, i4, i5⟩
    simp only at i1 i2 i3 i4 i5
    have hb := ct_sum hI.1 hI.2.2.2 e (cx T k)
    obtain ⟨h1, h2, h3, h4, h5, h6⟩ := id i1
    constructor
    · intro h0
      refine ⟨i1, ?_, by show r.2.2.2 + 16 * (k + 1) + 1 < _; omega, i4, by show c.2.2.1 + c.2.2.2.1 + 16 * (k + 1) + 1 ≤ _; omega⟩
      rw [← i2]
      show _ = (if nz (ct T e (cx T k)) 256 = 0 then _ else _)
      rw [if_pos h0]
    · intro h0
      have hesc := esc_ok hb h0
      have hv : ask r (bl (ct T e (cx T k)) 256 + nz (ct T e (cx T k)) 256) < bl (ct T e (cx T k)) 256 + nz (ct T e (cx T k)) 256 := ask_lt h5 h6 (by omega)
      have hadW : adW c := ⟨i4, by omega⟩
      refine ⟨⟨h5, h6, h3, by omega, hesc.2.2⟩, ?_⟩
      rcases pk1_ok (t := ct T e (cx T k)) (v := ask r (bl (ct T e (cx T k)) 256 + nz (ct T e (cx T k)) 256)) 256 (Nat.le_refl _) with ⟨p1, p2⟩ | ⟨p1, p2, p3, p4⟩
      · have hrs : rsg T (nbit out os) (k + 1) e x r = rsg T (nbit out os) k (ex e (ct T e (cx T k))) (x + nz (ct T e (cx T k)) 256) (rspan (nbit out os) (bl (ct T e (cx T k)) 256, nz (ct T e (cx T k)) 256, bl (ct T e (cx T k)) 256 + nz (ct T e (cx T k)) 256) r) := by
          show (if nz (ct T e (cx T k)) 256 = 0 then _ else if _ then _ else _) = _
          rw [if_neg h0, if_neg (by omega)]
        obtain ⟨q1, q2⟩ := rspan_ok hnb (s := (bl (ct T e (cx T k)) 256, nz (ct T e (cx T k)) 256, bl (ct T e (cx T k)) 256 + nz (ct T e (cx T k)) 256)) i1 hesc p2 hv
        obtain ⟨a, b, -, -⟩ := rsg_ok hI.1 hI.2.2.2 hnb k _ _ _ (hE.ex (T := T) (v := cx T k)) q1
        rw [← hrs, i2] at a b
        have hnf : ¬ (sg < 256 ∧ 0 < ct T e (cx T k) sg) := by
          rintro ⟨z1, z2⟩
          unfold ex at b
          simp [z1, z2] at b
        obtain ⟨w1, w2⟩ := wspan_ok i4 hesc.1 hesc.2.1 hesc.2.2
        refine ⟨Or.inr ⟨_, rfl, hv, Or.inr ⟨hnf, p2⟩⟩, fun q => absurd q hnf, fun _ => ⟨⟨i1, p2, hv, by show r.2.2.2 + 17 < _; omega, hadW⟩, q1, by rw [← hrs]; exact i2, ?_, w1, ?_⟩⟩
        · show (rspan _ _ r).2.2.2 + 16 * (k + 1) + 1 < _
          omega
        · show (wspan _ c).2.2.1 + (wspan _ c).2.2.2.1 + 16 * (k + 1) + 1 ≤ _
          omega
      · have hrs : rsg T (nbit out os) (k + 1) e x r = pk1 (ct T e (cx T k)) (ask r (bl (ct T e (cx T k)) 256 + nz (ct T e (cx T k)) 256)) 256 := by
          show (if nz (ct T e (cx T k)) 256 = 0 then _ else if _ then _ else _) = _
          rw [if_neg h0, if_pos p1]
        rw [← hrs, i2] at p1 p2 p3 p4
        exact ⟨Or.inr ⟨_, rfl, hv, Or.inl ⟨p1, p2, p3, p4⟩⟩, fun _ => ⟨i1, p3, p4, by show r.2.2.2 + 17 < _; omega, hadW⟩, fun q => absurd ⟨p1, p2⟩ q⟩
  · rintro e x ⟨r, c⟩ hE ⟨i1, i2, i3, i4, i5⟩
    simp only at i1 i2 i3 i4 i5
    obtain ⟨h1, h2, h3, h4, h5, h6⟩ := id i1
    obtain ⟨e1, e2, e3⟩ := id hE
    have hv : ask r (257 - x) < 257 - x := ask_lt h5 h6 (by omega)
    obtain ⟨a, b, c'⟩ := fsg_ok (e := e) (v := ask r (257 - x)) (by omega) 257 0 (by omega) (Nat.zero_le _)
    have hrs : rsg T (nbit out os) 0 e x r = fsg e (ask r (257 - x)) 257 0 := rfl
    rw [← hrs, i2] at a b c'
    refine ⟨⟨h5, h6, h3, by omega, by omega⟩, Or.inr (by show nI (ask r (257 - x)) = _; rw [b]), a, i1, ?_, ?_, by show r.2.2.2 + 17 < _; omega, i4, by show c.2.2.1 + c.2.2.2.1 + 17 ≤ _; omega⟩
    · show nx e sg ≤ ask r (257 - x); omega
    · show ask r (257 - x) < nx e sg + 1; omega
theorem fold2 (nb : Nat → Nat) : ∀ (l : List Sp) (s : Rd × Cd), l.foldl (st2 nb) s = (rf nb l s.1, wf l s.2)
  | [], _ => rfl
  | _ :: l, _ => fold2 nb l _
theorem fold3 : ∀ (l : List Sp) (n : Nat), l.foldl st3 n = n + cst l
  | [], _ => rfl
  | s :: l, n => by
    show l.foldl st3 (n + bo s) = n + (bo s + cst l)
    rw [fold3 l, Nat.add_assoc]
end
