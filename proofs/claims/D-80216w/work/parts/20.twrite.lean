/-! THE TWIN: writeAll -/
/-- which context, as the programs say it -/
def fenc (k : Nat) : Int32 := if k = 0 then -3 else nI (k - 1)
def dk (k : Nat) : Int32 := if k = 0 then -1 else nI (k - 1)
theorem dk_s (k : Nat) : dk (k + 1) = nI k := rfl
theorem dk_dec (k : Nat) : nI k + Int32.ofInt (-1) = dk k := by
  cases k with
  | zero => decide
  | succ k => exact pk_m1 k
theorem fenc_s (k : Nat) : fenc (k + 1) = nI k := rfl
abbrev KW : List Nat := [7, 8, 9, 10, 11, 12, 13, 14, 15, 16, 17, 18, 19]
abbrev JW : List Nat := [3, 4, 5, 6, 7, 8, 10, 11, 12, 13, 14]
theorem CW.keep {f f' : Nat → Int32} {g g' : Nat → Nat → Int32} {c : Cd} (h : CW f g c) (h14 : f' 14 = f 14) (h15 : f' 15 = f 15) (h16 : f' 16 = f 16) (h17 : f' 17 = f 17) (h12 : g' 12 = g 12) : CW f' g' c := by
  unfold CW MB; rw [h14, h15, h16, h17, h12]; exact h
theorem EX.keep {g g' : Nat → Nat → Int32} {e : Nat → Bool} (h : EX g e) (h10 : g' 10 = g 10) : EX g' e := by
  unfold EX; rw [h10]; exact h
theorem CT.keep {g g' : Nat → Nat → Int32} {t : Nat → Nat} (h : CT g t) (h11 : g' 11 = g 11) : CT g' t := by
  unfold CT; rw [h11]; exact h
section
variable {l : Launch} {Γ : Gl} {o : Nat} {ad : Nat → Nat} {f : Nat → Int32} {g : Nat → Nat → Int32} {T : Tr} {ord room m n jr : Nat} {row : Nat → Nat}
theorem ta_row {E : Ev} {cc : ByteArray} {k n' pc q : Nat} {lv : LV} {st : List Value} {i v : Int32} {t : Nat} (C : Cx E "PpmTreesModel" cc) (hj : jr = 0 ∨ jr = 18) (hd : decode cc pc = .ok (.iaload, 1)) (hq : pc + 1 = q) (hi : i = nI t) (hlt : t < 300) (hv : g jr t = v) (kk : G E k n' q lv (.int v :: st) (tw (xG E) o ad f g)) : G E k n' pc lv (.int i :: .ref (ad jr) :: st) (tw (xG E) o ad f g) := by
  rcases hj with rfl | rfl
  · exact ta_0 C hd hq hi hlt hv kk
  · exact ta_18 C hd hq hi hlt hv kk
theorem c_T_writeAll (hm : m < 7) (hj : jr = 0 ∨ jr = 18) (hT : TM g m T) (hI : TI ord room T) (hn : n ≤ 300) (hr : ∀ i, i < n → g jr i = nI (row i) ∧ row i < 256) (h1 : f 1 = nI ord) (h2 : f 2 = nI room) :
    Ct l Γ y_T_writeAll b_T_writeAll 8 none 3 0 0 [.ref o, .int (nI m), .ref (ad jr), .int (nI n)] (tw Γ o ad f g) (pv Γ o ad (fun f' g' => Fr KW JW f f' g g' ∧ Bd m g g' ∧ TM g' m (wsq ord room n row T (n + 1)).1 ∧ f' 17 = nI (wrt ord room n row T).2.2.2.1 ∧ MB g' (wrt ord room n row T).2.2.2.1 (wrt ord room n row T).2.2.2.2 ∧ f' 18 = nI (wsq ord room n row T (n + 1)).2.2.1 ∧ f' 19 = nI (wsq ord room n row T (n + 1)).2.2.2 ∧ ∀ i, i ≤ n → g' 13 i = nI (tell (wsq ord room n row T i).1 (sgn n row i)).2.2.1 ∧ g' 14 i = fenc (tell (wsq ord room n row T i).1 (sgn n row i)).2.1)) := by
  have hok := wsq_ok (n := n) (row := row) hI (fun i hi => (hr i hi).2)
  refine Ct.of (by decide) (by simp [Value.category]) (Nat.le_of_ble_eq_true rfl) (fun E eG el en C hR F hnm => ?_)
  subst eG
  subst el
  have hL : 8 ≤ xn E := Nat.le_of_eq en.symm
  show G E 0 0 0 [some (.ref o), some (.int (nI m)), some (.ref (ad jr)), some (.int (nI n)), none, none, none, none] [] (tw (xG E) o ad f g)
  -- the loop over the signs
  have loop : ∀ (j i : Nat) (f1 : Nat → Int32) (g1 : Nat → Nat → Int32) (l5 l6 l7 : Option Value), i + j = n + 1 → Fr KW JW f f1 g g1 → Bd m g g1 → TM g1 m (wsq ord room n row T i).1 → CW f1 g1 (wsq ord room n row T i).2.1 → f1 18 = nI (wsq ord room n row T i).2.2.1 → f1 19 = nI (wsq ord room n row T i).2.2.2 → (∀ i', i' < i → g1 13 i' = nI (tell (wsq ord room n row T i').1 (sgn n row i')).2.2.1 ∧ g1 14 i' = fenc (tell (wsq ord room n row T i').1 (sgn n row i')).2.1) → G E 0 0 34 [some (.ref o), some (.int (nI m)), some (.ref (ad jr)), some (.int (nI n)), some (.int (nI i)), l5, l6, l7] [] (tw (xG E) o ad f1 g1) := by
    intro j
    induction j with
    | zero =>
      intro i f1 g1 l5 l6 l7 hi hF hB hT1 hW h18 h19 hsg
      have : i = n + 1 := by omega
      subst this
      obtain ⟨o1, o2, o3, o4, o5⟩ := hok (n + 1) (Nat.le_refl _)
      have hwr : wrt ord room n row T = cend (wsq ord room n row T (n + 1)).2.1 := rfl
      generalize wsq ord room n row T (n + 1) = w at *
      obtain ⟨T1, ⟨lo, hi, h, b, B⟩, es, an⟩ := w
      obtain ⟨w14, w15, w16, w17, wB⟩ := hW
      obtain ⟨p1, p2, p3, p4, p5⟩ := o2
      simp only at w14 w15 w16 w17 wB p1 p2 p3 p4 p5 o3 o4 o5 h18 h19 hT1
      have h250 : ∀ (v : Nat) (f2 : Nat → Int32), v = (if lo < 16384 then 0 else 1) → f2 = upd f1 16 (nI (h + 1)) → G E 0 0 250 [some (.ref o), some (.int (nI m)), some (.ref (ad jr)), some (.int (nI n)), some (.int (nI (n + 1))), l5, l6, l7] [.int (nI v), .ref o] (tw (xG E) o ad f2 g1) := by
        intro v f2 hv2 hf2
        subst hf2
        refine tc_156 (q := 253) C hR (c_T_put (v := v) (h := h + 1) (n := b) (B := B) (by rw [hv2]; split <;> decide) (by omega) upd_s w17 wB) d_T_writeAll_250 rfl (by decide) (by decide) (by decide) (Nat.le_of_ble_eq_true rfl) (fun f3 g3 hp => ?_)
        obtain ⟨hF3, c16, c17, cB⟩ := hp
        have hF4 : Fr KW JW f f3 g g3 := (hF.upd (by decide)).trans (hF3.mono (by decide) (by decide))
        have e12 : ∀ a, a ≠ 12 → g3 a = g1 a := fun a ha => hF3.2 a (by simpa using ha)
        refine g_vret C F d_T_writeAll_253 (Nat.le_refl _) (Nat.le_refl _) ⟨rfl, _, _, rfl, hF4, hB.trans (Bd.same (e12 3 (by decide)) (e12 4 (by decide)) (e12 5 (by decide)) (e12 6 (by decide)) (e12 7 (by decide)) (e12 8 (by decide))), hT1.keep (e12 3 (by decide)) (e12 4 (by decide)) (e12 5 (by decide)) (e12 6 (by decide)) (e12 7 (by decide)) (e12 8 (by decide)), ?_, ?_, ?_, ?_, fun i' hi' => ?_⟩
        · rw [hwr]; exact c17
        · rw [hwr]
          show MB g3 (b + 1 + (h + 1)) (wput (if lo < 16384 then 0 else 1) (h + 1) b B)
          rw [← hv2]; exact cB
        · rw [hF3.1 18 (by decide)]; exact h18
        · rw [hF3.1 19 (by decide)]; exact h19
        · rw [e12 13 (by decide), e12 14 (by decide)]; exact hsg i' (by omega)
      refine g_iload_4 (q := 36) C d_T_writeAll_34 rfl ?_
      refine g_iload_3 (q := 37) C d_T_writeAll_36 rfl ?_
      refine g_icmp_gt (q := 40) (tgt := 224) C d_T_writeAll_37 rfl (by decide) (fun hc => ?_) (fun hc => ?_)
      · refine g_aload_0 (q := 225) C d_T_writeAll_224 rfl ?_
        refine g_dup_r (q := 226) C d_T_writeAll_225 rfl ?_
        refine tg_143 (q := 229) C d_T_writeAll_226 rfl w16 ?_
        refine g_iconst (v := nI 1) (q := 230) C d_T_writeAll_229 rfl (by decide) ?_
        refine g_iadd (q := 231) C d_T_writeAll_230 rfl (nI_1 _) ?_
        refine tp_143 (q := 234) C d_T_writeAll_231 rfl ?_
        refine g_aload_0 (q := 235) C d_T_writeAll_234 rfl ?_
        refine g_aload_0 (q := 236) C d_T_writeAll_235 rfl ?_
        refine tg_149 (q := 239) C d_T_writeAll_236 rfl w14 ?_
        refine g_sipush (v := nI 16384) (q := 242) C d_T_writeAll_239 rfl (by decide) ?_
        refine g_icmp_ge (q := 245) (tgt := 249) C d_T_writeAll_242 rfl (by decide) (fun hq => ?_) (fun hq => ?_)
        · have hq := (nI_leI (by omega) (by omega)).mp hq
          refine g_iconst (v := nI 1) (q := 250) C d_T_writeAll_249 rfl (by decide) ?_
          exact h250 1 _ (by rw [if_neg (by omega)]) rfl
        · have hq : lo < 16384 := Nat.lt_of_not_le (fun e => hq ((nI_leI (by omega) (by omega)).mpr e))
          refine g_iconst (v := nI 0) (q := 246) C d_T_writeAll_245 rfl (by decide) ?_
          refine g_goto (tgt := 250) C d_T_writeAll_246 (by decide) ?_
          exact h250 0 _ (by rw [if_pos hq]) rfl
      · exact absurd ((nI_ltI (by omega) (by omega)).mpr (by omega)) hc
    | succ j ih =>
      intro i f1 g1 l5 l6 l7 hi hF hB hT1 hW h18 h19 hsg
      obtain ⟨o1, o2, o3, o4, o5⟩ := hok i (by omega)
      have hstep : wsq ord room n row T (i + 1) = wst ord room n row (wsq ord room n row T i) i := rfl
      have hih := ih (i + 1)
      rw [hstep] at hih
      clear ih
      have hsg' : ∀ (g2 : Nat → Nat → Int32), (∀ i', i' ≠ i → g2 13 i' = g1 13 i' ∧ g2 14 i' = g1 14 i') → g2 13 i = nI (tell (wsq ord room n row T i).1 (sgn n row i)).2.2.1 → g2 14 i = fenc (tell (wsq ord room n row T i).1 (sgn n row i)).2.1 → ∀ i', i' < i + 1 → g2 13 i' = nI (tell (wsq ord room n row T i').1 (sgn n row i')).2.2.1 ∧ g2 14 i' = fenc (tell (wsq ord room n row T i').1 (sgn n row i')).2.1 := by
        intro g2 q1 q2 q3 i' hi'
        by_cases e : i' = i
        · subst e; exact ⟨q2, q3⟩
        · rw [(q1 i' e).1, (q1 i' e).2]; exact hsg i' (by omega)
      generalize hwe : wsq ord room n row T i = w at *
      have hs256 : sgn n row i ≤ 256 := by
        unfold sgn
        split
        · rename_i h; exact Nat.le_of_lt (hr i h).2
        · exact Nat.le_refl _
      obtain ⟨t1, t2, t3, t4, t5, t6⟩ := tell_ok o1 hs256
      have e1 : f1 1 = nI ord := by rw [hF.1 1 (by decide)]; exact h1
      have e2 : f1 2 = nI room := by rw [hF.1 2 (by decide)]; exact h2
      have hrow : jr = 0 ∨ jr = 18 → g1 jr = g jr := fun q => hF.2 jr (by rcases q with rfl | rfl <;> decide)
      have hL4 : tL w.1 ≤ 4 := Nat.le_trans o1.1.2.2.2.2.1 o1.1.2.2.2.2.2.1
      -- behind the sign: learn, or not
      have h173 : ∀ (f2 : Nat → Int32) (g2 : Nat → Nat → Int32) (l7' : Option Value), Fr KW JW f f2 g g2 → Bd m g g2 → TM g2 m w.1 → CW f2 g2 (wf (tell w.1 (sgn n row i)).1 w.2.1) → f2 18 = nI (w.2.2.1 + (tell w.1 (sgn n row i)).2.2.2) → f2 19 = nI w.2.2.2 → (∀ i', i' ≠ i → g2 13 i' = g1 13 i' ∧ g2 14 i' = g1 14 i') → g2 13 i = nI (tell w.1 (sgn n row i)).2.2.1 → g2 14 i = fenc (tell w.1 (sgn n row i)).2.1 → G E 0 0 173 [some (.ref o), some (.int (nI m)), some (.ref (ad jr)), some (.int (nI n)), some (.int (nI i)), some (.int (nI (sgn n row i))), some (.int (fenc (tell w.1 (sgn n row i)).2.1)), l7'] [] (tw (xG E) o ad f2 g2) := by
        intro f2 g2 l7' hF2 hB2 hT2 hW2 k18 k19 s1 s2 s3
        refine g_iload_4 (q := 175) C d_T_writeAll_173 rfl ?_
        refine g_iload_3 (q := 176) C d_T_writeAll_175 rfl ?_
        refine g_icmp_ge (q := 179) (tgt := 218) C d_T_writeAll_176 rfl (by decide) (fun hc => ?_) (fun hc => ?_)
        · have hc := (nI_leI (by omega) (by omega)).mp hc
          refine g_iinc_4 (q := 221) C hL d_T_writeAll_218 rfl (nI_inc _) ?_
          refine g_goto (tgt := 34) C d_T_writeAll_221 (by decide) ?_
          refine hih _ _ _ _ _ (by omega) hF2 hB2 ?_ hW2 k18 ?_ (hsg' g2 s1 s2 s3)
          · show TM g2 m (if i < n then _ else _)
            rw [if_neg (by omega)]; exact hT2
          · show _ = nI (w.2.2.2 + if i < n ∧ _ then 1 else 0)
            rw [if_neg (fun q => absurd q.1 (by omega)), k19]; rfl
        · have hc : i < n := Nat.lt_of_not_le (fun q => hc ((nI_leI (by omega) (by omega)).mpr q))
          have hsr : sgn n row i = row i := by unfold sgn; rw [if_pos hc]
          have h194 : ∀ k, k = (tell w.1 (sgn n row i)).2.1 - 1 → G E 0 0 194 [some (.ref o), some (.int (nI m)), some (.ref (ad jr)), some (.int (nI n)), some (.int (nI i)), some (.int (nI (sgn n row i))), some (.int (fenc (tell w.1 (sgn n row i)).2.1)), l7'] [.int (nI k), .int (nI (sgn n row i)), .int (nI m), .ref o] (tw (xG E) o ad f2 g2) := by
            intro k hk
            refine tc_186 (q := 197) C hR (c_T_learn (b := sgn n row i) (fnd := k) hm hT2 o1 (by rw [hsr]; exact (hr i hc).2) (by omega) ?_ (by rw [hF2.1 1 (by decide)]; exact h1) (by rw [hF2.1 2 (by decide)]; exact h2)) d_T_writeAll_194 rfl (by decide) (by decide) (by decide) (Nat.le_of_ble_eq_true rfl) (fun f3 g3 hp => ?_)
            · rcases Nat.eq_zero_or_pos (tell w.1 (sgn n row i)).2.1 with z | z
              · left; omega
              · right; rw [hk]; exact (t4 _ (by omega)).2
            obtain ⟨hF3, hB3, hT3, h13⟩ := hp
            have hlr : learnT ord room (sgn n row i) k w.1 = learnT ord room (row i) ((tell w.1 (sgn n row i)).2.1 - 1) w.1 := by
              subst hk
              exact congrArg (fun z => learnT ord room z ((tell w.1 (sgn n row i)).2.1 - 1) w.1) hsr
            rw [hlr] at hT3 h13
            have k19' : f3 19 = nI w.2.2.2 := by rw [hF3.1 19 (by decide)]; exact k19
            have ek : ∀ a, a ∉ [3, 4, 5, 6, 7, 8] → g3 a = g2 a := hF3.2
            have h214 : ∀ d, d = (if i < n ∧ (learnT ord room (row i) ((tell w.1 (sgn n row i)).2.1 - 1) w.1).2 = true then 1 else 0) → G E 0 0 214 [some (.ref o), some (.int (nI m)), some (.ref (ad jr)), some (.int (nI n)), some (.int (nI i)), some (.int (nI (sgn n row i))), some (.int (fenc (tell w.1 (sgn n row i)).2.1)), l7'] [.int (nI d), .int (nI w.2.2.2), .ref o] (tw (xG E) o ad f3 g3) := by
              intro d hd
              refine g_iadd (q := 215) C d_T_writeAll_214 rfl (nI_add _ _) ?_
              refine tp_164 (q := 218) C d_T_writeAll_215 rfl ?_
              refine g_iinc_4 (q := 221) C hL d_T_writeAll_218 rfl (nI_inc _) ?_
              refine g_goto (tgt := 34) C d_T_writeAll_221 (by decide) ?_
              refine hih _ _ _ _ _ (by omega) ((hF2.trans (hF3.mono (by decide) (by decide))).upd (by decide)) (hB2.trans hB3) ?_ (hW2.keep (hF3.1 14 (by decide)) (hF3.1 15 (by decide)) (hF3.1 16 (by decide)) (hF3.1 17 (by decide)) (ek 12 (by decide))) ?_ ?_ (hsg' g3 (fun i' q => by rw [ek 13 (by decide), ek 14 (by decide)]; exact s1 i' q) (by rw [ek 13 (by decide)]; exact s2) (by rw [ek 14 (by decide)]; exact s3))
              · show TM g3 m (if i < n then _ else _)
                rw [if_pos hc]; exact hT3
              · show upd f3 19 _ 18 = _
                rw [upd_n (by decide), hF3.1 18 (by decide)]; exact k18
              · rw [upd_s, hd]; rfl
            refine g_aload_0 (q := 198) C d_T_writeAll_197 rfl ?_
            refine g_dup_r (q := 199) C d_T_writeAll_198 rfl ?_
            refine tg_164 (q := 202) C d_T_writeAll_199 rfl k19' ?_
            refine g_aload_0 (q := 203) C d_T_writeAll_202 rfl ?_
            refine tg_129 (q := 206) C d_T_writeAll_203 rfl h13 ?_
            refine g_if_eq (q := 209) (tgt := 213) C d_T_writeAll_206 rfl (by decide) (fun hz => ?_) (fun hz => ?_)
            · refine g_iconst (v := nI 0) (q := 214) C d_T_writeAll_213 rfl (by decide) ?_
              refine h214 0 ?_
              rw [if_neg]
              rintro ⟨-, q⟩
              rw [q] at hz
              exact absurd hz (by decide)
            · refine g_iconst (v := nI 1) (q := 210) C d_T_writeAll_209 rfl (by decide) ?_
              refine g_goto (tgt := 214) C d_T_writeAll_210 (by decide) ?_
              refine h214 1 ?_
              have q : (learnT ord room (row i) ((tell w.1 (sgn n row i)).2.1 - 1) w.1).2 = true := by
                cases q : (learnT ord room (row i) ((tell w.1 (sgn n row i)).2.1 - 1) w.1).2 with
                | true => rfl
                | false => rw [q] at hz; exact absurd rfl hz
              rw [if_pos ⟨hc, q⟩]
          refine g_aload_0 (q := 180) C d_T_writeAll_179 rfl ?_
          refine g_iload_1 (q := 181) C d_T_writeAll_180 rfl ?_
          refine g_iload_5 (q := 183) C d_T_writeAll_181 rfl ?_
          refine g_iload_6 (q := 185) C d_T_writeAll_183 rfl ?_
          by_cases z : (tell w.1 (sgn n row i)).2.1 = 0
          · have hfe : fenc (tell w.1 (sgn n row i)).2.1 = -3 := by unfold fenc; rw [if_pos z]
            rw [hfe] at h194 ⊢
            refine g_if_ge (q := 188) (tgt := 192) C d_T_writeAll_185 rfl (by decide) (fun hz => ?_) (fun hz => ?_)
            · exact absurd hz (by decide)
            refine g_iconst (v := nI 0) (q := 189) C d_T_writeAll_188 rfl (by decide) ?_
            refine g_goto (tgt := 194) C d_T_writeAll_189 (by decide) ?_
            exact h194 0 (by omega)
          · have hfe : fenc (tell w.1 (sgn n row i)).2.1 = nI ((tell w.1 (sgn n row i)).2.1 - 1) := by unfold fenc; rw [if_neg z]
            rw [hfe] at h194 ⊢
            refine g_if_ge (q := 188) (tgt := 192) C d_T_writeAll_185 rfl (by decide) (fun hz => ?_) (fun hz => ?_)
            · refine g_iload_6 (q := 194) C d_T_writeAll_192 rfl ?_
              exact h194 _ rfl
            · exact absurd (nI_pos' (by omega)) hz
      -- what is told is put down
      have h138 : ∀ (f2 : Nat → Int32) (g2 : Nat → Nat → Int32) (l7' : Option Value) (c : Cd) (e : Nat → Bool), Fr KW JW f f2 g g2 → Bd m g g2 → TM g2 m w.1 → CW f2 g2 c → CdOk c → c.2.2.1 + c.2.2.2.1 + 17 ≤ 48000 → EX g2 e → EI e (tell w.1 (sgn n row i)).2.2.1 → e (sgn n row i) = false → f2 7 = nI (tell w.1 (sgn n row i)).2.2.1 → f2 18 = nI (w.2.2.1 + (tell w.1 (sgn n row i)).2.2.2) → f2 19 = nI w.2.2.2 → (∀ i', g2 13 i' = g1 13 i' ∧ g2 14 i' = g1 14 i') → wf (tell w.1 (sgn n row i)).1 w.2.1 = (if (tell w.1 (sgn n row i)).2.1 = 0 then wspan (nx e (sgn n row i), 1, 257 - (tell w.1 (sgn n row i)).2.2.1) c else c) → G E 0 0 138 [some (.ref o), some (.int (nI m)), some (.ref (ad jr)), some (.int (nI n)), some (.int (nI i)), some (.int (nI (sgn n row i))), some (.int (fenc (tell w.1 (sgn n row i)).2.1)), l7'] [] (tw (xG E) o ad f2 g2) := by
        intro f2 g2 l7' c e hF2 hB2 hT2 hW2 hc hcn hE hEI hes k7 k18 k19 ks hwf
        refine g_aload_0 (q := 139) C d_T_writeAll_138 rfl ?_
        refine tg_50 (q := 142) C d_T_writeAll_139 rfl ?_
        refine g_iload_4 (q := 144) C d_T_writeAll_142 rfl ?_
        refine g_aload_0 (q := 145) C d_T_writeAll_144 rfl ?_
        refine tg_103 (q := 148) C d_T_writeAll_145 rfl k7 ?_
        refine ts_13 (q := 149) C d_T_writeAll_148 rfl rfl (by omega) ?_
        refine g_aload_0 (q := 150) C d_T_writeAll_149 rfl ?_
        refine tg_53 (q := 153) C d_T_writeAll_150 rfl ?_
        refine g_iload_4 (q := 155) C d_T_writeAll_153 rfl ?_
        refine g_iload_6 (q := 157) C d_T_writeAll_155 rfl ?_
        refine ts_14 (q := 158) C d_T_writeAll_157 rfl rfl (by omega) ?_
        refine g_iload_6 (q := 160) C d_T_writeAll_158 rfl ?_
        have hFa : Fr KW JW f f2 g (updA (updA g2 13 (upd (g2 13) i (nI (tell w.1 (sgn n row i)).2.2.1))) 14 (upd (g2 14) i (fenc (tell w.1 (sgn n row i)).2.1))) := (hF2.updA (by decide)).updA (by decide)
        have hs1 : ∀ i', i' ≠ i → upd (g2 13) i (nI (tell w.1 (sgn n row i)).2.2.1) i' = g1 13 i' ∧ upd (g2 14) i (fenc (tell w.1 (sgn n row i)).2.1) i' = g1 14 i' := fun i' q => by rw [upd_n q, upd_n q]; exact ks i'
        by_cases z : (tell w.1 (sgn n row i)).2.1 = 0
        · have hfe : fenc (tell w.1 (sgn n row i)).2.1 = -3 := by unfold fenc; rw [if_pos z]
          rw [if_pos z] at hwf
          rw [hfe] at h173 hFa hs1 ⊢
          refine g_if_ge (q := 163) (tgt := 173) C d_T_writeAll_160 rfl (by decide) (fun hz => ?_) (fun hz => ?_)
          · exact absurd hz (by decide)
          have hfo := flat_ok hEI hs256 hes
          refine g_aload_0 (q := 164) C d_T_writeAll_163 rfl ?_
          refine g_iload_5 (q := 166) C d_T_writeAll_164 rfl ?_
          refine tc_183 (q := 169) C hR (c_T_flat (e := e) (x := (tell w.1 (sgn n row i)).2.2.1) (hE.keep rfl) k7 (by omega) hs256) d_T_writeAll_166 rfl (by decide) (by decide) (by decide) (Nat.le_of_ble_eq_true rfl) (fun f3 g3 hp => ?_)
          obtain ⟨hF3, a10, a11, a12⟩ := hp
          have eg : ∀ a, g3 a = _ := fun a => hF3.2 a (by simp)
          refine g_aload_0 (q := 170) C d_T_writeAll_169 rfl ?_
          refine tc_180 (q := 173) C hR (c_T_write (s := (nx e (sgn n row i), 1, 257 - (tell w.1 (sgn n row i)).2.2.1)) (c := c) (hW2.keep (hF3.1 14 (by decide)) (hF3.1 15 (by decide)) (hF3.1 16 (by decide)) (hF3.1 17 (by decide)) (eg 12)) hc a10 a11 a12 hfo.1 hfo.2.1 hfo.2.2 hcn) d_T_writeAll_170 rfl (by decide) (by decide) (by decide) (Nat.le_of_ble_eq_true rfl) (fun f4 g4 hp => ?_)
          obtain ⟨hF4, hW4⟩ := hp
          have eh : ∀ a, a ≠ 12 → g4 a = updA (updA g2 13 (upd (g2 13) i (nI (tell w.1 (sgn n row i)).2.2.1))) 14 (upd (g2 14) i (-3)) a := fun a ha => by rw [hF4.2 a (by simpa using ha)]; exact eg a
          refine h173 f4 g4 _ ((hFa.trans (hF3.mono (by decide) (by decide))).trans (hF4.mono (by decide) (by decide))) (hB2.trans (Bd.same (eh 3 (by decide)) (eh 4 (by decide)) (eh 5 (by decide)) (eh 6 (by decide)) (eh 7 (by decide)) (eh 8 (by decide)))) (hT2.keep (eh 3 (by decide)) (eh 4 (by decide)) (eh 5 (by decide)) (eh 6 (by decide)) (eh 7 (by decide)) (eh 8 (by decide))) (by rw [hwf]; exact hW4) ?_ ?_ (fun i' q => by rw [eh 13 (by decide), eh 14 (by decide)]; exact hs1 i' q) (by rw [eh 13 (by decide)]; exact upd_s) (by rw [eh 14 (by decide)]; exact upd_s)
          · rw [hF4.1 18 (by decide), hF3.1 18 (by decide)]; exact k18
          · rw [hF4.1 19 (by decide), hF3.1 19 (by decide)]; exact k19
        · have hfe : fenc (tell w.1 (sgn n row i)).2.1 = nI ((tell w.1 (sgn n row i)).2.1 - 1) := by unfold fenc; rw [if_neg z]
          rw [if_neg z] at hwf
          rw [hfe] at h173 hFa hs1 ⊢
          refine g_if_ge (q := 163) (tgt := 173) C d_T_writeAll_160 rfl (by decide) (fun hz => ?_) (fun hz => ?_)
          · exact h173 f2 _ _ hFa (hB2.trans (Bd.same rfl rfl rfl rfl rfl rfl)) (hT2.keep rfl rfl rfl rfl rfl rfl) (by rw [hwf]; exact hW2.keep rfl rfl rfl rfl rfl) k18 k19 hs1 upd_s upd_s
          · exact absurd (nI_pos' (by omega)) hz
      -- the contexts, from the longest on
      have inner : ∀ (kk : Nat) (e : Nat → Bool) (x es : Nat) (c : Cd) (f2 : Nat → Int32) (g2 : Nat → Nat → Int32), kk ≤ tL w.1 + 1 → EI e x → e (sgn n row i) = false → Fr KW JW f f2 g g2 → Bd m g g2 → TM g2 m w.1 → CW f2 g2 c → CdOk c → c.2.2.1 + c.2.2.2.1 + 16 * kk + 17 ≤ 48000 → EX g2 e → f2 7 = nI x → f2 18 = nI (w.2.2.1 + es) → f2 19 = nI w.2.2.2 → (∀ i', g2 13 i' = g1 13 i' ∧ g2 14 i' = g1 14 i') → wf (tell w.1 (sgn n row i)).1 w.2.1 = wf (tl w.1 (sgn n row i) kk e x).1 c → (tell w.1 (sgn n row i)).2.1 = (tl w.1 (sgn n row i) kk e x).2.1 → (tell w.1 (sgn n row i)).2.2.1 = (tl w.1 (sgn n row i) kk e x).2.2.1 → (tell w.1 (sgn n row i)).2.2.2 = (tl w.1 (sgn n row i) kk e x).2.2.2 + es → G E 0 0 74 [some (.ref o), some (.int (nI m)), some (.ref (ad jr)), some (.int (nI n)), some (.int (nI i)), some (.int (nI (sgn n row i))), some (.int (-3)), some (.int (dk kk))] [] (tw (xG E) o ad f2 g2) := by
        intro kk
        induction kk with
        | zero =>
          intro e x es c f2 g2 hkk hEI hes hF2 hB2 hT2 hW2 hc hcn hE k7 k18 k19 ks r1 r2 r3 r4
          refine g_iload_7 (q := 76) C d_T_writeAll_74 rfl ?_
          refine g_if_lt (q := 79) (tgt := 138) C d_T_writeAll_76 rfl (by decide) (fun hz => ?_) (fun hz => ?_)
          · have z : (tell w.1 (sgn n row i)).2.1 = 0 := r2
            have z3 : (tell w.1 (sgn n row i)).2.2.1 = x := r3
            have z4 : (tell w.1 (sgn n row i)).2.2.2 = es := by rw [r4]; exact Nat.zero_add es
            have h := h138 f2 g2 (some (.int (dk 0))) c e hF2 hB2 hT2 hW2 hc (by omega) hE (by rw [z3]; exact hEI) hes (by rw [z3]; exact k7) (by rw [z4]; exact k18) k19 ks (by rw [if_pos z, r1, z3]; rfl)
            have hfe : fenc (tell w.1 (sgn n row i)).2.1 = -3 := by unfold fenc; rw [if_pos z]
            rw [hfe] at h
            exact h
          · exact absurd (by decide) hz
        | succ k ihk =>
          intro e x es c f2 g2 hkk hEI hes hF2 hB2 hT2 hW2 hc hcn hE k7 k18 k19 ks r1 r2 r3 r4
          have hbs := ct_sum o1.1 o1.2.2.2 e (cx w.1 k)
          rw [dk_s]
          refine g_iload_7 (q := 76) C d_T_writeAll_74 rfl ?_
          refine g_if_lt (q := 79) (tgt := 138) C d_T_writeAll_76 rfl (by decide) (fun hz => ?_) (fun hz => ?_)
          · exact absurd (nI_pos' (by omega)) (Int32.not_le.mpr hz)
          refine g_iload_6 (q := 81) C d_T_writeAll_79 rfl ?_
          refine g_if_ge (q := 84) (tgt := 138) C d_T_writeAll_81 rfl (by decide) (fun hz2 => ?_) (fun hz2 => ?_)
          · exact absurd hz2 (by decide)
          refine g_aload_0 (q := 85) C d_T_writeAll_84 rfl ?_
          refine g_iload_1 (q := 86) C d_T_writeAll_85 rfl ?_
          refine g_iload_7 (q := 88) C d_T_writeAll_86 rfl ?_
          refine tc_170 (q := 91) C hR (c_T_look (k := k) (e := e) hm hT2 o1.1 o1.2.1 (by omega) hE) d_T_writeAll_88 rfl (by decide) (by decide) (by decide) (Nat.le_of_ble_eq_true rfl) (fun f3 g3 hp => ?_)
          obtain ⟨hF3, hC3, a8, a9⟩ := hp
          have e3 : ∀ a, a ≠ 11 → g3 a = g2 a := fun a ha => hF3.2 a (by simpa using ha)
          have hF3' : Fr KW JW f f3 g g3 := hF2.trans (hF3.mono (by decide) (by decide))
          have hB3 : Bd m g g3 := hB2.trans (Bd.same (e3 3 (by decide)) (e3 4 (by decide)) (e3 5 (by decide)) (e3 6 (by decide)) (e3 7 (by decide)) (e3 8 (by decide)))
          have hT3 : TM g3 m w.1 := hT2.keep (e3 3 (by decide)) (e3 4 (by decide)) (e3 5 (by decide)) (e3 6 (by decide)) (e3 7 (by decide)) (e3 8 (by decide))
          have hW3 : CW f3 g3 c := hW2.keep (hF3.1 14 (by decide)) (hF3.1 15 (by decide)) (hF3.1 16 (by decide)) (hF3.1 17 (by decide)) (e3 12 (by decide))
          have hE3 : EX g3 e := hE.keep (e3 10 (by decide))
          have b7 : f3 7 = nI x := by rw [hF3.1 7 (by decide)]; exact k7
          have b18 : f3 18 = nI (w.2.2.1 + es) := by rw [hF3.1 18 (by decide)]; exact k18
          have b19 : f3 19 = nI w.2.2.2 := by rw [hF3.1 19 (by decide)]; exact k19
          have ks3 : ∀ i', g3 13 i' = g1 13 i' ∧ g3 14 i' = g1 14 i' := fun i' => by rw [e3 13 (by decide), e3 14 (by decide)]; exact ks i'
          have hnz := nz_bl (t := ct w.1 e (cx w.1 k)) 256
          refine g_aload_0 (q := 92) C d_T_writeAll_91 rfl ?_
          refine tg_113 (q := 95) C d_T_writeAll_92 rfl a9 ?_
          refine g_if_le (q := 98) (tgt := 132) C d_T_writeAll_95 rfl (by decide) (fun hm0 => ?_) (fun hm0 => ?_)
          · have hm0 := (nILe0 (by omega)).mp hm0
            rw [tl_z hm0] at r1 r2 r3 r4
            refine g_iinc_7 (q := 135) C hL d_T_writeAll_132 rfl (dk_dec _) ?_
            refine g_goto (tgt := 74) C d_T_writeAll_135 (by decide) ?_
            exact ihk e x es c f3 g3 (by omega) hEI hes hF3' hB3 hT3 hW3 hc (by omega) hE3 b7 b18 b19 ks3 r1 r2 r3 r4
          have hm0 : nz (ct w.1 e (cx w.1 k)) 256 ≠ 0 := fun q => hm0 ((nILe0 (by omega)).mpr q)
          refine g_aload_0 (q := 99) C d_T_writeAll_98 rfl ?_
          refine g_iload_5 (q := 101) C d_T_writeAll_99 rfl ?_
          refine tc_173 (q := 104) C hR (c_T_isFound (s := sgn n row i) hC3 a8 a9 hs256 hbs) d_T_writeAll_101 rfl (by decide) (by decide) (by decide) (Nat.le_of_ble_eq_true rfl) (fun x1 f4 g4 hp => ?_)
          obtain ⟨hF4, a12, hcase⟩ := hp
          have e4 : ∀ a, g4 a = g3 a := fun a => hF4.2 a (by simp)
          have hF4' : Fr KW JW f f4 g g4 := hF3'.trans (hF4.mono (by decide) (by decide))
          have hB4 : Bd m g g4 := hB3.trans (Bd.same (e4 3) (e4 4) (e4 5) (e4 6) (e4 7) (e4 8))
          have hT4 : TM g4 m w.1 := hT3.keep (e4 3) (e4 4) (e4 5) (e4 6) (e4 7) (e4 8)
          have hW4 : CW f4 g4 c := hW3.keep (hF4.1 14 (by decide)) (hF4.1 15 (by decide)) (hF4.1 16 (by decide)) (hF4.1 17 (by decide)) (e4 12)
          have d7 : f4 7 = nI x := by rw [hF4.1 7 (by decide)]; exact b7
          have d18 : f4 18 = nI (w.2.2.1 + es) := by rw [hF4.1 18 (by decide)]; exact b18
          have d19 : f4 19 = nI w.2.2.2 := by rw [hF4.1 19 (by decide)]; exact b19
          have ks4 : ∀ i', g4 13 i' = g1 13 i' ∧ g4 14 i' = g1 14 i' := fun i' => by rw [e4 13, e4 14]; exact ks3 i'
          rcases hcase with ⟨q1, q2, rfl, a10, a11⟩ | ⟨hno, rfl, a10, a11⟩
          · have hsp := sp_ok hbs ⟨q1, q2⟩
            rw [tl_f hm0 ⟨q1, q2⟩] at r1 r2 r3 r4
            refine g_if_eq (q := 107) (tgt := 114) C d_T_writeAll_104 rfl (by decide) (fun hz => ?_) (fun hz => ?_)
            · exact absurd hz (by decide)
            refine g_iload_7 (q := 109) C d_T_writeAll_107 rfl ?_
            refine g_istore_6 (q := 111) C hL d_T_writeAll_109 rfl ?_
            refine g_goto (tgt := 128) C d_T_writeAll_111 (by decide) ?_
            refine g_aload_0 (q := 129) C d_T_writeAll_128 rfl ?_
            refine tc_180 (q := 132) C hR (c_T_write (s := (bl (ct w.1 e (cx w.1 k)) (sgn n row i), ct w.1 e (cx w.1 k) (sgn n row i), bl (ct w.1 e (cx w.1 k)) 256 + nz (ct w.1 e (cx w.1 k)) 256)) (c := c) hW4 hc a10 a11 a12 hsp.1 hsp.2.1 hsp.2.2 (by omega)) d_T_writeAll_129 rfl (by decide) (by decide) (by decide) (Nat.le_of_ble_eq_true rfl) (fun f5 g5 hp => ?_)
            obtain ⟨hF5, hW5⟩ := hp
            obtain ⟨hc5, hn5⟩ := wspan_ok (s := (bl (ct w.1 e (cx w.1 k)) (sgn n row i), ct w.1 e (cx w.1 k) (sgn n row i), bl (ct w.1 e (cx w.1 k)) 256 + nz (ct w.1 e (cx w.1 k)) 256)) hc hsp.1 hsp.2.1 hsp.2.2
            have e5 : ∀ a, a ≠ 12 → g5 a = g4 a := fun a ha => hF5.2 a (by simpa using ha)
            have hfe : fenc (tell w.1 (sgn n row i)).2.1 = nI k := by rw [r2]; rfl
            have z3 : (tell w.1 (sgn n row i)).2.2.1 = x := r3
            have z4 : (tell w.1 (sgn n row i)).2.2.2 = es := by rw [r4]; exact Nat.zero_add es
            have h := h138 f5 g5 (some (.int (dk k))) _ e (hF4'.trans (hF5.mono (by decide) (by decide))) (hB4.trans (Bd.same (e5 3 (by decide)) (e5 4 (by decide)) (e5 5 (by decide)) (e5 6 (by decide)) (e5 7 (by decide)) (e5 8 (by decide)))) (hT4.keep (e5 3 (by decide)) (e5 4 (by decide)) (e5 5 (by decide)) (e5 6 (by decide)) (e5 7 (by decide)) (e5 8 (by decide))) hW5 hc5 (by omega) (hE3.keep ((e5 10 (by decide)).trans (e4 10))) (by rw [z3]; exact hEI) hes (by rw [z3, hF5.1 7 (by decide)]; exact d7) (by rw [z4, hF5.1 18 (by decide)]; exact d18) (by rw [hF5.1 19 (by decide)]; exact d19) (fun i' => by rw [e5 13 (by decide), e5 14 (by decide)]; exact ks4 i') (by rw [if_neg (by rw [r2]; exact Nat.succ_ne_zero k), r1]; rfl)
            rw [hfe] at h
            refine g_iinc_7 (q := 135) C hL d_T_writeAll_132 rfl (dk_dec _) ?_
            refine g_goto (tgt := 74) C d_T_writeAll_135 (by decide) ?_
            refine g_iload_7 (q := 76) C d_T_writeAll_74 rfl ?_
            refine g_if_lt (q := 79) (tgt := 138) C d_T_writeAll_76 rfl (by decide) (fun hz => ?_) (fun hz => ?_)
            · exact h
            refine g_iload_6 (q := 81) C d_T_writeAll_79 rfl ?_
            refine g_if_ge (q := 84) (tgt := 138) C d_T_writeAll_81 rfl (by decide) (fun hz2 => ?_) (fun hz2 => ?_)
            · exact h
            exact absurd (nI_pos' (by omega)) hz2
          · have hsp := esc_ok hbs hm0
            rw [tl_e hm0 hno] at r1 r2 r3 r4
            refine g_if_eq (q := 107) (tgt := 114) C d_T_writeAll_104 rfl (by decide) (fun hz => ?_) (fun hz => ?_)
            · refine g_aload_0 (q := 115) C d_T_writeAll_114 rfl ?_
              refine g_dup_r (q := 116) C d_T_writeAll_115 rfl ?_
              refine tg_161 (q := 119) C d_T_writeAll_116 rfl d18 ?_
              refine g_iconst (v := nI 1) (q := 120) C d_T_writeAll_119 rfl (by decide) ?_
              refine g_iadd (q := 121) C d_T_writeAll_120 rfl (nI_1 _) ?_
              refine tp_161 (q := 124) C d_T_writeAll_121 rfl ?_
              refine g_aload_0 (q := 125) C d_T_writeAll_124 rfl ?_
              refine tc_177 (q := 128) C hR (c_T_exclude (t := ct w.1 e (cx w.1 k)) (e := e) (x := x) (hC3.keep (e4 11)) (hE3.keep (e4 10)) d7 (fun b hb => by have := bl_le (t := ct w.1 e (cx w.1 k)) hb; omega)) d_T_writeAll_125 rfl (by decide) (by decide) (by decide) (Nat.le_of_ble_eq_true rfl) (fun f5 g5 hp => ?_)
              obtain ⟨hF5, hE5, p7⟩ := hp
              have e5 : ∀ a, a ≠ 10 → g5 a = g4 a := fun a ha => hF5.2 a (by simpa using ha)
              refine g_aload_0 (q := 129) C d_T_writeAll_128 rfl ?_
              refine tc_180 (q := 132) C hR (c_T_write (s := (bl (ct w.1 e (cx w.1 k)) 256, nz (ct w.1 e (cx w.1 k)) 256, bl (ct w.1 e (cx w.1 k)) 256 + nz (ct w.1 e (cx w.1 k)) 256)) (c := c) (hW4.keep (hF5.1 14 (by decide)) (hF5.1 15 (by decide)) (hF5.1 16 (by decide)) (hF5.1 17 (by decide)) (e5 12 (by decide))) hc (by rw [hF5.1 10 (by decide)]; exact a10) (by rw [hF5.1 11 (by decide)]; exact a11) (by rw [hF5.1 12 (by decide)]; exact a12) hsp.1 hsp.2.1 hsp.2.2 (by omega)) d_T_writeAll_129 rfl (by decide) (by decide) (by decide) (Nat.le_of_ble_eq_true rfl) (fun f6 g6 hp => ?_)
              obtain ⟨hF6, hW6⟩ := hp
              obtain ⟨hc6, hn6⟩ := wspan_ok (s := (bl (ct w.1 e (cx w.1 k)) 256, nz (ct w.1 e (cx w.1 k)) 256, bl (ct w.1 e (cx w.1 k)) 256 + nz (ct w.1 e (cx w.1 k)) 256)) hc hsp.1 hsp.2.1 hsp.2.2
              have e6 : ∀ a, a ≠ 12 → g6 a = g5 a := fun a ha => hF6.2 a (by simpa using ha)
              have e65 : ∀ a, a ≠ 12 → a ≠ 10 → g6 a = g4 a := fun a h1 h2 => (e6 a h1).trans (e5 a h2)
              refine g_iinc_7 (q := 135) C hL d_T_writeAll_132 rfl (dk_dec _) ?_
              refine g_goto (tgt := 74) C d_T_writeAll_135 (by decide) ?_
              refine ihk (ex e (ct w.1 e (cx w.1 k))) (x + nz (ct w.1 e (cx w.1 k)) 256) (es + 1) _ f6 g6 (by omega) hEI.ex (ex_s hes hno) (((hF4'.upd (by decide)).trans (hF5.mono (by decide) (by decide))).trans (hF6.mono (by decide) (by decide))) (hB4.trans (Bd.same (e65 3 (by decide) (by decide)) (e65 4 (by decide) (by decide)) (e65 5 (by decide) (by decide)) (e65 6 (by decide) (by decide)) (e65 7 (by decide) (by decide)) (e65 8 (by decide) (by decide)))) (hT4.keep (e65 3 (by decide) (by decide)) (e65 4 (by decide) (by decide)) (e65 5 (by decide) (by decide)) (e65 6 (by decide) (by decide)) (e65 7 (by decide) (by decide)) (e65 8 (by decide) (by decide))) hW6 hc6 (by omega) (hE5.keep (e6 10 (by decide))) ?_ ?_ ?_ (fun i' => by rw [e65 13 (by decide) (by decide), e65 14 (by decide) (by decide)]; exact ks4 i') r1 r2 r3 (by
                have r4' : (tell w.1 (sgn n row i)).2.2.2 = (tl w.1 (sgn n row i) k (ex e (ct w.1 e (cx w.1 k))) (x + nz (ct w.1 e (cx w.1 k)) 256)).2.2.2 + 1 + es := r4
                rw [r4']; omega)
              · rw [hF6.1 7 (by decide)]; exact p7
              · rw [hF6.1 18 (by decide), hF5.1 18 (by decide)]; exact upd_s
              · rw [hF6.1 19 (by decide), hF5.1 19 (by decide)]; exact d19
            · exact absurd rfl hz
      -- the sign
      have h56 : G E 0 0 56 [some (.ref o), some (.int (nI m)), some (.ref (ad jr)), some (.int (nI n)), some (.int (nI i)), l5, l6, l7] [.int (nI (sgn n row i))] (tw (xG E) o ad f1 g1) := by
        refine g_istore_5 (q := 58) C hL d_T_writeAll_56 rfl ?_
        refine g_bipush (v := (-3)) (q := 60) C d_T_writeAll_58 rfl (by decide) ?_
        refine g_istore_6 (q := 62) C hL d_T_writeAll_60 rfl ?_
        refine g_aload_0 (q := 63) C d_T_writeAll_62 rfl ?_
        refine tc_167 (q := 66) C hR c_T_beginSign d_T_writeAll_63 rfl (by decide) (by decide) (by decide) (Nat.le_of_ble_eq_true rfl) (fun f2 g2 hp => ?_)
        obtain ⟨hF2, hE2, a7⟩ := hp
        have e2 : ∀ a, a ≠ 10 → g2 a = g1 a := fun a ha => hF2.2 a (by simpa using ha)
        refine g_aload_0 (q := 67) C d_T_writeAll_66 rfl ?_
        refine tg_31 (q := 70) C d_T_writeAll_67 rfl ?_
        refine g_iload_1 (q := 71) C d_T_writeAll_70 rfl ?_
        refine ta_7 (q := 72) C d_T_writeAll_71 rfl rfl (by omega) ((congrFun (e2 7 (by decide)) m).trans hT1.2.1) ?_
        refine g_istore_7 (q := 74) C hL d_T_writeAll_72 rfl ?_
        refine inner (tL w.1 + 1) (fun _ => false) 0 0 w.2.1 f2 g2 (Nat.le_refl _) EI_0 rfl (hF.trans (hF2.mono (by decide) (by decide))) (hB.trans (Bd.same (e2 3 (by decide)) (e2 4 (by decide)) (e2 5 (by decide)) (e2 6 (by decide)) (e2 7 (by decide)) (e2 8 (by decide)))) (hT1.keep (e2 3 (by decide)) (e2 4 (by decide)) (e2 5 (by decide)) (e2 6 (by decide)) (e2 7 (by decide)) (e2 8 (by decide))) (hW.keep (hF2.1 14 (by decide)) (hF2.1 15 (by decide)) (hF2.1 16 (by decide)) (hF2.1 17 (by decide)) (e2 12 (by decide))) o2 (by omega) hE2 a7 (by rw [hF2.1 18 (by decide)]; exact h18) (by rw [hF2.1 19 (by decide)]; exact h19) (fun i' => by rw [e2 13 (by decide), e2 14 (by decide)]; exact ⟨rfl, rfl⟩) rfl rfl rfl rfl
      refine g_iload_4 (q := 36) C d_T_writeAll_34 rfl ?_
      refine g_iload_3 (q := 37) C d_T_writeAll_36 rfl ?_
      refine g_icmp_gt (q := 40) (tgt := 224) C d_T_writeAll_37 rfl (by decide) (fun hc => ?_) (fun hc => ?_)
      · exact absurd ((nI_ltI (by omega) (by omega)).mp hc) (by omega)
      refine g_iload_4 (q := 42) C d_T_writeAll_40 rfl ?_
      refine g_iload_3 (q := 43) C d_T_writeAll_42 rfl ?_
      refine g_icmp_ge (q := 46) (tgt := 53) C d_T_writeAll_43 rfl (by decide) (fun hc2 => ?_) (fun hc2 => ?_)
      · have hc2 := (nI_leI (by omega) (by omega)).mp hc2
        refine g_sipush (v := nI 256) (q := 56) C d_T_writeAll_53 rfl (by decide) ?_
        exact g_val (by unfold sgn; rw [if_neg (by omega)]) h56
      · have hc2 : i < n := Nat.lt_of_not_le (fun q => hc2 ((nI_leI (by omega) (by omega)).mpr q))
        refine g_aload_2 (q := 47) C d_T_writeAll_46 rfl ?_
        refine g_iload_4 (q := 49) C d_T_writeAll_47 rfl ?_
        refine ta_row (q := 50) C hj d_T_writeAll_49 rfl rfl (by omega) ((congrFun (hrow hj) i).trans (hr i hc2).1) ?_
        refine g_goto (tgt := 56) C d_T_writeAll_50 (by decide) ?_
        exact g_val (by unfold sgn; rw [if_pos hc2]) h56
  refine g_aload_0 (q := 1) C d_T_writeAll_0 rfl ?_
  refine g_iconst (v := nI 0) (q := 2) C d_T_writeAll_1 rfl (by decide) ?_
  refine tp_149 (q := 5) C d_T_writeAll_2 rfl ?_
  refine g_aload_0 (q := 6) C d_T_writeAll_5 rfl ?_
  refine g_ldc (v := nI 65535) (q := 8) C d_T_writeAll_6 rfl w_943 ?_
  refine tp_146 (q := 11) C d_T_writeAll_8 rfl ?_
  refine g_aload_0 (q := 12) C d_T_writeAll_11 rfl ?_
  refine g_iconst (v := nI 0) (q := 13) C d_T_writeAll_12 rfl (by decide) ?_
  refine tp_143 (q := 16) C d_T_writeAll_13 rfl ?_
  refine g_aload_0 (q := 17) C d_T_writeAll_16 rfl ?_
  refine g_iconst (v := nI 0) (q := 18) C d_T_writeAll_17 rfl (by decide) ?_
  refine tp_137 (q := 21) C d_T_writeAll_18 rfl ?_
  refine g_aload_0 (q := 22) C d_T_writeAll_21 rfl ?_
  refine g_iconst (v := nI 0) (q := 23) C d_T_writeAll_22 rfl (by decide) ?_
  refine tp_161 (q := 26) C d_T_writeAll_23 rfl ?_
  refine g_aload_0 (q := 27) C d_T_writeAll_26 rfl ?_
  refine g_iconst (v := nI 0) (q := 28) C d_T_writeAll_27 rfl (by decide) ?_
  refine tp_164 (q := 31) C d_T_writeAll_28 rfl ?_
  refine g_iconst (v := nI 0) (q := 32) C d_T_writeAll_31 rfl (by decide) ?_
  refine g_istore_4 (q := 34) C hL d_T_writeAll_32 rfl ?_
  refine loop (n + 1) 0 _ g none none none (by omega) ((((((Fr.rf.upd (by decide)).upd (by decide)).upd (by decide)).upd (by decide)).upd (by decide)).upd (by decide)) Bd.rf hT ⟨rfl, rfl, rfl, rfl, fun i hi => absurd hi (Nat.not_lt_zero _)⟩ rfl rfl (fun i' hi' => absurd hi' (Nat.not_lt_zero _))
end
