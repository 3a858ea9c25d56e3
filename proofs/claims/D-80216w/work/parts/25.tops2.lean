/-! THE TWIN: node, equal, fill, bitsOf, cost -/
theorem eq_nI {x : Int32} {n : Nat} (h : x.toBitVec.toNat = n) : x = nI n := by
  have hn : n < 2 ^ 32 := by rw [← h]; exact x.toBitVec.isLt
  apply Int32.toBitVec_inj.mp
  apply BitVec.eq_of_toNat_eq
  rw [h, pk_tn hn]
theorem ush16 (x : Int32) : (x.toUInt32 >>> ((nI 16).toUInt32 &&& Int32.toUInt32 31)).toInt32 = nI (fz x) := eq_nI (pk_ushr x (nI 16) 16 (by decide))
theorem ush28 (x : Int32) : (x.toUInt32 >>> ((nI 28).toUInt32 &&& Int32.toUInt32 31)).toInt32 = nI (fq x) := eq_nI (pk_ushr x (nI 28) 28 (by decide))
theorem fz_lt (x : Int32) : fz x < 65536 := by
  have := x.toBitVec.isLt
  unfold fz
  omega
theorem fq_lt (x : Int32) : fq x < 16 := by
  have := x.toBitVec.isLt
  unfold fq
  omega
theorem fb_lt (how bk : Nat) (x : Int32) (last ts : Nat) (tx : Nat → Nat) : fb how bk x last ts tx < 256 := by
  unfold fb
  split
  · split <;> omega
  · split
    · omega
    · split <;> omega
theorem kb_le {len of : Nat} (h0 : 0 < len) (h1 : of ≤ 16384) : ∀ j k, k + j = 15 → (k = 0 ∨ len * 2 ^ (k - 1) < of) → kb len of j k ≤ 15
  | 0, k, h, _ => by show k ≤ 15; omega
  | j + 1, k, h, hk => by
    unfold kb
    split
    · rename_i hc
      exact kb_le h0 h1 j (k + 1) (by omega) (Or.inr (by rw [show k + 1 - 1 = k by omega]; exact hc))
    · omega
section
variable {l : Launch} {Γ : Gl} {o : Nat} {ad : Nat → Nat} {f : Nat → Int32} {g : Nat → Nat → Int32} {ord room : Nat} {S : Sg}
theorem c_T_bitsOf {len of : Nat} (h11 : f 11 = nI len) (h12 : f 12 = nI of) (h0 : 0 < len) (hlo : len ≤ of) (h1 : of ≤ 16384) : Ct l Γ y_T_bitsOf b_T_bitsOf 2 (some .int) 0 0 0 [.ref o] (tw Γ o ad f g) (pi Γ o ad (fun x f' g' => f' = f ∧ g' = g ∧ x = nI (kb len of 15 0))) := by
  refine Ct.of (by decide) (by simp [Value.category]) (Nat.le_of_ble_eq_true rfl) (fun E eG el en C hR F hnm => ?_)
  subst eG
  subst el
  have hL : 2 ≤ xn E := Nat.le_of_eq en.symm
  show G E 0 0 0 [some (.ref o), none] [] (tw (xG E) o ad f g)
  have loop : ∀ j k, k + j = 15 → (k = 0 ∨ len * 2 ^ (k - 1) < of) → kb len of j k = kb len of 15 0 → G E 0 0 2 [some (.ref o), some (.int (nI k))] [] (tw (xG E) o ad f g) := by
    intro j
    induction j with
    | zero =>
      intro k hk hp
      have : k = 15 := by omega
      subst this
      rcases hp with q | q
      · omega
      · have : 1 * 2 ^ (15 - 1) ≤ len * 2 ^ (15 - 1) := Nat.mul_le_mul_right _ h0
        omega
    | succ j ih =>
      intro k hk hp he
      have hpow : 2 ^ k ≤ 2 ^ 14 := Nat.pow_le_pow_right (by decide) (by omega)
      have hm : len * 2 ^ k ≤ 16384 * 2 ^ 14 := Nat.mul_le_mul (by omega) hpow
      refine g_aload_0 (q := 3) C d_T_bitsOf_2 rfl ?_
      refine tg_126 (q := 6) C d_T_bitsOf_3 rfl h11 ?_
      refine g_iload_1 (q := 7) C d_T_bitsOf_6 rfl ?_
      refine g_ishl (q := 8) C d_T_bitsOf_7 rfl (nIshl (by omega) (by omega)) ?_
      refine g_aload_0 (q := 9) C d_T_bitsOf_8 rfl ?_
      refine tg_116 (q := 12) C d_T_bitsOf_9 rfl h12 ?_
      refine g_icmp_ge (q := 15) (tgt := 21) C d_T_bitsOf_12 rfl (by decide) (fun hc => ?_) (fun hc => ?_)
      · have hc := (nI_leI (by omega) (by omega)).mp hc
        refine g_iload_1 (q := 22) C d_T_bitsOf_21 rfl ?_
        refine g_iret C F d_T_bitsOf_22 (Nat.le_refl _) (Nat.le_refl _) ⟨_, _, _, rfl, rfl, rfl, rfl, ?_⟩
        rw [← he]
        show _ = nI (if _ then _ else _)
        rw [if_neg (by omega)]
      · have hc : len * 2 ^ k < of := Nat.lt_of_not_le (fun q => hc ((nI_leI (by omega) (by omega)).mpr q))
        refine g_iinc_1 (q := 18) C hL d_T_bitsOf_15 rfl (nI_inc _) ?_
        refine g_goto (tgt := 2) C d_T_bitsOf_18 (by decide) ?_
        refine ih (k + 1) (by omega) (Or.inr (by rw [show k + 1 - 1 = k by omega]; exact hc)) ?_
        rw [← he]
        show _ = (if _ then _ else _)
        rw [if_pos hc]
  refine g_iconst (v := nI 0) (q := 1) C d_T_bitsOf_0 rfl (by decide) ?_
  refine g_istore_1 (q := 2) C hL d_T_bitsOf_1 rfl ?_
  exact loop 15 0 (by omega) (Or.inl rfl) rfl
theorem c_T_node {e i w : Int32} (hS : MW ord room f g S) : Ct l Γ y_T_node b_T_node 7 (some .int) 1 0 0 [.ref o, .int e, .int i, .int w] (tw Γ o ad f g) (pi Γ o ad (fun x f' g' => MW ord room f' g' S ∧ ((oNode e i w S = none ∧ f' 0 = nI 1) ∨ (oNode e i w S = some x ∧ f' 0 = nI 0)))) := by
  obtain ⟨ts, tx, os, ou, rc, re, EE, K, kT, R, pl, ip, to, pn, px, pf⟩ := S
  obtain ⟨h1, h2, h3, h4, h5, h6, h7, h8, h9⟩ := id hS
  refine Ct.of (by decide) (by simp [Value.category]) (Nat.le_of_ble_eq_true rfl) (fun E eG el en C hR F hnm => ?_)
  subst eG
  subst el
  have hL : 7 ≤ xn E := Nat.le_of_eq en.symm
  show G E 0 0 0 [some (.ref o), some (.int e), some (.int i), some (.int w), none, none, none] [] (tw (xG E) o ad f g)
  have hd : oNode e i w (ts, tx, os, ou, rc, re, EE, K, kT, R, pl, ip, to, pn, px, pf) = if ¬ isE e ∨ ¬ (nI 0 ≤ w ∧ w ≤ nI 3) then some (-1) else if ¬ (nI 0 ≤ i ∧ i ≤ nI (tN (EE (cl e))) - nI 1) then none else if w = 0 then some (if cl i = 0 then -1 else nI (tP (EE (cl e)) (cl i))) else if w = nI 1 then some (if cl i = 0 then -1 else nI (tB (EE (cl e)) (cl i))) else if w = nI 2 then some (if cl i = 0 then nI 0 else nI (tC (EE (cl e)) (cl i))) else some (nI (dpt (tP (EE (cl e))) (tN (EE (cl e))) (cl i))) := rfl
  have h23 : (¬ isE e ∨ ¬ (nI 0 ≤ w ∧ w ≤ nI 3)) → G E 0 0 23 [some (.ref o), some (.int e), some (.int i), some (.int w), none, none, none] [] (tw (xG E) o ad (upd f 0 (nI 0)) g) := by
    intro hno
    refine g_iconst (v := (-1)) (q := 24) C d_T_node_23 rfl (by decide) ?_
    exact g_iret C F d_T_node_24 (Nat.le_refl _) (Nat.le_refl _) ⟨_, _, _, rfl, rfl, hS.thrown, Or.inr ⟨by rw [hd, if_pos hno], upd_s⟩⟩
  refine g_aload_0 (q := 1) C d_T_node_0 rfl ?_
  refine g_iconst (v := nI 0) (q := 2) C d_T_node_1 rfl (by decide) ?_
  refine tp_82 (q := 5) C d_T_node_2 rfl ?_
  refine g_iload_1 (q := 6) C d_T_node_5 rfl ?_
  refine g_iconst (v := nI 0) (q := 7) C d_T_node_6 rfl (by decide) ?_
  refine g_iconst (v := nI 1) (q := 8) C d_T_node_7 rfl (by decide) ?_
  refine tc_88 (q := 11) C hR (c_T_in _ _ _) d_T_node_8 rfl (by decide) (by decide) (by decide) (Nat.le_of_ble_eq_true rfl) (fun x hx => ?_)
  rcases hx with ⟨i1, i2, rfl⟩ | ⟨hno, rfl⟩
  · refine g_if_eq (q := 14) (tgt := 23) C d_T_node_11 rfl (by decide) (fun hz => ?_) (fun hz => ?_)
    · exact absurd hz (by decide)
    refine g_iload_3 (q := 15) C d_T_node_14 rfl ?_
    refine g_iconst (v := nI 0) (q := 16) C d_T_node_15 rfl (by decide) ?_
    refine g_iconst (v := nI 3) (q := 17) C d_T_node_16 rfl (by decide) ?_
    refine tc_88 (q := 20) C hR (c_T_in _ _ _) d_T_node_17 rfl (by decide) (by decide) (by decide) (Nat.le_of_ble_eq_true rfl) (fun x hx => ?_)
    rcases hx with ⟨w1, w2, rfl⟩ | ⟨hno, rfl⟩
    · refine g_if_ne (q := 23) (tgt := 25) C d_T_node_20 rfl (by decide) (fun hz => ?_) (fun hz => ?_)
      · rw [if_neg (fun q => by rcases q with q | q; exact q ⟨i1, i2⟩; exact q ⟨w1, w2⟩)] at hd
        obtain ⟨j, hj, rfl⟩ := ix_of2 (n := 1) (by decide) ⟨i1, i2⟩
        rw [show cl (nI j) = j from cl_nI (by omega)] at hd
        obtain ⟨hT, hI⟩ := h5 j (by omega)
        obtain ⟨T3, T7, T4, T5, T6, TR, T8⟩ := id hT
        have hn := hI.n
        have hnp := hI.1.1
        generalize EE j = T at *
        refine g_iload_2 (q := 26) C d_T_node_25 rfl ?_
        refine g_iconst (v := nI 0) (q := 27) C d_T_node_26 rfl (by decide) ?_
        refine g_aload_0 (q := 28) C d_T_node_27 rfl ?_
        refine tg_19 (q := 31) C d_T_node_28 rfl ?_
        refine g_iload_1 (q := 32) C d_T_node_31 rfl ?_
        refine ta_3 (q := 33) C d_T_node_32 rfl rfl (by omega) T3 ?_
        refine g_iconst (v := nI 1) (q := 34) C d_T_node_33 rfl (by decide) ?_
        refine g_isub (q := 35) C d_T_node_34 rfl rfl ?_
        refine tc_88 (q := 38) C hR (c_T_in _ _ _) d_T_node_35 rfl (by decide) (by decide) (by decide) (Nat.le_of_ble_eq_true rfl) (fun x hx => ?_)
        rcases hx with ⟨k1, k2, rfl⟩ | ⟨hno, rfl⟩
        · refine g_if_ne (q := 41) (tgt := 48) C d_T_node_38 rfl (by decide) (fun hz => ?_) (fun hz => ?_)
          · rw [if_neg (fun q => q ⟨k1, k2⟩)] at hd
            obtain ⟨c, hc, rfl⟩ := ix_of (n := tN T) (by omega) ⟨k1, k2⟩
            rw [show cl (nI c) = c from cl_nI (by omega)] at hd
            have r4 : g 4 (1500 * j + c) = if c = 0 then -1 else nI (tP T c) := by
              by_cases e0 : c = 0
              · rw [if_pos e0, e0]; exact T4
              · rw [if_neg e0]; exact (TR c (by omega) hc).1
            have r5 : g 5 (1500 * j + c) = if c = 0 then -1 else nI (tB T c) := by
              by_cases e0 : c = 0
              · rw [if_pos e0, e0]; exact T5
              · rw [if_neg e0]; exact (TR c (by omega) hc).2.1
            have r6 : g 6 (1500 * j + c) = if c = 0 then nI 0 else nI (tC T c) := by
              by_cases e0 : c = 0
              · rw [if_pos e0, e0]; exact T6
              · rw [if_neg e0]; exact (TR c (by omega) hc).2.2
            have hend : ∀ y, oNode (nI j) (nI c) w (ts, tx, os, ou, rc, re, EE, K, kT, R, pl, ip, to, pn, px, pf) = some y → ∀ lv, G E 0 0 98 lv [.int y] (tw (xG E) o ad (upd f 0 (nI 0)) g) := fun y hy lv =>
              g_iret C F d_T_node_98 (Nat.le_refl _) (Nat.le_refl _) ⟨_, _, _, rfl, rfl, hS.thrown, Or.inr ⟨hy, upd_s⟩⟩
            refine g_sipush (v := nI 1500) (q := 51) C d_T_node_48 rfl (by decide) ?_
            refine g_iload_1 (q := 52) C d_T_node_51 rfl ?_
            refine g_imul (q := 53) C d_T_node_52 rfl (pk_mul _ _) ?_
            refine g_iload_2 (q := 54) C d_T_node_53 rfl ?_
            refine g_iadd (q := 55) C d_T_node_54 rfl (nI_add _ _) ?_
            refine g_istore_4 (q := 57) C hL d_T_node_55 rfl ?_
            refine g_iload_3 (q := 58) C d_T_node_57 rfl ?_
            refine g_iconst (v := nI 3) (q := 59) C d_T_node_58 rfl (by decide) ?_
            obtain ⟨v, hv, rfl⟩ := ix_of2 (n := 3) (by decide) ⟨w1, w2⟩
            refine g_icmp_ge (q := 62) (tgt := 99) C d_T_node_59 rfl (by decide) (fun hq => ?_) (fun hq => ?_)
            · have hq := (nI_leI (by omega) (by omega)).mp hq
              have hv3 : v = 3 := by omega
              subst hv3
              rw [if_neg (by decide), if_neg (by decide), if_neg (by decide)] at hd
              have loop : ∀ (fu up n : Nat), up ≤ fu → up < tN T → n + dpt (tP T) fu up = dpt (tP T) (tN T) c → n + fu ≤ tN T → G E 0 0 105 [some (.ref o), some (.int (nI j)), some (.int (nI c)), some (.int (nI 3)), some (.int (nI (1500 * j + c))), some (.int (nI n)), some (.int (nI up))] [] (tw (xG E) o ad (upd f 0 (nI 0)) g) := by
                intro fu
                induction fu with
                | zero =>
                  intro up n hu hul he hnf
                  have : up = 0 := by omega
                  subst this
                  refine g_iload_6 (q := 107) C d_T_node_105 rfl ?_
                  refine g_if_le (q := 110) (tgt := 131) C d_T_node_107 rfl (by decide) (fun hx => ?_) (fun hx => ?_)
                  · refine g_iload_5 (q := 133) C d_T_node_131 rfl ?_
                    exact g_iret C F d_T_node_133 (Nat.le_refl _) (Nat.le_refl _) ⟨_, _, _, rfl, rfl, hS.thrown, Or.inr ⟨by rw [hd, ← he]; rfl, upd_s⟩⟩
                  · exact absurd (by decide) hx
                | succ fu ih =>
                  intro up n hu hul he hnf
                  refine g_iload_6 (q := 107) C d_T_node_105 rfl ?_
                  refine g_if_le (q := 110) (tgt := 131) C d_T_node_107 rfl (by decide) (fun hx => ?_) (fun hx => ?_)
                  · have hx := (nILe0 (by omega)).mp hx
                    subst hx
                    refine g_iload_5 (q := 133) C d_T_node_131 rfl ?_
                    exact g_iret C F d_T_node_133 (Nat.le_refl _) (Nat.le_refl _) ⟨_, _, _, rfl, rfl, hS.thrown, Or.inr ⟨by rw [hd, ← he]; rfl, upd_s⟩⟩
                  · have hx : up ≠ 0 := fun q => hx ((nILe0 (by omega)).mpr q)
                    have hp := (hI.1.2.2.2.2.2.2.1 up (by omega) hul).1
                    refine g_iinc_5 (q := 113) C hL d_T_node_110 rfl (nI_inc _) ?_
                    refine g_aload_0 (q := 114) C d_T_node_113 rfl ?_
                    refine tg_22 (q := 117) C d_T_node_114 rfl ?_
                    refine g_sipush (v := nI 1500) (q := 120) C d_T_node_117 rfl (by decide) ?_
                    refine g_iload_1 (q := 121) C d_T_node_120 rfl ?_
                    refine g_imul (q := 122) C d_T_node_121 rfl (pk_mul _ _) ?_
                    refine g_iload_6 (q := 124) C d_T_node_122 rfl ?_
                    refine g_iadd (q := 125) C d_T_node_124 rfl (nI_add _ _) ?_
                    refine ta_4 (q := 126) C d_T_node_125 rfl rfl (by omega) (TR up (by omega) hul).1 ?_
                    refine g_istore_6 (q := 128) C hL d_T_node_126 rfl ?_
                    refine g_goto (tgt := 105) C d_T_node_128 (by decide) ?_
                    refine ih (tP T up) (n + 1) (by omega) (by omega) ?_ (by omega)
                    rw [← he]
                    show _ = n + (if up = 0 then 0 else 1 + dpt (tP T) fu (tP T up))
                    rw [if_neg hx]; omega
              refine g_iconst (v := nI 0) (q := 100) C d_T_node_99 rfl (by decide) ?_
              refine g_istore_5 (q := 102) C hL d_T_node_100 rfl ?_
              refine g_iload_2 (q := 103) C d_T_node_102 rfl ?_
              refine g_istore_6 (q := 105) C hL d_T_node_103 rfl ?_
              exact loop (tN T) c 0 (by omega) hc (Nat.zero_add _) (by omega)
            · have hq : v < 3 := Nat.lt_of_not_le (fun q => hq ((nI_leI (by omega) (by omega)).mpr q))
              refine g_iload_3 (q := 63) C d_T_node_62 rfl ?_
              refine g_if_ne (q := 66) (tgt := 76) C d_T_node_63 rfl (by decide) (fun hv0 => ?_) (fun hv0 => ?_)
              · refine g_iload_3 (q := 77) C d_T_node_76 rfl ?_
                refine g_iconst (v := nI 1) (q := 78) C d_T_node_77 rfl (by decide) ?_
                refine g_icmp_ne (q := 81) (tgt := 91) C d_T_node_78 rfl (by decide) (fun hv1 => ?_) (fun hv1 => ?_)
                · have hv2 : v = 2 := by
                    have a : v ≠ 0 := fun q => hv0 (by rw [q]; rfl)
                    have b : v ≠ 1 := fun q => hv1 (by rw [q])
                    omega
                  subst hv2
                  refine g_aload_0 (q := 92) C d_T_node_91 rfl ?_
                  refine tg_28 (q := 95) C d_T_node_92 rfl ?_
                  refine g_iload_4 (q := 97) C d_T_node_95 rfl ?_
                  refine ta_6 (q := 98) C d_T_node_97 rfl rfl (by omega) r6 ?_
                  exact hend _ (by rw [hd, if_neg (by decide), if_neg (by decide), if_pos rfl]) _
                · refine g_aload_0 (q := 82) C d_T_node_81 rfl ?_
                  refine tg_25 (q := 85) C d_T_node_82 rfl ?_
                  refine g_iload_4 (q := 87) C d_T_node_85 rfl ?_
                  refine ta_5 (q := 88) C d_T_node_87 rfl rfl (by omega) r5 ?_
                  refine g_goto (tgt := 98) C d_T_node_88 (by decide) ?_
                  exact hend _ (by rw [hd, if_neg hv0, if_pos (Decidable.not_not.mp hv1)]) _
              · refine g_aload_0 (q := 67) C d_T_node_66 rfl ?_
                refine tg_22 (q := 70) C d_T_node_67 rfl ?_
                refine g_iload_4 (q := 72) C d_T_node_70 rfl ?_
                refine ta_4 (q := 73) C d_T_node_72 rfl rfl (by omega) r4 ?_
                refine g_goto (tgt := 98) C d_T_node_73 (by decide) ?_
                exact hend _ (by rw [hd, if_pos (Decidable.not_not.mp hv0)]) _
          · exact absurd (by decide) hz
        · refine g_if_ne (q := 41) (tgt := 48) C d_T_node_38 rfl (by decide) (fun hz => ?_) (fun hz => ?_)
          · exact absurd rfl hz
          refine g_aload_0 (q := 42) C d_T_node_41 rfl ?_
          refine g_iconst (v := nI 1) (q := 43) C d_T_node_42 rfl (by decide) ?_
          refine tp_82 (q := 46) C d_T_node_43 rfl ?_
          refine g_iconst (v := nI 0) (q := 47) C d_T_node_46 rfl (by decide) ?_
          exact g_iret C F d_T_node_47 (Nat.le_refl _) (Nat.le_refl _) ⟨_, _, _, rfl, rfl, hS.thrown.thrown, Or.inl ⟨by rw [hd, if_pos hno], upd_s⟩⟩
      · exact absurd (by decide) hz
    · refine g_if_ne (q := 23) (tgt := 25) C d_T_node_20 rfl (by decide) (fun hz => ?_) (fun hz => ?_)
      · exact absurd rfl hz
      · exact h23 (Or.inr hno)
  · refine g_if_eq (q := 14) (tgt := 23) C d_T_node_11 rfl (by decide) (fun hz => ?_) (fun hz => ?_)
    · exact h23 (Or.inl hno)
    · exact absurd rfl hz
theorem c_T_equal (hS : MW ord room f g S) : Ct l Γ y_T_equal b_T_equal 3 (some .int) 0 0 0 [.ref o] (tw Γ o ad f g) (pi Γ o ad (fun x f' g' => MW ord room f' g' S ∧ oEqual S x)) := by
  obtain ⟨ts, tx, os, ou, rc, re, EE, K, kT, R, pl, ip, to, pn, px, pf⟩ := S
  obtain ⟨h1, h2, h3, h4, h5, h6, h7, h8, h9⟩ := id hS
  obtain ⟨hT0, hI0⟩ := h5 0 (by decide)
  obtain ⟨hT1, hI1⟩ := h5 1 (by decide)
  have hdef : ∀ x, oEqual (ts, tx, os, ou, rc, re, EE, K, kT, R, pl, ip, to, pn, px, pf) x ↔ ((eqT (EE 0) (EE 1) ∧ x = nI 1) ∨ (¬ eqT (EE 0) (EE 1) ∧ x = nI 0)) := fun x => Iff.rfl
  generalize EE 0 = A at *
  generalize EE 1 = B at *
  obtain ⟨A3, A7, A4, A5, A6, AR, A8⟩ := hT0
  obtain ⟨B3, B7, B4, B5, B6, BR, B8⟩ := hT1
  have an := hI0.n
  have bn := hI1.n
  have al := hI0.l
  have bl' := hI1.l
  refine Ct.of (by decide) (by simp [Value.category]) (Nat.le_of_ble_eq_true rfl) (fun E eG el en C hR F hnm => ?_)
  subst eG
  subst el
  have hL : 3 ≤ xn E := Nat.le_of_eq en.symm
  show G E 0 0 0 [some (.ref o), none, none] [] (tw (xG E) o ad f g)
  have h180 : ∀ (x : Int32) lv, oEqual (ts, tx, os, ou, rc, re, EE, K, kT, R, pl, ip, to, pn, px, pf) x → G E 0 0 180 lv [.int x] (tw (xG E) o ad (upd f 0 (nI 0)) g) := fun x lv hx =>
    g_iret C F d_T_equal_180 (Nat.le_refl _) (Nat.le_refl _) ⟨_, _, _, rfl, rfl, hS.thrown, hx⟩
  have h171n : ∀ l2, ¬ eqT A B → G E 0 0 171 [some (.ref o), some (.int (nI 0)), l2] [] (tw (xG E) o ad (upd f 0 (nI 0)) g) := by
    intro l2 hno
    refine g_iload_1 (q := 172) C d_T_equal_171 rfl ?_
    refine g_if_eq (q := 175) (tgt := 179) C d_T_equal_172 rfl (by decide) (fun hz => ?_) (fun hz => ?_)
    · refine g_iconst (v := nI 0) (q := 180) C d_T_equal_179 rfl (by decide) ?_
      exact h180 _ _ ((hdef _).mpr (Or.inr ⟨hno, rfl⟩))
    · exact absurd rfl hz
  have h126n : ∀ l2, ¬ eqT A B → G E 0 0 126 [some (.ref o), some (.int (nI 0)), l2] [] (tw (xG E) o ad (upd f 0 (nI 0)) g) := by
    intro l2 hno
    refine g_iconst (v := nI 0) (q := 127) C d_T_equal_126 rfl (by decide) ?_
    refine g_istore_2 (q := 128) C hL d_T_equal_127 rfl ?_
    refine g_iload_2 (q := 129) C d_T_equal_128 rfl ?_
    refine g_aload_0 (q := 130) C d_T_equal_129 rfl ?_
    refine tg_31 (q := 133) C d_T_equal_130 rfl ?_
    refine g_iconst (v := nI 0) (q := 134) C d_T_equal_133 rfl (by decide) ?_
    refine ta_7 (q := 135) C d_T_equal_134 rfl rfl (by decide) A7 ?_
    refine g_icmp_ge (q := 138) (tgt := 171) C d_T_equal_135 rfl (by decide) (fun hc => ?_) (fun hc => ?_)
    · exact h171n _ hno
    refine g_iload_1 (q := 139) C d_T_equal_138 rfl ?_
    refine g_if_eq (q := 142) (tgt := 171) C d_T_equal_139 rfl (by decide) (fun hz => ?_) (fun hz => ?_)
    · exact h171n _ hno
    exact absurd rfl hz
  have h43n : ∀ i2, ¬ eqT A B → G E 0 0 43 [some (.ref o), some (.int (nI 0)), some (.int i2)] [] (tw (xG E) o ad (upd f 0 (nI 0)) g) := by
    intro i2 hno
    refine g_iload_2 (q := 44) C d_T_equal_43 rfl ?_
    refine g_aload_0 (q := 45) C d_T_equal_44 rfl ?_
    refine tg_19 (q := 48) C d_T_equal_45 rfl ?_
    refine g_iconst (v := nI 0) (q := 49) C d_T_equal_48 rfl (by decide) ?_
    refine ta_3 (q := 50) C d_T_equal_49 rfl rfl (by decide) A3 ?_
    refine g_icmp_ge (q := 53) (tgt := 126) C d_T_equal_50 rfl (by decide) (fun hc => ?_) (fun hc => ?_)
    · exact h126n _ hno
    refine g_iload_1 (q := 54) C d_T_equal_53 rfl ?_
    refine g_if_eq (q := 57) (tgt := 126) C d_T_equal_54 rfl (by decide) (fun hz => ?_) (fun hz => ?_)
    · exact h126n _ hno
    exact absurd rfl hz
  -- the latest
  have loop2 : ∀ j i, i + j = tL A → tN A = tN B → tL A = tL B → (∀ i, 0 < i → i < tN A → tP A i = tP B i ∧ tB A i = tB B i ∧ tC A i = tC B i) → (∀ i', i' < i → tE A i' = tE B i') → G E 0 0 128 [some (.ref o), some (.int (nI 1)), some (.int (nI i))] [] (tw (xG E) o ad (upd f 0 (nI 0)) g) := by
    intro j
    induction j with
    | zero =>
      intro i hi e1 e2 e3 e4
      refine g_iload_2 (q := 129) C d_T_equal_128 rfl ?_
      refine g_aload_0 (q := 130) C d_T_equal_129 rfl ?_
      refine tg_31 (q := 133) C d_T_equal_130 rfl ?_
      refine g_iconst (v := nI 0) (q := 134) C d_T_equal_133 rfl (by decide) ?_
      refine ta_7 (q := 135) C d_T_equal_134 rfl rfl (by decide) A7 ?_
      refine g_icmp_ge (q := 138) (tgt := 171) C d_T_equal_135 rfl (by decide) (fun hc => ?_) (fun hc => ?_)
      · refine g_iload_1 (q := 172) C d_T_equal_171 rfl ?_
        refine g_if_eq (q := 175) (tgt := 179) C d_T_equal_172 rfl (by decide) (fun hz => ?_) (fun hz => ?_)
        · exact absurd hz (by decide)
        refine g_iconst (v := nI 1) (q := 176) C d_T_equal_175 rfl (by decide) ?_
        refine g_goto (tgt := 180) C d_T_equal_176 (by decide) ?_
        exact h180 _ _ ((hdef _).mpr (Or.inl ⟨⟨e1, e2, e3, fun i' hi' => e4 i' (by omega)⟩, rfl⟩))
      · exact absurd ((nI_leI (by omega) (by omega)).mpr (by omega)) hc
    | succ j ih =>
      intro i hi e1 e2 e3 e4
      have a8 : g 8 i = nI (tE A i) := by have := A8 i (by omega); rwa [show 4 * 0 + i = i by omega] at this
      have b8 : g 8 (4 + i) = nI (tE B i) := by have := B8 i (by omega); rwa [show 4 * 1 + i = 4 + i by omega] at this
      have ae := hI0.1.2.2.2.2.2.2.2.2 i (by omega)
      have be := hI1.1.2.2.2.2.2.2.2.2 i (by omega)
      refine g_iload_2 (q := 129) C d_T_equal_128 rfl ?_
      refine g_aload_0 (q := 130) C d_T_equal_129 rfl ?_
      refine tg_31 (q := 133) C d_T_equal_130 rfl ?_
      refine g_iconst (v := nI 0) (q := 134) C d_T_equal_133 rfl (by decide) ?_
      refine ta_7 (q := 135) C d_T_equal_134 rfl rfl (by decide) A7 ?_
      refine g_icmp_ge (q := 138) (tgt := 171) C d_T_equal_135 rfl (by decide) (fun hc => ?_) (fun hc => ?_)
      · exact absurd ((nI_leI (by omega) (by omega)).mp hc) (by omega)
      refine g_iload_1 (q := 139) C d_T_equal_138 rfl ?_
      refine g_if_eq (q := 142) (tgt := 171) C d_T_equal_139 rfl (by decide) (fun hz => ?_) (fun hz => ?_)
      · exact absurd hz (by decide)
      refine g_aload_0 (q := 143) C d_T_equal_142 rfl ?_
      refine tg_34 (q := 146) C d_T_equal_143 rfl ?_
      refine g_iload_2 (q := 147) C d_T_equal_146 rfl ?_
      refine ta_8 (q := 148) C d_T_equal_147 rfl rfl (by omega) a8 ?_
      refine g_aload_0 (q := 149) C d_T_equal_148 rfl ?_
      refine tg_34 (q := 152) C d_T_equal_149 rfl ?_
      refine g_iconst (v := nI 4) (q := 153) C d_T_equal_152 rfl (by decide) ?_
      refine g_iload_2 (q := 154) C d_T_equal_153 rfl ?_
      refine g_iadd (q := 155) C d_T_equal_154 rfl (nI_add _ _) ?_
      refine ta_8 (q := 156) C d_T_equal_155 rfl rfl (by omega) b8 ?_
      refine g_icmp_ne (q := 159) (tgt := 163) C d_T_equal_156 rfl (by decide) (fun hq => ?_) (fun hq => ?_)
      · have hno : ¬ eqT A B := fun q => hq (by rw [q.2.2.2 i (by omega)])
        refine g_iconst (v := nI 0) (q := 164) C d_T_equal_163 rfl (by decide) ?_
        refine g_istore_1 (q := 165) C hL d_T_equal_164 rfl ?_
        refine g_iinc_2 (q := 168) C hL d_T_equal_165 rfl (nI_inc _) ?_
        refine g_goto (tgt := 128) C d_T_equal_168 (by decide) ?_
        refine g_iload_2 (q := 129) C d_T_equal_128 rfl ?_
        refine g_aload_0 (q := 130) C d_T_equal_129 rfl ?_
        refine tg_31 (q := 133) C d_T_equal_130 rfl ?_
        refine g_iconst (v := nI 0) (q := 134) C d_T_equal_133 rfl (by decide) ?_
        refine ta_7 (q := 135) C d_T_equal_134 rfl rfl (by decide) A7 ?_
        refine g_icmp_ge (q := 138) (tgt := 171) C d_T_equal_135 rfl (by decide) (fun hc => ?_) (fun hc => ?_)
        · exact h171n _ hno
        refine g_iload_1 (q := 139) C d_T_equal_138 rfl ?_
        refine g_if_eq (q := 142) (tgt := 171) C d_T_equal_139 rfl (by decide) (fun hz => ?_) (fun hz => ?_)
        · exact h171n _ hno
        exact absurd rfl hz
      · have hq := (nI_eq (by omega) (by omega)).mp (Decidable.not_not.mp hq)
        refine g_iconst (v := nI 1) (q := 160) C d_T_equal_159 rfl (by decide) ?_
        refine g_goto (tgt := 164) C d_T_equal_160 (by decide) ?_
        refine g_istore_1 (q := 165) C hL d_T_equal_164 rfl ?_
        refine g_iinc_2 (q := 168) C hL d_T_equal_165 rfl (nI_inc _) ?_
        refine g_goto (tgt := 128) C d_T_equal_168 (by decide) ?_
        exact ih (i + 1) (by omega) e1 e2 e3 (fun i' hi' => by
          by_cases e : i' = i
          · rw [e]; exact hq
          · exact e4 i' (by omega))
  -- the rows
  have loop1 : ∀ j i, i + j = tN A → tN A = tN B → tL A = tL B → (∀ i', 0 < i' → i' < i → tP A i' = tP B i' ∧ tB A i' = tB B i' ∧ tC A i' = tC B i') → G E 0 0 43 [some (.ref o), some (.int (nI 1)), some (.int (nI i))] [] (tw (xG E) o ad (upd f 0 (nI 0)) g) := by
    intro j
    induction j with
    | zero =>
      intro i hi e1 e2 e3
      refine g_iload_2 (q := 44) C d_T_equal_43 rfl ?_
      refine g_aload_0 (q := 45) C d_T_equal_44 rfl ?_
      refine tg_19 (q := 48) C d_T_equal_45 rfl ?_
      refine g_iconst (v := nI 0) (q := 49) C d_T_equal_48 rfl (by decide) ?_
      refine ta_3 (q := 50) C d_T_equal_49 rfl rfl (by decide) A3 ?_
      refine g_icmp_ge (q := 53) (tgt := 126) C d_T_equal_50 rfl (by decide) (fun hc => ?_) (fun hc => ?_)
      · refine g_iconst (v := nI 0) (q := 127) C d_T_equal_126 rfl (by decide) ?_
        refine g_istore_2 (q := 128) C hL d_T_equal_127 rfl ?_
        exact loop2 (tL A) 0 (by omega) e1 e2 (fun i' h0 hi' => e3 i' h0 (by omega)) (fun i' hi' => absurd hi' (Nat.not_lt_zero _))
      · exact absurd ((nI_leI (by omega) (by omega)).mpr (by omega)) hc
    | succ j ih =>
      intro i hi e1 e2 e3
      have ra : (i = 0 ∧ g 4 i = -1 ∧ g 5 i = -1 ∧ g 6 i = nI 0 ∧ g 4 (1500 + i) = -1 ∧ g 5 (1500 + i) = -1 ∧ g 6 (1500 + i) = nI 0) ∨ (0 < i ∧ g 4 i = nI (tP A i) ∧ g 5 i = nI (tB A i) ∧ g 6 i = nI (tC A i) ∧ g 4 (1500 + i) = nI (tP B i) ∧ g 5 (1500 + i) = nI (tB B i) ∧ g 6 (1500 + i) = nI (tC B i)) := by
        rcases Nat.eq_zero_or_pos i with z | z
        · subst z; exact Or.inl ⟨rfl, A4, A5, A6, B4, B5, B6⟩
        · right
          obtain ⟨x1, x2, x3⟩ := AR i z (by omega)
          obtain ⟨y1, y2, y3⟩ := BR i z (by omega)
          rw [show 1500 * 0 + i = i by omega] at x1 x2 x3
          rw [show 1500 * 1 + i = 1500 + i by omega] at y1 y2 y3
          exact ⟨z, x1, x2, x3, y1, y2, y3⟩
      have h118 : ∀ _ : Option Value, ¬ eqT A B → G E 0 0 118 [some (.ref o), some (.int (nI 1)), some (.int (nI i))] [] (tw (xG E) o ad (upd f 0 (nI 0)) g) := by
        intro _ hno
        refine g_iconst (v := nI 0) (q := 119) C d_T_equal_118 rfl (by decide) ?_
        refine g_istore_1 (q := 120) C hL d_T_equal_119 rfl ?_
        refine g_iinc_2 (q := 123) C hL d_T_equal_120 rfl (nI_inc _) ?_
        refine g_goto (tgt := 43) C d_T_equal_123 (by decide) ?_
        exact h43n _ hno
      refine g_iload_2 (q := 44) C d_T_equal_43 rfl ?_
      refine g_aload_0 (q := 45) C d_T_equal_44 rfl ?_
      refine tg_19 (q := 48) C d_T_equal_45 rfl ?_
      refine g_iconst (v := nI 0) (q := 49) C d_T_equal_48 rfl (by decide) ?_
      refine ta_3 (q := 50) C d_T_equal_49 rfl rfl (by decide) A3 ?_
      refine g_icmp_ge (q := 53) (tgt := 126) C d_T_equal_50 rfl (by decide) (fun hc => ?_) (fun hc => ?_)
      · exact absurd ((nI_leI (by omega) (by omega)).mp hc) (by omega)
      refine g_iload_1 (q := 54) C d_T_equal_53 rfl ?_
      refine g_if_eq (q := 57) (tgt := 126) C d_T_equal_54 rfl (by decide) (fun hz => ?_) (fun hz => ?_)
      · exact absurd hz (by decide)
      rcases ra with ⟨i0, x1, x2, x3, y1, y2, y3⟩ | ⟨i0, x1, x2, x3, y1, y2, y3⟩
      · refine g_aload_0 (q := 58) C d_T_equal_57 rfl ?_
        refine tg_22 (q := 61) C d_T_equal_58 rfl ?_
        refine g_iload_2 (q := 62) C d_T_equal_61 rfl ?_
        refine ta_4 (q := 63) C d_T_equal_62 rfl rfl (by omega) x1 ?_
        refine g_aload_0 (q := 64) C d_T_equal_63 rfl ?_
        refine tg_22 (q := 67) C d_T_equal_64 rfl ?_
        refine g_sipush (v := nI 1500) (q := 70) C d_T_equal_67 rfl (by decide) ?_
        refine g_iload_2 (q := 71) C d_T_equal_70 rfl ?_
        refine g_iadd (q := 72) C d_T_equal_71 rfl (nI_add _ _) ?_
        refine ta_4 (q := 73) C d_T_equal_72 rfl rfl (by omega) y1 ?_
        refine g_icmp_ne (q := 76) (tgt := 118) C d_T_equal_73 rfl (by decide) (fun hq => ?_) (fun hq => ?_)
        · exact absurd rfl hq
        refine g_aload_0 (q := 77) C d_T_equal_76 rfl ?_
        refine tg_25 (q := 80) C d_T_equal_77 rfl ?_
        refine g_iload_2 (q := 81) C d_T_equal_80 rfl ?_
        refine ta_5 (q := 82) C d_T_equal_81 rfl rfl (by omega) x2 ?_
        refine g_aload_0 (q := 83) C d_T_equal_82 rfl ?_
        refine tg_25 (q := 86) C d_T_equal_83 rfl ?_
        refine g_sipush (v := nI 1500) (q := 89) C d_T_equal_86 rfl (by decide) ?_
        refine g_iload_2 (q := 90) C d_T_equal_89 rfl ?_
        refine g_iadd (q := 91) C d_T_equal_90 rfl (nI_add _ _) ?_
        refine ta_5 (q := 92) C d_T_equal_91 rfl rfl (by omega) y2 ?_
        refine g_icmp_ne (q := 95) (tgt := 118) C d_T_equal_92 rfl (by decide) (fun hq => ?_) (fun hq => ?_)
        · exact absurd rfl hq
        refine g_aload_0 (q := 96) C d_T_equal_95 rfl ?_
        refine tg_28 (q := 99) C d_T_equal_96 rfl ?_
        refine g_iload_2 (q := 100) C d_T_equal_99 rfl ?_
        refine ta_6 (q := 101) C d_T_equal_100 rfl rfl (by omega) x3 ?_
        refine g_aload_0 (q := 102) C d_T_equal_101 rfl ?_
        refine tg_28 (q := 105) C d_T_equal_102 rfl ?_
        refine g_sipush (v := nI 1500) (q := 108) C d_T_equal_105 rfl (by decide) ?_
        refine g_iload_2 (q := 109) C d_T_equal_108 rfl ?_
        refine g_iadd (q := 110) C d_T_equal_109 rfl (nI_add _ _) ?_
        refine ta_6 (q := 111) C d_T_equal_110 rfl rfl (by omega) y3 ?_
        refine g_icmp_ne (q := 114) (tgt := 118) C d_T_equal_111 rfl (by decide) (fun hq => ?_) (fun hq => ?_)
        · exact absurd rfl hq
        refine g_iconst (v := nI 1) (q := 115) C d_T_equal_114 rfl (by decide) ?_
        refine g_goto (tgt := 119) C d_T_equal_115 (by decide) ?_
        refine g_istore_1 (q := 120) C hL d_T_equal_119 rfl ?_
        refine g_iinc_2 (q := 123) C hL d_T_equal_120 rfl (nI_inc _) ?_
        refine g_goto (tgt := 43) C d_T_equal_123 (by decide) ?_
        exact ih (i + 1) (by omega) e1 e2 (fun i' h0 hi' => e3 i' h0 (by omega))
      · obtain ⟨p1, p2, p3⟩ := hI0.1.2.2.2.2.2.2.1 i i0 (by omega)
        obtain ⟨q1, q2, q3⟩ := hI1.1.2.2.2.2.2.2.1 i i0 (by omega)
        have c1 : tC A i ≤ 600 := Nat.le_trans (sc_le i0 (by omega) rfl) (hI0.2.2.2 (tP A i))
        have c2 : tC B i ≤ 600 := Nat.le_trans (sc_le i0 (by omega) rfl) (hI1.2.2.2 (tP B i))
        refine g_aload_0 (q := 58) C d_T_equal_57 rfl ?_
        refine tg_22 (q := 61) C d_T_equal_58 rfl ?_
        refine g_iload_2 (q := 62) C d_T_equal_61 rfl ?_
        refine ta_4 (q := 63) C d_T_equal_62 rfl rfl (by omega) x1 ?_
        refine g_aload_0 (q := 64) C d_T_equal_63 rfl ?_
        refine tg_22 (q := 67) C d_T_equal_64 rfl ?_
        refine g_sipush (v := nI 1500) (q := 70) C d_T_equal_67 rfl (by decide) ?_
        refine g_iload_2 (q := 71) C d_T_equal_70 rfl ?_
        refine g_iadd (q := 72) C d_T_equal_71 rfl (nI_add _ _) ?_
        refine ta_4 (q := 73) C d_T_equal_72 rfl rfl (by omega) y1 ?_
        refine g_icmp_ne (q := 76) (tgt := 118) C d_T_equal_73 rfl (by decide) (fun hq => ?_) (fun hq => ?_)
        · exact h118 none (fun q => hq (by rw [(q.2.2.1 i i0 (by omega)).1]))
        have r1 := (nI_eq (by omega) (by omega)).mp (Decidable.not_not.mp hq)
        refine g_aload_0 (q := 77) C d_T_equal_76 rfl ?_
        refine tg_25 (q := 80) C d_T_equal_77 rfl ?_
        refine g_iload_2 (q := 81) C d_T_equal_80 rfl ?_
        refine ta_5 (q := 82) C d_T_equal_81 rfl rfl (by omega) x2 ?_
        refine g_aload_0 (q := 83) C d_T_equal_82 rfl ?_
        refine tg_25 (q := 86) C d_T_equal_83 rfl ?_
        refine g_sipush (v := nI 1500) (q := 89) C d_T_equal_86 rfl (by decide) ?_
        refine g_iload_2 (q := 90) C d_T_equal_89 rfl ?_
        refine g_iadd (q := 91) C d_T_equal_90 rfl (nI_add _ _) ?_
        refine ta_5 (q := 92) C d_T_equal_91 rfl rfl (by omega) y2 ?_
        refine g_icmp_ne (q := 95) (tgt := 118) C d_T_equal_92 rfl (by decide) (fun hq => ?_) (fun hq => ?_)
        · exact h118 none (fun q => hq (by rw [(q.2.2.1 i i0 (by omega)).2.1]))
        have r2 := (nI_eq (by omega) (by omega)).mp (Decidable.not_not.mp hq)
        refine g_aload_0 (q := 96) C d_T_equal_95 rfl ?_
        refine tg_28 (q := 99) C d_T_equal_96 rfl ?_
        refine g_iload_2 (q := 100) C d_T_equal_99 rfl ?_
        refine ta_6 (q := 101) C d_T_equal_100 rfl rfl (by omega) x3 ?_
        refine g_aload_0 (q := 102) C d_T_equal_101 rfl ?_
        refine tg_28 (q := 105) C d_T_equal_102 rfl ?_
        refine g_sipush (v := nI 1500) (q := 108) C d_T_equal_105 rfl (by decide) ?_
        refine g_iload_2 (q := 109) C d_T_equal_108 rfl ?_
        refine g_iadd (q := 110) C d_T_equal_109 rfl (nI_add _ _) ?_
        refine ta_6 (q := 111) C d_T_equal_110 rfl rfl (by omega) y3 ?_
        refine g_icmp_ne (q := 114) (tgt := 118) C d_T_equal_111 rfl (by decide) (fun hq => ?_) (fun hq => ?_)
        · exact h118 none (fun q => hq (by rw [(q.2.2.1 i i0 (by omega)).2.2]))
        have r3 := (nI_eq (by omega) (by omega)).mp (Decidable.not_not.mp hq)
        refine g_iconst (v := nI 1) (q := 115) C d_T_equal_114 rfl (by decide) ?_
        refine g_goto (tgt := 119) C d_T_equal_115 (by decide) ?_
        refine g_istore_1 (q := 120) C hL d_T_equal_119 rfl ?_
        refine g_iinc_2 (q := 123) C hL d_T_equal_120 rfl (nI_inc _) ?_
        refine g_goto (tgt := 43) C d_T_equal_123 (by decide) ?_
        exact ih (i + 1) (by omega) e1 e2 (fun i' h0 hi' => by
          by_cases e : i' = i
          · rw [e]; exact ⟨r1, r2, r3⟩
          · exact e3 i' h0 (by omega))
  have h39 : ¬ eqT A B → G E 0 0 39 [some (.ref o), none, none] [] (tw (xG E) o ad (upd f 0 (nI 0)) g) := by
    intro hno
    refine g_iconst (v := nI 0) (q := 40) C d_T_equal_39 rfl (by decide) ?_
    refine g_istore_1 (q := 41) C hL d_T_equal_40 rfl ?_
    refine g_iconst (v := nI 0) (q := 42) C d_T_equal_41 rfl (by decide) ?_
    refine g_istore_2 (q := 43) C hL d_T_equal_42 rfl ?_
    exact h43n _ hno
  refine g_aload_0 (q := 1) C d_T_equal_0 rfl ?_
  refine g_iconst (v := nI 0) (q := 2) C d_T_equal_1 rfl (by decide) ?_
  refine tp_82 (q := 5) C d_T_equal_2 rfl ?_
  refine g_aload_0 (q := 6) C d_T_equal_5 rfl ?_
  refine tg_19 (q := 9) C d_T_equal_6 rfl ?_
  refine g_iconst (v := nI 0) (q := 10) C d_T_equal_9 rfl (by decide) ?_
  refine ta_3 (q := 11) C d_T_equal_10 rfl rfl (by decide) A3 ?_
  refine g_aload_0 (q := 12) C d_T_equal_11 rfl ?_
  refine tg_19 (q := 15) C d_T_equal_12 rfl ?_
  refine g_iconst (v := nI 1) (q := 16) C d_T_equal_15 rfl (by decide) ?_
  refine ta_3 (q := 17) C d_T_equal_16 rfl rfl (by decide) B3 ?_
  refine g_icmp_ne (q := 20) (tgt := 39) C d_T_equal_17 rfl (by decide) (fun hq => ?_) (fun hq => ?_)
  · exact h39 (fun q => hq (by rw [q.1]))
  have e1 := (nI_eq (by omega) (by omega)).mp (Decidable.not_not.mp hq)
  refine g_aload_0 (q := 21) C d_T_equal_20 rfl ?_
  refine tg_31 (q := 24) C d_T_equal_21 rfl ?_
  refine g_iconst (v := nI 0) (q := 25) C d_T_equal_24 rfl (by decide) ?_
  refine ta_7 (q := 26) C d_T_equal_25 rfl rfl (by decide) A7 ?_
  refine g_aload_0 (q := 27) C d_T_equal_26 rfl ?_
  refine tg_31 (q := 30) C d_T_equal_27 rfl ?_
  refine g_iconst (v := nI 1) (q := 31) C d_T_equal_30 rfl (by decide) ?_
  refine ta_7 (q := 32) C d_T_equal_31 rfl rfl (by decide) B7 ?_
  refine g_icmp_ne (q := 35) (tgt := 39) C d_T_equal_32 rfl (by decide) (fun hq => ?_) (fun hq => ?_)
  · exact h39 (fun q => hq (by rw [q.2.1]))
  have e2 := (nI_eq (by omega) (by omega)).mp (Decidable.not_not.mp hq)
  refine g_iconst (v := nI 1) (q := 36) C d_T_equal_35 rfl (by decide) ?_
  refine g_goto (tgt := 40) C d_T_equal_36 (by decide) ?_
  refine g_istore_1 (q := 41) C hL d_T_equal_40 rfl ?_
  refine g_iconst (v := nI 0) (q := 42) C d_T_equal_41 rfl (by decide) ?_
  refine g_istore_2 (q := 43) C hL d_T_equal_42 rfl ?_
  exact loop1 (tN A) 0 (by omega) e1 e2 (fun i' h0 hi' => absurd hi' (Nat.not_lt_zero _))
theorem c_T_fill {n seed how : Int32} (hS : MW ord room f g S) : Ct l Γ y_T_fill b_T_fill 10 (some .int) 1 0 0 [.ref o, .int n, .int seed, .int how] (tw Γ o ad f g) (pi Γ o ad (fun x f' g' => x = (oFill n seed how S).1 ∧ MW ord room f' g' (oFill n seed how S).2)) := by
  obtain ⟨ts, tx, os, ou, rc, re, EE, K, kT, R, pl, ip, to, pn, px, pf⟩ := S
  obtain ⟨h1, h2, h3, h4, h5, h6, h7, h8, h9⟩ := id hS
  refine Ct.of (by decide) (by simp [Value.category]) (Nat.le_of_ble_eq_true rfl) (fun E eG el en C hR F hnm => ?_)
  subst eG
  subst el
  have hL : 10 ≤ xn E := Nat.le_of_eq en.symm
  show G E 0 0 0 [some (.ref o), some (.int n), some (.int seed), some (.int how), none, none, none, none, none, none] [] (tw (xG E) o ad f g)
  have h25 : (¬ (nI 1 ≤ n ∧ n ≤ nI 300) ∨ ¬ (nI 0 ≤ how ∧ how ≤ nI 3)) → G E 0 0 25 [some (.ref o), some (.int n), some (.int seed), some (.int how), none, none, none, none, none, none] [] (tw (xG E) o ad (upd f 0 (nI 0)) g) := by
    intro hno
    have he : oFill n seed how (ts, tx, os, ou, rc, re, EE, K, kT, R, pl, ip, to, pn, px, pf) = (-1, (ts, tx, os, ou, rc, re, EE, K, kT, R, pl, ip, to, pn, px, pf)) := if_pos hno
    refine g_iconst (v := (-1)) (q := 26) C d_T_fill_25 rfl (by decide) ?_
    exact g_iret C F d_T_fill_26 (Nat.le_refl _) (Nat.le_refl _) ⟨_, _, _, rfl, rfl, by rw [he], by rw [he]; exact hS.thrown⟩
  refine g_aload_0 (q := 1) C d_T_fill_0 rfl ?_
  refine g_iconst (v := nI 0) (q := 2) C d_T_fill_1 rfl (by decide) ?_
  refine tp_82 (q := 5) C d_T_fill_2 rfl ?_
  refine g_iload_1 (q := 6) C d_T_fill_5 rfl ?_
  refine g_iconst (v := nI 1) (q := 7) C d_T_fill_6 rfl (by decide) ?_
  refine g_sipush (v := nI 300) (q := 10) C d_T_fill_7 rfl (by decide) ?_
  refine tc_88 (q := 13) C hR (c_T_in _ _ _) d_T_fill_10 rfl (by decide) (by decide) (by decide) (Nat.le_of_ble_eq_true rfl) (fun x hx => ?_)
  rcases hx with ⟨i1, i2, rfl⟩ | ⟨hno, rfl⟩
  · refine g_if_eq (q := 16) (tgt := 25) C d_T_fill_13 rfl (by decide) (fun hz => ?_) (fun hz => ?_)
    · exact absurd hz (by decide)
    refine g_iload_3 (q := 17) C d_T_fill_16 rfl ?_
    refine g_iconst (v := nI 0) (q := 18) C d_T_fill_17 rfl (by decide) ?_
    refine g_iconst (v := nI 3) (q := 19) C d_T_fill_18 rfl (by decide) ?_
    refine tc_88 (q := 22) C hR (c_T_in _ _ _) d_T_fill_19 rfl (by decide) (by decide) (by decide) (Nat.le_of_ble_eq_true rfl) (fun x hx => ?_)
    rcases hx with ⟨w1, w2, rfl⟩ | ⟨hno, rfl⟩
    · refine g_if_ne (q := 25) (tgt := 27) C d_T_fill_22 rfl (by decide) (fun hz => ?_) (fun hz => ?_)
      · obtain ⟨c, hc, rfl⟩ := ix_of2 (i := n) (n := 300) (by decide) ⟨Int32.le_trans (nI_le (by decide) (by decide)) i1, i2⟩
        have hc1 : 1 ≤ c := (nI_leI (by decide) (by omega)).mp i1
        obtain ⟨w, hw, rfl⟩ := ix_of2 (n := 3) (by decide) ⟨w1, w2⟩
        refine g_aload_0 (q := 28) C d_T_fill_27 rfl ?_
        refine tg_85 (q := 31) C d_T_fill_28 rfl h2.1 ?_
        refine g_iload_1 (q := 32) C d_T_fill_31 rfl ?_
        refine g_iadd (q := 33) C d_T_fill_32 rfl (nI_add _ _) ?_
        refine g_sipush (v := nI 300) (q := 36) C d_T_fill_33 rfl (by decide) ?_
        refine g_icmp_le (q := 39) (tgt := 42) C d_T_fill_36 rfl (by decide) (fun hq => ?_) (fun hq => ?_)
        · have hq := (nI_leI (by omega) (by omega)).mp hq
          have he : oFill (nI c) seed (nI w) (ts, tx, os, ou, rc, re, EE, K, kT, R, pl, ip, to, pn, px, pf) = (nI (ts + cl (nI c)), (ts + cl (nI c), fil (cl (nI w)) (1 + fq seed) (cl (nI c)) seed 0 ts tx, os, ou, rc, re, EE, K, kT, R, pl, ip, to, pn, px, pf)) := by
            show (if _ then _ else if _ then _ else _) = _
            rw [if_neg (fun q => by rcases q with q | q; exact q ⟨i1, i2⟩; exact q ⟨w1, w2⟩), if_neg (by rw [cl_nI (by omega)]; omega)]
          rw [show cl (nI c) = c from cl_nI (by omega), show cl (nI w) = w from cl_nI (by omega)] at he
          have hq4 := fq_lt seed
          have loop : ∀ (j k : Nat) (x : Int32) (last : Nat) (tx' : Nat → Nat) (f1 : Nat → Int32) (g1 : Nat → Nat → Int32) (l8 l9 : Option Value), k + j = c → Fr [0, 3] [0] f f1 g g1 → f1 3 = nI (ts + k) → (∀ i, i < ts + k → g1 0 i = nI (tx' i) ∧ tx' i < 256) → last < 256 → fil w (1 + fq seed) j x last (ts + k) tx' = fil w (1 + fq seed) c seed 0 ts tx → G E 0 0 59 [some (.ref o), some (.int (nI c)), some (.int seed), some (.int (nI w)), some (.int x), some (.int (nI last)), some (.int (nI (1 + fq seed))), some (.int (nI k)), l8, l9] [] (tw (xG E) o ad f1 g1) := by
            intro j
            induction j with
            | zero =>
              intro k x last tx' f1 g1 l8 l9 hk hF e3 ht hl he2
              have : k = c := by omega
              subst this
              refine g_iload_7 (q := 61) C d_T_fill_59 rfl ?_
              refine g_iload_1 (q := 62) C d_T_fill_61 rfl ?_
              refine g_icmp_ge (q := 65) (tgt := 205) C d_T_fill_62 rfl (by decide) (fun hx => ?_) (fun hx => ?_)
              · refine g_aload_0 (q := 206) C d_T_fill_205 rfl ?_
                refine tg_85 (q := 209) C d_T_fill_206 rfl e3 ?_
                refine g_iret C F d_T_fill_209 (Nat.le_refl _) (Nat.le_refl _) ⟨_, _, _, rfl, rfl, by rw [he], ?_⟩
                rw [he, ← he2]
                have eg : ∀ a, a ≠ 0 → g1 a = g a := fun a ha => hF.2 a (by simpa using ha)
                refine ⟨?_, ⟨e3, by omega, ht⟩, h3.keep (hF.1 4 (by decide)) (eg 1 (by decide)), ?_, fun m hm => ⟨(h5 m hm).1.keep (eg 3 (by decide)) (eg 4 (by decide)) (eg 5 (by decide)) (eg 6 (by decide)) (eg 7 (by decide)) (eg 8 (by decide)), (h5 m hm).2⟩, ⟨?_, h6.2.1, fun k hk => ⟨(h6.2.2 k hk).1.keep (eg 3 (by decide)) (eg 4 (by decide)) (eg 5 (by decide)) (eg 6 (by decide)) (eg 7 (by decide)) (eg 8 (by decide)), (h6.2.2 k hk).2⟩⟩, ?_, ?_, ?_⟩
                · rw [hF.1 1 (by decide), hF.1 2 (by decide)]; exact h1
                · rw [hF.1 5 (by decide), eg 2 (by decide)]; exact h4
                · rw [hF.1 6 (by decide)]; exact h6.1
                · rw [eg 9 (by decide)]; exact h7
                · rw [hF.1 24 (by decide)]; exact h8
                · rw [hF.1 20 (by decide), hF.1 21 (by decide), eg 15 (by decide), eg 16 (by decide), eg 17 (by decide)]; exact h9
              · exact absurd ((nI_leI (by omega) (by omega)).mpr (by omega)) hx
            | succ j ih =>
              intro k x last tx' f1 g1 l8 l9 hk hF e3 ht hl he2
              have hfz := fz_lt (x * nI 1103515245 + nI 12345)
              -- the byte is put down
              have h174 : ∀ b, b = fb w (1 + fq seed) (x * nI 1103515245 + nI 12345) last (ts + k) tx' → G E 0 0 174 [some (.ref o), some (.int (nI c)), some (.int seed), some (.int (nI w)), some (.int (x * nI 1103515245 + nI 12345)), some (.int (nI last)), some (.int (nI (1 + fq seed))), some (.int (nI k)), some (.int (nI (fz (x * nI 1103515245 + nI 12345)))), some (.int (nI b))] [] (tw (xG E) o ad f1 g1) := by
                intro b hb
                have hb2 : b < 256 := by rw [hb]; exact fb_lt _ _ _ _ _ _
                refine g_aload_0 (q := 175) C d_T_fill_174 rfl ?_
                refine tg_7 (q := 178) C d_T_fill_175 rfl ?_
                refine g_aload_0 (q := 179) C d_T_fill_178 rfl ?_
                refine tg_85 (q := 182) C d_T_fill_179 rfl e3 ?_
                refine g_iload_9 (q := 184) C d_T_fill_182 rfl ?_
                refine ts_0 (q := 185) C d_T_fill_184 rfl rfl (by omega) ?_
                refine g_aload_0 (q := 186) C d_T_fill_185 rfl ?_
                refine g_dup_r (q := 187) C d_T_fill_186 rfl ?_
                refine tg_85 (q := 190) C d_T_fill_187 rfl e3 ?_
                refine g_iconst (v := nI 1) (q := 191) C d_T_fill_190 rfl (by decide) ?_
                refine g_iadd (q := 192) C d_T_fill_191 rfl (nI_1 _) ?_
                refine tp_85 (q := 195) C d_T_fill_192 rfl ?_
                refine g_iload_9 (q := 197) C d_T_fill_195 rfl ?_
                refine g_istore_5 (q := 199) C hL d_T_fill_197 rfl ?_
                refine g_iinc_7 (q := 202) C hL d_T_fill_199 rfl (nI_inc _) ?_
                refine g_goto (tgt := 59) C d_T_fill_202 (by decide) ?_
                refine ih (k + 1) _ b (upN tx' (ts + k) b) _ _ _ _ (by omega) ((hF.updA (by decide)).upd (by decide)) rfl (fun i hi => ?_) hb2 ?_
                · show upd (g1 0) (ts + k) (nI b) i = _ ∧ _
                  by_cases e : i = ts + k
                  · rw [e, upd_s, upN_s]; exact ⟨rfl, hb2⟩
                  · rw [upd_n e, upN_n e]; exact ht i (by omega)
                · rw [← he2, hb]; rfl
              refine g_iload_7 (q := 61) C d_T_fill_59 rfl ?_
              refine g_iload_1 (q := 62) C d_T_fill_61 rfl ?_
              refine g_icmp_ge (q := 65) (tgt := 205) C d_T_fill_62 rfl (by decide) (fun hx => ?_) (fun hx => ?_)
              · exact absurd ((nI_leI (by omega) (by omega)).mp hx) (by omega)
              refine g_iload_4 (q := 67) C d_T_fill_65 rfl ?_
              refine g_ldc (v := nI 1103515245) (q := 69) C d_T_fill_67 rfl w_918 ?_
              refine g_imul (q := 70) C d_T_fill_69 rfl rfl ?_
              refine g_sipush (v := nI 12345) (q := 73) C d_T_fill_70 rfl (by decide) ?_
              refine g_iadd (q := 74) C d_T_fill_73 rfl rfl ?_
              refine g_istore_4 (q := 76) C hL d_T_fill_74 rfl ?_
              refine g_iload_4 (q := 78) C d_T_fill_76 rfl ?_
              refine g_bipush (v := nI 16) (q := 80) C d_T_fill_78 rfl (by decide) ?_
              refine g_iushr (q := 81) C d_T_fill_80 rfl (ush16 _) ?_
              refine g_istore_8 (q := 83) C hL d_T_fill_81 rfl ?_
              refine g_iload_3 (q := 84) C d_T_fill_83 rfl ?_
              refine g_iconst (v := nI 2) (q := 85) C d_T_fill_84 rfl (by decide) ?_
              refine g_icmp_ne (q := 88) (tgt := 136) C d_T_fill_85 rfl (by decide) (fun hw2 => ?_) (fun hw2 => ?_)
              · have hw2 : w ≠ 2 := fun q => hw2 (by rw [q])
                have h172 : ∀ b, b = fb w (1 + fq seed) (x * nI 1103515245 + nI 12345) last (ts + k) tx' → ∀ l9, G E 0 0 172 [some (.ref o), some (.int (nI c)), some (.int seed), some (.int (nI w)), some (.int (x * nI 1103515245 + nI 12345)), some (.int (nI last)), some (.int (nI (1 + fq seed))), some (.int (nI k)), some (.int (nI (fz (x * nI 1103515245 + nI 12345)))), l9] [.int (nI b)] (tw (xG E) o ad f1 g1) := by
                  intro b hb l9
                  refine g_istore_9 (q := 174) C hL d_T_fill_172 rfl ?_
                  exact h174 b hb
                refine g_iload_3 (q := 137) C d_T_fill_136 rfl ?_
                refine g_if_ne (q := 140) (tgt := 149) C d_T_fill_137 rfl (by decide) (fun hw0 => ?_) (fun hw0 => ?_)
                · have hw0 : w ≠ 0 := fun q => hw0 (by rw [q]; rfl)
                  refine g_iload_3 (q := 150) C d_T_fill_149 rfl ?_
                  refine g_iconst (v := nI 1) (q := 151) C d_T_fill_150 rfl (by decide) ?_
                  refine g_icmp_ne (q := 154) (tgt := 161) C d_T_fill_151 rfl (by decide) (fun hw1 => ?_) (fun hw1 => ?_)
                  · have hw1 : w ≠ 1 := fun q => hw1 (by rw [q])
                    refine g_iload_5 (q := 163) C d_T_fill_161 rfl ?_
                    refine g_iload_8 (q := 165) C d_T_fill_163 rfl ?_
                    refine g_iconst (v := nI 4) (q := 166) C d_T_fill_165 rfl (by decide) ?_
                    refine g_irem (q := 167) C d_T_fill_166 rfl (by decide) (pk_rem (d := 4) (by omega) (by decide) (by decide)) ?_
                    refine g_iadd (q := 168) C d_T_fill_167 rfl (nI_add _ _) ?_
                    refine g_sipush (v := nI 256) (q := 171) C d_T_fill_168 rfl (by decide) ?_
                    refine g_irem (q := 172) C d_T_fill_171 rfl (by decide) (pk_rem (d := 256) (by omega) (by decide) (by decide)) ?_
                    exact h172 _ (by unfold fb; rw [if_neg hw2, if_neg hw0, if_neg hw1]) _
                  · have hw1 : w = 1 := (nI_eq (by omega) (by decide)).mp (Decidable.not_not.mp hw1)
                    refine g_iload_8 (q := 156) C d_T_fill_154 rfl ?_
                    refine g_iconst (v := nI 4) (q := 157) C d_T_fill_156 rfl (by decide) ?_
                    refine g_irem (q := 158) C d_T_fill_157 rfl (by decide) (pk_rem (d := 4) (by omega) (by decide) (by decide)) ?_
                    refine g_goto (tgt := 172) C d_T_fill_158 (by decide) ?_
                    exact h172 _ (by unfold fb; rw [if_neg hw2, if_neg hw0, if_pos hw1]) _
                · have hw0 : w = 0 := (nI0 (by omega)).mp (Decidable.not_not.mp hw0)
                  refine g_iload_8 (q := 142) C d_T_fill_140 rfl ?_
                  refine g_sipush (v := nI 256) (q := 145) C d_T_fill_142 rfl (by decide) ?_
                  refine g_irem (q := 146) C d_T_fill_145 rfl (by decide) (pk_rem (d := 256) (by omega) (by decide) (by decide)) ?_
                  refine g_goto (tgt := 172) C d_T_fill_146 (by decide) ?_
                  exact h172 _ (by unfold fb; rw [if_neg hw2, if_pos hw0]) _
              · have hw2 : w = 2 := (nI_eq (by omega) (by decide)).mp (Decidable.not_not.mp hw2)
                have h131 : ∀ b, b = fb w (1 + fq seed) (x * nI 1103515245 + nI 12345) last (ts + k) tx' → ∀ l9, G E 0 0 131 [some (.ref o), some (.int (nI c)), some (.int seed), some (.int (nI w)), some (.int (x * nI 1103515245 + nI 12345)), some (.int (nI last)), some (.int (nI (1 + fq seed))), some (.int (nI k)), some (.int (nI (fz (x * nI 1103515245 + nI 12345)))), l9] [.int (nI b)] (tw (xG E) o ad f1 g1) := by
                  intro b hb l9
                  refine g_istore_9 (q := 133) C hL d_T_fill_131 rfl ?_
                  refine g_goto (tgt := 174) C d_T_fill_133 (by decide) ?_
                  exact h174 b hb
                refine g_aload_0 (q := 89) C d_T_fill_88 rfl ?_
                refine tg_85 (q := 92) C d_T_fill_89 rfl e3 ?_
                refine g_iload_6 (q := 94) C d_T_fill_92 rfl ?_
                refine g_icmp_ge (q := 97) (tgt := 101) C d_T_fill_94 rfl (by decide) (fun hbk => ?_) (fun hbk => ?_)
                · have hbk := (nI_leI (by omega) (by omega)).mp hbk
                  obtain ⟨t1, t2⟩ := ht (ts + k - (1 + fq seed)) (by omega)
                  have h126 : ∀ d, d = (if fz (x * nI 1103515245 + nI 12345) % 16 = 0 then 1 else 0) → ∀ l9, G E 0 0 126 [some (.ref o), some (.int (nI c)), some (.int seed), some (.int (nI w)), some (.int (x * nI 1103515245 + nI 12345)), some (.int (nI last)), some (.int (nI (1 + fq seed))), some (.int (nI k)), some (.int (nI (fz (x * nI 1103515245 + nI 12345)))), l9] [.int (nI d), .int (nI (tx' (ts + k - (1 + fq seed))))] (tw (xG E) o ad f1 g1) := by
                    intro d hd l9
                    have hd2 : d ≤ 1 := by rw [hd]; split <;> omega
                    refine g_iadd (q := 127) C d_T_fill_126 rfl (nI_add _ _) ?_
                    refine g_sipush (v := nI 256) (q := 130) C d_T_fill_127 rfl (by decide) ?_
                    refine g_irem (q := 131) C d_T_fill_130 rfl (by decide) (pk_rem (d := 256) (by omega) (by decide) (by decide)) ?_
                    exact h131 _ (by unfold fb; rw [if_pos hw2, if_neg (by omega), hd]) _
                  refine g_aload_0 (q := 102) C d_T_fill_101 rfl ?_
                  refine tg_7 (q := 105) C d_T_fill_102 rfl ?_
                  refine g_aload_0 (q := 106) C d_T_fill_105 rfl ?_
                  refine tg_85 (q := 109) C d_T_fill_106 rfl e3 ?_
                  refine g_iload_6 (q := 111) C d_T_fill_109 rfl ?_
                  refine g_isub (q := 112) C d_T_fill_111 rfl (pk_sub (by omega)) ?_
                  refine ta_0 (q := 113) C d_T_fill_112 rfl rfl (by omega) t1 ?_
                  refine g_iload_8 (q := 115) C d_T_fill_113 rfl ?_
                  refine g_bipush (v := nI 16) (q := 117) C d_T_fill_115 rfl (by decide) ?_
                  refine g_irem (q := 118) C d_T_fill_117 rfl (by decide) (pk_rem (d := 16) (by omega) (by decide) (by decide)) ?_
                  refine g_if_ne (q := 121) (tgt := 125) C d_T_fill_118 rfl (by decide) (fun hq => ?_) (fun hq => ?_)
                  · refine g_iconst (v := nI 0) (q := 126) C d_T_fill_125 rfl (by decide) ?_
                    exact h126 0 (by rw [if_neg (fun q => hq (by rw [q]; rfl))]) _
                  · refine g_iconst (v := nI 1) (q := 122) C d_T_fill_121 rfl (by decide) ?_
                    refine g_goto (tgt := 126) C d_T_fill_122 (by decide) ?_
                    exact h126 1 (by rw [if_pos ((nI0 (by omega)).mp (Decidable.not_not.mp hq))]) _
                · have hbk : ts + k < 1 + fq seed := Nat.lt_of_not_le (fun q => hbk ((nI_leI (by omega) (by omega)).mpr q))
                  refine g_iconst (v := nI 0) (q := 98) C d_T_fill_97 rfl (by decide) ?_
                  refine g_goto (tgt := 131) C d_T_fill_98 (by decide) ?_
                  exact h131 0 (by unfold fb; rw [if_pos hw2, if_pos hbk]) _
          refine g_iload_2 (q := 43) C d_T_fill_42 rfl ?_
          refine g_istore_4 (q := 45) C hL d_T_fill_43 rfl ?_
          refine g_iconst (v := nI 0) (q := 46) C d_T_fill_45 rfl (by decide) ?_
          refine g_istore_5 (q := 48) C hL d_T_fill_46 rfl ?_
          refine g_iconst (v := nI 1) (q := 49) C d_T_fill_48 rfl (by decide) ?_
          refine g_iload_2 (q := 50) C d_T_fill_49 rfl ?_
          refine g_bipush (v := nI 28) (q := 52) C d_T_fill_50 rfl (by decide) ?_
          refine g_iushr (q := 53) C d_T_fill_52 rfl (ush28 _) ?_
          refine g_iadd (q := 54) C d_T_fill_53 rfl (nI_add _ _) ?_
          refine g_istore_6 (q := 56) C hL d_T_fill_54 rfl ?_
          refine g_iconst (v := nI 0) (q := 57) C d_T_fill_56 rfl (by decide) ?_
          refine g_istore_7 (q := 59) C hL d_T_fill_57 rfl ?_
          exact loop c 0 seed 0 tx _ g _ _ (by omega) (Fr.rf.upd (by decide)) h2.1 (fun i hi => h2.2.2 i hi) (by decide) rfl
        · have hq : 300 < ts + c := Nat.lt_of_not_le (fun q => hq ((nI_leI (by omega) (by omega)).mpr q))
          have he : oFill (nI c) seed (nI w) (ts, tx, os, ou, rc, re, EE, K, kT, R, pl, ip, to, pn, px, pf) = (-2, (ts, tx, os, ou, rc, re, EE, K, kT, R, pl, ip, to, pn, px, pf)) := by
            show (if _ then _ else if _ then _ else _) = _
            rw [if_neg (fun q => by rcases q with q | q; exact q ⟨i1, i2⟩; exact q ⟨w1, w2⟩), if_pos (by rw [cl_nI (by omega)]; omega)]
          refine g_bipush (v := (-2)) (q := 41) C d_T_fill_39 rfl (by decide) ?_
          exact g_iret C F d_T_fill_41 (Nat.le_refl _) (Nat.le_refl _) ⟨_, _, _, rfl, rfl, by rw [he], by rw [he]; exact hS.thrown⟩
      · exact absurd (by decide) hz
    · refine g_if_ne (q := 25) (tgt := 27) C d_T_fill_22 rfl (by decide) (fun hz => ?_) (fun hz => ?_)
      · exact absurd rfl hz
      · exact h25 (Or.inr hno)
  · refine g_if_eq (q := 16) (tgt := 25) C d_T_fill_13 rfl (by decide) (fun hz => ?_) (fun hz => ?_)
    · exact h25 (Or.inl hno)
    · exact absurd rfl hz
end
