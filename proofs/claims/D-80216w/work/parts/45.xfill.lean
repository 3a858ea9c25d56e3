/-! PpmTrees: drawn, fill -/
theorem nIand255 {a : Nat} (ha : a < 2 ^ 32) : nI a &&& nI 255 = nI (a % 256) := pk_andN ha 8 (by decide)
theorem nIand3 {a : Nat} (ha : a < 2 ^ 32) : nI a &&& nI 3 = nI (a % 4) := pk_andN ha 2 (by decide)
theorem m1_lt0 {a b : Nat} (ha : a < 2 ^ 30) (hb : b < 2 ^ 29) : nI a - nI 1 - nI b < 0 ↔ a < 1 + b := by
  rw [show nI a - nI 1 - nI b = nI a - nI (1 + b) by rw [← nI_add, Int32.sub_eq_add_neg, Int32.sub_eq_add_neg, Int32.sub_eq_add_neg, Int32.neg_add, Int32.add_assoc, Int32.sub_eq_add_neg], Int32.lt_iff_toInt_lt, pk_sub_toInt ha (show 1 + b < 2 ^ 30 by omega)]
  show _ < (0 : Int) ↔ _
  omega
section
variable {l : Launch} {Γ : Gl} {x : Nat} {A : Nat → Nat} {f : Nat → Int32} {g : Nat → Nat → Int32} {S : Sg}
theorem c_X_drawn {v seed : Int32} {w last ts : Nat} {tx : Nat → Nat} (h3 : f 3 = nI ts) (hts : ts ≤ 300) (htx : ∀ i, i < ts → g 3 i = nI (tx i) ∧ tx i < 256) (hw : w ≤ 3) (hl : last < 256) :
    Ct l Γ y_X_drawn b_X_drawn 6 (some .int) 0 0 0 [.ref x, .int (nI (fz v)), .int seed, .int (nI w), .int (nI last)] (bw [xw Γ x A f g]) (fun r w' => r = some (.int (nI (fb w (1 + fq seed) v last ts tx))) ∧ w' = bw [xw Γ x A f g]) := by
  have hz := fz_lt v
  have hq := fq_lt seed
  refine Ct.of (by decide) (by simp [Value.category]) (Nat.le_of_ble_eq_true rfl) (fun E eG el en C hR F hnm => ?_)
  subst eG
  subst el
  have hL : 6 ≤ xn E := Nat.le_of_eq en.symm
  show G E 0 0 0 [some (.ref x), some (.int (nI (fz v))), some (.int seed), some (.int (nI w)), some (.int (nI last)), none] [] (bw [xw (xG E) x A f g])
  have key : w = 0 ∨ w = 1 ∨ w = 2 ∨ w = 3 := by omega
  refine g_iload_3 (q := 1) C d_X_drawn_0 rfl ?_
  rcases key with rfl | rfl | rfl | rfl
  · refine g_tabIn C 28 d_X_drawn_1 (by decide) (by decide) (off := 27) rfl (by decide) ?_
    refine g_iload_1 (q := 29) C d_X_drawn_28 rfl ?_
    refine g_sipush (v := nI 255) (q := 32) C d_X_drawn_29 rfl (by decide) ?_
    refine g_iand (q := 33) C d_X_drawn_32 rfl (nIand255 (by omega)) ?_
    exact g_iret C F d_X_drawn_33 (Nat.le_refl _) (Nat.le_refl _) ⟨rfl, rfl⟩
  · refine g_tabIn C 34 d_X_drawn_1 (by decide) (by decide) (off := 33) rfl (by decide) ?_
    refine g_iload_1 (q := 35) C d_X_drawn_34 rfl ?_
    refine g_iconst (v := nI 3) (q := 36) C d_X_drawn_35 rfl (by decide) ?_
    refine g_iand (q := 37) C d_X_drawn_36 rfl (nIand3 (by omega)) ?_
    exact g_iret C F d_X_drawn_37 (Nat.le_refl _) (Nat.le_refl _) ⟨rfl, rfl⟩
  · refine g_tabIn C 38 d_X_drawn_1 (by decide) (by decide) (off := 37) rfl (by decide) ?_
    refine g_aload_0 (q := 39) C d_X_drawn_38 rfl ?_
    refine xg_160 (q := 42) C d_X_drawn_39 rfl h3 ?_
    refine g_iconst (v := nI 1) (q := 43) C d_X_drawn_42 rfl (by decide) ?_
    refine g_isub (q := 44) C d_X_drawn_43 rfl rfl ?_
    refine g_iload_2 (q := 45) C d_X_drawn_44 rfl ?_
    refine g_bipush (v := nI 28) (q := 47) C d_X_drawn_45 rfl (by decide) ?_
    refine g_iushr (q := 48) C d_X_drawn_47 rfl (ush28 _) ?_
    refine g_isub (q := 49) C d_X_drawn_48 rfl rfl ?_
    refine g_istore_5 (q := 51) C hL d_X_drawn_49 rfl ?_
    refine g_iload_5 (q := 53) C d_X_drawn_51 rfl ?_
    refine g_if_ge (q := 56) (tgt := 60) C d_X_drawn_53 rfl (by decide) (fun hc => ?_) (fun hc => ?_)
    · have hc : 1 + fq seed ≤ ts := Nat.le_of_not_lt (fun q => absurd ((m1_lt0 (by omega) (by omega)).mpr q) (Int32.not_lt.mpr hc))
      have hix : nI ts - nI 1 - nI (fq seed) = nI (ts - (1 + fq seed)) := by
        rw [pk_sub (by omega), pk_sub (by omega)]
        congr 1
        omega
      obtain ⟨t1, t2⟩ := htx (ts - (1 + fq seed)) (by omega)
      have h79 : ∀ d, d = (if fz v % 16 = 0 then 1 else 0) → ∀ lv, G E 0 0 79 lv [.int (nI d), .int (nI (tx (ts - (1 + fq seed))))] (bw [xw (xG E) x A f g]) := by
        intro d hd lv
        have hd2 : d ≤ 1 := by rw [hd]; split <;> omega
        refine g_iadd (q := 80) C d_X_drawn_79 rfl (nI_add _ _) ?_
        refine g_sipush (v := nI 255) (q := 83) C d_X_drawn_80 rfl (by decide) ?_
        refine g_iand (q := 84) C d_X_drawn_83 rfl (nIand255 (by omega)) ?_
        refine g_iret C F d_X_drawn_84 (Nat.le_refl _) (Nat.le_refl _) ⟨?_, rfl⟩
        unfold fb
        rw [if_pos rfl, if_neg (by omega), hd]
      rw [hix]
      refine g_aload_0 (q := 61) C d_X_drawn_60 rfl ?_
      refine xg_87 (q := 64) C d_X_drawn_61 rfl ?_
      refine g_iload_5 (q := 66) C d_X_drawn_64 rfl ?_
      refine xa_3 (q := 67) C d_X_drawn_66 rfl rfl (by omega) t1 ?_
      refine g_iload_1 (q := 68) C d_X_drawn_67 rfl ?_
      refine g_bipush (v := nI 16) (q := 70) C d_X_drawn_68 rfl (by decide) ?_
      refine g_irem (q := 71) C d_X_drawn_70 rfl (by decide) (pk_rem (d := 16) (by omega) (by decide) (by decide)) ?_
      refine g_if_ne (q := 74) (tgt := 78) C d_X_drawn_71 rfl (by decide) (fun hr => ?_) (fun hr => ?_)
      · refine g_iconst (v := nI 0) (q := 79) C d_X_drawn_78 rfl (by decide) ?_
        exact h79 0 (by rw [if_neg (fun q => hr (by rw [q]; rfl))]) _
      · refine g_iconst (v := nI 1) (q := 75) C d_X_drawn_74 rfl (by decide) ?_
        refine g_goto (tgt := 79) C d_X_drawn_75 (by decide) ?_
        exact h79 1 (by rw [if_pos ((nI0 (by omega)).mp (Decidable.not_not.mp hr))]) _
    · have hc : ts < 1 + fq seed := (m1_lt0 (by omega) (by omega)).mp (Int32.not_le.mp hc)
      refine g_iconst (v := nI 0) (q := 57) C d_X_drawn_56 rfl (by decide) ?_
      refine g_goto (tgt := 84) C d_X_drawn_57 (by decide) ?_
      refine g_iret C F d_X_drawn_84 (Nat.le_refl _) (Nat.le_refl _) ⟨?_, rfl⟩
      unfold fb
      rw [if_pos rfl, if_pos hc]
  · refine g_tabOut C 85 d_X_drawn_1 (Or.inr (by decide)) (by decide) ?_
    refine g_iload_4 (q := 87) C d_X_drawn_85 rfl ?_
    refine g_iload_1 (q := 88) C d_X_drawn_87 rfl ?_
    refine g_iconst (v := nI 4) (q := 89) C d_X_drawn_88 rfl (by decide) ?_
    refine g_irem (q := 90) C d_X_drawn_89 rfl (by decide) (pk_rem (d := 4) (by omega) (by decide) (by decide)) ?_
    refine g_iadd (q := 91) C d_X_drawn_90 rfl (nI_add _ _) ?_
    refine g_sipush (v := nI 255) (q := 94) C d_X_drawn_91 rfl (by decide) ?_
    refine g_iand (q := 95) C d_X_drawn_94 rfl (nIand255 (by omega)) ?_
    exact g_iret C F d_X_drawn_95 (Nat.le_refl _) (Nat.le_refl _) ⟨rfl, rfl⟩
theorem c_X_fill {n seed how : Int32} (hS : XA f g S) : Ct l Γ y_X_fill b_X_fill 7 (some .int) 1 0 0 [.ref x, .int n, .int seed, .int how] (bw [xw Γ x A f g]) (pix Γ x A (fun z f' g' => z = (oFill n seed how S).1 ∧ XA f' g' (oFill n seed how S).2)) := by
  obtain ⟨ts, tx, os, ou, rc, re, EE, K, kT, R, pl, ip, to, pn, px, pf⟩ := S
  obtain ⟨h2, h3, h4, h7, h8, h9⟩ := id hS
  refine Ct.of (by decide) (by simp [Value.category]) (Nat.le_of_ble_eq_true rfl) (fun E eG el en C hR F hnm => ?_)
  subst eG
  subst el
  have hL : 7 ≤ xn E := Nat.le_of_eq en.symm
  show G E 0 0 0 [some (.ref x), some (.int n), some (.int seed), some (.int how), none, none, none] [] (bw [xw (xG E) x A f g])
  have h20 : (¬ (nI 1 ≤ n ∧ n ≤ nI 300) ∨ ¬ (nI 0 ≤ how ∧ how ≤ nI 3)) → G E 0 0 20 [some (.ref x), some (.int n), some (.int seed), some (.int how), none, none, none] [] (bw [xw (xG E) x A f g]) := by
    intro hno
    have he : oFill n seed how (ts, tx, os, ou, rc, re, EE, K, kT, R, pl, ip, to, pn, px, pf) = (-1, (ts, tx, os, ou, rc, re, EE, K, kT, R, pl, ip, to, pn, px, pf)) := if_pos hno
    refine g_iconst (v := (-1)) (q := 21) C d_X_fill_20 rfl (by decide) ?_
    exact g_iret C F d_X_fill_21 (Nat.le_refl _) (Nat.le_refl _) ⟨_, _, _, rfl, rfl, by rw [he], by rw [he]; exact hS⟩
  refine g_iload_1 (q := 1) C d_X_fill_0 rfl ?_
  refine g_iconst (v := nI 1) (q := 2) C d_X_fill_1 rfl (by decide) ?_
  refine g_sipush (v := nI 300) (q := 5) C d_X_fill_2 rfl (by decide) ?_
  refine xc_163 (q := 8) (wc := []) (wr := bw [xw (xG E) x A f g]) C hR c_X_isIn d_X_fill_5 rfl (by decide) (by decide) (by decide) (Nat.le_of_ble_eq_true rfl) (fun v ws' hp => ?_)
  obtain ⟨rfl, ⟨rfl, i1, i2⟩ | ⟨rfl, hno⟩⟩ := hp
  · show G E 0 0 8 _ [.int (nI 1)] (bw [xw (xG E) x A f g])
    refine g_if_eq (q := 11) (tgt := 20) C d_X_fill_8 rfl (by decide) (fun hz => ?_) (fun hz => ?_)
    · exact absurd hz (by decide)
    refine g_iload_3 (q := 12) C d_X_fill_11 rfl ?_
    refine g_iconst (v := nI 0) (q := 13) C d_X_fill_12 rfl (by decide) ?_
    refine g_iconst (v := nI 3) (q := 14) C d_X_fill_13 rfl (by decide) ?_
    refine xc_163 (q := 17) (wc := []) (wr := bw [xw (xG E) x A f g]) C hR c_X_isIn d_X_fill_14 rfl (by decide) (by decide) (by decide) (Nat.le_of_ble_eq_true rfl) (fun v ws' hp => ?_)
    obtain ⟨rfl, ⟨rfl, w1, w2⟩ | ⟨rfl, hno⟩⟩ := hp
    · show G E 0 0 17 _ [.int (nI 1)] (bw [xw (xG E) x A f g])
      refine g_if_ne (q := 20) (tgt := 22) C d_X_fill_17 rfl (by decide) (fun hz => ?_) (fun hz => ?_)
      · obtain ⟨c, hc, rfl⟩ := ix_of2 (i := n) (n := 300) (by decide) ⟨Int32.le_trans (nI_le (by decide) (by decide)) i1, i2⟩
        have hc1 : 1 ≤ c := (nI_leI (by decide) (by omega)).mp i1
        obtain ⟨w, hw, rfl⟩ := ix_of2 (n := 3) (by decide) ⟨w1, w2⟩
        refine g_aload_0 (q := 23) C d_X_fill_22 rfl ?_
        refine xg_160 (q := 26) C d_X_fill_23 rfl h2.1 ?_
        refine g_iload_1 (q := 27) C d_X_fill_26 rfl ?_
        refine g_iadd (q := 28) C d_X_fill_27 rfl (nI_add _ _) ?_
        refine g_sipush (v := nI 300) (q := 31) C d_X_fill_28 rfl (by decide) ?_
        refine g_icmp_le (q := 34) (tgt := 37) C d_X_fill_31 rfl (by decide) (fun hq => ?_) (fun hq => ?_)
        · have hq := (nI_leI (by omega) (by omega)).mp hq
          have he : oFill (nI c) seed (nI w) (ts, tx, os, ou, rc, re, EE, K, kT, R, pl, ip, to, pn, px, pf) = (nI (ts + cl (nI c)), (ts + cl (nI c), fil (cl (nI w)) (1 + fq seed) (cl (nI c)) seed 0 ts tx, os, ou, rc, re, EE, K, kT, R, pl, ip, to, pn, px, pf)) := by
            show (if _ then _ else if _ then _ else _) = _
            rw [if_neg (fun q => by rcases q with q | q; exact q ⟨i1, i2⟩; exact q ⟨w1, w2⟩), if_neg (by rw [cl_nI (by omega)]; omega)]
          rw [show cl (nI c) = c from cl_nI (by omega), show cl (nI w) = w from cl_nI (by omega)] at he
          have loop : ∀ (j k : Nat) (y : Int32) (last : Nat) (tx' : Nat → Nat) (f1 : Nat → Int32) (g1 : Nat → Nat → Int32), k + j = c → Fr [3] [3] f f1 g g1 → f1 3 = nI (ts + k) → (∀ i, i < ts + k → g1 3 i = nI (tx' i) ∧ tx' i < 256) → last < 256 → fil w (1 + fq seed) j y last (ts + k) tx' = fil w (1 + fq seed) c seed 0 ts tx → G E 0 0 46 [some (.ref x), some (.int (nI c)), some (.int seed), some (.int (nI w)), some (.int y), some (.int (nI last)), some (.int (nI k))] [] (bw [xw (xG E) x A f1 g1]) := by
            intro j
            induction j with
            | zero =>
              intro k y last tx' f1 g1 hk hF e3 ht hl he2
              have : k = c := by omega
              subst this
              refine g_iload_6 (q := 48) C d_X_fill_46 rfl ?_
              refine g_iload_1 (q := 49) C d_X_fill_48 rfl ?_
              refine g_icmp_ge (q := 52) (tgt := 102) C d_X_fill_49 rfl (by decide) (fun hx => ?_) (fun hx => ?_)
              · refine g_aload_0 (q := 103) C d_X_fill_102 rfl ?_
                refine xg_160 (q := 106) C d_X_fill_103 rfl e3 ?_
                refine g_iret C F d_X_fill_106 (Nat.le_refl _) (Nat.le_refl _) ⟨_, _, _, rfl, rfl, by rw [he], ?_⟩
                rw [he, ← he2]
                refine ⟨⟨e3, by omega, ht⟩, h3.keep (hF.1 4 (by decide)) (hF.2 4 (by decide)), ?_, ?_, ?_, ?_⟩
                · rw [hF.1 5 (by decide), hF.2 5 (by decide)]; exact h4
                · rw [hF.2 2 (by decide)]; exact h7
                · rw [hF.1 6 (by decide)]; exact h8
                · rw [hF.1 7 (by decide), hF.1 11 (by decide), hF.1 8 (by decide), hF.1 9 (by decide), hF.1 10 (by decide), hF.2 7 (by decide), hF.2 8 (by decide)]; exact h9
              · exact absurd ((nI_leI (by omega) (by omega)).mpr (by omega)) hx
            | succ j ih =>
              intro k y last tx' f1 g1 hk hF e3 ht hl he2
              refine g_iload_6 (q := 48) C d_X_fill_46 rfl ?_
              refine g_iload_1 (q := 49) C d_X_fill_48 rfl ?_
              refine g_icmp_ge (q := 52) (tgt := 102) C d_X_fill_49 rfl (by decide) (fun hx => ?_) (fun hx => ?_)
              · exact absurd ((nI_leI (by omega) (by omega)).mp hx) (by omega)
              refine g_iload_4 (q := 54) C d_X_fill_52 rfl ?_
              refine g_ldc (v := nI 1103515245) (q := 56) C d_X_fill_54 rfl w_313 ?_
              refine g_imul (q := 57) C d_X_fill_56 rfl rfl ?_
              refine g_sipush (v := nI 12345) (q := 60) C d_X_fill_57 rfl (by decide) ?_
              refine g_iadd (q := 61) C d_X_fill_60 rfl rfl ?_
              refine g_istore_4 (q := 63) C hL d_X_fill_61 rfl ?_
              refine g_aload_0 (q := 64) C d_X_fill_63 rfl ?_
              refine g_iload_4 (q := 66) C d_X_fill_64 rfl ?_
              refine g_bipush (v := nI 16) (q := 68) C d_X_fill_66 rfl (by decide) ?_
              refine g_iushr (q := 69) C d_X_fill_68 rfl (ush16 _) ?_
              refine g_iload_2 (q := 70) C d_X_fill_69 rfl ?_
              refine g_iload_3 (q := 71) C d_X_fill_70 rfl ?_
              refine g_iload_5 (q := 73) C d_X_fill_71 rfl ?_
              refine g_ws (ws' := bw [xw (xG E) x A f1 g1] ++ []) (List.append_nil _).symm ?_
              refine xc_168 (q := 76) (fs := xfs A f1) C hR (c_X_drawn (v := y * nI 1103515245 + nI 12345) e3 (by omega) ht hw hl) rfl d_X_fill_73 rfl (by decide) (by decide) (by decide) (Nat.le_of_ble_eq_true rfl) (fun v ws' hp => ?_)
              obtain ⟨rfl, rfl⟩ := hp
              refine g_ws (ws' := bw [xw (xG E) x A f1 g1]) (List.append_nil _) ?_
              have hb2 := fb_lt w (1 + fq seed) (y * nI 1103515245 + nI 12345) last (ts + k) tx'
              generalize hb : fb w (1 + fq seed) (y * nI 1103515245 + nI 12345) last (ts + k) tx' = b at hb2
              show G E 0 0 76 _ [.int (nI b)] (bw [xw (xG E) x A f1 g1])
              refine g_istore_5 (q := 78) C hL d_X_fill_76 rfl ?_
              refine g_aload_0 (q := 79) C d_X_fill_78 rfl ?_
              refine xg_87 (q := 82) C d_X_fill_79 rfl ?_
              refine g_aload_0 (q := 83) C d_X_fill_82 rfl ?_
              refine g_dup_r (q := 84) C d_X_fill_83 rfl ?_
              refine xg_160 (q := 87) C d_X_fill_84 rfl e3 ?_
              refine g_dup_x1 (q := 88) C d_X_fill_87 rfl rfl rfl ?_
              refine g_iconst (v := nI 1) (q := 89) C d_X_fill_88 rfl (by decide) ?_
              refine g_iadd (q := 90) C d_X_fill_89 rfl (nI_1 _) ?_
              refine xp_160 (q := 93) C d_X_fill_90 rfl ?_
              refine g_iload_5 (q := 95) C d_X_fill_93 rfl ?_
              refine xs_3 (q := 96) C d_X_fill_95 rfl rfl (by omega) ?_
              refine g_iinc_6 (q := 99) C hL d_X_fill_96 rfl (nI_inc _) ?_
              refine g_goto (tgt := 46) C d_X_fill_99 (by decide) ?_
              refine ih (k + 1) _ b (upN tx' (ts + k) b) _ _ (by omega) ((hF.upd (by decide)).updA (by decide)) rfl (fun i hi => ?_) hb2 ?_
              · show upd (g1 3) (ts + k) (nI b) i = _ ∧ _
                by_cases e : i = ts + k
                · rw [e, upd_s, upN_s]; exact ⟨rfl, hb2⟩
                · rw [upd_n e, upN_n e]; exact ht i (by omega)
              · rw [← he2, ← hb]; rfl
          refine g_iload_2 (q := 38) C d_X_fill_37 rfl ?_
          refine g_istore_4 (q := 40) C hL d_X_fill_38 rfl ?_
          refine g_iconst (v := nI 0) (q := 41) C d_X_fill_40 rfl (by decide) ?_
          refine g_istore_5 (q := 43) C hL d_X_fill_41 rfl ?_
          refine g_iconst (v := nI 0) (q := 44) C d_X_fill_43 rfl (by decide) ?_
          refine g_istore_6 (q := 46) C hL d_X_fill_44 rfl ?_
          exact loop c 0 seed 0 tx _ g (by omega) Fr.rf h2.1 (fun i hi => h2.2.2 i hi) (by decide) rfl
        · have hq : 300 < ts + c := Nat.lt_of_not_le (fun q => hq ((nI_leI (by omega) (by omega)).mpr q))
          have he : oFill (nI c) seed (nI w) (ts, tx, os, ou, rc, re, EE, K, kT, R, pl, ip, to, pn, px, pf) = (-2, (ts, tx, os, ou, rc, re, EE, K, kT, R, pl, ip, to, pn, px, pf)) := by
            show (if _ then _ else if _ then _ else _) = _
            rw [if_neg (fun q => by rcases q with q | q; exact q ⟨i1, i2⟩; exact q ⟨w1, w2⟩), if_pos (by rw [cl_nI (by omega)]; omega)]
          refine g_bipush (v := (-2)) (q := 36) C d_X_fill_34 rfl (by decide) ?_
          exact g_iret C F d_X_fill_36 (Nat.le_refl _) (Nat.le_refl _) ⟨_, _, _, rfl, rfl, by rw [he], by rw [he]; exact hS⟩
      · exact absurd (by decide) hz
    · show G E 0 0 17 _ [.int (nI 0)] (bw [xw (xG E) x A f g])
      refine g_if_ne (q := 20) (tgt := 22) C d_X_fill_17 rfl (by decide) (fun hz => ?_) (fun hz => ?_)
      · exact absurd rfl hz
      · exact h20 (Or.inr hno)
  · show G E 0 0 8 _ [.int (nI 0)] (bw [xw (xG E) x A f g])
    refine g_if_eq (q := 11) (tgt := 20) C d_X_fill_8 rfl (by decide) (fun hz => ?_) (fun hz => ?_)
    · exact h20 (Or.inl hno)
    · exact absurd rfl hz
end
