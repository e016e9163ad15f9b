/-! THE LAW: the whole loop (printed by gen/lawrun.py) -/
section LRU
variable {orc : Orc} {d : Nat} {hh : Nat → Option Nat} {x y lo n : Nat} {sc : Nat → Int32}
theorem lw_head {m : PM} {i j : Nat} {a5 a6 : Option Value} (hS : LwS m x y lo n sc) (hn : n ≤ 384) (hi : i + 6 ≤ n) (hj : sc i &&& nI 63 = nI j) (r : PRes) : EvLI orc (decode cL_law 23) d 0 cL_law (some .boolean) hh 23 [some (.ref 1900002), some (.ref x), some (.ref y), some (.ref (y + 22)), some (.int (nI i)), a5, a6] [] m r ↔ EvLI orc (.ok (.tableswitch 1332 0 40 #[180, 253, 278, 291, 304, 372, 409, 446, 471, 520, 569, 594, 619, 644, 669, 694, 707, 732, 769, 782, 807, 820, 833, 846, 895, 920, 933, 958, 983, 1020, 1033, 1058, 1083, 1120, 1169, 1194, 1219, 1232, 1257, 1282, 1307], 180)) d 0 cL_law (some .boolean) hh 40 [some (.ref 1900002), some (.ref x), some (.ref y), some (.ref (y + 22)), some (.int (nI i)), a5, a6] [.int (nI j)] m r := by
  have hs0 := hS.2.1.1
  have hN0 := hS.2.1.2.1
  have hI0 := hS.2.1.2.2
  have hg : ¬ n - 6 < i := by omega
  have h6 : nI n - nI 6 = nI (n - 6) := nI_sub (by omega)
  conv => lhs; simp (disch := (first | exact nn5 | exact nn6 | exact absurd trivial ‹¬ True› | exact nl_i _ | exact nl_r _ | exact nl_o | exact nl_n | exact nr_i _ | exact bi_z _ | exact nr_z0 | exact nr_z1 | (with_unfolding_all exact Nat.le_of_ble_eq_true rfl) | omega | (simp only [bi_z, bi_01, gK_sI, gK_sJ, gK_sR, gK_cI, gK_cR, gK_nw, gK_wI, gK_wJ, gK_pZ, gK_pB, gK_pY, gK_bW, gK_snpM, gN_sI, gN_sJ, gN_sR, gN_cI, gN_cR, gN_nw, gN_wI, gN_wJ, gN_pZ, gN_pB, gN_pY, gN_bW, gN_snpM, gR_sI, gR_sJ, gR_sR, gR_cI, gR_cR, gR_nw, gR_wI, gR_wJ, gR_pZ, gR_pB, gR_pY, gR_bW, gR_snpM, eq_self, reduceCtorEq, or_true, true_or, or_self, or_false, false_or, and_self, Nat.reduceEqDiff, Nat.reduceLeDiff, hs0, hN0]; done) | (simp only [hN0]; omega) | (simp only [List.map_cons, List.map_nil, List.sum_cons, List.sum_nil, Value.category]; omega) | decide)) only [Ev_unf, Nat.add_sub_cancel, Nat.add_sub_cancel_left, EvC_0, enT, enL, Value.category, List.replicate, List.length_cons, List.length_nil, List.map_cons, List.map_nil, List.sum_cons, List.sum_nil, Nat.reduceAdd, Nat.reduceSub, Nat.reduceMul, Nat.zero_add, Nat.add_zero, Nat.reduceLeDiff, List.cons_append, List.nil_append, List.append_nil, Option.toList, exists_eq_left, Nat.reduceEqDiff, reduceIte, Int.reduceNeg, Int.reduceLE, Int.reduceLT, and_self, Int.reduceAdd, Int.reduceToNat, Int.cast_ofNat_Int, ofI_nat, ofI_m1, nI_ad, nI_mul, nI_sub, nI_eqi, nI_lti, nI_lei, nI_eq0, nI_lt0, nI_le0, nI_0lt, nI_0le, nI_m1, nI_dc, bi_0, bi_n0, bi_z, nr_i, va_rf_some, va_rf_none, Bool.not_eq_true, Bool.not_eq_false, Bool.false_eq_true, Bool.true_eq_false, eq_self, not_true_eq_false, not_false_eq_true, false_and, true_and, and_true, and_false, if_false, if_true, ite_r, ite_p, ite_not, gK_sI, gK_sJ, gK_sR, gK_cI, gK_cR, gK_nw, gK_wI, gK_wJ, gK_pZ, gK_pB, gK_pY, gK_bW, gK_snpM, gN_sI, gN_sJ, gN_sR, gN_cI, gN_cR, gN_nw, gN_wI, gN_wJ, gN_pZ, gN_pB, gN_pY, gN_bW, gN_snpM, gR_sI, gR_sJ, gR_sR, gR_cI, gR_cR, gR_nw, gR_wI, gR_wJ, gR_pZ, gR_pB, gR_pY, gR_bW, gR_snpM, EvL_unf, L_aload_n0, L_aload_n1, L_aload_n2, L_aload_n3, L_iload4, L_iload5, L_iload6, L_iconst, L_iadd, L_iaload2, L_icmp_eq, L_iinc4, L_goto, L_bipush, L_isub, L_arraylength, L_icmp_gt, L_iand, L_istore5, L_istore6, L_if_ne, L_if_eq, L_laloadn, L_i2l, L_lcmp, L_ireturn, nI_ad, Option.toList_some, List.cons_append, List.nil_append, dL_law_23, dL_law_25, dL_law_26, dL_law_27, dL_law_29, dL_law_30, dL_law_33, dL_law_34, dL_law_36, dL_law_37, dL_law_39, dL_law_40, hI0, hN0, hj, h6, hg]
theorem lw_exit {m : PM} {i : Nat} {a5 a6 : Option Value} (hS : LwS m x y lo n sc) (hn : n ≤ 384) (h1 : i ≤ n) (h2 : n < i + 6) (r : PRes) : EvLI orc (decode cL_law 23) d 0 cL_law (some .boolean) hh 23 [some (.ref 1900002), some (.ref x), some (.ref y), some (.ref (y + 22)), some (.int (nI i)), a5, a6] [] m r ↔ r = ((0, some (.int (nI 1))), m) := by
  have hs0 := hS.2.1.1
  have hN0 := hS.2.1.2.1
  have hg : (nI n - nI 6 < nI i) = True := by
    refine eq_true ?_
    have e1 : (nI n).toInt = (n : Int) := nI_toInt (show n < 2147483648 by omega)
    have e2 : (nI i).toInt = (i : Int) := nI_toInt (show i < 2147483648 by omega)
    have e6 : (nI 6).toInt = 6 := rfl
    rw [Int32.lt_iff_toInt_lt, tI_sub (by rw [e1, e6]; omega) (by rw [e1, e6]; omega), e1, e2, e6]
    omega
  simp (disch := (first | exact nn5 | exact nn6 | exact absurd trivial ‹¬ True› | exact nl_i _ | exact nl_r _ | exact nl_o | exact nl_n | exact nr_i _ | exact bi_z _ | exact nr_z0 | exact nr_z1 | (with_unfolding_all exact Nat.le_of_ble_eq_true rfl) | omega | (simp only [bi_z, bi_01, gK_sI, gK_sJ, gK_sR, gK_cI, gK_cR, gK_nw, gK_wI, gK_wJ, gK_pZ, gK_pB, gK_pY, gK_bW, gK_snpM, gN_sI, gN_sJ, gN_sR, gN_cI, gN_cR, gN_nw, gN_wI, gN_wJ, gN_pZ, gN_pB, gN_pY, gN_bW, gN_snpM, gR_sI, gR_sJ, gR_sR, gR_cI, gR_cR, gR_nw, gR_wI, gR_wJ, gR_pZ, gR_pB, gR_pY, gR_bW, gR_snpM, eq_self, reduceCtorEq, or_true, true_or, or_self, or_false, false_or, and_self, Nat.reduceEqDiff, Nat.reduceLeDiff, hs0, hN0]; done) | (simp only [hN0]; omega) | (simp only [List.map_cons, List.map_nil, List.sum_cons, List.sum_nil, Value.category]; omega) | decide)) only [Ev_unf, Nat.add_sub_cancel, Nat.add_sub_cancel_left, EvC_0, enT, enL, Value.category, List.replicate, List.length_cons, List.length_nil, List.map_cons, List.map_nil, List.sum_cons, List.sum_nil, Nat.reduceAdd, Nat.reduceSub, Nat.reduceMul, Nat.zero_add, Nat.add_zero, Nat.reduceLeDiff, List.cons_append, List.nil_append, List.append_nil, Option.toList, exists_eq_left, Nat.reduceEqDiff, reduceIte, Int.reduceNeg, Int.reduceLE, Int.reduceLT, and_self, Int.reduceAdd, Int.reduceToNat, Int.cast_ofNat_Int, ofI_nat, ofI_m1, nI_ad, nI_mul, nI_sub, nI_eqi, nI_lti, nI_lei, nI_eq0, nI_lt0, nI_le0, nI_0lt, nI_0le, nI_m1, nI_dc, bi_0, bi_n0, bi_z, nr_i, va_rf_some, va_rf_none, Bool.not_eq_true, Bool.not_eq_false, Bool.false_eq_true, Bool.true_eq_false, eq_self, not_true_eq_false, not_false_eq_true, false_and, true_and, and_true, and_false, if_false, if_true, ite_r, ite_p, ite_not, gK_sI, gK_sJ, gK_sR, gK_cI, gK_cR, gK_nw, gK_wI, gK_wJ, gK_pZ, gK_pB, gK_pY, gK_bW, gK_snpM, gN_sI, gN_sJ, gN_sR, gN_cI, gN_cR, gN_nw, gN_wI, gN_wJ, gN_pZ, gN_pB, gN_pY, gN_bW, gN_snpM, gR_sI, gR_sJ, gR_sR, gR_cI, gR_cR, gR_nw, gR_wI, gR_wJ, gR_pZ, gR_pB, gR_pY, gR_bW, gR_snpM, EvL_unf, L_aload_n0, L_aload_n1, L_aload_n2, L_aload_n3, L_iload4, L_iload5, L_iload6, L_iconst, L_iadd, L_iaload2, L_icmp_eq, L_iinc4, L_goto, L_bipush, L_isub, L_arraylength, L_icmp_gt, L_iand, L_istore5, L_istore6, L_if_ne, L_if_eq, L_laloadn, L_i2l, L_lcmp, L_ireturn, nI_ad, Option.toList_some, List.cons_append, List.nil_append, dL_law_23, dL_law_25, dL_law_26, dL_law_27, dL_law_29, dL_law_30, dL_law_1378, dL_law_1379, hN0, hg]
theorem law_run (HO : ∀ mid args m w, Good mid args m w → orc mid args m = some w) (hn : n ≤ 384) : ∀ (k i : Nat) (m : PM) (a5 a6 : Option Value), nl a5 = true → nl a6 = true → LwS m x y lo n sc → i + 6 * k ≤ n → n < i + 6 * k + 6 → gX m + 100 * k + 100 < 900000 → ∃ M, (gX m ≤ gX M ∧ gX M ≤ gX m + 100 * k ∧ gS M ≤ gS m + 700 * k) ∧ ∀ r, (EvLI orc (decode cL_law 23) d 0 cL_law (some .boolean) hh 23 [some (.ref 1900002), some (.ref x), some (.ref y), some (.ref (y + 22)), some (.int (nI i)), a5, a6] [] m r ↔ r = ((0, some (.int (nI 1))), M)) := by
  intro k
  induction k with
  | zero =>
    intro i m a5 a6 _ _ hS h1 h2 _
    exact ⟨m, ⟨Nat.le_refl _, by omega, by omega⟩, fun r => lw_exit hS hn (by omega) (by omega) r⟩
  | succ k ih =>
    intro i m a5 a6 nn5 nn6 hS h1 h2 hX
    obtain ⟨j, hj, ej⟩ := and63 (sc i)
    have go : ∀ (m2 : PM) (b5 b6 : Option Value), nl b5 = true → nl b6 = true → LwS m2 x y lo n sc → Bnd m m2 → (∀ r, (EvLI orc (decode cL_law 23) d 0 cL_law (some .boolean) hh 23 [some (.ref 1900002), some (.ref x), some (.ref y), some (.ref (y + 22)), some (.int (nI i)), a5, a6] [] m r ↔ EvLI orc (decode cL_law 23) d 0 cL_law (some .boolean) hh 23 [some (.ref 1900002), some (.ref x), some (.ref y), some (.ref (y + 22)), some (.int (nI (i + 6))), b5, b6] [] m2 r)) → ∃ M, (gX m ≤ gX M ∧ gX M ≤ gX m + 100 * (k + 1) ∧ gS M ≤ gS m + 700 * (k + 1)) ∧ ∀ r, (EvLI orc (decode cL_law 23) d 0 cL_law (some .boolean) hh 23 [some (.ref 1900002), some (.ref x), some (.ref y), some (.ref (y + 22)), some (.int (nI i)), a5, a6] [] m r ↔ r = ((0, some (.int (nI 1))), M)) := fun m2 b5 b6 n5 n6 s2 bd hE => by
      obtain ⟨d1, d2, d3⟩ := bd
      obtain ⟨M, ⟨e1, e2, e3⟩, hr⟩ := ih (i + 6) m2 b5 b6 n5 n6 s2 (by omega) (by omega) (by omega)
      exact ⟨M, ⟨by omega, by omega, by omega⟩, fun r => (hE r).trans (hr r)⟩
    by_cases hj40 : 40 < j
    · refine go m a5 a6 nn5 nn6 hS ⟨Nat.le_refl _, by omega, by omega⟩ fun r => ?_
      rw [lw_head hS hn (by omega) ej r, lt_n ⟨hj40, by omega⟩]
      have hs0 := hS.2.1.1
      have hN0 := hS.2.1.2.1
      conv => lhs; simp (disch := (first | exact nn5 | exact nn6 | exact absurd trivial ‹¬ True› | exact nl_i _ | exact nl_r _ | exact nl_o | exact nl_n | exact nr_i _ | exact bi_z _ | exact nr_z0 | exact nr_z1 | (with_unfolding_all exact Nat.le_of_ble_eq_true rfl) | omega | (simp only [bi_z, bi_01, gK_sI, gK_sJ, gK_sR, gK_cI, gK_cR, gK_nw, gK_wI, gK_wJ, gK_pZ, gK_pB, gK_pY, gK_bW, gK_snpM, gN_sI, gN_sJ, gN_sR, gN_cI, gN_cR, gN_nw, gN_wI, gN_wJ, gN_pZ, gN_pB, gN_pY, gN_bW, gN_snpM, gR_sI, gR_sJ, gR_sR, gR_cI, gR_cR, gR_nw, gR_wI, gR_wJ, gR_pZ, gR_pB, gR_pY, gR_bW, gR_snpM, eq_self, reduceCtorEq, or_true, true_or, or_self, or_false, false_or, and_self, Nat.reduceEqDiff, Nat.reduceLeDiff, hs0, hN0]; done) | (simp only [hN0]; omega) | (simp only [List.map_cons, List.map_nil, List.sum_cons, List.sum_nil, Value.category]; omega) | decide)) only [Ev_unf, Nat.add_sub_cancel, Nat.add_sub_cancel_left, EvC_0, enT, enL, Value.category, List.replicate, List.length_cons, List.length_nil, List.map_cons, List.map_nil, List.sum_cons, List.sum_nil, Nat.reduceAdd, Nat.reduceSub, Nat.reduceMul, Nat.zero_add, Nat.add_zero, Nat.reduceLeDiff, List.cons_append, List.nil_append, List.append_nil, Option.toList, exists_eq_left, Nat.reduceEqDiff, reduceIte, Int.reduceNeg, Int.reduceLE, Int.reduceLT, and_self, Int.reduceAdd, Int.reduceToNat, Int.cast_ofNat_Int, ofI_nat, ofI_m1, nI_ad, nI_mul, nI_sub, nI_eqi, nI_lti, nI_lei, nI_eq0, nI_lt0, nI_le0, nI_0lt, nI_0le, nI_m1, nI_dc, bi_0, bi_n0, bi_z, nr_i, va_rf_some, va_rf_none, Bool.not_eq_true, Bool.not_eq_false, Bool.false_eq_true, Bool.true_eq_false, eq_self, not_true_eq_false, not_false_eq_true, false_and, true_and, and_true, and_false, if_false, if_true, ite_r, ite_p, ite_not, gK_sI, gK_sJ, gK_sR, gK_cI, gK_cR, gK_nw, gK_wI, gK_wJ, gK_pZ, gK_pB, gK_pY, gK_bW, gK_snpM, gN_sI, gN_sJ, gN_sR, gN_cI, gN_cR, gN_nw, gN_wI, gN_wJ, gN_pZ, gN_pB, gN_pY, gN_bW, gN_snpM, gR_sI, gR_sJ, gR_sR, gR_cI, gR_cR, gR_nw, gR_wI, gR_wJ, gR_pZ, gR_pB, gR_pY, gR_bW, gR_snpM, EvL_unf, L_aload_n0, L_aload_n1, L_aload_n2, L_aload_n3, L_iload4, L_iload5, L_iload6, L_iconst, L_iadd, L_iaload2, L_icmp_eq, L_iinc4, L_goto, L_bipush, L_isub, L_arraylength, L_icmp_gt, L_iand, L_istore5, L_istore6, L_if_ne, L_if_eq, L_laloadn, L_i2l, L_lcmp, L_ireturn, nI_ad, Option.toList_some, List.cons_append, List.nil_append, dL_law_1372, dL_law_1375]
    · rcases (show j = 0 ∨ j = 1 ∨ j = 2 ∨ j = 3 ∨ j = 4 ∨ j = 5 ∨ j = 6 ∨ j = 7 ∨ j = 8 ∨ j = 9 ∨ j = 10 ∨ j = 11 ∨ j = 12 ∨ j = 13 ∨ j = 14 ∨ j = 15 ∨ j = 16 ∨ j = 17 ∨ j = 18 ∨ j = 19 ∨ j = 20 ∨ j = 21 ∨ j = 22 ∨ j = 23 ∨ j = 24 ∨ j = 25 ∨ j = 26 ∨ j = 27 ∨ j = 28 ∨ j = 29 ∨ j = 30 ∨ j = 31 ∨ j = 32 ∨ j = 33 ∨ j = 34 ∨ j = 35 ∨ j = 36 ∨ j = 37 ∨ j = 38 ∨ j = 39 ∨ j = 40 by omega) with rfl | rfl | rfl | rfl | rfl | rfl | rfl | rfl | rfl | rfl | rfl | rfl | rfl | rfl | rfl | rfl | rfl | rfl | rfl | rfl | rfl | rfl | rfl | rfl | rfl | rfl | rfl | rfl | rfl | rfl | rfl | rfl | rfl | rfl | rfl | rfl | rfl | rfl | rfl | rfl | rfl
      · obtain ⟨m2, s2, b2, e2⟩ := lw_0 (d := d) (hh := hh) (a5 := a5) (a6 := a6) HO hS hn (by omega) (by omega)
        exact go m2 a5 a6 nn5 nn6 s2 b2 fun r => by rw [lw_head hS hn (by omega) ej r, lt_0]; exact e2 r
      · obtain ⟨m2, s2, b2, e2⟩ := lw_1 (d := d) (hh := hh) (a5 := a5) (a6 := a6) HO hS hn (by omega) (by omega)
        exact go m2 a5 a6 nn5 nn6 s2 b2 fun r => by rw [lw_head hS hn (by omega) ej r, lt_1]; exact e2 r
      · obtain ⟨m2, s2, b2, e2⟩ := lw_2 (d := d) (hh := hh) (a5 := a5) (a6 := a6) HO hS hn (by omega) (by omega)
        exact go m2 a5 a6 nn5 nn6 s2 b2 fun r => by rw [lw_head hS hn (by omega) ej r, lt_2]; exact e2 r
      · obtain ⟨m2, s2, b2, e2⟩ := lw_3 (d := d) (hh := hh) (a5 := a5) (a6 := a6) HO hS hn (by omega) (by omega)
        exact go m2 a5 a6 nn5 nn6 s2 b2 fun r => by rw [lw_head hS hn (by omega) ej r, lt_3]; exact e2 r
      · obtain ⟨m2, kk, bb, s2, b2, e2⟩ := lw_4 (d := d) (hh := hh) HO hS hn (by omega) (by omega) nn5 nn6
        exact go m2 _ _ rfl rfl s2 b2 fun r => by rw [lw_head hS hn (by omega) ej r, lt_4]; exact e2 r
      · obtain ⟨m2, s2, b2, e2⟩ := lw_5 (d := d) (hh := hh) (a5 := a5) (a6 := a6) HO hS hn (by omega) (by omega)
        exact go m2 a5 a6 nn5 nn6 s2 b2 fun r => by rw [lw_head hS hn (by omega) ej r, lt_5]; exact e2 r
      · obtain ⟨m2, s2, b2, e2⟩ := lw_6 (d := d) (hh := hh) (a5 := a5) (a6 := a6) HO hS hn (by omega) (by omega)
        exact go m2 a5 a6 nn5 nn6 s2 b2 fun r => by rw [lw_head hS hn (by omega) ej r, lt_6]; exact e2 r
      · obtain ⟨m2, s2, b2, e2⟩ := lw_7 (d := d) (hh := hh) (a5 := a5) (a6 := a6) HO hS hn (by omega) (by omega)
        exact go m2 a5 a6 nn5 nn6 s2 b2 fun r => by rw [lw_head hS hn (by omega) ej r, lt_7]; exact e2 r
      · obtain ⟨m2, s2, b2, e2⟩ := lw_8 (d := d) (hh := hh) (a5 := a5) (a6 := a6) HO hS hn (by omega) (by omega)
        exact go m2 a5 a6 nn5 nn6 s2 b2 fun r => by rw [lw_head hS hn (by omega) ej r, lt_8]; exact e2 r
      · obtain ⟨m2, s2, b2, e2⟩ := lw_9 (d := d) (hh := hh) (a5 := a5) (a6 := a6) HO hS hn (by omega) (by omega)
        exact go m2 a5 a6 nn5 nn6 s2 b2 fun r => by rw [lw_head hS hn (by omega) ej r, lt_9]; exact e2 r
      · obtain ⟨m2, s2, b2, e2⟩ := lw_10 (d := d) (hh := hh) (a5 := a5) (a6 := a6) HO hS hn (by omega) (by omega)
        exact go m2 a5 a6 nn5 nn6 s2 b2 fun r => by rw [lw_head hS hn (by omega) ej r, lt_10]; exact e2 r
      · obtain ⟨m2, s2, b2, e2⟩ := lw_11 (d := d) (hh := hh) (a5 := a5) (a6 := a6) HO hS hn (by omega) (by omega)
        exact go m2 a5 a6 nn5 nn6 s2 b2 fun r => by rw [lw_head hS hn (by omega) ej r, lt_11]; exact e2 r
      · obtain ⟨m2, s2, b2, e2⟩ := lw_12 (d := d) (hh := hh) (a5 := a5) (a6 := a6) HO hS hn (by omega) (by omega)
        exact go m2 a5 a6 nn5 nn6 s2 b2 fun r => by rw [lw_head hS hn (by omega) ej r, lt_12]; exact e2 r
      · obtain ⟨m2, s2, b2, e2⟩ := lw_13 (d := d) (hh := hh) (a5 := a5) (a6 := a6) HO hS hn (by omega) (by omega)
        exact go m2 a5 a6 nn5 nn6 s2 b2 fun r => by rw [lw_head hS hn (by omega) ej r, lt_13]; exact e2 r
      · obtain ⟨m2, s2, b2, e2⟩ := lw_14 (d := d) (hh := hh) (a5 := a5) (a6 := a6) HO hS hn (by omega) (by omega)
        exact go m2 a5 a6 nn5 nn6 s2 b2 fun r => by rw [lw_head hS hn (by omega) ej r, lt_14]; exact e2 r
      · obtain ⟨m2, s2, b2, e2⟩ := lw_15 (d := d) (hh := hh) (a5 := a5) (a6 := a6) HO hS hn (by omega) (by omega)
        exact go m2 a5 a6 nn5 nn6 s2 b2 fun r => by rw [lw_head hS hn (by omega) ej r, lt_15]; exact e2 r
      · obtain ⟨m2, s2, b2, e2⟩ := lw_16 (d := d) (hh := hh) (a5 := a5) (a6 := a6) HO hS hn (by omega) (by omega)
        exact go m2 a5 a6 nn5 nn6 s2 b2 fun r => by rw [lw_head hS hn (by omega) ej r, lt_16]; exact e2 r
      · obtain ⟨m2, s2, b2, e2⟩ := lw_17 (d := d) (hh := hh) (a5 := a5) (a6 := a6) HO hS hn (by omega) (by omega)
        exact go m2 a5 a6 nn5 nn6 s2 b2 fun r => by rw [lw_head hS hn (by omega) ej r, lt_17]; exact e2 r
      · obtain ⟨m2, s2, b2, e2⟩ := lw_18 (d := d) (hh := hh) (a5 := a5) (a6 := a6) HO hS hn (by omega) (by omega)
        exact go m2 a5 a6 nn5 nn6 s2 b2 fun r => by rw [lw_head hS hn (by omega) ej r, lt_18]; exact e2 r
      · obtain ⟨m2, s2, b2, e2⟩ := lw_19 (d := d) (hh := hh) (a5 := a5) (a6 := a6) HO hS hn (by omega) (by omega)
        exact go m2 a5 a6 nn5 nn6 s2 b2 fun r => by rw [lw_head hS hn (by omega) ej r, lt_19]; exact e2 r
      · obtain ⟨m2, s2, b2, e2⟩ := lw_20 (d := d) (hh := hh) (a5 := a5) (a6 := a6) HO hS hn (by omega) (by omega)
        exact go m2 a5 a6 nn5 nn6 s2 b2 fun r => by rw [lw_head hS hn (by omega) ej r, lt_20]; exact e2 r
      · obtain ⟨m2, s2, b2, e2⟩ := lw_21 (d := d) (hh := hh) (a5 := a5) (a6 := a6) HO hS hn (by omega) (by omega)
        exact go m2 a5 a6 nn5 nn6 s2 b2 fun r => by rw [lw_head hS hn (by omega) ej r, lt_21]; exact e2 r
      · obtain ⟨m2, s2, b2, e2⟩ := lw_22 (d := d) (hh := hh) (a5 := a5) (a6 := a6) HO hS hn (by omega) (by omega)
        exact go m2 a5 a6 nn5 nn6 s2 b2 fun r => by rw [lw_head hS hn (by omega) ej r, lt_22]; exact e2 r
      · obtain ⟨m2, s2, b2, e2⟩ := lw_23 (d := d) (hh := hh) (a5 := a5) (a6 := a6) HO hS hn (by omega) (by omega)
        exact go m2 a5 a6 nn5 nn6 s2 b2 fun r => by rw [lw_head hS hn (by omega) ej r, lt_23]; exact e2 r
      · obtain ⟨m2, s2, b2, e2⟩ := lw_24 (d := d) (hh := hh) (a5 := a5) (a6 := a6) HO hS hn (by omega) (by omega)
        exact go m2 a5 a6 nn5 nn6 s2 b2 fun r => by rw [lw_head hS hn (by omega) ej r, lt_24]; exact e2 r
      · obtain ⟨m2, s2, b2, e2⟩ := lw_25 (d := d) (hh := hh) (a5 := a5) (a6 := a6) HO hS hn (by omega) (by omega)
        exact go m2 a5 a6 nn5 nn6 s2 b2 fun r => by rw [lw_head hS hn (by omega) ej r, lt_25]; exact e2 r
      · obtain ⟨m2, s2, b2, e2⟩ := lw_26 (d := d) (hh := hh) (a5 := a5) (a6 := a6) HO hS hn (by omega) (by omega)
        exact go m2 a5 a6 nn5 nn6 s2 b2 fun r => by rw [lw_head hS hn (by omega) ej r, lt_26]; exact e2 r
      · obtain ⟨m2, s2, b2, e2⟩ := lw_27 (d := d) (hh := hh) (a5 := a5) (a6 := a6) HO hS hn (by omega) (by omega)
        exact go m2 a5 a6 nn5 nn6 s2 b2 fun r => by rw [lw_head hS hn (by omega) ej r, lt_27]; exact e2 r
      · obtain ⟨m2, s2, b2, e2⟩ := lw_28 (d := d) (hh := hh) (a5 := a5) (a6 := a6) HO hS hn (by omega) (by omega)
        exact go m2 a5 a6 nn5 nn6 s2 b2 fun r => by rw [lw_head hS hn (by omega) ej r, lt_28]; exact e2 r
      · obtain ⟨m2, s2, b2, e2⟩ := lw_29 (d := d) (hh := hh) (a5 := a5) (a6 := a6) HO hS hn (by omega) (by omega)
        exact go m2 a5 a6 nn5 nn6 s2 b2 fun r => by rw [lw_head hS hn (by omega) ej r, lt_29]; exact e2 r
      · obtain ⟨m2, s2, b2, e2⟩ := lw_30 (d := d) (hh := hh) (a5 := a5) (a6 := a6) HO hS hn (by omega) (by omega)
        exact go m2 a5 a6 nn5 nn6 s2 b2 fun r => by rw [lw_head hS hn (by omega) ej r, lt_30]; exact e2 r
      · obtain ⟨m2, s2, b2, e2⟩ := lw_31 (d := d) (hh := hh) (a5 := a5) (a6 := a6) HO hS hn (by omega) (by omega)
        exact go m2 a5 a6 nn5 nn6 s2 b2 fun r => by rw [lw_head hS hn (by omega) ej r, lt_31]; exact e2 r
      · obtain ⟨m2, s2, b2, e2⟩ := lw_32 (d := d) (hh := hh) (a5 := a5) (a6 := a6) HO hS hn (by omega) (by omega)
        exact go m2 a5 a6 nn5 nn6 s2 b2 fun r => by rw [lw_head hS hn (by omega) ej r, lt_32]; exact e2 r
      · obtain ⟨m2, s2, b2, e2⟩ := lw_33 (d := d) (hh := hh) (a5 := a5) (a6 := a6) HO hS hn (by omega) (by omega)
        exact go m2 a5 a6 nn5 nn6 s2 b2 fun r => by rw [lw_head hS hn (by omega) ej r, lt_33]; exact e2 r
      · obtain ⟨m2, s2, b2, e2⟩ := lw_34 (d := d) (hh := hh) (a5 := a5) (a6 := a6) HO hS hn (by omega) (by omega)
        exact go m2 a5 a6 nn5 nn6 s2 b2 fun r => by rw [lw_head hS hn (by omega) ej r, lt_34]; exact e2 r
      · obtain ⟨m2, s2, b2, e2⟩ := lw_35 (d := d) (hh := hh) (a5 := a5) (a6 := a6) HO hS hn (by omega) (by omega)
        exact go m2 a5 a6 nn5 nn6 s2 b2 fun r => by rw [lw_head hS hn (by omega) ej r, lt_35]; exact e2 r
      · obtain ⟨m2, s2, b2, e2⟩ := lw_36 (d := d) (hh := hh) (a5 := a5) (a6 := a6) HO hS hn (by omega) (by omega)
        exact go m2 a5 a6 nn5 nn6 s2 b2 fun r => by rw [lw_head hS hn (by omega) ej r, lt_36]; exact e2 r
      · obtain ⟨m2, s2, b2, e2⟩ := lw_37 (d := d) (hh := hh) (a5 := a5) (a6 := a6) HO hS hn (by omega) (by omega)
        exact go m2 a5 a6 nn5 nn6 s2 b2 fun r => by rw [lw_head hS hn (by omega) ej r, lt_37]; exact e2 r
      · obtain ⟨m2, s2, b2, e2⟩ := lw_38 (d := d) (hh := hh) (a5 := a5) (a6 := a6) HO hS hn (by omega) (by omega)
        exact go m2 a5 a6 nn5 nn6 s2 b2 fun r => by rw [lw_head hS hn (by omega) ej r, lt_38]; exact e2 r
      · obtain ⟨m2, s2, b2, e2⟩ := lw_39 (d := d) (hh := hh) (a5 := a5) (a6 := a6) HO hS hn (by omega) (by omega)
        exact go m2 a5 a6 nn5 nn6 s2 b2 fun r => by rw [lw_head hS hn (by omega) ej r, lt_39]; exact e2 r
      · obtain ⟨m2, s2, b2, e2⟩ := lw_40 (d := d) (hh := hh) (a5 := a5) (a6 := a6) HO hS hn (by omega) (by omega)
        exact go m2 a5 a6 nn5 nn6 s2 b2 fun r => by rw [lw_head hS hn (by omega) ej r, lt_40]; exact e2 r
end LRU
