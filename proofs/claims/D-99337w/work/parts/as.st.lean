/-! WILLS: Integer.toString -/
section STs
variable {d : Nat} {m : PM} {r : PRes}
theorem sI_asw (m : PM) (c k : Nat) (v : Int32) : sI m c k v = wI m c (u1 (gI m c) k v) := by
  refine Prod.ext ?_ rfl
  funext b j
  show (if b = c ∧ j = k then v else m.1 b j) = (if b = c then (if j = k then v else m.1 c j) else m.1 b j)
  by_cases h : b = c
  · subst h
    by_cases h2 : j = k
    · rw [if_pos ⟨rfl, h2⟩, if_pos rfl, if_pos h2]
    · rw [if_neg (fun z => h2 z.2), if_pos rfl, if_neg h2]
  · rw [if_neg (fun z => h z.1), if_neg h]
theorem DTb_sI {c k : Nat} {v : Int32} (h : DTb m) (hc : c < 1900000) : DTb (sI m c k v) := by
  obtain ⟨h1, h2, h3, h4, h5⟩ := h
  exact ⟨h1, h2, h3, h4, fun k hk => ⟨by rw [gI_sI, if_neg (by omega)]; exact (h5 k hk).1, by rw [gI_sI, if_neg (by omega)]; exact (h5 k hk).2⟩⟩
theorem DTb_nw {K N s : Nat} (h : DTb m) (hc : gX m < 1900000) : DTb (nw m K N s) := by
  obtain ⟨h1, h2, h3, h4, h5⟩ := h
  refine ⟨?_, ?_, ?_, ?_, fun k hk => ⟨?_, ?_⟩⟩
  · rw [gK_nw, if_neg (by omega)]; exact h1
  · rw [gN_nw, if_neg (by omega)]; exact h2
  · rw [gK_nw, if_neg (by omega)]; exact h3
  · rw [gN_nw, if_neg (by omega)]; exact h4
  · rw [gI_nw, if_neg (by omega)]; exact (h5 k hk).1
  · rw [gI_nw, if_neg (by omega)]; exact (h5 k hk).2
theorem gc_0 {n c L : Nat} (hn : n < 10000) (hd : 1 ≤ d) : Run d 300 [.int (nI n), .int (nI L), .ref c] m r ↔ EvI (decode cJ10_getChars 22) (d - 1) 40 cJ10_getChars (some .int) (fun _ => none) 22 [some (.int (-(nI n))), some (.int (nI L)), some (.ref (c)), none, none, some (.int (nI L)), some (.int (nI 0))] [] (m) r := by
  rw [wJ10_getChars (by omega) rfl]
  conv => lhs; simp (disch := (first | exact absurd trivial ‹¬ True› | exact nl_i _ | exact nl_r _ | exact nl_o | exact nl_n | exact nr_i _ | exact bi_z _ | exact nr_z0 | exact nr_z1 | (with_unfolding_all exact Nat.le_of_ble_eq_true rfl) | omega | (simp only [bi_z, bi_01, gK_sI, gK_sJ, gK_sR, gK_cI, gK_cR, gK_nw, gK_wI, gK_wJ, gK_pZ, gK_pB, gK_pY, gK_bW, gK_snpM, gN_sI, gN_sJ, gN_sR, gN_cI, gN_cR, gN_nw, gN_wI, gN_wJ, gN_pZ, gN_pB, gN_pY, gN_bW, gN_snpM, gR_sI, gR_sJ, gR_sR, gR_cI, gR_cR, gR_nw, gR_wI, gR_wJ, gR_pZ, gR_pB, gR_pY, gR_bW, gR_snpM, eq_self, reduceCtorEq, or_true, true_or, or_self, or_false, false_or, and_self, Nat.reduceEqDiff, Nat.reduceLeDiff]; done) | decide)) only [Ev_unf, Nat.add_sub_cancel, Nat.add_sub_cancel_left, EvC_0, enT, enL, Value.category, List.replicate, List.length_cons, List.length_nil, List.map_cons, List.map_nil, List.sum_cons, List.sum_nil, Nat.reduceAdd, Nat.reduceSub, Nat.reduceMul, Nat.zero_add, Nat.add_zero, Nat.reduceLeDiff, List.cons_append, List.nil_append, List.append_nil, Option.toList, exists_eq_left, Nat.reduceEqDiff, reduceIte, Int.reduceNeg, Int.reduceLE, Int.reduceLT, and_self, Int.reduceAdd, Int.reduceToNat, Int.cast_ofNat_Int, ofI_nat, ofI_m1, nI_ad, nI_mul, nI_sub, nI_eqi, nI_lti, nI_lei, nI_eq0, nI_lt0, nI_le0, nI_0lt, nI_0le, nI_m1, nI_dc, bi_0, bi_n0, bi_z, nr_i, va_rf_some, va_rf_none, Bool.not_eq_true, Bool.not_eq_false, Bool.false_eq_true, Bool.true_eq_false, eq_self, not_true_eq_false, not_false_eq_true, false_and, true_and, and_true, and_false, if_false, if_true, ite_r, ite_p, ite_not, gK_sI, gK_sJ, gK_sR, gK_cI, gK_cR, gK_nw, gK_wI, gK_wJ, gK_pZ, gK_pB, gK_pY, gK_bW, gK_snpM, gN_sI, gN_sJ, gN_sR, gN_cI, gN_cR, gN_nw, gN_wI, gN_wJ, gN_pZ, gN_pB, gN_pY, gN_bW, gN_snpM, gR_sI, gR_sJ, gR_sR, gR_cI, gR_cR, gR_nw, gR_wI, gR_wJ, gR_pZ, gR_pB, gR_pY, gR_bW, gR_snpM, dJ10_getChars_0, E_iload_n1, dJ10_getChars_1, E_istore5, dJ10_getChars_3, E_iload_n0, dJ10_getChars_4, E_if_ge, dJ10_getChars_7, E_iconst, dJ10_getChars_8, E_goto, dJ10_getChars_11, dJ10_getChars_12, E_istore6, dJ10_getChars_14, E_iload6, dJ10_getChars_16, E_if_ne, dJ10_getChars_19, dJ10_getChars_20, E_ineg, dJ10_getChars_21, E_istore_n0, dJ10_getChars_23, E_bipush, dJ10_getChars_25, E_icmp_gt, dJ10_getChars_28, dJ10_getChars_29, dJ10_getChars_31, E_idiv, dJ10_getChars_32, E_istore_n3, dJ10_getChars_33, E_iload_n3, dJ10_getChars_34, dJ10_getChars_36, E_imul, dJ10_getChars_37, dJ10_getChars_38, E_isub, dJ10_getChars_39, E_istore4, dJ10_getChars_41, dJ10_getChars_42, dJ10_getChars_43, E_aload_n2, E_nload_n2, dJ10_getChars_44, E_iinc5, dJ10_getChars_47, E_iload5, dJ10_getChars_49, g40_83, dJ10_getChars_52, E_iload4, dJ10_getChars_54, E_baloadn, dJ10_getChars_55, E_bastoren, E_zastoren, dJ10_getChars_56, dJ10_getChars_57, dJ10_getChars_60, dJ10_getChars_62, g40_87, dJ10_getChars_65, dJ10_getChars_67, dJ10_getChars_68, dJ10_getChars_69, dJ10_getChars_72, dJ10_getChars_73, dJ10_getChars_76, dJ10_getChars_78, dJ10_getChars_81, dJ10_getChars_82, dJ10_getChars_83, dJ10_getChars_84, dJ10_getChars_85, dJ10_getChars_86, dJ10_getChars_88, E_icmp_ge, dJ10_getChars_91, dJ10_getChars_92, dJ10_getChars_95, dJ10_getChars_97, dJ10_getChars_100, dJ10_getChars_101, dJ10_getChars_102, dJ10_getChars_103, dJ10_getChars_104, dJ10_getChars_106, E_if_eq, dJ10_getChars_109, dJ10_getChars_110, dJ10_getChars_113, dJ10_getChars_115, dJ10_getChars_117, dJ10_getChars_118, dJ10_getChars_120, E_ireturn, (show Int32.ofInt (-10) = -(nI 10) from rfl), (show Int32.ofInt (-100) = -(nI 100) from rfl), (show Int32.ofInt (-9) = -(nI 9) from rfl), ng_mul, ng_le, ng_lt, ng_ng]
theorem c_getChars {n c : Nat} (hn : n < 10000) (hKc : gK m c = 101) (hN : gN m c = (dgs n).length) (hc : c < 1900000) (hD : DTb m) : ∃ f, (∀ j, j < (dgs n).length → f j = nI ((dgs n).getD j 0)) ∧ ∀ d r, 1 ≤ d → (Run d 300 [.int (nI n), .int (nI (dgs n).length), .ref c] m r ↔ r = ((0, some (.int (nI 0))), wI m c f)) := by
  have hL := dgs_l n
  by_cases c1 : n < 10
  · rw [if_pos c1] at hL
    have e : dgs n = [48 + n] := if_pos c1
    refine ⟨u1 (gI m c) 0 (nI (48 + n)), fun j hj => ?_, fun d r hd => ?_⟩
    · rw [hL] at hj
      obtain rfl : j = 0 := by omega
      rw [e]; rfl
    · rw [gc_0 hn hd, hL, ← sI_asw]
      exact gc_t1 (p := 0) c1 (by omega) hKc (by omega) hc hD rfl
  · rw [if_neg c1] at hL
    by_cases c2 : n < 100
    · rw [if_pos c2] at hL
      have e : dgs n = [48 + n / 10, 48 + n % 10] := by unfold dgs; rw [if_neg c1, if_pos c2]
      refine ⟨u1 (u1 (gI m c) 1 (nI (48 + n % 10))) 0 (nI (48 + n / 10)), fun j hj => ?_, fun d r hd => ?_⟩
      · rw [hL] at hj
        rw [e]
        rcases (show j = 0 ∨ j = 1 by omega) with rfl | rfl <;> rfl
      · have h := gc_t2 (n := n) (c := c) (m := m) (r := r) (d := d) (i1 := nI 2) (a3 := none) (a4 := none) (p := 0) ⟨by omega, c2⟩ (by omega) hKc (by omega) hc hD rfl
        rw [sI_asw m, sI_wI] at h
        rw [gc_0 hn hd, hL]
        exact h
    · rw [if_neg c2] at hL
      by_cases c3 : n < 1000
      · rw [if_pos c3] at hL
        have e : dgs n = [48 + n / 100, 48 + n / 10 % 10, 48 + n % 10] := by unfold dgs; rw [if_neg c1, if_neg c2, if_pos c3]
        refine ⟨u1 (u1 (u1 (gI m c) 2 (nI (48 + n % 100 % 10))) 1 (nI (48 + n % 100 / 10))) 0 (nI (48 + n / 100)), fun j hj => ?_, fun d r hd => ?_⟩
        · rw [hL] at hj
          rw [e]
          rcases (show j = 0 ∨ j = 1 ∨ j = 2 by omega) with rfl | rfl | rfl
          · rfl
          · show nI (48 + n % 100 / 10) = nI (48 + n / 10 % 10)
            rw [show n % 100 / 10 = n / 10 % 10 by omega]
          · show nI (48 + n % 100 % 10) = nI (48 + n % 10)
            rw [show n % 100 % 10 = n % 10 by omega]
        · have h := gc_l (n := n) (c := c) (m := m) (r := r) (d := d) (i1 := nI 3) (a3 := none) (a4 := none) (p := 1) ⟨by omega, by omega⟩ (by omega) hKc (by omega) hc hD rfl
          have h2 := gc_t1 (r := r) (d := d) (m := sI (sI m c 2 (nI (48 + n % 100 % 10))) c 1 (nI (48 + n % 100 / 10))) (n := n / 100) (i1 := nI 3) (a3 := some (.int (-(nI (n / 100))))) (a4 := some (.int (nI (n % 100)))) (p := 0) (by omega) (show 0 < gN m c by omega) hKc (by omega) hc (DTb_sI (DTb_sI hD hc) hc) rfl
          rw [sI_asw m, sI_wI, sI_wI] at h2
          rw [sI_asw m, sI_wI] at h
          rw [gc_0 hn hd, hL]
          exact Iff.trans h h2
      · rw [if_neg c3] at hL
        have e : dgs n = [48 + n / 1000, 48 + n / 100 % 10, 48 + n / 10 % 10, 48 + n % 10] := by unfold dgs; rw [if_neg c1, if_neg c2, if_neg c3]
        refine ⟨u1 (u1 (u1 (u1 (gI m c) 3 (nI (48 + n % 100 % 10))) 2 (nI (48 + n % 100 / 10))) 1 (nI (48 + n / 100 % 10))) 0 (nI (48 + n / 100 / 10)), fun j hj => ?_, fun d r hd => ?_⟩
        · rw [hL] at hj
          rw [e]
          rcases (show j = 0 ∨ j = 1 ∨ j = 2 ∨ j = 3 by omega) with rfl | rfl | rfl | rfl
          · show nI (48 + n / 100 / 10) = nI (48 + n / 1000)
            rw [show n / 100 / 10 = n / 1000 by omega]
          · rfl
          · show nI (48 + n % 100 / 10) = nI (48 + n / 10 % 10)
            rw [show n % 100 / 10 = n / 10 % 10 by omega]
          · show nI (48 + n % 100 % 10) = nI (48 + n % 10)
            rw [show n % 100 % 10 = n % 10 by omega]
        · have h := gc_l (n := n) (c := c) (m := m) (r := r) (d := d) (i1 := nI 4) (a3 := none) (a4 := none) (p := 2) ⟨by omega, by omega⟩ (by omega) hKc (by omega) hc hD rfl
          have h2 := gc_t2 (r := r) (d := d) (m := sI (sI m c 3 (nI (48 + n % 100 % 10))) c 2 (nI (48 + n % 100 / 10))) (n := n / 100) (i1 := nI 4) (a3 := some (.int (-(nI (n / 100))))) (a4 := some (.int (nI (n % 100)))) (p := 0) ⟨by omega, by omega⟩ (show 0 + 1 < gN m c by omega) hKc (by omega) hc (DTb_sI (DTb_sI hD hc) hc) rfl
          rw [sI_asw m, sI_wI, sI_wI, sI_wI] at h2
          rw [sI_asw m, sI_wI] at h
          rw [gc_0 hn hd, hL]
          exact Iff.trans h h2
theorem c_sInit {e b : Nat} (hKe : gK m e = 22) (hd : 9 ≤ d) : Run d 284 [.ref e, .ref b, .int (nI 0)] m r ↔ r = ((0, none), sI (sR m e 0 (some b)) e 1 0) := by
  rw [wJ3_init (by omega) rfl]
  simp (disch := (first | exact absurd trivial ‹¬ True› | exact nl_i _ | exact nl_r _ | exact nl_o | exact nl_n | exact nr_i _ | exact bi_z _ | exact nr_z0 | exact nr_z1 | (with_unfolding_all exact Nat.le_of_ble_eq_true rfl) | omega | (simp only [bi_z, bi_01, gK_sI, gK_sJ, gK_sR, gK_cI, gK_cR, gK_nw, gK_wI, gK_wJ, gK_pZ, gK_pB, gK_pY, gK_bW, gK_snpM, gN_sI, gN_sJ, gN_sR, gN_cI, gN_cR, gN_nw, gN_wI, gN_wJ, gN_pZ, gN_pB, gN_pY, gN_bW, gN_snpM, gR_sI, gR_sJ, gR_sR, gR_cI, gR_cR, gR_nw, gR_wI, gR_wJ, gR_pZ, gR_pB, gR_pY, gR_bW, gR_snpM, eq_self, reduceCtorEq, or_true, true_or, or_self, or_false, false_or, and_self, Nat.reduceEqDiff, Nat.reduceLeDiff, hKe]; done) | decide)) only [Ev_unf, Nat.add_sub_cancel, Nat.add_sub_cancel_left, EvC_0, enT, enL, Value.category, List.replicate, List.length_cons, List.length_nil, List.map_cons, List.map_nil, List.sum_cons, List.sum_nil, Nat.reduceAdd, Nat.reduceSub, Nat.reduceMul, Nat.zero_add, Nat.add_zero, Nat.reduceLeDiff, List.cons_append, List.nil_append, List.append_nil, Option.toList, exists_eq_left, Nat.reduceEqDiff, reduceIte, Int.reduceNeg, Int.reduceLE, Int.reduceLT, and_self, Int.reduceAdd, Int.reduceToNat, Int.cast_ofNat_Int, ofI_nat, ofI_m1, nI_ad, nI_mul, nI_sub, nI_eqi, nI_lti, nI_lei, nI_eq0, nI_lt0, nI_le0, nI_0lt, nI_0le, nI_m1, nI_dc, bi_0, bi_n0, bi_z, nr_i, va_rf_some, va_rf_none, Bool.not_eq_true, Bool.not_eq_false, Bool.false_eq_true, Bool.true_eq_false, eq_self, not_true_eq_false, not_false_eq_true, false_and, true_and, and_true, and_false, if_false, if_true, ite_r, ite_p, ite_not, gK_sI, gK_sJ, gK_sR, gK_cI, gK_cR, gK_nw, gK_wI, gK_wJ, gK_pZ, gK_pB, gK_pY, gK_bW, gK_snpM, gN_sI, gN_sJ, gN_sR, gN_cI, gN_cR, gN_nw, gN_wI, gN_wJ, gN_pZ, gN_pB, gN_pY, gN_bW, gN_snpM, gR_sI, gR_sJ, gR_sR, gR_cI, gR_cR, gR_nw, gR_wI, gR_wJ, gR_pZ, gR_pB, gR_pY, gR_bW, gR_snpM, dJ3_init_0, E_aload_n0, E_nload_n0, dJ3_init_1, v133_1_22, dJ3_init_4, dJ3_init_5, E_aload_n1, E_nload_n1, dJ3_init_6, p133_9_22, p133_9_22n, dJ3_init_9, dJ3_init_10, E_iload_n2, dJ3_init_11, p133_15_22, dJ3_init_14, E_return, r_objInit]
  first | done | rfl
end STs
