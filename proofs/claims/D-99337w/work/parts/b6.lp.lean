/-! THE LAW: a person is asked for; the whole loop -/
section LPE
variable {orc : Orc} {d : Nat} {hh : Nat → Option Nat} {m m2 mm : PM} {x y lo n i : Nat} {sc : Nat → Int32} {a5 a6 : Option Value} {v : Int64}
theorem Wor_J (h : Wor m m x y lo) (hl : y + 23 ≤ lo) : Wor (sJ m (y + 22) 0 v) (sJ m (y + 22) 0 v) x y lo := by
  obtain ⟨⟨b, B, np, nd, lw, NP, ND, R, t, u, hC⟩, hM, hD⟩ := h
  obtain ⟨s, h7, hBd, hZ, hG, hU, hS, hI0, hI1, hM2, hYr, hn1, hn2⟩ := hC
  have hlo := s.2.2.2.2.2.1
  have eJ : ∀ c j, c ≠ y + 22 → gJ (sJ m (y + 22) 0 v) c j = gJ m c j := fun c j hc => if_neg (fun z => hc z.1)
  have hK : KF m (sJ m (y + 22) 0 v) x lo := ⟨Nat.le_refl _, fun _ _ => ⟨rfl, rfl⟩, fun z hz _ _ => ⟨fun _ => rfl, fun _ _ _ => rfl, fun s j _ _ => eJ _ _ (by omega)⟩, fun _ _ _ _ => ⟨fun _ => rfl, fun _ => rfl⟩, fun _ => rfl⟩
  exact ⟨⟨b, B, np, nd, lw, NP, ND, R, t, u, s, h7, KF_Bd hK hBd, hZ, hG, hU, SeR_same hS (KF_Tr hK) (fun _ _ _ => rfl), KF_Im hK (fun _ _ _ _ _ h => h) (fun _ => rfl) rfl (fun j => eJ _ _ (by omega)) hI0, KF_Im hK (fun _ _ _ _ _ h => h) (fun _ => rfl) rfl (fun j => eJ _ _ (by omega)) hI1, hM2, hYr, fun j hj => (eJ _ _ (by omega)).trans (hn1 j hj), fun j hj => (eJ _ _ (by omega)).trans (hn2 j hj)⟩, hM, hD⟩
theorem lcz {a : Int32} : (lg_cmp a.toInt64 a.toInt64 = 0) = True := eq_true (lgc_0.mpr rfl)
theorem lw_4 (HO : ∀ mid args m w, Good mid args m w → orc mid args m = some w) (hS : LwS m x y lo n sc) (hn : n ≤ 384) (hi : i + 6 ≤ n) (hX : gX m + 100 < 900000) (nn5 : nl a5 = true) (nn6 : nl a6 = true) : ∃ (m2 : PM) (k b : Int32), LwS m2 x y lo n sc ∧ Bnd m m2 ∧ ∀ r, (EvL orc d 0 cL_law (some .boolean) hh 344 [some (.ref 1900002), some (.ref x), some (.ref y), some (.ref (y + 22)), some (.int (nI i)), a5, a6] [] m r ↔ EvLI orc (decode cL_law 23) d 0 cL_law (some .boolean) hh 23 [some (.ref 1900002), some (.ref x), some (.ref y), some (.ref (y + 22)), some (.int (nI (i + 6))), some (.int k), some (.int b)] [] m2 r) := by
  obtain ⟨hKx, hKy⟩ := LwS_x hS.1
  obtain ⟨hb, hMo⟩ := Wor_bd hS.1
  have hl := hS.2.2.2
  have hs0 := hS.2.1.1
  have hN0 := hS.2.1.2.1
  have hI0 := hS.2.1.2.2
  have hBd : ∀ (m1 M : PM), m1.2.2 = m.2.2 → FM m1 M y → Bnd m M := fun m1 M e f => by
    have e2 : M.2.2 = m.2.2 := f.1.trans e
    have eX : gX M = gX m := by show M.2.2.2.2.2.1 = m.2.2.2.2.2.1; rw [e2]
    have eS : gS M = gS m := by show M.2.2.2.2.2.2 = m.2.2.2.2.2.2; rw [e2]
    exact ⟨by omega, by omega, by omega⟩
  have fin : ∀ (m1 M : PM), m1.2.2 = m.2.2 → (∀ c j, gI m1 c j = gI m c j) → FM m1 M y → gK M 1900002 = 200 ∧ gN M 1900002 = n ∧ (∀ j, gI M 1900002 j = sc j) ∧ gK M y = 8 ∧ gK M (y + 22) = 103 ∧ gN M (y + 22) = 1 := fun m1 M e eI f => by
    have e2 : M.2.2 = m.2.2 := f.1.trans e
    have k : ∀ c, gK M c = gK m c := fun c => by show M.2.2.2.1 c = m.2.2.2.1 c; rw [e2]
    have nn : ∀ c, gN M c = gN m c := fun c => by show M.2.2.2.2.1 c = m.2.2.2.2.1 c; rw [e2]
    exact ⟨(k _).trans hs0, (nn _).trans hN0, fun j => ((f.2 1900002 (by omega)).2 j).trans ((eI _ _).trans (hI0 j)), (k _).trans hKy, (k _).trans hS.2.2.1.1, (nn _).trans hS.2.2.1.2⟩
  rcases op_person (p := sc (i + 1)) (w := sc (i + 2)) m m hS.1 hX with ⟨A, mm', r1, r2, t0, w1, f1⟩ | ⟨mm', r1, r2, t1, w1, f1⟩
  · obtain ⟨m1, hm1⟩ : ∃ m1, m1 = sJ m (y + 22) 0 A.toInt64 := ⟨_, rfl⟩
    have W1 : Wor m1 m1 x y lo := by rw [hm1]; exact Wor_J hS.1 hl
    have hMA : MA m m1 y := by rw [hm1]; exact fun c _ _ => ⟨rfl, rfl, fun _ => rfl, fun j => if_neg (by omega), fun _ => rfl⟩
    have hX1 : gX m1 = gX m := by rw [hm1]; rfl
    have e1 : m1.2.2 = m.2.2 := by rw [hm1]; rfl
    have eI1 : ∀ c j, gI m1 c j = gI m c j := fun c j => by rw [hm1]; rfl
    have eJ1 : gJ m1 (y + 22) 0 = A.toInt64 := by rw [hm1]; exact if_pos ⟨rfl, rfl⟩
    rcases op_person (p := sc (i + 1)) (w := sc (i + 2)) m m1 (Wor_MA hS.1 hMA) hX with ⟨A2, mm2, q1, q2, t2, w2, f2⟩ | ⟨mm2, q1, q2, t2, w2, f2⟩
    · have eA : A2 = A := by
        have := (r1 _).mp ((q1 _).mpr rfl)
        have := congrArg (fun z : PRes => z.1.2) this
        exact Value.int.inj (Option.some.inj this)
      subst eA
      have w3 : Wor m1 mm2 x y lo := by
        rcases op_person (p := sc (i + 1)) (w := sc (i + 2)) m1 m1 W1 (by omega) with ⟨A3, mm3, s1, s2, t3, w3, f3⟩ | ⟨mm3, s1, s2, t3, w3, f3⟩
        · have := congrArg (fun z : PRes => z.2) ((q2 _).mp ((s2 _).mpr rfl))
          have : mm3 = mm2 := this
          rw [← this]; exact w3
        · have := congrArg (fun z : PRes => z.2) ((q2 _).mp ((s2 _).mpr rfl))
          have : mm3 = mm2 := this
          rw [← this]; exact w3
      have W2 := Wor_CA w3 (Mo_MA hMA hMo) f2
      have ho0 := HO 0 [.ref x, .int (sc (i + 1)), .int (sc (i + 2)), .ref (y + 22)] m ((0, some (.int 0)), m1) (Or.inr ⟨rfl, x, _, _, y + 22, _, rfl, (r1 _).mpr rfl, Or.inl ⟨A2, rfl, by rw [hm1]⟩⟩)
      have ho1 := HO 154 [.ref y, .int (sc (i + 1)), .int (sc (i + 2))] m1 _ (Or.inl ⟨by decide, (q2 _).mpr rfl⟩)
      obtain ⟨hs2, hN2, hI2, hK3, ho22, ho23⟩ := fin m1 mm2 e1 eI1 f2
      have hMo2 : Mo mm2 y := (Wor_bd W2).2
      have ho2 := HO 121 [.ref y] mm2 ((0, some (.int (nI 0))), mm2) (Or.inl ⟨by decide, (q_thrown hMo2 (by omega)).mpr (by rw [t2]; rfl)⟩)
      have hK2 : gK m1 y = 8 := by rw [hm1]; exact hKy
      have hs1 : gK m1 1900002 = 200 := by rw [hm1]; exact hs0
      have hN1 : gN m1 1900002 = n := by rw [hm1]; exact hN0
      have hI1 : ∀ j, gI m1 1900002 j = sc j := fun j => (eI1 _ _).trans (hI0 j)
      have hJ2 : gJ mm2 (y + 22) 0 = A2.toInt64 := ((f2.2 (y + 22) (by omega)).1 0).trans eJ1
      have c0 := fun (pc : Nat) (L : PLs) (st : List Value) (r : PRes) (hs : (st.map fun v => v.category).sum ≤ 8) => lv_38 (d := d) (cc := cL_law) (rt := some .boolean) (hh := hh) (pc := pc) (L := L) (st := st) (r := r) ho0 hs
      have c1 := fun (pc : Nat) (L : PLs) (st : List Value) (r : PRes) (hs : (st.map fun v => v.category).sum ≤ 8) => lv_43 (d := d) (cc := cL_law) (rt := some .boolean) (hh := hh) (pc := pc) (L := L) (st := st) (r := r) hK2 ho1 hs
      have c2 := fun (pc : Nat) (L : PLs) (st : List Value) (r : PRes) (hs : (st.map fun v => v.category).sum ≤ 8) => lv_44 (d := d) (cc := cL_law) (rt := some .boolean) (hh := hh) (pc := pc) (L := L) (st := st) (r := r) hK3 ho2 hs
      refine ⟨mm2, 0, A2, ⟨W2, ⟨hs2, hN2, hI2⟩, ⟨ho22, ho23⟩, hl⟩, hBd m1 mm2 e1 f2, fun r => ?_⟩
      simp (disch := (first | exact nn5 | exact nn6 | exact absurd trivial ‹¬ True› | exact nl_i _ | exact nl_r _ | exact nl_o | exact nl_n | exact nr_i _ | exact bi_z _ | exact nr_z0 | exact nr_z1 | (with_unfolding_all exact Nat.le_of_ble_eq_true rfl) | omega | (simp only [bi_z, bi_01, gK_sI, gK_sJ, gK_sR, gK_cI, gK_cR, gK_nw, gK_wI, gK_wJ, gK_pZ, gK_pB, gK_pY, gK_bW, gK_snpM, gN_sI, gN_sJ, gN_sR, gN_cI, gN_cR, gN_nw, gN_wI, gN_wJ, gN_pZ, gN_pB, gN_pY, gN_bW, gN_snpM, gR_sI, gR_sJ, gR_sR, gR_cI, gR_cR, gR_nw, gR_wI, gR_wJ, gR_pZ, gR_pB, gR_pY, gR_bW, gR_snpM, eq_self, reduceCtorEq, or_true, true_or, or_self, or_false, false_or, and_self, Nat.reduceEqDiff, Nat.reduceLeDiff, hKx, hK2, hK3, hs0, hs1, hs2, hN0, hN1, hN2, ho22, ho23]; done) | (simp only [hN0, hN1, hN2, ho23]; omega) | (simp only [List.map_cons, List.map_nil, List.sum_cons, List.sum_nil, Value.category]; omega) | decide)) only [Ev_unf, Nat.add_sub_cancel, Nat.add_sub_cancel_left, EvC_0, enT, enL, Value.category, List.replicate, List.length_cons, List.length_nil, List.map_cons, List.map_nil, List.sum_cons, List.sum_nil, Nat.reduceAdd, Nat.reduceSub, Nat.reduceMul, Nat.zero_add, Nat.add_zero, Nat.reduceLeDiff, List.cons_append, List.nil_append, List.append_nil, Option.toList, exists_eq_left, Nat.reduceEqDiff, reduceIte, Int.reduceNeg, Int.reduceLE, Int.reduceLT, and_self, Int.reduceAdd, Int.reduceToNat, Int.cast_ofNat_Int, ofI_nat, ofI_m1, nI_ad, nI_mul, nI_sub, nI_eqi, nI_lti, nI_lei, nI_eq0, nI_lt0, nI_le0, nI_0lt, nI_0le, nI_m1, nI_dc, bi_0, bi_n0, bi_z, nr_i, va_rf_some, va_rf_none, Bool.not_eq_true, Bool.not_eq_false, Bool.false_eq_true, Bool.true_eq_false, eq_self, not_true_eq_false, not_false_eq_true, false_and, true_and, and_true, and_false, if_false, if_true, ite_r, ite_p, ite_not, gK_sI, gK_sJ, gK_sR, gK_cI, gK_cR, gK_nw, gK_wI, gK_wJ, gK_pZ, gK_pB, gK_pY, gK_bW, gK_snpM, gN_sI, gN_sJ, gN_sR, gN_cI, gN_cR, gN_nw, gN_wI, gN_wJ, gN_pZ, gN_pB, gN_pY, gN_bW, gN_snpM, gR_sI, gR_sJ, gR_sR, gR_cI, gR_cR, gR_nw, gR_wI, gR_wJ, gR_pZ, gR_pB, gR_pY, gR_bW, gR_snpM, EvL_unf, L_aload_n0, L_aload_n1, L_aload_n2, L_aload_n3, L_iload4, L_iload5, L_iload6, L_iconst, L_iadd, L_iaload2, L_icmp_eq, L_iinc4, L_goto, L_bipush, L_isub, L_arraylength, L_icmp_gt, L_iand, L_istore5, L_istore6, L_if_ne, L_if_eq, L_laloadn, L_i2l, L_lcmp, L_ireturn, nI_ad, Option.toList_some, List.cons_append, List.nil_append, dL_law_344, dL_law_345, dL_law_346, dL_law_348, dL_law_349, dL_law_350, dL_law_351, dL_law_352, dL_law_354, dL_law_355, dL_law_356, dL_law_357, dL_law_358, dL_law_361, dL_law_363, dL_law_364, dL_law_365, dL_law_367, dL_law_368, dL_law_369, dL_law_370, dL_law_371, dL_law_373, dL_law_374, dL_law_375, dL_law_376, dL_law_379, dL_law_381, dL_law_382, dL_law_385, dL_law_387, dL_law_390, dL_law_391, dL_law_392, dL_law_394, dL_law_397, dL_law_398, dL_law_399, dL_law_400, dL_law_402, dL_law_403, dL_law_404, dL_law_407, dL_law_408, dL_law_409, dL_law_1372, dL_law_1375, hI0, hI1, hI2, hJ2, lcz, c0, c1, c2]
    · have := (r1 _).mp ((q1 _).mpr rfl)
      have := congrArg (fun z : PRes => z.1.1) this
      exact absurd this (by decide)
  · have ho0 := HO 0 [.ref x, .int (sc (i + 1)), .int (sc (i + 2)), .ref (y + 22)] m ((0, some (.int 1)), m) (Or.inr ⟨rfl, x, _, _, y + 22, _, rfl, (r1 _).mpr rfl, Or.inr ⟨rfl, rfl⟩⟩)
    have ho1 := HO 154 [.ref y, .int (sc (i + 1)), .int (sc (i + 2))] m _ (Or.inl ⟨by decide, (r2 _).mpr rfl⟩)
    obtain ⟨hs2, hN2, hI2, hK3, ho22, ho23⟩ := fin m mm' rfl (fun _ _ => rfl) f1
    have W2 := Wor_CA w1 hMo f1
    have hMo2 : Mo mm' y := (Wor_bd W2).2
    have ho2 := HO 121 [.ref y] mm' ((0, some (.int (nI 1))), mm') (Or.inl ⟨by decide, (q_thrown hMo2 (by omega)).mpr (by rw [t1]; rfl)⟩)
    have hK2 := hKy
    have hs1 := hs0
    have hN1 := hN0
    have c0 := fun (pc : Nat) (L : PLs) (st : List Value) (r : PRes) (hs : (st.map fun v => v.category).sum ≤ 8) => lv_38 (d := d) (cc := cL_law) (rt := some .boolean) (hh := hh) (pc := pc) (L := L) (st := st) (r := r) ho0 hs
    have c1 := fun (pc : Nat) (L : PLs) (st : List Value) (r : PRes) (hs : (st.map fun v => v.category).sum ≤ 8) => lv_43 (d := d) (cc := cL_law) (rt := some .boolean) (hh := hh) (pc := pc) (L := L) (st := st) (r := r) hK2 ho1 hs
    have c2 := fun (pc : Nat) (L : PLs) (st : List Value) (r : PRes) (hs : (st.map fun v => v.category).sum ≤ 8) => lv_44 (d := d) (cc := cL_law) (rt := some .boolean) (hh := hh) (pc := pc) (L := L) (st := st) (r := r) hK3 ho2 hs
    refine ⟨mm', 1, 0, ⟨W2, ⟨hs2, hN2, hI2⟩, ⟨ho22, ho23⟩, hl⟩, hBd m mm' rfl f1, fun r => ?_⟩
    simp (disch := (first | exact nn5 | exact nn6 | exact absurd trivial ‹¬ True› | exact nl_i _ | exact nl_r _ | exact nl_o | exact nl_n | exact nr_i _ | exact bi_z _ | exact nr_z0 | exact nr_z1 | (with_unfolding_all exact Nat.le_of_ble_eq_true rfl) | omega | (simp only [bi_z, bi_01, gK_sI, gK_sJ, gK_sR, gK_cI, gK_cR, gK_nw, gK_wI, gK_wJ, gK_pZ, gK_pB, gK_pY, gK_bW, gK_snpM, gN_sI, gN_sJ, gN_sR, gN_cI, gN_cR, gN_nw, gN_wI, gN_wJ, gN_pZ, gN_pB, gN_pY, gN_bW, gN_snpM, gR_sI, gR_sJ, gR_sR, gR_cI, gR_cR, gR_nw, gR_wI, gR_wJ, gR_pZ, gR_pB, gR_pY, gR_bW, gR_snpM, eq_self, reduceCtorEq, or_true, true_or, or_self, or_false, false_or, and_self, Nat.reduceEqDiff, Nat.reduceLeDiff, hKx, hK2, hK3, hs0, hs1, hs2, hN0, hN1, hN2, ho22, ho23]; done) | (simp only [hN0, hN1, hN2, ho23]; omega) | (simp only [List.map_cons, List.map_nil, List.sum_cons, List.sum_nil, Value.category]; omega) | decide)) only [Ev_unf, Nat.add_sub_cancel, Nat.add_sub_cancel_left, EvC_0, enT, enL, Value.category, List.replicate, List.length_cons, List.length_nil, List.map_cons, List.map_nil, List.sum_cons, List.sum_nil, Nat.reduceAdd, Nat.reduceSub, Nat.reduceMul, Nat.zero_add, Nat.add_zero, Nat.reduceLeDiff, List.cons_append, List.nil_append, List.append_nil, Option.toList, exists_eq_left, Nat.reduceEqDiff, reduceIte, Int.reduceNeg, Int.reduceLE, Int.reduceLT, and_self, Int.reduceAdd, Int.reduceToNat, Int.cast_ofNat_Int, ofI_nat, ofI_m1, nI_ad, nI_mul, nI_sub, nI_eqi, nI_lti, nI_lei, nI_eq0, nI_lt0, nI_le0, nI_0lt, nI_0le, nI_m1, nI_dc, bi_0, bi_n0, bi_z, nr_i, va_rf_some, va_rf_none, Bool.not_eq_true, Bool.not_eq_false, Bool.false_eq_true, Bool.true_eq_false, eq_self, not_true_eq_false, not_false_eq_true, false_and, true_and, and_true, and_false, if_false, if_true, ite_r, ite_p, ite_not, gK_sI, gK_sJ, gK_sR, gK_cI, gK_cR, gK_nw, gK_wI, gK_wJ, gK_pZ, gK_pB, gK_pY, gK_bW, gK_snpM, gN_sI, gN_sJ, gN_sR, gN_cI, gN_cR, gN_nw, gN_wI, gN_wJ, gN_pZ, gN_pB, gN_pY, gN_bW, gN_snpM, gR_sI, gR_sJ, gR_sR, gR_cI, gR_cR, gR_nw, gR_wI, gR_wJ, gR_pZ, gR_pB, gR_pY, gR_bW, gR_snpM, EvL_unf, L_aload_n0, L_aload_n1, L_aload_n2, L_aload_n3, L_iload4, L_iload5, L_iload6, L_iconst, L_iadd, L_iaload2, L_icmp_eq, L_iinc4, L_goto, L_bipush, L_isub, L_arraylength, L_icmp_gt, L_iand, L_istore5, L_istore6, L_if_ne, L_if_eq, L_laloadn, L_i2l, L_lcmp, L_ireturn, nI_ad, Option.toList_some, List.cons_append, List.nil_append, dL_law_344, dL_law_345, dL_law_346, dL_law_348, dL_law_349, dL_law_350, dL_law_351, dL_law_352, dL_law_354, dL_law_355, dL_law_356, dL_law_357, dL_law_358, dL_law_361, dL_law_363, dL_law_364, dL_law_365, dL_law_367, dL_law_368, dL_law_369, dL_law_370, dL_law_371, dL_law_373, dL_law_374, dL_law_375, dL_law_376, dL_law_379, dL_law_381, dL_law_382, dL_law_385, dL_law_387, dL_law_390, dL_law_391, dL_law_392, dL_law_394, dL_law_397, dL_law_398, dL_law_399, dL_law_400, dL_law_402, dL_law_403, dL_law_404, dL_law_407, dL_law_408, dL_law_409, dL_law_1372, dL_law_1375, hI0, hI2, c0, c1, c2]
end LPE
