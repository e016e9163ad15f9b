/-! SENTENCES: what they stand on -/
/-- the model's nodes: fields 47 .. 50 (nodes, ones, within, top), and their row -/
def ndM (mm : PM) (y : Nat) (h g : Nat → Int32) : PM := (fun c j => if c = y ∧ 47 ≤ j ∧ j < 51 then h j else if c = y + 21 then g j else mm.1 c j, mm.2)
section ND
variable {mm : PM} {y : Nat} {h g : Nat → Int32}
theorem gK_ndM (c : Nat) : gK (ndM mm y h g) c = gK mm c := rfl
theorem gN_ndM (c : Nat) : gN (ndM mm y h g) c = gN mm c := rfl
theorem gR_ndM (c j : Nat) : gR (ndM mm y h g) c j = gR mm c j := rfl
theorem gJ_ndM (c j : Nat) : gJ (ndM mm y h g) c j = gJ mm c j := rfl
theorem gX_ndM : gX (ndM mm y h g) = gX mm := rfl
theorem gS_ndM : gS (ndM mm y h g) = gS mm := rfl
theorem nd_g {j : Nat} (hj : 47 ≤ j ∧ j < 51) : gI (ndM mm y h g) y j = h j := if_pos ⟨rfl, hj⟩
theorem nd_r {j : Nat} : gI (ndM mm y h g) (y + 21) j = g j := by
  show (if y + 21 = y ∧ 47 ≤ j ∧ j < 51 then h j else if y + 21 = y + 21 then g j else mm.1 (y + 21) j) = _
  rw [if_neg (by omega), if_pos rfl]
theorem nd_o {c j : Nat} (h1 : ¬ (c = y ∧ 47 ≤ j ∧ j < 51)) (h2 : c ≠ y + 21) : gI (ndM mm y h g) c j = gI mm c j := by
  show (if c = y ∧ 47 ≤ j ∧ j < 51 then h j else if c = y + 21 then g j else mm.1 c j) = _
  rw [if_neg h1, if_neg h2]; rfl
theorem nd_s {j : Nat} {v : Int32} (hj : 47 ≤ j ∧ j < 51) : sI (ndM mm y h g) y j v = ndM mm y (u1 h j v) g := by
  refine Prod.ext ?_ rfl
  funext c i
  show (if c = y ∧ i = j then v else if c = y ∧ 47 ≤ i ∧ i < 51 then h i else if c = y + 21 then g i else mm.1 c i) = if c = y ∧ 47 ≤ i ∧ i < 51 then (if i = j then v else h i) else if c = y + 21 then g i else mm.1 c i
  by_cases h1 : c = y ∧ i = j
  · rw [if_pos h1, if_pos ⟨h1.1, by omega⟩, if_pos h1.2]
  · rw [if_neg h1]
    by_cases h2 : c = y ∧ 47 ≤ i ∧ i < 51
    · rw [if_pos h2, if_pos h2, if_neg (fun z => h1 ⟨h2.1, z⟩)]
    · rw [if_neg h2, if_neg h2]
theorem nd_sr {j : Nat} {v : Int32} : sI (ndM mm y h g) (y + 21) j v = ndM mm y h (u1 g j v) := by
  refine Prod.ext ?_ rfl
  funext c i
  show (if c = y + 21 ∧ i = j then v else if c = y ∧ 47 ≤ i ∧ i < 51 then h i else if c = y + 21 then g i else mm.1 c i) = if c = y ∧ 47 ≤ i ∧ i < 51 then h i else if c = y + 21 then (if i = j then v else g i) else mm.1 c i
  by_cases h1 : c = y + 21 ∧ i = j
  · rw [if_pos h1, if_neg (by omega), if_pos h1.1, if_pos h1.2]
  · rw [if_neg h1]
    by_cases h2 : c = y ∧ 47 ≤ i ∧ i < 51
    · rw [if_pos h2, if_pos h2]
    · rw [if_neg h2, if_neg h2]
      by_cases h3 : c = y + 21
      · rw [if_pos h3, if_pos h3, if_neg (fun z => h1 ⟨h3, z⟩)]
      · rw [if_neg h3, if_neg h3]
theorem Mdr_nd {n lim : Nat} {T : Nat → Nat} (hM : Mdr mm y n lim T) : Mdr (ndM mm y h g) y n lim T := by
  obtain ⟨hMo, h3, h4, hlim, hn, hT, hT2⟩ := hM
  refine ⟨hMo, ?_, ?_, hlim, hn, fun k hk => ?_, hT2⟩
  · rw [nd_o (by omega) (by omega)]; exact h3
  · rw [nd_o (by omega) (by omega)]; exact h4
  · rw [nd_o (by omega) (by omega)]; exact hT k hk
end ND
/-- a node written -/
def u4 (g : Nat → Int32) (k : Nat) (a b c d : Int32) : Nat → Int32 := u1 (u1 (u1 (u1 g (4 * k) a) (4 * k + 1) b) (4 * k + 2) c) (4 * k + 3) d
section U4
variable {g : Nat → Int32} {k : Nat} {a b c d : Int32}
theorem u4_0 : u4 g k a b c d (4 * k) = a := by
  unfold u4
  rw [u1_ne _ _ (by omega), u1_ne _ _ (by omega), u1_ne _ _ (by omega), u1_at]
theorem u4_1 : u4 g k a b c d (4 * k + 1) = b := by
  unfold u4
  rw [u1_ne _ _ (by omega), u1_ne _ _ (by omega), u1_at]
theorem u4_2 : u4 g k a b c d (4 * k + 2) = c := by
  unfold u4
  rw [u1_ne _ _ (by omega), u1_at]
theorem u4_3 : u4 g k a b c d (4 * k + 3) = d := u1_at _ _ _
theorem u4_o {j : Nat} (h : j < 4 * k ∨ 4 * k + 3 < j) : u4 g k a b c d j = g j := by
  unfold u4
  rw [u1_ne _ _ (by omega), u1_ne _ _ (by omega), u1_ne _ _ (by omega), u1_ne _ _ (by omega)]
end U4
section SO
variable {d : Nat} {mm : PM} {r : PRes} {y : Nat} {h g f : Nat → Int32} {w : Int64}
theorem q_says {k : Nat} {a b c e : Int32} (hMo : Mo mm y) (hk : h 47 = nI k) (hk2 : k < 59) (hd : 1 ≤ d) : Run d 231 [.ref y, .int a, .int b, .int c, .int e] (mdM (ndM mm y h g) y f w) r ↔ r = ((0, some (.int (nI k))), mdM (ndM mm y (u1 h 47 (nI (k + 1))) (u4 g k a b c e)) y f w) := by
  rw [wX9_saysOne (by omega) rfl]
  unfold u4
  simp (disch := (first | exact Or.inr rfl | exact Or.inl rfl | exact absurd trivial ‹¬ True› | exact nl_i _ | exact nl_r _ | exact nl_o | exact nl_n | exact nr_i _ | exact bi_z _ | exact nr_z0 | exact nr_z1 | (with_unfolding_all exact Nat.le_of_ble_eq_true rfl) | omega | (simp only [bi_z, bi_01, gK_sI, gK_sJ, gK_sR, gK_cI, gK_cR, gK_nw, gK_wI, gK_wJ, gK_pZ, gK_pB, gK_pY, gK_bW, gK_snpM, gN_sI, gN_sJ, gN_sR, gN_cI, gN_cR, gN_nw, gN_wI, gN_wJ, gN_pZ, gN_pB, gN_pY, gN_bW, gN_snpM, gR_sI, gR_sJ, gR_sR, gR_cI, gR_cR, gR_nw, gR_wI, gR_wJ, gR_pZ, gR_pB, gR_pY, gR_bW, gR_snpM, eq_self, reduceCtorEq, or_true, true_or, or_self, or_false, false_or, and_self, Nat.reduceEqDiff, Nat.reduceLeDiff, gK_mdM, gN_mdM, gR_mdM, gK_ndM, gN_ndM, gR_ndM, Mo_K0 hMo, Mo_K1 hMo, Mo_N1 hMo, Mo_K2 hMo, Mo_N2 hMo, Mo_K3 hMo, Mo_N3 hMo, Mo_K4 hMo, Mo_N4 hMo, Mo_K5 hMo, Mo_N5 hMo, Mo_K6 hMo, Mo_N6 hMo, Mo_K7 hMo, Mo_N7 hMo, Mo_K8 hMo, Mo_N8 hMo, Mo_K9 hMo, Mo_N9 hMo, Mo_K10 hMo, Mo_N10 hMo, Mo_K11 hMo, Mo_N11 hMo, Mo_K12 hMo, Mo_N12 hMo, Mo_K13 hMo, Mo_N13 hMo, Mo_K14 hMo, Mo_N14 hMo, Mo_K15 hMo, Mo_N15 hMo, Mo_K16 hMo, Mo_N16 hMo, Mo_K17 hMo, Mo_N17 hMo, Mo_K18 hMo, Mo_N18 hMo, Mo_K19 hMo, Mo_N19 hMo, Mo_K20 hMo, Mo_N20 hMo, Mo_K21 hMo, Mo_N21 hMo, Mo_R0_1 hMo, Mo_R0_14 hMo, Mo_R0_15 hMo, Mo_R0_16 hMo, Mo_R0_17 hMo, Mo_R0_18 hMo, Mo_R0_19 hMo, Mo_R0_20 hMo, Mo_R0_21 hMo, Mo_R0_22 hMo, Mo_R0_26 hMo, Mo_R0_27 hMo, Mo_R0_28 hMo, Mo_R0_31 hMo, Mo_R0_34 hMo, Mo_R0_35 hMo, Mo_R0_36 hMo, Mo_R0_39 hMo, Mo_R0_42 hMo, Mo_R0_43 hMo, Mo_R0_46 hMo]; done) | (simp only [bi_z, bi_01, gK_sI, gK_sJ, gK_sR, gK_cI, gK_cR, gK_nw, gK_wI, gK_wJ, gK_pZ, gK_pB, gK_pY, gK_bW, gK_snpM, gN_sI, gN_sJ, gN_sR, gN_cI, gN_cR, gN_nw, gN_wI, gN_wJ, gN_pZ, gN_pB, gN_pY, gN_bW, gN_snpM, gR_sI, gR_sJ, gR_sR, gR_cI, gR_cR, gR_nw, gR_wI, gR_wJ, gR_pZ, gR_pB, gR_pY, gR_bW, gR_snpM, eq_self, reduceCtorEq, or_true, true_or, or_self, or_false, false_or, and_self, Nat.reduceEqDiff, Nat.reduceLeDiff, gK_mdM, gN_mdM, gK_ndM, gN_ndM, Mo_K0 hMo, Mo_K1 hMo, Mo_N1 hMo, Mo_K2 hMo, Mo_N2 hMo, Mo_K3 hMo, Mo_N3 hMo, Mo_K4 hMo, Mo_N4 hMo, Mo_K5 hMo, Mo_N5 hMo, Mo_K6 hMo, Mo_N6 hMo, Mo_K7 hMo, Mo_N7 hMo, Mo_K8 hMo, Mo_N8 hMo, Mo_K9 hMo, Mo_N9 hMo, Mo_K10 hMo, Mo_N10 hMo, Mo_K11 hMo, Mo_N11 hMo, Mo_K12 hMo, Mo_N12 hMo, Mo_K13 hMo, Mo_N13 hMo, Mo_K14 hMo, Mo_N14 hMo, Mo_K15 hMo, Mo_N15 hMo, Mo_K16 hMo, Mo_N16 hMo, Mo_K17 hMo, Mo_N17 hMo, Mo_K18 hMo, Mo_N18 hMo, Mo_K19 hMo, Mo_N19 hMo, Mo_K20 hMo, Mo_N20 hMo, Mo_K21 hMo, Mo_N21 hMo, Mo_R0_1 hMo, Mo_R0_14 hMo, Mo_R0_15 hMo, Mo_R0_16 hMo, Mo_R0_17 hMo, Mo_R0_18 hMo, Mo_R0_19 hMo, Mo_R0_20 hMo, Mo_R0_21 hMo, Mo_R0_22 hMo, Mo_R0_26 hMo, Mo_R0_27 hMo, Mo_R0_28 hMo, Mo_R0_31 hMo, Mo_R0_34 hMo, Mo_R0_35 hMo, Mo_R0_36 hMo, Mo_R0_39 hMo, Mo_R0_42 hMo, Mo_R0_43 hMo, Mo_R0_46 hMo]; omega))) only [Ev_unf, Nat.add_sub_cancel, Nat.add_sub_cancel_left, EvC_0, enT, enL, Value.category, List.replicate, List.length_cons, List.length_nil, List.map_cons, List.map_nil, List.sum_cons, List.sum_nil, Nat.reduceAdd, Nat.reduceSub, Nat.reduceMul, Nat.zero_add, Nat.add_zero, Nat.reduceLeDiff, List.cons_append, List.nil_append, List.append_nil, Option.toList, exists_eq_left, Nat.reduceEqDiff, reduceIte, Int.reduceNeg, Int.reduceLE, Int.reduceLT, and_self, Int.reduceAdd, Int.reduceToNat, Int.cast_ofNat_Int, ofI_nat, ofI_m1, nI_ad, nI_mul, nI_sub, nI_eqi, nI_lti, nI_lei, nI_eq0, nI_lt0, nI_le0, nI_0lt, nI_0le, nI_m1, nI_dc, bi_0, bi_n0, bi_z, nr_i, va_rf_some, va_rf_none, Bool.not_eq_true, Bool.not_eq_false, Bool.false_eq_true, Bool.true_eq_false, eq_self, not_true_eq_false, not_false_eq_true, false_and, true_and, and_true, and_false, if_false, if_true, ite_r, ite_p, ite_not, gK_sI, gK_sJ, gK_sR, gK_cI, gK_cR, gK_nw, gK_wI, gK_wJ, gK_pZ, gK_pB, gK_pY, gK_bW, gK_snpM, gN_sI, gN_sJ, gN_sR, gN_cI, gN_cR, gN_nw, gN_wI, gN_wJ, gN_pZ, gN_pB, gN_pY, gN_bW, gN_snpM, gR_sI, gR_sJ, gR_sR, gR_cI, gR_cR, gR_nw, gR_wI, gR_wJ, gR_pZ, gR_pB, gR_pY, gR_bW, gR_snpM, dX9_saysOne_0, E_iconst, dX9_saysOne_1, E_aload_n0, E_nload_n0, dX9_saysOne_2, f9_380_8, dX9_saysOne_5, E_imul, dX9_saysOne_6, E_istore5, dX9_saysOne_8, dX9_saysOne_9, f9_79_8, dX9_saysOne_12, E_iload5, dX9_saysOne_14, E_iload_n1, dX9_saysOne_15, E_iastoren, dX9_saysOne_16, dX9_saysOne_17, dX9_saysOne_20, dX9_saysOne_22, dX9_saysOne_23, E_iadd, dX9_saysOne_24, E_iload_n2, dX9_saysOne_25, dX9_saysOne_26, dX9_saysOne_27, dX9_saysOne_30, dX9_saysOne_32, dX9_saysOne_33, dX9_saysOne_34, E_iload_n3, dX9_saysOne_35, dX9_saysOne_36, dX9_saysOne_37, dX9_saysOne_40, dX9_saysOne_42, dX9_saysOne_43, dX9_saysOne_44, E_iload4, dX9_saysOne_46, dX9_saysOne_47, dX9_saysOne_48, E_dup_i, E_dup_r, E_dup_n, dX9_saysOne_49, dX9_saysOne_52, dX9_saysOne_53, dX9_saysOne_54, p9_380_8, dX9_saysOne_57, dX9_saysOne_58, dX9_saysOne_61, dX9_saysOne_62, E_isub, dX9_saysOne_63, E_ireturn, nd_g, nd_r, nd_s, nd_sr, gR_ndM, md_o (show y + 21 ≠ y by omega), md_so (show y + 21 ≠ y by omega), md_l, md_sl, md_g, gR_mdM, u1_e, u1_u1, Mo_K0 hMo, Mo_K1 hMo, Mo_N1 hMo, Mo_K2 hMo, Mo_N2 hMo, Mo_K3 hMo, Mo_N3 hMo, Mo_K4 hMo, Mo_N4 hMo, Mo_K5 hMo, Mo_N5 hMo, Mo_K6 hMo, Mo_N6 hMo, Mo_K7 hMo, Mo_N7 hMo, Mo_K8 hMo, Mo_N8 hMo, Mo_K9 hMo, Mo_N9 hMo, Mo_K10 hMo, Mo_N10 hMo, Mo_K11 hMo, Mo_N11 hMo, Mo_K12 hMo, Mo_N12 hMo, Mo_K13 hMo, Mo_N13 hMo, Mo_K14 hMo, Mo_N14 hMo, Mo_K15 hMo, Mo_N15 hMo, Mo_K16 hMo, Mo_N16 hMo, Mo_K17 hMo, Mo_N17 hMo, Mo_K18 hMo, Mo_N18 hMo, Mo_K19 hMo, Mo_N19 hMo, Mo_K20 hMo, Mo_N20 hMo, Mo_K21 hMo, Mo_N21 hMo, Mo_R0_1 hMo, Mo_R0_14 hMo, Mo_R0_15 hMo, Mo_R0_16 hMo, Mo_R0_17 hMo, Mo_R0_18 hMo, Mo_R0_19 hMo, Mo_R0_20 hMo, Mo_R0_21 hMo, Mo_R0_22 hMo, Mo_R0_26 hMo, Mo_R0_27 hMo, Mo_R0_28 hMo, Mo_R0_31 hMo, Mo_R0_34 hMo, Mo_R0_35 hMo, Mo_R0_36 hMo, Mo_R0_39 hMo, Mo_R0_42 hMo, Mo_R0_43 hMo, Mo_R0_46 hMo, hk, Nat.reduceEqDiff, if_true]
end SO
/-! what stays in the class while a sentence is read -/
def SF (m m' : PM) (q : Nat) : Prop := gX m ≤ gX m' ∧ (∀ c, c < gX m ∨ 1000000 ≤ c → gK m' c = gK m c ∧ gN m' c = gN m c ∧ (∀ j, gR m' c j = gR m c j) ∧ (c ≠ q → ∀ j, gJ m' c j = gJ m c j) ∧ (c ≠ q → ∀ j, gI m' c j = gI m c j)) ∧ gI m' q 0 = gI m q 0
theorem SF_tr {m m1 m2 : PM} {q : Nat} (h : SF m m1 q) (h' : SF m1 m2 q) : SF m m2 q := by
  obtain ⟨a1, a2, a3⟩ := h
  obtain ⟨b1, b2, b3⟩ := h'
  refine ⟨by omega, fun c hc => ?_, b3.trans a3⟩
  obtain ⟨c1, c2, c3, c4, c5⟩ := a2 c hc
  obtain ⟨d1, d2, d3, d4, d5⟩ := b2 c (by omega)
  exact ⟨d1.trans c1, d2.trans c2, fun j => (d3 j).trans (c3 j), fun e j => (d4 e j).trans (c4 e j), fun e j => (d5 e j).trans (c5 e j)⟩
theorem SF_rf {m : PM} {q : Nat} : SF m m q := ⟨Nat.le_refl _, fun _ _ => ⟨rfl, rfl, fun _ => rfl, fun _ _ => rfl, fun _ _ => rfl⟩, rfl⟩
theorem SF_q {m : PM} {q j : Nat} {v : Int32} (hj : j ≠ 0) : SF m (sI m q j v) q := ⟨Nat.le_refl _, fun c _ => ⟨rfl, rfl, fun _ => rfl, fun _ _ => rfl, fun e j' => if_neg (fun z => e z.1)⟩, if_neg (fun z => hj z.2.symm)⟩
theorem SF_nw {m : PM} {q K N sl : Nat} (hq : q < gX m) (hX : gX m < 1000000) : SF m (nw m K N sl) q := by
  refine ⟨by show gX m ≤ gX m + 1; omega, fun c hc => ?_, if_neg (by show ¬ q = gX m; omega)⟩
  have e : ¬ c = gX m := by omega
  exact ⟨if_neg e, if_neg e, fun _ => if_neg e, fun _ _ => if_neg e, fun _ _ => if_neg e⟩
theorem SF_sI {m m1 : PM} {q c j : Nat} {v : Int32} (h : SF m m1 q) (hc : gX m ≤ c ∧ c < 1000000) (hq : q < gX m) : SF m (sI m1 c j v) q := by
  obtain ⟨a1, a2, a3⟩ := h
  refine ⟨a1, fun b hb => ?_, (if_neg (by omega)).trans a3⟩
  obtain ⟨c1, c2, c3, c4, c5⟩ := a2 b hb
  exact ⟨c1, c2, c3, c4, fun e i => (if_neg (by omega)).trans (c5 e i)⟩
theorem SF_sR {m m1 : PM} {q c j : Nat} {v : Option Nat} (h : SF m m1 q) (hc : gX m ≤ c ∧ c < 1000000) : SF m (sR m1 c j v) q := by
  obtain ⟨a1, a2, a3⟩ := h
  refine ⟨a1, fun b hb => ?_, a3⟩
  obtain ⟨c1, c2, c3, c4, c5⟩ := a2 b hb
  exact ⟨c1, c2, fun i => (if_neg (by omega)).trans (c3 i), c4, c5⟩
/-- the class while a sentence is read -/
def SE (m : PM) (q x b n : Nat) (T : Nat → Nat) (NP ND : Nat → List Nat) (np nd : Nat) : Prop := RE m q x n 200 T ∧ (gK m q = 7 ∧ q = x + 39) ∧ gR m x 7 = some b ∧ Bo m b ∧ (gI m b 7 = nI np ∧ gI m b 8 = nI nd ∧ np ≤ 7 ∧ nd ≤ 6) ∧ (∀ k, k < np → gJ m (b + 1) k = n256 (NP k) ∧ isW (NP k)) ∧ (∀ k, k < nd → gJ m (b + 2) k = n256 (ND k) ∧ isW (ND k)) ∧ SRow m (x + 40) 5 mkI ∧ SRow m (x + 41) 4 (fun k => 24 + k) ∧ gR m q 11 = some x ∧ b + 7 < gX m ∧ (b + 7 < q ∨ q < b)
theorem SE_SF {m m' : PM} {q x b n : Nat} {T : Nat → Nat} {NP ND : Nat → List Nat} {np nd : Nat} (h : SE m q x b n T NP ND np nd) (hS : SF m m' q) (hX : gX m' < 1000000) : SE m' q x b n T NP ND np nd := by
  obtain ⟨h1, ⟨h2, h3⟩, h4, h5, ⟨h6, h7, h8, h9⟩, h10, h11, h12, h13, h14, h15, h16⟩ := h
  obtain ⟨s1, s2, s3⟩ := hS
  have hX0 := h1.2.2.2.2.2.2.2.2.2
  have hrow : ∀ z L (g : Nat → Nat), z < gX m → SRow m z L g → SRow m' z L g := by
    intro z L g hz hs
    obtain ⟨a1, a2, a3, a4⟩ := hs
    obtain ⟨c1, c2, c3, -⟩ := s2 z (Or.inl hz)
    exact ⟨c1.trans a1, c2.trans a2, a3, fun k hk => ⟨(c3 k).trans (a4 k hk).1, (a4 k hk).2⟩⟩
  have hxq : x ≠ q ∧ x + 1 ≠ q := by omega
  refine ⟨RE_cg h1 ⟨s1, hX⟩ (fun c hc => (s2 c hc).1) (fun c hc => (s2 c hc).2.1) (fun c j hc _ => (s2 c hc).2.2.1 j) (fun j => (s2 x (Or.inl (by omega))).2.2.2.2 hxq.1 j) (fun j => (s2 (x + 1) (Or.inl (by omega))).2.2.2.2 hxq.2 j) s3 (fun c j hc => (s2 c (Or.inr hc)).2.2.2.2 (by omega) j), ⟨((s2 q (Or.inl (by omega))).1).trans h2, h3⟩, ((s2 x (Or.inl (by omega))).2.2.1 7).trans h4, ?_, ⟨((s2 b (Or.inl (by omega))).2.2.2.2 (by omega) 7).trans h6, ((s2 b (Or.inl (by omega))).2.2.2.2 (by omega) 8).trans h7, h8, h9⟩, fun k hk => ⟨((s2 (b + 1) (Or.inl (by omega))).2.2.2.1 (by omega) k).trans (h10 k hk).1, (h10 k hk).2⟩, fun k hk => ⟨((s2 (b + 2) (Or.inl (by omega))).2.2.2.1 (by omega) k).trans (h11 k hk).1, (h11 k hk).2⟩, hrow _ _ _ (by omega) h12, hrow _ _ _ (by omega) h13, ((s2 q (Or.inl (by omega))).2.2.1 11).trans h14, by omega, h16⟩
  have eK : ∀ c, c < gX m → gK m' c = gK m c := fun c hc => (s2 c (Or.inl hc)).1
  have eN : ∀ c, c < gX m → gN m' c = gN m c := fun c hc => (s2 c (Or.inl hc)).2.1
  have eR : ∀ c j, c < gX m → gR m' c j = gR m c j := fun c j hc => (s2 c (Or.inl hc)).2.2.1 j
  unfold Bo at h5 ⊢
  simp (disch := omega) only [eK, eN, eR]
  exact h5
/-- a class' object is a model's node -/
def TrF (m : PM) (g : Nat → Int32) : Nat → Nat → Nat → Prop
  | 0, _, _ => False
  | f + 1, c, k => c < gX m ∧ ((g (4 * k) = nI 1 ∧ gK m c = 16 ∧ ∃ a j, gR m c 0 = some a ∧ g (4 * k + 1) = nI j ∧ j < k ∧ TrF m g f a j) ∨ ((g (4 * k) = nI 2 ∧ gK m c = 19 ∨ g (4 * k) = nI 3 ∧ gK m c = 20) ∧ ∃ a j a' j', gR m c 0 = some a ∧ gR m c 1 = some a' ∧ g (4 * k + 1) = nI j ∧ g (4 * k + 2) = nI j' ∧ j < k ∧ j' < k ∧ TrF m g f a j ∧ TrF m g f a' j') ∨ (∃ i o, gK m c = 17 ∧ i < 5 ∧ gI m c 0 = nI i ∧ g (4 * k) = nI (69 + i) ∧ (i < 3 ∨ (3 ≤ i ∧ o < 6 + (4 - i) ∧ gI m c 1 = nI o ∧ g (4 * k + 1) = nI o))) ∨ (∃ i q n, gK m c = 18 ∧ i < 4 ∧ gI m c 0 = nI i ∧ 60 ≤ q ∧ q ≤ 62 ∧ gI m c 1 = nI q ∧ n < 1000 ∧ gI m c 2 = nI n ∧ g (4 * k) = nI (74 + i) ∧ g (4 * k + 2) = nI n ∧ g (4 * k + 3) = nI q))
theorem TrF_up {m : PM} {g : Nat → Int32} : ∀ f c k, TrF m g f c k → TrF m g (f + 1) c k := by
  intro f
  induction f with
  | zero => intro c k h; exact h.elim
  | succ f ih =>
    intro c k h
    refine ⟨h.1, ?_⟩
    rcases h.2 with ⟨h1, h2, a, j, h3, h4, h5, h6⟩ | ⟨h1, a, j, a', j', h3, h4, h5, h6, h7, h8, h9, h10⟩ | h | h
    · exact Or.inl ⟨h1, h2, a, j, h3, h4, h5, ih a j h6⟩
    · exact Or.inr (Or.inl ⟨h1, a, j, a', j', h3, h4, h5, h6, h7, h8, ih a j h9, ih a' j' h10⟩)
    · exact Or.inr (Or.inr (Or.inl h))
    · exact Or.inr (Or.inr (Or.inr h))
theorem TrF_le {m : PM} {g : Nat → Int32} {f f' c k : Nat} (hf : f ≤ f') (h : TrF m g f c k) : TrF m g f' c k := by
  induction hf with
  | refl => exact h
  | step _ ih => exact TrF_up _ _ _ ih
theorem TrF_SF {m m' : PM} {g g' : Nat → Int32} {q nodes : Nat} (hS : SF m m' q) (hq : gK m q = 7) (hqX : q < gX m) (hg : ∀ j, j < 4 * nodes → g' j = g j) : ∀ f c k, k < nodes → TrF m g f c k → TrF m' g' f c k := by
  intro f
  induction f with
  | zero => intro c k _ h; exact h.elim
  | succ f ih =>
    intro c k hk h
    obtain ⟨hc, h⟩ := h
    obtain ⟨s1, s2, s3⟩ := hS
    obtain ⟨eK, eN, eR, eJ, eI⟩ := s2 c (Or.inl hc)
    refine ⟨by omega, ?_⟩
    have g0 := hg (4 * k) (by omega)
    have g1 := hg (4 * k + 1) (by omega)
    have g2 := hg (4 * k + 2) (by omega)
    have g3 := hg (4 * k + 3) (by omega)
    rw [eK, eR, eR, g0, g1, g2, g3]
    rcases h with ⟨h1, h2, a, j, h3, h4, h5, h6⟩ | ⟨h1, a, j, a', j', h3, h4, h5, h6, h7, h8, h9, h10⟩ | ⟨i, o, h1, h⟩ | ⟨i, o, n, h1, h⟩
    · exact Or.inl ⟨h1, h2, a, j, h3, h4, h5, ih a j (by omega) h6⟩
    · exact Or.inr (Or.inl ⟨h1, a, j, a', j', h3, h4, h5, h6, h7, h8, ih a j (by omega) h9, ih a' j' (by omega) h10⟩)
    · have hne : c ≠ q := fun e => by rw [e, hq] at h1; omega
      rw [eI hne, eI hne]
      exact Or.inr (Or.inr (Or.inl ⟨i, o, h1, h⟩))
    · have hne : c ≠ q := fun e => by rw [e, hq] at h1; omega
      rw [eI hne, eI hne, eI hne]
      exact Or.inr (Or.inr (Or.inr ⟨i, o, n, h1, h⟩))
