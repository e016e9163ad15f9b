/-! SMALL SETS as numbers below 128; rows and a best held in memory -/
theorem ss_and (a b : Nat) : nI a &&& nI b = nI (a &&& b) := by
  apply Int32.toBitVec_inj.mp
  show BitVec.ofNat 32 a &&& BitVec.ofNat 32 b = BitVec.ofNat 32 (a &&& b)
  exact (BitVec.ofNat_and ..).symm
theorem ss_of (v : Int32) : ∃ k, v = nI k := by
  refine ⟨v.toBitVec.toNat, ?_⟩
  apply Int32.toBitVec_inj.mp
  show v.toBitVec = BitVec.ofNat 32 v.toBitVec.toNat
  rw [BitVec.ofNat_toNat, BitVec.setWidth_eq]
def rmv (L p : Nat) : Nat := if L.testBit p = true then L - 2 ^ p else L
def pcn : Nat → Nat → Nat
  | 0, _ => 0
  | k + 1, L => pcn k L + (if L.testBit k = true then 1 else 0)
def pc7 (L : Nat) : Nat := pcn 7 L
theorem s7_has : ∀ L, L < 128 → ∀ p, p < 7 → hs (nI L) (nI p) = L.testBit p := by decide +kernel
theorem s7_rm : ∀ L, L < 128 → ∀ p, p < 7 → L.testBit p = true → nI L &&& ((nI 1 <<< (nI p &&& 31)) ^^^ -1) = nI (rmv L p) := by decide +kernel
theorem s7_rmlt : ∀ L, L < 128 → ∀ p, p < 7 → L.testBit p = true → pc7 (rmv L p) + 1 = pc7 L := by decide +kernel
theorem rmv_le (L p : Nat) : rmv L p ≤ L := by
  unfold rmv
  split
  · exact Nat.sub_le _ _
  · exact Nat.le_refl _
theorem s7_nx : ∀ L, L < 128 → ∀ p, p < 7 → L.testBit p = true → nI (L / 2 ^ p * 2 ^ p) &&& (nI (L / 2 ^ p * 2 ^ p) - nI 1) = nI (L / 2 ^ (p + 1) * 2 ^ (p + 1)) := by decide +kernel
theorem s7_sk : ∀ L, L < 128 → ∀ p, p < 7 → L.testBit p = false → L / 2 ^ p * 2 ^ p = L / 2 ^ (p + 1) * 2 ^ (p + 1) := by decide +kernel
theorem s7_n0 : ∀ L, L < 128 → ∀ p, p < 7 → L.testBit p = true → ¬ L / 2 ^ p * 2 ^ p = 0 := by decide +kernel
theorem s7_pc0 : ∀ L, L < 128 → pc7 L = 0 → L = 0 := by decide +kernel
theorem s7_pcn : ∀ L, L < 128 → ¬ L = 0 → ¬ pc7 L = 0 := by decide +kernel
/-- Integer.numberOfTrailingZeros as it goes -/
def ush (v : Int32) (k : Nat) : Int32 := (v.toUInt32 >>> ((nI k).toUInt32 &&& Int32.toUInt32 31)).toInt32
def ntz4 (i : Int32) (n : Int32) : Int32 := n + ush i 1
def ntz3 (i : Int32) (n : Int32) : Int32 := if i ≤ nI 4 then ntz4 i n else ntz4 (ush i 2) (n + nI 2)
def ntz2 (i : Int32) (n : Int32) : Int32 := if i ≤ nI 16 then ntz3 i n else ntz3 (ush i 4) (n + nI 4)
def ntz1 (i : Int32) (n : Int32) : Int32 := if i ≤ nI 256 then ntz2 i n else ntz2 (ush i 8) (n + nI 8)
def ntz0 (i : Int32) (n : Int32) : Int32 := if i ≤ nI 65536 then ntz1 i n else ntz1 (ush i 16) (n + nI 16)
def ntzF (v : Int32) : Int32 := if 0 < (v ^^^ -1) &&& (v - nI 1) then ntz0 ((v ^^^ -1) &&& (v - nI 1)) (nI 1) else (v ^^^ -1) &&& (v - nI 1) &&& nI 32
theorem s7_ntz : ∀ L, L < 128 → ∀ p, p < 7 → L.testBit p = true → ntzF (nI (L / 2 ^ p * 2 ^ p)) = nI p := by decide +kernel
theorem c_ntz {d : Nat} {m : PM} {r : PRes} {v : Int32} (hd : 1 ≤ d) : Run d 297 [.int v] m r ↔ r = ((0, some (.int (ntzF v))), m) := by
  rw [wJ10_numberOfTrailingZeros (by omega) rfl]
  unfold ntzF
  by_cases c0 : 0 < (v ^^^ -1) &&& (v - nI 1)
  · rw [if_pos c0]
    simp (disch := (first | exact nl_i _ | exact nl_r _ | exact nl_o | exact nl_n | exact nr_i _ | exact bi_z _ | exact nr_z0 | exact nr_z1 | (with_unfolding_all exact Nat.le_of_ble_eq_true rfl) | omega | (simp only [bi_z, bi_01, gK_sI, gK_sJ, gK_sR, gK_cI, gK_cR, gK_nw, gK_wI, gK_wJ, gK_pZ, gK_pB, gK_pY, gK_bW, gK_snpM, gN_sI, gN_sJ, gN_sR, gN_cI, gN_cR, gN_nw, gN_wI, gN_wJ, gN_pZ, gN_pB, gN_pY, gN_bW, gN_snpM, gR_sI, gR_sJ, gR_sR, gR_cI, gR_cR, gR_nw, gR_wI, gR_wJ, gR_pZ, gR_pB, gR_pY, gR_bW, gR_snpM, eq_self, reduceCtorEq, or_true, true_or, or_self, or_false, false_or, and_self, Nat.reduceEqDiff, Nat.reduceLeDiff]; done))) only [Ev_unf, Nat.add_sub_cancel, Nat.add_sub_cancel_left, EvC_0, enT, enL, Value.category, List.replicate, List.length_cons, List.length_nil, List.map_cons, List.map_nil, List.sum_cons, List.sum_nil, Nat.reduceAdd, Nat.reduceSub, Nat.reduceMul, Nat.zero_add, Nat.add_zero, Nat.reduceLeDiff, List.cons_append, List.nil_append, List.append_nil, Option.toList, exists_eq_left, Nat.reduceEqDiff, reduceIte, Int.reduceNeg, Int.reduceLE, Int.reduceLT, and_self, Int.reduceAdd, Int.reduceToNat, Int.cast_ofNat_Int, ofI_nat, ofI_m1, nI_ad, nI_mul, nI_sub, nI_eqi, nI_lti, nI_lei, nI_eq0, nI_lt0, nI_le0, nI_0lt, nI_0le, nI_m1, nI_dc, bi_0, bi_n0, bi_z, nr_i, va_rf_some, va_rf_none, Bool.not_eq_true, Bool.not_eq_false, Bool.false_eq_true, Bool.true_eq_false, eq_self, not_true_eq_false, not_false_eq_true, false_and, true_and, and_true, and_false, if_false, if_true, ite_r, ite_p, ite_not, gK_sI, gK_sJ, gK_sR, gK_cI, gK_cR, gK_nw, gK_wI, gK_wJ, gK_pZ, gK_pB, gK_pY, gK_bW, gK_snpM, gN_sI, gN_sJ, gN_sR, gN_cI, gN_cR, gN_nw, gN_wI, gN_wJ, gN_pZ, gN_pB, gN_pY, gN_bW, gN_snpM, gR_sI, gR_sJ, gR_sR, gR_cI, gR_cR, gR_nw, gR_wI, gR_wJ, gR_pZ, gR_pB, gR_pY, gR_bW, gR_snpM, dJ10_numberOfTrailingZeros_0, E_iload_n0, dJ10_numberOfTrailingZeros_1, E_iconst, dJ10_numberOfTrailingZeros_2, E_ixor, dJ10_numberOfTrailingZeros_3, dJ10_numberOfTrailingZeros_4, dJ10_numberOfTrailingZeros_5, E_isub, dJ10_numberOfTrailingZeros_6, E_iand, dJ10_numberOfTrailingZeros_7, E_istore_n0, dJ10_numberOfTrailingZeros_8, dJ10_numberOfTrailingZeros_9, E_if_gt, dJ10_numberOfTrailingZeros_12, dJ10_numberOfTrailingZeros_13, E_bipush, dJ10_numberOfTrailingZeros_15, dJ10_numberOfTrailingZeros_16, E_ireturn, dJ10_numberOfTrailingZeros_17, dJ10_numberOfTrailingZeros_18, E_istore_n1, dJ10_numberOfTrailingZeros_19, dJ10_numberOfTrailingZeros_20, k40_ldc_w_264, dJ10_numberOfTrailingZeros_23, E_icmp_le, dJ10_numberOfTrailingZeros_26, E_iinc1, dJ10_numberOfTrailingZeros_29, dJ10_numberOfTrailingZeros_30, dJ10_numberOfTrailingZeros_32, E_iushr, dJ10_numberOfTrailingZeros_33, dJ10_numberOfTrailingZeros_34, dJ10_numberOfTrailingZeros_35, E_sipush, dJ10_numberOfTrailingZeros_38, dJ10_numberOfTrailingZeros_41, dJ10_numberOfTrailingZeros_44, dJ10_numberOfTrailingZeros_45, dJ10_numberOfTrailingZeros_47, dJ10_numberOfTrailingZeros_48, dJ10_numberOfTrailingZeros_49, dJ10_numberOfTrailingZeros_50, dJ10_numberOfTrailingZeros_52, dJ10_numberOfTrailingZeros_55, dJ10_numberOfTrailingZeros_58, dJ10_numberOfTrailingZeros_59, dJ10_numberOfTrailingZeros_60, dJ10_numberOfTrailingZeros_61, dJ10_numberOfTrailingZeros_62, dJ10_numberOfTrailingZeros_63, dJ10_numberOfTrailingZeros_64, dJ10_numberOfTrailingZeros_67, dJ10_numberOfTrailingZeros_70, dJ10_numberOfTrailingZeros_71, dJ10_numberOfTrailingZeros_72, dJ10_numberOfTrailingZeros_73, dJ10_numberOfTrailingZeros_74, E_iload_n1, dJ10_numberOfTrailingZeros_75, dJ10_numberOfTrailingZeros_76, dJ10_numberOfTrailingZeros_77, dJ10_numberOfTrailingZeros_78, E_iadd, dJ10_numberOfTrailingZeros_79, c0]
    unfold ntz0 ntz1 ntz2 ntz3 ntz4 ush
    exact iff_v rfl
  · rw [if_neg c0]
    simp (disch := (first | exact nl_i _ | exact nl_r _ | exact nl_o | exact nl_n | exact nr_i _ | exact bi_z _ | exact nr_z0 | exact nr_z1 | (with_unfolding_all exact Nat.le_of_ble_eq_true rfl) | omega | (simp only [bi_z, bi_01, gK_sI, gK_sJ, gK_sR, gK_cI, gK_cR, gK_nw, gK_wI, gK_wJ, gK_pZ, gK_pB, gK_pY, gK_bW, gK_snpM, gN_sI, gN_sJ, gN_sR, gN_cI, gN_cR, gN_nw, gN_wI, gN_wJ, gN_pZ, gN_pB, gN_pY, gN_bW, gN_snpM, gR_sI, gR_sJ, gR_sR, gR_cI, gR_cR, gR_nw, gR_wI, gR_wJ, gR_pZ, gR_pB, gR_pY, gR_bW, gR_snpM, eq_self, reduceCtorEq, or_true, true_or, or_self, or_false, false_or, and_self, Nat.reduceEqDiff, Nat.reduceLeDiff]; done))) only [Ev_unf, Nat.add_sub_cancel, Nat.add_sub_cancel_left, EvC_0, enT, enL, Value.category, List.replicate, List.length_cons, List.length_nil, List.map_cons, List.map_nil, List.sum_cons, List.sum_nil, Nat.reduceAdd, Nat.reduceSub, Nat.reduceMul, Nat.zero_add, Nat.add_zero, Nat.reduceLeDiff, List.cons_append, List.nil_append, List.append_nil, Option.toList, exists_eq_left, Nat.reduceEqDiff, reduceIte, Int.reduceNeg, Int.reduceLE, Int.reduceLT, and_self, Int.reduceAdd, Int.reduceToNat, Int.cast_ofNat_Int, ofI_nat, ofI_m1, nI_ad, nI_mul, nI_sub, nI_eqi, nI_lti, nI_lei, nI_eq0, nI_lt0, nI_le0, nI_0lt, nI_0le, nI_m1, nI_dc, bi_0, bi_n0, bi_z, nr_i, va_rf_some, va_rf_none, Bool.not_eq_true, Bool.not_eq_false, Bool.false_eq_true, Bool.true_eq_false, eq_self, not_true_eq_false, not_false_eq_true, false_and, true_and, and_true, and_false, if_false, if_true, ite_r, ite_p, ite_not, gK_sI, gK_sJ, gK_sR, gK_cI, gK_cR, gK_nw, gK_wI, gK_wJ, gK_pZ, gK_pB, gK_pY, gK_bW, gK_snpM, gN_sI, gN_sJ, gN_sR, gN_cI, gN_cR, gN_nw, gN_wI, gN_wJ, gN_pZ, gN_pB, gN_pY, gN_bW, gN_snpM, gR_sI, gR_sJ, gR_sR, gR_cI, gR_cR, gR_nw, gR_wI, gR_wJ, gR_pZ, gR_pB, gR_pY, gR_bW, gR_snpM, dJ10_numberOfTrailingZeros_0, E_iload_n0, dJ10_numberOfTrailingZeros_1, E_iconst, dJ10_numberOfTrailingZeros_2, E_ixor, dJ10_numberOfTrailingZeros_3, dJ10_numberOfTrailingZeros_4, dJ10_numberOfTrailingZeros_5, E_isub, dJ10_numberOfTrailingZeros_6, E_iand, dJ10_numberOfTrailingZeros_7, E_istore_n0, dJ10_numberOfTrailingZeros_8, dJ10_numberOfTrailingZeros_9, E_if_gt, dJ10_numberOfTrailingZeros_12, dJ10_numberOfTrailingZeros_13, E_bipush, dJ10_numberOfTrailingZeros_15, dJ10_numberOfTrailingZeros_16, E_ireturn, dJ10_numberOfTrailingZeros_17, dJ10_numberOfTrailingZeros_18, E_istore_n1, dJ10_numberOfTrailingZeros_19, dJ10_numberOfTrailingZeros_20, k40_ldc_w_264, dJ10_numberOfTrailingZeros_23, E_icmp_le, dJ10_numberOfTrailingZeros_26, E_iinc1, dJ10_numberOfTrailingZeros_29, dJ10_numberOfTrailingZeros_30, dJ10_numberOfTrailingZeros_32, E_iushr, dJ10_numberOfTrailingZeros_33, dJ10_numberOfTrailingZeros_34, dJ10_numberOfTrailingZeros_35, E_sipush, dJ10_numberOfTrailingZeros_38, dJ10_numberOfTrailingZeros_41, dJ10_numberOfTrailingZeros_44, dJ10_numberOfTrailingZeros_45, dJ10_numberOfTrailingZeros_47, dJ10_numberOfTrailingZeros_48, dJ10_numberOfTrailingZeros_49, dJ10_numberOfTrailingZeros_50, dJ10_numberOfTrailingZeros_52, dJ10_numberOfTrailingZeros_55, dJ10_numberOfTrailingZeros_58, dJ10_numberOfTrailingZeros_59, dJ10_numberOfTrailingZeros_60, dJ10_numberOfTrailingZeros_61, dJ10_numberOfTrailingZeros_62, dJ10_numberOfTrailingZeros_63, dJ10_numberOfTrailingZeros_64, dJ10_numberOfTrailingZeros_67, dJ10_numberOfTrailingZeros_70, dJ10_numberOfTrailingZeros_71, dJ10_numberOfTrailingZeros_72, dJ10_numberOfTrailingZeros_73, dJ10_numberOfTrailingZeros_74, E_iload_n1, dJ10_numberOfTrailingZeros_75, dJ10_numberOfTrailingZeros_76, dJ10_numberOfTrailingZeros_77, dJ10_numberOfTrailingZeros_78, E_iadd, dJ10_numberOfTrailingZeros_79, c0]
/-- who lives, as a number -/
theorem liv_set {B R : Rw} {n : Nat} (hn : B 0 7 = nI n) (hn7 : n ≤ 7) : ∃ L, L < 2 ^ n ∧ ((1 <<< (B 0 7 &&& 31)) - 1) &&& (R 0 6 ^^^ -1) = nI L := by
  obtain ⟨k, hk⟩ := ss_of (R 0 6 ^^^ -1)
  refine ⟨(2 ^ n - 1) &&& k, ?_, ?_⟩
  · have : (2 ^ n - 1) &&& k ≤ 2 ^ n - 1 := Nat.and_le_left
    have := Nat.two_pow_pos n
    omega
  · have e : ∀ n, n ≤ 7 → ((1 : Int32) <<< (nI n &&& 31)) - 1 = nI (2 ^ n - 1) := by decide +kernel
    rw [hk, hn, e n hn7, ss_and]
/-! two rows and a best laid over a memory -/
def ov (m : PM) (c0 c1 x kb : Nat) (S row : Nat → Int32) (best : Int32) : PM := (fun c j => if c = x ∧ j = kb then best else if c = c1 then row j else if c = c0 then S j else m.1 c j, m.2)
section OV
variable {m : PM} {c0 c1 x kb : Nat} {S row : Nat → Int32} {best : Int32}
theorem gK_ov (a : Nat) : gK (ov m c0 c1 x kb S row best) a = gK m a := rfl
theorem gN_ov (a : Nat) : gN (ov m c0 c1 x kb S row best) a = gN m a := rfl
theorem gR_ov (a j : Nat) : gR (ov m c0 c1 x kb S row best) a j = gR m a j := rfl
theorem gJ_ov (a j : Nat) : gJ (ov m c0 c1 x kb S row best) a j = gJ m a j := rfl
theorem gX_ov : gX (ov m c0 c1 x kb S row best) = gX m := rfl
theorem gS_ov : gS (ov m c0 c1 x kb S row best) = gS m := rfl
theorem gI_ov (a j : Nat) : gI (ov m c0 c1 x kb S row best) a j = if a = x ∧ j = kb then best else if a = c1 then row j else if a = c0 then S j else gI m a j := rfl
theorem ov_b : gI (ov m c0 c1 x kb S row best) x kb = best := if_pos ⟨rfl, rfl⟩
theorem ov_S (h : c0 ≠ x) (h2 : c0 ≠ c1) (j : Nat) : gI (ov m c0 c1 x kb S row best) c0 j = S j := by
  rw [gI_ov, if_neg (fun q => h q.1), if_neg h2, if_pos rfl]
theorem ov_r (h : c1 ≠ x) (j : Nat) : gI (ov m c0 c1 x kb S row best) c1 j = row j := by
  rw [gI_ov, if_neg (fun q => h q.1), if_pos rfl]
theorem ov_o {a j : Nat} (h : ¬ (a = x ∧ j = kb)) (h1 : a ≠ c1) (h0 : a ≠ c0) : gI (ov m c0 c1 x kb S row best) a j = gI m a j := by
  rw [gI_ov, if_neg h, if_neg h1, if_neg h0]
theorem ov_sb (v : Int32) : sI (ov m c0 c1 x kb S row best) x kb v = ov m c0 c1 x kb S row v := by
  refine Prod.ext ?_ rfl
  funext c j
  show (if c = x ∧ j = kb then v else if c = x ∧ j = kb then best else _) = (if c = x ∧ j = kb then v else _)
  split <;> rfl
theorem ov_sS (h : c0 ≠ x) (h2 : c0 ≠ c1) (k : Nat) (v : Int32) : sI (ov m c0 c1 x kb S row best) c0 k v = ov m c0 c1 x kb (u1 S k v) row best := by
  refine Prod.ext ?_ rfl
  funext c j
  show (if c = c0 ∧ j = k then v else if c = x ∧ j = kb then best else if c = c1 then row j else if c = c0 then S j else m.1 c j) = (if c = x ∧ j = kb then best else if c = c1 then row j else if c = c0 then (if j = k then v else S j) else m.1 c j)
  by_cases q : c = c0
  · subst q
    by_cases q2 : j = k <;> simp [q2, h, h2]
  · simp only [q, false_and, if_false]
theorem ov_sr (h : c1 ≠ x) (k : Nat) (v : Int32) : sI (ov m c0 c1 x kb S row best) c1 k v = ov m c0 c1 x kb S (u1 row k v) best := by
  refine Prod.ext ?_ rfl
  funext c j
  show (if c = c1 ∧ j = k then v else if c = x ∧ j = kb then best else if c = c1 then row j else if c = c0 then S j else m.1 c j) = (if c = x ∧ j = kb then best else if c = c1 then (if j = k then v else row j) else if c = c0 then S j else m.1 c j)
  by_cases q : c = c1
  · subst q
    by_cases q2 : j = k <;> simp [q2, h]
  · simp only [q, false_and, if_false]
theorem ov_so {a k : Nat} {v : Int32} (h : ¬ (a = x ∧ k = kb)) (h1 : a ≠ c1) (h0 : a ≠ c0) : sI (ov m c0 c1 x kb S row best) a k v = ov (sI m a k v) c0 c1 x kb S row best := by
  refine Prod.ext ?_ rfl
  funext c j
  show (if c = a ∧ j = k then v else if c = x ∧ j = kb then best else if c = c1 then row j else if c = c0 then S j else m.1 c j) = (if c = x ∧ j = kb then best else if c = c1 then row j else if c = c0 then S j else if c = a ∧ j = k then v else m.1 c j)
  by_cases q : c = a ∧ j = k
  · obtain ⟨q1, q2⟩ := q
    subst q1; subst q2
    rw [if_pos ⟨rfl, rfl⟩, if_neg h, if_neg h1, if_neg h0, if_pos ⟨rfl, rfl⟩]
  · simp only [q, if_false]
theorem ov_cp (h : c0 ≠ x) (h1 : c1 ≠ x) (h2 : c0 ≠ c1) (N : Nat) : cI (ov m c0 c1 x kb S row best) c0 0 c1 0 N = ov m c0 c1 x kb S (fun j => if j < N then S j else row j) best := by
  refine Prod.ext ?_ rfl
  funext c j
  show (if c = c1 ∧ 0 ≤ j ∧ j < 0 + N then gI (ov m c0 c1 x kb S row best) c0 (0 + (j - 0)) else if c = x ∧ j = kb then best else if c = c1 then row j else if c = c0 then S j else m.1 c j) = (if c = x ∧ j = kb then best else if c = c1 then (if j < N then S j else row j) else if c = c0 then S j else m.1 c j)
  rw [ov_S h h2]
  by_cases q : c = c1
  · subst q
    by_cases q2 : j < N <;> simp [q2, h1]
  · simp only [q, false_and, if_false]
theorem ov_of : ov m c0 c1 x kb (gI m c0) (gI m c1) (gI m x kb) = m := by
  obtain ⟨i, q⟩ := m
  refine Prod.ext ?_ rfl
  funext c j
  show (if c = x ∧ j = kb then i x kb else if c = c1 then i c1 j else if c = c0 then i c0 j else i c j) = i c j
  by_cases q1 : c = x ∧ j = kb
  · rw [if_pos q1, q1.1, q1.2]
  · rw [if_neg q1]
    by_cases q2 : c = c1
    · rw [if_pos q2, q2]
    · rw [if_neg q2]
      by_cases q3 : c = c0
      · rw [if_pos q3, q3]
      · rw [if_neg q3]
end OV
