/-! WILLS: a number as a String; wills whole -/
section WLs
variable {d : Nat} {m : PM} {r : PRes} {x y b : Nat} {B R : Rw} {n nd l : Nat}
theorem c_toStr {n : Nat} (hn : n < 10000) (hD : DTb m) (hX : gX m + 2 < 900000) : ∃ M', (gX M' = gX m + 2 ∧ gS M' ≤ gS m + 20) ∧ (∀ c, c < gX m ∨ 1000000 ≤ c → gK M' c = gK m c ∧ gN M' c = gN m c ∧ (∀ j, gR M' c j = gR m c j) ∧ (∀ j, gJ M' c j = gJ m c j) ∧ (∀ j, gI M' c j = gI m c j)) ∧ (Str M' (gX m + 1) (fun k => (dgs n).getD k 0) (dgs n).length ∧ gR M' (gX m + 1) 0 = some (gX m)) ∧ ∀ d r, 12 ≤ d → (Run d 298 [.int (nI n)] m r ↔ r = ((0, some (.ref (gX m + 1))), M')) := by
  have hl4 := (dgs_len (n := n)).2
  have hssz := fun (d : Nat) (r : PRes) (hd : 1 ≤ d) => c_ssz (m := m) (r := r) hn hd
  obtain ⟨L, hL⟩ : ∃ L, L = (dgs n).length := ⟨_, rfl⟩
  rw [← hL] at hl4
  have hK1 : gK (nw m 101 L L) (gX m) = 101 := if_pos rfl
  have hN1 : gN (nw m 101 L L) (gX m) = L := if_pos rfl
  obtain ⟨f, hf, hg⟩ := c_getChars (m := nw m 101 L L) hn hK1 (hN1.trans hL) (by omega) (DTb_nw hD (by omega))
  rw [← hL] at hg
  have hXm : gX m < 900000 := by omega
  have hXm2 : gX (wI (nw m 101 L L) (gX m) f) < 900000 := show gX m + 1 < 900000 by omega
  have hsi := fun (M : PM) (hKe : gK M (gX m + 1) = 22) (d : Nat) (r : PRes) (hd : 9 ≤ d) => c_sInit (b := gX m) (r := r) hKe hd
  refine ⟨sI (sR (nw (wI (nw m 101 L L) (gX m) f) 22 0 4) (gX m + 1) 0 (some (gX m))) (gX m + 1) 1 0, ?_, ?_, ?_, fun d r hd => ?_⟩
  · exact ⟨rfl, by show gS m + L + 4 ≤ _; omega⟩
  · intro c hc
    refine ⟨?_, ?_, fun j => ?_, fun j => ?_, fun j => ?_⟩
    · show (if c = gX m + 1 then 22 else if c = gX m then 101 else gK m c) = _
      rw [if_neg (by omega), if_neg (by omega)]
    · show (if c = gX m + 1 then 0 else if c = gX m then L else gN m c) = _
      rw [if_neg (by omega), if_neg (by omega)]
    · show (if c = gX m + 1 ∧ j = 0 then some (gX m) else if c = gX m + 1 then none else if c = gX m then none else gR m c j) = _
      rw [if_neg (by omega), if_neg (by omega), if_neg (by omega)]
    · show (if c = gX m + 1 then 0 else if c = gX m then 0 else gJ m c j) = _
      rw [if_neg (by omega), if_neg (by omega)]
    · show (if c = gX m + 1 ∧ j = 1 then 0 else if c = gX m + 1 then 0 else if c = gX m then f j else if c = gX m then 0 else gI m c j) = _
      rw [if_neg (by omega), if_neg (by omega), if_neg (by omega), if_neg (by omega)]
  · have e1 : gR (sI (sR (nw (wI (nw m 101 L L) (gX m) f) 22 0 4) (gX m + 1) 0 (some (gX m))) (gX m + 1) 1 0) (gX m + 1) 0 = some (gX m) := if_pos ⟨rfl, rfl⟩
    refine ⟨⟨Or.inr (if_pos rfl), gX m, e1, if_pos ⟨rfl, rfl⟩, Or.inr ?_, ?_, by omega, fun k hk => ⟨?_, ?_⟩⟩, e1⟩
    · show (if gX m = gX m + 1 then 22 else if gX m = gX m then 101 else _) = _
      rw [if_neg (by omega), if_pos rfl]
    · show (if gX m = gX m + 1 then 0 else if gX m = gX m then L else _) = _
      rw [if_neg (by omega), if_pos rfl]; exact hL
    · show (if gX m = gX m + 1 ∧ k = 1 then (0 : Int32) else if gX m = gX m + 1 then 0 else if gX m = gX m then f k else _) = _
      rw [if_neg (by omega), if_neg (by omega), if_pos rfl]; exact hf k hk
    · have hd : ∀ k, k < (dgs n).length → (dgs n).getD k 0 < 128 := by
        intro k hk
        rw [dgs_l] at hk
        unfold dgs
        by_cases c1 : n < 10
        · rw [if_pos c1] at hk ⊢
          obtain rfl : k = 0 := by omega
          show 48 + n < 128
          omega
        · rw [if_neg c1] at hk ⊢
          by_cases c2 : n < 100
          · rw [if_pos c2] at hk ⊢
            rcases (show k = 0 ∨ k = 1 by omega) with rfl | rfl
            · show 48 + n / 10 < 128; omega
            · show 48 + n % 10 < 128; omega
          · rw [if_neg c2] at hk ⊢
            by_cases c3 : n < 1000
            · rw [if_pos c3] at hk ⊢
              rcases (show k = 0 ∨ k = 1 ∨ k = 2 by omega) with rfl | rfl | rfl
              · show 48 + n / 100 < 128; omega
              · show 48 + n / 10 % 10 < 128; omega
              · show 48 + n % 10 < 128; omega
            · rw [if_neg c3] at hk ⊢
              rcases (show k = 0 ∨ k = 1 ∨ k = 2 ∨ k = 3 by omega) with rfl | rfl | rfl | rfl
              · show 48 + n / 1000 < 128; omega
              · show 48 + n / 100 % 10 < 128; omega
              · show 48 + n / 10 % 10 < 128; omega
              · show 48 + n % 10 < 128; omega
      exact hd k hk
  · rw [wJ10_toString (by omega) rfl]
    rw [← hL] at hssz
    have hKe : gK (nw (wI (nw m 101 L L) (gX m) f) 22 0 4) (gX m + 1) = 22 := if_pos rfl
    have hs2 := hsi _ hKe
    have eX : gX (wI (nw m 101 L L) (gX m) f) = gX m + 1 := rfl
    have e10 : ((1 : Int32) = 0) = False := eq_false (by decide)
    simp (disch := (first | exact hXm | exact hXm2 | exact hKe | exact hLb | exact absurd trivial ‹¬ True› | exact nl_i _ | exact nl_r _ | exact nl_o | exact nl_n | exact nr_i _ | exact bi_z _ | exact nr_z0 | exact nr_z1 | (with_unfolding_all exact Nat.le_of_ble_eq_true rfl) | omega | (simp only [bi_z, bi_01, gK_sI, gK_sJ, gK_sR, gK_cI, gK_cR, gK_nw, gK_wI, gK_wJ, gK_pZ, gK_pB, gK_pY, gK_bW, gK_snpM, gN_sI, gN_sJ, gN_sR, gN_cI, gN_cR, gN_nw, gN_wI, gN_wJ, gN_pZ, gN_pB, gN_pY, gN_bW, gN_snpM, gR_sI, gR_sJ, gR_sR, gR_cI, gR_cR, gR_nw, gR_wI, gR_wJ, gR_pZ, gR_pB, gR_pY, gR_bW, gR_snpM, eq_self, reduceCtorEq, or_true, true_or, or_self, or_false, false_or, and_self, Nat.reduceEqDiff, Nat.reduceLeDiff]; done) | (simp only [hK2, hN2]; done) | (simp only [hN2]; omega) | decide)) only [Ev_unf, Nat.add_sub_cancel, Nat.add_sub_cancel_left, EvC_0, enT, enL, Value.category, List.replicate, List.length_cons, List.length_nil, List.map_cons, List.map_nil, List.sum_cons, List.sum_nil, Nat.reduceAdd, Nat.reduceSub, Nat.reduceMul, Nat.zero_add, Nat.add_zero, Nat.reduceLeDiff, List.cons_append, List.nil_append, List.append_nil, Option.toList, exists_eq_left, Nat.reduceEqDiff, reduceIte, Int.reduceNeg, Int.reduceLE, Int.reduceLT, and_self, Int.reduceAdd, Int.reduceToNat, Int.cast_ofNat_Int, ofI_nat, ofI_m1, nI_ad, nI_mul, nI_sub, nI_eqi, nI_lti, nI_lei, nI_eq0, nI_lt0, nI_le0, nI_0lt, nI_0le, nI_m1, nI_dc, bi_0, bi_n0, bi_z, nr_i, va_rf_some, va_rf_none, Bool.not_eq_true, Bool.not_eq_false, Bool.false_eq_true, Bool.true_eq_false, eq_self, not_true_eq_false, not_false_eq_true, false_and, true_and, and_true, and_false, if_false, if_true, ite_r, ite_p, ite_not, gK_sI, gK_sJ, gK_sR, gK_cI, gK_cR, gK_nw, gK_wI, gK_wJ, gK_pZ, gK_pB, gK_pY, gK_bW, gK_snpM, gN_sI, gN_sJ, gN_sR, gN_cI, gN_cR, gN_nw, gN_wI, gN_wJ, gN_pZ, gN_pB, gN_pY, gN_bW, gN_snpM, gR_sI, gR_sJ, gR_sR, gR_cI, gR_cR, gR_nw, gR_wI, gR_wJ, gR_pZ, gR_pB, gR_pY, gR_bW, gR_snpM, dJ10_toString_0, E_iload_n0, dJ10_toString_1, s40_72, dJ10_toString_4, E_istore_n1, dJ10_toString_5, g40_13, dJ10_toString_8, E_if_eq, dJ10_toString_11, E_iload_n1, dJ10_toString_12, na_byte, dJ10_toString_14, E_astore_n2, E_nstore_n2, dJ10_toString_15, dJ10_toString_16, dJ10_toString_17, E_aload_n2, E_nload_n2, dJ10_toString_18, s40_75, dJ10_toString_21, E_pop_i, E_pop_r, E_pop_n, dJ10_toString_22, n40_5, dJ10_toString_25, E_dup_i, E_dup_r, E_dup_n, dJ10_toString_26, dJ10_toString_27, E_iconst, dJ10_toString_28, v40_65_22, dJ10_toString_31, E_areturn, E_areturnN, dJ10_toString_32, dJ10_toString_33, dJ10_toString_34, E_imul, dJ10_toString_35, dJ10_toString_37, dJ10_toString_38, dJ10_toString_39, dJ10_toString_40, dJ10_toString_41, s40_79, dJ10_toString_44, dJ10_toString_45, dJ10_toString_48, dJ10_toString_49, dJ10_toString_50, dJ10_toString_51, dJ10_toString_54, hssz, hg, e10, eX, hs2]
end WLs
