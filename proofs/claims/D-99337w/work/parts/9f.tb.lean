/-! A BOARD, new; what the class' readers stand on -/
def boN (m : PM) : PM := sR (nw (sR (nw (sR (nw (sR (nw (sR (nw (sR (nw (sR (nw (nw m 3 0 11) 103 7 7) (gX m) 0 (some (gX m + 1))) 103 6 6) (gX m) 1 (some (gX m + 2))) 100 7 7) (gX m) 2 (some (gX m + 3))) 100 7 7) (gX m) 3 (some (gX m + 4))) 100 6 6) (gX m) 4 (some (gX m + 5))) 100 6 6) (gX m) 5 (some (gX m + 6))) 100 42 42) (gX m) 6 (some (gX m + 7))
theorem gX_boN (m : PM) : gX (boN m) = gX m + 8 := rfl
theorem gS_boN (m : PM) : gS (boN m) = gS m + 11 + 7 + 6 + 7 + 7 + 6 + 6 + 42 := rfl
theorem gI_boN {m : PM} {c j : Nat} (h : c < gX m ∨ gX m + 8 ≤ c) : gI (boN m) c j = gI m c j := by simp (disch := omega) only [boN, gI_sR, gI_nw, gJ_sR, gJ_nw, gR_sR, gR_nw, gK_sR, gK_nw, gN_sR, gN_nw, gX_sR, gX_nw, if_pos, if_neg]
theorem gJ_boN {m : PM} {c j : Nat} (h : c < gX m ∨ gX m + 8 ≤ c) : gJ (boN m) c j = gJ m c j := by simp (disch := omega) only [boN, gI_sR, gI_nw, gJ_sR, gJ_nw, gR_sR, gR_nw, gK_sR, gK_nw, gN_sR, gN_nw, gX_sR, gX_nw, if_pos, if_neg]
theorem gR_boN {m : PM} {c j : Nat} (h : c < gX m ∨ gX m + 8 ≤ c) : gR (boN m) c j = gR m c j := by simp (disch := omega) only [boN, gI_sR, gI_nw, gJ_sR, gJ_nw, gR_sR, gR_nw, gK_sR, gK_nw, gN_sR, gN_nw, gX_sR, gX_nw, if_pos, if_neg]
theorem gK_boN {m : PM} {c : Nat} (h : c < gX m ∨ gX m + 8 ≤ c) : gK (boN m) c = gK m c := by simp (disch := omega) only [boN, gI_sR, gI_nw, gJ_sR, gJ_nw, gR_sR, gR_nw, gK_sR, gK_nw, gN_sR, gN_nw, gX_sR, gX_nw, if_pos, if_neg]
theorem gN_boN {m : PM} {c : Nat} (h : c < gX m ∨ gX m + 8 ≤ c) : gN (boN m) c = gN m c := by simp (disch := omega) only [boN, gI_sR, gI_nw, gJ_sR, gJ_nw, gR_sR, gR_nw, gK_sR, gK_nw, gN_sR, gN_nw, gX_sR, gX_nw, if_pos, if_neg]
theorem boN_Bo (m : PM) : Bo (boN m) (gX m) := by
  refine ⟨?_, ?_, ?_, ?_, ?_, ?_, ?_, ?_, ?_, ?_, ?_, ?_, ?_, ?_, ?_, ?_, ?_, ?_, ?_, ?_, ?_, ?_⟩ <;> simp (disch := omega) only [boN, gI_sR, gI_nw, gJ_sR, gJ_nw, gR_sR, gR_nw, gK_sR, gK_nw, gN_sR, gN_nw, gX_sR, gX_nw, if_pos, if_neg, and_self, if_true]
theorem boN_I {m : PM} {s j : Nat} (h : s < 8) : gI (boN m) (gX m + s) j = 0 := by
  have hs : s = 0 ∨ s = 1 ∨ s = 2 ∨ s = 3 ∨ s = 4 ∨ s = 5 ∨ s = 6 ∨ s = 7 := by omega
  rcases hs with rfl | rfl | rfl | rfl | rfl | rfl | rfl | rfl <;> simp (disch := omega) only [boN, gI_sR, gI_nw, gJ_sR, gJ_nw, gR_sR, gR_nw, gK_sR, gK_nw, gN_sR, gN_nw, gX_sR, gX_nw, if_pos, if_neg, Nat.add_zero, if_true]
theorem boN_J {m : PM} {s j : Nat} (h : s < 8) : gJ (boN m) (gX m + s) j = 0 := by
  have hs : s = 0 ∨ s = 1 ∨ s = 2 ∨ s = 3 ∨ s = 4 ∨ s = 5 ∨ s = 6 ∨ s = 7 := by omega
  rcases hs with rfl | rfl | rfl | rfl | rfl | rfl | rfl | rfl <;> simp (disch := omega) only [boN, gI_sR, gI_nw, gJ_sR, gJ_nw, gR_sR, gR_nw, gK_sR, gK_nw, gN_sR, gN_nw, gX_sR, gX_nw, if_pos, if_neg, Nat.add_zero, if_true]
theorem c_newB {d : Nat} {m : PM} {r : PRes} (hX : gX m + 8 < 900000) (hd : 9 ≤ d) : Run d 60 [.ref (gX m)] (nw m 3 0 11) r ↔ r = ((0, none), boN m) := by
  rw [wX3_init (by omega) rfl]
  simp (disch := (first | exact absurd trivial ‹¬ True› | exact nl_i _ | exact nl_r _ | exact nl_o | exact nl_n | exact nr_i _ | exact bi_z _ | exact nr_z0 | exact nr_z1 | (with_unfolding_all exact Nat.le_of_ble_eq_true rfl) | omega | (simp (disch := omega) only [bi_z, bi_01, gK_sI, gK_sJ, gK_sR, gK_cI, gK_cR, gK_nw, gK_wI, gK_wJ, gK_pZ, gK_pB, gK_pY, gK_bW, gK_snpM, gN_sI, gN_sJ, gN_sR, gN_cI, gN_cR, gN_nw, gN_wI, gN_wJ, gN_pZ, gN_pB, gN_pY, gN_bW, gN_snpM, gR_sI, gR_sJ, gR_sR, gR_cI, gR_cR, gR_nw, gR_wI, gR_wJ, gR_pZ, gR_pB, gR_pY, gR_bW, gR_snpM, eq_self, reduceCtorEq, or_true, true_or, or_self, or_false, false_or, and_self, Nat.reduceEqDiff, Nat.reduceLeDiff, gX_sR, gX_nw, if_pos, if_neg, if_true]; done) | (simp (disch := omega) only [bi_z, bi_01, gK_sI, gK_sJ, gK_sR, gK_cI, gK_cR, gK_nw, gK_wI, gK_wJ, gK_pZ, gK_pB, gK_pY, gK_bW, gK_snpM, gN_sI, gN_sJ, gN_sR, gN_cI, gN_cR, gN_nw, gN_wI, gN_wJ, gN_pZ, gN_pB, gN_pY, gN_bW, gN_snpM, gR_sI, gR_sJ, gR_sR, gR_cI, gR_cR, gR_nw, gR_wI, gR_wJ, gR_pZ, gR_pB, gR_pY, gR_bW, gR_snpM, eq_self, reduceCtorEq, or_true, true_or, or_self, or_false, false_or, and_self, Nat.reduceEqDiff, Nat.reduceLeDiff, gX_sR, gX_nw, if_pos, if_neg]; omega))) only [Ev_unf, Nat.add_sub_cancel, Nat.add_sub_cancel_left, EvC_0, enT, enL, Value.category, List.replicate, List.length_cons, List.length_nil, List.map_cons, List.map_nil, List.sum_cons, List.sum_nil, Nat.reduceAdd, Nat.reduceSub, Nat.reduceMul, Nat.zero_add, Nat.add_zero, Nat.reduceLeDiff, List.cons_append, List.nil_append, List.append_nil, Option.toList, exists_eq_left, Nat.reduceEqDiff, reduceIte, Int.reduceNeg, Int.reduceLE, Int.reduceLT, and_self, Int.reduceAdd, Int.reduceToNat, Int.cast_ofNat_Int, ofI_nat, ofI_m1, nI_ad, nI_mul, nI_sub, nI_eqi, nI_lti, nI_lei, nI_eq0, nI_lt0, nI_le0, nI_0lt, nI_0le, nI_m1, nI_dc, bi_0, bi_n0, bi_z, nr_i, va_rf_some, va_rf_none, Bool.not_eq_true, Bool.not_eq_false, Bool.false_eq_true, Bool.true_eq_false, eq_self, not_true_eq_false, not_false_eq_true, false_and, true_and, and_true, and_false, if_false, if_true, ite_r, ite_p, ite_not, gK_sI, gK_sJ, gK_sR, gK_cI, gK_cR, gK_nw, gK_wI, gK_wJ, gK_pZ, gK_pB, gK_pY, gK_bW, gK_snpM, gN_sI, gN_sJ, gN_sR, gN_cI, gN_cR, gN_nw, gN_wI, gN_wJ, gN_pZ, gN_pB, gN_pY, gN_bW, gN_snpM, gR_sI, gR_sJ, gR_sR, gR_cI, gR_cR, gR_nw, gR_wI, gR_wJ, gR_pZ, gR_pB, gR_pY, gR_bW, gR_snpM, dX3_init_0, E_aload_n0, E_nload_n0, dX3_init_1, v103_3_3, dX3_init_4, dX3_init_5, E_bipush, dX3_init_7, na_long, dX3_init_9, p103_9_3, p103_9_3n, dX3_init_12, dX3_init_13, dX3_init_15, dX3_init_17, p103_15_3, p103_15_3n, dX3_init_20, dX3_init_21, dX3_init_23, na_int, dX3_init_25, p103_18_3, p103_18_3n, dX3_init_28, dX3_init_29, dX3_init_31, dX3_init_33, p103_22_3, p103_22_3n, dX3_init_36, dX3_init_37, dX3_init_39, dX3_init_41, p103_25_3, p103_25_3n, dX3_init_44, dX3_init_45, dX3_init_47, dX3_init_49, p103_28_3, p103_28_3n, dX3_init_52, dX3_init_53, dX3_init_55, dX3_init_57, p103_31_3, p103_31_3n, dX3_init_60, E_return, r_objInit, gX_sR, gX_nw]
  rfl
theorem bd_zero {m : PM} {b : Nat} (hI : ∀ s j, s < 8 → gI m (b + s) j = 0) (hJ : ∀ s j, s < 8 → gJ m (b + s) j = 0) : bdM m b (fun _ _ => 0) (fun _ => 0) (fun _ => 0) = m := by
  obtain ⟨A, J, k⟩ := m
  refine Prod.ext ?_ (Prod.ext ?_ rfl)
  · funext c j
    show (if b ≤ c ∧ inb (c - b) j = true then (0 : Int32) else A c j) = A c j
    split
    · rename_i h
      have h2 := inb_lt h.2
      have e := hI (c - b) j (by omega)
      rw [show b + (c - b) = c by omega] at e
      exact e.symm
    · rfl
  · funext c j
    show (if c = b + 1 then (0 : Int64) else if c = b + 2 then 0 else J c j) = J c j
    split
    · rename_i h; rw [h]; exact (hJ 1 j (by omega)).symm
    · split
      · rename_i h; rw [h]; exact (hJ 2 j (by omega)).symm
      · rfl
theorem GB_0 : GB (fun _ _ => 0) 0 0 0 := by
  have a9 : 0 ≤ (0 : Int32).toInt ∧ (0 : Int32).toInt ≤ 9 := by decide
  have a20 : 0 ≤ (0 : Int32).toInt ∧ (0 : Int32).toInt ≤ 20 := by decide
  have a99 : 0 ≤ (0 : Int32).toInt ∧ (0 : Int32).toInt ≤ 99 := by decide
  have a40 : 0 ≤ (0 : Int32).toInt ∧ (0 : Int32).toInt ≤ 40 := by decide
  exact ⟨rfl, by omega, rfl, by omega, rfl, by omega, a9, fun p _ => a20, fun p hp => by omega, fun d _ => a9, fun d _ _ => rfl, fun d _ => a99, fun p d _ _ => a40, fun p d _ _ => rfl⟩
theorem by8 {t : Nat} (h : t < 256) : (nI t).toInt8.toInt32 &&& nI 255 = nI t := by
  have q : ∀ t, t < 256 → (nI t).toInt8.toInt32 &&& nI 255 = nI t := by decide +kernel
  exact q t h
def mkI (k : Nat) : Nat := if k = 3 then 5 else if k = 4 then 23 else 20 + k
/-- what never changes beneath the class' readers -/
def RX (m : PM) (x : Nat) : Prop := CK m ∧ SRow m (x + 3) 5 (fun k => k) ∧ SRow m (x + 4) 23 (fun k => 5 + k) ∧ SRow m (x + 5) 3 (fun k => 7 + k) ∧ SRow m (x + 40) 5 mkI ∧ SRow m (x + 41) 4 (fun k => 24 + k) ∧ gI m (x + 26) 0 = nI 900 ∧ gI m (x + 27) 0 = nI 400 ∧ gI m (x + 39) 0 = nI 200 ∧ gR m (x + 26) 7 = some x ∧ gR m (x + 27) 7 = some x ∧ gR m (x + 39) 7 = some x ∧ gR m (x + 26) 10 = some x ∧ gR m (x + 27) 10 = some x ∧ gR m (x + 39) 11 = some x
theorem RX_cg {m m' : PM} {x X : Nat} (h : RX m x) (hX : x + 43 ≤ X) (hK : ∀ c, c < X ∨ 1000000 ≤ c → gK m' c = gK m c) (hN : ∀ c, c < X ∨ 1000000 ≤ c → gN m' c = gN m c) (hR : ∀ c j, (x + 3 ≤ c ∧ c ≤ x + 5) ∨ c = x + 40 ∨ c = x + 41 ∨ 1000000 ≤ c ∨ ((c = x + 26 ∨ c = x + 27 ∨ c = x + 39) ∧ (j = 7 ∨ 10 ≤ j)) → gR m' c j = gR m c j) (hI : ∀ c j, ((c = x + 26 ∨ c = x + 27 ∨ c = x + 39) ∧ j = 0) ∨ 1000000 ≤ c → gI m' c j = gI m c j) : RX m' x := by
  obtain ⟨hCK, h1, h2, h3, h4, h5, g1, g2, g3, r1, r2, r3, r4, r5, r6⟩ := h
  have hrow : ∀ z L (g : Nat → Nat), z < X → (∀ j, gR m' z j = gR m z j) → SRow m z L g → SRow m' z L g := by
    intro z L g hz hr hs
    obtain ⟨s1, s2, s3, s4⟩ := hs
    exact ⟨(hK z (Or.inl hz)).trans s1, (hN z (Or.inl hz)).trans s2, s3, fun k hk => ⟨(hr k).trans (s4 k hk).1, (s4 k hk).2⟩⟩
  refine ⟨fun i hi => ?_, hrow _ _ _ (by omega) (fun j => hR _ _ (by omega)) h1, hrow _ _ _ (by omega) (fun j => hR _ _ (by omega)) h2, hrow _ _ _ (by omega) (fun j => hR _ _ (by omega)) h3, hrow _ _ _ (by omega) (fun j => hR _ _ (by omega)) h4, hrow _ _ _ (by omega) (fun j => hR _ _ (by omega)) h5, (hI _ _ (by omega)).trans g1, (hI _ _ (by omega)).trans g2, (hI _ _ (by omega)).trans g3, (hR _ _ (by omega)).trans r1, (hR _ _ (by omega)).trans r2, (hR _ _ (by omega)).trans r3, (hR _ _ (by omega)).trans r4, (hR _ _ (by omega)).trans r5, (hR _ _ (by omega)).trans r6⟩
  obtain ⟨k1, k2, k3, k4, k5, k6⟩ := hCK i hi
  exact ⟨(hK _ (Or.inr (by omega))).trans k1, (hR _ _ (by omega)).trans k2, (hI _ _ (by omega)).trans k3, (hK _ (Or.inr (by omega))).trans k4, (hN _ (Or.inr (by omega))).trans k5, fun k hk => (hI _ _ (by omega)).trans (k6 k hk)⟩
theorem RE_mk {m : PM} {q x n lim : Nat} {T : Nat → Nat} (hOb : Ob m x) (hRX : RX m x) (hq : (q = x + 26 ∧ lim = 900) ∨ (q = x + 27 ∧ lim = 400) ∨ (q = x + 39 ∧ lim = 200)) (hn : gI m x 2 = nI n) (hn2 : n ≤ 940) (hT : ∀ k, k < n → gI m (x + 1) k = (nI (T k)).toInt8.toInt32) (hT2 : ∀ k, T k < 256) (hX : x + 43 ≤ gX m) (hX2 : gX m < 1000000) : RE m q x n lim T := by
  obtain ⟨hCK, h1, h2, h3, h4, h5, g1, g2, g3, r1, r2, r3, r4, r5, r6⟩ := hRX
  have hTb : ∀ k, k < n → gI m (x + 1) k &&& nI 255 = nI (T k) := fun k hk => by rw [hT k hk]; exact by8 (hT2 k)
  rcases hq with ⟨rfl, rfl⟩ | ⟨rfl, rfl⟩ | ⟨rfl, rfl⟩
  · exact ⟨⟨Or.inl (Ob_K26 hOb), r1, hOb, hn, hn2, hTb, hT2, by omega, by omega⟩, hT, hCK, h1, h2, h3, g1, by omega, Ob_R0_3 hOb, by omega, by omega, hX2⟩
  · exact ⟨⟨Or.inr (Or.inl (Ob_K27 hOb)), r2, hOb, hn, hn2, hTb, hT2, by omega, by omega⟩, hT, hCK, h1, h2, h3, g2, by omega, Ob_R0_3 hOb, by omega, by omega, hX2⟩
  · exact ⟨⟨Or.inr (Or.inr (Ob_K39 hOb)), r3, hOb, hn, hn2, hTb, hT2, by omega, by omega⟩, hT, hCK, h1, h2, h3, g3, by omega, Ob_R0_3 hOb, by omega, by omega, hX2⟩
/-! the model begins -/
section QB
variable {mm : PM} {y n lim : Nat} {T : Nat → Nat}
def bgM (mm : PM) (y n lim : Nat) : PM := sI (sI (sI (sI mm y 0 0) y 2 0) y 3 (nI n)) y 4 (nI lim)
theorem bg_o {c j : Nat} (h : c ≠ y ∨ 5 ≤ j ∨ j = 1) : gI (bgM mm y n lim) c j = gI mm c j := by
  show (if c = y ∧ j = 4 then nI lim else if c = y ∧ j = 3 then nI n else if c = y ∧ j = 2 then 0 else if c = y ∧ j = 0 then 0 else gI mm c j) = _
  rw [if_neg (by omega), if_neg (by omega), if_neg (by omega), if_neg (by omega)]
theorem Mdr_bg (hMo : Mo mm y) (hlim : lim < 2000) (hn : n ≤ 940) (hT : ∀ k, k < n → gI mm (y + 1) k = nI (T k)) (hT2 : ∀ k, T k < 256) : Mdr (bgM mm y n lim) y n lim T := by
  refine ⟨hMo, ?_, if_pos ⟨rfl, rfl⟩, hlim, hn, fun k hk => ?_, hT2⟩
  · show (if y = y ∧ 3 = 4 then _ else if y = y ∧ 3 = 3 then nI n else _) = _
    rw [if_neg (by omega), if_pos ⟨rfl, rfl⟩]
  · rw [bg_o (by omega)]; exact hT k hk
theorem q_begin (hMo : Mo mm y) (hlim : lim < 2000) (h2 : gI mm y 2 = nI n) (hn : n ≤ 940) (hT : ∀ k, k < n → gI mm (y + 1) k = nI (T k)) (hT2 : ∀ k, T k < 256) : ∃ (f : Nat → Int32) (w : Int64), MT T n lim (skF T n 0) f w ∧ Run 5 126 [.ref y, .int (nI lim)] mm ((0, none), mdM (bgM mm y n lim) y f w) := by
  have hMd := Mdr_bg (n := n) hMo hlim hn hT hT2
  obtain ⟨f, w, k1, -, k3⟩ := q_go (p := 0) (f := u1 (u1 (gI mm y) 10 0) 5 0) (w := gJ mm y 12) hMd (u1_at _ _ _) (by rw [u1_ne _ _ (by omega), u1_at]) (Nat.zero_le n)
  rw [Nat.sub_zero] at k1
  refine ⟨f, w, k1, ?_⟩
  have k3 := run_all k3
  have htk : ∀ (d : Nat) (r : PRes), 1 ≤ d → (Run d 127 [.ref y] (sI mm y 0 0) r ↔ r = ((0, some (.int (nI n))), sI (sI mm y 0 0) y 2 0)) := fun d r hd => by
    have e : gI (sI mm y 0 0) y 2 = nI n := (if_neg (by omega)).trans h2
    rw [wX9_take (by omega) rfl]
    simp (disch := (first | exact absurd trivial ‹¬ True› | exact nl_i _ | exact nl_r _ | exact nl_o | exact nl_n | exact nr_i _ | exact bi_z _ | exact nr_z0 | exact nr_z1 | (with_unfolding_all exact Nat.le_of_ble_eq_true rfl) | omega | (simp only [bi_z, bi_01, gK_sI, gK_sJ, gK_sR, gK_cI, gK_cR, gK_nw, gK_wI, gK_wJ, gK_pZ, gK_pB, gK_pY, gK_bW, gK_snpM, gN_sI, gN_sJ, gN_sR, gN_cI, gN_cR, gN_nw, gN_wI, gN_wJ, gN_pZ, gN_pB, gN_pY, gN_bW, gN_snpM, gR_sI, gR_sJ, gR_sR, gR_cI, gR_cR, gR_nw, gR_wI, gR_wJ, gR_pZ, gR_pB, gR_pY, gR_bW, gR_snpM, eq_self, reduceCtorEq, or_true, true_or, or_self, or_false, false_or, and_self, Nat.reduceEqDiff, Nat.reduceLeDiff, Mo_K0 hMo, Mo_K1 hMo, Mo_N1 hMo, Mo_K2 hMo, Mo_N2 hMo, Mo_K3 hMo, Mo_N3 hMo, Mo_K4 hMo, Mo_N4 hMo, Mo_K5 hMo, Mo_N5 hMo, Mo_K6 hMo, Mo_N6 hMo, Mo_K7 hMo, Mo_N7 hMo, Mo_K8 hMo, Mo_N8 hMo, Mo_K9 hMo, Mo_N9 hMo, Mo_K10 hMo, Mo_N10 hMo, Mo_K11 hMo, Mo_N11 hMo, Mo_K12 hMo, Mo_N12 hMo, Mo_K13 hMo, Mo_N13 hMo, Mo_K14 hMo, Mo_N14 hMo, Mo_K15 hMo, Mo_N15 hMo, Mo_K16 hMo, Mo_N16 hMo, Mo_K17 hMo, Mo_N17 hMo, Mo_K18 hMo, Mo_N18 hMo, Mo_K19 hMo, Mo_N19 hMo, Mo_K20 hMo, Mo_N20 hMo, Mo_K21 hMo, Mo_N21 hMo, Mo_R0_1 hMo, Mo_R0_14 hMo, Mo_R0_15 hMo, Mo_R0_16 hMo, Mo_R0_17 hMo, Mo_R0_18 hMo, Mo_R0_19 hMo, Mo_R0_20 hMo, Mo_R0_21 hMo, Mo_R0_22 hMo, Mo_R0_26 hMo, Mo_R0_27 hMo, Mo_R0_28 hMo, Mo_R0_31 hMo, Mo_R0_34 hMo, Mo_R0_35 hMo, Mo_R0_36 hMo, Mo_R0_39 hMo, Mo_R0_42 hMo, Mo_R0_43 hMo, Mo_R0_46 hMo]; done) | (simp only [bi_z, bi_01, gK_sI, gK_sJ, gK_sR, gK_cI, gK_cR, gK_nw, gK_wI, gK_wJ, gK_pZ, gK_pB, gK_pY, gK_bW, gK_snpM, gN_sI, gN_sJ, gN_sR, gN_cI, gN_cR, gN_nw, gN_wI, gN_wJ, gN_pZ, gN_pB, gN_pY, gN_bW, gN_snpM, gR_sI, gR_sJ, gR_sR, gR_cI, gR_cR, gR_nw, gR_wI, gR_wJ, gR_pZ, gR_pB, gR_pY, gR_bW, gR_snpM, eq_self, reduceCtorEq, or_true, true_or, or_self, or_false, false_or, and_self, Nat.reduceEqDiff, Nat.reduceLeDiff, Mo_K0 hMo, Mo_K1 hMo, Mo_N1 hMo, Mo_K2 hMo, Mo_N2 hMo, Mo_K3 hMo, Mo_N3 hMo, Mo_K4 hMo, Mo_N4 hMo, Mo_K5 hMo, Mo_N5 hMo, Mo_K6 hMo, Mo_N6 hMo, Mo_K7 hMo, Mo_N7 hMo, Mo_K8 hMo, Mo_N8 hMo, Mo_K9 hMo, Mo_N9 hMo, Mo_K10 hMo, Mo_N10 hMo, Mo_K11 hMo, Mo_N11 hMo, Mo_K12 hMo, Mo_N12 hMo, Mo_K13 hMo, Mo_N13 hMo, Mo_K14 hMo, Mo_N14 hMo, Mo_K15 hMo, Mo_N15 hMo, Mo_K16 hMo, Mo_N16 hMo, Mo_K17 hMo, Mo_N17 hMo, Mo_K18 hMo, Mo_N18 hMo, Mo_K19 hMo, Mo_N19 hMo, Mo_K20 hMo, Mo_N20 hMo, Mo_K21 hMo, Mo_N21 hMo, Mo_R0_1 hMo, Mo_R0_14 hMo, Mo_R0_15 hMo, Mo_R0_16 hMo, Mo_R0_17 hMo, Mo_R0_18 hMo, Mo_R0_19 hMo, Mo_R0_20 hMo, Mo_R0_21 hMo, Mo_R0_22 hMo, Mo_R0_26 hMo, Mo_R0_27 hMo, Mo_R0_28 hMo, Mo_R0_31 hMo, Mo_R0_34 hMo, Mo_R0_35 hMo, Mo_R0_36 hMo, Mo_R0_39 hMo, Mo_R0_42 hMo, Mo_R0_43 hMo, Mo_R0_46 hMo]; omega))) only [Ev_unf, Nat.add_sub_cancel, Nat.add_sub_cancel_left, EvC_0, enT, enL, Value.category, List.replicate, List.length_cons, List.length_nil, List.map_cons, List.map_nil, List.sum_cons, List.sum_nil, Nat.reduceAdd, Nat.reduceSub, Nat.reduceMul, Nat.zero_add, Nat.add_zero, Nat.reduceLeDiff, List.cons_append, List.nil_append, List.append_nil, Option.toList, exists_eq_left, Nat.reduceEqDiff, reduceIte, Int.reduceNeg, Int.reduceLE, Int.reduceLT, and_self, Int.reduceAdd, Int.reduceToNat, Int.cast_ofNat_Int, ofI_nat, ofI_m1, nI_ad, nI_mul, nI_sub, nI_eqi, nI_lti, nI_lei, nI_eq0, nI_lt0, nI_le0, nI_0lt, nI_0le, nI_m1, nI_dc, bi_0, bi_n0, bi_z, nr_i, va_rf_some, va_rf_none, Bool.not_eq_true, Bool.not_eq_false, Bool.false_eq_true, Bool.true_eq_false, eq_self, not_true_eq_false, not_false_eq_true, false_and, true_and, and_true, and_false, if_false, if_true, ite_r, ite_p, ite_not, gK_sI, gK_sJ, gK_sR, gK_cI, gK_cR, gK_nw, gK_wI, gK_wJ, gK_pZ, gK_pB, gK_pY, gK_bW, gK_snpM, gN_sI, gN_sJ, gN_sR, gN_cI, gN_cR, gN_nw, gN_wI, gN_wJ, gN_pZ, gN_pB, gN_pY, gN_bW, gN_snpM, gR_sI, gR_sJ, gR_sR, gR_cI, gR_cR, gR_nw, gR_wI, gR_wJ, gR_pZ, gR_pB, gR_pY, gR_bW, gR_snpM, dX9_take_0, E_aload_n0, E_nload_n0, dX9_take_1, f9_85_8, dX9_take_4, E_istore_n1, dX9_take_5, dX9_take_6, E_iconst, dX9_take_7, p9_85_8, dX9_take_10, E_iload_n1, dX9_take_11, E_ireturn, e, nI_z0]
  have em : sI (sI (sI (sI (sI (sI mm y 0 0) y 2 0) y 3 (nI n)) y 4 (nI lim)) y 10 0) y 5 0 = mdM (bgM mm y n lim) y (u1 (u1 (gI mm y) 10 0) 5 0) (gJ mm y 12) := by
    have e1 : mdM (bgM mm y n lim) y (gI mm y) (gJ mm y 12) = bgM mm y n lim := by
      have := md_self (bgM mm y n lim) y
      have e2 : ∀ j, 5 ≤ j ∧ j < 14 → gI (bgM mm y n lim) y j = gI mm y j := fun j hj => bg_o (by omega)
      rw [← this]
      refine Prod.ext ?_ (Prod.ext ?_ rfl)
      · funext c j
        show (if c = y ∧ 5 ≤ j ∧ j < 14 then gI mm y j else if c = y ∧ 5 ≤ j ∧ j < 14 then gI (bgM mm y n lim) y j else (bgM mm y n lim).1 c j) = (if c = y ∧ 5 ≤ j ∧ j < 14 then gI (bgM mm y n lim) y j else (bgM mm y n lim).1 c j)
        by_cases c1 : c = y ∧ 5 ≤ j ∧ j < 14
        · rw [if_pos c1, if_pos c1, e2 j c1.2]
        · rw [if_neg c1, if_neg c1]
      · funext c j
        show (if c = y ∧ j = 12 then gJ mm y 12 else if c = y ∧ j = 12 then gJ (bgM mm y n lim) y 12 else (bgM mm y n lim).2.1 c j) = (if c = y ∧ j = 12 then gJ (bgM mm y n lim) y 12 else (bgM mm y n lim).2.1 c j)
        by_cases c1 : c = y ∧ j = 12
        · rw [if_pos c1, if_pos c1]; rfl
        · rw [if_neg c1, if_neg c1]
    rw [← md_s (by omega), ← md_s (by omega), e1]
    rfl
  rw [wX9_begin (by omega) rfl]
  have hK8 : gK (mdM (bgM mm y n lim) y (u1 (u1 (gI mm y) 10 0) 5 0) (gJ mm y 12)) y = 8 := Mo_K0 hMo
  simp (disch := (first | exact hK8 | exact absurd trivial ‹¬ True› | exact nl_i _ | exact nl_r _ | exact nl_o | exact nl_n | exact nr_i _ | exact bi_z _ | exact nr_z0 | exact nr_z1 | (with_unfolding_all exact Nat.le_of_ble_eq_true rfl) | omega | (simp only [bi_z, bi_01, gK_sI, gK_sJ, gK_sR, gK_cI, gK_cR, gK_nw, gK_wI, gK_wJ, gK_pZ, gK_pB, gK_pY, gK_bW, gK_snpM, gN_sI, gN_sJ, gN_sR, gN_cI, gN_cR, gN_nw, gN_wI, gN_wJ, gN_pZ, gN_pB, gN_pY, gN_bW, gN_snpM, gR_sI, gR_sJ, gR_sR, gR_cI, gR_cR, gR_nw, gR_wI, gR_wJ, gR_pZ, gR_pB, gR_pY, gR_bW, gR_snpM, eq_self, reduceCtorEq, or_true, true_or, or_self, or_false, false_or, and_self, Nat.reduceEqDiff, Nat.reduceLeDiff, Mo_K0 hMo, Mo_K1 hMo, Mo_N1 hMo, Mo_K2 hMo, Mo_N2 hMo, Mo_K3 hMo, Mo_N3 hMo, Mo_K4 hMo, Mo_N4 hMo, Mo_K5 hMo, Mo_N5 hMo, Mo_K6 hMo, Mo_N6 hMo, Mo_K7 hMo, Mo_N7 hMo, Mo_K8 hMo, Mo_N8 hMo, Mo_K9 hMo, Mo_N9 hMo, Mo_K10 hMo, Mo_N10 hMo, Mo_K11 hMo, Mo_N11 hMo, Mo_K12 hMo, Mo_N12 hMo, Mo_K13 hMo, Mo_N13 hMo, Mo_K14 hMo, Mo_N14 hMo, Mo_K15 hMo, Mo_N15 hMo, Mo_K16 hMo, Mo_N16 hMo, Mo_K17 hMo, Mo_N17 hMo, Mo_K18 hMo, Mo_N18 hMo, Mo_K19 hMo, Mo_N19 hMo, Mo_K20 hMo, Mo_N20 hMo, Mo_K21 hMo, Mo_N21 hMo, Mo_R0_1 hMo, Mo_R0_14 hMo, Mo_R0_15 hMo, Mo_R0_16 hMo, Mo_R0_17 hMo, Mo_R0_18 hMo, Mo_R0_19 hMo, Mo_R0_20 hMo, Mo_R0_21 hMo, Mo_R0_22 hMo, Mo_R0_26 hMo, Mo_R0_27 hMo, Mo_R0_28 hMo, Mo_R0_31 hMo, Mo_R0_34 hMo, Mo_R0_35 hMo, Mo_R0_36 hMo, Mo_R0_39 hMo, Mo_R0_42 hMo, Mo_R0_43 hMo, Mo_R0_46 hMo]; done) | (simp only [bi_z, bi_01, gK_sI, gK_sJ, gK_sR, gK_cI, gK_cR, gK_nw, gK_wI, gK_wJ, gK_pZ, gK_pB, gK_pY, gK_bW, gK_snpM, gN_sI, gN_sJ, gN_sR, gN_cI, gN_cR, gN_nw, gN_wI, gN_wJ, gN_pZ, gN_pB, gN_pY, gN_bW, gN_snpM, gR_sI, gR_sJ, gR_sR, gR_cI, gR_cR, gR_nw, gR_wI, gR_wJ, gR_pZ, gR_pB, gR_pY, gR_bW, gR_snpM, eq_self, reduceCtorEq, or_true, true_or, or_self, or_false, false_or, and_self, Nat.reduceEqDiff, Nat.reduceLeDiff, Mo_K0 hMo, Mo_K1 hMo, Mo_N1 hMo, Mo_K2 hMo, Mo_N2 hMo, Mo_K3 hMo, Mo_N3 hMo, Mo_K4 hMo, Mo_N4 hMo, Mo_K5 hMo, Mo_N5 hMo, Mo_K6 hMo, Mo_N6 hMo, Mo_K7 hMo, Mo_N7 hMo, Mo_K8 hMo, Mo_N8 hMo, Mo_K9 hMo, Mo_N9 hMo, Mo_K10 hMo, Mo_N10 hMo, Mo_K11 hMo, Mo_N11 hMo, Mo_K12 hMo, Mo_N12 hMo, Mo_K13 hMo, Mo_N13 hMo, Mo_K14 hMo, Mo_N14 hMo, Mo_K15 hMo, Mo_N15 hMo, Mo_K16 hMo, Mo_N16 hMo, Mo_K17 hMo, Mo_N17 hMo, Mo_K18 hMo, Mo_N18 hMo, Mo_K19 hMo, Mo_N19 hMo, Mo_K20 hMo, Mo_N20 hMo, Mo_K21 hMo, Mo_N21 hMo, Mo_R0_1 hMo, Mo_R0_14 hMo, Mo_R0_15 hMo, Mo_R0_16 hMo, Mo_R0_17 hMo, Mo_R0_18 hMo, Mo_R0_19 hMo, Mo_R0_20 hMo, Mo_R0_21 hMo, Mo_R0_22 hMo, Mo_R0_26 hMo, Mo_R0_27 hMo, Mo_R0_28 hMo, Mo_R0_31 hMo, Mo_R0_34 hMo, Mo_R0_35 hMo, Mo_R0_36 hMo, Mo_R0_39 hMo, Mo_R0_42 hMo, Mo_R0_43 hMo, Mo_R0_46 hMo]; omega))) only [Ev_unf, Nat.add_sub_cancel, Nat.add_sub_cancel_left, EvC_0, enT, enL, Value.category, List.replicate, List.length_cons, List.length_nil, List.map_cons, List.map_nil, List.sum_cons, List.sum_nil, Nat.reduceAdd, Nat.reduceSub, Nat.reduceMul, Nat.zero_add, Nat.add_zero, Nat.reduceLeDiff, List.cons_append, List.nil_append, List.append_nil, Option.toList, exists_eq_left, Nat.reduceEqDiff, reduceIte, Int.reduceNeg, Int.reduceLE, Int.reduceLT, and_self, Int.reduceAdd, Int.reduceToNat, Int.cast_ofNat_Int, ofI_nat, ofI_m1, nI_ad, nI_mul, nI_sub, nI_eqi, nI_lti, nI_lei, nI_eq0, nI_lt0, nI_le0, nI_0lt, nI_0le, nI_m1, nI_dc, bi_0, bi_n0, bi_z, nr_i, va_rf_some, va_rf_none, Bool.not_eq_true, Bool.not_eq_false, Bool.false_eq_true, Bool.true_eq_false, eq_self, not_true_eq_false, not_false_eq_true, false_and, true_and, and_true, and_false, if_false, if_true, ite_r, ite_p, ite_not, gK_sI, gK_sJ, gK_sR, gK_cI, gK_cR, gK_nw, gK_wI, gK_wJ, gK_pZ, gK_pB, gK_pY, gK_bW, gK_snpM, gN_sI, gN_sJ, gN_sR, gN_cI, gN_cR, gN_nw, gN_wI, gN_wJ, gN_pZ, gN_pB, gN_pY, gN_bW, gN_snpM, gR_sI, gR_sJ, gR_sR, gR_cI, gR_cR, gR_nw, gR_wI, gR_wJ, gR_pZ, gR_pB, gR_pY, gR_bW, gR_snpM, dX9_begin_0, E_aload_n0, E_nload_n0, dX9_begin_1, E_iconst, dX9_begin_2, p9_82_8, dX9_begin_5, dX9_begin_6, dX9_begin_7, v9_162_8, dX9_begin_10, p9_92_8, dX9_begin_13, dX9_begin_14, E_iload_n1, dX9_begin_15, p9_101_8, dX9_begin_18, dX9_begin_19, dX9_begin_20, p9_140_8, dX9_begin_23, dX9_begin_24, dX9_begin_25, p9_95_8, dX9_begin_28, dX9_begin_29, v9_156_8, dX9_begin_32, E_return, htk, nI_z0, em, k3]
end QB
