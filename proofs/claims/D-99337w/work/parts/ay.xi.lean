/-! CONSTRUCTORS: the class (printed by gen/xinit.py) -/
def xkT (i : Nat) : Nat := [1, 101, 2, 107, 107, 107, 3, 103, 103, 100, 100, 100, 100, 100, 4, 100, 100, 100, 100, 100, 4, 100, 100, 100, 100, 100, 5, 6, 105, 104, 104, 100, 100, 100, 100, 100, 100, 101, 100, 7, 107, 107, 106].getD i 0
def xnT (i : Nat) : Nat := [0, 940, 0, 5, 23, 3, 0, 7, 6, 7, 7, 6, 6, 42, 0, 42, 6, 7, 7, 7, 0, 42, 6, 7, 7, 7, 0, 0, 40, 8, 8, 7, 7, 7, 7, 7, 7, 48, 4, 0, 5, 4, 2].getD i 0
section XI1
variable {d : Nat} {m : PM} {r : PRes} {x s sl : Nat} {rf : Nat → Nat → Option Nat} {h : Nat → Nat → Int32}
theorem xI_1 (h3 : rf 1 = fun _ => none) (h4 : h 1 = fun _ => 0) : nw (imF m x 1 xkT xnT rf h s) 101 940 sl = imF m x 2 xkT xnT rf h (s + sl) := im_nw2 rfl rfl h3 h4
theorem xI_2 (h3 : rf 2 = fun _ => none) (h4 : h 2 = fun _ => 0) : nw (imF m x 2 xkT xnT rf h s) 2 0 sl = imF m x 3 xkT xnT rf h (s + sl) := im_nw2 rfl rfl h3 h4
theorem xI_3 (h3 : rf 3 = fun _ => none) (h4 : h 3 = fun _ => 0) : nw (imF m x 3 xkT xnT rf h s) 107 5 sl = imF m x 4 xkT xnT rf h (s + sl) := im_nw2 rfl rfl h3 h4
theorem xI_4 (h3 : rf 4 = fun _ => none) (h4 : h 4 = fun _ => 0) : nw (imF m x 4 xkT xnT rf h s) 107 23 sl = imF m x 5 xkT xnT rf h (s + sl) := im_nw2 rfl rfl h3 h4
theorem xI_5 (h3 : rf 5 = fun _ => none) (h4 : h 5 = fun _ => 0) : nw (imF m x 5 xkT xnT rf h s) 107 3 sl = imF m x 6 xkT xnT rf h (s + sl) := im_nw2 rfl rfl h3 h4
theorem xI_6 (h3 : rf 6 = fun _ => none) (h4 : h 6 = fun _ => 0) : nw (imF m x 6 xkT xnT rf h s) 3 0 sl = imF m x 7 xkT xnT rf h (s + sl) := im_nw2 rfl rfl h3 h4
theorem xI_7 (h3 : rf 7 = fun _ => none) (h4 : h 7 = fun _ => 0) : nw (imF m x 7 xkT xnT rf h s) 103 7 sl = imF m x 8 xkT xnT rf h (s + sl) := im_nw2 rfl rfl h3 h4
theorem xI_8 (h3 : rf 8 = fun _ => none) (h4 : h 8 = fun _ => 0) : nw (imF m x 8 xkT xnT rf h s) 103 6 sl = imF m x 9 xkT xnT rf h (s + sl) := im_nw2 rfl rfl h3 h4
theorem xI_9 (h3 : rf 9 = fun _ => none) (h4 : h 9 = fun _ => 0) : nw (imF m x 9 xkT xnT rf h s) 100 7 sl = imF m x 10 xkT xnT rf h (s + sl) := im_nw2 rfl rfl h3 h4
theorem xI_10 (h3 : rf 10 = fun _ => none) (h4 : h 10 = fun _ => 0) : nw (imF m x 10 xkT xnT rf h s) 100 7 sl = imF m x 11 xkT xnT rf h (s + sl) := im_nw2 rfl rfl h3 h4
theorem xI_11 (h3 : rf 11 = fun _ => none) (h4 : h 11 = fun _ => 0) : nw (imF m x 11 xkT xnT rf h s) 100 6 sl = imF m x 12 xkT xnT rf h (s + sl) := im_nw2 rfl rfl h3 h4
theorem xI_12 (h3 : rf 12 = fun _ => none) (h4 : h 12 = fun _ => 0) : nw (imF m x 12 xkT xnT rf h s) 100 6 sl = imF m x 13 xkT xnT rf h (s + sl) := im_nw2 rfl rfl h3 h4
theorem xI_13 (h3 : rf 13 = fun _ => none) (h4 : h 13 = fun _ => 0) : nw (imF m x 13 xkT xnT rf h s) 100 42 sl = imF m x 14 xkT xnT rf h (s + sl) := im_nw2 rfl rfl h3 h4
theorem xI_14 (h3 : rf 14 = fun _ => none) (h4 : h 14 = fun _ => 0) : nw (imF m x 14 xkT xnT rf h s) 4 0 sl = imF m x 15 xkT xnT rf h (s + sl) := im_nw2 rfl rfl h3 h4
theorem xI_15 (h3 : rf 15 = fun _ => none) (h4 : h 15 = fun _ => 0) : nw (imF m x 15 xkT xnT rf h s) 100 42 sl = imF m x 16 xkT xnT rf h (s + sl) := im_nw2 rfl rfl h3 h4
theorem xI_16 (h3 : rf 16 = fun _ => none) (h4 : h 16 = fun _ => 0) : nw (imF m x 16 xkT xnT rf h s) 100 6 sl = imF m x 17 xkT xnT rf h (s + sl) := im_nw2 rfl rfl h3 h4
theorem xI_17 (h3 : rf 17 = fun _ => none) (h4 : h 17 = fun _ => 0) : nw (imF m x 17 xkT xnT rf h s) 100 7 sl = imF m x 18 xkT xnT rf h (s + sl) := im_nw2 rfl rfl h3 h4
theorem xI_18 (h3 : rf 18 = fun _ => none) (h4 : h 18 = fun _ => 0) : nw (imF m x 18 xkT xnT rf h s) 100 7 sl = imF m x 19 xkT xnT rf h (s + sl) := im_nw2 rfl rfl h3 h4
theorem xI_19 (h3 : rf 19 = fun _ => none) (h4 : h 19 = fun _ => 0) : nw (imF m x 19 xkT xnT rf h s) 100 7 sl = imF m x 20 xkT xnT rf h (s + sl) := im_nw2 rfl rfl h3 h4
theorem xI_20 (h3 : rf 20 = fun _ => none) (h4 : h 20 = fun _ => 0) : nw (imF m x 20 xkT xnT rf h s) 4 0 sl = imF m x 21 xkT xnT rf h (s + sl) := im_nw2 rfl rfl h3 h4
theorem xI_21 (h3 : rf 21 = fun _ => none) (h4 : h 21 = fun _ => 0) : nw (imF m x 21 xkT xnT rf h s) 100 42 sl = imF m x 22 xkT xnT rf h (s + sl) := im_nw2 rfl rfl h3 h4
theorem xI_22 (h3 : rf 22 = fun _ => none) (h4 : h 22 = fun _ => 0) : nw (imF m x 22 xkT xnT rf h s) 100 6 sl = imF m x 23 xkT xnT rf h (s + sl) := im_nw2 rfl rfl h3 h4
theorem xI_23 (h3 : rf 23 = fun _ => none) (h4 : h 23 = fun _ => 0) : nw (imF m x 23 xkT xnT rf h s) 100 7 sl = imF m x 24 xkT xnT rf h (s + sl) := im_nw2 rfl rfl h3 h4
theorem xI_24 (h3 : rf 24 = fun _ => none) (h4 : h 24 = fun _ => 0) : nw (imF m x 24 xkT xnT rf h s) 100 7 sl = imF m x 25 xkT xnT rf h (s + sl) := im_nw2 rfl rfl h3 h4
theorem xI_25 (h3 : rf 25 = fun _ => none) (h4 : h 25 = fun _ => 0) : nw (imF m x 25 xkT xnT rf h s) 100 7 sl = imF m x 26 xkT xnT rf h (s + sl) := im_nw2 rfl rfl h3 h4
theorem xI_26 (h3 : rf 26 = fun _ => none) (h4 : h 26 = fun _ => 0) : nw (imF m x 26 xkT xnT rf h s) 5 0 sl = imF m x 27 xkT xnT rf h (s + sl) := im_nw2 rfl rfl h3 h4
theorem xI_27 (h3 : rf 27 = fun _ => none) (h4 : h 27 = fun _ => 0) : nw (imF m x 27 xkT xnT rf h s) 6 0 sl = imF m x 28 xkT xnT rf h (s + sl) := im_nw2 rfl rfl h3 h4
theorem xI_28 (h3 : rf 28 = fun _ => none) (h4 : h 28 = fun _ => 0) : nw (imF m x 28 xkT xnT rf h s) 105 40 sl = imF m x 29 xkT xnT rf h (s + sl) := im_nw2 rfl rfl h3 h4
theorem xI_29 (h3 : rf 29 = fun _ => none) (h4 : h 29 = fun _ => 0) : nw (imF m x 29 xkT xnT rf h s) 104 8 sl = imF m x 30 xkT xnT rf h (s + sl) := im_nw2 rfl rfl h3 h4
theorem xI_30 (h3 : rf 30 = fun _ => none) (h4 : h 30 = fun _ => 0) : nw (imF m x 30 xkT xnT rf h s) 104 8 sl = imF m x 31 xkT xnT rf h (s + sl) := im_nw2 rfl rfl h3 h4
theorem xI_31 (h3 : rf 31 = fun _ => none) (h4 : h 31 = fun _ => 0) : nw (imF m x 31 xkT xnT rf h s) 100 7 sl = imF m x 32 xkT xnT rf h (s + sl) := im_nw2 rfl rfl h3 h4
theorem xI_32 (h3 : rf 32 = fun _ => none) (h4 : h 32 = fun _ => 0) : nw (imF m x 32 xkT xnT rf h s) 100 7 sl = imF m x 33 xkT xnT rf h (s + sl) := im_nw2 rfl rfl h3 h4
theorem xI_33 (h3 : rf 33 = fun _ => none) (h4 : h 33 = fun _ => 0) : nw (imF m x 33 xkT xnT rf h s) 100 7 sl = imF m x 34 xkT xnT rf h (s + sl) := im_nw2 rfl rfl h3 h4
theorem xI_34 (h3 : rf 34 = fun _ => none) (h4 : h 34 = fun _ => 0) : nw (imF m x 34 xkT xnT rf h s) 100 7 sl = imF m x 35 xkT xnT rf h (s + sl) := im_nw2 rfl rfl h3 h4
theorem xI_35 (h3 : rf 35 = fun _ => none) (h4 : h 35 = fun _ => 0) : nw (imF m x 35 xkT xnT rf h s) 100 7 sl = imF m x 36 xkT xnT rf h (s + sl) := im_nw2 rfl rfl h3 h4
theorem xI_36 (h3 : rf 36 = fun _ => none) (h4 : h 36 = fun _ => 0) : nw (imF m x 36 xkT xnT rf h s) 100 7 sl = imF m x 37 xkT xnT rf h (s + sl) := im_nw2 rfl rfl h3 h4
theorem xI_37 (h3 : rf 37 = fun _ => none) (h4 : h 37 = fun _ => 0) : nw (imF m x 37 xkT xnT rf h s) 101 48 sl = imF m x 38 xkT xnT rf h (s + sl) := im_nw2 rfl rfl h3 h4
theorem xI_38 (h3 : rf 38 = fun _ => none) (h4 : h 38 = fun _ => 0) : nw (imF m x 38 xkT xnT rf h s) 100 4 sl = imF m x 39 xkT xnT rf h (s + sl) := im_nw2 rfl rfl h3 h4
theorem xI_39 (h3 : rf 39 = fun _ => none) (h4 : h 39 = fun _ => 0) : nw (imF m x 39 xkT xnT rf h s) 7 0 sl = imF m x 40 xkT xnT rf h (s + sl) := im_nw2 rfl rfl h3 h4
theorem xI_40 (h3 : rf 40 = fun _ => none) (h4 : h 40 = fun _ => 0) : nw (imF m x 40 xkT xnT rf h s) 107 5 sl = imF m x 41 xkT xnT rf h (s + sl) := im_nw2 rfl rfl h3 h4
theorem xI_41 (h3 : rf 41 = fun _ => none) (h4 : h 41 = fun _ => 0) : nw (imF m x 41 xkT xnT rf h s) 107 4 sl = imF m x 42 xkT xnT rf h (s + sl) := im_nw2 rfl rfl h3 h4
theorem xI_42 (h3 : rf 42 = fun _ => none) (h4 : h 42 = fun _ => 0) : nw (imF m x 42 xkT xnT rf h s) 106 2 sl = imF m x 43 xkT xnT rf h (s + sl) := im_nw2 rfl rfl h3 h4
theorem xk_0 : xkT 0 = 1 := rfl
theorem xn_0 : xnT 0 = 0 := rfl
theorem xk_1 : xkT 1 = 101 := rfl
theorem xn_1 : xnT 1 = 940 := rfl
theorem xk_2 : xkT 2 = 2 := rfl
theorem xn_2 : xnT 2 = 0 := rfl
theorem xk_3 : xkT 3 = 107 := rfl
theorem xn_3 : xnT 3 = 5 := rfl
theorem xk_4 : xkT 4 = 107 := rfl
theorem xn_4 : xnT 4 = 23 := rfl
theorem xk_5 : xkT 5 = 107 := rfl
theorem xn_5 : xnT 5 = 3 := rfl
theorem xk_6 : xkT 6 = 3 := rfl
theorem xn_6 : xnT 6 = 0 := rfl
theorem xk_7 : xkT 7 = 103 := rfl
theorem xn_7 : xnT 7 = 7 := rfl
theorem xk_8 : xkT 8 = 103 := rfl
theorem xn_8 : xnT 8 = 6 := rfl
theorem xk_9 : xkT 9 = 100 := rfl
theorem xn_9 : xnT 9 = 7 := rfl
theorem xk_10 : xkT 10 = 100 := rfl
theorem xn_10 : xnT 10 = 7 := rfl
theorem xk_11 : xkT 11 = 100 := rfl
theorem xn_11 : xnT 11 = 6 := rfl
theorem xk_12 : xkT 12 = 100 := rfl
theorem xn_12 : xnT 12 = 6 := rfl
theorem xk_13 : xkT 13 = 100 := rfl
theorem xn_13 : xnT 13 = 42 := rfl
theorem xk_14 : xkT 14 = 4 := rfl
theorem xn_14 : xnT 14 = 0 := rfl
theorem xk_15 : xkT 15 = 100 := rfl
theorem xn_15 : xnT 15 = 42 := rfl
theorem xk_16 : xkT 16 = 100 := rfl
theorem xn_16 : xnT 16 = 6 := rfl
theorem xk_17 : xkT 17 = 100 := rfl
theorem xn_17 : xnT 17 = 7 := rfl
theorem xk_18 : xkT 18 = 100 := rfl
theorem xn_18 : xnT 18 = 7 := rfl
theorem xk_19 : xkT 19 = 100 := rfl
theorem xn_19 : xnT 19 = 7 := rfl
theorem xk_20 : xkT 20 = 4 := rfl
theorem xn_20 : xnT 20 = 0 := rfl
theorem xk_21 : xkT 21 = 100 := rfl
theorem xn_21 : xnT 21 = 42 := rfl
theorem xk_22 : xkT 22 = 100 := rfl
theorem xn_22 : xnT 22 = 6 := rfl
theorem xk_23 : xkT 23 = 100 := rfl
theorem xn_23 : xnT 23 = 7 := rfl
theorem xk_24 : xkT 24 = 100 := rfl
theorem xn_24 : xnT 24 = 7 := rfl
theorem xk_25 : xkT 25 = 100 := rfl
theorem xn_25 : xnT 25 = 7 := rfl
theorem xk_26 : xkT 26 = 5 := rfl
theorem xn_26 : xnT 26 = 0 := rfl
theorem xk_27 : xkT 27 = 6 := rfl
theorem xn_27 : xnT 27 = 0 := rfl
theorem xk_28 : xkT 28 = 105 := rfl
theorem xn_28 : xnT 28 = 40 := rfl
theorem xk_29 : xkT 29 = 104 := rfl
theorem xn_29 : xnT 29 = 8 := rfl
theorem xk_30 : xkT 30 = 104 := rfl
theorem xn_30 : xnT 30 = 8 := rfl
theorem xk_31 : xkT 31 = 100 := rfl
theorem xn_31 : xnT 31 = 7 := rfl
theorem xk_32 : xkT 32 = 100 := rfl
theorem xn_32 : xnT 32 = 7 := rfl
theorem xk_33 : xkT 33 = 100 := rfl
theorem xn_33 : xnT 33 = 7 := rfl
theorem xk_34 : xkT 34 = 100 := rfl
theorem xn_34 : xnT 34 = 7 := rfl
theorem xk_35 : xkT 35 = 100 := rfl
theorem xn_35 : xnT 35 = 7 := rfl
theorem xk_36 : xkT 36 = 100 := rfl
theorem xn_36 : xnT 36 = 7 := rfl
theorem xk_37 : xkT 37 = 101 := rfl
theorem xn_37 : xnT 37 = 48 := rfl
theorem xk_38 : xkT 38 = 100 := rfl
theorem xn_38 : xnT 38 = 4 := rfl
theorem xk_39 : xkT 39 = 7 := rfl
theorem xn_39 : xnT 39 = 0 := rfl
theorem xk_40 : xkT 40 = 107 := rfl
theorem xn_40 : xnT 40 = 5 := rfl
theorem xk_41 : xkT 41 = 107 := rfl
theorem xn_41 : xnT 41 = 4 := rfl
theorem xk_42 : xkT 42 = 106 := rfl
theorem xn_42 : xnT 42 = 2 := rfl
theorem u2_eq {α : Type} {f : Nat → Nat → α} {i j : Nat} {v : α} : u2 f i j v i j = v := if_pos ⟨rfl, rfl⟩
theorem u2_nj {α : Type} {f : Nat → Nat → α} {i j a c : Nat} {v : α} (h : ¬ (a = i ∧ c = j)) : u2 f i j v a c = f a c := if_neg h
theorem im_oK {M : PM} {k c : Nat} {KT NT : Nat → Nat} (hc : c < x ∨ x + k ≤ c) : gK (imF M x k KT NT rf h s) c = gK M c := (im_o hc).1
theorem xS_14 (hr : ∀ i, 15 ≤ i → rf i = fun _ => none) (hh : ∀ i, 15 ≤ i → h i = fun _ => 0) (hX : x + 43 < 900000) (hd : 9 ≤ d) : Run d 63 [.ref (x + 14)] (imF m x 15 xkT xnT rf h s) r ↔ r = ((0, none), imF m x 20 xkT xnT (u2 (u2 (u2 (u2 (u2 rf 14 0 (some (x + 15))) 14 1 (some (x + 16))) 14 2 (some (x + 17))) 14 3 (some (x + 18))) 14 4 (some (x + 19))) h (s + 42 + 6 + 7 + 7 + 7)) := by
  rw [wX4_init (by omega) rfl]
  simp (disch := (first | exact absurd trivial ‹¬ True› | exact nl_i _ | exact nl_r _ | exact nl_o | exact nl_n | exact nr_i _ | exact bi_z _ | exact nr_z0 | exact nr_z1 | (with_unfolding_all exact Nat.le_of_ble_eq_true rfl) | omega | (simp only [bi_z, bi_01, gK_sI, gK_sJ, gK_sR, gK_cI, gK_cR, gK_nw, gK_wI, gK_wJ, gK_pZ, gK_pB, gK_pY, gK_bW, gK_snpM, gN_sI, gN_sJ, gN_sR, gN_cI, gN_cR, gN_nw, gN_wI, gN_wJ, gN_pZ, gN_pB, gN_pY, gN_bW, gN_snpM, gR_sI, gR_sJ, gR_sR, gR_cI, gR_cR, gR_nw, gR_wI, gR_wJ, gR_pZ, gR_pB, gR_pY, gR_bW, gR_snpM, eq_self, reduceCtorEq, or_true, true_or, or_self, or_false, false_or, and_self, Nat.reduceEqDiff, Nat.reduceLeDiff, im_X, im_Kz, xk_0]; done) | (simp (disch := omega) only [bi_z, bi_01, gK_sI, gK_sJ, gK_sR, gK_cI, gK_cR, gK_nw, gK_wI, gK_wJ, gK_pZ, gK_pB, gK_pY, gK_bW, gK_snpM, gN_sI, gN_sJ, gN_sR, gN_cI, gN_cR, gN_nw, gN_wI, gN_wJ, gN_pZ, gN_pB, gN_pY, gN_bW, gN_snpM, gR_sI, gR_sJ, gR_sR, gR_cI, gR_cR, gR_nw, gR_wI, gR_wJ, gR_pZ, gR_pB, gR_pY, gR_bW, gR_snpM, eq_self, reduceCtorEq, or_true, true_or, or_self, or_false, false_or, and_self, Nat.reduceEqDiff, Nat.reduceLeDiff, im_X, im_K, im_N, xk_0, xn_0, xk_1, xn_1, xk_2, xn_2, xk_3, xn_3, xk_4, xn_4, xk_5, xn_5, xk_6, xn_6, xk_7, xn_7, xk_8, xn_8, xk_9, xn_9, xk_10, xn_10, xk_11, xn_11, xk_12, xn_12, xk_13, xn_13, xk_14, xn_14, xk_15, xn_15, xk_16, xn_16, xk_17, xn_17, xk_18, xn_18, xk_19, xn_19, xk_20, xn_20, xk_21, xn_21, xk_22, xn_22, xk_23, xn_23, xk_24, xn_24, xk_25, xn_25, xk_26, xn_26, xk_27, xn_27, xk_28, xn_28, xk_29, xn_29, xk_30, xn_30, xk_31, xn_31, xk_32, xn_32, xk_33, xn_33, xk_34, xn_34, xk_35, xn_35, xk_36, xn_36, xk_37, xn_37, xk_38, xn_38, xk_39, xn_39, xk_40, xn_40, xk_41, xn_41, xk_42, xn_42]; done) | (simp (disch := omega) only [im_X, im_K, im_N, xk_0, xn_0, xk_1, xn_1, xk_2, xn_2, xk_3, xn_3, xk_4, xn_4, xk_5, xn_5, xk_6, xn_6, xk_7, xn_7, xk_8, xn_8, xk_9, xn_9, xk_10, xn_10, xk_11, xn_11, xk_12, xn_12, xk_13, xn_13, xk_14, xn_14, xk_15, xn_15, xk_16, xn_16, xk_17, xn_17, xk_18, xn_18, xk_19, xn_19, xk_20, xn_20, xk_21, xn_21, xk_22, xn_22, xk_23, xn_23, xk_24, xn_24, xk_25, xn_25, xk_26, xn_26, xk_27, xn_27, xk_28, xn_28, xk_29, xn_29, xk_30, xn_30, xk_31, xn_31, xk_32, xn_32, xk_33, xn_33, xk_34, xn_34, xk_35, xn_35, xk_36, xn_36, xk_37, xn_37, xk_38, xn_38, xk_39, xn_39, xk_40, xn_40, xk_41, xn_41, xk_42, xn_42]; omega) | (simp (disch := omega) only [u2_ne, hr, hh]; done) | decide)) only [Ev_unf, Nat.add_sub_cancel, Nat.add_sub_cancel_left, EvC_0, enT, enL, Value.category, List.replicate, List.length_cons, List.length_nil, List.map_cons, List.map_nil, List.sum_cons, List.sum_nil, Nat.reduceAdd, Nat.reduceSub, Nat.reduceMul, Nat.zero_add, Nat.add_zero, Nat.reduceLeDiff, List.cons_append, List.nil_append, List.append_nil, Option.toList, exists_eq_left, Nat.reduceEqDiff, reduceIte, Int.reduceNeg, Int.reduceLE, Int.reduceLT, and_self, Int.reduceAdd, Int.reduceToNat, Int.cast_ofNat_Int, ofI_nat, ofI_m1, nI_ad, nI_mul, nI_sub, nI_eqi, nI_lti, nI_lei, nI_eq0, nI_lt0, nI_le0, nI_0lt, nI_0le, nI_m1, nI_dc, bi_0, bi_n0, bi_z, nr_i, va_rf_some, va_rf_none, Bool.not_eq_true, Bool.not_eq_false, Bool.false_eq_true, Bool.true_eq_false, eq_self, not_true_eq_false, not_false_eq_true, false_and, true_and, and_true, and_false, if_false, if_true, ite_r, ite_p, ite_not, gK_sI, gK_sJ, gK_sR, gK_cI, gK_cR, gK_nw, gK_wI, gK_wJ, gK_pZ, gK_pB, gK_pY, gK_bW, gK_snpM, gN_sI, gN_sJ, gN_sR, gN_cI, gN_cR, gN_nw, gN_wI, gN_wJ, gN_pZ, gN_pB, gN_pY, gN_bW, gN_snpM, gR_sI, gR_sJ, gR_sR, gR_cI, gR_cR, gR_nw, gR_wI, gR_wJ, gR_pZ, gR_pB, gR_pY, gR_bW, gR_snpM, dX4_init_0, E_aload_n0, E_nload_n0, dX4_init_1, v104_3_4, dX4_init_4, dX4_init_5, E_bipush, dX4_init_7, na_int, dX4_init_9, p104_9_4, p104_9_4n, dX4_init_12, dX4_init_13, dX4_init_15, dX4_init_17, p104_15_4, p104_15_4n, dX4_init_20, dX4_init_21, dX4_init_23, dX4_init_25, p104_18_4, p104_18_4n, dX4_init_28, dX4_init_29, dX4_init_31, dX4_init_33, p104_21_4, p104_21_4n, dX4_init_36, dX4_init_37, dX4_init_39, dX4_init_41, p104_24_4, p104_24_4n, dX4_init_44, E_return, r_objInit, im_X, im_K, xk_0, xn_0, xk_1, xn_1, xk_2, xn_2, xk_3, xn_3, xk_4, xn_4, xk_5, xn_5, xk_6, xn_6, xk_7, xn_7, xk_8, xn_8, xk_9, xn_9, xk_10, xn_10, xk_11, xn_11, xk_12, xn_12, xk_13, xn_13, xk_14, xn_14, xk_15, xn_15, xk_16, xn_16, xk_17, xn_17, xk_18, xn_18, xk_19, xn_19, xk_20, xn_20, xk_21, xn_21, xk_22, xn_22, xk_23, xn_23, xk_24, xn_24, xk_25, xn_25, xk_26, xn_26, xk_27, xn_27, xk_28, xn_28, xk_29, xn_29, xk_30, xn_30, xk_31, xn_31, xk_32, xn_32, xk_33, xn_33, xk_34, xn_34, xk_35, xn_35, xk_36, xn_36, xk_37, xn_37, xk_38, xn_38, xk_39, xn_39, xk_40, xn_40, xk_41, xn_41, xk_42, xn_42, xI_1, xI_2, xI_3, xI_4, xI_5, xI_6, xI_7, xI_8, xI_9, xI_10, xI_11, xI_12, xI_13, xI_14, xI_15, xI_16, xI_17, xI_18, xI_19, xI_20, xI_21, xI_22, xI_23, xI_24, xI_25, xI_26, xI_27, xI_28, xI_29, xI_30, xI_31, xI_32, xI_33, xI_34, xI_35, xI_36, xI_37, xI_38, xI_39, xI_40, xI_41, xI_42, im_sR]
theorem xS_20 (hr : ∀ i, 21 ≤ i → rf i = fun _ => none) (hh : ∀ i, 21 ≤ i → h i = fun _ => 0) (hX : x + 43 < 900000) (hd : 9 ≤ d) : Run d 63 [.ref (x + 20)] (imF m x 21 xkT xnT rf h s) r ↔ r = ((0, none), imF m x 26 xkT xnT (u2 (u2 (u2 (u2 (u2 rf 20 0 (some (x + 21))) 20 1 (some (x + 22))) 20 2 (some (x + 23))) 20 3 (some (x + 24))) 20 4 (some (x + 25))) h (s + 42 + 6 + 7 + 7 + 7)) := by
  rw [wX4_init (by omega) rfl]
  simp (disch := (first | exact absurd trivial ‹¬ True› | exact nl_i _ | exact nl_r _ | exact nl_o | exact nl_n | exact nr_i _ | exact bi_z _ | exact nr_z0 | exact nr_z1 | (with_unfolding_all exact Nat.le_of_ble_eq_true rfl) | omega | (simp only [bi_z, bi_01, gK_sI, gK_sJ, gK_sR, gK_cI, gK_cR, gK_nw, gK_wI, gK_wJ, gK_pZ, gK_pB, gK_pY, gK_bW, gK_snpM, gN_sI, gN_sJ, gN_sR, gN_cI, gN_cR, gN_nw, gN_wI, gN_wJ, gN_pZ, gN_pB, gN_pY, gN_bW, gN_snpM, gR_sI, gR_sJ, gR_sR, gR_cI, gR_cR, gR_nw, gR_wI, gR_wJ, gR_pZ, gR_pB, gR_pY, gR_bW, gR_snpM, eq_self, reduceCtorEq, or_true, true_or, or_self, or_false, false_or, and_self, Nat.reduceEqDiff, Nat.reduceLeDiff, im_X, im_Kz, xk_0]; done) | (simp (disch := omega) only [bi_z, bi_01, gK_sI, gK_sJ, gK_sR, gK_cI, gK_cR, gK_nw, gK_wI, gK_wJ, gK_pZ, gK_pB, gK_pY, gK_bW, gK_snpM, gN_sI, gN_sJ, gN_sR, gN_cI, gN_cR, gN_nw, gN_wI, gN_wJ, gN_pZ, gN_pB, gN_pY, gN_bW, gN_snpM, gR_sI, gR_sJ, gR_sR, gR_cI, gR_cR, gR_nw, gR_wI, gR_wJ, gR_pZ, gR_pB, gR_pY, gR_bW, gR_snpM, eq_self, reduceCtorEq, or_true, true_or, or_self, or_false, false_or, and_self, Nat.reduceEqDiff, Nat.reduceLeDiff, im_X, im_K, im_N, xk_0, xn_0, xk_1, xn_1, xk_2, xn_2, xk_3, xn_3, xk_4, xn_4, xk_5, xn_5, xk_6, xn_6, xk_7, xn_7, xk_8, xn_8, xk_9, xn_9, xk_10, xn_10, xk_11, xn_11, xk_12, xn_12, xk_13, xn_13, xk_14, xn_14, xk_15, xn_15, xk_16, xn_16, xk_17, xn_17, xk_18, xn_18, xk_19, xn_19, xk_20, xn_20, xk_21, xn_21, xk_22, xn_22, xk_23, xn_23, xk_24, xn_24, xk_25, xn_25, xk_26, xn_26, xk_27, xn_27, xk_28, xn_28, xk_29, xn_29, xk_30, xn_30, xk_31, xn_31, xk_32, xn_32, xk_33, xn_33, xk_34, xn_34, xk_35, xn_35, xk_36, xn_36, xk_37, xn_37, xk_38, xn_38, xk_39, xn_39, xk_40, xn_40, xk_41, xn_41, xk_42, xn_42]; done) | (simp (disch := omega) only [im_X, im_K, im_N, xk_0, xn_0, xk_1, xn_1, xk_2, xn_2, xk_3, xn_3, xk_4, xn_4, xk_5, xn_5, xk_6, xn_6, xk_7, xn_7, xk_8, xn_8, xk_9, xn_9, xk_10, xn_10, xk_11, xn_11, xk_12, xn_12, xk_13, xn_13, xk_14, xn_14, xk_15, xn_15, xk_16, xn_16, xk_17, xn_17, xk_18, xn_18, xk_19, xn_19, xk_20, xn_20, xk_21, xn_21, xk_22, xn_22, xk_23, xn_23, xk_24, xn_24, xk_25, xn_25, xk_26, xn_26, xk_27, xn_27, xk_28, xn_28, xk_29, xn_29, xk_30, xn_30, xk_31, xn_31, xk_32, xn_32, xk_33, xn_33, xk_34, xn_34, xk_35, xn_35, xk_36, xn_36, xk_37, xn_37, xk_38, xn_38, xk_39, xn_39, xk_40, xn_40, xk_41, xn_41, xk_42, xn_42]; omega) | (simp (disch := omega) only [u2_ne, hr, hh]; done) | decide)) only [Ev_unf, Nat.add_sub_cancel, Nat.add_sub_cancel_left, EvC_0, enT, enL, Value.category, List.replicate, List.length_cons, List.length_nil, List.map_cons, List.map_nil, List.sum_cons, List.sum_nil, Nat.reduceAdd, Nat.reduceSub, Nat.reduceMul, Nat.zero_add, Nat.add_zero, Nat.reduceLeDiff, List.cons_append, List.nil_append, List.append_nil, Option.toList, exists_eq_left, Nat.reduceEqDiff, reduceIte, Int.reduceNeg, Int.reduceLE, Int.reduceLT, and_self, Int.reduceAdd, Int.reduceToNat, Int.cast_ofNat_Int, ofI_nat, ofI_m1, nI_ad, nI_mul, nI_sub, nI_eqi, nI_lti, nI_lei, nI_eq0, nI_lt0, nI_le0, nI_0lt, nI_0le, nI_m1, nI_dc, bi_0, bi_n0, bi_z, nr_i, va_rf_some, va_rf_none, Bool.not_eq_true, Bool.not_eq_false, Bool.false_eq_true, Bool.true_eq_false, eq_self, not_true_eq_false, not_false_eq_true, false_and, true_and, and_true, and_false, if_false, if_true, ite_r, ite_p, ite_not, gK_sI, gK_sJ, gK_sR, gK_cI, gK_cR, gK_nw, gK_wI, gK_wJ, gK_pZ, gK_pB, gK_pY, gK_bW, gK_snpM, gN_sI, gN_sJ, gN_sR, gN_cI, gN_cR, gN_nw, gN_wI, gN_wJ, gN_pZ, gN_pB, gN_pY, gN_bW, gN_snpM, gR_sI, gR_sJ, gR_sR, gR_cI, gR_cR, gR_nw, gR_wI, gR_wJ, gR_pZ, gR_pB, gR_pY, gR_bW, gR_snpM, dX4_init_0, E_aload_n0, E_nload_n0, dX4_init_1, v104_3_4, dX4_init_4, dX4_init_5, E_bipush, dX4_init_7, na_int, dX4_init_9, p104_9_4, p104_9_4n, dX4_init_12, dX4_init_13, dX4_init_15, dX4_init_17, p104_15_4, p104_15_4n, dX4_init_20, dX4_init_21, dX4_init_23, dX4_init_25, p104_18_4, p104_18_4n, dX4_init_28, dX4_init_29, dX4_init_31, dX4_init_33, p104_21_4, p104_21_4n, dX4_init_36, dX4_init_37, dX4_init_39, dX4_init_41, p104_24_4, p104_24_4n, dX4_init_44, E_return, r_objInit, im_X, im_K, xk_0, xn_0, xk_1, xn_1, xk_2, xn_2, xk_3, xn_3, xk_4, xn_4, xk_5, xn_5, xk_6, xn_6, xk_7, xn_7, xk_8, xn_8, xk_9, xn_9, xk_10, xn_10, xk_11, xn_11, xk_12, xn_12, xk_13, xn_13, xk_14, xn_14, xk_15, xn_15, xk_16, xn_16, xk_17, xn_17, xk_18, xn_18, xk_19, xn_19, xk_20, xn_20, xk_21, xn_21, xk_22, xn_22, xk_23, xn_23, xk_24, xn_24, xk_25, xn_25, xk_26, xn_26, xk_27, xn_27, xk_28, xn_28, xk_29, xn_29, xk_30, xn_30, xk_31, xn_31, xk_32, xn_32, xk_33, xn_33, xk_34, xn_34, xk_35, xn_35, xk_36, xn_36, xk_37, xn_37, xk_38, xn_38, xk_39, xn_39, xk_40, xn_40, xk_41, xn_41, xk_42, xn_42, xI_1, xI_2, xI_3, xI_4, xI_5, xI_6, xI_7, xI_8, xI_9, xI_10, xI_11, xI_12, xI_13, xI_14, xI_15, xI_16, xI_17, xI_18, xI_19, xI_20, xI_21, xI_22, xI_23, xI_24, xI_25, xI_26, xI_27, xI_28, xI_29, xI_30, xI_31, xI_32, xI_33, xI_34, xI_35, xI_36, xI_37, xI_38, xI_39, xI_40, xI_41, xI_42, im_sR]
theorem xB_6 (hr : ∀ i, 7 ≤ i → rf i = fun _ => none) (hh : ∀ i, 7 ≤ i → h i = fun _ => 0) (hX : x + 43 < 900000) (hd : 9 ≤ d) : Run d 60 [.ref (x + 6)] (imF m x 7 xkT xnT rf h s) r ↔ r = ((0, none), imF m x 14 xkT xnT (u2 (u2 (u2 (u2 (u2 (u2 (u2 rf 6 0 (some (x + 7))) 6 1 (some (x + 8))) 6 2 (some (x + 9))) 6 3 (some (x + 10))) 6 4 (some (x + 11))) 6 5 (some (x + 12))) 6 6 (some (x + 13))) h (s + 7 + 6 + 7 + 7 + 6 + 6 + 42)) := by
  rw [wX3_init (by omega) rfl]
  simp (disch := (first | exact absurd trivial ‹¬ True› | exact nl_i _ | exact nl_r _ | exact nl_o | exact nl_n | exact nr_i _ | exact bi_z _ | exact nr_z0 | exact nr_z1 | (with_unfolding_all exact Nat.le_of_ble_eq_true rfl) | omega | (simp only [bi_z, bi_01, gK_sI, gK_sJ, gK_sR, gK_cI, gK_cR, gK_nw, gK_wI, gK_wJ, gK_pZ, gK_pB, gK_pY, gK_bW, gK_snpM, gN_sI, gN_sJ, gN_sR, gN_cI, gN_cR, gN_nw, gN_wI, gN_wJ, gN_pZ, gN_pB, gN_pY, gN_bW, gN_snpM, gR_sI, gR_sJ, gR_sR, gR_cI, gR_cR, gR_nw, gR_wI, gR_wJ, gR_pZ, gR_pB, gR_pY, gR_bW, gR_snpM, eq_self, reduceCtorEq, or_true, true_or, or_self, or_false, false_or, and_self, Nat.reduceEqDiff, Nat.reduceLeDiff, im_X, im_Kz, xk_0]; done) | (simp (disch := omega) only [bi_z, bi_01, gK_sI, gK_sJ, gK_sR, gK_cI, gK_cR, gK_nw, gK_wI, gK_wJ, gK_pZ, gK_pB, gK_pY, gK_bW, gK_snpM, gN_sI, gN_sJ, gN_sR, gN_cI, gN_cR, gN_nw, gN_wI, gN_wJ, gN_pZ, gN_pB, gN_pY, gN_bW, gN_snpM, gR_sI, gR_sJ, gR_sR, gR_cI, gR_cR, gR_nw, gR_wI, gR_wJ, gR_pZ, gR_pB, gR_pY, gR_bW, gR_snpM, eq_self, reduceCtorEq, or_true, true_or, or_self, or_false, false_or, and_self, Nat.reduceEqDiff, Nat.reduceLeDiff, im_X, im_K, im_N, xk_0, xn_0, xk_1, xn_1, xk_2, xn_2, xk_3, xn_3, xk_4, xn_4, xk_5, xn_5, xk_6, xn_6, xk_7, xn_7, xk_8, xn_8, xk_9, xn_9, xk_10, xn_10, xk_11, xn_11, xk_12, xn_12, xk_13, xn_13, xk_14, xn_14, xk_15, xn_15, xk_16, xn_16, xk_17, xn_17, xk_18, xn_18, xk_19, xn_19, xk_20, xn_20, xk_21, xn_21, xk_22, xn_22, xk_23, xn_23, xk_24, xn_24, xk_25, xn_25, xk_26, xn_26, xk_27, xn_27, xk_28, xn_28, xk_29, xn_29, xk_30, xn_30, xk_31, xn_31, xk_32, xn_32, xk_33, xn_33, xk_34, xn_34, xk_35, xn_35, xk_36, xn_36, xk_37, xn_37, xk_38, xn_38, xk_39, xn_39, xk_40, xn_40, xk_41, xn_41, xk_42, xn_42]; done) | (simp (disch := omega) only [im_X, im_K, im_N, xk_0, xn_0, xk_1, xn_1, xk_2, xn_2, xk_3, xn_3, xk_4, xn_4, xk_5, xn_5, xk_6, xn_6, xk_7, xn_7, xk_8, xn_8, xk_9, xn_9, xk_10, xn_10, xk_11, xn_11, xk_12, xn_12, xk_13, xn_13, xk_14, xn_14, xk_15, xn_15, xk_16, xn_16, xk_17, xn_17, xk_18, xn_18, xk_19, xn_19, xk_20, xn_20, xk_21, xn_21, xk_22, xn_22, xk_23, xn_23, xk_24, xn_24, xk_25, xn_25, xk_26, xn_26, xk_27, xn_27, xk_28, xn_28, xk_29, xn_29, xk_30, xn_30, xk_31, xn_31, xk_32, xn_32, xk_33, xn_33, xk_34, xn_34, xk_35, xn_35, xk_36, xn_36, xk_37, xn_37, xk_38, xn_38, xk_39, xn_39, xk_40, xn_40, xk_41, xn_41, xk_42, xn_42]; omega) | (simp (disch := omega) only [u2_ne, hr, hh]; done) | decide)) only [Ev_unf, Nat.add_sub_cancel, Nat.add_sub_cancel_left, EvC_0, enT, enL, Value.category, List.replicate, List.length_cons, List.length_nil, List.map_cons, List.map_nil, List.sum_cons, List.sum_nil, Nat.reduceAdd, Nat.reduceSub, Nat.reduceMul, Nat.zero_add, Nat.add_zero, Nat.reduceLeDiff, List.cons_append, List.nil_append, List.append_nil, Option.toList, exists_eq_left, Nat.reduceEqDiff, reduceIte, Int.reduceNeg, Int.reduceLE, Int.reduceLT, and_self, Int.reduceAdd, Int.reduceToNat, Int.cast_ofNat_Int, ofI_nat, ofI_m1, nI_ad, nI_mul, nI_sub, nI_eqi, nI_lti, nI_lei, nI_eq0, nI_lt0, nI_le0, nI_0lt, nI_0le, nI_m1, nI_dc, bi_0, bi_n0, bi_z, nr_i, va_rf_some, va_rf_none, Bool.not_eq_true, Bool.not_eq_false, Bool.false_eq_true, Bool.true_eq_false, eq_self, not_true_eq_false, not_false_eq_true, false_and, true_and, and_true, and_false, if_false, if_true, ite_r, ite_p, ite_not, gK_sI, gK_sJ, gK_sR, gK_cI, gK_cR, gK_nw, gK_wI, gK_wJ, gK_pZ, gK_pB, gK_pY, gK_bW, gK_snpM, gN_sI, gN_sJ, gN_sR, gN_cI, gN_cR, gN_nw, gN_wI, gN_wJ, gN_pZ, gN_pB, gN_pY, gN_bW, gN_snpM, gR_sI, gR_sJ, gR_sR, gR_cI, gR_cR, gR_nw, gR_wI, gR_wJ, gR_pZ, gR_pB, gR_pY, gR_bW, gR_snpM, dX3_init_0, E_aload_n0, E_nload_n0, dX3_init_1, v103_3_3, dX3_init_4, dX3_init_5, E_bipush, dX3_init_7, na_long, dX3_init_9, p103_9_3, p103_9_3n, dX3_init_12, dX3_init_13, dX3_init_15, dX3_init_17, p103_15_3, p103_15_3n, dX3_init_20, dX3_init_21, dX3_init_23, na_int, dX3_init_25, p103_18_3, p103_18_3n, dX3_init_28, dX3_init_29, dX3_init_31, dX3_init_33, p103_22_3, p103_22_3n, dX3_init_36, dX3_init_37, dX3_init_39, dX3_init_41, p103_25_3, p103_25_3n, dX3_init_44, dX3_init_45, dX3_init_47, dX3_init_49, p103_28_3, p103_28_3n, dX3_init_52, dX3_init_53, dX3_init_55, dX3_init_57, p103_31_3, p103_31_3n, dX3_init_60, E_return, r_objInit, im_X, im_K, xk_0, xn_0, xk_1, xn_1, xk_2, xn_2, xk_3, xn_3, xk_4, xn_4, xk_5, xn_5, xk_6, xn_6, xk_7, xn_7, xk_8, xn_8, xk_9, xn_9, xk_10, xn_10, xk_11, xn_11, xk_12, xn_12, xk_13, xn_13, xk_14, xn_14, xk_15, xn_15, xk_16, xn_16, xk_17, xn_17, xk_18, xn_18, xk_19, xn_19, xk_20, xn_20, xk_21, xn_21, xk_22, xn_22, xk_23, xn_23, xk_24, xn_24, xk_25, xn_25, xk_26, xn_26, xk_27, xn_27, xk_28, xn_28, xk_29, xn_29, xk_30, xn_30, xk_31, xn_31, xk_32, xn_32, xk_33, xn_33, xk_34, xn_34, xk_35, xn_35, xk_36, xn_36, xk_37, xn_37, xk_38, xn_38, xk_39, xn_39, xk_40, xn_40, xk_41, xn_41, xk_42, xn_42, xI_1, xI_2, xI_3, xI_4, xI_5, xI_6, xI_7, xI_8, xI_9, xI_10, xI_11, xI_12, xI_13, xI_14, xI_15, xI_16, xI_17, xI_18, xI_19, xI_20, xI_21, xI_22, xI_23, xI_24, xI_25, xI_26, xI_27, xI_28, xI_29, xI_30, xI_31, xI_32, xI_33, xI_34, xI_35, xI_36, xI_37, xI_38, xI_39, xI_40, xI_41, xI_42, im_sR]
end XI1
