/-! CONSTRUCTORS: new cells one behind the other -/
def u2 {α : Type} (f : Nat → Nat → α) (i j : Nat) (v : α) : Nat → Nat → α := fun a c => if a = i ∧ c = j then v else f a c
/-- k cells from x on are new -/
def imF (M : PM) (x k : Nat) (KT NT : Nat → Nat) (rf : Nat → Nat → Option Nat) (h : Nat → Nat → Int32) (s : Nat) : PM := (fun c j => if x ≤ c ∧ c < x + k then h (c - x) j else M.1 c j, fun c j => if x ≤ c ∧ c < x + k then 0 else M.2.1 c j, fun c j => if x ≤ c ∧ c < x + k then rf (c - x) j else M.2.2.1 c j, fun c => if x ≤ c ∧ c < x + k then KT (c - x) else M.2.2.2.1 c, fun c => if x ≤ c ∧ c < x + k then NT (c - x) else M.2.2.2.2.1 c, x + k, s)
section IN
variable {M : PM} {x k i j s K N sl : Nat} {KT NT : Nat → Nat} {rf : Nat → Nat → Option Nat} {h : Nat → Nat → Int32} {v : Int32} {o : Option Nat}
theorem im_X : gX (imF M x k KT NT rf h s) = x + k := rfl
theorem im_K (hi : i < k) : gK (imF M x k KT NT rf h s) (x + i) = KT i := by
  show (if x ≤ x + i ∧ x + i < x + k then KT (x + i - x) else _) = _
  rw [if_pos (by omega), Nat.add_sub_cancel_left]
theorem im_K0 (hi : 0 < k) : gK (imF M x k KT NT rf h s) x = KT 0 := im_K (i := 0) hi
theorem im_Kz : gK (imF M x (k + 1) KT NT rf h s) x = KT 0 := im_K (i := 0) (by omega)
theorem im_N (hi : i < k) : gN (imF M x k KT NT rf h s) (x + i) = NT i := by
  show (if x ≤ x + i ∧ x + i < x + k then NT (x + i - x) else _) = _
  rw [if_pos (by omega), Nat.add_sub_cancel_left]
theorem im_R (hi : i < k) : gR (imF M x k KT NT rf h s) (x + i) j = rf i j := by
  show (if x ≤ x + i ∧ x + i < x + k then rf (x + i - x) j else _) = _
  rw [if_pos (by omega), Nat.add_sub_cancel_left]
theorem im_R0 (hi : 0 < k) : gR (imF M x k KT NT rf h s) x j = rf 0 j := im_R (i := 0) hi
theorem im_I (hi : i < k) : gI (imF M x k KT NT rf h s) (x + i) j = h i j := by
  show (if x ≤ x + i ∧ x + i < x + k then h (x + i - x) j else _) = _
  rw [if_pos (by omega), Nat.add_sub_cancel_left]
theorem im_J (hi : i < k) : gJ (imF M x k KT NT rf h s) (x + i) j = 0 := if_pos (by omega)
theorem im_o {c : Nat} (hc : c < x ∨ x + k ≤ c) : gK (imF M x k KT NT rf h s) c = gK M c ∧ gN (imF M x k KT NT rf h s) c = gN M c ∧ (∀ j, gR (imF M x k KT NT rf h s) c j = gR M c j) ∧ (∀ j, gJ (imF M x k KT NT rf h s) c j = gJ M c j) ∧ (∀ j, gI (imF M x k KT NT rf h s) c j = gI M c j) := ⟨if_neg (by omega), if_neg (by omega), fun _ => if_neg (by omega), fun _ => if_neg (by omega), fun _ => if_neg (by omega)⟩
theorem im_nw (h1 : KT k = K) (h2 : NT k = N) (h3 : ∀ j, rf k j = none) (h4 : ∀ j, h k j = 0) : nw (imF M x k KT NT rf h s) K N sl = imF M x (k + 1) KT NT rf h (s + sl) := by
  have key : ∀ c, c = x + k ∨ (c ≠ x + k ∧ ((x ≤ c ∧ c < x + (k + 1)) ↔ (x ≤ c ∧ c < x + k))) := fun c => by omega
  refine Prod.ext ?_ (Prod.ext ?_ (Prod.ext ?_ (Prod.ext ?_ (Prod.ext ?_ rfl))))
  · funext c j
    show (if c = x + k then (0 : Int32) else if x ≤ c ∧ c < x + k then h (c - x) j else M.1 c j) = (if x ≤ c ∧ c < x + (k + 1) then h (c - x) j else M.1 c j)
    rcases key c with e | ⟨e, q⟩
    · subst e
      rw [if_pos rfl, if_pos (by omega), Nat.add_sub_cancel_left, h4]
    · rw [if_neg e]
      simp only [q]
  · funext c j
    show (if c = x + k then (0 : Int64) else if x ≤ c ∧ c < x + k then 0 else M.2.1 c j) = (if x ≤ c ∧ c < x + (k + 1) then 0 else M.2.1 c j)
    rcases key c with e | ⟨e, q⟩
    · subst e
      rw [if_pos rfl, if_pos (by omega)]
    · rw [if_neg e]
      simp only [q]
  · funext c j
    show (if c = x + k then none else if x ≤ c ∧ c < x + k then rf (c - x) j else M.2.2.1 c j) = (if x ≤ c ∧ c < x + (k + 1) then rf (c - x) j else M.2.2.1 c j)
    rcases key c with e | ⟨e, q⟩
    · subst e
      rw [if_pos rfl, if_pos (by omega), Nat.add_sub_cancel_left, h3]
    · rw [if_neg e]
      simp only [q]
  · funext c
    show (if c = x + k then K else if x ≤ c ∧ c < x + k then KT (c - x) else M.2.2.2.1 c) = (if x ≤ c ∧ c < x + (k + 1) then KT (c - x) else M.2.2.2.1 c)
    rcases key c with e | ⟨e, q⟩
    · subst e
      rw [if_pos rfl, if_pos (by omega), Nat.add_sub_cancel_left, h1]
    · rw [if_neg e]
      simp only [q]
  · funext c
    show (if c = x + k then N else if x ≤ c ∧ c < x + k then NT (c - x) else M.2.2.2.2.1 c) = (if x ≤ c ∧ c < x + (k + 1) then NT (c - x) else M.2.2.2.2.1 c)
    rcases key c with e | ⟨e, q⟩
    · subst e
      rw [if_pos rfl, if_pos (by omega), Nat.add_sub_cancel_left, h2]
    · rw [if_neg e]
      simp only [q]
theorem im_sR (hi : i < k) : sR (imF M x k KT NT rf h s) (x + i) j o = imF M x k KT NT (u2 rf i j o) h s := by
  refine Prod.ext rfl (Prod.ext rfl (Prod.ext ?_ rfl))
  funext c e
  show (if c = x + i ∧ e = j then o else if x ≤ c ∧ c < x + k then rf (c - x) e else M.2.2.1 c e) = (if x ≤ c ∧ c < x + k then (if c - x = i ∧ e = j then o else rf (c - x) e) else M.2.2.1 c e)
  by_cases q : c = x + i ∧ e = j
  · rw [if_pos q, if_pos (by omega), if_pos (by omega)]
  · rw [if_neg q]
    by_cases q2 : x ≤ c ∧ c < x + k
    · rw [if_pos q2, if_pos q2, if_neg (by omega)]
    · rw [if_neg q2, if_neg q2]
theorem im_sR0 (hi : 0 < k) : sR (imF M x k KT NT rf h s) x j o = imF M x k KT NT (u2 rf 0 j o) h s := im_sR (i := 0) hi
theorem im_sI (hi : i < k) : sI (imF M x k KT NT rf h s) (x + i) j v = imF M x k KT NT rf (u2 h i j v) s := by
  refine Prod.ext ?_ rfl
  funext c e
  show (if c = x + i ∧ e = j then v else if x ≤ c ∧ c < x + k then h (c - x) e else M.1 c e) = (if x ≤ c ∧ c < x + k then (if c - x = i ∧ e = j then v else h (c - x) e) else M.1 c e)
  by_cases q : c = x + i ∧ e = j
  · rw [if_pos q, if_pos (by omega), if_pos (by omega)]
  · rw [if_neg q]
    by_cases q2 : x ≤ c ∧ c < x + k
    · rw [if_pos q2, if_pos q2, if_neg (by omega)]
    · rw [if_neg q2, if_neg q2]
theorem im_sI0 (hi : 0 < k) : sI (imF M x k KT NT rf h s) x j v = imF M x k KT NT rf (u2 h 0 j v) s := im_sI (i := 0) hi
theorem im_0 {K0 N0 sl0 : Nat} (h1 : KT 0 = K0) (h2 : NT 0 = N0) : nw M K0 N0 sl0 = imF M (gX M) 1 KT NT (fun _ _ => none) (fun _ _ => 0) (gS M + sl0) := by
  have e : M = imF M (gX M) 0 KT NT (fun _ _ => none) (fun _ _ => 0) (gS M) := by
    obtain ⟨a1, a2, a3, a4, a5, a6, a7⟩ := M
    refine Prod.ext ?_ (Prod.ext ?_ (Prod.ext ?_ (Prod.ext ?_ (Prod.ext ?_ rfl))))
    · funext c j; exact (if_neg (by omega)).symm
    · funext c j; exact (if_neg (by omega)).symm
    · funext c j; exact (if_neg (by omega)).symm
    · funext c; exact (if_neg (by omega)).symm
    · funext c; exact (if_neg (by omega)).symm
  conv => lhs; rw [e]
  exact im_nw h1 h2 (fun _ => rfl) (fun _ => rfl)
end IN
def mkT (i : Nat) : Nat := [8, 100, 100, 100, 100, 100, 100, 103, 103, 103, 102, 100, 100, 100, 100, 102, 100, 100, 100, 100, 100, 100].getD i 0
def mnT (i : Nat) : Nat := [0, 940, 389, 72, 778, 600, 75, 13, 13, 26, 2, 7, 7, 525, 7, 500, 7, 7, 64, 160, 4, 240].getD i 0
theorem mk0 : mkT 0 = 8 := rfl
section XI9
variable {d : Nat} {m : PM} {r : PRes}
theorem im_nw2 {M : PM} {x k s K N sl : Nat} {KT NT : Nat → Nat} {rf : Nat → Nat → Option Nat} {h : Nat → Nat → Int32} (h1 : KT k = K) (h2 : NT k = N) (h3 : rf k = fun _ => none) (h4 : h k = fun _ => 0) : nw (imF M x k KT NT rf h s) K N sl = imF M x (k + 1) KT NT rf h (s + sl) := im_nw h1 h2 (fun j => by rw [h3]) (fun j => by rw [h4])
theorem u2_ne {α : Type} {f : Nat → Nat → α} {i j a : Nat} {v : α} (h : a ≠ i) : u2 f i j v a = f a := by
  funext c
  exact if_neg (fun z => h z.1)
theorem mI_1 {y s sl : Nat} {rf : Nat → Nat → Option Nat} {h : Nat → Nat → Int32} (h3 : rf 1 = fun _ => none) (h4 : h 1 = fun _ => 0) : nw (imF m y 1 mkT mnT rf h s) 100 940 sl = imF m y 2 mkT mnT rf h (s + sl) := im_nw2 rfl rfl h3 h4
theorem mI_2 {y s sl : Nat} {rf : Nat → Nat → Option Nat} {h : Nat → Nat → Int32} (h3 : rf 2 = fun _ => none) (h4 : h 2 = fun _ => 0) : nw (imF m y 2 mkT mnT rf h s) 100 389 sl = imF m y 3 mkT mnT rf h (s + sl) := im_nw2 rfl rfl h3 h4
theorem mI_3 {y s sl : Nat} {rf : Nat → Nat → Option Nat} {h : Nat → Nat → Int32} (h3 : rf 3 = fun _ => none) (h4 : h 3 = fun _ => 0) : nw (imF m y 3 mkT mnT rf h s) 100 72 sl = imF m y 4 mkT mnT rf h (s + sl) := im_nw2 rfl rfl h3 h4
theorem mI_4 {y s sl : Nat} {rf : Nat → Nat → Option Nat} {h : Nat → Nat → Int32} (h3 : rf 4 = fun _ => none) (h4 : h 4 = fun _ => 0) : nw (imF m y 4 mkT mnT rf h s) 100 778 sl = imF m y 5 mkT mnT rf h (s + sl) := im_nw2 rfl rfl h3 h4
theorem mI_5 {y s sl : Nat} {rf : Nat → Nat → Option Nat} {h : Nat → Nat → Int32} (h3 : rf 5 = fun _ => none) (h4 : h 5 = fun _ => 0) : nw (imF m y 5 mkT mnT rf h s) 100 600 sl = imF m y 6 mkT mnT rf h (s + sl) := im_nw2 rfl rfl h3 h4
theorem mI_6 {y s sl : Nat} {rf : Nat → Nat → Option Nat} {h : Nat → Nat → Int32} (h3 : rf 6 = fun _ => none) (h4 : h 6 = fun _ => 0) : nw (imF m y 6 mkT mnT rf h s) 100 75 sl = imF m y 7 mkT mnT rf h (s + sl) := im_nw2 rfl rfl h3 h4
theorem mI_7 {y s sl : Nat} {rf : Nat → Nat → Option Nat} {h : Nat → Nat → Int32} (h3 : rf 7 = fun _ => none) (h4 : h 7 = fun _ => 0) : nw (imF m y 7 mkT mnT rf h s) 103 13 sl = imF m y 8 mkT mnT rf h (s + sl) := im_nw2 rfl rfl h3 h4
theorem mI_8 {y s sl : Nat} {rf : Nat → Nat → Option Nat} {h : Nat → Nat → Int32} (h3 : rf 8 = fun _ => none) (h4 : h 8 = fun _ => 0) : nw (imF m y 8 mkT mnT rf h s) 103 13 sl = imF m y 9 mkT mnT rf h (s + sl) := im_nw2 rfl rfl h3 h4
theorem mI_9 {y s sl : Nat} {rf : Nat → Nat → Option Nat} {h : Nat → Nat → Int32} (h3 : rf 9 = fun _ => none) (h4 : h 9 = fun _ => 0) : nw (imF m y 9 mkT mnT rf h s) 103 26 sl = imF m y 10 mkT mnT rf h (s + sl) := im_nw2 rfl rfl h3 h4
theorem mI_10 {y s sl : Nat} {rf : Nat → Nat → Option Nat} {h : Nat → Nat → Int32} (h3 : rf 10 = fun _ => none) (h4 : h 10 = fun _ => 0) : nw (imF m y 10 mkT mnT rf h s) 102 2 sl = imF m y 11 mkT mnT rf h (s + sl) := im_nw2 rfl rfl h3 h4
theorem mI_11 {y s sl : Nat} {rf : Nat → Nat → Option Nat} {h : Nat → Nat → Int32} (h3 : rf 11 = fun _ => none) (h4 : h 11 = fun _ => 0) : nw (imF m y 11 mkT mnT rf h s) 100 7 sl = imF m y 12 mkT mnT rf h (s + sl) := im_nw2 rfl rfl h3 h4
theorem mI_12 {y s sl : Nat} {rf : Nat → Nat → Option Nat} {h : Nat → Nat → Int32} (h3 : rf 12 = fun _ => none) (h4 : h 12 = fun _ => 0) : nw (imF m y 12 mkT mnT rf h s) 100 7 sl = imF m y 13 mkT mnT rf h (s + sl) := im_nw2 rfl rfl h3 h4
theorem mI_13 {y s sl : Nat} {rf : Nat → Nat → Option Nat} {h : Nat → Nat → Int32} (h3 : rf 13 = fun _ => none) (h4 : h 13 = fun _ => 0) : nw (imF m y 13 mkT mnT rf h s) 100 525 sl = imF m y 14 mkT mnT rf h (s + sl) := im_nw2 rfl rfl h3 h4
theorem mI_14 {y s sl : Nat} {rf : Nat → Nat → Option Nat} {h : Nat → Nat → Int32} (h3 : rf 14 = fun _ => none) (h4 : h 14 = fun _ => 0) : nw (imF m y 14 mkT mnT rf h s) 100 7 sl = imF m y 15 mkT mnT rf h (s + sl) := im_nw2 rfl rfl h3 h4
theorem mI_15 {y s sl : Nat} {rf : Nat → Nat → Option Nat} {h : Nat → Nat → Int32} (h3 : rf 15 = fun _ => none) (h4 : h 15 = fun _ => 0) : nw (imF m y 15 mkT mnT rf h s) 102 500 sl = imF m y 16 mkT mnT rf h (s + sl) := im_nw2 rfl rfl h3 h4
theorem mI_16 {y s sl : Nat} {rf : Nat → Nat → Option Nat} {h : Nat → Nat → Int32} (h3 : rf 16 = fun _ => none) (h4 : h 16 = fun _ => 0) : nw (imF m y 16 mkT mnT rf h s) 100 7 sl = imF m y 17 mkT mnT rf h (s + sl) := im_nw2 rfl rfl h3 h4
theorem mI_17 {y s sl : Nat} {rf : Nat → Nat → Option Nat} {h : Nat → Nat → Int32} (h3 : rf 17 = fun _ => none) (h4 : h 17 = fun _ => 0) : nw (imF m y 17 mkT mnT rf h s) 100 7 sl = imF m y 18 mkT mnT rf h (s + sl) := im_nw2 rfl rfl h3 h4
theorem mI_18 {y s sl : Nat} {rf : Nat → Nat → Option Nat} {h : Nat → Nat → Int32} (h3 : rf 18 = fun _ => none) (h4 : h 18 = fun _ => 0) : nw (imF m y 18 mkT mnT rf h s) 100 64 sl = imF m y 19 mkT mnT rf h (s + sl) := im_nw2 rfl rfl h3 h4
theorem mI_19 {y s sl : Nat} {rf : Nat → Nat → Option Nat} {h : Nat → Nat → Int32} (h3 : rf 19 = fun _ => none) (h4 : h 19 = fun _ => 0) : nw (imF m y 19 mkT mnT rf h s) 100 160 sl = imF m y 20 mkT mnT rf h (s + sl) := im_nw2 rfl rfl h3 h4
theorem mI_20 {y s sl : Nat} {rf : Nat → Nat → Option Nat} {h : Nat → Nat → Int32} (h3 : rf 20 = fun _ => none) (h4 : h 20 = fun _ => 0) : nw (imF m y 20 mkT mnT rf h s) 100 4 sl = imF m y 21 mkT mnT rf h (s + sl) := im_nw2 rfl rfl h3 h4
theorem mI_21 {y s sl : Nat} {rf : Nat → Nat → Option Nat} {h : Nat → Nat → Int32} (h3 : rf 21 = fun _ => none) (h4 : h 21 = fun _ => 0) : nw (imF m y 21 mkT mnT rf h s) 100 240 sl = imF m y 22 mkT mnT rf h (s + sl) := im_nw2 rfl rfl h3 h4
def mRF (y : Nat) : Nat → Nat → Option Nat := (u2 (u2 (u2 (u2 (u2 (u2 (u2 (u2 (u2 (u2 (u2 (u2 (u2 (u2 (u2 (u2 (u2 (u2 (u2 (u2 (u2 (fun _ _ => none) 0 1 (some (y + 1))) 0 14 (some (y + 2))) 0 15 (some (y + 3))) 0 16 (some (y + 4))) 0 17 (some (y + 5))) 0 18 (some (y + 6))) 0 19 (some (y + 7))) 0 20 (some (y + 8))) 0 21 (some (y + 9))) 0 22 (some (y + 10))) 0 26 (some (y + 11))) 0 27 (some (y + 12))) 0 28 (some (y + 13))) 0 31 (some (y + 14))) 0 34 (some (y + 15))) 0 35 (some (y + 16))) 0 36 (some (y + 17))) 0 39 (some (y + 18))) 0 42 (some (y + 19))) 0 43 (some (y + 20))) 0 46 (some (y + 21)))
def mHF : Nat → Nat → Int32 := u2 (u2 (fun _ _ => 0) 0 32 (-1)) 0 33 (-1)
theorem q_init {y s : Nat} (hX : y + 22 < 900000) (hd : 9 ≤ d) : Run d 120 [.ref y] (imF m y 1 mkT mnT (fun _ _ => none) (fun _ _ => 0) s) r ↔ r = ((0, none), imF m y 22 mkT mnT (mRF y) mHF (s + 4436)) := by
  rw [wX9_init (by omega) rfl]
  simp (disch := (first | exact absurd trivial ‹¬ True› | exact nl_i _ | exact nl_r _ | exact nl_o | exact nl_n | exact nr_i _ | exact bi_z _ | exact nr_z0 | exact nr_z1 | (with_unfolding_all exact Nat.le_of_ble_eq_true rfl) | omega | (simp only [bi_z, bi_01, gK_sI, gK_sJ, gK_sR, gK_cI, gK_cR, gK_nw, gK_wI, gK_wJ, gK_pZ, gK_pB, gK_pY, gK_bW, gK_snpM, gN_sI, gN_sJ, gN_sR, gN_cI, gN_cR, gN_nw, gN_wI, gN_wJ, gN_pZ, gN_pB, gN_pY, gN_bW, gN_snpM, gR_sI, gR_sJ, gR_sR, gR_cI, gR_cR, gR_nw, gR_wI, gR_wJ, gR_pZ, gR_pB, gR_pY, gR_bW, gR_snpM, eq_self, reduceCtorEq, or_true, true_or, or_self, or_false, false_or, and_self, Nat.reduceEqDiff, Nat.reduceLeDiff, im_X, im_Kz, mk0]; done) | (simp only [im_X]; omega) | (simp (disch := omega) only [u2_ne]; done) | decide)) only [Ev_unf, Nat.add_sub_cancel, Nat.add_sub_cancel_left, EvC_0, enT, enL, Value.category, List.replicate, List.length_cons, List.length_nil, List.map_cons, List.map_nil, List.sum_cons, List.sum_nil, Nat.reduceAdd, Nat.reduceSub, Nat.reduceMul, Nat.zero_add, Nat.add_zero, Nat.reduceLeDiff, List.cons_append, List.nil_append, List.append_nil, Option.toList, exists_eq_left, Nat.reduceEqDiff, reduceIte, Int.reduceNeg, Int.reduceLE, Int.reduceLT, and_self, Int.reduceAdd, Int.reduceToNat, Int.cast_ofNat_Int, ofI_nat, ofI_m1, nI_ad, nI_mul, nI_sub, nI_eqi, nI_lti, nI_lei, nI_eq0, nI_lt0, nI_le0, nI_0lt, nI_0le, nI_m1, nI_dc, bi_0, bi_n0, bi_z, nr_i, va_rf_some, va_rf_none, Bool.not_eq_true, Bool.not_eq_false, Bool.false_eq_true, Bool.true_eq_false, eq_self, not_true_eq_false, not_false_eq_true, false_and, true_and, and_true, and_false, if_false, if_true, ite_r, ite_p, ite_not, gK_sI, gK_sJ, gK_sR, gK_cI, gK_cR, gK_nw, gK_wI, gK_wJ, gK_pZ, gK_pB, gK_pY, gK_bW, gK_snpM, gN_sI, gN_sJ, gN_sR, gN_cI, gN_cR, gN_nw, gN_wI, gN_wJ, gN_pZ, gN_pB, gN_pY, gN_bW, gN_snpM, gR_sI, gR_sJ, gR_sR, gR_cI, gR_cR, gR_nw, gR_wI, gR_wJ, gR_pZ, gR_pB, gR_pY, gR_bW, gR_snpM, dX9_init_0, E_aload_n0, E_nload_n0, dX9_init_1, v109_1_8, dX9_init_4, dX9_init_5, E_sipush, dX9_init_8, na_int, dX9_init_10, p109_7_8, p109_7_8n, dX9_init_13, dX9_init_14, dX9_init_17, dX9_init_19, p109_13_8, p109_13_8n, dX9_init_22, dX9_init_23, E_bipush, dX9_init_25, dX9_init_27, p109_16_8, p109_16_8n, dX9_init_30, dX9_init_31, dX9_init_34, dX9_init_36, p109_19_8, p109_19_8n, dX9_init_39, dX9_init_40, dX9_init_43, dX9_init_45, p109_22_8, p109_22_8n, dX9_init_48, dX9_init_49, dX9_init_51, dX9_init_53, p109_25_8, p109_25_8n, dX9_init_56, dX9_init_57, dX9_init_59, na_long, dX9_init_61, p109_28_8, p109_28_8n, dX9_init_64, dX9_init_65, dX9_init_67, dX9_init_69, p109_32_8, p109_32_8n, dX9_init_72, dX9_init_73, dX9_init_75, dX9_init_77, p109_35_8, p109_35_8n, dX9_init_80, dX9_init_81, E_iconst, dX9_init_82, na_boolean, dX9_init_84, p109_38_8, p109_38_8n, dX9_init_87, dX9_init_88, dX9_init_90, dX9_init_92, p109_42_8, p109_42_8n, dX9_init_95, dX9_init_96, dX9_init_98, dX9_init_100, p109_45_8, p109_45_8n, dX9_init_103, dX9_init_104, dX9_init_107, dX9_init_109, p109_48_8, p109_48_8n, dX9_init_112, dX9_init_113, dX9_init_115, dX9_init_117, p109_51_8, p109_51_8n, dX9_init_120, dX9_init_121, dX9_init_122, p109_54_8, dX9_init_125, dX9_init_126, dX9_init_127, p109_58_8, dX9_init_130, dX9_init_131, dX9_init_134, dX9_init_136, p109_61_8, p109_61_8n, dX9_init_139, dX9_init_140, dX9_init_142, dX9_init_144, p109_64_8, p109_64_8n, dX9_init_147, dX9_init_148, dX9_init_150, dX9_init_152, p109_67_8, p109_67_8n, dX9_init_155, dX9_init_156, dX9_init_158, dX9_init_160, p109_70_8, p109_70_8n, dX9_init_163, dX9_init_164, dX9_init_167, dX9_init_169, p109_73_8, p109_73_8n, dX9_init_172, dX9_init_173, dX9_init_174, dX9_init_176, p109_76_8, p109_76_8n, dX9_init_179, dX9_init_180, dX9_init_183, dX9_init_185, p109_79_8, p109_79_8n, dX9_init_188, E_return, r_objInit, im_X, im_Kz, mk0, mI_1, mI_2, mI_3, mI_4, mI_5, mI_6, mI_7, mI_8, mI_9, mI_10, mI_11, mI_12, mI_13, mI_14, mI_15, mI_16, mI_17, mI_18, mI_19, mI_20, mI_21, im_sR0, im_sI0]
  first | done | rfl
theorem mi_Mo {y s : Nat} : Mo (imF m y 22 mkT mnT (mRF y) mHF s) y := by
  unfold Mo
  simp only [im_Kz]
  refine ⟨rfl, ?_, ?_, ?_, ?_, ?_, ?_, ?_, ?_, ?_, ?_, ?_, ?_, ?_, ?_, ?_, ?_, ?_, ?_, ?_, ?_, ?_, ?_, ?_, ?_, ?_, ?_, ?_, ?_, ?_, ?_, ?_, ?_, ?_, ?_, ?_, ?_, ?_, ?_, ?_, ?_, ?_, ?_, ?_, ?_, ?_, ?_, ?_, ?_, ?_, ?_, ?_, ?_, ?_, ?_, ?_, ?_, ?_, ?_, ?_, ?_, ?_, ?_, ?_⟩
  all_goals first
    | (rw [im_K (by omega)]; rfl)
    | (rw [im_N (by omega)]; rfl)
    | (rw [im_R0 (by omega)]; rfl)
end XI9
