/-! THE CLASS: new states; what was ahead is kept -/
def wR (m : PM) (a : Nat) (f : Nat → Option Nat) : PM := (m.1, m.2.1, fun b j => if b = a then f j else m.2.2.1 b j, m.2.2.2)
theorem gR_wR (m : PM) (a b j : Nat) (f : Nat → Option Nat) : gR (wR m a f) b j = if b = a then f j else gR m b j := rfl
theorem gI_wR (m : PM) (a b j : Nat) (f : Nat → Option Nat) : gI (wR m a f) b j = gI m b j := rfl
theorem gJ_wR (m : PM) (a b j : Nat) (f : Nat → Option Nat) : gJ (wR m a f) b j = gJ m b j := rfl
theorem gK_wR (m : PM) (a b : Nat) (f : Nat → Option Nat) : gK (wR m a f) b = gK m b := rfl
theorem gN_wR (m : PM) (a b : Nat) (f : Nat → Option Nat) : gN (wR m a f) b = gN m b := rfl
theorem gX_wR (m : PM) (a : Nat) (f : Nat → Option Nat) : gX (wR m a f) = gX m := rfl
theorem gS_wR (m : PM) (a : Nat) (f : Nat → Option Nat) : gS (wR m a f) = gS m := rfl
theorem sR_is (m : PM) (a k : Nat) (v : Option Nat) : sR m a k v = wR m a (u1 (gR m a) k v) := by
  refine Prod.ext rfl (Prod.ext rfl (Prod.ext ?_ rfl))
  funext b j
  show (if b = a ∧ j = k then v else m.2.2.1 b j) = (if b = a then (if j = k then v else m.2.2.1 a j) else m.2.2.1 b j)
  by_cases h : b = a <;> by_cases h2 : j = k <;> simp [h, h2]
theorem wR_self (m : PM) (a : Nat) : wR m a (gR m a) = m := by
  refine Prod.ext rfl (Prod.ext rfl (Prod.ext ?_ rfl))
  funext b j
  show (if b = a then m.2.2.1 a j else m.2.2.1 b j) = m.2.2.1 b j
  split
  · rename_i h; rw [h]
  · rfl
theorem cR_is (m : PM) (a sp dp n : Nat) : cR m a sp a dp n = wR m a (fun j => if dp ≤ j ∧ j < dp + n then gR m a (sp + (j - dp)) else gR m a j) := by
  refine Prod.ext rfl (Prod.ext rfl (Prod.ext ?_ rfl))
  funext b j
  show (if b = a ∧ dp ≤ j ∧ j < dp + n then m.2.2.1 a (sp + (j - dp)) else m.2.2.1 b j) = (if b = a then (if dp ≤ j ∧ j < dp + n then m.2.2.1 a (sp + (j - dp)) else m.2.2.1 a j) else m.2.2.1 b j)
  by_cases h : b = a <;> by_cases h2 : dp ≤ j ∧ j < dp + n <;> simp [h, h2]
theorem wR_wR (m : PM) (a : Nat) (f g : Nat → Option Nat) : wR (wR m a f) a g = wR m a g := by
  refine Prod.ext rfl (Prod.ext rfl (Prod.ext ?_ rfl))
  funext b j
  show (if b = a then g j else if b = a then f j else m.2.2.1 b j) = (if b = a then g j else m.2.2.1 b j)
  by_cases h : b = a <;> simp [h]
theorem wR_pZ (m : PM) (z a : Nat) (R : Rw) (f : Nat → Option Nat) : wR (pZ m z R) a f = pZ (wR m a f) z R := rfl
theorem u1_self {α : Type} (f : Nat → α) (k : Nat) (v : α) (h : f k = v) : u1 f k v = f := by
  funext j
  unfold u1
  split
  · rename_i c; rw [c, h]
  · rfl
/-- a new State's cells -/
def stN (m : PM) : PM := sR (nw (sR (nw (sR (nw (sR (nw (sR (nw (nw m 4 0 12) 100 42 42) (gX m) 0 (some (gX m + 1))) 100 6 6) (gX m) 1 (some (gX m + 2))) 100 7 7) (gX m) 2 (some (gX m + 3))) 100 7 7) (gX m) 3 (some (gX m + 4))) 100 7 7) (gX m) 4 (some (gX m + 5))
theorem gX_stN (m : PM) : gX (stN m) = gX m + 6 := rfl
theorem gS_stN (m : PM) : gS (stN m) = gS m + 12 + 42 + 6 + 7 + 7 + 7 := rfl
theorem gI_stN {m : PM} {b j : Nat} (h : b < gX m) : gI (stN m) b j = gI m b j := by simp (disch := omega) only [stN, gI_sR, gI_nw, gJ_sR, gJ_nw, gR_sR, gR_nw, gK_sR, gK_nw, gN_sR, gN_nw, gX_sR, gX_nw, if_pos, if_neg]
theorem gJ_stN {m : PM} {b j : Nat} (h : b < gX m) : gJ (stN m) b j = gJ m b j := by simp (disch := omega) only [stN, gI_sR, gI_nw, gJ_sR, gJ_nw, gR_sR, gR_nw, gK_sR, gK_nw, gN_sR, gN_nw, gX_sR, gX_nw, if_pos, if_neg]
theorem gR_stN {m : PM} {b j : Nat} (h : b < gX m) : gR (stN m) b j = gR m b j := by simp (disch := omega) only [stN, gI_sR, gI_nw, gJ_sR, gJ_nw, gR_sR, gR_nw, gK_sR, gK_nw, gN_sR, gN_nw, gX_sR, gX_nw, if_pos, if_neg]
theorem gK_stN {m : PM} {b : Nat} (h : b < gX m) : gK (stN m) b = gK m b := by simp (disch := omega) only [stN, gI_sR, gI_nw, gJ_sR, gJ_nw, gR_sR, gR_nw, gK_sR, gK_nw, gN_sR, gN_nw, gX_sR, gX_nw, if_pos, if_neg]
theorem gN_stN {m : PM} {b : Nat} (h : b < gX m) : gN (stN m) b = gN m b := by simp (disch := omega) only [stN, gI_sR, gI_nw, gJ_sR, gJ_nw, gR_sR, gR_nw, gK_sR, gK_nw, gN_sR, gN_nw, gX_sR, gX_nw, if_pos, if_neg]
theorem stN_St (m : PM) : St (stN m) (gX m) := by
  refine ⟨?_, ?_, ?_, ?_, ?_, ?_, ?_, ?_, ?_, ?_, ?_, ?_, ?_, ?_, ?_, ?_⟩ <;> simp (disch := omega) only [stN, gI_sR, gI_nw, gJ_sR, gJ_nw, gR_sR, gR_nw, gK_sR, gK_nw, gN_sR, gN_nw, gX_sR, gX_nw, if_pos, if_neg, and_self, if_true]
theorem St_stN {m : PM} {a : Nat} (h : St m a) (ha : a + 5 < gX m) : St (stN m) a := by
  unfold St at h ⊢
  simp (disch := omega) only [gK_stN, gN_stN, gR_stN]
  exact h
theorem Ob_stN {m : PM} {x : Nat} (h : Ob m x) (ha : x + 42 < gX m) : Ob (stN m) x := by
  unfold Ob at h ⊢
  simp (disch := omega) only [gK_stN, gN_stN, gR_stN]
  exact h
theorem c_newS {d : Nat} {m : PM} {r : PRes} (hX : gX m + 6 < 900000) (hd : 9 ≤ d) : Run d 63 [.ref (gX m)] (nw m 4 0 12) r ↔ r = ((0, none), stN m) := by
  rw [wX4_init (by omega) rfl]
  simp (disch := (first | exact nl_i _ | exact nl_r _ | exact nl_o | exact nl_n | exact nr_i _ | exact bi_z _ | exact nr_z0 | exact nr_z1 | (with_unfolding_all exact Nat.le_of_ble_eq_true rfl) | omega | (simp (disch := omega) only [bi_z, bi_01, gK_sI, gK_sJ, gK_sR, gK_cI, gK_cR, gK_nw, gK_wI, gK_wJ, gK_pZ, gK_pB, gK_pY, gK_bW, gK_snpM, gN_sI, gN_sJ, gN_sR, gN_cI, gN_cR, gN_nw, gN_wI, gN_wJ, gN_pZ, gN_pB, gN_pY, gN_bW, gN_snpM, gR_sI, gR_sJ, gR_sR, gR_cI, gR_cR, gR_nw, gR_wI, gR_wJ, gR_pZ, gR_pB, gR_pY, gR_bW, gR_snpM, eq_self, reduceCtorEq, or_true, true_or, or_self, or_false, false_or, and_self, Nat.reduceEqDiff, Nat.reduceLeDiff, gX_sR, gX_nw, if_pos, if_neg, if_true]; done) | (simp (disch := omega) only [bi_z, bi_01, gK_sI, gK_sJ, gK_sR, gK_cI, gK_cR, gK_nw, gK_wI, gK_wJ, gK_pZ, gK_pB, gK_pY, gK_bW, gK_snpM, gN_sI, gN_sJ, gN_sR, gN_cI, gN_cR, gN_nw, gN_wI, gN_wJ, gN_pZ, gN_pB, gN_pY, gN_bW, gN_snpM, gR_sI, gR_sJ, gR_sR, gR_cI, gR_cR, gR_nw, gR_wI, gR_wJ, gR_pZ, gR_pB, gR_pY, gR_bW, gR_snpM, eq_self, reduceCtorEq, or_true, true_or, or_self, or_false, false_or, and_self, Nat.reduceEqDiff, Nat.reduceLeDiff, gX_sR, gX_nw, if_pos, if_neg]; omega))) only [Ev_unf, Nat.add_sub_cancel, Nat.add_sub_cancel_left, EvC_0, enT, enL, Value.category, List.replicate, List.length_cons, List.length_nil, List.map_cons, List.map_nil, List.sum_cons, List.sum_nil, Nat.reduceAdd, Nat.reduceSub, Nat.reduceMul, Nat.zero_add, Nat.add_zero, Nat.reduceLeDiff, List.cons_append, List.nil_append, List.append_nil, Option.toList, exists_eq_left, Nat.reduceEqDiff, reduceIte, Int.reduceNeg, Int.reduceLE, Int.reduceLT, and_self, Int.reduceAdd, Int.reduceToNat, Int.cast_ofNat_Int, ofI_nat, ofI_m1, nI_ad, nI_mul, nI_sub, nI_eqi, nI_lti, nI_lei, nI_eq0, nI_lt0, nI_le0, nI_0lt, nI_0le, nI_m1, nI_dc, bi_0, bi_n0, bi_z, nr_i, va_rf_some, va_rf_none, Bool.not_eq_true, Bool.not_eq_false, Bool.false_eq_true, Bool.true_eq_false, eq_self, not_true_eq_false, not_false_eq_true, false_and, true_and, and_true, and_false, if_false, if_true, ite_r, ite_p, ite_not, gK_sI, gK_sJ, gK_sR, gK_cI, gK_cR, gK_nw, gK_wI, gK_wJ, gK_pZ, gK_pB, gK_pY, gK_bW, gK_snpM, gN_sI, gN_sJ, gN_sR, gN_cI, gN_cR, gN_nw, gN_wI, gN_wJ, gN_pZ, gN_pB, gN_pY, gN_bW, gN_snpM, gR_sI, gR_sJ, gR_sR, gR_cI, gR_cR, gR_nw, gR_wI, gR_wJ, gR_pZ, gR_pB, gR_pY, gR_bW, gR_snpM, dX4_init_0, E_aload_n0, E_nload_n0, dX4_init_1, v104_3_4, dX4_init_4, dX4_init_5, E_bipush, dX4_init_7, na_int, dX4_init_9, p104_9_4, p104_9_4n, dX4_init_12, dX4_init_13, dX4_init_15, dX4_init_17, p104_15_4, p104_15_4n, dX4_init_20, dX4_init_21, dX4_init_23, dX4_init_25, p104_18_4, p104_18_4n, dX4_init_28, dX4_init_29, dX4_init_31, dX4_init_33, p104_21_4, p104_21_4n, dX4_init_36, dX4_init_37, dX4_init_39, dX4_init_41, p104_24_4, p104_24_4n, dX4_init_44, E_return, r_objInit, gX_sR, gX_nw]
  rfl
/-! states lie apart -/
theorem St_Bo_dis {m : PM} {z b : Nat} (h : St m z) (h2 : Bo m b) : b + 7 < z ∨ z + 5 < b := by
  by_cases c : b + 7 < z ∨ z + 5 < b
  · exact c
  · exfalso
    have k0 := St_K0 h
    by_cases c1 : z < b
    · have hc : b = z + 1 ∨ b = z + 2 ∨ b = z + 3 ∨ b = z + 4 ∨ b = z + 5 := by omega
      have q := Bo_K0 h2
      rcases hc with e | e | e | e | e <;> rw [e] at q
      · rw [St_K1 h] at q; omega
      · rw [St_K2 h] at q; omega
      · rw [St_K3 h] at q; omega
      · rw [St_K4 h] at q; omega
      · rw [St_K5 h] at q; omega
    · have hc : z = b ∨ z = b + 1 ∨ z = b + 2 ∨ z = b + 3 ∨ z = b + 4 ∨ z = b + 5 ∨ z = b + 6 ∨ z = b + 7 := by omega
      rcases hc with e | e | e | e | e | e | e | e <;> rw [e] at k0
      · rw [Bo_K0 h2] at k0; omega
      · rw [Bo_K1 h2] at k0; omega
      · rw [Bo_K2 h2] at k0; omega
      · rw [Bo_K3 h2] at k0; omega
      · rw [Bo_K4 h2] at k0; omega
      · rw [Bo_K5 h2] at k0; omega
      · rw [Bo_K6 h2] at k0; omega
      · rw [Bo_K7 h2] at k0; omega
theorem St_St_dis {m : PM} {z w : Nat} (h : St m z) (h2 : St m w) (hne : z ≠ w) : z + 5 < w ∨ w + 5 < z := by
  by_cases c : z + 5 < w ∨ w + 5 < z
  · exact c
  · exfalso
    by_cases c1 : z < w
    · have hc : w = z + 1 ∨ w = z + 2 ∨ w = z + 3 ∨ w = z + 4 ∨ w = z + 5 := by omega
      have q := St_K0 h2
      rcases hc with e | e | e | e | e <;> rw [e] at q
      · rw [St_K1 h] at q; omega
      · rw [St_K2 h] at q; omega
      · rw [St_K3 h] at q; omega
      · rw [St_K4 h] at q; omega
      · rw [St_K5 h] at q; omega
    · have hc : z = w + 1 ∨ z = w + 2 ∨ z = w + 3 ∨ z = w + 4 ∨ z = w + 5 := by omega
      have q := St_K0 h
      rcases hc with e | e | e | e | e <;> rw [e] at q
      · rw [St_K1 h2] at q; omega
      · rw [St_K2 h2] at q; omega
      · rw [St_K3 h2] at q; omega
      · rw [St_K4 h2] at q; omega
      · rw [St_K5 h2] at q; omega
/-- the places where States are held: ahead, orders, images -/
def sl (m : PM) (x i : Nat) : Option Nat := if i < 8 then gR m (x + 29) i else if i < 16 then gR m (x + 30) (i - 8) else (gR m (x + 42) (i - 16)).map (fun k => k + 1)
def SL (m : PM) (x lo : Nat) : Prop := ∀ i, i < 18 → ∀ a, sl m x i = some a → St m a ∧ lo ≤ a ∧ a + 5 < gX m ∧ ∀ j, j < 18 → sl m x j = some a → j = i
theorem sl_8 {m : PM} {x i : Nat} (h : i < 8) : sl m x i = gR m (x + 29) i := if_pos h
def kpM (m : PM) (x a u : Nat) (R : Rw) (f : Nat → Option Nat) : PM := sI (wR (pZ m a R) (x + 29) f) x 14 (nI u)
/-- how a state is kept: a free place, a new one, the eldest -/
def KS (m : PM) (x u : Nat) (m1 : PM) (a : Nat) (f : Nat → Option Nat) (u' : Nat) : Prop :=
  (u < 8 ∧ gR m (x + 29) u = some a ∧ m1 = m ∧ u' = u + 1 ∧ f = gR m (x + 29)) ∨
  (u < 8 ∧ gR m (x + 29) u = none ∧ m1 = stN m ∧ a = gX m ∧ u' = u + 1 ∧ f = u1 (gR m (x + 29)) u (some (gX m))) ∨
  (u = 8 ∧ gR m (x + 29) 0 = some a ∧ m1 = m ∧ u' = 8 ∧ f = fun j => if j < 7 then gR m (x + 29) (j + 1) else if j = 7 then some a else gR m (x + 29) j)
section CC
variable {d : Nat} {m : PM} {r : PRes} {x z w b lo u : Nat} {B R Q : Rw} {n nd l t : Nat}
theorem c_be2 (hSt : St m z) (hSw : St m w) (hZ : Zr m w Q) (hwz : w + 5 < z ∨ z + 5 < w) (hd : 9 ≤ d) : Run d 65 [.ref z, .ref w] m r ↔ r = ((0, none), pZ m z Q) := by
  have h := c_be (r := r) (R := fun s k => gI m (z + s) k) hSt hSw hZ hwz hd
  rw [pZ_of (Zr_self m z)] at h
  exact h
theorem PM_ext {m m' : PM} (h1 : ∀ c j, gI m c j = gI m' c j) (h2 : ∀ c j, gJ m c j = gJ m' c j) (h3 : ∀ c j, gR m c j = gR m' c j) (h4 : ∀ c, gK m c = gK m' c) (h5 : ∀ c, gN m c = gN m' c) (h6 : gX m = gX m') (h7 : gS m = gS m') : m = m' := by
  obtain ⟨a1, a2, a3, a4, a5, a6, a7⟩ := m
  obtain ⟨b1, b2, b3, b4, b5, b6, b7⟩ := m'
  have e1 : a1 = b1 := funext fun c => funext fun j => h1 c j
  have e2 : a2 = b2 := funext fun c => funext fun j => h2 c j
  have e3 : a3 = b3 := funext fun c => funext fun j => h3 c j
  have e4 : a4 = b4 := funext fun c => h4 c
  have e5 : a5 = b5 := funext fun c => h5 c
  have e6 : a6 = b6 := h6
  have e7 : a7 = b7 := h7
  rw [e1, e2, e3, e4, e5, e6, e7]
theorem stN_pZ {m : PM} {z : Nat} {R : Rw} (h : z + 5 < gX m) : stN (pZ m z R) = pZ (stN m) z R := by
  refine Prod.ext ?_ rfl
  funext c j
  show gI (stN (pZ m z R)) c j = gI (pZ (stN m) z R) c j
  by_cases h2 : z ≤ c ∧ inr (c - z) j = true
  · have hc := inr_lt h2.2
    rw [gI_stN (show c < gX (pZ m z R) by show c < gX m; omega), gI_pZ, gI_pZ, if_pos h2, if_pos h2]
  · rw [gI_pZ, if_neg h2]
    by_cases h3 : c < gX m
    · rw [gI_stN (show c < gX (pZ m z R) from h3), gI_stN h3, gI_pZ, if_neg h2]
    · show (if c = gX m + 5 then (0 : Int32) else if c = gX m + 4 then 0 else if c = gX m + 3 then 0 else if c = gX m + 2 then 0 else if c = gX m + 1 then 0 else if c = gX m then 0 else gI (pZ m z R) c j) = (if c = gX m + 5 then (0 : Int32) else if c = gX m + 4 then 0 else if c = gX m + 3 then 0 else if c = gX m + 2 then 0 else if c = gX m + 1 then 0 else if c = gX m then 0 else gI m c j)
      rw [gI_pZ, if_neg h2]
theorem elOk_s : elOk 104 4 = true := rfl
theorem c_keep (hOb : Ob m x) (hSt : St m (x + 14)) (hSL : SL m x lo) (hlo : x + 43 ≤ lo) (hu : gI m x 14 = nI u) (hu8 : u ≤ 8) (hU : ∀ i, i < u → ∃ a, gR m (x + 29) i = some a) (hX : gX m + 6 < 900000) (hlo2 : lo ≤ gX m) (hd : 10 ≤ d) : ∃ m1 a f u', KS m x u m1 a f u' ∧ ∀ r, (Run d 17 [.ref x] (pZ m (x + 14) R) r ↔ r = ((0, none), pZ (kpM m1 x a u' R f) (x + 14) R)) := by
  have hx0 : ∀ (m : PM) (R : Rw) (k : Nat), gI (pZ m (x + 14) R) x k = gI m x k := fun m R k => gI_pZo (by omega)
  by_cases c : u = 8
  · subst c
    obtain ⟨a, ha⟩ := hU 0 (by omega)
    obtain ⟨hSw, h1, h2, -⟩ := hSL 0 (by omega) a (by rw [sl_8 (by omega)]; exact ha)
    refine ⟨m, a, _, 8, Or.inr (Or.inr ⟨rfl, ha, rfl, rfl, rfl⟩), fun r => ?_⟩
    have hxa : ∀ (m : PM) (R : Rw) (k : Nat), gI (pZ m a R) x k = gI m x k := fun m R k => gI_pZo (by omega)
    have he : (List.range 7).all (fun i => elS m (x + 29) (1 + i)) = true := by
      rw [List.all_eq_true]
      intro i hi
      have hi : i < 7 := List.mem_range.mp hi
      unfold elS
      cases hq : gR m (x + 29) (1 + i) with
      | none => rfl
      | some q =>
        have h3 := hSL (1 + i) (by omega) q (by rw [sl_8 (by omega)]; exact hq)
        simp only [St_K0 h3.1]
        rfl
    obtain ⟨g, hg⟩ : ∃ g : Nat → Option Nat, g = fun j => if j < 7 then gR m (x + 29) (j + 1) else gR m (x + 29) j := ⟨_, rfl⟩
    have hc : cR (pZ m (x + 14) R) (x + 29) 1 (x + 29) 0 7 = pZ (wR m (x + 29) g) (x + 14) R := by
      have e : (fun j => if 0 ≤ j ∧ j < 0 + 7 then gR (pZ m (x + 14) R) (x + 29) (1 + (j - 0)) else gR (pZ m (x + 14) R) (x + 29) j) = g := by
        rw [hg]
        funext j
        by_cases h : j < 7
        · rw [if_pos ⟨by omega, by omega⟩, if_pos h, show 1 + (j - 0) = j + 1 by omega]; rfl
        · rw [if_neg (by omega), if_neg h]; rfl
      rw [cR_is, e, wR_pZ]
    have hcp : ∀ d r, 8 ≤ d → (Run d 302 [.ref (x + 29), .int (nI 1), .ref (x + 29), .int (nI 0), .int (nI 7)] (pZ m (x + 14) R) r ↔ r = ((0, none), pZ (wR m (x + 29) g) (x + 14) R)) := fun d r hd => by
      rw [← hc]
      refine r_copyR hd ?_ ?_ ?_ ?_ (by omega) (by omega) (by omega) he
      · show 1 + 7 ≤ gN m (x + 29); rw [Ob_N29 hOb]; omega
      · show 0 + 7 ≤ gN m (x + 29); rw [Ob_N29 hOb]; omega
      · exact Ob_K29 hOb
      · exact Ob_K29 hOb
    have hb : ∀ (v : Int32) (d : Nat) (r : PRes), 9 ≤ d → (Run d 65 [.ref a, .ref (x + 14)] (pZ (sI (wR m (x + 29) g) x 14 v) (x + 14) R) r ↔ r = ((0, none), pZ (pZ (sI (wR m (x + 29) g) x 14 v) (x + 14) R) a R)) := by
      intro v d r hd
      have s1 : St (pZ (sI (wR m (x + 29) g) x 14 v) (x + 14) R) a := by
        have e : ∀ k, gR (wR m (x + 29) g) a k = gR m a k := fun k => if_neg (by omega)
        unfold St at hSw ⊢
        simp only [gK_pZ, gN_pZ, gR_pZ, gK_sI, gN_sI, gR_sI, gK_wR, gN_wR, e]
        exact hSw
      have s2 : St (pZ (sI (wR m (x + 29) g) x 14 v) (x + 14) R) (x + 14) := by
        have e : ∀ k, gR (wR m (x + 29) g) (x + 14) k = gR m (x + 14) k := fun k => if_neg (by omega)
        unfold St at hSt ⊢
        simp only [gK_pZ, gN_pZ, gR_pZ, gK_sI, gN_sI, gR_sI, gK_wR, gN_wR, e]
        exact hSt
      exact c_be2 s1 s2 (Zr_pZ _ _ _) (by omega) hd
    rw [wX1_keep (by omega) rfl]
    simp (disch := (first | exact nl_i _ | exact nl_r _ | exact nl_o | exact nl_n | exact nr_i _ | exact bi_z _ | exact nr_z0 | exact nr_z1 | (with_unfolding_all exact Nat.le_of_ble_eq_true rfl) | omega | (simp only [bi_z, bi_01, gK_sI, gK_sJ, gK_sR, gK_cI, gK_cR, gK_nw, gK_wI, gK_wJ, gK_pZ, gK_pB, gK_pY, gK_bW, gK_snpM, gN_sI, gN_sJ, gN_sR, gN_cI, gN_cR, gN_nw, gN_wI, gN_wJ, gN_pZ, gN_pB, gN_pY, gN_bW, gN_snpM, gR_sI, gR_sJ, gR_sR, gR_cI, gR_cR, gR_nw, gR_wI, gR_wJ, gR_pZ, gR_pB, gR_pY, gR_bW, gR_snpM, eq_self, reduceCtorEq, or_true, true_or, or_self, or_false, false_or, and_self, Nat.reduceEqDiff, Nat.reduceLeDiff, gK_wR, gN_wR, gR_wR, elOk_s, Ob_K0 hOb, Ob_K1 hOb, Ob_N1 hOb, Ob_K2 hOb, Ob_K3 hOb, Ob_N3 hOb, Ob_K4 hOb, Ob_N4 hOb, Ob_K5 hOb, Ob_N5 hOb, Ob_K26 hOb, Ob_K27 hOb, Ob_K28 hOb, Ob_N28 hOb, Ob_K29 hOb, Ob_N29 hOb, Ob_K30 hOb, Ob_N30 hOb, Ob_K31 hOb, Ob_N31 hOb, Ob_K32 hOb, Ob_N32 hOb, Ob_K33 hOb, Ob_N33 hOb, Ob_K34 hOb, Ob_N34 hOb, Ob_K35 hOb, Ob_N35 hOb, Ob_K36 hOb, Ob_N36 hOb, Ob_K37 hOb, Ob_N37 hOb, Ob_K38 hOb, Ob_N38 hOb, Ob_K39 hOb, Ob_K40 hOb, Ob_N40 hOb, Ob_K41 hOb, Ob_N41 hOb, Ob_K42 hOb, Ob_N42 hOb, Ob_R0_0 hOb, Ob_R0_3 hOb, Ob_R0_4 hOb, Ob_R0_5 hOb, Ob_R0_6 hOb, Ob_R0_8 hOb, Ob_R0_9 hOb, Ob_R0_10 hOb, Ob_R0_11 hOb, Ob_R0_13 hOb, Ob_R0_15 hOb, Ob_R0_16 hOb, Ob_R0_17 hOb, Ob_R0_23 hOb, Ob_R0_24 hOb, Ob_R0_25 hOb, Ob_R0_26 hOb, Ob_R0_29 hOb, Ob_R0_31 hOb, Ob_R0_33 hOb, Ob_R0_35 hOb, Ob_R27_8 hOb, Ob_R39_8 hOb, Ob_R39_9 hOb, St_K0 hSt, St_K1 hSt, St_N1 hSt, St_K2 hSt, St_N2 hSt, St_K3 hSt, St_N3 hSt, St_K4 hSt, St_N4 hSt, St_K5 hSt, St_N5 hSt, St_R0_0 hSt, St_R0_1 hSt, St_R0_2 hSt, St_R0_3 hSt, St_R0_4 hSt, St_K0 hSw, St_K1 hSw, St_N1 hSw, St_K2 hSw, St_N2 hSw, St_K3 hSw, St_N3 hSw, St_K4 hSw, St_N4 hSw, St_K5 hSw, St_N5 hSw, St_R0_0 hSw, St_R0_1 hSw, St_R0_2 hSw, St_R0_3 hSw, St_R0_4 hSw]; done) | (simp only [bi_z, bi_01, gK_sI, gK_sJ, gK_sR, gK_cI, gK_cR, gK_nw, gK_wI, gK_wJ, gK_pZ, gK_pB, gK_pY, gK_bW, gK_snpM, gN_sI, gN_sJ, gN_sR, gN_cI, gN_cR, gN_nw, gN_wI, gN_wJ, gN_pZ, gN_pB, gN_pY, gN_bW, gN_snpM, gR_sI, gR_sJ, gR_sR, gR_cI, gR_cR, gR_nw, gR_wI, gR_wJ, gR_pZ, gR_pB, gR_pY, gR_bW, gR_snpM, eq_self, reduceCtorEq, or_true, true_or, or_self, or_false, false_or, and_self, Nat.reduceEqDiff, Nat.reduceLeDiff, gK_wR, gN_wR, gR_wR, elOk_s, Ob_K0 hOb, Ob_K1 hOb, Ob_N1 hOb, Ob_K2 hOb, Ob_K3 hOb, Ob_N3 hOb, Ob_K4 hOb, Ob_N4 hOb, Ob_K5 hOb, Ob_N5 hOb, Ob_K26 hOb, Ob_K27 hOb, Ob_K28 hOb, Ob_N28 hOb, Ob_K29 hOb, Ob_N29 hOb, Ob_K30 hOb, Ob_N30 hOb, Ob_K31 hOb, Ob_N31 hOb, Ob_K32 hOb, Ob_N32 hOb, Ob_K33 hOb, Ob_N33 hOb, Ob_K34 hOb, Ob_N34 hOb, Ob_K35 hOb, Ob_N35 hOb, Ob_K36 hOb, Ob_N36 hOb, Ob_K37 hOb, Ob_N37 hOb, Ob_K38 hOb, Ob_N38 hOb, Ob_K39 hOb, Ob_K40 hOb, Ob_N40 hOb, Ob_K41 hOb, Ob_N41 hOb, Ob_K42 hOb, Ob_N42 hOb, Ob_R0_0 hOb, Ob_R0_3 hOb, Ob_R0_4 hOb, Ob_R0_5 hOb, Ob_R0_6 hOb, Ob_R0_8 hOb, Ob_R0_9 hOb, Ob_R0_10 hOb, Ob_R0_11 hOb, Ob_R0_13 hOb, Ob_R0_15 hOb, Ob_R0_16 hOb, Ob_R0_17 hOb, Ob_R0_23 hOb, Ob_R0_24 hOb, Ob_R0_25 hOb, Ob_R0_26 hOb, Ob_R0_29 hOb, Ob_R0_31 hOb, Ob_R0_33 hOb, Ob_R0_35 hOb, Ob_R27_8 hOb, Ob_R39_8 hOb, Ob_R39_9 hOb, St_K0 hSt, St_K1 hSt, St_N1 hSt, St_K2 hSt, St_N2 hSt, St_K3 hSt, St_N3 hSt, St_K4 hSt, St_N4 hSt, St_K5 hSt, St_N5 hSt, St_R0_0 hSt, St_R0_1 hSt, St_R0_2 hSt, St_R0_3 hSt, St_R0_4 hSt, St_K0 hSw, St_K1 hSw, St_N1 hSw, St_K2 hSw, St_N2 hSw, St_K3 hSw, St_N3 hSw, St_K4 hSw, St_N4 hSw, St_K5 hSw, St_N5 hSw, St_R0_0 hSw, St_R0_1 hSw, St_R0_2 hSw, St_R0_3 hSw, St_R0_4 hSw]; omega))) only [Ev_unf, Nat.add_sub_cancel, Nat.add_sub_cancel_left, EvC_0, enT, enL, Value.category, List.replicate, List.length_cons, List.length_nil, List.map_cons, List.map_nil, List.sum_cons, List.sum_nil, Nat.reduceAdd, Nat.reduceSub, Nat.reduceMul, Nat.zero_add, Nat.add_zero, Nat.reduceLeDiff, List.cons_append, List.nil_append, List.append_nil, Option.toList, exists_eq_left, Nat.reduceEqDiff, reduceIte, Int.reduceNeg, Int.reduceLE, Int.reduceLT, and_self, Int.reduceAdd, Int.reduceToNat, Int.cast_ofNat_Int, ofI_nat, ofI_m1, nI_ad, nI_mul, nI_sub, nI_eqi, nI_lti, nI_lei, nI_eq0, nI_lt0, nI_le0, nI_0lt, nI_0le, nI_m1, nI_dc, bi_0, bi_n0, bi_z, nr_i, va_rf_some, va_rf_none, Bool.not_eq_true, Bool.not_eq_false, Bool.false_eq_true, Bool.true_eq_false, eq_self, not_true_eq_false, not_false_eq_true, false_and, true_and, and_true, and_false, if_false, if_true, ite_r, ite_p, ite_not, gK_sI, gK_sJ, gK_sR, gK_cI, gK_cR, gK_nw, gK_wI, gK_wJ, gK_pZ, gK_pB, gK_pY, gK_bW, gK_snpM, gN_sI, gN_sJ, gN_sR, gN_cI, gN_cR, gN_nw, gN_wI, gN_wJ, gN_pZ, gN_pB, gN_pY, gN_bW, gN_snpM, gR_sI, gR_sJ, gR_sR, gR_cI, gR_cR, gR_nw, gR_wI, gR_wJ, gR_pZ, gR_pB, gR_pY, gR_bW, gR_snpM, dX1_keep_0, E_aload_n0, E_nload_n0, dX1_keep_1, f1_200_1, dX1_keep_4, E_bipush, dX1_keep_6, E_icmp_ne, dX1_keep_9, dX1_keep_10, f1_125_1, dX1_keep_13, E_iconst, dX1_keep_14, E_aaloadn, dX1_keep_15, E_goto, dX1_keep_18, dX1_keep_19, dX1_keep_22, dX1_keep_23, dX1_keep_26, dX1_keep_27, E_ifnonnull_r, E_ifnonnull_n, dX1_keep_30, n1_95, dX1_keep_33, E_dup_i, E_dup_r, E_dup_n, dX1_keep_34, v1_97_4, dX1_keep_37, dX1_keep_40, dX1_keep_41, dX1_keep_44, dX1_keep_45, dX1_keep_48, dX1_keep_49, E_astore_n1, E_nstore_n1, dX1_keep_50, dX1_keep_51, dX1_keep_54, dX1_keep_56, dX1_keep_59, dX1_keep_60, dX1_keep_63, dX1_keep_64, dX1_keep_65, dX1_keep_68, dX1_keep_69, dX1_keep_71, s1_280, dX1_keep_74, dX1_keep_75, dX1_keep_76, dX1_keep_79, dX1_keep_80, E_isub, dX1_keep_81, p1_200_1, dX1_keep_84, E_aload_n1, E_nload_n1, dX1_keep_85, dX1_keep_86, f1_98_1, dX1_keep_89, v1_286_4, dX1_keep_92, dX1_keep_93, dX1_keep_96, dX1_keep_97, dX1_keep_100, dX1_keep_101, E_aastoren, dX1_keep_102, dX1_keep_103, dX1_keep_104, dX1_keep_107, dX1_keep_108, E_iadd, dX1_keep_109, dX1_keep_112, E_return, Ob_K0 hOb, Ob_K1 hOb, Ob_N1 hOb, Ob_K2 hOb, Ob_K3 hOb, Ob_N3 hOb, Ob_K4 hOb, Ob_N4 hOb, Ob_K5 hOb, Ob_N5 hOb, Ob_K26 hOb, Ob_K27 hOb, Ob_K28 hOb, Ob_N28 hOb, Ob_K29 hOb, Ob_N29 hOb, Ob_K30 hOb, Ob_N30 hOb, Ob_K31 hOb, Ob_N31 hOb, Ob_K32 hOb, Ob_N32 hOb, Ob_K33 hOb, Ob_N33 hOb, Ob_K34 hOb, Ob_N34 hOb, Ob_K35 hOb, Ob_N35 hOb, Ob_K36 hOb, Ob_N36 hOb, Ob_K37 hOb, Ob_N37 hOb, Ob_K38 hOb, Ob_N38 hOb, Ob_K39 hOb, Ob_K40 hOb, Ob_N40 hOb, Ob_K41 hOb, Ob_N41 hOb, Ob_K42 hOb, Ob_N42 hOb, Ob_R0_0 hOb, Ob_R0_3 hOb, Ob_R0_4 hOb, Ob_R0_5 hOb, Ob_R0_6 hOb, Ob_R0_8 hOb, Ob_R0_9 hOb, Ob_R0_10 hOb, Ob_R0_11 hOb, Ob_R0_13 hOb, Ob_R0_15 hOb, Ob_R0_16 hOb, Ob_R0_17 hOb, Ob_R0_23 hOb, Ob_R0_24 hOb, Ob_R0_25 hOb, Ob_R0_26 hOb, Ob_R0_29 hOb, Ob_R0_31 hOb, Ob_R0_33 hOb, Ob_R0_35 hOb, Ob_R27_8 hOb, Ob_R39_8 hOb, Ob_R39_9 hOb, hx0, hxa, hu, ha, hcp, sI_pZo (show x < x + 14 ∨ x + 14 + 5 < x by omega), gR_wR, hb, gI_sI, gI_sR, gI_wR, gK_wR, gN_wR, (show ¬ x = x + 29 by omega)]
    refine iff_m (PM_ext (fun c j => ?_) (fun c j => rfl) (fun c j => ?_) (fun c => rfl) (fun c => rfl) rfl rfl)
    · show gI (sI (pZ (pZ (sI m x 14 (nI 7)) (x + 14) R) a R) x 14 (nI 8)) c j = gI (pZ (sI (pZ m a R) x 14 (nI 8)) (x + 14) R) c j
      rw [pZ_comm (by omega), ← sI_pZo (m := m) (a := x) (z := a) (by omega), sI_pZo (by omega), sI_sI]
    · show gR (sR (wR m (x + 29) g) (x + 29) 7 (some a)) c j = gR (wR m (x + 29) (fun j => if j < 7 then gR m (x + 29) (j + 1) else if j = 7 then some a else gR m (x + 29) j)) c j
      rw [gR_sR, gR_wR, gR_wR, hg]
      by_cases h : c = x + 29
      · simp only [if_pos h]
        by_cases h2 : j = 7
        · rw [if_pos ⟨h, h2⟩, if_neg (by omega), if_pos h2]
        · rw [if_neg (fun q => h2 q.2), if_neg h2]
      · simp only [if_neg h]
        rw [if_neg (fun q => h q.1)]
  · cases hua : gR m (x + 29) u with
    | none =>
      refine ⟨stN m, gX m, _, u + 1, Or.inr (Or.inl ⟨by omega, hua, rfl, rfl, rfl, rfl⟩), fun r => ?_⟩
      have hOc : Ob (stN (pZ m (x + 14) R)) x := Ob_stN (show Ob (pZ m (x + 14) R) x from hOb) (show x + 42 < gX m by omega)
      have hk2 : gK (stN (pZ m (x + 14) R)) (gX (pZ m (x + 14) R)) = 4 := St_K0 (stN_St _)
      have hux : gI (stN (pZ m (x + 14) R)) x 14 = nI u := by
        rw [gI_stN (m := pZ m (x + 14) R) (show x < gX m by omega), hx0]; exact hu
      have hxa : ∀ (m1 : PM) (R : Rw) (k : Nat), gI (pZ m1 (gX (pZ m (x + 14) R)) R) x k = gI m1 x k := fun m1 R k => gI_pZo (show x < gX m ∨ gX m + 5 < x by omega)
      have hns : ∀ d r, 9 ≤ d → (Run d 63 [.ref (gX (pZ m (x + 14) R))] (nw (pZ m (x + 14) R) 4 0 12) r ↔ r = ((0, none), stN (pZ m (x + 14) R))) := fun d r hd => c_newS (show gX m + 6 < 900000 from hX) hd
      have hb : ∀ (d : Nat) (r : PRes), 9 ≤ d → (Run d 65 [.ref (gX (pZ m (x + 14) R)), .ref (x + 14)] (stN (pZ m (x + 14) R)) r ↔ r = ((0, none), pZ (stN (pZ m (x + 14) R)) (gX (pZ m (x + 14) R)) R)) := fun d r hd => by
        refine c_be2 (stN_St _) (St_stN (show St (pZ m (x + 14) R) (x + 14) from hSt) (show x + 14 + 5 < gX m by omega)) (fun s k h => ?_) (show x + 14 + 5 < gX m ∨ gX m + 5 < x + 14 by omega) hd
        have := inr_lt h
        rw [gI_stN (m := pZ m (x + 14) R) (show x + 14 + s < gX m by omega)]
        exact Zr_pZ _ _ _ s k h
      have hKn : gK (nw (pZ m (x + 14) R) 4 0 12) (gX (pZ m (x + 14) R)) = 4 := if_pos rfl
      have hXp : gX (pZ m (x + 14) R) < 900000 := show gX m < 900000 by omega
      rw [wX1_keep (by omega) rfl]
      simp (disch := (first | exact hXp | exact hKn | (first | exact nl_i _ | exact nl_r _ | exact nl_o | exact nl_n | exact nr_i _ | exact bi_z _ | exact nr_z0 | exact nr_z1 | (with_unfolding_all exact Nat.le_of_ble_eq_true rfl) | omega | (simp only [bi_z, bi_01, gK_sI, gK_sJ, gK_sR, gK_cI, gK_cR, gK_nw, gK_wI, gK_wJ, gK_pZ, gK_pB, gK_pY, gK_bW, gK_snpM, gN_sI, gN_sJ, gN_sR, gN_cI, gN_cR, gN_nw, gN_wI, gN_wJ, gN_pZ, gN_pB, gN_pY, gN_bW, gN_snpM, gR_sI, gR_sJ, gR_sR, gR_cI, gR_cR, gR_nw, gR_wI, gR_wJ, gR_pZ, gR_pB, gR_pY, gR_bW, gR_snpM, eq_self, reduceCtorEq, or_true, true_or, or_self, or_false, false_or, and_self, Nat.reduceEqDiff, Nat.reduceLeDiff, Ob_K0 hOb, Ob_K1 hOb, Ob_N1 hOb, Ob_K2 hOb, Ob_K3 hOb, Ob_N3 hOb, Ob_K4 hOb, Ob_N4 hOb, Ob_K5 hOb, Ob_N5 hOb, Ob_K26 hOb, Ob_K27 hOb, Ob_K28 hOb, Ob_N28 hOb, Ob_K29 hOb, Ob_N29 hOb, Ob_K30 hOb, Ob_N30 hOb, Ob_K31 hOb, Ob_N31 hOb, Ob_K32 hOb, Ob_N32 hOb, Ob_K33 hOb, Ob_N33 hOb, Ob_K34 hOb, Ob_N34 hOb, Ob_K35 hOb, Ob_N35 hOb, Ob_K36 hOb, Ob_N36 hOb, Ob_K37 hOb, Ob_N37 hOb, Ob_K38 hOb, Ob_N38 hOb, Ob_K39 hOb, Ob_K40 hOb, Ob_N40 hOb, Ob_K41 hOb, Ob_N41 hOb, Ob_K42 hOb, Ob_N42 hOb, Ob_R0_0 hOb, Ob_R0_3 hOb, Ob_R0_4 hOb, Ob_R0_5 hOb, Ob_R0_6 hOb, Ob_R0_8 hOb, Ob_R0_9 hOb, Ob_R0_10 hOb, Ob_R0_11 hOb, Ob_R0_13 hOb, Ob_R0_15 hOb, Ob_R0_16 hOb, Ob_R0_17 hOb, Ob_R0_23 hOb, Ob_R0_24 hOb, Ob_R0_25 hOb, Ob_R0_26 hOb, Ob_R0_29 hOb, Ob_R0_31 hOb, Ob_R0_33 hOb, Ob_R0_35 hOb, Ob_R27_8 hOb, Ob_R39_8 hOb, Ob_R39_9 hOb, Ob_K0 hOc, Ob_K1 hOc, Ob_N1 hOc, Ob_K2 hOc, Ob_K3 hOc, Ob_N3 hOc, Ob_K4 hOc, Ob_N4 hOc, Ob_K5 hOc, Ob_N5 hOc, Ob_K26 hOc, Ob_K27 hOc, Ob_K28 hOc, Ob_N28 hOc, Ob_K29 hOc, Ob_N29 hOc, Ob_K30 hOc, Ob_N30 hOc, Ob_K31 hOc, Ob_N31 hOc, Ob_K32 hOc, Ob_N32 hOc, Ob_K33 hOc, Ob_N33 hOc, Ob_K34 hOc, Ob_N34 hOc, Ob_K35 hOc, Ob_N35 hOc, Ob_K36 hOc, Ob_N36 hOc, Ob_K37 hOc, Ob_N37 hOc, Ob_K38 hOc, Ob_N38 hOc, Ob_K39 hOc, Ob_K40 hOc, Ob_N40 hOc, Ob_K41 hOc, Ob_N41 hOc, Ob_K42 hOc, Ob_N42 hOc, Ob_R0_0 hOc, Ob_R0_3 hOc, Ob_R0_4 hOc, Ob_R0_5 hOc, Ob_R0_6 hOc, Ob_R0_8 hOc, Ob_R0_9 hOc, Ob_R0_10 hOc, Ob_R0_11 hOc, Ob_R0_13 hOc, Ob_R0_15 hOc, Ob_R0_16 hOc, Ob_R0_17 hOc, Ob_R0_23 hOc, Ob_R0_24 hOc, Ob_R0_25 hOc, Ob_R0_26 hOc, Ob_R0_29 hOc, Ob_R0_31 hOc, Ob_R0_33 hOc, Ob_R0_35 hOc, Ob_R27_8 hOc, Ob_R39_8 hOc, Ob_R39_9 hOc, St_K0 hSt, St_K1 hSt, St_N1 hSt, St_K2 hSt, St_N2 hSt, St_K3 hSt, St_N3 hSt, St_K4 hSt, St_N4 hSt, St_K5 hSt, St_N5 hSt, St_R0_0 hSt, St_R0_1 hSt, St_R0_2 hSt, St_R0_3 hSt, St_R0_4 hSt, hk2, elOk_s]; done) | (simp only [bi_z, bi_01, gK_sI, gK_sJ, gK_sR, gK_cI, gK_cR, gK_nw, gK_wI, gK_wJ, gK_pZ, gK_pB, gK_pY, gK_bW, gK_snpM, gN_sI, gN_sJ, gN_sR, gN_cI, gN_cR, gN_nw, gN_wI, gN_wJ, gN_pZ, gN_pB, gN_pY, gN_bW, gN_snpM, gR_sI, gR_sJ, gR_sR, gR_cI, gR_cR, gR_nw, gR_wI, gR_wJ, gR_pZ, gR_pB, gR_pY, gR_bW, gR_snpM, eq_self, reduceCtorEq, or_true, true_or, or_self, or_false, false_or, and_self, Nat.reduceEqDiff, Nat.reduceLeDiff, Ob_K0 hOb, Ob_K1 hOb, Ob_N1 hOb, Ob_K2 hOb, Ob_K3 hOb, Ob_N3 hOb, Ob_K4 hOb, Ob_N4 hOb, Ob_K5 hOb, Ob_N5 hOb, Ob_K26 hOb, Ob_K27 hOb, Ob_K28 hOb, Ob_N28 hOb, Ob_K29 hOb, Ob_N29 hOb, Ob_K30 hOb, Ob_N30 hOb, Ob_K31 hOb, Ob_N31 hOb, Ob_K32 hOb, Ob_N32 hOb, Ob_K33 hOb, Ob_N33 hOb, Ob_K34 hOb, Ob_N34 hOb, Ob_K35 hOb, Ob_N35 hOb, Ob_K36 hOb, Ob_N36 hOb, Ob_K37 hOb, Ob_N37 hOb, Ob_K38 hOb, Ob_N38 hOb, Ob_K39 hOb, Ob_K40 hOb, Ob_N40 hOb, Ob_K41 hOb, Ob_N41 hOb, Ob_K42 hOb, Ob_N42 hOb, Ob_R0_0 hOb, Ob_R0_3 hOb, Ob_R0_4 hOb, Ob_R0_5 hOb, Ob_R0_6 hOb, Ob_R0_8 hOb, Ob_R0_9 hOb, Ob_R0_10 hOb, Ob_R0_11 hOb, Ob_R0_13 hOb, Ob_R0_15 hOb, Ob_R0_16 hOb, Ob_R0_17 hOb, Ob_R0_23 hOb, Ob_R0_24 hOb, Ob_R0_25 hOb, Ob_R0_26 hOb, Ob_R0_29 hOb, Ob_R0_31 hOb, Ob_R0_33 hOb, Ob_R0_35 hOb, Ob_R27_8 hOb, Ob_R39_8 hOb, Ob_R39_9 hOb, Ob_K0 hOc, Ob_K1 hOc, Ob_N1 hOc, Ob_K2 hOc, Ob_K3 hOc, Ob_N3 hOc, Ob_K4 hOc, Ob_N4 hOc, Ob_K5 hOc, Ob_N5 hOc, Ob_K26 hOc, Ob_K27 hOc, Ob_K28 hOc, Ob_N28 hOc, Ob_K29 hOc, Ob_N29 hOc, Ob_K30 hOc, Ob_N30 hOc, Ob_K31 hOc, Ob_N31 hOc, Ob_K32 hOc, Ob_N32 hOc, Ob_K33 hOc, Ob_N33 hOc, Ob_K34 hOc, Ob_N34 hOc, Ob_K35 hOc, Ob_N35 hOc, Ob_K36 hOc, Ob_N36 hOc, Ob_K37 hOc, Ob_N37 hOc, Ob_K38 hOc, Ob_N38 hOc, Ob_K39 hOc, Ob_K40 hOc, Ob_N40 hOc, Ob_K41 hOc, Ob_N41 hOc, Ob_K42 hOc, Ob_N42 hOc, Ob_R0_0 hOc, Ob_R0_3 hOc, Ob_R0_4 hOc, Ob_R0_5 hOc, Ob_R0_6 hOc, Ob_R0_8 hOc, Ob_R0_9 hOc, Ob_R0_10 hOc, Ob_R0_11 hOc, Ob_R0_13 hOc, Ob_R0_15 hOc, Ob_R0_16 hOc, Ob_R0_17 hOc, Ob_R0_23 hOc, Ob_R0_24 hOc, Ob_R0_25 hOc, Ob_R0_26 hOc, Ob_R0_29 hOc, Ob_R0_31 hOc, Ob_R0_33 hOc, Ob_R0_35 hOc, Ob_R27_8 hOc, Ob_R39_8 hOc, Ob_R39_9 hOc, St_K0 hSt, St_K1 hSt, St_N1 hSt, St_K2 hSt, St_N2 hSt, St_K3 hSt, St_N3 hSt, St_K4 hSt, St_N4 hSt, St_K5 hSt, St_N5 hSt, St_R0_0 hSt, St_R0_1 hSt, St_R0_2 hSt, St_R0_3 hSt, St_R0_4 hSt, hk2]; omega)))) only [Ev_unf, Nat.add_sub_cancel, Nat.add_sub_cancel_left, EvC_0, enT, enL, Value.category, List.replicate, List.length_cons, List.length_nil, List.map_cons, List.map_nil, List.sum_cons, List.sum_nil, Nat.reduceAdd, Nat.reduceSub, Nat.reduceMul, Nat.zero_add, Nat.add_zero, Nat.reduceLeDiff, List.cons_append, List.nil_append, List.append_nil, Option.toList, exists_eq_left, Nat.reduceEqDiff, reduceIte, Int.reduceNeg, Int.reduceLE, Int.reduceLT, and_self, Int.reduceAdd, Int.reduceToNat, Int.cast_ofNat_Int, ofI_nat, ofI_m1, nI_ad, nI_mul, nI_sub, nI_eqi, nI_lti, nI_lei, nI_eq0, nI_lt0, nI_le0, nI_0lt, nI_0le, nI_m1, nI_dc, bi_0, bi_n0, bi_z, nr_i, va_rf_some, va_rf_none, Bool.not_eq_true, Bool.not_eq_false, Bool.false_eq_true, Bool.true_eq_false, eq_self, not_true_eq_false, not_false_eq_true, false_and, true_and, and_true, and_false, if_false, if_true, ite_r, ite_p, ite_not, gK_sI, gK_sJ, gK_sR, gK_cI, gK_cR, gK_nw, gK_wI, gK_wJ, gK_pZ, gK_pB, gK_pY, gK_bW, gK_snpM, gN_sI, gN_sJ, gN_sR, gN_cI, gN_cR, gN_nw, gN_wI, gN_wJ, gN_pZ, gN_pB, gN_pY, gN_bW, gN_snpM, gR_sI, gR_sJ, gR_sR, gR_cI, gR_cR, gR_nw, gR_wI, gR_wJ, gR_pZ, gR_pB, gR_pY, gR_bW, gR_snpM, dX1_keep_0, E_aload_n0, E_nload_n0, dX1_keep_1, f1_200_1, dX1_keep_4, E_bipush, dX1_keep_6, E_icmp_ne, dX1_keep_9, dX1_keep_10, f1_125_1, dX1_keep_13, E_iconst, dX1_keep_14, E_aaloadn, dX1_keep_15, E_goto, dX1_keep_18, dX1_keep_19, dX1_keep_22, dX1_keep_23, dX1_keep_26, dX1_keep_27, E_ifnonnull_r, E_ifnonnull_n, dX1_keep_30, n1_95, dX1_keep_33, E_dup_i, E_dup_r, E_dup_n, dX1_keep_34, v1_97_4, dX1_keep_37, dX1_keep_40, dX1_keep_41, dX1_keep_44, dX1_keep_45, dX1_keep_48, dX1_keep_49, E_astore_n1, E_nstore_n1, dX1_keep_50, dX1_keep_51, dX1_keep_54, dX1_keep_56, dX1_keep_59, dX1_keep_60, dX1_keep_63, dX1_keep_64, dX1_keep_65, dX1_keep_68, dX1_keep_69, dX1_keep_71, s1_280, dX1_keep_74, dX1_keep_75, dX1_keep_76, dX1_keep_79, dX1_keep_80, E_isub, dX1_keep_81, p1_200_1, dX1_keep_84, E_aload_n1, E_nload_n1, dX1_keep_85, dX1_keep_86, f1_98_1, dX1_keep_89, v1_286_4, dX1_keep_92, dX1_keep_93, dX1_keep_96, dX1_keep_97, dX1_keep_100, dX1_keep_101, E_aastoren, dX1_keep_102, dX1_keep_103, dX1_keep_104, dX1_keep_107, dX1_keep_108, E_iadd, dX1_keep_109, dX1_keep_112, E_return, Ob_K0 hOb, Ob_K1 hOb, Ob_N1 hOb, Ob_K2 hOb, Ob_K3 hOb, Ob_N3 hOb, Ob_K4 hOb, Ob_N4 hOb, Ob_K5 hOb, Ob_N5 hOb, Ob_K26 hOb, Ob_K27 hOb, Ob_K28 hOb, Ob_N28 hOb, Ob_K29 hOb, Ob_N29 hOb, Ob_K30 hOb, Ob_N30 hOb, Ob_K31 hOb, Ob_N31 hOb, Ob_K32 hOb, Ob_N32 hOb, Ob_K33 hOb, Ob_N33 hOb, Ob_K34 hOb, Ob_N34 hOb, Ob_K35 hOb, Ob_N35 hOb, Ob_K36 hOb, Ob_N36 hOb, Ob_K37 hOb, Ob_N37 hOb, Ob_K38 hOb, Ob_N38 hOb, Ob_K39 hOb, Ob_K40 hOb, Ob_N40 hOb, Ob_K41 hOb, Ob_N41 hOb, Ob_K42 hOb, Ob_N42 hOb, Ob_R0_0 hOb, Ob_R0_3 hOb, Ob_R0_4 hOb, Ob_R0_5 hOb, Ob_R0_6 hOb, Ob_R0_8 hOb, Ob_R0_9 hOb, Ob_R0_10 hOb, Ob_R0_11 hOb, Ob_R0_13 hOb, Ob_R0_15 hOb, Ob_R0_16 hOb, Ob_R0_17 hOb, Ob_R0_23 hOb, Ob_R0_24 hOb, Ob_R0_25 hOb, Ob_R0_26 hOb, Ob_R0_29 hOb, Ob_R0_31 hOb, Ob_R0_33 hOb, Ob_R0_35 hOb, Ob_R27_8 hOb, Ob_R39_8 hOb, Ob_R39_9 hOb, Ob_K0 hOc, Ob_K1 hOc, Ob_N1 hOc, Ob_K2 hOc, Ob_K3 hOc, Ob_N3 hOc, Ob_K4 hOc, Ob_N4 hOc, Ob_K5 hOc, Ob_N5 hOc, Ob_K26 hOc, Ob_K27 hOc, Ob_K28 hOc, Ob_N28 hOc, Ob_K29 hOc, Ob_N29 hOc, Ob_K30 hOc, Ob_N30 hOc, Ob_K31 hOc, Ob_N31 hOc, Ob_K32 hOc, Ob_N32 hOc, Ob_K33 hOc, Ob_N33 hOc, Ob_K34 hOc, Ob_N34 hOc, Ob_K35 hOc, Ob_N35 hOc, Ob_K36 hOc, Ob_N36 hOc, Ob_K37 hOc, Ob_N37 hOc, Ob_K38 hOc, Ob_N38 hOc, Ob_K39 hOc, Ob_K40 hOc, Ob_N40 hOc, Ob_K41 hOc, Ob_N41 hOc, Ob_K42 hOc, Ob_N42 hOc, Ob_R0_0 hOc, Ob_R0_3 hOc, Ob_R0_4 hOc, Ob_R0_5 hOc, Ob_R0_6 hOc, Ob_R0_8 hOc, Ob_R0_9 hOc, Ob_R0_10 hOc, Ob_R0_11 hOc, Ob_R0_13 hOc, Ob_R0_15 hOc, Ob_R0_16 hOc, Ob_R0_17 hOc, Ob_R0_23 hOc, Ob_R0_24 hOc, Ob_R0_25 hOc, Ob_R0_26 hOc, Ob_R0_29 hOc, Ob_R0_31 hOc, Ob_R0_33 hOc, Ob_R0_35 hOc, Ob_R27_8 hOc, Ob_R39_8 hOc, Ob_R39_9 hOc, hx0, hxa, hu, hux, hua, hns, hb, gI_sR, c]
      refine iff_m ?_
      unfold kpM
      have e : gR (pZ (stN (pZ m (x + 14) R)) (gX (pZ m (x + 14) R)) R) (x + 29) = gR m (x + 29) := by
        funext j
        show gR (stN (pZ m (x + 14) R)) (x + 29) j = _
        rw [gR_stN (m := pZ m (x + 14) R) (show x + 29 < gX m by omega)]
        rfl
      rw [sR_is, e, stN_pZ (by omega)]
      show sI (wR (pZ (pZ (stN m) (x + 14) R) (gX m) R) (x + 29) (u1 (gR m (x + 29)) u (some (gX m)))) x 14 (nI (u + 1)) = _
      rw [pZ_comm (by omega), wR_pZ, sI_pZo (by omega)]
    | some a =>
      obtain ⟨hSw, h1, h2, -⟩ := hSL u (by omega) a (by rw [sl_8 (by omega)]; exact hua)
      refine ⟨m, a, _, u + 1, Or.inl ⟨by omega, hua, rfl, rfl, rfl⟩, fun r => ?_⟩
      have hxa : ∀ (m : PM) (R : Rw) (k : Nat), gI (pZ m a R) x k = gI m x k := fun m R k => gI_pZo (by omega)
      have hb : ∀ (d : Nat) (r : PRes), 9 ≤ d → (Run d 65 [.ref a, .ref (x + 14)] (pZ m (x + 14) R) r ↔ r = ((0, none), pZ (pZ m (x + 14) R) a R)) := fun d r hd => c_be2 (m := pZ m (x + 14) R) hSw hSt (Zr_pZ _ _ _) (by omega) hd
      rw [wX1_keep (by omega) rfl]
      simp (disch := (first | exact nl_i _ | exact nl_r _ | exact nl_o | exact nl_n | exact nr_i _ | exact bi_z _ | exact nr_z0 | exact nr_z1 | (with_unfolding_all exact Nat.le_of_ble_eq_true rfl) | omega | (simp only [bi_z, bi_01, gK_sI, gK_sJ, gK_sR, gK_cI, gK_cR, gK_nw, gK_wI, gK_wJ, gK_pZ, gK_pB, gK_pY, gK_bW, gK_snpM, gN_sI, gN_sJ, gN_sR, gN_cI, gN_cR, gN_nw, gN_wI, gN_wJ, gN_pZ, gN_pB, gN_pY, gN_bW, gN_snpM, gR_sI, gR_sJ, gR_sR, gR_cI, gR_cR, gR_nw, gR_wI, gR_wJ, gR_pZ, gR_pB, gR_pY, gR_bW, gR_snpM, eq_self, reduceCtorEq, or_true, true_or, or_self, or_false, false_or, and_self, Nat.reduceEqDiff, Nat.reduceLeDiff, gK_wR, gN_wR, gR_wR, elOk_s, Ob_K0 hOb, Ob_K1 hOb, Ob_N1 hOb, Ob_K2 hOb, Ob_K3 hOb, Ob_N3 hOb, Ob_K4 hOb, Ob_N4 hOb, Ob_K5 hOb, Ob_N5 hOb, Ob_K26 hOb, Ob_K27 hOb, Ob_K28 hOb, Ob_N28 hOb, Ob_K29 hOb, Ob_N29 hOb, Ob_K30 hOb, Ob_N30 hOb, Ob_K31 hOb, Ob_N31 hOb, Ob_K32 hOb, Ob_N32 hOb, Ob_K33 hOb, Ob_N33 hOb, Ob_K34 hOb, Ob_N34 hOb, Ob_K35 hOb, Ob_N35 hOb, Ob_K36 hOb, Ob_N36 hOb, Ob_K37 hOb, Ob_N37 hOb, Ob_K38 hOb, Ob_N38 hOb, Ob_K39 hOb, Ob_K40 hOb, Ob_N40 hOb, Ob_K41 hOb, Ob_N41 hOb, Ob_K42 hOb, Ob_N42 hOb, Ob_R0_0 hOb, Ob_R0_3 hOb, Ob_R0_4 hOb, Ob_R0_5 hOb, Ob_R0_6 hOb, Ob_R0_8 hOb, Ob_R0_9 hOb, Ob_R0_10 hOb, Ob_R0_11 hOb, Ob_R0_13 hOb, Ob_R0_15 hOb, Ob_R0_16 hOb, Ob_R0_17 hOb, Ob_R0_23 hOb, Ob_R0_24 hOb, Ob_R0_25 hOb, Ob_R0_26 hOb, Ob_R0_29 hOb, Ob_R0_31 hOb, Ob_R0_33 hOb, Ob_R0_35 hOb, Ob_R27_8 hOb, Ob_R39_8 hOb, Ob_R39_9 hOb, St_K0 hSt, St_K1 hSt, St_N1 hSt, St_K2 hSt, St_N2 hSt, St_K3 hSt, St_N3 hSt, St_K4 hSt, St_N4 hSt, St_K5 hSt, St_N5 hSt, St_R0_0 hSt, St_R0_1 hSt, St_R0_2 hSt, St_R0_3 hSt, St_R0_4 hSt, St_K0 hSw, St_K1 hSw, St_N1 hSw, St_K2 hSw, St_N2 hSw, St_K3 hSw, St_N3 hSw, St_K4 hSw, St_N4 hSw, St_K5 hSw, St_N5 hSw, St_R0_0 hSw, St_R0_1 hSw, St_R0_2 hSw, St_R0_3 hSw, St_R0_4 hSw]; done) | (simp only [bi_z, bi_01, gK_sI, gK_sJ, gK_sR, gK_cI, gK_cR, gK_nw, gK_wI, gK_wJ, gK_pZ, gK_pB, gK_pY, gK_bW, gK_snpM, gN_sI, gN_sJ, gN_sR, gN_cI, gN_cR, gN_nw, gN_wI, gN_wJ, gN_pZ, gN_pB, gN_pY, gN_bW, gN_snpM, gR_sI, gR_sJ, gR_sR, gR_cI, gR_cR, gR_nw, gR_wI, gR_wJ, gR_pZ, gR_pB, gR_pY, gR_bW, gR_snpM, eq_self, reduceCtorEq, or_true, true_or, or_self, or_false, false_or, and_self, Nat.reduceEqDiff, Nat.reduceLeDiff, gK_wR, gN_wR, gR_wR, elOk_s, Ob_K0 hOb, Ob_K1 hOb, Ob_N1 hOb, Ob_K2 hOb, Ob_K3 hOb, Ob_N3 hOb, Ob_K4 hOb, Ob_N4 hOb, Ob_K5 hOb, Ob_N5 hOb, Ob_K26 hOb, Ob_K27 hOb, Ob_K28 hOb, Ob_N28 hOb, Ob_K29 hOb, Ob_N29 hOb, Ob_K30 hOb, Ob_N30 hOb, Ob_K31 hOb, Ob_N31 hOb, Ob_K32 hOb, Ob_N32 hOb, Ob_K33 hOb, Ob_N33 hOb, Ob_K34 hOb, Ob_N34 hOb, Ob_K35 hOb, Ob_N35 hOb, Ob_K36 hOb, Ob_N36 hOb, Ob_K37 hOb, Ob_N37 hOb, Ob_K38 hOb, Ob_N38 hOb, Ob_K39 hOb, Ob_K40 hOb, Ob_N40 hOb, Ob_K41 hOb, Ob_N41 hOb, Ob_K42 hOb, Ob_N42 hOb, Ob_R0_0 hOb, Ob_R0_3 hOb, Ob_R0_4 hOb, Ob_R0_5 hOb, Ob_R0_6 hOb, Ob_R0_8 hOb, Ob_R0_9 hOb, Ob_R0_10 hOb, Ob_R0_11 hOb, Ob_R0_13 hOb, Ob_R0_15 hOb, Ob_R0_16 hOb, Ob_R0_17 hOb, Ob_R0_23 hOb, Ob_R0_24 hOb, Ob_R0_25 hOb, Ob_R0_26 hOb, Ob_R0_29 hOb, Ob_R0_31 hOb, Ob_R0_33 hOb, Ob_R0_35 hOb, Ob_R27_8 hOb, Ob_R39_8 hOb, Ob_R39_9 hOb, St_K0 hSt, St_K1 hSt, St_N1 hSt, St_K2 hSt, St_N2 hSt, St_K3 hSt, St_N3 hSt, St_K4 hSt, St_N4 hSt, St_K5 hSt, St_N5 hSt, St_R0_0 hSt, St_R0_1 hSt, St_R0_2 hSt, St_R0_3 hSt, St_R0_4 hSt, St_K0 hSw, St_K1 hSw, St_N1 hSw, St_K2 hSw, St_N2 hSw, St_K3 hSw, St_N3 hSw, St_K4 hSw, St_N4 hSw, St_K5 hSw, St_N5 hSw, St_R0_0 hSw, St_R0_1 hSw, St_R0_2 hSw, St_R0_3 hSw, St_R0_4 hSw]; omega))) only [Ev_unf, Nat.add_sub_cancel, Nat.add_sub_cancel_left, EvC_0, enT, enL, Value.category, List.replicate, List.length_cons, List.length_nil, List.map_cons, List.map_nil, List.sum_cons, List.sum_nil, Nat.reduceAdd, Nat.reduceSub, Nat.reduceMul, Nat.zero_add, Nat.add_zero, Nat.reduceLeDiff, List.cons_append, List.nil_append, List.append_nil, Option.toList, exists_eq_left, Nat.reduceEqDiff, reduceIte, Int.reduceNeg, Int.reduceLE, Int.reduceLT, and_self, Int.reduceAdd, Int.reduceToNat, Int.cast_ofNat_Int, ofI_nat, ofI_m1, nI_ad, nI_mul, nI_sub, nI_eqi, nI_lti, nI_lei, nI_eq0, nI_lt0, nI_le0, nI_0lt, nI_0le, nI_m1, nI_dc, bi_0, bi_n0, bi_z, nr_i, va_rf_some, va_rf_none, Bool.not_eq_true, Bool.not_eq_false, Bool.false_eq_true, Bool.true_eq_false, eq_self, not_true_eq_false, not_false_eq_true, false_and, true_and, and_true, and_false, if_false, if_true, ite_r, ite_p, ite_not, gK_sI, gK_sJ, gK_sR, gK_cI, gK_cR, gK_nw, gK_wI, gK_wJ, gK_pZ, gK_pB, gK_pY, gK_bW, gK_snpM, gN_sI, gN_sJ, gN_sR, gN_cI, gN_cR, gN_nw, gN_wI, gN_wJ, gN_pZ, gN_pB, gN_pY, gN_bW, gN_snpM, gR_sI, gR_sJ, gR_sR, gR_cI, gR_cR, gR_nw, gR_wI, gR_wJ, gR_pZ, gR_pB, gR_pY, gR_bW, gR_snpM, dX1_keep_0, E_aload_n0, E_nload_n0, dX1_keep_1, f1_200_1, dX1_keep_4, E_bipush, dX1_keep_6, E_icmp_ne, dX1_keep_9, dX1_keep_10, f1_125_1, dX1_keep_13, E_iconst, dX1_keep_14, E_aaloadn, dX1_keep_15, E_goto, dX1_keep_18, dX1_keep_19, dX1_keep_22, dX1_keep_23, dX1_keep_26, dX1_keep_27, E_ifnonnull_r, E_ifnonnull_n, dX1_keep_30, n1_95, dX1_keep_33, E_dup_i, E_dup_r, E_dup_n, dX1_keep_34, v1_97_4, dX1_keep_37, dX1_keep_40, dX1_keep_41, dX1_keep_44, dX1_keep_45, dX1_keep_48, dX1_keep_49, E_astore_n1, E_nstore_n1, dX1_keep_50, dX1_keep_51, dX1_keep_54, dX1_keep_56, dX1_keep_59, dX1_keep_60, dX1_keep_63, dX1_keep_64, dX1_keep_65, dX1_keep_68, dX1_keep_69, dX1_keep_71, s1_280, dX1_keep_74, dX1_keep_75, dX1_keep_76, dX1_keep_79, dX1_keep_80, E_isub, dX1_keep_81, p1_200_1, dX1_keep_84, E_aload_n1, E_nload_n1, dX1_keep_85, dX1_keep_86, f1_98_1, dX1_keep_89, v1_286_4, dX1_keep_92, dX1_keep_93, dX1_keep_96, dX1_keep_97, dX1_keep_100, dX1_keep_101, E_aastoren, dX1_keep_102, dX1_keep_103, dX1_keep_104, dX1_keep_107, dX1_keep_108, E_iadd, dX1_keep_109, dX1_keep_112, E_return, Ob_K0 hOb, Ob_K1 hOb, Ob_N1 hOb, Ob_K2 hOb, Ob_K3 hOb, Ob_N3 hOb, Ob_K4 hOb, Ob_N4 hOb, Ob_K5 hOb, Ob_N5 hOb, Ob_K26 hOb, Ob_K27 hOb, Ob_K28 hOb, Ob_N28 hOb, Ob_K29 hOb, Ob_N29 hOb, Ob_K30 hOb, Ob_N30 hOb, Ob_K31 hOb, Ob_N31 hOb, Ob_K32 hOb, Ob_N32 hOb, Ob_K33 hOb, Ob_N33 hOb, Ob_K34 hOb, Ob_N34 hOb, Ob_K35 hOb, Ob_N35 hOb, Ob_K36 hOb, Ob_N36 hOb, Ob_K37 hOb, Ob_N37 hOb, Ob_K38 hOb, Ob_N38 hOb, Ob_K39 hOb, Ob_K40 hOb, Ob_N40 hOb, Ob_K41 hOb, Ob_N41 hOb, Ob_K42 hOb, Ob_N42 hOb, Ob_R0_0 hOb, Ob_R0_3 hOb, Ob_R0_4 hOb, Ob_R0_5 hOb, Ob_R0_6 hOb, Ob_R0_8 hOb, Ob_R0_9 hOb, Ob_R0_10 hOb, Ob_R0_11 hOb, Ob_R0_13 hOb, Ob_R0_15 hOb, Ob_R0_16 hOb, Ob_R0_17 hOb, Ob_R0_23 hOb, Ob_R0_24 hOb, Ob_R0_25 hOb, Ob_R0_26 hOb, Ob_R0_29 hOb, Ob_R0_31 hOb, Ob_R0_33 hOb, Ob_R0_35 hOb, Ob_R27_8 hOb, Ob_R39_8 hOb, Ob_R39_9 hOb, hx0, hxa, hu, hua, hb, gI_sR, c]
      refine iff_m ?_
      unfold kpM
      rw [sR_is, u1_self _ _ _ (show gR (pZ (pZ m (x + 14) R) a R) (x + 29) u = some a from hua), pZ_comm (by omega), wR_pZ, sI_pZo (by omega)]
      rfl
end CC
