/-! BOOKS: what a line does, plainly -/
section GL
variable {B R : Rw} {n nd l t : Nat}
theorem bt_bit7 {p i : Nat} (hp : p < 7) (hi : i < 32) : bt (bit p) i = decide (i = p) := by
  unfold bit
  rw [b_shl p (by omega) 1 hi]
  by_cases c : p ≤ i
  · rw [decide_eq_true c, Bool.true_and, bt_1 _ (by omega)]
    exact decide_eq_decide.mpr (by omega)
  · rw [decide_eq_false c, Bool.false_and]
    exact (decide_eq_false (by omega)).symm
theorem hs_bt7 {s : Int32} {p : Nat} (hp : p < 7) : hs s (nI p) = bt s p := by
  unfold hs
  have e := and_1 (s >>> (nI p &&& 31))
  rw [b_sshr p (by omega) s (by omega), if_pos (by omega), Nat.add_zero] at e
  cases hb : bt s p
  · rw [hb] at e
    exact decide_eq_false (fun z => by have := e.mp z; contradiction)
  · rw [hb] at e
    exact decide_eq_true (e.mpr rfl)
theorem xor_or {s : Int32} {p : Nat} (hp : p < 7) (h : hs s (nI p) = false) : s ^^^ bit p = s ||| bit p := by
  rw [hs_bt7 hp] at h
  refine b_ext (fun i hi => ?_)
  rw [b_xor, b_or, bt_bit7 hp hi]
  by_cases c : i = p
  · subst c; rw [h, decide_eq_true rfl]; rfl
  · rw [decide_eq_false c]; cases bt s i <;> rfl
theorem xor_an {s : Int32} {p : Nat} (hp : p < 7) (h : hs s (nI p) = true) : s ^^^ bit p = s &&& (bit p ^^^ -1) := by
  rw [hs_bt7 hp] at h
  refine b_ext (fun i hi => ?_)
  rw [b_xor, b_and, b_xor, b_m1 i hi, bt_bit7 hp hi]
  by_cases c : i = p
  · subst c; rw [h, decide_eq_true rfl]; rfl
  · rw [decide_eq_false c]; cases bt s i <;> rfl
/-- what the class' lines do -/
def clF (B R : Rw) (n w p k : Nat) (a : Int32) : Rw := if w = 0 then eatF R p k a else if w = 1 then srvF R p k a else if w = 2 then passF B R n p else if w = 3 then up R 0 7 (R 0 7 ||| bit p) else if w = 4 then up R 0 7 (R 0 7 &&& (bit p ^^^ -1)) else dieF B R n p
theorem liv_cl {w p k : Nat} {a : Int32} (g : GR B R nd t) (hp : p < 7) (hw : w < 6) (h : whyF B R w p k a = 0) : livF B R n w p k a = clF B R n w p k a := by
  have hx : hs (R 0 6) (nI p) = false := by
    unfold whyF at h
    cases hb : hs (R 0 6) (nI p)
    · rfl
    · rw [if_pos hb] at h
      exact absurd h (by decide)
  unfold whyF at h
  rw [hx] at h
  rcases (show w = 0 ∨ w = 1 ∨ w = 2 ∨ w = 3 ∨ w = 4 ∨ w = 5 by omega) with rfl | rfl | rfl | rfl | rfl | rfl
  · rfl
  · rfl
  · by_cases c : onF R p = 0
    · rw [if_neg (by decide), if_neg (by omega), if_neg (by omega), if_pos rfl, if_pos c] at h
      exact absurd h (by decide)
    · exact liv_rise c
  · have h7 : hs (R 0 7) (nI p) = false := by
      cases hb : hs (R 0 7) (nI p)
      · rfl
      · rw [if_neg (by decide), if_neg (by omega), if_neg (by omega), if_neg (by omega), if_pos rfl, if_pos hb] at h
        exact absurd h (by decide)
    show up R 0 7 (R 0 7 ^^^ bit p) = up R 0 7 (R 0 7 ||| bit p)
    rw [xor_or hp h7]
  · have h7 : hs (R 0 7) (nI p) = true := by
      cases hb : hs (R 0 7) (nI p)
      · rw [if_neg (by decide), if_neg (by omega), if_neg (by omega), if_neg (by omega), if_neg (by omega), if_pos rfl, hb] at h
        exact absurd h (by decide)
      · rfl
    show up R 0 7 (R 0 7 ^^^ bit p) = up R 0 7 (R 0 7 &&& (bit p ^^^ -1))
    rw [xor_an hp h7]
  · exact liv_die g hp
theorem GR_clF {w p k : Nat} {a : Int32} (hB : GB B n nd l) (g : GR B R nd t) (hp : p < 7) (hw : w < 6) (hk : w < 2 → k < nd ∧ 0 ≤ a.toInt ∧ a.toInt ≤ 40) (h : whyF B R w p k a = 0) : GR B (clF B R n w p k a) nd t := by
  have hnd := GB_d6 hB
  have hx : hs (R 0 6) (nI p) = false := by
    unfold whyF at h
    cases hb : hs (R 0 6) (nI p)
    · rfl
    · rw [if_pos hb] at h
      exact absurd h (by decide)
  unfold whyF at h
  rw [hx, if_neg (by decide)] at h
  rcases (show w = 0 ∨ w = 1 ∨ w = 2 ∨ w = 3 ∨ w = 4 ∨ w = 5 by omega) with rfl | rfl | rfl | rfl | rfl | rfl
  · obtain ⟨k1, k2, k3⟩ := hk (by omega)
    rw [if_pos rfl] at h
    by_cases c1 : R 1 (6 * p + k) < a
    · rw [if_pos c1] at h; exact absurd h (by decide)
    · rw [if_neg c1] at h
      by_cases c2 : a ≤ B 3 p - R 4 p
      · have b1 := GB_w hB p hp
        have b2 := GR_m g p hp
        have e2 : (B 3 p - R 4 p).toInt = (B 3 p).toInt - (R 4 p).toInt := tI_sub (by omega) (by omega)
        rw [Int32.lt_iff_toInt_lt] at c1
        rw [Int32.le_iff_toInt_le, e2] at c2
        exact GR_eat g (GB_w hB) hp k1 hnd k2 (by omega) (by omega)
      · rw [if_neg c2] at h; exact absurd h (by decide)
  · obtain ⟨k1, k2, k3⟩ := hk (by omega)
    rw [if_neg (by omega), if_pos rfl] at h
    by_cases c1 : R 2 k < a
    · rw [if_pos c1] at h; exact absurd h (by decide)
    · rw [Int32.lt_iff_toInt_lt] at c1
      exact GR_srv g hp k1 hnd k2 (by omega)
  · exact GR_passF hB g hp
  · exact GR_up0 g (by omega)
  · exact GR_up0 g (by omega)
  · exact GR_dieF hB g hp
end GL
