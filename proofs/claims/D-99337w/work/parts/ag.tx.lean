/-! WILLS: text as lists of letters (no program in sight) -/
def ap : (Nat → Int32) → Nat → List Nat → (Nat → Int32)
  | g, _, [] => g
  | g, q, c :: l => ap (u1 g q (nI c)) (q + 1) l
theorem ap_app : ∀ (l l' : List Nat) (g : Nat → Int32) (q : Nat), ap g q (l ++ l') = ap (ap g q l) (q + l.length) l'
  | [], _, _, _ => rfl
  | c :: l, l', g, q => by
    show ap (u1 g q (nI c)) (q + 1) (l ++ l') = ap (ap (u1 g q (nI c)) (q + 1) l) (q + (l.length + 1)) l'
    rw [ap_app l l', show q + 1 + l.length = q + (l.length + 1) by omega]
theorem ap_lo : ∀ (l : List Nat) (g : Nat → Int32) (q j : Nat), j < q → ap g q l j = g j
  | [], _, _, _, _ => rfl
  | c :: l, g, q, j, h => by
    show ap (u1 g q (nI c)) (q + 1) l j = _
    rw [ap_lo l _ _ _ (by omega)]
    exact if_neg (by omega)
theorem ap_at : ∀ (l : List Nat) (g : Nat → Int32) (q j : Nat), j < l.length → ap g q l (q + j) = nI (l.getD j 0)
  | [], _, _, _, h => absurd h (Nat.not_lt_zero _)
  | c :: l, g, q, 0, _ => by
    show ap (u1 g q (nI c)) (q + 1) l q = _
    rw [ap_lo l _ _ _ (by omega)]
    exact if_pos rfl
  | c :: l, g, q, j + 1, h => by
    show ap (u1 g q (nI c)) (q + 1) l (q + (j + 1)) = nI (l.getD j 0)
    rw [show q + (j + 1) = q + 1 + j by omega]
    exact ap_at l _ _ _ (Nat.lt_of_succ_lt_succ h)
theorem l_nat {a : Nat} (ha : a < 9223372036854775808) : (Int64.ofNat a).toInt = a := Int64.toInt_ofNat_of_lt ha
theorem l_div {a : Nat} (ha : a < 9223372036854775808) : Int64.ofNat a / 27 = Int64.ofNat (a / 27) := by
  apply Int64.toInt_inj.mp
  rw [Int64.toInt_div, l_nat ha, l_nat (by omega)]
  show ((a : Int).tdiv 27).bmod _ = _
  rw [Int.tdiv_eq_ediv_of_nonneg (by omega), Int.bmod_eq_of_le] <;> omega
theorem l_rem {a : Nat} (ha : a < 9223372036854775808) : Int64.ofNat a - Int64.ofNat (a / 27) * 27 = Int64.ofNat (a % 27) := by
  apply Int64.toInt_inj.mp
  rw [Int64.toInt_sub, Int64.toInt_mul, l_nat ha, l_nat (by omega), l_nat (by omega)]
  show ((a : Int) - ((↑(a / 27) : Int) * 27).bmod _).bmod _ = _
  rw [Int.bmod_eq_of_le (show _ ≤ (↑(a / 27) : Int) * 27 by omega) (by omega), Int.bmod_eq_of_le] <;> omega
theorem l_t32 {a : Nat} (ha : a < 2147483648) : (Int64.ofNat a).toInt32 = nI a := by
  apply Int32.toInt_inj.mp
  rw [Int64.toInt_toInt32, l_nat (by omega)]
  unfold nI
  rw [Int32.toInt_ofNat']
theorem l_lt {a b : Nat} (ha : a < 9223372036854775808) (hb : b < 9223372036854775808) : Int64.ofNat a < Int64.ofNat b ↔ a < b := by
  rw [Int64.lt_iff_toInt_lt, l_nat ha, l_nat hb]; omega
theorem l_shr {a k : Nat} (ha : a < 9223372036854775808) (hk : k < 8) : Int64.ofNat a >>> ((nI (8 * k)).toInt64 &&& 63) &&& 255 = Int64.ofNat (a / 256 ^ k % 256) := by
  have e : ∀ k, k < 8 → ((nI (8 * k)).toInt64 &&& 63).toBitVec.smod 64 = BitVec.ofNat 64 (8 * k) := by decide +kernel
  apply Int64.toBitVec.inj
  rw [Int64.toBitVec_and, Int64.toBitVec_shiftRight, e k hk]
  apply BitVec.eq_of_toNat_eq
  show ((BitVec.ofNat 64 a).sshiftRight' (BitVec.ofNat 64 (8 * k)) &&& BitVec.ofNat 64 255).toNat = (BitVec.ofNat 64 (a / 256 ^ k % 256)).toNat
  rw [BitVec.toNat_and, BitVec.sshiftRight', BitVec.sshiftRight_eq_of_msb_false, BitVec.toNat_ushiftRight, BitVec.toNat_ofNat, BitVec.toNat_ofNat, BitVec.toNat_ofNat, BitVec.toNat_ofNat, Nat.shiftRight_eq_div_pow]
  · rw [Nat.mod_eq_of_lt (show a < 2 ^ 64 by omega), Nat.mod_eq_of_lt (show 8 * k < 2 ^ 64 by omega), show (255 % 2 ^ 64 : Nat) = 2 ^ 8 - 1 from rfl, Nat.and_two_pow_sub_one_eq_mod, Nat.pow_mul]
    rw [Nat.mod_eq_of_lt (show a / 256 ^ k % 256 < 2 ^ 64 by omega)]
  · rw [BitVec.msb_eq_false_iff_two_mul_lt, BitVec.toNat_ofNat]
    omega
/-- the bytes of a word as a number -/
theorem v256_by : ∀ (l : List Nat) (k : Nat), ltr l → v256 l / 256 ^ k % 256 = l.getD k 0
  | [], k, _ => by show 0 / 256 ^ k % 256 = 0; rw [Nat.zero_div]
  | c :: l, 0, h => by
    have h1 := (ltr_c h).1
    show (v256 l * 256 + c) / 1 % 256 = c
    omega
  | c :: l, k + 1, h => by
    have h1 := (ltr_c h).1
    show (v256 l * 256 + c) / 256 ^ (k + 1) % 256 = l.getD k 0
    rw [Nat.pow_succ, Nat.mul_comm (256 ^ k) 256, ← Nat.div_div_eq_div_mul, show (v256 l * 256 + c) / 256 = v256 l by omega]
    exact v256_by l k (ltr_c h).2
theorem ltr_get {l : List Nat} {k : Nat} (h : ltr l) (hk : k < l.length) : 97 ≤ l.getD k 0 ∧ l.getD k 0 ≤ 122 := by
  have e : l.getD k 0 = l[k] := by rw [List.getD_eq_getElem?_getD, List.getElem?_eq_getElem hk]; rfl
  rw [e]
  exact h _ (List.getElem_mem hk)
theorem getD_ge {l : List Nat} {k : Nat} (hk : l.length ≤ k) : l.getD k 0 = 0 := by
  rw [List.getD_eq_getElem?_getD, List.getElem?_eq_none hk]; rfl
theorem take_rev {l : List Nat} {k : Nat} (hk : k < l.length) : (l.take (k + 1)).reverse = l.getD k 0 :: (l.take k).reverse := by
  have e : l.getD k 0 = l[k] := by rw [List.getD_eq_getElem?_getD, List.getElem?_eq_getElem hk]; rfl
  rw [e, List.take_succ_eq_append_getElem hk, List.reverse_append]; rfl
/-- a number's digits -/
def dgs (n : Nat) : List Nat := if n < 10 then [48 + n] else if n < 100 then [48 + n / 10, 48 + n % 10] else if n < 1000 then [48 + n / 100, 48 + n / 10 % 10, 48 + n % 10] else [48 + n / 1000, 48 + n / 100 % 10, 48 + n / 10 % 10, 48 + n % 10]
theorem dgs_10 {n : Nat} (h : 10 ≤ n) (h2 : n < 10000) : dgs n = dgs (n / 10) ++ [48 + n % 10] := by
  unfold dgs
  by_cases c1 : n < 100
  · rw [if_neg (by omega), if_pos c1, if_pos (by omega)]; rfl
  · by_cases c2 : n < 1000
    · rw [if_neg (by omega), if_neg c1, if_pos c2, if_neg (by omega), if_pos (by omega), Nat.div_div_eq_div_mul]; rfl
    · rw [if_neg (by omega), if_neg c1, if_neg c2, if_neg (by omega), if_neg (by omega), if_pos (by omega), Nat.div_div_eq_div_mul, Nat.div_div_eq_div_mul]; rfl
theorem dgs_len {n : Nat} : 1 ≤ (dgs n).length ∧ (dgs n).length ≤ 4 := by
  have h : (dgs n).length = if n < 10 then 1 else if n < 100 then 2 else if n < 1000 then 3 else 4 := by
    unfold dgs
    split
    · rfl
    · split
      · rfl
      · split <;> rfl
  rw [h]
  split
  · omega
  · split
    · omega
    · split <;> omega
