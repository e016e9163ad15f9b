/-! ACTS on rows -/
def mn (a b : Int32) : Int32 := if a ≤ b then a else b
theorem mn_l (a b : Int32) : mn a b = if a < b then a else b := by
  unfold mn
  by_cases h : a < b
  · rw [if_pos h, if_pos (by rw [Int32.le_iff_toInt_le]; rw [Int32.lt_iff_toInt_lt] at h; omega)]
  · rw [if_neg h]
    by_cases h2 : a ≤ b
    · rw [if_pos h2]
      rw [Int32.le_iff_toInt_le] at h2
      rw [Int32.lt_iff_toInt_lt] at h
      rw [i32_eq]; omega
    · rw [if_neg h2]
theorem mn_comm (a b : Int32) : mn a b = mn b a := by
  rw [mn_l a b]
  unfold mn
  by_cases h : a < b
  · rw [if_pos h, if_neg (by rw [Int32.le_iff_toInt_le]; rw [Int32.lt_iff_toInt_lt] at h; omega)]
  · rw [if_neg h, if_pos (by rw [Int32.le_iff_toInt_le]; rw [Int32.lt_iff_toInt_lt] at h; omega)]
theorem mn_0 {a : Int32} (h : 0 ≤ a) : mn a 0 = 0 := by
  unfold mn
  by_cases q : a ≤ 0
  · rw [if_pos q, i32_eq]
    rw [Int32.le_iff_toInt_le] at h q
    omega
  · rw [if_neg q]
theorem tI_sub {a b : Int32} (h1 : -2147483648 ≤ a.toInt - b.toInt) (h2 : a.toInt - b.toInt < 2147483648) : (a - b).toInt = a.toInt - b.toInt := by
  rw [Int32.toInt_sub]; exact Int.bmod_eq_of_le (by omega) (by omega)
theorem tI_add {a b : Int32} (h1 : -2147483648 ≤ a.toInt + b.toInt) (h2 : a.toInt + b.toInt < 2147483648) : (a + b).toInt = a.toInt + b.toInt := by
  rw [Int32.toInt_add]; exact Int.bmod_eq_of_le (by omega) (by omega)
theorem tI_mul {a b : Int32} (h1 : -2147483648 ≤ a.toInt * b.toInt) (h2 : a.toInt * b.toInt < 2147483648) : (a * b).toInt = a.toInt * b.toInt := by
  rw [Int32.toInt_mul]; exact Int.bmod_eq_of_le (by omega) (by omega)
theorem i32_0le {a : Int32} : 0 ≤ a ↔ 0 ≤ a.toInt := by
  rw [Int32.le_iff_toInt_le]; rfl
theorem mn_tI (a b : Int32) : (mn a b).toInt = min a.toInt b.toInt := by
  unfold mn
  split
  · rename_i h; rw [Int32.le_iff_toInt_le] at h; omega
  · rename_i h; rw [Int32.le_iff_toInt_le] at h; omega
def pasS (h : Option Nat) (p d : Nat) (x : Rw × Int32) : Rw × Int32 :=
  let R1 := up (up x.1 0 8 (x.1 0 8 + mn x.2 (x.1 1 (6 * p + d)))) 1 (6 * p + d) 0
  (match h with
    | none => up R1 2 d (R1 2 d + (x.1 1 (6 * p + d) - mn x.2 (x.1 1 (6 * p + d))))
    | some q => up R1 1 (6 * q + d) (R1 1 (6 * q + d) + (x.1 1 (6 * p + d) - mn x.2 (x.1 1 (6 * p + d)))), x.2 - mn x.2 (x.1 1 (6 * p + d)))
def pasX (B R : Rw) (n p k : Nat) : Rw × Int32 := it (pasS (heirF B R n p (R 0 6 ||| R 0 7)) p) k (R, B 0 10)
def pasF (B R : Rw) (n p : Nat) : Rw := up (pasX B R n p 6).1 0 10 ((pasX B R n p 6).1 0 10 + 1)
def passF (B R : Rw) (n p : Nat) : Rw := if onF R p = 0 then R else pasF B R n p
def eatF (R : Rw) (p d : Nat) (n : Int32) : Rw := up (up (up R 1 (6 * p + d) (R 1 (6 * p + d) - n)) 4 p (R 4 p + n)) 3 p (R 3 p + n)
def eatsS (B : Rw) (p d : Nat) (R : Rw) : Rw := eatF R p d (mn (R 1 (6 * p + d)) (B 3 p - R 4 p))
def eatsF (B R : Rw) (p : Nat) : Rw := it (eatsS B p) 6 R
def srvF (R : Rw) (p d : Nat) (n : Int32) : Rw := up (up R 2 d (R 2 d - n)) 1 (6 * p + d) (R 1 (6 * p + d) + n)
def bit (p : Nat) : Int32 := 1 <<< (nI p &&& 31)
def dieF (B R : Rw) (n p : Nat) : Rw := passF B (up R 0 6 (R 0 6 ||| bit p)) n p
def splS (B : Rw) (p d : Nat) (R : Rw) : Rw := up (up R 1 (6 * p + d) (R 1 (6 * p + d) - mn (B 6 d) (R 1 (6 * p + d)))) 0 9 (R 0 9 + mn (B 6 d) (R 1 (6 * p + d)))
def hngF (B : Rw) (p : Nat) (R : Rw) : Rw := if hs (R 0 6) (nI p) = true then R else up R 5 p (R 5 p + (B 3 p - R 4 p))
def gonS (B : Rw) (p : Nat) (R : Rw) : Rw := it (splS B p) 6 (up (hngF B p R) 4 p 0)
def gonF (B R : Rw) (n : Nat) : Rw := up (it (gonS B) n R) 0 5 (it (gonS B) n R 0 5 + 1)
def mealF (B R : Rw) (n k : Nat) : Rw := it (fun _ R => gonF B R n) k R
def drw (s : Int32) : Int32 := s * 1103515245 + 12345
def drV (s n : Int32) : Int32 := (s.toUInt32 >>> (Int32.toUInt32 8 &&& Int32.toUInt32 31)).toInt32 - (s.toUInt32 >>> (Int32.toUInt32 8 &&& Int32.toUInt32 31)).toInt32 / n * n
def drP (B : Rw) (n p : Nat) (x : Rw × Int32) : Rw × Int32 :=
  if hs (x.1 0 6) (nI p) = true then x
  else if drV (drw x.2) 6 = 0 then (passF B x.1 n p, drw x.2)
  else if drV (drw x.2) 6 = 1 then (if drV (drw (drw x.2)) 4 = 0 then dieF B x.1 n p else x.1, drw (drw x.2))
  else (eatsF B x.1 p, drw x.2)
def drD (B : Rw) (n : Nat) (x : Rw × Int32) : Rw × Int32 := (gonF B (it (drP B n) n x).1 n, (it (drP B n) n x).2)
def drsF (B : Rw) (n k : Nat) (x : Rw × Int32) : Rw × Int32 := it (fun _ x => drD B n x) k x
/-! six dishes, or as many as there are -/
/-- beyond the dishes nothing lies on a plate -/
def ZD (R : Rw) (nd : Nat) : Prop := ∀ p d, nd ≤ d → d < 6 → R 1 (6 * p + d) = 0
theorem ZD_up {R : Rw} {nd s k : Nat} {v : Int32} (h : ZD R nd) (hs : s = 1 → k % 6 < nd) : ZD (up R s k v) nd := by
  intro p d h1 h2
  rw [up_e, if_neg (fun c => by have := hs c.1.symm; have e := c.2; omega)]
  exact h p d h1 h2
theorem pas_6 {B R : Rw} {n p nd : Nat} (hd : nd ≤ 6) (hZ : ZD R nd) (hb : 0 ≤ B 0 10) (hp : ∀ d, d < 6 → 0 ≤ (R 1 (6 * p + d)).toInt) : pasX B R n p nd = pasX B R n p 6 := by
  unfold pasX
  generalize heirF B R n p (R 0 6 ||| R 0 7) = h
  have key : ∀ k, k ≤ nd → ZD (it (pasS h p) k (R, B 0 10)).1 nd ∧ 0 ≤ (it (pasS h p) k (R, B 0 10)).2 ∧ ∀ d, k ≤ d → d < 6 → (it (pasS h p) k (R, B 0 10)).1 1 (6 * p + d) = R 1 (6 * p + d) := by
    intro k
    induction k with
    | zero => intro _; exact ⟨hZ, hb, fun _ _ _ => rfl⟩
    | succ k ih =>
      intro hk
      obtain ⟨i1, i2, i3⟩ := ih (by omega)
      rw [it_s]
      generalize it (pasS h p) k (R, B 0 10) = x at i1 i2 i3
      refine ⟨?_, ?_, ?_⟩
      · unfold pasS
        have h1 : ZD (up (up x.1 0 8 (x.1 0 8 + mn x.2 (x.1 1 (6 * p + k)))) 1 (6 * p + k) 0) nd := ZD_up (ZD_up i1 (by omega)) (by omega)
        cases h with
        | none => exact ZD_up h1 (by omega)
        | some q => exact ZD_up h1 (by omega)
      · unfold pasS
        simp only
        have a := hp k (by omega)
        rw [i3 k (by omega) (by omega)]
        rw [i32_0le] at i2 ⊢
        have e := mn_tI x.2 (R 1 (6 * p + k))
        rw [tI_sub (by have := Int32.toInt_lt x.2; omega) (by have := Int32.toInt_lt x.2; omega)]
        omega
      · intro d hd1 hd2
        rw [← i3 d (by omega) hd2]
        unfold pasS
        cases h with
        | none => simp only [up_e]; rw [if_neg (by omega), if_neg (by omega), if_neg (by omega)]
        | some q => simp only [up_e]; rw [if_neg (by omega), if_neg (by omega), if_neg (by omega)]
  symm
  refine it_id 6 hd (fun i h1 h2 => ?_)
  obtain ⟨i1, i2, _⟩ := key nd (Nat.le_refl nd)
  generalize it (pasS h p) nd (R, B 0 10) = x at i1 i2
  have z : x.1 1 (6 * p + i) = 0 := i1 p i h1 h2
  have e1 : up x.1 1 (6 * p + i) 0 = x.1 := by
    conv => lhs; rw [← z]
    exact up_self _ _ _
  unfold pasS
  rw [z, mn_0 i2]
  simp only [Int32.sub_zero, Int32.add_zero, up_self]
  cases h with
  | none => simp only [up_self, e1]
  | some q => simp only [up_self, e1]
theorem eatF_0 {R : Rw} {p d : Nat} : eatF R p d 0 = R := by
  unfold eatF
  rw [Int32.sub_zero, Int32.add_zero, Int32.add_zero, up_self, up_self, up_self]
theorem eats_6 {B R : Rw} {p nd : Nat} (hd : nd ≤ 6) (hZ : ZD R nd) (hw : ∀ k, k ≤ 6 → 0 ≤ B 3 p - (it (eatsS B p) k R) 4 p) : it (eatsS B p) nd R = eatsF B R p := by
  unfold eatsF
  symm
  have key : ∀ k, k ≤ nd → ZD (it (eatsS B p) k R) nd := by
    intro k
    induction k with
    | zero => intro _; exact hZ
    | succ k ih =>
      intro hk
      rw [it_s]
      unfold eatsS eatF
      exact ZD_up (ZD_up (ZD_up (ih (by omega)) (by omega)) (by omega)) (by omega)
  refine it_id 6 hd (fun i h1 h2 => ?_)
  unfold eatsS
  have hk := key nd (Nat.le_refl nd) p i h1 h2
  have h3 := hw nd hd
  unfold eatsS at hk h3
  rw [hk, mn_comm, mn_0 h3, eatF_0]
theorem spl_6 {B R : Rw} {p nd : Nat} (hd : nd ≤ 6) (hB : ∀ d, nd ≤ d → d < 6 → B 6 d = 0) (hp : ∀ d, nd ≤ d → d < 6 → R 1 (6 * p + d) = 0) : it (splS B p) nd R = it (splS B p) 6 R := by
  symm
  have key : ∀ k, k ≤ nd → ∀ d, nd ≤ d → d < 6 → (it (splS B p) k R) 1 (6 * p + d) = 0 := by
    intro k
    induction k with
    | zero => intro _; exact hp
    | succ k ih =>
      intro hk d h1 h2
      rw [it_s]
      unfold splS
      rw [up_e, if_neg (by omega), up_e, if_neg (by omega)]
      have := ih (by omega) d h1 h2
      unfold splS at this
      exact this
  refine it_id 6 hd (fun i h1 h2 => ?_)
  have h3 := key nd (Nat.le_refl nd) i h1 h2
  generalize it (splS B p) nd R = x at h3
  unfold splS
  have e : mn (0 : Int32) 0 = 0 := by decide
  rw [hB i h1 h2, h3, e, Int32.sub_zero, Int32.add_zero]
  have e1 : up x 1 (6 * p + i) 0 = x := by
    conv => lhs; rw [← h3]
    exact up_self _ _ _
  rw [e1, up_self]
theorem it_comm {α : Type} {f : Nat → α → α} {g : α → α} {n : Nat} (h : ∀ i x, i < n → g (f i x) = f i (g x)) (a : α) : g (it f n a) = it f n (g a) := by
  induction n with
  | zero => rfl
  | succ n ih => rw [it_s, it_s, h n _ (by omega), ih (fun i x hi => h i x (by omega))]
/-- the meal's count set behind the dishes, as the reference does it -/
theorem gon_m {B R : Rw} {p : Nat} (n : Nat) : up (it (splS B p) n R) 4 p 0 = it (splS B p) n (up R 4 p 0) := by
  refine it_comm (g := fun R => up R 4 p 0) (fun i x _ => ?_) R
  unfold splS
  have e1 : up x 4 p 0 1 (6 * p + i) = x 1 (6 * p + i) := if_neg (by omega)
  have e2 : up x 4 p 0 0 9 = x 0 9 := if_neg (by omega)
  rw [e1, e2]
  show up (up (up x 1 _ _) 0 9 _) 4 p 0 = _
  rw [up_comm _ _ _ (by omega : ¬ ((0 : Nat) = 4 ∧ 9 = p)), up_comm x _ _ (by omega : ¬ ((1 : Nat) = 4 ∧ 6 * p + i = p))]
