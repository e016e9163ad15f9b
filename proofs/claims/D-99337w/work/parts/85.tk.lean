/-! TOKENS: what a text is cut into (no program in sight) -/
def isL (c : Nat) : Bool := decide (97 ≤ c ∧ c ≤ 122)
def isD (c : Nat) : Bool := decide (48 ≤ c ∧ c ≤ 57)
def isA (c : Nat) : Bool := isL c || isD c
def skF (T : Nat → Nat) : Nat → Nat → Nat
  | 0, p => p
  | k + 1, p => if T p = 32 ∨ T p = 10 then skF T k (p + 1) else p
def enF (T : Nat → Nat) : Nat → Nat → Nat
  | 0, p => p
  | k + 1, p => if isA (T p) = true then enF T k (p + 1) else p
/-- letters (or digits) all along: k from a -/
def alF (T : Nat → Nat) (s : Bool) (a : Nat) : Nat → Bool
  | 0 => true
  | k + 1 => alF T s a k && (isL (T (a + k)) == s)
def vlF (T : Nat → Nat) (a : Nat) : Nat → Int32
  | 0 => nI 0
  | k + 1 => if k < 3 then nI 10 * vlF T a k + nI (T (a + k)) - nI 48 else vlF T a k
def ncF (T : Nat → Nat) (a : Nat) : Nat → Int64
  | 0 => Int64.ofNat 0
  | k + 1 => if k < 7 then ncF T a k <<< ((nI 8).toInt64 &&& 63) ||| (nI (T (a + k))).toInt64 else ncF T a k
theorem skF_le (T : Nat → Nat) : ∀ k p, p ≤ skF T k p ∧ skF T k p ≤ p + k := by
  intro k
  induction k with
  | zero => intro p; exact ⟨Nat.le_refl _, Nat.le_refl _⟩
  | succ k ih =>
    intro p
    unfold skF
    split
    · have := ih (p + 1); omega
    · omega
theorem enF_le (T : Nat → Nat) : ∀ k p, p ≤ enF T k p ∧ enF T k p ≤ p + k := by
  intro k
  induction k with
  | zero => intro p; exact ⟨Nat.le_refl _, Nat.le_refl _⟩
  | succ k ih =>
    intro p
    unfold enF
    split
    · have := ih (p + 1); omega
    · omega
/-- a reader's fields: p, at, token, value, many; name -/
def rdM (m : PM) (q : Nat) (p a t v n : Int32) (w : Int64) : PM := (fun c j => if c = q ∧ j = 1 then p else if c = q ∧ j = 2 then a else if c = q ∧ j = 3 then t else if c = q ∧ j = 4 then v else if c = q ∧ j = 5 then n else m.1 c j, fun c j => if c = q ∧ j = 6 then w else m.2.1 c j, m.2.2)
section RD
variable {m : PM} {q : Nat} {p a t v n u : Int32} {w w' : Int64}
theorem gK_rdM (c : Nat) : gK (rdM m q p a t v n w) c = gK m c := rfl
theorem gN_rdM (c : Nat) : gN (rdM m q p a t v n w) c = gN m c := rfl
theorem gR_rdM (c j : Nat) : gR (rdM m q p a t v n w) c j = gR m c j := rfl
theorem gX_rdM : gX (rdM m q p a t v n w) = gX m := rfl
theorem gS_rdM : gS (rdM m q p a t v n w) = gS m := rfl
theorem rd_1 : gI (rdM m q p a t v n w) q 1 = p := if_pos ⟨rfl, rfl⟩
theorem rd_2 : gI (rdM m q p a t v n w) q 2 = a := by show (if _ then _ else _) = _; simp
theorem rd_3 : gI (rdM m q p a t v n w) q 3 = t := by show (if _ then _ else _) = _; simp
theorem rd_4 : gI (rdM m q p a t v n w) q 4 = v := by show (if _ then _ else _) = _; simp
theorem rd_5 : gI (rdM m q p a t v n w) q 5 = n := by show (if _ then _ else _) = _; simp
theorem rd_6 : gJ (rdM m q p a t v n w) q 6 = w := if_pos ⟨rfl, rfl⟩
theorem rd_0 : gI (rdM m q p a t v n w) q 0 = gI m q 0 := by show (if _ then _ else _) = _; simp; rfl
theorem rd_9 {j : Nat} (h : 6 ≤ j) : gI (rdM m q p a t v n w) q j = gI m q j := by
  show (if q = q ∧ j = 1 then p else if q = q ∧ j = 2 then a else if q = q ∧ j = 3 then t else if q = q ∧ j = 4 then v else if q = q ∧ j = 5 then n else m.1 q j) = _
  rw [if_neg (by omega), if_neg (by omega), if_neg (by omega), if_neg (by omega), if_neg (by omega)]; rfl
theorem rd_o {c j : Nat} (h : c ≠ q) : gI (rdM m q p a t v n w) c j = gI m c j := by
  show (if c = q ∧ j = 1 then p else if c = q ∧ j = 2 then a else if c = q ∧ j = 3 then t else if c = q ∧ j = 4 then v else if c = q ∧ j = 5 then n else m.1 c j) = _
  rw [if_neg (fun z => h z.1), if_neg (fun z => h z.1), if_neg (fun z => h z.1), if_neg (fun z => h z.1), if_neg (fun z => h z.1)]; rfl
theorem rd_Jo {c j : Nat} (h : c ≠ q) : gJ (rdM m q p a t v n w) c j = gJ m c j := if_neg (fun z => h z.1)
theorem rd_s1 : sI (rdM m q p a t v n w) q 1 u = rdM m q u a t v n w := by
  refine Prod.ext ?_ rfl
  funext c j
  show (if c = q ∧ j = 1 then u else if c = q ∧ j = 1 then p else _) = (if c = q ∧ j = 1 then u else _)
  split <;> rfl
theorem rd_s2 : sI (rdM m q p a t v n w) q 2 u = rdM m q p u t v n w := by
  refine Prod.ext ?_ rfl
  funext c j
  show (if c = q ∧ j = 2 then u else if c = q ∧ j = 1 then p else if c = q ∧ j = 2 then a else _) = (if c = q ∧ j = 1 then p else if c = q ∧ j = 2 then u else _)
  by_cases h : c = q ∧ j = 2
  · rw [if_pos h, if_neg (by omega), if_pos h]
  · simp only [if_neg h]
theorem rd_s3 : sI (rdM m q p a t v n w) q 3 u = rdM m q p a u v n w := by
  refine Prod.ext ?_ rfl
  funext c j
  show (if c = q ∧ j = 3 then u else if c = q ∧ j = 1 then p else if c = q ∧ j = 2 then a else if c = q ∧ j = 3 then t else _) = (if c = q ∧ j = 1 then p else if c = q ∧ j = 2 then a else if c = q ∧ j = 3 then u else _)
  by_cases h : c = q ∧ j = 3
  · rw [if_pos h, if_neg (by omega), if_neg (by omega), if_pos h]
  · simp only [if_neg h]
theorem rd_s4 : sI (rdM m q p a t v n w) q 4 u = rdM m q p a t u n w := by
  refine Prod.ext ?_ rfl
  funext c j
  show (if c = q ∧ j = 4 then u else if c = q ∧ j = 1 then p else if c = q ∧ j = 2 then a else if c = q ∧ j = 3 then t else if c = q ∧ j = 4 then v else _) = (if c = q ∧ j = 1 then p else if c = q ∧ j = 2 then a else if c = q ∧ j = 3 then t else if c = q ∧ j = 4 then u else _)
  by_cases h : c = q ∧ j = 4
  · rw [if_pos h, if_neg (by omega), if_neg (by omega), if_neg (by omega), if_pos h]
  · simp only [if_neg h]
theorem rd_s5 : sI (rdM m q p a t v n w) q 5 u = rdM m q p a t v u w := by
  refine Prod.ext ?_ rfl
  funext c j
  show (if c = q ∧ j = 5 then u else if c = q ∧ j = 1 then p else if c = q ∧ j = 2 then a else if c = q ∧ j = 3 then t else if c = q ∧ j = 4 then v else if c = q ∧ j = 5 then n else _) = (if c = q ∧ j = 1 then p else if c = q ∧ j = 2 then a else if c = q ∧ j = 3 then t else if c = q ∧ j = 4 then v else if c = q ∧ j = 5 then u else _)
  by_cases h : c = q ∧ j = 5
  · rw [if_pos h, if_neg (by omega), if_neg (by omega), if_neg (by omega), if_neg (by omega), if_pos h]
  · simp only [if_neg h]
theorem rd_s6 : sJ (rdM m q p a t v n w) q 6 w' = rdM m q p a t v n w' := by
  refine Prod.ext rfl (Prod.ext ?_ rfl)
  funext c j
  show (if c = q ∧ j = 6 then w' else if c = q ∧ j = 6 then w else _) = (if c = q ∧ j = 6 then w' else _)
  split <;> rfl
end RD
