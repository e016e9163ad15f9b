/-! STATES AS ROWS: B of a board, R of what is so (section, place) -/
abbrev Rw : Type := Nat → Nat → Int32
def up (R : Rw) (s k : Nat) (v : Int32) : Rw := fun t j => if t = s ∧ j = k then v else R t j
theorem up_e (R : Rw) (s k t j : Nat) (v : Int32) : up R s k v t j = if t = s ∧ j = k then v else R t j := rfl
theorem up_at (R : Rw) (s k : Nat) (v : Int32) : up R s k v s k = v := if_pos ⟨rfl, rfl⟩
theorem up_self (R : Rw) (s k : Nat) : up R s k (R s k) = R := by
  funext t j
  rw [up_e]
  split
  · rename_i h; rw [h.1, h.2]
  · rfl
theorem up_up (R : Rw) (s k : Nat) (v w : Int32) : up (up R s k v) s k w = up R s k w := by
  funext t j
  simp only [up_e]
  split <;> rfl
theorem up_comm (R : Rw) {s k t j : Nat} (v w : Int32) (h : ¬ (s = t ∧ k = j)) : up (up R s k v) t j w = up (up R t j w) s k v := by
  funext a b
  simp only [up_e]
  by_cases h1 : a = t ∧ b = j
  · rw [if_pos h1, if_neg (fun h2 => h ⟨h2.1.symm.trans h1.1, h2.2.symm.trans h1.2⟩), if_pos h1]
  · rw [if_neg h1]
    by_cases h2 : a = s ∧ b = k
    · rw [if_pos h2, if_pos h2]
    · rw [if_neg h2, if_neg h2, if_neg h1]
/-- what lies on a plate -/
def onF (R : Rw) (p : Nat) : Int32 := it (fun d s => s + R 1 (6 * p + d)) 6 0
/-- who is next of n -/
def nextF (n p : Nat) (out : Int32) : Option Nat := (ff (fun k => !hs out (nI ((p + k) % n))) 1 (n - 1)).map (fun k => (p + k) % n)
def lsB (R : Rw) (q : Nat) : Option Nat → Bool
  | none => true
  | some j => decide (R 3 q < R 3 j)
/-- who has eaten least, of the first q -/
def bestF (R : Rw) (p : Nat) (out : Int32) : Nat → Option Nat
  | 0 => none
  | q + 1 => if (¬ q = p ∧ hs out (nI q) = false) ∧ lsB R q (bestF R p out q) = true then some q else bestF R p out q
def heirF (B R : Rw) (n p : Nat) (out : Int32) : Option Nat :=
  if B 0 9 = 2 then bestF R p out n
  else if B 0 9 = 1 then (match ff (fun q => decide (B 4 q = nI p) && !hs out (nI q)) 0 n with
    | some q => some q
    | none => nextF n p out)
  else nextF n p out
theorem nextF_lt {n p k : Nat} {out : Int32} (h : nextF n p out = some k) : k < n := by
  unfold nextF at h
  cases hf : ff (fun k => !hs out (nI ((p + k) % n))) 1 (n - 1) with
  | none => rw [hf] at h; cases h
  | some j =>
    rw [hf] at h
    have := ff_lt hf
    cases h
    exact Nat.mod_lt _ (by omega)
theorem bestF_lt {R : Rw} {p : Nat} {out : Int32} {q k : Nat} (h : bestF R p out q = some k) : k < q := by
  induction q with
  | zero => cases h
  | succ q ih =>
    unfold bestF at h
    split at h
    · cases h; omega
    · have := ih h; omega
theorem heirF_lt {B R : Rw} {n p k : Nat} {out : Int32} (h : heirF B R n p out = some k) : k < n := by
  unfold heirF at h
  split at h
  · exact bestF_lt h
  · split at h
    · split at h
      · rename_i q hq
        cases h
        have := ff_lt hq
        omega
      · exact nextF_lt h
    · exact nextF_lt h
/-- downwards -/
def dn {α : Type} (f : Nat → α → α) : Nat → α → α
  | 0, b => b
  | k + 1, b => dn f k (f k b)
theorem dn_s {α : Type} (f : Nat → α → α) (k : Nat) (b : α) : dn f (k + 1) b = dn f k (f k b) := rfl
def m1F (B : Rw) (p : Nat) (out : Int32) (q : Nat) (b : Option Nat) : Option Nat := if q = p ∨ hs out (nI q) = true then b else if B 4 q = nI p then some q else b
def m2F (R : Rw) (p : Nat) (out : Int32) (q : Nat) (b : Option Nat) : Option Nat := if q = p ∨ hs out (nI q) = true then b else (match b with
  | none => some q
  | some j => if R 3 q ≤ R 3 j then some q else b)
theorem m1_ff {B : Rw} {p : Nat} {out : Int32} (hp : ¬ B 4 p = nI p) : ∀ (n : Nat) (b : Option Nat), dn (m1F B p out) n b = (match ff (fun q => decide (B 4 q = nI p) && !hs out (nI q)) 0 n with
    | some q => some q
    | none => b) := by
  have key : ∀ (k i n : Nat), i + k = n → ∀ b, (match ff (fun q => decide (B 4 q = nI p) && !hs out (nI q)) i k with
    | some q => some q
    | none => m1F B p out n b) = (match ff (fun q => decide (B 4 q = nI p) && !hs out (nI q)) i (k + 1) with
    | some q => some q
    | none => b) := by
    intro k
    induction k with
    | zero =>
      intro i n h b
      have h : n = i := by omega
      subst h
      rw [ff_s, ff_0, ff_0]
      unfold m1F
      by_cases c1 : B 4 n = nI p
      · by_cases c2 : hs out (nI n) = true
        · simp [c1, c2]
        · have : ¬ n = p := fun e => hp (by rw [← e]; exact c1.trans (by rw [e]))
          simp [c1, c2, this]
      · simp [c1]
    | succ k ih =>
      intro i n h b
      rw [ff_s]
      conv => rhs; rw [ff_s]
      by_cases c : (decide (B 4 i = nI p) && !hs out (nI i)) = true
      · rw [if_pos c, if_pos c]
      · rw [if_neg c, if_neg c]
        exact ih (i + 1) n (by omega) b
  intro n b
  induction n generalizing b with
  | zero => rfl
  | succ n ih => rw [dn_s, ih, key n 0 n (by omega) b]
theorem i32_lt_irrefl (x : Int32) : ¬ x < x := by rw [Int32.lt_iff_toInt_lt]; omega
/-- the best: what it is -/
def isBest (R : Rw) (p : Nat) (out : Int32) (lo n : Nat) (b : Option Nat) : Prop := match b with
  | none => ∀ i, lo ≤ i → i < n → (i = p ∨ hs out (nI i) = true)
  | some j => lo ≤ j ∧ j < n ∧ ¬ (j = p ∨ hs out (nI j) = true) ∧ (∀ i, lo ≤ i → i < n → ¬ (i = p ∨ hs out (nI i) = true) → (R 3 j).toInt ≤ (R 3 i).toInt ∧ (i < j → (R 3 j).toInt < (R 3 i).toInt))
theorem best_best {R : Rw} {p : Nat} {out : Int32} (n : Nat) : isBest R p out 0 n (bestF R p out n) := by
  induction n with
  | zero => intro i _ h; omega
  | succ n ih =>
    unfold bestF
    cases hb : bestF R p out n with
    | none =>
      rw [hb] at ih
      by_cases c : ¬ n = p ∧ hs out (nI n) = false
      · rw [if_pos ⟨c, rfl⟩]
        refine ⟨by omega, by omega, by simp [c], fun i _ hi hn => ?_⟩
        by_cases q : i = n
        · subst q; exact ⟨by omega, by omega⟩
        · exact absurd (ih i (by omega) (by omega)) hn
      · rw [if_neg (fun z => c z.1)]
        intro i h1 h2
        by_cases q : i = n
        · subst q
          by_cases q2 : i = p
          · exact Or.inl q2
          · refine Or.inr ?_
            cases hh : hs out (nI i)
            · exact absurd ⟨q2, hh⟩ c
            · rfl
        · exact ih i h1 (by omega)
    | some j =>
      rw [hb] at ih
      obtain ⟨h1, h2, h3, h4⟩ := ih
      by_cases c : (¬ n = p ∧ hs out (nI n) = false) ∧ lsB R n (some j) = true
      · rw [if_pos c]
        have hl : (R 3 n).toInt < (R 3 j).toInt := Int32.lt_iff_toInt_lt.mp (of_decide_eq_true c.2)
        refine ⟨by omega, by omega, by simp [c.1], fun i _ hi hn => ?_⟩
        by_cases q : i = n
        · subst q; exact ⟨by omega, by omega⟩
        · have := (h4 i (by omega) (by omega) hn).1
          exact ⟨by omega, fun _ => by omega⟩
      · rw [if_neg c]
        refine ⟨h1, by omega, h3, fun i _ hi hn => ?_⟩
        by_cases q : i = n
        · subst q
          have : ¬ R 3 i < R 3 j := fun z => c ⟨⟨fun e => hn (Or.inl e), by cases hh : hs out (nI i) with
            | false => rfl
            | true => exact absurd (Or.inr hh) hn⟩, decide_eq_true z⟩
          rw [Int32.lt_iff_toInt_lt] at this
          exact ⟨by omega, by omega⟩
        · exact h4 i (by omega) (by omega) hn
theorem m2_best {R : Rw} {p : Nat} {out : Int32} {N : Nat} : ∀ (k n : Nat) (b : Option Nat), k = n → n ≤ N → isBest R p out n N b → isBest R p out 0 N (dn (m2F R p out) n b) := by
  intro k
  induction k with
  | zero => intro n b e _ h; subst e; exact h
  | succ k ih =>
    intro n b e hN h
    subst e
    rw [dn_s]
    refine ih k _ rfl (by omega) ?_
    unfold m2F
    by_cases c : k = p ∨ hs out (nI k) = true
    · rw [if_pos c]
      cases b with
      | none =>
        intro i h1 h2
        by_cases q : i = k
        · rw [q]; exact c
        · exact h i (by omega) h2
      | some j =>
        obtain ⟨h1, h2, h3, h4⟩ := h
        refine ⟨by omega, h2, h3, fun i hi1 hi2 hn => ?_⟩
        by_cases q : i = k
        · rw [q] at hn; exact absurd c hn
        · exact h4 i (by omega) hi2 hn
    · rw [if_neg c]
      cases b with
      | none =>
        refine ⟨by omega, by omega, c, fun i hi1 hi2 hn => ?_⟩
        by_cases q : i = k
        · subst q; exact ⟨by omega, by omega⟩
        · exact absurd (h i (by omega) hi2) hn
      | some j =>
        obtain ⟨h1, h2, h3, h4⟩ := h
        by_cases c2 : R 3 k ≤ R 3 j
        · have hl : (R 3 k).toInt ≤ (R 3 j).toInt := Int32.le_iff_toInt_le.mp c2
          simp only [if_pos c2]
          refine ⟨by omega, by omega, c, fun i hi1 hi2 hn => ?_⟩
          by_cases q : i = k
          · subst q; exact ⟨by omega, by omega⟩
          · have := (h4 i (by omega) hi2 hn).1
            exact ⟨by omega, fun _ => by omega⟩
        · simp only [if_neg c2]
          have hl : ¬ (R 3 k).toInt ≤ (R 3 j).toInt := fun z => c2 (Int32.le_iff_toInt_le.mpr z)
          refine ⟨by omega, h2, h3, fun i hi1 hi2 hn => ?_⟩
          by_cases q : i = k
          · subst q; exact ⟨by omega, fun _ => by omega⟩
          · exact h4 i (by omega) hi2 hn
theorem best_uniq {R : Rw} {p : Nat} {out : Int32} {N : Nat} {b b' : Option Nat} (h : isBest R p out 0 N b) (h' : isBest R p out 0 N b') : b = b' := by
  cases b with
  | none =>
    cases b' with
    | none => rfl
    | some j => exact absurd (h j h'.1 h'.2.1) h'.2.2.1
  | some i =>
    cases b' with
    | none => exact absurd (h' i h.1 h.2.1) h.2.2.1
    | some j =>
      have a := h.2.2.2 j h'.1 h'.2.1 h'.2.2.1
      have a' := h'.2.2.2 i h.1 h.2.1 h.2.2.1
      have : i = j := by
        rcases Nat.lt_trichotomy i j with q | q | q
        · have := a'.2 q; omega
        · exact q
        · have := a.2 q; omega
      rw [this]
theorem m2_is {R : Rw} {p : Nat} {out : Int32} (n : Nat) : dn (m2F R p out) n none = bestF R p out n :=
  best_uniq (m2_best n n none rfl (Nat.le_refl n) (by intro i h1 h2; omega)) (best_best n)
