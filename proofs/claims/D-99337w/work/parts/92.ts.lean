/-! RUNS AT A GREATER DEPTH; TOKENS BY PLACE -/
theorem io_d {d : Nat} {q : Option (Option PRes)} {b b' : Option PRes} {r : PRes} (hb : b = some r → b' = some r) (h : io d q b = some r) : io (d + 1) q b' = some r := by
  cases q with
  | none => exact hb h
  | some q =>
    have h' : (if 8 ≤ d then q else none) = some r := h
    show (if 8 ≤ d + 1 then q else none) = some r
    by_cases c : 8 ≤ d
    · rw [if_pos c] at h'; rw [if_pos (by omega)]; exact h'
    · rw [if_neg c] at h'; cases h'
theorem dz_d {d : Nat} {f f' : Nat → Option PRes} {r : PRes} (hf : ∀ d, f d = some r → f' (d + 1) = some r) (h : dz d f = some r) : dz (d + 1) f' = some r := by
  cases d with
  | zero => cases h
  | succ d => exact hf d h
theorem ex_dm (PTb : PT) (Pm : PMeth) : ∀ (n d o : Nat) (cc : ByteArray) (rt : Option FieldType) (hh : Nat → Option Nat) (pc : Nat) (L : PLs) (st : List Value) (m : PM) (r : PRes), ex PTb Pm n d o cc rt hh pc L st m = some r → ex PTb Pm n (d + 1) o cc rt hh pc L st m = some r := by
  intro n
  induction n with
  | zero => intro d o cc rt hh pc L st m r h; simp [ex] at h
  | succ n ih =>
    intro d o cc rt hh pc L st m r h
    rw [ex] at h ⊢
    refine dc_mono (fun i hi => ?_) h
    refine ac_mono (fun _ _ _ _ h => ih _ _ _ _ _ _ _ _ _ _ h) (fun len mid h => ?_) hi
    refine cy_mono (fun args rest h => ?_) h
    exact af_mono (fun z hz => io_d (fun hz => dz_d (fun _ h => ih _ _ _ _ _ _ _ _ _ _ h) hz) hz) (fun _ _ h => ih _ _ _ _ _ _ _ _ _ _ h) (fun _ _ h => hc_mono (fun _ h => ih _ _ _ _ _ _ _ _ _ _ h) h) h
theorem run_d1 {d mid : Nat} {args : List Value} {m : PM} {r : PRes} (h : Run d mid args m r) : Run (d + 1) mid args m r := by
  obtain ⟨n, h⟩ := h
  exact ⟨n, io_d (fun hz => dz_d (fun _ h => ex_dm _ _ _ _ _ _ _ _ _ _ _ _ _ h) hz) h⟩
theorem run_mono {d d' mid : Nat} {args : List Value} {m : PM} {r : PRes} (hd : d ≤ d') (h : Run d mid args m r) : Run d' mid args m r := by
  induction hd with
  | refl => exact h
  | step _ ih => exact run_d1 ih
theorem run_all {k mid : Nat} {args : List Value} {m : PM} {v : PRes} (h : Run k mid args m v) : ∀ (d : Nat) (r : PRes), k ≤ d → (Run d mid args m r ↔ r = v) := fun _ _ hd => run_iff (run_mono hd h)
/-! tokens -/
def nxS (T : Nat → Nat) (n lim s : Nat) : Nat := skF T (n - nxP T n lim s) (nxP T n lim s)
def wd (T : Nat → Nat) (n s : Nat) : List Nat := wlF T s (nxE T n s - s)
def vN (T : Nat → Nat) (a : Nat) : Nat → Nat
  | 0 => 0
  | k + 1 => if k < 3 then 10 * vN T a k + (T (a + k) - 48) else vN T a k
def nV (T : Nat → Nat) (n s : Nat) : Nat := vN T s (nxE T n s - s)
theorem enF_A {T : Nat → Nat} : ∀ k p j, p ≤ j → j < enF T k p → isA (T j) = true := by
  intro k
  induction k with
  | zero => intro p j h1 h2; have : enF T 0 p = p := rfl; omega
  | succ k ih =>
    intro p j h1 h2
    by_cases c : isA (T p) = true
    · have e : enF T (k + 1) p = enF T k (p + 1) := if_pos c
      rw [e] at h2
      by_cases q : j = p
      · rw [q]; exact c
      · exact ih (p + 1) j (by omega) h2
    · have e : enF T (k + 1) p = p := if_neg c
      omega
section TS
variable {T : Nat → Nat} {n lim s : Nat}
theorem nxE_le (hs : s ≤ n) : s ≤ nxE T n s ∧ nxE T n s ≤ n := by
  have := enF_le T (n - s) s
  unfold nxE
  omega
theorem nxE_lt (hs : s < n) (h : isA (T s) = true) : s < nxE T n s := by
  unfold nxE
  obtain ⟨k, hk⟩ : ∃ k, n - s = k + 1 := ⟨n - s - 1, by omega⟩
  rw [hk, show enF T (k + 1) s = enF T k (s + 1) from if_pos h]
  have := enF_le T k (s + 1)
  omega
theorem nxP_le (hs : s ≤ n) : s ≤ nxP T n lim s ∧ nxP T n lim s ≤ n := by
  unfold nxP
  have := nxE_le (T := T) hs
  split
  · omega
  · split
    · omega
    · split
      · omega
      · omega
theorem nxS_le (hs : s ≤ n) : s ≤ nxS T n lim s ∧ nxS T n lim s ≤ n := by
  have h1 := nxP_le (T := T) (lim := lim) hs
  have h2 := skF_le T (n - nxP T n lim s) (nxP T n lim s)
  unfold nxS
  omega
/-- a token of a sort is not at the end -/
theorem tk_lt (h : nxT T n lim s = 1 ∨ nxT T n lim s = 2 ∨ nxT T n lim s = 3) : s < n ∧ ¬ (lim < n ∧ lim ≤ s) := by
  unfold nxT at h
  by_cases c : lim < n ∧ lim ≤ s
  · rw [if_pos c] at h; omega
  · by_cases c1 : n ≤ s
    · rw [if_neg c, if_pos c1] at h; omega
    · exact ⟨by omega, c⟩
theorem nxS_lt (h : nxT T n lim s = 1 ∨ nxT T n lim s = 2 ∨ nxT T n lim s = 3) : s < nxS T n lim s ∧ nxS T n lim s ≤ n := by
  obtain ⟨h1, h2⟩ := tk_lt h
  have h3 := nxS_le (T := T) (lim := lim) (Nat.le_of_lt h1)
  refine ⟨?_, h3.2⟩
  have h4 := skF_le T (n - nxP T n lim s) (nxP T n lim s)
  have h5 : s < nxP T n lim s := by
    unfold nxP
    rw [if_neg h2, if_neg (by omega)]
    split
    · rename_i c; exact nxE_lt h1 c
    · omega
  unfold nxS
  omega
theorem tkT_1 {b ok : Bool} {k : Nat} (h : tkT b ok k = 1) : b = true ∧ ok = true ∧ k ≤ 7 := by
  unfold tkT at h
  cases b <;> cases ok <;> simp at h
  · split at h <;> omega
  · exact ⟨rfl, rfl, h⟩
theorem tkT_2 {b ok : Bool} {k : Nat} (h : tkT b ok k = 2) : b = false ∧ ok = true ∧ k ≤ 3 := by
  unfold tkT at h
  cases b <;> cases ok <;> simp at h
  · exact ⟨rfl, rfl, h⟩
  · split at h <;> omega
theorem tkT_n3 {b ok : Bool} {k : Nat} : ¬ tkT b ok k = 3 := by
  unfold tkT
  cases b <;> cases ok <;> simp <;> split <;> omega
theorem tkT_n0 {b ok : Bool} {k : Nat} : ¬ tkT b ok k = 0 := by
  unfold tkT
  cases b <;> cases ok <;> simp <;> split <;> omega
theorem tk_A (h : nxT T n lim s = 1 ∨ nxT T n lim s = 2) : isA (T s) = true ∧ nxT T n lim s = tkT (isL (T s)) (alF T (isL (T s)) s (nxE T n s - s)) (nxE T n s - s) := by
  obtain ⟨h1, h2⟩ := tk_lt (h.elim Or.inl (fun z => Or.inr (Or.inl z)))
  have e : nxT T n lim s = if isA (T s) = true then tkT (isL (T s)) (alF T (isL (T s)) s (nxE T n s - s)) (nxE T n s - s) else if sgF (T s) = true then 3 else 4 := by
    unfold nxT
    rw [if_neg h2, if_neg (by omega)]
  by_cases c : isA (T s) = true
  · rw [if_pos c] at e; exact ⟨c, e⟩
  · rw [if_neg c] at e
    split at e <;> omega
theorem tk_S (h : nxT T n lim s = 3) : ¬ isA (T s) = true ∧ sgF (T s) = true := by
  obtain ⟨h1, h2⟩ := tk_lt (Or.inr (Or.inr h))
  have e : nxT T n lim s = if isA (T s) = true then tkT (isL (T s)) (alF T (isL (T s)) s (nxE T n s - s)) (nxE T n s - s) else if sgF (T s) = true then 3 else 4 := by
    unfold nxT
    rw [if_neg h2, if_neg (by omega)]
  by_cases c : isA (T s) = true
  · rw [if_pos c, h] at e; exact absurd e.symm tkT_n3
  · refine ⟨c, ?_⟩
    rw [if_neg c] at e
    split at e
    · assumption
    · omega
theorem tk_0 (hs : s ≤ n) (h : nxT T n lim s = 0) : s = n := by
  unfold nxT at h
  by_cases c : lim < n ∧ lim ≤ s
  · rw [if_pos c] at h; omega
  · by_cases c1 : n ≤ s
    · omega
    · rw [if_neg c, if_neg c1] at h
      split at h
      · exact absurd h tkT_n0
      · split at h <;> omega
theorem tkT_or {b ok : Bool} {k : Nat} : tkT b ok k = 1 ∨ tkT b ok k = 2 ∨ tkT b ok k = 4 := by
  unfold tkT
  by_cases c : ok = true ∧ k ≤ (if b = true then 7 else 3)
  · rw [if_pos c]
    cases b
    · exact Or.inr (Or.inl rfl)
    · exact Or.inl rfl
  · rw [if_neg c]
    exact Or.inr (Or.inr rfl)
theorem tk_5 : nxT T n lim s = 0 ∨ nxT T n lim s = 1 ∨ nxT T n lim s = 2 ∨ nxT T n lim s = 3 ∨ nxT T n lim s = 4 := by
  unfold nxT
  split
  · omega
  · split
    · omega
    · split
      · have := tkT_or (b := isL (T s)) (ok := alF T (isL (T s)) s (nxE T n s - s)) (k := nxE T n s - s)
        omega
      · split <;> omega
theorem tk1 (h : nxT T n lim s = 1) : s < n ∧ isW (wd T n s) ∧ nxE T n s ≤ n ∧ s < nxE T n s := by
  have h1 := (tk_lt (Or.inl h)).1
  obtain ⟨hA, e⟩ := tk_A (Or.inl h)
  rw [e] at h
  obtain ⟨e1, e2, e3⟩ := tkT_1 h
  rw [e1] at e2
  have h2 := nxE_le (T := T) (Nat.le_of_lt h1)
  have h3 := nxE_lt h1 hA
  refine ⟨h1, ⟨alF_ltr _ e2, ?_, ?_⟩, h2.2, h3⟩
  · unfold wd; rw [wlF_len]; omega
  · unfold wd; rw [wlF_len]; exact e3
theorem vN_is {a : Nat} : ∀ k, k ≤ 3 → (∀ j, j < k → isD (T (a + j)) = true) → vN T a k < 10 ^ k ∧ vlF T a k = nI (vN T a k) := by
  intro k
  induction k with
  | zero => intro _ _; exact ⟨Nat.le_of_ble_eq_true rfl, rfl⟩
  | succ k ih =>
    intro hk hD
    obtain ⟨h1, h2⟩ := ih (by omega) (fun j hj => hD j (by omega))
    have h3 : 48 ≤ T (a + k) ∧ T (a + k) ≤ 57 := of_decide_eq_true (hD k (by omega))
    have e1 : vN T a (k + 1) = 10 * vN T a k + (T (a + k) - 48) := if_pos (by omega)
    have e2 : vlF T a (k + 1) = nI 10 * vlF T a k + nI (T (a + k)) - nI 48 := if_pos (by omega)
    rw [e1, e2, h2, nI_mul, nI_ad, nI_sub (by omega), Nat.pow_succ]
    generalize 10 ^ k = P at h1
    refine ⟨by omega, ?_⟩
    congr 1
    omega
theorem alF_all {b : Bool} {a : Nat} : ∀ k, alF T b a k = true → ∀ j, j < k → isL (T (a + j)) = b := by
  intro k
  induction k with
  | zero => intro _ j hj; omega
  | succ k ih =>
    intro h j hj
    have h' : (alF T b a k && (isL (T (a + k)) == b)) = true := h
    rw [Bool.and_eq_true] at h'
    by_cases c : j = k
    · rw [c]; simpa using h'.2
    · exact ih h'.1 j (by omega)
theorem tk2 (h : nxT T n lim s = 2) : s < n ∧ nV T n s < 1000 ∧ vlF T s (nxE T n s - s) = nI (nV T n s) := by
  have h1 := (tk_lt (Or.inr (Or.inl h))).1
  obtain ⟨hA, e⟩ := tk_A (Or.inr h)
  rw [e] at h
  obtain ⟨e1, e2, e3⟩ := tkT_2 h
  rw [e1] at e2
  have h2 := alF_all _ e2
  have hD : ∀ j, j < nxE T n s - s → isD (T (s + j)) = true := by
    intro j hj
    have q1 := h2 j hj
    have q2 : isA (T (s + j)) = true := enF_A (n - s) s (s + j) (by omega) (by unfold nxE at hj; omega)
    unfold isA at q2
    rw [q1] at q2
    simpa using q2
  have h3 := vN_is _ e3 hD
  refine ⟨h1, ?_, h3.2⟩
  unfold nV
  have h4 : (10 : Nat) ^ (nxE T n s - s) ≤ 10 ^ 3 := Nat.pow_le_pow_right (by omega) e3
  have h5 : (10 : Nat) ^ 3 = 1000 := by decide
  omega
end TS
