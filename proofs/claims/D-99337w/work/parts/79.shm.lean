/-! SHARES, the plain law -/
def smN (g : Nat → Nat) : Nat → Nat
  | 0 => 0
  | n + 1 => smN g n + g n
def cnB (f : Nat → Bool) : Nat → Nat
  | 0 => 0
  | n + 1 => cnB f n + (if f n = true then 1 else 0)
theorem cn_mono {f g : Nat → Bool} (n : Nat) (h : ∀ i, i < n → f i = true → g i = true) : cnB f n ≤ cnB g n := by
  induction n with
  | zero => exact Nat.le_refl _
  | succ n ih =>
    show cnB f n + _ ≤ cnB g n + _
    have h1 := ih (fun i hi => h i (by omega))
    by_cases c : f n = true
    · rw [if_pos c, if_pos (h n (by omega) c)]; omega
    · rw [if_neg c]; omega
theorem cn_ex {f g : Nat → Bool} (n : Nat) (h : cnB f n < cnB g n) : ∃ i, i < n ∧ g i = true ∧ f i = false := by
  by_cases c : ∃ i, i < n ∧ g i = true ∧ f i = false
  · exact c
  · exfalso
    have h2 := cn_mono (f := g) (g := f) n (fun i hi hg => by
      cases e : f i
      · exact absurd ⟨i, hi, hg, e⟩ c
      · rfl)
    omega
theorem cn_cg {f g : Nat → Bool} (n : Nat) (h : ∀ i, i < n → f i = g i) : cnB f n = cnB g n := by
  induction n with
  | zero => rfl
  | succ n ih =>
    show cnB f n + _ = cnB g n + _
    rw [ih (fun i hi => h i (by omega)), h n (by omega)]
theorem cn_ins {f g : Nat → Bool} {p : Nat} (n : Nat) (hp : p < n) (hf : f p = false) (hg : g p = true) (h : ∀ i, i < n → i ≠ p → g i = f i) : cnB g n = cnB f n + 1 := by
  induction n with
  | zero => omega
  | succ n ih =>
    show cnB g n + _ = cnB f n + _ + 1
    by_cases c : p = n
    · subst c
      rw [cn_cg p (fun i hi => h i (by omega) (by omega)), hf, hg]
      rfl
    · rw [ih (by omega) (fun i hi hne => h i (by omega) hne), h n (by omega) (by omega)]
      omega
theorem cn_lt {f g : Nat → Bool} {p : Nat} (n : Nat) (hp : p < n) (h : ∀ i, i < n → f i = true → g i = true) (hf : f p = false) (hg : g p = true) : cnB f n < cnB g n := by
  have h1 := cn_ins (f := f) (g := fun i => if i = p then true else f i) n hp hf (if_pos rfl) (fun i hi hne => if_neg hne)
  have h2 := cn_mono (f := fun i => if i = p then true else f i) (g := g) n (fun i hi e => by
    by_cases c : i = p
    · rw [c]; exact hg
    · rw [if_neg c] at e; exact h i hi e)
  omega
theorem sm_cg {f g : Nat → Nat} (n : Nat) (h : ∀ i, i < n → f i = g i) : smN f n = smN g n := by
  induction n with
  | zero => rfl
  | succ n ih =>
    show smN f n + _ = smN g n + _
    rw [ih (fun i hi => h i (by omega)), h n (by omega)]
theorem sm_n7 {g : Nat → Nat} {n : Nat} (hn : n ≤ 7) (h : ∀ i, n ≤ i → i < 7 → g i = 0) : smN g 7 = smN g n := by
  have key : ∀ k, n + k ≤ 7 → smN g (n + k) = smN g n := by
    intro k
    induction k with
    | zero => intro _; rfl
    | succ k ih =>
      intro hk
      show smN g (n + k) + g (n + k) = _
      rw [ih (by omega), h _ (by omega) (by omega)]
      rfl
  have := key (7 - n) (by omega)
  rw [show n + (7 - n) = 7 by omega] at this
  exact this
theorem cn_n7 {g : Nat → Bool} {n : Nat} (hn : n ≤ 7) (h : ∀ i, n ≤ i → i < 7 → g i = false) : cnB g 7 = cnB g n := by
  have key : ∀ k, n + k ≤ 7 → cnB g (n + k) = cnB g n := by
    intro k
    induction k with
    | zero => intro _; rfl
    | succ k ih =>
      intro hk
      show cnB g (n + k) + (if g (n + k) = true then 1 else 0) = _
      rw [ih (by omega), h (n + k) (by omega) (by omega)]
      rfl
  have := key (7 - n) (by omega)
  rw [show n + (7 - n) = 7 by omega] at this
  exact this
/-- so many remain to be given one by one -/
theorem sh_left {f : Nat → Bool} {w : Nat → Nat} {P al n : Nat} (hal : smN (fun q => if f q = true then w q else 0) n = al) (h0 : 0 < al) : smN (fun q => if f q = true then P * w q / al else 0) n ≤ P ∧ P - smN (fun q => if f q = true then P * w q / al else 0) n ≤ cnB f n := by
  have key : ∀ k, smN (fun q => if f q = true then P * w q / al else 0) k * al + smN (fun q => if f q = true then P * w q % al else 0) k = P * smN (fun q => if f q = true then w q else 0) k := by
    intro k
    induction k with
    | zero => show 0 * al + 0 = P * 0; omega
    | succ k ih =>
      show (smN (fun q => if f q = true then P * w q / al else 0) k + (if f k = true then P * w k / al else 0)) * al + (smN (fun q => if f q = true then P * w q % al else 0) k + (if f k = true then P * w k % al else 0)) = P * (smN (fun q => if f q = true then w q else 0) k + (if f k = true then w k else 0))
      rw [Nat.add_mul, Nat.mul_add, ← ih]
      by_cases c : f k = true
      · simp only [if_pos c]
        have e := Nat.div_add_mod (P * w k) al
        rw [Nat.mul_comm al] at e
        omega
      · simp only [if_neg c]
        omega
  have hr : ∀ k, smN (fun q => if f q = true then P * w q % al else 0) k ≤ cnB f k * al := by
    intro k
    induction k with
    | zero => exact Nat.zero_le _
    | succ k ih =>
      show smN (fun q => if f q = true then P * w q % al else 0) k + (if f k = true then P * w k % al else 0) ≤ (cnB f k + (if f k = true then 1 else 0)) * al
      rw [Nat.add_mul]
      by_cases c : f k = true
      · simp only [if_pos c]
        have := Nat.mod_lt (P * w k) h0
        omega
      · simp only [if_neg c]
        omega
  have k1 := key n
  have r1 := hr n
  rw [hal] at k1
  generalize smN (fun q => if f q = true then P * w q / al else 0) n = sd at k1 ⊢
  generalize smN (fun q => if f q = true then P * w q % al else 0) n = sr at k1 r1
  have a1 : sd ≤ P := Nat.le_of_mul_le_mul_right (show sd * al ≤ P * al by omega) h0
  refine ⟨a1, Nat.le_of_mul_le_mul_right (?_ : (P - sd) * al ≤ cnB f n * al) h0⟩
  rw [Nat.sub_mul]
  omega
/-- the best of a row, the first of equals -/
def bsS (re : Nat → Int32) (i b : Nat) : Nat := if re b < re (i + 1) then i + 1 else b
def bsF (re : Nat → Int32) (n : Nat) : Nat := it (bsS re) (n - 1) 0
theorem bs_is {re : Nat → Int32} {n : Nat} (hn : 0 < n) : bsF re n < n ∧ (∀ q, q < n → (re q).toInt ≤ (re (bsF re n)).toInt) ∧ ∀ q, q < bsF re n → (re q).toInt < (re (bsF re n)).toInt := by
  have key : ∀ k, it (bsS re) k 0 ≤ k ∧ (∀ q, q ≤ k → (re q).toInt ≤ (re (it (bsS re) k 0)).toInt) ∧ ∀ q, q < it (bsS re) k 0 → (re q).toInt < (re (it (bsS re) k 0)).toInt := by
    intro k
    induction k with
    | zero =>
      refine ⟨Nat.le_refl _, fun q hq => ?_, fun q hq => ?_⟩
      · have : q = 0 := by omega
        subst this; exact Int.le_refl _
      · have : q < 0 := hq
        omega
    | succ k ih =>
      obtain ⟨h1, h2, h3⟩ := ih
      rw [it_s]
      generalize it (bsS re) k 0 = b at h1 h2 h3
      unfold bsS
      by_cases c : re b < re (k + 1)
      · rw [if_pos c]
        rw [Int32.lt_iff_toInt_lt] at c
        refine ⟨by omega, fun q hq => ?_, fun q hq => ?_⟩
        · by_cases e : q = k + 1
          · rw [e]; exact Int.le_refl _
          · have := h2 q (by omega); omega
        · have := h2 q (by omega); omega
      · rw [if_neg c]
        rw [Int32.lt_iff_toInt_lt] at c
        refine ⟨by omega, fun q hq => ?_, h3⟩
        by_cases e : q = k + 1
        · rw [e]; omega
        · exact h2 q (by omega)
  have h := key (n - 1)
  exact ⟨by have := h.1; unfold bsF; omega, fun q hq => h.2.1 q (by omega), h.2.2⟩
def rdS (n : Nat) (s : (Nat → Int32) × (Nat → Int32)) : (Nat → Int32) × (Nat → Int32) := (u1 s.1 (bsF s.2 n) (s.1 (bsF s.2 n) + nI 1), u1 s.2 (bsF s.2 n) (-1))
def rdF (n k : Nat) (s : (Nat → Int32) × (Nat → Int32)) : (Nat → Int32) × (Nat → Int32) := it (fun _ s => rdS n s) k s
def btr (r : Nat → Nat) (q p : Nat) : Bool := decide (r p < r q ∨ (r q = r p ∧ q < p))
/-- who has been given one more -/
theorem rd_inv {f : Nat → Bool} {r : Nat → Nat} {n : Nat} {s : (Nat → Int32) × (Nat → Int32)} (hr : ∀ q, r q < 1000000) (hs : ∀ q, q < n → s.2 q = if f q = true then nI (r q) else -1) : ∀ k, k ≤ cnB f n → ∃ K : Nat → Bool, (∀ q, K q = true → q < n ∧ f q = true) ∧ cnB K n = k ∧ (∀ q, q < n → (rdF n k s).2 q = if f q = true ∧ K q = false then nI (r q) else -1) ∧ (∀ q, q < n → (rdF n k s).1 q = if K q = true then s.1 q + nI 1 else s.1 q) ∧ ∀ q p, q < n → f q = true → btr r q p = true → K p = true → K q = true := by
  intro k
  induction k with
  | zero =>
    intro _
    have hz : ∀ n, cnB (fun _ => false) n = 0 := by
      intro n
      induction n with
      | zero => rfl
      | succ n ih => show cnB (fun _ => false) n + _ = 0; rw [ih]; rfl
    refine ⟨fun _ => false, fun q h => (by cases h), hz n, fun q hq => ?_, fun q hq => rfl, fun q p _ _ _ h => (by cases h)⟩
    show s.2 q = _
    rw [hs q hq]
    simp
  | succ k ih =>
    intro hk
    obtain ⟨K, k1, k2, k3, k4, k5⟩ := ih (by omega)
    obtain ⟨q0, hq0, hf0, hK0⟩ := cn_ex (f := K) (g := f) n (by omega)
    have e : rdF n (k + 1) s = rdS n (rdF n k s) := rfl
    rw [e]
    generalize rdF n k s = v at k3 k4
    obtain ⟨b1, b2, b3⟩ := bs_is (re := v.2) (n := n) (by omega)
    unfold rdS
    generalize bsF v.2 n = b at b1 b2 b3
    have hm1 : (-1 : Int32).toInt = -1 := by decide
    have hb : f b = true ∧ K b = false := by
      have h1 := b2 q0 hq0
      rw [k3 q0 hq0, if_pos ⟨hf0, hK0⟩, nI_toInt (by have := hr q0; omega), k3 b b1] at h1
      by_cases c : f b = true ∧ K b = false
      · exact c
      · rw [if_neg c, hm1] at h1; omega
    refine ⟨fun q => if q = b then true else K q, fun q h => ?_, ?_, fun q hq => ?_, fun q hq => ?_, fun q p hq hf hbt hp => ?_⟩
    · by_cases c : q = b
      · subst c; exact ⟨b1, hb.1⟩
      · simp only [if_neg c] at h; exact k1 q h
    · rw [cn_ins (f := K) n b1 hb.2 (if_pos rfl) (fun i hi hne => if_neg hne), k2]
    · show u1 v.2 b (-1) q = _
      by_cases c : q = b
      · subst c; simp [u1]
      · rw [u1_ne _ _ c, k3 q hq]; simp only [if_neg c]
    · show u1 v.1 b (v.1 b + nI 1) q = _
      by_cases c : q = b
      · subst c
        rw [u1_at, k4 q hq, hb.2]
        simp
      · rw [u1_ne _ _ c, k4 q hq]; simp only [if_neg c]
    · by_cases cq : q = b
      · simp only [if_pos cq]
      · simp only [if_neg cq]
        by_cases cp : p = b
        · subst cp
          cases hKq : K q
          · exfalso
            have h1 := b2 q hq
            have h2 := b3 q
            rw [k3 q hq, if_pos ⟨hf, hKq⟩, nI_toInt (by have := hr q; omega), k3 p b1, if_pos hb, nI_toInt (by have := hr p; omega)] at h1 h2
            have hbt := of_decide_eq_true hbt
            rcases hbt with z | ⟨z1, z2⟩
            · omega
            · have := h2 z2; omega
          · rfl
        · simp only [if_neg cp] at hp
          exact k5 q p hq hf hbt hp
/-- one more is given to who has fewer than so many ahead -/
theorem rd_ans {f : Nat → Bool} {r : Nat → Nat} {n k p : Nat} {s : (Nat → Int32) × (Nat → Int32)} (hr : ∀ q, r q < 1000000) (hs : ∀ q, q < n → s.2 q = if f q = true then nI (r q) else -1) (hk : k ≤ cnB f n) (hp : p < n) (hfp : f p = true) : (rdF n k s).1 p = if cnB (fun q => f q && btr r q p) n < k then s.1 p + nI 1 else s.1 p := by
  obtain ⟨K, k1, k2, k3, k4, k5⟩ := rd_inv hr hs k hk
  rw [k4 p hp]
  have irr : btr r p p = false := by unfold btr; exact decide_eq_false (by omega)
  cases hK : K p
  · rw [if_neg (by decide)]
    have h1 : cnB K n ≤ cnB (fun q => f q && btr r q p) n := cn_mono n (fun q hq hKq => by
      have hf := (k1 q hKq).2
      rw [hf]
      show btr r q p = true
      cases hb : btr r q p
      · exfalso
        have hne : q ≠ p := fun e => by rw [e, hK] at hKq; cases hKq
        have hb2 : btr r p q = true := by
          unfold btr at hb ⊢
          have := of_decide_eq_false hb
          exact decide_eq_true (by omega)
        have := k5 p q hp hfp hb2 hKq
        rw [hK] at this
        cases this
      · rfl)
    rw [if_neg (by omega)]
  · rw [if_pos rfl]
    have h1 : cnB (fun q => f q && btr r q p) n < cnB K n := cn_lt n hp (fun q hq h => by
      rw [Bool.and_eq_true] at h
      exact k5 q p hq h.1 h.2 hK) (by show (f p && btr r p p) = false; rw [irr, Bool.and_false]) hK
    rw [if_pos (by omega)]
