/-! WORDS: letters as lists, the last one first; as numbers by 256 and by 27 (no program in sight) -/
def wlF (T : Nat → Nat) (a : Nat) : Nat → List Nat
  | 0 => []
  | k + 1 => T (a + k) :: wlF T a k
def ltr (l : List Nat) : Prop := ∀ c ∈ l, 97 ≤ c ∧ c ≤ 122
def v256 : List Nat → Nat
  | [] => 0
  | c :: l => v256 l * 256 + c
def v27 : List Nat → Nat
  | [] => 0
  | c :: l => v27 l * 27 + (c - 96)
def isW (l : List Nat) : Prop := ltr l ∧ 1 ≤ l.length ∧ l.length ≤ 7
def n256 (l : List Nat) : Int64 := Int64.ofNat (v256 l)
def n27 (l : List Nat) : Int64 := Int64.ofNat (v27 l)
theorem wlF_len (T : Nat → Nat) (a k : Nat) : (wlF T a k).length = k := by
  induction k with
  | zero => rfl
  | succ k ih => show (wlF T a k).length + 1 = k + 1; rw [ih]
theorem ltr_c {c : Nat} {l : List Nat} (h : ltr (c :: l)) : (97 ≤ c ∧ c ≤ 122) ∧ ltr l := ⟨h c List.mem_cons_self, fun x hx => h x (List.mem_cons_of_mem _ hx)⟩
theorem v256_lt : ∀ l : List Nat, ltr l → v256 l < 256 ^ l.length
  | [], _ => Nat.le_of_ble_eq_true rfl
  | c :: l, h => by
    have h1 := ltr_c h
    have h2 := v256_lt l h1.2
    show v256 l * 256 + c < 256 ^ (l.length + 1)
    rw [Nat.pow_succ]
    generalize 256 ^ l.length = P at h2
    have h3 := h1.1
    omega
theorem v27_lt : ∀ l : List Nat, ltr l → v27 l < 27 ^ l.length
  | [], _ => Nat.le_of_ble_eq_true rfl
  | c :: l, h => by
    have h1 := ltr_c h
    have h2 := v27_lt l h1.2
    show v27 l * 27 + (c - 96) < 27 ^ (l.length + 1)
    rw [Nat.pow_succ]
    generalize 27 ^ l.length = P at h2
    have h3 := h1.1
    omega
theorem v256_7 {l : List Nat} (h : ltr l) (h7 : l.length ≤ 7) : v256 l < 72057594037927936 := by
  have h1 := v256_lt l h
  have h2 : 256 ^ l.length ≤ 256 ^ 7 := Nat.pow_le_pow_right (by omega) h7
  have h3 : (256 : Nat) ^ 7 = 72057594037927936 := by decide
  omega
theorem v27_7 {l : List Nat} (h : ltr l) (h7 : l.length ≤ 7) : v27 l < 10460353203 := by
  have h1 := v27_lt l h
  have h2 : 27 ^ l.length ≤ 27 ^ 7 := Nat.pow_le_pow_right (by omega) h7
  have h3 : (27 : Nat) ^ 7 = 10460353203 := by decide
  omega
theorem v256_inj : ∀ l l' : List Nat, ltr l → ltr l' → v256 l = v256 l' → l = l'
  | [], [], _, _, _ => rfl
  | [], c :: t, _, h', e => by
    have h1 := (ltr_c h').1
    have e' : 0 = v256 t * 256 + c := e
    omega
  | c :: t, [], h, _, e => by
    have h1 := (ltr_c h).1
    have e' : v256 t * 256 + c = 0 := e
    omega
  | c :: t, c' :: t', h, h', e => by
    have h1 := ltr_c h
    have h2 := ltr_c h'
    have e' : v256 t * 256 + c = v256 t' * 256 + c' := e
    have q1 := h1.1
    have q2 := h2.1
    have e1 : c = c' := by omega
    have e2 : v256 t = v256 t' := by omega
    rw [e1, v256_inj t t' h1.2 h2.2 e2]
theorem v27_inj : ∀ l l' : List Nat, ltr l → ltr l' → v27 l = v27 l' → l = l'
  | [], [], _, _, _ => rfl
  | [], c :: t, _, h', e => by
    have h1 := (ltr_c h').1
    have e' : 0 = v27 t * 27 + (c - 96) := e
    omega
  | c :: t, [], h, _, e => by
    have h1 := (ltr_c h).1
    have e' : v27 t * 27 + (c - 96) = 0 := e
    omega
  | c :: t, c' :: t', h, h', e => by
    have h1 := ltr_c h
    have h2 := ltr_c h'
    have e' : v27 t * 27 + (c - 96) = v27 t' * 27 + (c' - 96) := e
    have q1 := h1.1
    have q2 := h2.1
    have e1 : c = c' := by omega
    have e2 : v27 t = v27 t' := by omega
    rw [e1, v27_inj t t' h1.2 h2.2 e2]
theorem lI_inj {a b : Nat} (ha : a < 9223372036854775808) (hb : b < 9223372036854775808) : Int64.ofNat a = Int64.ofNat b ↔ a = b := by
  constructor
  · intro h
    have h1 := congrArg Int64.toInt h
    rw [Int64.toInt_ofNat_of_lt ha, Int64.toInt_ofNat_of_lt hb] at h1
    omega
  · intro h; rw [h]
theorem n256_iff {l l' : List Nat} (h : isW l) (h' : isW l') : n256 l = n256 l' ↔ l = l' := by
  unfold n256
  have h1 := v256_7 h.1 h.2.2
  have h2 := v256_7 h'.1 h'.2.2
  rw [lI_inj (by omega) (by omega)]
  exact ⟨v256_inj l l' h.1 h'.1, fun e => by rw [e]⟩
theorem n27_iff {l l' : List Nat} (h : isW l) (h' : isW l') : n27 l = n27 l' ↔ l = l' := by
  unfold n27
  have h1 := v27_7 h.1 h.2.2
  have h2 := v27_7 h'.1 h'.2.2
  rw [lI_inj (by omega) (by omega)]
  exact ⟨v27_inj l l' h.1 h'.1, fun e => by rw [e]⟩
theorem sh8 : (nI 8).toInt64 &&& 63 = 8 := by decide
theorem nI_64 {c : Nat} (hc : c < 256) : (nI c).toInt64 = Int64.ofNat c := by
  have h : ∀ c, c < 256 → (nI c).toInt64 = Int64.ofNat c := by decide +kernel
  exact h c hc
theorem or_add {V c : Nat} (hc : c < 256) : V * 256 ||| c = V * 256 + c := by
  have h := Nat.shiftLeft_add_eq_or_of_lt (b := c) (i := 8) hc V
  rw [Nat.shiftLeft_eq] at h
  exact h.symm
theorem l_sh8 {V c : Nat} (hc : c < 256) : Int64.ofNat V <<< ((nI 8).toInt64 &&& 63) ||| (nI c).toInt64 = Int64.ofNat (V * 256 + c) := by
  rw [sh8, nI_64 hc]
  apply Int64.toBitVec.inj
  rw [Int64.toBitVec_or, Int64.toBitVec_shiftLeft, ← or_add hc]
  show BitVec.ofNat 64 V <<< (BitVec.ofNat 64 8).smod 64 ||| BitVec.ofNat 64 c = BitVec.ofNat 64 (V * 256 ||| c)
  rw [BitVec.ofNat_or]
  congr 1
  have e : (BitVec.ofNat 64 8).smod 64 = 8#64 := by decide
  rw [e]
  apply BitVec.eq_of_toNat_eq
  rw [BitVec.shiftLeft_eq', BitVec.toNat_shiftLeft, BitVec.toNat_ofNat, BitVec.toNat_ofNat, BitVec.toNat_ofNat, Nat.shiftLeft_eq]
  show V % 18446744073709551616 * 256 % 18446744073709551616 = V * 256 % 18446744073709551616
  omega
theorem ncF_is {T : Nat → Nat} {a : Nat} (hT : ∀ j, T j < 256) : ∀ k, k ≤ 7 → ncF T a k = n256 (wlF T a k) := by
  intro k
  induction k with
  | zero => intro _; rfl
  | succ k ih =>
    intro hk
    have e : ncF T a (k + 1) = ncF T a k <<< ((nI 8).toInt64 &&& 63) ||| (nI (T (a + k))).toInt64 := if_pos (by omega)
    rw [e, ih (by omega)]
    exact l_sh8 (hT (a + k))
/-- the model's word: by 27 -/
def wcF (T : Nat → Nat) (a : Nat) : Nat → Int64
  | 0 => Int64.ofNat 0
  | k + 1 => if k < 7 then 27 * wcF T a k + (nI (T (a + k))).toInt64 - 96 else wcF T a k
theorem l_27 {V c : Nat} (hc : 97 ≤ c ∧ c ≤ 122) : 27 * Int64.ofNat V + (nI c).toInt64 - 96 = Int64.ofNat (V * 27 + (c - 96)) := by
  rw [nI_64 (by omega), show (27 : Int64) = Int64.ofNat 27 from rfl, show (96 : Int64) = Int64.ofNat 96 from rfl, ← Int64.ofNat_mul, ← Int64.ofNat_add, ← Int64.ofNat_sub _ _ (by omega)]
  congr 1
  omega
theorem alF_ltr {T : Nat → Nat} {a : Nat} : ∀ k, alF T true a k = true → ltr (wlF T a k) := by
  intro k
  induction k with
  | zero => intro _ c hc; cases hc
  | succ k ih =>
    intro h
    have h' : (alF T true a k && (isL (T (a + k)) == true)) = true := h
    rw [Bool.and_eq_true] at h'
    intro c hc
    rcases List.mem_cons.mp hc with e | e
    · subst e
      have q : isL (T (a + k)) = true := by simpa using h'.2
      exact of_decide_eq_true q
    · exact ih h'.1 c e
theorem wcF_is {T : Nat → Nat} {a : Nat} : ∀ k, k ≤ 7 → ltr (wlF T a k) → wcF T a k = n27 (wlF T a k) := by
  intro k
  induction k with
  | zero => intro _ _; rfl
  | succ k ih =>
    intro hk hl
    have e : wcF T a (k + 1) = 27 * wcF T a k + (nI (T (a + k))).toInt64 - 96 := if_pos (by omega)
    have hl' := ltr_c hl
    rw [e, ih (by omega) hl'.2]
    exact l_27 hl'.1
/-- two words are one, letter by letter -/
theorem wlF_eq {T : Nat → Nat} {a : Nat} {U : Nat → Nat} : ∀ k, wlF T a k = wlF U 0 k ↔ ∀ j, j < k → T (a + j) = U j := by
  intro k
  induction k with
  | zero => exact ⟨fun _ j h => by omega, fun _ => rfl⟩
  | succ k ih =>
    show T (a + k) :: wlF T a k = U (0 + k) :: wlF U 0 k ↔ _
    rw [List.cons.injEq, ih, Nat.zero_add]
    constructor
    · rintro ⟨h1, h2⟩ j hj
      by_cases c : j = k
      · rw [c]; exact h1
      · exact h2 j (by omega)
    · intro h
      exact ⟨h k (by omega), fun j hj => h j (by omega)⟩
