/-! BASE of the pure proofs: numbers, determinism, loops, rows replaced -/
theorem nI_ad (a b : Nat) : nI a + nI b = nI (a + b) := by
  unfold nI; exact (Int32.ofNat_add a b).symm
theorem nI_mul (a b : Nat) : nI a * nI b = nI (a * b) := by
  unfold nI; exact (Int32.ofNat_mul a b).symm
theorem nI_sub {a b : Nat} (h : b ≤ a) : nI a - nI b = nI (a - b) := by
  unfold nI; exact (Int32.ofNat_sub a b h).symm
theorem i32_eq {x y : Int32} : x = y ↔ x.toInt = y.toInt := ⟨fun h => by rw [h], Int32.toInt.inj⟩
theorem nI_eqi {a b : Nat} (ha : a < 2147483648) (hb : b < 2147483648) : nI a = nI b ↔ a = b := by
  rw [i32_eq, nI_toInt ha, nI_toInt hb]; omega
theorem nI_lti {a b : Nat} (ha : a < 2147483648) (hb : b < 2147483648) : nI a < nI b ↔ a < b := by
  rw [Int32.lt_iff_toInt_lt, nI_toInt ha, nI_toInt hb]; omega
theorem nI_lei {a b : Nat} (ha : a < 2147483648) (hb : b < 2147483648) : nI a ≤ nI b ↔ a ≤ b := by
  rw [Int32.le_iff_toInt_le, nI_toInt ha, nI_toInt hb]; omega
theorem nI_eq0 {a : Nat} (ha : a < 2147483648) : nI a = 0 ↔ a = 0 := nI_eqi (b := 0) ha (by omega)
theorem nI_lt0 {a : Nat} (ha : a < 2147483648) : nI a < 0 ↔ False := by
  rw [show (0 : Int32) = nI 0 from rfl, nI_lti ha (by omega)]; simp
theorem nI_le0 {a : Nat} (ha : a < 2147483648) : nI a ≤ 0 ↔ a = 0 := by
  rw [show (0 : Int32) = nI 0 from rfl, nI_lei ha (by omega)]; omega
theorem nI_0lt {a : Nat} (ha : a < 2147483648) : 0 < nI a ↔ 0 < a := by
  rw [show (0 : Int32) = nI 0 from rfl, nI_lti (by omega) ha]
theorem nI_0le {a : Nat} (ha : a < 2147483648) : 0 ≤ nI a ↔ True := by
  rw [show (0 : Int32) = nI 0 from rfl, nI_lei (by omega) ha]; simp
theorem nI_m1 {a : Nat} (ha : a < 2147483648) : nI a = -1 ↔ False := by
  rw [i32_eq, nI_toInt ha]; constructor
  · intro h; have : ((-1 : Int32)).toInt = -1 := by decide
    omega
  · exact False.elim
theorem ofI_nat (n : Nat) : Int32.ofInt (no_index (@OfNat.ofNat Int n (@instOfNat n))) = nI (@OfNat.ofNat Nat n (instOfNatNat n)) := by
  unfold nI; exact Int32.ofInt_eq_ofNat
theorem ofI_m1 : Int32.ofInt (-1) = -1 := by decide
theorem nI_div {a b : Nat} (ha : a < 2147483648) (hb : b < 2147483648) : nI a / nI b = nI (a / b) := by
  have h2 : a / b < 2147483648 := Nat.lt_of_le_of_lt (Nat.div_le_self a b) ha
  rw [i32_eq, Int32.toInt_div, nI_toInt ha, nI_toInt hb, nI_toInt h2, Int.tdiv_eq_ediv_of_nonneg (by omega)]
  have h3 : ((a : Int) / (b : Int)) = ((a / b : Nat) : Int) := by simp
  rw [h3]
  generalize a / b = q at h2
  exact Int.bmod_eq_of_le (by omega) (by omega)
theorem nI_mod {a b : Nat} (ha : a < 2147483648) (hb : b < 2147483648) : nI a - nI a / nI b * nI b = nI (a % b) := by
  rw [nI_div ha hb, nI_mul, nI_sub (Nat.div_mul_le_self a b), Nat.mod_eq_sub_div_mul]
theorem i32_cases {x : Int32} : (∃ n : Nat, n < 2147483648 ∧ x = nI n) ∨ x < 0 := by
  by_cases h : 0 ≤ x.toInt
  · refine Or.inl ⟨x.toInt.toNat, ?_, ?_⟩
    · have := Int32.toInt_lt x; omega
    · rw [i32_eq, nI_toInt (by have := Int32.toInt_lt x; omega)]; omega
  · refine Or.inr ?_
    rw [Int32.lt_iff_toInt_lt, show (0 : Int32).toInt = 0 from rfl]; omega
/-- a Boolean as an int -/
def bi (b : Bool) : Int32 := if b = true then 1 else 0
theorem bi_t : bi true = 1 := rfl
theorem bi_f : bi false = 0 := rfl
theorem bi_0 {b : Bool} : bi b = 0 ↔ b = false := by cases b <;> decide
theorem bi_n0 {b : Bool} : ¬ bi b = 0 ↔ b = true := by cases b <;> decide
theorem bi_1 {b : Bool} : bi b = 1 ↔ b = true := by cases b <;> decide
theorem bi_01 (b : Bool) : bi b = 0 ∨ bi b = 1 := by cases b <;> decide
theorem bi_z (b : Bool) : narrow .boolean (.int (bi b)) = .int (bi b) := by cases b <;> rfl
theorem nl_i (x : Int32) : nl (some (.int x)) = true := rfl
theorem nl_r (a : Nat) : nl (some (.ref a)) = true := rfl
theorem nl_n : nl (some .null) = true := rfl
theorem nl_o : nl none = true := rfl
theorem nr_z0 : narrow .boolean (.int (nI 0)) = .int (nI 0) := rfl
theorem nr_z1 : narrow .boolean (.int (nI 1)) = .int (nI 1) := rfl
theorem nr_i (x : Int32) : narrow .int (.int x) = .int x := rfl
theorem nI_z0 : nI 0 = 0 := rfl
theorem nI_z1 : nI 1 = 1 := rfl
/-- set >> k & 1 == 1 -/
def hs (s k : Int32) : Bool := decide (s >>> (k &&& 31) &&& 1 = 1)
/-- f 0, then f 1 .. f (n - 1) -/
def it {α : Type} (f : Nat → α → α) : Nat → α → α
  | 0, a => a
  | n + 1, a => f n (it f n a)
theorem it_0 {α : Type} (f : Nat → α → α) (a : α) : it f 0 a = a := rfl
theorem it_s {α : Type} (f : Nat → α → α) (n : Nat) (a : α) : it f (n + 1) a = f n (it f n a) := rfl
/-- what stays so behind some rounds -/
theorem it_id {α : Type} {f : Nat → α → α} {a : α} {k : Nat} : ∀ n, k ≤ n → (∀ i, k ≤ i → i < n → f i (it f k a) = it f k a) → it f n a = it f k a := by
  intro n hn h
  induction n with
  | zero => rw [show k = 0 by omega]
  | succ n ih =>
    by_cases q : k = n + 1
    · rw [q]
    · rw [it_s, ih (by omega) (fun i h1 h2 => h i h1 (by omega)), h n (by omega) (by omega)]
theorem it_inv {α : Type} {f : Nat → α → α} {P : α → Prop} {a : α} (n : Nat) (h0 : P a) (hs : ∀ i x, i < n → P x → P (f i x)) : P (it f n a) := by
  induction n with
  | zero => exact h0
  | succ n ih => exact hs n _ (by omega) (ih (fun i x hi hx => hs i x (by omega) hx))
theorem it_cg {α : Type} {f g : Nat → α → α} {a : α} (n : Nat) (h : ∀ i x, i < n → f i x = g i x) : it f n a = it g n a := by
  induction n with
  | zero => rfl
  | succ n ih => rw [it_s, it_s, ih (fun i x hi => h i x (by omega)), h n _ (by omega)]
/-- a loop upwards -/
theorem loop_up {P : Nat → Prop} {n : Nat} (step : ∀ i, i < n → (P i ↔ P (i + 1))) : ∀ i, i ≤ n → (P i ↔ P n) := by
  intro i hi
  induction n with
  | zero => rw [show i = 0 by omega]
  | succ n ih =>
    by_cases q : i = n + 1
    · rw [q]
    · exact (ih (fun j hj => step j (by omega)) (by omega)).trans (step n (by omega))
theorem loop_u {P : Nat → Prop} {n : Nat} (step : ∀ i, i < n → (P i ↔ P (i + 1))) : P 0 ↔ P n := loop_up step 0 (by omega)
/-- the first of k from i -/
def ff (q : Nat → Bool) : Nat → Nat → Option Nat
  | _, 0 => none
  | i, k + 1 => if q i = true then some i else ff q (i + 1) k
theorem ff_0 (q : Nat → Bool) (i : Nat) : ff q i 0 = none := rfl
theorem ff_s (q : Nat → Bool) (i k : Nat) : ff q i (k + 1) = if q i = true then some i else ff q (i + 1) k := rfl
/-- an option of a number as an int: none is -1 -/
def oI : Option Nat → Int32
  | some k => nI k
  | none => -1
theorem oI_s (k : Nat) : oI (some k) = nI k := rfl
theorem oI_n : oI none = -1 := rfl
theorem ff_lt {q : Nat → Bool} {i k j : Nat} (h : ff q i k = some j) : i ≤ j ∧ j < i + k ∧ q j = true := by
  induction k generalizing i with
  | zero => cases h
  | succ k ih =>
    rw [ff_s] at h
    split at h
    · rename_i c; cases h; exact ⟨by omega, by omega, c⟩
    · have := ih h; exact ⟨by omega, by omega, this.2.2⟩
theorem rn_det {n n' d mid : Nat} {args : List Value} {m : PM} {r r' : PRes} (h : rn n d mid args m = some r) (h' : rn n' d mid args m = some r') : r = r' := by
  have a := rn_le (Nat.le_max_left n n') h
  have b := rn_le (Nat.le_max_right n n') h'
  rw [a] at b
  exact Option.some.inj b
theorem run_iff {d mid : Nat} {args : List Value} {m : PM} {r r' : PRes} (h : Run d mid args m r) : Run d mid args m r' ↔ r' = r := by
  constructor
  · rintro ⟨n', h'⟩
    obtain ⟨n, h⟩ := h
    exact rn_det h' h
  · rintro rfl; exact h
/-- the row of ints of a cell replaced -/
def wI (m : PM) (a : Nat) (f : Nat → Int32) : PM := (fun b j => if b = a then f j else m.1 b j, m.2)
def wJ (m : PM) (a : Nat) (f : Nat → Int64) : PM := (m.1, fun b j => if b = a then f j else m.2.1 b j, m.2.2)
def u1 {α : Type} (f : Nat → α) (k : Nat) (v : α) : Nat → α := fun j => if j = k then v else f j
theorem gI_wI (m : PM) (a b j : Nat) (f : Nat → Int32) : gI (wI m a f) b j = if b = a then f j else gI m b j := rfl
theorem gI_wI0 (m : PM) (a : Nat) (f : Nat → Int32) : gI (wI m a f) a = f := by funext j; exact if_pos rfl
theorem gI_wJ (m : PM) (a b j : Nat) (f : Nat → Int64) : gI (wJ m a f) b j = gI m b j := rfl
theorem gJ_wI (m : PM) (a b j : Nat) (f : Nat → Int32) : gJ (wI m a f) b j = gJ m b j := rfl
theorem gJ_wJ (m : PM) (a b j : Nat) (f : Nat → Int64) : gJ (wJ m a f) b j = if b = a then f j else gJ m b j := rfl
theorem gR_wI (m : PM) (a b j : Nat) (f : Nat → Int32) : gR (wI m a f) b j = gR m b j := rfl
theorem gR_wJ (m : PM) (a b j : Nat) (f : Nat → Int64) : gR (wJ m a f) b j = gR m b j := rfl
theorem gK_wI (m : PM) (a b : Nat) (f : Nat → Int32) : gK (wI m a f) b = gK m b := rfl
theorem gK_wJ (m : PM) (a b : Nat) (f : Nat → Int64) : gK (wJ m a f) b = gK m b := rfl
theorem gN_wI (m : PM) (a b : Nat) (f : Nat → Int32) : gN (wI m a f) b = gN m b := rfl
theorem gN_wJ (m : PM) (a b : Nat) (f : Nat → Int64) : gN (wJ m a f) b = gN m b := rfl
theorem gX_wI (m : PM) (a : Nat) (f : Nat → Int32) : gX (wI m a f) = gX m := rfl
theorem gX_wJ (m : PM) (a : Nat) (f : Nat → Int64) : gX (wJ m a f) = gX m := rfl
theorem gS_wI (m : PM) (a : Nat) (f : Nat → Int32) : gS (wI m a f) = gS m := rfl
theorem gS_wJ (m : PM) (a : Nat) (f : Nat → Int64) : gS (wJ m a f) = gS m := rfl
theorem wI_self (m : PM) (a : Nat) : wI m a (gI m a) = m := by
  obtain ⟨i, q⟩ := m
  refine Prod.ext ?_ rfl
  funext b j
  show (if b = a then i a j else i b j) = i b j
  split
  · rename_i h; rw [h]
  · rfl
theorem sI_wI (m : PM) (a k : Nat) (f : Nat → Int32) (v : Int32) : sI (wI m a f) a k v = wI m a (u1 f k v) := by
  refine Prod.ext ?_ rfl
  funext b j
  show (if b = a ∧ j = k then v else if b = a then f j else m.1 b j) = (if b = a then (if j = k then v else f j) else m.1 b j)
  by_cases h : b = a <;> by_cases h2 : j = k <;> simp [h, h2]
theorem sI_is (m : PM) (a k : Nat) (v : Int32) : sI m a k v = wI m a (u1 (gI m a) k v) := by
  conv => lhs; rw [← wI_self m a]
  rw [sI_wI]
theorem wI_wI (m : PM) (a : Nat) (f g : Nat → Int32) : wI (wI m a f) a g = wI m a g := by
  refine Prod.ext ?_ rfl
  funext b j
  show (if b = a then g j else if b = a then f j else m.1 b j) = (if b = a then g j else m.1 b j)
  by_cases h : b = a <;> simp [h]
theorem wI_comm (m : PM) (a b : Nat) (f g : Nat → Int32) (h : a ≠ b) : wI (wI m a f) b g = wI (wI m b g) a f := by
  refine Prod.ext ?_ rfl
  funext c j
  show (if c = b then g j else if c = a then f j else m.1 c j) = (if c = a then f j else if c = b then g j else m.1 c j)
  by_cases h1 : c = a
  · by_cases h2 : c = b
    · exact absurd (h1.symm.trans h2) h
    · simp [h1, h2, h]
  · simp [h1]
theorem u1_at {α : Type} (f : Nat → α) (k : Nat) (v : α) : u1 f k v k = v := if_pos rfl
theorem u1_ne {α : Type} (f : Nat → α) {k j : Nat} (v : α) (h : j ≠ k) : u1 f k v j = f j := if_neg h
theorem u1_e {α : Type} (f : Nat → α) (k j : Nat) (v : α) : u1 f k v j = if j = k then v else f j := rfl
theorem ite_r {c : Prop} [Decidable c] {r a b : PRes} : (if c then r = a else r = b) ↔ r = if c then a else b := by split <;> exact Iff.rfl
theorem ite_p {c : Prop} [Decidable c] {a b : Int32} {m : PM} : (if c then (((0, some (.int a)), m) : PRes) else ((0, some (.int b)), m)) = ((0, some (.int (if c then a else b))), m) := by split <;> rfl
theorem iff_v {r : PRes} {a b : Int32} {m : PM} (h : a = b) : r = ((0, some (.int a)), m) ↔ r = ((0, some (.int b)), m) := by rw [h]
theorem iff_m {r : PRes} {v : Option Value} {m m' : PM} (h : m = m') : r = ((0, v), m) ↔ r = ((0, v), m') := by rw [h]
theorem iff_vm {r : PRes} {a b : Int32} {m m' : PM} (h : a = b) (h2 : m = m') : r = ((0, some (.int a)), m) ↔ r = ((0, some (.int b)), m') := by rw [h, h2]
/-- a number of 0 .. n - 1 -/
def inN (n : Nat) (p : Int32) : Bool := decide (nI 0 ≤ p ∧ p ≤ nI n - nI 1)
theorem inN_iff {n : Nat} {p : Int32} (hn : n < 1000000) : inN n p = true ↔ ∃ k, k < n ∧ p = nI k := by
  unfold inN
  rw [decide_eq_true_iff]
  constructor
  · rintro ⟨h1, h2⟩
    rcases i32_cases (x := p) with ⟨k, hk, e⟩ | hneg
    · refine ⟨k, ?_, e⟩
      subst e
      by_cases c : n = 0
      · subst c
        exfalso
        rw [Int32.le_iff_toInt_le, nI_toInt hk, show (nI 0 - nI 1).toInt = -1 by decide] at h2
        omega
      · rw [nI_sub (by omega), nI_lei hk (by omega)] at h2
        omega
    · exfalso
      rw [Int32.lt_iff_toInt_lt] at hneg
      rw [Int32.le_iff_toInt_le] at h1
      have : (nI 0).toInt = (0 : Int32).toInt := by decide
      omega
  · rintro ⟨k, hk, rfl⟩
    rw [nI_sub (by omega), nI_lei (by omega) (by omega), nI_lei (by omega) (by omega)]
    omega
/-- f i, then f (i + 1) .. : k rounds -/
def itf {α : Type} (f : Nat → α → α) : Nat → Nat → α → α
  | _, 0, a => a
  | i, k + 1, a => itf f (i + 1) k (f i a)
theorem itf_0 {α : Type} (f : Nat → α → α) (i : Nat) (a : α) : itf f i 0 a = a := rfl
theorem itf_s {α : Type} (f : Nat → α → α) (i k : Nat) (a : α) : itf f i (k + 1) a = itf f (i + 1) k (f i a) := rfl
theorem itf_it {α : Type} (f : Nat → α → α) (k i : Nat) (a : α) : itf f i k (it f i a) = it f (i + k) a := by
  induction k generalizing i with
  | zero => rfl
  | succ k ih => rw [itf_s, ← it_s f i a, ih (i + 1), show i + 1 + k = i + (k + 1) by omega]
theorem itf_is {α : Type} (f : Nat → α → α) (k : Nat) (a : α) : itf f 0 k a = it f k a := by
  have := itf_it f k 0 a
  rw [it_0, Nat.zero_add] at this
  exact this
theorem nI_dc (k : Nat) : nI k + -1 = nI k - nI 1 := by
  rw [Int32.sub_eq_add_neg]; rfl
theorem nI_d0 : nI 0 - nI 1 = -1 := by decide
theorem nI_d1 (k : Nat) : nI (k + 1) - nI 1 = nI k := by rw [nI_sub (by omega)]; rfl
theorem oI_lt {b : Option Nat} {k : Nat} (h : b = some k) : oI b = nI k := by rw [h]; rfl
theorem i32_m1n : (-1 : Int32) < 0 ↔ True := by decide
theorem i32_nlt {a b : Int32} : ¬ b < a ↔ a ≤ b := by rw [Int32.le_iff_toInt_le, Int32.lt_iff_toInt_lt]; omega
theorem i32_lt {a b : Int32} : b < a ↔ ¬ a ≤ b := by rw [Int32.le_iff_toInt_le, Int32.lt_iff_toInt_lt]; omega
