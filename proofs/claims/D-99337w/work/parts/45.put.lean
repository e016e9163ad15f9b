/-! ROWS IN MEMORY: a State's cells z .. z + 5, a Board's cells b .. b + 7, the model's row of numbers -/
set_option maxRecDepth 10000
def inr (s k : Nat) : Bool := decide ((s = 0 ∧ 5 ≤ k ∧ k < 11) ∨ (s = 1 ∧ k < 42) ∨ (s = 2 ∧ k < 6) ∨ ((s = 3 ∨ s = 4 ∨ s = 5) ∧ k < 7))
def inb (s k : Nat) : Bool := decide ((s = 0 ∧ 7 ≤ k ∧ k < 11) ∨ ((s = 3 ∨ s = 4) ∧ k < 7) ∨ ((s = 5 ∨ s = 6) ∧ k < 6) ∨ (s = 7 ∧ k < 42))
theorem inr_lt {s k : Nat} (h : inr s k = true) : s ≤ 5 := by have := of_decide_eq_true h; omega
theorem inb_lt {s k : Nat} (h : inb s k = true) : s ≤ 7 := by have := of_decide_eq_true h; omega
def pZ (m : PM) (z : Nat) (R : Rw) : PM := (fun c k => if z ≤ c ∧ inr (c - z) k = true then R (c - z) k else m.1 c k, m.2)
def pB (m : PM) (b : Nat) (B : Rw) : PM := (fun c k => if b ≤ c ∧ inb (c - b) k = true then B (c - b) k else m.1 c k, m.2)
theorem gI_pZ (m : PM) (z c k : Nat) (R : Rw) : gI (pZ m z R) c k = if z ≤ c ∧ inr (c - z) k = true then R (c - z) k else gI m c k := rfl
theorem gI_pB (m : PM) (b c k : Nat) (B : Rw) : gI (pB m b B) c k = if b ≤ c ∧ inb (c - b) k = true then B (c - b) k else gI m c k := rfl
theorem gI_pZs {m : PM} {z : Nat} {R : Rw} {s k : Nat} (h : inr s k = true) : gI (pZ m z R) (z + s) k = R s k := by
  rw [gI_pZ, Nat.add_sub_cancel_left, if_pos ⟨by omega, h⟩]
theorem gI_pBs {m : PM} {b : Nat} {B : Rw} {s k : Nat} (h : inb s k = true) : gI (pB m b B) (b + s) k = B s k := by
  rw [gI_pB, Nat.add_sub_cancel_left, if_pos ⟨by omega, h⟩]
theorem gI_pZ0 {m : PM} {z : Nat} {R : Rw} {k : Nat} (h : 5 ≤ k ∧ k < 11) : gI (pZ m z R) z k = R 0 k := gI_pZs (s := 0) (decide_eq_true (by omega))
theorem gI_pZ1 {m : PM} {z : Nat} {R : Rw} {k : Nat} (h : k < 42) : gI (pZ m z R) (z + 1) k = R 1 k := gI_pZs (decide_eq_true (by omega))
theorem gI_pZ2 {m : PM} {z : Nat} {R : Rw} {k : Nat} (h : k < 6) : gI (pZ m z R) (z + 2) k = R 2 k := gI_pZs (decide_eq_true (by omega))
theorem gI_pZ3 {m : PM} {z : Nat} {R : Rw} {k : Nat} (h : k < 7) : gI (pZ m z R) (z + 3) k = R 3 k := gI_pZs (decide_eq_true (by omega))
theorem gI_pZ4 {m : PM} {z : Nat} {R : Rw} {k : Nat} (h : k < 7) : gI (pZ m z R) (z + 4) k = R 4 k := gI_pZs (decide_eq_true (by omega))
theorem gI_pZ5 {m : PM} {z : Nat} {R : Rw} {k : Nat} (h : k < 7) : gI (pZ m z R) (z + 5) k = R 5 k := gI_pZs (decide_eq_true (by omega))
theorem gI_pZo {m : PM} {z : Nat} {R : Rw} {c k : Nat} (h : c < z ∨ z + 5 < c) : gI (pZ m z R) c k = gI m c k := by
  rw [gI_pZ, if_neg (fun q => by have := inr_lt q.2; omega)]
theorem gI_pZ11 {m : PM} {z : Nat} {R : Rw} : gI (pZ m z R) z 11 = gI m z 11 := by
  rw [gI_pZ, if_neg (fun q => by have := of_decide_eq_true q.2; omega)]
theorem gI_pB0 {m : PM} {b : Nat} {B : Rw} {k : Nat} (h : 7 ≤ k ∧ k < 11) : gI (pB m b B) b k = B 0 k := gI_pBs (s := 0) (decide_eq_true (by omega))
theorem gI_pB3 {m : PM} {b : Nat} {B : Rw} {k : Nat} (h : k < 7) : gI (pB m b B) (b + 3) k = B 3 k := gI_pBs (decide_eq_true (by omega))
theorem gI_pB4 {m : PM} {b : Nat} {B : Rw} {k : Nat} (h : k < 7) : gI (pB m b B) (b + 4) k = B 4 k := gI_pBs (decide_eq_true (by omega))
theorem gI_pB5 {m : PM} {b : Nat} {B : Rw} {k : Nat} (h : k < 6) : gI (pB m b B) (b + 5) k = B 5 k := gI_pBs (decide_eq_true (by omega))
theorem gI_pB6 {m : PM} {b : Nat} {B : Rw} {k : Nat} (h : k < 6) : gI (pB m b B) (b + 6) k = B 6 k := gI_pBs (decide_eq_true (by omega))
theorem gI_pB7 {m : PM} {b : Nat} {B : Rw} {k : Nat} (h : k < 42) : gI (pB m b B) (b + 7) k = B 7 k := gI_pBs (decide_eq_true (by omega))
theorem gI_pBo {m : PM} {b : Nat} {B : Rw} {c k : Nat} (h : c < b ∨ b + 7 < c) : gI (pB m b B) c k = gI m c k := by
  rw [gI_pB, if_neg (fun q => by have := inb_lt q.2; omega)]
theorem sI_pZs {m : PM} {z : Nat} {R : Rw} {s k : Nat} {v : Int32} (h : inr s k = true) : sI (pZ m z R) (z + s) k v = pZ m z (up R s k v) := by
  refine Prod.ext ?_ rfl
  funext c j
  show (if c = z + s ∧ j = k then v else if z ≤ c ∧ inr (c - z) j = true then R (c - z) j else m.1 c j) = (if z ≤ c ∧ inr (c - z) j = true then (if c - z = s ∧ j = k then v else R (c - z) j) else m.1 c j)
  by_cases h1 : c = z + s ∧ j = k
  · have e : c - z = s := by omega
    rw [if_pos h1, if_pos ⟨by omega, by rw [e, h1.2]; exact h⟩, if_pos ⟨e, h1.2⟩]
  · rw [if_neg h1]
    by_cases h2 : z ≤ c ∧ inr (c - z) j = true
    · rw [if_pos h2, if_pos h2, if_neg (by omega)]
    · rw [if_neg h2, if_neg h2]
theorem sI_pZ0 {m : PM} {z : Nat} {R : Rw} {k : Nat} {v : Int32} (h : 5 ≤ k ∧ k < 11) : sI (pZ m z R) z k v = pZ m z (up R 0 k v) := sI_pZs (s := 0) (decide_eq_true (by omega))
theorem sI_pZ1 {m : PM} {z : Nat} {R : Rw} {k : Nat} {v : Int32} (h : k < 42) : sI (pZ m z R) (z + 1) k v = pZ m z (up R 1 k v) := sI_pZs (decide_eq_true (by omega))
theorem sI_pZ2 {m : PM} {z : Nat} {R : Rw} {k : Nat} {v : Int32} (h : k < 6) : sI (pZ m z R) (z + 2) k v = pZ m z (up R 2 k v) := sI_pZs (decide_eq_true (by omega))
theorem sI_pZ3 {m : PM} {z : Nat} {R : Rw} {k : Nat} {v : Int32} (h : k < 7) : sI (pZ m z R) (z + 3) k v = pZ m z (up R 3 k v) := sI_pZs (decide_eq_true (by omega))
theorem sI_pZ4 {m : PM} {z : Nat} {R : Rw} {k : Nat} {v : Int32} (h : k < 7) : sI (pZ m z R) (z + 4) k v = pZ m z (up R 4 k v) := sI_pZs (decide_eq_true (by omega))
theorem sI_pZ5 {m : PM} {z : Nat} {R : Rw} {k : Nat} {v : Int32} (h : k < 7) : sI (pZ m z R) (z + 5) k v = pZ m z (up R 5 k v) := sI_pZs (decide_eq_true (by omega))
theorem sI_pZ11 {m : PM} {z : Nat} {R : Rw} {v : Int32} : sI (pZ m z R) z 11 v = pZ (sI m z 11 v) z R := by
  refine Prod.ext ?_ rfl
  funext c j
  show (if c = z ∧ j = 11 then v else if z ≤ c ∧ inr (c - z) j = true then R (c - z) j else m.1 c j) = (if z ≤ c ∧ inr (c - z) j = true then R (c - z) j else if c = z ∧ j = 11 then v else m.1 c j)
  by_cases h1 : c = z ∧ j = 11
  · rw [if_pos h1, if_neg (fun q => by have := of_decide_eq_true q.2; omega), if_pos h1]
  · rw [if_neg h1, if_neg h1]
theorem sI_pZo {m : PM} {z : Nat} {R : Rw} {a k : Nat} {v : Int32} (h : a < z ∨ z + 5 < a) : sI (pZ m z R) a k v = pZ (sI m a k v) z R := by
  refine Prod.ext ?_ rfl
  funext c j
  show (if c = a ∧ j = k then v else if z ≤ c ∧ inr (c - z) j = true then R (c - z) j else m.1 c j) = (if z ≤ c ∧ inr (c - z) j = true then R (c - z) j else if c = a ∧ j = k then v else m.1 c j)
  by_cases h1 : c = a ∧ j = k
  · rw [if_pos h1, if_neg (fun q => by have := inr_lt q.2; omega), if_pos h1]
  · rw [if_neg h1, if_neg h1]
theorem pZ_pZ (m : PM) (z : Nat) (R R' : Rw) : pZ (pZ m z R) z R' = pZ m z R' := by
  refine Prod.ext ?_ rfl
  funext c j
  show (if z ≤ c ∧ inr (c - z) j = true then R' (c - z) j else if z ≤ c ∧ inr (c - z) j = true then R (c - z) j else m.1 c j) = (if z ≤ c ∧ inr (c - z) j = true then R' (c - z) j else m.1 c j)
  split <;> rfl
theorem pZ_comm {m : PM} {z w : Nat} {R R' : Rw} (h : z + 5 < w ∨ w + 5 < z) : pZ (pZ m z R) w R' = pZ (pZ m w R') z R := by
  refine Prod.ext ?_ rfl
  funext c j
  show (if w ≤ c ∧ inr (c - w) j = true then R' (c - w) j else if z ≤ c ∧ inr (c - z) j = true then R (c - z) j else m.1 c j) = (if z ≤ c ∧ inr (c - z) j = true then R (c - z) j else if w ≤ c ∧ inr (c - w) j = true then R' (c - w) j else m.1 c j)
  by_cases h1 : w ≤ c ∧ inr (c - w) j = true
  · rw [if_pos h1, if_neg (fun q => by have := inr_lt q.2; have := inr_lt h1.2; omega), if_pos h1]
  · rw [if_neg h1, if_neg h1]
/-- the State's cells hold the row -/
def Zr (m : PM) (z : Nat) (R : Rw) : Prop := ∀ s k, inr s k = true → gI m (z + s) k = R s k
def Br (m : PM) (b : Nat) (B : Rw) : Prop := ∀ s k, inb s k = true → gI m (b + s) k = B s k
theorem pZ_of {m : PM} {z : Nat} {R : Rw} (h : Zr m z R) : pZ m z R = m := by
  obtain ⟨i, q⟩ := m
  refine Prod.ext ?_ rfl
  funext c j
  show (if z ≤ c ∧ inr (c - z) j = true then R (c - z) j else i c j) = i c j
  split
  · rename_i c1
    have := h (c - z) j c1.2
    rw [← this, show z + (c - z) = c by omega]
    rfl
  · rfl
theorem pB_of {m : PM} {b : Nat} {B : Rw} (h : Br m b B) : pB m b B = m := by
  obtain ⟨i, q⟩ := m
  refine Prod.ext ?_ rfl
  funext c j
  show (if b ≤ c ∧ inb (c - b) j = true then B (c - b) j else i c j) = i c j
  split
  · rename_i c1
    have := h (c - b) j c1.2
    rw [← this, show b + (c - b) = c by omega]
    rfl
  · rfl
theorem Zr_pZ (m : PM) (z : Nat) (R : Rw) : Zr (pZ m z R) z R := fun _ _ h => gI_pZs h
theorem Zr_self (m : PM) (z : Nat) : Zr m z (fun s k => gI m (z + s) k) := fun _ _ _ => rfl
theorem gJ_pZ (m : PM) (z b j : Nat) (R : Rw) : gJ (pZ m z R) b j = gJ m b j := rfl
theorem gR_pZ (m : PM) (z b j : Nat) (R : Rw) : gR (pZ m z R) b j = gR m b j := rfl
theorem gK_pZ (m : PM) (z b : Nat) (R : Rw) : gK (pZ m z R) b = gK m b := rfl
theorem gN_pZ (m : PM) (z b : Nat) (R : Rw) : gN (pZ m z R) b = gN m b := rfl
theorem gX_pZ (m : PM) (z : Nat) (R : Rw) : gX (pZ m z R) = gX m := rfl
theorem gS_pZ (m : PM) (z : Nat) (R : Rw) : gS (pZ m z R) = gS m := rfl
theorem gJ_pB (m : PM) (z b j : Nat) (R : Rw) : gJ (pB m z R) b j = gJ m b j := rfl
theorem gR_pB (m : PM) (z b j : Nat) (R : Rw) : gR (pB m z R) b j = gR m b j := rfl
theorem gK_pB (m : PM) (z b : Nat) (R : Rw) : gK (pB m z R) b = gK m b := rfl
theorem gN_pB (m : PM) (z b : Nat) (R : Rw) : gN (pB m z R) b = gN m b := rfl
theorem gX_pB (m : PM) (z : Nat) (R : Rw) : gX (pB m z R) = gX m := rfl
theorem gS_pB (m : PM) (z : Nat) (R : Rw) : gS (pB m z R) = gS m := rfl
/-! the model's row: a board's part, what is so -/
def rwF (B R : Rw) (f : Nat → Int32) : Nat → Int32 := fun k =>
  if k < 4 then B 0 (k + 7) else if k < 11 then B 3 (k - 4) else if k < 18 then B 4 (k - 11) else if k < 24 then B 5 (k - 18) else if k < 30 then B 6 (k - 24) else if k < 72 then B 7 (k - 30)
  else if k < 78 then R 0 (k - 67) else if k < 84 then R 2 (k - 78) else if k < 91 then R 3 (k - 84) else if k < 98 then R 4 (k - 91) else if k < 105 then R 5 (k - 98) else if k < 147 then R 1 (k - 105) else f k
def pY (m : PM) (y : Nat) (B R : Rw) : PM := (fun c k => if c = y + 2 ∧ k < 147 then rwF B R (fun _ => 0) k else m.1 c k, m.2)
def Yr (m : PM) (y : Nat) (B R : Rw) : Prop := ∀ k, k < 147 → gI m (y + 2) k = rwF B R (fun _ => 0) k
theorem gI_pY (m : PM) (y c k : Nat) (B R : Rw) : gI (pY m y B R) c k = if c = y + 2 ∧ k < 147 then rwF B R (fun _ => 0) k else gI m c k := rfl
theorem gI_pYo {m : PM} {y c k : Nat} {B R : Rw} (h : c ≠ y + 2) : gI (pY m y B R) c k = gI m c k := if_neg (fun q => h q.1)
theorem gI_pYi {m : PM} {y k : Nat} {B R : Rw} (h : k < 147) : gI (pY m y B R) (y + 2) k = rwF B R (fun _ => 0) k := if_pos ⟨rfl, h⟩
theorem gI_pYh {m : PM} {y k : Nat} {B R : Rw} (h : 147 ≤ k) : gI (pY m y B R) (y + 2) k = gI m (y + 2) k := if_neg (by omega)
theorem pY_of {m : PM} {y : Nat} {B R : Rw} (h : Yr m y B R) : pY m y B R = m := by
  obtain ⟨i, q⟩ := m
  refine Prod.ext ?_ rfl
  funext c j
  show (if c = y + 2 ∧ j < 147 then rwF B R (fun _ => 0) j else i c j) = i c j
  split
  · rename_i c1
    rw [c1.1]
    exact (h j c1.2).symm
  · rfl
theorem Yr_pY (m : PM) (y : Nat) (B R : Rw) : Yr (pY m y B R) y B R := fun _ h => gI_pYi h
theorem gJ_pY (m : PM) (y b j : Nat) (B R : Rw) : gJ (pY m y B R) b j = gJ m b j := rfl
theorem gR_pY (m : PM) (y b j : Nat) (B R : Rw) : gR (pY m y B R) b j = gR m b j := rfl
theorem gK_pY (m : PM) (y b : Nat) (B R : Rw) : gK (pY m y B R) b = gK m b := rfl
theorem gN_pY (m : PM) (y b : Nat) (B R : Rw) : gN (pY m y B R) b = gN m b := rfl
theorem gX_pY (m : PM) (y : Nat) (B R : Rw) : gX (pY m y B R) = gX m := rfl
theorem gS_pY (m : PM) (y : Nat) (B R : Rw) : gS (pY m y B R) = gS m := rfl
theorem pY_pY (m : PM) (y : Nat) (B R B' R' : Rw) : pY (pY m y B R) y B' R' = pY m y B' R' := by
  refine Prod.ext ?_ rfl
  funext c j
  show (if c = y + 2 ∧ j < 147 then rwF B' R' (fun _ => 0) j else if c = y + 2 ∧ j < 147 then rwF B R (fun _ => 0) j else m.1 c j) = (if c = y + 2 ∧ j < 147 then rwF B' R' (fun _ => 0) j else m.1 c j)
  split <;> rfl
theorem sI_pYo {m : PM} {y a k : Nat} {B R : Rw} {v : Int32} (h : a ≠ y + 2) : sI (pY m y B R) a k v = pY (sI m a k v) y B R := by
  refine Prod.ext ?_ rfl
  funext c j
  show (if c = a ∧ j = k then v else if c = y + 2 ∧ j < 147 then rwF B R (fun _ => 0) j else m.1 c j) = (if c = y + 2 ∧ j < 147 then rwF B R (fun _ => 0) j else if c = a ∧ j = k then v else m.1 c j)
  by_cases h1 : c = a ∧ j = k
  · rw [if_pos h1, if_neg (fun q => h (h1.1.symm.trans q.1)), if_pos h1]
  · rw [if_neg h1, if_neg h1]
theorem sJ_pY {m : PM} {y a k : Nat} {B R : Rw} {v : Int64} : sJ (pY m y B R) a k v = pY (sJ m a k v) y B R := rfl
theorem wI_pYo {m : PM} {y a : Nat} {B R : Rw} {f : Nat → Int32} (h : a ≠ y + 2) : wI (pY m y B R) a f = pY (wI m a f) y B R := by
  refine Prod.ext ?_ rfl
  funext c j
  show (if c = a then f j else if c = y + 2 ∧ j < 147 then rwF B R (fun _ => 0) j else m.1 c j) = (if c = y + 2 ∧ j < 147 then rwF B R (fun _ => 0) j else if c = a then f j else m.1 c j)
  by_cases h1 : c = a
  · rw [if_pos h1, if_neg (fun q => h (h1.symm.trans q.1)), if_pos h1]
  · rw [if_neg h1, if_neg h1]
theorem sI_pYh {m : PM} {y k : Nat} {B R : Rw} {v : Int32} (h : 147 ≤ k) : sI (pY m y B R) (y + 2) k v = pY (sI m (y + 2) k v) y B R := by
  refine Prod.ext ?_ rfl
  funext c j
  show (if c = y + 2 ∧ j = k then v else if c = y + 2 ∧ j < 147 then rwF B R (fun _ => 0) j else m.1 c j) = (if c = y + 2 ∧ j < 147 then rwF B R (fun _ => 0) j else if c = y + 2 ∧ j = k then v else m.1 c j)
  by_cases h1 : c = y + 2 ∧ j = k
  · rw [if_pos h1, if_neg (by omega), if_pos h1]
  · rw [if_neg h1, if_neg h1]
/-- a place k of the row is place j of section s of what is so -/
def yR (s j k : Nat) : Bool := decide ((s = 0 ∧ 5 ≤ j ∧ k = j + 67 ∧ k < 78) ∨ (s = 2 ∧ k = j + 78 ∧ j < 6) ∨ (s = 3 ∧ k = j + 84 ∧ j < 7) ∨ (s = 4 ∧ k = j + 91 ∧ j < 7) ∨ (s = 5 ∧ k = j + 98 ∧ j < 7) ∨ (s = 1 ∧ k = j + 105 ∧ j < 42))
theorem rwF_up {B R : Rw} {f : Nat → Int32} {s j k i : Nat} {v : Int32} (h : yR s j k = true) (hi : i < 147) : rwF B (up R s j v) f i = if i = k then v else rwF B R f i := by
  have h := of_decide_eq_true h
  unfold rwF
  simp only [up_e]
  by_cases c0 : i < 72
  · have : ¬ i = k := by omega
    rw [if_neg this]
    by_cases c1 : i < 4
    · simp only [if_pos c1]
    · by_cases c2 : i < 11
      · simp only [if_neg c1, if_pos c2]
      · by_cases c3 : i < 18
        · simp only [if_neg c1, if_neg c2, if_pos c3]
        · by_cases c4 : i < 24
          · simp only [if_neg c1, if_neg c2, if_neg c3, if_pos c4]
          · by_cases c5 : i < 30
            · simp only [if_neg c1, if_neg c2, if_neg c3, if_neg c4, if_pos c5]
            · simp only [if_neg c1, if_neg c2, if_neg c3, if_neg c4, if_neg c5, if_pos c0]
  · have a1 : ¬ i < 4 := by omega
    have a2 : ¬ i < 11 := by omega
    have a3 : ¬ i < 18 := by omega
    have a4 : ¬ i < 24 := by omega
    have a5 : ¬ i < 30 := by omega
    simp only [if_neg a1, if_neg a2, if_neg a3, if_neg a4, if_neg a5, if_neg c0, if_pos hi]
    by_cases e : i = k
    · rw [if_pos e]
      by_cases c1 : i < 78
      · rw [if_pos c1, if_pos (by omega)]
      · rw [if_neg c1]
        by_cases c2 : i < 84
        · rw [if_pos c2, if_pos (by omega)]
        · rw [if_neg c2]
          by_cases c3 : i < 91
          · rw [if_pos c3, if_pos (by omega)]
          · rw [if_neg c3]
            by_cases c4 : i < 98
            · rw [if_pos c4, if_pos (by omega)]
            · rw [if_neg c4]
              by_cases c5 : i < 105
              · rw [if_pos c5, if_pos (by omega)]
              · rw [if_neg c5, if_pos (by omega)]
    · rw [if_neg e]
      by_cases c1 : i < 78
      · rw [if_pos c1, if_pos c1, if_neg (by omega)]
      · rw [if_neg c1, if_neg c1]
        by_cases c2 : i < 84
        · rw [if_pos c2, if_pos c2, if_neg (by omega)]
        · rw [if_neg c2, if_neg c2]
          by_cases c3 : i < 91
          · rw [if_pos c3, if_pos c3, if_neg (by omega)]
          · rw [if_neg c3, if_neg c3]
            by_cases c4 : i < 98
            · rw [if_pos c4, if_pos c4, if_neg (by omega)]
            · rw [if_neg c4, if_neg c4]
              by_cases c5 : i < 105
              · rw [if_pos c5, if_pos c5, if_neg (by omega)]
              · rw [if_neg c5, if_neg c5, if_neg (by omega)]
theorem rwF_at {B R : Rw} {f : Nat → Int32} {s j k : Nat} (h : yR s j k = true) : rwF B R f k = R s j := by
  have hk : k < 147 := by have := of_decide_eq_true h; omega
  have e := rwF_up (B := B) (R := R) (f := f) (v := R s j) h hk
  rw [up_self, if_pos rfl] at e
  exact e
theorem sI_pY {m : PM} {y : Nat} {B R : Rw} {s j k : Nat} {v : Int32} (h : yR s j k = true) : sI (pY m y B R) (y + 2) k v = pY m y B (up R s j v) := by
  refine Prod.ext ?_ rfl
  funext c i
  show (if c = y + 2 ∧ i = k then v else if c = y + 2 ∧ i < 147 then rwF B R (fun _ => 0) i else m.1 c i) = (if c = y + 2 ∧ i < 147 then rwF B (up R s j v) (fun _ => 0) i else m.1 c i)
  have hk : k < 147 := by have := of_decide_eq_true h; omega
  by_cases h1 : c = y + 2 ∧ i < 147
  · rw [if_pos h1, if_pos h1, rwF_up h h1.2]
    by_cases h2 : i = k
    · rw [if_pos ⟨h1.1, h2⟩, if_pos h2]
    · rw [if_neg (fun q => h2 q.2), if_neg h2]
  · rw [if_neg h1, if_neg h1, if_neg (fun q => h1 ⟨q.1, by omega⟩)]
theorem gY {m : PM} {y : Nat} {B R : Rw} {s j k : Nat} (h : yR s j k = true) : gI (pY m y B R) (y + 2) k = R s j := by
  rw [gI_pYi (by have := of_decide_eq_true h; omega), rwF_at h]
theorem gY_plate {m : PM} {y : Nat} {B R : Rw} {p d : Nat} (h : 6 * p + d < 42) : gI (pY m y B R) (y + 2) (105 + 6 * p + d) = R 1 (6 * p + d) := gY (decide_eq_true (by omega))
theorem gY_parts {m : PM} {y : Nat} {B R : Rw} {d : Nat} (h : d < 6) : gI (pY m y B R) (y + 2) (78 + d) = R 2 d := gY (decide_eq_true (by omega))
theorem gY_eaten {m : PM} {y : Nat} {B R : Rw} {p : Nat} (h : p < 7) : gI (pY m y B R) (y + 2) (84 + p) = R 3 p := gY (decide_eq_true (by omega))
theorem gY_just {m : PM} {y : Nat} {B R : Rw} {p : Nat} (h : p < 7) : gI (pY m y B R) (y + 2) (91 + p) = R 4 p := gY (decide_eq_true (by omega))
theorem gY_hung {m : PM} {y : Nat} {B R : Rw} {p : Nat} (h : p < 7) : gI (pY m y B R) (y + 2) (98 + p) = R 5 p := gY (decide_eq_true (by omega))
theorem gY_72 {m : PM} {y : Nat} {B R : Rw} : gI (pY m y B R) (y + 2) 72 = R 0 5 := gY (decide_eq_true (by omega))
theorem gY_73 {m : PM} {y : Nat} {B R : Rw} : gI (pY m y B R) (y + 2) 73 = R 0 6 := gY (decide_eq_true (by omega))
theorem gY_74 {m : PM} {y : Nat} {B R : Rw} : gI (pY m y B R) (y + 2) 74 = R 0 7 := gY (decide_eq_true (by omega))
theorem gY_75 {m : PM} {y : Nat} {B R : Rw} : gI (pY m y B R) (y + 2) 75 = R 0 8 := gY (decide_eq_true (by omega))
theorem gY_76 {m : PM} {y : Nat} {B R : Rw} : gI (pY m y B R) (y + 2) 76 = R 0 9 := gY (decide_eq_true (by omega))
theorem gY_77 {m : PM} {y : Nat} {B R : Rw} : gI (pY m y B R) (y + 2) 77 = R 0 10 := gY (decide_eq_true (by omega))
theorem sY_plate {m : PM} {y : Nat} {B R : Rw} {p d : Nat} {v : Int32} (h : 6 * p + d < 42) : sI (pY m y B R) (y + 2) (105 + 6 * p + d) v = pY m y B (up R 1 (6 * p + d) v) := sI_pY (decide_eq_true (by omega))
theorem sY_parts {m : PM} {y : Nat} {B R : Rw} {d : Nat} {v : Int32} (h : d < 6) : sI (pY m y B R) (y + 2) (78 + d) v = pY m y B (up R 2 d v) := sI_pY (decide_eq_true (by omega))
theorem sY_eaten {m : PM} {y : Nat} {B R : Rw} {p : Nat} {v : Int32} (h : p < 7) : sI (pY m y B R) (y + 2) (84 + p) v = pY m y B (up R 3 p v) := sI_pY (decide_eq_true (by omega))
theorem sY_just {m : PM} {y : Nat} {B R : Rw} {p : Nat} {v : Int32} (h : p < 7) : sI (pY m y B R) (y + 2) (91 + p) v = pY m y B (up R 4 p v) := sI_pY (decide_eq_true (by omega))
theorem sY_hung {m : PM} {y : Nat} {B R : Rw} {p : Nat} {v : Int32} (h : p < 7) : sI (pY m y B R) (y + 2) (98 + p) v = pY m y B (up R 5 p v) := sI_pY (decide_eq_true (by omega))
theorem sY_72 {m : PM} {y : Nat} {B R : Rw} {v : Int32} : sI (pY m y B R) (y + 2) 72 v = pY m y B (up R 0 5 v) := sI_pY (decide_eq_true (by omega))
theorem sY_73 {m : PM} {y : Nat} {B R : Rw} {v : Int32} : sI (pY m y B R) (y + 2) 73 v = pY m y B (up R 0 6 v) := sI_pY (decide_eq_true (by omega))
theorem sY_74 {m : PM} {y : Nat} {B R : Rw} {v : Int32} : sI (pY m y B R) (y + 2) 74 v = pY m y B (up R 0 7 v) := sI_pY (decide_eq_true (by omega))
theorem sY_75 {m : PM} {y : Nat} {B R : Rw} {v : Int32} : sI (pY m y B R) (y + 2) 75 v = pY m y B (up R 0 8 v) := sI_pY (decide_eq_true (by omega))
theorem sY_76 {m : PM} {y : Nat} {B R : Rw} {v : Int32} : sI (pY m y B R) (y + 2) 76 v = pY m y B (up R 0 9 v) := sI_pY (decide_eq_true (by omega))
theorem sY_77 {m : PM} {y : Nat} {B R : Rw} {v : Int32} : sI (pY m y B R) (y + 2) 77 v = pY m y B (up R 0 10 v) := sI_pY (decide_eq_true (by omega))
/-- a place k of the row is place j of section s of a board -/
def yB (s j k : Nat) : Bool := decide ((s = 0 ∧ j = k + 7 ∧ k < 4) ∨ (s = 3 ∧ k = j + 4 ∧ j < 7) ∨ (s = 4 ∧ k = j + 11 ∧ j < 7) ∨ (s = 5 ∧ k = j + 18 ∧ j < 6) ∨ (s = 6 ∧ k = j + 24 ∧ j < 6) ∨ (s = 7 ∧ k = j + 30 ∧ j < 42))
theorem rwF_b {B R : Rw} {f : Nat → Int32} {s j k : Nat} (h : yB s j k = true) : rwF B R f k = B s j := by
  have h := of_decide_eq_true h
  unfold rwF
  rcases h with ⟨e, h1, h2⟩ | ⟨e, h1, h2⟩ | ⟨e, h1, h2⟩ | ⟨e, h1, h2⟩ | ⟨e, h1, h2⟩ | ⟨e, h1, h2⟩
  · rw [if_pos (by omega), e, h1]
  · rw [if_neg (by omega), if_pos (by omega), e, show k - 4 = j by omega]
  · rw [if_neg (by omega), if_neg (by omega), if_pos (by omega), e, show k - 11 = j by omega]
  · rw [if_neg (by omega), if_neg (by omega), if_neg (by omega), if_pos (by omega), e, show k - 18 = j by omega]
  · rw [if_neg (by omega), if_neg (by omega), if_neg (by omega), if_neg (by omega), if_pos (by omega), e, show k - 24 = j by omega]
  · rw [if_neg (by omega), if_neg (by omega), if_neg (by omega), if_neg (by omega), if_neg (by omega), if_pos (by omega), e, show k - 30 = j by omega]
theorem gYb {m : PM} {y : Nat} {B R : Rw} {s j k : Nat} (h : yB s j k = true) : gI (pY m y B R) (y + 2) k = B s j := by
  rw [gI_pYi (by have := of_decide_eq_true h; omega), rwF_b h]
theorem gY_0 {m : PM} {y : Nat} {B R : Rw} : gI (pY m y B R) (y + 2) 0 = B 0 7 := gYb (decide_eq_true (by omega))
theorem gY_1 {m : PM} {y : Nat} {B R : Rw} : gI (pY m y B R) (y + 2) 1 = B 0 8 := gYb (decide_eq_true (by omega))
theorem gY_2 {m : PM} {y : Nat} {B R : Rw} : gI (pY m y B R) (y + 2) 2 = B 0 9 := gYb (decide_eq_true (by omega))
theorem gY_3 {m : PM} {y : Nat} {B R : Rw} : gI (pY m y B R) (y + 2) 3 = B 0 10 := gYb (decide_eq_true (by omega))
theorem gY_wants {m : PM} {y : Nat} {B R : Rw} {p : Nat} (h : p < 7) : gI (pY m y B R) (y + 2) (4 + p) = B 3 p := gYb (decide_eq_true (by omega))
theorem gY_parent {m : PM} {y : Nat} {B R : Rw} {p : Nat} (h : p < 7) : gI (pY m y B R) (y + 2) (11 + p) = B 4 p := gYb (decide_eq_true (by omega))
theorem gY_partsF {m : PM} {y : Nat} {B R : Rw} {d : Nat} (h : d < 6) : gI (pY m y B R) (y + 2) (18 + d) = B 5 d := gYb (decide_eq_true (by omega))
theorem gY_spoils {m : PM} {y : Nat} {B R : Rw} {d : Nat} (h : d < 6) : gI (pY m y B R) (y + 2) (24 + d) = B 6 d := gYb (decide_eq_true (by omega))
theorem gY_plateF {m : PM} {y : Nat} {B R : Rw} {k : Nat} (h : k < 42) : gI (pY m y B R) (y + 2) (30 + k) = B 7 k := gYb (decide_eq_true (by omega))
