/-! BLOCKS of ints written; a state as 75 ints -/
def bW (m : PM) (a o n : Nat) (f : Nat → Int32) : PM := (fun c j => if c = a ∧ o ≤ j ∧ j < o + n then f (j - o) else m.1 c j, m.2)
theorem gI_bW (m : PM) (a o n c j : Nat) (f : Nat → Int32) : gI (bW m a o n f) c j = if c = a ∧ o ≤ j ∧ j < o + n then f (j - o) else gI m c j := rfl
theorem gI_bWo {m : PM} {a o n c j : Nat} {f : Nat → Int32} (h : c ≠ a) : gI (bW m a o n f) c j = gI m c j := if_neg (fun q => h q.1)
theorem gI_bWx {m : PM} {a o n c j : Nat} {f : Nat → Int32} (h : ¬ (o ≤ j ∧ j < o + n)) : gI (bW m a o n f) c j = gI m c j := if_neg (fun q => h q.2)
theorem gI_bWi {m : PM} {a o n j : Nat} {f : Nat → Int32} (h : j < n) : gI (bW m a o n f) a (o + j) = f j := by
  rw [gI_bW, if_pos ⟨rfl, by omega, by omega⟩, Nat.add_sub_cancel_left]
theorem gJ_bW (m : PM) (a o n c j : Nat) (f : Nat → Int32) : gJ (bW m a o n f) c j = gJ m c j := rfl
theorem gR_bW (m : PM) (a o n c j : Nat) (f : Nat → Int32) : gR (bW m a o n f) c j = gR m c j := rfl
theorem gK_bW (m : PM) (a o n c : Nat) (f : Nat → Int32) : gK (bW m a o n f) c = gK m c := rfl
theorem gN_bW (m : PM) (a o n c : Nat) (f : Nat → Int32) : gN (bW m a o n f) c = gN m c := rfl
theorem gX_bW (m : PM) (a o n : Nat) (f : Nat → Int32) : gX (bW m a o n f) = gX m := rfl
theorem gS_bW (m : PM) (a o n : Nat) (f : Nat → Int32) : gS (bW m a o n f) = gS m := rfl
theorem bW_0 (m : PM) (a o : Nat) (f : Nat → Int32) : bW m a o 0 f = m := by
  obtain ⟨i, q⟩ := m
  refine Prod.ext ?_ rfl
  funext c j
  exact if_neg (by omega)
theorem sI_bW (m : PM) (a o n : Nat) (f : Nat → Int32) (v : Int32) (h : v = f n) : sI (bW m a o n f) a (o + n) v = bW m a o (n + 1) f := by
  refine Prod.ext ?_ rfl
  funext c j
  show (if c = a ∧ j = o + n then v else if c = a ∧ o ≤ j ∧ j < o + n then f (j - o) else m.1 c j) = (if c = a ∧ o ≤ j ∧ j < o + (n + 1) then f (j - o) else m.1 c j)
  by_cases h1 : c = a ∧ j = o + n
  · rw [if_pos h1, if_pos ⟨h1.1, by omega, by omega⟩, h, show j - o = n by omega]
  · rw [if_neg h1]
    by_cases h2 : c = a ∧ o ≤ j ∧ j < o + n
    · rw [if_pos h2, if_pos ⟨h2.1, by omega, by omega⟩]
    · rw [if_neg h2, if_neg (by omega)]
theorem bW_cg {m : PM} {a o n : Nat} {f g : Nat → Int32} (h : ∀ i, i < n → f i = g i) : bW m a o n f = bW m a o n g := by
  refine Prod.ext ?_ rfl
  funext c j
  show (if c = a ∧ o ≤ j ∧ j < o + n then f (j - o) else m.1 c j) = (if c = a ∧ o ≤ j ∧ j < o + n then g (j - o) else m.1 c j)
  by_cases h2 : c = a ∧ o ≤ j ∧ j < o + n
  · rw [if_pos h2, if_pos h2, h _ (by omega)]
  · rw [if_neg h2, if_neg h2]
/-- a state as 75 ints -/
def soF (R : Rw) : Nat → Int32 := fun k => rwF (fun _ _ => 0) R (fun _ => 0) (72 + k)
theorem rwF_so {B R : Rw} {f : Nat → Int32} {k : Nat} (h1 : 72 ≤ k) (h2 : k < 147) : rwF B R f k = soF R (k - 72) := by
  unfold soF
  rw [show 72 + (k - 72) = k by omega]
  unfold rwF
  simp only [if_neg (by omega : ¬ k < 4), if_neg (by omega : ¬ k < 11), if_neg (by omega : ¬ k < 18), if_neg (by omega : ¬ k < 24), if_neg (by omega : ¬ k < 30), if_neg (by omega : ¬ k < 72), if_pos h2]
theorem gY_so {m : PM} {y : Nat} {B R : Rw} {k : Nat} (h : k < 75) : gI (pY m y B R) (y + 2) (72 + k) = soF R k := by
  rw [gI_pYi (by omega), rwF_so (by omega) (by omega), Nat.add_sub_cancel_left]
/-- a block holds a state -/
def Sn (m : PM) (a o : Nat) (R : Rw) : Prop := ∀ k, k < 75 → gI m a (o + k) = soF R k
theorem rwF_bd {B R R' : Rw} {f : Nat → Int32} {k : Nat} (h : k < 72) : rwF B R f k = rwF B R' f k := by
  unfold rwF
  by_cases c1 : k < 4
  · simp only [if_pos c1]
  · by_cases c2 : k < 11
    · simp only [if_neg c1, if_pos c2]
    · by_cases c3 : k < 18
      · simp only [if_neg c1, if_neg c2, if_pos c3]
      · by_cases c4 : k < 24
        · simp only [if_neg c1, if_neg c2, if_neg c3, if_pos c4]
        · by_cases c5 : k < 30
          · simp only [if_neg c1, if_neg c2, if_neg c3, if_neg c4, if_pos c5]
          · simp only [if_neg c1, if_neg c2, if_neg c3, if_neg c4, if_neg c5, if_pos h]
theorem bW_pY (m : PM) (y : Nat) (B R R' : Rw) : bW (pY m y B R) (y + 2) 72 75 (soF R') = pY m y B R' := by
  refine Prod.ext ?_ rfl
  funext c j
  show (if c = y + 2 ∧ 72 ≤ j ∧ j < 72 + 75 then soF R' (j - 72) else if c = y + 2 ∧ j < 147 then rwF B R (fun _ => 0) j else m.1 c j) = (if c = y + 2 ∧ j < 147 then rwF B R' (fun _ => 0) j else m.1 c j)
  by_cases h1 : c = y + 2 ∧ j < 147
  · rw [if_pos h1, if_pos h1]
    by_cases h2 : 72 ≤ j
    · rw [if_pos ⟨h1.1, h2, by omega⟩, rwF_so h2 h1.2]
    · rw [if_neg (by omega), rwF_bd (by omega)]
  · rw [if_neg h1, if_neg h1, if_neg (by omega)]
theorem bW_pYo {m : PM} {y a o n : Nat} {B R : Rw} {f : Nat → Int32} (h : a ≠ y + 2) : bW (pY m y B R) a o n f = pY (bW m a o n f) y B R := by
  refine Prod.ext ?_ rfl
  funext c j
  show (if c = a ∧ o ≤ j ∧ j < o + n then f (j - o) else if c = y + 2 ∧ j < 147 then rwF B R (fun _ => 0) j else m.1 c j) = (if c = y + 2 ∧ j < 147 then rwF B R (fun _ => 0) j else if c = a ∧ o ≤ j ∧ j < o + n then f (j - o) else m.1 c j)
  by_cases h1 : c = a ∧ o ≤ j ∧ j < o + n
  · rw [if_pos h1, if_neg (fun q => h (h1.1.symm.trans q.1)), if_pos h1]
  · rw [if_neg h1, if_neg h1]
theorem Sn_bW (m : PM) (a o : Nat) (R : Rw) : Sn (bW m a o 75 (soF R)) a o R := fun k h => gI_bWi h
theorem sI_bWo {m : PM} {a o n c k : Nat} {f : Nat → Int32} {v : Int32} (h : c ≠ a) : sI (bW m a o n f) c k v = bW (sI m c k v) a o n f := by
  refine Prod.ext ?_ rfl
  funext e j
  show (if e = c ∧ j = k then v else if e = a ∧ o ≤ j ∧ j < o + n then f (j - o) else m.1 e j) = (if e = a ∧ o ≤ j ∧ j < o + n then f (j - o) else if e = c ∧ j = k then v else m.1 e j)
  by_cases h1 : e = c ∧ j = k
  · rw [if_pos h1, if_neg (fun q => h (h1.1.symm.trans q.1)), if_pos h1]
  · rw [if_neg h1, if_neg h1]
theorem sI_sI (m : PM) (a k : Nat) (v w : Int32) : sI (sI m a k v) a k w = sI m a k w := by
  refine Prod.ext ?_ rfl
  funext e j
  show (if e = a ∧ j = k then w else if e = a ∧ j = k then v else m.1 e j) = (if e = a ∧ j = k then w else m.1 e j)
  split <;> rfl
theorem sI_co (m : PM) {a k b j : Nat} (v w : Int32) (h : ¬ (a = b ∧ k = j)) : sI (sI m a k v) b j w = sI (sI m b j w) a k v := by
  refine Prod.ext ?_ rfl
  funext e i
  show (if e = b ∧ i = j then w else if e = a ∧ i = k then v else m.1 e i) = (if e = a ∧ i = k then v else if e = b ∧ i = j then w else m.1 e i)
  by_cases h1 : e = b ∧ i = j
  · rw [if_pos h1, if_neg (by omega), if_pos h1]
  · rw [if_neg h1, if_neg h1]
theorem sI_self (m : PM) (a k : Nat) : sI m a k (gI m a k) = m := by
  obtain ⟨i, q⟩ := m
  refine Prod.ext ?_ rfl
  funext e j
  show (if e = a ∧ j = k then i a k else i e j) = i e j
  split
  · rename_i h; rw [h.1, h.2]
  · rfl
/-- what is so written among what was ahead -/
def snpM (m : PM) (y u : Nat) (R : Rw) : PM := if u = 8 then bW (bW (sI m y 23 (nI 8)) (y + 5) 0 525 (fun k => gI m (y + 5) (k + 75))) (y + 5) 525 75 (soF R) else bW (sI m y 23 (nI (u + 1))) (y + 5) (75 * u) 75 (soF R)
theorem gK_snpM (m : PM) (y u b : Nat) (R : Rw) : gK (snpM m y u R) b = gK m b := by unfold snpM; split <;> rfl
theorem gN_snpM (m : PM) (y u b : Nat) (R : Rw) : gN (snpM m y u R) b = gN m b := by unfold snpM; split <;> rfl
theorem gR_snpM (m : PM) (y u b j : Nat) (R : Rw) : gR (snpM m y u R) b j = gR m b j := by unfold snpM; split <;> rfl
theorem gJ_snpM (m : PM) (y u b j : Nat) (R : Rw) : gJ (snpM m y u R) b j = gJ m b j := by unfold snpM; split <;> rfl
theorem gX_snpM (m : PM) (y u : Nat) (R : Rw) : gX (snpM m y u R) = gX m := by unfold snpM; split <;> rfl
theorem gS_snpM (m : PM) (y u : Nat) (R : Rw) : gS (snpM m y u R) = gS m := by unfold snpM; split <;> rfl
theorem gI_snpMo {m : PM} {y u b j : Nat} {R : Rw} (h : b ≠ y + 5) (h2 : ¬ (b = y ∧ j = 23)) : gI (snpM m y u R) b j = gI m b j := by
  unfold snpM
  split
  · rw [gI_bWo h, gI_bWo h, gI_sI, if_neg h2]
  · rw [gI_bWo h, gI_sI, if_neg h2]
theorem Mo_snpM {m : PM} {y u : Nat} {R : Rw} : Mo (snpM m y u R) y = Mo m y := by unfold snpM; split <;> rfl
