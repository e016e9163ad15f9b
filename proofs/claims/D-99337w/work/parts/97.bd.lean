/-! A BOARD THAT IS READ: laid over a memory, in the class and in the model -/
def bdM (m : PM) (b : Nat) (B : Rw) (P D : Nat → Int64) : PM := (fun c k => if b ≤ c ∧ inb (c - b) k = true then B (c - b) k else m.1 c k, fun c k => if c = b + 1 then P k else if c = b + 2 then D k else m.2.1 c k, m.2.2)
def qdM (m : PM) (y : Nat) (B : Rw) (N : Nat → Int64) : PM := (fun c k => if c = y + 3 ∧ k < 72 then rwF B (fun _ _ => 0) (fun _ => 0) k else m.1 c k, fun c k => if c = y + 8 then N k else m.2.1 c k, m.2.2)
section BD
variable {m : PM} {b y q : Nat} {B : Rw} {P D N : Nat → Int64}
theorem gK_bdM (c : Nat) : gK (bdM m b B P D) c = gK m c := rfl
theorem gN_bdM (c : Nat) : gN (bdM m b B P D) c = gN m c := rfl
theorem gR_bdM (c j : Nat) : gR (bdM m b B P D) c j = gR m c j := rfl
theorem gX_bdM : gX (bdM m b B P D) = gX m := rfl
theorem gS_bdM : gS (bdM m b B P D) = gS m := rfl
theorem gI_bds {s k : Nat} (h : inb s k = true) : gI (bdM m b B P D) (b + s) k = B s k := gI_pBs (m := m) h
theorem gI_bd0 {k : Nat} (h : 7 ≤ k ∧ k < 11) : gI (bdM m b B P D) b k = B 0 k := gI_bds (s := 0) (decide_eq_true (by omega))
theorem gI_bd3 {k : Nat} (h : k < 7) : gI (bdM m b B P D) (b + 3) k = B 3 k := gI_bds (decide_eq_true (by omega))
theorem gI_bd4 {k : Nat} (h : k < 7) : gI (bdM m b B P D) (b + 4) k = B 4 k := gI_bds (decide_eq_true (by omega))
theorem gI_bd5 {k : Nat} (h : k < 6) : gI (bdM m b B P D) (b + 5) k = B 5 k := gI_bds (decide_eq_true (by omega))
theorem gI_bd6 {k : Nat} (h : k < 6) : gI (bdM m b B P D) (b + 6) k = B 6 k := gI_bds (decide_eq_true (by omega))
theorem gI_bd7 {k : Nat} (h : k < 42) : gI (bdM m b B P D) (b + 7) k = B 7 k := gI_bds (decide_eq_true (by omega))
theorem gI_bdo {c k : Nat} (h : c < b ∨ b + 7 < c) : gI (bdM m b B P D) c k = gI m c k := gI_pBo (m := m) h
theorem gJ_bd1 {k : Nat} : gJ (bdM m b B P D) (b + 1) k = P k := if_pos rfl
theorem gJ_bd2 {k : Nat} : gJ (bdM m b B P D) (b + 2) k = D k := by
  show (if b + 2 = b + 1 then _ else if b + 2 = b + 2 then _ else _) = _
  rw [if_neg (by omega), if_pos rfl]
theorem gJ_bdo {c k : Nat} (h : c < b ∨ b + 7 < c) : gJ (bdM m b B P D) c k = gJ m c k := by
  show (if c = b + 1 then _ else if c = b + 2 then _ else m.2.1 c k) = _
  rw [if_neg (by omega), if_neg (by omega)]; rfl
theorem sI_bds {s k : Nat} {v : Int32} (h : inb s k = true) : sI (bdM m b B P D) (b + s) k v = bdM m b (up B s k v) P D := by
  refine Prod.ext ?_ rfl
  funext c j
  show (if c = b + s ∧ j = k then v else if b ≤ c ∧ inb (c - b) j = true then B (c - b) j else m.1 c j) = (if b ≤ c ∧ inb (c - b) j = true then (if c - b = s ∧ j = k then v else B (c - b) j) else m.1 c j)
  by_cases h1 : c = b + s ∧ j = k
  · have e : c - b = s := by omega
    rw [if_pos h1, if_pos ⟨by omega, by rw [e, h1.2]; exact h⟩, if_pos ⟨e, h1.2⟩]
  · rw [if_neg h1]
    by_cases h2 : b ≤ c ∧ inb (c - b) j = true
    · rw [if_pos h2, if_pos h2, if_neg (by omega)]
    · rw [if_neg h2, if_neg h2]
theorem sI_bd0 {k : Nat} {v : Int32} (h : 7 ≤ k ∧ k < 11) : sI (bdM m b B P D) b k v = bdM m b (up B 0 k v) P D := sI_bds (s := 0) (decide_eq_true (by omega))
theorem sI_bd3 {k : Nat} {v : Int32} (h : k < 7) : sI (bdM m b B P D) (b + 3) k v = bdM m b (up B 3 k v) P D := sI_bds (decide_eq_true (by omega))
theorem sI_bd4 {k : Nat} {v : Int32} (h : k < 7) : sI (bdM m b B P D) (b + 4) k v = bdM m b (up B 4 k v) P D := sI_bds (decide_eq_true (by omega))
theorem sI_bd5 {k : Nat} {v : Int32} (h : k < 6) : sI (bdM m b B P D) (b + 5) k v = bdM m b (up B 5 k v) P D := sI_bds (decide_eq_true (by omega))
theorem sI_bd6 {k : Nat} {v : Int32} (h : k < 6) : sI (bdM m b B P D) (b + 6) k v = bdM m b (up B 6 k v) P D := sI_bds (decide_eq_true (by omega))
theorem sI_bd7 {k : Nat} {v : Int32} (h : k < 42) : sI (bdM m b B P D) (b + 7) k v = bdM m b (up B 7 k v) P D := sI_bds (decide_eq_true (by omega))
theorem sI_bdo {c k : Nat} {v : Int32} (h : c < b ∨ b + 7 < c) : sI (bdM m b B P D) c k v = bdM (sI m c k v) b B P D := by
  refine Prod.ext ?_ rfl
  funext a j
  show (if a = c ∧ j = k then v else if b ≤ a ∧ inb (a - b) j = true then B (a - b) j else m.1 a j) = (if b ≤ a ∧ inb (a - b) j = true then B (a - b) j else if a = c ∧ j = k then v else m.1 a j)
  by_cases h2 : b ≤ a ∧ inb (a - b) j = true
  · have := inb_lt h2.2
    rw [if_pos h2, if_pos h2, if_neg (by omega)]
  · rw [if_neg h2, if_neg h2]
theorem sJ_bd1 {k : Nat} {v : Int64} : sJ (bdM m b B P D) (b + 1) k v = bdM m b B (u1 P k v) D := by
  refine Prod.ext rfl (Prod.ext ?_ rfl)
  funext c j
  show (if c = b + 1 ∧ j = k then v else if c = b + 1 then P j else if c = b + 2 then D j else m.2.1 c j) = (if c = b + 1 then (if j = k then v else P j) else if c = b + 2 then D j else m.2.1 c j)
  by_cases h : c = b + 1
  · by_cases h2 : j = k
    · rw [if_pos ⟨h, h2⟩, if_pos h, if_pos h2]
    · rw [if_neg (fun z => h2 z.2), if_pos h, if_pos h, if_neg h2]
  · rw [if_neg (fun z => h z.1), if_neg h, if_neg h]
theorem sJ_bd2 {k : Nat} {v : Int64} : sJ (bdM m b B P D) (b + 2) k v = bdM m b B P (u1 D k v) := by
  refine Prod.ext rfl (Prod.ext ?_ rfl)
  funext c j
  show (if c = b + 2 ∧ j = k then v else if c = b + 1 then P j else if c = b + 2 then D j else m.2.1 c j) = (if c = b + 1 then P j else if c = b + 2 then (if j = k then v else D j) else m.2.1 c j)
  by_cases h : c = b + 2
  · rw [if_neg (show ¬ c = b + 1 by omega), if_neg (show ¬ c = b + 1 by omega), if_pos h, if_pos h]
    by_cases h2 : j = k
    · rw [if_pos ⟨h, h2⟩, if_pos h2]
    · rw [if_neg (fun z => h2 z.2), if_neg h2]
  · rw [if_neg (fun z => h z.1), if_neg h, if_neg h]
/-! the model's -/
theorem gK_qdM (c : Nat) : gK (qdM m y B N) c = gK m c := rfl
theorem gN_qdM (c : Nat) : gN (qdM m y B N) c = gN m c := rfl
theorem gR_qdM (c j : Nat) : gR (qdM m y B N) c j = gR m c j := rfl
theorem gX_qdM : gX (qdM m y B N) = gX m := rfl
theorem gS_qdM : gS (qdM m y B N) = gS m := rfl
theorem rwF_upB {R : Rw} {f : Nat → Int32} {s j k i : Nat} {v : Int32} (h : yB s j k = true) (hi : i < 72) : rwF (up B s j v) R f i = if i = k then v else rwF B R f i := by
  have h := of_decide_eq_true h
  unfold rwF
  simp only [up_e]
  by_cases e : i = k
  · rw [if_pos e]
    by_cases c1 : i < 4
    · rw [if_pos c1, if_pos (by omega)]
    · rw [if_neg c1]
      by_cases c2 : i < 11
      · rw [if_pos c2, if_pos (by omega)]
      · rw [if_neg c2]
        by_cases c3 : i < 18
        · rw [if_pos c3, if_pos (by omega)]
        · rw [if_neg c3]
          by_cases c4 : i < 24
          · rw [if_pos c4, if_pos (by omega)]
          · rw [if_neg c4]
            by_cases c5 : i < 30
            · rw [if_pos c5, if_pos (by omega)]
            · rw [if_neg c5, if_pos hi, if_pos (by omega)]
  · rw [if_neg e]
    by_cases c1 : i < 4
    · rw [if_pos c1, if_pos c1, if_neg (by omega)]
    · rw [if_neg c1, if_neg c1]
      by_cases c2 : i < 11
      · rw [if_pos c2, if_pos c2, if_neg (by omega)]
      · rw [if_neg c2, if_neg c2]
        by_cases c3 : i < 18
        · rw [if_pos c3, if_pos c3, if_neg (by omega)]
        · rw [if_neg c3, if_neg c3]
          by_cases c4 : i < 24
          · rw [if_pos c4, if_pos c4, if_neg (by omega)]
          · rw [if_neg c4, if_neg c4]
            by_cases c5 : i < 30
            · rw [if_pos c5, if_pos c5, if_neg (by omega)]
            · rw [if_neg c5, if_neg c5, if_pos hi, if_pos hi, if_neg (by omega)]
theorem gQ {s j k : Nat} (h : yB s j k = true) : gI (qdM m y B N) (y + 3) k = B s j := by
  have hk : k < 72 := by have := of_decide_eq_true h; omega
  show (if y + 3 = y + 3 ∧ k < 72 then _ else _) = _
  rw [if_pos ⟨rfl, hk⟩, rwF_b h]
theorem sQ {s j k : Nat} {v : Int32} (h : yB s j k = true) : sI (qdM m y B N) (y + 3) k v = qdM m y (up B s j v) N := by
  refine Prod.ext ?_ rfl
  funext c i
  show (if c = y + 3 ∧ i = k then v else if c = y + 3 ∧ i < 72 then rwF B (fun _ _ => 0) (fun _ => 0) i else m.1 c i) = (if c = y + 3 ∧ i < 72 then rwF (up B s j v) (fun _ _ => 0) (fun _ => 0) i else m.1 c i)
  have hk : k < 72 := by have := of_decide_eq_true h; omega
  by_cases h1 : c = y + 3 ∧ i < 72
  · rw [if_pos h1, if_pos h1, rwF_upB h h1.2]
    by_cases h2 : i = k
    · rw [if_pos ⟨h1.1, h2⟩, if_pos h2]
    · rw [if_neg (fun q => h2 q.2), if_neg h2]
  · rw [if_neg h1, if_neg h1, if_neg (fun q => h1 ⟨q.1, by omega⟩)]
theorem gQ_0 : gI (qdM m y B N) (y + 3) 0 = B 0 7 := gQ (decide_eq_true (by omega))
theorem gQ_1 : gI (qdM m y B N) (y + 3) 1 = B 0 8 := gQ (decide_eq_true (by omega))
theorem gQ_2 : gI (qdM m y B N) (y + 3) 2 = B 0 9 := gQ (decide_eq_true (by omega))
theorem gQ_3 : gI (qdM m y B N) (y + 3) 3 = B 0 10 := gQ (decide_eq_true (by omega))
theorem gQ_p {k : Nat} (h : k < 42) : gI (qdM m y B N) (y + 3) (30 + k) = B 7 k := gQ (decide_eq_true (by omega))
theorem sQ_0 {v : Int32} : sI (qdM m y B N) (y + 3) 0 v = qdM m y (up B 0 7 v) N := sQ (decide_eq_true (by omega))
theorem sQ_1 {v : Int32} : sI (qdM m y B N) (y + 3) 1 v = qdM m y (up B 0 8 v) N := sQ (decide_eq_true (by omega))
theorem sQ_2 {v : Int32} : sI (qdM m y B N) (y + 3) 2 v = qdM m y (up B 0 9 v) N := sQ (decide_eq_true (by omega))
theorem sQ_3 {v : Int32} : sI (qdM m y B N) (y + 3) 3 v = qdM m y (up B 0 10 v) N := sQ (decide_eq_true (by omega))
theorem sQ_w {p : Nat} {v : Int32} (h : p < 7) : sI (qdM m y B N) (y + 3) (4 + p) v = qdM m y (up B 3 p v) N := sQ (decide_eq_true (by omega))
theorem sQ_q {p : Nat} {v : Int32} (h : p < 7) : sI (qdM m y B N) (y + 3) (11 + p) v = qdM m y (up B 4 p v) N := sQ (decide_eq_true (by omega))
theorem sQ_t {p : Nat} {v : Int32} (h : p < 6) : sI (qdM m y B N) (y + 3) (18 + p) v = qdM m y (up B 5 p v) N := sQ (decide_eq_true (by omega))
theorem sQ_s {p : Nat} {v : Int32} (h : p < 6) : sI (qdM m y B N) (y + 3) (24 + p) v = qdM m y (up B 6 p v) N := sQ (decide_eq_true (by omega))
theorem sQ_p {p : Nat} {v : Int32} (h : p < 42) : sI (qdM m y B N) (y + 3) (30 + p) v = qdM m y (up B 7 p v) N := sQ (decide_eq_true (by omega))
theorem gQo {c k : Nat} (h : c ≠ y + 3) : gI (qdM m y B N) c k = gI m c k := if_neg (fun z => h z.1)
theorem sQo {c k : Nat} {v : Int32} (h : c ≠ y + 3) : sI (qdM m y B N) c k v = qdM (sI m c k v) y B N := by
  refine Prod.ext ?_ rfl
  funext a j
  show (if a = c ∧ j = k then v else if a = y + 3 ∧ j < 72 then rwF B (fun _ _ => 0) (fun _ => 0) j else m.1 a j) = (if a = y + 3 ∧ j < 72 then rwF B (fun _ _ => 0) (fun _ => 0) j else if a = c ∧ j = k then v else m.1 a j)
  by_cases h2 : a = y + 3 ∧ j < 72
  · rw [if_pos h2, if_pos h2, if_neg (fun z => h (z.1.symm.trans h2.1))]
  · rw [if_neg h2, if_neg h2]
theorem gQJ {k : Nat} : gJ (qdM m y B N) (y + 8) k = N k := if_pos rfl
theorem gQJo {c k : Nat} (h : c ≠ y + 8) : gJ (qdM m y B N) c k = gJ m c k := if_neg h
theorem sQJ {k : Nat} {v : Int64} : sJ (qdM m y B N) (y + 8) k v = qdM m y B (u1 N k v) := by
  refine Prod.ext rfl (Prod.ext ?_ rfl)
  funext c j
  show (if c = y + 8 ∧ j = k then v else if c = y + 8 then N j else m.2.1 c j) = (if c = y + 8 then (if j = k then v else N j) else m.2.1 c j)
  by_cases h : c = y + 8
  · by_cases h2 : j = k
    · rw [if_pos ⟨h, h2⟩, if_pos h, if_pos h2]
    · rw [if_neg (fun z => h2 z.2), if_pos h, if_pos h, if_neg h2]
  · rw [if_neg (fun z => h z.1), if_neg h, if_neg h]
end BD
/-! a reader over what is written beneath it -/
section RO
variable {m : PM} {q : Nat} {p a t v n u : Int32} {w w' : Int64}
theorem rd_so {c j : Nat} (h : c ≠ q) : sI (rdM m q p a t v n w) c j u = rdM (sI m c j u) q p a t v n w := by
  refine Prod.ext ?_ rfl
  funext b i
  show (if b = c ∧ i = j then u else if b = q ∧ i = 1 then p else if b = q ∧ i = 2 then a else if b = q ∧ i = 3 then t else if b = q ∧ i = 4 then v else if b = q ∧ i = 5 then n else m.1 b i) = (if b = q ∧ i = 1 then p else if b = q ∧ i = 2 then a else if b = q ∧ i = 3 then t else if b = q ∧ i = 4 then v else if b = q ∧ i = 5 then n else if b = c ∧ i = j then u else m.1 b i)
  by_cases h1 : b = c ∧ i = j
  · have h2 : ¬ b = q := fun z => h (h1.1.symm.trans z)
    simp only [if_pos h1, if_neg (fun z : b = q ∧ i = 1 => h2 z.1), if_neg (fun z : b = q ∧ i = 2 => h2 z.1), if_neg (fun z : b = q ∧ i = 3 => h2 z.1), if_neg (fun z : b = q ∧ i = 4 => h2 z.1), if_neg (fun z : b = q ∧ i = 5 => h2 z.1)]
  · simp only [if_neg h1]
theorem rd_s9 {j : Nat} (h : 6 ≤ j) : sI (rdM m q p a t v n w) q j u = rdM (sI m q j u) q p a t v n w := by
  refine Prod.ext ?_ rfl
  funext b i
  show (if b = q ∧ i = j then u else if b = q ∧ i = 1 then p else if b = q ∧ i = 2 then a else if b = q ∧ i = 3 then t else if b = q ∧ i = 4 then v else if b = q ∧ i = 5 then n else m.1 b i) = (if b = q ∧ i = 1 then p else if b = q ∧ i = 2 then a else if b = q ∧ i = 3 then t else if b = q ∧ i = 4 then v else if b = q ∧ i = 5 then n else if b = q ∧ i = j then u else m.1 b i)
  by_cases h1 : b = q ∧ i = j
  · rw [if_pos h1, if_neg (by omega), if_neg (by omega), if_neg (by omega), if_neg (by omega), if_neg (by omega), if_pos h1]
  · simp only [if_neg h1]
theorem rd_Jso {c j : Nat} (h : c ≠ q) : sJ (rdM m q p a t v n w) c j w' = rdM (sJ m c j w') q p a t v n w := by
  refine Prod.ext rfl (Prod.ext ?_ rfl)
  funext b i
  show (if b = c ∧ i = j then w' else if b = q ∧ i = 6 then w else m.2.1 b i) = (if b = q ∧ i = 6 then w else if b = c ∧ i = j then w' else m.2.1 b i)
  by_cases h1 : b = c ∧ i = j
  · rw [if_pos h1, if_neg (fun z => h (h1.1.symm.trans z.1)), if_pos h1]
  · rw [if_neg h1, if_neg h1]
theorem rd_self (m : PM) (q : Nat) : rdM m q (gI m q 1) (gI m q 2) (gI m q 3) (gI m q 4) (gI m q 5) (gJ m q 6) = m := by
  obtain ⟨A, J, k⟩ := m
  refine Prod.ext ?_ (Prod.ext ?_ rfl)
  · funext c j
    show (if c = q ∧ j = 1 then A q 1 else if c = q ∧ j = 2 then A q 2 else if c = q ∧ j = 3 then A q 3 else if c = q ∧ j = 4 then A q 4 else if c = q ∧ j = 5 then A q 5 else A c j) = A c j
    split
    · rename_i h; rw [h.1, h.2]
    · split
      · rename_i h; rw [h.1, h.2]
      · split
        · rename_i h; rw [h.1, h.2]
        · split
          · rename_i h; rw [h.1, h.2]
          · split
            · rename_i h; rw [h.1, h.2]
            · rfl
  · funext c j
    show (if c = q ∧ j = 6 then J q 6 else J c j) = J c j
    split
    · rename_i h; rw [h.1, h.2]
    · rfl
end RO
/-- the model's two flags -/
def flM (mm : PM) (y : Nat) (hL hD : Bool) : PM := sI (sI mm y 24 (bi hL)) y 25 (bi hD)
theorem gK_flM {mm : PM} {y : Nat} {hL hD : Bool} (c : Nat) : gK (flM mm y hL hD) c = gK mm c := rfl
theorem gN_flM {mm : PM} {y : Nat} {hL hD : Bool} (c : Nat) : gN (flM mm y hL hD) c = gN mm c := rfl
theorem gR_flM {mm : PM} {y : Nat} {hL hD : Bool} (c j : Nat) : gR (flM mm y hL hD) c j = gR mm c j := rfl
