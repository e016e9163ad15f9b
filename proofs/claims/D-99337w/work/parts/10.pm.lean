/-! THE PURE MACHINE: memory by typed functions of (cell number, place) -/
abbrev PM : Type := (Nat → Nat → Int32) × (Nat → Nat → Int64) × (Nat → Nat → Option Nat) × (Nat → Nat) × (Nat → Nat) × Nat × Nat
def gI (m : PM) (a k : Nat) : Int32 := m.1 a k
def gJ (m : PM) (a k : Nat) : Int64 := m.2.1 a k
def gR (m : PM) (a k : Nat) : Option Nat := m.2.2.1 a k
def gK (m : PM) (a : Nat) : Nat := m.2.2.2.1 a
def gN (m : PM) (a : Nat) : Nat := m.2.2.2.2.1 a
def gX (m : PM) : Nat := m.2.2.2.2.2.1
def gS (m : PM) : Nat := m.2.2.2.2.2.2
def sI (m : PM) (a k : Nat) (v : Int32) : PM := (fun b j => if b = a ∧ j = k then v else m.1 b j, m.2)
def sJ (m : PM) (a k : Nat) (v : Int64) : PM := (m.1, fun b j => if b = a ∧ j = k then v else m.2.1 b j, m.2.2)
def sR (m : PM) (a k : Nat) (v : Option Nat) : PM := (m.1, m.2.1, fun b j => if b = a ∧ j = k then v else m.2.2.1 b j, m.2.2.2)
/-- n places from sp of cell a to dp of cell b -/
def cI (m : PM) (a sp b dp n : Nat) : PM := (fun c j => if c = b ∧ dp ≤ j ∧ j < dp + n then m.1 a (sp + (j - dp)) else m.1 c j, m.2)
def cR (m : PM) (a sp b dp n : Nat) : PM := (m.1, m.2.1, fun c j => if c = b ∧ dp ≤ j ∧ j < dp + n then m.2.2.1 a (sp + (j - dp)) else m.2.2.1 c j, m.2.2.2)
/-- a new cell: kind, length, slots -/
def nw (m : PM) (K N sl : Nat) : PM := (fun b j => if b = m.2.2.2.2.2.1 then 0 else m.1 b j, fun b j => if b = m.2.2.2.2.2.1 then 0 else m.2.1 b j, fun b j => if b = m.2.2.2.2.2.1 then none else m.2.2.1 b j, fun b => if b = m.2.2.2.2.2.1 then K else m.2.2.2.1 b, fun b => if b = m.2.2.2.2.2.1 then N else m.2.2.2.2.1 b, m.2.2.2.2.2.1 + 1, m.2.2.2.2.2.2 + sl)
theorem gI_sI (m : PM) (a k b j : Nat) (v : Int32) : gI (sI m a k v) b j = if b = a ∧ j = k then v else gI m b j := rfl
theorem gI_sJ (m : PM) (a k b j : Nat) (v : Int64) : gI (sJ m a k v) b j = gI m b j := rfl
theorem gI_sR (m : PM) (a k b j : Nat) (v : Option Nat) : gI (sR m a k v) b j = gI m b j := rfl
theorem gI_cI (m : PM) (a sp c dp n b j : Nat) : gI (cI m a sp c dp n) b j = if b = c ∧ dp ≤ j ∧ j < dp + n then gI m a (sp + (j - dp)) else gI m b j := rfl
theorem gI_cR (m : PM) (a sp c dp n b j : Nat) : gI (cR m a sp c dp n) b j = gI m b j := rfl
theorem gI_nw (m : PM) (K N sl b j : Nat) : gI (nw m K N sl) b j = if b = gX m then 0 else gI m b j := rfl
theorem gJ_sI (m : PM) (a k b j : Nat) (v : Int32) : gJ (sI m a k v) b j = gJ m b j := rfl
theorem gJ_sJ (m : PM) (a k b j : Nat) (v : Int64) : gJ (sJ m a k v) b j = if b = a ∧ j = k then v else gJ m b j := rfl
theorem gJ_sR (m : PM) (a k b j : Nat) (v : Option Nat) : gJ (sR m a k v) b j = gJ m b j := rfl
theorem gJ_cI (m : PM) (a sp c dp n b j : Nat) : gJ (cI m a sp c dp n) b j = gJ m b j := rfl
theorem gJ_cR (m : PM) (a sp c dp n b j : Nat) : gJ (cR m a sp c dp n) b j = gJ m b j := rfl
theorem gJ_nw (m : PM) (K N sl b j : Nat) : gJ (nw m K N sl) b j = if b = gX m then 0 else gJ m b j := rfl
theorem gR_sI (m : PM) (a k b j : Nat) (v : Int32) : gR (sI m a k v) b j = gR m b j := rfl
theorem gR_sJ (m : PM) (a k b j : Nat) (v : Int64) : gR (sJ m a k v) b j = gR m b j := rfl
theorem gR_sR (m : PM) (a k b j : Nat) (v : Option Nat) : gR (sR m a k v) b j = if b = a ∧ j = k then v else gR m b j := rfl
theorem gR_cI (m : PM) (a sp c dp n b j : Nat) : gR (cI m a sp c dp n) b j = gR m b j := rfl
theorem gR_cR (m : PM) (a sp c dp n b j : Nat) : gR (cR m a sp c dp n) b j = if b = c ∧ dp ≤ j ∧ j < dp + n then gR m a (sp + (j - dp)) else gR m b j := rfl
theorem gR_nw (m : PM) (K N sl b j : Nat) : gR (nw m K N sl) b j = if b = gX m then none else gR m b j := rfl
theorem gK_sI (m : PM) (a k b : Nat) (v : Int32) : gK (sI m a k v) b = gK m b := rfl
theorem gK_sJ (m : PM) (a k b : Nat) (v : Int64) : gK (sJ m a k v) b = gK m b := rfl
theorem gK_sR (m : PM) (a k b : Nat) (v : Option Nat) : gK (sR m a k v) b = gK m b := rfl
theorem gK_cI (m : PM) (a sp c dp n b : Nat) : gK (cI m a sp c dp n) b = gK m b := rfl
theorem gK_cR (m : PM) (a sp c dp n b : Nat) : gK (cR m a sp c dp n) b = gK m b := rfl
theorem gK_nw (m : PM) (K N sl b : Nat) : gK (nw m K N sl) b = if b = gX m then K else gK m b := rfl
theorem gN_sI (m : PM) (a k b : Nat) (v : Int32) : gN (sI m a k v) b = gN m b := rfl
theorem gN_sJ (m : PM) (a k b : Nat) (v : Int64) : gN (sJ m a k v) b = gN m b := rfl
theorem gN_sR (m : PM) (a k b : Nat) (v : Option Nat) : gN (sR m a k v) b = gN m b := rfl
theorem gN_cI (m : PM) (a sp c dp n b : Nat) : gN (cI m a sp c dp n) b = gN m b := rfl
theorem gN_cR (m : PM) (a sp c dp n b : Nat) : gN (cR m a sp c dp n) b = gN m b := rfl
theorem gN_nw (m : PM) (K N sl b : Nat) : gN (nw m K N sl) b = if b = gX m then N else gN m b := rfl
theorem gX_sI (m : PM) (a k : Nat) (v : Int32) : gX (sI m a k v) = gX m := rfl
theorem gX_sJ (m : PM) (a k : Nat) (v : Int64) : gX (sJ m a k v) = gX m := rfl
theorem gX_sR (m : PM) (a k : Nat) (v : Option Nat) : gX (sR m a k v) = gX m := rfl
theorem gX_cI (m : PM) (a sp c dp n : Nat) : gX (cI m a sp c dp n) = gX m := rfl
theorem gX_cR (m : PM) (a sp c dp n : Nat) : gX (cR m a sp c dp n) = gX m := rfl
theorem gX_nw (m : PM) (K N sl : Nat) : gX (nw m K N sl) = gX m + 1 := rfl
theorem gS_sI (m : PM) (a k : Nat) (v : Int32) : gS (sI m a k v) = gS m := rfl
theorem gS_sJ (m : PM) (a k : Nat) (v : Int64) : gS (sJ m a k v) = gS m := rfl
theorem gS_sR (m : PM) (a k : Nat) (v : Option Nat) : gS (sR m a k v) = gS m := rfl
theorem gS_cI (m : PM) (a sp c dp n : Nat) : gS (cI m a sp c dp n) = gS m := rfl
theorem gS_cR (m : PM) (a sp c dp n : Nat) : gS (cR m a sp c dp n) = gS m := rfl
theorem gS_nw (m : PM) (K N sl : Nat) : gS (nw m K N sl) = gS m + sl := rfl
