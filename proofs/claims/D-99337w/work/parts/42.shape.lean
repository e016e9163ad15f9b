/-! SHAPES: kinds, lengths, references of the objects whose cells lie together -/
set_option maxRecDepth 100000
def Mo (m : PM) (y : Nat) : Prop := gK m y = 8 ∧ gK m (y + 1) = 100 ∧ gN m (y + 1) = 940 ∧ gK m (y + 2) = 100 ∧ gN m (y + 2) = 389 ∧ gK m (y + 3) = 100 ∧ gN m (y + 3) = 72 ∧ gK m (y + 4) = 100 ∧ gN m (y + 4) = 778 ∧ gK m (y + 5) = 100 ∧ gN m (y + 5) = 600 ∧ gK m (y + 6) = 100 ∧ gN m (y + 6) = 75 ∧ gK m (y + 7) = 103 ∧ gN m (y + 7) = 13 ∧ gK m (y + 8) = 103 ∧ gN m (y + 8) = 13 ∧ gK m (y + 9) = 103 ∧ gN m (y + 9) = 26 ∧ gK m (y + 10) = 102 ∧ gN m (y + 10) = 2 ∧ gK m (y + 11) = 100 ∧ gN m (y + 11) = 7 ∧ gK m (y + 12) = 100 ∧ gN m (y + 12) = 7 ∧ gK m (y + 13) = 100 ∧ gN m (y + 13) = 525 ∧ gK m (y + 14) = 100 ∧ gN m (y + 14) = 7 ∧ gK m (y + 15) = 102 ∧ gN m (y + 15) = 500 ∧ gK m (y + 16) = 100 ∧ gN m (y + 16) = 7 ∧ gK m (y + 17) = 100 ∧ gN m (y + 17) = 7 ∧ gK m (y + 18) = 100 ∧ gN m (y + 18) = 64 ∧ gK m (y + 19) = 100 ∧ gN m (y + 19) = 160 ∧ gK m (y + 20) = 100 ∧ gN m (y + 20) = 4 ∧ gK m (y + 21) = 100 ∧ gN m (y + 21) = 240 ∧ gR m y 1 = some (y + 1) ∧ gR m y 14 = some (y + 2) ∧ gR m y 15 = some (y + 3) ∧ gR m y 16 = some (y + 4) ∧ gR m y 17 = some (y + 5) ∧ gR m y 18 = some (y + 6) ∧ gR m y 19 = some (y + 7) ∧ gR m y 20 = some (y + 8) ∧ gR m y 21 = some (y + 9) ∧ gR m y 22 = some (y + 10) ∧ gR m y 26 = some (y + 11) ∧ gR m y 27 = some (y + 12) ∧ gR m y 28 = some (y + 13) ∧ gR m y 31 = some (y + 14) ∧ gR m y 34 = some (y + 15) ∧ gR m y 35 = some (y + 16) ∧ gR m y 36 = some (y + 17) ∧ gR m y 39 = some (y + 18) ∧ gR m y 42 = some (y + 19) ∧ gR m y 43 = some (y + 20) ∧ gR m y 46 = some (y + 21)
theorem Mo_K0 {m : PM} {y : Nat} (h : Mo m y) : gK m y = 8 := h.1
theorem Mo_K1 {m : PM} {y : Nat} (h : Mo m y) : gK m (y + 1) = 100 := h.2.1
theorem Mo_N1 {m : PM} {y : Nat} (h : Mo m y) : gN m (y + 1) = 940 := h.2.2.1
theorem Mo_K2 {m : PM} {y : Nat} (h : Mo m y) : gK m (y + 2) = 100 := h.2.2.2.1
theorem Mo_N2 {m : PM} {y : Nat} (h : Mo m y) : gN m (y + 2) = 389 := h.2.2.2.2.1
theorem Mo_K3 {m : PM} {y : Nat} (h : Mo m y) : gK m (y + 3) = 100 := h.2.2.2.2.2.1
theorem Mo_N3 {m : PM} {y : Nat} (h : Mo m y) : gN m (y + 3) = 72 := h.2.2.2.2.2.2.1
theorem Mo_K4 {m : PM} {y : Nat} (h : Mo m y) : gK m (y + 4) = 100 := h.2.2.2.2.2.2.2.1
theorem Mo_N4 {m : PM} {y : Nat} (h : Mo m y) : gN m (y + 4) = 778 := h.2.2.2.2.2.2.2.2.1
theorem Mo_K5 {m : PM} {y : Nat} (h : Mo m y) : gK m (y + 5) = 100 := h.2.2.2.2.2.2.2.2.2.1
theorem Mo_N5 {m : PM} {y : Nat} (h : Mo m y) : gN m (y + 5) = 600 := h.2.2.2.2.2.2.2.2.2.2.1
theorem Mo_K6 {m : PM} {y : Nat} (h : Mo m y) : gK m (y + 6) = 100 := h.2.2.2.2.2.2.2.2.2.2.2.1
theorem Mo_N6 {m : PM} {y : Nat} (h : Mo m y) : gN m (y + 6) = 75 := h.2.2.2.2.2.2.2.2.2.2.2.2.1
theorem Mo_K7 {m : PM} {y : Nat} (h : Mo m y) : gK m (y + 7) = 103 := h.2.2.2.2.2.2.2.2.2.2.2.2.2.1
theorem Mo_N7 {m : PM} {y : Nat} (h : Mo m y) : gN m (y + 7) = 13 := h.2.2.2.2.2.2.2.2.2.2.2.2.2.2.1
theorem Mo_K8 {m : PM} {y : Nat} (h : Mo m y) : gK m (y + 8) = 103 := h.2.2.2.2.2.2.2.2.2.2.2.2.2.2.2.1
theorem Mo_N8 {m : PM} {y : Nat} (h : Mo m y) : gN m (y + 8) = 13 := h.2.2.2.2.2.2.2.2.2.2.2.2.2.2.2.2.1
theorem Mo_K9 {m : PM} {y : Nat} (h : Mo m y) : gK m (y + 9) = 103 := h.2.2.2.2.2.2.2.2.2.2.2.2.2.2.2.2.2.1
theorem Mo_N9 {m : PM} {y : Nat} (h : Mo m y) : gN m (y + 9) = 26 := h.2.2.2.2.2.2.2.2.2.2.2.2.2.2.2.2.2.2.1
theorem Mo_K10 {m : PM} {y : Nat} (h : Mo m y) : gK m (y + 10) = 102 := h.2.2.2.2.2.2.2.2.2.2.2.2.2.2.2.2.2.2.2.1
theorem Mo_N10 {m : PM} {y : Nat} (h : Mo m y) : gN m (y + 10) = 2 := h.2.2.2.2.2.2.2.2.2.2.2.2.2.2.2.2.2.2.2.2.1
theorem Mo_K11 {m : PM} {y : Nat} (h : Mo m y) : gK m (y + 11) = 100 := h.2.2.2.2.2.2.2.2.2.2.2.2.2.2.2.2.2.2.2.2.2.1
theorem Mo_N11 {m : PM} {y : Nat} (h : Mo m y) : gN m (y + 11) = 7 := h.2.2.2.2.2.2.2.2.2.2.2.2.2.2.2.2.2.2.2.2.2.2.1
theorem Mo_K12 {m : PM} {y : Nat} (h : Mo m y) : gK m (y + 12) = 100 := h.2.2.2.2.2.2.2.2.2.2.2.2.2.2.2.2.2.2.2.2.2.2.2.1
theorem Mo_N12 {m : PM} {y : Nat} (h : Mo m y) : gN m (y + 12) = 7 := h.2.2.2.2.2.2.2.2.2.2.2.2.2.2.2.2.2.2.2.2.2.2.2.2.1
theorem Mo_K13 {m : PM} {y : Nat} (h : Mo m y) : gK m (y + 13) = 100 := h.2.2.2.2.2.2.2.2.2.2.2.2.2.2.2.2.2.2.2.2.2.2.2.2.2.1
theorem Mo_N13 {m : PM} {y : Nat} (h : Mo m y) : gN m (y + 13) = 525 := h.2.2.2.2.2.2.2.2.2.2.2.2.2.2.2.2.2.2.2.2.2.2.2.2.2.2.1
theorem Mo_K14 {m : PM} {y : Nat} (h : Mo m y) : gK m (y + 14) = 100 := h.2.2.2.2.2.2.2.2.2.2.2.2.2.2.2.2.2.2.2.2.2.2.2.2.2.2.2.1
theorem Mo_N14 {m : PM} {y : Nat} (h : Mo m y) : gN m (y + 14) = 7 := h.2.2.2.2.2.2.2.2.2.2.2.2.2.2.2.2.2.2.2.2.2.2.2.2.2.2.2.2.1
theorem Mo_K15 {m : PM} {y : Nat} (h : Mo m y) : gK m (y + 15) = 102 := h.2.2.2.2.2.2.2.2.2.2.2.2.2.2.2.2.2.2.2.2.2.2.2.2.2.2.2.2.2.1
theorem Mo_N15 {m : PM} {y : Nat} (h : Mo m y) : gN m (y + 15) = 500 := h.2.2.2.2.2.2.2.2.2.2.2.2.2.2.2.2.2.2.2.2.2.2.2.2.2.2.2.2.2.2.1
theorem Mo_K16 {m : PM} {y : Nat} (h : Mo m y) : gK m (y + 16) = 100 := h.2.2.2.2.2.2.2.2.2.2.2.2.2.2.2.2.2.2.2.2.2.2.2.2.2.2.2.2.2.2.2.1
theorem Mo_N16 {m : PM} {y : Nat} (h : Mo m y) : gN m (y + 16) = 7 := h.2.2.2.2.2.2.2.2.2.2.2.2.2.2.2.2.2.2.2.2.2.2.2.2.2.2.2.2.2.2.2.2.1
theorem Mo_K17 {m : PM} {y : Nat} (h : Mo m y) : gK m (y + 17) = 100 := h.2.2.2.2.2.2.2.2.2.2.2.2.2.2.2.2.2.2.2.2.2.2.2.2.2.2.2.2.2.2.2.2.2.1
theorem Mo_N17 {m : PM} {y : Nat} (h : Mo m y) : gN m (y + 17) = 7 := h.2.2.2.2.2.2.2.2.2.2.2.2.2.2.2.2.2.2.2.2.2.2.2.2.2.2.2.2.2.2.2.2.2.2.1
theorem Mo_K18 {m : PM} {y : Nat} (h : Mo m y) : gK m (y + 18) = 100 := h.2.2.2.2.2.2.2.2.2.2.2.2.2.2.2.2.2.2.2.2.2.2.2.2.2.2.2.2.2.2.2.2.2.2.2.1
theorem Mo_N18 {m : PM} {y : Nat} (h : Mo m y) : gN m (y + 18) = 64 := h.2.2.2.2.2.2.2.2.2.2.2.2.2.2.2.2.2.2.2.2.2.2.2.2.2.2.2.2.2.2.2.2.2.2.2.2.1
theorem Mo_K19 {m : PM} {y : Nat} (h : Mo m y) : gK m (y + 19) = 100 := h.2.2.2.2.2.2.2.2.2.2.2.2.2.2.2.2.2.2.2.2.2.2.2.2.2.2.2.2.2.2.2.2.2.2.2.2.2.1
theorem Mo_N19 {m : PM} {y : Nat} (h : Mo m y) : gN m (y + 19) = 160 := h.2.2.2.2.2.2.2.2.2.2.2.2.2.2.2.2.2.2.2.2.2.2.2.2.2.2.2.2.2.2.2.2.2.2.2.2.2.2.1
theorem Mo_K20 {m : PM} {y : Nat} (h : Mo m y) : gK m (y + 20) = 100 := h.2.2.2.2.2.2.2.2.2.2.2.2.2.2.2.2.2.2.2.2.2.2.2.2.2.2.2.2.2.2.2.2.2.2.2.2.2.2.2.1
theorem Mo_N20 {m : PM} {y : Nat} (h : Mo m y) : gN m (y + 20) = 4 := h.2.2.2.2.2.2.2.2.2.2.2.2.2.2.2.2.2.2.2.2.2.2.2.2.2.2.2.2.2.2.2.2.2.2.2.2.2.2.2.2.1
theorem Mo_K21 {m : PM} {y : Nat} (h : Mo m y) : gK m (y + 21) = 100 := h.2.2.2.2.2.2.2.2.2.2.2.2.2.2.2.2.2.2.2.2.2.2.2.2.2.2.2.2.2.2.2.2.2.2.2.2.2.2.2.2.2.1
theorem Mo_N21 {m : PM} {y : Nat} (h : Mo m y) : gN m (y + 21) = 240 := h.2.2.2.2.2.2.2.2.2.2.2.2.2.2.2.2.2.2.2.2.2.2.2.2.2.2.2.2.2.2.2.2.2.2.2.2.2.2.2.2.2.2.1
theorem Mo_R0_1 {m : PM} {y : Nat} (h : Mo m y) : gR m y 1 = some (y + 1) := h.2.2.2.2.2.2.2.2.2.2.2.2.2.2.2.2.2.2.2.2.2.2.2.2.2.2.2.2.2.2.2.2.2.2.2.2.2.2.2.2.2.2.2.1
theorem Mo_R0_14 {m : PM} {y : Nat} (h : Mo m y) : gR m y 14 = some (y + 2) := h.2.2.2.2.2.2.2.2.2.2.2.2.2.2.2.2.2.2.2.2.2.2.2.2.2.2.2.2.2.2.2.2.2.2.2.2.2.2.2.2.2.2.2.2.1
theorem Mo_R0_15 {m : PM} {y : Nat} (h : Mo m y) : gR m y 15 = some (y + 3) := h.2.2.2.2.2.2.2.2.2.2.2.2.2.2.2.2.2.2.2.2.2.2.2.2.2.2.2.2.2.2.2.2.2.2.2.2.2.2.2.2.2.2.2.2.2.1
theorem Mo_R0_16 {m : PM} {y : Nat} (h : Mo m y) : gR m y 16 = some (y + 4) := h.2.2.2.2.2.2.2.2.2.2.2.2.2.2.2.2.2.2.2.2.2.2.2.2.2.2.2.2.2.2.2.2.2.2.2.2.2.2.2.2.2.2.2.2.2.2.1
theorem Mo_R0_17 {m : PM} {y : Nat} (h : Mo m y) : gR m y 17 = some (y + 5) := h.2.2.2.2.2.2.2.2.2.2.2.2.2.2.2.2.2.2.2.2.2.2.2.2.2.2.2.2.2.2.2.2.2.2.2.2.2.2.2.2.2.2.2.2.2.2.2.1
theorem Mo_R0_18 {m : PM} {y : Nat} (h : Mo m y) : gR m y 18 = some (y + 6) := h.2.2.2.2.2.2.2.2.2.2.2.2.2.2.2.2.2.2.2.2.2.2.2.2.2.2.2.2.2.2.2.2.2.2.2.2.2.2.2.2.2.2.2.2.2.2.2.2.1
theorem Mo_R0_19 {m : PM} {y : Nat} (h : Mo m y) : gR m y 19 = some (y + 7) := h.2.2.2.2.2.2.2.2.2.2.2.2.2.2.2.2.2.2.2.2.2.2.2.2.2.2.2.2.2.2.2.2.2.2.2.2.2.2.2.2.2.2.2.2.2.2.2.2.2.1
theorem Mo_R0_20 {m : PM} {y : Nat} (h : Mo m y) : gR m y 20 = some (y + 8) := h.2.2.2.2.2.2.2.2.2.2.2.2.2.2.2.2.2.2.2.2.2.2.2.2.2.2.2.2.2.2.2.2.2.2.2.2.2.2.2.2.2.2.2.2.2.2.2.2.2.2.1
theorem Mo_R0_21 {m : PM} {y : Nat} (h : Mo m y) : gR m y 21 = some (y + 9) := h.2.2.2.2.2.2.2.2.2.2.2.2.2.2.2.2.2.2.2.2.2.2.2.2.2.2.2.2.2.2.2.2.2.2.2.2.2.2.2.2.2.2.2.2.2.2.2.2.2.2.2.1
theorem Mo_R0_22 {m : PM} {y : Nat} (h : Mo m y) : gR m y 22 = some (y + 10) := h.2.2.2.2.2.2.2.2.2.2.2.2.2.2.2.2.2.2.2.2.2.2.2.2.2.2.2.2.2.2.2.2.2.2.2.2.2.2.2.2.2.2.2.2.2.2.2.2.2.2.2.2.1
theorem Mo_R0_26 {m : PM} {y : Nat} (h : Mo m y) : gR m y 26 = some (y + 11) := h.2.2.2.2.2.2.2.2.2.2.2.2.2.2.2.2.2.2.2.2.2.2.2.2.2.2.2.2.2.2.2.2.2.2.2.2.2.2.2.2.2.2.2.2.2.2.2.2.2.2.2.2.2.1
theorem Mo_R0_27 {m : PM} {y : Nat} (h : Mo m y) : gR m y 27 = some (y + 12) := h.2.2.2.2.2.2.2.2.2.2.2.2.2.2.2.2.2.2.2.2.2.2.2.2.2.2.2.2.2.2.2.2.2.2.2.2.2.2.2.2.2.2.2.2.2.2.2.2.2.2.2.2.2.2.1
theorem Mo_R0_28 {m : PM} {y : Nat} (h : Mo m y) : gR m y 28 = some (y + 13) := h.2.2.2.2.2.2.2.2.2.2.2.2.2.2.2.2.2.2.2.2.2.2.2.2.2.2.2.2.2.2.2.2.2.2.2.2.2.2.2.2.2.2.2.2.2.2.2.2.2.2.2.2.2.2.2.1
theorem Mo_R0_31 {m : PM} {y : Nat} (h : Mo m y) : gR m y 31 = some (y + 14) := h.2.2.2.2.2.2.2.2.2.2.2.2.2.2.2.2.2.2.2.2.2.2.2.2.2.2.2.2.2.2.2.2.2.2.2.2.2.2.2.2.2.2.2.2.2.2.2.2.2.2.2.2.2.2.2.2.1
theorem Mo_R0_34 {m : PM} {y : Nat} (h : Mo m y) : gR m y 34 = some (y + 15) := h.2.2.2.2.2.2.2.2.2.2.2.2.2.2.2.2.2.2.2.2.2.2.2.2.2.2.2.2.2.2.2.2.2.2.2.2.2.2.2.2.2.2.2.2.2.2.2.2.2.2.2.2.2.2.2.2.2.1
theorem Mo_R0_35 {m : PM} {y : Nat} (h : Mo m y) : gR m y 35 = some (y + 16) := h.2.2.2.2.2.2.2.2.2.2.2.2.2.2.2.2.2.2.2.2.2.2.2.2.2.2.2.2.2.2.2.2.2.2.2.2.2.2.2.2.2.2.2.2.2.2.2.2.2.2.2.2.2.2.2.2.2.2.1
theorem Mo_R0_36 {m : PM} {y : Nat} (h : Mo m y) : gR m y 36 = some (y + 17) := h.2.2.2.2.2.2.2.2.2.2.2.2.2.2.2.2.2.2.2.2.2.2.2.2.2.2.2.2.2.2.2.2.2.2.2.2.2.2.2.2.2.2.2.2.2.2.2.2.2.2.2.2.2.2.2.2.2.2.2.1
theorem Mo_R0_39 {m : PM} {y : Nat} (h : Mo m y) : gR m y 39 = some (y + 18) := h.2.2.2.2.2.2.2.2.2.2.2.2.2.2.2.2.2.2.2.2.2.2.2.2.2.2.2.2.2.2.2.2.2.2.2.2.2.2.2.2.2.2.2.2.2.2.2.2.2.2.2.2.2.2.2.2.2.2.2.2.1
theorem Mo_R0_42 {m : PM} {y : Nat} (h : Mo m y) : gR m y 42 = some (y + 19) := h.2.2.2.2.2.2.2.2.2.2.2.2.2.2.2.2.2.2.2.2.2.2.2.2.2.2.2.2.2.2.2.2.2.2.2.2.2.2.2.2.2.2.2.2.2.2.2.2.2.2.2.2.2.2.2.2.2.2.2.2.2.1
theorem Mo_R0_43 {m : PM} {y : Nat} (h : Mo m y) : gR m y 43 = some (y + 20) := h.2.2.2.2.2.2.2.2.2.2.2.2.2.2.2.2.2.2.2.2.2.2.2.2.2.2.2.2.2.2.2.2.2.2.2.2.2.2.2.2.2.2.2.2.2.2.2.2.2.2.2.2.2.2.2.2.2.2.2.2.2.2.1
theorem Mo_R0_46 {m : PM} {y : Nat} (h : Mo m y) : gR m y 46 = some (y + 21) := h.2.2.2.2.2.2.2.2.2.2.2.2.2.2.2.2.2.2.2.2.2.2.2.2.2.2.2.2.2.2.2.2.2.2.2.2.2.2.2.2.2.2.2.2.2.2.2.2.2.2.2.2.2.2.2.2.2.2.2.2.2.2.2
def St (m : PM) (z : Nat) : Prop := gK m z = 4 ∧ gK m (z + 1) = 100 ∧ gN m (z + 1) = 42 ∧ gK m (z + 2) = 100 ∧ gN m (z + 2) = 6 ∧ gK m (z + 3) = 100 ∧ gN m (z + 3) = 7 ∧ gK m (z + 4) = 100 ∧ gN m (z + 4) = 7 ∧ gK m (z + 5) = 100 ∧ gN m (z + 5) = 7 ∧ gR m z 0 = some (z + 1) ∧ gR m z 1 = some (z + 2) ∧ gR m z 2 = some (z + 3) ∧ gR m z 3 = some (z + 4) ∧ gR m z 4 = some (z + 5)
theorem St_K0 {m : PM} {z : Nat} (h : St m z) : gK m z = 4 := h.1
theorem St_K1 {m : PM} {z : Nat} (h : St m z) : gK m (z + 1) = 100 := h.2.1
theorem St_N1 {m : PM} {z : Nat} (h : St m z) : gN m (z + 1) = 42 := h.2.2.1
theorem St_K2 {m : PM} {z : Nat} (h : St m z) : gK m (z + 2) = 100 := h.2.2.2.1
theorem St_N2 {m : PM} {z : Nat} (h : St m z) : gN m (z + 2) = 6 := h.2.2.2.2.1
theorem St_K3 {m : PM} {z : Nat} (h : St m z) : gK m (z + 3) = 100 := h.2.2.2.2.2.1
theorem St_N3 {m : PM} {z : Nat} (h : St m z) : gN m (z + 3) = 7 := h.2.2.2.2.2.2.1
theorem St_K4 {m : PM} {z : Nat} (h : St m z) : gK m (z + 4) = 100 := h.2.2.2.2.2.2.2.1
theorem St_N4 {m : PM} {z : Nat} (h : St m z) : gN m (z + 4) = 7 := h.2.2.2.2.2.2.2.2.1
theorem St_K5 {m : PM} {z : Nat} (h : St m z) : gK m (z + 5) = 100 := h.2.2.2.2.2.2.2.2.2.1
theorem St_N5 {m : PM} {z : Nat} (h : St m z) : gN m (z + 5) = 7 := h.2.2.2.2.2.2.2.2.2.2.1
theorem St_R0_0 {m : PM} {z : Nat} (h : St m z) : gR m z 0 = some (z + 1) := h.2.2.2.2.2.2.2.2.2.2.2.1
theorem St_R0_1 {m : PM} {z : Nat} (h : St m z) : gR m z 1 = some (z + 2) := h.2.2.2.2.2.2.2.2.2.2.2.2.1
theorem St_R0_2 {m : PM} {z : Nat} (h : St m z) : gR m z 2 = some (z + 3) := h.2.2.2.2.2.2.2.2.2.2.2.2.2.1
theorem St_R0_3 {m : PM} {z : Nat} (h : St m z) : gR m z 3 = some (z + 4) := h.2.2.2.2.2.2.2.2.2.2.2.2.2.2.1
theorem St_R0_4 {m : PM} {z : Nat} (h : St m z) : gR m z 4 = some (z + 5) := h.2.2.2.2.2.2.2.2.2.2.2.2.2.2.2
def Bo (m : PM) (b : Nat) : Prop := gK m b = 3 ∧ gK m (b + 1) = 103 ∧ gN m (b + 1) = 7 ∧ gK m (b + 2) = 103 ∧ gN m (b + 2) = 6 ∧ gK m (b + 3) = 100 ∧ gN m (b + 3) = 7 ∧ gK m (b + 4) = 100 ∧ gN m (b + 4) = 7 ∧ gK m (b + 5) = 100 ∧ gN m (b + 5) = 6 ∧ gK m (b + 6) = 100 ∧ gN m (b + 6) = 6 ∧ gK m (b + 7) = 100 ∧ gN m (b + 7) = 42 ∧ gR m b 0 = some (b + 1) ∧ gR m b 1 = some (b + 2) ∧ gR m b 2 = some (b + 3) ∧ gR m b 3 = some (b + 4) ∧ gR m b 4 = some (b + 5) ∧ gR m b 5 = some (b + 6) ∧ gR m b 6 = some (b + 7)
theorem Bo_K0 {m : PM} {b : Nat} (h : Bo m b) : gK m b = 3 := h.1
theorem Bo_K1 {m : PM} {b : Nat} (h : Bo m b) : gK m (b + 1) = 103 := h.2.1
theorem Bo_N1 {m : PM} {b : Nat} (h : Bo m b) : gN m (b + 1) = 7 := h.2.2.1
theorem Bo_K2 {m : PM} {b : Nat} (h : Bo m b) : gK m (b + 2) = 103 := h.2.2.2.1
theorem Bo_N2 {m : PM} {b : Nat} (h : Bo m b) : gN m (b + 2) = 6 := h.2.2.2.2.1
theorem Bo_K3 {m : PM} {b : Nat} (h : Bo m b) : gK m (b + 3) = 100 := h.2.2.2.2.2.1
theorem Bo_N3 {m : PM} {b : Nat} (h : Bo m b) : gN m (b + 3) = 7 := h.2.2.2.2.2.2.1
theorem Bo_K4 {m : PM} {b : Nat} (h : Bo m b) : gK m (b + 4) = 100 := h.2.2.2.2.2.2.2.1
theorem Bo_N4 {m : PM} {b : Nat} (h : Bo m b) : gN m (b + 4) = 7 := h.2.2.2.2.2.2.2.2.1
theorem Bo_K5 {m : PM} {b : Nat} (h : Bo m b) : gK m (b + 5) = 100 := h.2.2.2.2.2.2.2.2.2.1
theorem Bo_N5 {m : PM} {b : Nat} (h : Bo m b) : gN m (b + 5) = 6 := h.2.2.2.2.2.2.2.2.2.2.1
theorem Bo_K6 {m : PM} {b : Nat} (h : Bo m b) : gK m (b + 6) = 100 := h.2.2.2.2.2.2.2.2.2.2.2.1
theorem Bo_N6 {m : PM} {b : Nat} (h : Bo m b) : gN m (b + 6) = 6 := h.2.2.2.2.2.2.2.2.2.2.2.2.1
theorem Bo_K7 {m : PM} {b : Nat} (h : Bo m b) : gK m (b + 7) = 100 := h.2.2.2.2.2.2.2.2.2.2.2.2.2.1
theorem Bo_N7 {m : PM} {b : Nat} (h : Bo m b) : gN m (b + 7) = 42 := h.2.2.2.2.2.2.2.2.2.2.2.2.2.2.1
theorem Bo_R0_0 {m : PM} {b : Nat} (h : Bo m b) : gR m b 0 = some (b + 1) := h.2.2.2.2.2.2.2.2.2.2.2.2.2.2.2.1
theorem Bo_R0_1 {m : PM} {b : Nat} (h : Bo m b) : gR m b 1 = some (b + 2) := h.2.2.2.2.2.2.2.2.2.2.2.2.2.2.2.2.1
theorem Bo_R0_2 {m : PM} {b : Nat} (h : Bo m b) : gR m b 2 = some (b + 3) := h.2.2.2.2.2.2.2.2.2.2.2.2.2.2.2.2.2.1
theorem Bo_R0_3 {m : PM} {b : Nat} (h : Bo m b) : gR m b 3 = some (b + 4) := h.2.2.2.2.2.2.2.2.2.2.2.2.2.2.2.2.2.2.1
theorem Bo_R0_4 {m : PM} {b : Nat} (h : Bo m b) : gR m b 4 = some (b + 5) := h.2.2.2.2.2.2.2.2.2.2.2.2.2.2.2.2.2.2.2.1
theorem Bo_R0_5 {m : PM} {b : Nat} (h : Bo m b) : gR m b 5 = some (b + 6) := h.2.2.2.2.2.2.2.2.2.2.2.2.2.2.2.2.2.2.2.2.1
theorem Bo_R0_6 {m : PM} {b : Nat} (h : Bo m b) : gR m b 6 = some (b + 7) := h.2.2.2.2.2.2.2.2.2.2.2.2.2.2.2.2.2.2.2.2.2
def Ob (m : PM) (x : Nat) : Prop := gK m x = 1 ∧ gK m (x + 1) = 101 ∧ gN m (x + 1) = 940 ∧ gK m (x + 2) = 2 ∧ gK m (x + 3) = 107 ∧ gN m (x + 3) = 5 ∧ gK m (x + 4) = 107 ∧ gN m (x + 4) = 23 ∧ gK m (x + 5) = 107 ∧ gN m (x + 5) = 3 ∧ gK m (x + 26) = 5 ∧ gK m (x + 27) = 6 ∧ gK m (x + 28) = 105 ∧ gN m (x + 28) = 40 ∧ gK m (x + 29) = 104 ∧ gN m (x + 29) = 8 ∧ gK m (x + 30) = 104 ∧ gN m (x + 30) = 8 ∧ gK m (x + 31) = 100 ∧ gN m (x + 31) = 7 ∧ gK m (x + 32) = 100 ∧ gN m (x + 32) = 7 ∧ gK m (x + 33) = 100 ∧ gN m (x + 33) = 7 ∧ gK m (x + 34) = 100 ∧ gN m (x + 34) = 7 ∧ gK m (x + 35) = 100 ∧ gN m (x + 35) = 7 ∧ gK m (x + 36) = 100 ∧ gN m (x + 36) = 7 ∧ gK m (x + 37) = 101 ∧ gN m (x + 37) = 48 ∧ gK m (x + 38) = 100 ∧ gN m (x + 38) = 4 ∧ gK m (x + 39) = 7 ∧ gK m (x + 40) = 107 ∧ gN m (x + 40) = 5 ∧ gK m (x + 41) = 107 ∧ gN m (x + 41) = 4 ∧ gK m (x + 42) = 106 ∧ gN m (x + 42) = 2 ∧ gR m x 0 = some (x + 1) ∧ gR m x 3 = some (x + 2) ∧ gR m x 4 = some (x + 3) ∧ gR m x 5 = some (x + 4) ∧ gR m x 6 = some (x + 5) ∧ gR m x 8 = some (x + 14) ∧ gR m x 9 = some (x + 20) ∧ gR m x 10 = some (x + 26) ∧ gR m x 11 = some (x + 27) ∧ gR m x 13 = some (x + 29) ∧ gR m x 15 = some (x + 30) ∧ gR m x 16 = some (x + 31) ∧ gR m x 17 = some (x + 32) ∧ gR m x 23 = some (x + 33) ∧ gR m x 24 = some (x + 34) ∧ gR m x 25 = some (x + 35) ∧ gR m x 26 = some (x + 36) ∧ gR m x 29 = some (x + 37) ∧ gR m x 31 = some (x + 38) ∧ gR m x 33 = some (x + 39) ∧ gR m x 35 = some (x + 42) ∧ gR m (x + 27) 8 = some (x + 28) ∧ gR m (x + 39) 8 = some (x + 40) ∧ gR m (x + 39) 9 = some (x + 41)
theorem Ob_K0 {m : PM} {x : Nat} (h : Ob m x) : gK m x = 1 := h.1
theorem Ob_K1 {m : PM} {x : Nat} (h : Ob m x) : gK m (x + 1) = 101 := h.2.1
theorem Ob_N1 {m : PM} {x : Nat} (h : Ob m x) : gN m (x + 1) = 940 := h.2.2.1
theorem Ob_K2 {m : PM} {x : Nat} (h : Ob m x) : gK m (x + 2) = 2 := h.2.2.2.1
theorem Ob_K3 {m : PM} {x : Nat} (h : Ob m x) : gK m (x + 3) = 107 := h.2.2.2.2.1
theorem Ob_N3 {m : PM} {x : Nat} (h : Ob m x) : gN m (x + 3) = 5 := h.2.2.2.2.2.1
theorem Ob_K4 {m : PM} {x : Nat} (h : Ob m x) : gK m (x + 4) = 107 := h.2.2.2.2.2.2.1
theorem Ob_N4 {m : PM} {x : Nat} (h : Ob m x) : gN m (x + 4) = 23 := h.2.2.2.2.2.2.2.1
theorem Ob_K5 {m : PM} {x : Nat} (h : Ob m x) : gK m (x + 5) = 107 := h.2.2.2.2.2.2.2.2.1
theorem Ob_N5 {m : PM} {x : Nat} (h : Ob m x) : gN m (x + 5) = 3 := h.2.2.2.2.2.2.2.2.2.1
theorem Ob_K26 {m : PM} {x : Nat} (h : Ob m x) : gK m (x + 26) = 5 := h.2.2.2.2.2.2.2.2.2.2.1
theorem Ob_K27 {m : PM} {x : Nat} (h : Ob m x) : gK m (x + 27) = 6 := h.2.2.2.2.2.2.2.2.2.2.2.1
theorem Ob_K28 {m : PM} {x : Nat} (h : Ob m x) : gK m (x + 28) = 105 := h.2.2.2.2.2.2.2.2.2.2.2.2.1
theorem Ob_N28 {m : PM} {x : Nat} (h : Ob m x) : gN m (x + 28) = 40 := h.2.2.2.2.2.2.2.2.2.2.2.2.2.1
theorem Ob_K29 {m : PM} {x : Nat} (h : Ob m x) : gK m (x + 29) = 104 := h.2.2.2.2.2.2.2.2.2.2.2.2.2.2.1
theorem Ob_N29 {m : PM} {x : Nat} (h : Ob m x) : gN m (x + 29) = 8 := h.2.2.2.2.2.2.2.2.2.2.2.2.2.2.2.1
theorem Ob_K30 {m : PM} {x : Nat} (h : Ob m x) : gK m (x + 30) = 104 := h.2.2.2.2.2.2.2.2.2.2.2.2.2.2.2.2.1
theorem Ob_N30 {m : PM} {x : Nat} (h : Ob m x) : gN m (x + 30) = 8 := h.2.2.2.2.2.2.2.2.2.2.2.2.2.2.2.2.2.1
theorem Ob_K31 {m : PM} {x : Nat} (h : Ob m x) : gK m (x + 31) = 100 := h.2.2.2.2.2.2.2.2.2.2.2.2.2.2.2.2.2.2.1
theorem Ob_N31 {m : PM} {x : Nat} (h : Ob m x) : gN m (x + 31) = 7 := h.2.2.2.2.2.2.2.2.2.2.2.2.2.2.2.2.2.2.2.1
theorem Ob_K32 {m : PM} {x : Nat} (h : Ob m x) : gK m (x + 32) = 100 := h.2.2.2.2.2.2.2.2.2.2.2.2.2.2.2.2.2.2.2.2.1
theorem Ob_N32 {m : PM} {x : Nat} (h : Ob m x) : gN m (x + 32) = 7 := h.2.2.2.2.2.2.2.2.2.2.2.2.2.2.2.2.2.2.2.2.2.1
theorem Ob_K33 {m : PM} {x : Nat} (h : Ob m x) : gK m (x + 33) = 100 := h.2.2.2.2.2.2.2.2.2.2.2.2.2.2.2.2.2.2.2.2.2.2.1
theorem Ob_N33 {m : PM} {x : Nat} (h : Ob m x) : gN m (x + 33) = 7 := h.2.2.2.2.2.2.2.2.2.2.2.2.2.2.2.2.2.2.2.2.2.2.2.1
theorem Ob_K34 {m : PM} {x : Nat} (h : Ob m x) : gK m (x + 34) = 100 := h.2.2.2.2.2.2.2.2.2.2.2.2.2.2.2.2.2.2.2.2.2.2.2.2.1
theorem Ob_N34 {m : PM} {x : Nat} (h : Ob m x) : gN m (x + 34) = 7 := h.2.2.2.2.2.2.2.2.2.2.2.2.2.2.2.2.2.2.2.2.2.2.2.2.2.1
theorem Ob_K35 {m : PM} {x : Nat} (h : Ob m x) : gK m (x + 35) = 100 := h.2.2.2.2.2.2.2.2.2.2.2.2.2.2.2.2.2.2.2.2.2.2.2.2.2.2.1
theorem Ob_N35 {m : PM} {x : Nat} (h : Ob m x) : gN m (x + 35) = 7 := h.2.2.2.2.2.2.2.2.2.2.2.2.2.2.2.2.2.2.2.2.2.2.2.2.2.2.2.1
theorem Ob_K36 {m : PM} {x : Nat} (h : Ob m x) : gK m (x + 36) = 100 := h.2.2.2.2.2.2.2.2.2.2.2.2.2.2.2.2.2.2.2.2.2.2.2.2.2.2.2.2.1
theorem Ob_N36 {m : PM} {x : Nat} (h : Ob m x) : gN m (x + 36) = 7 := h.2.2.2.2.2.2.2.2.2.2.2.2.2.2.2.2.2.2.2.2.2.2.2.2.2.2.2.2.2.1
theorem Ob_K37 {m : PM} {x : Nat} (h : Ob m x) : gK m (x + 37) = 101 := h.2.2.2.2.2.2.2.2.2.2.2.2.2.2.2.2.2.2.2.2.2.2.2.2.2.2.2.2.2.2.1
theorem Ob_N37 {m : PM} {x : Nat} (h : Ob m x) : gN m (x + 37) = 48 := h.2.2.2.2.2.2.2.2.2.2.2.2.2.2.2.2.2.2.2.2.2.2.2.2.2.2.2.2.2.2.2.1
theorem Ob_K38 {m : PM} {x : Nat} (h : Ob m x) : gK m (x + 38) = 100 := h.2.2.2.2.2.2.2.2.2.2.2.2.2.2.2.2.2.2.2.2.2.2.2.2.2.2.2.2.2.2.2.2.1
theorem Ob_N38 {m : PM} {x : Nat} (h : Ob m x) : gN m (x + 38) = 4 := h.2.2.2.2.2.2.2.2.2.2.2.2.2.2.2.2.2.2.2.2.2.2.2.2.2.2.2.2.2.2.2.2.2.1
theorem Ob_K39 {m : PM} {x : Nat} (h : Ob m x) : gK m (x + 39) = 7 := h.2.2.2.2.2.2.2.2.2.2.2.2.2.2.2.2.2.2.2.2.2.2.2.2.2.2.2.2.2.2.2.2.2.2.1
theorem Ob_K40 {m : PM} {x : Nat} (h : Ob m x) : gK m (x + 40) = 107 := h.2.2.2.2.2.2.2.2.2.2.2.2.2.2.2.2.2.2.2.2.2.2.2.2.2.2.2.2.2.2.2.2.2.2.2.1
theorem Ob_N40 {m : PM} {x : Nat} (h : Ob m x) : gN m (x + 40) = 5 := h.2.2.2.2.2.2.2.2.2.2.2.2.2.2.2.2.2.2.2.2.2.2.2.2.2.2.2.2.2.2.2.2.2.2.2.2.1
theorem Ob_K41 {m : PM} {x : Nat} (h : Ob m x) : gK m (x + 41) = 107 := h.2.2.2.2.2.2.2.2.2.2.2.2.2.2.2.2.2.2.2.2.2.2.2.2.2.2.2.2.2.2.2.2.2.2.2.2.2.1
theorem Ob_N41 {m : PM} {x : Nat} (h : Ob m x) : gN m (x + 41) = 4 := h.2.2.2.2.2.2.2.2.2.2.2.2.2.2.2.2.2.2.2.2.2.2.2.2.2.2.2.2.2.2.2.2.2.2.2.2.2.2.1
theorem Ob_K42 {m : PM} {x : Nat} (h : Ob m x) : gK m (x + 42) = 106 := h.2.2.2.2.2.2.2.2.2.2.2.2.2.2.2.2.2.2.2.2.2.2.2.2.2.2.2.2.2.2.2.2.2.2.2.2.2.2.2.1
theorem Ob_N42 {m : PM} {x : Nat} (h : Ob m x) : gN m (x + 42) = 2 := h.2.2.2.2.2.2.2.2.2.2.2.2.2.2.2.2.2.2.2.2.2.2.2.2.2.2.2.2.2.2.2.2.2.2.2.2.2.2.2.2.1
theorem Ob_R0_0 {m : PM} {x : Nat} (h : Ob m x) : gR m x 0 = some (x + 1) := h.2.2.2.2.2.2.2.2.2.2.2.2.2.2.2.2.2.2.2.2.2.2.2.2.2.2.2.2.2.2.2.2.2.2.2.2.2.2.2.2.2.1
theorem Ob_R0_3 {m : PM} {x : Nat} (h : Ob m x) : gR m x 3 = some (x + 2) := h.2.2.2.2.2.2.2.2.2.2.2.2.2.2.2.2.2.2.2.2.2.2.2.2.2.2.2.2.2.2.2.2.2.2.2.2.2.2.2.2.2.2.1
theorem Ob_R0_4 {m : PM} {x : Nat} (h : Ob m x) : gR m x 4 = some (x + 3) := h.2.2.2.2.2.2.2.2.2.2.2.2.2.2.2.2.2.2.2.2.2.2.2.2.2.2.2.2.2.2.2.2.2.2.2.2.2.2.2.2.2.2.2.1
theorem Ob_R0_5 {m : PM} {x : Nat} (h : Ob m x) : gR m x 5 = some (x + 4) := h.2.2.2.2.2.2.2.2.2.2.2.2.2.2.2.2.2.2.2.2.2.2.2.2.2.2.2.2.2.2.2.2.2.2.2.2.2.2.2.2.2.2.2.2.1
theorem Ob_R0_6 {m : PM} {x : Nat} (h : Ob m x) : gR m x 6 = some (x + 5) := h.2.2.2.2.2.2.2.2.2.2.2.2.2.2.2.2.2.2.2.2.2.2.2.2.2.2.2.2.2.2.2.2.2.2.2.2.2.2.2.2.2.2.2.2.2.1
theorem Ob_R0_8 {m : PM} {x : Nat} (h : Ob m x) : gR m x 8 = some (x + 14) := h.2.2.2.2.2.2.2.2.2.2.2.2.2.2.2.2.2.2.2.2.2.2.2.2.2.2.2.2.2.2.2.2.2.2.2.2.2.2.2.2.2.2.2.2.2.2.1
theorem Ob_R0_9 {m : PM} {x : Nat} (h : Ob m x) : gR m x 9 = some (x + 20) := h.2.2.2.2.2.2.2.2.2.2.2.2.2.2.2.2.2.2.2.2.2.2.2.2.2.2.2.2.2.2.2.2.2.2.2.2.2.2.2.2.2.2.2.2.2.2.2.1
theorem Ob_R0_10 {m : PM} {x : Nat} (h : Ob m x) : gR m x 10 = some (x + 26) := h.2.2.2.2.2.2.2.2.2.2.2.2.2.2.2.2.2.2.2.2.2.2.2.2.2.2.2.2.2.2.2.2.2.2.2.2.2.2.2.2.2.2.2.2.2.2.2.2.1
theorem Ob_R0_11 {m : PM} {x : Nat} (h : Ob m x) : gR m x 11 = some (x + 27) := h.2.2.2.2.2.2.2.2.2.2.2.2.2.2.2.2.2.2.2.2.2.2.2.2.2.2.2.2.2.2.2.2.2.2.2.2.2.2.2.2.2.2.2.2.2.2.2.2.2.1
theorem Ob_R0_13 {m : PM} {x : Nat} (h : Ob m x) : gR m x 13 = some (x + 29) := h.2.2.2.2.2.2.2.2.2.2.2.2.2.2.2.2.2.2.2.2.2.2.2.2.2.2.2.2.2.2.2.2.2.2.2.2.2.2.2.2.2.2.2.2.2.2.2.2.2.2.1
theorem Ob_R0_15 {m : PM} {x : Nat} (h : Ob m x) : gR m x 15 = some (x + 30) := h.2.2.2.2.2.2.2.2.2.2.2.2.2.2.2.2.2.2.2.2.2.2.2.2.2.2.2.2.2.2.2.2.2.2.2.2.2.2.2.2.2.2.2.2.2.2.2.2.2.2.2.1
theorem Ob_R0_16 {m : PM} {x : Nat} (h : Ob m x) : gR m x 16 = some (x + 31) := h.2.2.2.2.2.2.2.2.2.2.2.2.2.2.2.2.2.2.2.2.2.2.2.2.2.2.2.2.2.2.2.2.2.2.2.2.2.2.2.2.2.2.2.2.2.2.2.2.2.2.2.2.1
theorem Ob_R0_17 {m : PM} {x : Nat} (h : Ob m x) : gR m x 17 = some (x + 32) := h.2.2.2.2.2.2.2.2.2.2.2.2.2.2.2.2.2.2.2.2.2.2.2.2.2.2.2.2.2.2.2.2.2.2.2.2.2.2.2.2.2.2.2.2.2.2.2.2.2.2.2.2.2.1
theorem Ob_R0_23 {m : PM} {x : Nat} (h : Ob m x) : gR m x 23 = some (x + 33) := h.2.2.2.2.2.2.2.2.2.2.2.2.2.2.2.2.2.2.2.2.2.2.2.2.2.2.2.2.2.2.2.2.2.2.2.2.2.2.2.2.2.2.2.2.2.2.2.2.2.2.2.2.2.2.1
theorem Ob_R0_24 {m : PM} {x : Nat} (h : Ob m x) : gR m x 24 = some (x + 34) := h.2.2.2.2.2.2.2.2.2.2.2.2.2.2.2.2.2.2.2.2.2.2.2.2.2.2.2.2.2.2.2.2.2.2.2.2.2.2.2.2.2.2.2.2.2.2.2.2.2.2.2.2.2.2.2.1
theorem Ob_R0_25 {m : PM} {x : Nat} (h : Ob m x) : gR m x 25 = some (x + 35) := h.2.2.2.2.2.2.2.2.2.2.2.2.2.2.2.2.2.2.2.2.2.2.2.2.2.2.2.2.2.2.2.2.2.2.2.2.2.2.2.2.2.2.2.2.2.2.2.2.2.2.2.2.2.2.2.2.1
theorem Ob_R0_26 {m : PM} {x : Nat} (h : Ob m x) : gR m x 26 = some (x + 36) := h.2.2.2.2.2.2.2.2.2.2.2.2.2.2.2.2.2.2.2.2.2.2.2.2.2.2.2.2.2.2.2.2.2.2.2.2.2.2.2.2.2.2.2.2.2.2.2.2.2.2.2.2.2.2.2.2.2.1
theorem Ob_R0_29 {m : PM} {x : Nat} (h : Ob m x) : gR m x 29 = some (x + 37) := h.2.2.2.2.2.2.2.2.2.2.2.2.2.2.2.2.2.2.2.2.2.2.2.2.2.2.2.2.2.2.2.2.2.2.2.2.2.2.2.2.2.2.2.2.2.2.2.2.2.2.2.2.2.2.2.2.2.2.1
theorem Ob_R0_31 {m : PM} {x : Nat} (h : Ob m x) : gR m x 31 = some (x + 38) := h.2.2.2.2.2.2.2.2.2.2.2.2.2.2.2.2.2.2.2.2.2.2.2.2.2.2.2.2.2.2.2.2.2.2.2.2.2.2.2.2.2.2.2.2.2.2.2.2.2.2.2.2.2.2.2.2.2.2.2.1
theorem Ob_R0_33 {m : PM} {x : Nat} (h : Ob m x) : gR m x 33 = some (x + 39) := h.2.2.2.2.2.2.2.2.2.2.2.2.2.2.2.2.2.2.2.2.2.2.2.2.2.2.2.2.2.2.2.2.2.2.2.2.2.2.2.2.2.2.2.2.2.2.2.2.2.2.2.2.2.2.2.2.2.2.2.2.1
theorem Ob_R0_35 {m : PM} {x : Nat} (h : Ob m x) : gR m x 35 = some (x + 42) := h.2.2.2.2.2.2.2.2.2.2.2.2.2.2.2.2.2.2.2.2.2.2.2.2.2.2.2.2.2.2.2.2.2.2.2.2.2.2.2.2.2.2.2.2.2.2.2.2.2.2.2.2.2.2.2.2.2.2.2.2.2.1
theorem Ob_R27_8 {m : PM} {x : Nat} (h : Ob m x) : gR m (x + 27) 8 = some (x + 28) := h.2.2.2.2.2.2.2.2.2.2.2.2.2.2.2.2.2.2.2.2.2.2.2.2.2.2.2.2.2.2.2.2.2.2.2.2.2.2.2.2.2.2.2.2.2.2.2.2.2.2.2.2.2.2.2.2.2.2.2.2.2.2.1
theorem Ob_R39_8 {m : PM} {x : Nat} (h : Ob m x) : gR m (x + 39) 8 = some (x + 40) := h.2.2.2.2.2.2.2.2.2.2.2.2.2.2.2.2.2.2.2.2.2.2.2.2.2.2.2.2.2.2.2.2.2.2.2.2.2.2.2.2.2.2.2.2.2.2.2.2.2.2.2.2.2.2.2.2.2.2.2.2.2.2.2.1
theorem Ob_R39_9 {m : PM} {x : Nat} (h : Ob m x) : gR m (x + 39) 9 = some (x + 41) := h.2.2.2.2.2.2.2.2.2.2.2.2.2.2.2.2.2.2.2.2.2.2.2.2.2.2.2.2.2.2.2.2.2.2.2.2.2.2.2.2.2.2.2.2.2.2.2.2.2.2.2.2.2.2.2.2.2.2.2.2.2.2.2.2
theorem Mo_sI {m : PM} {y a k : Nat} (w : Int32) : Mo (sI m a k w) y = Mo m y := rfl
theorem Mo_sJ {m : PM} {y a k : Nat} (w : Int64) : Mo (sJ m a k w) y = Mo m y := rfl
theorem Mo_wI {m : PM} {y a : Nat} (f : Nat → Int32) : Mo (wI m a f) y = Mo m y := rfl
theorem Mo_wJ {m : PM} {y a : Nat} (f : Nat → Int64) : Mo (wJ m a f) y = Mo m y := rfl
theorem Mo_cI {m : PM} {y a p b q n : Nat} : Mo (cI m a p b q n) y = Mo m y := rfl
theorem St_sI {m : PM} {z a k : Nat} (w : Int32) : St (sI m a k w) z = St m z := rfl
theorem St_sJ {m : PM} {z a k : Nat} (w : Int64) : St (sJ m a k w) z = St m z := rfl
theorem St_wI {m : PM} {z a : Nat} (f : Nat → Int32) : St (wI m a f) z = St m z := rfl
theorem St_wJ {m : PM} {z a : Nat} (f : Nat → Int64) : St (wJ m a f) z = St m z := rfl
theorem St_cI {m : PM} {z a p b q n : Nat} : St (cI m a p b q n) z = St m z := rfl
theorem Bo_sI {m : PM} {b a k : Nat} (w : Int32) : Bo (sI m a k w) b = Bo m b := rfl
theorem Bo_sJ {m : PM} {b a k : Nat} (w : Int64) : Bo (sJ m a k w) b = Bo m b := rfl
theorem Bo_wI {m : PM} {b a : Nat} (f : Nat → Int32) : Bo (wI m a f) b = Bo m b := rfl
theorem Bo_wJ {m : PM} {b a : Nat} (f : Nat → Int64) : Bo (wJ m a f) b = Bo m b := rfl
theorem Bo_cI {m : PM} {b a p b q n : Nat} : Bo (cI m a p b q n) b = Bo m b := rfl
theorem Ob_sI {m : PM} {x a k : Nat} (w : Int32) : Ob (sI m a k w) x = Ob m x := rfl
theorem Ob_sJ {m : PM} {x a k : Nat} (w : Int64) : Ob (sJ m a k w) x = Ob m x := rfl
theorem Ob_wI {m : PM} {x a : Nat} (f : Nat → Int32) : Ob (wI m a f) x = Ob m x := rfl
theorem Ob_wJ {m : PM} {x a : Nat} (f : Nat → Int64) : Ob (wJ m a f) x = Ob m x := rfl
theorem Ob_cI {m : PM} {x a p b q n : Nat} : Ob (cI m a p b q n) x = Ob m x := rfl
