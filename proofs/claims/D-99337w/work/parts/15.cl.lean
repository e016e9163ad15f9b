/-! class lists (by gen/rep0.py) -/
def clL : List vw_C := [(RX1, TX1, 36), (RX2, TX2, 8), (RX3, TX3, 11), (RX4, TX4, 12), (RX6, TX6, 11), (RX7, TX7, 11), (RX8, TX8, 12), (RX9, TX9, 51), (RX11, TX11, 1), (RX12, TX12, 3), (RX13, TX13, 3), (RX14, TX14, 1), (RX15, TX15, 1), (RX16, TX16, 1), (RX17, TX17, 1), (RX18, TX18, 1), (RX19, TX19, 2), (RX20, TX20, 3), (RX21, TX21, 2), (RX22, TX22, 2), (RX23, TX23, 3), (RJ3, TJ3, 4)]
def onL : List String := ["SecondHelpingsLaw", "SecondHelpings", "SecondHelpings$Fault", "SecondHelpings$Board", "SecondHelpings$State", "SecondHelpings$Reader", "SecondHelpings$BoardReader", "SecondHelpings$BookReader", "SecondHelpings$SentenceReader", "SecondHelpingsModel", "SecondHelpings$Line", "SecondHelpings$Meals", "SecondHelpings$Eats", "SecondHelpings$Serves", "SecondHelpings$Rises", "SecondHelpings$Refuses", "SecondHelpings$Accepts", "SecondHelpings$Dies", "SecondHelpings$Not", "SecondHelpings$Marks", "SecondHelpings$Counts", "SecondHelpings$Both", "SecondHelpings$Any", "SecondHelpings$Kept", "", "", "", "", "", "", "java/lang/Throwable", "java/lang/Exception", "java/util/Arrays", "java/lang/String", "java/lang/StringLatin1", "jdk/internal/util/Preconditions", "java/lang/StringUTF16", "java/lang/RuntimeException", "java/util/NoSuchElementException", "java/lang/Math", "java/lang/Integer", "java/lang/Object"]
def onm (o : Nat) : String := onL.getD o ""
def tyF : Nat → Nat → FieldType := fun ci => if ci = 0 then tyX1 else if ci = 1 then tyX2 else if ci = 2 then tyX3 else if ci = 3 then tyX4 else if ci = 4 then tyX6 else if ci = 5 then tyX7 else if ci = 6 then tyX8 else if ci = 7 then tyX9 else if ci = 8 then tyX11 else if ci = 9 then tyX12 else if ci = 10 then tyX13 else if ci = 11 then tyX14 else if ci = 12 then tyX15 else if ci = 13 then tyX16 else if ci = 14 then tyX17 else if ci = 15 then tyX18 else if ci = 16 then tyX19 else if ci = 17 then tyX20 else if ci = 18 then tyX21 else if ci = 19 then tyX22 else if ci = 20 then tyX23 else if ci = 21 then tyJ3 else tyX1
theorem tyF_ok : ∀ (ci : Nat) (q : vw_C), clL[ci]? = some q → ∀ k, k < q.2.2 → parseFieldDescriptor (q.2.1 k).2.2.1 = some (tyF ci k) := by
  intro ci q h
  match ci, h with
  | 0, h => cases h; exact tyX1_ok
  | 1, h => cases h; exact tyX2_ok
  | 2, h => cases h; exact tyX3_ok
  | 3, h => cases h; exact tyX4_ok
  | 4, h => cases h; exact tyX6_ok
  | 5, h => cases h; exact tyX7_ok
  | 6, h => cases h; exact tyX8_ok
  | 7, h => cases h; exact tyX9_ok
  | 8, h => cases h; exact tyX11_ok
  | 9, h => cases h; exact tyX12_ok
  | 10, h => cases h; exact tyX13_ok
  | 11, h => cases h; exact tyX14_ok
  | 12, h => cases h; exact tyX15_ok
  | 13, h => cases h; exact tyX16_ok
  | 14, h => cases h; exact tyX17_ok
  | 15, h => cases h; exact tyX18_ok
  | 16, h => cases h; exact tyX19_ok
  | 17, h => cases h; exact tyX20_ok
  | 18, h => cases h; exact tyX21_ok
  | 19, h => cases h; exact tyX22_ok
  | 20, h => cases h; exact tyX23_ok
  | 21, h => cases h; exact tyJ3_ok
  | _ + 22, h => cases h
theorem in_all : ∀ (ci : Nat) (q : vw_C), clL[ci]? = some q → ∀ w ∈ u_ws q.1 q.2.1 q.2.2, w ∈ lw_all := by
  intro ci q h
  match ci, h with
  | 0, h => cases h; exact in_X1
  | 1, h => cases h; exact in_X2
  | 2, h => cases h; exact in_X3
  | 3, h => cases h; exact in_X4
  | 4, h => cases h; exact in_X6
  | 5, h => cases h; exact in_X7
  | 6, h => cases h; exact in_X8
  | 7, h => cases h; exact in_X9
  | 8, h => cases h; exact in_X11
  | 9, h => cases h; exact in_X12
  | 10, h => cases h; exact in_X13
  | 11, h => cases h; exact in_X14
  | 12, h => cases h; exact in_X15
  | 13, h => cases h; exact in_X16
  | 14, h => cases h; exact in_X17
  | 15, h => cases h; exact in_X18
  | 16, h => cases h; exact in_X19
  | 17, h => cases h; exact in_X20
  | 18, h => cases h; exact in_X21
  | 19, h => cases h; exact in_X22
  | 20, h => cases h; exact in_X23
  | 21, h => cases h; exact in_J3
  | _ + 22, h => cases h
