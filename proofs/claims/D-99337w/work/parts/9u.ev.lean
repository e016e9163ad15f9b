/-! SENTENCES: whether they hold -/
def cmpE (v q n : Int32) : Bool := if q = nI 60 then decide (v < n) else if q = nI 61 then decide (v = n) else decide (n < v)
def cvE (B R : Rw) (p : Nat) (a : Int32) : Int32 := if a = nI 74 then B 3 p else if a = nI 75 then R 3 p else if a = nI 76 then R 5 p else nI p
def lfE (B R : Rw) (p : Nat) (a u n q : Int32) : Bool := if a = nI 69 then hs (R 0 6) (nI p) else if a = nI 70 then hs (R 0 7) (nI p) else if a = nI 71 then decide (onF R p = 0) else if a = nI 72 then decide (B 4 p = u) else if a = nI 73 then decide (0 < R 1 (6 * p + u.toNatClampNeg)) else cmpE (cvE B R p a) q n
def evF (B R : Rw) (p : Nat) (g : Nat → Int32) : Nat → Nat → Bool
  | 0, _ => false
  | f + 1, k => if g (4 * k) = nI 1 then !(evF B R p g f (g (4 * k + 1)).toNatClampNeg) else if g (4 * k) = nI 2 then evF B R p g f (g (4 * k + 1)).toNatClampNeg && evF B R p g f (g (4 * k + 2)).toNatClampNeg else if g (4 * k) = nI 3 then evF B R p g f (g (4 * k + 1)).toNatClampNeg || evF B R p g f (g (4 * k + 2)).toNatClampNeg else lfE B R p (g (4 * k)) (g (4 * k + 1)) (g (4 * k + 2)) (g (4 * k + 3))
theorem nI_ne {a b : Nat} (ha : a < 2147483648) (hb : b < 2147483648) (h : a ≠ b) : ¬ nI a = nI b := fun z => h ((nI_eqi ha hb).mp z)
section EVs
variable {B R : Rw} {p f k j j' : Nat} {g : Nat → Int32}
theorem ev_n (h : g (4 * k) = nI 1) (h1 : g (4 * k + 1) = nI j) (hj : j < 2000) : evF B R p g (f + 1) k = !(evF B R p g f j) := by
  show (if _ then _ else _) = _
  rw [if_pos h, h1, nI_clamp (by omega)]
theorem ev_a (h : g (4 * k) = nI 2) (h1 : g (4 * k + 1) = nI j) (h2 : g (4 * k + 2) = nI j') (hj : j < 2000) (hj' : j' < 2000) : evF B R p g (f + 1) k = (evF B R p g f j && evF B R p g f j') := by
  show (if _ then _ else if _ then _ else _) = _
  rw [if_neg (by rw [h]; decide), if_pos h, h1, h2, nI_clamp (by omega), nI_clamp (by omega)]
theorem ev_o (h : g (4 * k) = nI 3) (h1 : g (4 * k + 1) = nI j) (h2 : g (4 * k + 2) = nI j') (hj : j < 2000) (hj' : j' < 2000) : evF B R p g (f + 1) k = (evF B R p g f j || evF B R p g f j') := by
  show (if _ then _ else if _ then _ else if _ then _ else _) = _
  rw [if_neg (by rw [h]; decide), if_neg (by rw [h]; decide), if_pos h, h1, h2, nI_clamp (by omega), nI_clamp (by omega)]
theorem ev_l {i : Nat} (h : g (4 * k) = nI (69 + i)) (hi : i < 9) : evF B R p g (f + 1) k = lfE B R p (nI (69 + i)) (g (4 * k + 1)) (g (4 * k + 2)) (g (4 * k + 3)) := by
  show (if _ then _ else if _ then _ else if _ then _ else _) = _
  rw [h, if_neg (nI_ne (by omega) (by omega) (by omega)), if_neg (nI_ne (by omega) (by omega) (by omega)), if_neg (nI_ne (by omega) (by omega) (by omega))]
end EVs
/-- an object of the class answers v -/
def IsR (M : PM) (x p c : Nat) (v : Bool) (D : Nat) : Prop := (16 ≤ gK M c ∧ gK M c ≤ 20) ∧ ∀ (d : Nat) (r : PRes), D ≤ d → (gK M c = 16 → (Run d 264 [.ref c, .ref x, .int (nI p)] M r ↔ r = ((0, some (.int (bi v))), M))) ∧ (gK M c = 17 → (Run d 266 [.ref c, .ref x, .int (nI p)] M r ↔ r = ((0, some (.int (bi v))), M))) ∧ (gK M c = 18 → (Run d 268 [.ref c, .ref x, .int (nI p)] M r ↔ r = ((0, some (.int (bi v))), M))) ∧ (gK M c = 19 → (Run d 270 [.ref c, .ref x, .int (nI p)] M r ↔ r = ((0, some (.int (bi v))), M))) ∧ (gK M c = 20 → (Run d 272 [.ref c, .ref x, .int (nI p)] M r ↔ r = ((0, some (.int (bi v))), M)))
section IRs
variable {M : PM} {x p c D d pc : Nat} {v : Bool} {cc : ByteArray} {rt : Option FieldType} {L : PLs} {st : List Value} {r : PRes}
theorem ivR_18 (h : IsR M x p c v D) (hD : D ≤ d) (hs : (st.map fun v => v.category).sum ≤ 8) : EvI (.ok (.invokeinterface 13 3, 5)) d 18 cc rt (fun _ => none) pc L (.int (nI p) :: .ref x :: .ref c :: st) M r ↔ Ev d 18 cc rt (fun _ => none) (pc + 5) L (.int (bi v) :: st) M r := by
  obtain ⟨hk, h⟩ := h
  have hk5 : gK M c = 16 ∨ gK M c = 17 ∨ gK M c = 18 ∨ gK M c = 19 ∨ gK M c = 20 := by omega
  rcases hk5 with e | e | e | e | e
  · have h2 := fun d r hd => (h d r hd).1 e
    rw [v18_13_16 e hs]
    constructor
    · rintro ⟨w, h3, h4⟩
      rw [h2 d w hD] at h3
      rw [h3] at h4
      exact h4
    · intro h4
      exact ⟨_, (h2 d _ hD).mpr rfl, h4⟩
  · have h2 := fun d r hd => (h d r hd).2.1 e
    rw [v18_13_17 e hs]
    constructor
    · rintro ⟨w, h3, h4⟩
      rw [h2 d w hD] at h3
      rw [h3] at h4
      exact h4
    · intro h4
      exact ⟨_, (h2 d _ hD).mpr rfl, h4⟩
  · have h2 := fun d r hd => (h d r hd).2.2.1 e
    rw [v18_13_18 e hs]
    constructor
    · rintro ⟨w, h3, h4⟩
      rw [h2 d w hD] at h3
      rw [h3] at h4
      exact h4
    · intro h4
      exact ⟨_, (h2 d _ hD).mpr rfl, h4⟩
  · have h2 := fun d r hd => (h d r hd).2.2.2.1 e
    rw [v18_13_19 e hs]
    constructor
    · rintro ⟨w, h3, h4⟩
      rw [h2 d w hD] at h3
      rw [h3] at h4
      exact h4
    · intro h4
      exact ⟨_, (h2 d _ hD).mpr rfl, h4⟩
  · have h2 := fun d r hd => (h d r hd).2.2.2.2 e
    rw [v18_13_20 e hs]
    constructor
    · rintro ⟨w, h3, h4⟩
      rw [h2 d w hD] at h3
      rw [h3] at h4
      exact h4
    · intro h4
      exact ⟨_, (h2 d _ hD).mpr rfl, h4⟩
theorem ivR_21 (h : IsR M x p c v D) (hD : D ≤ d) (hs : (st.map fun v => v.category).sum ≤ 8) : EvI (.ok (.invokeinterface 16 3, 5)) d 21 cc rt (fun _ => none) pc L (.int (nI p) :: .ref x :: .ref c :: st) M r ↔ Ev d 21 cc rt (fun _ => none) (pc + 5) L (.int (bi v) :: st) M r := by
  obtain ⟨hk, h⟩ := h
  have hk5 : gK M c = 16 ∨ gK M c = 17 ∨ gK M c = 18 ∨ gK M c = 19 ∨ gK M c = 20 := by omega
  rcases hk5 with e | e | e | e | e
  · have h2 := fun d r hd => (h d r hd).1 e
    rw [v21_16_16 e hs]
    constructor
    · rintro ⟨w, h3, h4⟩
      rw [h2 d w hD] at h3
      rw [h3] at h4
      exact h4
    · intro h4
      exact ⟨_, (h2 d _ hD).mpr rfl, h4⟩
  · have h2 := fun d r hd => (h d r hd).2.1 e
    rw [v21_16_17 e hs]
    constructor
    · rintro ⟨w, h3, h4⟩
      rw [h2 d w hD] at h3
      rw [h3] at h4
      exact h4
    · intro h4
      exact ⟨_, (h2 d _ hD).mpr rfl, h4⟩
  · have h2 := fun d r hd => (h d r hd).2.2.1 e
    rw [v21_16_18 e hs]
    constructor
    · rintro ⟨w, h3, h4⟩
      rw [h2 d w hD] at h3
      rw [h3] at h4
      exact h4
    · intro h4
      exact ⟨_, (h2 d _ hD).mpr rfl, h4⟩
  · have h2 := fun d r hd => (h d r hd).2.2.2.1 e
    rw [v21_16_19 e hs]
    constructor
    · rintro ⟨w, h3, h4⟩
      rw [h2 d w hD] at h3
      rw [h3] at h4
      exact h4
    · intro h4
      exact ⟨_, (h2 d _ hD).mpr rfl, h4⟩
  · have h2 := fun d r hd => (h d r hd).2.2.2.2 e
    rw [v21_16_20 e hs]
    constructor
    · rintro ⟨w, h3, h4⟩
      rw [h2 d w hD] at h3
      rw [h3] at h4
      exact h4
    · intro h4
      exact ⟨_, (h2 d _ hD).mpr rfl, h4⟩
theorem ivR_22 (h : IsR M x p c v D) (hD : D ≤ d) (hs : (st.map fun v => v.category).sum ≤ 8) : EvI (.ok (.invokeinterface 16 3, 5)) d 22 cc rt (fun _ => none) pc L (.int (nI p) :: .ref x :: .ref c :: st) M r ↔ Ev d 22 cc rt (fun _ => none) (pc + 5) L (.int (bi v) :: st) M r := by
  obtain ⟨hk, h⟩ := h
  have hk5 : gK M c = 16 ∨ gK M c = 17 ∨ gK M c = 18 ∨ gK M c = 19 ∨ gK M c = 20 := by omega
  rcases hk5 with e | e | e | e | e
  · have h2 := fun d r hd => (h d r hd).1 e
    rw [v22_16_16 e hs]
    constructor
    · rintro ⟨w, h3, h4⟩
      rw [h2 d w hD] at h3
      rw [h3] at h4
      exact h4
    · intro h4
      exact ⟨_, (h2 d _ hD).mpr rfl, h4⟩
  · have h2 := fun d r hd => (h d r hd).2.1 e
    rw [v22_16_17 e hs]
    constructor
    · rintro ⟨w, h3, h4⟩
      rw [h2 d w hD] at h3
      rw [h3] at h4
      exact h4
    · intro h4
      exact ⟨_, (h2 d _ hD).mpr rfl, h4⟩
  · have h2 := fun d r hd => (h d r hd).2.2.1 e
    rw [v22_16_18 e hs]
    constructor
    · rintro ⟨w, h3, h4⟩
      rw [h2 d w hD] at h3
      rw [h3] at h4
      exact h4
    · intro h4
      exact ⟨_, (h2 d _ hD).mpr rfl, h4⟩
  · have h2 := fun d r hd => (h d r hd).2.2.2.1 e
    rw [v22_16_19 e hs]
    constructor
    · rintro ⟨w, h3, h4⟩
      rw [h2 d w hD] at h3
      rw [h3] at h4
      exact h4
    · intro h4
      exact ⟨_, (h2 d _ hD).mpr rfl, h4⟩
  · have h2 := fun d r hd => (h d r hd).2.2.2.2 e
    rw [v22_16_20 e hs]
    constructor
    · rintro ⟨w, h3, h4⟩
      rw [h2 d w hD] at h3
      rw [h3] at h4
      exact h4
    · intro h4
      exact ⟨_, (h2 d _ hD).mpr rfl, h4⟩
theorem ivR_1 (h : IsR M x p c v D) (hD : D ≤ d) (hs : (st.map fun v => v.category).sum ≤ 8) : EvI (.ok (.invokeinterface 455 3, 5)) d 1 cc rt (fun _ => none) pc L (.int (nI p) :: .ref x :: .ref c :: st) M r ↔ Ev d 1 cc rt (fun _ => none) (pc + 5) L (.int (bi v) :: st) M r := by
  obtain ⟨hk, h⟩ := h
  have hk5 : gK M c = 16 ∨ gK M c = 17 ∨ gK M c = 18 ∨ gK M c = 19 ∨ gK M c = 20 := by omega
  rcases hk5 with e | e | e | e | e
  · have h2 := fun d r hd => (h d r hd).1 e
    rw [v1_455_16 e hs]
    constructor
    · rintro ⟨w, h3, h4⟩
      rw [h2 d w hD] at h3
      rw [h3] at h4
      exact h4
    · intro h4
      exact ⟨_, (h2 d _ hD).mpr rfl, h4⟩
  · have h2 := fun d r hd => (h d r hd).2.1 e
    rw [v1_455_17 e hs]
    constructor
    · rintro ⟨w, h3, h4⟩
      rw [h2 d w hD] at h3
      rw [h3] at h4
      exact h4
    · intro h4
      exact ⟨_, (h2 d _ hD).mpr rfl, h4⟩
  · have h2 := fun d r hd => (h d r hd).2.2.1 e
    rw [v1_455_18 e hs]
    constructor
    · rintro ⟨w, h3, h4⟩
      rw [h2 d w hD] at h3
      rw [h3] at h4
      exact h4
    · intro h4
      exact ⟨_, (h2 d _ hD).mpr rfl, h4⟩
  · have h2 := fun d r hd => (h d r hd).2.2.2.1 e
    rw [v1_455_19 e hs]
    constructor
    · rintro ⟨w, h3, h4⟩
      rw [h2 d w hD] at h3
      rw [h3] at h4
      exact h4
    · intro h4
      exact ⟨_, (h2 d _ hD).mpr rfl, h4⟩
  · have h2 := fun d r hd => (h d r hd).2.2.2.2 e
    rw [v1_455_20 e hs]
    constructor
    · rintro ⟨w, h3, h4⟩
      rw [h2 d w hD] at h3
      rw [h3] at h4
      exact h4
    · intro h4
      exact ⟨_, (h2 d _ hD).mpr rfl, h4⟩
end IRs
section LH
variable {d o : Nat} {cc : ByteArray} {rt : Option FieldType} {hh : Nat → Option Nat} {L : PLs} {st : List Value} {m : PM} {r : PRes}
def lkL : List (Int × Int) := [(1, 74), (2, 90), (3, 116), (69, 142), (70, 148), (71, 160), (72, 174), (73, 194)]
theorem E_lkH {x : Int32} {t : Nat} (ht : tgt 34 (Op.lookupswitch.offset lkL 210 x.toInt) = some t) : EvI (.ok (.lookupswitch 210 #[(1, 74), (2, 90), (3, 116), (69, 142), (70, 148), (71, 160), (72, 174), (73, 194)], 74)) d o cc rt hh 34 L (.int x :: st) m r ↔ Ev d o cc rt hh t L st m r := by
  have hs : (lkL.zip (lkL.drop 1)).all (fun (a, next) => a.1 < next.1) = true := by decide
  have e : sx pT pM o rt 34 L (.int x :: st) m (.lookupswitch 210 #[(1, 74), (2, 90), (3, 116), (69, 142), (70, 148), (71, 160), (72, 174), (73, 194)]) = if (lkL.zip (lkL.drop 1)).all (fun (a, next) => a.1 < next.1) = true then (ob (tgt 34 (Op.lookupswitch.offset lkL 210 x.toInt)) fun t => nx t L st m) else none := rfl
  refine EvI_nx (Or.inl rfl) ?_
  rw [e, if_pos hs, ht]
  rfl
theorem lkH_1 : EvI (.ok (.lookupswitch 210 #[(1, 74), (2, 90), (3, 116), (69, 142), (70, 148), (71, 160), (72, 174), (73, 194)], 74)) d o cc rt hh 34 L (.int (nI 1) :: st) m r ↔ Ev d o cc rt hh 108 L st m r := E_lkH (by decide)
theorem lkH_2 : EvI (.ok (.lookupswitch 210 #[(1, 74), (2, 90), (3, 116), (69, 142), (70, 148), (71, 160), (72, 174), (73, 194)], 74)) d o cc rt hh 34 L (.int (nI 2) :: st) m r ↔ Ev d o cc rt hh 124 L st m r := E_lkH (by decide)
theorem lkH_3 : EvI (.ok (.lookupswitch 210 #[(1, 74), (2, 90), (3, 116), (69, 142), (70, 148), (71, 160), (72, 174), (73, 194)], 74)) d o cc rt hh 34 L (.int (nI 3) :: st) m r ↔ Ev d o cc rt hh 150 L st m r := E_lkH (by decide)
theorem lkH_69 : EvI (.ok (.lookupswitch 210 #[(1, 74), (2, 90), (3, 116), (69, 142), (70, 148), (71, 160), (72, 174), (73, 194)], 74)) d o cc rt hh 34 L (.int (nI 69) :: st) m r ↔ Ev d o cc rt hh 176 L st m r := E_lkH (by decide)
theorem lkH_70 : EvI (.ok (.lookupswitch 210 #[(1, 74), (2, 90), (3, 116), (69, 142), (70, 148), (71, 160), (72, 174), (73, 194)], 74)) d o cc rt hh 34 L (.int (nI 70) :: st) m r ↔ Ev d o cc rt hh 182 L st m r := E_lkH (by decide)
theorem lkH_71 : EvI (.ok (.lookupswitch 210 #[(1, 74), (2, 90), (3, 116), (69, 142), (70, 148), (71, 160), (72, 174), (73, 194)], 74)) d o cc rt hh 34 L (.int (nI 71) :: st) m r ↔ Ev d o cc rt hh 194 L st m r := E_lkH (by decide)
theorem lkH_72 : EvI (.ok (.lookupswitch 210 #[(1, 74), (2, 90), (3, 116), (69, 142), (70, 148), (71, 160), (72, 174), (73, 194)], 74)) d o cc rt hh 34 L (.int (nI 72) :: st) m r ↔ Ev d o cc rt hh 208 L st m r := E_lkH (by decide)
theorem lkH_73 : EvI (.ok (.lookupswitch 210 #[(1, 74), (2, 90), (3, 116), (69, 142), (70, 148), (71, 160), (72, 174), (73, 194)], 74)) d o cc rt hh 34 L (.int (nI 73) :: st) m r ↔ Ev d o cc rt hh 228 L st m r := E_lkH (by decide)
theorem lkH_74 : EvI (.ok (.lookupswitch 210 #[(1, 74), (2, 90), (3, 116), (69, 142), (70, 148), (71, 160), (72, 174), (73, 194)], 74)) d o cc rt hh 34 L (.int (nI 74) :: st) m r ↔ Ev d o cc rt hh 244 L st m r := E_lkH (by decide)
theorem lkH_75 : EvI (.ok (.lookupswitch 210 #[(1, 74), (2, 90), (3, 116), (69, 142), (70, 148), (71, 160), (72, 174), (73, 194)], 74)) d o cc rt hh 34 L (.int (nI 75) :: st) m r ↔ Ev d o cc rt hh 244 L st m r := E_lkH (by decide)
theorem lkH_76 : EvI (.ok (.lookupswitch 210 #[(1, 74), (2, 90), (3, 116), (69, 142), (70, 148), (71, 160), (72, 174), (73, 194)], 74)) d o cc rt hh 34 L (.int (nI 76) :: st) m r ↔ Ev d o cc rt hh 244 L st m r := E_lkH (by decide)
theorem lkH_77 : EvI (.ok (.lookupswitch 210 #[(1, 74), (2, 90), (3, 116), (69, 142), (70, 148), (71, 160), (72, 174), (73, 194)], 74)) d o cc rt hh 34 L (.int (nI 77) :: st) m r ↔ Ev d o cc rt hh 244 L st m r := E_lkH (by decide)
end LH
