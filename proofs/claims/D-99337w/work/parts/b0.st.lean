/-! THE WORLD at its start -/
def zP (m0 : PM) (s1 : Nat) : PM := imF m0 (gX m0) 43 xkT xnT (xRF (gX m0)) xHF s1
def zQ (m0 : PM) (s1 s2 : Nat) : PM := imF (zP m0 s1) (gX m0 + 43) 22 mkT mnT (mRF (gX m0 + 43)) mHF s2
def zZ (m0 : PM) (s1 s2 : Nat) : PM := nw (zQ m0 s1 s2) 103 1 1
section STA
variable {m0 : PM} {s1 s2 : Nat}
theorem zZ_P {c : Nat} (h : c < gX m0 + 43 ∨ gX m0 + 66 ≤ c) : gK (zZ m0 s1 s2) c = gK (zP m0 s1) c ∧ gN (zZ m0 s1 s2) c = gN (zP m0 s1) c ∧ (∀ j, gR (zZ m0 s1 s2) c j = gR (zP m0 s1) c j) ∧ (∀ j, gJ (zZ m0 s1 s2) c j = gJ (zP m0 s1) c j) ∧ (∀ j, gI (zZ m0 s1 s2) c j = gI (zP m0 s1) c j) := by
  have e : gX (zQ m0 s1 s2) = gX m0 + 65 := rfl
  have q := im_o (M := zP m0 s1) (x := gX m0 + 43) (k := 22) (KT := mkT) (NT := mnT) (rf := mRF (gX m0 + 43)) (h := mHF) (s := s2) (c := c) (by omega)
  unfold zZ
  refine ⟨?_, ?_, fun j => ?_, fun j => ?_, fun j => ?_⟩
  · rw [gK_nw, if_neg (by omega)]; exact q.1
  · rw [gN_nw, if_neg (by omega)]; exact q.2.1
  · rw [gR_nw, if_neg (by omega)]; exact q.2.2.1 j
  · rw [gJ_nw, if_neg (by omega)]; exact q.2.2.2.1 j
  · rw [gI_nw, if_neg (by omega)]; exact q.2.2.2.2 j
theorem zZ_Q {c : Nat} (h : c < gX m0 + 65) : gK (zZ m0 s1 s2) c = gK (zQ m0 s1 s2) c ∧ gN (zZ m0 s1 s2) c = gN (zQ m0 s1 s2) c ∧ (∀ j, gR (zZ m0 s1 s2) c j = gR (zQ m0 s1 s2) c j) ∧ (∀ j, gJ (zZ m0 s1 s2) c j = gJ (zQ m0 s1 s2) c j) ∧ (∀ j, gI (zZ m0 s1 s2) c j = gI (zQ m0 s1 s2) c j) := by
  have e : gX (zQ m0 s1 s2) = gX m0 + 65 := rfl
  unfold zZ
  refine ⟨?_, ?_, fun j => ?_, fun j => ?_, fun j => ?_⟩
  · rw [gK_nw, if_neg (by omega)]
  · rw [gN_nw, if_neg (by omega)]
  · rw [gR_nw, if_neg (by omega)]
  · rw [gJ_nw, if_neg (by omega)]
  · rw [gI_nw, if_neg (by omega)]
theorem zx {i j : Nat} (hi : i < 43) : gI (zZ m0 s1 s2) (gX m0 + i) j = xHF i j := by
  rw [(zZ_P (by omega)).2.2.2.2 j]; exact im_I hi
theorem zxR {i j : Nat} (hi : i < 43) : gR (zZ m0 s1 s2) (gX m0 + i) j = xRF (gX m0) i j := by
  rw [(zZ_P (by omega)).2.2.1 j]; exact im_R hi
theorem zxK {i : Nat} (hi : i < 43) : gK (zZ m0 s1 s2) (gX m0 + i) = xkT i := by
  rw [(zZ_P (by omega)).1]; exact im_K hi
theorem zxN {i : Nat} (hi : i < 43) : gN (zZ m0 s1 s2) (gX m0 + i) = xnT i := by
  rw [(zZ_P (by omega)).2.1]; exact im_N hi
theorem zy {i j : Nat} (hi : i < 22) : gI (zZ m0 s1 s2) (gX m0 + 43 + i) j = mHF i j := by
  rw [(zZ_Q (by omega)).2.2.2.2 j]; exact im_I hi
theorem zyJ {i j : Nat} (hi : i < 22) : gJ (zZ m0 s1 s2) (gX m0 + 43 + i) j = 0 := by
  rw [(zZ_Q (by omega)).2.2.2.1 j]; exact im_J hi
theorem xHF_0 : ∀ i j, (i ≠ 0 ∨ (j ≠ 19 ∧ j ≠ 28)) → (i ≠ 26 ∧ i ≠ 27 ∧ i ≠ 39) → xHF i j = 0 := by
  intro i j h1 h2
  unfold xHF u2
  dsimp only
  rw [if_neg (by omega), if_neg (by omega), if_neg (by omega), if_neg (by omega), if_neg (by omega)]
theorem mHF_0 : ∀ i j, (i ≠ 0 ∨ (j ≠ 32 ∧ j ≠ 33)) → mHF i j = 0 := by
  intro i j h1
  unfold mHF u2
  dsimp only
  rw [if_neg (by omega), if_neg (by omega)]
theorem z_Mo : Mo (zZ m0 s1 s2) (gX m0 + 43) := by
  have h : Mo (zQ m0 s1 s2) (gX m0 + 43) := mi_Mo
  have e : gX (zQ m0 s1 s2) = gX m0 + 65 := rfl
  unfold zZ
  unfold Mo at h ⊢
  simp (disch := omega) only [gK_nw, gN_nw, gR_nw, e, if_neg]
  exact h
theorem z_Ob : Ob (zZ m0 s1 s2) (gX m0) := by
  have z0K : gK (zZ m0 s1 s2) (gX m0) = 1 := zxK (i := 0) (by omega)
  have z0R : ∀ j, gR (zZ m0 s1 s2) (gX m0) j = xRF (gX m0) 0 j := fun j => zxR (i := 0) (by omega)
  unfold Ob
  simp only [z0K, z0R]
  refine ⟨?_, ?_, ?_, ?_, ?_, ?_, ?_, ?_, ?_, ?_, ?_, ?_, ?_, ?_, ?_, ?_, ?_, ?_, ?_, ?_, ?_, ?_, ?_, ?_, ?_, ?_, ?_, ?_, ?_, ?_, ?_, ?_, ?_, ?_, ?_, ?_, ?_, ?_, ?_, ?_, ?_, ?_, ?_, ?_, ?_, ?_, ?_, ?_, ?_, ?_, ?_, ?_, ?_, ?_, ?_, ?_, ?_, ?_, ?_, ?_, ?_, ?_, ?_, ?_, ?_⟩
  all_goals first
    | trivial
    | rfl
    | (rw [zxK (by omega)]; rfl)
    | (rw [zxN (by omega)]; rfl)
    | (rw [zxR (by omega)]; rfl)
theorem z_St {z : Nat} (h : z = 14 ∨ z = 20) : St (zZ m0 s1 s2) (gX m0 + z) := by
  rcases h with rfl | rfl
  · unfold St
    refine ⟨?_, ?_, ?_, ?_, ?_, ?_, ?_, ?_, ?_, ?_, ?_, ?_, ?_, ?_, ?_, ?_⟩
    all_goals first
      | (rw [zxK (by omega)]; rfl)
      | (rw [Nat.add_assoc, zxK (by omega)]; rfl)
      | (rw [Nat.add_assoc, zxN (by omega)]; rfl)
      | (rw [zxR (by omega)]; rfl)
  · unfold St
    refine ⟨?_, ?_, ?_, ?_, ?_, ?_, ?_, ?_, ?_, ?_, ?_, ?_, ?_, ?_, ?_, ?_⟩
    all_goals first
      | (rw [zxK (by omega)]; rfl)
      | (rw [Nat.add_assoc, zxK (by omega)]; rfl)
      | (rw [Nat.add_assoc, zxN (by omega)]; rfl)
      | (rw [zxR (by omega)]; rfl)
theorem z_Bo : Bo (zZ m0 s1 s2) (gX m0 + 6) := by
  unfold Bo
  refine ⟨?_, ?_, ?_, ?_, ?_, ?_, ?_, ?_, ?_, ?_, ?_, ?_, ?_, ?_, ?_, ?_, ?_, ?_, ?_, ?_, ?_, ?_⟩
  all_goals first
    | (rw [zxK (by omega)]; rfl)
    | (rw [Nat.add_assoc, zxK (by omega)]; rfl)
    | (rw [Nat.add_assoc, zxN (by omega)]; rfl)
    | (rw [zxR (by omega)]; rfl)
theorem beg_0 : begF (fun _ _ => 0) = fun _ _ => 0 := by
  funext s k
  unfold begF
  split
  · rfl
  · split <;> rfl
theorem GR_0 : GR (fun _ _ => 0) (fun _ _ => 0) 0 0 := by
  have h := GR_beg GB_0
  rw [beg_0] at h
  exact h
theorem rw_0 (k : Nat) : rwF (fun _ _ => 0) (fun _ _ => 0) (fun _ => 0) k = 0 := by
  unfold rwF
  dsimp only
  simp only [ite_self]
theorem z_sl (i : Nat) (hi : i < 18) : sl (zZ m0 s1 s2) (gX m0) i = none := by
  unfold sl
  have h1 : ∀ j, gR (zZ m0 s1 s2) (gX m0 + 29) j = none := fun j => by rw [zxR (by omega)]; exact rfl
  have h2 : ∀ j, gR (zZ m0 s1 s2) (gX m0 + 30) j = none := fun j => by rw [zxR (by omega)]; exact rfl
  have h3 : ∀ j, gR (zZ m0 s1 s2) (gX m0 + 42) j = none := fun j => by rw [zxR (by omega)]; exact rfl
  rw [h1, h2, h3]
  split
  · rfl
  · split <;> rfl
theorem z_RX (hCK : CK m0) (hX : gX m0 + 66 < 900000) : RX (zZ m0 s1 s2) (gX m0) := by
  have eo : ∀ c, 1000000 ≤ c → gK (zZ m0 s1 s2) c = gK m0 c ∧ gN (zZ m0 s1 s2) c = gN m0 c ∧ (∀ j, gR (zZ m0 s1 s2) c j = gR m0 c j) ∧ (∀ j, gI (zZ m0 s1 s2) c j = gI m0 c j) := fun c hc => by
    have a := zZ_P (m0 := m0) (s1 := s1) (s2 := s2) (c := c) (by omega)
    have b := im_o (M := m0) (x := gX m0) (k := 43) (KT := xkT) (NT := xnT) (rf := xRF (gX m0)) (h := xHF) (s := s1) (c := c) (by omega)
    exact ⟨a.1.trans b.1, a.2.1.trans b.2.1, fun j => (a.2.2.1 j).trans (b.2.2.1 j), fun j => (a.2.2.2.2 j).trans (b.2.2.2.2 j)⟩
  refine ⟨fun i hi => ?_, ?_, ?_, ?_, ?_, ?_, ?_, ?_, ?_, ?_, ?_, ?_, ?_, ?_, ?_⟩
  · obtain ⟨h1, h2, h3, h4, h5, h6⟩ := hCK i hi
    have e1 := eo (1000000 + 2 * i) (by omega)
    have e2 := eo (1000001 + 2 * i) (by omega)
    exact ⟨e1.1.trans h1, (e1.2.2.1 0).trans h2, (e1.2.2.2 1).trans h3, e2.1.trans h4, e2.2.1.trans h5, fun k hk => (e2.2.2.2 k).trans (h6 k hk)⟩
  · refine ⟨by rw [zxK (by omega)]; rfl, by rw [zxN (by omega)]; rfl, by omega, fun k hk => ⟨?_, by first | omega | (dsimp only; omega)⟩⟩
    rw [zxR (by omega)]
    rcases (show k = 0 ∨ k = 1 ∨ k = 2 ∨ k = 3 ∨ k = 4 by omega) with rfl | rfl | rfl | rfl | rfl <;> rfl
  · refine ⟨by rw [zxK (by omega)]; rfl, by rw [zxN (by omega)]; rfl, by omega, fun k hk => ⟨?_, by first | omega | (dsimp only; omega)⟩⟩
    rw [zxR (by omega)]
    rcases (show k = 0 ∨ k = 1 ∨ k = 2 ∨ k = 3 ∨ k = 4 ∨ k = 5 ∨ k = 6 ∨ k = 7 ∨ k = 8 ∨ k = 9 ∨ k = 10 ∨ k = 11 ∨ k = 12 ∨ k = 13 ∨ k = 14 ∨ k = 15 ∨ k = 16 ∨ k = 17 ∨ k = 18 ∨ k = 19 ∨ k = 20 ∨ k = 21 ∨ k = 22 by omega) with rfl | rfl | rfl | rfl | rfl | rfl | rfl | rfl | rfl | rfl | rfl | rfl | rfl | rfl | rfl | rfl | rfl | rfl | rfl | rfl | rfl | rfl | rfl <;> rfl
  · refine ⟨by rw [zxK (by omega)]; rfl, by rw [zxN (by omega)]; rfl, by omega, fun k hk => ⟨?_, by first | omega | (dsimp only; omega)⟩⟩
    rw [zxR (by omega)]
    rcases (show k = 0 ∨ k = 1 ∨ k = 2 by omega) with rfl | rfl | rfl <;> rfl
  · refine ⟨by rw [zxK (by omega)]; rfl, by rw [zxN (by omega)]; rfl, by omega, fun k hk => ?_⟩
    rw [zxR (by omega)]
    rcases (show k = 0 ∨ k = 1 ∨ k = 2 ∨ k = 3 ∨ k = 4 by omega) with rfl | rfl | rfl | rfl | rfl <;> exact ⟨rfl, by decide⟩
  · refine ⟨by rw [zxK (by omega)]; rfl, by rw [zxN (by omega)]; rfl, by omega, fun k hk => ⟨?_, by first | omega | (dsimp only; omega)⟩⟩
    rw [zxR (by omega)]
    rcases (show k = 0 ∨ k = 1 ∨ k = 2 ∨ k = 3 by omega) with rfl | rfl | rfl | rfl <;> rfl
  · rw [zx (by omega)]; rfl
  · rw [zx (by omega)]; rfl
  · rw [zx (by omega)]; rfl
  · rw [zxR (by omega)]; rfl
  · rw [zxR (by omega)]; rfl
  · rw [zxR (by omega)]; rfl
  · rw [zxR (by omega)]; rfl
  · rw [zxR (by omega)]; rfl
  · rw [zxR (by omega)]; rfl
theorem z_Wor (hCK : CK m0) (hD : DTb m0) (hX : gX m0 + 66 < 900000) : Wor (zZ m0 s1 s2) (zZ m0 s1 s2) (gX m0) (gX m0 + 43) (gX m0 + 66) := by
  have gXZ : gX (zZ m0 s1 s2) = gX m0 + 66 := rfl
  have x0 : ∀ j, gI (zZ m0 s1 s2) (gX m0) j = xHF 0 j := fun j => zx (i := 0) (by omega)
  have y0 : ∀ j, gI (zZ m0 s1 s2) (gX m0 + 43) j = mHF 0 j := fun j => zy (i := 0) (by omega)
  have x0R : ∀ j, gR (zZ m0 s1 s2) (gX m0) j = xRF (gX m0) 0 j := fun j => zxR (i := 0) (by omega)
  have hk16 : ∀ i, i < 43 → ¬ (16 ≤ xkT i ∧ xkT i ≤ 21) := by decide
  have hZr : ∀ z, z = 14 → Zr (zZ m0 s1 s2) (gX m0 + z) (fun _ _ => 0) := fun z hz s k hk => by
    have := inr_lt hk
    rw [Nat.add_assoc, zx (by omega)]
    exact xHF_0 _ _ (by omega) (by omega)
  refine ⟨⟨gX m0 + 6, fun _ _ => 0, 0, 0, 0, fun _ => [], fun _ => [], fun _ _ => 0, 0, 0, ⟨z_Ob, z_RX hCK hX, z_St (Or.inl rfl), z_St (Or.inr rfl), fun i hi a ha => ?_, ⟨by omega, by omega, by rw [gXZ]; omega, by rw [gXZ]; omega⟩, fun c c1 c2 => ?_⟩, ?_, ⟨z_Bo, fun s k hk => ?_, GB_0, fun k hk => by omega, fun k hk => by omega, Or.inl rfl, by rw [gXZ]; omega⟩, hZr 14 rfl, GR_0, UnR_0 ?_ ?_, Or.inl ⟨?_, ?_⟩, Or.inl ⟨?_, ?_⟩, Or.inl ⟨?_, ?_⟩, z_Mo, fun k hk => ?_, fun j hj => by omega, fun j hj => by omega⟩, ⟨Tp_zero ?_ ?_, ?_, ⟨0, by omega, Or.inr ⟨rfl, ?_⟩, ?_, fun k hk => by omega⟩, ⟨?_, ?_⟩, ⟨0, by omega, Or.inr ⟨rfl, ?_⟩, ?_, fun k hk => by omega⟩, ⟨0, by omega, ?_, ?_, fun k hk => by omega⟩, ⟨?_, fun k hk => ?_⟩⟩, ?_⟩
  · rw [z_sl i hi] at ha; cases ha
  · obtain ⟨i, rfl⟩ : ∃ i, c = gX m0 + i := ⟨c - gX m0, by omega⟩
    rw [zxK (by omega)]; exact hk16 i (by omega)
  · rw [x0R]; rfl
  · have := inb_lt hk
    rw [Nat.add_assoc, zx (by omega)]
    exact xHF_0 _ _ (by omega) (by omega)
  · rw [x0]; rfl
  · rw [y0]; rfl
  · rw [x0R]; rfl
  · rw [zy (by omega)]; exact mHF_0 _ _ (by omega)
  · rw [zxR (by omega)]; rfl
  · rw [zy (by omega)]; exact mHF_0 _ _ (by omega)
  · rw [zxR (by omega)]; rfl
  · rw [zy (by omega)]; exact mHF_0 _ _ (by omega)
  · rw [zy (by omega), rw_0]; exact mHF_0 _ _ (by omega)
  · rw [x0]; rfl
  · rw [y0]; rfl
  · rw [x0, y0]; rfl
  · rw [x0]; rfl
  · rw [y0]; rfl
  · rw [x0, y0]; rfl
  · rw [x0, y0]; rfl
  · rw [x0]; rfl
  · rw [y0]; rfl
  · rw [x0]; rfl
  · rw [y0]; rfl
  · rw [x0, y0]; rfl
  · rw [zx (by omega), zy (by omega), xHF_0 _ _ (by omega) (by omega), mHF_0 _ _ (by omega)]
  · obtain ⟨d1, d2, d3, d4, d5⟩ := hD
    have eo : ∀ c, 1000000 ≤ c → gK (zZ m0 s1 s2) c = gK m0 c ∧ gN (zZ m0 s1 s2) c = gN m0 c ∧ (∀ j, gI (zZ m0 s1 s2) c j = gI m0 c j) := fun c hc => by
      have a := zZ_P (m0 := m0) (s1 := s1) (s2 := s2) (c := c) (by omega)
      have b := im_o (M := m0) (x := gX m0) (k := 43) (KT := xkT) (NT := xnT) (rf := xRF (gX m0)) (h := xHF) (s := s1) (c := c) (by omega)
      exact ⟨a.1.trans b.1, a.2.1.trans b.2.1, fun j => (a.2.2.2.2 j).trans (b.2.2.2.2 j)⟩
    have e0 := eo 1900000 (by omega)
    have e1 := eo 1900001 (by omega)
    exact ⟨e0.1.trans d1, e0.2.1.trans d2, e1.1.trans d3, e1.2.1.trans d4, fun k hk => ⟨(e0.2.2 k).trans (d5 k hk).1, (e1.2.2 k).trans (d5 k hk).2⟩⟩
end STA
