/-! SENTENCES: read, in both -/
section KR
variable {mm : PM} {q x b y n : Nat} {T : Nat → Nat} {NP ND : Nat → List Nat} {np nd : Nat}
theorem no_1 {m : PM} {s : Nat} {v nn : Int32} {w w2 : Int64} {f h g : Nat → Int32} {on deep DD DE : Nat} (hE : SE m q x b n T NP ND np nd) (hM : Mdr mm y n 200 T) (hC : CT T n 200 s v nn w) (hm : MT T n 200 s f w2) (hw : TW T n 200 s 10) (ho : ¬ (nxT T n 200 s = 3 ∧ T s = 40)) (hD : 20 ≤ DD) (hD2 : 10 ≤ DE) : SNo x q y n T mm (DD + 1) 119 [.ref q, .int (nI deep)] (DE + 1) 228 m s v nn w f w2 h g on := by
  refine ft_no (m' := m) (p := nI (nxP T n 200 s)) (a := nI (nxA n 200 s)) (t := nI (nxT T n 200 s)) (v' := v) (nn' := nn) (w' := w) (k := 1) (pl := nxA n 200 s) (f' := f) (w2' := w2) (h' := h) (g' := g) SF_rf (by omega) (by omega) ?_ ?_
  · rw [wX8_single (by omega) rfl, Nat.add_sub_cancel, show enT [Value.ref q, Value.int (nI deep)] 8 = [some (.ref q), some (.int (nI deep)), none, none, none, none, none, none] from rfl, Ev_unf]
    exact (sg_f1 hE hC hw ho hD).mpr rfl
  · rw [wX9_readSaid (by omega) rfl, Nat.add_sub_cancel, show enT [Value.ref y] 4 = [some (.ref y), none, none, none] from rfl, Ev_unf]
    have e := rs_30 (h := h) (g := g) (r := ((0, some (.int (nI 0))), mdM (ndM mm y h g) y (u1 (u1 f 10 (nI 1)) 11 (nI (nxA n 200 s))) w2)) hM hm hw (show 5 ≤ DE by omega)
    rw [decide_eq_false ho] at e
    exact (e.trans (rs_f1 hM hm (by omega))).mpr rfl
theorem no_4 {m : PM} {s : Nat} {v nn : Int32} {w w2 : Int64} {f h g : Nat → Int32} {on deep wi tw DD DE : Nat} (hE : SE m q x b n T NP ND np nd) (hM : Mdr mm y n 200 T) (hC : CT T n 200 s v nn w) (hm : MT T n 200 s f w2) (hw : TW T n 200 s tw) (ho : tw < 10 ∨ (nxT T n 200 s = 3 ∧ T s = 40)) (hon : gI m q 10 = nI on) (hb : on ≤ 20) (h48 : h 48 = nI on) (h49 : h 49 = nI wi) (hwi : wi ≤ 8) (hdp : deep = wi + 1) (hf : on = 20 ∨ wi = 8) (hD : 20 ≤ DD) (hD2 : 10 ≤ DE) : SNo x q y n T mm (DD + 1) 119 [.ref q, .int (nI deep)] (DE + 1) 228 m s v nn w f w2 h g on := by
  have h4 : ¬ nxT T n 200 s = 4 := by
    rcases ho with z | z
    · have := TW_1 hw z; omega
    · omega
  refine ft_no (m' := m) (p := nI (nxP T n 200 s)) (a := nI (nxA n 200 s)) (t := nI (nxT T n 200 s)) (v' := v) (nn' := nn) (w' := w) (k := 4) (pl := nxA n 200 s) (f' := f) (w2' := w2) (h' := h) (g' := g) SF_rf (by omega) (by omega) ?_ ?_
  · rw [wX8_single (by omega) rfl, Nat.add_sub_cancel, show enT [Value.ref q, Value.int (nI deep)] 8 = [some (.ref q), some (.int (nI deep)), none, none, none, none, none, none] from rfl, Ev_unf]
    exact ((sg_64 hE hC hw ho hD).trans (sg_f4 hE hon hb (by omega) (by omega) hD)).mpr rfl
  · rw [wX9_readSaid (by omega) rfl, Nat.add_sub_cancel, show enT [Value.ref y] 4 = [some (.ref y), none, none, none] from rfl, Ev_unf]
    refine ((rs_30 hM hm hw (by omega)).trans ((rs_46 hM hw.1 ?_ (by omega)).trans (rs_f4 hM hm h4 h48 h49 hb hwi hf (by omega)))).mpr rfl
    exact ho.elim Or.inl (fun z => Or.inr (decide_eq_true z))
/-- every single one, by how deep it may go on -/
theorem single_sim (hM : Mdr mm y n 200 T) (hnP : NaM mm (y + 7) 0 np NP) (hnD : NaM mm (y + 7) 7 nd ND) (hn0 : gI mm (y + 2) 0 = nI np) (hn1 : gI mm (y + 2) 1 = nI nd) : ∀ δ, δ ≤ 8 → Sim1 x q b y n T NP ND np nd mm (30 + 8 * δ) 119 (20 + 8 * δ) 228 (9 - δ) (8 - δ) := by
  intro δ
  induction δ with
  | zero =>
    intro _ m s v nn w f w2 h g nodes on hE hC hm hs hon hb h47 hno h48 h49 hX
    obtain ⟨tw, hw⟩ := tw_ex (T := T) (n := n) (lim := 200) (s := s)
    by_cases co : tw < 10 ∨ (nxT T n 200 s = 3 ∧ T s = 40)
    · exact Or.inr (no_4 (DD := 29) (DE := 19) hE hM hC hm hw co hon hb h48 h49 (by omega) (by omega) (Or.inr rfl) (by omega) (by omega))
    · have e : tw = 10 := by have := hw.1; omega
      subst e
      exact Or.inr (no_1 (DD := 29) (DE := 19) hE hM hC hm hw (fun z => co (Or.inr z)) (by omega) (by omega))
  | succ δ ih =>
    intro hδ m s v nn w f w2 h g nodes on hE hC hm hs hon hb h47 hno h48 h49 hX
    have hS := ih (by omega)
    have hA := any_sim hM (both_sim hM hS (by omega) (by omega)) (by omega) (by omega)
    have e1 : 9 - δ = (9 - (δ + 1)) + 1 := by omega
    have e2 : 8 - δ = (8 - (δ + 1)) + 1 := by omega
    rw [e1, e2] at hS hA
    rw [show 30 + 8 * (δ + 1) = (37 + 8 * δ) + 1 by omega, show 20 + 8 * (δ + 1) = (27 + 8 * δ) + 1 by omega]
    obtain ⟨tw, hw⟩ := tw_ex (T := T) (n := n) (lim := 200) (s := s)
    have hw1 := hw.1
    by_cases co : tw < 10 ∨ (nxT T n 200 s = 3 ∧ T s = 40)
    · by_cases c20 : on = 20
      · exact Or.inr (no_4 (DD := 37 + 8 * δ) (DE := 27 + 8 * δ) hE hM hC hm hw co hon hb h48 h49 (by omega) (by omega) (Or.inl c20) (by omega) (by omega))
      · by_cases t0 : tw = 0
        · exact leaf_n (DD := 37 + 8 * δ) (DE := 27 + 8 * δ) t0 hE hM hC hm hs hw hon h47 hno h48 h49 (by omega) (by omega) (by omega) hX (by omega) (by omega) hS (by omega) (by omega)
        · by_cases t3 : tw ≤ 3
          · exact Or.inl (leaf_m (DD := 37 + 8 * δ) (DE := 27 + 8 * δ) ⟨by omega, t3⟩ hE hM hC hm hs hw hon h47 hno h48 h49 (by omega) (by omega) (by omega) hX (by omega) (by omega))
          · by_cases t5 : tw ≤ 5
            · exact leaf_o (DD := 37 + 8 * δ) (DE := 27 + 8 * δ) (by omega) hE hM hC hm hs hw hon h47 hno h48 h49 (by omega) (by omega) (by omega) hX (by omega) (by omega) hnP hnD hn0 hn1
            · by_cases t9 : tw ≤ 9
              · exact leaf_c (DD := 37 + 8 * δ) (DE := 27 + 8 * δ) ⟨by omega, t9⟩ hE hM hC hm hs hw hon h47 hno h48 h49 (by omega) (by omega) (by omega) hX (by omega) (by omega)
              · exact leaf_b (DD := 37 + 8 * δ) (DE := 27 + 8 * δ) (by omega) (co.resolve_left (by omega)) hE hM hC hm hs hw hon h47 hno h48 h49 (by omega) (by omega) (by omega) hX (by omega) (by omega) hA (by omega) (by omega)
    · have e : tw = 10 := by omega
      subst e
      exact Or.inr (no_1 (DD := 37 + 8 * δ) (DE := 27 + 8 * δ) hE hM hC hm hw (fun z => co (Or.inr z)) (by omega) (by omega))
theorem any1_sim (hM : Mdr mm y n 200 T) (hnP : NaM mm (y + 7) 0 np NP) (hnD : NaM mm (y + 7) 7 nd ND) (hn0 : gI mm (y + 2) 0 = nI np) (hn1 : gI mm (y + 2) 1 = nI nd) : Sim1 x q b y n T NP ND np nd mm 98 117 88 226 1 0 := any_sim hM (both_sim hM (single_sim hM hnP hnD hn0 hn1 8 (by omega)) (by omega) (by omega)) (by omega) (by omega)
end KR
