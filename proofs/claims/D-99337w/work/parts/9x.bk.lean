/-! BOOKS: what they stand on -/
/-- the model's lines: their number (44), their row -/
def blM (mm : PM) (y : Nat) (l : Int32) (g : Nat → Int32) : PM := (fun c j => if c = y ∧ j = 44 then l else if c = y + 19 then g j else mm.1 c j, mm.2)
section BL
variable {mm : PM} {y : Nat} {l : Int32} {g : Nat → Int32}
theorem gK_blM (c : Nat) : gK (blM mm y l g) c = gK mm c := rfl
theorem gN_blM (c : Nat) : gN (blM mm y l g) c = gN mm c := rfl
theorem gR_blM (c j : Nat) : gR (blM mm y l g) c j = gR mm c j := rfl
theorem gJ_blM (c j : Nat) : gJ (blM mm y l g) c j = gJ mm c j := rfl
theorem gX_blM : gX (blM mm y l g) = gX mm := rfl
theorem gS_blM : gS (blM mm y l g) = gS mm := rfl
theorem bl_g : gI (blM mm y l g) y 44 = l := if_pos ⟨rfl, rfl⟩
theorem bl_r {j : Nat} : gI (blM mm y l g) (y + 19) j = g j := by
  show (if y + 19 = y ∧ j = 44 then l else if y + 19 = y + 19 then g j else mm.1 (y + 19) j) = _
  rw [if_neg (by omega), if_pos rfl]
theorem bl_o {c j : Nat} (h1 : ¬ (c = y ∧ j = 44)) (h2 : c ≠ y + 19) : gI (blM mm y l g) c j = gI mm c j := by
  show (if c = y ∧ j = 44 then l else if c = y + 19 then g j else mm.1 c j) = _
  rw [if_neg h1, if_neg h2]; rfl
theorem bl_s {v : Int32} : sI (blM mm y l g) y 44 v = blM mm y v g := by
  refine Prod.ext ?_ rfl
  funext c i
  show (if c = y ∧ i = 44 then v else if c = y ∧ i = 44 then l else _) = (if c = y ∧ i = 44 then v else _)
  by_cases h1 : c = y ∧ i = 44
  · rw [if_pos h1, if_pos h1]
  · rw [if_neg h1, if_neg h1, if_neg h1]
theorem bl_sr {j : Nat} {v : Int32} : sI (blM mm y l g) (y + 19) j v = blM mm y l (u1 g j v) := by
  refine Prod.ext ?_ rfl
  funext c i
  show (if c = y + 19 ∧ i = j then v else if c = y ∧ i = 44 then l else if c = y + 19 then g i else mm.1 c i) = if c = y ∧ i = 44 then l else if c = y + 19 then (if i = j then v else g i) else mm.1 c i
  by_cases h1 : c = y + 19 ∧ i = j
  · rw [if_pos h1, if_neg (by omega), if_pos h1.1, if_pos h1.2]
  · rw [if_neg h1]
    by_cases h2 : c = y ∧ i = 44
    · rw [if_pos h2, if_pos h2]
    · rw [if_neg h2, if_neg h2]
      by_cases h3 : c = y + 19
      · rw [if_pos h3, if_pos h3, if_neg (fun z => h1 ⟨h3, z⟩)]
      · rw [if_neg h3, if_neg h3]
theorem Mdr_bl {n lim : Nat} {T : Nat → Nat} (hM : Mdr mm y n lim T) : Mdr (blM mm y l g) y n lim T := by
  obtain ⟨hMo, h3, h4, hlim, hn, hT, hT2⟩ := hM
  refine ⟨hMo, ?_, ?_, hlim, hn, fun k hk => ?_, hT2⟩
  · rw [bl_o (by omega) (by omega)]; exact h3
  · rw [bl_o (by omega) (by omega)]; exact h4
  · rw [bl_o (by omega) (by omega)]; exact hT k hk
theorem bl_self (mm : PM) (y : Nat) : blM mm y (gI mm y 44) (gI mm (y + 19)) = mm := by
  obtain ⟨A, q⟩ := mm
  refine Prod.ext ?_ rfl
  funext c j
  show (if c = y ∧ j = 44 then A y 44 else if c = y + 19 then A (y + 19) j else A c j) = A c j
  split
  · rename_i h; rw [h.1, h.2]
  · split
    · rename_i h; rw [h]
    · rfl
end BL
/-! numbers and ends over any memories -/
section GS
variable {m mb : PM} {q x y n lim s : Nat} {T : Nat → Nat} {v nn : Int32} {w w2 : Int64} {f : Nat → Int32}
theorem gnum_sim {lo hi : Nat} (hh : hi < 1000) (hlo : lo < 1000) (h : RE m q x n lim T) (hM : Mdr mb y n lim T) (hC : CT T n lim s v nn w) (hm : MT T n lim s f w2) (hs : s ≤ n) : (∃ (V s' : Nat) (v' nn' : Int32) (w' : Int64) (f' : Nat → Int32) (w2' : Int64), lo ≤ V ∧ V ≤ hi ∧ s < s' ∧ s' ≤ n ∧ CT T n lim s' v' nn' w' ∧ MT T n lim s' f' w2' ∧ f' 13 = nI V ∧ Run 9 101 [.ref q, .int (nI lo), .int (nI hi)] (rdM (m) q (nI (nxP T n lim (s))) (nI (nxA n lim (s))) (nI (nxT T n lim (s))) v nn w) ((0, some (.int (nI V))), (rdM (m) q (nI (nxP T n lim (s'))) (nI (nxA n lim (s'))) (nI (nxT T n lim (s'))) v' nn' w')) ∧ Run 5 142 [.ref y, .int (nI lo), .int (nI hi)] (mdM mb y f w2) ((0, some (.int (nI 1))), mdM mb y f' w2')) ∨ (∃ k pl, Run 9 101 [.ref q, .int (nI lo), .int (nI hi)] (rdM (m) q (nI (nxP T n lim (s))) (nI (nxA n lim (s))) (nI (nxT T n lim (s))) v nn w) ((1, some (.ref (x + 2))), ftM (rdM (m) q (nI (nxP T n lim (s))) (nI (nxA n lim (s))) (nI (nxT T n lim (s))) v nn w) x (nI k) (nI pl)) ∧ Run 5 142 [.ref y, .int (nI lo), .int (nI hi)] (mdM mb y f w2) ((0, some (.int (nI 0))), mdM mb y (u1 (u1 f 10 (nI k)) 11 (nI pl)) w2)) := by
  obtain ⟨hR, hTb, hCK, hz1, hz2, hz3, hl, hlim, hf, hbX⟩ := h
  by_cases c1 : nxT T n lim s = 2
  · by_cases c2 : lo ≤ nV T n s ∧ nV T n s ≤ hi
    · obtain ⟨v', nn', w', k1, k2⟩ := c_nuY hR hl hlim hs hC c1 c2 hh
      obtain ⟨f', w2', j1, j2, -, j3⟩ := q_nuY hM hm hs c1 c2 hh
      have hlt := nxS_lt (Or.inr (Or.inl c1))
      exact Or.inl ⟨_, _, v', nn', w', f', w2', c2.1, c2.2, hlt.1, hlt.2, k1, j1, j2, k2, j3⟩
    · exact Or.inr ⟨2, _, c_nu2 hR hf hC c1 c2 hh hlo, q_nu2 hM.1 hm c1 c2 hh hlo⟩
  · exact Or.inr ⟨1, _, c_nu1 hR hf c1, q_nu1 hM.1 hm c1⟩
theorem gend_sim (h : RE m q x n lim T) (hM : Mdr mb y n lim T) (hC : CT T n lim s v nn w) (hm : MT T n lim s f w2) (hs : s ≤ n) : (∃ (s' : Nat) (v' nn' : Int32) (w' : Int64) (f' : Nat → Int32) (w2' : Int64), s < s' ∧ s' ≤ n ∧ CT T n lim s' v' nn' w' ∧ MT T n lim s' f' w2' ∧ Run 9 104 [.ref q, .int (nI 59)] (rdM (m) q (nI (nxP T n lim (s))) (nI (nxA n lim (s))) (nI (nxT T n lim (s))) v nn w) ((0, none), (rdM (m) q (nI (nxP T n lim (s'))) (nI (nxA n lim (s'))) (nI (nxT T n lim (s'))) v' nn' w')) ∧ Run 5 150 [.ref y] (mdM mb y f w2) ((0, some (.int (nI 1))), mdM mb y f' w2')) ∨ (∃ k pl, Run 9 104 [.ref q, .int (nI 59)] (rdM (m) q (nI (nxP T n lim (s))) (nI (nxA n lim (s))) (nI (nxT T n lim (s))) v nn w) ((1, some (.ref (x + 2))), ftM (rdM (m) q (nI (nxP T n lim (s))) (nI (nxA n lim (s))) (nI (nxT T n lim (s))) v nn w) x (nI k) (nI pl)) ∧ Run 5 150 [.ref y] (mdM mb y f w2) ((0, some (.int (nI 0))), mdM mb y (u1 (u1 f 10 (nI k)) 11 (nI pl)) w2)) := by
  obtain ⟨hR, hTb, hCK, hz1, hz2, hz3, hl, hlim, hf, hbX⟩ := h
  by_cases c1 : nxT T n lim s = 3 ∧ T s = 59
  · obtain ⟨v', nn', w', k1, k2⟩ := c_sgY hR hl hlim hs hC c1.1 c1.2 (by omega)
    obtain ⟨f', w2', j1, -, j3⟩ := q_enY hM hm hs c1
    have hlt := nxS_lt (Or.inr (Or.inr c1.1))
    exact Or.inl ⟨_, v', nn', w', f', w2', hlt.1, hlt.2, k1, j1, k2, j3⟩
  · exact Or.inr ⟨1, _, c_sgN hR hf hC c1 (by omega), q_enN hM.1 hM.2.2.2.2.2.2 hm c1⟩
end GS
/-- the class while a book is read -/
def BE (m : PM) (q x b n : Nat) (T : Nat → Nat) (NP ND : Nat → List Nat) (np nd : Nat) : Prop := RE m q x n 400 T ∧ (gK m q = 6 ∧ q = x + 27) ∧ gR m x 7 = some b ∧ Bo m b ∧ (gI m b 7 = nI np ∧ gI m b 8 = nI nd ∧ np ≤ 7 ∧ nd ≤ 6) ∧ (∀ k, k < np → gJ m (b + 1) k = n256 (NP k) ∧ isW (NP k)) ∧ (∀ k, k < nd → gJ m (b + 2) k = n256 (ND k) ∧ isW (ND k)) ∧ gR m q 10 = some x ∧ b + 7 < gX m ∧ (b + 7 < x + 27 ∨ x + 28 < b)
/-- what stays: the row of lines apart -/
def BF (m m' : PM) (q x : Nat) : Prop := gX m ≤ gX m' ∧ (∀ c, c < gX m ∨ 1000000 ≤ c → gK m' c = gK m c ∧ gN m' c = gN m c ∧ (c ≠ x + 28 → ∀ j, gR m' c j = gR m c j) ∧ (c ≠ q → ∀ j, gJ m' c j = gJ m c j) ∧ (c ≠ q → ∀ j, gI m' c j = gI m c j)) ∧ gI m' q 0 = gI m q 0
theorem BF_SF {m m' : PM} {q x : Nat} (h : SF m m' q) : BF m m' q x := ⟨h.1, fun c hc => ⟨(h.2.1 c hc).1, (h.2.1 c hc).2.1, fun _ => (h.2.1 c hc).2.2.1, (h.2.1 c hc).2.2.2.1, (h.2.1 c hc).2.2.2.2⟩, h.2.2⟩
theorem BF_tr {m m1 m2 : PM} {q x : Nat} (h : BF m m1 q x) (h' : BF m1 m2 q x) : BF m m2 q x := by
  obtain ⟨a1, a2, a3⟩ := h
  obtain ⟨b1, b2, b3⟩ := h'
  refine ⟨by omega, fun c hc => ?_, b3.trans a3⟩
  obtain ⟨c1, c2, c3, c4, c5⟩ := a2 c hc
  obtain ⟨d1, d2, d3, d4, d5⟩ := b2 c (by omega)
  exact ⟨d1.trans c1, d2.trans c2, fun e j => (d3 e j).trans (c3 e j), fun e j => (d4 e j).trans (c4 e j), fun e j => (d5 e j).trans (c5 e j)⟩
theorem BF_row {m : PM} {q x k : Nat} {v : Option Nat} : BF m (sR m (x + 28) k v) q x := ⟨Nat.le_refl _, fun c _ => ⟨rfl, rfl, fun e j => if_neg (fun z => e z.1), fun _ _ => rfl, fun _ _ => rfl⟩, rfl⟩
theorem BE_BF {m m' : PM} {q x b n : Nat} {T : Nat → Nat} {NP ND : Nat → List Nat} {np nd : Nat} (h : BE m q x b n T NP ND np nd) (hS : BF m m' q x) (hX : gX m' < 1000000) : BE m' q x b n T NP ND np nd := by
  obtain ⟨h1, ⟨h2, h3⟩, h4, h5, ⟨h6, h7, h8, h9⟩, h10, h11, h14, h15, h16⟩ := h
  obtain ⟨s1, s2, s3⟩ := hS
  have hX0 := h1.2.2.2.2.2.2.2.2.2
  have hxq : x ≠ q ∧ x + 1 ≠ q := by omega
  refine ⟨RE_cg h1 ⟨s1, hX⟩ (fun c hc => (s2 c hc).1) (fun c hc => (s2 c hc).2.1) (fun c j hc e => (s2 c hc).2.2.1 e j) (fun j => (s2 x (Or.inl (by omega))).2.2.2.2 hxq.1 j) (fun j => (s2 (x + 1) (Or.inl (by omega))).2.2.2.2 hxq.2 j) s3 (fun c j hc => (s2 c (Or.inr hc)).2.2.2.2 (by omega) j), ⟨((s2 q (Or.inl (by omega))).1).trans h2, h3⟩, ((s2 x (Or.inl (by omega))).2.2.1 (by omega) 7).trans h4, ?_, ⟨((s2 b (Or.inl (by omega))).2.2.2.2 (by omega) 7).trans h6, ((s2 b (Or.inl (by omega))).2.2.2.2 (by omega) 8).trans h7, h8, h9⟩, fun k hk => ⟨((s2 (b + 1) (Or.inl (by omega))).2.2.2.1 (by omega) k).trans (h10 k hk).1, (h10 k hk).2⟩, fun k hk => ⟨((s2 (b + 2) (Or.inl (by omega))).2.2.2.1 (by omega) k).trans (h11 k hk).1, (h11 k hk).2⟩, ((s2 q (Or.inl (by omega))).2.2.1 (by omega) 10).trans h14, by omega, h16⟩
  have eK : ∀ c, c < gX m → gK m' c = gK m c := fun c hc => (s2 c (Or.inl hc)).1
  have eN : ∀ c, c < gX m → gN m' c = gN m c := fun c hc => (s2 c (Or.inl hc)).2.1
  have eR : ∀ c j, c < gX m → c ≠ x + 28 → gR m' c j = gR m c j := fun c j hc e => (s2 c (Or.inl hc)).2.2.1 e j
  unfold Bo at h5 ⊢
  simp (disch := omega) only [eK, eN, eR]
  exact h5
/-- a line as an object, as four numbers -/
def LnR (m : PM) (a : Nat) (g : Nat → Int32) (k np nd : Nat) : Prop := a < gX m ∧ ((gK m a = 9 ∧ ∃ n, 1 ≤ n ∧ n ≤ 60 ∧ gI m a 0 = nI n ∧ g (4 * k) = nI 6 ∧ g (4 * k + 3) = nI n) ∨ (∃ i p d n, i < 2 ∧ gK m a = 10 + i ∧ p < np ∧ d < nd ∧ 1 ≤ n ∧ n ≤ 20 * (i + 1) ∧ gI m a 0 = nI p ∧ gI m a 1 = nI d ∧ gI m a 2 = nI n ∧ g (4 * k) = nI i ∧ g (4 * k + 1) = nI p ∧ g (4 * k + 2) = nI d ∧ g (4 * k + 3) = nI n) ∨ (∃ i p, i < 4 ∧ gK m a = 12 + i ∧ p < np ∧ gI m a 0 = nI p ∧ g (4 * k) = nI (2 + i) ∧ g (4 * k + 1) = nI p ∧ g (4 * k + 2) = nI 0))
theorem LnR_BF {m m' : PM} {q x a k np nd : Nat} {g g' : Nat → Int32} (hS : BF m m' q x) (hq : gK m q = 6) (hg : ∀ j, j < 4 * k + 4 → g' j = g j) (h : LnR m a g k np nd) : LnR m' a g' k np nd := by
  obtain ⟨ha, h⟩ := h
  obtain ⟨s1, s2, s3⟩ := hS
  obtain ⟨eK, eN, eR, eJ, eI⟩ := s2 a (Or.inl ha)
  have hne : a ≠ q := fun z => by
    subst z
    rcases h with ⟨h1, -⟩ | ⟨i, p, d, n, h1, h2, -⟩ | ⟨i, p, h1, h2, -⟩ <;> omega
  have eI := eI hne
  refine ⟨by omega, ?_⟩
  rw [eK, eI, eI, eI, hg (4 * k) (by omega), hg (4 * k + 1) (by omega), hg (4 * k + 2) (by omega), hg (4 * k + 3) (by omega)]
  exact h
