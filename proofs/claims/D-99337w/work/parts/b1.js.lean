/-! THE WORLD: class and model in one memory; a step of both -/
section JS
variable {m mm m' mm' : PM} {x y lo b : Nat} {B : Rw} {np nd lw : Nat} {NP ND : Nat → List Nat} {R : Rw} {t u i1 i2 : Nat} {args : List Value}
/-- the model's cells are the same -/
def MA (mm mm' : PM) (y : Nat) : Prop := ∀ c, y ≤ c → c ≤ y + 21 → gK mm' c = gK mm c ∧ gN mm' c = gN mm c ∧ (∀ j, gR mm' c j = gR mm c j) ∧ (∀ j, gJ mm' c j = gJ mm c j) ∧ (∀ j, gI mm' c j = gI mm c j)
theorem Mo_MA (h : MA mm mm' y) (hM : Mo mm y) : Mo mm' y := by
  have k : ∀ s, s ≤ 21 → gK mm' (y + s) = gK mm (y + s) := fun s hs => (h _ (by omega) (by omega)).1
  have n : ∀ s, s ≤ 21 → gN mm' (y + s) = gN mm (y + s) := fun s hs => (h _ (by omega) (by omega)).2.1
  have k0 : gK mm' y = gK mm y := k 0 (by omega)
  have r : ∀ j, gR mm' y j = gR mm y j := fun j => (h y (by omega) (by omega)).2.2.1 j
  unfold Mo at hM ⊢
  simp (disch := omega) only [k0, k, n, r]
  exact hM
theorem Mo_kind (hM : Mo mm y) {c : Nat} (h1 : y ≤ c) (h2 : c ≤ y + 21) : ¬ (16 ≤ gK mm c ∧ gK mm c ≤ 21) := by
  obtain ⟨i, rfl⟩ : ∃ i, c = y + i := ⟨c - y, by omega⟩
  rcases (show i = 0 ∨ i = 1 ∨ i = 2 ∨ i = 3 ∨ i = 4 ∨ i = 5 ∨ i = 6 ∨ i = 7 ∨ i = 8 ∨ i = 9 ∨ i = 10 ∨ i = 11 ∨ i = 12 ∨ i = 13 ∨ i = 14 ∨ i = 15 ∨ i = 16 ∨ i = 17 ∨ i = 18 ∨ i = 19 ∨ i = 20 ∨ i = 21 by omega) with rfl | rfl | rfl | rfl | rfl | rfl | rfl | rfl | rfl | rfl | rfl | rfl | rfl | rfl | rfl | rfl | rfl | rfl | rfl | rfl | rfl | rfl
  · have := Mo_K0 hM; rw [Nat.add_zero]; omega
  · have := Mo_K1 hM; omega
  · have := Mo_K2 hM; omega
  · have := Mo_K3 hM; omega
  · have := Mo_K4 hM; omega
  · have := Mo_K5 hM; omega
  · have := Mo_K6 hM; omega
  · have := Mo_K7 hM; omega
  · have := Mo_K8 hM; omega
  · have := Mo_K9 hM; omega
  · have := Mo_K10 hM; omega
  · have := Mo_K11 hM; omega
  · have := Mo_K12 hM; omega
  · have := Mo_K13 hM; omega
  · have := Mo_K14 hM; omega
  · have := Mo_K15 hM; omega
  · have := Mo_K16 hM; omega
  · have := Mo_K17 hM; omega
  · have := Mo_K18 hM; omega
  · have := Mo_K19 hM; omega
  · have := Mo_K20 hM; omega
  · have := Mo_K21 hM; omega
theorem Cor_MA (h : Cor m mm x y lo b B np nd lw NP ND R t u) (e : MA mm mm' y) : Cor m mm' x y lo b B np nd lw NP ND R t u := by
  obtain ⟨s, h7, hBd, hZ, hG, hU, hS, hI0, hI1, hM, hYr, hn1, hn2⟩ := h
  have eI : ∀ i j, i ≤ 21 → gI mm' (y + i) j = gI mm (y + i) j := fun i j hi => (e _ (by omega) (by omega)).2.2.2.2 j
  have eI0 : ∀ j, gI mm' y j = gI mm y j := fun j => eI 0 j (by omega)
  have eJ : ∀ i j, i ≤ 21 → gJ mm' (y + i) j = gJ mm (y + i) j := fun i j hi => (e _ (by omega) (by omega)).2.2.2.1 j
  have hIm : ∀ k, ImR m mm x y lo k → ImR m mm' x y lo k := fun k h => by
    rcases h with ⟨h1, h2⟩ | ⟨kc, b, B, np, nd, lw, NP, ND, R, t, a1, b1, b2, b3, b4, b5, b6, b7, b8⟩
    · exact Or.inl ⟨h1, (eI 10 _ (by omega)).trans h2⟩
    · exact Or.inr ⟨kc, b, B, np, nd, lw, NP, ND, R, t, a1, b1, b2, b3, (eI 10 _ (by omega)).trans b4, fun j hj => (eI 4 _ (by omega)).trans (b5 j hj), fun j hj => (eJ 9 _ (by omega)).trans (b6 j hj), fun j hj => (eJ 9 _ (by omega)).trans (b7 j hj), SeR_same b8 (fun _ _ _ _ h => h) (fun j _ _ => eI 4 _ (by omega))⟩
  exact ⟨s, h7, hBd, hZ, hG, ⟨hU.1, hU.2.1, (eI0 23).trans hU.2.2.1, fun i hi => (hU.2.2.2 i hi).elim fun a h => h.elim fun Q h => h.elim fun t2 h => ⟨a, Q, t2, h.1, h.2.1, h.2.2.1, fun k hk => (eI 5 _ (by omega)).trans (h.2.2.2 k hk)⟩⟩, SeR_same hS (fun _ _ _ _ h => h) (fun j _ _ => eI 2 _ (by omega)), hIm 0 hI0, hIm 1 hI1, Mo_MA e hM, fun k hk => (eI 2 _ (by omega)).trans (hYr k hk), fun j hj => (eJ 7 _ (by omega)).trans (hn1 j hj), fun j hj => (eJ 7 _ (by omega)).trans (hn2 j hj)⟩
theorem Mis_MA (h : Mis m mm x y) (e : MA mm mm' y) : Mis m mm' x y := Mis_same h (fun _ _ => rfl) (fun _ _ _ => rfl) (fun j _ => (e y (by omega) (by omega)).2.2.2.2 j) (fun i j hi => by unfold mmr at hi; exact (e _ (by omega) (by omega)).2.2.2.2 j)
theorem Wor_MA (h : Wor m mm x y lo) (e : MA mm mm' y) : Wor m mm' x y lo := by
  obtain ⟨⟨b, B, np, nd, lw, NP, ND, R, t, u, hC⟩, hM, hD⟩ := h
  exact ⟨⟨b, B, np, nd, lw, NP, ND, R, t, u, Cor_MA hC e⟩, Mis_MA hM e, hD⟩
/-- all but the model's cells is the same -/
theorem Wor_CA (h : Wor m mm x y lo) (hMo : Mo m y) (e : FM m m' y) : Wor m' mm x y lo := by
  obtain ⟨⟨b, B, np, nd, lw, NP, ND, R, t, u, hC⟩, hM, hD⟩ := h
  obtain ⟨s, h7, hBd, hZ, hG, hU, hS, hI0, hI1, hM2, hYr, hn1, hn2⟩ := hC
  obtain ⟨s1, s2, s3, s4, s5, s6, s7⟩ := id s
  obtain ⟨e1, e2⟩ := e
  have eK : ∀ c, gK m' c = gK m c := fun c => by show m'.2.2.2.1 c = m.2.2.2.1 c; rw [e1]
  have eN : ∀ c, gN m' c = gN m c := fun c => by show m'.2.2.2.2.1 c = m.2.2.2.2.1 c; rw [e1]
  have eR : ∀ c j, gR m' c j = gR m c j := fun c j => by show m'.2.2.1 c j = m.2.2.1 c j; rw [e1]
  have eX : gX m' = gX m := by show m'.2.2.2.2.2.1 = m.2.2.2.2.2.1; rw [e1]
  have eI : ∀ c j, c < y ∨ y + 21 < c → gI m' c j = gI m c j := fun c j hc => (e2 c hc).2 j
  have eJ : ∀ c j, c < y ∨ y + 21 < c → gJ m' c j = gJ m c j := fun c j hc => (e2 c hc).1 j
  have hK : KF m m' x lo := by
    refine ⟨by omega, fun c _ => ⟨eK c, eN c⟩, fun z hz _ _ => ⟨fun j => eR z j, fun s k hs => eI _ _ (by omega), fun s j _ _ => eJ _ _ (by omega)⟩, fun c hc k1 k2 => ⟨fun j => eR c j, fun j => eI c j ?_⟩, fun j => eR _ j⟩
    by_cases q : c < y ∨ y + 21 < c
    · exact q
    · exact absurd ⟨k1, k2⟩ (Mo_kind hMo (by omega) (by omega))
  have hIm : ∀ k kc Q, gR m (x + 42) k = some kc → lo ≤ kc → kc + 6 < gX m → Zr m (kc + 1) Q → Zr m' (kc + 1) Q := fun k kc Q _ h1 _ h3 => Zr_same h3 fun s k hs _ => eI _ _ (by omega)
  refine ⟨⟨b, B, np, nd, lw, NP, ND, R, t, u, ⟨?_, ?_, ?_, ?_, ?_, ⟨s6.1, s6.2.1, by omega, by omega⟩, fun c c1 c2 => by rw [eK]; exact s7 c c1 c2⟩, (eR _ _).trans h7, KF_Bd hK hBd, Zr_same hZ (fun s k hs _ => eI _ _ (by omega)), hG, ⟨(eI _ _ (by omega)).trans hU.1, hU.2.1, hU.2.2.1, fun i hi => ?_⟩, ?_, KF_Im hK (hIm 0) (fun _ => rfl) rfl (fun _ => rfl) hI0, KF_Im hK (hIm 1) (fun _ => rfl) rfl (fun _ => rfl) hI1, hM2, hYr, hn1, hn2⟩, Mis_same hM (fun j hj => eI _ _ (by omega)) (fun i j hi => by unfold mcr at hi; exact eI _ _ (by omega)) (fun _ _ => rfl) (fun _ _ _ => rfl), ?_⟩
  · exact Ob_cg s1 (fun c _ => eK c) (fun c _ => eN c) (fun c j _ => eR c j)
  · exact RX_cg (X := gX m) s2 (by omega) (fun c _ => eK c) (fun c _ => eN c) (fun c j _ => eR c j) (fun c j hc => eI c j (by omega))
  · exact St_same s3 (fun s _ => ⟨eK _, eN _⟩) (fun j => eR _ j)
  · exact St_same s4 (fun s _ => ⟨eK _, eN _⟩) (fun j => eR _ j)
  · exact SL_same s5 (by omega) (fun j => eR _ j) (fun j => eR _ j) (fun j => eR _ j) (fun a q _ _ => St_same q (fun s _ => ⟨eK _, eN _⟩) (fun j => eR _ j))
  · obtain ⟨a, Q, t2, p1, p2, p3, p4⟩ := hU.2.2.2 i hi
    have hu8 := hU.2.1
    obtain ⟨w1, w2, w3, w4⟩ := s5 i (by omega) a (by rw [sl_8 (by omega)]; exact p1)
    exact ⟨a, Q, t2, (eR _ _).trans p1, Zr_same p2 (fun s k hs _ => eI _ _ (by omega)), p3, p4⟩
  · rw [eR x 34]
    exact SeR_same hS (KF_Tr hK) (fun _ _ _ => rfl)
  · obtain ⟨d1, d2, d3, d4, d5⟩ := hD
    exact ⟨(eK _).trans d1, (eN _).trans d2, (eK _).trans d3, (eN _).trans d4, fun k hk => ⟨(eI _ _ (by omega)).trans (d5 k hk).1, (eI _ _ (by omega)).trans (d5 k hk).2⟩⟩
theorem Wor_bd (h : Wor m mm x y lo) : (x + 43 ≤ y ∧ y + 22 ≤ lo ∧ lo ≤ gX m ∧ gX m < 900000) ∧ Mo mm y := by
  obtain ⟨⟨b, B, np, nd, lw, NP, ND, R, t, u, hC⟩, -, -⟩ := h
  exact ⟨Cor_lo hC, hC.2.2.2.2.2.2.2.2.2.1⟩
/-- what else lies in the memory -/
def Oth (m m' : PM) (x y lo : Nat) : Prop := gX m ≤ gX m' ∧ gX m' ≤ gX m + 100 ∧ gS m' ≤ gS m + 700 ∧ ∀ c, c < x ∨ (x + 43 ≤ c ∧ c < y) ∨ (y + 22 ≤ c ∧ c < lo) ∨ 1000000 ≤ c → gK m' c = gK m c ∧ gN m' c = gN m c ∧ (∀ j, gR m' c j = gR m c j) ∧ (∀ j, gJ m' c j = gJ m c j) ∧ (∀ j, gI m' c j = gI m c j)
theorem FC_MA (hF : FC m m' x lo) (h : x + 43 ≤ y ∧ y + 22 ≤ lo) : MA m m' y := fun c h1 h2 => hF.2.2.2 c (by omega)
theorem Oth_CM {m2 : PM} (h : x + 43 ≤ y ∧ y + 22 ≤ lo ∧ lo < 900000) (hF : FC m m' x lo) (hM : FM m' m2 y) : Oth m m2 x y lo := by
  obtain ⟨f1, f2, f3, f4⟩ := hF
  obtain ⟨e1, e2⟩ := hM
  have eX : gX m2 = gX m' := by show m2.2.2.2.2.2.1 = m'.2.2.2.2.2.1; rw [e1]
  have eS : gS m2 = gS m' := by show m2.2.2.2.2.2.2 = m'.2.2.2.2.2.2; rw [e1]
  refine ⟨by omega, by omega, by omega, fun c hc => ?_⟩
  have q := f4 c (by omega)
  refine ⟨?_, ?_, fun j => ?_, fun j => ?_, fun j => ?_⟩
  · show m2.2.2.2.1 c = _; rw [e1]; exact q.1
  · show m2.2.2.2.2.1 c = _; rw [e1]; exact q.2.1
  · show m2.2.2.1 c j = _; rw [e1]; exact q.2.2.1 j
  · rw [(e2 c (by omega)).1 j]; exact q.2.2.2.1 j
  · rw [(e2 c (by omega)).2 j]; exact q.2.2.2.2 j
/-- both make a step, one behind the other -/
theorem Op_step (h : Op i1 i2 args x y lo) (hW : Wor m m x y lo) (hX : gX m + 100 < 900000) : ∃ (A : Int32) (m1 m2 : PM), (∀ r, (Run 210 i1 (.ref x :: args) m r ↔ r = ((0, some (.int A)), m1))) ∧ (∀ r, (Run 210 i2 (.ref y :: args) m1 r ↔ r = ((0, some (.int A)), m2))) ∧ Wor m2 m2 x y lo ∧ Oth m m2 x y lo ∧ FC m m1 x lo := by
  obtain ⟨hl, hMo⟩ := Wor_bd hW
  obtain ⟨A, m1, mm1, r1, r2, w1, f1, f2⟩ := h m m hW hX
  have hMA := FC_MA f1 ⟨hl.1, hl.2.1⟩
  obtain ⟨A', m1', m2, q1, q2, w2, g1, g2⟩ := h m m1 (Wor_MA hW hMA) hX
  have e := (q1 ((0, some (.int A)), m1)).mp ((r1 _).mpr rfl)
  have eA : A' = A := by
    have := congrArg (fun z : PRes => z.1.2) e
    have := Option.some.inj this
    exact (Value.int.inj this).symm
  have em : m1' = m1 := (congrArg (fun z : PRes => z.2) e).symm
  subst eA em
  have hMo1 : Mo m1' y := Mo_MA hMA hMo
  have w3 := Wor_CA w2 hMo1 g2
  exact ⟨A', m1', m2, r1, q2, w3, Oth_CM ⟨hl.1, hl.2.1, by omega⟩ f1 g2, f1⟩
end JS
