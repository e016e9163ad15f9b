/-! THE WORLD: class and model hold the same -/
def BdC (m : PM) (x lo b : Nat) (B : Rw) (np nd lw : Nat) (NP ND : Nat → List Nat) : Prop := Bo m b ∧ Br m b B ∧ GB B np nd lw ∧ (∀ k, k < np → gJ m (b + 1) k = n256 (NP k) ∧ isW (NP k)) ∧ (∀ k, k < nd → gJ m (b + 2) k = n256 (ND k) ∧ isW (ND k)) ∧ (b = x + 6 ∨ lo ≤ b) ∧ b + 7 < gX m
def SeR (m mm : PM) (o : Option Nat) (z s : Nat) : Prop := (o = none ∧ gI mm z s = 0) ∨ ∃ c k g, o = some c ∧ k < 60 ∧ TrF m g (k + 1) c k ∧ gI mm z s = nI 1 ∧ gI mm z (s + 1) = nI k ∧ ∀ j, j < 240 → gI mm z (s + 2 + j) = g j
def ImR (m mm : PM) (x y lo k : Nat) : Prop := (gR m (x + 42) k = none ∧ gI mm (y + 10) k = 0) ∨ ∃ kc b B np nd lw NP ND R t, (gR m (x + 42) k = some kc ∧ gK m kc = 21 ∧ lo ≤ kc ∧ kc + 6 < gX m ∧ gR m kc 0 = some b ∧ gR m kc 1 = some (kc + 1)) ∧ BdC m x lo b B np nd lw NP ND ∧ Zr m (kc + 1) R ∧ GR B R nd t ∧ gI mm (y + 10) k = 1 ∧ (∀ j, j < 147 → gI mm (y + 4) (389 * k + j) = rwF B R (fun _ => 0) j) ∧ (∀ j, j < np → gJ mm (y + 9) (13 * k + j) = n27 (NP j)) ∧ (∀ j, j < nd → gJ mm (y + 9) (13 * k + 7 + j) = n27 (ND j)) ∧ SeR m mm (gR m kc 2) (y + 4) (389 * k + 147)
def UnR (m mm : PM) (x y : Nat) (B : Rw) (nd u : Nat) : Prop := gI m x 14 = nI u ∧ u ≤ 8 ∧ gI mm y 23 = nI u ∧ ∀ i, i < u → ∃ a R t, gR m (x + 29) i = some a ∧ Zr m a R ∧ GR B R nd t ∧ Sn mm (y + 5) (75 * i) R
/-- how the class' object lies -/
def ShC (m : PM) (x y lo : Nat) : Prop := Ob m x ∧ RX m x ∧ St m (x + 14) ∧ St m (x + 20) ∧ SL m x lo ∧ (x + 43 ≤ y ∧ y + 22 ≤ lo ∧ lo ≤ gX m ∧ gX m < 900000) ∧ (∀ c, x ≤ c → c < x + 43 → ¬ (16 ≤ gK m c ∧ gK m c ≤ 21))
def Cor (m mm : PM) (x y lo b : Nat) (B : Rw) (np nd lw : Nat) (NP ND : Nat → List Nat) (R : Rw) (t u : Nat) : Prop := ShC m x y lo ∧ gR m x 7 = some b ∧ BdC m x lo b B np nd lw NP ND ∧ Zr m (x + 14) R ∧ GR B R nd t ∧ UnR m mm x y B nd u ∧ SeR m mm (gR m x 34) (y + 2) 147 ∧ ImR m mm x y lo 0 ∧ ImR m mm x y lo 1 ∧ Mo mm y ∧ Yr mm y B R ∧ (∀ j, j < np → gJ mm (y + 7) j = n27 (NP j)) ∧ (∀ j, j < nd → gJ mm (y + 7) (7 + j) = n27 (ND j))
/-- the model's cells of no account apart, all stays -/
def ysc (y c j : Nat) : Prop := (c = y ∧ j ≠ 23) ∨ c = y + 1 ∨ c = y + 3 ∨ c = y + 6 ∨ (y + 8 ≤ c ∧ c ≤ y + 21 ∧ c ≠ y + 10)
def YF (mm mm' : PM) (y : Nat) : Prop := mm'.2.2 = mm.2.2 ∧ (∀ c j, c ≠ y → c ≠ y + 8 → gJ mm' c j = gJ mm c j) ∧ (∀ c j, ¬ ysc y c j → gI mm' c j = gI mm c j)
/-- what the law sees of a step of the class, of the model -/
def FC (m m' : PM) (x lo : Nat) : Prop := gX m ≤ gX m' ∧ gX m' ≤ gX m + 100 ∧ gS m' ≤ gS m + 700 ∧ ∀ c, c < x ∨ (x + 43 ≤ c ∧ c < lo) ∨ 1000000 ≤ c → gK m' c = gK m c ∧ gN m' c = gN m c ∧ (∀ j, gR m' c j = gR m c j) ∧ (∀ j, gJ m' c j = gJ m c j) ∧ (∀ j, gI m' c j = gI m c j)
def FM (mm mm' : PM) (y : Nat) : Prop := mm'.2.2 = mm.2.2 ∧ ∀ c, c < y ∨ y + 21 < c → (∀ j, gJ mm' c j = gJ mm c j) ∧ (∀ j, gI mm' c j = gI mm c j)
theorem Mo_22 {m m' : PM} {y : Nat} (h : m'.2.2 = m.2.2) (hM : Mo m y) : Mo m' y := by
  obtain ⟨i, j, q⟩ := m
  obtain ⟨i', j', q'⟩ := m'
  have h : q' = q := h
  subst h
  exact hM
section WO
variable {m mm m' mm' m2 : PM} {x y lo b : Nat} {B : Rw} {np nd lw : Nat} {NP ND : Nat → List Nat} {R : Rw} {t u : Nat}
theorem YF_refl (mm : PM) (y : Nat) : YF mm mm y := ⟨rfl, fun _ _ _ _ => rfl, fun _ _ _ => rfl⟩
theorem YF_tr (h : YF mm mm' y) (h' : YF mm' m2 y) : YF mm m2 y := ⟨h'.1.trans h.1, fun c j h1 h2 => (h'.2.1 c j h1 h2).trans (h.2.1 c j h1 h2), fun c j h1 => (h'.2.2 c j h1).trans (h.2.2 c j h1)⟩
theorem YF_I (hR : mm'.2 = mm.2) (h : ∀ c j, ¬ ysc y c j → gI mm' c j = gI mm c j) : YF mm mm' y := ⟨by rw [hR], fun c j _ _ => by show mm'.2.1 c j = mm.2.1 c j; rw [hR], h⟩
theorem YF_sI {a k : Nat} {v : Int32} (h : ysc y a k) : YF mm (sI mm a k v) y := YF_I rfl fun c j hc => by
  rw [gI_sI, if_neg (fun q => hc (by rw [q.1, q.2]; exact h))]
theorem YF_FM (h : YF mm mm' y) : FM mm mm' y := ⟨h.1, fun c hc => ⟨fun j => h.2.1 c j (by omega) (by omega), fun j => h.2.2 c j (by unfold ysc; omega)⟩⟩
theorem FM_tr (h : FM mm mm' y) (h' : FM mm' m2 y) : FM mm m2 y := ⟨h'.1.trans h.1, fun c hc => ⟨fun j => ((h'.2 c hc).1 j).trans ((h.2 c hc).1 j), fun j => ((h'.2 c hc).2 j).trans ((h.2 c hc).2 j)⟩⟩
theorem XF_FC (h : XF m m' x) (hlo : x + 43 ≤ lo ∧ lo ≤ gX m) (h1 : gX m' ≤ gX m + 100) (h2 : gS m' ≤ gS m + 700) (hx : x + 43 < 1000000) : FC m m' x lo := by
  obtain ⟨a1, a2, a3, a4, a5⟩ := h
  exact ⟨a1, h1, h2, fun c hc => ⟨(a2 c (by omega)).1, (a2 c (by omega)).2, fun j => a3 c j (by omega) (by omega) (by omega), fun j => a4 c j (by omega) (by omega), fun j => a5 c j (by omega) (by unfold scr; omega)⟩⟩
theorem BdC_same (h : BdC m x lo b B np nd lw NP ND) (hX : gX m ≤ gX m') (hK : ∀ s, s ≤ 7 → gK m' (b + s) = gK m (b + s) ∧ gN m' (b + s) = gN m (b + s)) (hR : ∀ j, gR m' b j = gR m b j) (hI : ∀ s k, s ≤ 7 → gI m' (b + s) k = gI m (b + s) k) (hJ : ∀ s j, 1 ≤ s → s ≤ 2 → gJ m' (b + s) j = gJ m (b + s) j) : BdC m' x lo b B np nd lw NP ND := by
  obtain ⟨h1, h2, h3, h4, h5, h6, h7⟩ := h
  exact ⟨Bo_same h1 hK hR, Br_same h2 hI, h3, fun k hk => by rw [hJ 1 k (by omega) (by omega)]; exact h4 k hk, fun k hk => by rw [hJ 2 k (by omega) (by omega)]; exact h5 k hk, h6, by omega⟩
theorem SeR_same {o : Option Nat} {z s : Nat} (h : SeR m mm o z s) (hT : ∀ g f c k, TrF m g f c k → TrF m' g f c k) (hI : ∀ j, s ≤ j → j < s + 242 → gI mm' z j = gI mm z j) : SeR m' mm' o z s := by
  rcases h with ⟨h1, h2⟩ | ⟨c, k, g, h1, h2, h3, h4, h5, h6⟩
  · exact Or.inl ⟨h1, by rw [hI _ (by omega) (by omega)]; exact h2⟩
  · exact Or.inr ⟨c, k, g, h1, h2, hT _ _ _ _ h3, by rw [hI _ (by omega) (by omega)]; exact h4, by rw [hI _ (by omega) (by omega)]; exact h5, fun j hj => by rw [hI _ (by omega) (by omega)]; exact h6 j hj⟩
/-- what changes of the class: nothing of boards, sentences, images -/
def KF (m m' : PM) (x lo : Nat) : Prop := gX m ≤ gX m' ∧ (∀ c, c < gX m ∨ 1000000 ≤ c → gK m' c = gK m c ∧ gN m' c = gN m c) ∧ (∀ b, (b = x + 6 ∨ lo ≤ b) → b + 7 < gX m → Bo m b → (∀ j, gR m' b j = gR m b j) ∧ (∀ s k, s ≤ 7 → gI m' (b + s) k = gI m (b + s) k) ∧ (∀ s j, 1 ≤ s → s ≤ 2 → gJ m' (b + s) j = gJ m (b + s) j)) ∧ (∀ c, c < gX m → 16 ≤ gK m c → gK m c ≤ 21 → (∀ j, gR m' c j = gR m c j) ∧ (∀ j, gI m' c j = gI m c j)) ∧ (∀ j, gR m' (x + 42) j = gR m (x + 42) j)
theorem KF_Bd (hF : KF m m' x lo) (h : BdC m x lo b B np nd lw NP ND) : BdC m' x lo b B np nd lw NP ND := by
  have hB := hF.2.2.1 b h.2.2.2.2.2.1 h.2.2.2.2.2.2 h.1
  have hX := h.2.2.2.2.2.2
  exact BdC_same h hF.1 (fun s hs => hF.2.1 _ (by omega)) hB.1 hB.2.1 hB.2.2
theorem KF_Tr (hF : KF m m' x lo) : ∀ g f c k, TrF m g f c k → TrF m' g f c k := fun g => TrF_same hF.1 fun c h1 h2 h3 => ⟨(hF.2.1 c (Or.inl h1)).1, hF.2.2.2.1 c h1 h2 (by omega)⟩
theorem KF_Im {k : Nat} (hF : KF m m' x lo) (hZ : ∀ kc R, gR m (x + 42) k = some kc → lo ≤ kc → kc + 6 < gX m → Zr m (kc + 1) R → Zr m' (kc + 1) R) (h4 : ∀ j, gI mm' (y + 4) j = gI mm (y + 4) j) (h10 : gI mm' (y + 10) k = gI mm (y + 10) k) (h9 : ∀ j, gJ mm' (y + 9) j = gJ mm (y + 9) j) (h : ImR m mm x y lo k) : ImR m' mm' x y lo k := by
  rcases h with ⟨h1, h2⟩ | ⟨kc, b, B, np, nd, lw, NP, ND, R, t, ⟨a1, a2, a3, a4, a5, a6⟩, b1, b2, b3, b4, b5, b6, b7, b8⟩
  · exact Or.inl ⟨(hF.2.2.2.2 k).trans h1, h10.trans h2⟩
  · have q := hF.2.2.2.1 kc (by omega) (by omega) (by omega)
    have hX := hF.1
    refine Or.inr ⟨kc, b, B, np, nd, lw, NP, ND, R, t, ⟨(hF.2.2.2.2 k).trans a1, ((hF.2.1 kc (by omega)).1).trans a2, a3, by omega, (q.1 0).trans a5, (q.1 1).trans a6⟩, KF_Bd hF b1, hZ kc R a1 a3 a4 b2, b3, h10.trans b4, fun j hj => (h4 _).trans (b5 j hj), fun j hj => (h9 _).trans (b6 j hj), fun j hj => (h9 _).trans (b7 j hj), ?_⟩
    rw [q.1 2]
    exact SeR_same b8 (KF_Tr hF) (fun j _ _ => h4 j)
theorem XF_KF (h : XF m m' x) (hs : ShC m x y lo) : KF m m' x lo := by
  obtain ⟨a1, a2, a3, a4, a5⟩ := h
  obtain ⟨h1, h2, h3, h4, h5, h6, h7⟩ := hs
  refine ⟨a1, a2, fun b hb hX _ => ⟨fun j => a3 b j (by omega) (by omega) (by omega), fun s k hs => a5 _ _ (by omega) (by unfold scr; omega), fun s j hs1 hs2 => a4 _ _ (by omega) (by omega)⟩, fun c hc k1 k2 => ?_, fun j => a3 _ j (by omega) (by omega) (by omega)⟩
  have hn : c < x ∨ x + 43 ≤ c := by
    by_cases e : c < x ∨ x + 43 ≤ c
    · exact e
    · exact absurd ⟨k1, k2⟩ (h7 c (by omega) (by omega))
  exact ⟨fun j => a3 c j (by omega) (by omega) (by omega), fun j => a5 c j (by omega) (by unfold scr; omega)⟩
theorem XF_Sh (h : XF m m' x) (hX : gX m' < 900000) (hs : ShC m x y lo) : ShC m' x y lo := by
  obtain ⟨a1, a2, a3, a4, a5⟩ := h
  obtain ⟨h1, h2, h3, h4, h5, h6, h7⟩ := hs
  have St_P : ∀ z, St m z → z + 5 < gX m → (z + 5 < x + 26 ∨ x + 28 < z) → St m' z := fun z h h1 h2 => St_same h (fun s hs => a2 _ (by omega)) (fun j => a3 z j (by omega) (by omega) (by omega))
  refine ⟨Ob_cg h1 (fun c hc => (a2 c (by omega)).1) (fun c hc => (a2 c (by omega)).2) (fun c j hc => a3 c j (by omega) (by omega) (by omega)), RX_cg (X := gX m) h2 (by omega) (fun c hc => (a2 c hc).1) (fun c hc => (a2 c hc).2) (fun c j hc => a3 c j (by omega) (by omega) (by omega)) (fun c j hc => a5 c j (by omega) (by unfold scr; omega)), St_P _ h3 (by omega) (by omega), St_P _ h4 (by omega) (by omega), SL_same h5 a1 (fun j => a3 _ j (by omega) (by omega) (by omega)) (fun j => a3 _ j (by omega) (by omega) (by omega)) (fun j => a3 _ j (by omega) (by omega) (by omega)) (fun a q1 q2 q3 => St_P a q1 q3 (by omega)), ⟨h6.1, h6.2.1, by omega, hX⟩, fun c c1 c2 => ?_⟩
  rw [(a2 c (by omega)).1]
  exact h7 c c1 c2
theorem Cor_XY (h : Cor m mm x y lo b B np nd lw NP ND R t u) (hF : XF m m' x) (hX : gX m' < 900000) (hY : YF mm mm' y) : Cor m' mm' x y lo b B np nd lw NP ND R t u := by
  obtain ⟨s, h7, hBd, hZ, hG, hU, hS, hI0, hI1, hM, hYr, hn1, hn2⟩ := h
  have hK := XF_KF hF s
  have hs' := XF_Sh hF hX s
  have hlo := s.2.2.2.2.2.1
  have hu8 := hU.2.1
  obtain ⟨a1, a2, a3, a4, a5⟩ := id hF
  obtain ⟨y1, y2, y3⟩ := id hY
  have hIm : ∀ kc R, lo ≤ kc → kc + 6 < gX m → Zr m (kc + 1) R → Zr m' (kc + 1) R := fun kc R h1 h2 h3 => Zr_same h3 fun s k hs _ => a5 _ _ (by omega) (by unfold scr; omega)
  refine ⟨hs', (a3 x 7 (by omega) (by omega) (by omega)).trans h7, KF_Bd hK hBd, Zr_same hZ fun s k hs hn => a5 _ _ (by omega) (by unfold scr; omega), hG, ⟨(a5 x 14 (by omega) (by unfold scr; omega)).trans hU.1, hU.2.1, (y3 y 23 (by unfold ysc; omega)).trans hU.2.2.1, fun i hi => ?_⟩, ?_, KF_Im hK (fun kc R _ => hIm kc R) (fun j => y3 _ _ (by unfold ysc; omega)) (y3 _ _ (by unfold ysc; omega)) (fun j => y2 _ _ (by omega) (by omega)) hI0, KF_Im hK (fun kc R _ => hIm kc R) (fun j => y3 _ _ (by unfold ysc; omega)) (y3 _ _ (by unfold ysc; omega)) (fun j => y2 _ _ (by omega) (by omega)) hI1, ?_, fun k hk => (y3 _ _ (by unfold ysc; omega)).trans (hYr k hk), fun j hj => (y2 _ _ (by omega) (by omega)).trans (hn1 j hj), fun j hj => (y2 _ _ (by omega) (by omega)).trans (hn2 j hj)⟩
  · obtain ⟨a, R', t', q1, q2, q3, q4⟩ := hU.2.2.2 i hi
    obtain ⟨z1, z2, z3, -⟩ := s.2.2.2.2.1 i (by omega) a (by rw [sl_8 (by omega)]; exact q1)
    exact ⟨a, R', t', (a3 _ _ (by omega) (by omega) (by omega)).trans q1, Zr_same q2 (fun s k hs _ => a5 _ _ (by omega) (by unfold scr; omega)), q3, fun k hk => (y3 _ _ (by unfold ysc; omega)).trans (q4 k hk)⟩
  · rw [a3 x 34 (by omega) (by omega) (by omega)]
    exact SeR_same hS (KF_Tr hK) (fun j _ _ => y3 _ _ (by unfold ysc; omega))
  · exact Mo_22 y1 hM
end WO
