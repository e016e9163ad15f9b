/-! THE WORLD: a new state, a new board, a new sentence -/
def scg (x c j : Nat) : Prop := c = x ∨ c = x + 1 ∨ c = x + 2 ∨ (x + 14 ≤ c ∧ c ≤ x + 25) ∨ ((c = x + 26 ∨ c = x + 27 ∨ c = x + 39) ∧ j ≠ 0) ∨ (x + 31 ≤ c ∧ c ≤ x + 38)
def XG (m m' : PM) (x : Nat) : Prop := gX m ≤ gX m' ∧ (∀ c, c < gX m ∨ 1000000 ≤ c → gK m' c = gK m c ∧ gN m' c = gN m c) ∧ (∀ c j, c < gX m ∨ 1000000 ≤ c → c ≠ x + 28 → ¬ (c = x + 26 ∧ j = 8) → ¬ (c = x ∧ (j = 7 ∨ j = 34)) → gR m' c j = gR m c j) ∧ (∀ c j, c < gX m ∨ 1000000 ≤ c → ¬ (c = x + 2 ∨ c = x + 26 ∨ c = x + 27 ∨ c = x + 39) → gJ m' c j = gJ m c j) ∧ (∀ c j, c < gX m ∨ 1000000 ≤ c → ¬ scg x c j → gI m' c j = gI m c j)
section WG
variable {m mm m' mm' m2 : PM} {x y lo b b' : Nat} {B B' : Rw} {np nd lw np' nd' lw' : Nat} {NP ND NP' ND' : Nat → List Nat} {R R' : Rw} {t t' u u' i1 i2 : Nat} {args : List Value}
theorem XF_XG (h : XF m m' x) : XG m m' x := by
  obtain ⟨a1, a2, a3, a4, a5⟩ := h
  exact ⟨a1, a2, fun c j hc h1 h2 _ => a3 c j hc h1 h2, a4, fun c j hc h => a5 c j hc (fun q => h (by unfold scr at q; unfold scg; omega))⟩
theorem XG_tr (h : XG m m' x) (h' : XG m' m2 x) : XG m m2 x := by
  obtain ⟨a1, a2, a3, a4, a5⟩ := h
  obtain ⟨b1, b2, b3, b4, b5⟩ := h'
  have o : ∀ c, c < gX m ∨ 1000000 ≤ c → c < gX m' ∨ 1000000 ≤ c := fun c hc => by omega
  exact ⟨by omega, fun c hc => ⟨(b2 c (o c hc)).1.trans (a2 c hc).1, (b2 c (o c hc)).2.trans (a2 c hc).2⟩, fun c j hc h1 h2 h3 => (b3 c j (o c hc) h1 h2 h3).trans (a3 c j hc h1 h2 h3), fun c j hc h1 => (b4 c j (o c hc) h1).trans (a4 c j hc h1), fun c j hc h1 => (b5 c j (o c hc) h1).trans (a5 c j hc h1)⟩
theorem XG_I (hR : m'.2 = m.2) (h : ∀ c j, ¬ scg x c j → gI m' c j = gI m c j) : XG m m' x := by
  obtain ⟨i', q'⟩ := m'
  obtain ⟨i, q⟩ := m
  have hR : q' = q := hR
  subst hR
  exact ⟨Nat.le_refl _, fun _ _ => ⟨rfl, rfl⟩, fun _ _ _ _ _ _ => rfl, fun _ _ _ _ => rfl, fun c j _ hc => h c j hc⟩
theorem XG_sI {a k : Nat} {v : Int32} (h : scg x a k) : XG m (sI m a k v) x := XG_I rfl fun c j hc => by
  rw [gI_sI, if_neg (fun q => hc (by rw [q.1, q.2]; exact h))]
theorem XG_pZ {R : Rw} : XG m (pZ m (x + 14) R) x := XG_I rfl fun c j hc => by
  rw [gI_pZo]
  unfold scg at hc
  omega
theorem XG_sR {k : Nat} {v : Option Nat} (h : k = 7 ∨ k = 34) : XG m (sR m x k v) x := ⟨Nat.le_refl _, fun _ _ => ⟨rfl, rfl⟩, fun c j _ _ _ hn => by rw [gR_sR, if_neg (by omega)], fun _ _ _ _ => rfl, fun _ _ _ _ => rfl⟩
theorem XG_FC (h : XG m m' x) (hlo : x + 43 ≤ lo ∧ lo ≤ gX m) (h1 : gX m' ≤ gX m + 100) (h2 : gS m' ≤ gS m + 700) (hx : x + 43 < 1000000) : FC m m' x lo := by
  obtain ⟨a1, a2, a3, a4, a5⟩ := h
  exact ⟨a1, h1, h2, fun c hc => ⟨(a2 c (by omega)).1, (a2 c (by omega)).2, fun j => a3 c j (by omega) (by omega) (by omega) (by omega), fun j => a4 c j (by omega) (by omega), fun j => a5 c j (by omega) (by unfold scg; omega)⟩⟩
theorem XG_KF (h : XG m m' x) (hs : ShC m x y lo) : KF m m' x lo := by
  obtain ⟨a1, a2, a3, a4, a5⟩ := h
  obtain ⟨h1, h2, h3, h4, h5, h6, h7⟩ := hs
  refine ⟨a1, a2, fun b hb hX _ => ⟨fun j => a3 b j (by omega) (by omega) (by omega) (by omega), fun s k hs => a5 _ _ (by omega) (by unfold scg; omega), fun s j hs1 hs2 => a4 _ _ (by omega) (by omega)⟩, fun c hc k1 k2 => ?_, fun j => a3 _ j (by omega) (by omega) (by omega) (by omega)⟩
  have hn : c < x ∨ x + 43 ≤ c := by
    by_cases e : c < x ∨ x + 43 ≤ c
    · exact e
    · exact absurd ⟨k1, k2⟩ (h7 c (by omega) (by omega))
  exact ⟨fun j => a3 c j (by omega) (by omega) (by omega) (by omega), fun j => a5 c j (by omega) (by unfold scg; omega)⟩
theorem XG_Sh (h : XG m m' x) (hX : gX m' < 900000) (hs : ShC m x y lo) : ShC m' x y lo := by
  obtain ⟨a1, a2, a3, a4, a5⟩ := h
  obtain ⟨h1, h2, h3, h4, h5, h6, h7⟩ := hs
  have St_P : ∀ z, St m z → z + 5 < gX m → (z + 5 < x + 26 ∨ x + 28 < z) → z ≠ x → St m' z := fun z h h1 h2 h3 => St_same h (fun s hs => a2 _ (by omega)) (fun j => a3 z j (by omega) (by omega) (by omega) (by omega))
  refine ⟨Ob_cg h1 (fun c hc => (a2 c (by omega)).1) (fun c hc => (a2 c (by omega)).2) (fun c j hc => a3 c j (by omega) (by omega) (by omega) (by omega)), RX_cg (X := gX m) h2 (by omega) (fun c hc => (a2 c hc).1) (fun c hc => (a2 c hc).2) (fun c j hc => a3 c j (by omega) (by omega) (by omega) (by omega)) (fun c j hc => a5 c j (by omega) (by unfold scg; omega)), St_P _ h3 (by omega) (by omega) (by omega), St_P _ h4 (by omega) (by omega) (by omega), SL_same h5 a1 (fun j => a3 _ j (by omega) (by omega) (by omega) (by omega)) (fun j => a3 _ j (by omega) (by omega) (by omega) (by omega)) (fun j => a3 _ j (by omega) (by omega) (by omega) (by omega)) (fun a q1 q2 q3 => St_P a q1 q3 (by omega) (by omega)), ⟨h6.1, h6.2.1, by omega, hX⟩, fun c c1 c2 => ?_⟩
  rw [(a2 c (by omega)).1]
  exact h7 c c1 c2
theorem Cor_XG (h : Cor m mm x y lo b B np nd lw NP ND R t u) (hF : XG m m' x) (hX : gX m' < 900000) (h4 : ∀ j, gI mm' (y + 4) j = gI mm (y + 4) j) (h10 : ∀ k, gI mm' (y + 10) k = gI mm (y + 10) k) (h9 : ∀ j, gJ mm' (y + 9) j = gJ mm (y + 9) j) (hMo : Mo mm' y) (h7 : gR m' x 7 = some b') (hBd : BdC m' x lo b' B' np' nd' lw' NP' ND') (hZ : Zr m' (x + 14) R') (hG : GR B' R' nd' t') (hU : UnR m' mm' x y B' nd' u') (hSe : SeR m' mm' (gR m' x 34) (y + 2) 147) (hYr : Yr mm' y B' R') (hn1 : ∀ j, j < np' → gJ mm' (y + 7) j = n27 (NP' j)) (hn2 : ∀ j, j < nd' → gJ mm' (y + 7) (7 + j) = n27 (ND' j)) : Cor m' mm' x y lo b' B' np' nd' lw' NP' ND' R' t' u' := by
  obtain ⟨s, -, -, -, -, -, -, hI0, hI1, -⟩ := h
  have hK := XG_KF hF s
  have hlo := s.2.2.2.2.2.1
  obtain ⟨a1, a2, a3, a4, a5⟩ := id hF
  have hIm : ∀ kc R, lo ≤ kc → kc + 6 < gX m → Zr m (kc + 1) R → Zr m' (kc + 1) R := fun kc R h1 h2 h3 => Zr_same h3 fun s k hs _ => a5 _ _ (by omega) (by unfold scg; omega)
  exact ⟨XG_Sh hF hX s, h7, hBd, hZ, hG, hU, hSe, KF_Im hK (fun kc R _ => hIm kc R) h4 (h10 0) h9 hI0, KF_Im hK (fun kc R _ => hIm kc R) h4 (h10 1) h9 hI1, hMo, hYr, hn1, hn2⟩
theorem UnR_0 (e1 : gI m' x 14 = 0) (e2 : gI mm' y 23 = 0) : UnR m' mm' x y B' nd' 0 := ⟨e1, by omega, e2, fun i hi => by omega⟩
theorem op_undo : Op 15 185 [] x y lo := by
  rintro m mm ⟨⟨b, B, np, nd, lw, NP, ND, R, t, u, hC⟩, hM, hD⟩ hX; obtain ⟨⟨hOb, hRX, hSt, hSt2, hSL, hlo, hK16⟩, hb, ⟨hBo, hBr, hB, hNP, hND, hbO, hbX⟩, hZ, hR, ⟨hu, hu8, huy, hUn⟩, hSe, hI0, hI1, hMo, hYr, hn1, hn2⟩ := id hC; have hbz : b + 7 < x + 14 ∨ x + 14 + 5 < b := (by omega)
  rcases Nat.eq_zero_or_pos u with h0 | h0
  · subst h0
    have hc := fun r => c_undo0 (r := r) (d := 210) hOb hu (by omega)
    have hq := fun r => q_undo0 (r := r) (d := 210) (B := B) (R := R) hMo huy (by omega)
    rw [pY_of hYr, pY0 (by omega) hYr] at hq
    exact Swt_XY hC hD hX hc hq (XF_refl _ _) (by omega) (by omega) (YF_sI (by unfold ysc; omega)) (Mis_y0 hM)
  · obtain ⟨u, rfl⟩ : ∃ v, u = v + 1 := ⟨u - 1, by omega⟩
    obtain ⟨a, Q, tq, q1, q2, q3, q4⟩ := hUn u (by omega)
    obtain ⟨z1, z2, z3, z4⟩ := hSL u (by omega) a (by rw [sl_8 (by omega)]; exact q1)
    have hc := fun r => c_undoX (r := r) (d := 210) (R := R) hOb hSt hu (by omega) q1 z1 q2 (by omega) (by omega)
    have hq := fun r => q_undo (r := r) (d := 210) (B := B) (R := R) hMo huy (by omega) q4 (by omega)
    rw [pZ_of hZ] at hc
    rw [pY_of hYr] at hq
    have hF : XG m (pZ (sI m x 14 (nI u)) (x + 14) Q) x := XG_tr (XG_sI (by unfold scg; omega)) XG_pZ
    have hFC : FC m (pZ (sI m x 14 (nI u)) (x + 14) Q) x lo := XG_FC hF (by omega) (by show gX m ≤ _; omega) (by show gS m ≤ _; omega) (by omega)
    have hK := XG_KF hF hC.1
    have yI : ∀ c j, c ≠ y + 2 → c ≠ y → gI (pY (sI (sI mm y 0 0) y 23 (nI u)) y B Q) c j = gI mm c j := fun c j h1 h2 => by
      rw [gI_pYo h1, gI_sI, if_neg (by omega), gI_sI, if_neg (by omega)]
    refine ⟨_, _, _, hc, hq, ⟨⟨b, B, np, nd, lw, NP, ND, Q, tq, u, Cor_XG hC hF (by show gX m < _; omega) (fun j => yI _ _ (by omega) (by omega)) (fun j => yI _ _ (by omega) (by omega)) (fun j => rfl) hMo hb (KF_Bd hK hC.2.2.1) (Zr_pZ _ _ _) q3 ⟨?_, by omega, ?_, fun i hi => ?_⟩ (SeR_same hSe (KF_Tr hK) (fun j j1 _ => ?_)) (fun k hk => gI_pYi hk) hn1 hn2⟩, Mis_same hM (fun j hj => ?_) (fun i j hi => ?_) (fun j hj => ?_) (fun i j hi => ?_), DTb_FC hD (by omega) (by omega) hFC⟩, hFC, ⟨rfl, fun c hc => ⟨fun j => rfl, fun j => yI _ _ (by omega) (by omega)⟩⟩⟩
    · rw [gI_pZo (by omega)]; exact if_pos ⟨rfl, rfl⟩
    · rw [gI_pYo (by omega)]; exact if_pos ⟨rfl, rfl⟩
    · obtain ⟨a', Q', t2, p1, p2, p3, p4⟩ := hUn i (by omega)
      obtain ⟨w1, w2, w3, w4⟩ := hSL i (by omega) a' (by rw [sl_8 (by omega)]; exact p1)
      exact ⟨a', Q', t2, p1, Zr_same p2 (fun s k hs _ => hF.2.2.2.2 _ _ (by omega) (by unfold scg; omega)), p3, fun k hk => (yI _ _ (by omega) (by omega)).trans (p4 k hk)⟩
    · rw [gI_pYh (by omega), gI_sI, if_neg (by omega), gI_sI, if_neg (by omega)]
    · (try unfold mcx at *); (try unfold mcr at *); (try unfold mmx at *); (try unfold mmr at *); (try unfold mcx2 at *); (try unfold mcr2 at *); (try unfold mmx2 at *); (try unfold mmr2 at *); rw [gI_pZo (by omega), gI_sI, if_neg (by omega)]
    · (try unfold mcx at *); (try unfold mcr at *); (try unfold mmx at *); (try unfold mmr at *); (try unfold mcx2 at *); (try unfold mcr2 at *); (try unfold mmx2 at *); (try unfold mmr2 at *); rw [gI_pZo (by omega), gI_sI, if_neg (by omega)]
    · (try unfold mcx at *); (try unfold mcr at *); (try unfold mmx at *); (try unfold mmr at *); (try unfold mcx2 at *); (try unfold mcr2 at *); (try unfold mmx2 at *); (try unfold mmr2 at *); rw [gI_pYo (by omega), gI_sI, if_neg (by omega), gI_sI, if_neg (by omega)]
    · (try unfold mcx at *); (try unfold mcr at *); (try unfold mmx at *); (try unfold mmr at *); (try unfold mcx2 at *); (try unfold mcr2 at *); (try unfold mmx2 at *); (try unfold mmr2 at *); exact yI _ _ (by omega) (by omega)
theorem op_restore {k : Int32} : Op 55 238 [.int k] x y lo := by
  rintro m mm ⟨⟨b, B, np, nd, lw, NP, ND, R, t, u, hC⟩, hM, hD⟩ hX; obtain ⟨⟨hOb, hRX, hSt, hSt2, hSL, hlo, hK16⟩, hb, ⟨hBo, hBr, hB, hNP, hND, hbO, hbX⟩, hZ, hR, ⟨hu, hu8, huy, hUn⟩, hSe, hI0, hI1, hMo, hYr, hn1, hn2⟩ := id hC; have hbz : b + 7 < x + 14 ∨ x + 14 + 5 < b := (by omega)
  by_cases hk : inN 2 k = true
  · obtain ⟨k, hk2, rfl⟩ := (inN_iff (by omega)).mp hk
    have hI : ImR m mm x y lo k := by
      rcases (show k = 0 ∨ k = 1 by omega) with rfl | rfl
      · exact hI0
      · exact hI1
    rcases hI with ⟨p1, p2⟩ | ⟨kc, b', B', np', nd', lw', NP', ND', Q, tq, ⟨a1, a2, a3, a4, a5, a6⟩, b1, b2, b3, b4, b5, b6, b7, b8⟩
    · have hc := fun r => c_restore0 (r := r) (d := 210) (k := nI k) hOb (by rw [nI_clamp (by omega), p1]; rintro ⟨-, a, h⟩; cases h) (by omega)
      have hq := fun r => q_restore0 (r := r) (d := 210) (k := nI k) hMo (by rw [nI_clamp (by omega), p2]; exact fun h => h.2 rfl) (by omega)
      exact Swt_XY hC hD hX hc hq (XF_refl _ _) (by omega) (by omega) (YF_sI (by unfold ysc; omega)) (Mis_y0 hM)
    · have hs16 : sl m x (16 + k) = some (kc + 1) := by
        unfold sl
        rw [if_neg (by omega), if_neg (by omega), show 16 + k - 16 = k by omega, a1]; rfl
      obtain ⟨z1, z2, z3, z4⟩ := hSL (16 + k) (by omega) (kc + 1) hs16
      have hc := fun r => c_restoreX (r := r) (d := 210) (R := R) hOb hSt hk2 a1 a2 a5 a6 z1 b2 (by omega) (by omega)
      have hq := fun r => q_restore (r := r) (d := 210) hMo hk2 (by rw [b4]; decide) (by omega)
      rw [pZ_of hZ] at hc
      have hF : XG m (pZ (reM m x kc) (x + 14) Q) x := by
        unfold reM
        exact XG_tr (XG_tr (XG_tr (XG_sR (Or.inl rfl)) (XG_sR (Or.inr rfl))) (XG_sI (by unfold scg; omega))) XG_pZ
      have hFC : FC m (pZ (reM m x kc) (x + 14) Q) x lo := XG_FC hF (by omega) (by show gX m ≤ _; omega) (by show gS m ≤ _; omega) (by omega)
      have hK := XG_KF hF hC.1
      obtain ⟨N, hN⟩ : ∃ N, N = sI (bJ (bW (sI mm y 0 0) (y + 2) 0 389 (fun j => gI mm (y + 4) (389 * k + j))) (y + 7) 0 13 (fun j => gJ mm (y + 9) (13 * k + j))) y 23 0 := ⟨_, rfl⟩
      have yI : ∀ c j, c ≠ y + 2 → ¬ (c = y ∧ (j = 0 ∨ j = 23)) → gI N c j = gI mm c j := fun c j h1 h2 => by
        rw [hN, gI_sI, if_neg (by omega)]
        show gI (bW (sI mm y 0 0) (y + 2) 0 389 (fun j => gI mm (y + 4) (389 * k + j))) c j = _
        rw [gI_bWo h1, gI_sI, if_neg (by omega)]
      have y2 : ∀ j, j < 389 → gI N (y + 2) j = gI mm (y + 4) (389 * k + j) := fun j hj => by
        rw [hN, gI_sI, if_neg (by omega)]
        show gI (bW (sI mm y 0 0) (y + 2) 0 389 (fun j => gI mm (y + 4) (389 * k + j))) (y + 2) j = _
        rw [gI_bW, if_pos ⟨rfl, by omega, by omega⟩, Nat.sub_zero]
      have yJ : ∀ c j, c ≠ y + 7 → gJ N c j = gJ mm c j := fun c j h1 => by
        rw [hN]; exact if_neg (fun z => h1 z.1)
      have y7 : ∀ j, j < 13 → gJ N (y + 7) j = gJ mm (y + 9) (13 * k + j) := fun j hj => by
        rw [hN]
        show (if y + 7 = y + 7 ∧ 0 ≤ j ∧ j < 0 + 13 then _ else _) = _
        rw [if_pos ⟨rfl, by omega, by omega⟩, Nat.sub_zero]
      have hN2 : N.2.2 = mm.2.2 := by rw [hN]; rfl
      have hMoN : Mo N y := Mo_22 hN2 hMo
      have hyu : gI N y 23 = 0 := by rw [hN]; exact if_pos ⟨rfl, rfl⟩
      rw [← hN] at hq
      have g7 : gR (pZ (reM m x kc) (x + 14) Q) x 7 = some b' := by
        rw [← a5]
        show (if x = x ∧ 7 = 34 then _ else if x = x ∧ 7 = 7 then gR m kc 0 else _) = _
        rw [if_neg (by omega), if_pos ⟨rfl, rfl⟩]
      have g34 : gR (pZ (reM m x kc) (x + 14) Q) x 34 = gR m kc 2 := by
        exact if_pos ⟨rfl, rfl⟩
      have hnp := GB_n7 b1.2.2.1
      have hnd := GB_d6 b1.2.2.1
      refine ⟨_, _, _, hc, hq, ⟨⟨b', B', np', nd', lw', NP', ND', Q, tq, 0, Cor_XG hC hF (by show gX m < _; omega) (fun j => yI _ _ (by omega) (by omega)) (fun j => yI _ _ (by omega) (by omega)) (fun j => yJ _ _ (by omega)) hMoN g7 (KF_Bd hK b1) (Zr_pZ _ _ _) b3 (UnR_0 ?_ hyu) ?_ (fun k' hk' => ?_) (fun j hj => ?_) (fun j hj => ?_)⟩, Mis_same hM (fun j hj => ?_) (fun i j hi => ?_) (fun j hj => ?_) (fun i j hi => ?_), DTb_FC hD (by omega) (by omega) hFC⟩, hFC, ⟨hN2, fun c hc => ⟨fun j => yJ _ _ (by omega), fun j => yI _ _ (by omega) (by omega)⟩⟩⟩
      · rw [gI_pZo (by omega)]; exact if_pos ⟨rfl, rfl⟩
      · rw [g34]
        rcases b8 with ⟨h1, h2⟩ | ⟨c, kk, g, h1, h2, h3, h4, h5, h6⟩
        · exact Or.inl ⟨h1, by rw [y2 147 (by omega)]; exact h2⟩
        · exact Or.inr ⟨c, kk, g, h1, h2, KF_Tr hK _ _ _ _ h3, by rw [y2 147 (by omega)]; exact h4, by rw [y2 148 (by omega)]; exact h5, fun j hj => by rw [y2 _ (by omega), ← h6 j hj, show 389 * k + (147 + 2 + j) = 389 * k + 147 + 2 + j by omega]⟩
      · rw [y2 _ (by omega)]; exact b5 k' hk'
      · rw [y7 _ (by omega)]; exact b6 j hj
      · rw [y7 _ (by omega), ← b7 j hj, show 13 * k + (7 + j) = 13 * k + 7 + j by omega]
      · (try unfold mcx at *); (try unfold mcr at *); (try unfold mmx at *); (try unfold mmr at *); (try unfold mcx2 at *); (try unfold mcr2 at *); (try unfold mmx2 at *); (try unfold mmr2 at *); rw [gI_pZo (by omega)]; unfold reM; rw [gI_sI, if_neg (by omega)]; rfl
      · (try unfold mcx at *); (try unfold mcr at *); (try unfold mmx at *); (try unfold mmr at *); (try unfold mcx2 at *); (try unfold mcr2 at *); (try unfold mmx2 at *); (try unfold mmr2 at *); rw [gI_pZo (by omega)]; unfold reM; rw [gI_sI, if_neg (by omega)]; rfl
      · (try unfold mcx at *); (try unfold mcr at *); (try unfold mmx at *); (try unfold mmr at *); (try unfold mcx2 at *); (try unfold mcr2 at *); (try unfold mmx2 at *); (try unfold mmr2 at *); exact yI _ _ (by omega) (by omega)
      · (try unfold mcx at *); (try unfold mcr at *); (try unfold mmx at *); (try unfold mmr at *); (try unfold mcx2 at *); (try unfold mcr2 at *); (try unfold mmx2 at *); (try unfold mmr2 at *); exact yI _ _ (by omega) (by omega)
  · have hc := fun r => c_restore0 (r := r) (d := 210) (k := k) hOb (fun h => hk h.1) (by omega)
    have hq := fun r => q_restore0 (r := r) (d := 210) (k := k) hMo (fun h => hk h.1) (by omega)
    exact Swt_XY hC hD hX hc hq (XF_refl _ _) (by omega) (by omega) (YF_sI (by unfold ysc; omega)) (Mis_y0 hM)
end WG
