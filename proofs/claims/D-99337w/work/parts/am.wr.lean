/-! THE WORLD: tables, sentences, books -/
section WR
variable {m mm m' mm' m2 : PM} {x y lo b n : Nat} {B : Rw} {np nd lw : Nat} {NP ND : Nat → List Nat} {R : Rw} {t u : Nat}
theorem smI_b {f : Nat → Int} (h : ∀ i, i < 7 → 0 ≤ f i ∧ f i ≤ 40) : smI f 7 ≤ 280 := by
  have h0 := h 0 (by omega)
  have h1 := h 1 (by omega)
  have h2 := h 2 (by omega)
  have h3 := h 3 (by omega)
  have h4 := h 4 (by omega)
  have h5 := h 5 (by omega)
  have h6 := h 6 (by omega)
  show 0 + f 0 + f 1 + f 2 + f 3 + f 4 + f 5 + f 6 ≤ 280
  omega
theorem GR_beg (hB : GB B np nd lw) : GR B (begF B) nd 0 := by
  have e1 : ∀ k, begF B 1 k = B 7 k := fun k => rfl
  have e2 : ∀ k, begF B 2 k = B 5 k := fun k => rfl
  refine ⟨fun p d h1 h2 => ?_, fun p d hp hd => ?_, fun d hd => ?_, fun d hd => ?_, fun p hp => ⟨?_, ?_⟩, rfl, by omega⟩
  · rw [e1]; exact GB_70 hB p d h1 h2
  · rw [e1]; exact (GB_7 hB p d hp hd).1
  · rw [e2]; exact (GB_5 hB d hd).1
  · unfold tot
    simp only [e1, e2]
    have := smI_b (f := fun p => (B 7 (6 * p + d)).toInt) (fun p hp => GB_7 hB p d hp hd)
    have := (GB_5 hB d hd).2
    omega
  · show 0 ≤ (0 : Int32).toInt; decide
  · show (0 : Int32).toInt ≤ _
    exact (GB_w hB p hp).1
theorem st_rw {g h : Nat → Int32} (hh : ∀ j, j < 72 → h j = rwF B (fun _ _ => 0) (fun _ => 0) j) {k : Nat} (hk : k < 147) : stF (cpF g h 72) k = rwF B (begF B) (fun _ => 0) k := by
  unfold stF plF paF zF cpF
  try dsimp only
  by_cases c1 : 105 ≤ k
  · rw [if_pos ⟨c1, by omega⟩, if_neg (by omega), if_neg (by omega), if_pos (by omega), hh _ (by omega)]
    unfold rwF
    rw [if_neg (by omega), if_neg (by omega), if_neg (by omega), if_neg (by omega), if_neg (by omega), if_pos (by omega), if_neg (by omega), if_neg (by omega), if_neg (by omega), if_neg (by omega), if_neg (by omega), if_neg (by omega), if_neg (by omega), if_neg (by omega), if_neg (by omega), if_neg (by omega), if_neg (by omega), if_pos (by omega)]
    show B 7 _ = B 7 _
    rw [show k - 75 - 30 = k - 105 by omega]
  · rw [if_neg (by omega)]
    by_cases c2 : 78 ≤ k ∧ k < 78 + 6
    · rw [if_pos c2, if_neg (by omega), if_pos (by omega), hh _ (by omega)]
      unfold rwF
      rw [if_neg (by omega), if_neg (by omega), if_neg (by omega), if_pos (by omega), if_neg (by omega), if_neg (by omega), if_neg (by omega), if_neg (by omega), if_neg (by omega), if_neg (by omega), if_neg (by omega), if_pos (by omega)]
      show B 5 _ = B 5 _
      rw [show k - 60 - 18 = k - 78 by omega]
    · rw [if_neg c2]
      by_cases c3 : k < 72
      · rw [if_neg (by omega), if_pos c3, hh _ c3]
        exact rwF_bd c3
      · rw [if_pos (by omega)]
        unfold rwF
        rw [if_neg (by omega), if_neg (by omega), if_neg (by omega), if_neg (by omega), if_neg (by omega), if_neg (by omega)]
        by_cases d1 : k < 78
        · rw [if_pos d1]; rfl
        · rw [if_neg d1, if_neg (by omega)]
          by_cases d2 : k < 91
          · rw [if_pos d2]; rfl
          · rw [if_neg d2]
            by_cases d3 : k < 98
            · rw [if_pos d3]; rfl
            · rw [if_neg d3, if_pos (by omega)]; rfl
theorem st_hi {g h : Nat → Int32} {k : Nat} (h1 : 147 ≤ k) (h2 : k < 389) : stF (cpF g h 72) k = 0 := by
  unfold stF plF paF zF cpF
  try dsimp only
  rw [if_neg (by omega), if_neg (by omega), if_pos (by omega)]
/-- the board just read, in the class -/
def trM (m : PM) (x n : Nat) (o : Int32) (B : Rw) (P D : Nat → Int64) (p a t v nn : Int32) (w : Int64) : PM := rdM (bdM (sI (tbB m x n) (x + 26) 9 o) (gX m) B P D) (x + 26) p a t v nn w
theorem tr_XF {o p a tt v nn : Int32} {P D : Nat → Int64} {w : Int64} (hx : x + 43 ≤ gX m) (hX : gX m + 8 < 900000) : XF m (trM m x n o B P D p a tt v nn w) x := by
  unfold trM
  refine ⟨by show gX m ≤ gX m + 8; omega, fun c hc => ⟨tbB_K (by omega), tbB_N (by omega)⟩, fun c j hc _ h2 => tbB_R (by omega) h2, fun c j hc h1 => ?_, fun c j hc h1 => ?_⟩
  · rw [rd_Jo (by omega), gJ_bdo (by omega)]
    exact tbB_J (by omega)
  · unfold scr at h1
    by_cases e : c = x + 26
    · subst e
      have ej : j = 0 := by omega
      subst ej
      rw [rd_0, gI_bdo (by omega), gI_sI, if_neg (by omega), tbB_I (by omega) (by omega)]
    · rw [rd_o e, gI_bdo (by omega), gI_sI, if_neg (by omega), tbB_I (by omega) (by omega)]
theorem FrX_XF {M' : PM} (hx : x + 43 ≤ gX m) (hX : gX m + 8 < 900000) (h : FrX (tbB m x n) M' (x + 26) x (gX m)) : XF m M' x := by
  obtain ⟨h1, h2, h3, h4, h5, h6, h7⟩ := h
  have h4 : gX M' = gX m + 8 := h4
  refine ⟨by omega, fun c hc => ⟨(h1 c).trans (tbB_K (by omega)), (h2 c).trans (tbB_N (by omega))⟩, fun c j hc _ h => (h3 c j).trans (tbB_R (by omega) h), fun c j hc h => ((h6 c j (by omega) (by omega) (by omega)).2).trans (tbB_J (by omega)), fun c j hc h => ?_⟩
  unfold scr at h
  by_cases e : c = x + 26
  · subst e
    have ej : j = 0 := by omega
    subst ej
    rw [h7, tbB_I (by omega) (by omega)]
  · rw [(h6 c j e (by omega) (by omega)).1, tbB_I (by omega) (by omega)]
theorem PM_22 (h1 : ∀ c, gK m' c = gK m c) (h2 : ∀ c, gN m' c = gN m c) (h3 : ∀ c j, gR m' c j = gR m c j) (h4 : gX m' = gX m) (h5 : gS m' = gS m) : m'.2.2 = m.2.2 := by
  obtain ⟨a1, a2, a3, a4, a5, a6, a7⟩ := m
  obtain ⟨b1, b2, b3, b4, b5, b6, b7⟩ := m'
  have e1 : b4 = a4 := funext h1
  have e2 : b5 = a5 := funext h2
  have e3 : b3 = a3 := funext fun c => funext fun j => h3 c j
  have e4 : b6 = a6 := h4
  have e5 : b7 = a7 := h5
  rw [e1, e2, e3, e4, e5]
theorem op_table : Op 5 125 [] x y lo := by
  rintro m mm ⟨⟨b, B, np, nd, lw, NP, ND, R, t, u, hC⟩, hM, hD⟩ hX; obtain ⟨⟨hOb, hRX, hSt, hSt2, hSL, hlo, hK16⟩, hb, ⟨hBo, hBr, hB, hNP, hND, hbO, hbX⟩, hZ, hR, ⟨hu, hu8, huy, hUn⟩, hSe, hI0, hI1, hMo, hYr, hn1, hn2⟩ := id hC; have hbz : b + 7 < x + 14 ∨ x + 14 + 5 < b := (by omega)
  obtain ⟨n, T, hn, e1, e2, e3, e4, e5⟩ := hM.1
  rcases read_sim hOb hSt hRX e1 hn e3 e5 (by omega) (by omega) hMo e2 e4 with ⟨c, o, hL, hDg, B', P, D, N, NP', ND', np', nd', lw', p, a, tt, v, nn, w, f, w2, c1, hB', hNB, hf, rd, hq⟩ | ⟨k, a, ⟨M', f1, f2, f3, rd⟩, ⟨N', g1, g2, hq⟩⟩
  · obtain ⟨Mr, hMr⟩ : ∃ Mr, Mr = trM m x n o B' P D p a tt v nn w := ⟨_, rfl⟩
    have hF0 : XF m Mr x := by rw [hMr]; exact tr_XF (by omega) (by omega)
    have gXr : gX Mr = gX m + 8 := by rw [hMr]; rfl
    have gSr : gS Mr = gS m + 92 := by rw [hMr]; rfl
    have rI : ∀ j, j ≠ 1 → j ≠ 2 → j ≠ 12 → gI Mr x j = gI m x j := fun j h1 h2 h3 => by
      rw [hMr]; unfold trM
      rw [rd_o (by omega), gI_bdo (by omega), gI_sI, if_neg (by omega), tbB_I (by omega) (by omega)]
    have rR : ∀ i j, 31 ≤ i → i ≤ 38 → gI Mr (x + i) j = gI m (x + i) j := fun i j h1 h2 => by
      rw [hMr]; unfold trM
      rw [rd_o (by omega), gI_bdo (by omega), gI_sI, if_neg (by omega), tbB_I (by omega) (by omega)]
    have rZ : gI Mr x 1 = 0 ∧ gI Mr x 12 = 0 := by
      have h : ∀ j, gI Mr x j = gI (tb0 m x n) x j := fun j => by
        rw [hMr]; unfold trM
        rw [rd_o (by omega), gI_bdo (by omega), gI_sI, if_neg (by omega)]
        show gI (boN (tb0 m x n)) x j = _
        exact gI_boN (Or.inl (show x < gX m by omega))
      rw [h, h]
      refine ⟨?_, if_pos ⟨rfl, rfl⟩⟩
      show (if x = x ∧ 1 = 12 then (0 : Int32) else if x = x ∧ 1 = 1 then 0 else _) = 0
      rw [if_neg (by omega), if_pos ⟨rfl, rfl⟩]
    have rB : Bo Mr (gX m) := by rw [hMr]; exact tbB_Bo (by omega)
    have rBr : Br Mr (gX m) B' := fun s k hk => by
      have := inb_lt hk
      rw [hMr]; unfold trM
      rw [rd_o (by omega)]
      exact gI_bds hk
    have rP : ∀ k, gJ Mr (gX m + 1) k = P k := fun k => by
      rw [hMr]; unfold trM
      rw [rd_Jo (by omega)]
      exact if_pos rfl
    have rD : ∀ k, gJ Mr (gX m + 2) k = D k := fun k => by
      rw [hMr]; unfold trM
      rw [rd_Jo (by omega)]
      show (if gX m + 2 = gX m + 1 then _ else if gX m + 2 = gX m + 2 then D k else _) = _
      rw [if_neg (by omega), if_pos rfl]
    have rd : Run 26 107 [.ref (x + 26), .ref (gX m)] (boN (tb0 m x n)) ((0, some (.int (nI c))), Mr) := by rw [hMr]; exact rd
    obtain ⟨hObr, hRXr, hStr, hSt2r, hSLr, hlor, hK16r⟩ := XF_Sh hF0 (by omega) hC.1
    have hc := run_all (c_tableY hOb e1 (by omega) (by omega) rd (Ob_K0 hObr) (Ob_R0_8 hObr) hStr rB rBr) 210
    have hq := run_all hq 210
    have hF : XG m (sR (sI (pZ (sR Mr x 7 (some (gX m))) (x + 14) (begF B')) x 14 0) x 34 none) x := XG_tr (XF_XG hF0) (XG_tr (XG_tr (XG_tr (XG_sR (Or.inl rfl)) XG_pZ) (XG_sI (by unfold scg; omega))) (XG_sR (Or.inr rfl)))
    have hFC : FC m (sR (sI (pZ (sR Mr x 7 (some (gX m))) (x + 14) (begF B')) x 14 0) x 34 none) x lo := XG_FC hF (by omega) (by show gX Mr ≤ _; omega) (by show gS Mr ≤ _; omega) (by omega)
    obtain ⟨N', hN'⟩ : ∃ N', N' = tyM (mdM (qdM (flM (bgM mm y n 900) y hL hDg) y B' N) y f w2) y := ⟨_, rfl⟩
    have hN2 : N'.2.2 = mm.2.2 := by rw [hN']; rfl
    have nJ : ∀ c j, c ≠ y → c ≠ y + 7 → c ≠ y + 8 → gJ N' c j = gJ mm c j := fun c j h1 h2 h3 => by
      rw [hN']
      show (if c = y + 7 then _ else gJ (mdM (qdM (flM (bgM mm y n 900) y hL hDg) y B' N) y f w2) c j) = _
      rw [if_neg h2, md_Jo h1, gQJo h3]; rfl
    have n7 : ∀ j, j < 13 → gJ N' (y + 7) j = N j := fun j hj => by
      rw [hN']
      show (if y + 7 = y + 7 then cpJ _ (gJ (mdM (qdM (flM (bgM mm y n 900) y hL hDg) y B' N) y f w2) (y + 8)) 13 j else _) = _
      rw [if_pos rfl]
      show (if j < 13 then _ else _) = _
      rw [if_pos hj, md_Jo (by omega)]
      exact if_pos rfl
    have nI' : ∀ c j, c ≠ y → c ≠ y + 2 → c ≠ y + 3 → gI N' c j = gI mm c j := fun c j h1 h2 h3 => by
      rw [hN']
      unfold tyM
      rw [gI_sI, if_neg (by omega), gI_wI, if_neg h2]
      show gI (mdM (qdM (flM (bgM mm y n 900) y hL hDg) y B' N) y f w2) c j = _
      rw [md_o h1, gQo h3]
      unfold flM
      rw [gI_sI, if_neg (by omega), gI_sI, if_neg (by omega), bg_o (Or.inl h1)]
    have nyj : ∀ j, 14 ≤ j → j ≠ 23 → j ≠ 24 → j ≠ 25 → gI N' y j = gI mm y j := fun j h1 h2 h3 h4 => by
      rw [hN']
      unfold tyM
      rw [gI_sI, if_neg (by omega), gI_wI, if_neg (by omega)]
      show gI (mdM (qdM (flM (bgM mm y n 900) y hL hDg) y B' N) y f w2) y j = _
      rw [md_l (Or.inr h1), gQo (by omega)]
      unfold flM
      rw [gI_sI, if_neg (by omega), gI_sI, if_neg (by omega), bg_o (by omega)]
    have nyz : gI N' y 2 = 0 ∧ gI N' y 10 = 0 ∧ gI N' y 23 = 0 := by
      refine ⟨?_, ?_, by rw [hN']; exact if_pos ⟨rfl, rfl⟩⟩
      · rw [hN']
        unfold tyM
        rw [gI_sI, if_neg (by omega), gI_wI, if_neg (by omega)]
        show gI (mdM (qdM (flM (bgM mm y n 900) y hL hDg) y B' N) y f w2) y 2 = _
        rw [md_l (Or.inl (by omega)), gQo (by omega)]
        unfold flM
        rw [gI_sI, if_neg (by omega), gI_sI, if_neg (by omega)]
        show (if y = y ∧ 2 = 4 then nI 900 else if y = y ∧ 2 = 3 then nI n else if y = y ∧ 2 = 2 then (0 : Int32) else _) = 0
        rw [if_neg (by omega), if_neg (by omega), if_pos ⟨rfl, rfl⟩]
      · rw [hN']
        unfold tyM
        rw [gI_sI, if_neg (by omega), gI_wI, if_neg (by omega)]
        show gI (mdM (qdM (flM (bgM mm y n 900) y hL hDg) y B' N) y f w2) y 10 = _
        rw [md_g (by omega)]; exact hf
    have n2 : ∀ k, gI N' (y + 2) k = stF (cpF (gI (mdM (qdM (flM (bgM mm y n 900) y hL hDg) y B' N) y f w2) (y + 2)) (gI (mdM (qdM (flM (bgM mm y n 900) y hL hDg) y B' N) y f w2) (y + 3)) 72) k := fun k => by
      rw [hN']
      unfold tyM
      rw [gI_sI, if_neg (by omega), gI_wI, if_pos rfl]
    have n3 : ∀ j, j < 72 → gI (mdM (qdM (flM (bgM mm y n 900) y hL hDg) y B' N) y f w2) (y + 3) j = rwF B' (fun _ _ => 0) (fun _ => 0) j := fun j hj => by
      rw [md_o (by omega)]
      exact if_pos ⟨rfl, hj⟩
    rw [← hN'] at hq
    have hBd : BdC (sR (sI (pZ (sR Mr x 7 (some (gX m))) (x + 14) (begF B')) x 14 0) x 34 none) x lo (gX m) B' np' nd' lw' NP' ND' := by
      refine BdC_same (m := Mr) ⟨rB, rBr, hB', fun k hk => ?_, fun k hk => ?_, Or.inr (by omega), by omega⟩ (by show gX Mr ≤ gX Mr; omega) (fun s hs => ⟨rfl, rfl⟩) (fun j => ?_) (fun s k hs => ?_) (fun s j _ _ => rfl)
      · rw [rP]; exact ⟨(hNB.1 k hk).1, (hNB.1 k hk).2.2⟩
      · rw [rD]; exact ⟨(hNB.2 k hk).1, (hNB.2 k hk).2.2⟩
      · show (if gX m = x ∧ j = 34 then _ else if gX m = x ∧ j = 7 then _ else _) = _
        rw [if_neg (by omega), if_neg (by omega)]; rfl
      · show gI (sI (pZ (sR Mr x 7 (some (gX m))) (x + 14) (begF B')) x 14 0) (gX m + s) k = _
        rw [gI_sI, if_neg (by omega), gI_pZo (by omega)]; rfl
    refine ⟨_, _, _, fun r => hc r (by omega), fun r => hq r (by omega), ⟨⟨gX m, B', np', nd', lw', NP', ND', begF B', 0, 0, Cor_XG hC hF (by show gX Mr < _; omega) (fun j => nI' _ _ (by omega) (by omega) (by omega)) (fun j => nI' _ _ (by omega) (by omega) (by omega)) (fun j => nJ _ _ (by omega) (by omega) (by omega)) (Mo_22 hN2 hMo) ?_ hBd ?_ (GR_beg hB') (UnR_0 ?_ nyz.2.2) (Or.inl ⟨?_, ?_⟩) (fun k hk => ?_) (fun j hj => ?_) (fun j hj => ?_)⟩, Mis_t hM (Tp_zero ?_ nyz.1) ?_ (fun j hj => ?_) (fun i j hi => ?_) (fun j hj => ?_) (fun i j hi => ?_), DTb_FC hD (by omega) (by omega) hFC⟩, hFC, ⟨hN2, fun c hc => ⟨fun j => nJ _ _ (by omega) (by omega) (by omega), fun j => nI' _ _ (by omega) (by omega) (by omega)⟩⟩⟩
    · show (if x = x ∧ 7 = 34 then _ else if x = x ∧ 7 = 7 then some (gX m) else _) = _
      rw [if_neg (by omega), if_pos ⟨rfl, rfl⟩]
    · exact Zr_sIx (Zr_pZ _ _ _) (by omega)
    · exact if_pos ⟨rfl, rfl⟩
    · exact if_pos ⟨rfl, rfl⟩
    · rw [n2, st_hi (by omega) (by omega)]
    · rw [n2]; exact st_rw n3 hk
    · have := GB_n7 hB'
      rw [n7 j (by omega)]; exact (hNB.1 j hj).2.1
    · have := GB_d6 hB'
      rw [n7 (7 + j) (by omega)]; exact (hNB.2 j hj).2.1
    · show gI (sI (pZ (sR Mr x 7 (some (gX m))) (x + 14) (begF B')) x 14 0) x 1 = 0
      rw [gI_sI, if_neg (by omega), gI_pZo (by omega)]; exact rZ.1
    · show gI (sI (pZ (sR Mr x 7 (some (gX m))) (x + 14) (begF B')) x 14 0) x 12 = _
      rw [gI_sI, if_neg (by omega), gI_pZo (by omega), nyz.2.1]; exact rZ.2
    · (try unfold mcx at *); (try unfold mcr at *); (try unfold mmx at *); (try unfold mmr at *); (try unfold mcx2 at *); (try unfold mcr2 at *); (try unfold mmx2 at *); (try unfold mmr2 at *)
      show gI (sI (pZ (sR Mr x 7 (some (gX m))) (x + 14) (begF B')) x 14 0) x j = _
      rw [gI_sI, if_neg (by omega), gI_pZo (by omega)]; exact rI j (by omega) (by omega) (by omega)
    · (try unfold mcx at *); (try unfold mcr at *); (try unfold mmx at *); (try unfold mmr at *); (try unfold mcx2 at *); (try unfold mcr2 at *); (try unfold mmx2 at *); (try unfold mmr2 at *)
      show gI (sI (pZ (sR Mr x 7 (some (gX m))) (x + 14) (begF B')) x 14 0) (x + i) j = _
      rw [gI_sI, if_neg (by omega), gI_pZo (by omega)]
      exact rR i j (by omega) (by omega)
    · (try unfold mcx at *); (try unfold mcr at *); (try unfold mmx at *); (try unfold mmr at *); (try unfold mcx2 at *); (try unfold mcr2 at *); (try unfold mmx2 at *); (try unfold mmr2 at *); exact nyj _ (by omega) (by omega) (by omega) (by omega)
    · (try unfold mcx at *); (try unfold mcr at *); (try unfold mmx at *); (try unfold mmr at *); (try unfold mcx2 at *); (try unfold mcr2 at *); (try unfold mmx2 at *); (try unfold mmr2 at *); exact nI' _ _ (by omega) (by omega) (by omega)
  · have hF0 := FrX_XF (by omega) (by omega) f1
    obtain ⟨hObr, hRXr, hStr, hSt2r, hSLr, hlor, hK16r⟩ := XF_Sh hF0 (by have : gX M' = gX m + 8 := f1.2.2.2.1; omega) hC.1
    have hc := run_all (c_tableN hOb e1 (by omega) (by omega) rd (Ob_K0 hObr) (Ob_K2 hObr) f2 f3) 210
    have hq := run_all hq 210
    have hF : XF m (sI M' x 12 (nI k)) x := XF_tr hF0 (XF_sI (by unfold scr; omega))
    obtain ⟨h1, h2, h3, h4, h5, h6, h7⟩ := f1
    have h4 : gX M' = gX m + 8 := h4
    have h5 : gS M' = gS m + 92 := h5
    have fI : ∀ j, j ≠ 1 → j ≠ 2 → j ≠ 12 → gI M' x j = gI m x j := fun j j1 j2 j3 => by
      rw [(h6 x j (by omega) (by omega) (by omega)).1, tbB_I (by omega) (by omega)]
    have fR : ∀ i j, 31 ≤ i → i ≤ 38 → gI M' (x + i) j = gI m (x + i) j := fun i j i1 i2 => by
      rw [(h6 (x + i) j (by omega) (by omega) (by omega)).1, tbB_I (by omega) (by omega)]
    have fZ : gI M' x 1 = 0 := by
      rw [(h6 x 1 (by omega) (by omega) (by omega)).1]
      show gI (boN (tb0 m x n)) x 1 = _
      rw [gI_boN (m := tb0 m x n) (Or.inl (show x < gX m by omega))]
      show (if x = x ∧ 1 = 12 then (0 : Int32) else if x = x ∧ 1 = 1 then 0 else _) = 0
      rw [if_neg (by omega), if_pos ⟨rfl, rfl⟩]
    obtain ⟨q1, q2, q3, q4, q5, q6, q7, q8⟩ := g1
    have hN2 : N'.2.2 = mm.2.2 := PM_22 q1 q2 q3 q4 q5
    have nyj : ∀ j, 14 ≤ j → j ≠ 24 → j ≠ 25 → gI N' y j = gI mm y j := fun j j1 j2 j3 => by
      rw [q8 j (Or.inr j1) j2 j3, bg_o (by omega)]
    have nI' : ∀ c j, c ≠ y → c ≠ y + 3 → gI N' c j = gI mm c j := fun c j c1 c2 => by
      rw [q6 c j c1 c2, bg_o (Or.inl c1)]
    have nz : gI N' y 2 = 0 := by
      rw [q8 2 (by omega) (by omega) (by omega)]
      show (if y = y ∧ 2 = 4 then nI 900 else if y = y ∧ 2 = 3 then nI n else if y = y ∧ 2 = 2 then (0 : Int32) else _) = 0
      rw [if_neg (by omega), if_neg (by omega), if_pos ⟨rfl, rfl⟩]
    have hY : YF mm N' y := ⟨hN2, fun c j c1 c2 => q7 c j c1 c2, fun c j hc => by
      unfold ysc at hc
      by_cases e : c = y
      · subst e; exact nyj j (by omega) (by omega) (by omega)
      · exact nI' c j e (by omega)⟩
    refine Swt_XY hC hD hX (fun r => hc r (by omega)) (fun r => hq r (by omega)) hF (by show gX M' ≤ _; omega) (by show gS M' ≤ _; omega) hY (Mis_t hM (Tp_zero ?_ nz) ?_ (fun j hj => ?_) (fun i j hi => ?_) (fun j hj => ?_) (fun i j hi => ?_))
    · rw [gI_sI, if_neg (by omega)]; exact fZ
    · rw [g2]; exact if_pos ⟨rfl, rfl⟩
    · (try unfold mcx at *); (try unfold mcr at *); (try unfold mmx at *); (try unfold mmr at *); (try unfold mcx2 at *); (try unfold mcr2 at *); (try unfold mmx2 at *); (try unfold mmr2 at *); rw [gI_sI, if_neg (by omega)]; exact fI j (by omega) (by omega) (by omega)
    · (try unfold mcx at *); (try unfold mcr at *); (try unfold mmx at *); (try unfold mmr at *); (try unfold mcx2 at *); (try unfold mcr2 at *); (try unfold mmx2 at *); (try unfold mmr2 at *); rw [gI_sI, if_neg (by omega)]; exact fR i j (by omega) (by omega)
    · (try unfold mcx at *); (try unfold mcr at *); (try unfold mmx at *); (try unfold mmr at *); (try unfold mcx2 at *); (try unfold mcr2 at *); (try unfold mmx2 at *); (try unfold mmr2 at *); exact nyj j (by omega) (by omega) (by omega)
    · (try unfold mcx at *); (try unfold mcr at *); (try unfold mmx at *); (try unfold mmr at *); (try unfold mcx2 at *); (try unfold mcr2 at *); (try unfold mmx2 at *); (try unfold mmr2 at *); exact nI' _ _ (by omega) (by omega)
/-- a new sentence -/
theorem Cor_sen {g : Nat → Int32} {c k : Nat} (h : Cor m mm x y lo b B np nd lw NP ND R t u) (hT : TrF m g (k + 1) c k) (hk : k < 60) : Cor (sR m x 34 (some c)) (syM mm y k g) x y lo b B np nd lw NP ND R t u := by
  have hF : XG m (sR m x 34 (some c)) x := XG_sR (Or.inr rfl)
  have hK := XG_KF hF h.1
  have hC := h
  obtain ⟨⟨hOb, hRX, hSt, hSt2, hSL, hlo, hK16⟩, hb, ⟨hBo, hBr, hB, hNP, hND, hbO, hbX⟩, hZ, hR, ⟨hu, hu8, huy, hUn⟩, hSe, hI0, hI1, hMo, hYr, hn1, hn2⟩ := id hC; have hbz : b + 7 < x + 14 ∨ x + 14 + 5 < b := (by omega)
  have yI : ∀ c j, ¬ (c = y + 2 ∧ 147 ≤ j) → gI (syM mm y k g) c j = gI mm c j := fun c j h1 => by
    unfold syM
    by_cases e : c = y + 2
    · subst e
      rw [gI_bWx (by omega), gI_sI, if_neg (by omega), gI_sI, if_neg (by omega)]
    · rw [gI_bWo e, gI_sI, if_neg (by omega), gI_sI, if_neg (by omega)]
  refine Cor_XG hC hF hlo.2.2.2 (fun j => yI _ _ (by omega)) (fun j => yI _ _ (by omega)) (fun j => rfl) hMo ?_ (KF_Bd hK hC.2.2.1) hZ hR ⟨hu, hu8, (yI _ _ (by omega)).trans huy, fun i hi => ?_⟩ ?_ (fun k' hk' => (yI _ _ (by omega)).trans (hYr k' hk')) hn1 hn2
  · rw [gR_sR, if_neg (by omega)]; exact hb
  · obtain ⟨a, Q, t2, p1, p2, p3, p4⟩ := hUn i hi
    exact ⟨a, Q, t2, by rw [gR_sR, if_neg (by omega)]; exact p1, p2, p3, fun k' hk' => (yI _ _ (by omega)).trans (p4 k' hk')⟩
  · have e : gR (sR m x 34 (some c)) x 34 = some c := if_pos ⟨rfl, rfl⟩
    rw [e]
    refine Or.inr ⟨c, k, g, rfl, hk, KF_Tr hK _ _ _ _ hT, ?_, ?_, fun j hj => ?_⟩
    · unfold syM
      rw [gI_bWx (by omega), gI_sI, if_neg (by omega), gI_sI, if_pos ⟨rfl, rfl⟩]
    · unfold syM
      rw [gI_bWx (by omega), gI_sI, if_pos ⟨rfl, rfl⟩]
    · unfold syM
      rw [gI_bW, if_pos ⟨rfl, by omega, by omega⟩, show 147 + 2 + j - 149 = j by omega]
theorem tb_x {j : Nat} (h1 : j ≠ 1) (h2 : j ≠ 2) (h3 : j ≠ 12) : gI (tb0 m x n) x j = gI m x j := tb0_o (by omega)
theorem tb_1 : gI (tb0 m x n) x 1 = 0 := by
  show (if x = x ∧ 1 = 12 then (0 : Int32) else if x = x ∧ 1 = 1 then 0 else _) = 0
  rw [if_neg (by omega), if_pos ⟨rfl, rfl⟩]
theorem bg_2 {lim : Nat} : gI (bgM mm y n lim) y 2 = 0 := by
  show (if y = y ∧ 2 = 4 then nI lim else if y = y ∧ 2 = 3 then nI n else if y = y ∧ 2 = 2 then (0 : Int32) else _) = 0
  rw [if_neg (by omega), if_neg (by omega), if_pos ⟨rfl, rfl⟩]
theorem YF_md {f : Nat → Int32} {w : Int64} : YF mm (mdM mm y f w) y := ⟨rfl, fun c j h1 _ => md_Jo h1, fun c j hc => by
  unfold ysc at hc
  by_cases e : c = y
  · subst e; exact md_l (by omega)
  · exact md_o e⟩
theorem YF_nd {h g : Nat → Int32} : YF mm (ndM mm y h g) y := YF_I rfl fun c j hc => by
  unfold ysc at hc
  show (if c = y ∧ 47 ≤ j ∧ j < 51 then h j else if c = y + 21 then g j else mm.1 c j) = _
  rw [if_neg (by omega), if_neg (by omega)]; rfl
theorem YF_bl {l : Int32} {g : Nat → Int32} : YF mm (blM mm y l g) y := YF_I rfl fun c j hc => by
  unfold ysc at hc
  exact bl_o (by omega) (by omega)
theorem YF_bg {lim : Nat} : YF mm (bgM mm y n lim) y := YF_I rfl fun c j hc => by
  unfold ysc at hc
  exact bg_o (by omega)
theorem op_sentence : Op 52 225 [] x y lo := by
  rintro m mm ⟨⟨b, B, np, nd, lw, NP, ND, R, t, u, hC⟩, hM, hD⟩ hX; obtain ⟨⟨hOb, hRX, hSt, hSt2, hSL, hlo, hK16⟩, hb, ⟨hBo, hBr, hB, hNP, hND, hbO, hbX⟩, hZ, hR, ⟨hu, hu8, huy, hUn⟩, hSe, hI0, hI1, hMo, hYr, hn1, hn2⟩ := id hC; have hbz : b + 7 < x + 14 ∨ x + 14 + 5 < b := (by omega)
  have hb7 : gI m b 7 = nI np ∧ gI m b 8 = nI nd ∧ np ≤ 7 ∧ nd ≤ 6 := ⟨(Br0 hBr (by omega)).trans (GB_n hB), (Br0 hBr (by omega)).trans (GB_d hB), GB_n7 hB, GB_d6 hB⟩; have hnP : NaM mm (y + 7) 0 np NP := ⟨Mo_K7 hMo, by rw [Mo_N7 hMo]; have := GB_n7 hB; omega, by rw [Mo_N7 hMo]; omega, fun k hk => ⟨by rw [Nat.zero_add]; exact hn1 k hk, (hNP k hk).2⟩⟩; have hnD : NaM mm (y + 7) 7 nd ND := ⟨Mo_K7 hMo, by rw [Mo_N7 hMo]; have := GB_d6 hB; omega, by rw [Mo_N7 hMo]; omega, fun k hk => ⟨hn2 k hk, (hND k hk).2⟩⟩; have hy0 : gI mm (y + 2) 0 = nI np := (hYr 0 (by omega)).trans (GB_n hB); have hy1 : gI mm (y + 2) 1 = nI nd := (hYr 1 (by omega)).trans (GB_d hB)
  obtain ⟨n, T, hn, e1, e2, e3, e4, e5⟩ := hM.1
  rcases sread_sim hOb hRX e1 hn e3 e5 (by omega) (by omega) hb hBo hb7 hNP hND hbX (by omega) (by omega) hMo e2 e4 hnP hnD hy0 hy1 with ⟨m', p, a, tt, v, nn, w, f, w2, h, g, on, c, k, ⟨s1, s2, s3, s4, s5, s6, s7, s8, s9, s10, s11, s12⟩, rd, h0, g0, f0, w0, qb, qe, qr⟩ | ⟨kf, pl, M, f', w2', h', g', ⟨s1, s2, s3, s4, s5⟩, rd, f10, hq⟩
  · have hF : XF m (rdM m' (x + 39) p a tt v nn w) x := BF_XF (Or.inr rfl) (BF_SF s1)
    obtain ⟨a1, a2, a3⟩ := s1
    have a1 : gX m ≤ gX m' := a1
    have a2 : ∀ c, c < gX m ∨ 1000000 ≤ c → gK m' c = gK m c ∧ gN m' c = gN m c ∧ (∀ j, gR m' c j = gR m c j) ∧ (c ≠ x + 39 → ∀ j, gJ m' c j = gJ m c j) ∧ (c ≠ x + 39 → ∀ j, gI m' c j = gI (tb0 m x n) c j) := a2
    have hc := run_all (c_sentY (on := on) hOb e1 rd ((a2 x (by omega)).1.trans (Ob_K0 hOb)) (((a2 x (by omega)).2.2.1 33).trans (Ob_R0_33 hOb)) ((a2 (x + 39) (by omega)).1.trans (Ob_K39 hOb)) ((rd_9 (by omega)).trans s2)) 210
    have hq := run_all (q_sentY hMo qb qe qr s12 s5 s6) 210
    have hY : YF mm (mdM (ndM (bgM mm y n 200) y h g) y f w2) y := YF_tr (YF_tr YF_bg YF_nd) YF_md
    have hT : TrF (rdM m' (x + 39) p a tt v nn w) g (k + 1) c k := by
      refine TrF_same (m := m') (m' := rdM m' (x + 39) p a tt v nn w) (Nat.le_refl _) (fun c hc k1 k2 => ⟨rfl, fun _ => rfl, fun j => rd_o (fun e => ?_)⟩) _ _ _ s8
      subst e
      have := (a2 (x + 39) (by omega)).1.trans (Ob_K39 hOb)
      omega
    have hC' := Cor_sen (Cor_XY hC hF (by show gX m' < _; omega) hY) hT (by omega)
    have hG : XG m (sR (rdM m' (x + 39) p a tt v nn w) x 34 (some c)) x := XG_tr (XF_XG hF) (XG_sR (Or.inr rfl))
    have hFC : FC m (sR (rdM m' (x + 39) p a tt v nn w) x 34 (some c)) x lo := XG_FC hG (by omega) (by show gX m' ≤ _; omega) (by show gS m' ≤ _; omega) (by omega)
    have yI : ∀ c j, c ≠ y + 2 → gI (syM (mdM (ndM (bgM mm y n 200) y h g) y f w2) y k g) c j = gI (mdM (ndM (bgM mm y n 200) y h g) y f w2) c j := fun c j h1 => by
      unfold syM
      rw [gI_bWo h1, gI_sI, if_neg (by omega), gI_sI, if_neg (by omega)]
    have nyj : ∀ j, 14 ≤ j → (j < 47 ∨ 51 ≤ j) → gI (mdM (ndM (bgM mm y n 200) y h g) y f w2) y j = gI mm y j := fun j j1 j2 => by
      rw [md_l (by omega)]
      show (if y = y ∧ 47 ≤ j ∧ j < 51 then h j else if y = y + 21 then g j else gI (bgM mm y n 200) y j) = _
      rw [if_neg (by omega), if_neg (by omega), bg_o (by omega)]
    have nI' : ∀ c j, c ≠ y → c ≠ y + 21 → gI (mdM (ndM (bgM mm y n 200) y h g) y f w2) c j = gI mm c j := fun c j c1 c2 => by
      rw [md_o c1]
      show (if c = y ∧ 47 ≤ j ∧ j < 51 then h j else if c = y + 21 then g j else gI (bgM mm y n 200) c j) = _
      rw [if_neg (by omega), if_neg c2, bg_o (by omega)]
    have xI : ∀ j, gI (sR (rdM m' (x + 39) p a tt v nn w) x 34 (some c)) x j = gI (tb0 m x n) x j := fun j => by
      show gI (rdM m' (x + 39) p a tt v nn w) x j = _
      rw [rd_o (by omega)]; exact (a2 x (by omega)).2.2.2.2 (by omega) j
    refine ⟨_, _, _, fun r => hc r (by omega), fun r => hq r (by omega), ⟨⟨b, B, np, nd, lw, NP, ND, R, t, u, hC'⟩, Mis_t hM (Tp_zero ?_ ?_) ?_ (fun j hj => ?_) (fun i j hi => ?_) (fun j hj => ?_) (fun i j hi => ?_), DTb_FC hD (by omega) (by omega) hFC⟩, hFC, ⟨rfl, fun c hc => ⟨fun j => show gJ (mdM (ndM (bgM mm y n 200) y h g) y f w2) c j = gJ mm c j from md_Jo (by omega), fun j => (yI _ _ (by omega)).trans (nI' _ _ (by omega) (by omega))⟩⟩⟩
    · rw [xI]; exact tb_1
    · rw [yI _ _ (by omega), md_l (by omega)]
      show (if y = y ∧ 47 ≤ 2 ∧ 2 < 51 then h 2 else if y = y + 21 then g 2 else gI (bgM mm y n 200) y 2) = _
      rw [if_neg (by omega), if_neg (by omega)]; exact bg_2
    · rw [xI, yI _ _ (by omega), md_g (by omega), s11]
      exact if_pos ⟨rfl, rfl⟩
    · (try unfold mcx at *); (try unfold mcr at *); (try unfold mmx at *); (try unfold mmr at *); (try unfold mcx2 at *); (try unfold mcr2 at *); (try unfold mmx2 at *); (try unfold mmr2 at *); rw [xI]; exact tb_x (by omega) (by omega) (by omega)
    · (try unfold mcx at *); (try unfold mcr at *); (try unfold mmx at *); (try unfold mmr at *); (try unfold mcx2 at *); (try unfold mcr2 at *); (try unfold mmx2 at *); (try unfold mmr2 at *)
      show gI (rdM m' (x + 39) p a tt v nn w) (x + i) j = _
      rw [rd_o (by omega), (a2 (x + i) (by omega)).2.2.2.2 (by omega) j, tb0_o (by omega)]
    · (try unfold mcx at *); (try unfold mcr at *); (try unfold mmx at *); (try unfold mmr at *); (try unfold mcx2 at *); (try unfold mcr2 at *); (try unfold mmx2 at *); (try unfold mmr2 at *); rw [yI _ _ (by omega)]; exact nyj _ (by omega) (by omega)
    · (try unfold mcx at *); (try unfold mcr at *); (try unfold mmx at *); (try unfold mmr at *); (try unfold mcx2 at *); (try unfold mcr2 at *); (try unfold mmx2 at *); (try unfold mmr2 at *); rw [yI _ _ (by omega)]; exact nI' _ _ (by omega) (by omega)
  · have hF0 := BX_XF (Or.inr rfl) (BX_SX s1)
    obtain ⟨a1, a2, a3⟩ := s1
    have a1 : gX m ≤ gX M := a1
    have a2 : ∀ c, c < gX m ∨ 1000000 ≤ c → gK M c = gK m c ∧ gN M c = gN m c ∧ (∀ j, gR M c j = gR m c j) ∧ (c ≠ x + 39 → ∀ j, gJ M c j = gJ m c j) ∧ (c ≠ x + 39 → c ≠ x + 2 → ∀ j, gI M c j = gI (tb0 m x n) c j) := a2
    have hc := run_all (c_sentN hOb e1 rd ((a2 x (by omega)).1.trans (Ob_K0 hOb)) ((a2 (x + 2) (by omega)).1.trans (Ob_K2 hOb)) s2 s3) 210
    have hq := run_all hq 210
    have hY : YF mm (mdM (ndM (bgM mm y n 200) y h' g') y f' w2') y := YF_tr (YF_tr YF_bg YF_nd) YF_md
    refine Swt_XY hC hD hX (fun r => hc r (by omega)) (fun r => hq r (by omega)) (XF_tr hF0 (XF_sI (by unfold scr; omega))) (by show gX M ≤ _; omega) (by show gS M ≤ _; omega) hY (Mis_t hM (Tp_zero ?_ ?_) ?_ (fun j hj => ?_) (fun i j hi => ?_) (fun j hj => ?_) (fun i j hi => ?_))
    · rw [gI_sI, if_neg (by omega), (a2 x (by omega)).2.2.2.2 (by omega) (by omega)]; exact tb_1
    · rw [md_l (by omega)]
      show (if y = y ∧ 47 ≤ 2 ∧ 2 < 51 then h' 2 else if y = y + 21 then g' 2 else gI (bgM mm y n 200) y 2) = _
      rw [if_neg (by omega), if_neg (by omega)]; exact bg_2
    · rw [gI_sI, if_pos ⟨rfl, rfl⟩, md_g (by omega), f10]
    · (try unfold mcx at *); (try unfold mcr at *); (try unfold mmx at *); (try unfold mmr at *); (try unfold mcx2 at *); (try unfold mcr2 at *); (try unfold mmx2 at *); (try unfold mmr2 at *); rw [gI_sI, if_neg (by omega), (a2 x (by omega)).2.2.2.2 (by omega) (by omega)]; exact tb_x (by omega) (by omega) (by omega)
    · (try unfold mcx at *); (try unfold mcr at *); (try unfold mmx at *); (try unfold mmr at *); (try unfold mcx2 at *); (try unfold mcr2 at *); (try unfold mmx2 at *); (try unfold mmr2 at *); rw [gI_sI, if_neg (by omega), (a2 (x + i) (by omega)).2.2.2.2 (by omega) (by omega) j, tb0_o (by omega)]
    · (try unfold mcx at *); (try unfold mcr at *); (try unfold mmx at *); (try unfold mmr at *); (try unfold mcx2 at *); (try unfold mcr2 at *); (try unfold mmx2 at *); (try unfold mmr2 at *); rw [md_l (by omega)]
      show (if y = y ∧ 47 ≤ j ∧ j < 51 then h' j else if y = y + 21 then g' j else gI (bgM mm y n 200) y j) = _
      rw [if_neg (by omega), if_neg (by omega), bg_o (by omega)]
    · (try unfold mcx at *); (try unfold mcr at *); (try unfold mmx at *); (try unfold mmr at *); (try unfold mcx2 at *); (try unfold mcr2 at *); (try unfold mmx2 at *); (try unfold mmr2 at *); rw [md_o (by omega)]
      show (if y + i = y ∧ 47 ≤ j ∧ j < 51 then h' j else if y + i = y + 21 then g' j else gI (bgM mm y n 200) (y + i) j) = _
      rw [if_neg (by omega), if_neg (by omega), bg_o (by omega)]
theorem op_book {v : Int32} : Op 50 219 [.int v] x y lo := by
  rintro m mm ⟨⟨b, B, np, nd, lw, NP, ND, R, t, u, hC⟩, hM, hD⟩ hX; obtain ⟨⟨hOb, hRX, hSt, hSt2, hSL, hlo, hK16⟩, hb, ⟨hBo, hBr, hB, hNP, hND, hbO, hbX⟩, hZ, hR, ⟨hu, hu8, huy, hUn⟩, hSe, hI0, hI1, hMo, hYr, hn1, hn2⟩ := id hC; have hbz : b + 7 < x + 14 ∨ x + 14 + 5 < b := (by omega)
  have hb7 : gI m b 7 = nI np ∧ gI m b 8 = nI nd ∧ np ≤ 7 ∧ nd ≤ 6 := ⟨(Br0 hBr (by omega)).trans (GB_n hB), (Br0 hBr (by omega)).trans (GB_d hB), GB_n7 hB, GB_d6 hB⟩; have hnP : NaM mm (y + 7) 0 np NP := ⟨Mo_K7 hMo, by rw [Mo_N7 hMo]; have := GB_n7 hB; omega, by rw [Mo_N7 hMo]; omega, fun k hk => ⟨by rw [Nat.zero_add]; exact hn1 k hk, (hNP k hk).2⟩⟩; have hnD : NaM mm (y + 7) 7 nd ND := ⟨Mo_K7 hMo, by rw [Mo_N7 hMo]; have := GB_d6 hB; omega, by rw [Mo_N7 hMo]; omega, fun k hk => ⟨hn2 k hk, (hND k hk).2⟩⟩; have hy0 : gI mm (y + 2) 0 = nI np := (hYr 0 (by omega)).trans (GB_n hB); have hy1 : gI mm (y + 2) 1 = nI nd := (hYr 1 (by omega)).trans (GB_d hB)
  obtain ⟨n, T, hn, e1, e2, e3, e4, e5⟩ := hM.1
  by_cases hv : nI 0 ≤ v ∧ v ≤ nI 1
  · obtain ⟨k, hk, rfl⟩ := nI_lx (n := 1) (by omega) hv.1 hv.2
    rcases book_sim (lo := lo) (u := u) (R := R) hOb hRX e1 hn e3 e5 (by omega) (by omega) hb hBo hb7 hNP hND hbX (by omega) (by omega) hMo e2 e4 hnP hnD hy0 hy1 hk hSt hSt2 hZ hBr hB hR hSL (by omega) hu hu8 (fun i hi => (hUn i hi).elim fun a h => ⟨a, h.elim fun _ h => h.elim fun _ h => h.1⟩) (by omega) hbO hYr huy with ⟨Q, MQ, A, kd, R', t', ⟨x1, x2, x3, x4, x5⟩, ⟨c1, c2, c3, c4, c5, c6, c7, c8, c9⟩, ⟨q1, q2, q3, q4, q5, q6, q7, q8, q9, q10, q11⟩, hY1, hY0⟩ | ⟨k', a, M, f, w2, g, l, ⟨s1, s2, s3⟩, f10, hc, hq⟩
    · have hY : YF mm MQ y := ⟨q1, fun c j h1 _ => q2 c j h1, fun c j hc => by
        unfold ysc at hc
        by_cases e : c = y
        · subst e; exact q4 j (by omega) (by omega) (by omega)
        · exact q3 c j e (by omega) (by omega) (by omega)⟩
      have hMQ : Mis Q MQ x y := by
        obtain ⟨h1, h2, h3, h4, h5, h6, h7⟩ := hM
        refine ⟨Tp_zero c3 q5, c4.trans q6.symm, Or_same h3 (c1 19 (by omega) (by omega) (by omega) (by omega)) (fun k => c2 _ _ (by omega) (by omega)) (q4 29 (by omega) (by omega) (by omega)) (fun k => q3 _ _ (by omega) (by omega) (by omega) (by omega)), Ea_same h4 (c1 20 (by omega) (by omega) (by omega) (by omega)) (c1 21 (by omega) (by omega) (by omega) (by omega)) (c1 22 (by omega) (by omega) (by omega) (by omega)) (q4 32 (by omega) (by omega) (by omega)) (q4 33 (by omega) (by omega) (by omega)), St_sameR h5 (c1 28 (by omega) (by omega) (by omega) (by omega)) (fun k => c2 _ _ (by omega) (by omega)) (q4 37 (by omega) (by omega) (by omega)) (fun k => q3 _ _ (by omega) (by omega) (by omega) (by omega)), Tx_same h6 (c1 30 (by omega) (by omega) (by omega) (by omega)) (fun k => c2 _ _ (by omega) (by omega)) (q4 40 (by omega) (by omega) (by omega)) (fun k => q3 _ _ (by omega) (by omega) (by omega) (by omega)), ⟨c5.trans q7.symm, fun k hk => ?_⟩⟩
        rcases (show k = 0 ∨ k = 1 ∨ k = 2 ∨ k = 3 by omega) with rfl | rfl | rfl | rfl
        · exact c6.trans q8.symm
        · exact c7.trans q9.symm
        · exact c8.trans q10.symm
        · exact c9.trans q11.symm
      have hCQ := Cor_XY hC x1 (by omega) hY
      have hFQ : FC m Q x lo := XF_FC x1 (by omega) (by omega) (by omega) (by omega)
      by_cases hst : k = 1 ∧ 0 < kd
      · obtain ⟨⟨m1, a, f, u', hks, hc⟩, hq⟩ := hY1 hst
        have hFK := kp_FC (R := R) (R' := R') hCQ.1 (by omega) hks
        obtain ⟨k1, k2, k3, k4, k5, -⟩ := KS_at hCQ.1.2.2.2.2.1 (Cor_lo hCQ).2.2.1 (by omega) hks
        have hFC : FC m (pZ (kpM m1 x a u' R f) (x + 14) R') x lo := ⟨Nat.le_trans hFQ.1 hFK.1, by show gX m1 ≤ _; omega, by show gS m1 ≤ _; omega, fun c hc => ⟨((hFK.2.2.2 c hc).1).trans (hFQ.2.2.2 c hc).1, ((hFK.2.2.2 c hc).2.1).trans (hFQ.2.2.2 c hc).2.1, fun j => ((hFK.2.2.2 c hc).2.2.1 j).trans ((hFQ.2.2.2 c hc).2.2.1 j), fun j => ((hFK.2.2.2 c hc).2.2.2.1 j).trans ((hFQ.2.2.2 c hc).2.2.2.1 j), fun j => ((hFK.2.2.2 c hc).2.2.2.2 j).trans ((hFQ.2.2.2 c hc).2.2.2.2 j)⟩⟩
        have hc := run_all ((hc _).mpr rfl) 210
        have hq := run_all ((hq _).mpr rfl) 210
        exact ⟨_, _, _, fun r => hc r (by omega), fun r => hq r (by omega), ⟨⟨b, B, np, nd, lw, NP, ND, R', t', u', Cor_keep hCQ hks x4 (by omega)⟩, act_Mis hMQ hCQ.1 (by omega) hks, DTb_FC hD (by omega) (by omega) hFC⟩, hFC, FM_tr (YF_FM hY) sn_FM⟩
      · obtain ⟨hc, hq⟩ := hY0 hst
        rw [YF_pY hY hYr] at hq
        have hc := run_all ((hc _).mpr rfl) 210
        have hq := run_all ((hq _).mpr rfl) 210
        exact Swt_XY hC hD hX (fun r => hc r (by omega)) (fun r => hq r (by omega)) x1 (by omega) (by omega) hY hMQ
    · have hF0 := BX_XF (Or.inl rfl) s1
      obtain ⟨a1, a2, a3⟩ := s1
      have a1 : gX m ≤ gX M := a1
      have a2 : ∀ c, c < gX m ∨ 1000000 ≤ c → gK M c = gK m c ∧ gN M c = gN m c ∧ (c ≠ x + 28 → ∀ j, gR M c j = gR m c j) ∧ (c ≠ x + 27 → ∀ j, gJ M c j = gJ m c j) ∧ (c ≠ x + 27 → c ≠ x + 2 → ∀ j, gI M c j = gI (tb0 m x n) c j) := a2
      have hc := run_all hc 210
      have hq := run_all hq 210
      have hY : YF mm (mdM (blM (bgM mm y n 400) y (nI l) g) y f w2) y := YF_tr (YF_tr YF_bg YF_bl) YF_md
      refine Swt_XY hC hD hX (fun r => hc r (by omega)) (fun r => hq r (by omega)) (XF_tr hF0 (XF_sI (by unfold scr; omega))) (by show gX M ≤ _; omega) (by show gS M ≤ _; omega) hY (Mis_t hM (Tp_zero ?_ ?_) ?_ (fun j hj => ?_) (fun i j hi => ?_) (fun j hj => ?_) (fun i j hi => ?_))
      · rw [gI_sI, if_neg (by omega), (a2 x (by omega)).2.2.2.2 (by omega) (by omega)]; exact tb_1
      · rw [md_l (by omega), bl_o (by omega) (by omega)]; exact bg_2
      · rw [gI_sI, if_pos ⟨rfl, rfl⟩, md_g (by omega), f10]
      · (try unfold mcx at *); (try unfold mcr at *); (try unfold mmx at *); (try unfold mmr at *); (try unfold mcx2 at *); (try unfold mcr2 at *); (try unfold mmx2 at *); (try unfold mmr2 at *); rw [gI_sI, if_neg (by omega), (a2 x (by omega)).2.2.2.2 (by omega) (by omega)]; exact tb_x (by omega) (by omega) (by omega)
      · (try unfold mcx at *); (try unfold mcr at *); (try unfold mmx at *); (try unfold mmr at *); (try unfold mcx2 at *); (try unfold mcr2 at *); (try unfold mmx2 at *); (try unfold mmr2 at *); rw [gI_sI, if_neg (by omega), (a2 (x + i) (by omega)).2.2.2.2 (by omega) (by omega) j, tb0_o (by omega)]
      · (try unfold mcx at *); (try unfold mcr at *); (try unfold mmx at *); (try unfold mmr at *); (try unfold mcx2 at *); (try unfold mcr2 at *); (try unfold mmx2 at *); (try unfold mmr2 at *); rw [md_l (by omega), bl_o (by omega) (by omega), bg_o (by omega)]
      · (try unfold mcx at *); (try unfold mcr at *); (try unfold mmx at *); (try unfold mmr at *); (try unfold mcx2 at *); (try unfold mcr2 at *); (try unfold mmx2 at *); (try unfold mmr2 at *); rw [md_o (by omega), bl_o (by omega) (by omega), bg_o (by omega)]
  · have hc := fun r => c_book0 (r := r) (d := 210) (m := m) (x := x) (v := v) hv (by omega)
    have hq := fun r => q_book0 (r := r) (d := 210) (v := v) hMo hv (by omega)
    exact Swt_XY hC hD hX hc hq (XF_refl _ _) (by omega) (by omega) (YF_sI (by unfold ysc; omega)) (Mis_y0 hM)
end WR
