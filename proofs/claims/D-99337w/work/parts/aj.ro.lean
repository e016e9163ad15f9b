/-! THE WORLD: what only looks; acts -/
section RO
variable {x y lo : Nat}
theorem op_fault : Op 9 153 [] x y lo := Op_ro (fun m mm b B np nd lw NP ND R t u hC hM => by obtain ⟨⟨hOb, hRX, hSt, hSt2, hSL, hlo, hK16⟩, hb, ⟨hBo, hBr, hB, hNP, hND, hbO, hbX⟩, hZ, hR, ⟨hu, hu8, huy, hUn⟩, hSe, hI0, hI1, hMo, hYr, hn1, hn2⟩ := id hC; have hbz : b + 7 < x + 14 ∨ x + 14 + 5 < b := (by omega); exact ⟨gI m x 12, fun r => by
    have h := c_fault (r := r) (d := 210) (show Ob (pZ m (x + 14) R) x from hOb) (by omega)
    rw [gI_pZo (by omega)] at h
    exact h, fun r => by
    have h := q_fault (r := r) (d := 210) (B := B) (R := R) hMo (by omega)
    rw [← hM.2.1] at h
    exact h⟩)
theorem op_plate {p k : Int32} : Op 10 161 [.int p, .int k] x y lo := Op_ro (fun m mm b B np nd lw NP ND R t u hC hM => by obtain ⟨⟨hOb, hRX, hSt, hSt2, hSL, hlo, hK16⟩, hb, ⟨hBo, hBr, hB, hNP, hND, hbO, hbX⟩, hZ, hR, ⟨hu, hu8, huy, hUn⟩, hSe, hI0, hI1, hMo, hYr, hn1, hn2⟩ := id hC; have hbz : b + 7 < x + 14 ∨ x + 14 + 5 < b := (by omega); exact ⟨_, fun r => c_plateX hOb hSt hb hBo hBr hbz hB (by omega), fun r => q_plate hMo (GB_n hB) (GB_n7 hB) (GB_d hB) (GB_d6 hB) (by omega)⟩)
theorem op_dish {k w : Int32} : Op 13 163 [.int k, .int w] x y lo := Op_ro (fun m mm b B np nd lw NP ND R t u hC hM => by obtain ⟨⟨hOb, hRX, hSt, hSt2, hSL, hlo, hK16⟩, hb, ⟨hBo, hBr, hB, hNP, hND, hbO, hbX⟩, hZ, hR, ⟨hu, hu8, huy, hUn⟩, hSe, hI0, hI1, hMo, hYr, hn1, hn2⟩ := id hC; have hbz : b + 7 < x + 14 ∨ x + 14 + 5 < b := (by omega); exact ⟨_, fun r => c_dishX hOb hSt hb hBo hBr hbz hB (by omega), fun r => q_dish hMo hB (by omega)⟩)
theorem op_now {w : Int32} : Op 14 164 [.int w] x y lo := Op_ro (fun m mm b B np nd lw NP ND R t u hC hM => by obtain ⟨⟨hOb, hRX, hSt, hSt2, hSL, hlo, hK16⟩, hb, ⟨hBo, hBr, hB, hNP, hND, hbO, hbX⟩, hZ, hR, ⟨hu, hu8, huy, hUn⟩, hSe, hI0, hI1, hMo, hYr, hn1, hn2⟩ := id hC; have hbz : b + 7 < x + 14 ∨ x + 14 + 5 < b := (by omega); exact ⟨_, fun r => c_nowX hOb hSt hb hBo hBr hbz hB (by omega), fun r => q_now hMo (GB_n hB) (GB_n7 hB) (by omega)⟩)
theorem op_heir {p : Int32} : Op 24 166 [.int p] x y lo := Op_ro (fun m mm b B np nd lw NP ND R t u hC hM => by obtain ⟨⟨hOb, hRX, hSt, hSt2, hSL, hlo, hK16⟩, hb, ⟨hBo, hBr, hB, hNP, hND, hbO, hbX⟩, hZ, hR, ⟨hu, hu8, huy, hUn⟩, hSe, hI0, hI1, hMo, hYr, hn1, hn2⟩ := id hC; have hbz : b + 7 < x + 14 ∨ x + 14 + 5 < b := (by omega); exact ⟨_, fun r => c_heirX hOb hSt hb hBo hBr hbz hB (by omega), fun r => q_heir hMo hB (by omega)⟩)
theorem op_line {p k : Int32} : Op 25 170 [.int p, .int k] x y lo := Op_ro (fun m mm b B np nd lw NP ND R t u hC hM => by obtain ⟨⟨hOb, hRX, hSt, hSt2, hSL, hlo, hK16⟩, hb, ⟨hBo, hBr, hB, hNP, hND, hbO, hbX⟩, hZ, hR, ⟨hu, hu8, huy, hUn⟩, hSe, hI0, hI1, hMo, hYr, hn1, hn2⟩ := id hC; have hbz : b + 7 < x + 14 ∨ x + 14 + 5 < b := (by omega); exact ⟨_, fun r => c_lineX hOb hSt hb hBo hBr hbz hB (by omega), fun r => q_line hMo hB (by omega)⟩)
theorem op_hungriest : Op 42 208 [] x y lo := Op_ro (fun m mm b B np nd lw NP ND R t u hC hM => by obtain ⟨⟨hOb, hRX, hSt, hSt2, hSL, hlo, hK16⟩, hb, ⟨hBo, hBr, hB, hNP, hND, hbO, hbX⟩, hZ, hR, ⟨hu, hu8, huy, hUn⟩, hSe, hI0, hI1, hMo, hYr, hn1, hn2⟩ := id hC; have hbz : b + 7 < x + 14 ∨ x + 14 + 5 < b := (by omega); exact ⟨_, fun r => c_hungriestX hOb hSt hb hBo hBr hbz hB (by omega), fun r => q_hungriest hMo (GB_n hB) (GB_n7 hB) (by omega)⟩)
theorem op_kin {p q : Int32} : Op 41 207 [.int p, .int q] x y lo := Op_ro (fun m mm b B np nd lw NP ND R t u hC hM => by obtain ⟨⟨hOb, hRX, hSt, hSt2, hSL, hlo, hK16⟩, hb, ⟨hBo, hBr, hB, hNP, hND, hbO, hbX⟩, hZ, hR, ⟨hu, hu8, huy, hUn⟩, hSe, hI0, hI1, hMo, hYr, hn1, hn2⟩ := id hC; have hbz : b + 7 < x + 14 ∨ x + 14 + 5 < b := (by omega); exact ⟨_, fun r => c_kinX hOb hSt hb hBo hBr hbz hB (by omega), fun r => by
    rw [show kinC B np = kinM B np from funext fun s => kin_eq hB s]
    exact q_kin hMo hB (by omega)⟩)
theorem op_count {w : Int32} : Op 56 239 [.int w] x y lo := Op_ro (fun m mm b B np nd lw NP ND R t u hC hM => by obtain ⟨⟨hOb, hRX, hSt, hSt2, hSL, hlo, hK16⟩, hb, ⟨hBo, hBr, hB, hNP, hND, hbO, hbX⟩, hZ, hR, ⟨hu, hu8, huy, hUn⟩, hSe, hI0, hI1, hMo, hYr, hn1, hn2⟩ := id hC; have hbz : b + 7 < x + 14 ∨ x + 14 + 5 < b := (by omega); exact ⟨_, fun r => c_countX hOb hSt hb hBo hBr hbz (by omega), fun r => by
    obtain ⟨n, T, -, e1, e2, -⟩ := hM.1
    rw [e1, ← e2]
    exact q_count hMo (by omega)⟩)
theorem op_orderAt {k : Int32} : Op 29 194 [.int k] x y lo := Op_ro (fun m mm b B np nd lw NP ND R t u hC hM => by
    obtain ⟨⟨hOb, hRX, hSt, hSt2, hSL, hlo, hK16⟩, hb, ⟨hBo, hBr, hB, hNP, hND, hbO, hbX⟩, hZ, hR, ⟨hu, hu8, huy, hUn⟩, hSe, hI0, hI1, hMo, hYr, hn1, hn2⟩ := id hC; have hbz : b + 7 < x + 14 ∨ x + 14 + 5 < b := (by omega)
    obtain ⟨q, q7, e1, e2, e3⟩ := hM.2.2.1
    refine ⟨(if inN q k = true then gI m (x + 32) k.toNatClampNeg else -1), fun r => ?_, fun r => ?_⟩
    · have h := c_orderAt (r := r) (d := 210) (k := k) (v := gI m x 19) (q := q) (show Ob (pZ m (x + 14) R) x from hOb) (gI_pZo (by omega)) e1 q7 (by omega)
      rw [gI_pZo (by omega)] at h
      exact h
    · have h := q_orderAt (r := r) (d := 210) (k := k) (q := q) (B := B) (R := R) hMo e2 q7 (by omega)
      by_cases c : inN q k = true
      · obtain ⟨k, hk, rfl⟩ := (inN_iff (by omega)).mp c
        rw [nI_clamp (by omega)] at h ⊢
        rw [e3 k hk]
        exact h
      · rw [if_neg c] at h ⊢
        exact h)
theorem op_seatAt {k : Int32} : Op 39 203 [.int k] x y lo := Op_ro (fun m mm b B np nd lw NP ND R t u hC hM => by
    obtain ⟨⟨hOb, hRX, hSt, hSt2, hSL, hlo, hK16⟩, hb, ⟨hBo, hBr, hB, hNP, hND, hbO, hbX⟩, hZ, hR, ⟨hu, hu8, huy, hUn⟩, hSe, hI0, hI1, hMo, hYr, hn1, hn2⟩ := id hC; have hbz : b + 7 < x + 14 ∨ x + 14 + 5 < b := (by omega)
    obtain ⟨q, q7, e1, e2, e3⟩ := hM.2.2.2.2.1
    refine ⟨(if inN q k = true then gI m (x + 36) k.toNatClampNeg else -1), fun r => ?_, fun r => ?_⟩
    · have h := c_seatAt (r := r) (d := 210) (k := k) (v := gI m x 28) (q := q) (show Ob (pZ m (x + 14) R) x from hOb) (gI_pZo (by omega)) e1 q7 (by omega)
      rw [gI_pZo (by omega)] at h
      exact h
    · have h := q_seatAt (r := r) (d := 210) (k := k) (q := q) (B := B) (R := R) hMo e2 q7 (by omega)
      by_cases c : inN q k = true
      · obtain ⟨k, hk, rfl⟩ := (inN_iff (by omega)).mp c
        rw [nI_clamp (by omega)] at h ⊢
        rw [e3 k hk]
        exact h
      · rw [if_neg c] at h ⊢
        exact h)
theorem op_byteAt {k : Int32} : Op 47 214 [.int k] x y lo := Op_ro (fun m mm b B np nd lw NP ND R t u hC hM => by
    obtain ⟨⟨hOb, hRX, hSt, hSt2, hSL, hlo, hK16⟩, hb, ⟨hBo, hBr, hB, hNP, hND, hbO, hbX⟩, hZ, hR, ⟨hu, hu8, huy, hUn⟩, hSe, hI0, hI1, hMo, hYr, hn1, hn2⟩ := id hC; have hbz : b + 7 < x + 14 ∨ x + 14 + 5 < b := (by omega)
    obtain ⟨q, q7, e1, e2, e3⟩ := hM.2.2.2.2.2.1
    refine ⟨(if inN q k = true then gI m (x + 37) k.toNatClampNeg else -1), fun r => ?_, fun r => ?_⟩
    · have h := c_byteAt (r := r) (d := 210) (k := k) (q := q) (show Ob (pZ m (x + 14) R) x from hOb) ((gI_pZo (by omega)).trans e1) q7 (by omega)
      rw [gI_pZo (by omega)] at h
      exact h
    · have h := q_byteAt (r := r) (d := 210) (k := k) (q := q) (B := B) (R := R) hMo e2 (by omega) (by omega)
      by_cases c : inN q k = true
      · obtain ⟨k, hk, rfl⟩ := (inN_iff (by omega)).mp c
        rw [nI_clamp (by omega)] at h ⊢
        rw [e3 k hk]
        exact h
      · rw [if_neg c] at h ⊢
        exact h)
theorem op_told {w : Int32} : Op 51 224 [.int w] x y lo := Op_ro (fun m mm b B np nd lw NP ND R t u hC hM => by
    obtain ⟨⟨hOb, hRX, hSt, hSt2, hSL, hlo, hK16⟩, hb, ⟨hBo, hBr, hB, hNP, hND, hbO, hbX⟩, hZ, hR, ⟨hu, hu8, huy, hUn⟩, hSe, hI0, hI1, hMo, hYr, hn1, hn2⟩ := id hC; have hbz : b + 7 < x + 14 ∨ x + 14 + 5 < b := (by omega)
    obtain ⟨e1, e3⟩ := hM.2.2.2.2.2.2
    refine ⟨(if ¬ gI m x 32 = 0 ∧ inN 4 w = true then gI m (x + 38) w.toNatClampNeg else -1), fun r => ?_, fun r => ?_⟩
    · have h := c_told (r := r) (d := 210) (w := w) (show Ob (pZ m (x + 14) R) x from hOb) (by omega)
      rw [gI_pZo (by omega), gI_pZo (by omega)] at h
      exact h
    · have h := q_told (r := r) (d := 210) (w := w) (B := B) (R := R) hMo (by omega)
      rw [← e1] at h
      by_cases c : inN 4 w = true
      · obtain ⟨k, hk, rfl⟩ := (inN_iff (by omega)).mp c
        rw [nI_clamp (by omega)] at h ⊢
        rw [e3 k hk]
        exact h
      · rw [if_neg (fun z => c z.2)] at h ⊢
        exact h)
theorem op_surely : Op 33 197 [] x y lo := Op_ro (fun m mm b B np nd lw NP ND R t u hC hM => by obtain ⟨⟨hOb, hRX, hSt, hSt2, hSL, hlo, hK16⟩, hb, ⟨hBo, hBr, hB, hNP, hND, hbO, hbX⟩, hZ, hR, ⟨hu, hu8, huy, hUn⟩, hSe, hI0, hI1, hMo, hYr, hn1, hn2⟩ := id hC; have hbz : b + 7 < x + 14 ∨ x + 14 + 5 < b := (by omega); exact ⟨(if gI m x 22 = 0 then -1 else gI m x 20), fun r => by
    have h := c_surely (r := r) (d := 210) (show Ob (pZ m (x + 14) R) x from hOb) (by omega)
    rw [gI_pZo (by omega), gI_pZo (by omega)] at h
    exact h, fun r => by
    have h := q_surely (r := r) (d := 210) (B := B) (R := R) hMo (by omega)
    rw [← hM.2.2.2.1.1] at h
    exact h⟩)
theorem op_ask : Op 34 198 [] x y lo := Op_ro (fun m mm b B np nd lw NP ND R t u hC hM => by obtain ⟨⟨hOb, hRX, hSt, hSt2, hSL, hlo, hK16⟩, hb, ⟨hBo, hBr, hB, hNP, hND, hbO, hbX⟩, hZ, hR, ⟨hu, hu8, huy, hUn⟩, hSe, hI0, hI1, hMo, hYr, hn1, hn2⟩ := id hC; have hbz : b + 7 < x + 14 ∨ x + 14 + 5 < b := (by omega); exact ⟨(if gI m x 22 = 0 then -1 else gI m x 21), fun r => by
    have h := c_ask (r := r) (d := 210) (show Ob (pZ m (x + 14) R) x from hOb) (by omega)
    rw [gI_pZo (by omega), gI_pZo (by omega)] at h
    exact h, fun r => by
    have h := q_ask (r := r) (d := 210) (B := B) (R := R) hMo (by omega)
    rw [← hM.2.2.2.1.2] at h
    exact h⟩)
theorem op_said {k : Int32} : Op 53 235 [.int k] x y lo := Op_ro (fun m mm b B np nd lw NP ND R t u hC hM => by
    obtain ⟨⟨hOb, hRX, hSt, hSt2, hSL, hlo, hK16⟩, hb, ⟨hBo, hBr, hB, hNP, hND, hbO, hbX⟩, hZ, hR, ⟨hu, hu8, huy, hUn⟩, hSe, hI0, hI1, hMo, hYr, hn1, hn2⟩ := id hC; have hbz : b + 7 < x + 14 ∨ x + 14 + 5 < b := (by omega)
    rcases hSe with ⟨e1, e2⟩ | ⟨c, kk, g, e1, e2, e3, e4, e5, e6⟩
    · exact ⟨_, fun r => c_saidN hOb hSt hb hBo hBr hbz e1 (by omega), fun r => q_saidN hMo e2 (by omega)⟩
    · exact ⟨_, fun r => c_saidX hOb hSt hb hBo hBr hbz hB e1 (by rw [pZ_of hZ]; exact e3) e2 (by omega), fun r => q_saidX hMo hB e4 e5 (fun j hj => e6 j hj) e3 e2 (by omega)⟩)
theorem act_q {m : PM} {y : Nat} {B R : Rw} {n u w p k : Nat} {a : Int32} {r : PRes} : (r = actA m y B R n u w p k a) = (r = if whyF B R w p k a = 0 then ((0, some (.int 0)), pY (snpM m y u R) y B (livF B R n w p k a)) else ((0, some (.int (whyF B R w p k a))), pY m y B R)) := rfl
theorem op_eat {p k a : Int32} : Op 16 171 [.int p, .int k, .int a] x y lo := Op_act (fun m mm b B np nd lw NP ND R t u hC hX => by obtain ⟨⟨hOb, hRX, hSt, hSt2, hSL, hlo, hK16⟩, hb, ⟨hBo, hBr, hB, hNP, hND, hbO, hbX⟩, hZ, hR, ⟨hu, hu8, huy, hUn⟩, hSe, hI0, hI1, hMo, hYr, hn1, hn2⟩ := id hC; have hbz : b + 7 < x + 14 ∨ x + 14 + 5 < b := (by omega); have hpp : ∀ p, p < np → ¬ B 4 p = nI p := GB_pp hB; exact ⟨_, _, _, livF B R np 0 p.toNatClampNeg k.toNatClampNeg a, c_eatX hOb hSt hb hBo hBr hbz hSL (by omega) hu hu8 (fun i hi => (hUn i hi).elim fun a h => ⟨a, h.elim fun _ h => h.elim fun _ h => h.1⟩) (by omega) (by omega) hbX hB hR (by omega), fun hv hw => by
    obtain ⟨p, hp, rfl⟩ := (inN_iff (by have := GB_n7 hB; omega)).mp hv.1.1
    obtain ⟨k, hk, rfl⟩ := (inN_iff (by have := GB_d6 hB; omega)).mp hv.1.2
    have h7 := GB_n7 hB
    have h6 := GB_d6 hB
    rw [nI_clamp (by omega), nI_clamp (by omega)] at hw ⊢
    have ha := hv.2
    rw [Int32.le_iff_toInt_le, Int32.le_iff_toInt_le] at ha
    have e1 : (nI 1).toInt = 1 := rfl
    have e2 : (nI 20).toInt = 20 := rfl
    exact ⟨liv_cl hR (by omega) (by omega) hw, t, GR_clF (w := 0) hB hR (by omega) (by omega) (fun _ => by omega) hw⟩, fun hv r => by
    have h := q_eat (r := r) (d := 210) (p := p) (k := k) (a := a) (B := B) (R := R) hMo (GB_n hB) (GB_n7 hB) (GB_d hB) (GB_d6 hB) (GB_l hB) (GB_l3 hB) hpp huy hu8 (by omega)
    rw [if_pos hv, act_q] at h
    exact h, fun hv r => by
    have h := q_eat (r := r) (d := 210) (p := p) (k := k) (a := a) (B := B) (R := R) hMo (GB_n hB) (GB_n7 hB) (GB_d hB) (GB_d6 hB) (GB_l hB) (GB_l3 hB) hpp huy hu8 (by omega)
    rw [if_neg hv] at h
    exact h⟩)
theorem op_serve {p k a : Int32} : Op 18 180 [.int p, .int k, .int a] x y lo := Op_act (fun m mm b B np nd lw NP ND R t u hC hX => by obtain ⟨⟨hOb, hRX, hSt, hSt2, hSL, hlo, hK16⟩, hb, ⟨hBo, hBr, hB, hNP, hND, hbO, hbX⟩, hZ, hR, ⟨hu, hu8, huy, hUn⟩, hSe, hI0, hI1, hMo, hYr, hn1, hn2⟩ := id hC; have hbz : b + 7 < x + 14 ∨ x + 14 + 5 < b := (by omega); have hpp : ∀ p, p < np → ¬ B 4 p = nI p := GB_pp hB; exact ⟨_, _, _, livF B R np 1 p.toNatClampNeg k.toNatClampNeg a, c_serveX hOb hSt hb hBo hBr hbz hSL (by omega) hu hu8 (fun i hi => (hUn i hi).elim fun a h => ⟨a, h.elim fun _ h => h.elim fun _ h => h.1⟩) (by omega) (by omega) hbX hB hR (by omega), fun hv hw => by
    obtain ⟨p, hp, rfl⟩ := (inN_iff (by have := GB_n7 hB; omega)).mp hv.1.1
    obtain ⟨k, hk, rfl⟩ := (inN_iff (by have := GB_d6 hB; omega)).mp hv.1.2
    have h7 := GB_n7 hB
    have h6 := GB_d6 hB
    rw [nI_clamp (by omega), nI_clamp (by omega)] at hw ⊢
    have ha := hv.2
    rw [Int32.le_iff_toInt_le, Int32.le_iff_toInt_le] at ha
    have e1 : (nI 1).toInt = 1 := rfl
    have e2 : (nI 40).toInt = 40 := rfl
    exact ⟨liv_cl hR (by omega) (by omega) hw, t, GR_clF (w := 1) hB hR (by omega) (by omega) (fun _ => by omega) hw⟩, fun hv r => by
    have h := q_serve (r := r) (d := 210) (p := p) (k := k) (a := a) (B := B) (R := R) hMo (GB_n hB) (GB_n7 hB) (GB_d hB) (GB_d6 hB) (GB_l hB) (GB_l3 hB) hpp huy hu8 (by omega)
    rw [if_pos hv, act_q] at h
    exact h, fun hv r => by
    have h := q_serve (r := r) (d := 210) (p := p) (k := k) (a := a) (B := B) (R := R) hMo (GB_n hB) (GB_n7 hB) (GB_d hB) (GB_d6 hB) (GB_l hB) (GB_l3 hB) hpp huy hu8 (by omega)
    rw [if_neg hv] at h
    exact h⟩)
theorem op_rise {p : Int32} : Op 19 181 [.int p] x y lo := Op_act (fun m mm b B np nd lw NP ND R t u hC hX => by obtain ⟨⟨hOb, hRX, hSt, hSt2, hSL, hlo, hK16⟩, hb, ⟨hBo, hBr, hB, hNP, hND, hbO, hbX⟩, hZ, hR, ⟨hu, hu8, huy, hUn⟩, hSe, hI0, hI1, hMo, hYr, hn1, hn2⟩ := id hC; have hbz : b + 7 < x + 14 ∨ x + 14 + 5 < b := (by omega); have hpp : ∀ p, p < np → ¬ B 4 p = nI p := GB_pp hB; exact ⟨_, _, _, livF B R np 2 p.toNatClampNeg 0 (nI 0), c_riseX hOb hSt hb hBo hBr hbz hSL (by omega) hu hu8 (fun i hi => (hUn i hi).elim fun a h => ⟨a, h.elim fun _ h => h.elim fun _ h => h.1⟩) (by omega) (by omega) hbX hB hR (by omega), fun hv hw => by
    obtain ⟨p, hp, rfl⟩ := (inN_iff (by have := GB_n7 hB; omega)).mp hv
    have h7 := GB_n7 hB
    rw [nI_clamp (by omega)] at hw ⊢
    exact ⟨liv_cl hR (by omega) (by omega) hw, t, GR_clF (w := 2) (k := 0) (a := nI 0) hB hR (by omega) (by omega) (fun z => by omega) hw⟩, fun hv r => by
    have h := q_rise (r := r) (d := 210) (p := p) (B := B) (R := R) hMo (GB_n hB) (GB_n7 hB) (GB_d hB) (GB_d6 hB) (GB_l hB) (GB_l3 hB) hpp huy hu8 (by omega)
    rw [if_pos hv, act_q] at h
    exact h, fun hv r => by
    have h := q_rise (r := r) (d := 210) (p := p) (B := B) (R := R) hMo (GB_n hB) (GB_n7 hB) (GB_d hB) (GB_d6 hB) (GB_l hB) (GB_l3 hB) hpp huy hu8 (by omega)
    rw [if_neg hv] at h
    exact h⟩)
theorem op_refuse {p : Int32} : Op 20 182 [.int p] x y lo := Op_act (fun m mm b B np nd lw NP ND R t u hC hX => by obtain ⟨⟨hOb, hRX, hSt, hSt2, hSL, hlo, hK16⟩, hb, ⟨hBo, hBr, hB, hNP, hND, hbO, hbX⟩, hZ, hR, ⟨hu, hu8, huy, hUn⟩, hSe, hI0, hI1, hMo, hYr, hn1, hn2⟩ := id hC; have hbz : b + 7 < x + 14 ∨ x + 14 + 5 < b := (by omega); have hpp : ∀ p, p < np → ¬ B 4 p = nI p := GB_pp hB; exact ⟨_, _, _, livF B R np 3 p.toNatClampNeg 0 (nI 0), c_refuseX hOb hSt hb hBo hBr hbz hSL (by omega) hu hu8 (fun i hi => (hUn i hi).elim fun a h => ⟨a, h.elim fun _ h => h.elim fun _ h => h.1⟩) (by omega) (by omega) hbX hB (by omega), fun hv hw => by
    obtain ⟨p, hp, rfl⟩ := (inN_iff (by have := GB_n7 hB; omega)).mp hv
    have h7 := GB_n7 hB
    rw [nI_clamp (by omega)] at hw ⊢
    exact ⟨liv_cl hR (by omega) (by omega) hw, t, GR_clF (w := 3) (k := 0) (a := nI 0) hB hR (by omega) (by omega) (fun z => by omega) hw⟩, fun hv r => by
    have h := q_refuse_2 (r := r) (d := 210) (p := p) (B := B) (R := R) hMo (GB_n hB) (GB_n7 hB) (GB_d hB) (GB_d6 hB) (GB_l hB) (GB_l3 hB) hpp huy hu8 (by omega)
    rw [if_pos hv, act_q] at h
    exact h, fun hv r => by
    have h := q_refuse_2 (r := r) (d := 210) (p := p) (B := B) (R := R) hMo (GB_n hB) (GB_n7 hB) (GB_d hB) (GB_d6 hB) (GB_l hB) (GB_l3 hB) hpp huy hu8 (by omega)
    rw [if_neg hv] at h
    exact h⟩)
theorem op_accept {p : Int32} : Op 21 183 [.int p] x y lo := Op_act (fun m mm b B np nd lw NP ND R t u hC hX => by obtain ⟨⟨hOb, hRX, hSt, hSt2, hSL, hlo, hK16⟩, hb, ⟨hBo, hBr, hB, hNP, hND, hbO, hbX⟩, hZ, hR, ⟨hu, hu8, huy, hUn⟩, hSe, hI0, hI1, hMo, hYr, hn1, hn2⟩ := id hC; have hbz : b + 7 < x + 14 ∨ x + 14 + 5 < b := (by omega); have hpp : ∀ p, p < np → ¬ B 4 p = nI p := GB_pp hB; exact ⟨_, _, _, livF B R np 4 p.toNatClampNeg 0 (nI 0), c_acceptX hOb hSt hb hBo hBr hbz hSL (by omega) hu hu8 (fun i hi => (hUn i hi).elim fun a h => ⟨a, h.elim fun _ h => h.elim fun _ h => h.1⟩) (by omega) (by omega) hbX hB (by omega), fun hv hw => by
    obtain ⟨p, hp, rfl⟩ := (inN_iff (by have := GB_n7 hB; omega)).mp hv
    have h7 := GB_n7 hB
    rw [nI_clamp (by omega)] at hw ⊢
    exact ⟨liv_cl hR (by omega) (by omega) hw, t, GR_clF (w := 4) (k := 0) (a := nI 0) hB hR (by omega) (by omega) (fun z => by omega) hw⟩, fun hv r => by
    have h := q_accept (r := r) (d := 210) (p := p) (B := B) (R := R) hMo (GB_n hB) (GB_n7 hB) (GB_d hB) (GB_d6 hB) (GB_l hB) (GB_l3 hB) hpp huy hu8 (by omega)
    rw [if_pos hv, act_q] at h
    exact h, fun hv r => by
    have h := q_accept (r := r) (d := 210) (p := p) (B := B) (R := R) hMo (GB_n hB) (GB_n7 hB) (GB_d hB) (GB_d6 hB) (GB_l hB) (GB_l3 hB) hpp huy hu8 (by omega)
    rw [if_neg hv] at h
    exact h⟩)
theorem op_die {p : Int32} : Op 22 184 [.int p] x y lo := Op_act (fun m mm b B np nd lw NP ND R t u hC hX => by obtain ⟨⟨hOb, hRX, hSt, hSt2, hSL, hlo, hK16⟩, hb, ⟨hBo, hBr, hB, hNP, hND, hbO, hbX⟩, hZ, hR, ⟨hu, hu8, huy, hUn⟩, hSe, hI0, hI1, hMo, hYr, hn1, hn2⟩ := id hC; have hbz : b + 7 < x + 14 ∨ x + 14 + 5 < b := (by omega); have hpp : ∀ p, p < np → ¬ B 4 p = nI p := GB_pp hB; exact ⟨_, _, _, livF B R np 5 p.toNatClampNeg 0 (nI 0), c_dieX hOb hSt hb hBo hBr hbz hSL (by omega) hu hu8 (fun i hi => (hUn i hi).elim fun a h => ⟨a, h.elim fun _ h => h.elim fun _ h => h.1⟩) (by omega) (by omega) hbX hB hR (by omega), fun hv hw => by
    obtain ⟨p, hp, rfl⟩ := (inN_iff (by have := GB_n7 hB; omega)).mp hv
    have h7 := GB_n7 hB
    rw [nI_clamp (by omega)] at hw ⊢
    exact ⟨liv_cl hR (by omega) (by omega) hw, t, GR_clF (w := 5) (k := 0) (a := nI 0) hB hR (by omega) (by omega) (fun z => by omega) hw⟩, fun hv r => by
    have h := q_die (r := r) (d := 210) (p := p) (B := B) (R := R) hMo (GB_n hB) (GB_n7 hB) (GB_d hB) (GB_d6 hB) (GB_l hB) (GB_l3 hB) hpp huy hu8 (by omega)
    rw [if_pos hv, act_q] at h
    exact h, fun hv r => by
    have h := q_die (r := r) (d := 210) (p := p) (B := B) (R := R) hMo (GB_n hB) (GB_n7 hB) (GB_d hB) (GB_d6 hB) (GB_l hB) (GB_l3 hB) hpp huy hu8 (by omega)
    rw [if_neg hv] at h
    exact h⟩)
end RO
