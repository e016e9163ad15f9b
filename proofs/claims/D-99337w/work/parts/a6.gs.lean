/-! BOOKS: a line gone by, in both -/
def wId (K : Nat) : Nat := if K = 9 then 243 else if K = 10 then 246 else if K = 11 then 249 else if K = 12 then 252 else if K = 13 then 255 else if K = 14 then 258 else 261
def lId (K : Nat) : Nat := if K = 9 then 244 else if K = 10 then 247 else if K = 11 then 250 else if K = 12 then 253 else if K = 13 then 256 else if K = 14 then 259 else 262
theorem why_c {B R : Rw} {w p k : Nat} {a : Int32} : whyF B R w p k a = nI 0 ∨ whyF B R w p k a = nI 1 ∨ whyF B R w p k a = nI 2 ∨ whyF B R w p k a = nI 3 := by
  unfold whyF
  repeat' split
  all_goals first | exact Or.inl rfl | exact Or.inr (Or.inl rfl) | exact Or.inr (Or.inr (Or.inl rfl)) | exact Or.inr (Or.inr (Or.inr rfl))
theorem why_nz {B R : Rw} {w p k : Nat} {a : Int32} (hw : w < 6) (h : ¬ whyF B R w p k a = 0) : ¬ nI (10 * w) + whyF B R w p k a = 0 := by
  rcases why_c (B := B) (R := R) (w := w) (p := p) (k := k) (a := a) with e | e | e | e
  · exact absurd e h
  all_goals
    rw [e]
    rcases (show w = 0 ∨ w = 1 ∨ w = 2 ∨ w = 3 ∨ w = 4 ∨ w = 5 by omega) with e' | e' | e' | e' | e' | e' <;> rw [e'] <;> decide
section GS
variable {m mm : PM} {z b c y k : Nat} {B R : Rw} {g : Nat → Int32} {n nd l t : Nat}
theorem go_sim (hSt : St m z) (hBo : Bo m b) (hBr : Br m b B) (hbz : b + 7 < z ∨ z + 5 < b) (hcz : c < z ∨ z + 5 < c) (hB : GB B n nd l) (hR : GR B R nd t) (hL : LnR m c g k n nd) (hMo : Mo mm y) (hg : ∀ j, gI mm (y + 19) j = g j) (hk : k < 40) : ∃ (A : Int32) (R' : Rw) (t' K : Nat), (A = 0 → GR B R' nd t') ∧ (gK m c = K ∧ 9 ≤ K ∧ K ≤ 15) ∧ (∀ d r, 4 ≤ d → (Run d (wId K) [.ref c, .ref b, .ref z] (pZ m z R) r ↔ r = ((0, some (.int A)), pZ m z R))) ∧ (A = 0 → ∀ d r, 8 ≤ d → (Run d (lId K) [.ref c, .ref b, .ref z] (pZ m z R) r ↔ r = ((0, none), pZ m z R'))) ∧ (∀ d r, 7 ≤ d → (Run d 222 [.ref y, .int (nI (4 * k))] (pY mm y B R) r ↔ r = if A = 0 then ((0, some (.int (nI 0))), pY mm y B R') else ((0, some (.int A)), pY mm y B R))) := by
  have hn := GB_n hB
  have hn7 := GB_n7 hB
  have hnd6 := GB_d6 hB
  have hl := GB_l hB
  have hl3 := GB_l3 hB
  obtain ⟨-, hL⟩ := hL
  rcases hL with ⟨hK, a, a1, a2, a3, a4, a5⟩ | ⟨i, p, dq, a, hi, hK, hp, hq, a1, a2, a3, a4, a5, a6, a7, a8, a9⟩ | ⟨i, p, hi, hK, hp, a3, a6, a7, a8⟩
  · have e := fun (d : Nat) (r : PRes) (hd : 7 ≤ d) => q_goP (d := d) (r := r) (B := B) (R := R) hMo hn hn7 (GR_t hR) (GR_t2 hR) hg a4 a5 a2 hk (by omega)
    by_cases c1 : t + a ≤ 200
    · refine ⟨nI 0, mealF B R n a, t + a, 9, fun _ => GR_mealF hB hR c1, ⟨hK, by omega, by omega⟩, fun d r hd => ?_, fun _ d r hd => c_lMeal hSt hBo hBr hbz hcz hB hK a3 a2 hR c1 (by omega), fun d r hd => ?_⟩
      · have h := c_wMeal (d := d) (r := r) hSt hBo hBr hbz hcz hK a3 a2 hR (by omega)
        rw [if_pos c1] at h
        exact h
      · have h := e d r hd
        rw [if_pos c1] at h
        rw [if_pos (show nI 0 = 0 from rfl)]
        exact h
    · refine ⟨nI 61, R, t, 9, fun z => absurd z (by decide), ⟨hK, by omega, by omega⟩, fun d r hd => ?_, fun z => absurd z (by decide), fun d r hd => ?_⟩
      · have h := c_wMeal (d := d) (r := r) hSt hBo hBr hbz hcz hK a3 a2 hR (by omega)
        rw [if_neg c1] at h
        exact h
      · have h := e d r hd
        rw [if_neg c1] at h
        rw [if_neg (by decide)]
        exact h
  · rcases (show i = 0 ∨ i = 1 by omega) with rfl | rfl
    · have e := fun (d : Nat) (r : PRes) (hd : 7 ≤ d) => q_goL (d := d) (r := r) (B := B) (R := R) (w := 0) (p := p) (dq := dq) (a := (nI a)) hMo hn hn7 (show p < 7 by omega) (by omega) hl hl3 (GB_pp hB p hp) (by omega) hg a6 a7 a8 a9 hk hd
      have cw := fun (d : Nat) (r : PRes) (hd : 4 ≤ d) => c_wEat (d := d) (r := r) hSt hBo hBr hbz hcz hB hR hK (by omega) (by omega) a3 a4 a5 ⟨a1, by omega⟩ hd
      by_cases c1 : whyF B R 0 p dq (nI a) = 0
      · refine ⟨nI 0, clF B R n 0 p dq (nI a), t, 10, fun _ => GR_clF hB hR (by omega) (by omega) (fun _ => ⟨hq, by rw [nI_toInt (by omega)]; omega, by rw [nI_toInt (by omega)]; omega⟩) c1, ⟨hK, by omega, by omega⟩, fun d r hd => ?_, fun _ d r hd => c_lEat hSt hBo hBr hbz hcz hB hR hK (by omega) (by omega) a3 a4 a5 ⟨a1, by omega⟩ (by omega), fun d r hd => ?_⟩
        · have h := cw d r hd
          rw [if_pos c1] at h
          exact h
        · have h := e d r hd
          rw [if_pos c1, liv_cl hR (by omega) (by omega) c1] at h
          rw [if_pos (show nI 0 = 0 from rfl)]
          exact h
      · have c2 : ¬ nI (10 * 0) + whyF B R 0 p dq (nI a) = 0 := why_nz (by omega) c1
        refine ⟨nI (10 * 0) + whyF B R 0 p dq (nI a), R, t, 10, fun z => absurd z c2, ⟨hK, by omega, by omega⟩, fun d r hd => ?_, fun z => absurd z c2, fun d r hd => ?_⟩
        · have h := cw d r hd
          rw [if_neg c1] at h
          exact h
        · have h := e d r hd
          rw [if_neg c1] at h
          rw [if_neg c2]
          exact h
    · have e := fun (d : Nat) (r : PRes) (hd : 7 ≤ d) => q_goL (d := d) (r := r) (B := B) (R := R) (w := 1) (p := p) (dq := dq) (a := (nI a)) hMo hn hn7 (show p < 7 by omega) (by omega) hl hl3 (GB_pp hB p hp) (by omega) hg a6 a7 a8 a9 hk hd
      have cw := fun (d : Nat) (r : PRes) (hd : 4 ≤ d) => c_wServe (d := d) (r := r) hSt hBo hBr hbz hcz hB hR hK (by omega) (by omega) a3 a4 a5 ⟨a1, by omega⟩ hd
      by_cases c1 : whyF B R 1 p dq (nI a) = 0
      · refine ⟨nI 0, clF B R n 1 p dq (nI a), t, 11, fun _ => GR_clF hB hR (by omega) (by omega) (fun _ => ⟨hq, by rw [nI_toInt (by omega)]; omega, by rw [nI_toInt (by omega)]; omega⟩) c1, ⟨hK, by omega, by omega⟩, fun d r hd => ?_, fun _ d r hd => c_lServe hSt hBo hBr hbz hcz hB hR hK (by omega) (by omega) a3 a4 a5 ⟨a1, by omega⟩ (by omega), fun d r hd => ?_⟩
        · have h := cw d r hd
          rw [if_pos c1] at h
          exact h
        · have h := e d r hd
          rw [if_pos c1, liv_cl hR (by omega) (by omega) c1] at h
          rw [if_pos (show nI 0 = 0 from rfl)]
          exact h
      · have c2 : ¬ nI (10 * 1) + whyF B R 1 p dq (nI a) = 0 := why_nz (by omega) c1
        refine ⟨nI (10 * 1) + whyF B R 1 p dq (nI a), R, t, 11, fun z => absurd z c2, ⟨hK, by omega, by omega⟩, fun d r hd => ?_, fun z => absurd z c2, fun d r hd => ?_⟩
        · have h := cw d r hd
          rw [if_neg c1] at h
          exact h
        · have h := e d r hd
          rw [if_neg c1] at h
          rw [if_neg c2]
          exact h
  · rcases (show i = 0 ∨ i = 1 ∨ i = 2 ∨ i = 3 by omega) with rfl | rfl | rfl | rfl
    · have e := fun (d : Nat) (r : PRes) (hd : 7 ≤ d) => q_goL (d := d) (r := r) (B := B) (R := R) (w := 2) (p := p) (dq := 0) (a := (g (4 * k + 3))) hMo hn hn7 (show p < 7 by omega) (by omega) hl hl3 (GB_pp hB p hp) (by omega) hg a6 a7 a8 rfl hk hd
      have cw := fun (d : Nat) (r : PRes) (hd : 4 ≤ d) => c_wRise (k := 0) (a := g (4 * k + 3)) (d := d) (r := r) hSt hBo hBr hbz hcz hB hR hK (by omega) a3 hd
      by_cases c1 : whyF B R 2 p 0 (g (4 * k + 3)) = 0
      · refine ⟨nI 0, clF B R n 2 p 0 (g (4 * k + 3)), t, 12, fun _ => GR_clF hB hR (by omega) (by omega) (fun z => by omega) c1, ⟨hK, by omega, by omega⟩, fun d r hd => ?_, fun _ d r hd => c_lRise (k := 0) (a := g (4 * k + 3)) hSt hBo hBr hbz hcz hB hR hK (by omega) a3 (by omega), fun d r hd => ?_⟩
        · have h := cw d r hd
          rw [if_pos c1] at h
          exact h
        · have h := e d r hd
          rw [if_pos c1, liv_cl hR (by omega) (by omega) c1] at h
          rw [if_pos (show nI 0 = 0 from rfl)]
          exact h
      · have c2 : ¬ nI (10 * 2) + whyF B R 2 p 0 (g (4 * k + 3)) = 0 := why_nz (by omega) c1
        refine ⟨nI (10 * 2) + whyF B R 2 p 0 (g (4 * k + 3)), R, t, 12, fun z => absurd z c2, ⟨hK, by omega, by omega⟩, fun d r hd => ?_, fun z => absurd z c2, fun d r hd => ?_⟩
        · have h := cw d r hd
          rw [if_neg c1] at h
          exact h
        · have h := e d r hd
          rw [if_neg c1] at h
          rw [if_neg c2]
          exact h
    · have e := fun (d : Nat) (r : PRes) (hd : 7 ≤ d) => q_goL (d := d) (r := r) (B := B) (R := R) (w := 3) (p := p) (dq := 0) (a := (g (4 * k + 3))) hMo hn hn7 (show p < 7 by omega) (by omega) hl hl3 (GB_pp hB p hp) (by omega) hg a6 a7 a8 rfl hk hd
      have cw := fun (d : Nat) (r : PRes) (hd : 4 ≤ d) => c_wRefuse (k := 0) (a := g (4 * k + 3)) (d := d) (r := r) hSt hBo hBr hbz hcz hB hR hK (by omega) a3 hd
      by_cases c1 : whyF B R 3 p 0 (g (4 * k + 3)) = 0
      · refine ⟨nI 0, clF B R n 3 p 0 (g (4 * k + 3)), t, 13, fun _ => GR_clF hB hR (by omega) (by omega) (fun z => by omega) c1, ⟨hK, by omega, by omega⟩, fun d r hd => ?_, fun _ d r hd => c_lRefuse (k := 0) (a := g (4 * k + 3)) hSt hBo hBr hbz hcz hB hR hK (by omega) a3 (by omega), fun d r hd => ?_⟩
        · have h := cw d r hd
          rw [if_pos c1] at h
          exact h
        · have h := e d r hd
          rw [if_pos c1, liv_cl hR (by omega) (by omega) c1] at h
          rw [if_pos (show nI 0 = 0 from rfl)]
          exact h
      · have c2 : ¬ nI (10 * 3) + whyF B R 3 p 0 (g (4 * k + 3)) = 0 := why_nz (by omega) c1
        refine ⟨nI (10 * 3) + whyF B R 3 p 0 (g (4 * k + 3)), R, t, 13, fun z => absurd z c2, ⟨hK, by omega, by omega⟩, fun d r hd => ?_, fun z => absurd z c2, fun d r hd => ?_⟩
        · have h := cw d r hd
          rw [if_neg c1] at h
          exact h
        · have h := e d r hd
          rw [if_neg c1] at h
          rw [if_neg c2]
          exact h
    · have e := fun (d : Nat) (r : PRes) (hd : 7 ≤ d) => q_goL (d := d) (r := r) (B := B) (R := R) (w := 4) (p := p) (dq := 0) (a := (g (4 * k + 3))) hMo hn hn7 (show p < 7 by omega) (by omega) hl hl3 (GB_pp hB p hp) (by omega) hg a6 a7 a8 rfl hk hd
      have cw := fun (d : Nat) (r : PRes) (hd : 4 ≤ d) => c_wAccept (k := 0) (a := g (4 * k + 3)) (d := d) (r := r) hSt hBo hBr hbz hcz hB hR hK (by omega) a3 hd
      by_cases c1 : whyF B R 4 p 0 (g (4 * k + 3)) = 0
      · refine ⟨nI 0, clF B R n 4 p 0 (g (4 * k + 3)), t, 14, fun _ => GR_clF hB hR (by omega) (by omega) (fun z => by omega) c1, ⟨hK, by omega, by omega⟩, fun d r hd => ?_, fun _ d r hd => c_lAccept (k := 0) (a := g (4 * k + 3)) hSt hBo hBr hbz hcz hB hR hK (by omega) a3 (by omega), fun d r hd => ?_⟩
        · have h := cw d r hd
          rw [if_pos c1] at h
          exact h
        · have h := e d r hd
          rw [if_pos c1, liv_cl hR (by omega) (by omega) c1] at h
          rw [if_pos (show nI 0 = 0 from rfl)]
          exact h
      · have c2 : ¬ nI (10 * 4) + whyF B R 4 p 0 (g (4 * k + 3)) = 0 := why_nz (by omega) c1
        refine ⟨nI (10 * 4) + whyF B R 4 p 0 (g (4 * k + 3)), R, t, 14, fun z => absurd z c2, ⟨hK, by omega, by omega⟩, fun d r hd => ?_, fun z => absurd z c2, fun d r hd => ?_⟩
        · have h := cw d r hd
          rw [if_neg c1] at h
          exact h
        · have h := e d r hd
          rw [if_neg c1] at h
          rw [if_neg c2]
          exact h
    · have e := fun (d : Nat) (r : PRes) (hd : 7 ≤ d) => q_goL (d := d) (r := r) (B := B) (R := R) (w := 5) (p := p) (dq := 0) (a := (g (4 * k + 3))) hMo hn hn7 (show p < 7 by omega) (by omega) hl hl3 (GB_pp hB p hp) (by omega) hg a6 a7 a8 rfl hk hd
      have cw := fun (d : Nat) (r : PRes) (hd : 4 ≤ d) => c_wDie (k := 0) (a := g (4 * k + 3)) (d := d) (r := r) hSt hBo hBr hbz hcz hB hR hK (by omega) a3 hd
      by_cases c1 : whyF B R 5 p 0 (g (4 * k + 3)) = 0
      · refine ⟨nI 0, clF B R n 5 p 0 (g (4 * k + 3)), t, 15, fun _ => GR_clF hB hR (by omega) (by omega) (fun z => by omega) c1, ⟨hK, by omega, by omega⟩, fun d r hd => ?_, fun _ d r hd => c_lDie (k := 0) (a := g (4 * k + 3)) hSt hBo hBr hbz hcz hB hR hK (by omega) a3 (by omega), fun d r hd => ?_⟩
        · have h := cw d r hd
          rw [if_pos c1] at h
          exact h
        · have h := e d r hd
          rw [if_pos c1, liv_cl hR (by omega) (by omega) c1] at h
          rw [if_pos (show nI 0 = 0 from rfl)]
          exact h
      · have c2 : ¬ nI (10 * 5) + whyF B R 5 p 0 (g (4 * k + 3)) = 0 := why_nz (by omega) c1
        refine ⟨nI (10 * 5) + whyF B R 5 p 0 (g (4 * k + 3)), R, t, 15, fun z => absurd z c2, ⟨hK, by omega, by omega⟩, fun d r hd => ?_, fun z => absurd z c2, fun d r hd => ?_⟩
        · have h := cw d r hd
          rw [if_neg c1] at h
          exact h
        · have h := e d r hd
          rw [if_neg c1] at h
          rw [if_neg c2]
          exact h
end GS
