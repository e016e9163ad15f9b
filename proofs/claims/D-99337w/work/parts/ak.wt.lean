/-! THE WORLD: the tape; what is gone by on the way; undo -/
theorem i8 {a b : Int32} (h : ∀ i, i < 8 → a.toBitVec.getLsbD i = b.toBitVec.getLsbD i) : a.toInt8 = b.toInt8 := by
  apply Int8.toBitVec.inj
  rw [Int32.toBitVec_toInt8, Int32.toBitVec_toInt8]
  apply BitVec.eq_of_getLsbD_eq
  intro i hi
  rw [BitVec.getLsbD_signExtend, BitVec.getLsbD_signExtend, if_pos (by omega), if_pos (by omega), h i hi]
theorem bb (v : Int32) {s : Nat} (hs : s ≤ 24) {i : Nat} (hi : i < 8) : (v >>> (nI s &&& 31)).toBitVec.getLsbD i = ((v.toUInt32 >>> ((nI s).toUInt32 &&& Int32.toUInt32 31)).toInt32 &&& nI 255).toBitVec.getLsbD i := by
  have e1 : ∀ s, s ≤ 24 → (nI s &&& 31).toBitVec.smod 32 = BitVec.ofNat 32 s := by decide +kernel
  have e2 : ∀ s, s ≤ 24 → ((nI s).toUInt32 &&& Int32.toUInt32 31).toBitVec % 32 = BitVec.ofNat 32 s := by decide +kernel
  have e3 : ∀ i, i < 8 → (nI 255).toBitVec.getLsbD i = true := by decide +kernel
  rw [Int32.toBitVec_and, BitVec.getLsbD_and, e3 i hi, Bool.and_true, Int32.toBitVec_shiftRight, e1 s hs]
  show _ = (v.toUInt32 >>> ((nI s).toUInt32 &&& Int32.toUInt32 31)).toBitVec.getLsbD i
  rw [UInt32.toBitVec_shiftRight, e2 s hs]
  show (v.toBitVec.sshiftRight' (BitVec.ofNat 32 s)).getLsbD i = (v.toBitVec >>> (BitVec.ofNat 32 s)).getLsbD i
  have e4 : (BitVec.ofNat 32 s).toNat = s := by rw [BitVec.toNat_ofNat]; omega
  rw [BitVec.sshiftRight', BitVec.getLsbD_sshiftRight, BitVec.ushiftRight_eq', BitVec.getLsbD_ushiftRight, e4, if_pos (by omega), decide_eq_false (by omega)]
  rfl
theorem cby_m (v : Int32) (k : Nat) : cby v k = (mby v k).toInt8.toInt32 := by
  unfold cby mby
  rw [Int8.toInt8_toInt32, i8 fun i hi => bb v (s := 24 - 8 * k) (by omega) hi]
theorem mby_lt (v : Int32) (k : Nat) : ∃ t, t < 256 ∧ mby v k = nI t := by
  refine ⟨(mby v k).toBitVec.toNat, ?_, ?_⟩
  · unfold mby
    rw [Int32.toBitVec_and, BitVec.toNat_and]
    have : (nI 255).toBitVec.toNat = 2 ^ 8 - 1 := by decide
    rw [this, Nat.and_two_pow_sub_one_eq_mod]
    exact Nat.mod_lt _ (by decide)
  · apply Int32.toBitVec.inj
    unfold nI
    show _ = BitVec.ofNat 32 _
    rw [BitVec.ofNat_toNat, BitVec.setWidth_eq]
theorem mby_nat (v : Int32) (k : Nat) : nI (mby v k).toBitVec.toNat = mby v k := by
  obtain ⟨t, h1, h2⟩ := mby_lt v k
  rw [h2]
  have : (nI t).toBitVec.toNat = t := by
    show (BitVec.ofNat 32 t).toNat = t
    rw [BitVec.toNat_ofNat]
    omega
  rw [this]
theorem mby_256 (v : Int32) (k : Nat) : (mby v k).toBitVec.toNat < 256 := by
  obtain ⟨t, h1, h2⟩ := mby_lt v k
  rw [h2]
  show (BitVec.ofNat 32 t).toNat < 256
  rw [BitVec.toNat_ofNat]
  omega
theorem up20_o {F : Nat → Int32} {G : Int32 → Nat → Int32} {l k : Nat} {a b c d e : Int32} (h : k < l) : up20 F l G a b c d e k = F k := by
  unfold up20 up4
  try dsimp only
  rw [if_neg (by omega), if_neg (by omega), if_neg (by omega), if_neg (by omega), if_neg (by omega)]
theorem up20_c {F G : Nat → Int32} {l k : Nat} {a b c d e : Int32} (h1 : l ≤ k) (h2 : k < l + 20) : ∃ v i, up20 F l cby a b c d e k = cby v i ∧ up20 G l mby a b c d e k = mby v i := by
  unfold up20 up4
  try dsimp only
  by_cases c4 : l + 16 ≤ k ∧ k < l + 16 + 4
  · rw [if_pos c4, if_pos c4]; exact ⟨_, _, rfl, rfl⟩
  · rw [if_neg c4, if_neg c4]
    by_cases c3 : l + 12 ≤ k ∧ k < l + 12 + 4
    · rw [if_pos c3, if_pos c3]; exact ⟨_, _, rfl, rfl⟩
    · rw [if_neg c3, if_neg c3]
      by_cases c2 : l + 8 ≤ k ∧ k < l + 8 + 4
      · rw [if_pos c2, if_pos c2]; exact ⟨_, _, rfl, rfl⟩
      · rw [if_neg c2, if_neg c2]
        by_cases c1 : l + 4 ≤ k ∧ k < l + 4 + 4
        · rw [if_pos c1, if_pos c1]; exact ⟨_, _, rfl, rfl⟩
        · rw [if_neg c1, if_neg c1, if_pos (by omega), if_pos (by omega)]; exact ⟨_, _, rfl, rfl⟩
section WT
variable {m mm m' mm' : PM} {x y lo b : Nat} {B : Rw} {np nd lw : Nat} {NP ND : Nat → List Nat} {R R' : Rw} {t u i1 i2 : Nat} {args : List Value}
theorem XF_wnew {a : Nat} {f : Nat → Int32} (h : XF m m' x) (ha : gX m ≤ a ∧ a < 1000000) : XF m (wI m' a f) x := by
  obtain ⟨a1, a2, a3, a4, a5⟩ := h
  exact ⟨a1, a2, a3, a4, fun c j hc h => by rw [gI_wI, if_neg (by omega)]; exact a5 c j hc h⟩
theorem XF_ov {c0 c1 kb : Nat} {S row : Nat → Int32} {best : Int32} (h0 : ∀ k, scr x c0 k) (h1 : ∀ k, scr x c1 k) (hk : scr x x kb) : XF m (ov m c0 c1 x kb S row best) x := XF_I rfl fun c j hc => by
  rw [gI_ov, if_neg (fun q => hc (by rw [q.1, q.2]; exact hk)), if_neg (fun q => hc (by rw [q]; exact h1 j)), if_neg (fun q => hc (by rw [q]; exact h0 j))]
theorem YF_ov {c0 c1 kb : Nat} {S row : Nat → Int32} {best : Int32} (h0 : ∀ k, ysc y c0 k) (h1 : ∀ k, ysc y c1 k) (hk : ysc y y kb) : YF mm (ov mm c0 c1 y kb S row best) y := YF_I rfl fun c j hc => by
  rw [gI_ov, if_neg (fun q => hc (by rw [q.1, q.2]; exact hk)), if_neg (fun q => hc (by rw [q]; exact h1 j)), if_neg (fun q => hc (by rw [q]; exact h0 j))]
theorem YF_wI {a : Nat} {f : Nat → Int32} (h : ∀ k, ysc y a k) : YF mm (wI mm a f) y := YF_I rfl fun c j hc => by
  rw [gI_wI, if_neg (fun q => hc (by rw [q]; exact h j))]
theorem YF_bW {a o n : Nat} {f : Nat → Int32} (h : ∀ k, ysc y a k) : YF mm (bW mm a o n f) y := YF_I rfl fun c j hc => by
  rw [gI_bWo (fun q => hc (by rw [q]; exact h j))]
theorem YF_pY (h : YF mm mm' y) (hYr : Yr mm y B R) : pY mm' y B R = mm' := pY_of fun k hk => by
  rw [h.2.2 _ _ (by unfold ysc; omega)]; exact hYr k hk
def mcx2 (j : Nat) : Prop := j = 19 ∨ j = 20 ∨ j = 21 ∨ j = 22 ∨ j = 28 ∨ j = 30 ∨ j = 32
def mcr2 (i : Nat) : Prop := i = 32 ∨ i = 36 ∨ i = 37 ∨ i = 38
def mmx2 (j : Nat) : Prop := j = 29 ∨ j = 32 ∨ j = 33 ∨ j = 37 ∨ j = 40 ∨ j = 45
def mmr2 (i : Nat) : Prop := i = 12 ∨ i = 17 ∨ i = 18 ∨ i = 20
theorem Mis_t (h : Mis m mm x y) (hTp : TpR m' mm' x y) (hFt : gI m' x 12 = gI mm' y 10) (hx : ∀ j, mcx2 j → gI m' x j = gI m x j) (hc : ∀ i j, mcr2 i → gI m' (x + i) j = gI m (x + i) j) (hy : ∀ j, mmx2 j → gI mm' y j = gI mm y j) (hd : ∀ i j, mmr2 i → gI mm' (y + i) j = gI mm (y + i) j) : Mis m' mm' x y := by
  obtain ⟨h1, h2, h3, h4, h5, h6, h7⟩ := h
  unfold mcx2 at hx; unfold mcr2 at hc; unfold mmx2 at hy; unfold mmr2 at hd
  exact ⟨hTp, hFt, Or_same h3 (hx 19 (by omega)) (fun k => hc 32 k (by omega)) (hy 29 (by omega)) (fun k => hd 12 k (by omega)), Ea_same h4 (hx 20 (by omega)) (hx 21 (by omega)) (hx 22 (by omega)) (hy 32 (by omega)) (hy 33 (by omega)), St_sameR h5 (hx 28 (by omega)) (fun k => hc 36 k (by omega)) (hy 37 (by omega)) (fun k => hd 17 k (by omega)), Tx_same h6 (hx 30 (by omega)) (fun k => hc 37 k (by omega)) (hy 40 (by omega)) (fun k => hd 18 k (by omega)), To_same h7 (hx 32 (by omega)) (fun k => hc 38 k (by omega)) (hy 45 (by omega)) (fun k => hd 20 k (by omega))⟩
theorem op_feed {a c d e f : Int32} : Op 2 122 [.int a, .int c, .int d, .int e, .int f] x y lo := by
  rintro m mm ⟨⟨b, B, np, nd, lw, NP, ND, R, t, u, hC⟩, hM, hD⟩ hX; obtain ⟨⟨hOb, hRX, hSt, hSt2, hSL, hlo, hK16⟩, hb, ⟨hBo, hBr, hB, hNP, hND, hbO, hbX⟩, hZ, hR, ⟨hu, hu8, huy, hUn⟩, hSe, hI0, hI1, hMo, hYr, hn1, hn2⟩ := id hC; have hbz : b + 7 < x + 14 ∨ x + 14 + 5 < b := (by omega)
  obtain ⟨n, T, hn, e1, e2, e3, e4, e5⟩ := hM.1
  have hc := fun r => c_feed (r := r) (d := 210) (a := a) (b := c) (c := d) (e := e) (f := f) hOb e1 hn (by omega)
  have hq := fun r => q_feed (r := r) (d := 210) (a := a) (b := c) (c := d) (e := e) (f := f) (B := B) (R := R) hMo e2 hn (by omega)
  rw [pY_of hYr, pY0 (by omega) hYr] at hq
  by_cases c20 : n + 20 ≤ 940
  · simp only [if_pos c20] at hc hq
    have hY : YF mm (sI (wI (sI mm y 0 0) (y + 1) (up20 (gI mm (y + 1)) n mby a c d e f)) y 2 (nI (n + 20))) y := YF_tr (YF_tr (YF_sI (by unfold ysc; omega)) (YF_wI (fun k => by unfold ysc; omega))) (YF_sI (by unfold ysc; omega))
    rw [YF_pY hY hYr] at hq
    refine Swt_XY hC hD hX hc hq (XF_tr (XF_wI (fun k => by unfold scr; omega)) (XF_sI (by unfold scr; omega))) (by show gX m ≤ _; omega) (by show gS m ≤ _; omega) hY (Mis_t hM ?_ ?_ (fun j hj => ?_) (fun i j hi => ?_) (fun j hj => ?_) (fun i j hi => ?_))
    · refine ⟨n + 20, fun k => if k < n then T k else if k < n + 20 then (up20 (gI mm (y + 1)) n mby a c d e f k).toBitVec.toNat else 0, by omega, ?_, ?_, fun k hk => ?_, fun k hk => ?_, fun k => ?_⟩
      · exact if_pos ⟨rfl, rfl⟩
      · exact if_pos ⟨rfl, rfl⟩
      · rw [gI_sI, if_neg (by omega), gI_wI, if_pos rfl]
        dsimp only
        by_cases ck : k < n
        · rw [if_pos ck, up20_o ck]; exact e3 k ck
        · rw [if_neg ck, if_pos hk]
          obtain ⟨v, i, q1, q2⟩ := up20_c (F := gI m (x + 1)) (G := gI mm (y + 1)) (a := a) (b := c) (c := d) (d := e) (e := f) (show n ≤ k by omega) hk
          rw [q1, q2, mby_nat, cby_m]
      · rw [gI_sI, if_neg (by omega), gI_wI, if_pos rfl]
        dsimp only
        by_cases ck : k < n
        · rw [if_pos ck, up20_o ck]; exact e4 k ck
        · rw [if_neg ck, if_pos hk]
          obtain ⟨v, i, q1, q2⟩ := up20_c (F := gI m (x + 1)) (G := gI mm (y + 1)) (a := a) (b := c) (c := d) (d := e) (e := f) (show n ≤ k by omega) hk
          rw [q2, mby_nat]
      · dsimp only
        split
        · exact e5 k
        · split
          · rename_i ck hk
            obtain ⟨v, i, q1, q2⟩ := up20_c (F := gI m (x + 1)) (G := gI mm (y + 1)) (a := a) (b := c) (c := d) (d := e) (e := f) (show n ≤ k by omega) hk
            rw [q2]; exact mby_256 v i
          · omega
    · (simp (disch := omega) only [gI_sI, gI_wI, gI_pZo, gI_pYo, gI_bWo, gI_tkM, gI_nwo, gX_sI, if_neg]); exact hM.2.1
    · (try unfold mcx at *); (try unfold mcr at *); (try unfold mmx at *); (try unfold mmr at *); (try unfold mcx2 at *); (try unfold mcr2 at *); (try unfold mmx2 at *); (try unfold mmr2 at *); (simp (disch := omega) only [gI_sI, gI_wI, gI_pZo, gI_pYo, gI_bWo, gI_tkM, gI_nwo, gX_sI, if_neg])
    · (try unfold mcx at *); (try unfold mcr at *); (try unfold mmx at *); (try unfold mmr at *); (try unfold mcx2 at *); (try unfold mcr2 at *); (try unfold mmx2 at *); (try unfold mmr2 at *); (simp (disch := omega) only [gI_sI, gI_wI, gI_pZo, gI_pYo, gI_bWo, gI_tkM, gI_nwo, gX_sI, if_neg])
    · (try unfold mcx at *); (try unfold mcr at *); (try unfold mmx at *); (try unfold mmr at *); (try unfold mcx2 at *); (try unfold mcr2 at *); (try unfold mmx2 at *); (try unfold mmr2 at *); (simp (disch := omega) only [gI_sI, gI_wI, gI_pZo, gI_pYo, gI_bWo, gI_tkM, gI_nwo, gX_sI, if_neg])
    · (try unfold mcx at *); (try unfold mcr at *); (try unfold mmx at *); (try unfold mmr at *); (try unfold mcx2 at *); (try unfold mcr2 at *); (try unfold mmx2 at *); (try unfold mmr2 at *); (simp (disch := omega) only [gI_sI, gI_wI, gI_pZo, gI_pYo, gI_bWo, gI_tkM, gI_nwo, gX_sI, if_neg])
  · simp only [if_neg c20] at hc hq
    exact Swt_XY hC hD hX hc hq (XF_refl _ _) (by omega) (by omega) (YF_sI (by unfold ysc; omega)) (Mis_y0 hM)
theorem nI_lx {n : Nat} {k : Int32} (hn : n ≤ 940) (h1 : 0 ≤ k) (h2 : k ≤ nI n) : ∃ j, j ≤ n ∧ k = nI j := by
  obtain ⟨j, hj, e⟩ := (inN_iff (n := n + 1) (p := k) (by omega)).mp (decide_eq_true ⟨h1, by rw [nI_d1]; exact h2⟩)
  exact ⟨j, by omega, e⟩
theorem op_end {k : Int32} : Op 4 124 [.int k] x y lo := by
  rintro m mm ⟨⟨b, B, np, nd, lw, NP, ND, R, t, u, hC⟩, hM, hD⟩ hX; obtain ⟨⟨hOb, hRX, hSt, hSt2, hSL, hlo, hK16⟩, hb, ⟨hBo, hBr, hB, hNP, hND, hbO, hbX⟩, hZ, hR, ⟨hu, hu8, huy, hUn⟩, hSe, hI0, hI1, hMo, hYr, hn1, hn2⟩ := id hC; have hbz : b + 7 < x + 14 ∨ x + 14 + 5 < b := (by omega)
  obtain ⟨n, T, hn, e1, e2, e3, e4, e5⟩ := hM.1
  have hc := fun r => c_end (r := r) (d := 210) (k := k) hOb (by omega)
  have hq := fun r => q_end (r := r) (d := 210) (k := k) (B := B) (R := R) hMo (by omega)
  rw [pY_of hYr, pY0 (by omega) hYr] at hq
  simp only [e1] at hc
  simp only [e2] at hq
  by_cases ck : 0 ≤ k ∧ k ≤ nI n
  · simp only [if_pos ck] at hc hq
    obtain ⟨j, hj, rfl⟩ := nI_lx hn ck.1 ck.2
    have hY : YF mm (sI (sI mm y 0 0) y 2 (nI j)) y := YF_tr (YF_sI (by unfold ysc; omega)) (YF_sI (by unfold ysc; omega))
    rw [YF_pY hY hYr] at hq
    refine Swt_XY hC hD hX hc hq (XF_sI (by unfold scr; omega)) (by show gX m ≤ _; omega) (by show gS m ≤ _; omega) hY (Mis_t hM ⟨j, T, by omega, if_pos ⟨rfl, rfl⟩, if_pos ⟨rfl, rfl⟩, fun k hk => ?_, fun k hk => ?_, e5⟩ ?_ (fun j hj => ?_) (fun i j hi => ?_) (fun j hj => ?_) (fun i j hi => ?_))
    · (simp (disch := omega) only [gI_sI, gI_wI, gI_pZo, gI_pYo, gI_bWo, gI_tkM, gI_nwo, gX_sI, if_neg]); exact e3 k (by omega)
    · (simp (disch := omega) only [gI_sI, gI_wI, gI_pZo, gI_pYo, gI_bWo, gI_tkM, gI_nwo, gX_sI, if_neg]); exact e4 k (by omega)
    · (simp (disch := omega) only [gI_sI, gI_wI, gI_pZo, gI_pYo, gI_bWo, gI_tkM, gI_nwo, gX_sI, if_neg]); exact hM.2.1
    · (try unfold mcx at *); (try unfold mcr at *); (try unfold mmx at *); (try unfold mmr at *); (try unfold mcx2 at *); (try unfold mcr2 at *); (try unfold mmx2 at *); (try unfold mmr2 at *); (simp (disch := omega) only [gI_sI, gI_wI, gI_pZo, gI_pYo, gI_bWo, gI_tkM, gI_nwo, gX_sI, if_neg])
    · (try unfold mcx at *); (try unfold mcr at *); (try unfold mmx at *); (try unfold mmr at *); (try unfold mcx2 at *); (try unfold mcr2 at *); (try unfold mmx2 at *); (try unfold mmr2 at *); (simp (disch := omega) only [gI_sI, gI_wI, gI_pZo, gI_pYo, gI_bWo, gI_tkM, gI_nwo, gX_sI, if_neg])
    · (try unfold mcx at *); (try unfold mcr at *); (try unfold mmx at *); (try unfold mmr at *); (try unfold mcx2 at *); (try unfold mcr2 at *); (try unfold mmx2 at *); (try unfold mmr2 at *); (simp (disch := omega) only [gI_sI, gI_wI, gI_pZo, gI_pYo, gI_bWo, gI_tkM, gI_nwo, gX_sI, if_neg])
    · (try unfold mcx at *); (try unfold mcr at *); (try unfold mmx at *); (try unfold mmr at *); (try unfold mcx2 at *); (try unfold mcr2 at *); (try unfold mmx2 at *); (try unfold mmr2 at *); (simp (disch := omega) only [gI_sI, gI_wI, gI_pZo, gI_pYo, gI_bWo, gI_tkM, gI_nwo, gX_sI, if_neg])
  · simp only [if_neg ck] at hc hq
    exact Swt_XY hC hD hX hc hq (XF_refl _ _) (by omega) (by omega) (YF_sI (by unfold ysc; omega)) (Mis_y0 hM)
theorem XF_tk : XF m (tkM m x) x := by
  unfold tkM
  exact XF_tr (XF_sI (by unfold scr; omega)) (XF_sI (by unfold scr; omega))
theorem Mis_take {v : Int32} (hM : Mis m mm x y) : Mis (tkM m x) (sI (sI mm y 0 v) y 2 0) x y := by
  refine Mis_t hM (Tp_zero tkM_1 (if_pos ⟨rfl, rfl⟩)) ?_ (fun j hj => ?_) (fun i j hi => ?_) (fun j hj => ?_) (fun i j hi => ?_)
  · (simp (disch := omega) only [gI_sI, gI_wI, gI_pZo, gI_pYo, gI_bWo, gI_tkM, gI_nwo, gX_sI, if_neg]); exact hM.2.1
  · (try unfold mcx at *); (try unfold mcr at *); (try unfold mmx at *); (try unfold mmr at *); (try unfold mcx2 at *); (try unfold mcr2 at *); (try unfold mmx2 at *); (try unfold mmr2 at *); (simp (disch := omega) only [gI_sI, gI_wI, gI_pZo, gI_pYo, gI_bWo, gI_tkM, gI_nwo, gX_sI, if_neg])
  · (try unfold mcx at *); (try unfold mcr at *); (try unfold mmx at *); (try unfold mmr at *); (try unfold mcx2 at *); (try unfold mcr2 at *); (try unfold mmx2 at *); (try unfold mmr2 at *); (simp (disch := omega) only [gI_sI, gI_wI, gI_pZo, gI_pYo, gI_bWo, gI_tkM, gI_nwo, gX_sI, if_neg])
  · (try unfold mcx at *); (try unfold mcr at *); (try unfold mmx at *); (try unfold mmr at *); (try unfold mcx2 at *); (try unfold mcr2 at *); (try unfold mmx2 at *); (try unfold mmr2 at *); (simp (disch := omega) only [gI_sI, gI_wI, gI_pZo, gI_pYo, gI_bWo, gI_tkM, gI_nwo, gX_sI, if_neg])
  · (try unfold mcx at *); (try unfold mcr at *); (try unfold mmx at *); (try unfold mmr at *); (try unfold mcx2 at *); (try unfold mcr2 at *); (try unfold mmx2 at *); (try unfold mmr2 at *); (simp (disch := omega) only [gI_sI, gI_wI, gI_pZo, gI_pYo, gI_bWo, gI_tkM, gI_nwo, gX_sI, if_neg])
theorem op_left {p : Int32} : Op 40 204 [.int p] x y lo := by
  rintro m mm ⟨⟨b, B, np, nd, lw, NP, ND, R, t, u, hC⟩, hM, hD⟩ hX; obtain ⟨⟨hOb, hRX, hSt, hSt2, hSL, hlo, hK16⟩, hb, ⟨hBo, hBr, hB, hNP, hND, hbO, hbX⟩, hZ, hR, ⟨hu, hu8, huy, hUn⟩, hSe, hI0, hI1, hMo, hYr, hn1, hn2⟩ := id hC; have hbz : b + 7 < x + 14 ∨ x + 14 + 5 < b := (by omega)
  obtain ⟨n, T, hn, e1, e2, e3, e4, e5⟩ := hM.1
  have hc := fun r => c_leftX (r := r) (d := 210) (p := p) (T := T) hOb hSt hb hBo hBr hbz hSt2 (by omega) hB hR e1 hn (fun k hk => by rw [e3 k hk, by8 (e5 k)]) e5 (by omega)
  obtain ⟨q1, q2⟩ := q_left (d := 210) (p := p) (T := T) hMo hB hR e2 hn e4 e5 (by omega)
  rw [pZ_of hZ] at hc
  rw [pY_of hYr] at q1 q2
  have hZt : pZ (tkM m x) (x + 14) R = tkM m x := pZ_of (Zr_same hZ fun s k hs _ => gI_tkM (by omega))
  rw [hZt] at hc
  have hYt : YF mm (sI (sI mm y 0 0) y 2 0) y := YF_tr (YF_sI (by unfold ysc; omega)) (YF_sI (by unfold ysc; omega))
  by_cases hv : LfOk np n T p
  · have q1 := q1 hv
    have hY : YF mm (bW (sI (sI mm y 0 0) y 2 0) (y + 6) 0 75 (soF R)) y := YF_tr hYt (YF_bW (fun k => by unfold ysc; omega))
    rw [YF_pY hY hYr] at q1
    refine Swt_XY hC hD hX (fun r => (hc r).1 hv) q1 (XF_tr XF_tk XF_pZ) (by show gX m ≤ _; omega) (by show gS m ≤ _; omega) hY (Mis_same (Mis_take (v := 0) hM) (fun j hj => ?_) (fun i j hi => ?_) (fun j hj => ?_) (fun i j hi => ?_))
    · (try unfold mcx at *); (try unfold mcr at *); (try unfold mmx at *); (try unfold mmr at *); (try unfold mcx2 at *); (try unfold mcr2 at *); (try unfold mmx2 at *); (try unfold mmr2 at *); (simp (disch := omega) only [gI_sI, gI_wI, gI_pZo, gI_pYo, gI_bWo, gI_tkM, gI_nwo, gX_sI, if_neg])
    · (try unfold mcx at *); (try unfold mcr at *); (try unfold mmx at *); (try unfold mmr at *); (try unfold mcx2 at *); (try unfold mcr2 at *); (try unfold mmx2 at *); (try unfold mmr2 at *); rw [gI_pZo (by omega)]
    · (try unfold mcx at *); (try unfold mcr at *); (try unfold mmx at *); (try unfold mmr at *); (try unfold mcx2 at *); (try unfold mcr2 at *); (try unfold mmx2 at *); (try unfold mmr2 at *); rw [gI_bWo (by omega)]
    · (try unfold mcx at *); (try unfold mcr at *); (try unfold mmx at *); (try unfold mmr at *); (try unfold mcx2 at *); (try unfold mcr2 at *); (try unfold mmx2 at *); (try unfold mmr2 at *); rw [gI_bWo (by omega)]
  · have q2 := q2 hv
    rw [YF_pY hYt hYr] at q2
    exact Swt_XY hC hD hX (fun r => (hc r).2 hv) q2 XF_tk (by show gX m ≤ _; omega) (by show gS m ≤ _; omega) hYt (Mis_take hM)
theorem op_odds {p k s0 : Int32} : Op 49 218 [.int p, .int k, .int s0] x y lo := by
  rintro m mm ⟨⟨b, B, np, nd, lw, NP, ND, R, t, u, hC⟩, hM, hD⟩ hX; obtain ⟨⟨hOb, hRX, hSt, hSt2, hSL, hlo, hK16⟩, hb, ⟨hBo, hBr, hB, hNP, hND, hbO, hbX⟩, hZ, hR, ⟨hu, hu8, huy, hUn⟩, hSe, hI0, hI1, hMo, hYr, hn1, hn2⟩ := id hC; have hbz : b + 7 < x + 14 ∨ x + 14 + 5 < b := (by omega)
  obtain ⟨c1, c2⟩ := c_oddsX (d := 210) (p := p) (k := k) (s0 := s0) hOb hSt hb hBo hBr hbz hSt2 (by omega) hB hR (by omega)
  obtain ⟨q1, q2⟩ := q_odds (d := 210) (p := p) (k := k) (s0 := s0) hMo hB hR (by omega)
  rw [pZ_of hZ] at c1 c2
  rw [pY_of hYr] at q1 q2
  by_cases hv : inN np p = true ∧ (nI 1 ≤ k ∧ k ≤ nI 30)
  · obtain ⟨X, c1⟩ := c1 hv
    obtain ⟨s, q1⟩ := q1 hv
    have hY : YF mm (sI (bW (sI mm y 0 0) (y + 6) 0 75 (soF R)) y 41 s) y := YF_tr (YF_tr (YF_sI (by unfold ysc; omega)) (YF_bW (fun k => by unfold ysc; omega))) (YF_sI (by unfold ysc; omega))
    rw [YF_pY hY hYr] at q1
    refine Swt_XY hC hD hX c1 q1 (XF_tr (XF_sI (by unfold scr; omega)) XF_pZ) (by show gX m ≤ _; omega) (by show gS m ≤ _; omega) hY (Mis_same hM (fun j hj => ?_) (fun i j hi => ?_) (fun j hj => ?_) (fun i j hi => ?_))
    · (try unfold mcx at *); (try unfold mcr at *); (try unfold mmx at *); (try unfold mmr at *); (try unfold mcx2 at *); (try unfold mcr2 at *); (try unfold mmx2 at *); (try unfold mmr2 at *); (simp (disch := omega) only [gI_sI, gI_wI, gI_pZo, gI_pYo, gI_bWo, gI_tkM, gI_nwo, gX_sI, if_neg])
    · (try unfold mcx at *); (try unfold mcr at *); (try unfold mmx at *); (try unfold mmr at *); (try unfold mcx2 at *); (try unfold mcr2 at *); (try unfold mmx2 at *); (try unfold mmr2 at *); (simp (disch := omega) only [gI_sI, gI_wI, gI_pZo, gI_pYo, gI_bWo, gI_tkM, gI_nwo, gX_sI, if_neg])
    · (try unfold mcx at *); (try unfold mcr at *); (try unfold mmx at *); (try unfold mmr at *); (try unfold mcx2 at *); (try unfold mcr2 at *); (try unfold mmx2 at *); (try unfold mmr2 at *); (simp (disch := omega) only [gI_sI, gI_wI, gI_pZo, gI_pYo, gI_bWo, gI_tkM, gI_nwo, gX_sI, if_neg])
    · (try unfold mcx at *); (try unfold mcr at *); (try unfold mmx at *); (try unfold mmr at *); (try unfold mcx2 at *); (try unfold mcr2 at *); (try unfold mmx2 at *); (try unfold mmr2 at *); (simp (disch := omega) only [gI_sI, gI_wI, gI_pZo, gI_pYo, gI_bWo, gI_tkM, gI_nwo, gX_sI, if_neg])
  · have q2 := q2 hv
    rw [pY0 (by omega) hYr] at q2
    exact Swt_XY hC hD hX (c2 hv) q2 (XF_refl _ _) (by omega) (by omega) (YF_sI (by unfold ysc; omega)) (Mis_y0 hM)
theorem op_share {k s p : Int32} : Op 35 199 [.int k, .int s, .int p] x y lo := by
  rintro m mm ⟨⟨b, B, np, nd, lw, NP, ND, R, t, u, hC⟩, hM, hD⟩ hX; obtain ⟨⟨hOb, hRX, hSt, hSt2, hSL, hlo, hK16⟩, hb, ⟨hBo, hBr, hB, hNP, hND, hbO, hbX⟩, hZ, hR, ⟨hu, hu8, huy, hUn⟩, hSe, hI0, hI1, hMo, hYr, hn1, hn2⟩ := id hC; have hbz : b + 7 < x + 14 ∨ x + 14 + 5 < b := (by omega)
  obtain ⟨c1, c2⟩ := c_shareX (d := 210) (p := p) (k := k) (s := s) hOb hSt hb hBo hBr hbz (by omega) hB hR (by omega)
  obtain ⟨q1, q2⟩ := q_share (d := 210) (p := p) (k := k) (s := s) hMo hB hR (by omega)
  rw [pZ_of hZ] at c1 c2
  rw [pY_of hYr, pY0 (by omega) hYr] at q1 q2
  by_cases hv : ShOk np nd k s p
  · obtain ⟨P, sh', re', p1, p2, c1⟩ := c1 hv
    obtain ⟨P', p3, p4, q1⟩ := q1 hv
    have eP : P' = P := (nI_eqi (by omega) (by omega)).mp (p4.symm.trans p2)
    subst eP
    refine Swt_XY hC hD hX c1 q1 (XF_tr (XF_wI (fun k => by unfold scr; omega)) (XF_wI (fun k => by unfold scr; omega))) (by show gX m ≤ _; omega) (by show gS m ≤ _; omega) (YF_sI (by unfold ysc; omega)) (Mis_same (Mis_y0 (v := 0) hM) (fun j hj => ?_) (fun i j hi => ?_) (fun j hj => rfl) (fun i j hi => rfl))
    · (try unfold mcx at *); (try unfold mcr at *); (try unfold mmx at *); (try unfold mmr at *); (try unfold mcx2 at *); (try unfold mcr2 at *); (try unfold mmx2 at *); (try unfold mmr2 at *); (simp (disch := omega) only [gI_sI, gI_wI, gI_pZo, gI_pYo, gI_bWo, gI_tkM, gI_nwo, gX_sI, if_neg])
    · (try unfold mcx at *); (try unfold mcr at *); (try unfold mmx at *); (try unfold mmr at *); (try unfold mcx2 at *); (try unfold mcr2 at *); (try unfold mmx2 at *); (try unfold mmr2 at *); (simp (disch := omega) only [gI_sI, gI_wI, gI_pZo, gI_pYo, gI_bWo, gI_tkM, gI_nwo, gX_sI, if_neg])
  · exact Swt_XY hC hD hX (c2 hv) (q2 hv) (XF_refl _ _) (by omega) (by omega) (YF_sI (by unfold ysc; omega)) (Mis_y0 hM)
theorem op_last {k : Int32} : Op 36 200 [.int k] x y lo := by
  rintro m mm ⟨⟨b, B, np, nd, lw, NP, ND, R, t, u, hC⟩, hM, hD⟩ hX; obtain ⟨⟨hOb, hRX, hSt, hSt2, hSL, hlo, hK16⟩, hb, ⟨hBo, hBr, hB, hNP, hND, hbO, hbX⟩, hZ, hR, ⟨hu, hu8, huy, hUn⟩, hSe, hI0, hI1, hMo, hYr, hn1, hn2⟩ := id hC; have hbz : b + 7 < x + 14 ∨ x + 14 + 5 < b := (by omega)
  obtain ⟨c1, c2⟩ := c_lastX (d := 210) (k := k) hOb hSt hb hBo hBr hbz hB hR (by omega) (by omega)
  obtain ⟨q1, q2⟩ := q_last (d := 210) (k := k) hMo hB hR (by omega)
  rw [pZ_of hZ] at c1 c2
  rw [pY_of hYr] at q1 q2
  by_cases hv : inN nd k = true
  · obtain ⟨P, f, p1, p2, c1⟩ := c1 hv
    obtain ⟨P', p3, p4, q1⟩ := q1 hv
    have eP : P' = P := (nI_eqi (by omega) (by omega)).mp (p4.symm.trans p2)
    subst eP
    rw [la_ans] at q1
    have hY : YF mm (wI (sI mm y 0 0) (y + 15) (lmF (gI mm (y + 15)) P').1) y := YF_tr (YF_sI (by unfold ysc; omega)) (YF_wI (fun k => by unfold ysc; omega))
    rw [YF_pY hY hYr] at q1
    have hF : XF m (wI (nw m 100 (P' + 1) (P' + 1)) (gX m) f) x := XF_wnew (XF_nw (by omega)) ⟨Nat.le_refl _, by omega⟩
    refine Swt_XY hC hD hX c1 q1 hF (by show gX m + 1 ≤ _; omega) (by show gS m + (P' + 1) ≤ _; omega) hY (Mis_same hM (fun j hj => ?_) (fun i j hi => ?_) (fun j hj => ?_) (fun i j hi => ?_))
    · (try unfold mcx at *); (try unfold mcr at *); (try unfold mmx at *); (try unfold mmr at *); (try unfold mcx2 at *); (try unfold mcr2 at *); (try unfold mmx2 at *); (try unfold mmr2 at *); (simp (disch := omega) only [gI_sI, gI_wI, gI_pZo, gI_pYo, gI_bWo, gI_tkM, gI_nwo, gX_sI, if_neg])
    · (try unfold mcx at *); (try unfold mcr at *); (try unfold mmx at *); (try unfold mmr at *); (try unfold mcx2 at *); (try unfold mcr2 at *); (try unfold mmx2 at *); (try unfold mmr2 at *); (simp (disch := omega) only [gI_sI, gI_wI, gI_pZo, gI_pYo, gI_bWo, gI_tkM, gI_nwo, gX_sI, if_neg])
    · (try unfold mcx at *); (try unfold mcr at *); (try unfold mmx at *); (try unfold mmr at *); (try unfold mcx2 at *); (try unfold mcr2 at *); (try unfold mmx2 at *); (try unfold mmr2 at *); (simp (disch := omega) only [gI_sI, gI_wI, gI_pZo, gI_pYo, gI_bWo, gI_tkM, gI_nwo, gX_sI, if_neg])
    · (try unfold mcx at *); (try unfold mcr at *); (try unfold mmx at *); (try unfold mmr at *); (try unfold mcx2 at *); (try unfold mcr2 at *); (try unfold mmx2 at *); (try unfold mmr2 at *); (simp (disch := omega) only [gI_sI, gI_wI, gI_pZo, gI_pYo, gI_bWo, gI_tkM, gI_nwo, gX_sI, if_neg])
  · have q2 := q2 hv
    rw [pY0 (by omega) hYr] at q2
    exact Swt_XY hC hD hX (c2 hv) q2 (XF_refl _ _) (by omega) (by omega) (YF_sI (by unfold ysc; omega)) (Mis_y0 hM)
theorem op_eaters : Op 30 195 [] x y lo := by
  rintro m mm ⟨⟨b, B, np, nd, lw, NP, ND, R, t, u, hC⟩, hM, hD⟩ hX; obtain ⟨⟨hOb, hRX, hSt, hSt2, hSL, hlo, hK16⟩, hb, ⟨hBo, hBr, hB, hNP, hND, hbO, hbX⟩, hZ, hR, ⟨hu, hu8, huy, hUn⟩, hSe, hI0, hI1, hMo, hYr, hn1, hn2⟩ := id hC; have hbz : b + 7 < x + 14 ∨ x + 14 + 5 < b := (by omega)
  obtain ⟨n, T, hn, e1, e2, e3, e4, e5⟩ := hM.1
  have hc := fun r => c_eatersX (r := r) (d := 210) (T := T) (R := R) hOb hSt hb hBo hBr hbz (by omega) hbX (by omega) hB e1 hn (fun k hk => by rw [e3 k hk, by8 (e5 k)]) e5 (by omega)
  have hq := fun r => q_eaters (r := r) (d := 210) (T := T) (B := B) (R := R) hMo hB e2 hn e4 e5 (by omega)
  have hZt : pZ (tkM m x) (x + 14) R = tkM m x := pZ_of (Zr_same hZ fun s k hs _ => gI_tkM (by omega))
  rw [pZ_of hZ, hZt] at hc
  rw [pY_of hYr, ea_7 (GB_n7 hB)] at hq
  have hYt : YF mm (sI (sI mm y 0 0) y 2 0) y := YF_tr (YF_sI (by unfold ysc; omega)) (YF_sI (by unfold ysc; omega))
  rw [YF_pY hYt hYr] at hq
  have gXt : gX (tkM m x) = gX m := rfl
  by_cases h2 : n = 2 ∧ T 0 < nd
  · simp only [if_pos h2] at hc hq
    generalize eaF R (T 0) (nI (T 1)) np (2 ^ np) = W at hc hq
    by_cases h0 : W.1 = 0
    · simp only [if_pos h0] at hc hq
      have hY : YF mm (bW (sI (sI mm y 0 0) y 2 0) (y + 14) 0 7 W.2.2) y := YF_tr hYt (YF_bW (fun k => by unfold ysc; omega))
      rw [YF_pY hY hYr] at hq
      refine Swt_XY hC hD hX hc hq (XF_wnew (XF_tr XF_tk (XF_nw (by rw [gXt]; omega))) ⟨Nat.le_refl _, by omega⟩) (by show gX m + 1 ≤ _; omega) (by show gS m + 7 ≤ _; omega) hY (Mis_same (Mis_take (v := 0) hM) (fun j hj => ?_) (fun i j hi => ?_) (fun j hj => ?_) (fun i j hi => ?_))
      · (try unfold mcx at *); (try unfold mcr at *); (try unfold mmx at *); (try unfold mmr at *); (try unfold mcx2 at *); (try unfold mcr2 at *); (try unfold mmx2 at *); (try unfold mmr2 at *); rw [gI_wI, if_neg (by omega), gI_nwo (by rw [gXt]; omega)]
      · (try unfold mcx at *); (try unfold mcr at *); (try unfold mmx at *); (try unfold mmr at *); (try unfold mcx2 at *); (try unfold mcr2 at *); (try unfold mmx2 at *); (try unfold mmr2 at *); rw [gI_wI, if_neg (by omega), gI_nwo (by rw [gXt]; omega)]
      · (try unfold mcx at *); (try unfold mcr at *); (try unfold mmx at *); (try unfold mmr at *); (try unfold mcx2 at *); (try unfold mcr2 at *); (try unfold mmx2 at *); (try unfold mmr2 at *); rw [gI_bWo (by omega)]
      · (try unfold mcx at *); (try unfold mcr at *); (try unfold mmx at *); (try unfold mmr at *); (try unfold mcx2 at *); (try unfold mcr2 at *); (try unfold mmx2 at *); (try unfold mmr2 at *); rw [gI_bWo (by omega)]
    · simp only [if_neg h0] at hc hq
      have hY : YF mm (bW (sI (sI (sI (sI mm y 0 0) y 2 0) y 32 W.2.1) y 33 (oI (it (asS W) np none))) (y + 14) 0 7 W.2.2) y := YF_tr (YF_tr (YF_tr hYt (YF_sI (by unfold ysc; omega))) (YF_sI (by unfold ysc; omega))) (YF_bW (fun k => by unfold ysc; omega))
      rw [YF_pY hY hYr] at hq
      have hMt := Mis_take (v := 0) hM
      refine Swt_XY hC hD hX hc hq (XF_wnew (XF_tr XF_tk (XF_tr (XF_tr (XF_tr (XF_nw (by rw [gXt]; omega)) (XF_sI (by unfold scr; omega))) (XF_sI (by unfold scr; omega))) (XF_sI (by unfold scr; omega)))) ⟨Nat.le_refl _, by omega⟩) (by show gX m + 1 ≤ _; omega) (by show gS m + 7 ≤ _; omega) hY ⟨Tp_same hMt.1 ?_ (fun k => ?_) ?_ (fun k => ?_), ?_, Or_same hMt.2.2.1 ?_ (fun k => ?_) ?_ (fun k => ?_), ⟨?_, ?_⟩, St_sameR hMt.2.2.2.2.1 ?_ (fun k => ?_) ?_ (fun k => ?_), Tx_same hMt.2.2.2.2.2.1 ?_ (fun k => ?_) ?_ (fun k => ?_), To_same hMt.2.2.2.2.2.2 ?_ (fun k => ?_) ?_ (fun k => ?_)⟩
      all_goals first
        | (rw [gI_bWo (by omega), gI_sI, if_neg (by omega), gI_sI, if_neg (by omega)]; done)
        | (rw [gI_wI, if_neg (by omega), gI_sI, if_neg (by omega), gI_sI, if_neg (by omega), gI_sI, if_neg (by omega), gI_nwo (by rw [gXt]; omega)]; done)
        | skip
      · rw [gI_wI, if_neg (by omega), gI_sI, if_neg (by omega), gI_sI, if_neg (by omega), gI_sI, if_neg (by omega), gI_nwo (by rw [gXt]; omega), gI_bWo (by omega), gI_sI, if_neg (by omega), gI_sI, if_neg (by omega)]
        exact hMt.2.1
      · simp (disch := omega) only [gI_wI, gI_bWo, gI_sI, if_pos, if_neg, and_self, if_true]
        rfl
      · simp (disch := omega) only [gI_wI, gI_bWo, gI_sI, if_pos, if_neg, and_self, if_true]
        rfl
  · simp only [if_neg h2] at hc hq
    exact Swt_XY hC hD hX hc hq XF_tk (by show gX m ≤ _; omega) (by show gS m ≤ _; omega) hYt (Mis_take hM)
theorem op_seats : Op 37 201 [] x y lo := by
  rintro m mm ⟨⟨b, B, np, nd, lw, NP, ND, R, t, u, hC⟩, hM, hD⟩ hX; obtain ⟨⟨hOb, hRX, hSt, hSt2, hSL, hlo, hK16⟩, hb, ⟨hBo, hBr, hB, hNP, hND, hbO, hbX⟩, hZ, hR, ⟨hu, hu8, huy, hUn⟩, hSe, hI0, hI1, hMo, hYr, hn1, hn2⟩ := id hC; have hbz : b + 7 < x + 14 ∨ x + 14 + 5 < b := (by omega)
  obtain ⟨L, hL, hLv⟩ := liv_set (R := R) (GB_n hB) (GB_n7 hB)
  have hpc : ∀ L, L < 128 → pc7 L ≤ 7 := by decide +kernel
  have hp7 := hpc L (by have := p2_128 np (GB_n7 hB); omega)
  obtain ⟨S0, row0, many0, r1, r2, hc⟩ := c_seatsX (d := 210) hOb hSt hb hBo hBr hbz (by omega) hB hL hLv (by omega)
  obtain ⟨S1, row1, r3, hq⟩ := q_seats (d := 210) (R := R) hMo hB hL hLv (by omega)
  obtain ⟨s1, s2, s3⟩ := se_same (S := S0) (S' := S1) (row := row0) (row' := row1) (many := many0) (many' := 0) hB hL
  rw [pZ_of hZ] at hc
  rw [pY_of hYr] at hq
  generalize seF B np cpC (pc7 L) 0 L (nI 0) (S0, -1, row0, many0) = V at hc s1 s2 s3
  generalize seF B np cpM (pc7 L) 0 L (nI 0) (S1, -1, row1, 0) = W at hq s1 s2
  have hY : YF mm (ov (sI (sI mm y 0 0) y 37 (nI (pc7 L))) (y + 16) (y + 17) y 38 W.1 W.2.2.1 W.2.1) y := YF_tr (YF_tr (YF_sI (by unfold ysc; omega)) (YF_sI (by unfold ysc; omega))) (YF_ov (fun k => by unfold ysc; omega) (fun k => by unfold ysc; omega) (by unfold ysc; omega))
  rw [YF_pY hY hYr, ← s1] at hq
  refine Swt_XY hC hD hX hc hq (XF_tr (XF_sI (by unfold scr; omega)) (XF_ov (fun k => by unfold scr; omega) (fun k => by unfold scr; omega) (by unfold scr; omega))) (by show gX m ≤ _; omega) (by show gS m ≤ _; omega) (s1 ▸ hY) ⟨Tp_same hM.1 ?_ (fun k => ?_) ?_ (fun k => ?_), ?_, Or_same hM.2.2.1 ?_ (fun k => ?_) ?_ (fun k => ?_), Ea_same hM.2.2.2.1 ?_ ?_ ?_ ?_ ?_, ⟨pc7 L, hp7, Or.inl ?_, ?_, fun k hk => ?_⟩, Tx_same hM.2.2.2.2.2.1 ?_ (fun k => ?_) ?_ (fun k => ?_), To_same hM.2.2.2.2.2.2 ?_ (fun k => ?_) ?_ (fun k => ?_)⟩
  all_goals first
    | (simp (disch := omega) only [gI_ov, gI_sI, if_neg]; done)
    | skip
  · simp (disch := omega) only [gI_ov, gI_sI, if_neg]
    exact hM.2.1
  · simp (disch := omega) only [gI_ov, gI_sI, if_pos, if_neg, and_self, if_true]
    exact s3
  · simp (disch := omega) only [gI_ov, gI_sI, if_pos, if_neg, and_self, if_true]
  · simp (disch := omega) only [gI_ov, gI_sI, if_pos, if_neg, and_self, if_true]
    exact s2 k hk
theorem op_meals {k : Int32} : Op 23 186 [.int k] x y lo := by
  rintro m mm ⟨⟨b, B, np, nd, lw, NP, ND, R, t, u, hC⟩, hM, hD⟩ hX; obtain ⟨⟨hOb, hRX, hSt, hSt2, hSL, hlo, hK16⟩, hb, ⟨hBo, hBr, hB, hNP, hND, hbO, hbX⟩, hZ, hR, ⟨hu, hu8, huy, hUn⟩, hSe, hI0, hI1, hMo, hYr, hn1, hn2⟩ := id hC; have hbz : b + 7 < x + 14 ∨ x + 14 + 5 < b := (by omega)
  obtain ⟨c1, c2, c3⟩ := c_mealsX (d := 210) (k := k) hOb hSt hb hBo hBr hbz hSL (by omega) hu hu8 (fun i hi => (hUn i hi).elim fun a h => ⟨a, h.elim fun _ h => h.elim fun _ h => h.1⟩) (by omega) (by omega) hbX hB hR (by omega)
  have hq := fun r => q_meals (r := r) (d := 210) (k := k) (B := B) (R := R) hMo (GB_n hB) (GB_n7 hB) (GR_t hR) (GR_t2 hR) huy hu8 (by omega)
  rw [pZ_of hZ] at c1 c2 c3
  rw [pY_of hYr, pY0 (by omega) hYr] at hq
  by_cases hv : nI 1 ≤ k ∧ k ≤ nI 60
  · simp only [if_pos hv] at hq
    by_cases ht : t = 200
    · simp only [if_pos ht] at hq
      exact Swt_XY hC hD hX (c2 hv ht) hq (XF_refl _ _) (by omega) (by omega) (YF_sI (by unfold ysc; omega)) (Mis_y0 hM)
    · simp only [if_neg ht] at hq
      have ht2 := GR_t2 hR
      obtain ⟨m1, a, f, u', hk, hc⟩ := c1 hv (by omega)
      exact Swt_keep hC hM hD hX hk (GR_mealF hB hR (by omega)) hc hq
  · simp only [if_neg hv] at hq
    exact Swt_XY hC hD hX (c3 hv) hq (XF_refl _ _) (by omega) (by omega) (YF_sI (by unfold ysc; omega)) (Mis_y0 hM)
theorem op_drawn {k s0 : Int32} : Op 48 215 [.int k, .int s0] x y lo := by
  rintro m mm ⟨⟨b, B, np, nd, lw, NP, ND, R, t, u, hC⟩, hM, hD⟩ hX; obtain ⟨⟨hOb, hRX, hSt, hSt2, hSL, hlo, hK16⟩, hb, ⟨hBo, hBr, hB, hNP, hND, hbO, hbX⟩, hZ, hR, ⟨hu, hu8, huy, hUn⟩, hSe, hI0, hI1, hMo, hYr, hn1, hn2⟩ := id hC; have hbz : b + 7 < x + 14 ∨ x + 14 + 5 < b := (by omega)
  obtain ⟨c1, c2, c3⟩ := c_drawnX (d := 210) (k := k) (s0 := s0) hOb hSt hb hBo hBr hbz hSL (by omega) hu hu8 (fun i hi => (hUn i hi).elim fun a h => ⟨a, h.elim fun _ h => h.elim fun _ h => h.1⟩) (by omega) (by omega) hbX hB hR (by omega)
  have hq := fun r => q_drawn (r := r) (d := 210) (k := k) (s0 := s0) (B := B) (R := R) hMo hB hR huy hu8 (by omega)
  rw [pZ_of hZ] at c1 c2 c3
  rw [pY_of hYr, pY0 (by omega) hYr] at hq
  by_cases hv : (nI 1 ≤ k ∧ k ≤ nI 60) ∧ 0 < np
  · simp only [if_pos hv] at hq
    by_cases ht : t = 200
    · simp only [if_pos ht] at hq
      have c2 := c2 hv ht
      have hF : XF m (sI m (x + 14) 11 s0) x := XF_sI (by unfold scr; omega)
      rw [pZ_of (Zr_same hZ fun s k hs hn => hF.2.2.2.2 _ _ (by omega) (by unfold scr; omega))] at c2
      refine Swt_XY hC hD hX c2 hq hF (by show gX m ≤ _; omega) (by show gS m ≤ _; omega) (YF_sI (by unfold ysc; omega)) (Mis_same (Mis_y0 (v := 0) hM) (fun j hj => ?_) (fun i j hi => ?_) (fun _ _ => rfl) (fun _ _ _ => rfl))
      · (try unfold mcx at *); (try unfold mcr at *); (try unfold mmx at *); (try unfold mmr at *); (try unfold mcx2 at *); (try unfold mcr2 at *); (try unfold mmx2 at *); (try unfold mmr2 at *); (simp (disch := omega) only [gI_sI, gI_wI, gI_pZo, gI_pYo, gI_bWo, gI_tkM, gI_nwo, gX_sI, if_neg])
      · (try unfold mcx at *); (try unfold mcr at *); (try unfold mmx at *); (try unfold mmr at *); (try unfold mcx2 at *); (try unfold mcr2 at *); (try unfold mmx2 at *); (try unfold mmr2 at *); (simp (disch := omega) only [gI_sI, gI_wI, gI_pZo, gI_pYo, gI_bWo, gI_tkM, gI_nwo, gX_sI, if_neg])
    · simp only [if_neg ht] at hq
      have ht2 := GR_t2 hR
      obtain ⟨m1, a, f, u', hk, hc⟩ := c1 hv (by omega)
      have hl := Cor_lo hC
      generalize hW : drsF B np (min k.toNatClampNeg (200 - t)) (R, s0) = W at hc hq
      have hG : GR B W.1 nd (t + min k.toNatClampNeg (200 - t)) := by rw [← hW]; exact GR_drs hB hR (by omega)
      have hC' := Cor_keep (Cor_y0 (v := 0) (k := 0) (by omega) hC) hk hG (by omega)
      have hM' := act_Mis (R := R) (R' := W.1) (B := B) (Mis_y0 (v := 0) hM) hC.1 (by omega) hk
      have hFC := kp_FC (R := R) (R' := W.1) hC.1 (by omega) hk
      have e1 : pZ (sI (kpM m1 x a u' R f) (x + 14) 11 W.2) (x + 14) W.1 = sI (pZ (kpM m1 x a u' R f) (x + 14) W.1) (x + 14) 11 W.2 := sI_pZ11.symm
      have e2 : pY (sI (snpM (sI mm y 0 0) y u R) y 41 W.2) y B W.1 = sI (pY (snpM (sI mm y 0 0) y u R) y B W.1) y 41 W.2 := (sI_pYo (by omega)).symm
      rw [e1] at hc
      rw [e2] at hq
      have hF : XF (pZ (kpM m1 x a u' R f) (x + 14) W.1) (sI (pZ (kpM m1 x a u' R f) (x + 14) W.1) (x + 14) 11 W.2) x := XF_sI (by unfold scr; omega)
      have hFC2 := XF_FC (lo := lo) hF ⟨by omega, by have := hFC.1; omega⟩ (by show gX _ ≤ gX _ + 100; exact Nat.le_add_right _ _) (by show gS _ ≤ gS _ + 700; exact Nat.le_add_right _ _) (by omega)
      have hFC3 : FC m (sI (pZ (kpM m1 x a u' R f) (x + 14) W.1) (x + 14) 11 W.2) x lo := ⟨hFC.1, hFC.2.1, hFC.2.2.1, fun c hc => ⟨((hFC2.2.2.2 c hc).1).trans (hFC.2.2.2 c hc).1, ((hFC2.2.2.2 c hc).2.1).trans (hFC.2.2.2 c hc).2.1, fun j => ((hFC2.2.2.2 c hc).2.2.1 j).trans ((hFC.2.2.2 c hc).2.2.1 j), fun j => ((hFC2.2.2.2 c hc).2.2.2.1 j).trans ((hFC.2.2.2 c hc).2.2.2.1 j), fun j => ((hFC2.2.2.2 c hc).2.2.2.2 j).trans ((hFC.2.2.2 c hc).2.2.2.2 j)⟩⟩
      have hY2 : YF (pY (snpM (sI mm y 0 0) y u R) y B W.1) (sI (pY (snpM (sI mm y 0 0) y u R) y B W.1) y 41 W.2) y := YF_sI (by unfold ysc; omega)
      refine ⟨_, _, _, hc, hq, ⟨⟨b, B, np, nd, lw, NP, ND, _, _, u', Cor_XY hC' hF (by have := hFC3.2.1; omega) hY2⟩, Mis_same hM' (fun j hj => ?_) (fun i j hi => ?_) (fun j hj => ?_) (fun i j hi => ?_), DTb_FC hD (by omega) (by omega) hFC3⟩, hFC3, FM_tr (FM_tr (YF_FM (YF_sI (by unfold ysc; omega))) sn_FM) (YF_FM hY2)⟩
      · (try unfold mcx at *); (try unfold mcr at *); (try unfold mmx at *); (try unfold mmr at *); (try unfold mcx2 at *); (try unfold mcr2 at *); (try unfold mmx2 at *); (try unfold mmr2 at *); rw [gI_sI, if_neg (by omega)]
      · (try unfold mcx at *); (try unfold mcr at *); (try unfold mmx at *); (try unfold mmr at *); (try unfold mcx2 at *); (try unfold mcr2 at *); (try unfold mmx2 at *); (try unfold mmr2 at *); rw [gI_sI, if_neg (by omega)]
      · (try unfold mcx at *); (try unfold mcr at *); (try unfold mmx at *); (try unfold mmr at *); (try unfold mcx2 at *); (try unfold mcr2 at *); (try unfold mmx2 at *); (try unfold mmr2 at *); rw [gI_sI, if_neg (by omega)]
      · (try unfold mcx at *); (try unfold mcr at *); (try unfold mmx at *); (try unfold mmr at *); (try unfold mcx2 at *); (try unfold mcr2 at *); (try unfold mmx2 at *); (try unfold mmr2 at *); rw [gI_sI, if_neg (by omega)]
  · simp only [if_neg hv] at hq
    exact Swt_XY hC hD hX (c3 hv) hq (XF_refl _ _) (by omega) (by omega) (YF_sI (by unfold ysc; omega)) (Mis_y0 hM)
end WT
