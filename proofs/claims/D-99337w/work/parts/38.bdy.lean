/-! A METHOD's BODY: what the pure machine runs, the machine runs -/
theorem mI_302 {As : List Value} {m : PM} : mI 302 As m ≠ none := by
  intro h
  rw [mI_302e] at h
  unfold mJ at h
  rw [if_neg (by decide), if_neg (by decide), if_neg (by decide), if_pos rfl] at h
  split at h <;> cases h
theorem kOk_e {K : Nat} (h : kOk K = true) : (1 ≤ K ∧ K ≤ 22) ∨ K = 50 := by
  simp only [kOk, Bool.or_eq_true, Bool.and_eq_true, decide_eq_true_eq, beq_iff_eq] at h
  exact h
theorem ivk2_e {K a : Nat} (h : ivk 2 K a = true) : 16 ≤ K ∧ K ≤ 20 := by
  simp only [ivk, Bool.and_eq_true, decide_eq_true_eq] at h
  exact h.2
def HCn (l : Launch) (D : va_G) (dA : Nat → ClassId) (d : Nat) : Prop := ∀ (n mid : Nat) (As : List Value) (m : PM) (r : PRes), io d (pM.2.2.2.2.2.2 mid As m) (dz d fun d' => ex pT pM n d' (pM.1 mid) (pM.2.1 mid) (pM.2.2.2.1 mid) (pM.2.2.2.2.2.1 mid) 0 (enT As (pM.2.2.1 mid)) [] m) = some r → vM mid = true → Wf m → (∀ v ∈ As, lvV m v) → ∃ d', d = d' + 1 ∧ Cn l D dA d' mid As m r
section BDY
variable {p : Program} {l : Launch} {e : Env} {R : Room} {s : State} {mth : MethodId} {args : Array Value} {below : List Frame} {meth : Method} {c : Code}
variable {D : va_G} {dA : Nat → ClassId} {A : Nat → Prop} {WK : va_W} {ρ0 : Nat → Nat} {m0 : PM} {nL o : Nat} {cc : ByteArray} {rt : Option FieldType} {hh : Nat → Option Nat}
set_option maxHeartbeats 4000000 in
theorem body {d : Nat} (F : Fx p s mth args meth c D dA A WK ρ0 m0 nL o cc rt hh) (hRf : d ≤ R.frames) (hRl : 64 * d ≤ R.locals) (HC : HCn l D dA d) : ∀ (n pc : Nat) (L : PLs) (st : List Value) (m : PM) (rF : PRes), ex pT pM n d o cc rt hh pc L st m = some rF → xX rF m0 ≤ R.cells → xS rF m0 ≤ R.slots → Gl p l e R s mth args below meth c (Qr D dA A ρ0 m0 rF below args s) D dA A WK ρ0 m0 nL pc L st m := by
  have hx := F.1.1
  have hb := F.1.2.1
  have hown := F.1.2.2.2.1
  have hts := F.1.2.2.2.2
  have hA := F.2.1.2.2
  have hNx := F.2.1.1.2.1
  have hrt := F.2.2.2.2.2.2.1
  have hlocks := F.2.2.2.2.2.2.2.1
  have hHt := F.2.2.2.2.2.2.2.2
  have hWK := F.2.2.1.2.2
  intro n
  induction n with
  | zero => intro pc L st m rF h; simp [ex] at h
  | succ n ih =>
    intro pc L st m rF h hcl hsl
    have hcl' : gX rF.2 - gX m0 ≤ R.cells := Nat.le_trans (Nat.le_add_right _ _) hcl
    have hsl' : gS rF.2 - gS m0 ≤ R.slots := Nat.le_trans (Nat.le_add_right _ _) hsl
    rw [ex] at h
    obtain ⟨i, len, hd, hl, h⟩ := dc_e h
    rcases ac_e h with ⟨pc', L', st', m', hs1, h⟩ | ⟨r', hs1, h⟩ | ⟨len', mid, hs1, h⟩
    · have h1 := ex_X _ _ _ _ _ _ _ _ _ _ _ h
      exact sx_next F (by omega) (by omega) hd hl hs1 (ih _ _ _ _ _ h hcl hsl)
    · obtain ⟨rfl, h0⟩ := rz_e h
      rcases (sx_R hs1).2 with rfl | rfl | rfl | rfl | ⟨rfl, h1⟩
      · exact sim_ireturn hx hb hrt hlocks hWK hd hl hs1
      · exact sim_lreturn hx hb hrt hlocks hWK hd hl hs1
      · exact sim_areturn hx hb hrt hlocks hWK hd hl hs1
      · exact sim_return hx hb hrt hlocks hWK hd hl hs1
      · exact sim_athrow hx hb F.2.1.1.1 hlocks hWK (hHt.1 pc (h0.resolve_left (by omega))) hd hl hs1
    · obtain ⟨As, rest, hcx, h⟩ := cy_e h
      obtain ⟨w, hw, h⟩ := af_e h
      have k0 : w.1.1 = 0 → Gl p l e R s mth args below meth c (Qr D dA A ρ0 m0 rF below args s) D dA A WK ρ0 m0 nL (pc + len') L (w.1.2.toList ++ rest) w.2 := by
        intro h0
        rcases h with ⟨-, h⟩ | ⟨h1, -⟩ | ⟨h2, -⟩
        · exact ih _ _ _ _ _ h hcl hsl
        · omega
        · omega
      have k1 : ∀ z, w.1.1 = 1 → hh pc = some z → Gl p l e R s mth args below meth c (Qr D dA A ρ0 m0 rF below args s) D dA A WK ρ0 m0 nL z L w.1.2.toList w.2 := by
        intro z h1 hz
        rcases h with ⟨h0, -⟩ | ⟨-, h⟩ | ⟨h2, -⟩
        · omega
        · rcases hc_e h with ⟨z', e1, h⟩ | ⟨e1, h⟩
          · rw [e1] at hz
            cases hz
            exact ih _ _ _ _ _ h hcl hsl
          · rw [e1] at hz; cases hz
        · omega
      have k2 : w.1.1 ≠ 0 → (w.1.1 = 2 → hh pc = none) ∧ (hh pc = none → rF = w) := by
        intro h0
        rcases h with ⟨h1, -⟩ | ⟨h1, h⟩ | ⟨h2, h⟩
        · exact absurd h1 h0
        · refine ⟨fun e => by omega, fun e => ?_⟩
          rcases hc_e h with ⟨z', e1, h⟩ | ⟨e1, h⟩
          · rw [e1] at e; cases e
          · have h := Option.some.inj h
            rw [← h, ← h1]
        · rcases hc_e h with ⟨z', e1, h⟩ | ⟨e1, h⟩
          · cases h
          · have h := Option.some.inj h
            exact ⟨fun _ => e1, fun _ => h.symm⟩
      have hX1 : gX m ≤ gX w.2 ∧ gS m ≤ gS w.2 := by
        rcases io_e hw with ⟨hq, -⟩ | ⟨-, hb⟩
        · have := mI_X hq
          omega
        · obtain ⟨d', -, hb⟩ := dz_e hb
          exact ex_X _ _ _ _ _ _ _ _ _ _ _ hb
      have hX2 : gX w.2 ≤ gX rF.2 ∧ gS w.2 ≤ gS rF.2 := by
        rcases h with ⟨-, h⟩ | ⟨-, h⟩ | ⟨-, h⟩
        · exact ex_X _ _ _ _ _ _ _ _ _ _ _ h
        · rcases hc_e h with ⟨z, -, h⟩ | ⟨-, h⟩
          · exact ex_X _ _ _ _ _ _ _ _ _ _ _ h
          · cases h; exact ⟨Nat.le_refl _, Nat.le_refl _⟩
        · rcases hc_e h with ⟨z, -, h⟩ | ⟨-, h⟩
          · cases h
          · cases h; exact ⟨Nat.le_refl _, Nat.le_refl _⟩
      obtain ⟨hst, hlen, hsum⟩ := cx_e hcx
      have key : ∀ {ρ : Nat → Nat} {H : Heap} {locs : List Loc} {ls : Array Slot}, Iv D dA A WK s ρ0 m0 nL ρ m L st H locs ls → (∀ v ∈ As, lvV m v) ∧ (∀ v ∈ rest, lvV m v) ∧ gX m - gX m0 + xX w m ≤ R.cells ∧ gS m - gS m0 + xS w m ≤ R.slots := by
        intro ρ H locs ls iv
        have g1 := iv.2.2.2.2.1
        have g2 := iv.2.2.2.2.2.1
        refine ⟨fun v hv => iv.2.2.1 v (by rw [hst]; exact List.mem_append_left _ (List.mem_reverse.mpr hv)), fun v hv => iv.2.2.1 v (by rw [hst]; exact List.mem_append_right _ hv), ?_, ?_⟩
        · rcases h with ⟨h0, -⟩ | ⟨h0, -⟩ | ⟨h0, h⟩
          · rw [(xX0 (Or.inl h0)).1]; omega
          · rw [(xX0 (Or.inr h0)).1]; omega
          · rcases hc_e h with ⟨z, -, h⟩ | ⟨-, h⟩
            · cases h
            · cases h
              unfold xX at hcl ⊢
              omega
        · rcases h with ⟨h0, -⟩ | ⟨h0, -⟩ | ⟨h0, h⟩
          · rw [(xX0 (Or.inl h0)).2]; omega
          · rw [(xX0 (Or.inr h0)).2]; omega
          · rcases hc_e h with ⟨z, -, h⟩ | ⟨-, h⟩
            · cases h
            · cases h
              unfold xS at hsl ⊢
              omega
      rcases sx_K hs1 with ⟨idx, rfl⟩ | ⟨idx, rfl⟩ | ⟨idx, rfl⟩ | ⟨idx, cn, rfl⟩
      · obtain ⟨rfl, hp⟩ := ca_s hs1
        obtain rfl : len = 3 := ln_of hl rfl
        obtain ⟨hm, e1, e2⟩ := lk5_e (t := tS) hp
        by_cases e302 : mid = 302
        · subst e302
          have hlk := kS2 _ hm rfl
          simp only at hlk
          rw [e1, e2] at hlk
          rcases io_e hw with ⟨hq, h8⟩ | ⟨hq, -⟩
          · refine sim_copy F (by omega) (by omega) hlk hq hcx hd (fun hr => ?_)
            have kk := k0 (by rw [hr])
            rw [hr] at kk
            exact kk
          · exact absurd hq mI_302
        · have hok := (kS _ hm).resolve_left e302
          intro ρ H locs ls iv
          obtain ⟨hlive, hrest, hf1, hf2⟩ := key iv
          obtain ⟨d', hd', hC⟩ := HC _ _ _ _ _ hw ((tS_v _ hm).resolve_left e302) iv.1.2.2.2.2 hlive
          exact call_go hA hown hts hNx hlocks hWK hHt iv hrest (run_SS F iv (by omega) (by omega) ⟨hf1, hf2⟩ hC hok e1 e2 hcx hd) k0 k1 k2
      · obtain ⟨rfl, x, a, hx0, ha, hy, hnn, h1n, hkk, hg⟩ := ca_v hs1
        obtain rfl : len = 3 := ln_of hl rfl
        obtain ⟨As', rfl⟩ := rcv_arg hcx hnn h1n ha
        have hk := kOk_e hkk
        have hW := okW (by omega) (by omega) hy
        have e301 : mid ≠ 301 := by
          intro e
          rw [e] at hg
          exact absurd (show ivk 1 (gK m a) (pM.1 301) = true by rfl) (iv_01 hg)
        have hok := (okV (by omega) (by omega) hy).resolve_left (fun z => e301 z.1)
        intro ρ H locs ls iv
        obtain ⟨hlive, hrest, hf1, hf2⟩ := key iv
        obtain ⟨d', hd', hC⟩ := HC _ _ _ _ _ hw (hW.1.resolve_left e301) iv.1.2.2.2.2 hlive
        exact call_go hA hown hts hNx hlocks hWK hHt iv hrest (run_V F iv (by omega) (by omega) ⟨hf1, hf2⟩ hC hok (hlive _ List.mem_cons_self) hk hcx hd hg) k0 k1 k2
      · obtain ⟨rfl, x, a, hx0, ha, hy, hnn, h1n, hkk, hg⟩ := ca_p hs1
        obtain rfl : len = 3 := ln_of hl rfl
        obtain ⟨As', rfl⟩ := rcv_arg hcx hnn h1n ha
        have hk := kOk_e hkk
        have hW := okW (by omega) (by omega) hy
        by_cases e301 : mid = 301
        · subst e301
          rcases io_e hw with ⟨hq, h8⟩ | ⟨hq, -⟩
          · have hq : w = ((0, none), m) := (Option.some.inj (Option.some.inj ((mI_301e (args := .ref a :: As') (m := m)).symm.trans hq))).symm
            refine sim_objInit F (by omega) (by omega) (hW.2 rfl) hcx hd ?_
            have kk := k0 (by rw [hq])
            rw [hq] at kk
            exact kk
          · exact absurd ((mI_301e (args := .ref a :: As') (m := m)).symm.trans hq) (fun z => by cases z)
        · have hok := (okV (by omega) (by omega) hy).resolve_left (fun z => e301 z.1)
          intro ρ H locs ls iv
          obtain ⟨hlive, hrest, hf1, hf2⟩ := key iv
          obtain ⟨d', hd', hC⟩ := HC _ _ _ _ _ hw (hW.1.resolve_left e301) iv.1.2.2.2.2 hlive
          exact call_go hA hown hts hNx hlocks hWK hHt iv hrest (run_I F iv (by omega) (by omega) ⟨hf1, hf2⟩ hC hok hcx hd hg) k0 k1 k2
      · obtain ⟨rfl, x, a, hx0, ha, hy, hnn, h1n, hkk, hg⟩ := ca_f hs1
        obtain rfl : len = 5 := ln_of hl rfl
        obtain ⟨As', rfl⟩ := rcv_arg hcx hnn h1n ha
        have hk := ivk2_e hg
        have hW := okW (by omega) (by omega) hy
        have e301 : mid ≠ 301 := by
          intro e
          rw [e] at hg
          exact absurd (show ivk 1 (gK m a) (pM.1 301) = true by rfl) (iv_21 hg)
        have hok := (okV (by omega) (by omega) hy).resolve_left (fun z => e301 z.1)
        intro ρ H locs ls iv
        obtain ⟨hlive, hrest, hf1, hf2⟩ := key iv
        obtain ⟨d', hd', hC⟩ := HC _ _ _ _ _ hw (hW.1.resolve_left e301) iv.1.2.2.2.2 hlive
        exact call_go hA hown hts hNx hlocks hWK hHt iv hrest (run_F F iv (by omega) (by omega) ⟨hf1, hf2⟩ hC hok (hlive _ List.mem_cons_self) ⟨by omega, by omega⟩ hcx hd hg) k0 k1 k2
end BDY
