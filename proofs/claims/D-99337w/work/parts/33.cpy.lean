/-! arraycopy and Object.<init> -/
theorem up_cI {dA : Nat → ClassId} {ρ : Nat → Nat} {m : PM} {a b sp dp n : Nat} (hk : gK m b = 100) : wsW dA ρ (cI m a sp b dp n) = (wsW dA ρ m).set b (ρ b, .inl (dA 0, gN m b, .inl (va_cpy (gI m a) (gI m b) sp dp n))) := by
  have hE : eE dA ρ (cI m a sp b dp n) b = .inl (dA 0, gN m b, .inl (va_cpy (gI m a) (gI m b) sp dp n)) := by
    rw [eE_arr (by rw [gK_cI]; omega), gK_cI, gN_cI, hk]
    show Sum.inl (dA 0, gN m b, Sum.inl (gI (cI m a sp b dp n) b)) = _
    congr 3
    congr 1
    funext j
    rw [gI_cI]
    unfold va_cpy
    by_cases e : dp ≤ j ∧ j < dp + n
    · rw [if_pos ⟨rfl, e⟩, if_pos e]
    · rw [if_neg (fun z => e z.2), if_neg e]
  rw [← hE]
  exact wsW_set rfl (fun b' _ hb => eE_cong rfl rfl (fun i => by rw [gI_cI, if_neg (fun z => hb z.1)]) (fun _ => rfl) (fun _ => rfl))
theorem up_cR {dA : Nat → ClassId} {ρ : Nat → Nat} {m : PM} {a b sp dp n : Nat} (hk : gK m b = 104) : wsW dA ρ (cR m a sp b dp n) = (wsW dA ρ m).set b (ρ b, .inl (dA 4, gN m b, .inr (.inr (.inr (.inr (va_cpy (fun k => (gR m a k).map ρ) (fun k => (gR m b k).map ρ) sp dp n)))))) := by
  have hE : eE dA ρ (cR m a sp b dp n) b = .inl (dA 4, gN m b, .inr (.inr (.inr (.inr (va_cpy (fun k => (gR m a k).map ρ) (fun k => (gR m b k).map ρ) sp dp n))))) := by
    rw [eE_arr (by rw [gK_cR]; omega), gK_cR, gN_cR, hk]
    show Sum.inl (dA 4, gN m b, Sum.inr (Sum.inr (Sum.inr (Sum.inr (fun k => (gR (cR m a sp b dp n) b k).map ρ))))) = _
    congr 7
    funext j
    rw [gR_cR]
    unfold va_cpy
    by_cases e : dp ≤ j ∧ j < dp + n
    · rw [if_pos ⟨rfl, e⟩, if_pos e]
    · rw [if_neg (fun z => e z.2), if_neg e]
  rw [← hE]
  exact wsW_set rfl (fun b' _ hb => eE_cong rfl rfl (fun _ => rfl) (fun _ => rfl) (fun i => by rw [gR_cR, if_neg (fun z => hb z.1)]))
theorem mI_copy {As : List Value} {m : PM} {r : PRes} (h0 : mI 302 As m = some (some r)) : ∃ (a : Nat) (sp : Int32) (b : Nat) (dp n : Int32), As = [.ref a, .int sp, .ref b, .int dp, .int n] ∧ (if 0 ≤ sp ∧ 0 ≤ dp ∧ 0 ≤ n ∧ sp.toNatClampNeg + n.toNatClampNeg ≤ gN m a ∧ dp.toNatClampNeg + n.toNatClampNeg ≤ gN m b then
        (if gK m a = 100 ∧ gK m b = 100 then some ((0, none), cI m a sp.toNatClampNeg b dp.toNatClampNeg n.toNatClampNeg)
         else if (gK m a = 104 ∧ gK m b = 104) ∧ (List.range n.toNatClampNeg).all (fun i => elS m a (sp.toNatClampNeg + i)) = true then some ((0, none), cR m a sp.toNatClampNeg b dp.toNatClampNeg n.toNatClampNeg) else none) else none) = some r := by
  have h := mI_302e.symm.trans h0
  have h : (match (generalizing := false) As with
    | [.ref a, .int sp, .ref b, .int dp, .int n] => some (if 0 ≤ sp ∧ 0 ≤ dp ∧ 0 ≤ n ∧ sp.toNatClampNeg + n.toNatClampNeg ≤ gN m a ∧ dp.toNatClampNeg + n.toNatClampNeg ≤ gN m b then
        (if gK m a = 100 ∧ gK m b = 100 then some ((0, none), cI m a sp.toNatClampNeg b dp.toNatClampNeg n.toNatClampNeg)
         else if (gK m a = 104 ∧ gK m b = 104) ∧ (List.range n.toNatClampNeg).all (fun i => elS m a (sp.toNatClampNeg + i)) = true then some ((0, none), cR m a sp.toNatClampNeg b dp.toNatClampNeg n.toNatClampNeg) else none) else none)
    | _ => some none) = some (some r) := h
  split at h
  · exact ⟨_, _, _, _, _, rfl, Option.some.inj h⟩
  · cases h
section CPY
variable {p : Program} {l : Launch} {e : Env} {R : Room} {s : State} {mth : MethodId} {args : Array Value} {below : List Frame} {meth : Method} {c : Code} {Q : State → Prop}
variable {D : va_G} {dA : Nat → ClassId} {A : Nat → Prop} {WK : va_W} {ρ0 : Nat → Nat} {m0 : PM} {nL o : Nat} {cc : ByteArray} {rt : Option FieldType} {hh : Nat → Option Nat}
variable {ρ : Nat → Nat} {m : PM} {L : PLs} {st : List Value} {H : Heap} {locs : List Loc} {ls : Array Slot}
theorem i0_le {x : Int32} (h : 0 ≤ x) : ¬ x < 0 := by
  rw [Int32.lt_iff_toInt_lt]
  rw [Int32.le_iff_toInt_le] at h
  omega
theorem sim_copy {pc idx : Nat} {As rest : List Value} {r : PRes} (F : Fx p s mth args meth c D dA A WK ρ0 m0 nL o cc rt hh) (hRf : 1 ≤ R.frames) (hRl : 64 ≤ R.locals) (hlink : Cond.methodLink (onm (o % 100)) idx arraycopyName ∈ lw_all) (hq : mI 302 As m = some (some r)) (hcx : cx pM st 302 = some (As, rest)) (hd : decode cc pc = .ok (.invokestatic idx, 3)) (k : r.1 = (0, none) → Gl p l e R s mth args below meth c Q D dA A WK ρ0 m0 nL (pc + 3) L rest r.2) : Gl p l e R s mth args below meth c Q D dA A WK ρ0 m0 nL pc L st m := by
  intro ρ H locs ls iv
  obtain ⟨hst, hlen, hsum⟩ := cx_e hcx
  obtain ⟨a, sp, b, dp, n, hAs, hq2⟩ := mI_copy hq
  clear hq
  have hq := hq2
  clear hq2
  · obtain ⟨⟨h1, h2, h3, h4, h5⟩, hq⟩ := its hq
    subst hAs
    subst hst
    have hst : ∀ v ∈ [Value.int n, .int dp, .ref b, .int sp, .ref a] ++ rest, lvV m v := iv.2.2.1
    have hrest : ∀ v ∈ rest, lvV m v := fun v hv => hst v (List.mem_append_right _ hv)
    have hla : lvI m a := hst (.ref a) (by simp)
    have hlb : lvI m b := hst (.ref b) (by simp)
    have hml : c.maxLocals = ls.size := by rw [F.1.2.2.1]; exact iv.2.1.1.symm
    have hloc : ((rest.map (cv ρ)).map fun v => v.category).sum + (nativeFrameWords "java/lang/System" "arraycopy" 5 + 11) ≤ R.locals := by
      rw [cat_map]
      have : nativeFrameWords "java/lang/System" "arraycopy" 5 ≤ 45 := by decide
      omega
    have hts := F.1.2.2.2.2
    have hK := F.2.1.1.1
    by_cases q : gK m a = 100 ∧ gK m b = 100
    · rw [if_pos q] at hq
      cases hq
      have hlta := lt_of_lv iv.1.2.2.2.2 hla (by omega) (by omega)
      have hltb := lt_of_lv iv.1.2.2.2.2 hlb (by omega) (by omega)
      have ha := wsW_at (dA := dA) (ρ := ρ) hlta
      rw [eE_arr (by omega), q.1] at ha
      have ha : (wsW dA ρ m)[a]? = some (ρ a, .inl (dA 0, gN m a, .inl (gI m a))) := ha
      have hb := wsW_at (dA := dA) (ρ := ρ) hltb
      rw [eE_arr (by omega), q.2] at hb
      have hb : (wsW dA ρ m)[b]? = some (ρ b, .inl (dA 0, gN m b, .inl (gI m b))) := hb
      have hup := up_cI (dA := dA) (ρ := ρ) (m := m) (a := a) (b := b) (sp := sp.toNatClampNeg) (dp := dp.toNatClampNeg) (n := n.toNatClampNeg) q.2
      refine va_copyi F.1.1 F.1.2.1 hml F.1.2.2.2.1 (hts _ hlink) (hts _ q462) (hts _ q461) (hts _ q103) hK iv.1.1 iv.1.2.1 iv.1.2.2.1 a b 0 0 ha hb rfl rfl rfl (i0_le h1) (i0_le h2) (i0_le h3) h4 h5 (fun _ _ => rfl) hRf hloc hd (fun H1 locs1 hP1 hD1 hS1 => ?_)
      exact k rfl ρ H1 locs1 ls (iv_upd iv rfl rfl (fun _ => rfl) (fun x hx => eE_cong rfl rfl (fun i => by rw [gI_cI, if_neg (fun z => ne_cs iv.1.2.2.2.2 hltb hx z.1)]) (fun _ => rfl) (fun _ => rfl)) (fun x i y hy => iv.1.2.2.2.2.2.2.2.2 x i y hy) (by rw [hup]; exact hP1) (by rw [hup]; exact hD1) hS1 hrest)
    · rw [if_neg q] at hq
      obtain ⟨⟨q, hel⟩, hq⟩ := its hq
      cases hq
      have hlta := lt_of_lv iv.1.2.2.2.2 hla (by omega) (by omega)
      have hltb := lt_of_lv iv.1.2.2.2.2 hlb (by omega) (by omega)
      have ha := wsW_at (dA := dA) (ρ := ρ) hlta
      rw [eE_arr (by omega), q.1] at ha
      have ha : (wsW dA ρ m)[a]? = some (ρ a, .inl (dA 4, gN m a, .inr (.inr (.inr (.inr (fun k => (gR m a k).map ρ)))))) := ha
      have hb := wsW_at (dA := dA) (ρ := ρ) hltb
      rw [eE_arr (by omega), q.2] at hb
      have hb : (wsW dA ρ m)[b]? = some (ρ b, .inl (dA 4, gN m b, .inr (.inr (.inr (.inr (fun k => (gR m b k).map ρ)))))) := hb
      have hup := up_cR (dA := dA) (ρ := ρ) (m := m) (a := a) (b := b) (sp := sp.toNatClampNeg) (dp := dp.toNatClampNeg) (n := n.toNatClampNeg) q.2
      refine va_copyq (C := RX4) F.1.1 F.1.2.1 hml F.1.2.2.2.1 (hts _ hlink) (hts _ q462) (hts _ q461) (hts _ q103) hK iv.1.1 iv.1.2.1 iv.1.2.2.1 a b 4 4 ha hb rfl rfl (i0_le h1) (i0_le h2) (i0_le h3) h4 h5 (fun i hi y hy => ?_) (asg_same hK (ci := 3) rfl) hRf hloc hd (fun H1 locs1 hP1 hD1 hS1 => ?_)
      · have h9 := List.all_eq_true.mp hel i (List.mem_range.mpr hi)
        unfold elS at h9
        cases hg : gR m a (sp.toNatClampNeg + i) with
        | none => rw [hg] at hy; cases hy
        | some x =>
          rw [hg] at hy h9
          have hy : some (ρ x) = some y := hy
          cases hy
          have hx4 : gK m x = 4 := by simpa using h9
          have hlx : lvI m x := iv.1.2.2.2.2.2.2.2.2 _ _ _ hg
          have := rcv_of F iv hlx (by omega)
          rw [hx4] at this
          exact this
      · exact k rfl ρ H1 locs1 ls (iv_upd iv rfl rfl (fun _ => rfl) (fun x hx => eE_cong rfl rfl (fun _ => rfl) (fun _ => rfl) (fun i => by rw [gR_cR, if_neg (fun z => ne_cs iv.1.2.2.2.2 hltb hx z.1)])) (fun x i y hy => by
          rw [gR_cR] at hy
          split at hy
          · exact iv.1.2.2.2.2.2.2.2.2 _ _ _ hy
          · exact iv.1.2.2.2.2.2.2.2.2 _ _ _ hy) (by rw [hup]; exact hP1) (by rw [hup]; exact hD1) hS1 hrest)
theorem sim_objInit {pc idx : Nat} {As rest : List Value} {b : Nat} (F : Fx p s mth args meth c D dA A WK ρ0 m0 nL o cc rt hh) (hRf : 1 ≤ R.frames) (hRl : 64 ≤ R.locals) (hlink : Cond.methodLink (onm (o % 100)) idx objectInit ∈ lw_all) (hcx : cx pM st 301 = some (.ref b :: As, rest)) (hd : decode cc pc = .ok (.invokespecial idx, 3)) (k : Gl p l e R s mth args below meth c Q D dA A WK ρ0 m0 nL (pc + 3) L rest m) : Gl p l e R s mth args below meth c Q D dA A WK ρ0 m0 nL pc L st m := by
  intro ρ H locs ls iv
  obtain ⟨hst, hlen, hsum⟩ := cx_e hcx
  have hA0 : As = [] := by
    have h1 : (Value.ref b :: As).length = 1 := hlen
    cases As with
    | nil => rfl
    | cons x y => simp at h1
  subst hA0
  subst hst
  have hts := F.1.2.2.2.2
  refine W.objInit F.1.1 F.1.2.1 F.1.2.2.2.1 (hts _ hlink) (hts _ q136) (hts _ q137) rfl (by show ls.size = _; rw [F.1.2.2.1]; exact iv.2.1.1) (a := ρ b) (rest := rest.map (cv ρ)) rfl hd hRf ?_ ?_
  · show 2 * 0 + _ + 12 ≤ _
    rw [cat_map]
    omega
  · exact k ρ H locs ls (iv_st iv (fun v hv => iv.2.2.1 v (List.mem_append_right _ hv)))
end CPY
