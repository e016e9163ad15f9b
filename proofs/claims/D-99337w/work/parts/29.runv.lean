/-! SOUNDNESS: calls through objects -/
theorem iv_01 {K a : Nat} (h : ivk 0 K a = true) : ¬ ivk 1 K a = true := by
  intro h1
  simp only [ivk, Bool.and_eq_true, decide_eq_true_eq] at h h1
  omega
theorem iv_02 {K a : Nat} (h : ivk 0 K a = true) : ¬ ivk 2 K a = true := by
  intro h1
  simp only [ivk, Bool.and_eq_true, Bool.not_eq_true', Bool.and_eq_false_imp, decide_eq_true_eq, decide_eq_false_iff_not] at h h1
  exact h.2 h1.2.1 h1.2.2
theorem iv_21 {K a : Nat} (h : ivk 2 K a = true) : ¬ ivk 1 K a = true := by
  intro h1
  simp only [ivk, Bool.and_eq_true, decide_eq_true_eq] at h h1
  omega
section RNV
variable {p : Program} {l : Launch} {e : Env} {R : Room} {s : State} {mth : MethodId} {args : Array Value} {below : List Frame} {meth : Method} {c : Code} {Q : State → Prop}
variable {D : va_G} {dA : Nat → ClassId} {A : Nat → Prop} {WK : va_W} {ρ0 : Nat → Nat} {m0 : PM} {nL o : Nat} {cc : ByteArray} {rt : Option FieldType} {hh : Nat → Option Nat}
variable {ρ : Nat → Nat} {m : PM} {L : PLs} {st : List Value} {H : Heap} {locs : List Loc} {ls : Array Slot}
/-- the receiver's class -/
theorem rcv_of (F : Fx p s mth args meth c D dA A WK ρ0 m0 nL o cc rt hh) (iv : Iv D dA A WK s ρ0 m0 nL ρ m L st H locs ls) {b : Nat} (hlv : lvI m b) (hk : (1 ≤ gK m b ∧ gK m b ≤ 22) ∨ gK m b = 50) : ∃ cell : Cell, H[ρ b]? = some cell ∧ cell.vm.isStatics = false ∧ s.vm.findClass (cnK (gK m b)) = some cell.cls := by
  obtain ⟨ws', q0, hP', he⟩ := rdW iv.1.1 iv.1.2.2.1 iv.1.2.2.2.1 F.2.2.1.1 F.2.2.1.2.1 hlv
  rw [eE_obj (by omega)] at he
  have hl : kcl (gK m b) < clL.length := by
    show _ < 22
    unfold kcl
    by_cases e : gK m b = 50
    · rw [if_pos e]; omega
    · rw [if_neg e]; omega
  have hc : clL[kcl (gK m b)]? = some (clL.getD (kcl (gK m b)) (RX1, TX1, 0)) := by
    rw [List.getD_eq_getElem?_getD, List.getElem?_eq_getElem hl]
    rfl
  exact va_recv F.2.1.1.1 hP' hc he
theorem sel_none {x : MethodName} {C : String} (h : (Cond.selects C x x).before #[] s = true) : (Cond.selects C x x).before args s = true := va_tabs rfl rfl h
theorem run_V {pc idx mid d b : Nat} {As rest : List Value} {r : PRes} (F : Fx p s mth args meth c D dA A WK ρ0 m0 nL o cc rt hh) (iv : Iv D dA A WK s ρ0 m0 nL ρ m L st H locs ls) (hRf : d + 1 ≤ R.frames) (hRl : 64 * d + 64 ≤ R.locals) (hf : gX m - gX m0 + (xX r m) ≤ R.cells ∧ gS m - gS m0 + (xS r m) ≤ R.slots) (hC : Cn l D dA d mid (.ref b :: As) m r) (hok : OKv (o % 100) idx (gK m b) mid) (hlv : lvI m b) (hk : (1 ≤ gK m b ∧ gK m b ≤ 22) ∨ gK m b = 50) (hcx : cx pM st mid = some (.ref b :: As, rest)) (hd : decode cc pc = .ok (.invokevirtual idx, 3)) (hg : ivk 0 (gK m b) (pM.1 mid) = true) :
    RunL 3 p l e R s mth args below meth c H locs (gX m - gX m0) (gS m - gS m0) (xX r m) (xS r m) (F0 mth pc ls (st.map (cv ρ))) (rest.map (cv ρ)) (QcP D dA (va_A (wsW dA ρ m) H.size) ρ m r (Value.ref (ρ b) :: As.map (cv ρ)).toArray) (XcP D dA (va_A (wsW dA ρ m) H.size) ρ m r) (va_A (wsW dA ρ m) H.size) := by
  obtain ⟨hst, hlen, hsum⟩ := cx_e hcx
  obtain ⟨n, ⟨hcode, hini, hdd, hmL⟩, hn, hinst, halt⟩ := hok
  have hstack : (F0 mth pc ls (st.map (cv ρ))).stack = (As.map (cv ρ)).reverse ++ .ref (ρ b) :: rest.map (cv ρ) := by
    show st.map (cv ρ) = _
    rw [hst, List.map_append, List.map_reverse, List.map_cons, List.reverse_cons, List.append_assoc]
    rfl
  have hroom : 2 * (F0 mth pc ls (st.map (cv ρ))).monitorRoom + ((rest.map (cv ρ)).map fun v => v.category).sum ≤ 8 := lv_room (by rw [cat_map]; exact hsum)
  have hp : PreV s H (cnK (gK m b)) (ρ b) (va_Pc (Value.ref (ρ b) :: As.map (cv ρ)) (Pr D dA ρ m H.size)) (As.map (cv ρ)) := ⟨blind _ _ _ _ _ _, rcv_of F iv hlv hk, fun U hU hW => ⟨rfl, pre_of F iv U hU hW⟩⟩
  have hlA : (As.map (cv ρ)).length = n := by
    rw [List.length_map]
    have : (Value.ref b :: As).length = n + 1 := by rw [hlen, hn]
    simpa using this
  have hR : (rmD d (xX r m) (xS r m)).frames + 1 ≤ R.frames ∧ 8 + (pM.2.2.1 mid + 11) + (rmD d (xX r m) (xS r m)).locals ≤ R.locals := ⟨hRf, by show 8 + (_ + 11) + 64 * d ≤ _; omega⟩
  have hts := F.1.2.2.2.2
  rcases halt with ⟨-, hcl, hlk, hsel⟩ | ⟨-, hcl, ⟨host, hlk⟩, hsel⟩ | ⟨h, -, -⟩ | ⟨-, x, owner, hlk, hsm, hsel, hds, how, hdec⟩ | ⟨-, hC1, hC2, hlk, hsm⟩ | ⟨h, -⟩
  · exact vx_runV F.1 (hC ρ H.size) (cwV n hts (lw_V hlk hinst hsel (by rw [← hcl]; exact hini) hcode) rfl rfl rfl ⟨hcl, hdd⟩ hR) hp rfl hlA iv.2.1.1 hstack hroom hd hf
  · exact vx_runVN F.1 (hC ρ H.size) ⟨va_cnB n hts (lw_meth hcode) rfl rfl rfl (F.2.1.1.2.1 _ hlk rfl) (hts _ hini) hdd hR, hts _ hinst, hts _ hsel⟩ hp rfl hlA iv.2.1.1 hstack hroom hd hf
  · exact absurd h (iv_01 hg)
  · have hD0 : va_Decl s ⟨owner, x.name, x.desc⟩ := by
      rcases hdec with h | h
      · rw [← h]; exact va_Decl.of (hts _ hinst) (hts _ hcode)
      · exact va_Decl.abs (F.2.1.1.2.1 _ h rfl)
    have hG := lw_meth hcode
    have cw : va_CU R s args (onm (o % 100)) (cnK (gK m b)) owner idx x (yN mid) (pM.2.1 mid) (pM.2.2.1 mid) (pM.2.2.2.1 mid) (ws_ (yN mid) (pM.2.1 mid) (pM.2.2.1 mid) (pM.2.2.2.1 mid)) (rmD d (xX r m) (xS r m)) (xX r m) (xS r m) n := by
      refine ⟨⟨rfl, rfl, hR.1, hR.2, pay_in hts hG, List.mem_cons_self⟩, hts _ hcode, hts _ hini, how, fun sig h => ?_, hts _ hlk, hts _ hsm, hD0, hts _ hsel, hts _ hinst⟩
      have h2 := hdd.2.2
      rw [← hds, h] at h2
      exact (Option.some.inj h2).symm
    exact vx_runU F.1 (hC ρ H.size) cw hp rfl hlA iv.2.1.1 hstack hroom hd hf
  · have hG := lw_meth hcode
    have cw : va_CU R s args (onm (o % 100)) (cnK (gK m b)) (yN mid).cls idx (yN mid) (yN mid) (pM.2.1 mid) (pM.2.2.1 mid) (pM.2.2.2.1 mid) (ws_ (yN mid) (pM.2.1 mid) (pM.2.2.1 mid) (pM.2.2.2.1 mid)) (rmD d (xX r m) (xS r m)) (xX r m) (xS r m) n := by
      refine ⟨⟨rfl, rfl, hR.1, hR.2, pay_in hts hG, List.mem_cons_self⟩, hts _ hcode, hts _ hini, ⟨hdd.1, hdd.2.1⟩, fun sig h => ?_, hts _ hlk, hts _ hsm, va_Decl.of (hts _ hinst) (hts _ hcode), sel_none (F.2.1.1.2.2.2.2 _ hC1 _ hC2), hts _ hinst⟩
      have h2 := hdd.2.2
      rw [h] at h2
      exact (Option.some.inj h2).symm
    exact vx_runU F.1 (hC ρ H.size) cw hp rfl hlA iv.2.1.1 hstack hroom hd hf
  · exact absurd h (iv_02 hg)
theorem run_I {pc idx mid d b : Nat} {As rest : List Value} {r : PRes} (F : Fx p s mth args meth c D dA A WK ρ0 m0 nL o cc rt hh) (iv : Iv D dA A WK s ρ0 m0 nL ρ m L st H locs ls) (hRf : d + 1 ≤ R.frames) (hRl : 64 * d + 64 ≤ R.locals) (hf : gX m - gX m0 + (xX r m) ≤ R.cells ∧ gS m - gS m0 + (xS r m) ≤ R.slots) (hC : Cn l D dA d mid (.ref b :: As) m r) (hok : OKv (o % 100) idx (gK m b) mid) (hcx : cx pM st mid = some (.ref b :: As, rest)) (hd : decode cc pc = .ok (.invokespecial idx, 3)) (hg : ivk 1 (gK m b) (pM.1 mid) = true) :
    RunL 3 p l e R s mth args below meth c H locs (gX m - gX m0) (gS m - gS m0) (xX r m) (xS r m) (F0 mth pc ls (st.map (cv ρ))) (rest.map (cv ρ)) (QcP D dA (va_A (wsW dA ρ m) H.size) ρ m r (Value.ref (ρ b) :: As.map (cv ρ)).toArray) (XcP D dA (va_A (wsW dA ρ m) H.size) ρ m r) (va_A (wsW dA ρ m) H.size) := by
  obtain ⟨hst, hlen, hsum⟩ := cx_e hcx
  obtain ⟨n, ⟨hcode, hini, hdd, hmL⟩, hn, hinst, halt⟩ := hok
  have hi : ((yN mid).name = "<init>" ∧ pM.2.2.2.1 mid = none) ∧ (Cond.methodLink (onm (o % 100)) idx (yN mid) ∈ lw_all ∨ ∃ host, Cond.methodLinkNest (onm (o % 100)) idx (yN mid) host ∈ lw_tbl) := by
    rcases halt with ⟨h, -⟩ | ⟨h, -⟩ | ⟨-, h1, h2, h3⟩ | ⟨h, -⟩ | ⟨h, -⟩ | ⟨h, -⟩
    · exact absurd hg (iv_01 h)
    · exact absurd hg (iv_01 h)
    · exact ⟨⟨h1, h2⟩, h3⟩
    · exact absurd hg (iv_01 h)
    · exact absurd hg (iv_01 h)
    · exact absurd hg (iv_21 h)
  obtain ⟨hi, hlk⟩ := hi
  have hstack : (F0 mth pc ls (st.map (cv ρ))).stack = (As.map (cv ρ)).reverse ++ .ref (ρ b) :: rest.map (cv ρ) := by
    show st.map (cv ρ) = _
    rw [hst, List.map_append, List.map_reverse, List.map_cons, List.reverse_cons, List.append_assoc]
    rfl
  have hroom : 2 * (F0 mth pc ls (st.map (cv ρ))).monitorRoom + ((rest.map (cv ρ)).map fun v => v.category).sum ≤ 8 := lv_room (by rw [cat_map]; exact hsum)
  have hp : PreS s H (va_Pc (Value.ref (ρ b) :: As.map (cv ρ)) (Pr D dA ρ m H.size)) (Value.ref (ρ b) :: As.map (cv ρ)) := ⟨blind _ _ _ _ _ _, fun U hU hW => ⟨rfl, pre_of F iv U hU hW⟩⟩
  have hlA : (As.map (cv ρ)).length = n := by
    rw [List.length_map]
    have : (Value.ref b :: As).length = n + 1 := by rw [hlen, hn]
    simpa using this
  have hR : (rmD d (xX r m) (xS r m)).frames + 1 ≤ R.frames ∧ 8 + (pM.2.2.1 mid + 11) + (rmD d (xX r m) (xS r m)).locals ≤ R.locals := ⟨hRf, by show 8 + (_ + 11) + 64 * d ≤ _; omega⟩
  have hts := F.1.2.2.2.2
  have hC' := hC ρ H.size
  rw [hi.2] at hC' hcode
  rcases hlk with h | ⟨host, h⟩
  · exact vx_runI F.1 hC' (cwI n hts (lw_meth hcode) rfl rfl rfl (hts _ hini) (hts _ h) (hts _ hinst) hi.1 hdd hR) hp rfl hlA iv.2.1.1 hstack hroom hd hf
  · exact vx_runIN F.1 hC' ⟨va_cnB n hts (lw_meth hcode) rfl rfl rfl (F.2.1.1.2.1 _ h rfl) (hts _ hini) hdd hR, hi.1, hts _ hinst⟩ hp rfl hlA iv.2.1.1 hstack hroom hd hf
theorem run_F {pc idx cn mid d b : Nat} {As rest : List Value} {r : PRes} (F : Fx p s mth args meth c D dA A WK ρ0 m0 nL o cc rt hh) (iv : Iv D dA A WK s ρ0 m0 nL ρ m L st H locs ls) (hRf : d + 1 ≤ R.frames) (hRl : 64 * d + 64 ≤ R.locals) (hf : gX m - gX m0 + (xX r m) ≤ R.cells ∧ gS m - gS m0 + (xS r m) ≤ R.slots) (hC : Cn l D dA d mid (.ref b :: As) m r) (hok : OKv (o % 100) idx (gK m b) mid) (hlv : lvI m b) (hk : 1 ≤ gK m b ∧ gK m b ≤ 22) (hcx : cx pM st mid = some (.ref b :: As, rest)) (hd : decode cc pc = .ok (.invokeinterface idx cn, 5)) (hg : ivk 2 (gK m b) (pM.1 mid) = true) :
    RunL 5 p l e R s mth args below meth c H locs (gX m - gX m0) (gS m - gS m0) (xX r m) (xS r m) (F0 mth pc ls (st.map (cv ρ))) (rest.map (cv ρ)) (QcP D dA (va_A (wsW dA ρ m) H.size) ρ m r (Value.ref (ρ b) :: As.map (cv ρ)).toArray) (XcP D dA (va_A (wsW dA ρ m) H.size) ρ m r) (va_A (wsW dA ρ m) H.size) := by
  obtain ⟨hst, hlen, hsum⟩ := cx_e hcx
  obtain ⟨n, ⟨hcode, hini, hdd, hmL⟩, hn, hinst, halt⟩ := hok
  have hi : cnK (gK m b) ∈ cndL ∧ yN mid = ⟨cnK (gK m b), "is", "(LSecondHelpings;I)Z"⟩ ∧ Cond.methodLink (onm (o % 100)) idx cndX ∈ lw_all ∧ Cond.selects (cnK (gK m b)) cndX (yN mid) ∈ lw_all := by
    rcases halt with ⟨h, -⟩ | ⟨h, -⟩ | ⟨h, -⟩ | ⟨h, -⟩ | ⟨h, -⟩ | ⟨-, h⟩
    · exact absurd hg (iv_02 h)
    · exact absurd hg (iv_02 h)
    · exact absurd h (iv_21 hg)
    · exact absurd hg (iv_02 h)
    · exact absurd hg (iv_02 h)
    · exact h
  obtain ⟨hCc, hy, hlk, hsel⟩ := hi
  have hstack : (F0 mth pc ls (st.map (cv ρ))).stack = (As.map (cv ρ)).reverse ++ .ref (ρ b) :: rest.map (cv ρ) := by
    show st.map (cv ρ) = _
    rw [hst, List.map_append, List.map_reverse, List.map_cons, List.reverse_cons, List.append_assoc]
    rfl
  have hroom : 2 * (F0 mth pc ls (st.map (cv ρ))).monitorRoom + ((rest.map (cv ρ)).map fun v => v.category).sum ≤ 8 := lv_room (by rw [cat_map]; exact hsum)
  have hp : PreV s H (cnK (gK m b)) (ρ b) (va_Pc (Value.ref (ρ b) :: As.map (cv ρ)) (Pr D dA ρ m H.size)) (As.map (cv ρ)) := ⟨blind _ _ _ _ _ _, rcv_of F iv hlv (Or.inl hk), fun U hU hW => ⟨rfl, pre_of F iv U hU hW⟩⟩
  have hlA : (As.map (cv ρ)).length = n := by
    rw [List.length_map]
    have : (Value.ref b :: As).length = n + 1 := by rw [hlen, hn]
    simpa using this
  have hR : (rmD d (xX r m) (xS r m)).frames + 1 ≤ R.frames ∧ 8 + (pM.2.2.1 mid + 11) + (rmD d (xX r m) (xS r m)).locals ≤ R.locals := ⟨hRf, by show 8 + (_ + 11) + 64 * d ≤ _; omega⟩
  have hts := F.1.2.2.2.2
  have hfw := F.2.1.1.2.2.2.1 _ hCc
  rw [← hy] at hfw
  have hl : kcl (gK m b) < clL.length := by
    show _ < 22
    unfold kcl
    rw [if_neg (by omega)]
    omega
  have hc : clL[kcl (gK m b)]? = some (clL.getD (kcl (gK m b)) (RX1, TX1, 0)) := by
    rw [List.getD_eq_getElem?_getD, List.getElem?_eq_getElem hl]
    rfl
  have hat := (F.2.1.1.1.1 _ _ hc).2
  refine vx_runF (C := cnK (gK m b)) hat F.1 (hC ρ H.size) (va_cwF (x := cndX) n hts (lw_app ?_ (lw_meth hcode)) rfl rfl rfl hfw ⟨by decide, by decide, ?_⟩ hR) hp rfl hlA iv.2.1.1 hstack hroom hd hf
  · intro w hw
    simp only [List.mem_cons, List.not_mem_nil, or_false] at hw
    rcases hw with e | e | e | e
    · rw [e]; exact hlk
    · rw [e]; exact hsel
    · rw [e]; exact hinst
    · rw [e]; exact hini
  · have := hdd.2.2
    rw [hy] at this
    exact this
end RNV
