/-! SOUNDNESS of the instructions without memory -/
section SIM
variable {p : Program} {l : Launch} {e : Env} {R : Room} {s : State} {mth : MethodId} {args : Array Value} {below : List Frame} {meth : Method} {c : Code} {Q : State → Prop}
variable {D : va_G} {dA : Nat → ClassId} {A : Nat → Prop} {WK : va_W} {ρ0 : Nat → Nat} {m0 : PM} {nL o : Nat} {cc : ByteArray} {rt : Option FieldType} {len : Nat}
/-- the goal at an instruction -/
def Gl (p : Program) (l : Launch) (e : Env) (R : Room) (s : State) (mth : MethodId) (args : Array Value) (below : List Frame) (meth : Method) (c : Code) (Q : State → Prop) (D : va_G) (dA : Nat → ClassId) (A : Nat → Prop) (WK : va_W) (ρ0 : Nat → Nat) (m0 : PM) (nL pc : Nat) (L : PLs) (st : List Value) (m : PM) : Prop := ∀ (ρ : Nat → Nat) (H : Heap) (locs : List Loc) (ls : Array Slot), Iv D dA A WK s ρ0 m0 nL ρ m L st H locs ls → W p l e R s mth args below meth c H locs (gX m - gX m0) (gS m - gS m0) Q (F0 mth pc ls (st.map (cv ρ)))
theorem sim_iadd {pc pc' : Nat} {L L' : PLs} {st st' : List Value} {m m' : PM} (hx : p.tables.exec = Jvm.exec) (hb : c.code = cc) (hd : decode cc pc = .ok (.iadd, len)) (hl : iln (.iadd) = 0 ∨ iln (.iadd) = len) (hs : sx pT pM o rt pc L st m (.iadd) = some (.inl (pc', L', st', m'))) (k : Gl p l e R s mth args below meth c Q D dA A WK ρ0 m0 nL pc' L' st' m') : Gl p l e R s mth args below meth c Q D dA A WK ρ0 m0 nL pc L st m := by
  intro ρ H locs ls iv
  obtain rfl : len = 1 := ln_of hl rfl
  rcases st with _ | ⟨v1, _ | ⟨v2, st⟩⟩
  · exact nn hs
  · cases v1 <;> exact nn hs
  · cases v1
    case int y =>
      cases v2
      case int x =>
        obtain ⟨rfl, rfl, rfl, rfl⟩ := nxe hs
        exact lv_iadd hx hb hd (k ρ H locs ls (iv_st iv (lvn trivial (lvc (lvc iv.2.2.1)))))
      all_goals exact nn hs
    all_goals exact nn hs
theorem sim_isub {pc pc' : Nat} {L L' : PLs} {st st' : List Value} {m m' : PM} (hx : p.tables.exec = Jvm.exec) (hb : c.code = cc) (hd : decode cc pc = .ok (.isub, len)) (hl : iln (.isub) = 0 ∨ iln (.isub) = len) (hs : sx pT pM o rt pc L st m (.isub) = some (.inl (pc', L', st', m'))) (k : Gl p l e R s mth args below meth c Q D dA A WK ρ0 m0 nL pc' L' st' m') : Gl p l e R s mth args below meth c Q D dA A WK ρ0 m0 nL pc L st m := by
  intro ρ H locs ls iv
  obtain rfl : len = 1 := ln_of hl rfl
  rcases st with _ | ⟨v1, _ | ⟨v2, st⟩⟩
  · exact nn hs
  · cases v1 <;> exact nn hs
  · cases v1
    case int y =>
      cases v2
      case int x =>
        obtain ⟨rfl, rfl, rfl, rfl⟩ := nxe hs
        exact lv_isub hx hb hd (k ρ H locs ls (iv_st iv (lvn trivial (lvc (lvc iv.2.2.1)))))
      all_goals exact nn hs
    all_goals exact nn hs
theorem sim_imul {pc pc' : Nat} {L L' : PLs} {st st' : List Value} {m m' : PM} (hx : p.tables.exec = Jvm.exec) (hb : c.code = cc) (hd : decode cc pc = .ok (.imul, len)) (hl : iln (.imul) = 0 ∨ iln (.imul) = len) (hs : sx pT pM o rt pc L st m (.imul) = some (.inl (pc', L', st', m'))) (k : Gl p l e R s mth args below meth c Q D dA A WK ρ0 m0 nL pc' L' st' m') : Gl p l e R s mth args below meth c Q D dA A WK ρ0 m0 nL pc L st m := by
  intro ρ H locs ls iv
  obtain rfl : len = 1 := ln_of hl rfl
  rcases st with _ | ⟨v1, _ | ⟨v2, st⟩⟩
  · exact nn hs
  · cases v1 <;> exact nn hs
  · cases v1
    case int y =>
      cases v2
      case int x =>
        obtain ⟨rfl, rfl, rfl, rfl⟩ := nxe hs
        exact lv_imul hx hb hd (k ρ H locs ls (iv_st iv (lvn trivial (lvc (lvc iv.2.2.1)))))
      all_goals exact nn hs
    all_goals exact nn hs
theorem sim_iand {pc pc' : Nat} {L L' : PLs} {st st' : List Value} {m m' : PM} (hx : p.tables.exec = Jvm.exec) (hb : c.code = cc) (hd : decode cc pc = .ok (.iand, len)) (hl : iln (.iand) = 0 ∨ iln (.iand) = len) (hs : sx pT pM o rt pc L st m (.iand) = some (.inl (pc', L', st', m'))) (k : Gl p l e R s mth args below meth c Q D dA A WK ρ0 m0 nL pc' L' st' m') : Gl p l e R s mth args below meth c Q D dA A WK ρ0 m0 nL pc L st m := by
  intro ρ H locs ls iv
  obtain rfl : len = 1 := ln_of hl rfl
  rcases st with _ | ⟨v1, _ | ⟨v2, st⟩⟩
  · exact nn hs
  · cases v1 <;> exact nn hs
  · cases v1
    case int y =>
      cases v2
      case int x =>
        obtain ⟨rfl, rfl, rfl, rfl⟩ := nxe hs
        exact lv_iand hx hb hd (k ρ H locs ls (iv_st iv (lvn trivial (lvc (lvc iv.2.2.1)))))
      all_goals exact nn hs
    all_goals exact nn hs
theorem sim_ior {pc pc' : Nat} {L L' : PLs} {st st' : List Value} {m m' : PM} (hx : p.tables.exec = Jvm.exec) (hb : c.code = cc) (hd : decode cc pc = .ok (.ior, len)) (hl : iln (.ior) = 0 ∨ iln (.ior) = len) (hs : sx pT pM o rt pc L st m (.ior) = some (.inl (pc', L', st', m'))) (k : Gl p l e R s mth args below meth c Q D dA A WK ρ0 m0 nL pc' L' st' m') : Gl p l e R s mth args below meth c Q D dA A WK ρ0 m0 nL pc L st m := by
  intro ρ H locs ls iv
  obtain rfl : len = 1 := ln_of hl rfl
  rcases st with _ | ⟨v1, _ | ⟨v2, st⟩⟩
  · exact nn hs
  · cases v1 <;> exact nn hs
  · cases v1
    case int y =>
      cases v2
      case int x =>
        obtain ⟨rfl, rfl, rfl, rfl⟩ := nxe hs
        exact lv_ior hx hb hd (k ρ H locs ls (iv_st iv (lvn trivial (lvc (lvc iv.2.2.1)))))
      all_goals exact nn hs
    all_goals exact nn hs
theorem sim_ixor {pc pc' : Nat} {L L' : PLs} {st st' : List Value} {m m' : PM} (hx : p.tables.exec = Jvm.exec) (hb : c.code = cc) (hd : decode cc pc = .ok (.ixor, len)) (hl : iln (.ixor) = 0 ∨ iln (.ixor) = len) (hs : sx pT pM o rt pc L st m (.ixor) = some (.inl (pc', L', st', m'))) (k : Gl p l e R s mth args below meth c Q D dA A WK ρ0 m0 nL pc' L' st' m') : Gl p l e R s mth args below meth c Q D dA A WK ρ0 m0 nL pc L st m := by
  intro ρ H locs ls iv
  obtain rfl : len = 1 := ln_of hl rfl
  rcases st with _ | ⟨v1, _ | ⟨v2, st⟩⟩
  · exact nn hs
  · cases v1 <;> exact nn hs
  · cases v1
    case int y =>
      cases v2
      case int x =>
        obtain ⟨rfl, rfl, rfl, rfl⟩ := nxe hs
        exact lv_ixor hx hb hd (k ρ H locs ls (iv_st iv (lvn trivial (lvc (lvc iv.2.2.1)))))
      all_goals exact nn hs
    all_goals exact nn hs
theorem sim_ishl {pc pc' : Nat} {L L' : PLs} {st st' : List Value} {m m' : PM} (hx : p.tables.exec = Jvm.exec) (hb : c.code = cc) (hd : decode cc pc = .ok (.ishl, len)) (hl : iln (.ishl) = 0 ∨ iln (.ishl) = len) (hs : sx pT pM o rt pc L st m (.ishl) = some (.inl (pc', L', st', m'))) (k : Gl p l e R s mth args below meth c Q D dA A WK ρ0 m0 nL pc' L' st' m') : Gl p l e R s mth args below meth c Q D dA A WK ρ0 m0 nL pc L st m := by
  intro ρ H locs ls iv
  obtain rfl : len = 1 := ln_of hl rfl
  rcases st with _ | ⟨v1, _ | ⟨v2, st⟩⟩
  · exact nn hs
  · cases v1 <;> exact nn hs
  · cases v1
    case int y =>
      cases v2
      case int x =>
        obtain ⟨rfl, rfl, rfl, rfl⟩ := nxe hs
        exact lv_ishl hx hb hd (k ρ H locs ls (iv_st iv (lvn trivial (lvc (lvc iv.2.2.1)))))
      all_goals exact nn hs
    all_goals exact nn hs
theorem sim_ishr {pc pc' : Nat} {L L' : PLs} {st st' : List Value} {m m' : PM} (hx : p.tables.exec = Jvm.exec) (hb : c.code = cc) (hd : decode cc pc = .ok (.ishr, len)) (hl : iln (.ishr) = 0 ∨ iln (.ishr) = len) (hs : sx pT pM o rt pc L st m (.ishr) = some (.inl (pc', L', st', m'))) (k : Gl p l e R s mth args below meth c Q D dA A WK ρ0 m0 nL pc' L' st' m') : Gl p l e R s mth args below meth c Q D dA A WK ρ0 m0 nL pc L st m := by
  intro ρ H locs ls iv
  obtain rfl : len = 1 := ln_of hl rfl
  rcases st with _ | ⟨v1, _ | ⟨v2, st⟩⟩
  · exact nn hs
  · cases v1 <;> exact nn hs
  · cases v1
    case int y =>
      cases v2
      case int x =>
        obtain ⟨rfl, rfl, rfl, rfl⟩ := nxe hs
        exact lv_ishr hx hb hd (k ρ H locs ls (iv_st iv (lvn trivial (lvc (lvc iv.2.2.1)))))
      all_goals exact nn hs
    all_goals exact nn hs
theorem sim_iushr {pc pc' : Nat} {L L' : PLs} {st st' : List Value} {m m' : PM} (hx : p.tables.exec = Jvm.exec) (hb : c.code = cc) (hd : decode cc pc = .ok (.iushr, len)) (hl : iln (.iushr) = 0 ∨ iln (.iushr) = len) (hs : sx pT pM o rt pc L st m (.iushr) = some (.inl (pc', L', st', m'))) (k : Gl p l e R s mth args below meth c Q D dA A WK ρ0 m0 nL pc' L' st' m') : Gl p l e R s mth args below meth c Q D dA A WK ρ0 m0 nL pc L st m := by
  intro ρ H locs ls iv
  obtain rfl : len = 1 := ln_of hl rfl
  rcases st with _ | ⟨v1, _ | ⟨v2, st⟩⟩
  · exact nn hs
  · cases v1 <;> exact nn hs
  · cases v1
    case int y =>
      cases v2
      case int x =>
        obtain ⟨rfl, rfl, rfl, rfl⟩ := nxe hs
        exact lv_iushr hx hb hd rfl (k ρ H locs ls (iv_st iv (lvn trivial (lvc (lvc iv.2.2.1)))))
      all_goals exact nn hs
    all_goals exact nn hs
theorem sim_idiv {pc pc' : Nat} {L L' : PLs} {st st' : List Value} {m m' : PM} (hx : p.tables.exec = Jvm.exec) (hb : c.code = cc) (hd : decode cc pc = .ok (.idiv, len)) (hl : iln (.idiv) = 0 ∨ iln (.idiv) = len) (hs : sx pT pM o rt pc L st m (.idiv) = some (.inl (pc', L', st', m'))) (k : Gl p l e R s mth args below meth c Q D dA A WK ρ0 m0 nL pc' L' st' m') : Gl p l e R s mth args below meth c Q D dA A WK ρ0 m0 nL pc L st m := by
  intro ρ H locs ls iv
  obtain rfl : len = 1 := ln_of hl rfl
  rcases st with _ | ⟨v1, _ | ⟨v2, st⟩⟩
  · exact nn hs
  · cases v1 <;> exact nn hs
  · cases v1
    case int y =>
      cases v2
      case int x =>
        obtain ⟨q, hs⟩ := itn hs
        obtain ⟨rfl, rfl, rfl, rfl⟩ := nxe hs
        exact lv_idiv hx hb hd q (k ρ H locs ls (iv_st iv (lvn trivial (lvc (lvc iv.2.2.1)))))
      all_goals exact nn hs
    all_goals exact nn hs
theorem sim_irem {pc pc' : Nat} {L L' : PLs} {st st' : List Value} {m m' : PM} (hx : p.tables.exec = Jvm.exec) (hb : c.code = cc) (hd : decode cc pc = .ok (.irem, len)) (hl : iln (.irem) = 0 ∨ iln (.irem) = len) (hs : sx pT pM o rt pc L st m (.irem) = some (.inl (pc', L', st', m'))) (k : Gl p l e R s mth args below meth c Q D dA A WK ρ0 m0 nL pc' L' st' m') : Gl p l e R s mth args below meth c Q D dA A WK ρ0 m0 nL pc L st m := by
  intro ρ H locs ls iv
  obtain rfl : len = 1 := ln_of hl rfl
  rcases st with _ | ⟨v1, _ | ⟨v2, st⟩⟩
  · exact nn hs
  · cases v1 <;> exact nn hs
  · cases v1
    case int y =>
      cases v2
      case int x =>
        obtain ⟨q, hs⟩ := itn hs
        obtain ⟨rfl, rfl, rfl, rfl⟩ := nxe hs
        exact lv_irem hx hb hd q (k ρ H locs ls (iv_st iv (lvn trivial (lvc (lvc iv.2.2.1)))))
      all_goals exact nn hs
    all_goals exact nn hs
theorem sim_ladd {pc pc' : Nat} {L L' : PLs} {st st' : List Value} {m m' : PM} (hx : p.tables.exec = Jvm.exec) (hb : c.code = cc) (hd : decode cc pc = .ok (.ladd, len)) (hl : iln (.ladd) = 0 ∨ iln (.ladd) = len) (hs : sx pT pM o rt pc L st m (.ladd) = some (.inl (pc', L', st', m'))) (k : Gl p l e R s mth args below meth c Q D dA A WK ρ0 m0 nL pc' L' st' m') : Gl p l e R s mth args below meth c Q D dA A WK ρ0 m0 nL pc L st m := by
  intro ρ H locs ls iv
  obtain rfl : len = 1 := ln_of hl rfl
  rcases st with _ | ⟨v1, _ | ⟨v2, st⟩⟩
  · exact nn hs
  · cases v1 <;> exact nn hs
  · cases v1
    case long y =>
      cases v2
      case long x =>
        obtain ⟨rfl, rfl, rfl, rfl⟩ := nxe hs
        exact lv_ladd hx hb hd (k ρ H locs ls (iv_st iv (lvn trivial (lvc (lvc iv.2.2.1)))))
      all_goals exact nn hs
    all_goals exact nn hs
theorem sim_lsub {pc pc' : Nat} {L L' : PLs} {st st' : List Value} {m m' : PM} (hx : p.tables.exec = Jvm.exec) (hb : c.code = cc) (hd : decode cc pc = .ok (.lsub, len)) (hl : iln (.lsub) = 0 ∨ iln (.lsub) = len) (hs : sx pT pM o rt pc L st m (.lsub) = some (.inl (pc', L', st', m'))) (k : Gl p l e R s mth args below meth c Q D dA A WK ρ0 m0 nL pc' L' st' m') : Gl p l e R s mth args below meth c Q D dA A WK ρ0 m0 nL pc L st m := by
  intro ρ H locs ls iv
  obtain rfl : len = 1 := ln_of hl rfl
  rcases st with _ | ⟨v1, _ | ⟨v2, st⟩⟩
  · exact nn hs
  · cases v1 <;> exact nn hs
  · cases v1
    case long y =>
      cases v2
      case long x =>
        obtain ⟨rfl, rfl, rfl, rfl⟩ := nxe hs
        exact lv_lsub hx hb hd (k ρ H locs ls (iv_st iv (lvn trivial (lvc (lvc iv.2.2.1)))))
      all_goals exact nn hs
    all_goals exact nn hs
theorem sim_lmul {pc pc' : Nat} {L L' : PLs} {st st' : List Value} {m m' : PM} (hx : p.tables.exec = Jvm.exec) (hb : c.code = cc) (hd : decode cc pc = .ok (.lmul, len)) (hl : iln (.lmul) = 0 ∨ iln (.lmul) = len) (hs : sx pT pM o rt pc L st m (.lmul) = some (.inl (pc', L', st', m'))) (k : Gl p l e R s mth args below meth c Q D dA A WK ρ0 m0 nL pc' L' st' m') : Gl p l e R s mth args below meth c Q D dA A WK ρ0 m0 nL pc L st m := by
  intro ρ H locs ls iv
  obtain rfl : len = 1 := ln_of hl rfl
  rcases st with _ | ⟨v1, _ | ⟨v2, st⟩⟩
  · exact nn hs
  · cases v1 <;> exact nn hs
  · cases v1
    case long y =>
      cases v2
      case long x =>
        obtain ⟨rfl, rfl, rfl, rfl⟩ := nxe hs
        exact lv_lmul hx hb hd (k ρ H locs ls (iv_st iv (lvn trivial (lvc (lvc iv.2.2.1)))))
      all_goals exact nn hs
    all_goals exact nn hs
theorem sim_land {pc pc' : Nat} {L L' : PLs} {st st' : List Value} {m m' : PM} (hx : p.tables.exec = Jvm.exec) (hb : c.code = cc) (hd : decode cc pc = .ok (.land, len)) (hl : iln (.land) = 0 ∨ iln (.land) = len) (hs : sx pT pM o rt pc L st m (.land) = some (.inl (pc', L', st', m'))) (k : Gl p l e R s mth args below meth c Q D dA A WK ρ0 m0 nL pc' L' st' m') : Gl p l e R s mth args below meth c Q D dA A WK ρ0 m0 nL pc L st m := by
  intro ρ H locs ls iv
  obtain rfl : len = 1 := ln_of hl rfl
  rcases st with _ | ⟨v1, _ | ⟨v2, st⟩⟩
  · exact nn hs
  · cases v1 <;> exact nn hs
  · cases v1
    case long y =>
      cases v2
      case long x =>
        obtain ⟨rfl, rfl, rfl, rfl⟩ := nxe hs
        exact lv_land hx hb hd (k ρ H locs ls (iv_st iv (lvn trivial (lvc (lvc iv.2.2.1)))))
      all_goals exact nn hs
    all_goals exact nn hs
theorem sim_lor {pc pc' : Nat} {L L' : PLs} {st st' : List Value} {m m' : PM} (hx : p.tables.exec = Jvm.exec) (hb : c.code = cc) (hd : decode cc pc = .ok (.lor, len)) (hl : iln (.lor) = 0 ∨ iln (.lor) = len) (hs : sx pT pM o rt pc L st m (.lor) = some (.inl (pc', L', st', m'))) (k : Gl p l e R s mth args below meth c Q D dA A WK ρ0 m0 nL pc' L' st' m') : Gl p l e R s mth args below meth c Q D dA A WK ρ0 m0 nL pc L st m := by
  intro ρ H locs ls iv
  obtain rfl : len = 1 := ln_of hl rfl
  rcases st with _ | ⟨v1, _ | ⟨v2, st⟩⟩
  · exact nn hs
  · cases v1 <;> exact nn hs
  · cases v1
    case long y =>
      cases v2
      case long x =>
        obtain ⟨rfl, rfl, rfl, rfl⟩ := nxe hs
        exact lv_lor hx hb hd (k ρ H locs ls (iv_st iv (lvn trivial (lvc (lvc iv.2.2.1)))))
      all_goals exact nn hs
    all_goals exact nn hs
theorem sim_ldiv {pc pc' : Nat} {L L' : PLs} {st st' : List Value} {m m' : PM} (hx : p.tables.exec = Jvm.exec) (hb : c.code = cc) (hd : decode cc pc = .ok (.ldiv, len)) (hl : iln (.ldiv) = 0 ∨ iln (.ldiv) = len) (hs : sx pT pM o rt pc L st m (.ldiv) = some (.inl (pc', L', st', m'))) (k : Gl p l e R s mth args below meth c Q D dA A WK ρ0 m0 nL pc' L' st' m') : Gl p l e R s mth args below meth c Q D dA A WK ρ0 m0 nL pc L st m := by
  intro ρ H locs ls iv
  obtain rfl : len = 1 := ln_of hl rfl
  rcases st with _ | ⟨v1, _ | ⟨v2, st⟩⟩
  · exact nn hs
  · cases v1 <;> exact nn hs
  · cases v1
    case long y =>
      cases v2
      case long x =>
        obtain ⟨q, hs⟩ := itn hs
        obtain ⟨rfl, rfl, rfl, rfl⟩ := nxe hs
        exact lv_ldiv hx hb hd q (k ρ H locs ls (iv_st iv (lvn trivial (lvc (lvc iv.2.2.1)))))
      all_goals exact nn hs
    all_goals exact nn hs
theorem sim_lrem {pc pc' : Nat} {L L' : PLs} {st st' : List Value} {m m' : PM} (hx : p.tables.exec = Jvm.exec) (hb : c.code = cc) (hd : decode cc pc = .ok (.lrem, len)) (hl : iln (.lrem) = 0 ∨ iln (.lrem) = len) (hs : sx pT pM o rt pc L st m (.lrem) = some (.inl (pc', L', st', m'))) (k : Gl p l e R s mth args below meth c Q D dA A WK ρ0 m0 nL pc' L' st' m') : Gl p l e R s mth args below meth c Q D dA A WK ρ0 m0 nL pc L st m := by
  intro ρ H locs ls iv
  obtain rfl : len = 1 := ln_of hl rfl
  rcases st with _ | ⟨v1, _ | ⟨v2, st⟩⟩
  · exact nn hs
  · cases v1 <;> exact nn hs
  · cases v1
    case long y =>
      cases v2
      case long x =>
        obtain ⟨q, hs⟩ := itn hs
        obtain ⟨rfl, rfl, rfl, rfl⟩ := nxe hs
        exact lv_lrem hx hb hd q (k ρ H locs ls (iv_st iv (lvn trivial (lvc (lvc iv.2.2.1)))))
      all_goals exact nn hs
    all_goals exact nn hs
theorem sim_lshl {pc pc' : Nat} {L L' : PLs} {st st' : List Value} {m m' : PM} (hx : p.tables.exec = Jvm.exec) (hb : c.code = cc) (hd : decode cc pc = .ok (.lshl, len)) (hl : iln (.lshl) = 0 ∨ iln (.lshl) = len) (hs : sx pT pM o rt pc L st m (.lshl) = some (.inl (pc', L', st', m'))) (k : Gl p l e R s mth args below meth c Q D dA A WK ρ0 m0 nL pc' L' st' m') : Gl p l e R s mth args below meth c Q D dA A WK ρ0 m0 nL pc L st m := by
  intro ρ H locs ls iv
  obtain rfl : len = 1 := ln_of hl rfl
  rcases st with _ | ⟨v1, _ | ⟨v2, st⟩⟩
  · exact nn hs
  · cases v1 <;> exact nn hs
  · cases v1
    case int y =>
      cases v2
      case long x =>
        obtain ⟨rfl, rfl, rfl, rfl⟩ := nxe hs
        exact lv_lshl hx hb hd rfl (k ρ H locs ls (iv_st iv (lvn trivial (lvc (lvc iv.2.2.1)))))
      all_goals exact nn hs
    all_goals exact nn hs
theorem sim_lshr {pc pc' : Nat} {L L' : PLs} {st st' : List Value} {m m' : PM} (hx : p.tables.exec = Jvm.exec) (hb : c.code = cc) (hd : decode cc pc = .ok (.lshr, len)) (hl : iln (.lshr) = 0 ∨ iln (.lshr) = len) (hs : sx pT pM o rt pc L st m (.lshr) = some (.inl (pc', L', st', m'))) (k : Gl p l e R s mth args below meth c Q D dA A WK ρ0 m0 nL pc' L' st' m') : Gl p l e R s mth args below meth c Q D dA A WK ρ0 m0 nL pc L st m := by
  intro ρ H locs ls iv
  obtain rfl : len = 1 := ln_of hl rfl
  rcases st with _ | ⟨v1, _ | ⟨v2, st⟩⟩
  · exact nn hs
  · cases v1 <;> exact nn hs
  · cases v1
    case int y =>
      cases v2
      case long x =>
        obtain ⟨rfl, rfl, rfl, rfl⟩ := nxe hs
        exact lv_lshr hx hb hd rfl (k ρ H locs ls (iv_st iv (lvn trivial (lvc (lvc iv.2.2.1)))))
      all_goals exact nn hs
    all_goals exact nn hs
theorem sim_lcmp {pc pc' : Nat} {L L' : PLs} {st st' : List Value} {m m' : PM} (hx : p.tables.exec = Jvm.exec) (hb : c.code = cc) (hd : decode cc pc = .ok (.lcmp, len)) (hl : iln (.lcmp) = 0 ∨ iln (.lcmp) = len) (hs : sx pT pM o rt pc L st m (.lcmp) = some (.inl (pc', L', st', m'))) (k : Gl p l e R s mth args below meth c Q D dA A WK ρ0 m0 nL pc' L' st' m') : Gl p l e R s mth args below meth c Q D dA A WK ρ0 m0 nL pc L st m := by
  intro ρ H locs ls iv
  obtain rfl : len = 1 := ln_of hl rfl
  rcases st with _ | ⟨v1, _ | ⟨v2, st⟩⟩
  · exact nn hs
  · cases v1 <;> exact nn hs
  · cases v1
    case long y =>
      cases v2
      case long x =>
        obtain ⟨rfl, rfl, rfl, rfl⟩ := nxe hs
        exact W.lcmp hx hb hd (k ρ H locs ls (iv_st iv (lvn trivial (lvc (lvc iv.2.2.1)))))
      all_goals exact nn hs
    all_goals exact nn hs
theorem sim_ineg {pc pc' : Nat} {L L' : PLs} {st st' : List Value} {m m' : PM} (hx : p.tables.exec = Jvm.exec) (hb : c.code = cc) (hd : decode cc pc = .ok (.ineg, len)) (hl : iln (.ineg) = 0 ∨ iln (.ineg) = len) (hs : sx pT pM o rt pc L st m (.ineg) = some (.inl (pc', L', st', m'))) (k : Gl p l e R s mth args below meth c Q D dA A WK ρ0 m0 nL pc' L' st' m') : Gl p l e R s mth args below meth c Q D dA A WK ρ0 m0 nL pc L st m := by
  intro ρ H locs ls iv
  obtain rfl : len = 1 := ln_of hl rfl
  rcases st with _ | ⟨v1, st⟩
  · exact nn hs
  · cases v1
    case int x =>
      obtain ⟨rfl, rfl, rfl, rfl⟩ := nxe hs
      exact lv_ineg hx hb hd (k ρ H locs ls (iv_st iv (lvn trivial (lvc iv.2.2.1))))
    all_goals exact nn hs
theorem sim_i2l {pc pc' : Nat} {L L' : PLs} {st st' : List Value} {m m' : PM} (hx : p.tables.exec = Jvm.exec) (hb : c.code = cc) (hd : decode cc pc = .ok (.i2l, len)) (hl : iln (.i2l) = 0 ∨ iln (.i2l) = len) (hs : sx pT pM o rt pc L st m (.i2l) = some (.inl (pc', L', st', m'))) (k : Gl p l e R s mth args below meth c Q D dA A WK ρ0 m0 nL pc' L' st' m') : Gl p l e R s mth args below meth c Q D dA A WK ρ0 m0 nL pc L st m := by
  intro ρ H locs ls iv
  obtain rfl : len = 1 := ln_of hl rfl
  rcases st with _ | ⟨v1, st⟩
  · exact nn hs
  · cases v1
    case int x =>
      obtain ⟨rfl, rfl, rfl, rfl⟩ := nxe hs
      exact lv_i2l hx hb hd rfl (k ρ H locs ls (iv_st iv (lvn trivial (lvc iv.2.2.1))))
    all_goals exact nn hs
theorem sim_l2i {pc pc' : Nat} {L L' : PLs} {st st' : List Value} {m m' : PM} (hx : p.tables.exec = Jvm.exec) (hb : c.code = cc) (hd : decode cc pc = .ok (.l2i, len)) (hl : iln (.l2i) = 0 ∨ iln (.l2i) = len) (hs : sx pT pM o rt pc L st m (.l2i) = some (.inl (pc', L', st', m'))) (k : Gl p l e R s mth args below meth c Q D dA A WK ρ0 m0 nL pc' L' st' m') : Gl p l e R s mth args below meth c Q D dA A WK ρ0 m0 nL pc L st m := by
  intro ρ H locs ls iv
  obtain rfl : len = 1 := ln_of hl rfl
  rcases st with _ | ⟨v1, st⟩
  · exact nn hs
  · cases v1
    case long x =>
      obtain ⟨rfl, rfl, rfl, rfl⟩ := nxe hs
      exact lv_l2i hx hb hd rfl (k ρ H locs ls (iv_st iv (lvn trivial (lvc iv.2.2.1))))
    all_goals exact nn hs
theorem sim_i2b {pc pc' : Nat} {L L' : PLs} {st st' : List Value} {m m' : PM} (hx : p.tables.exec = Jvm.exec) (hb : c.code = cc) (hd : decode cc pc = .ok (.i2b, len)) (hl : iln (.i2b) = 0 ∨ iln (.i2b) = len) (hs : sx pT pM o rt pc L st m (.i2b) = some (.inl (pc', L', st', m'))) (k : Gl p l e R s mth args below meth c Q D dA A WK ρ0 m0 nL pc' L' st' m') : Gl p l e R s mth args below meth c Q D dA A WK ρ0 m0 nL pc L st m := by
  intro ρ H locs ls iv
  obtain rfl : len = 1 := ln_of hl rfl
  rcases st with _ | ⟨v1, st⟩
  · exact nn hs
  · cases v1
    case int x =>
      obtain ⟨rfl, rfl, rfl, rfl⟩ := nxe hs
      exact lv_i2b hx hb hd rfl (k ρ H locs ls (iv_st iv (lvn trivial (lvc iv.2.2.1))))
    all_goals exact nn hs
theorem sim_i2c {pc pc' : Nat} {L L' : PLs} {st st' : List Value} {m m' : PM} (hx : p.tables.exec = Jvm.exec) (hb : c.code = cc) (hd : decode cc pc = .ok (.i2c, len)) (hl : iln (.i2c) = 0 ∨ iln (.i2c) = len) (hs : sx pT pM o rt pc L st m (.i2c) = some (.inl (pc', L', st', m'))) (k : Gl p l e R s mth args below meth c Q D dA A WK ρ0 m0 nL pc' L' st' m') : Gl p l e R s mth args below meth c Q D dA A WK ρ0 m0 nL pc L st m := by
  intro ρ H locs ls iv
  obtain rfl : len = 1 := ln_of hl rfl
  rcases st with _ | ⟨v1, st⟩
  · exact nn hs
  · cases v1
    case int x =>
      obtain ⟨rfl, rfl, rfl, rfl⟩ := nxe hs
      exact lv_i2c hx hb hd rfl (k ρ H locs ls (iv_st iv (lvn trivial (lvc iv.2.2.1))))
    all_goals exact nn hs
theorem sim_iconst {pc pc' : Nat} {L L' : PLs} {st st' : List Value} {m m' : PM} {n : Int} (hx : p.tables.exec = Jvm.exec) (hb : c.code = cc) (hd : decode cc pc = .ok (.iconst n, len)) (hl : iln (.iconst n) = 0 ∨ iln (.iconst n) = len) (hs : sx pT pM o rt pc L st m (.iconst n) = some (.inl (pc', L', st', m'))) (k : Gl p l e R s mth args below meth c Q D dA A WK ρ0 m0 nL pc' L' st' m') : Gl p l e R s mth args below meth c Q D dA A WK ρ0 m0 nL pc L st m := by
  intro ρ H locs ls iv
  obtain rfl : len = 1 := ln_of hl rfl
  obtain ⟨rfl, rfl, rfl, rfl⟩ := nxe hs
  exact lv_iconst hx hb hd rfl (k ρ H locs ls (iv_st iv (lvn trivial iv.2.2.1)))
theorem sim_bipush {pc pc' : Nat} {L L' : PLs} {st st' : List Value} {m m' : PM} {n : Int} (hx : p.tables.exec = Jvm.exec) (hb : c.code = cc) (hd : decode cc pc = .ok (.bipush n, len)) (hl : iln (.bipush n) = 0 ∨ iln (.bipush n) = len) (hs : sx pT pM o rt pc L st m (.bipush n) = some (.inl (pc', L', st', m'))) (k : Gl p l e R s mth args below meth c Q D dA A WK ρ0 m0 nL pc' L' st' m') : Gl p l e R s mth args below meth c Q D dA A WK ρ0 m0 nL pc L st m := by
  intro ρ H locs ls iv
  obtain rfl : len = 2 := ln_of hl rfl
  obtain ⟨q, hs⟩ := its hs
  obtain ⟨rfl, rfl, rfl, rfl⟩ := nxe hs
  exact lv_bipush hx hb hd (bip8 q) (k ρ H locs ls (iv_st iv (lvn trivial iv.2.2.1)))
theorem sim_sipush {pc pc' : Nat} {L L' : PLs} {st st' : List Value} {m m' : PM} {n : Int} (hx : p.tables.exec = Jvm.exec) (hb : c.code = cc) (hd : decode cc pc = .ok (.sipush n, len)) (hl : iln (.sipush n) = 0 ∨ iln (.sipush n) = len) (hs : sx pT pM o rt pc L st m (.sipush n) = some (.inl (pc', L', st', m'))) (k : Gl p l e R s mth args below meth c Q D dA A WK ρ0 m0 nL pc' L' st' m') : Gl p l e R s mth args below meth c Q D dA A WK ρ0 m0 nL pc L st m := by
  intro ρ H locs ls iv
  obtain rfl : len = 3 := ln_of hl rfl
  obtain ⟨q, hs⟩ := its hs
  obtain ⟨rfl, rfl, rfl, rfl⟩ := nxe hs
  exact lv_sipush hx hb hd (bip16 q) (k ρ H locs ls (iv_st iv (lvn trivial iv.2.2.1)))
theorem sim_lconst {pc pc' : Nat} {L L' : PLs} {st st' : List Value} {m m' : PM} {n : Fin 2} (hx : p.tables.exec = Jvm.exec) (hb : c.code = cc) (hd : decode cc pc = .ok (.lconst n, len)) (hl : iln (.lconst n) = 0 ∨ iln (.lconst n) = len) (hs : sx pT pM o rt pc L st m (.lconst n) = some (.inl (pc', L', st', m'))) (k : Gl p l e R s mth args below meth c Q D dA A WK ρ0 m0 nL pc' L' st' m') : Gl p l e R s mth args below meth c Q D dA A WK ρ0 m0 nL pc L st m := by
  intro ρ H locs ls iv
  obtain rfl : len = 1 := ln_of hl rfl
  obtain ⟨rfl, rfl, rfl, rfl⟩ := nxe hs
  exact lv_lconst hx hb hd rfl (k ρ H locs ls (iv_st iv (lvn trivial iv.2.2.1)))
theorem sim_aconst_null {pc pc' : Nat} {L L' : PLs} {st st' : List Value} {m m' : PM} (hx : p.tables.exec = Jvm.exec) (hb : c.code = cc) (hd : decode cc pc = .ok (.aconst_null, len)) (hl : iln (.aconst_null) = 0 ∨ iln (.aconst_null) = len) (hs : sx pT pM o rt pc L st m (.aconst_null) = some (.inl (pc', L', st', m'))) (k : Gl p l e R s mth args below meth c Q D dA A WK ρ0 m0 nL pc' L' st' m') : Gl p l e R s mth args below meth c Q D dA A WK ρ0 m0 nL pc L st m := by
  intro ρ H locs ls iv
  obtain rfl : len = 1 := ln_of hl rfl
  obtain ⟨rfl, rfl, rfl, rfl⟩ := nxe hs
  exact lv_null hx hb hd (k ρ H locs ls (iv_st iv (lvn trivial iv.2.2.1)))
theorem sim_iload {pc pc' : Nat} {L L' : PLs} {st st' : List Value} {m m' : PM} {i : Nat} (hx : p.tables.exec = Jvm.exec) (hb : c.code = cc) (hd : decode cc pc = .ok (.iload i, len)) (hl : iln (.iload i) = 0 ∨ iln (.iload i) = len) (hs : sx pT pM o rt pc L st m (.iload i) = some (.inl (pc', L', st', m'))) (k : Gl p l e R s mth args below meth c Q D dA A WK ρ0 m0 nL pc' L' st' m') : Gl p l e R s mth args below meth c Q D dA A WK ρ0 m0 nL pc L st m := by
  intro ρ H locs ls iv
  obtain rfl : len = 2 := ln_of hl rfl
  obtain ⟨v, hv, hs⟩ := mso hs
  obtain ⟨h1, h2⟩ := lod_e hv
  obtain ⟨rfl, rfl, rfl, rfl⟩ := nxe hs
  obtain ⟨x, rfl⟩ := tg0 h2
  exact lv_iload hx hb hd (iv.2.1.2.2.1 _ _ h1) (k ρ H locs ls (iv_st iv (lvn trivial iv.2.2.1)))
theorem sim_lload {pc pc' : Nat} {L L' : PLs} {st st' : List Value} {m m' : PM} {i : Nat} (hx : p.tables.exec = Jvm.exec) (hb : c.code = cc) (hd : decode cc pc = .ok (.lload i, len)) (hl : iln (.lload i) = 0 ∨ iln (.lload i) = len) (hs : sx pT pM o rt pc L st m (.lload i) = some (.inl (pc', L', st', m'))) (k : Gl p l e R s mth args below meth c Q D dA A WK ρ0 m0 nL pc' L' st' m') : Gl p l e R s mth args below meth c Q D dA A WK ρ0 m0 nL pc L st m := by
  intro ρ H locs ls iv
  obtain rfl : len = 2 := ln_of hl rfl
  obtain ⟨v, hv, hs⟩ := mso hs
  obtain ⟨h1, h2⟩ := lod_e hv
  obtain ⟨rfl, rfl, rfl, rfl⟩ := nxe hs
  obtain ⟨x, rfl⟩ := tg1 h2
  exact lv_lload hx hb hd (iv.2.1.2.2.1 _ _ h1) (k ρ H locs ls (iv_st iv (lvn trivial iv.2.2.1)))
theorem sim_aload {pc pc' : Nat} {L L' : PLs} {st st' : List Value} {m m' : PM} {i : Nat} (hx : p.tables.exec = Jvm.exec) (hb : c.code = cc) (hd : decode cc pc = .ok (.aload i, len)) (hl : iln (.aload i) = 0 ∨ iln (.aload i) = len) (hs : sx pT pM o rt pc L st m (.aload i) = some (.inl (pc', L', st', m'))) (k : Gl p l e R s mth args below meth c Q D dA A WK ρ0 m0 nL pc' L' st' m') : Gl p l e R s mth args below meth c Q D dA A WK ρ0 m0 nL pc L st m := by
  intro ρ H locs ls iv
  obtain rfl : len = 2 := ln_of hl rfl
  obtain ⟨v, hv, hs⟩ := mso hs
  obtain ⟨h1, h2⟩ := lod_e hv
  obtain ⟨rfl, rfl, rfl, rfl⟩ := nxe hs
  rcases tg2 h2 with ⟨x, rfl⟩ | rfl
  · exact lv_aload hx hb hd (iv.2.1.2.2.1 _ _ h1) (k ρ H locs ls (iv_st iv (lvn (iv.2.2.2.1 _ _ h1) iv.2.2.1)))
  · exact lv_aloadN hx hb hd (iv.2.1.2.2.1 _ _ h1) (k ρ H locs ls (iv_st iv (lvn trivial iv.2.2.1)))
theorem sim_iload_n {pc pc' : Nat} {L L' : PLs} {st st' : List Value} {m m' : PM} {i : Fin 4} (hx : p.tables.exec = Jvm.exec) (hb : c.code = cc) (hd : decode cc pc = .ok (.iload_n i, len)) (hl : iln (.iload_n i) = 0 ∨ iln (.iload_n i) = len) (hs : sx pT pM o rt pc L st m (.iload_n i) = some (.inl (pc', L', st', m'))) (k : Gl p l e R s mth args below meth c Q D dA A WK ρ0 m0 nL pc' L' st' m') : Gl p l e R s mth args below meth c Q D dA A WK ρ0 m0 nL pc L st m := by
  intro ρ H locs ls iv
  obtain rfl : len = 1 := ln_of hl rfl
  obtain ⟨v, hv, hs⟩ := mso hs
  obtain ⟨h1, h2⟩ := lod_e hv
  obtain ⟨rfl, rfl, rfl, rfl⟩ := nxe hs
  obtain ⟨x, rfl⟩ := tg0 h2
  exact lv_iload_n hx hb hd rfl (iv.2.1.2.2.1 _ _ h1) (k ρ H locs ls (iv_st iv (lvn trivial iv.2.2.1)))
theorem sim_lload_n {pc pc' : Nat} {L L' : PLs} {st st' : List Value} {m m' : PM} {i : Fin 4} (hx : p.tables.exec = Jvm.exec) (hb : c.code = cc) (hd : decode cc pc = .ok (.lload_n i, len)) (hl : iln (.lload_n i) = 0 ∨ iln (.lload_n i) = len) (hs : sx pT pM o rt pc L st m (.lload_n i) = some (.inl (pc', L', st', m'))) (k : Gl p l e R s mth args below meth c Q D dA A WK ρ0 m0 nL pc' L' st' m') : Gl p l e R s mth args below meth c Q D dA A WK ρ0 m0 nL pc L st m := by
  intro ρ H locs ls iv
  obtain rfl : len = 1 := ln_of hl rfl
  obtain ⟨v, hv, hs⟩ := mso hs
  obtain ⟨h1, h2⟩ := lod_e hv
  obtain ⟨rfl, rfl, rfl, rfl⟩ := nxe hs
  obtain ⟨x, rfl⟩ := tg1 h2
  exact lv_lload_n hx hb hd rfl (iv.2.1.2.2.1 _ _ h1) (k ρ H locs ls (iv_st iv (lvn trivial iv.2.2.1)))
theorem sim_aload_n {pc pc' : Nat} {L L' : PLs} {st st' : List Value} {m m' : PM} {i : Fin 4} (hx : p.tables.exec = Jvm.exec) (hb : c.code = cc) (hd : decode cc pc = .ok (.aload_n i, len)) (hl : iln (.aload_n i) = 0 ∨ iln (.aload_n i) = len) (hs : sx pT pM o rt pc L st m (.aload_n i) = some (.inl (pc', L', st', m'))) (k : Gl p l e R s mth args below meth c Q D dA A WK ρ0 m0 nL pc' L' st' m') : Gl p l e R s mth args below meth c Q D dA A WK ρ0 m0 nL pc L st m := by
  intro ρ H locs ls iv
  obtain rfl : len = 1 := ln_of hl rfl
  obtain ⟨v, hv, hs⟩ := mso hs
  obtain ⟨h1, h2⟩ := lod_e hv
  obtain ⟨rfl, rfl, rfl, rfl⟩ := nxe hs
  rcases tg2 h2 with ⟨x, rfl⟩ | rfl
  · exact lv_aload_n hx hb hd rfl (iv.2.1.2.2.1 _ _ h1) (k ρ H locs ls (iv_st iv (lvn (iv.2.2.2.1 _ _ h1) iv.2.2.1)))
  · exact lv_aload_nN hx hb hd rfl (iv.2.1.2.2.1 _ _ h1) (k ρ H locs ls (iv_st iv (lvn trivial iv.2.2.1)))
theorem sim_istore {pc pc' : Nat} {L L' : PLs} {st st' : List Value} {m m' : PM} {i : Nat} (hx : p.tables.exec = Jvm.exec) (hb : c.code = cc) (hd : decode cc pc = .ok (.istore i, len)) (hl : iln (.istore i) = 0 ∨ iln (.istore i) = len) (hs : sx pT pM o rt pc L st m (.istore i) = some (.inl (pc', L', st', m'))) (k : Gl p l e R s mth args below meth c Q D dA A WK ρ0 m0 nL pc' L' st' m') : Gl p l e R s mth args below meth c Q D dA A WK ρ0 m0 nL pc L st m := by
  intro ρ H locs ls iv
  obtain rfl : len = 2 := ln_of hl rfl
  rcases st with _ | ⟨v1, st⟩
  · exact nn hs
  · cases v1
    case int x =>
      obtain ⟨⟨q1, q2⟩, hs⟩ := its hs
      obtain ⟨rfl, rfl, rfl, rfl⟩ := nxe hs
      exact lv_istore hx hb hd (lv_of iv.2.1.1 iv.2.1.2.1 iv.2.1.2.2.1) (by rw [← iv.2.1.2.2.2]; exact q2) rfl (fun ls' hl' => k ρ H locs ls' ⟨iv.1, ⟨hl'.1, hl'.2.1, lv_set1 (v := .int x) q1 q2 hl', by simp only [List.length_set]; exact iv.2.1.2.2.2⟩, lvc iv.2.2.1, set_live trivial iv.2.2.2.1, iv.2.2.2.2⟩)
    all_goals exact nn hs
theorem sim_lstore {pc pc' : Nat} {L L' : PLs} {st st' : List Value} {m m' : PM} {i : Nat} (hx : p.tables.exec = Jvm.exec) (hb : c.code = cc) (hd : decode cc pc = .ok (.lstore i, len)) (hl : iln (.lstore i) = 0 ∨ iln (.lstore i) = len) (hs : sx pT pM o rt pc L st m (.lstore i) = some (.inl (pc', L', st', m'))) (k : Gl p l e R s mth args below meth c Q D dA A WK ρ0 m0 nL pc' L' st' m') : Gl p l e R s mth args below meth c Q D dA A WK ρ0 m0 nL pc L st m := by
  intro ρ H locs ls iv
  obtain rfl : len = 2 := ln_of hl rfl
  rcases st with _ | ⟨v1, st⟩
  · exact nn hs
  · cases v1
    case long x =>
      obtain ⟨⟨q1, q2⟩, hs⟩ := its hs
      obtain ⟨rfl, rfl, rfl, rfl⟩ := nxe hs
      exact lv_lstore hx hb hd (lv_of iv.2.1.1 iv.2.1.2.1 iv.2.1.2.2.1) (by rw [← iv.2.1.2.2.2]; exact q2) rfl (fun ls' hl' => k ρ H locs ls' ⟨iv.1, ⟨hl'.1, hl'.2.1, lv_set2 (v := .long x) q1 q2 hl', by simp only [List.length_set]; exact iv.2.1.2.2.2⟩, lvc iv.2.2.1, set_none (set_live trivial iv.2.2.2.1), iv.2.2.2.2⟩)
    all_goals exact nn hs
theorem sim_astore {pc pc' : Nat} {L L' : PLs} {st st' : List Value} {m m' : PM} {i : Nat} (hx : p.tables.exec = Jvm.exec) (hb : c.code = cc) (hd : decode cc pc = .ok (.astore i, len)) (hl : iln (.astore i) = 0 ∨ iln (.astore i) = len) (hs : sx pT pM o rt pc L st m (.astore i) = some (.inl (pc', L', st', m'))) (k : Gl p l e R s mth args below meth c Q D dA A WK ρ0 m0 nL pc' L' st' m') : Gl p l e R s mth args below meth c Q D dA A WK ρ0 m0 nL pc L st m := by
  intro ρ H locs ls iv
  obtain rfl : len = 2 := ln_of hl rfl
  rcases st with _ | ⟨v1, st⟩
  · exact nn hs
  · cases v1
    case ref x =>
      obtain ⟨⟨q1, q2⟩, hs⟩ := its hs
      obtain ⟨rfl, rfl, rfl, rfl⟩ := nxe hs
      exact lv_astore hx hb hd (lv_of iv.2.1.1 iv.2.1.2.1 iv.2.1.2.2.1) (by rw [← iv.2.1.2.2.2]; exact q2) rfl (fun ls' hl' => k ρ H locs ls' ⟨iv.1, ⟨hl'.1, hl'.2.1, lv_set1 (v := .ref x) q1 q2 hl', by simp only [List.length_set]; exact iv.2.1.2.2.2⟩, lvc iv.2.2.1, set_live (lvh iv.2.2.1) iv.2.2.2.1, iv.2.2.2.2⟩)
    case null =>
      obtain ⟨⟨q1, q2⟩, hs⟩ := its hs
      obtain ⟨rfl, rfl, rfl, rfl⟩ := nxe hs
      exact lv_astoreN hx hb hd (lv_of iv.2.1.1 iv.2.1.2.1 iv.2.1.2.2.1) (by rw [← iv.2.1.2.2.2]; exact q2) rfl (fun ls' hl' => k ρ H locs ls' ⟨iv.1, ⟨hl'.1, hl'.2.1, lv_set1 (v := .null) q1 q2 hl', by simp only [List.length_set]; exact iv.2.1.2.2.2⟩, lvc iv.2.2.1, set_live trivial iv.2.2.2.1, iv.2.2.2.2⟩)
    all_goals exact nn hs
theorem sim_istore_n {pc pc' : Nat} {L L' : PLs} {st st' : List Value} {m m' : PM} {i : Fin 4} (hx : p.tables.exec = Jvm.exec) (hb : c.code = cc) (hd : decode cc pc = .ok (.istore_n i, len)) (hl : iln (.istore_n i) = 0 ∨ iln (.istore_n i) = len) (hs : sx pT pM o rt pc L st m (.istore_n i) = some (.inl (pc', L', st', m'))) (k : Gl p l e R s mth args below meth c Q D dA A WK ρ0 m0 nL pc' L' st' m') : Gl p l e R s mth args below meth c Q D dA A WK ρ0 m0 nL pc L st m := by
  intro ρ H locs ls iv
  obtain rfl : len = 1 := ln_of hl rfl
  rcases st with _ | ⟨v1, st⟩
  · exact nn hs
  · cases v1
    case int x =>
      obtain ⟨⟨q1, q2⟩, hs⟩ := its hs
      obtain ⟨rfl, rfl, rfl, rfl⟩ := nxe hs
      exact lv_istore_n hx hb hd rfl (lv_of iv.2.1.1 iv.2.1.2.1 iv.2.1.2.2.1) (by rw [← iv.2.1.2.2.2]; exact q2) rfl (fun ls' hl' => k ρ H locs ls' ⟨iv.1, ⟨hl'.1, hl'.2.1, lv_set1 (v := .int x) q1 q2 hl', by simp only [List.length_set]; exact iv.2.1.2.2.2⟩, lvc iv.2.2.1, set_live trivial iv.2.2.2.1, iv.2.2.2.2⟩)
    all_goals exact nn hs
theorem sim_lstore_n {pc pc' : Nat} {L L' : PLs} {st st' : List Value} {m m' : PM} {i : Fin 4} (hx : p.tables.exec = Jvm.exec) (hb : c.code = cc) (hd : decode cc pc = .ok (.lstore_n i, len)) (hl : iln (.lstore_n i) = 0 ∨ iln (.lstore_n i) = len) (hs : sx pT pM o rt pc L st m (.lstore_n i) = some (.inl (pc', L', st', m'))) (k : Gl p l e R s mth args below meth c Q D dA A WK ρ0 m0 nL pc' L' st' m') : Gl p l e R s mth args below meth c Q D dA A WK ρ0 m0 nL pc L st m := by
  intro ρ H locs ls iv
  obtain rfl : len = 1 := ln_of hl rfl
  rcases st with _ | ⟨v1, st⟩
  · exact nn hs
  · cases v1
    case long x =>
      obtain ⟨⟨q1, q2⟩, hs⟩ := its hs
      obtain ⟨rfl, rfl, rfl, rfl⟩ := nxe hs
      exact lv_lstore_n hx hb hd rfl (lv_of iv.2.1.1 iv.2.1.2.1 iv.2.1.2.2.1) (by rw [← iv.2.1.2.2.2]; exact q2) rfl (fun ls' hl' => k ρ H locs ls' ⟨iv.1, ⟨hl'.1, hl'.2.1, lv_set2 (v := .long x) q1 q2 hl', by simp only [List.length_set]; exact iv.2.1.2.2.2⟩, lvc iv.2.2.1, set_none (set_live trivial iv.2.2.2.1), iv.2.2.2.2⟩)
    all_goals exact nn hs
theorem sim_astore_n {pc pc' : Nat} {L L' : PLs} {st st' : List Value} {m m' : PM} {i : Fin 4} (hx : p.tables.exec = Jvm.exec) (hb : c.code = cc) (hd : decode cc pc = .ok (.astore_n i, len)) (hl : iln (.astore_n i) = 0 ∨ iln (.astore_n i) = len) (hs : sx pT pM o rt pc L st m (.astore_n i) = some (.inl (pc', L', st', m'))) (k : Gl p l e R s mth args below meth c Q D dA A WK ρ0 m0 nL pc' L' st' m') : Gl p l e R s mth args below meth c Q D dA A WK ρ0 m0 nL pc L st m := by
  intro ρ H locs ls iv
  obtain rfl : len = 1 := ln_of hl rfl
  rcases st with _ | ⟨v1, st⟩
  · exact nn hs
  · cases v1
    case ref x =>
      obtain ⟨⟨q1, q2⟩, hs⟩ := its hs
      obtain ⟨rfl, rfl, rfl, rfl⟩ := nxe hs
      exact lv_astore_n hx hb hd rfl (lv_of iv.2.1.1 iv.2.1.2.1 iv.2.1.2.2.1) (by rw [← iv.2.1.2.2.2]; exact q2) rfl (fun ls' hl' => k ρ H locs ls' ⟨iv.1, ⟨hl'.1, hl'.2.1, lv_set1 (v := .ref x) q1 q2 hl', by simp only [List.length_set]; exact iv.2.1.2.2.2⟩, lvc iv.2.2.1, set_live (lvh iv.2.2.1) iv.2.2.2.1, iv.2.2.2.2⟩)
    case null =>
      obtain ⟨⟨q1, q2⟩, hs⟩ := its hs
      obtain ⟨rfl, rfl, rfl, rfl⟩ := nxe hs
      exact lv_astore_nN hx hb hd rfl (lv_of iv.2.1.1 iv.2.1.2.1 iv.2.1.2.2.1) (by rw [← iv.2.1.2.2.2]; exact q2) rfl (fun ls' hl' => k ρ H locs ls' ⟨iv.1, ⟨hl'.1, hl'.2.1, lv_set1 (v := .null) q1 q2 hl', by simp only [List.length_set]; exact iv.2.1.2.2.2⟩, lvc iv.2.2.1, set_live trivial iv.2.2.2.1, iv.2.2.2.2⟩)
    all_goals exact nn hs
theorem iinc_e {L : PLs} {i pc : Nat} {n : Int} {st : List Value} {m : PM} {y : PAct} (h : sx pT pM o rt pc L st m (.iinc i n) = some y) : ∃ x, L[i]? = some (some (.int x)) ∧ okL L i = true ∧ nx (pc + 3) (L.set i (some (.int (x + Int32.ofInt n)))) st m = some y := by
  have h : (match L[i]? with
    | some (some (.int x)) => if okL L i = true then nx (pc + 3) (L.set i (some (.int (x + Int32.ofInt n)))) st m else none
    | _ => none) = some y := h
  split at h
  · rename_i x hx
    obtain ⟨q, h⟩ := its h
    exact ⟨x, hx, q, h⟩
  · cases h
theorem sim_iinc {pc pc' : Nat} {L L' : PLs} {st st' : List Value} {m m' : PM} {i : Nat} {n : Int} (hx : p.tables.exec = Jvm.exec) (hb : c.code = cc) (hd : decode cc pc = .ok (.iinc i n, len)) (hl : iln (.iinc i n) = 0 ∨ iln (.iinc i n) = len) (hs : sx pT pM o rt pc L st m (.iinc i n) = some (.inl (pc', L', st', m'))) (k : Gl p l e R s mth args below meth c Q D dA A WK ρ0 m0 nL pc' L' st' m') : Gl p l e R s mth args below meth c Q D dA A WK ρ0 m0 nL pc L st m := by
  intro ρ H locs ls iv
  obtain rfl : len = 3 := ln_of hl rfl
  obtain ⟨x, h1, q1, hs⟩ := iinc_e hs
  obtain ⟨rfl, rfl, rfl, rfl⟩ := nxe hs
  have q2 : i < L.length := (List.getElem?_eq_some_iff.mp h1).1
  obtain ⟨j, hj⟩ := List.getElem?_of_mem (lvl_mem.mpr ⟨_, h1, rfl⟩ : (i, cv ρ (.int x)) ∈ lvl ρ L)
  exact lv_iinc hx hb hd (lv_of iv.2.1.1 iv.2.1.2.1 iv.2.1.2.2.1) hj rfl (by rw [← iv.2.1.2.2.2]; exact q2) rfl (fun ls' hl' => k ρ H locs ls' ⟨iv.1, ⟨hl'.1, hl'.2.1, lv_set1 (v := .int (x + Int32.ofInt n)) q1 q2 hl', by simp only [List.length_set]; exact iv.2.1.2.2.2⟩, iv.2.2.1, set_live trivial iv.2.2.2.1, iv.2.2.2.2⟩)
theorem sim_dup {pc pc' : Nat} {L L' : PLs} {st st' : List Value} {m m' : PM} (hx : p.tables.exec = Jvm.exec) (hb : c.code = cc) (hd : decode cc pc = .ok (.dup, len)) (hl : iln (.dup) = 0 ∨ iln (.dup) = len) (hs : sx pT pM o rt pc L st m (.dup) = some (.inl (pc', L', st', m'))) (k : Gl p l e R s mth args below meth c Q D dA A WK ρ0 m0 nL pc' L' st' m') : Gl p l e R s mth args below meth c Q D dA A WK ρ0 m0 nL pc L st m := by
  intro ρ H locs ls iv
  obtain rfl : len = 1 := ln_of hl rfl
  rcases st with _ | ⟨v1, st⟩
  · exact nn hs
  · obtain ⟨q, hs⟩ := its hs
    obtain ⟨rfl, rfl, rfl, rfl⟩ := nxe hs
    exact lv_dup hx hb hd ((cv_cat ρ v1).trans q) (k ρ H locs ls (iv_st iv (lvn (lvh iv.2.2.1) iv.2.2.1)))
theorem sim_pop {pc pc' : Nat} {L L' : PLs} {st st' : List Value} {m m' : PM} (hx : p.tables.exec = Jvm.exec) (hb : c.code = cc) (hd : decode cc pc = .ok (.pop, len)) (hl : iln (.pop) = 0 ∨ iln (.pop) = len) (hs : sx pT pM o rt pc L st m (.pop) = some (.inl (pc', L', st', m'))) (k : Gl p l e R s mth args below meth c Q D dA A WK ρ0 m0 nL pc' L' st' m') : Gl p l e R s mth args below meth c Q D dA A WK ρ0 m0 nL pc L st m := by
  intro ρ H locs ls iv
  obtain rfl : len = 1 := ln_of hl rfl
  rcases st with _ | ⟨v1, st⟩
  · exact nn hs
  · obtain ⟨q, hs⟩ := its hs
    obtain ⟨rfl, rfl, rfl, rfl⟩ := nxe hs
    exact lv_pop hx hb hd ((cv_cat ρ v1).trans q) (k ρ H locs ls (iv_st iv (lvc iv.2.2.1)))
theorem sim_dup_x1 {pc pc' : Nat} {L L' : PLs} {st st' : List Value} {m m' : PM} (hx : p.tables.exec = Jvm.exec) (hb : c.code = cc) (hd : decode cc pc = .ok (.dup_x1, len)) (hl : iln (.dup_x1) = 0 ∨ iln (.dup_x1) = len) (hs : sx pT pM o rt pc L st m (.dup_x1) = some (.inl (pc', L', st', m'))) (k : Gl p l e R s mth args below meth c Q D dA A WK ρ0 m0 nL pc' L' st' m') : Gl p l e R s mth args below meth c Q D dA A WK ρ0 m0 nL pc L st m := by
  intro ρ H locs ls iv
  obtain rfl : len = 1 := ln_of hl rfl
  rcases st with _ | ⟨v1, _ | ⟨v2, st⟩⟩
  · exact nn hs
  · exact nn hs
  · obtain ⟨⟨q1, q2⟩, hs⟩ := its hs
    obtain ⟨rfl, rfl, rfl, rfl⟩ := nxe hs
    exact lv_dup_x1 hx hb hd ((cv_cat ρ v1).trans q1) ((cv_cat ρ v2).trans q2) (k ρ H locs ls (iv_st iv (lvn (lvh iv.2.2.1) (lvn (lvh (lvc iv.2.2.1)) (lvn (lvh iv.2.2.1) (lvc (lvc iv.2.2.1)))))))
theorem sim_dup_x2 {pc pc' : Nat} {L L' : PLs} {st st' : List Value} {m m' : PM} (hx : p.tables.exec = Jvm.exec) (hb : c.code = cc) (hd : decode cc pc = .ok (.dup_x2, len)) (hl : iln (.dup_x2) = 0 ∨ iln (.dup_x2) = len) (hs : sx pT pM o rt pc L st m (.dup_x2) = some (.inl (pc', L', st', m'))) (k : Gl p l e R s mth args below meth c Q D dA A WK ρ0 m0 nL pc' L' st' m') : Gl p l e R s mth args below meth c Q D dA A WK ρ0 m0 nL pc L st m := by
  intro ρ H locs ls iv
  obtain rfl : len = 1 := ln_of hl rfl
  rcases st with _ | ⟨v1, _ | ⟨v2, _ | ⟨v3, st⟩⟩⟩
  · exact nn hs
  · exact nn hs
  · exact nn hs
  · obtain ⟨⟨q1, q2, q3⟩, hs⟩ := its hs
    obtain ⟨rfl, rfl, rfl, rfl⟩ := nxe hs
    exact lv_dup_x2 hx hb hd ((cv_cat ρ v1).trans q1) ((cv_cat ρ v2).trans q2) ((cv_cat ρ v3).trans q3) (k ρ H locs ls (iv_st iv (lvn (lvh iv.2.2.1) (lvn (lvh (lvc iv.2.2.1)) (lvn (lvh (lvc (lvc iv.2.2.1))) (lvn (lvh iv.2.2.1) (lvc (lvc (lvc iv.2.2.1)))))))))
theorem sim_dup2 {pc pc' : Nat} {L L' : PLs} {st st' : List Value} {m m' : PM} (hx : p.tables.exec = Jvm.exec) (hb : c.code = cc) (hd : decode cc pc = .ok (.dup2, len)) (hl : iln (.dup2) = 0 ∨ iln (.dup2) = len) (hs : sx pT pM o rt pc L st m (.dup2) = some (.inl (pc', L', st', m'))) (k : Gl p l e R s mth args below meth c Q D dA A WK ρ0 m0 nL pc' L' st' m') : Gl p l e R s mth args below meth c Q D dA A WK ρ0 m0 nL pc L st m := by
  intro ρ H locs ls iv
  obtain rfl : len = 1 := ln_of hl rfl
  rcases st with _ | ⟨v1, _ | ⟨v2, st⟩⟩
  · exact nn hs
  · exact nn hs
  · obtain ⟨⟨q1, q2⟩, hs⟩ := its hs
    obtain ⟨rfl, rfl, rfl, rfl⟩ := nxe hs
    exact lv_dup2_11 hx hb hd ((cv_cat ρ v1).trans q1) ((cv_cat ρ v2).trans q2) (k ρ H locs ls (iv_st iv (lvn (lvh iv.2.2.1) (lvn (lvh (lvc iv.2.2.1)) iv.2.2.1))))
theorem sim_goto {pc pc' : Nat} {L L' : PLs} {st st' : List Value} {m m' : PM} {off : Int} (hx : p.tables.exec = Jvm.exec) (hb : c.code = cc) (hd : decode cc pc = .ok (.goto off, len)) (hl : iln (.goto off) = 0 ∨ iln (.goto off) = len) (hs : sx pT pM o rt pc L st m (.goto off) = some (.inl (pc', L', st', m'))) (k : Gl p l e R s mth args below meth c Q D dA A WK ρ0 m0 nL pc' L' st' m') : Gl p l e R s mth args below meth c Q D dA A WK ρ0 m0 nL pc L st m := by
  intro ρ H locs ls iv
  obtain rfl : len = 3 := ln_of hl rfl
  obtain ⟨t, ht, hs⟩ := mso hs
  obtain ⟨rfl, rfl, rfl, rfl⟩ := nxe hs
  exact lv_goto hx hb hd (tgt_e ht) (k ρ H locs ls iv)
theorem sim_if_eq {pc pc' : Nat} {L L' : PLs} {st st' : List Value} {m m' : PM} {off : Int} (hx : p.tables.exec = Jvm.exec) (hb : c.code = cc) (hd : decode cc pc = .ok (.ifCond .eq off, len)) (hl : iln (.ifCond .eq off) = 0 ∨ iln (.ifCond .eq off) = len) (hs : sx pT pM o rt pc L st m (.ifCond .eq off) = some (.inl (pc', L', st', m'))) (k : Gl p l e R s mth args below meth c Q D dA A WK ρ0 m0 nL pc' L' st' m') : Gl p l e R s mth args below meth c Q D dA A WK ρ0 m0 nL pc L st m := by
  intro ρ H locs ls iv
  obtain rfl : len = 3 := ln_of hl rfl
  rcases st with _ | ⟨v1, st⟩
  · exact nn hs
  · cases v1
    case int x =>
      obtain ⟨t, ht, hs⟩ := mso hs
      by_cases q : x = 0
      · obtain ⟨rfl, rfl, rfl, rfl⟩ := nxe ((if_pos (show cnd .eq x 0 = true from decide_eq_true q)).symm.trans hs)
        exact lv_if_eq hx hb hd (tgt_e ht) (fun _ => k ρ H locs ls (iv_st iv (lvc iv.2.2.1))) (fun h => absurd q h)
      · obtain ⟨rfl, rfl, rfl, rfl⟩ := nxe ((if_neg (show ¬ cnd .eq x 0 = true from fun z => q (of_decide_eq_true z))).symm.trans hs)
        exact lv_if_eq hx hb hd (tgt_e ht) (fun h => absurd h q) (fun _ => k ρ H locs ls (iv_st iv (lvc iv.2.2.1)))
    all_goals exact nn hs
theorem sim_icmp_eq {pc pc' : Nat} {L L' : PLs} {st st' : List Value} {m m' : PM} {off : Int} (hx : p.tables.exec = Jvm.exec) (hb : c.code = cc) (hd : decode cc pc = .ok (.if_icmp .eq off, len)) (hl : iln (.if_icmp .eq off) = 0 ∨ iln (.if_icmp .eq off) = len) (hs : sx pT pM o rt pc L st m (.if_icmp .eq off) = some (.inl (pc', L', st', m'))) (k : Gl p l e R s mth args below meth c Q D dA A WK ρ0 m0 nL pc' L' st' m') : Gl p l e R s mth args below meth c Q D dA A WK ρ0 m0 nL pc L st m := by
  intro ρ H locs ls iv
  obtain rfl : len = 3 := ln_of hl rfl
  rcases st with _ | ⟨v1, _ | ⟨v2, st⟩⟩
  · exact nn hs
  · cases v1 <;> exact nn hs
  · cases v1
    case int y =>
      cases v2
      case int x =>
        obtain ⟨t, ht, hs⟩ := mso hs
        by_cases q : x = y
        · obtain ⟨rfl, rfl, rfl, rfl⟩ := nxe ((if_pos (show cnd .eq x y = true from decide_eq_true q)).symm.trans hs)
          exact lv_icmp_eq hx hb hd (tgt_e ht) (fun _ => k ρ H locs ls (iv_st iv (lvc (lvc iv.2.2.1)))) (fun h => absurd q h)
        · obtain ⟨rfl, rfl, rfl, rfl⟩ := nxe ((if_neg (show ¬ cnd .eq x y = true from fun z => q (of_decide_eq_true z))).symm.trans hs)
          exact lv_icmp_eq hx hb hd (tgt_e ht) (fun h => absurd h q) (fun _ => k ρ H locs ls (iv_st iv (lvc (lvc iv.2.2.1))))
      all_goals exact nn hs
    all_goals exact nn hs
theorem sim_if_ne {pc pc' : Nat} {L L' : PLs} {st st' : List Value} {m m' : PM} {off : Int} (hx : p.tables.exec = Jvm.exec) (hb : c.code = cc) (hd : decode cc pc = .ok (.ifCond .ne off, len)) (hl : iln (.ifCond .ne off) = 0 ∨ iln (.ifCond .ne off) = len) (hs : sx pT pM o rt pc L st m (.ifCond .ne off) = some (.inl (pc', L', st', m'))) (k : Gl p l e R s mth args below meth c Q D dA A WK ρ0 m0 nL pc' L' st' m') : Gl p l e R s mth args below meth c Q D dA A WK ρ0 m0 nL pc L st m := by
  intro ρ H locs ls iv
  obtain rfl : len = 3 := ln_of hl rfl
  rcases st with _ | ⟨v1, st⟩
  · exact nn hs
  · cases v1
    case int x =>
      obtain ⟨t, ht, hs⟩ := mso hs
      by_cases q : ¬ x = 0
      · obtain ⟨rfl, rfl, rfl, rfl⟩ := nxe ((if_pos (show cnd .ne x 0 = true from decide_eq_true q)).symm.trans hs)
        exact lv_if_ne hx hb hd (tgt_e ht) (fun _ => k ρ H locs ls (iv_st iv (lvc iv.2.2.1))) (fun h => absurd h q)
      · obtain ⟨rfl, rfl, rfl, rfl⟩ := nxe ((if_neg (show ¬ cnd .ne x 0 = true from fun z => q (of_decide_eq_true z))).symm.trans hs)
        exact lv_if_ne hx hb hd (tgt_e ht) (fun h => absurd h q) (fun _ => k ρ H locs ls (iv_st iv (lvc iv.2.2.1)))
    all_goals exact nn hs
theorem sim_icmp_ne {pc pc' : Nat} {L L' : PLs} {st st' : List Value} {m m' : PM} {off : Int} (hx : p.tables.exec = Jvm.exec) (hb : c.code = cc) (hd : decode cc pc = .ok (.if_icmp .ne off, len)) (hl : iln (.if_icmp .ne off) = 0 ∨ iln (.if_icmp .ne off) = len) (hs : sx pT pM o rt pc L st m (.if_icmp .ne off) = some (.inl (pc', L', st', m'))) (k : Gl p l e R s mth args below meth c Q D dA A WK ρ0 m0 nL pc' L' st' m') : Gl p l e R s mth args below meth c Q D dA A WK ρ0 m0 nL pc L st m := by
  intro ρ H locs ls iv
  obtain rfl : len = 3 := ln_of hl rfl
  rcases st with _ | ⟨v1, _ | ⟨v2, st⟩⟩
  · exact nn hs
  · cases v1 <;> exact nn hs
  · cases v1
    case int y =>
      cases v2
      case int x =>
        obtain ⟨t, ht, hs⟩ := mso hs
        by_cases q : ¬ x = y
        · obtain ⟨rfl, rfl, rfl, rfl⟩ := nxe ((if_pos (show cnd .ne x y = true from decide_eq_true q)).symm.trans hs)
          exact lv_icmp_ne hx hb hd (tgt_e ht) (fun _ => k ρ H locs ls (iv_st iv (lvc (lvc iv.2.2.1)))) (fun h => absurd h q)
        · obtain ⟨rfl, rfl, rfl, rfl⟩ := nxe ((if_neg (show ¬ cnd .ne x y = true from fun z => q (of_decide_eq_true z))).symm.trans hs)
          exact lv_icmp_ne hx hb hd (tgt_e ht) (fun h => absurd h q) (fun _ => k ρ H locs ls (iv_st iv (lvc (lvc iv.2.2.1))))
      all_goals exact nn hs
    all_goals exact nn hs
theorem sim_if_lt {pc pc' : Nat} {L L' : PLs} {st st' : List Value} {m m' : PM} {off : Int} (hx : p.tables.exec = Jvm.exec) (hb : c.code = cc) (hd : decode cc pc = .ok (.ifCond .lt off, len)) (hl : iln (.ifCond .lt off) = 0 ∨ iln (.ifCond .lt off) = len) (hs : sx pT pM o rt pc L st m (.ifCond .lt off) = some (.inl (pc', L', st', m'))) (k : Gl p l e R s mth args below meth c Q D dA A WK ρ0 m0 nL pc' L' st' m') : Gl p l e R s mth args below meth c Q D dA A WK ρ0 m0 nL pc L st m := by
  intro ρ H locs ls iv
  obtain rfl : len = 3 := ln_of hl rfl
  rcases st with _ | ⟨v1, st⟩
  · exact nn hs
  · cases v1
    case int x =>
      obtain ⟨t, ht, hs⟩ := mso hs
      by_cases q : x < 0
      · obtain ⟨rfl, rfl, rfl, rfl⟩ := nxe ((if_pos (show cnd .lt x 0 = true from decide_eq_true q)).symm.trans hs)
        exact lv_if_lt hx hb hd (tgt_e ht) (fun _ => k ρ H locs ls (iv_st iv (lvc iv.2.2.1))) (fun h => absurd q h)
      · obtain ⟨rfl, rfl, rfl, rfl⟩ := nxe ((if_neg (show ¬ cnd .lt x 0 = true from fun z => q (of_decide_eq_true z))).symm.trans hs)
        exact lv_if_lt hx hb hd (tgt_e ht) (fun h => absurd h q) (fun _ => k ρ H locs ls (iv_st iv (lvc iv.2.2.1)))
    all_goals exact nn hs
theorem sim_icmp_lt {pc pc' : Nat} {L L' : PLs} {st st' : List Value} {m m' : PM} {off : Int} (hx : p.tables.exec = Jvm.exec) (hb : c.code = cc) (hd : decode cc pc = .ok (.if_icmp .lt off, len)) (hl : iln (.if_icmp .lt off) = 0 ∨ iln (.if_icmp .lt off) = len) (hs : sx pT pM o rt pc L st m (.if_icmp .lt off) = some (.inl (pc', L', st', m'))) (k : Gl p l e R s mth args below meth c Q D dA A WK ρ0 m0 nL pc' L' st' m') : Gl p l e R s mth args below meth c Q D dA A WK ρ0 m0 nL pc L st m := by
  intro ρ H locs ls iv
  obtain rfl : len = 3 := ln_of hl rfl
  rcases st with _ | ⟨v1, _ | ⟨v2, st⟩⟩
  · exact nn hs
  · cases v1 <;> exact nn hs
  · cases v1
    case int y =>
      cases v2
      case int x =>
        obtain ⟨t, ht, hs⟩ := mso hs
        by_cases q : x < y
        · obtain ⟨rfl, rfl, rfl, rfl⟩ := nxe ((if_pos (show cnd .lt x y = true from decide_eq_true q)).symm.trans hs)
          exact lv_icmp_lt hx hb hd (tgt_e ht) (fun _ => k ρ H locs ls (iv_st iv (lvc (lvc iv.2.2.1)))) (fun h => absurd q h)
        · obtain ⟨rfl, rfl, rfl, rfl⟩ := nxe ((if_neg (show ¬ cnd .lt x y = true from fun z => q (of_decide_eq_true z))).symm.trans hs)
          exact lv_icmp_lt hx hb hd (tgt_e ht) (fun h => absurd h q) (fun _ => k ρ H locs ls (iv_st iv (lvc (lvc iv.2.2.1))))
      all_goals exact nn hs
    all_goals exact nn hs
theorem sim_if_ge {pc pc' : Nat} {L L' : PLs} {st st' : List Value} {m m' : PM} {off : Int} (hx : p.tables.exec = Jvm.exec) (hb : c.code = cc) (hd : decode cc pc = .ok (.ifCond .ge off, len)) (hl : iln (.ifCond .ge off) = 0 ∨ iln (.ifCond .ge off) = len) (hs : sx pT pM o rt pc L st m (.ifCond .ge off) = some (.inl (pc', L', st', m'))) (k : Gl p l e R s mth args below meth c Q D dA A WK ρ0 m0 nL pc' L' st' m') : Gl p l e R s mth args below meth c Q D dA A WK ρ0 m0 nL pc L st m := by
  intro ρ H locs ls iv
  obtain rfl : len = 3 := ln_of hl rfl
  rcases st with _ | ⟨v1, st⟩
  · exact nn hs
  · cases v1
    case int x =>
      obtain ⟨t, ht, hs⟩ := mso hs
      by_cases q : 0 ≤ x
      · obtain ⟨rfl, rfl, rfl, rfl⟩ := nxe ((if_pos (show cnd .ge x 0 = true from decide_eq_true q)).symm.trans hs)
        exact lv_if_ge hx hb hd (tgt_e ht) (fun _ => k ρ H locs ls (iv_st iv (lvc iv.2.2.1))) (fun h => absurd q h)
      · obtain ⟨rfl, rfl, rfl, rfl⟩ := nxe ((if_neg (show ¬ cnd .ge x 0 = true from fun z => q (of_decide_eq_true z))).symm.trans hs)
        exact lv_if_ge hx hb hd (tgt_e ht) (fun h => absurd h q) (fun _ => k ρ H locs ls (iv_st iv (lvc iv.2.2.1)))
    all_goals exact nn hs
theorem sim_icmp_ge {pc pc' : Nat} {L L' : PLs} {st st' : List Value} {m m' : PM} {off : Int} (hx : p.tables.exec = Jvm.exec) (hb : c.code = cc) (hd : decode cc pc = .ok (.if_icmp .ge off, len)) (hl : iln (.if_icmp .ge off) = 0 ∨ iln (.if_icmp .ge off) = len) (hs : sx pT pM o rt pc L st m (.if_icmp .ge off) = some (.inl (pc', L', st', m'))) (k : Gl p l e R s mth args below meth c Q D dA A WK ρ0 m0 nL pc' L' st' m') : Gl p l e R s mth args below meth c Q D dA A WK ρ0 m0 nL pc L st m := by
  intro ρ H locs ls iv
  obtain rfl : len = 3 := ln_of hl rfl
  rcases st with _ | ⟨v1, _ | ⟨v2, st⟩⟩
  · exact nn hs
  · cases v1 <;> exact nn hs
  · cases v1
    case int y =>
      cases v2
      case int x =>
        obtain ⟨t, ht, hs⟩ := mso hs
        by_cases q : y ≤ x
        · obtain ⟨rfl, rfl, rfl, rfl⟩ := nxe ((if_pos (show cnd .ge x y = true from decide_eq_true q)).symm.trans hs)
          exact lv_icmp_ge hx hb hd (tgt_e ht) (fun _ => k ρ H locs ls (iv_st iv (lvc (lvc iv.2.2.1)))) (fun h => absurd q h)
        · obtain ⟨rfl, rfl, rfl, rfl⟩ := nxe ((if_neg (show ¬ cnd .ge x y = true from fun z => q (of_decide_eq_true z))).symm.trans hs)
          exact lv_icmp_ge hx hb hd (tgt_e ht) (fun h => absurd h q) (fun _ => k ρ H locs ls (iv_st iv (lvc (lvc iv.2.2.1))))
      all_goals exact nn hs
    all_goals exact nn hs
theorem sim_if_gt {pc pc' : Nat} {L L' : PLs} {st st' : List Value} {m m' : PM} {off : Int} (hx : p.tables.exec = Jvm.exec) (hb : c.code = cc) (hd : decode cc pc = .ok (.ifCond .gt off, len)) (hl : iln (.ifCond .gt off) = 0 ∨ iln (.ifCond .gt off) = len) (hs : sx pT pM o rt pc L st m (.ifCond .gt off) = some (.inl (pc', L', st', m'))) (k : Gl p l e R s mth args below meth c Q D dA A WK ρ0 m0 nL pc' L' st' m') : Gl p l e R s mth args below meth c Q D dA A WK ρ0 m0 nL pc L st m := by
  intro ρ H locs ls iv
  obtain rfl : len = 3 := ln_of hl rfl
  rcases st with _ | ⟨v1, st⟩
  · exact nn hs
  · cases v1
    case int x =>
      obtain ⟨t, ht, hs⟩ := mso hs
      by_cases q : 0 < x
      · obtain ⟨rfl, rfl, rfl, rfl⟩ := nxe ((if_pos (show cnd .gt x 0 = true from decide_eq_true q)).symm.trans hs)
        exact lv_if_gt hx hb hd (tgt_e ht) (fun _ => k ρ H locs ls (iv_st iv (lvc iv.2.2.1))) (fun h => absurd q h)
      · obtain ⟨rfl, rfl, rfl, rfl⟩ := nxe ((if_neg (show ¬ cnd .gt x 0 = true from fun z => q (of_decide_eq_true z))).symm.trans hs)
        exact lv_if_gt hx hb hd (tgt_e ht) (fun h => absurd h q) (fun _ => k ρ H locs ls (iv_st iv (lvc iv.2.2.1)))
    all_goals exact nn hs
theorem sim_icmp_gt {pc pc' : Nat} {L L' : PLs} {st st' : List Value} {m m' : PM} {off : Int} (hx : p.tables.exec = Jvm.exec) (hb : c.code = cc) (hd : decode cc pc = .ok (.if_icmp .gt off, len)) (hl : iln (.if_icmp .gt off) = 0 ∨ iln (.if_icmp .gt off) = len) (hs : sx pT pM o rt pc L st m (.if_icmp .gt off) = some (.inl (pc', L', st', m'))) (k : Gl p l e R s mth args below meth c Q D dA A WK ρ0 m0 nL pc' L' st' m') : Gl p l e R s mth args below meth c Q D dA A WK ρ0 m0 nL pc L st m := by
  intro ρ H locs ls iv
  obtain rfl : len = 3 := ln_of hl rfl
  rcases st with _ | ⟨v1, _ | ⟨v2, st⟩⟩
  · exact nn hs
  · cases v1 <;> exact nn hs
  · cases v1
    case int y =>
      cases v2
      case int x =>
        obtain ⟨t, ht, hs⟩ := mso hs
        by_cases q : y < x
        · obtain ⟨rfl, rfl, rfl, rfl⟩ := nxe ((if_pos (show cnd .gt x y = true from decide_eq_true q)).symm.trans hs)
          exact lv_icmp_gt hx hb hd (tgt_e ht) (fun _ => k ρ H locs ls (iv_st iv (lvc (lvc iv.2.2.1)))) (fun h => absurd q h)
        · obtain ⟨rfl, rfl, rfl, rfl⟩ := nxe ((if_neg (show ¬ cnd .gt x y = true from fun z => q (of_decide_eq_true z))).symm.trans hs)
          exact lv_icmp_gt hx hb hd (tgt_e ht) (fun h => absurd h q) (fun _ => k ρ H locs ls (iv_st iv (lvc (lvc iv.2.2.1))))
      all_goals exact nn hs
    all_goals exact nn hs
theorem sim_if_le {pc pc' : Nat} {L L' : PLs} {st st' : List Value} {m m' : PM} {off : Int} (hx : p.tables.exec = Jvm.exec) (hb : c.code = cc) (hd : decode cc pc = .ok (.ifCond .le off, len)) (hl : iln (.ifCond .le off) = 0 ∨ iln (.ifCond .le off) = len) (hs : sx pT pM o rt pc L st m (.ifCond .le off) = some (.inl (pc', L', st', m'))) (k : Gl p l e R s mth args below meth c Q D dA A WK ρ0 m0 nL pc' L' st' m') : Gl p l e R s mth args below meth c Q D dA A WK ρ0 m0 nL pc L st m := by
  intro ρ H locs ls iv
  obtain rfl : len = 3 := ln_of hl rfl
  rcases st with _ | ⟨v1, st⟩
  · exact nn hs
  · cases v1
    case int x =>
      obtain ⟨t, ht, hs⟩ := mso hs
      by_cases q : x ≤ 0
      · obtain ⟨rfl, rfl, rfl, rfl⟩ := nxe ((if_pos (show cnd .le x 0 = true from decide_eq_true q)).symm.trans hs)
        exact lv_if_le hx hb hd (tgt_e ht) (fun _ => k ρ H locs ls (iv_st iv (lvc iv.2.2.1))) (fun h => absurd q h)
      · obtain ⟨rfl, rfl, rfl, rfl⟩ := nxe ((if_neg (show ¬ cnd .le x 0 = true from fun z => q (of_decide_eq_true z))).symm.trans hs)
        exact lv_if_le hx hb hd (tgt_e ht) (fun h => absurd h q) (fun _ => k ρ H locs ls (iv_st iv (lvc iv.2.2.1)))
    all_goals exact nn hs
theorem sim_icmp_le {pc pc' : Nat} {L L' : PLs} {st st' : List Value} {m m' : PM} {off : Int} (hx : p.tables.exec = Jvm.exec) (hb : c.code = cc) (hd : decode cc pc = .ok (.if_icmp .le off, len)) (hl : iln (.if_icmp .le off) = 0 ∨ iln (.if_icmp .le off) = len) (hs : sx pT pM o rt pc L st m (.if_icmp .le off) = some (.inl (pc', L', st', m'))) (k : Gl p l e R s mth args below meth c Q D dA A WK ρ0 m0 nL pc' L' st' m') : Gl p l e R s mth args below meth c Q D dA A WK ρ0 m0 nL pc L st m := by
  intro ρ H locs ls iv
  obtain rfl : len = 3 := ln_of hl rfl
  rcases st with _ | ⟨v1, _ | ⟨v2, st⟩⟩
  · exact nn hs
  · cases v1 <;> exact nn hs
  · cases v1
    case int y =>
      cases v2
      case int x =>
        obtain ⟨t, ht, hs⟩ := mso hs
        by_cases q : x ≤ y
        · obtain ⟨rfl, rfl, rfl, rfl⟩ := nxe ((if_pos (show cnd .le x y = true from decide_eq_true q)).symm.trans hs)
          exact lv_icmp_le hx hb hd (tgt_e ht) (fun _ => k ρ H locs ls (iv_st iv (lvc (lvc iv.2.2.1)))) (fun h => absurd q h)
        · obtain ⟨rfl, rfl, rfl, rfl⟩ := nxe ((if_neg (show ¬ cnd .le x y = true from fun z => q (of_decide_eq_true z))).symm.trans hs)
          exact lv_icmp_le hx hb hd (tgt_e ht) (fun h => absurd h q) (fun _ => k ρ H locs ls (iv_st iv (lvc (lvc iv.2.2.1))))
      all_goals exact nn hs
    all_goals exact nn hs
theorem sim_ifnull {pc pc' : Nat} {L L' : PLs} {st st' : List Value} {m m' : PM} {off : Int} (hx : p.tables.exec = Jvm.exec) (hb : c.code = cc) (hd : decode cc pc = .ok (.ifnull off, len)) (hl : iln (.ifnull off) = 0 ∨ iln (.ifnull off) = len) (hs : sx pT pM o rt pc L st m (.ifnull off) = some (.inl (pc', L', st', m'))) (k : Gl p l e R s mth args below meth c Q D dA A WK ρ0 m0 nL pc' L' st' m') : Gl p l e R s mth args below meth c Q D dA A WK ρ0 m0 nL pc L st m := by
  intro ρ H locs ls iv
  obtain rfl : len = 3 := ln_of hl rfl
  rcases st with _ | ⟨v1, st⟩
  · exact nn hs
  · cases v1
    case ref x =>
      obtain ⟨rfl, rfl, rfl, rfl⟩ := nxe hs
      exact lv_ifnull hx hb hd (k ρ H locs ls (iv_st iv (lvc iv.2.2.1)))
    case null =>
      obtain ⟨t, ht, hs⟩ := mso hs
      obtain ⟨rfl, rfl, rfl, rfl⟩ := nxe hs
      exact lv_ifnullN hx hb hd (tgt_e ht) (k ρ H locs ls (iv_st iv (lvc iv.2.2.1)))
    all_goals exact nn hs
theorem sim_ifnonnull {pc pc' : Nat} {L L' : PLs} {st st' : List Value} {m m' : PM} {off : Int} (hx : p.tables.exec = Jvm.exec) (hb : c.code = cc) (hd : decode cc pc = .ok (.ifnonnull off, len)) (hl : iln (.ifnonnull off) = 0 ∨ iln (.ifnonnull off) = len) (hs : sx pT pM o rt pc L st m (.ifnonnull off) = some (.inl (pc', L', st', m'))) (k : Gl p l e R s mth args below meth c Q D dA A WK ρ0 m0 nL pc' L' st' m') : Gl p l e R s mth args below meth c Q D dA A WK ρ0 m0 nL pc L st m := by
  intro ρ H locs ls iv
  obtain rfl : len = 3 := ln_of hl rfl
  rcases st with _ | ⟨v1, st⟩
  · exact nn hs
  · cases v1
    case null =>
      obtain ⟨rfl, rfl, rfl, rfl⟩ := nxe hs
      exact lv_ifnonnullN hx hb hd (k ρ H locs ls (iv_st iv (lvc iv.2.2.1)))
    case ref x =>
      obtain ⟨t, ht, hs⟩ := mso hs
      obtain ⟨rfl, rfl, rfl, rfl⟩ := nxe hs
      exact lv_ifnonnull hx hb hd (tgt_e ht) (k ρ H locs ls (iv_st iv (lvc iv.2.2.1)))
    all_goals exact nn hs
theorem sim_tableswitch {pc pc' : Nat} {L L' : PLs} {st st' : List Value} {m m' : PM} {df lo hi : Int} {offs : Array Int} (hx : p.tables.exec = Jvm.exec) (hb : c.code = cc) (hd : decode cc pc = .ok (.tableswitch df lo hi offs, len)) (hl : iln (.tableswitch df lo hi offs) = 0 ∨ iln (.tableswitch df lo hi offs) = len) (hs : sx pT pM o rt pc L st m (.tableswitch df lo hi offs) = some (.inl (pc', L', st', m'))) (k : Gl p l e R s mth args below meth c Q D dA A WK ρ0 m0 nL pc' L' st' m') : Gl p l e R s mth args below meth c Q D dA A WK ρ0 m0 nL pc L st m := by
  intro ρ H locs ls iv
  rcases st with _ | ⟨v1, st⟩
  · exact nn hs
  · cases v1
    case int x =>
      by_cases q : x.toInt < lo ∨ hi < x.toInt
      · obtain ⟨t, ht, hs⟩ := mso ((if_pos q).symm.trans hs)
        obtain ⟨rfl, rfl, rfl, rfl⟩ := nxe hs
        exact lv_tableOut hx hb hd q (tgt_e ht) (k ρ H locs ls (iv_st iv (lvc iv.2.2.1)))
      · obtain ⟨off, ho, hs⟩ := mso ((if_neg q).symm.trans hs)
        obtain ⟨t, ht, hs⟩ := mso hs
        obtain ⟨rfl, rfl, rfl, rfl⟩ := nxe hs
        exact lv_tableIn hx hb hd (fun z => q (Or.inl z)) (fun z => q (Or.inr z)) ho (tgt_e ht) (k ρ H locs ls (iv_st iv (lvc iv.2.2.1)))
    all_goals exact nn hs
theorem sim_lookupswitch {pc pc' : Nat} {L L' : PLs} {st st' : List Value} {m m' : PM} {df : Int} {ps : Array (Int × Int)} (hx : p.tables.exec = Jvm.exec) (hb : c.code = cc) (hd : decode cc pc = .ok (.lookupswitch df ps, len)) (hl : iln (.lookupswitch df ps) = 0 ∨ iln (.lookupswitch df ps) = len) (hs : sx pT pM o rt pc L st m (.lookupswitch df ps) = some (.inl (pc', L', st', m'))) (k : Gl p l e R s mth args below meth c Q D dA A WK ρ0 m0 nL pc' L' st' m') : Gl p l e R s mth args below meth c Q D dA A WK ρ0 m0 nL pc L st m := by
  intro ρ H locs ls iv
  rcases st with _ | ⟨v1, st⟩
  · exact nn hs
  · cases v1
    case int x =>
      obtain ⟨q, hs⟩ := its hs
      obtain ⟨t, ht, hs⟩ := mso hs
      obtain ⟨rfl, rfl, rfl, rfl⟩ := nxe hs
      exact lv_lookup hx hb hd q rfl (tgt_e ht) (k ρ H locs ls (iv_st iv (lvc iv.2.2.1)))
    all_goals exact nn hs
end SIM
