/-! SOUNDNESS: arrays -/
theorem up_I {dA : Nat → ClassId} {ρ : Nat → Nat} {m : PM} {a k : Nat} {x : Int32} (hk : 100 ≤ gK m a ∧ gK m a ≤ 102) : wsW dA ρ (sI m a k x) = (wsW dA ρ m).set a (ρ a, .inl (dA (kar (gK m a)), gN m a, .inl (upd (gI m a) k x))) := by
  have hE : eE dA ρ (sI m a k x) a = .inl (dA (kar (gK m a)), gN m a, .inl (upd (gI m a) k x)) := by
    rw [eE_arr (by rw [gK_sI]; exact hk.1), gK_sI, gN_sI]
    congr 3
    unfold cnt
    rw [if_pos (by unfold kar; rw [if_neg (by omega), if_neg (by omega)]; omega)]
    congr 1
    funext j
    rw [gI_sI]
    unfold upd
    by_cases e : j = k
    · rw [if_pos ⟨rfl, e⟩, if_pos e]
    · rw [if_neg (fun z => e z.2), if_neg e]
  rw [← hE]
  exact wsW_set rfl (fun b _ hb => eE_cong rfl rfl (fun i => by rw [gI_sI, if_neg (fun z => hb z.1)]) (fun _ => rfl) (fun _ => rfl))
theorem up_J {dA : Nat → ClassId} {ρ : Nat → Nat} {m : PM} {a k : Nat} {x : Int64} (hk : gK m a = 103) : wsW dA ρ (sJ m a k x) = (wsW dA ρ m).set a (ρ a, .inl (dA 3, gN m a, .inr (.inl (vp_updL (gJ m a) k x)))) := by
  have hE : eE dA ρ (sJ m a k x) a = .inl (dA 3, gN m a, .inr (.inl (vp_updL (gJ m a) k x))) := by
    rw [eE_arr (by rw [gK_sJ]; omega), gK_sJ, gN_sJ, hk]
    show Sum.inl (dA 3, gN m a, Sum.inr (Sum.inl (gJ (sJ m a k x) a))) = _
    congr 5
    funext j
    rw [gJ_sJ]
    unfold vp_updL
    by_cases e : j = k
    · rw [if_pos ⟨rfl, e⟩, if_pos e]
    · rw [if_neg (fun z => e z.2), if_neg e]
  rw [← hE]
  exact wsW_set rfl (fun b _ hb => eE_cong rfl rfl (fun _ => rfl) (fun i => by rw [gJ_sJ, if_neg (fun z => hb z.1)]) (fun _ => rfl))
theorem up_R {dA : Nat → ClassId} {ρ : Nat → Nat} {m : PM} {a k b : Nat} (hk : 104 ≤ gK m a ∧ gK m a ≤ 107) : wsW dA ρ (sR m a k (some b)) = (wsW dA ρ m).set a (ρ a, .inl (dA (kar (gK m a)), gN m a, .inr (.inr (.inr (.inr (va_up (fun k => (gR m a k).map ρ) k (some (ρ b)))))))) := by
  have hE : eE dA ρ (sR m a k (some b)) a = .inl (dA (kar (gK m a)), gN m a, .inr (.inr (.inr (.inr (va_up (fun k => (gR m a k).map ρ) k (some (ρ b))))))) := by
    rw [eE_arr (by rw [gK_sR]; omega), gK_sR, gN_sR]
    congr 3
    unfold cnt
    have hka : kar (gK m a) = gK m a - 100 := by unfold kar; rw [if_neg (by omega), if_neg (by omega)]
    rw [hka, if_neg (by omega), if_neg (by omega)]
    congr 4
    funext j
    rw [gR_sR]
    unfold va_up
    by_cases e : j = k
    · rw [if_pos ⟨rfl, e⟩, if_pos e]; rfl
    · rw [if_neg (fun z => e z.2), if_neg e]
  rw [← hE]
  exact wsW_set rfl (fun b _ hb => eE_cong rfl rfl (fun _ => rfl) (fun _ => rfl) (fun i => by rw [gR_sR, if_neg (fun z => hb z.1)]))
section ARR
variable {p : Program} {l : Launch} {e : Env} {R : Room} {s : State} {mth : MethodId} {args : Array Value} {below : List Frame} {meth : Method} {c : Code} {Q : State → Prop}
variable {D : va_G} {dA : Nat → ClassId} {A : Nat → Prop} {WK : va_W} {ρ0 : Nat → Nat} {m0 : PM} {nL o : Nat} {cc : ByteArray} {rt : Option FieldType} {len : Nat}
theorem lt_of_lv {m : PM} (hW : Wf m) {a : Nat} (h : lvI m a) (h1 : gK m a ≠ 50) (h2 : gK m a ≠ 201 ∧ gK m a ≠ 200) : a < gX m := by
  rcases h with h | h
  · exact h
  · rcases hW.2.2.2.1 a h with q | q | q
    · exact absurd q h1
    · exact absurd q h2.1
    · exact absurd q h2.2
theorem ne_cs {m : PM} (hW : Wf m) {a b : Nat} (h : a < gX m) (hb : b ∈ csL) : b ≠ a := Nat.ne_of_gt (Nat.lt_of_lt_of_le h (Nat.le_trans hW.1 (csL_ge hb)))
theorem iv_I {ρ : Nat → Nat} {m : PM} {L : PLs} {st st' : List Value} {H H1 : Heap} {locs locs1 : List Loc} {ls : Array Slot} {a k : Nat} {x : Int32} (h : Iv D dA A WK s ρ0 m0 nL ρ m L st H locs ls) (hlt : a < gX m) (hP : va_P D clL (wsW dA ρ (sI m a k x)) H1) (hD : va_D A (wsW dA ρ (sI m a k x))) (hS : va_S A s.heap H1 locs1) (hst : ∀ v ∈ st', lvV m v) : Iv D dA A WK s ρ0 m0 nL ρ (sI m a k x) L st' H1 locs1 ls :=
  iv_upd h rfl rfl (fun _ => rfl) (fun b hb => eE_cong rfl rfl (fun i => by rw [gI_sI, if_neg (fun z => ne_cs h.1.2.2.2.2 hlt hb z.1)]) (fun _ => rfl) (fun _ => rfl)) (fun b i y hy => h.1.2.2.2.2.2.2.2.2 b i y hy) hP hD hS hst
theorem iv_J {ρ : Nat → Nat} {m : PM} {L : PLs} {st st' : List Value} {H H1 : Heap} {locs locs1 : List Loc} {ls : Array Slot} {a k : Nat} {x : Int64} (h : Iv D dA A WK s ρ0 m0 nL ρ m L st H locs ls) (hlt : a < gX m) (hP : va_P D clL (wsW dA ρ (sJ m a k x)) H1) (hD : va_D A (wsW dA ρ (sJ m a k x))) (hS : va_S A s.heap H1 locs1) (hst : ∀ v ∈ st', lvV m v) : Iv D dA A WK s ρ0 m0 nL ρ (sJ m a k x) L st' H1 locs1 ls :=
  iv_upd h rfl rfl (fun _ => rfl) (fun b hb => eE_cong rfl rfl (fun _ => rfl) (fun i => by rw [gJ_sJ, if_neg (fun z => ne_cs h.1.2.2.2.2 hlt hb z.1)]) (fun _ => rfl)) (fun b i y hy => h.1.2.2.2.2.2.2.2.2 b i y hy) hP hD hS hst
theorem iv_R {ρ : Nat → Nat} {m : PM} {L : PLs} {st st' : List Value} {H H1 : Heap} {locs locs1 : List Loc} {ls : Array Slot} {a k b0 : Nat} (h : Iv D dA A WK s ρ0 m0 nL ρ m L st H locs ls) (hlt : a < gX m) (hb0 : lvI m b0) (hP : va_P D clL (wsW dA ρ (sR m a k (some b0))) H1) (hD : va_D A (wsW dA ρ (sR m a k (some b0)))) (hS : va_S A s.heap H1 locs1) (hst : ∀ v ∈ st', lvV m v) : Iv D dA A WK s ρ0 m0 nL ρ (sR m a k (some b0)) L st' H1 locs1 ls :=
  iv_upd h rfl rfl (fun _ => rfl) (fun b hb => eE_cong rfl rfl (fun _ => rfl) (fun _ => rfl) (fun i => by rw [gR_sR, if_neg (fun z => ne_cs h.1.2.2.2.2 hlt hb z.1)])) (fun b i y hy => by
    rw [gR_sR] at hy
    by_cases q : b = a ∧ i = k
    · rw [if_pos q] at hy; cases hy; exact hb0
    · rw [if_neg q] at hy; exact h.1.2.2.2.2.2.2.2.2 b i y hy) hP hD hS hst
theorem sim_iaload {pc pc' : Nat} {L L' : PLs} {st st' : List Value} {m m' : PM} (hx : p.tables.exec = Jvm.exec) (hb : c.code = cc) (hK : va_K D clL (tyL dA) s) (hKP : va_P D clL WK s.heap) (hKA : ∀ (k : Nat) (q : Nat × va_E), WK[k]? = some q → ¬ A q.1) (hd : decode cc pc = .ok (.iaload, len)) (hl : iln .iaload = 0 ∨ iln .iaload = len) (hs : sx pT pM o rt pc L st m .iaload = some (.inl (pc', L', st', m'))) (k : Gl p l e R s mth args below meth c Q D dA A WK ρ0 m0 nL pc' L' st' m') : Gl p l e R s mth args below meth c Q D dA A WK ρ0 m0 nL pc L st m := by
  intro ρ H locs ls iv
  obtain rfl : len = 1 := ln_of hl rfl
  rcases st with _ | ⟨v1, _ | ⟨v2, st⟩⟩
  · exact nn hs
  · cases v1 <;> exact nn hs
  · cases v1
    case int i =>
      cases v2
      case ref a =>
        obtain ⟨⟨hk, hin⟩, hs⟩ := its hs
        obtain ⟨rfl, rfl, rfl, rfl⟩ := nxe hs
        obtain ⟨ws', q0, hP', he⟩ := rdW iv.1.1 iv.1.2.2.1 iv.1.2.2.2.1 hKP hKA (lvh (lvc iv.2.2.1))
        have he : ws'[q0]? = some (ρ a, .inl (dA 0, gN m a, .inl (gI m a))) := by
          rw [eE_arr (by omega)] at he
          rcases hk with hk | hk
          · rw [hk] at he; exact he
          · rw [hk] at he; exact he
        exact va_iald hx hb hK hP' q0 0 he rfl hin hd (k ρ H locs ls (iv_st iv (lvn trivial (lvc (lvc iv.2.2.1)))))
      all_goals exact nn hs
    all_goals exact nn hs
theorem sim_laload {pc pc' : Nat} {L L' : PLs} {st st' : List Value} {m m' : PM} (hx : p.tables.exec = Jvm.exec) (hb : c.code = cc) (hK : va_K D clL (tyL dA) s) (hKP : va_P D clL WK s.heap) (hKA : ∀ (k : Nat) (q : Nat × va_E), WK[k]? = some q → ¬ A q.1) (hd : decode cc pc = .ok (.laload, len)) (hl : iln .laload = 0 ∨ iln .laload = len) (hs : sx pT pM o rt pc L st m .laload = some (.inl (pc', L', st', m'))) (k : Gl p l e R s mth args below meth c Q D dA A WK ρ0 m0 nL pc' L' st' m') : Gl p l e R s mth args below meth c Q D dA A WK ρ0 m0 nL pc L st m := by
  intro ρ H locs ls iv
  obtain rfl : len = 1 := ln_of hl rfl
  rcases st with _ | ⟨v1, _ | ⟨v2, st⟩⟩
  · exact nn hs
  · cases v1 <;> exact nn hs
  · cases v1
    case int i =>
      cases v2
      case ref a =>
        obtain ⟨⟨hk, hin⟩, hs⟩ := its hs
        obtain ⟨rfl, rfl, rfl, rfl⟩ := nxe hs
        obtain ⟨ws', q0, hP', he⟩ := rdW iv.1.1 iv.1.2.2.1 iv.1.2.2.2.1 hKP hKA (lvh (lvc iv.2.2.1))
        rw [eE_arr (by omega), hk] at he
        have he : ws'[q0]? = some (ρ a, .inl (dA 3, gN m a, .inr (.inl (gJ m a)))) := he
        exact va_lald hx hb hK hP' q0 3 he rfl hin hd (k ρ H locs ls (iv_st iv (lvn trivial (lvc (lvc iv.2.2.1)))))
      all_goals exact nn hs
    all_goals exact nn hs
theorem sim_baload {pc pc' : Nat} {L L' : PLs} {st st' : List Value} {m m' : PM} (hx : p.tables.exec = Jvm.exec) (hb : c.code = cc) (hK : va_K D clL (tyL dA) s) (hKP : va_P D clL WK s.heap) (hKA : ∀ (k : Nat) (q : Nat × va_E), WK[k]? = some q → ¬ A q.1) (hd : decode cc pc = .ok (.baload, len)) (hl : iln .baload = 0 ∨ iln .baload = len) (hs : sx pT pM o rt pc L st m .baload = some (.inl (pc', L', st', m'))) (k : Gl p l e R s mth args below meth c Q D dA A WK ρ0 m0 nL pc' L' st' m') : Gl p l e R s mth args below meth c Q D dA A WK ρ0 m0 nL pc L st m := by
  intro ρ H locs ls iv
  obtain rfl : len = 1 := ln_of hl rfl
  rcases st with _ | ⟨v1, _ | ⟨v2, st⟩⟩
  · exact nn hs
  · cases v1 <;> exact nn hs
  · cases v1
    case int i =>
      cases v2
      case ref a =>
        obtain ⟨⟨hk, hin⟩, hs⟩ := its hs
        obtain ⟨rfl, rfl, rfl, rfl⟩ := nxe hs
        obtain ⟨ws', q0, hP', he⟩ := rdW iv.1.1 iv.1.2.2.1 iv.1.2.2.2.1 hKP hKA (lvh (lvc iv.2.2.1))
        rw [eE_arr (by omega)] at he
        have k1 := k ρ H locs ls (iv_st iv (lvn trivial (lvc (lvc iv.2.2.1))))
        rcases hk with hk | hk | hk
        · rw [hk] at he
          have he : ws'[q0]? = some (ρ a, .inl (dA 1, gN m a, .inl (gI m a))) := he
          exact va_bald hx hb hK hP' q0 1 he rfl hin hd k1
        · rw [hk] at he
          have he : ws'[q0]? = some (ρ a, .inl (dA 2, gN m a, .inl (gI m a))) := he
          exact va_zald hx hb hK hP' q0 2 he rfl hin hd k1
        · rw [hk] at he
          have he : ws'[q0]? = some (ρ a, .inl (dA 1, gN m a, .inl (gI m a))) := he
          exact va_bald hx hb hK hP' q0 1 he rfl hin hd k1
      all_goals exact nn hs
    all_goals exact nn hs
theorem sim_aaload {pc pc' : Nat} {L L' : PLs} {st st' : List Value} {m m' : PM} (hx : p.tables.exec = Jvm.exec) (hb : c.code = cc) (hK : va_K D clL (tyL dA) s) (hKP : va_P D clL WK s.heap) (hKA : ∀ (k : Nat) (q : Nat × va_E), WK[k]? = some q → ¬ A q.1) (hd : decode cc pc = .ok (.aaload, len)) (hl : iln .aaload = 0 ∨ iln .aaload = len) (hs : sx pT pM o rt pc L st m .aaload = some (.inl (pc', L', st', m'))) (k : Gl p l e R s mth args below meth c Q D dA A WK ρ0 m0 nL pc' L' st' m') : Gl p l e R s mth args below meth c Q D dA A WK ρ0 m0 nL pc L st m := by
  intro ρ H locs ls iv
  obtain rfl : len = 1 := ln_of hl rfl
  rcases st with _ | ⟨v1, _ | ⟨v2, st⟩⟩
  · exact nn hs
  · cases v1 <;> exact nn hs
  · cases v1
    case int i =>
      cases v2
      case ref a =>
        obtain ⟨⟨hk, hin⟩, hs⟩ := its hs
        obtain ⟨rfl, rfl, rfl, rfl⟩ := nxe hs
        obtain ⟨ws', q0, hP', he⟩ := rdW iv.1.1 iv.1.2.2.1 iv.1.2.2.2.1 hKP hKA (lvh (lvc iv.2.2.1))
        rw [eE_arr (by omega)] at he
        have hv : lvV m (va_rf (gR m a i.toNatClampNeg)) := by
          cases h : gR m a i.toNatClampNeg with
          | none => trivial
          | some x => exact iv.1.2.2.2.2.2.2.2.2 _ _ _ h
        have k1 := k ρ H locs ls (iv_st iv (lvn hv (lvc (lvc iv.2.2.1))))
        have k1 : W p l e R s mth args below meth c H locs (gX m - gX m0) (gS m - gS m0) Q (F0 mth (pc + 1) ls (va_rf ((gR m a i.toNatClampNeg).map ρ) :: st.map (cv ρ))) := by rw [← cv_rf]; exact k1
        have hk4 : gK m a = 104 ∨ gK m a = 105 ∨ gK m a = 106 ∨ gK m a = 107 := by omega
        rcases hk4 with hk | hk | hk | hk
        · rw [hk] at he
          have he : ws'[q0]? = some (ρ a, .inl (dA 4, gN m a, .inr (.inr (.inr (.inr (fun k => (gR m a k).map ρ)))))) := he
          exact va_aldq hx hb hK hP' q0 4 he rfl hin hd k1
        · rw [hk] at he
          have he : ws'[q0]? = some (ρ a, .inl (dA 5, gN m a, .inr (.inr (.inr (.inr (fun k => (gR m a k).map ρ)))))) := he
          exact va_aldq hx hb hK hP' q0 5 he rfl hin hd k1
        · rw [hk] at he
          have he : ws'[q0]? = some (ρ a, .inl (dA 6, gN m a, .inr (.inr (.inr (.inr (fun k => (gR m a k).map ρ)))))) := he
          exact va_aldq hx hb hK hP' q0 6 he rfl hin hd k1
        · rw [hk] at he
          have he : ws'[q0]? = some (ρ a, .inl (dA 7, gN m a, .inr (.inr (.inr (.inr (fun k => (gR m a k).map ρ)))))) := he
          exact va_aldq hx hb hK hP' q0 7 he rfl hin hd k1
      all_goals exact nn hs
    all_goals exact nn hs
theorem sim_arraylength {pc pc' : Nat} {L L' : PLs} {st st' : List Value} {m m' : PM} (hx : p.tables.exec = Jvm.exec) (hb : c.code = cc) (hK : va_K D clL (tyL dA) s) (hKP : va_P D clL WK s.heap) (hKA : ∀ (k : Nat) (q : Nat × va_E), WK[k]? = some q → ¬ A q.1) (hd : decode cc pc = .ok (.arraylength, len)) (hl : iln .arraylength = 0 ∨ iln .arraylength = len) (hs : sx pT pM o rt pc L st m .arraylength = some (.inl (pc', L', st', m'))) (k : Gl p l e R s mth args below meth c Q D dA A WK ρ0 m0 nL pc' L' st' m') : Gl p l e R s mth args below meth c Q D dA A WK ρ0 m0 nL pc L st m := by
  intro ρ H locs ls iv
  obtain rfl : len = 1 := ln_of hl rfl
  rcases st with _ | ⟨v1, st⟩
  · exact nn hs
  · cases v1
    case ref a =>
      obtain ⟨hk, hs⟩ := its hs
      obtain ⟨rfl, rfl, rfl, rfl⟩ := nxe hs
      have hlv : lvI m a := lvh iv.2.2.1
      obtain ⟨ws', q0, hP', he⟩ := rdW iv.1.1 iv.1.2.2.1 iv.1.2.2.2.1 hKP hKA hlv
      rw [eE_arr hk] at he
      have hka : kar (gK m a) < 8 := by
        unfold kar
        have := kd iv.1.2.2.2.2 hlv
        unfold vK at this
        by_cases q : gK m a = 201
        · rw [if_pos q]; omega
        · rw [if_neg q]
          by_cases q2 : gK m a = 200
          · rw [if_pos q2]; omega
          · rw [if_neg q2]; omega
      have ht : ∃ ty, (tyL dA)[kar (gK m a)]? = some (dA (kar (gK m a)), ty) := by
        have h8 : ∀ t, t < 8 → ∃ ty, (tyL dA)[t]? = some (dA t, ty) := by
          intro t ht
          have : t = 0 ∨ t = 1 ∨ t = 2 ∨ t = 3 ∨ t = 4 ∨ t = 5 ∨ t = 6 ∨ t = 7 := by omega
          rcases this with h | h | h | h | h | h | h | h <;> subst h <;> exact ⟨_, rfl⟩
        exact h8 _ hka
      obtain ⟨ty, ht⟩ := ht
      exact va_alen hx hb hK hP' q0 _ he ht rfl hd (k ρ H locs ls (iv_st iv (lvn trivial (lvc iv.2.2.1))))
    all_goals exact nn hs
theorem sim_iastore {pc pc' : Nat} {L L' : PLs} {st st' : List Value} {m m' : PM} (hx : p.tables.exec = Jvm.exec) (hb : c.code = cc) (hK : va_K D clL (tyL dA) s) (hd : decode cc pc = .ok (.iastore, len)) (hl : iln .iastore = 0 ∨ iln .iastore = len) (hs : sx pT pM o rt pc L st m .iastore = some (.inl (pc', L', st', m'))) (k : Gl p l e R s mth args below meth c Q D dA A WK ρ0 m0 nL pc' L' st' m') : Gl p l e R s mth args below meth c Q D dA A WK ρ0 m0 nL pc L st m := by
  intro ρ H locs ls iv
  obtain rfl : len = 1 := ln_of hl rfl
  rcases st with _ | ⟨v1, _ | ⟨v2, _ | ⟨v3, st⟩⟩⟩
  · exact nn hs
  · cases v1 <;> exact nn hs
  · cases v1 <;> cases v2 <;> exact nn hs
  · cases v1
    case int x =>
      cases v2
      case int i =>
        cases v3
        case ref a =>
          obtain ⟨⟨hk, hin⟩, hs⟩ := its hs
          obtain ⟨rfl, rfl, rfl, rfl⟩ := nxe hs
          have hlt := lt_of_lv iv.1.2.2.2.2 (lvh (lvc (lvc iv.2.2.1))) (by omega) (by omega)
          have he := wsW_at (dA := dA) (ρ := ρ) hlt
          rw [eE_arr (by omega), hk] at he
          have he : (wsW dA ρ m)[a]? = some (ρ a, .inl (dA 0, gN m a, .inl (gI m a))) := he
          have hup := up_I (dA := dA) (ρ := ρ) (m := m) (a := a) (k := i.toNatClampNeg) (x := x) (by omega)
          rw [hk] at hup
          refine va_iast hx hb hK iv.1.1 iv.1.2.1 iv.1.2.2.1 a 0 he rfl hin hd (fun H1 locs1 hP1 hD1 hS1 => ?_)
          exact k ρ H1 locs1 ls (iv_I iv hlt (by rw [hup]; exact hP1) (by rw [hup]; exact hD1) hS1 (lvc (lvc (lvc iv.2.2.1))))
        all_goals exact nn hs
      all_goals exact nn hs
    all_goals exact nn hs
theorem sim_lastore {pc pc' : Nat} {L L' : PLs} {st st' : List Value} {m m' : PM} (hx : p.tables.exec = Jvm.exec) (hb : c.code = cc) (hK : va_K D clL (tyL dA) s) (hd : decode cc pc = .ok (.lastore, len)) (hl : iln .lastore = 0 ∨ iln .lastore = len) (hs : sx pT pM o rt pc L st m .lastore = some (.inl (pc', L', st', m'))) (k : Gl p l e R s mth args below meth c Q D dA A WK ρ0 m0 nL pc' L' st' m') : Gl p l e R s mth args below meth c Q D dA A WK ρ0 m0 nL pc L st m := by
  intro ρ H locs ls iv
  obtain rfl : len = 1 := ln_of hl rfl
  rcases st with _ | ⟨v1, _ | ⟨v2, _ | ⟨v3, st⟩⟩⟩
  · exact nn hs
  · cases v1 <;> exact nn hs
  · cases v1 <;> cases v2 <;> exact nn hs
  · cases v1
    case long x =>
      cases v2
      case int i =>
        cases v3
        case ref a =>
          obtain ⟨⟨hk, hin⟩, hs⟩ := its hs
          obtain ⟨rfl, rfl, rfl, rfl⟩ := nxe hs
          have hlt := lt_of_lv iv.1.2.2.2.2 (lvh (lvc (lvc iv.2.2.1))) (by omega) (by omega)
          have he := wsW_at (dA := dA) (ρ := ρ) hlt
          rw [eE_arr (by omega), hk] at he
          have he : (wsW dA ρ m)[a]? = some (ρ a, .inl (dA 3, gN m a, .inr (.inl (gJ m a)))) := he
          have hup := up_J (dA := dA) (ρ := ρ) (m := m) (a := a) (k := i.toNatClampNeg) (x := x) hk
          refine va_last hx hb hK iv.1.1 iv.1.2.1 iv.1.2.2.1 a 3 he rfl hin hd (fun H1 locs1 hP1 hD1 hS1 => ?_)
          exact k ρ H1 locs1 ls (iv_J iv hlt (by rw [hup]; exact hP1) (by rw [hup]; exact hD1) hS1 (lvc (lvc (lvc iv.2.2.1))))
        all_goals exact nn hs
      all_goals exact nn hs
    all_goals exact nn hs
theorem sim_bastore {pc pc' : Nat} {L L' : PLs} {st st' : List Value} {m m' : PM} (hx : p.tables.exec = Jvm.exec) (hb : c.code = cc) (hK : va_K D clL (tyL dA) s) (hd : decode cc pc = .ok (.bastore, len)) (hl : iln .bastore = 0 ∨ iln .bastore = len) (hs : sx pT pM o rt pc L st m .bastore = some (.inl (pc', L', st', m'))) (k : Gl p l e R s mth args below meth c Q D dA A WK ρ0 m0 nL pc' L' st' m') : Gl p l e R s mth args below meth c Q D dA A WK ρ0 m0 nL pc L st m := by
  intro ρ H locs ls iv
  obtain rfl : len = 1 := ln_of hl rfl
  rcases st with _ | ⟨v1, _ | ⟨v2, _ | ⟨v3, st⟩⟩⟩
  · exact nn hs
  · cases v1 <;> exact nn hs
  · cases v1 <;> cases v2 <;> exact nn hs
  · cases v1
    case int x =>
      cases v2
      case int i =>
        cases v3
        case ref a =>
          have hs : (if gK m a = 101 ∧ ¬ (i < 0 ∨ gN m a ≤ i.toNatClampNeg) then nx (pc + 1) L st (sI m a i.toNatClampNeg x.toInt8.toInt32) else if (gK m a = 102 ∧ (x = 0 ∨ x = 1)) ∧ ¬ (i < 0 ∨ gN m a ≤ i.toNatClampNeg) then nx (pc + 1) L st (sI m a i.toNatClampNeg x) else none) = some (.inl (pc', L', st', m')) := hs
          by_cases q : gK m a = 101 ∧ ¬ (i < 0 ∨ gN m a ≤ i.toNatClampNeg)
          · rw [if_pos q] at hs
            obtain ⟨hk, hin⟩ := q
            obtain ⟨rfl, rfl, rfl, rfl⟩ := nxe hs
            have hlt := lt_of_lv iv.1.2.2.2.2 (lvh (lvc (lvc iv.2.2.1))) (by omega) (by omega)
            have he := wsW_at (dA := dA) (ρ := ρ) hlt
            rw [eE_arr (by omega), hk] at he
            have he : (wsW dA ρ m)[a]? = some (ρ a, .inl (dA 1, gN m a, .inl (gI m a))) := he
            have hup := up_I (dA := dA) (ρ := ρ) (m := m) (a := a) (k := i.toNatClampNeg) (x := x.toInt8.toInt32) (by omega)
            rw [hk] at hup
            refine va_bast hx hb hK iv.1.1 iv.1.2.1 iv.1.2.2.1 a 1 he rfl hin hd (fun H1 locs1 hP1 hD1 hS1 => ?_)
            rw [vp_nar_byte] at hP1 hD1
            exact k ρ H1 locs1 ls (iv_I iv hlt (by rw [hup]; exact hP1) (by rw [hup]; exact hD1) hS1 (lvc (lvc (lvc iv.2.2.1))))
          · rw [if_neg q] at hs
            obtain ⟨⟨⟨hk, hx01⟩, hin⟩, hs⟩ := its hs
            obtain ⟨rfl, rfl, rfl, rfl⟩ := nxe hs
            have hlt := lt_of_lv iv.1.2.2.2.2 (lvh (lvc (lvc iv.2.2.1))) (by omega) (by omega)
            have he := wsW_at (dA := dA) (ρ := ρ) hlt
            rw [eE_arr (by omega), hk] at he
            have he : (wsW dA ρ m)[a]? = some (ρ a, .inl (dA 2, gN m a, .inl (gI m a))) := he
            have hup := up_I (dA := dA) (ρ := ρ) (m := m) (a := a) (k := i.toNatClampNeg) (x := x) (by omega)
            rw [hk] at hup
            refine va_zast hx hb hK iv.1.1 iv.1.2.1 iv.1.2.2.1 a 2 he rfl hin hd (fun H1 locs1 hP1 hD1 hS1 => ?_)
            have hn : vp_nar .boolean x = x := by rcases hx01 with h | h <;> subst h <;> rfl
            rw [hn] at hP1 hD1
            exact k ρ H1 locs1 ls (iv_I iv hlt (by rw [hup]; exact hP1) (by rw [hup]; exact hD1) hS1 (lvc (lvc (lvc iv.2.2.1))))
        all_goals exact nn hs
      all_goals exact nn hs
    all_goals exact nn hs
end ARR
