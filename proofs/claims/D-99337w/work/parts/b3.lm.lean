section SXI
variable {o : Nat} {rt : Option FieldType} {pc : Nat} {L : PLs} {st : List Value} {m : PM}
/-- a call is a call, or stuck -/
theorem ob_kx {α : Type} {q : Option α} {f : α → Option PAct} {P : Option PAct → Prop} (h0 : P none) (h : ∀ a, P (f a)) : P (ob q f) := by
  cases q with
  | none => exact h0
  | some a => exact h a
theorem sx_inv_nx {i : Instr} (hi : (∃ k, i = .invokestatic k) ∨ ∃ k, i = .invokevirtual k) {pc' : Nat} {L' : PLs} {st' : List Value} {m' : PM} : sx pT pM o rt pc L st m i ≠ nx pc' L' st' m' := by
  rcases hi with ⟨k, rfl⟩ | ⟨k, rfl⟩
  · show ob _ _ ≠ _
    exact ob_kx (P := fun z => z ≠ nx pc' L' st' m') (fun z => by cases z) (fun a z => by cases z)
  · show ob _ _ ≠ _
    exact ob_kx (P := fun z => z ≠ nx pc' L' st' m') (fun z => by cases z) (fun a => ob_kx (P := fun z => z ≠ nx pc' L' st' m') (fun z => by cases z) (fun a => ob_kx (P := fun z => z ≠ nx pc' L' st' m') (fun z => by cases z) (fun a z => by cases z)))
theorem sx_inv_rx {i : Instr} (hi : (∃ k, i = .invokestatic k) ∨ ∃ k, i = .invokevirtual k) {v : Option Value} {m' : PM} : sx pT pM o rt pc L st m i ≠ rx 0 v m' := by
  rcases hi with ⟨k, rfl⟩ | ⟨k, rfl⟩
  · show ob _ _ ≠ _
    exact ob_kx (P := fun z => z ≠ rx 0 v m') (fun z => by cases z) (fun a z => by cases z)
  · show ob _ _ ≠ _
    exact ob_kx (P := fun z => z ≠ rx 0 v m') (fun z => by cases z) (fun a => ob_kx (P := fun z => z ≠ rx 0 v m') (fun z => by cases z) (fun a => ob_kx (P := fun z => z ≠ rx 0 v m') (fun z => by cases z) (fun a z => by cases z)))
end SXI
/-! THE LAW's MACHINE: what it calls is told by an oracle (printed by gen/lawrows.py) -/
def Orc : Type := Nat → List Value → PM → Option PRes
/-- one step of the law: calls of methods with handlers stand in no table -/
def sxL (o : Nat) (rt : Option FieldType) (pc : Nat) (L : PLs) (st : List Value) (m : PM) (i : Instr) : Option PAct :=
  if i = .invokestatic 38 then kx 3 0
  else if i = .invokevirtual 29 then (match st with
    | .ref a :: _ => if gK m a = 1 then kx 3 5 else none
    | _ => none)
  else if i = .invokevirtual 165 then (match st with
    | .int _ :: .ref a :: _ => if gK m a = 1 then kx 3 50 else none
    | _ => none)
  else if i = .invokevirtual 173 then (match st with
    | .ref a :: _ => if gK m a = 1 then kx 3 52 else none
    | _ => none)
  else sx pT pM o rt pc L st m i
def exL (orc : Orc) : Nat → Nat → Nat → ByteArray → Option FieldType → (Nat → Option Nat) → Nat → PLs → List Value → PM → Option PRes
  | 0, _, _, _, _, _, _, _, _, _ => none
  | n + 1, d, o, cc, rt, hh, pc, L, st, m => dc (decode cc pc) fun i => ac (sxL o rt pc L st m i) none
      (fun pc' L' st' m' => exL orc n d o cc rt hh pc' L' st' m')
      (fun len mid => cy (cx pM st mid) fun args rest =>
        af (orc mid args m)
          (fun v m' => exL orc n d o cc rt hh (pc + len) L (v.toList ++ rest) m')
          (fun _ _ => none) (fun _ => none))
def exLI (orc : Orc) (n : Nat) (dec : Except DecodeError (Instr × Nat)) (d o : Nat) (cc : ByteArray) (rt : Option FieldType) (hh : Nat → Option Nat) (pc : Nat) (L : PLs) (st : List Value) (m : PM) : Option PRes := dc dec fun i => ac (sxL o rt pc L st m i) none
      (fun pc' L' st' m' => exL orc n d o cc rt hh pc' L' st' m')
      (fun len mid => cy (cx pM st mid) fun args rest =>
        af (orc mid args m)
          (fun v m' => exL orc n d o cc rt hh (pc + len) L (v.toList ++ rest) m')
          (fun _ _ => none) (fun _ => none))
def EvL (orc : Orc) (d o : Nat) (cc : ByteArray) (rt : Option FieldType) (hh : Nat → Option Nat) (pc : Nat) (L : PLs) (st : List Value) (m : PM) (r : PRes) : Prop := ∃ n, exL orc n d o cc rt hh pc L st m = some r
def EvLI (orc : Orc) (dec : Except DecodeError (Instr × Nat)) (d o : Nat) (cc : ByteArray) (rt : Option FieldType) (hh : Nat → Option Nat) (pc : Nat) (L : PLs) (st : List Value) (m : PM) (r : PRes) : Prop := ∃ n, exLI orc n dec d o cc rt hh pc L st m = some r
section EVL
variable {orc : Orc} {d o : Nat} {cc : ByteArray} {rt : Option FieldType} {hh : Nat → Option Nat} {pc : Nat} {L : PLs} {st : List Value} {m : PM} {r : PRes}
theorem EvL_unf : EvL orc d o cc rt hh pc L st m r ↔ EvLI orc (decode cc pc) d o cc rt hh pc L st m r := by
  constructor
  · rintro ⟨n, h⟩
    cases n with
    | zero => simp [exL] at h
    | succ n => exact ⟨n, by rw [exL] at h; exact h⟩
  · rintro ⟨n, h⟩
    exact ⟨n + 1, by rw [exL]; exact h⟩
theorem exLI_ok {n : Nat} {i : Instr} {len : Nat} (hl : iln i = 0 ∨ iln i = len) : exLI orc n (.ok (i, len)) d o cc rt hh pc L st m = ac (sxL o rt pc L st m i) none
      (fun pc' L' st' m' => exL orc n d o cc rt hh pc' L' st' m')
      (fun len mid => cy (cx pM st mid) fun args rest =>
        af (orc mid args m)
          (fun v m' => exL orc n d o cc rt hh (pc + len) L (v.toList ++ rest) m')
          (fun _ _ => none) (fun _ => none)) := if_pos hl
theorem EvLI_nx0 {i : Instr} {len pc' : Nat} {L' : PLs} {st' : List Value} {m' : PM} (hl : iln i = 0 ∨ iln i = len) (hs : sxL o rt pc L st m i = nx pc' L' st' m') : EvLI orc (.ok (i, len)) d o cc rt hh pc L st m r ↔ EvL orc d o cc rt hh pc' L' st' m' r := by
  unfold EvLI EvL
  constructor
  · rintro ⟨n, h⟩
    rw [exLI_ok hl, hs] at h
    exact ⟨n, h⟩
  · rintro ⟨n, h⟩
    refine ⟨n, ?_⟩
    rw [exLI_ok hl, hs]
    exact h
theorem EvLI_rx0 {i : Instr} {len : Nat} {v : Option Value} {m' : PM} (hl : iln i = 0 ∨ iln i = len) (hs : sxL o rt pc L st m i = rx 0 v m') : EvLI orc (.ok (i, len)) d o cc rt hh pc L st m r ↔ r = ((0, v), m') := by
  unfold EvLI
  constructor
  · rintro ⟨n, h⟩
    rw [exLI_ok hl, hs] at h
    exact (Option.some.inj h).symm
  · rintro h
    refine ⟨0, ?_⟩
    rw [exLI_ok hl, hs, h]
    rfl
/-- a call that comes back -/
theorem EvLI_kx {i : Instr} {len len' mid : Nat} {args rest : List Value} {v : Option Value} {m' : PM} (hl : iln i = 0 ∨ iln i = len) (hs : sxL o rt pc L st m i = kx len' mid) (hc : cx pM st mid = some (args, rest)) (ho : orc mid args m = some ((0, v), m')) : EvLI orc (.ok (i, len)) d o cc rt hh pc L st m r ↔ EvL orc d o cc rt hh (pc + len') L (v.toList ++ rest) m' r := by
  unfold EvLI EvL
  have e : ∀ n, exLI orc n (.ok (i, len)) d o cc rt hh pc L st m = exL orc n d o cc rt hh (pc + len') L (v.toList ++ rest) m' := fun n => by
    rw [exLI_ok hl, hs]
    show cy (cx pM st mid) _ = _
    rw [hc]
    show af (orc mid args m) _ _ _ = _
    rw [ho]
    rfl
  constructor
  · rintro ⟨n, h⟩
    exact ⟨n, by rw [← e]; exact h⟩
  · rintro ⟨n, h⟩
    exact ⟨n, by rw [e]; exact h⟩
/-- not a call by the law's own hand -/
def plI (i : Instr) : Prop := i ≠ .invokestatic 38 ∧ i ≠ .invokevirtual 29 ∧ i ≠ .invokevirtual 165 ∧ i ≠ .invokevirtual 173
theorem sxL_pl {i : Instr} (h : plI i) : sxL o rt pc L st m i = sx pT pM o rt pc L st m i := by
  unfold sxL
  rw [if_neg h.1, if_neg h.2.1, if_neg h.2.2.1, if_neg h.2.2.2]
theorem EvLI_nx {i : Instr} {len pc' : Nat} {L' : PLs} {st' : List Value} {m' : PM} (hl : iln i = 0 ∨ iln i = len) (hs : sx pT pM o rt pc L st m i = nx pc' L' st' m') : EvLI orc (.ok (i, len)) d o cc rt hh pc L st m r ↔ EvL orc d o cc rt hh pc' L' st' m' r := by
  refine EvLI_nx0 hl ?_
  rw [sxL_pl]
  · exact hs
  · refine ⟨fun e => ?_, fun e => ?_, fun e => ?_, fun e => ?_⟩ <;> subst e <;> first | exact absurd hs (sx_inv_nx (Or.inl ⟨_, rfl⟩)) | exact absurd hs (sx_inv_nx (Or.inr ⟨_, rfl⟩))
theorem EvLI_rx {i : Instr} {len : Nat} {v : Option Value} {m' : PM} (hl : iln i = 0 ∨ iln i = len) (hs : sx pT pM o rt pc L st m i = rx 0 v m') : EvLI orc (.ok (i, len)) d o cc rt hh pc L st m r ↔ r = ((0, v), m') := by
  refine EvLI_rx0 hl ?_
  rw [sxL_pl]
  · exact hs
  · refine ⟨fun e => ?_, fun e => ?_, fun e => ?_, fun e => ?_⟩ <;> subst e <;> first | exact absurd hs (sx_inv_rx (Or.inl ⟨_, rfl⟩)) | exact absurd hs (sx_inv_rx (Or.inr ⟨_, rfl⟩))
theorem L_iconst {n : Int} : EvLI orc (.ok (.iconst n, 1)) d o cc rt hh pc L st m r ↔ EvL orc d o cc rt hh (pc + 1) L (.int (Int32.ofInt n) :: st) m r := EvLI_nx (Or.inr rfl) rfl
theorem L_bipush {n : Int} (h : -128 ≤ n ∧ n < 128) : EvLI orc (.ok (.bipush n, 2)) d o cc rt hh pc L st m r ↔ EvL orc d o cc rt hh (pc + 2) L (.int (Int32.ofInt n) :: st) m r := EvLI_nx (Or.inr rfl) (by show (if _ then _ else _) = _; rw [if_pos h])
theorem L_aload_n0 {x : Nat} : EvLI orc (.ok (.aload_n 0, 1)) d o cc rt hh pc (some (.ref x) :: L) st m r ↔ EvL orc d o cc rt hh (pc + 1) (some (.ref x) :: L) (.ref x :: st) m r := EvLI_nx (Or.inr rfl) rfl
theorem L_nload_n0  : EvLI orc (.ok (.aload_n 0, 1)) d o cc rt hh pc (some .null :: L) st m r ↔ EvL orc d o cc rt hh (pc + 1) (some .null :: L) (.null :: st) m r := EvLI_nx (Or.inr rfl) rfl
theorem L_aload_n1 {a0 : Option Value} {x : Nat} : EvLI orc (.ok (.aload_n 1, 1)) d o cc rt hh pc (a0 :: some (.ref x) :: L) st m r ↔ EvL orc d o cc rt hh (pc + 1) (a0 :: some (.ref x) :: L) (.ref x :: st) m r := EvLI_nx (Or.inr rfl) rfl
theorem L_nload_n1 {a0 : Option Value}  : EvLI orc (.ok (.aload_n 1, 1)) d o cc rt hh pc (a0 :: some .null :: L) st m r ↔ EvL orc d o cc rt hh (pc + 1) (a0 :: some .null :: L) (.null :: st) m r := EvLI_nx (Or.inr rfl) rfl
theorem L_astore_n1 {b : Option Value} {a0 : Option Value} {x : Nat} (h : nl a0 = true) : EvLI orc (.ok (.astore_n 1, 1)) d o cc rt hh pc (a0 :: b :: L) (.ref x :: st) m r ↔ EvL orc d o cc rt hh (pc + 1) (a0 :: some (.ref x) :: L) st m r := EvLI_nx (Or.inr rfl) (by show (if okL (a0 :: b :: L) 1 = true ∧ 1 < List.length (a0 :: b :: L) then nx _ _ _ _ else none) = _; rw [if_pos (show okL (a0 :: b :: L) 1 = true ∧ 1 < List.length (a0 :: b :: L) from ⟨h, by simp⟩)]; rfl)
theorem L_nstore_n1 {b : Option Value} {a0 : Option Value}  (h : nl a0 = true) : EvLI orc (.ok (.astore_n 1, 1)) d o cc rt hh pc (a0 :: b :: L) (.null :: st) m r ↔ EvL orc d o cc rt hh (pc + 1) (a0 :: some .null :: L) st m r := EvLI_nx (Or.inr rfl) (by show (if okL (a0 :: b :: L) 1 = true ∧ 1 < List.length (a0 :: b :: L) then nx _ _ _ _ else none) = _; rw [if_pos (show okL (a0 :: b :: L) 1 = true ∧ 1 < List.length (a0 :: b :: L) from ⟨h, by simp⟩)]; rfl)
theorem L_aload_n2 {a0 a1 : Option Value} {x : Nat} : EvLI orc (.ok (.aload_n 2, 1)) d o cc rt hh pc (a0 :: a1 :: some (.ref x) :: L) st m r ↔ EvL orc d o cc rt hh (pc + 1) (a0 :: a1 :: some (.ref x) :: L) (.ref x :: st) m r := EvLI_nx (Or.inr rfl) rfl
theorem L_nload_n2 {a0 a1 : Option Value}  : EvLI orc (.ok (.aload_n 2, 1)) d o cc rt hh pc (a0 :: a1 :: some .null :: L) st m r ↔ EvL orc d o cc rt hh (pc + 1) (a0 :: a1 :: some .null :: L) (.null :: st) m r := EvLI_nx (Or.inr rfl) rfl
theorem L_astore_n2 {b : Option Value} {a0 a1 : Option Value} {x : Nat} (h : nl a1 = true) : EvLI orc (.ok (.astore_n 2, 1)) d o cc rt hh pc (a0 :: a1 :: b :: L) (.ref x :: st) m r ↔ EvL orc d o cc rt hh (pc + 1) (a0 :: a1 :: some (.ref x) :: L) st m r := EvLI_nx (Or.inr rfl) (by show (if okL (a0 :: a1 :: b :: L) 2 = true ∧ 2 < List.length (a0 :: a1 :: b :: L) then nx _ _ _ _ else none) = _; rw [if_pos (show okL (a0 :: a1 :: b :: L) 2 = true ∧ 2 < List.length (a0 :: a1 :: b :: L) from ⟨h, by simp⟩)]; rfl)
theorem L_nstore_n2 {b : Option Value} {a0 a1 : Option Value}  (h : nl a1 = true) : EvLI orc (.ok (.astore_n 2, 1)) d o cc rt hh pc (a0 :: a1 :: b :: L) (.null :: st) m r ↔ EvL orc d o cc rt hh (pc + 1) (a0 :: a1 :: some .null :: L) st m r := EvLI_nx (Or.inr rfl) (by show (if okL (a0 :: a1 :: b :: L) 2 = true ∧ 2 < List.length (a0 :: a1 :: b :: L) then nx _ _ _ _ else none) = _; rw [if_pos (show okL (a0 :: a1 :: b :: L) 2 = true ∧ 2 < List.length (a0 :: a1 :: b :: L) from ⟨h, by simp⟩)]; rfl)
theorem L_aload_n3 {a0 a1 a2 : Option Value} {x : Nat} : EvLI orc (.ok (.aload_n 3, 1)) d o cc rt hh pc (a0 :: a1 :: a2 :: some (.ref x) :: L) st m r ↔ EvL orc d o cc rt hh (pc + 1) (a0 :: a1 :: a2 :: some (.ref x) :: L) (.ref x :: st) m r := EvLI_nx (Or.inr rfl) rfl
theorem L_nload_n3 {a0 a1 a2 : Option Value}  : EvLI orc (.ok (.aload_n 3, 1)) d o cc rt hh pc (a0 :: a1 :: a2 :: some .null :: L) st m r ↔ EvL orc d o cc rt hh (pc + 1) (a0 :: a1 :: a2 :: some .null :: L) (.null :: st) m r := EvLI_nx (Or.inr rfl) rfl
theorem L_astore_n3 {b : Option Value} {a0 a1 a2 : Option Value} {x : Nat} (h : nl a2 = true) : EvLI orc (.ok (.astore_n 3, 1)) d o cc rt hh pc (a0 :: a1 :: a2 :: b :: L) (.ref x :: st) m r ↔ EvL orc d o cc rt hh (pc + 1) (a0 :: a1 :: a2 :: some (.ref x) :: L) st m r := EvLI_nx (Or.inr rfl) (by show (if okL (a0 :: a1 :: a2 :: b :: L) 3 = true ∧ 3 < List.length (a0 :: a1 :: a2 :: b :: L) then nx _ _ _ _ else none) = _; rw [if_pos (show okL (a0 :: a1 :: a2 :: b :: L) 3 = true ∧ 3 < List.length (a0 :: a1 :: a2 :: b :: L) from ⟨h, by simp⟩)]; rfl)
theorem L_nstore_n3 {b : Option Value} {a0 a1 a2 : Option Value}  (h : nl a2 = true) : EvLI orc (.ok (.astore_n 3, 1)) d o cc rt hh pc (a0 :: a1 :: a2 :: b :: L) (.null :: st) m r ↔ EvL orc d o cc rt hh (pc + 1) (a0 :: a1 :: a2 :: some .null :: L) st m r := EvLI_nx (Or.inr rfl) (by show (if okL (a0 :: a1 :: a2 :: b :: L) 3 = true ∧ 3 < List.length (a0 :: a1 :: a2 :: b :: L) then nx _ _ _ _ else none) = _; rw [if_pos (show okL (a0 :: a1 :: a2 :: b :: L) 3 = true ∧ 3 < List.length (a0 :: a1 :: a2 :: b :: L) from ⟨h, by simp⟩)]; rfl)
theorem L_iload4 {a0 a1 a2 a3 : Option Value} {x : Int32} : EvLI orc (.ok (.iload 4, 2)) d o cc rt hh pc (a0 :: a1 :: a2 :: a3 :: some (.int x) :: L) st m r ↔ EvL orc d o cc rt hh (pc + 2) (a0 :: a1 :: a2 :: a3 :: some (.int x) :: L) (.int x :: st) m r := EvLI_nx (Or.inr rfl) rfl
theorem L_istore4 {b : Option Value} {a0 a1 a2 a3 : Option Value} {x : Int32} (h : nl a3 = true) : EvLI orc (.ok (.istore 4, 2)) d o cc rt hh pc (a0 :: a1 :: a2 :: a3 :: b :: L) (.int x :: st) m r ↔ EvL orc d o cc rt hh (pc + 2) (a0 :: a1 :: a2 :: a3 :: some (.int x) :: L) st m r := EvLI_nx (Or.inr rfl) (by show (if okL (a0 :: a1 :: a2 :: a3 :: b :: L) 4 = true ∧ 4 < List.length (a0 :: a1 :: a2 :: a3 :: b :: L) then nx _ _ _ _ else none) = _; rw [if_pos (show okL (a0 :: a1 :: a2 :: a3 :: b :: L) 4 = true ∧ 4 < List.length (a0 :: a1 :: a2 :: a3 :: b :: L) from ⟨h, by simp⟩)]; rfl)
theorem L_iinc4 {a0 a1 a2 a3 : Option Value} {x : Int32} {n : Int} (h : nl a3 = true) : EvLI orc (.ok (.iinc 4 n, 3)) d o cc rt hh pc (a0 :: a1 :: a2 :: a3 :: some (.int x) :: L) st m r ↔ EvL orc d o cc rt hh (pc + 3) (a0 :: a1 :: a2 :: a3 :: some (.int (x + Int32.ofInt n)) :: L) st m r := EvLI_nx (Or.inr rfl) (by show (if okL (a0 :: a1 :: a2 :: a3 :: some (.int x) :: L) 4 = true then nx _ _ _ _ else none) = _; rw [if_pos (show okL (a0 :: a1 :: a2 :: a3 :: some (.int x) :: L) 4 = true from h)]; rfl)
theorem L_iload5 {a0 a1 a2 a3 a4 : Option Value} {x : Int32} : EvLI orc (.ok (.iload 5, 2)) d o cc rt hh pc (a0 :: a1 :: a2 :: a3 :: a4 :: some (.int x) :: L) st m r ↔ EvL orc d o cc rt hh (pc + 2) (a0 :: a1 :: a2 :: a3 :: a4 :: some (.int x) :: L) (.int x :: st) m r := EvLI_nx (Or.inr rfl) rfl
theorem L_istore5 {b : Option Value} {a0 a1 a2 a3 a4 : Option Value} {x : Int32} (h : nl a4 = true) : EvLI orc (.ok (.istore 5, 2)) d o cc rt hh pc (a0 :: a1 :: a2 :: a3 :: a4 :: b :: L) (.int x :: st) m r ↔ EvL orc d o cc rt hh (pc + 2) (a0 :: a1 :: a2 :: a3 :: a4 :: some (.int x) :: L) st m r := EvLI_nx (Or.inr rfl) (by show (if okL (a0 :: a1 :: a2 :: a3 :: a4 :: b :: L) 5 = true ∧ 5 < List.length (a0 :: a1 :: a2 :: a3 :: a4 :: b :: L) then nx _ _ _ _ else none) = _; rw [if_pos (show okL (a0 :: a1 :: a2 :: a3 :: a4 :: b :: L) 5 = true ∧ 5 < List.length (a0 :: a1 :: a2 :: a3 :: a4 :: b :: L) from ⟨h, by simp⟩)]; rfl)
theorem L_iload6 {a0 a1 a2 a3 a4 a5 : Option Value} {x : Int32} : EvLI orc (.ok (.iload 6, 2)) d o cc rt hh pc (a0 :: a1 :: a2 :: a3 :: a4 :: a5 :: some (.int x) :: L) st m r ↔ EvL orc d o cc rt hh (pc + 2) (a0 :: a1 :: a2 :: a3 :: a4 :: a5 :: some (.int x) :: L) (.int x :: st) m r := EvLI_nx (Or.inr rfl) rfl
theorem L_istore6 {b : Option Value} {a0 a1 a2 a3 a4 a5 : Option Value} {x : Int32} (h : nl a5 = true) : EvLI orc (.ok (.istore 6, 2)) d o cc rt hh pc (a0 :: a1 :: a2 :: a3 :: a4 :: a5 :: b :: L) (.int x :: st) m r ↔ EvL orc d o cc rt hh (pc + 2) (a0 :: a1 :: a2 :: a3 :: a4 :: a5 :: some (.int x) :: L) st m r := EvLI_nx (Or.inr rfl) (by show (if okL (a0 :: a1 :: a2 :: a3 :: a4 :: a5 :: b :: L) 6 = true ∧ 6 < List.length (a0 :: a1 :: a2 :: a3 :: a4 :: a5 :: b :: L) then nx _ _ _ _ else none) = _; rw [if_pos (show okL (a0 :: a1 :: a2 :: a3 :: a4 :: a5 :: b :: L) 6 = true ∧ 6 < List.length (a0 :: a1 :: a2 :: a3 :: a4 :: a5 :: b :: L) from ⟨h, by simp⟩)]; rfl)
theorem L_iadd {x y : Int32} : EvLI orc (.ok (.iadd, 1)) d o cc rt hh pc L (.int y :: .int x :: st) m r ↔ EvL orc d o cc rt hh (pc + 1) L (.int (x + y) :: st) m r := EvLI_nx (Or.inr rfl) rfl
theorem L_isub {x y : Int32} : EvLI orc (.ok (.isub, 1)) d o cc rt hh pc L (.int y :: .int x :: st) m r ↔ EvL orc d o cc rt hh (pc + 1) L (.int (x - y) :: st) m r := EvLI_nx (Or.inr rfl) rfl
theorem L_iand {x y : Int32} : EvLI orc (.ok (.iand, 1)) d o cc rt hh pc L (.int y :: .int x :: st) m r ↔ EvL orc d o cc rt hh (pc + 1) L (.int (x &&& y) :: st) m r := EvLI_nx (Or.inr rfl) rfl
theorem L_lcmp {x y : Int64} : EvLI orc (.ok (.lcmp, 1)) d o cc rt hh pc L (.long y :: .long x :: st) m r ↔ EvL orc d o cc rt hh (pc + 1) L (.int (lg_cmp x y) :: st) m r := EvLI_nx (Or.inr rfl) rfl
theorem L_i2l {x : Int32} : EvLI orc (.ok (.i2l, 1)) d o cc rt hh pc L (.int x :: st) m r ↔ EvL orc d o cc rt hh (pc + 1) L (.long x.toInt64 :: st) m r := EvLI_nx (Or.inr rfl) rfl
theorem L_dup_i {x : Int32} : EvLI orc (.ok (.dup, 1)) d o cc rt hh pc L (.int x :: st) m r ↔ EvL orc d o cc rt hh (pc + 1) L (.int x :: .int x :: st) m r := EvLI_nx (Or.inr rfl) rfl
theorem L_dup_r {x : Nat} : EvLI orc (.ok (.dup, 1)) d o cc rt hh pc L (.ref x :: st) m r ↔ EvL orc d o cc rt hh (pc + 1) L (.ref x :: .ref x :: st) m r := EvLI_nx (Or.inr rfl) rfl
theorem L_dup_n  : EvLI orc (.ok (.dup, 1)) d o cc rt hh pc L (.null :: st) m r ↔ EvL orc d o cc rt hh (pc + 1) L (.null :: .null :: st) m r := EvLI_nx (Or.inr rfl) rfl
theorem L_goto {off : Int} (h : 0 ≤ (pc : Int) + off) : EvLI orc (.ok (.goto off, 3)) d o cc rt hh pc L st m r ↔ EvL orc d o cc rt hh (((pc : Int) + off).toNat) L st m r := EvLI_nx (Or.inr rfl) (by show ob (tgt pc off) (fun t => nx t L st m) = _; unfold tgt; rw [if_pos h]; rfl)
theorem L_if_eq {x : Int32} {off : Int} (h : 0 ≤ (pc : Int) + off) : EvLI orc (.ok (.ifCond .eq off, 3)) d o cc rt hh pc L (.int x :: st) m r ↔ if x = 0 then EvL orc d o cc rt hh ((pc : Int) + off).toNat L st m r else EvL orc d o cc rt hh (pc + 3) L st m r := by
  by_cases q : x = 0
  · rw [if_pos q]
    exact EvLI_nx (Or.inr rfl) (by show ob (tgt pc off) (fun t => if cnd .eq x 0 then nx t L st m else nx (pc + 3) L st m) = _; unfold tgt; rw [if_pos h]; simp only [ob, cnd, decide_eq_true q, if_true])
  · rw [if_neg q]
    exact EvLI_nx (Or.inr rfl) (by show ob (tgt pc off) (fun t => if cnd .eq x 0 then nx t L st m else nx (pc + 3) L st m) = _; unfold tgt; rw [if_pos h]; simp only [ob, cnd, decide_eq_false q, Bool.false_eq_true, if_false])
theorem L_icmp_eq {x y : Int32} {off : Int} (h : 0 ≤ (pc : Int) + off) : EvLI orc (.ok (.if_icmp .eq off, 3)) d o cc rt hh pc L (.int y :: .int x :: st) m r ↔ if x = y then EvL orc d o cc rt hh ((pc : Int) + off).toNat L st m r else EvL orc d o cc rt hh (pc + 3) L st m r := by
  by_cases q : x = y
  · rw [if_pos q]
    exact EvLI_nx (Or.inr rfl) (by show ob (tgt pc off) (fun t => if cnd .eq x y then nx t L st m else nx (pc + 3) L st m) = _; unfold tgt; rw [if_pos h]; simp only [ob, cnd, decide_eq_true q, if_true])
  · rw [if_neg q]
    exact EvLI_nx (Or.inr rfl) (by show ob (tgt pc off) (fun t => if cnd .eq x y then nx t L st m else nx (pc + 3) L st m) = _; unfold tgt; rw [if_pos h]; simp only [ob, cnd, decide_eq_false q, Bool.false_eq_true, if_false])
theorem L_if_ne {x : Int32} {off : Int} (h : 0 ≤ (pc : Int) + off) : EvLI orc (.ok (.ifCond .ne off, 3)) d o cc rt hh pc L (.int x :: st) m r ↔ if ¬ x = 0 then EvL orc d o cc rt hh ((pc : Int) + off).toNat L st m r else EvL orc d o cc rt hh (pc + 3) L st m r := by
  by_cases q : ¬ x = 0
  · rw [if_pos q]
    exact EvLI_nx (Or.inr rfl) (by show ob (tgt pc off) (fun t => if cnd .ne x 0 then nx t L st m else nx (pc + 3) L st m) = _; unfold tgt; rw [if_pos h]; simp only [ob, cnd, decide_eq_true q, if_true])
  · rw [if_neg q]
    exact EvLI_nx (Or.inr rfl) (by show ob (tgt pc off) (fun t => if cnd .ne x 0 then nx t L st m else nx (pc + 3) L st m) = _; unfold tgt; rw [if_pos h]; simp only [ob, cnd, decide_eq_false q, Bool.false_eq_true, if_false])
theorem L_icmp_gt {x y : Int32} {off : Int} (h : 0 ≤ (pc : Int) + off) : EvLI orc (.ok (.if_icmp .gt off, 3)) d o cc rt hh pc L (.int y :: .int x :: st) m r ↔ if y < x then EvL orc d o cc rt hh ((pc : Int) + off).toNat L st m r else EvL orc d o cc rt hh (pc + 3) L st m r := by
  by_cases q : y < x
  · rw [if_pos q]
    exact EvLI_nx (Or.inr rfl) (by show ob (tgt pc off) (fun t => if cnd .gt x y then nx t L st m else nx (pc + 3) L st m) = _; unfold tgt; rw [if_pos h]; simp only [ob, cnd, decide_eq_true q, if_true])
  · rw [if_neg q]
    exact EvLI_nx (Or.inr rfl) (by show ob (tgt pc off) (fun t => if cnd .gt x y then nx t L st m else nx (pc + 3) L st m) = _; unfold tgt; rw [if_pos h]; simp only [ob, cnd, decide_eq_false q, Bool.false_eq_true, if_false])
theorem L_iaload {i : Int32} {a : Nat} (h : (gK m a = 100 ∨ gK m a = 200) ∧ ¬ (i < 0 ∨ gN m a ≤ i.toNatClampNeg)) : EvLI orc (.ok (.iaload, 1)) d o cc rt hh pc L (.int i :: .ref a :: st) m r ↔ EvL orc d o cc rt hh (pc + 1) L (.int (gI m a i.toNatClampNeg) :: st) m r := EvLI_nx (Or.inr rfl) (by show (if _ then _ else _) = _; rw [if_pos h])
theorem L_ialoadn {j : Nat} {a : Nat} (h : gK m a = 100) (hj : j < 2147483648) (hn : j < gN m a) : EvLI orc (.ok (.iaload, 1)) d o cc rt hh pc L (.int (nI j) :: .ref a :: st) m r ↔ EvL orc d o cc rt hh (pc + 1) L (.int (gI m a j) :: st) m r := by
  have e := nI_clamp (n := j) hj
  rw [L_iaload ⟨Or.inl h, by rw [e]; have := nI_pos (n := j) hj; intro q; rcases q with q | q; exact this q; omega⟩, e]
theorem L_laload {i : Int32} {a : Nat} (h : gK m a = 103 ∧ ¬ (i < 0 ∨ gN m a ≤ i.toNatClampNeg)) : EvLI orc (.ok (.laload, 1)) d o cc rt hh pc L (.int i :: .ref a :: st) m r ↔ EvL orc d o cc rt hh (pc + 1) L (.long (gJ m a i.toNatClampNeg) :: st) m r := EvLI_nx (Or.inr rfl) (by show (if _ then _ else _) = _; rw [if_pos h])
theorem L_laloadn {j : Nat} {a : Nat} (h : gK m a = 103) (hj : j < 2147483648) (hn : j < gN m a) : EvLI orc (.ok (.laload, 1)) d o cc rt hh pc L (.int (nI j) :: .ref a :: st) m r ↔ EvL orc d o cc rt hh (pc + 1) L (.long (gJ m a j) :: st) m r := by
  have e := nI_clamp (n := j) hj
  rw [L_laload ⟨h, by rw [e]; have := nI_pos (n := j) hj; intro q; rcases q with q | q; exact this q; omega⟩, e]
theorem L_iaload2 {j : Nat} {a : Nat} (h : gK m a = 200) (hj : j < 2147483648) (hn : j < gN m a) : EvLI orc (.ok (.iaload, 1)) d o cc rt hh pc L (.int (nI j) :: .ref a :: st) m r ↔ EvL orc d o cc rt hh (pc + 1) L (.int (gI m a j) :: st) m r := by
  have e := nI_clamp (n := j) hj
  rw [L_iaload ⟨Or.inr h, by rw [e]; have := nI_pos (n := j) hj; intro q; rcases q with q | q; exact this q; omega⟩, e]
theorem L_arraylength {a : Nat} (h : 100 ≤ gK m a) : EvLI orc (.ok (.arraylength, 1)) d o cc rt hh pc L (.ref a :: st) m r ↔ EvL orc d o cc rt hh (pc + 1) L (.int (nI (gN m a)) :: st) m r := EvLI_nx (Or.inr rfl) (by show (if _ then _ else _) = _; rw [if_pos h]; rfl)
theorem L_new {idx K n : Nat} (h : pT.2.2.2.1 o idx = some (K, n)) (hX : gX m < 900000) : EvLI orc (.ok (.new idx, 3)) d o cc rt hh pc L st m r ↔ EvL orc d o cc rt hh (pc + 3) L (.ref (gX m) :: st) (nw m K 0 n) r := EvLI_nx (Or.inr rfl) (by show ob (pT.2.2.2.1 o idx) (fun q => if gX m < 900000 then nx (pc + 3) L (.ref (gX m) :: st) (nw m q.1 0 q.2) else none) = _; rw [h]; exact if_pos hX)
theorem L_newarray {t : ArrayType} {K n : Nat} (h : atK t = some K) (hn : n ≤ 1000000) (hX : gX m < 900000) : EvLI orc (.ok (.newarray t, 2)) d o cc rt hh pc L (.int (nI n) :: st) m r ↔ EvL orc d o cc rt hh (pc + 2) L (.ref (gX m) :: st) (nw m K n n) r := EvLI_nx (Or.inr rfl) (by
  have e := nI_clamp (n := n) (by omega)
  show (if gX m < 900000 ∧ ¬ nI n < 0 ∧ (nI n).toNatClampNeg ≤ 1000000 then (ob (atK t) fun K => nx (pc + 2) L (.ref (gX m) :: st) (nw m K (nI n).toNatClampNeg (nI n).toNatClampNeg)) else none) = _
  rw [if_pos ⟨hX, nI_pos (n := n) (by omega), by rw [e]; exact hn⟩, h, e]
  rfl)
theorem L_tableOut {df lo hi : Int} {offs : Array Int} {len : Nat} {x : Int32} (q : x.toInt < lo ∨ hi < x.toInt) (h : 0 ≤ (pc : Int) + df) : EvLI orc (.ok (.tableswitch df lo hi offs, len)) d o cc rt hh pc L (.int x :: st) m r ↔ EvL orc d o cc rt hh ((pc : Int) + df).toNat L st m r := EvLI_nx (Or.inl rfl) (by
  show (if x.toInt < lo ∨ hi < x.toInt then (ob (tgt pc df) fun t => nx t L st m) else ob (offs[(x.toInt - lo).toNat]?) fun off => (ob (tgt pc off) fun t => nx t L st m)) = _
  rw [if_pos q]; unfold tgt; rw [if_pos h]; rfl)
theorem L_tableIn {df lo hi off : Int} {offs : Array Int} {len : Nat} {x : Int32} (q : ¬ (x.toInt < lo ∨ hi < x.toInt)) (ho : offs[(x.toInt - lo).toNat]? = some off) (h : 0 ≤ (pc : Int) + off) : EvLI orc (.ok (.tableswitch df lo hi offs, len)) d o cc rt hh pc L (.int x :: st) m r ↔ EvL orc d o cc rt hh ((pc : Int) + off).toNat L st m r := EvLI_nx (Or.inl rfl) (by
  show (if x.toInt < lo ∨ hi < x.toInt then (ob (tgt pc df) fun t => nx t L st m) else ob (offs[(x.toInt - lo).toNat]?) fun off => (ob (tgt pc off) fun t => nx t L st m)) = _
  rw [if_neg q, ho]; unfold tgt; simp only [ob]; rw [if_pos h])
theorem L_ireturn {v : Int32} {ty : FieldType} (h : narrow ty (.int v) = .int v) : EvLI orc (.ok (.ireturn, 1)) d o cc (some ty) hh pc L [.int v] m r ↔ r = ((0, some (.int v)), m) := EvLI_rx (Or.inr rfl) (by show (if narrow ty (.int v) = .int v then rx 0 (some (.int v)) m else none) = _; rw [if_pos h])
end EVL
