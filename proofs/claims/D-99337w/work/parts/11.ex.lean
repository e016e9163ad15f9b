/-! THE PURE MACHINE: one instruction, a run. Classes of code by number o, methods by number mid; the tables are functions -/
abbrev PRes : Type := (Nat × Option Value) × PM
abbrev PLs : Type := List (Option Value)
/-- the tables of a program: field k of (o, index, kind); static call (o, index); call by (o, index, kind); new; array of; a constant; a static; a method's class, code, locals, answer, arguments, handler -/
abbrev PT : Type := (Nat → Nat → Nat → Option Nat) × (Nat → Nat → Option Nat) × (Nat → Nat → Nat → Option Nat) × (Nat → Nat → Option (Nat × Nat)) × (Nat → Nat → Option Nat) × (Nat → Nat → Option Value) × (Nat → Nat → Option Value) × (Nat → Nat → FieldType) × (Nat → Nat → Nat)
abbrev PMeth : Type := (Nat → Nat) × (Nat → ByteArray) × (Nat → Nat) × (Nat → Option FieldType) × (Nat → Nat) × (Nat → Nat → Option Nat) × (Nat → List Value → PM → Option (Option PRes))
def tgV : Value → Nat
  | .int _ => 0
  | .long _ => 1
  | .null => 2
  | .ref _ => 2
  | _ => 3
def nl : Option Value → Bool
  | some (.long _) => false
  | some (.double _) => false
  | _ => true
/-- no long lies just below place i -/
def okL (L : PLs) : Nat → Bool
  | 0 => true
  | j + 1 => nl (L.getD j none)
def pvF (m : PM) (ty : FieldType) (a k : Nat) : Value := match ty with
  | .long => .long (gJ m a k)
  | .object _ => va_rf (gR m a k)
  | .array _ => va_rf (gR m a k)
  | _ => .int (gI m a k)
def ptF (m : PM) (ty : FieldType) (a k : Nat) (v : Value) : Option PM := match ty, v with
  | .long, .long x => some (sJ m a k x)
  | .object _, .ref b => some (sR m a k (some b))
  | .object _, .null => some (sR m a k none)
  | .array _, .ref b => some (sR m a k (some b))
  | .array _, .null => some (sR m a k none)
  | .int, .int x => some (sI m a k x)
  | .boolean, .int x => if x = 0 ∨ x = 1 then some (sI m a k x) else none
  | .byte, .int x => if x.toInt8.toInt32 = x then some (sI m a k x) else none
  | _, _ => none
def cnd : Jvm.ClassFile.Cond → Int32 → Int32 → Bool
  | .eq, x, y => decide (x = y)
  | .ne, x, y => decide (¬ x = y)
  | .lt, x, y => decide (x < y)
  | .ge, x, y => decide (y ≤ x)
  | .gt, x, y => decide (y < x)
  | .le, x, y => decide (x ≤ y)
def tgt (pc : Nat) (off : Int) : Option Nat := if 0 ≤ (pc : Int) + off then some ((pc : Int) + off).toNat else none
/-- the kinds of element that an array of kind K takes -/
def elOk (K e : Nat) : Bool := (K == 104 && e == 4) || (K == 105 && (9 ≤ e && e ≤ 15)) || (K == 106 && e == 21) || (K == 107 && e == 50)
def lodV (t : Nat) (L : PLs) (i : Nat) : Option Value := match L[i]? with
  | some (some v) => if tgV v = t then some v else none
  | _ => none
/-- what an instruction does: it goes on; it ends the method; it calls (length, method) -/
abbrev PAct : Type := (Nat × PLs × List Value × PM) ⊕ PRes ⊕ (Nat × Nat)
def nx (pc : Nat) (L : PLs) (st : List Value) (m : PM) : Option PAct := some (.inl (pc, L, st, m))
def rx (c : Nat) (v : Option Value) (m : PM) : Option PAct := some (.inr (.inl ((c, v), m)))
def kx (len mid : Nat) : Option PAct := some (.inr (.inr (len, mid)))
def ob {α : Type} (x : Option α) (f : α → Option PAct) : Option PAct := match x with
  | some v => f v
  | none => none
def rfo : Option Value → Option Nat
  | some (.ref a) => some a
  | _ => none
def atK : ArrayType → Option Nat
  | .int => some 100
  | .byte => some 101
  | .boolean => some 102
  | .long => some 103
  | _ => none
def isOb : Option FieldType → Bool
  | some (.object _) => true
  | _ => false
/-- the method called (t = 0 virtual, 1 special, 2 interface): it takes as many as the entry at kind 0 -/
def ivk (t K a : Nat) : Bool := match t with
  | 0 => decide (a < 100) && !(decide (16 ≤ K) && decide (K ≤ 20))
  | 1 => decide (100 ≤ a)
  | _ => decide (a < 100) && (decide (16 ≤ K) && decide (K ≤ 20))
def kOk (K : Nat) : Bool := (decide (1 ≤ K) && decide (K ≤ 22)) || K == 50
def vk (Pm : PMeth) (t x K : Nat) (q : Option Nat) : Option Nat := match q with
  | some mid => if Pm.2.2.2.2.1 x = Pm.2.2.2.2.1 mid ∧ 1 ≤ Pm.2.2.2.2.1 mid ∧ kOk K = true ∧ ivk t K (Pm.1 mid) = true then some mid else none
  | none => none
/-- an instruction -/
def sx (PTb : PT) (Pm : PMeth) (o : Nat) (rt : Option FieldType) (pc : Nat) (L : PLs) (st : List Value) (m : PM) (i : Instr) : Option PAct :=
  match i with
  | .nop => none
  | .iconst n => nx (pc + 1) L (.int (Int32.ofInt n) :: st) m
  | .bipush n => if -128 ≤ n ∧ n < 128 then nx (pc + 2) L (.int (Int32.ofInt n) :: st) m else none
  | .sipush n => if -32768 ≤ n ∧ n < 32768 then nx (pc + 3) L (.int (Int32.ofInt n) :: st) m else none
  | .lconst n => nx (pc + 1) L (.long (Int64.ofNat n) :: st) m
  | .aconst_null => nx (pc + 1) L (.null :: st) m
  | .iload i => ob (lodV 0 L i) fun v => nx (pc + 2) L (v :: st) m
  | .iload_n i => ob (lodV 0 L i) fun v => nx (pc + 1) L (v :: st) m
  | .lload i => ob (lodV 1 L i) fun v => nx (pc + 2) L (v :: st) m
  | .lload_n i => ob (lodV 1 L i) fun v => nx (pc + 1) L (v :: st) m
  | .aload i => ob (lodV 2 L i) fun v => nx (pc + 2) L (v :: st) m
  | .aload_n i => ob (lodV 2 L i) fun v => nx (pc + 1) L (v :: st) m
  | .istore i => match st with
    | .int x :: st => if okL L i = true ∧ i < L.length then nx (pc + 2) (L.set i (some (.int x))) st m else none
    | _ => none
  | .istore_n i => match st with
    | .int x :: st => if okL L i = true ∧ i < L.length then nx (pc + 1) (L.set i (some (.int x))) st m else none
    | _ => none
  | .lstore i => match st with
    | .long x :: st => if okL L i = true ∧ i + 1 < L.length then nx (pc + 2) ((L.set i (some (.long x))).set (i + 1) none) st m else none
    | _ => none
  | .lstore_n i => match st with
    | .long x :: st => if okL L i = true ∧ i + 1 < L.length then nx (pc + 1) ((L.set i (some (.long x))).set (i + 1) none) st m else none
    | _ => none
  | .astore i => match st with
    | .ref x :: st => if okL L i = true ∧ i < L.length then nx (pc + 2) (L.set i (some (.ref x))) st m else none
    | .null :: st => if okL L i = true ∧ i < L.length then nx (pc + 2) (L.set i (some .null)) st m else none
    | _ => none
  | .astore_n i => match st with
    | .ref x :: st => if okL L i = true ∧ i < L.length then nx (pc + 1) (L.set i (some (.ref x))) st m else none
    | .null :: st => if okL L i = true ∧ i < L.length then nx (pc + 1) (L.set i (some .null)) st m else none
    | _ => none
  | .iinc i n => match L[i]? with
    | some (some (.int x)) => if okL L i = true then nx (pc + 3) (L.set i (some (.int (x + Int32.ofInt n)))) st m else none
    | _ => none
  | .iadd => match st with
    | .int y :: .int x :: st => nx (pc + 1) L (.int (x + y) :: st) m
    | _ => none
  | .isub => match st with
    | .int y :: .int x :: st => nx (pc + 1) L (.int (x - y) :: st) m
    | _ => none
  | .imul => match st with
    | .int y :: .int x :: st => nx (pc + 1) L (.int (x * y) :: st) m
    | _ => none
  | .iand => match st with
    | .int y :: .int x :: st => nx (pc + 1) L (.int (x &&& y) :: st) m
    | _ => none
  | .ior => match st with
    | .int y :: .int x :: st => nx (pc + 1) L (.int (x ||| y) :: st) m
    | _ => none
  | .ixor => match st with
    | .int y :: .int x :: st => nx (pc + 1) L (.int (x ^^^ y) :: st) m
    | _ => none
  | .ishl => match st with
    | .int y :: .int x :: st => nx (pc + 1) L (.int (x <<< (y &&& 31)) :: st) m
    | _ => none
  | .ishr => match st with
    | .int y :: .int x :: st => nx (pc + 1) L (.int (x >>> (y &&& 31)) :: st) m
    | _ => none
  | .iushr => match st with
    | .int y :: .int x :: st => nx (pc + 1) L (.int (x.toUInt32 >>> (y.toUInt32 &&& Int32.toUInt32 31)).toInt32 :: st) m
    | _ => none
  | .idiv => match st with
    | .int y :: .int x :: st => if y = 0 then none else nx (pc + 1) L (.int (x / y) :: st) m
    | _ => none
  | .irem => match st with
    | .int y :: .int x :: st => if y = 0 then none else nx (pc + 1) L (.int (x - x / y * y) :: st) m
    | _ => none
  | .ineg => match st with
    | .int x :: st => nx (pc + 1) L (.int (-x) :: st) m
    | _ => none
  | .ladd => match st with
    | .long y :: .long x :: st => nx (pc + 1) L (.long (x + y) :: st) m
    | _ => none
  | .lsub => match st with
    | .long y :: .long x :: st => nx (pc + 1) L (.long (x - y) :: st) m
    | _ => none
  | .lmul => match st with
    | .long y :: .long x :: st => nx (pc + 1) L (.long (x * y) :: st) m
    | _ => none
  | .land => match st with
    | .long y :: .long x :: st => nx (pc + 1) L (.long (x &&& y) :: st) m
    | _ => none
  | .lor => match st with
    | .long y :: .long x :: st => nx (pc + 1) L (.long (x ||| y) :: st) m
    | _ => none
  | .ldiv => match st with
    | .long y :: .long x :: st => if y = 0 then none else nx (pc + 1) L (.long (x / y) :: st) m
    | _ => none
  | .lrem => match st with
    | .long y :: .long x :: st => if y = 0 then none else nx (pc + 1) L (.long (x - x / y * y) :: st) m
    | _ => none
  | .lshl => match st with
    | .int y :: .long x :: st => nx (pc + 1) L (.long (x <<< (y.toInt64 &&& 63)) :: st) m
    | _ => none
  | .lshr => match st with
    | .int y :: .long x :: st => nx (pc + 1) L (.long (x >>> (y.toInt64 &&& 63)) :: st) m
    | _ => none
  | .lcmp => match st with
    | .long y :: .long x :: st => nx (pc + 1) L (.int (lg_cmp x y) :: st) m
    | _ => none
  | .i2l => match st with
    | .int x :: st => nx (pc + 1) L (.long x.toInt64 :: st) m
    | _ => none
  | .l2i => match st with
    | .long x :: st => nx (pc + 1) L (.int x.toInt32 :: st) m
    | _ => none
  | .i2b => match st with
    | .int x :: st => nx (pc + 1) L (.int x.toInt8.toInt32 :: st) m
    | _ => none
  | .i2c => match st with
    | .int x :: st => nx (pc + 1) L (.int (x.toUInt32 % 65536).toInt32 :: st) m
    | _ => none
  | .dup => match st with
    | v :: st => if v.category = 1 then nx (pc + 1) L (v :: v :: st) m else none
    | _ => none
  | .pop => match st with
    | v :: st => if v.category = 1 then nx (pc + 1) L st m else none
    | _ => none
  | .dup_x1 => match st with
    | a :: b :: st => if a.category = 1 ∧ b.category = 1 then nx (pc + 1) L (a :: b :: a :: st) m else none
    | _ => none
  | .dup_x2 => match st with
    | a :: b :: c :: st => if a.category = 1 ∧ b.category = 1 ∧ c.category = 1 then nx (pc + 1) L (a :: b :: c :: a :: st) m else none
    | _ => none
  | .dup2 => match st with
    | a :: b :: st => if a.category = 1 ∧ b.category = 1 then nx (pc + 1) L (a :: b :: a :: b :: st) m else none
    | _ => none
  | .goto off => ob (tgt pc off) fun t => nx t L st m
  | .ifCond c off => match st with
    | .int x :: st => ob (tgt pc off) fun t => if cnd c x 0 then nx t L st m else nx (pc + 3) L st m
    | _ => none
  | .if_icmp c off => match st with
    | .int y :: .int x :: st => ob (tgt pc off) fun t => if cnd c x y then nx t L st m else nx (pc + 3) L st m
    | _ => none
  | .ifnull off => match st with
    | .ref _ :: st => nx (pc + 3) L st m
    | .null :: st => ob (tgt pc off) fun t => nx t L st m
    | _ => none
  | .ifnonnull off => match st with
    | .null :: st => nx (pc + 3) L st m
    | .ref _ :: st => ob (tgt pc off) fun t => nx t L st m
    | _ => none
  | .tableswitch df lo hi offs => match st with
    | .int x :: st => if x.toInt < lo ∨ hi < x.toInt then (ob (tgt pc df) fun t => nx t L st m)
      else ob (offs[(x.toInt - lo).toNat]?) fun off => (ob (tgt pc off) fun t => nx t L st m)
    | _ => none
  | .lookupswitch df ps => match st with
    | .int x :: st => if (ps.toList.zip (ps.toList.drop 1)).all (fun (a, next) => a.1 < next.1) = true then (ob (tgt pc (Op.lookupswitch.offset ps.toList df x.toInt)) fun t => nx t L st m) else none
    | _ => none
  | .getfield idx => match st with
    | .ref a :: st => ob (PTb.1 o idx (gK m a)) fun j => nx (pc + 3) L (pvF m (PTb.2.2.2.2.2.2.2.1 (gK m a) j) a j :: st) m
    | _ => none
  | .putfield idx => match st with
    | v :: .ref a :: st => ob (PTb.1 o idx (gK m a)) fun j => if gK m a < 50 ∧ (PTb.2.2.2.2.2.2.2.2 (gK m a) j = 0 ∨ o = PTb.2.2.2.2.2.2.2.2 (gK m a) j + 99) then (ob (ptF m (PTb.2.2.2.2.2.2.2.1 (gK m a) j) a j v) fun m' => nx (pc + 3) L st m') else none
    | _ => none
  | .getstatic idx => ob (PTb.2.2.2.2.2.2.1 o idx) fun v => nx (pc + 3) L (v :: st) m
  | .ldc idx => ob (PTb.2.2.2.2.2.1 o idx) fun v => if v.category = 1 then nx (pc + 2) L (v :: st) m else none
  | .ldc_w idx => ob (PTb.2.2.2.2.2.1 o idx) fun v => if v.category = 1 then nx (pc + 3) L (v :: st) m else none
  | .ldc2_w idx => ob (PTb.2.2.2.2.2.1 o idx) fun v => if v.category = 2 then nx (pc + 3) L (v :: st) m else none
  | .iaload => match st with
    | .int i :: .ref a :: st => if (gK m a = 100 ∨ gK m a = 200) ∧ ¬ (i < 0 ∨ gN m a ≤ i.toNatClampNeg) then nx (pc + 1) L (.int (gI m a i.toNatClampNeg) :: st) m else none
    | _ => none
  | .baload => match st with
    | .int i :: .ref a :: st => if (gK m a = 101 ∨ gK m a = 102 ∨ gK m a = 201) ∧ ¬ (i < 0 ∨ gN m a ≤ i.toNatClampNeg) then nx (pc + 1) L (.int (gI m a i.toNatClampNeg) :: st) m else none
    | _ => none
  | .laload => match st with
    | .int i :: .ref a :: st => if gK m a = 103 ∧ ¬ (i < 0 ∨ gN m a ≤ i.toNatClampNeg) then nx (pc + 1) L (.long (gJ m a i.toNatClampNeg) :: st) m else none
    | _ => none
  | .aaload => match st with
    | .int i :: .ref a :: st => if (104 ≤ gK m a ∧ gK m a ≤ 107) ∧ ¬ (i < 0 ∨ gN m a ≤ i.toNatClampNeg) then nx (pc + 1) L (va_rf (gR m a i.toNatClampNeg) :: st) m else none
    | _ => none
  | .iastore => match st with
    | .int x :: .int i :: .ref a :: st => if gK m a = 100 ∧ ¬ (i < 0 ∨ gN m a ≤ i.toNatClampNeg) then nx (pc + 1) L st (sI m a i.toNatClampNeg x) else none
    | _ => none
  | .bastore => match st with
    | .int x :: .int i :: .ref a :: st => if gK m a = 101 ∧ ¬ (i < 0 ∨ gN m a ≤ i.toNatClampNeg) then nx (pc + 1) L st (sI m a i.toNatClampNeg x.toInt8.toInt32)
      else if (gK m a = 102 ∧ (x = 0 ∨ x = 1)) ∧ ¬ (i < 0 ∨ gN m a ≤ i.toNatClampNeg) then nx (pc + 1) L st (sI m a i.toNatClampNeg x) else none
    | _ => none
  | .lastore => match st with
    | .long x :: .int i :: .ref a :: st => if gK m a = 103 ∧ ¬ (i < 0 ∨ gN m a ≤ i.toNatClampNeg) then nx (pc + 1) L st (sJ m a i.toNatClampNeg x) else none
    | _ => none
  | .aastore => match st with
    | .ref b :: .int i :: .ref a :: st => if elOk (gK m a) (gK m b) = true ∧ ¬ (i < 0 ∨ gN m a ≤ i.toNatClampNeg) then nx (pc + 1) L st (sR m a i.toNatClampNeg (some b)) else none
    | _ => none
  | .arraylength => match st with
    | .ref a :: st => if 100 ≤ gK m a then nx (pc + 1) L (.int (Int32.ofNat (gN m a)) :: st) m else none
    | _ => none
  | .new idx => ob (PTb.2.2.2.1 o idx) fun q => if gX m < 900000 then nx (pc + 3) L (.ref (gX m) :: st) (nw m q.1 0 q.2) else none
  | .newarray t => match st with
    | .int n :: st => if gX m < 900000 ∧ ¬ n < 0 ∧ n.toNatClampNeg ≤ 1000000 then (ob (atK t) fun K => nx (pc + 2) L (.ref (gX m) :: st) (nw m K n.toNatClampNeg n.toNatClampNeg)) else none
    | _ => none
  | .anewarray idx => match st with
    | .int n :: st => if gX m < 900000 ∧ ¬ n < 0 ∧ n.toNatClampNeg ≤ 1000000 then (ob (PTb.2.2.2.2.1 o idx) fun K => nx (pc + 3) L (.ref (gX m) :: st) (nw m K n.toNatClampNeg n.toNatClampNeg)) else none
    | _ => none
  | .invokestatic idx => ob (PTb.2.1 o idx) fun mid => kx 3 mid
  | .invokevirtual idx => ob (PTb.2.2.1 o idx 0) fun x => ob (rfo st[Pm.2.2.2.2.1 x - 1]?) fun a => ob (vk Pm 0 x (gK m a) (PTb.2.2.1 o idx (gK m a))) fun mid => kx 3 mid
  | .invokespecial idx => ob (PTb.2.2.1 o idx 0) fun x => ob (rfo st[Pm.2.2.2.2.1 x - 1]?) fun a => ob (vk Pm 1 x (gK m a) (PTb.2.2.1 o idx (gK m a))) fun mid => kx 3 mid
  | .invokeinterface idx _ => ob (PTb.2.2.1 o idx 0) fun x => ob (rfo st[Pm.2.2.2.2.1 x - 1]?) fun a => ob (vk Pm 2 x (gK m a) (PTb.2.2.1 o idx (gK m a))) fun mid => kx 5 mid
  | .ireturn => match st with
    | [.int v] => ob rt fun ty => if narrow ty (.int v) = .int v then rx 0 (some (.int v)) m else none
    | _ => none
  | .lreturn => match st with
    | [.long v] => if rt = some .long then rx 0 (some (.long v)) m else none
    | _ => none
  | .areturn => match st with
    | [.ref a] => if isOb rt = true then rx 0 (some (.ref a)) m else none
    | [.null] => if isOb rt = true then rx 0 (some .null) m else none
    | _ => none
  | .return_ => match st with
    | [] => if rt = none then rx 0 (none) m else none
    | _ => none
  | .athrow => match st with
    | [.ref a] => if gK m a = 2 then rx 1 (some (.ref a)) m else none
    | _ => none
  | _ => none
/-- how long an instruction is (0: any) -/
def iln : Instr → Nat
  | .bipush _ => 2
  | .sipush _ => 3
  | .iload _ => 2
  | .lload _ => 2
  | .aload _ => 2
  | .istore _ => 2
  | .lstore _ => 2
  | .astore _ => 2
  | .iinc _ _ => 3
  | .goto _ => 3
  | .ifCond _ _ => 3
  | .if_icmp _ _ => 3
  | .ifnull _ => 3
  | .ifnonnull _ => 3
  | .tableswitch _ _ _ _ => 0
  | .lookupswitch _ _ => 0
  | .getfield _ => 3
  | .putfield _ => 3
  | .getstatic _ => 3
  | .ldc _ => 2
  | .ldc_w _ => 3
  | .ldc2_w _ => 3
  | .new _ => 3
  | .newarray _ => 2
  | .anewarray _ => 3
  | .invokestatic _ => 3
  | .invokevirtual _ => 3
  | .invokespecial _ => 3
  | .invokeinterface _ _ => 5
  | _ => 1
def enL : List Value → PLs
  | [] => []
  | v :: vs => if v.category = 2 then some v :: none :: enL vs else some v :: enL vs
def enT (args : List Value) (n : Nat) : PLs := enL args ++ List.replicate (n - (enL args).length) none
/-- a call: at length len, of mid, with what the callee gave -/
def cx (Pm : PMeth) (st : List Value) (mid : Nat) : Option (List Value × List Value) :=
  if st.length < Pm.2.2.2.2.1 mid then none
  else if 8 < ((st.drop (Pm.2.2.2.2.1 mid)).map fun v => v.category).sum then none
  else some ((st.take (Pm.2.2.2.2.1 mid)).reverse, st.drop (Pm.2.2.2.2.1 mid))
/-- a call of one of the few that aren't run: only with some depth left -/
def io (d : Nat) (q : Option (Option PRes)) (b : Option PRes) : Option PRes := match q with
  | some r => if 8 ≤ d then r else none
  | none => b
def dz (d : Nat) (f : Nat → Option PRes) : Option PRes := match d with
  | 0 => none
  | d' + 1 => f d'
/-- behind a call: it returned; it threw what may be caught here; it threw something else -/
def af (w : Option PRes) (k0 k1 : Option Value → PM → Option PRes) (k2 : PRes → Option PRes) : Option PRes := match w with
  | some ((0, v), m') => k0 v m'
  | some ((1, v), m') => k1 v m'
  | some r => k2 r
  | none => none
def hc (h : Option Nat) (k : Nat → Option PRes) (b : Option PRes) : Option PRes := match h with
  | some h => k h
  | none => b
/-- an end: a throw only where no handler is -/
def rz (h : Option Nat) (r : PRes) : Option PRes := if r.1.1 = 0 then some r else hc h (fun _ => none) (some r)
def ac (a : Option PAct) (h : Option Nat) (k : Nat → PLs → List Value → PM → Option PRes) (c : Nat → Nat → Option PRes) : Option PRes := match a with
  | some (.inl (pc', L', st', m')) => k pc' L' st' m'
  | some (.inr (.inl r)) => rz h r
  | some (.inr (.inr (len, mid))) => c len mid
  | none => none
def cy (q : Option (List Value × List Value)) (k : List Value → List Value → Option PRes) : Option PRes := match q with
  | some (args, rest) => k args rest
  | none => none
def dc (dec : Except DecodeError (Instr × Nat)) (k : Instr → Option PRes) : Option PRes := match dec with
  | .ok (i, len) => if iln i = 0 ∨ iln i = len then k i else none
  | .error _ => none
def ex (PTb : PT) (Pm : PMeth) : Nat → Nat → Nat → ByteArray → Option FieldType → (Nat → Option Nat) → Nat → PLs → List Value → PM → Option PRes
  | 0, _, _, _, _, _, _, _, _, _ => none
  | n + 1, d, o, cc, rt, hh, pc, L, st, m => dc (decode cc pc) fun i => ac (sx PTb Pm o rt pc L st m i) (hh pc)
      (fun pc' L' st' m' => ex PTb Pm n d o cc rt hh pc' L' st' m')
      (fun len mid => cy (cx Pm st mid) fun args rest =>
        af (io d (Pm.2.2.2.2.2.2 mid args m) (dz d fun d' => ex PTb Pm n d' (Pm.1 mid) (Pm.2.1 mid) (Pm.2.2.2.1 mid) (Pm.2.2.2.2.2.1 mid) 0 (enT args (Pm.2.2.1 mid)) [] m))
          (fun v m' => ex PTb Pm n d o cc rt hh (pc + len) L (v.toList ++ rest) m')
          (fun v m' => hc (hh pc) (fun h => ex PTb Pm n d o cc rt hh h L v.toList m') (some ((1, v), m')))
          (fun r => hc (hh pc) (fun _ => none) (some r)))
