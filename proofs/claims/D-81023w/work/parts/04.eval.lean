/-! LAYER 1b: the evaluator of straight code -/
abbrev hI : Type := Instr × Nat × Nat × Nat × Nat × Value
abbrev hX : Type := List (Nat × Value) × List Value × hH × Option Prop
def hx_fd : List (Nat × Value) → Nat → Option Value
  | [], _ => none
  | q :: L, i => match Nat.beq q.1 i with
    | true => some q.2
    | false => hx_fd L i
def hx_p1 (i : Nat) (q : Nat × Value) : Bool := !(q.1 == i) && !(q.1 + 1 == i && q.2.category == 2)
def hx_p2 (i : Nat) (q : Nat × Value) : Bool := !(q.1 == i) && (!(q.1 == i + 1) && !(q.1 + 1 == i && q.2.category == 2))
def hL (ad : Nat → Nat) (L : List (Nat × Value)) : List (Nat × Value) := L.map (fun q => (q.1, cV ad q.2))
def hx_rm (x y : Int32) : Int32 := x - x / y * y
def hx_rL (x y : Int64) : Int64 := x - x / y * y
def hx_get (S : hS) (h : hH) (z kd k : Nat) : Value := match kd with
  | 0 => .int (rdI h z k)
  | 1 => .int (rdI h z k)
  | 2 => .long (rdL h z k)
  | 3 => .ref (rdP h z k)
  | _ => .ref (hfr S h z k)
def hx_put (S : hS) (N : Nat) (h : hH) (z c kd k : Nat) (v : Value) : Option (hH × Prop) := match kd, v with
  | 0, .int x => some (wrI h z k x, S.2.1 z = c ∧ z ≤ N)
  | 1, .int x => some (wrI h z k x, (S.2.1 z = c ∧ z ≤ N) ∧ (x = 0 ∨ x = 1))
  | 2, .long x => some (wrL h z k x, S.2.1 z = c ∧ z ≤ N)
  | 3, .ref x => some (wrP h z k x, S.2.1 z = c ∧ z ≤ N)
  | _, _ => none
def hx_I1 (f : Int32 → Value) (L : List (Nat × Value)) (h : hH) : List Value → Option hX
  | .int x :: s => some (L, f x :: s, h, none)
  | _ => none
def hx_L1 (f : Int64 → Value) (L : List (Nat × Value)) (h : hH) : List Value → Option hX
  | .long x :: s => some (L, f x :: s, h, none)
  | _ => none
def hx_I2 (f : Int32 → Int32 → Value) (L : List (Nat × Value)) (h : hH) : List Value → Option hX
  | .int y :: .int x :: s => some (L, f x y :: s, h, none)
  | _ => none
def hx_L2 (f : Int64 → Int64 → Value) (L : List (Nat × Value)) (h : hH) : List Value → Option hX
  | .long y :: .long x :: s => some (L, f x y :: s, h, none)
  | _ => none
def hx_S2 (f : Int64 → Int32 → Value) (L : List (Nat × Value)) (h : hH) : List Value → Option hX
  | .int y :: .long x :: s => some (L, f x y :: s, h, none)
  | _ => none
def hx_ldI (L : List (Nat × Value)) (i : Nat) (st : List Value) (h : hH) : Option hX := match hx_fd L i with
  | some (.int x) => some (L, .int x :: st, h, none)
  | _ => none
def hx_ldL (L : List (Nat × Value)) (i : Nat) (st : List Value) (h : hH) : Option hX := match hx_fd L i with
  | some (.long x) => some (L, .long x :: st, h, none)
  | _ => none
def hx_ldA (L : List (Nat × Value)) (i : Nat) (st : List Value) (h : hH) : Option hX := match hx_fd L i with
  | some (.ref x) => some (L, .ref x :: st, h, none)
  | _ => none
def hx_stI (L : List (Nat × Value)) (i : Nat) (st : List Value) (h : hH) : Option hX := match st with
  | .int x :: s => some ((i, .int x) :: L.filter (hx_p1 i), s, h, none)
  | _ => none
def hx_stL (L : List (Nat × Value)) (i : Nat) (st : List Value) (h : hH) : Option hX := match st with
  | .long x :: s => some ((i, .long x) :: L.filter (hx_p2 i), s, h, none)
  | _ => none
def hx_stA (L : List (Nat × Value)) (i : Nat) (st : List Value) (h : hH) : Option hX := match st with
  | .ref x :: s => some ((i, .ref x) :: L.filter (hx_p1 i), s, h, none)
  | _ => none
def hx_inc (L : List (Nat × Value)) (i : Nat) (st : List Value) (h : hH) (v : Value) : Option hX := match hx_fd L i, v with
  | some (.int x), .int c => some ((i, .int (x + c)) :: L.filter (hx_p1 i), st, h, none)
  | _, _ => none
def hx_stp (S : hS) (N : Nat) (i : hI) (L : List (Nat × Value)) (st : List Value) (h : hH) : Option hX :=
  match i.1 with
  | .iconst _ => some (L, i.2.2.2.2.2 :: st, h, none)
  | .bipush _ => some (L, i.2.2.2.2.2 :: st, h, none)
  | .sipush _ => some (L, i.2.2.2.2.2 :: st, h, none)
  | .lconst _ => some (L, i.2.2.2.2.2 :: st, h, none)
  | .ldc _ => some (L, i.2.2.2.2.2 :: st, h, none)
  | .ldc_w _ => some (L, i.2.2.2.2.2 :: st, h, none)
  | .ldc2_w _ => some (L, i.2.2.2.2.2 :: st, h, none)
  | .aconst_null => some (L, .ref 0 :: st, h, none)
  | .iload_n k => hx_ldI L k.val st h
  | .iload k => hx_ldI L k st h
  | .lload_n k => hx_ldL L k.val st h
  | .lload k => hx_ldL L k st h
  | .aload_n k => hx_ldA L k.val st h
  | .aload k => hx_ldA L k st h
  | .istore_n k => hx_stI L k.val st h
  | .istore k => hx_stI L k st h
  | .lstore_n k => hx_stL L k.val st h
  | .lstore k => hx_stL L k st h
  | .astore_n k => hx_stA L k.val st h
  | .astore k => hx_stA L k st h
  | .iinc k _ => hx_inc L k st h i.2.2.2.2.2
  | .iadd => hx_I2 (fun x y => .int (x + y)) L h st
  | .isub => hx_I2 (fun x y => .int (x - y)) L h st
  | .imul => hx_I2 (fun x y => .int (x * y)) L h st
  | .iand => hx_I2 (fun x y => .int (x &&& y)) L h st
  | .ior => hx_I2 (fun x y => .int (x ||| y)) L h st
  | .ixor => hx_I2 (fun x y => .int (x ^^^ y)) L h st
  | .ishl => hx_I2 (fun x y => .int (x <<< (y &&& 31))) L h st
  | .ishr => hx_I2 (fun x y => .int (x >>> (y &&& 31))) L h st
  | .ineg => hx_I1 (fun x => .int (-x)) L h st
  | .i2l => hx_I1 (fun x => .long x.toInt64) L h st
  | .i2s => hx_I1 (fun x => .int x.toInt16.toInt32) L h st
  | .i2b => hx_I1 (fun x => .int x.toInt8.toInt32) L h st
  | .ladd => hx_L2 (fun x y => .long (x + y)) L h st
  | .lsub => hx_L2 (fun x y => .long (x - y)) L h st
  | .lmul => hx_L2 (fun x y => .long (x * y)) L h st
  | .land => hx_L2 (fun x y => .long (x &&& y)) L h st
  | .lor => hx_L2 (fun x y => .long (x ||| y)) L h st
  | .lxor => hx_L2 (fun x y => .long (x ^^^ y)) L h st
  | .lcmp => hx_L2 (fun x y => .int (lg_cmp x y)) L h st
  | .lshl => hx_S2 (fun x y => .long (x <<< (y.toInt64 &&& 63))) L h st
  | .lshr => hx_S2 (fun x y => .long (x >>> (y.toInt64 &&& 63))) L h st
  | .lneg => hx_L1 (fun x => .long (-x)) L h st
  | .l2i => hx_L1 (fun x => .int x.toInt32) L h st
  | .idiv => (match st with
    | .int y :: .int x :: s => some (L, .int (x / y) :: s, h, some (¬ y = 0))
    | _ => none)
  | .irem => (match st with
    | .int y :: .int x :: s => some (L, .int (hx_rm x y) :: s, h, some (¬ y = 0))
    | _ => none)
  | .ldiv => (match st with
    | .long y :: .long x :: s => some (L, .long (x / y) :: s, h, some (¬ y = 0))
    | _ => none)
  | .lrem => (match st with
    | .long y :: .long x :: s => some (L, .long (hx_rL x y) :: s, h, some (¬ y = 0))
    | _ => none)
  | .dup => (match st with
    | .int x :: s => some (L, .int x :: .int x :: s, h, none)
    | .ref x :: s => some (L, .ref x :: .ref x :: s, h, none)
    | _ => none)
  | .dup2 => (match st with
    | .long x :: s => some (L, .long x :: .long x :: s, h, none)
    | .int x :: .ref y :: s => some (L, .int x :: .ref y :: .int x :: .ref y :: s, h, none)
    | _ => none)
  | .pop => (match st with
    | .int x :: s => some (L, s, h, none)
    | .ref x :: s => some (L, s, h, none)
    | _ => none)
  | .getfield _ => (match st with
    | .ref z :: s => some (L, hx_get S h z i.2.2.2.2.1 i.2.2.2.1 :: s, h, some (S.2.1 z = i.2.2.1 ∧ z ≤ N))
    | _ => none)
  | .putfield _ => (match st with
    | v :: .ref z :: s => (match hx_put S N h z i.2.2.1 i.2.2.2.2.1 i.2.2.2.1 v with
      | some (h', c) => some (L, s, h', some c)
      | none => none)
    | _ => none)
  | .iaload => (match st with
    | .int j :: .ref z :: s => some (L, .int (rdI h z j.toNatClampNeg) :: s, h, some ((S.2.1 z = 100 ∧ z ≤ N) ∧ vp_in j (S.2.2.1 z)))
    | _ => none)
  | .baload => (match st with
    | .int j :: .ref z :: s => some (L, .int (rdI h z j.toNatClampNeg) :: s, h, some ((S.2.1 z = i.2.2.1 ∧ z ≤ N) ∧ vp_in j (S.2.2.1 z)))
    | _ => none)
  | .laload => (match st with
    | .int j :: .ref z :: s => some (L, .long (rdL h z j.toNatClampNeg) :: s, h, some ((S.2.1 z = 103 ∧ z ≤ N) ∧ vp_in j (S.2.2.1 z)))
    | _ => none)
  | .aaload => (match st with
    | .int j :: .ref z :: s => some (L, .ref (hfr S h z j.toNatClampNeg) :: s, h, some ((S.2.1 z = i.2.2.1 ∧ z ≤ N) ∧ vp_in j (S.2.2.1 z)))
    | _ => none)
  | .iastore => (match st with
    | .int x :: .int j :: .ref z :: s => some (L, s, wrI h z j.toNatClampNeg x, some ((S.2.1 z = 100 ∧ z ≤ N) ∧ vp_in j (S.2.2.1 z)))
    | _ => none)
  | .bastore => (match st with
    | .int x :: .int j :: .ref z :: s => some (L, s, wrI h z j.toNatClampNeg (match i.2.2.1 with | 101 => x &&& 1 | _ => x.toInt8.toInt32), some ((S.2.1 z = i.2.2.1 ∧ z ≤ N) ∧ vp_in j (S.2.2.1 z)))
    | _ => none)
  | .lastore => (match st with
    | .long x :: .int j :: .ref z :: s => some (L, s, wrL h z j.toNatClampNeg x, some ((S.2.1 z = 103 ∧ z ≤ N) ∧ vp_in j (S.2.2.1 z)))
    | _ => none)
  | .arraylength => (match st with
    | .ref z :: s => some (L, .int (Int32.ofNat (S.2.2.1 z)) :: s, h, some (S.2.1 z = i.2.2.1 ∧ z ≤ N))
    | _ => none)
  | _ => none
/-- what is checked of an instruction and its hints once: the links, the constants, the locals' places -/
def hx_len : Instr → Nat := fun i => match i with
  | .bipush _ => 2
  | .ldc _ => 2
  | .iload _ => 2
  | .lload _ => 2
  | .aload _ => 2
  | .istore _ => 2
  | .lstore _ => 2
  | .astore _ => 2
  | .sipush _ => 3
  | .ldc_w _ => 3
  | .ldc2_w _ => 3
  | .getfield _ => 3
  | .putfield _ => 3
  | .iinc _ _ => 3
  | _ => 1
def hx_okc (own nL : Nat) (i : hI) : Bool :=
  match i.1 with
  | .iconst n => decide (i.2.2.2.2.2 = .int (Int32.ofInt n))
  | .bipush n => decide (i.2.2.2.2.2 = .int (Int8.ofInt n).toInt32)
  | .sipush n => decide (i.2.2.2.2.2 = .int (Int16.ofInt n).toInt32)
  | .lconst n => decide (i.2.2.2.2.2 = .long (Int64.ofNat n.val))
  | .ldc x => (match i.2.2.2.2.2 with
    | .int v => decide (own < 12) && decide ((x, v) ∈ hcsT.getD own [])
    | _ => false)
  | .ldc_w x => (match i.2.2.2.2.2 with
    | .int v => decide (own < 12) && decide ((x, v) ∈ hcsT.getD own [])
    | _ => false)
  | .ldc2_w x => (match i.2.2.2.2.2 with
    | .long v => decide (own < 12) && decide ((x, v) ∈ hcLT.getD own [])
    | _ => false)
  | .istore_n k => decide (k.val < nL)
  | .istore k => decide (k < nL)
  | .lstore_n k => decide (k.val + 1 < nL)
  | .lstore k => decide (k + 1 < nL)
  | .astore_n k => decide (k.val < nL)
  | .astore k => decide (k < nL)
  | .iinc k n => decide (k < nL) && decide (i.2.2.2.2.2 = .int (Int32.ofInt n))
  | .getfield x => decide (own < 12) && (decide (i.2.2.1 < 12) && (decide (i.2.2.2.1 < hnf i.2.2.1) && (decide (hk i.2.2.1 i.2.2.2.1 = i.2.2.2.2.1) && (decide ((x, i.2.2.1, i.2.2.2.1) ∈ hflT.getD own []) || decide ((x, i.2.2.1, i.2.2.2.1) ∈ hfnT.getD own [])))))
  | .putfield x => decide (own < 12) && (decide (i.2.2.1 < 12) && (decide (i.2.2.2.1 < hnf i.2.2.1) && (decide (hk i.2.2.1 i.2.2.2.1 = i.2.2.2.2.1) && (decide ((x, i.2.2.1, i.2.2.2.1) ∈ hflT.getD own []) || decide ((x, i.2.2.1, i.2.2.2.1) ∈ hfnT.getD own [])))))
  | .baload => decide (i.2.2.1 = 101) || decide (i.2.2.1 = 102)
  | .bastore => decide (i.2.2.1 = 101) || decide (i.2.2.1 = 102)
  | .aaload => decide (i.2.2.1 = 104) || decide (i.2.2.1 = 105)
  | .arraylength => decide (100 ≤ i.2.2.1) && decide (i.2.2.1 < 106)
  | _ => true
def hx_okb (own nL : Nat) (i : hI) : Bool := decide (i.2.1 = hx_len i.1) && hx_okc own nL i
def hx_ty : Nat → FieldType := fun t => match t with
  | 100 => .int
  | 101 => .boolean
  | 102 => .byte
  | 103 => .long
  | 104 => .object "HintHouse$Outline"
  | _ => .object "HintHouse$Glyph"
def hx_Ty (dA : Nat → ClassId) : List (ClassId × FieldType) := [(dA 100, .int), (dA 101, .boolean), (dA 102, .byte), (dA 103, .long), (dA 104, .object "HintHouse$Outline"), (dA 105, .object "HintHouse$Glyph")]
def hx_dc : List MethodName := [⟨"java/lang/RuntimeException", "<init>", "()V"⟩, ⟨"java/lang/Exception", "<init>", "()V"⟩, ⟨"java/lang/Throwable", "<init>", "()V"⟩]
/-- what a state's tables say, all through -/
def hx_K (D : va_G) (dA : Nat → ClassId) (U : State) : Prop := va_K D hcl (hx_Ty dA) U ∧ (∀ w ∈ hfnAll, va_Nw w U) ∧ (∀ w ∈ hmnAll, va_Nw w U) ∧ va_Nw (.castable "java/lang/IllegalStateException" "java/lang/IllegalStateException") U ∧ (∀ x ∈ hx_dc, va_Nw (.declares x) U) ∧ va_AO "HintHouse$Outline" U ∧ va_AO "HintHouse$Glyph" U
/-- the two statics that a new exception reads -/
def hx_Z1 (n d : String) (A : Nat → Prop) (U : State) (H : Heap) : Prop := ∃ (c : ClassId) (k : Class) (i : Nat) (f : Field) (a : Nat) (cell : Cell) (v : Value), U.vm.findClass "java/lang/Throwable" = some c ∧ U.fieldFound? "java/lang/Throwable" n d = some (c, k, i, f) ∧ f.isStatic = true ∧ k.statics = some a ∧ H[a]? = some cell ∧ cell.vm.isStatics = true ∧ cell.cls = c ∧ f.slot < cell.slots.size ∧ k.staticTypes[f.slot]? = some f.type ∧ cell.slots[f.slot]? = some v ∧ v.isRef = true ∧ ¬ A a
def hx_Z (A : Nat → Prop) (U : State) (H : Heap) : Prop := hx_Z1 "UNASSIGNED_STACK" "[Ljava/lang/StackTraceElement;" A U H ∧ hx_Z1 "SUPPRESSED_SENTINEL" "Ljava/util/List;" A U H
def hx_hold (c : Option Prop) : Prop := match c with
  | none => True
  | some c => c
