/-! PART 02: the abstract memory, and the abstract meaning of an instruction and of a method -/
abbrev zS : Type := Nat × (Nat → Nat → Int32) × (Nat → Nat → Int64) × (Nat → Nat → Nat)
def zn (σ : zS) : Nat := σ.1
def zI (σ : zS) : Nat → Nat → Int32 := σ.2.1
def zL (σ : zS) : Nat → Nat → Int64 := σ.2.2.1
def zR (σ : zS) : Nat → Nat → Nat := σ.2.2.2
def zsI (σ : zS) (r : Nat) (f : Nat → Int32) : zS := (σ.1, va_up σ.2.1 r f, σ.2.2.1, σ.2.2.2)
def zsL (σ : zS) (r : Nat) (f : Nat → Int64) : zS := (σ.1, σ.2.1, va_up σ.2.2.1 r f, σ.2.2.2)
def zsR (σ : zS) (r : Nat) (f : Nat → Nat) : zS := (σ.1, σ.2.1, σ.2.2.1, va_up σ.2.2.2 r f)
def zwI (σ : zS) (r i : Nat) (v : Int32) : zS := zsI σ r (va_up (zI σ r) i v)
def zwL (σ : zS) (r i : Nat) (v : Int64) : zS := zsL σ r (va_up (zL σ r) i v)
def zwR (σ : zS) (r i : Nat) (v : Nat) : zS := zsR σ r (va_up (zR σ r) i v)
def znw (σ : zS) : zS := (σ.1 + 1, va_up σ.2.1 σ.1 (fun _ => 0), va_up σ.2.2.1 σ.1 (fun _ => 0), va_up σ.2.2.2 σ.1 (fun _ => 0))
abbrev zKt : Type := Option Value → zS → Prop
abbrev zEt : Type := Nat → zS → Prop
abbrev zX : Type := List Value → zS → zKt → zEt → Prop
abbrev zLs : Type := List (Nat × Value)
abbrev zZt : Type := Nat → zLs → List Value → zS → Prop
abbrev zTb : Type := List (List (Nat × Instr × Nat))
-- reading the operand stack
def zp1I (st : List Value) (k : Int32 → List Value → Prop) : Prop := match st with
  | .int a :: r => k a r
  | _ => False
def zp2I (st : List Value) (k : Int32 → Int32 → List Value → Prop) : Prop := match st with
  | .int b :: .int a :: r => k a b r
  | _ => False
def zp1L (st : List Value) (k : Int64 → List Value → Prop) : Prop := match st with
  | .long a :: r => k a r
  | _ => False
def zp2L (st : List Value) (k : Int64 → Int64 → List Value → Prop) : Prop := match st with
  | .long b :: .long a :: r => k a b r
  | _ => False
def zpLI (st : List Value) (k : Int64 → Int32 → List Value → Prop) : Prop := match st with
  | .int b :: .long a :: r => k a b r
  | _ => False
def zp1R (st : List Value) (k : Nat → List Value → Prop) : Prop := match st with
  | .ref a :: r => k a r
  | _ => False
def zp2R (st : List Value) (k : Nat → Nat → List Value → Prop) : Prop := match st with
  | .ref b :: .ref a :: r => k a b r
  | _ => False
def zpRI (st : List Value) (k : Nat → Int32 → List Value → Prop) : Prop := match st with
  | .int j :: .ref a :: r => k a j r
  | _ => False
def zpRL (st : List Value) (k : Nat → Int64 → List Value → Prop) : Prop := match st with
  | .long j :: .ref a :: r => k a j r
  | _ => False
def zpRII (st : List Value) (k : Nat → Int32 → Int32 → List Value → Prop) : Prop := match st with
  | .int x :: .int j :: .ref a :: r => k a j x r
  | _ => False
def zpRIL (st : List Value) (k : Nat → Int32 → Int64 → List Value → Prop) : Prop := match st with
  | .long x :: .int j :: .ref a :: r => k a j x r
  | _ => False
def zpRIR (st : List Value) (k : Nat → Int32 → Nat → List Value → Prop) : Prop := match st with
  | .ref x :: .int j :: .ref a :: r => k a j x r
  | _ => False
def zpv (st : List Value) (k : Value → List Value → Prop) : Prop := match st with
  | v :: r => k v r
  | _ => False
def zpvv (st : List Value) (k : Value → Value → List Value → Prop) : Prop := match st with
  | v :: w :: r => k v w r
  | _ => False
def zpvvv (st : List Value) (k : Value → Value → Value → List Value → Prop) : Prop := match st with
  | v :: w :: u :: r => k v w u r
  | _ => False
def zc1 (v : Value) (P : Prop) : Prop := match v.category with
  | 1 => P
  | _ => False
-- locals
def zget (ls : zLs) (i : Nat) : Option Value := (ls.find? (fun q => q.1 == i)).map (·.2)
def zgI (ls : zLs) (i : Nat) (k : Int32 → Prop) : Prop := match zget ls i with
  | some (.int x) => k x
  | _ => False
def zgL (ls : zLs) (i : Nat) (k : Int64 → Prop) : Prop := match zget ls i with
  | some (.long x) => k x
  | _ => False
def zgR (ls : zLs) (i : Nat) (k : Nat → Prop) : Prop := match zget ls i with
  | some (.ref x) => k x
  | _ => False
def zst1 (ls : zLs) (i : Nat) (v : Value) : zLs := (i, v) :: ls.filter (fun q => !(q.1 == i) && !(q.1 + 1 == i && q.2.category == 2))
def zst2 (ls : zLs) (i : Nat) (v : Value) : zLs := (i, v) :: ls.filter (fun q => !(q.1 == i) && (!(q.1 == i + 1) && !(q.1 + 1 == i && q.2.category == 2)))
def ztgt (pc : Nat) (off : Int) : Nat := ((pc : Int) + off).toNat
def zbr (c : Jvm.ClassFile.Cond) (x y : Int32) (A B : Prop) : Prop := match c with
  | .eq => (x = y → A) ∧ (¬ x = y → B)
  | .ne => (¬ x = y → A) ∧ (x = y → B)
  | .lt => (x < y → A) ∧ (¬ x < y → B)
  | .ge => (y ≤ x → A) ∧ (¬ y ≤ x → B)
  | .gt => (y < x → A) ∧ (¬ y < x → B)
  | .le => (x ≤ y → A) ∧ (¬ x ≤ y → B)
def ztab (pc : Nat) (Zt : Nat → Prop) (x : Int32) : Int → List Int → Prop
  | _, [] => True
  | lo, off :: t => (x.toInt = lo → Zt (ztgt pc off)) ∧ ztab pc Zt x (lo + 1) t
-- the heap
def zalo (ph : Bool) (σ : zS) (a : Nat) (P : Prop) : Prop := match ph with
  | true => P
  | false => a < zn σ ∧ P
def zalk (ph : Bool) (σ : zS) (a k : Nat) (P : Prop) : Prop := match ph && !(k == 30) with
  | true => zK a = k ∧ P
  | false => zK a = k ∧ a < zn σ ∧ P
def zfv (ph : Bool) (σ : zS) (k f a : Nat) : Value := match ztg k f with
  | 1 => .long (zL σ a f)
  | 2 => .ref (zR σ a f)
  | 3 => match ph with
    | true => .ref (a + zof k f)
    | false => .ref (zR σ a f)
  | _ => .int (zI σ a f)
def zbv (a : Nat) (x : Int32) : Int32 := if zK a = 103 then vp_nar .boolean x else vp_nar .byte x
/-- may an object of kind b stand in an array of kind a -/
def zac (a b : Nat) : Bool := b == 0 || (a == 110 && b == 2) || (a == 111 && b == 28) || (a == 112 && b == 29) || (a == 113 && b == 10) || (a == 116 && b == 24) || (a == 114 && (b == 9 || (11 ≤ b && b ≤ 19))) || (a == 115 && (20 ≤ b && b ≤ 22))
def zarr (k : Nat) : Bool := (101 ≤ k && k ≤ 105) || (110 ≤ k && k ≤ 116)
def zakd (t : ArrayType) : Nat := match t with
  | .boolean => 103
  | .byte => 101
  | .int => 102
  | .long => 104
  | _ => 0
def ztb (tb : zTb) (pc : Nat) : Option (Instr × Nat) := ((tb.getD (pc / 8) []).find? (fun q => q.1 == pc)).map (·.2)
def zoc {α : Type} (x : Option α) (k : α → Prop) : Prop := match x with
  | some v => k v
  | none => False
/-- string constants by class and place in its pool -/
def zstr (o i : Nat) : Option Nat := match o, i with
  | 22, 56 => some 6
  | 24, 27 => some 8
  | _, _ => none
def zod {α : Type} (x : Option α) (k : α → Prop) (P : Prop) : Prop := match x with
  | some v => k v
  | none => P
def zputf (ph : Bool) (σ : zS) (k f : Nat) (st : List Value) (kk : List Value → zS → Prop) : Prop := match ztg k f with
  | 1 => zpRL st (fun a x r => zalk ph σ a k (kk r (zwL σ a f x)))
  | 2 => zp2R st (fun a x r => zalk ph σ a k (kk r (zwR σ a f x)))
  | 3 => match ph with
    | true => False
    | false => zp2R st (fun a x r => zalk false σ a k (kk r (zwR σ a f x)))
  | 4 => zpRI st (fun a x r => zalk ph σ a k ((x = 0 ∨ x = 1) ∧ kk r (zwI σ a f x)))
  | _ => zpRI st (fun a x r => zalk ph σ a k (kk r (zwI σ a f x)))
def zdup2 (st : List Value) (kk : List Value → Prop) : Prop := match st with
  | .long x :: r => kk (.long x :: .long x :: r)
  | v :: w :: r => zc1 v (zc1 w (kk (v :: w :: v :: w :: r)))
  | _ => False
def zretI (rt : Option FieldType) (st : List Value) (σ : zS) (K : zKt) : Prop := match st with
  | [.int x] => match rt with
    | some .int => K (some (.int x)) σ
    | some .boolean => (x = 0 ∨ x = 1) ∧ K (some (.int x)) σ
    | _ => False
  | _ => False
def zretL (rt : Option FieldType) (st : List Value) (σ : zS) (K : zKt) : Prop := match st with
  | [.long x] => match rt with
    | some .long => K (some (.long x)) σ
    | _ => False
  | _ => False
def zretA (rt : Option FieldType) (st : List Value) (σ : zS) (K : zKt) : Prop := match st with
  | [.ref x] => match rt with
    | some (.object _) => K (some (.ref x)) σ
    | _ => False
  | _ => False
def zretV (rt : Option FieldType) (st : List Value) (σ : zS) (K : zKt) : Prop := match st with
  | [] => match rt with
    | none => K none σ
    | _ => False
  | _ => False
def zbl (b : Bool) (A B : Prop) : Prop := match b with
  | true => A
  | false => B
def zacm (c : ACond) (a b : Nat) (A B : Prop) : Prop := match c with
  | .eq => (a = b → A) ∧ (¬ a = b → B)
  | .ne => (¬ a = b → A) ∧ (a = b → B)
/-- how a method's frame is meant: constant pool, return type, phase, code table, number of operands that a call takes, calls, handlers -/
abbrev zM : Type := Nat × Option FieldType × Bool × zTb × (Nat → Nat) × (Nat → zX) × (Nat → Option Nat)
def zexc (hd : Nat → Option Nat) (E : zEt) (Z : zZt) (pc : Nat) (ls : zLs) : zEt := fun a σ => match hd pc with
  | some h => Z h ls [.ref a] σ
  | none => E a σ
def zinv (ar : Nat → Nat) (C : Nat → zX) (hd : Nat → Option Nat) (E : zEt) (Z : zZt) (i pc : Nat) (ls : zLs) (st : List Value) (σ : zS) : Prop := match Nat.ble (ar i) st.length && Nat.ble ((st.drop (ar i)).map (fun v => v.category)).sum 8 with
  | true => C i (st.take (ar i)).reverse σ (fun v τ => Z (pc + 3) ls (v.toList ++ st.drop (ar i)) τ) (zexc hd E Z pc ls)
  | false => False
/-- static arrays by class and place in its pool -/
def zsta (o i : Nat) : Option Nat := match o, i with
  | 9, 139 => some 2
  | 18, 33 => some 3
  | 42, 484 => some 4
  | 42, 797 => some 5
  | _, _ => none
def zscn (r : Nat) : String := match r with
  | 2 => "PackingHouse$Blocks"
  | 3 => "PackingHouse$Frame"
  | _ => "PackingHouseModel"
def zsnm (r : Nat) : String := match r with
  | 2 => "STEPS"
  | 3 => "MAGIC"
  | 4 => "STEPS"
  | _ => "BENCH"
def zins (o : Nat) (rt : Option FieldType) (ph : Bool) (ar : Nat → Nat) (C : Nat → zX) (hd : Nat → Option Nat) (K : zKt) (E : zEt) (Z : zZt) (ins : Instr) (len pc : Nat) (ls : zLs) (st : List Value) (σ : zS) : Prop := match ins with
  | .iconst n => Z (pc + len) ls (.int (Int32.ofInt n) :: st) σ
  | .bipush n => Z (pc + len) ls (.int (Int8.ofInt n).toInt32 :: st) σ
  | .sipush n => Z (pc + len) ls (.int (Int16.ofInt n).toInt32 :: st) σ
  | .lconst n => Z (pc + len) ls (.long (Int64.ofNat (n : Nat)) :: st) σ
  | .aconst_null => Z (pc + len) ls (.ref 0 :: st) σ
  | .ldc i => zod (zstr o i) (fun r => Z (pc + len) ls (.ref r :: st) σ) (zoc (zcst o i) (fun v => Z (pc + len) ls (.int v :: st) σ))
  | .ldc_w i => zoc (zcst o i) (fun v => Z (pc + len) ls (.int v :: st) σ)
  | .ldc2_w i => zoc (zcsl o i) (fun v => Z (pc + len) ls (.long v :: st) σ)
  | .iload i => zgI ls i (fun x => Z (pc + len) ls (.int x :: st) σ)
  | .iload_n i => zgI ls i (fun x => Z (pc + len) ls (.int x :: st) σ)
  | .lload i => zgL ls i (fun x => Z (pc + len) ls (.long x :: st) σ)
  | .lload_n i => zgL ls i (fun x => Z (pc + len) ls (.long x :: st) σ)
  | .aload i => zgR ls i (fun x => Z (pc + len) ls (.ref x :: st) σ)
  | .aload_n i => zgR ls i (fun x => Z (pc + len) ls (.ref x :: st) σ)
  | .istore i => zp1I st (fun x r => Z (pc + len) (zst1 ls i (.int x)) r σ)
  | .istore_n i => zp1I st (fun x r => Z (pc + len) (zst1 ls i (.int x)) r σ)
  | .lstore i => zp1L st (fun x r => Z (pc + len) (zst2 ls i (.long x)) r σ)
  | .lstore_n i => zp1L st (fun x r => Z (pc + len) (zst2 ls i (.long x)) r σ)
  | .astore i => zp1R st (fun x r => Z (pc + len) (zst1 ls i (.ref x)) r σ)
  | .astore_n i => zp1R st (fun x r => Z (pc + len) (zst1 ls i (.ref x)) r σ)
  | .iinc i n => zgI ls i (fun x => Z (pc + len) (zst1 ls i (.int (x + Int32.ofInt n))) st σ)
  | .iadd => zp2I st (fun x y r => Z (pc + len) ls (.int (x + y) :: r) σ)
  | .isub => zp2I st (fun x y r => Z (pc + len) ls (.int (x - y) :: r) σ)
  | .imul => zp2I st (fun x y r => Z (pc + len) ls (.int (x * y) :: r) σ)
  | .iand => zp2I st (fun x y r => Z (pc + len) ls (.int (x &&& y) :: r) σ)
  | .ior => zp2I st (fun x y r => Z (pc + len) ls (.int (x ||| y) :: r) σ)
  | .ixor => zp2I st (fun x y r => Z (pc + len) ls (.int (x ^^^ y) :: r) σ)
  | .idiv => zp2I st (fun x y r => ¬ y = 0 ∧ Z (pc + len) ls (.int (x / y) :: r) σ)
  | .irem => zp2I st (fun x y r => ¬ y = 0 ∧ Z (pc + len) ls (.int (x - x / y * y) :: r) σ)
  | .ineg => zp1I st (fun x r => Z (pc + len) ls (.int (-x) :: r) σ)
  | .ishl => zp2I st (fun x y r => Z (pc + len) ls (.int (x <<< (y &&& 31)) :: r) σ)
  | .ishr => zp2I st (fun x y r => Z (pc + len) ls (.int (x >>> (y &&& 31)) :: r) σ)
  | .iushr => zp2I st (fun x y r => Z (pc + len) ls (.int (x.toUInt32 >>> (y.toUInt32 &&& Int32.toUInt32 31)).toInt32 :: r) σ)
  | .ladd => zp2L st (fun x y r => Z (pc + len) ls (.long (x + y) :: r) σ)
  | .lsub => zp2L st (fun x y r => Z (pc + len) ls (.long (x - y) :: r) σ)
  | .lmul => zp2L st (fun x y r => Z (pc + len) ls (.long (x * y) :: r) σ)
  | .land => zp2L st (fun x y r => Z (pc + len) ls (.long (x &&& y) :: r) σ)
  | .lor => zp2L st (fun x y r => Z (pc + len) ls (.long (x ||| y) :: r) σ)
  | .lxor => zp2L st (fun x y r => Z (pc + len) ls (.long (x ^^^ y) :: r) σ)
  | .ldiv => zp2L st (fun x y r => ¬ y = 0 ∧ Z (pc + len) ls (.long (x / y) :: r) σ)
  | .lrem => zp2L st (fun x y r => ¬ y = 0 ∧ Z (pc + len) ls (.long (x - x / y * y) :: r) σ)
  | .lshl => zpLI st (fun x y r => Z (pc + len) ls (.long (x <<< (y.toInt64 &&& 63)) :: r) σ)
  | .lshr => zpLI st (fun x y r => Z (pc + len) ls (.long (x >>> (y.toInt64 &&& 63)) :: r) σ)
  | .lushr => zpLI st (fun x y r => Z (pc + len) ls (.long (x.toUInt64 >>> (y.toInt64.toUInt64 &&& Int64.toUInt64 63)).toInt64 :: r) σ)
  | .lcmp => zp2L st (fun x y r => Z (pc + len) ls (.int (lg_cmp x y) :: r) σ)
  | .i2l => zp1I st (fun x r => Z (pc + len) ls (.long x.toInt64 :: r) σ)
  | .l2i => zp1L st (fun x r => Z (pc + len) ls (.int x.toInt32 :: r) σ)
  | .i2b => zp1I st (fun x r => Z (pc + len) ls (.int x.toInt8.toInt32 :: r) σ)
  | .i2c => zp1I st (fun x r => Z (pc + len) ls (.int (x.toUInt32 % 65536).toInt32 :: r) σ)
  | .dup => zpv st (fun v r => zc1 v (Z (pc + len) ls (v :: v :: r) σ))
  | .pop => zpv st (fun v r => zc1 v (Z (pc + len) ls r σ))
  | .dup_x1 => zpvv st (fun v w r => zc1 v (zc1 w (Z (pc + len) ls (v :: w :: v :: r) σ)))
  | .dup_x2 => zpvvv st (fun v w u r => zc1 v (zc1 w (zc1 u (Z (pc + len) ls (v :: w :: u :: v :: r) σ))))
  | .dup2 => zdup2 st (fun r => Z (pc + len) ls r σ)
  | .goto off => Z (ztgt pc off) ls st σ
  | .ifCond c off => zp1I st (fun x r => zbr c x 0 (Z (ztgt pc off) ls r σ) (Z (pc + len) ls r σ))
  | .if_icmp c off => zp2I st (fun x y r => zbr c x y (Z (ztgt pc off) ls r σ) (Z (pc + len) ls r σ))
  | .if_acmp c off => zp2R st (fun a b r => (zK a ≤ 31 ∧ zK b ≤ 31) ∧ zacm c a b (Z (ztgt pc off) ls r σ) (Z (pc + len) ls r σ))
  | .ifnull off => zp1R st (fun a r => (a = 0 → Z (ztgt pc off) ls r σ) ∧ (¬ a = 0 → Z (pc + len) ls r σ))
  | .ifnonnull off => zp1R st (fun a r => (¬ a = 0 → Z (ztgt pc off) ls r σ) ∧ (a = 0 → Z (pc + len) ls r σ))
  | .tableswitch dflt lo hi offs => zp1I st (fun x r => ztab pc (fun t => Z t ls r σ) x lo offs.toList ∧ (x.toInt < lo ∨ hi < x.toInt → Z (ztgt pc dflt) ls r σ))
  | .arraylength => zp1R st (fun a r => zbl (o == zLaw) (zK a = 107 ∧ ¬ zI σ 0 0 < 0 ∧ Z (pc + len) ls (.int (zI σ 0 0) :: r) σ) (zalo ph σ a (zarr (zK a) = true ∧ Z (pc + len) ls (.int (nI (zN a)) :: r) σ)))
  | .iaload => zpRI st (fun a j r => zbl (o == zLaw) (zK a = 107 ∧ vp_in j (zI σ 0 0).toNatClampNeg ∧ Z (pc + len) ls (.int (zI σ 1 j.toNatClampNeg) :: r) σ) (zalo ph σ a ((zK a = 102 ∨ zK a = 105) ∧ vp_in j (zN a) ∧ Z (pc + len) ls (.int (zI σ a j.toNatClampNeg) :: r) σ)))
  | .baload => zpRI st (fun a j r => zalo ph σ a ((zK a = 101 ∨ zK a = 103) ∧ vp_in j (zN a) ∧ Z (pc + len) ls (.int (zI σ a j.toNatClampNeg) :: r) σ))
  | .laload => zpRI st (fun a j r => zalo ph σ a (zK a = 104 ∧ vp_in j (zN a) ∧ Z (pc + len) ls (.long (zL σ a j.toNatClampNeg) :: r) σ))
  | .aaload => zpRI st (fun a j r => zalo ph σ a (zK a / 10 = 11 ∧ vp_in j (zN a) ∧ Z (pc + len) ls (.ref (zR σ a j.toNatClampNeg) :: r) σ))
  | .iastore => zpRII st (fun a j x r => zalo ph σ a (zK a = 102 ∧ vp_in j (zN a) ∧ Z (pc + len) ls r (zwI σ a j.toNatClampNeg x)))
  | .bastore => zpRII st (fun a j x r => zalo ph σ a ((zK a = 101 ∨ zK a = 103) ∧ vp_in j (zN a) ∧ Z (pc + len) ls r (zwI σ a j.toNatClampNeg (zbv a x))))
  | .lastore => zpRIL st (fun a j x r => zalo ph σ a (zK a = 104 ∧ vp_in j (zN a) ∧ Z (pc + len) ls r (zwL σ a j.toNatClampNeg x)))
  | .aastore => zpRIR st (fun a j x r => zalo ph σ a (zalo ph σ x (zK a / 10 = 11 ∧ zac (zK a) (zK x) = true ∧ vp_in j (zN a) ∧ Z (pc + len) ls r (zwR σ a j.toNatClampNeg x))))
  | .getstatic i => zoc (zsta o i) (fun r => Z (pc + len) ls (.ref r :: st) σ)
  | .getfield i => zoc (zfld o i) (fun q => zp1R st (fun a r => zalk ph σ a q.1 (Z (pc + len) ls (zfv ph σ q.1 q.2.1 a :: r) σ)))
  | .putfield i => zoc (zfld o i) (fun q => zputf ph σ q.1 q.2.1 st (fun r τ => Z (pc + len) ls r τ))
  | .new i => zoc (zccl o i) (fun q => zK (zn σ) = q.1 ∧ zn σ < zCap ∧ Z (pc + len) ls (.ref (zn σ) :: st) (znw σ))
  | .newarray t => zp1I st (fun n r => ¬ n < 0 ∧ zK (zn σ) = zakd t ∧ zN (zn σ) = n.toNatClampNeg ∧ zn σ < zCap ∧ Z (pc + len) ls (.ref (zn σ) :: r) (znw σ))
  | .anewarray i => zoc (zccl o i) (fun q => zp1I st (fun n r => ¬ n < 0 ∧ zK (zn σ) = q.2 ∧ zN (zn σ) = n.toNatClampNeg ∧ zn σ < zCap ∧ Z (pc + len) ls (.ref (zn σ) :: r) (znw σ)))
  | .invokevirtual i => zinv ar C hd E Z i pc ls st σ
  | .invokespecial i => zinv ar C hd E Z i pc ls st σ
  | .invokestatic i => zinv ar C hd E Z i pc ls st σ
  | .ireturn => zretI rt st σ K
  | .lreturn => zretL rt st σ K
  | .areturn => zretA rt st σ K
  | .return_ => zretV rt st σ K
  | .athrow => zp1R st (fun a _ => zK a = 30 ∧ a < zn σ ∧ zexc hd E Z pc ls a σ)
  | _ => False
def zstep (M : zM) (K : zKt) (E : zEt) (Z : zZt) (pc : Nat) (ls : zLs) (st : List Value) (σ : zS) : Prop := match ztb M.2.2.2.1 pc with
  | some (ins, len) => zins M.1 M.2.1 M.2.2.1 M.2.2.2.2.1 M.2.2.2.2.2.1 M.2.2.2.2.2.2 K E Z ins len pc ls st σ
  | none => False
/-- from a frame the method ends as K or E say: the least such judgement -/
def zEx (M : zM) (K : zKt) (E : zEt) : zZt := fun pc ls st σ => ∀ Z : zZt, (∀ pc ls st σ, zstep M K E Z pc ls st σ → Z pc ls st σ) → (∀ pc ls ls' st σ, (∀ q ∈ ls', q ∈ ls) → Z pc ls' st σ → Z pc ls st σ) → Z pc ls st σ
/-- a method: its frame made of the arguments -/
def zMe (M : zM) (nL : Nat) : zX := fun as σ K E => (lg_sl as).length ≤ nL ∧ zEx M K E 0 (lv_args 0 as) [] σ
def zMono (X : zX) : Prop := ∀ as σ (K K' : zKt) (E E' : zEt), (∀ v τ, K v τ → K' v τ) → (∀ a τ, E a τ → E' a τ) → X as σ K E → X as σ K' E'
