/-! THE PURE MACHINE: the bytecode fragment of this claim over a heap of numbered cells.
A cell: a tag (arrays: 0 int, 1 byte, 2 long, 3 boolean, 4 String[]; an object of class ci: 10 + ci), its length, its contents.
A value: '.ref k' is the k-th cell made since the law began; '.float j' is the j-th String constant; '.retAddr j' is an array from outside (0: the script; j + 1: the bytes of the j-th String constant). -/
abbrev pvC : Type := Nat × Nat × (Nat → Value)
abbrev pvH : Type := (Nat → pvC) × Nat × Nat × Nat
abbrev pvL : Type := List (Nat × Value)
/-- an instruction, its length, and what its numbers stand for -/
abbrev pvI : Type := Instr × Nat × Nat × Nat × Nat
abbrev pvO : Type := Option Value ⊕ Nat
abbrev pvR : Type := (Nat × pvL × List Value × pvH) ⊕ (Nat × List Value × List Value × Nat × pvH) ⊕ (pvO × pvH)
/-- a method: is it <init>, its answer, its locals, its handlers (from, to, handler, the tags that it catches) -/
abbrev pvM : Type := Bool × Option FieldType × Nat × List (Nat × Nat × Nat × List Nat)
/-- the program: instructions; types of fields; finality of fields; number of fields of classes; methods; arrays from outside (tag, length, contents) -/
abbrev pvP : Type := (Nat → Nat → Option pvI) × (Nat → Nat → FieldType) × (Nat → Nat → Bool) × (Nat → Nat) × (Nat → pvM) × (Nat → Nat × Nat × (Nat → Int32))
def pv_ins (P : pvP) : Nat → Nat → Option pvI := P.1
def pv_ft (P : pvP) : Nat → Nat → FieldType := P.2.1
def pv_fin (P : pvP) : Nat → Nat → Bool := P.2.2.1
def pv_nf (P : pvP) : Nat → Nat := P.2.2.2.1
def pv_mi (P : pvP) : Nat → pvM := P.2.2.2.2.1
def pv_xa (P : pvP) : Nat → Nat × Nat × (Nat → Int32) := P.2.2.2.2.2

def pv_isR : Value → Bool
  | .ref _ => true
  | .null => true
  | .float _ => true
  | .retAddr _ => true
  | _ => false
def pv_get (ls : pvL) (i : Nat) : Option Value := (ls.find? (fun q => q.1 == i)).map (fun q => q.2)
def pv_set1 (ls : pvL) (i : Nat) (v : Value) : pvL := (i, v) :: ls.filter (fun q => !(q.1 == i) && !(q.1 + 1 == i && q.2.category == 2))
def pv_set2 (ls : pvL) (i : Nat) (v : Value) : pvL := (i, v) :: ls.filter (fun q => !(q.1 == i) && (!(q.1 == i + 1) && !(q.1 + 1 == i && q.2.category == 2)))
def pv_put (h : pvH) (k : Nat) (c : pvC) : pvH := (va_up h.1 k c, h.2)
def pv_new (h : pvH) (c : pvC) : pvH := (va_up h.1 h.2.1 c, h.2.1 + 1, h.2.2.1 - 1, h.2.2.2 - c.2.1)
def pv_fit (ty : FieldType) (v : Value) : Bool := match v with
  | .int x => decide (narrow ty (.int x) = .int x) && fits ty (.int x)
  | .long x => fits ty (.long x)
  | .ref _ => fits ty .null
  | .null => fits ty .null
  | .float _ => fits ty .null
  | .retAddr _ => fits ty .null
  | _ => false
/-- two ints from the stack -/
def pv_ii (st : List Value) (f : Int32 → Int32 → Option Value) : Option (List Value) := match st with
  | .int y :: .int x :: r => (f x y).map (fun v => v :: r)
  | _ => none
def pv_i (st : List Value) (f : Int32 → Option Value) : Option (List Value) := match st with
  | .int x :: r => (f x).map (fun v => v :: r)
  | _ => none
def pv_ll (st : List Value) (f : Int64 → Int64 → Option Value) : Option (List Value) := match st with
  | .long y :: .long x :: r => (f x y).map (fun v => v :: r)
  | _ => none
def pv_l (st : List Value) (f : Int64 → Option Value) : Option (List Value) := match st with
  | .long x :: r => (f x).map (fun v => v :: r)
  | _ => none
def pv_li (st : List Value) (f : Int64 → Int32 → Option Value) : Option (List Value) := match st with
  | .int y :: .long x :: r => (f x y).map (fun v => v :: r)
  | _ => none
def pv_c1 (c : ClassFile.Cond) (x : Int32) : Bool := match c with
  | .eq => decide (x = 0)
  | .ne => decide (¬ x = 0)
  | .lt => decide (x < 0)
  | .ge => decide (0 ≤ x)
  | .gt => decide (0 < x)
  | .le => decide (x ≤ 0)
def pv_c2 (c : ClassFile.Cond) (x y : Int32) : Bool := match c with
  | .eq => decide (x = y)
  | .ne => decide (¬ x = y)
  | .lt => decide (x < y)
  | .ge => decide (y ≤ x)
  | .gt => decide (y < x)
  | .le => decide (x ≤ y)
def pv_lcmp (x y : Int64) : Int32 := lg_cmp x y
def pv_in (i : Int32) (n : Nat) : Bool := decide (¬ (i < 0 ∨ n ≤ i.toNatClampNeg))
def pv_nx (pc : Nat) (ls : pvL) (h : pvH) (o : Option (List Value)) : Option pvR := o.map (fun st => .inl (pc, ls, st, h))
def pv_goI (pc : Int) (ls : pvL) (st : List Value) (h : pvH) : Option pvR := if 0 ≤ pc then some (.inl (pc.toNat, ls, st, h)) else none
/-- an element of an array: of one of ours, or of one from outside -/
def pv_ld (P : pvP) (t : Nat) (st : List Value) (h : pvH) : Option (List Value) := match st with
  | .int i :: .ref k :: r => if (h.1 k).1 = t ∧ k < h.2.1 ∧ pv_in i (h.1 k).2.1 = true then some ((h.1 k).2.2 i.toNatClampNeg :: r) else none
  | .int i :: .retAddr j :: r => if (pv_xa P j).1 = t ∧ pv_in i (pv_xa P j).2.1 = true then some (.int ((pv_xa P j).2.2 i.toNatClampNeg) :: r) else none
  | _ => none
def pv_ldo (t : Nat) (st : List Value) (h : pvH) : Option (List Value) := match st with
  | .int i :: .ref k :: r => if (h.1 k).1 = t ∧ k < h.2.1 ∧ pv_in i (h.1 k).2.1 = true then some ((h.1 k).2.2 i.toNatClampNeg :: r) else none
  | _ => none
/-- a store into an array of ours -/
def pv_st (t : Nat) (st : List Value) (h : pvH) (f : Value → Option Value) : Option (List Value × pvH) := match st with
  | v :: .int i :: .ref k :: r => if (h.1 k).1 = t ∧ k < h.2.1 ∧ pv_in i (h.1 k).2.1 = true then (f v).map (fun w => (r, pv_put h k (t, (h.1 k).2.1, va_up (h.1 k).2.2 i.toNatClampNeg w))) else none
  | _ => none
def pv_stx (pc : Nat) (ls : pvL) (o : Option (List Value × pvH)) : Option pvR := o.map (fun q => .inl (pc, ls, q.1, q.2))
def pv_aty (a : ArrayType) : Option (Nat × Value) := match a with
  | .int => some (0, .int 0)
  | .byte => some (1, .int 0)
  | .long => some (2, .long 0)
  | .boolean => some (3, .int 0)
  | _ => none
def pv_fld (P : pvP) (st : List Value) (h : pvH) (ci fk : Nat) : Option (List Value) := match st with
  | .ref k :: r => if (h.1 k).1 = 10 + ci ∧ k < h.2.1 ∧ fk < (h.1 k).2.1 then some ((h.1 k).2.2 fk :: r) else none
  | .float j :: r => if ci = 90 ∧ (pv_xa P (j.toNat + 1)).1 = 1 then (if fk = 0 then some (.retAddr (j.toNat + 1) :: r) else if fk = 1 then some (.int 0 :: r) else none) else none
  | _ => none
def pv_pfld (P : pvP) (M : Nat) (st : List Value) (h : pvH) (ci fk : Nat) : Option (List Value × pvH) := match st with
  | v :: .ref k :: r => if ((h.1 k).1 = 10 + ci ∧ k < h.2.1 ∧ fk < (h.1 k).2.1) ∧ (pv_fit (pv_ft P ci fk) v = true ∧ (pv_fin P ci fk = false ∨ (pv_mi P M).1 = true)) then some (r, pv_put h k (10 + ci, (h.1 k).2.1, va_up (h.1 k).2.2 fk v)) else none
  | _ => none
/-- System.arraycopy between two int arrays of ours -/
def pv_copy (st : List Value) (h : pvH) : Option (List Value × pvH) := match st with
  | .int n :: .int dp :: .ref d :: .int sp :: .ref k :: r =>
    if ((h.1 k).1 = 0 ∧ k < h.2.1 ∧ (h.1 d).1 = 0 ∧ d < h.2.1 ∧ k ≠ d) ∧ ((r.map Value.category).sum ≤ 24 ∧ ¬ n < 0 ∧ ¬ dp < 0 ∧ ¬ sp < 0 ∧ sp.toNatClampNeg + n.toNatClampNeg ≤ (h.1 k).2.1 ∧ dp.toNatClampNeg + n.toNatClampNeg ≤ (h.1 d).2.1) then
      some (r, pv_put h d (0, (h.1 d).2.1, va_cpy (h.1 k).2.2 (h.1 d).2.2 sp.toNatClampNeg dp.toNatClampNeg n.toNatClampNeg))
    else none
  | _ => none
def pv_alloc (h : pvH) (c : pvC) (pc : Nat) (ls : pvL) (st : List Value) : Option pvR :=
  if 1 ≤ h.2.2.1 ∧ c.2.1 ≤ h.2.2.2 then some (.inl (pc, ls, .ref h.2.1 :: st, pv_new h c)) else none
/-- a call: the callee M', with n values from the stack -/
def pv_call (P : pvP) (M' n pc : Nat) (st : List Value) (h : pvH) : Option pvR := if n ≤ st.length ∧ ((st.drop n).map Value.category).sum ≤ 24 ∧ ((st.take n).map Value.category).sum ≤ (pv_mi P M').2.2.1 then some (.inr (.inl (M', (st.take n).reverse, st.drop n, pc, h))) else none
/-- the receiver is an object of class ci (90: a String constant) -/
def pv_recv (P : pvP) (ci : Nat) (v : Option Value) (h : pvH) : Bool := match v with
  | some (.ref k) => decide ((h.1 k).1 = 10 + ci ∧ k < h.2.1)
  | some (.float j) => decide (ci = 90 ∧ (pv_xa P (j.toNat + 1)).1 = 1)
  | _ => false
def pv_recvI (v : Option Value) : Bool := match v with
  | some (.ref _) => true
  | _ => false
def pv_ret (P : pvP) (M : Nat) (st : List Value) (h : pvH) : Option pvR := match st, (pv_mi P M).2.1 with
  | [.int x], some ty => if narrow ty (.int x) = .int x ∧ (ty = .int ∨ ty = .boolean ∨ ty = .char ∨ ty = .byte) then some (.inr (.inr (.inl (some (.int x)), h))) else none
  | _, _ => none
def pv_dup2 (st : List Value) : Option (List Value) := match st with
  | .int a :: b :: r => if b.category = 1 then some (.int a :: b :: .int a :: b :: r) else none
  | .long a :: r => some (.long a :: .long a :: r)
  | _ => none
def pv_step (P : pvP) (M pc : Nat) (ls : pvL) (st : List Value) (h : pvH) : Option pvR :=
  match pv_ins P M pc with
  | none => none
  | some (i, len, r1, r2, r3) =>
    match i with
    | .aload_n k => pv_nx (pc + 1) ls h ((pv_get ls k).bind (fun v => if pv_isR v = true then some (v :: st) else none))
    | .aload k => pv_nx (pc + 2) ls h ((pv_get ls k).bind (fun v => if pv_isR v = true then some (v :: st) else none))
    | .iload_n k => pv_nx (pc + 1) ls h ((pv_get ls k).bind (fun v => match v with | .int x => some (.int x :: st) | _ => none))
    | .iload k => pv_nx (pc + 2) ls h ((pv_get ls k).bind (fun v => match v with | .int x => some (.int x :: st) | _ => none))
    | .lload_n k => pv_nx (pc + 1) ls h ((pv_get ls k).bind (fun v => match v with | .long x => some (.long x :: st) | _ => none))
    | .lload k => pv_nx (pc + 2) ls h ((pv_get ls k).bind (fun v => match v with | .long x => some (.long x :: st) | _ => none))
    | .istore_n k => match st with
      | .int x :: r => if k < (pv_mi P M).2.2.1 then some (.inl (pc + 1, pv_set1 ls k (.int x), r, h)) else none
      | _ => none
    | .istore k => match st with
      | .int x :: r => if k < (pv_mi P M).2.2.1 then some (.inl (pc + 2, pv_set1 ls k (.int x), r, h)) else none
      | _ => none
    | .lstore_n k => match st with
      | .long x :: r => if k + 1 < (pv_mi P M).2.2.1 then some (.inl (pc + 1, pv_set2 ls k (.long x), r, h)) else none
      | _ => none
    | .lstore k => match st with
      | .long x :: r => if k + 1 < (pv_mi P M).2.2.1 then some (.inl (pc + 2, pv_set2 ls k (.long x), r, h)) else none
      | _ => none
    | .astore_n k => match st with
      | v :: r => if k < (pv_mi P M).2.2.1 ∧ pv_isR v = true then some (.inl (pc + 1, pv_set1 ls k v, r, h)) else none
      | _ => none
    | .astore k => match st with
      | v :: r => if k < (pv_mi P M).2.2.1 ∧ pv_isR v = true then some (.inl (pc + 2, pv_set1 ls k v, r, h)) else none
      | _ => none
    | .iinc k n => match pv_get ls k with
      | some (.int x) => if k < (pv_mi P M).2.2.1 then some (.inl (pc + 3, pv_set1 ls k (.int (x + Int32.ofInt n)), st, h)) else none
      | _ => none
    | .iconst n => some (.inl (pc + 1, ls, .int (Int32.ofInt n) :: st, h))
    | .bipush n => some (.inl (pc + 2, ls, .int (Int8.ofInt n).toInt32 :: st, h))
    | .sipush n => some (.inl (pc + 3, ls, .int (Int16.ofInt n).toInt32 :: st, h))
    | .lconst n => some (.inl (pc + 1, ls, .long (Int64.ofNat (n : Nat)) :: st, h))
    | .ldc _ => if r3 = 0 then some (.inl (pc + 2, ls, .int (Int32.ofNat r1) :: st, h)) else some (.inl (pc + 2, ls, .float (UInt32.ofNat r1) :: st, h))
    | .ldc_w _ => if r3 = 0 then some (.inl (pc + 3, ls, .int (Int32.ofNat r1) :: st, h)) else some (.inl (pc + 3, ls, .float (UInt32.ofNat r1) :: st, h))
    | .ldc2_w _ => some (.inl (pc + 3, ls, .long (Int64.ofNat r1) :: st, h))
    | .aconst_null => some (.inl (pc + 1, ls, .null :: st, h))
    | .iadd => pv_nx (pc + 1) ls h (pv_ii st (fun x y => some (.int (x + y))))
    | .isub => pv_nx (pc + 1) ls h (pv_ii st (fun x y => some (.int (x - y))))
    | .imul => pv_nx (pc + 1) ls h (pv_ii st (fun x y => some (.int (x * y))))
    | .iand => pv_nx (pc + 1) ls h (pv_ii st (fun x y => some (.int (x &&& y))))
    | .ior => pv_nx (pc + 1) ls h (pv_ii st (fun x y => some (.int (x ||| y))))
    | .ishr => pv_nx (pc + 1) ls h (pv_ii st (fun x y => some (.int (x >>> (y &&& 31)))))
    | .idiv => pv_nx (pc + 1) ls h (pv_ii st (fun x y => if y = 0 then none else some (.int (x / y))))
    | .irem => pv_nx (pc + 1) ls h (pv_ii st (fun x y => if y = 0 then none else some (.int (x - x / y * y))))
    | .ladd => pv_nx (pc + 1) ls h (pv_ll st (fun x y => some (.long (x + y))))
    | .lsub => pv_nx (pc + 1) ls h (pv_ll st (fun x y => some (.long (x - y))))
    | .lmul => pv_nx (pc + 1) ls h (pv_ll st (fun x y => some (.long (x * y))))
    | .land => pv_nx (pc + 1) ls h (pv_ll st (fun x y => some (.long (x &&& y))))
    | .lor => pv_nx (pc + 1) ls h (pv_ll st (fun x y => some (.long (x ||| y))))
    | .ldiv => pv_nx (pc + 1) ls h (pv_ll st (fun x y => if y = 0 then none else some (.long (x / y))))
    | .lrem => pv_nx (pc + 1) ls h (pv_ll st (fun x y => if y = 0 then none else some (.long (x - x / y * y))))
    | .lneg => pv_nx (pc + 1) ls h (pv_l st (fun x => some (.long (-x))))
    | .lshl => pv_nx (pc + 1) ls h (pv_li st (fun x y => some (.long (x <<< (y.toInt64 &&& 63)))))
    | .lshr => pv_nx (pc + 1) ls h (pv_li st (fun x y => some (.long (x >>> (y.toInt64 &&& 63)))))
    | .lushr => pv_nx (pc + 1) ls h (pv_li st (fun x y => some (.long ((x.toUInt64 >>> (y.toInt64.toUInt64 &&& Int64.toUInt64 63)).toInt64))))
    | .lcmp => pv_nx (pc + 1) ls h (pv_ll st (fun x y => some (.int (pv_lcmp x y))))
    | .i2l => pv_nx (pc + 1) ls h (pv_i st (fun x => some (.long x.toInt64)))
    | .i2b => pv_nx (pc + 1) ls h (pv_i st (fun x => some (.int x.toInt8.toInt32)))
    | .i2c => pv_nx (pc + 1) ls h (pv_i st (fun x => some (.int (x.toUInt32 % 65536).toInt32)))
    | .l2i => pv_nx (pc + 1) ls h (pv_l st (fun x => some (.int x.toInt32)))
    | .dup => match st with
      | v :: r => if v.category = 1 then some (.inl (pc + 1, ls, v :: v :: r, h)) else none
      | _ => none
    | .dup2 => pv_nx (pc + 1) ls h (pv_dup2 st)
    | .pop => match st with
      | v :: r => if v.category = 1 then some (.inl (pc + 1, ls, r, h)) else none
      | _ => none
    | .ifCond c _ => match st with
      | .int x :: r => some (.inl (if pv_c1 c x = true then r1 else pc + 3, ls, r, h))
      | _ => none
    | .if_icmp c _ => match st with
      | .int y :: .int x :: r => some (.inl (if pv_c2 c x y = true then r1 else pc + 3, ls, r, h))
      | _ => none
    | .ifnull _ => match st with
      | .ref _ :: r => some (.inl (pc + 3, ls, r, h))
      | .null :: r => some (.inl (r1, ls, r, h))
      | _ => none
    | .goto _ => some (.inl (r1, ls, st, h))
    | .tableswitch dflt lo hi offs => match st with
      | .int x :: r => if x.toInt < lo ∨ hi < x.toInt then pv_goI ((pc : Int) + dflt) ls r h else match offs[(x.toInt - lo).toNat]? with
        | some off => pv_goI ((pc : Int) + off) ls r h
        | none => none
      | _ => none
    | .lookupswitch dflt ps => match st with
      | .int x :: r => if (ps.toList.zip (ps.toList.drop 1)).all (fun (a, next) => a.1 < next.1) = true then pv_goI ((pc : Int) + Op.lookupswitch.offset ps.toList dflt x.toInt) ls r h else none
      | _ => none
    | .getfield _ => pv_nx (pc + 3) ls h (pv_fld P st h r1 r2)
    | .putfield _ => pv_stx (pc + 3) ls (pv_pfld P M st h r1 r2)
    | .getstatic _ => if r3 = 0 then some (.inl (pc + 3, ls, .int (Int32.ofNat r1) :: st, h)) else some (.inl (pc + 3, ls, .retAddr r1 :: st, h))
    | .iaload => pv_nx (pc + 1) ls h (pv_ld P 0 st h)
    | .baload => pv_nx (pc + 1) ls h (if r3 = 0 then pv_ld P 1 st h else pv_ldo 3 st h)
    | .laload => pv_nx (pc + 1) ls h (pv_ldo 2 st h)
    | .aaload => pv_nx (pc + 1) ls h (pv_ldo 4 st h)
    | .iastore => pv_stx (pc + 1) ls (pv_st 0 st h (fun v => match v with | .int x => some (.int x) | _ => none))
    | .bastore => if r3 = 0 then pv_stx (pc + 1) ls (pv_st 1 st h (fun v => match v with | .int x => some (.int (vp_nar .byte x)) | _ => none)) else pv_stx (pc + 1) ls (pv_st 3 st h (fun v => match v with | .int x => some (.int (vp_nar .boolean x)) | _ => none))
    | .lastore => pv_stx (pc + 1) ls (pv_st 2 st h (fun v => match v with | .long x => some (.long x) | _ => none))
    | .aastore => pv_stx (pc + 1) ls (pv_st 4 st h (fun v => match v with | .float x => if (pv_xa P (x.toNat + 1)).1 = 1 then some (.float x) else none | _ => none))
    | .arraylength => match st with
      | .ref k :: r => if (h.1 k).1 < 5 ∧ k < h.2.1 then some (.inl (pc + 1, ls, .int (Int32.ofNat (h.1 k).2.1) :: r, h)) else none
      | .retAddr j :: r => if (pv_xa P j).1 < 10 then some (.inl (pc + 1, ls, .int (Int32.ofNat (pv_xa P j).2.1) :: r, h)) else none
      | _ => none
    | .new _ => if r3 = 4 then (if (1 ≤ h.2.2.1 ∧ pv_nf P r1 ≤ h.2.2.2) ∧ (st.map Value.category).sum ≤ 24 ∧ (pv_mi P M).2.2.2 = [] then some (.inr (.inr (.inr h.2.1, pv_new h (1000 + r1, pv_nf P r1, fun _ => .null)))) else none)
        else pv_alloc h (10 + r1, pv_nf P r1, fun j => defaultValue (pv_ft P r1 j)) (pc + 3) ls st
    | .newarray a => match st, pv_aty a with
      | .int n :: r, some (t, v) => if ¬ n < 0 ∧ n.toNatClampNeg ≤ 10000000 then pv_alloc h (t, n.toNatClampNeg, fun _ => v) (pc + 2) ls r else none
      | _, _ => none
    | .anewarray _ => match st with
      | .int n :: r => if ¬ n < 0 ∧ n.toNatClampNeg ≤ 10000000 then pv_alloc h (4, n.toNatClampNeg, fun _ => .null) (pc + 3) ls r else none
      | _ => none
    | .invokevirtual _ => if pv_recv P r3 st[r2 - 1]? h = true ∧ 1 ≤ r2 then pv_call P r1 r2 (pc + 3) st h else none
    | .invokestatic _ => if r3 = 0 then pv_call P r1 r2 (pc + 3) st h else pv_stx (pc + 3) ls (pv_copy st h)
    | .invokespecial _ => if r3 = 2 then (match st with
        | .ref k :: r => if (r.map Value.category).sum ≤ 24 then some (.inl (pc + 3, ls, r, h)) else none
        | _ => none) else if pv_recvI st[r2 - 1]? = true ∧ 1 ≤ r2 then pv_call P r1 r2 (pc + 3) st h else none
    | .ireturn => pv_ret P M st h
    | .lreturn => match st, (pv_mi P M).2.1 with
      | [.long x], some .long => some (.inr (.inr (.inl (some (.long x)), h)))
      | _, _ => none
    | .areturn => match st, (pv_mi P M).2.1 with
      | [v], some _ => if pv_isR v = true then some (.inr (.inr (.inl (some v), h))) else none
      | _, _ => none
    | .return_ => match st, (pv_mi P M).2.1 with
      | [], none => some (.inr (.inr (.inl none, h)))
      | _, _ => none
    | _ => none
/-- the handler for an exception with a tag thrown at pc -/
def pv_hnd (hs : List (Nat × Nat × Nat × List Nat)) (pc t : Nat) : Option Nat := match hs with
  | [] => none
  | q :: r => if q.1 ≤ pc ∧ pc < q.2.1 ∧ t ∈ q.2.2.2 then some q.2.2.1 else pv_hnd r pc t
def pv_exec (P : pvP) : Nat → Nat → Nat → Nat → pvL → List Value → pvH → Option (pvO × pvH)
  | 0, _, _, _, _, _, _ => none
  | n + 1, d, M, pc, ls, st, h => match pv_step P M pc ls st h with
    | none => none
    | some (.inl (pc', ls', st', h')) => pv_exec P n d M pc' ls' st' h'
    | some (.inr (.inl (M', av, rest, pc', h'))) => match d with
      | 0 => none
      | d' + 1 => match pv_exec P n d' M' 0 (lv_args 0 av) [] h' with
        | none => none
        | some (.inl v, h2) => pv_exec P n (d' + 1) M pc' ls (v.toList ++ rest) h2
        | some (.inr k, h2) => match pv_hnd (pv_mi P M).2.2.2 pc (h2.1 k).1 with
          | none => some (.inr k, h2)
          | some hp => pv_exec P n (d' + 1) M hp ls [.ref k] h2
    | some (.inr (.inr f)) => some f
