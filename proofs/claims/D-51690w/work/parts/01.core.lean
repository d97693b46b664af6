/-! MC: an abstract machine of heaps over the decoded code. Its runs are plain Lean; part 05 ties them to the JVM. -/
set_option maxRecDepth 100000
/-- a cell: an array (its kind, its length and contents), or an object (its class, its fields) -/
abbrev mC : Type := (Nat × vp_A) ⊕ (Nat × List Value)
/-- a heap: what is known of its cells, how many cells it has, how many slots were made -/
abbrev mH : Type := (Nat → Option mC) × Nat × Nat
abbrev mL : Type := List (Option Value)
abbrev mO : Type := Option Value ⊕ Nat
abbrev mR : Type := mO × mH
/-- method, label, locals, stack, heap -/
abbrev mK : Type := Nat × Nat × mL × List Value × mH
/-- an instruction: itself; its kind; three operands -/
abbrev mI : Type := Instr × Nat × Nat × Nat × Nat
/-- the first new address, and where the known constants lie -/
abbrev mE : Type := Nat × (Nat → Nat)
def mput (h : mH) (a : Nat) (c : mC) : mH := (fun q => if q = a then some c else h.1 q, h.2.1, h.2.2)
def mnew (h : mH) (c : mC) (k : Nat) : mH := (fun q => if q = h.2.1 then some c else h.1 q, h.2.1 + 1, h.2.2 + k)
/-- locals -/
def mld (ls : mL) (i : Nat) : Option Value := match ls[i]? with
  | some (some v) => some v
  | _ => none
def mclr (ls : mL) (i : Nat) : mL := match i with
  | 0 => ls
  | j + 1 => match ls[j]? with
    | some (some (.long _)) => ls.set j none
    | some (some (.double _)) => ls.set j none
    | _ => ls
def mst1 (ls : mL) (i : Nat) (v : Value) : mL := (mclr ls i).set i (some v)
def mst2 (ls : mL) (i : Nat) (v : Value) : mL := ((mclr ls i).set i (some v)).set (i + 1) none
/-- what a field of a small type may hold: 0 int, 1 boolean, 2 byte, 3 char, 4 reference, 5 long, 6 float -/
def mfit (ty : Nat) (v : Value) : Bool := match v with
  | .int x => match ty with
    | 0 => true
    | 1 => decide (x = 0) || decide (x = 1)
    | 2 => decide (x.toInt8.toInt32 = x)
    | 3 => decide (x.toUInt32.toUInt16.toUInt32.toInt32 = x)
    | _ => false
  | .ref _ => decide (ty = 4)
  | .null => decide (ty = 4)
  | .long _ => decide (ty = 5)
  | .float _ => decide (ty = 6)
  | _ => false
def mrf (v : Value) : Option (Option Nat) := match v with
  | .null => some none
  | .ref a => some (some a)
  | _ => none
/-- loads and stores: of the locals and the stack alone -/
abbrev mT : Type := Option (mL × List Value)
def s_ldi (ls : mL) (st : List Value) (i : Nat) : mT := match mld ls i with
  | some (.int x) => some (ls, .int x :: st)
  | _ => none
def s_ldl (ls : mL) (st : List Value) (i : Nat) : mT := match mld ls i with
  | some (.long x) => some (ls, .long x :: st)
  | _ => none
def s_ldf (ls : mL) (st : List Value) (i : Nat) : mT := match mld ls i with
  | some (.float x) => some (ls, .float x :: st)
  | _ => none
def s_ldd (ls : mL) (st : List Value) (i : Nat) : mT := match mld ls i with
  | some (.double x) => some (ls, .double x :: st)
  | _ => none
def s_lda (ls : mL) (st : List Value) (i : Nat) : mT := match mld ls i with
  | some (.ref x) => some (ls, .ref x :: st)
  | some .null => some (ls, .null :: st)
  | _ => none
def s_sti (ls : mL) (st : List Value) (i : Nat) : mT := match st with
  | .int x :: r => if i < ls.length then some (mst1 ls i (.int x), r) else none
  | _ => none
def s_stf (ls : mL) (st : List Value) (i : Nat) : mT := match st with
  | .float x :: r => if i < ls.length then some (mst1 ls i (.float x), r) else none
  | _ => none
def s_sta (ls : mL) (st : List Value) (i : Nat) : mT := match st with
  | .ref x :: r => if i < ls.length then some (mst1 ls i (.ref x), r) else none
  | .null :: r => if i < ls.length then some (mst1 ls i .null, r) else none
  | _ => none
def s_std (ls : mL) (st : List Value) (i : Nat) : mT := match st with
  | .double x :: r => if i + 1 < ls.length then some (mst2 ls i (.double x), r) else none
  | _ => none
def s_stl (ls : mL) (st : List Value) (i : Nat) : mT := match st with
  | .long x :: r => if i + 1 < ls.length then some (mst2 ls i (.long x), r) else none
  | _ => none
/-- a load or store -/
def mloc (x : mI) (ls : mL) (st : List Value) : mT :=
  match x.1 with
  | .iload_n k => s_ldi ls st k
  | .iload k => s_ldi ls st k
  | .lload_n k => s_ldl ls st k
  | .lload k => s_ldl ls st k
  | .fload k => s_ldf ls st k
  | .fload_n k => s_ldf ls st k
  | .dload k => s_ldd ls st k
  | .dload_n k => s_ldd ls st k
  | .aload_n k => s_lda ls st k
  | .aload k => s_lda ls st k
  | .istore_n k => s_sti ls st k
  | .istore k => s_sti ls st k
  | .fstore k => s_stf ls st k
  | .fstore_n k => s_stf ls st k
  | .dstore k => s_std ls st k
  | .dstore_n k => s_std ls st k
  | .lstore k => s_stl ls st k
  | .lstore_n k => s_stl ls st k
  | .astore_n k => s_sta ls st k
  | .astore k => s_sta ls st k
  | .iinc k n => match mld ls k with
    | some (.int v) => if k < ls.length then some (mst1 ls k (.int (v + Int32.ofInt n)), st) else none
    | _ => none
  | _ => none
/-- null, or an object whose class 'sub' takes for t -/
def mtak (sub : Nat → Nat → Bool) (h : mH) (t : Nat) (w : Option Nat) : Bool := match w with
  | none => true
  | some v => match h.1 v with
    | some (.inr (cv, _)) => sub cv t
    | _ => false
section STEP
variable (E : mE) (st : List Value) (h : mH)
abbrev mS : Type := Option (List Value × mH)
def s_i1 (f : Int32 → Value) : mS := match st with
  | .int x :: r => some (f x :: r, h)
  | _ => none
def s_i2 (f : Int32 → Int32 → Option Int32) : mS := match st with
  | .int y :: .int x :: r => match f x y with
    | some z => some (.int z :: r, h)
    | none => none
  | _ => none
def s_mm (f : Int32 → Int32 → Int32) : mS := match st with
  | .int y :: .int x :: r => if r.length ≤ 8 then some (.int (f x y) :: r, h) else none
  | _ => none
def s_ma (f : Int32 → Int32) : mS := match st with
  | .int x :: r => if r.length ≤ 8 then some (.int (f x) :: r, h) else none
  | _ => none
/-- a field of an object of class ci, its place k -/
def s_get (ci k : Nat) : mS := match st with
  | .ref a :: r => match h.1 a with
    | some (.inr (c, fs)) => if c = ci then match fs[k]? with
        | some v => some (v :: r, h)
        | none => none
      else none
    | _ => none
  | _ => none
def s_put (ci k ty : Nat) : mS := match st with
  | v :: .ref a :: r => match h.1 a with
    | some (.inr (c, fs)) => if c = ci ∧ k < fs.length ∧ E.1 ≤ a ∧ mfit ty v = true then some (r, mput h a (.inr (c, fs.set k v))) else none
    | _ => none
  | _ => none
/-- arrays of ints, bytes, booleans: by their kind t -/
def s_ald (t : Nat) : mS := match st with
  | .int i :: .ref a :: r => match h.1 a with
    | some (.inl (t', n, .inl f)) => if t' = t ∧ 0 ≤ i.toInt ∧ i.toInt < n then some (.int (f i.toNatClampNeg) :: r, h) else none
    | _ => none
  | _ => none
def s_ast (t : Nat) (nar : Int32 → Int32) : mS := match st with
  | .int x :: .int i :: .ref a :: r => match h.1 a with
    | some (.inl (t', n, .inl f)) => if t' = t ∧ 0 ≤ i.toInt ∧ i.toInt < n ∧ E.1 ≤ a then some (r, mput h a (.inl (t', n, .inl (upd f i.toNatClampNeg (nar x))))) else none
    | _ => none
  | _ => none
def s_alld (t : Nat) : mS := match st with
  | .int i :: .ref a :: r => match h.1 a with
    | some (.inl (t', n, .inr (.inl f))) => if t' = t ∧ 0 ≤ i.toInt ∧ i.toInt < n then some (.long (f i.toNatClampNeg) :: r, h) else none
    | _ => none
  | _ => none
def s_alst (t : Nat) : mS := match st with
  | .long x :: .int i :: .ref a :: r => match h.1 a with
    | some (.inl (t', n, .inr (.inl f))) => if t' = t ∧ 0 ≤ i.toInt ∧ i.toInt < n ∧ E.1 ≤ a then some (r, mput h a (.inl (t', n, .inr (.inl (vp_updL f i.toNatClampNeg x))))) else none
    | _ => none
  | _ => none
def s_aald (t : Nat) : mS := match st with
  | .int i :: .ref a :: r => match h.1 a with
    | some (.inl (t', n, .inr (.inr (.inr (.inr f))))) => if t' = t ∧ 0 ≤ i.toInt ∧ i.toInt < n then some (va_rf (f i.toNatClampNeg) :: r, h) else none
    | _ => none
  | _ => none
/-- what may be stored into an array of references of kind t: an object whose class 'sub' takes, or null -/
def s_aast (t : Nat) (sub : Nat → Nat → Bool) : mS := match st with
  | v :: .int i :: .ref a :: r => match h.1 a, mrf v with
    | some (.inl (t', n, .inr (.inr (.inr (.inr f))))), some w =>
      if t' = t ∧ 0 ≤ i.toInt ∧ i.toInt < n ∧ E.1 ≤ a ∧ mtak sub h t w = true then some (r, mput h a (.inl (t', n, .inr (.inr (.inr (.inr (va_up f i.toNatClampNeg w))))))) else none
    | _, _ => none
  | _ => none
def s_alen : mS := match st with
  | .ref a :: r => match h.1 a with
    | some (.inl (_, n, _)) => some (.int (Int32.ofNat n) :: r, h)
    | _ => none
  | _ => none
def s_pop : mS := match st with
  | v :: r => if v.category = 1 then some (r, h) else none
  | _ => none
def s_dup : mS := match st with
  | v :: r => if v.category = 1 then some (v :: v :: r, h) else none
  | _ => none
def s_dupx1 : mS := match st with
  | v :: w :: r => if v.category = 1 ∧ w.category = 1 then some (v :: w :: v :: r, h) else none
  | _ => none
def s_dupx2 : mS := match st with
  | v :: w :: x :: r => if v.category = 1 ∧ w.category = 1 ∧ x.category = 1 then some (v :: w :: x :: v :: r, h) else none
  | _ => none
def s_dup2 : mS := match st with
  | v :: w :: r => if v.category = 1 ∧ w.category = 1 then some (v :: w :: v :: w :: r, h) else none
  | _ => none
/-- a new array: of k ints (or smaller), of longs, of references; at most 65536 -/
def s_newa (t : Nat) (z : (Nat → Int32) ⊕ (Nat → Int64) ⊕ (Nat → UInt32) ⊕ (Nat → UInt64) ⊕ (Nat → Option Nat)) : mS := match st with
  | .int n :: r => if 0 ≤ n.toInt ∧ n.toInt ≤ 65536 then some (.ref h.2.1 :: r, mnew h (.inl (t, n.toNatClampNeg, z)) n.toNatClampNeg) else none
  | _ => none
/-- System.arraycopy: ints of one kind, references -/
def s_copy (msubk : Nat → Nat → Bool) : mS := match st with
  | .int n :: .int j :: .ref b :: .int i :: .ref a :: r => match h.1 a, h.1 b with
    | some (.inl (ta, na, .inl f)), some (.inl (tb, nb, .inl g)) =>
      if ta = tb ∧ 0 ≤ i.toInt ∧ 0 ≤ j.toInt ∧ 0 ≤ n.toInt ∧ i.toInt + n.toInt ≤ na ∧ j.toInt + n.toInt ≤ nb ∧ E.1 ≤ b ∧ E.1 ≤ a ∧ a ≠ b ∧ r.length ≤ 8 ∧ ta < 3 ∧ (∀ k : Nat, k < n.toNatClampNeg → mfit ta (.int (f (i.toNatClampNeg + k))) = true) then
        some (r, mput h b (.inl (tb, nb, .inl (va_cpy f g i.toNatClampNeg j.toNatClampNeg n.toNatClampNeg)))) else none
    | some (.inl (ta, na, .inr (.inr (.inr (.inr f))))), some (.inl (tb, nb, .inr (.inr (.inr (.inr g))))) =>
      if ta = tb ∧ 0 ≤ i.toInt ∧ 0 ≤ j.toInt ∧ 0 ≤ n.toInt ∧ i.toInt + n.toInt ≤ na ∧ j.toInt + n.toInt ≤ nb ∧ E.1 ≤ b ∧ E.1 ≤ a ∧ a ≠ b ∧ r.length ≤ 8 ∧ 100 ≤ ta ∧ (∀ k : Nat, k < n.toNatClampNeg → mtak msubk h tb (f (i.toNatClampNeg + k)) = true) then
        some (r, mput h b (.inl (tb, nb, .inr (.inr (.inr (.inr (va_cpy f g i.toNatClampNeg j.toNatClampNeg n.toNatClampNeg))))))) else none
    | _, _ => none
  | _ => none
/-- an int array's clone -/
def s_clone (t : Nat) : mS := match st with
  | .ref a :: r => match h.1 a with
    | some (.inl (t', n, .inl f)) => if t' = t ∧ (t = 0 ∨ t = 2) ∧ n ≤ 65536 ∧ E.1 ≤ a ∧ r.length ≤ 8 ∧ (∀ k : Nat, k < n → mfit t (.int (f k)) = true) then some (.ref h.2.1 :: r, mnew h (.inl (t', n, .inl f)) n) else none
    | _ => none
  | _ => none
def s_new (ci : Nat) (fs : List Value) : mS := some (.ref h.2.1 :: st, mnew h (.inr (ci, fs)) fs.length)
/-- checkcast: null, an array of kind t, an object whose class is taken -/
def s_castO (sub : Nat → Nat → Bool) (t : Nat) : mS := match st with
  | .null :: r => some (.null :: r, h)
  | .ref a :: r => match h.1 a with
    | some (.inr (c, _)) => if sub c t = true then some (.ref a :: r, h) else none
    | _ => none
  | _ => none
def s_castA (t : Nat) : mS := match st with
  | .null :: r => some (.null :: r, h)
  | .ref a :: r => match h.1 a with
    | some (.inl (t', _)) => if t' = t ∧ E.1 ≤ a then some (.ref a :: r, h) else none
    | _ => none
  | _ => none
def s_inst (sub nsub : Nat → Nat → Bool) (t : Nat) : mS := match st with
  | .null :: r => some (.int 0 :: r, h)
  | .ref a :: r => match h.1 a with
    | some (.inr (c, _)) => if sub c t = true then some (.int 1 :: r, h) else if nsub c t = true then some (.int 0 :: r, h) else none
    | _ => none
  | _ => none
/-- getClass of an array of kind t -/
def s_gcls (t id : Nat) : mS := match st with
  | .ref a :: r => match h.1 a with
    | some (.inl (t', _)) => if t' = t ∧ E.1 ≤ a ∧ r.length ≤ 8 then some (.ref (E.2 id) :: r, h) else none
    | _ => none
  | _ => none
end STEP
/-- a program: the code of a method from a label on; how many locals; its handlers (from, to, label, class taken); which method a name means for a class; which class or kind takes which (and which doesn't); a new object's fields -/
abbrev mP : Type := (Nat → Nat → List mI) × (Nat → Nat) × (Nat → List (Nat × Nat × Nat × Nat)) × (Nat → Nat → Option Nat) × ((Nat → Nat → Bool) × (Nat → Nat → Bool)) × (Nat → List Value)
def mcode (P : mP) : Nat → Nat → List mI := P.1
def mmax (P : mP) : Nat → Nat := P.2.1
def mhnd (P : mP) : Nat → List (Nat × Nat × Nat × Nat) := P.2.2.1
def mvt (P : mP) : Nat → Nat → Option Nat := P.2.2.2.1
def msub (P : mP) : Nat → Nat → Bool := P.2.2.2.2.1.1
def mnsub (P : mP) : Nat → Nat → Bool := P.2.2.2.2.1.2
def mdfl (P : mP) : Nat → List Value := P.2.2.2.2.2
/-- what an array's element of kind t keeps of an int: 0 int, 1 boolean, 2 byte, 3 char -/
def mnar (t : Nat) (x : Int32) : Int32 := match t with
  | 1 => vp_nar .boolean x
  | 2 => vp_nar .byte x
  | _ => x
def mopt (n : Nat) : Option Nat := match n with
  | 0 => none
  | k + 1 => some k
/-- what a static holds: an int, a reference, a reference or null -/
def mstv (E : mE) (a b : Nat) : Value := match a with
  | 0 => .int (Int32.ofNat b)
  | 1 => .ref (E.2 b)
  | _ => va_rf (mopt (E.2 b))
def mnev (x y : Int32) (f : Int32 → Int32 → Int32) : Option Int32 := if y = 0 then none else some (f x y)
/-- one straight instruction -/
def mstep (E : mE) (P : mP) (x : mI) (st : List Value) (h : mH) : Option (List Value × mH) :=
  match x.1 with
  | .aconst_null => some (.null :: st, h)
  | .iconst n => some (.int (Int32.ofInt n) :: st, h)
  | .bipush n => some (.int (Int8.ofInt n).toInt32 :: st, h)
  | .sipush n => some (.int (Int16.ofInt n).toInt32 :: st, h)
  | .lconst n => some (.long (Int64.ofNat (n : Nat)) :: st, h)
  | .fconst n => if n = 1 then some (.float FP.fconst1 :: st, h) else none
  | .dconst n => if n = 0 then some (.double FP.dconst0 :: st, h) else none
  | .ldc _ => match x.2.2.1 with
    | 0 => some (.int (Int32.ofNat x.2.2.2.1) :: st, h)
    | 1 => some (.ref (E.2 x.2.2.2.1) :: st, h)
    | 2 => some (.float (UInt32.ofNat x.2.2.2.1) :: st, h)
    | _ => none
  | .ldc_w _ => match x.2.2.1 with
    | 0 => some (.int (Int32.ofNat x.2.2.2.1) :: st, h)
    | 1 => some (.ref (E.2 x.2.2.2.1) :: st, h)
    | _ => none
  | .getstatic _ => some (mstv E x.2.2.1 x.2.2.2.1 :: st, h)
  | .pop => s_pop st h
  | .dup => s_dup st h
  | .dup_x1 => s_dupx1 st h
  | .dup_x2 => s_dupx2 st h
  | .dup2 => s_dup2 st h
  | .iadd => s_i2 st h (fun x y => some (x + y))
  | .isub => s_i2 st h (fun x y => some (x - y))
  | .imul => s_i2 st h (fun x y => some (x * y))
  | .iand => s_i2 st h (fun x y => some (x &&& y))
  | .ior => s_i2 st h (fun x y => some (x ||| y))
  | .ixor => s_i2 st h (fun x y => some (x ^^^ y))
  | .ishl => s_i2 st h (fun x y => some (x <<< (y &&& 31)))
  | .ishr => s_i2 st h (fun x y => some (x >>> (y &&& 31)))
  | .iushr => s_i2 st h (fun x y => some ((x.toUInt32 >>> (y.toUInt32 &&& Int32.toUInt32 31)).toInt32))
  | .idiv => s_i2 st h (fun x y => mnev x y (fun x y => x / y))
  | .irem => s_i2 st h (fun x y => mnev x y (fun x y => x - x / y * y))
  | .ineg => s_i1 st h (fun x => .int (-x))
  | .i2l => s_i1 st h (fun x => .long x.toInt64)
  | .i2b => s_i1 st h (fun x => .int x.toInt8.toInt32)
  | .i2c => s_i1 st h (fun x => .int (x.toUInt32 % 65536).toInt32)
  | .i2f => s_i1 st h (fun x => .float (FP.i2f x))
  | .i2d => s_i1 st h (fun x => .double (FP.i2d x))
  | .f2d => match st with
    | .float v :: r => if FP.f2d v &&& 0x7fffffffffffffff ≤ 0x7ff0000000000000 then some (.double (FP.f2d v) :: r, h) else none
    | _ => none
  | .fdiv => match st with
    | .float w :: .float v :: r => if FP.fdiv v w &&& 0x7fffffff ≤ 0x7f800000 then some (.float (FP.fdiv v w) :: r, h) else none
    | _ => none
  | .ddiv => match st with
    | .double w :: .double v :: r => if FP.ddiv v w &&& 0x7fffffffffffffff ≤ 0x7ff0000000000000 then some (.double (FP.ddiv v w) :: r, h) else none
    | _ => none
  | .fcmp op => match st with
    | .float w :: .float v :: r => some (.int (Op.cmpValue (FP.fcmp v w) op) :: r, h)
    | _ => none
  | .dcmp op => match st with
    | .double w :: .double v :: r => some (.int (Op.cmpValue (FP.dcmp v w) op) :: r, h)
    | _ => none
  | .lcmp => match st with
    | .long w :: .long v :: r => some (.int (lg_cmp v w) :: r, h)
    | _ => none
  | .getfield _ => s_get st h x.2.2.1 x.2.2.2.1
  | .putfield _ => s_put E st h x.2.2.1 x.2.2.2.1 x.2.2.2.2
  | .new _ => s_new st h x.2.2.1 (mdfl P x.2.2.1)
  | .newarray _ => match x.2.2.2.2 with
    | 0 => s_newa st h x.2.2.1 (.inl (fun _ => 0))
    | _ => s_newa st h x.2.2.1 (.inr (.inl (fun _ => 0)))
  | .anewarray _ => s_newa st h x.2.2.1 (.inr (.inr (.inr (.inr (fun _ => none)))))
  | .arraylength => s_alen st h
  | .iaload => s_ald st h 0
  | .baload => s_ald st h x.2.2.1
  | .laload => s_alld st h 4
  | .aaload => s_aald st h x.2.2.1
  | .iastore => s_ast E st h 0 (fun v => v)
  | .bastore => s_ast E st h x.2.2.1 (mnar x.2.2.1)
  | .lastore => s_alst E st h 4
  | .aastore => s_aast E st h x.2.2.1 (msub P)
  | .checkcast _ => match x.2.2.2.2 with
    | 0 => s_castO st h (msub P) x.2.2.1
    | _ => s_castA E st h x.2.2.1
  | .instanceof _ => s_inst st h (msub P) (mnsub P) x.2.2.1
  | .invokespecial _ => match st with
    | .ref _ :: r => if r.length ≤ 8 then some (r, h) else none
    | _ => none
  | .invokestatic _ => match x.2.2.2.2 with
    | 0 => s_copy E st h (msub P)
    | 1 => s_mm st h (fun x y => if x < y then y else x)
    | 2 => s_mm st h (fun x y => if y < x then y else x)
    | _ => s_ma st h (fun x => if 0 ≤ x then x else 0 - x)
  | .invokevirtual _ => match x.2.2.2.2 with
    | 0 => s_clone E st h x.2.2.1
    | _ => s_gcls E st h x.2.2.1 x.2.2.2.1
  | _ => none
def mcz (c : ClassFile.Cond) (x : Int32) : Bool := match c with
  | .eq => decide (x = 0)
  | .ne => decide (¬ x = 0)
  | .lt => decide (x < 0)
  | .ge => decide (0 ≤ x)
  | .gt => decide (0 < x)
  | .le => decide (x ≤ 0)
def mcc (c : ClassFile.Cond) (x y : Int32) : Bool := match c with
  | .eq => decide (x = y)
  | .ne => decide (¬ x = y)
  | .lt => decide (x < y)
  | .ge => decide (y ≤ x)
  | .gt => decide (y < x)
  | .le => decide (x ≤ y)
def mca (c : ACond) (x y : Option Nat) : Bool := match c with
  | .eq => decide (x = y)
  | .ne => decide (¬ x = y)
def mtgt (pc : Nat) (off : Int) : Nat := ((pc : Int) + off).toNat
/-- a jump: what is left of the stack; where to, or on -/
def mjmp (x : mI) (st : List Value) : Option (List Value × Option Nat) :=
  match x.1 with
  | .goto _ => some (st, some x.2.2.1)
  | .ifCond c _ => match st with
    | .int v :: r => some (r, if mcz c v = true then some x.2.2.1 else none)
    | _ => none
  | .if_icmp c _ => match st with
    | .int w :: .int v :: r => some (r, if mcc c v w = true then some x.2.2.1 else none)
    | _ => none
  | .if_acmp c _ => match st with
    | w :: v :: r => match mrf w, mrf v with
      | some b, some a => some (r, if mca c a b = true then some x.2.2.1 else none)
      | _, _ => none
    | _ => none
  | .ifnull _ => match st with
    | .ref _ :: r => some (r, none)
    | .null :: r => some (r, some x.2.2.1)
    | _ => none
  | .ifnonnull _ => match st with
    | .ref _ :: r => some (r, some x.2.2.1)
    | .null :: r => some (r, none)
    | _ => none
  | .tableswitch d lo hi offs => match st with
    | .int v :: r => if v.toInt < lo ∨ hi < v.toInt then some (r, some (mtgt x.2.2.2.2 d)) else match offs[(v.toInt - lo).toNat]? with
      | some o => some (r, some (mtgt x.2.2.2.2 o))
      | none => none
    | _ => none
  | .lookupswitch d ps => match st with
    | .int v :: r => some (r, some (mtgt x.2.2.2.2 (Op.lookupswitch.offset ps.toList d v.toInt)))
    | _ => none
  | _ => none
/-- a call: the method, its arguments, the rest of the stack (of four values at most) -/
def marg (n : Nat) (st : List Value) : Option (List Value × List Value) := if n ≤ st.length ∧ st.length ≤ n + 4 ∧ (st.take n).all (fun v => v.category == 1) = true then some ((st.take n).reverse, st.drop n) else none
def mcal (P : mP) (x : mI) (st : List Value) (h : mH) : Option (Nat × List Value × List Value) :=
  match x.1 with
  | .invokestatic _ => match marg x.2.2.2.1 st with
    | some (as, r) => some (x.2.2.1, as, r)
    | none => none
  | .invokespecial _ => match marg (x.2.2.2.1 + 1) st with
    | some (.ref b :: as, r) => match h.1 b with
      | some (.inr _) => some (x.2.2.1, .ref b :: as, r)
      | _ => none
    | _ => none
  | .invokevirtual _ => match marg (x.2.2.2.1 + 1) st with
    | some (.ref b :: as, r) => match h.1 b with
      | some (.inr (c, _)) => match mvt P x.2.2.1 c with
        | some z => some (z, .ref b :: as, r)
        | none => none
      | _ => none
    | _ => none
  | .invokeinterface _ _ => match marg (x.2.2.2.1 + 1) st with
    | some (.ref b :: as, r) => match h.1 b with
      | some (.inr (c, _)) => match mvt P x.2.2.1 c with
        | some z => some (z, .ref b :: as, r)
        | none => none
      | _ => none
    | _ => none
  | _ => none
def mret (x : mI) (st : List Value) (h : mH) : Option mR :=
  match x.1 with
  | .return_ => match st with
    | [] => some (.inl none, h)
    | _ => none
  | .ireturn => match st with
    | [.int v] => if mfit x.2.2.1 (.int v) = true then some (.inl (some (.int v)), h) else none
    | _ => none
  | .areturn => match st with
    | [.ref a] => some (.inl (some (.ref a)), h)
    | [.null] => some (.inl (some .null), h)
    | _ => none
  | .freturn => match st with
    | [.float v] => some (.inl (some (.float v)), h)
    | _ => none
  | .dreturn => match st with
    | [.double v] => some (.inl (some (.double v)), h)
    | _ => none
  | _ => none
/-- who catches q, thrown at pc: a label; nobody; it isn't known -/
def mcat (sub nsub : Nat → Nat → Bool) (pc : Nat) (h : mH) (q : Nat) : List (Nat × Nat × Nat × Nat) → Option (Option Nat)
  | [] => some none
  | z :: zs => if z.1 ≤ pc ∧ pc < z.2.1 then match h.1 q with
      | some (.inr (c, _)) => if sub c z.2.2.2 = true then some (some z.2.2.1) else if nsub c z.2.2.2 = true then mcat sub nsub pc h q zs else none
      | _ => none
    else mcat sub nsub pc h q zs
def mEnt (P : mP) (z : Nat) (args : List Value) : mL := args.map some ++ List.replicate (mmax P z - args.length) none
/-- behind a call's answer -/
def mX (E : mE) (P : mP) (ρ : mK → Option mR) (y : Nat) : List mI → mL → List Value → mH → Option mR
  | [], _, _, _ => none
  | x :: is, ls, st, h => match x.2.1 with
    | 0 => match mstep E P x st h with
      | some s => mX E P ρ y is ls s.1 s.2
      | none => none
    | 7 => match mloc x ls st with
      | some s => mX E P ρ y is s.1 s.2 h
      | none => none
    | 1 => match mjmp x st with
      | some (r, some t) => ρ (y, t, ls, r, h)
      | some (r, none) => mX E P ρ y is ls r h
      | none => none
    | 2 => match mcal P x st h with
      | some (z, as, r) => match ρ (z, 0, mEnt P z as, [], h) with
        | some (.inl v, h1) => mX E P ρ y is ls (v.toList ++ r) h1
        | some (.inr q, h1) => match mcat (msub P) (mnsub P) x.2.2.2.2 h1 q (mhnd P y) with
          | some (some t) => ρ (y, t, ls, [.ref q], h1)
          | some none => some (.inr q, h1)
          | none => none
        | none => none
      | none => none
    | 3 => mret x st h
    | 4 => match st with
      | [] => match mhnd P y with
        | [] => some (.inr h.2.1, mnew h (.inr (x.2.2.1, [])) 6)
        | _ => none
      | _ => none
    | 5 => match st with
      | .ref q :: _ => match h.1 q, mhnd P y with
        | some (.inr _), [] => some (.inr q, h)
        | _, _ => none
      | _ => none
    | 6 => ρ (y, x.2.2.1, ls, st, h)
    | _ => none
def mF (E : mE) (P : mP) : Nat → mK → Option mR
  | 0, _ => none
  | n + 1, c => mX E P (mF E P n) c.1 (mcode P c.1 c.2.1) c.2.2.1 c.2.2.2.1 c.2.2.2.2
/-- a run's answer, if it ends -/
noncomputable def mV (E : mE) (P : mP) (c : mK) : Option mR := by
  classical
  exact if h : ∃ r n, mF E P n c = some r then some h.choose else none
noncomputable def mRun (E : mE) (P : mP) (z : Nat) (as : List Value) (h : mH) : Option mR := mV E P (z, 0, mEnt P z as, [], h)
