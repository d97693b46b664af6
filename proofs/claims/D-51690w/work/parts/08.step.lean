/-! MC soundness 3: straight steps -/
set_option maxRecDepth 100000
def mlen (i : Instr) : Nat := match i with
  | .bipush _ => 2
  | .sipush _ => 3
  | .ldc _ => 2
  | .ldc_w _ => 3
  | .iload _ => 2
  | .lload _ => 2
  | .fload _ => 2
  | .dload _ => 2
  | .aload _ => 2
  | .istore _ => 2
  | .lstore _ => 2
  | .fstore _ => 2
  | .dstore _ => 2
  | .astore _ => 2
  | .iinc _ _ => 3
  | .getstatic _ => 3
  | .getfield _ => 3
  | .putfield _ => 3
  | .new _ => 3
  | .newarray _ => 2
  | .anewarray _ => 3
  | .checkcast _ => 3
  | .instanceof _ => 3
  | .ifCond _ _ => 3
  | .if_icmp _ _ => 3
  | .if_acmp _ _ => 3
  | .ifnull _ => 3
  | .ifnonnull _ => 3
  | .goto _ => 3
  | .invokestatic _ => 3
  | .invokespecial _ => 3
  | .invokevirtual _ => 3
  | .invokeinterface _ _ => 5
  | _ => 1
/-- a field's link: entry k of the class own means field n of class ci -/
def mFl (own : String) (k ci n : Nat) : Prop := ∃ r : vw_C, mCl[ci]? = some r ∧ n < r.2.2 ∧
  ((∃ ref : String, Cond.fieldLink own k ref (r.2.1 n).2.1 (r.2.1 n).2.2.1 ∈ lw_all ∧ (ref = (r.2.1 n).1 ∨ Cond.sameField ref (r.2.1 n).1 (r.2.1 n).2.1 (r.2.1 n).2.2.1 ∈ lw_all)) ∨ ∃ host : String, (own, k, (r.2.1 n).1, (r.2.1 n).2.1, (r.2.1 n).2.2.1, host) ∈ mNF)
def mTyc (ty : Nat) (t : FieldType) : Prop := match ty with
  | 0 => t = .int
  | 1 => t = .boolean
  | 2 => t = .byte
  | 4 => t.isReference = true
  | 6 => t = .float
  | _ => False
/-- .. to write it: the kind of values; a final one in its own constructor -/
def mFlw (own mname : String) (k ci n ty : Nat) : Prop := ∃ (r : vw_C) (tys : Nat → FieldType), mCl[ci]? = some r ∧ mClT[ci]? = some tys ∧ n < r.2.2 ∧
  mTyc ty (tys n) ∧
  (((r.2.1 n).2.2.2 = false ∧ ((∃ ref : String, Cond.fieldLink own k ref (r.2.1 n).2.1 (r.2.1 n).2.2.1 ∈ lw_all ∧ (ref = (r.2.1 n).1 ∨ Cond.sameField ref (r.2.1 n).1 (r.2.1 n).2.1 (r.2.1 n).2.2.1 ∈ lw_all)) ∨ ∃ host : String, (own, k, (r.2.1 n).1, (r.2.1 n).2.1, (r.2.1 n).2.2.1, host) ∈ mNF)) ∨
   ((r.2.1 n).2.2.2 = true ∧ mname = "<init>" ∧ (r.2.1 n).1 = own ∧ Cond.fieldLink own k (r.2.1 n).1 (r.2.1 n).2.1 (r.2.1 n).2.2.1 ∈ lw_all))
def mFact (own mname : String) (x : mI) : Prop := match x.1 with
  | .ldc k => (x.2.2.1 = 2 → Cond.constantFloat own k (UInt32.ofNat x.2.2.2.1) ∈ lw_all) ∧ (x.2.2.1 = 0 → Cond.constant own k (Int32.ofNat x.2.2.2.1) ∈ lw_all) ∧ (x.2.2.1 = 1 → (x.2.2.2.1 = 6 ∧ Cond.classLink own k "[Ljava/lang/Object;" ∈ lw_all) ∨ ∃ tx : String, (own, k, tx, x.2.2.2.1) ∈ mStr)
  | .ldc_w k => x.2.2.1 = 1 ∧ ∃ tx : String, (own, k, tx, x.2.2.2.1) ∈ mStr
  | .getstatic k => ∃ C n d : String, (C, n, d, x.2.2.1, x.2.2.2.1) ∈ mSta ∧ Cond.fieldLink own k C n d ∈ lw_all
  | .getfield k => mFl own k x.2.2.1 x.2.2.2.1
  | .putfield k => mFlw own mname k x.2.2.1 x.2.2.2.1 x.2.2.2.2
  | .new k => ∃ r : vw_C, mCl[x.2.2.1]? = some r ∧ r.2.2 ≠ 0 ∧ Cond.classLink own k r.1 ∈ lw_all ∧ Cond.instantiable r.1 r.2.2 ∈ lw_all ∧ Cond.initialized r.1 ∈ lw_all
  | .newarray t => (x.2.2.1, newarray.typeOf t) ∈ mKd ∧ Cond.arrayClass (newarray.typeOf t) ∈ lw_all ∧ ((x.2.2.2.2 = 0 ∧ newarray.typeOf t ≠ .long) ∨ (x.2.2.2.2 = 1 ∧ newarray.typeOf t = .long)) ∧ x.2.2.1 < 5
  | .anewarray k => ∃ C : String, (x.2.2.1, FieldType.object C) ∈ mKd ∧ C ∈ mAOs ∧ Cond.classLink own k C ∈ lw_all
  | .baload => x.2.2.1 = 1 ∨ x.2.2.1 = 2
  | .bastore => x.2.2.1 = 1 ∨ x.2.2.1 = 2
  | .aaload => 100 ≤ x.2.2.1
  | .aastore => 100 ≤ x.2.2.1
  | .checkcast k => (x.2.2.2.2 = 0 → Cond.classLink own k (mTn x.2.2.1) ∈ lw_all) ∧ (x.2.2.2.2 ≠ 0 → ∃ ty : FieldType, (x.2.2.1, ty) ∈ mKd ∧ Cond.classLink own k ("[" ++ ty.toString) ∈ lw_all)
  | .instanceof k => Cond.classLink own k (mTn x.2.2.1) ∈ lw_all
  | .invokespecial k => Cond.methodLink own k objectInit ∈ lw_all
  | .invokestatic k => (x.2.2.2.2 = 0 ∧ Cond.methodLink own k arraycopyName ∈ lw_all) ∨ (x.2.2.2.2 = 1 ∧ Cond.methodLink own k Lib.Math.max.name ∈ lw_all) ∨ (x.2.2.2.2 = 2 ∧ Cond.methodLink own k Lib.Math.min.name ∈ lw_all) ∨ (x.2.2.2.2 = 3 ∧ Cond.methodLink own k Lib.Math.abs.name ∈ lw_all)
  | .invokevirtual k => (x.2.2.2.2 = 0 → (x.2.2.1 = 0 ∧ Cond.methodLink own k ⟨"[I", "clone", "()Ljava/lang/Object;"⟩ ∈ lw_all) ∨ (x.2.2.1 = 2 ∧ Cond.methodLink own k ⟨"[B", "clone", "()Ljava/lang/Object;"⟩ ∈ lw_all)) ∧ (x.2.2.2.2 ≠ 0 → x.2.2.1 = 100 ∧ x.2.2.2.1 = 6 ∧ Cond.methodLink own k ⟨"java/lang/Object", "getClass", "()Ljava/lang/Class;"⟩ ∈ lw_all)
  | _ => True
/-- a method's body at work -/
def mCx (p : Program) (l : Launch) (e : Env) (R : Room) (s : State) (m : MethodId) (args : Array Value) (meth : Method) (c : Code) (D : mD) (E : mE) (own mname : String) (cc : ByteArray) (nL : Nat) : Prop :=
  p.tables.exec = Jvm.exec ∧ c.code = cc ∧ c.maxLocals = nL ∧ s.vm.findClass own = some m.cls ∧ (∀ w ∈ lw_all, w.before args s = true) ∧ mKn D E s ∧ mSt E s s.heap ∧ meth.locks = false ∧ l.stackTraces = false ∧ meth.name = mname ∧ 10 ≤ R.frames ∧ 400 ≤ R.locals
theorem mcat_sum (r : List Value) : (r.map fun v => v.category).sum ≤ 2 * r.length := by
  induction r with
  | nil => simp
  | cons v r ih =>
    have h : v.category ≤ 2 := by rcases lv_cat v with h | h <;> omega
    simp only [List.map_cons, List.sum_cons, List.length_cons]
    omega
theorem mIn {i : Int32} {n : Nat} (h1 : 0 ≤ i.toInt) (h2 : i.toInt < n) : ¬ (i < 0 ∨ n ≤ i.toNatClampNeg) := vp_in_iff.mpr ⟨h1, h2⟩
theorem mCl_name : ∀ (c : Nat) (r : vw_C), mCl[c]? = some r → r.1 = mTn c := by
  intro c r h
  have hl : c < 22 := (List.getElem?_eq_some_iff.mp h).1
  have : ∀ c, c < 22 → (mCl[c]?.map (fun r => r.1)) = some (mTn c) := by decide +kernel
  have h2 := this c hl
  rw [h] at h2
  exact Option.some.inj h2
theorem mSub_spec {c t : Nat} (h : mSub c t = true) : mTn c = mTn t ∨ (mTn c, mTn t) ∈ mCa := by
  unfold mSub at h
  rw [Bool.or_eq_true] at h
  rcases h with h | h
  · have := (of_decide_eq_true h).1
    rw [this]; exact Or.inl rfl
  · have h2 : (c, t) ∈ mCaN := List.contains_iff_mem.mp h
    have : ∀ q ∈ mCaN, mTn q.1 = mTn q.2 ∨ (mTn q.1, mTn q.2) ∈ mCa := by decide +kernel
    exact this _ h2
theorem mNsub_spec {c t : Nat} (h : mNsub c t = true) : (c, t) ∈ mNcN := List.contains_iff_mem.mp h
theorem mKd_fun : ∀ p ∈ mKd, ∀ q ∈ mKd, p.1 = q.1 → p.2 = q.2 := by decide +kernel
theorem mKd_ref {t : Nat} {ty : FieldType} (h : (t, ty) ∈ mKd) (ht : 100 ≤ t) : ty = .object (mTn t) ∧ mTn t ≠ "" := by
  have : ∀ q ∈ mKd, 100 ≤ q.1 → q.2 = .object (mTn q.1) ∧ mTn q.1 ≠ "" := by decide +kernel
  exact this _ h ht
