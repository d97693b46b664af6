/-! MC tables 1: small lemmas for the printed proofs -/
set_option maxRecDepth 100000
section FA
variable {own mn : String} {k a b d n ci ty : Nat} {cc : ByteArray} {pc : Nat}
theorem fa_ldcs {tx : String} (h : (own, k, tx, b) ∈ mStr) : mFact own mn (.ldc k, 0, 1, b, d) := ⟨fun z => (by cases z), fun z => (by cases z), fun _ => Or.inr ⟨tx, h⟩⟩
theorem fa_ldci (h : Cond.constant own k (Int32.ofNat b) ∈ lw_all) : mFact own mn (.ldc k, 0, 0, b, d) := ⟨fun z => (by cases z), fun _ => h, fun z => (by cases z)⟩
theorem fa_ldcf (h : Cond.constantFloat own k (UInt32.ofNat b) ∈ lw_all) : mFact own mn (.ldc k, 0, 2, b, d) := ⟨fun _ => h, fun z => (by cases z), fun z => (by cases z)⟩
theorem fa_ldcc (h : Cond.classLink own k "[Ljava/lang/Object;" ∈ lw_all) : mFact own mn (.ldc k, 0, 1, 6, d) := ⟨fun z => (by cases z), fun z => (by cases z), fun _ => Or.inl ⟨rfl, h⟩⟩
theorem fa_ldc_ws {tx : String} (h : (own, k, tx, b) ∈ mStr) : mFact own mn (.ldc_w k, 0, 1, b, d) := ⟨rfl, tx, h⟩
theorem fa_gs {C nm ds : String} (h : (C, nm, ds, a, b) ∈ mSta) (q : Cond.fieldLink own k C nm ds ∈ lw_all) : mFact own mn (.getstatic k, 0, a, b, d) := ⟨C, nm, ds, h, q⟩
theorem fa_gf {ref : String} {r : vw_C} (h1 : mCl[ci]? = some r) (h2 : n < r.2.2) (q : Cond.fieldLink own k ref (r.2.1 n).2.1 (r.2.1 n).2.2.1 ∈ lw_all) (h3 : ref = (r.2.1 n).1 ∨ Cond.sameField ref (r.2.1 n).1 (r.2.1 n).2.1 (r.2.1 n).2.2.1 ∈ lw_all) : mFact own mn (.getfield k, 0, ci, n, d) := ⟨r, h1, h2, Or.inl ⟨ref, q, h3⟩⟩
theorem fa_gfN {host : String} {r : vw_C} (h1 : mCl[ci]? = some r) (h2 : n < r.2.2) (h3 : (own, k, (r.2.1 n).1, (r.2.1 n).2.1, (r.2.1 n).2.2.1, host) ∈ mNF) : mFact own mn (.getfield k, 0, ci, n, d) := ⟨r, h1, h2, Or.inr ⟨host, h3⟩⟩
theorem fa_pf {ref : String} {r : vw_C} {tys : Nat → FieldType} (h1 : mCl[ci]? = some r) (h1' : mClT[ci]? = some tys) (h2 : n < r.2.2) (ht : mTyc ty (tys n)) (hf : (r.2.1 n).2.2.2 = false) (q : Cond.fieldLink own k ref (r.2.1 n).2.1 (r.2.1 n).2.2.1 ∈ lw_all) (h3 : ref = (r.2.1 n).1 ∨ Cond.sameField ref (r.2.1 n).1 (r.2.1 n).2.1 (r.2.1 n).2.2.1 ∈ lw_all) : mFact own mn (.putfield k, 0, ci, n, ty) := ⟨r, tys, h1, h1', h2, ht, Or.inl ⟨hf, Or.inl ⟨ref, q, h3⟩⟩⟩
theorem fa_pfN {host : String} {r : vw_C} {tys : Nat → FieldType} (h1 : mCl[ci]? = some r) (h1' : mClT[ci]? = some tys) (h2 : n < r.2.2) (ht : mTyc ty (tys n)) (hf : (r.2.1 n).2.2.2 = false) (h3 : (own, k, (r.2.1 n).1, (r.2.1 n).2.1, (r.2.1 n).2.2.1, host) ∈ mNF) : mFact own mn (.putfield k, 0, ci, n, ty) := ⟨r, tys, h1, h1', h2, ht, Or.inl ⟨hf, Or.inr ⟨host, h3⟩⟩⟩
theorem fa_pfF {r : vw_C} {tys : Nat → FieldType} (h1 : mCl[ci]? = some r) (h1' : mClT[ci]? = some tys) (h2 : n < r.2.2) (ht : mTyc ty (tys n)) (hf : (r.2.1 n).2.2.2 = true) (hm : mn = "<init>") (ho : (r.2.1 n).1 = own) (q : Cond.fieldLink own k (r.2.1 n).1 (r.2.1 n).2.1 (r.2.1 n).2.2.1 ∈ lw_all) : mFact own mn (.putfield k, 0, ci, n, ty) := ⟨r, tys, h1, h1', h2, ht, Or.inr ⟨hf, hm, ho, q⟩⟩
theorem fa_new {r : vw_C} (h1 : mCl[ci]? = some r) (h2 : r.2.2 ≠ 0) (q1 : Cond.classLink own k r.1 ∈ lw_all) (q2 : Cond.instantiable r.1 r.2.2 ∈ lw_all) (q3 : Cond.initialized r.1 ∈ lw_all) : mFact own mn (.new k, 0, ci, b, d) := ⟨r, h1, h2, q1, q2, q3⟩
theorem fa_newa {t} (h1 : (a, newarray.typeOf t) ∈ mKd) (q : Cond.arrayClass (newarray.typeOf t) ∈ lw_all) (h2 : (d = 0 ∧ newarray.typeOf t ≠ .long) ∨ (d = 1 ∧ newarray.typeOf t = .long)) (h3 : a < 5) : mFact own mn (.newarray t, 0, a, b, d) := ⟨h1, q, h2, h3⟩
theorem fa_anew {C : String} (h1 : (a, FieldType.object C) ∈ mKd) (h2 : C ∈ mAOs) (q : Cond.classLink own k C ∈ lw_all) : mFact own mn (.anewarray k, 0, a, b, d) := ⟨C, h1, h2, q⟩
theorem fa_cco (q : Cond.classLink own k (mTn a) ∈ lw_all) : mFact own mn (.checkcast k, 0, a, b, 0) := ⟨fun _ => q, fun z => absurd rfl z⟩
theorem fa_cca {ty : FieldType} {nm : String} (hd : d ≠ 0) (h1 : (a, ty) ∈ mKd) (h2 : "[" ++ ty.toString = nm) (q : Cond.classLink own k nm ∈ lw_all) : mFact own mn (.checkcast k, 0, a, b, d) := ⟨fun z => absurd z hd, fun _ => ⟨ty, h1, by rw [h2]; exact q⟩⟩
theorem fa_acp (q : Cond.methodLink own k arraycopyName ∈ lw_all) : mFact own mn (.invokestatic k, 0, a, b, 0) := Or.inl ⟨rfl, q⟩
theorem fa_max (q : Cond.methodLink own k Lib.Math.max.name ∈ lw_all) : mFact own mn (.invokestatic k, 0, a, b, 1) := Or.inr (Or.inl ⟨rfl, q⟩)
theorem fa_min (q : Cond.methodLink own k Lib.Math.min.name ∈ lw_all) : mFact own mn (.invokestatic k, 0, a, b, 2) := Or.inr (Or.inr (Or.inl ⟨rfl, q⟩))
theorem fa_abs (q : Cond.methodLink own k Lib.Math.abs.name ∈ lw_all) : mFact own mn (.invokestatic k, 0, a, b, 3) := Or.inr (Or.inr (Or.inr ⟨rfl, q⟩))
theorem fa_cl0 (q : Cond.methodLink own k ⟨"[I", "clone", "()Ljava/lang/Object;"⟩ ∈ lw_all) : mFact own mn (.invokevirtual k, 0, 0, b, 0) := ⟨fun _ => Or.inl ⟨rfl, q⟩, fun z => absurd rfl z⟩
theorem fa_cl2 (q : Cond.methodLink own k ⟨"[B", "clone", "()Ljava/lang/Object;"⟩ ∈ lw_all) : mFact own mn (.invokevirtual k, 0, 2, b, 0) := ⟨fun _ => Or.inr ⟨rfl, q⟩, fun z => absurd rfl z⟩
theorem fa_gcls (q : Cond.methodLink own k ⟨"java/lang/Object", "getClass", "()Ljava/lang/Class;"⟩ ∈ lw_all) : mFact own mn (.invokevirtual k, 0, 100, 6, 1) := ⟨fun z => (by cases z), fun _ => ⟨rfl, rfl, q⟩⟩
end FA
section OKS
variable {P : mP} {G : mG} {y z pc pc' a b d n k : Nat} {x : mI} {is : List mI} {cc : ByteArray} {NY N : MethodName} {i : Instr}
theorem bk_c {i : Instr} {q : Nat × Nat × Nat × Nat} (h1 : mOkI P G y pc (i, q)) (hp : pc + mlen i = pc') (h2 : mBk P G y pc' is) : mBk P G y pc ((i, q) :: is) := ⟨h1, by rw [← hp] at h2; exact h2⟩
theorem bk_n : mBk P G y pc [] := trivial
theorem ok0 (hB : gB G y = cc) (hN : gN G y = NY) (hd : decode cc pc = .ok (i, mlen i)) (hf : mFact NY.cls NY.name (i, 0, a, b, d)) : mOkI P G y pc (i, 0, a, b, d) := by
  subst hB; subst hN; exact ⟨hd, hf⟩
theorem ok7 (hB : gB G y = cc) (hd : decode cc pc = .ok (i, mlen i)) : mOkI P G y pc (i, 7, a, b, d) := by
  subst hB; exact hd
theorem ok1 (hB : gB G y = cc) (hd : mDec cc pc (i, 1, a, b, d)) (hJ : mJf pc (i, 1, a, b, d)) : mOkI P G y pc (i, 1, a, b, d) := by
  subst hB; exact ⟨hd, hJ⟩
theorem ok2 (hB : gB G y = cc) (hd : decode cc pc = .ok (i, mlen i)) (hs : mSite P G y (i, 2, a, b, pc)) : mOkI P G y pc (i, 2, a, b, pc) := by
  subst hB; exact ⟨hd, rfl, hs⟩
theorem ok3 {r : Option FieldType} (hB : gB G y = cc) (hR : gR G y = r) (hd : mDec cc pc (i, 3, a, b, d)) (hf : mRf r (i, 3, a, b, d)) : mOkI P G y pc (i, 3, a, b, d) := by
  subst hB; subst hR; exact ⟨hd, hf⟩
theorem ok4 (hB : gB G y = cc) (hN : gN G y = NY) (hd : decode cc pc = .ok (i, mlen i)) (hf : mTf NY.cls cc pc (i, 4, a, b, d)) : mOkI P G y pc (i, 4, a, b, d) := by
  subst hB; subst hN; exact ⟨hd, hf⟩
theorem ok5 (hB : gB G y = cc) (hd : decode cc pc = .ok (.athrow, 1)) : mOkI P G y pc (i, 5, a, b, d) := by
  subst hB; exact hd
theorem ok6 (h : a = pc) : mOkI P G y pc (i, 6, a, b, d) := h
theorem lvx {m9 n9 : Nat} (hy : gL G y = n9) (hz : gL G z = m9) (h : (Nat.blt m9 n9 && Nat.blt m9 100) = true) : mLv G z y := by
  rw [Bool.and_eq_true] at h
  refine ⟨?_, ?_⟩
  · rw [hy, hz]; simpa [Nat.blt_eq] using h.1
  · rw [hz]; simpa [Nat.blt_eq] using h.2
theorem lk (hy : gN G y = NY) (hz : gN G z = N) (q : Cond.methodLink NY.cls k N ∈ lw_all) : Cond.methodLink (gN G y).cls k (gN G z) ∈ lw_all := by rw [hy, hz]; exact q
theorem lk1 {x : MethodName} (hy : gN G y = NY) (q : Cond.methodLink NY.cls k x ∈ lw_all) : Cond.methodLink (gN G y).cls k x ∈ lw_all := by rw [hy]; exact q
theorem lkd {x : MethodName} (hy : gN G y = NY) (q : Cond.methodLink NY.cls k x ∈ mDws) : Cond.methodLink (gN G y).cls k x ∈ mDws := by rw [hy]; exact q
theorem lkn {host : String} (hy : gN G y = NY) (hz : gN G z = N) (q : (NY.cls, k, N, host) ∈ mNM) : ((gN G y).cls, k, gN G z, host) ∈ mNM := by rw [hy, hz]; exact q
theorem wd (hz : gN G z = N) (q : Cond.static N ∈ lw_all) : Cond.static (gN G z) ∈ lw_all := by rw [hz]; exact q
theorem wdc (hz : gN G z = N) (q : Cond.initialized N.cls ∈ lw_all) : Cond.initialized (gN G z).cls ∈ lw_all := by rw [hz]; exact q
theorem wdi (hz : gN G z = N) (q : Cond.instanceMethod N ∈ lw_all) : Cond.instanceMethod (gN G z) ∈ lw_all := by rw [hz]; exact q
theorem wdp {c : Nat} {C : String} (hc : mTn c = C) (hz : gN G z = N) (q : Cond.selects C N N ∈ mDws) : Cond.selects (mTn c) (gN G z) (gN G z) ∈ mDws := by rw [hc, hz]; exact q
theorem wdm (hz : gN G z = N) (q : Cond.sameMethod N.cls N.cls N.name N.desc ∈ lw_all) : Cond.sameMethod (gN G z).cls (gN G z).cls (gN G z).name (gN G z).desc ∈ lw_all := by rw [hz]; exact q
theorem wdu (hy : gN G y = NY) (hz : gN G z = N) (q : Cond.superclass NY.cls N.cls ∈ lw_all) : Cond.superclass (gN G y).cls (gN G z).cls ∈ lw_all := by rw [hy, hz]; exact q
theorem wds {c : Nat} {C : String} (hc : mTn c = C) (hz : gN G z = N) (q : Cond.selects C N N ∈ lw_all) : Cond.selects (mTn c) (gN G z) (gN G z) ∈ lw_all := by rw [hc, hz]; exact q
theorem wds2 {c : Nat} {C : String} {x : MethodName} (hc : mTn c = C) (hz : gN G z = N) (q : Cond.selects C x N ∈ lw_all) : Cond.selects (mTn c) x (gN G z) ∈ lw_all := by rw [hc, hz]; exact q
theorem wds3 {C : String} {x : MethodName} (hz : gN G z = N) (q : Cond.selects C x N ∈ lw_all) : Cond.selects C x (gN G z) ∈ lw_all := by rw [hz]; exact q
theorem ldm {x : MethodName} {L : List (MethodName × MethodName)} (hz : gN G z = N) (q : (x, N) ∈ L) : (x, gN G z) ∈ L := by rw [hz]; exact q
theorem nmi (hz : gN G z = N) (q : N.name = "<init>") : (gN G z).name = "<init>" := by rw [hz]; exact q
theorem nmn (hz : gN G z = N) (q : N.name ≠ "<init>") : (gN G z).name ≠ "<init>" := by rw [hz]; exact q
theorem nmd {M : MethodName} (hz : gN G z = N) (q : N = M) : gN G z = M := by rw [hz]; exact q
end OKS
/-! the rows -/
abbrev mRow : Type := List (Nat × List mI) × Nat × List (Nat × Nat × Nat × Nat) × MethodName × ByteArray × Option FieldType × Nat × List (Nat × Nat × Nat × Nat)
def mlk : List (Nat × List mI) → Nat → List mI
  | [], _ => []
  | q :: qs, t => if q.1 = t then q.2 else mlk qs t
def mRow0 : mRow := ([], 0, [], ⟨"", "", ""⟩, ByteArray.empty, none, 0, [])
def mP_of (R : Nat → mRow) : mP := (fun z t => mlk (R z).1 t, fun z => (R z).2.1, fun z => (R z).2.2.1, mVt, (mSub, mNsub), mDf)
def mG_of (R : Nat → mRow) : mG := fun z => ((R z).2.2.2.1, (R z).2.2.2.2.1, (R z).2.2.2.2.2.1, (R z).2.2.2.2.2.2.1, (R z).2.2.2.2.2.2.2)
theorem mlk_bk {P : mP} {G : mG} {y : Nat} : ∀ (l : List (Nat × List mI)), (∀ q ∈ l, mBk P G y q.1 q.2) → ∀ t, mBk P G y t (mlk l t) := by
  intro l
  induction l with
  | nil => intro _ t; exact trivial
  | cons q qs ih =>
    intro h t
    unfold mlk
    split
    · rename_i e
      subst e
      exact h q List.mem_cons_self
    · exact ih (fun q hq => h q (List.mem_cons_of_mem _ hq)) t

theorem mHf_c {own : String} {f t l c9 c8 : Nat} {as bs : List (Nat × Nat × Nat × Nat)} (h : c8 < 9000 → c9 ≠ 0 ∧ Cond.classLink own c9 (mTn c8) ∈ lw_all) (h2 : mHf own as bs) : mHf own ((f, t, l, c9) :: as) ((f, t, l, c8) :: bs) := ⟨rfl, rfl, rfl, h, h2⟩
section MOK
variable {P : mP} {G : mG} {z m n : Nat} {N : MethodName} {B : ByteArray} {r : Option FieldType}
theorem cw_of (hh : gH G z = []) (hn : gN G z = N) (hb : gB G z = B) (hm : mmax P z = m) (hr : gR G z = r) (q : Cond.code N B m r ∈ lw_all) : mCw P G z ∈ lw_all := by
  unfold mCw
  rw [hh, hn, hb, hm, hr]
  exact q
theorem cw_ofW {a : Nat × Nat × Nat × Nat} {as : List (Nat × Nat × Nat × Nat)} (hh : gH G z = a :: as) (hn : gN G z = N) (hb : gB G z = B) (hm : mmax P z = m) (hr : gR G z = r) (q : Cond.codeWith N B m r (a :: as) ∈ lw_all) : mCw P G z ∈ lw_all := by
  unfold mCw
  rw [hh, hn, hb, hm, hr]
  exact q
theorem tg_of (hn : gN G z = N) (hm : mmax P z = m) (hc : mCw P G z ∈ lw_all) (h1 : m ≤ 45) (h2 : N.cls ≠ "java/lang/invoke/MethodHandle" ∧ N.cls ≠ "java/lang/invoke/VarHandle") (h3 : (parseMethodDescriptor N.desc).map (fun d => d.parameters.length) = some n) : mTg P G z n := by
  subst hn; subst hm
  exact ⟨h1, h2, hc, h3⟩
theorem mt_of (hn : gN G z = N) (h1 : plainName N.cls = true) (h2 : mCw P G z ∈ lw_all) (h3 : Cond.initialized N.cls ∈ lw_all) (h4 : mHf N.cls (gH G z) (mhnd P z)) (h5 : ∀ t, mBk P G z t (mcode P z t)) : mMt P G z := by
  subst hn
  exact ⟨fun _ => ⟨h1, h2, h3⟩, h4, h5⟩
end MOK
theorem th_in {L : List Cond} (h : ∀ w ∈ L, (w ∈ lw_tbl ∧ goodWord w = true) ∨ w ∈ mWd) : ∀ w ∈ L, w ∈ lw_all ∨ w ∈ mWd := by
  intro w hw
  rcases h w hw with h | h
  · exact Or.inl (List.mem_filter.mpr ⟨h.1, h.2⟩)
  · exact Or.inr h
