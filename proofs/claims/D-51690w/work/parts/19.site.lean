/-! MC soundness 14: places of calls -/
set_option maxRecDepth 100000
def mVt (a c : Nat) : Option Nat := if c = a / 1000 then some (a % 1000) else none
theorem marg_spec {n : Nat} {st as rest : List Value} (h : marg n st = some (as, rest)) : st = as.reverse ++ rest ∧ as.length = n := by
  unfold marg at h
  split at h
  · rename_i hn
    cases h
    exact ⟨by rw [List.reverse_reverse, List.take_append_drop], by rw [List.length_reverse, List.length_take]; omega⟩
  · cases h
/-- a callee: its locals, its arguments without the receiver, its class, its code -/
def mTg (P : mP) (G : mG) (z n : Nat) : Prop := mmax P z ≤ 45 ∧ ((gN G z).cls ≠ "java/lang/invoke/MethodHandle" ∧ (gN G z).cls ≠ "java/lang/invoke/VarHandle") ∧ mCw P G z ∈ lw_all ∧ (parseMethodDescriptor (gN G z).desc).map (fun d => d.parameters.length) = some n
theorem mTg.len {P : mP} {G : mG} {z n : Nat} (h : mTg P G z n) : ∀ sig, parseMethodDescriptor (gN G z).desc = some sig → n = sig.parameters.length := by
  intro sig hs
  have h2 := h.2.2.2
  rw [hs] at h2
  exact (Option.some.inj h2).symm
theorem mTg.code {P : mP} {G : mG} {z n : Nat} (h : mTg P G z n) {args : Array Value} {s : State} (hts : ∀ w ∈ lw_all, w.before args s = true) : mqCode (gN G z) (gB G z) (mmax P z) (gR G z) (gH G z) args s := by
  have hw := hts _ h.2.2.1
  unfold mCw at hw
  split at hw
  · rename_i hg; exact Or.inl ⟨hg, hw⟩
  · rename_i hg; rw [hg]; exact Or.inr hw
theorem mTg.code0 {P : mP} {G : mG} {z n : Nat} (h : mTg P G z n) (hh : gH G z = []) {args : Array Value} {s : State} (hts : ∀ w ∈ lw_all, w.before args s = true) : (Cond.code (gN G z) (gB G z) (mmax P z) (gR G z)).before args s = true := by
  have hw := hts _ h.2.2.1
  unfold mCw at hw
  rw [hh] at hw
  exact hw
theorem m_own {D : mD} {E : mE} {s : State} {H : Heap} {h : mH} (hK : mKn D E s) (hR : mRep D E.1 s H h) {b ci : Nat} {fs : List Value} (hb : h.1 b = some (.inr (ci, fs))) : ∃ (cell : Cell) (kB : Class), H[b]? = some cell ∧ cell.vm.isStatics = false ∧ s.vm.findClass (mTn ci) = some cell.cls ∧ s.vm.classes[cell.cls]? = some kB := by
  obtain ⟨r, cell, g1, g2, g3, g4, g5, g6, -⟩ := hR.2.2 b _ hb
  have hcls := (hK.1 ci r g1).2
  rw [mCl_name ci r g1] at hcls
  have hcl : s.vm.findClass (mTn ci) = some cell.cls := by rw [g4]; exact hcls.1
  obtain ⟨k9, h9, -⟩ := Vm.findClass_spec hcl
  exact ⟨cell, k9, g3, g6, hcl, h9⟩
theorem m_virt {P : mP} (hv : mvt P = mVt) {a n z : Nat} {st : List Value} {h : mH} {as rest : List Value} (hq : (match marg (n + 1) st with
    | some (.ref b :: as, r) => match h.1 b with
      | some (.inr (c, _)) => match mvt P a c with
        | some z => some (z, .ref b :: as, r)
        | none => none
      | _ => none
    | _ => none) = some (z, as, rest)) : ∃ (b : Nat) (fs : List Value) (as' : List Value), as = .ref b :: as' ∧ st = as'.reverse ++ .ref b :: rest ∧ as'.length = n ∧ h.1 b = some (.inr (a / 1000, fs)) ∧ z = a % 1000 := by
  split at hq
  · rename_i hm
    split at hq
    · rename_i hk
      split at hq
      · rename_i hz
        cases hq
        rw [hv] at hz
        unfold mVt at hz
        split at hz
        · rename_i hc
          cases hz
          subst hc
          obtain ⟨e1, e2⟩ := marg_spec hm
          refine ⟨_, _, _, rfl, ?_, by simpa using e2, hk, rfl⟩
          rw [e1, List.reverse_cons, List.append_assoc]
          rfl
        · cases hz
      · cases hq
    · cases hq
  · cases hq
theorem m_sel {s : State} {args : Array Value} {C : String} {c : ClassId} {y : MethodName} (hC : s.vm.findClass C = some c) (hy : y.cls ≠ "java/lang/invoke/MethodHandle" ∧ y.cls ≠ "java/lang/invoke/VarHandle") (hsame : (Cond.sameMethod y.cls y.cls y.name y.desc).before args s = true) (hpriv : (Cond.privateMethod y).before args s = true) (hinst : (Cond.instanceMethod y).before args s = true) : (Cond.selects C y y).before args s = true := by
  obtain ⟨cn, ck, r1, hcn, hck, hni, hf, hn1⟩ := Cond.sameMethod_found hsame
  obtain ⟨mk, methM, hnamed, hmethM, -, -⟩ := Cond.instanceMethod_spec hinst
  have hfound : s.methodFound? y.cls y.name y.desc = some mk := State.methodFound?_of_named hnamed hy
  have hcls : mk.cls = cn := Option.some.inj ((findClass_of_methodNamed hnamed).symm.trans hcn)
  have hsel : selectMethod {} s.vm c mk = .method mk := selectMethod_private hmethM (Cond.privateMethod_at hpriv mk methM hnamed hmethM)
  simp only [Cond.before, Cond.holds, Cond.value, hC, hfound, hnamed, hsel, hcls, hck]
  simp; exact hni
theorem decC {x : MethodName} (h5 : Cond.instanceMethod x ∈ lw_all) {b6 : ByteArray} {m6 : Nat} {r6 : Option FieldType} (h6 : Cond.code x b6 m6 r6 ∈ lw_all) (args : Array Value) (s : State) (hts : ∀ w ∈ lw_all, w.before args s = true) : va_Decl s x := va_Decl.of (hts _ h5) (hts _ h6)
theorem decN {x : MethodName} (h5 : Cond.instanceMethod x ∈ lw_all) (h6 : Cond.native x ∈ lw_all) (args : Array Value) (s : State) (hts : ∀ w ∈ lw_all, w.before args s = true) : va_Decl s x := by
  obtain ⟨r0, r, hn, hrm, hst, -⟩ := Cond.instanceMethod_spec (hts _ h5)
  obtain ⟨m1, meth1, g1, g2, -, -, -, hsig⟩ := Cond.native_spec (hts _ h6)
  cases hn.symm.trans g1
  cases hrm.symm.trans g2
  exact ⟨_, _, hn, hrm, hst, hsig⟩
section MSI
variable {P : mP} {G : mG} {y k n z d a : Nat}
theorem site_S (hT : mTg P G z n) (hn : n ≤ mmax P z) (hlev : mLv G z y) (h1 : Cond.methodLink (gN G y).cls k (gN G z) ∈ lw_all) (h2 : Cond.static (gN G z) ∈ lw_all) (h3 : Cond.initialized (gN G z).cls ∈ lw_all) : mSite P G y (.invokestatic k, 2, z, n, d) := by
  intro st h z' as rest hq
  simp only [mcal] at hq
  split at hq
  · rename_i hm
    cases hq
    obtain ⟨e1, e2⟩ := marg_spec hm
    refine ⟨hlev, hT.1, by omega, ?_⟩
    intro p l e R s m args below meth c T locs cells slots D E mname cc nL g X C hR hg hsz hst hd
    have hts := C.2.2.2.2.1
    exact mq_S X C.1 C.2.2.2.1 (hts _ h1) (hts _ h2) (hts _ h3) (hT.code hts) hT.2.1 hg hsz (fun sig hs => e2.trans (hT.len sig hs)) (hst.trans e1) hd
  · cases hq
theorem site_SN (hT : mTg P G z n) (hn : n ≤ mmax P z) (hlev : mLv G z y) (hh : gH G z = []) {host : String} (h1 : ((gN G y).cls, k, gN G z, host) ∈ mNM) (h2 : Cond.static (gN G z) ∈ lw_all) (h3 : Cond.initialized (gN G z).cls ∈ lw_all) : mSite P G y (.invokestatic k, 2, z, n, d) := by
  intro st h z' as rest hq
  simp only [mcal] at hq
  split at hq
  · rename_i hm
    cases hq
    obtain ⟨e1, e2⟩ := marg_spec hm
    refine ⟨hlev, hT.1, by omega, ?_⟩
    intro p l e R s m args below meth c T locs cells slots D E mname cc nL g X C hR hg hsz hst hd
    have hts := C.2.2.2.2.1
    have hl : (Cond.methodLinkNest (gN G y).cls k (gN G z) host).before args s = true := va_Nw.use rfl (C.2.2.2.2.2.1.2.2.1 _ (List.mem_append_right _ (List.mem_append_left _ (List.mem_append_left _ (List.mem_map.mpr ⟨_, h1, rfl⟩)))))
    exact mq_SN X C.1 C.2.2.2.1 hl (hts _ h2) (hts _ h3) (hT.code0 hh hts) hT.2.1 hg hsz (fun sig hs => e2.trans (hT.len sig hs)) (hst.trans e1) hd
  · cases hq
theorem m_spec {P : mP} {a n k d z : Nat} {st : List Value} {h : mH} {as rest : List Value} (hq : mcal P (.invokespecial k, 2, a, n, d) st h = some (z, as, rest)) : ∃ (b : Nat) (as' : List Value), as = .ref b :: as' ∧ st = as'.reverse ++ .ref b :: rest ∧ as'.length = n ∧ z = a ∧ ∃ (ci : Nat) (fs : List Value), h.1 b = some (.inr (ci, fs)) := by
  simp only [mcal] at hq
  split at hq
  · rename_i hm
    split at hq
    · rename_i hk
      cases hq
      obtain ⟨e1, e2⟩ := marg_spec hm
      refine ⟨_, _, rfl, ?_, by simpa using e2, rfl, _, _, hk⟩
      rw [e1, List.reverse_cons, List.append_assoc]
      rfl
    · cases hq
  · cases hq
theorem site_I (hT : mTg P G z n) (hn : n + 1 ≤ mmax P z) (hlev : mLv G z y) (hh : gH G z = []) (hr : gR G z = none) (hy : (gN G z).name = "<init>") (h1 : Cond.methodLink (gN G y).cls k (gN G z) ∈ lw_all) (h2 : Cond.instanceMethod (gN G z) ∈ lw_all) : mSite P G y (.invokespecial k, 2, z, n, d) := by
  intro st h z' as rest hq
  obtain ⟨b, as', rfl, e1, e2, rfl, ci, fs, hb⟩ := m_spec hq
  refine ⟨hlev, hT.1, by rw [List.length_cons]; omega, ?_⟩
  intro p l e R s m args below meth c T locs cells slots D E mname cc nL g X C hR hg hsz hst hd
  have hts := C.2.2.2.2.1
  have hc := hT.code0 hh hts
  rw [hr] at hc
  exact mq_I X C.1 C.2.2.2.1 hy (hts _ h1) (hts _ h2) hc hT.2.1 hg hsz (fun sig hs => e2.trans (hT.len sig hs)) (hst.trans e1) hd
theorem site_IN (hT : mTg P G z n) (hn : n + 1 ≤ mmax P z) (hlev : mLv G z y) (hh : gH G z = []) (hr : gR G z = none) (hy : (gN G z).name = "<init>") {host : String} (h1 : ((gN G y).cls, k, gN G z, host) ∈ mNM) (h2 : Cond.instanceMethod (gN G z) ∈ lw_all) : mSite P G y (.invokespecial k, 2, z, n, d) := by
  intro st h z' as rest hq
  obtain ⟨b, as', rfl, e1, e2, rfl, ci, fs, hb⟩ := m_spec hq
  refine ⟨hlev, hT.1, by rw [List.length_cons]; omega, ?_⟩
  intro p l e R s m args below meth c T locs cells slots D E mname cc nL g X C hR hg hsz hst hd
  have hts := C.2.2.2.2.1
  have hc := hT.code0 hh hts
  rw [hr] at hc
  have hl : (Cond.methodLinkNest (gN G y).cls k (gN G z') host).before args s = true := va_Nw.use rfl (C.2.2.2.2.2.1.2.2.1 _ (List.mem_append_right _ (List.mem_append_left _ (List.mem_append_left _ (List.mem_map.mpr ⟨_, h1, rfl⟩)))))
  exact mq_IN X C.1 C.2.2.2.1 hy hl (hts _ h2) hc hT.2.1 hg hsz (fun sig hs => e2.trans (hT.len sig hs)) (hst.trans e1) hd
theorem site_V (hv : mvt P = mVt) (hT : mTg P G (a % 1000) n) (hn : n + 1 ≤ mmax P (a % 1000)) (hlev : mLv G (a % 1000) y) (h1 : Cond.methodLink (gN G y).cls k (gN G (a % 1000)) ∈ lw_all) (h2 : Cond.instanceMethod (gN G (a % 1000)) ∈ lw_all) (h3 : Cond.selects (mTn (a / 1000)) (gN G (a % 1000)) (gN G (a % 1000)) ∈ lw_all) : mSite P G y (.invokevirtual k, 2, a, n, d) := by
  intro st h z' as rest hq
  obtain ⟨b, fs, as', rfl, e1, e2, hb, rfl⟩ := m_virt hv hq
  have e2 : as'.length = n := e2
  refine ⟨hlev, hT.1, by show (Value.ref b :: as').length ≤ mmax P (a % 1000); rw [List.length_cons]; omega, ?_⟩
  intro p l e R s m args below meth c T locs cells slots D E mname cc nL g X C hR hg hsz hst hd
  have hts := C.2.2.2.2.1
  obtain ⟨cell, kB, f1, f2, f3, f4⟩ := m_own C.2.2.2.2.2.1 hR hb
  exact mq_V X C.1 C.2.2.2.1 (hts _ h1) (hts _ h2) (hts _ h3) (hT.code hts) hT.2.1 f1 f2 f3 hg hsz (fun sig hs => e2.trans (hT.len sig hs)) (hst.trans e1) hd
/-- a private method of a class above -/
theorem site_VP (hv : mvt P = mVt) (hT : mTg P G (a % 1000) n) (hn : n + 1 ≤ mmax P (a % 1000)) (hlev : mLv G (a % 1000) y) (h1 : Cond.methodLink (gN G y).cls k (gN G (a % 1000)) ∈ lw_all) (h2 : Cond.instanceMethod (gN G (a % 1000)) ∈ lw_all) (h3 : Cond.selects (mTn (a / 1000)) (gN G (a % 1000)) (gN G (a % 1000)) ∈ mDws) : mSite P G y (.invokevirtual k, 2, a, n, d) := by
  intro st h z' as rest hq
  obtain ⟨b, fs, as', rfl, e1, e2, hb, rfl⟩ := m_virt hv hq
  have e2 : as'.length = n := e2
  refine ⟨hlev, hT.1, by show (Value.ref b :: as').length ≤ mmax P (a % 1000); rw [List.length_cons]; omega, ?_⟩
  intro p l e R s m args below meth c T locs cells slots D E mname cc nL g X C hR hg hsz hst hd
  have hts := C.2.2.2.2.1
  obtain ⟨cell, kB, f1, f2, f3, f4⟩ := m_own C.2.2.2.2.2.1 hR hb
  have hdw : ∀ w ∈ mDws, w.before args s = true := fun w hw => by
    have := C.2.2.2.2.2.1.2.2.2.2.2.1 w hw
    exact word_at (State.WarmedH.refl s) (good_of_word (mDws_good w hw)) this
  exact mq_V X C.1 C.2.2.2.1 (hts _ h1) (hts _ h2) (hdw _ h3) (hT.code hts) hT.2.1 f1 f2 f3 hg hsz (fun sig hs => e2.trans (hT.len sig hs)) (hst.trans e1) hd
theorem site_SU (hT : mTg P G z n) (hn : n + 1 ≤ mmax P z) (hlev : mLv G z y) (hh : gH G z = []) (hno : (gN G z).name ≠ "<init>") (h1 : Cond.methodLink (gN G y).cls k (gN G z) ∈ lw_all) (h2 : Cond.sameMethod (gN G z).cls (gN G z).cls (gN G z).name (gN G z).desc ∈ lw_all) (h3 : Cond.superclass (gN G y).cls (gN G z).cls ∈ lw_all) (h4 : Cond.instanceMethod (gN G z) ∈ lw_all) : mSite P G y (.invokespecial k, 2, z, n, d) := by
  intro st h z' as rest hq
  obtain ⟨b, as', rfl, e1, e2, rfl, ci, fs, hb⟩ := m_spec hq
  refine ⟨hlev, hT.1, by rw [List.length_cons]; omega, ?_⟩
  intro p l e R s m args below meth c T locs cells slots D E mname cc nL g X C hR hg hsz hst hd
  have hts := C.2.2.2.2.1
  have hc := hT.code0 hh hts
  obtain ⟨cell, kB, f1, f2, f3, f4⟩ := m_own C.2.2.2.2.2.1 hR hb
  exact mq_SU X C.1 C.2.2.2.1 (hts _ h1) (hts _ h2) (hts _ h3) (hts _ h4) hc hno f1 f2 f4 hg hsz (fun sig hs => e2.trans (hT.len sig hs)) (hst.trans e1) hd
/-- a method above, said again below: the name x is called, of the class's own or of one above, y runs -/
theorem site_VU (hv : mvt P = mVt) (hT : mTg P G (a % 1000) n) (hn : n + 1 ≤ mmax P (a % 1000)) (hlev : mLv G (a % 1000) y) (hh : gH G (a % 1000) = []) {x : MethodName} (hx : (parseMethodDescriptor x.desc).map (fun d => d.parameters.length) = some n) (hxc : x.cls ≠ "java/lang/invoke/MethodHandle" ∧ x.cls ≠ "java/lang/invoke/VarHandle") (h1 : Cond.methodLink (gN G y).cls k x ∈ lw_all) (h2 : Cond.sameMethod x.cls x.cls x.name x.desc ∈ lw_all) (h3 : Cond.selects (mTn (a / 1000)) x (gN G (a % 1000)) ∈ lw_all) (h4 : Cond.instanceMethod (gN G (a % 1000)) ∈ lw_all) (h5 : ∀ (args : Array Value) (s : State), (∀ w ∈ lw_all, w.before args s = true) → va_Decl s x) : mSite P G y (.invokevirtual k, 2, a, n, d) := by
  intro st h z' as rest hq
  obtain ⟨b, fs, as', rfl, e1, e2, hb, rfl⟩ := m_virt hv hq
  have e2 : as'.length = n := e2
  refine ⟨hlev, hT.1, by show (Value.ref b :: as').length ≤ mmax P (a % 1000); rw [List.length_cons]; omega, ?_⟩
  intro p l e R s m args below meth c T locs cells slots D E mname cc nL g X C hR hg hsz hst hd
  have hts := C.2.2.2.2.1
  obtain ⟨cell, kB, f1, f2, f3, f4⟩ := m_own C.2.2.2.2.2.1 hR hb
  exact mq_VU X C.1 C.2.2.2.1 (hts _ h1) (hts _ h2) (h5 _ _ hts) hxc (hts _ h3) (hts _ h4) (hT.code0 hh hts) f1 f2 f3 hg hsz (fun sig hs => by
    have := hx
    rw [hs] at this
    exact e2.trans (Option.some.inj this).symm) (hst.trans e1) hd
theorem va_of {c : Cond} {A : Array Value} {U : State} (hc : c.onTables = true) (h : c.before #[] U = true) : c.before A U = true := va_any hc h
/-- an entry of Grid, on a Square -/
theorem site_IF (hv : mvt P = mVt) (hT : mTg P G (a % 1000) n) (hn : n + 1 ≤ mmax P (a % 1000)) (hlev : mLv G (a % 1000) y) (hh : gH G (a % 1000) = []) {x : MethodName} (hx : (parseMethodDescriptor x.desc).map (fun d => d.parameters.length) = some n) (hC : a / 1000 = 2) {cnt : Nat} (h1 : Cond.methodLink (gN G y).cls k x ∈ lw_all) (h2 : (x, gN G (a % 1000)) ∈ mFws) (h3 : Cond.selects "MistCouriers$Square" x (gN G (a % 1000)) ∈ lw_all) (h4 : Cond.instanceMethod (gN G (a % 1000)) ∈ lw_all) : mSite P G y (.invokeinterface k cnt, 2, a, n, d) := by
  intro st h z' as rest hq
  obtain ⟨b, fs, as', rfl, e1, e2, hb, rfl⟩ := m_virt hv hq
  have e2 : as'.length = n := e2
  refine ⟨hlev, hT.1, by show (Value.ref b :: as').length ≤ mmax P (a % 1000); rw [List.length_cons]; omega, ?_⟩
  intro p l e R s m args below meth c T locs cells slots D E mname cc nL g X C hR hg hsz hst hd
  have hts := C.2.2.2.2.1
  have hb2 : h.1 b = some (.inr (a / 1000, fs)) := hb
  rw [hC] at hb2
  obtain ⟨cell, kB, f1, f2, f3, f4⟩ := m_own C.2.2.2.2.2.1 hR hb2
  obtain ⟨w1, w2, w3, w4, w5⟩ := C.2.2.2.2.2.1.2.2.2.1 _ h2
  exact mq_IF X C.1 C.2.2.2.1 (C := "MistCouriers$Square") (hts _ h1) (va_of rfl w1) (va_of rfl w2) (hts _ h3) (hts _ h4) (va_of rfl w3) (va_of rfl w4) (va_of rfl w5) (hT.code0 hh hts) (mFws_ok _ h2) f1 f2 f3 f4 hg hsz (fun sig hs => by
    have := hx
    rw [hs] at this
    exact e2.trans (Option.some.inj this).symm) (hst.trans e1) hd
/-- a default method of Grid, through Grid's entry, on a Square -/
theorem site_ID (hv : mvt P = mVt) (hT : mTg P G (a % 1000) n) (hn : n + 1 ≤ mmax P (a % 1000)) (hlev : mLv G (a % 1000) y) {x : MethodName} (hx : (parseMethodDescriptor x.desc).map (fun d => d.parameters.length) = some n) (hC : a / 1000 = 2) {cnt : Nat} (h1 : Cond.methodLink (gN G y).cls k x ∈ lw_all) (h2 : (x, gN G (a % 1000)) ∈ mFws) (h3 : (x, gN G (a % 1000)) ∈ mLds) (h4 : Cond.instanceMethod (gN G (a % 1000)) ∈ lw_all) : mSite P G y (.invokeinterface k cnt, 2, a, n, d) := by
  intro st h z' as rest hq
  obtain ⟨b, fs, as', rfl, e1, e2, hb, rfl⟩ := m_virt hv hq
  have e2 : as'.length = n := e2
  refine ⟨hlev, hT.1, by show (Value.ref b :: as').length ≤ mmax P (a % 1000); rw [List.length_cons]; omega, ?_⟩
  intro p l e R s m args below meth c T locs cells slots D E mname cc nL g X C hR hg hsz hst hd
  have hts := C.2.2.2.2.1
  have hb2 : h.1 b = some (.inr (a / 1000, fs)) := hb
  rw [hC] at hb2
  obtain ⟨cell, kB, f1, f2, f3, f4⟩ := m_own C.2.2.2.2.2.1 hR hb2
  obtain ⟨w1, w2, w3, w4, w5⟩ := C.2.2.2.2.2.1.2.2.2.1 _ h2
  exact mq_ID X C.1 C.2.2.2.1 (C := "MistCouriers$Square") (hts _ h1) (va_of rfl w1) (va_of rfl w2) (mld_use (C.2.2.2.2.2.1.2.2.2.2.1 _ h3)) (hts _ h4) (va_of rfl w3) (va_of rfl w5) (mFws_ok _ h2) f1 f2 f3 f4 hg hsz (fun sig hs => by
    have := hx
    rw [hs] at this
    exact e2.trans (Option.some.inj this).symm) (hst.trans e1) hd
/-- a default method of Grid, through Square -/
theorem site_VD (hv : mvt P = mVt) (hT : mTg P G (a % 1000) n) (hn : n + 1 ≤ mmax P (a % 1000)) (hlev : mLv G (a % 1000) y) {x : MethodName} (hx : (parseMethodDescriptor x.desc).map (fun d => d.parameters.length) = some n) (hC : a / 1000 = 2) (h1 : Cond.methodLink (gN G y).cls k x ∈ mDws) (h2 : Cond.sameMethod x.cls "MistCouriers$Grid" x.name x.desc ∈ mDws) (hyo : gN G (a % 1000) = ⟨"MistCouriers$Grid", x.name, x.desc⟩) (h3 : (x, gN G (a % 1000)) ∈ mLds) (h4 : Cond.instanceMethod (gN G (a % 1000)) ∈ lw_all) : mSite P G y (.invokevirtual k, 2, a, n, d) := by
  intro st h z' as rest hq
  obtain ⟨b, fs, as', rfl, e1, e2, hb, rfl⟩ := m_virt hv hq
  have e2 : as'.length = n := e2
  refine ⟨hlev, hT.1, by show (Value.ref b :: as').length ≤ mmax P (a % 1000); rw [List.length_cons]; omega, ?_⟩
  intro p l e R s m args below meth c T locs cells slots D E mname cc nL g X C hR hg hsz hst hd
  have hts := C.2.2.2.2.1
  have hb2 : h.1 b = some (.inr (a / 1000, fs)) := hb
  rw [hC] at hb2
  obtain ⟨cell, kB, f1, f2, f3, f4⟩ := m_own C.2.2.2.2.2.1 hR hb2
  have hdw : ∀ w ∈ mDws, w.before args s = true := fun w hw => by
    have := C.2.2.2.2.2.1.2.2.2.2.2.1 w hw
    exact word_at (State.WarmedH.refl s) (good_of_word (mDws_good w hw)) this
  exact mq_VD X C.1 C.2.2.2.1 (C := "MistCouriers$Square") (owner := "MistCouriers$Grid") (hdw _ h1) (hdw _ h2) ⟨by decide +kernel, by decide +kernel⟩ (mld_use (C.2.2.2.2.2.1.2.2.2.2.1 _ h3)) (hts _ h4) hyo f1 f2 f3 hg hsz (fun sig hs => by
    have := hx
    rw [hs] at this
    exact e2.trans (Option.some.inj this).symm) (fun mk hmk => mqCode_lift (hT.code hts) hmk) (hst.trans e1) hd
end MSI
