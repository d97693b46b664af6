/-! MC soundness 12: the theorem -/
set_option maxRecDepth 100000
/-- a method: its name, its code, its answer's type, its level, its handlers -/
abbrev mG : Type := Nat → (MethodName × ByteArray × Option FieldType × Nat × List (Nat × Nat × Nat × Nat))
def gN (G : mG) (z : Nat) : MethodName := (G z).1
def gB (G : mG) (z : Nat) : ByteArray := (G z).2.1
def gR (G : mG) (z : Nat) : Option FieldType := (G z).2.2.1
def gL (G : mG) (z : Nat) : Nat := (G z).2.2.2.1
def gH (G : mG) (z : Nat) : List (Nat × Nat × Nat × Nat) := (G z).2.2.2.2
def mRm (L mc ms : Nat) : Room := { frames := L + 10, locals := 64 * L + 400, cells := mc, slots := ms }
def mCw (P : mP) (G : mG) (z : Nat) : Cond := match gH G z with
  | [] => Cond.code (gN G z) (gB G z) (mmax P z) (gR G z)
  | a :: as => Cond.codeWith (gN G z) (gB G z) (mmax P z) (gR G z) (a :: as)
def mPc (D : mD) (E : mE) (as : List Value) (h : mH) : Array Value → State → Prop := fun a U => a = as.toArray ∧ mRep D E.1 U U.heap h ∧ mKn D E U ∧ mSt E U U.heap
def mQc (D : mD) (E : mE) (r : mR) : Array Value → State → Outcome → State → Prop := fun _ st o t => ∃ v, o = .returned v ∧ r.1 = .inl v ∧ mRep D E.1 st t.heap r.2 ∧ va_F (fun q => E.1 ≤ q) st t
def mXc (D : mD) (E : mE) (r : mR) : Addr → State → State → Prop := fun q st t => r.1 = .inr q ∧ mRep D E.1 st t.heap r.2 ∧ va_F (fun q => E.1 ≤ q) st t
def mOkM (l : Launch) (P : mP) (G : mG) (D : mD) (E : mE) (z : Nat) (as : List Value) (h : mH) (r : mR) : Prop :=
  mqMet l (gN G z) (mCw P G z :: lw_all) (mRm (gL G z) (r.2.2.1 - h.2.1) (r.2.2.2 - h.2.2)) (mPc D E as h) (mQc D E r) (mXc D E r) (r.2.2.1 - h.2.1) (r.2.2.2 - h.2.2) (fun q => E.1 ≤ q)
def mLv (G : mG) (z y : Nat) : Prop := gL G z < gL G y ∧ gL G z < 100
/-- what a place of a call must give -/
def mSite (P : mP) (G : mG) (y : Nat) (x : mI) : Prop := ∀ (st : List Value) (h : mH) (z : Nat) (as rest : List Value), mcal P x st h = some (z, as, rest) →
  mLv G z y ∧ mmax P z ≤ 45 ∧ as.length ≤ mmax P z ∧
  ∀ (p : Program) (l : Launch) (e : Env) (R : Room) (s : State) (m : MethodId) (args : Array Value) (below : List Frame) (meth : Method) (c : Code) (T : State) (locs : List Loc) (cells slots : Nat) (D : mD) (E : mE) (mname : String) (cc : ByteArray) (nL : Nat) (g : JFrame),
    Stand p l e R s m args below meth c T locs cells slots → mCx p l e R s m args meth c D E (gN G y).cls mname cc nL → mRep D E.1 s T.heap h → g.method = m → g.locals.size = c.maxLocals → g.stack = st → decode c.code g.pc = .ok (x.1, mlen x.1) →
    mqCall p l e R s m args below meth c T locs cells slots (gN G z) (mlen x.1) as rest g
def mOkI (P : mP) (G : mG) (y pc : Nat) (x : mI) : Prop := match x.2.1 with
  | 0 => decode (gB G y) pc = .ok (x.1, mlen x.1) ∧ mFact (gN G y).cls (gN G y).name x
  | 7 => decode (gB G y) pc = .ok (x.1, mlen x.1)
  | 1 => mDec (gB G y) pc x ∧ mJf pc x
  | 2 => decode (gB G y) pc = .ok (x.1, mlen x.1) ∧ x.2.2.2.2 = pc ∧ mSite P G y x
  | 3 => mDec (gB G y) pc x ∧ mRf (gR G y) x
  | 4 => decode (gB G y) pc = .ok (x.1, mlen x.1) ∧ mTf (gN G y).cls (gB G y) pc x
  | 5 => decode (gB G y) pc = .ok (.athrow, 1)
  | 6 => x.2.2.1 = pc
  | _ => True
def mBk (P : mP) (G : mG) (y : Nat) : Nat → List mI → Prop
  | _, [] => True
  | pc, x :: is => mOkI P G y pc x ∧ mBk P G y (pc + mlen x.1) is
def mMt (P : mP) (G : mG) (z : Nat) : Prop := (gL G z < 100 → plainName (gN G z).cls = true ∧ mCw P G z ∈ lw_all ∧ Cond.initialized (gN G z).cls ∈ lw_all) ∧ mHf (gN G z).cls (gH G z) (mhnd P z) ∧ ∀ t, mBk P G z t (mcode P z t)
def mAll (P : mP) (G : mG) : Prop := (msub P = mSub ∧ mnsub P = mNsub ∧ mdfl P = mDf) ∧ ∀ z t, mcode P z t ≠ [] → mMt P G z
theorem mHf_nil {own : String} {hh : List (Nat × Nat × Nat × Nat)} (h : mHf own hh []) : hh = [] := by
  cases hh with
  | nil => rfl
  | cons a as => exact h.elim
/-- the locals at a method's entry -/
theorem m_entry (vs : List Value) (hc : ∀ v ∈ vs, v.category = 1) : lg_sl vs = vs.map Slot.val ∧ ∀ k, lv_args k vs = (vs.zipIdx k).map (fun q => (q.2, q.1)) := by
  induction vs with
  | nil => exact ⟨rfl, fun k => rfl⟩
  | cons v vs ih =>
    have hv : v.category = 1 := hc v List.mem_cons_self
    obtain ⟨h1, h2⟩ := ih (fun w hw => hc w (List.mem_cons_of_mem _ hw))
    constructor
    · unfold lg_sl at h1 ⊢
      rw [List.flatMap_cons, h1, hv]
      rfl
    · intro k
      rw [lv_args, hv, List.zipIdx_cons, List.map_cons, h2]
      rfl
theorem m_entryLoc {P : mP} {z : Nat} {as : List Value} (hc : ∀ v ∈ as, v.category = 1) (hl : as.length ≤ mmax P z) : mLoc (mEnt P z as) ((lg_sl as ++ List.replicate (mmax P z - (lg_sl as).length) Slot.unset).toArray) (mmax P z) := by
  obtain ⟨h1, h2⟩ := m_entry as hc
  have hl2 : (lg_sl as).length ≤ mmax P z := by rw [h1, List.length_map]; exact hl
  have h3 := lv_entry as hl2
  refine ⟨?_, h3.1, h3.2.1, ?_⟩
  · rw [mEnt, List.length_append, List.length_map, List.length_replicate]; omega
  · rintro ⟨i, v⟩ hq
    have e := mas_mem.mp hq
    refine h3.2.2 (i, v) ?_
    rw [h2 0, List.mem_map]
    refine ⟨(v, i), ?_, rfl⟩
    rw [List.mem_zipIdx_iff_getElem?]
    rw [mEnt, List.getElem?_append] at e
    split at e
    · rw [List.getElem?_map] at e
      cases h4 : as[i]? with
      | none => rw [h4] at e; cases e
      | some w => rw [h4] at e; simp only [Option.map_some, Option.some.injEq] at e; rw [e]
    · rw [List.getElem?_replicate] at e
      split at e <;> cases e
/-- bodies with fuel n -/
def mFr (l : Launch) (P : mP) (G : mG) (D : mD) (E : mE) (n : Nat) : Prop :=
  ∀ (y t : Nat) (al : mL) (st : List Value) (h : mH) (r : mR), mF E P n (y, t, al, st, h) = some r →
  ∀ (p : Program) (e : Env) (R : Room) (s : State) (m : MethodId) (args : Array Value) (below : List Frame) (meth : Method) (c : Code) (H : Heap) (locs : List Loc) (cells slots : Nat) (ls : Array Slot) (mc ms : Nat) (Qc : Array Value → State → Outcome → State → Prop) (XC : Addr → State → State → Prop),
    mCx p l e R s m args meth c D E (gN G y).cls (gN G y).name (gB G y) (mmax P y) → c.exceptionTable.toList = tableOf (gH G y) → meth.sig.returnType = gR G y → gL G y + 10 ≤ R.frames → 64 * gL G y + 400 ≤ R.locals →
    mLoc al ls (mmax P y) → mRep D E.1 s H h → va_S (fun q => E.1 ≤ q) s.heap H locs → cells + (r.2.2.1 - h.2.1) ≤ R.cells → slots + (r.2.2.2 - h.2.2) ≤ R.slots → cells + (r.2.2.1 - h.2.1) ≤ mc → slots + (r.2.2.2 - h.2.2) ≤ ms →
    (∀ (v : Option Value) (t : State), r.1 = .inl v → s.WarmedH t.vm → mRep D E.1 s t.heap r.2 → va_F (fun q => E.1 ≤ q) s t → Qc args s (.returned v) t) →
    (∀ (q : Addr) (t : State), r.1 = .inr q → s.WarmedH t.vm → mRep D E.1 s t.heap r.2 → va_F (fun q => E.1 ≤ q) s t → XC q s t) →
    W p l e R s m args below meth c H locs cells slots (mqMQ below Qc XC args s mc ms (fun q => E.1 ≤ q)) (F0 m t ls st)
theorem mPc_blind {D : mD} {E : mE} {as : List Value} {h : mH} : FrameBlind (mPc D E as h) := fun _ U _ _ k => ⟨k.1, k.2.1.moved (State.WarmedH.refl U).alike, k.2.2.1.warm (State.WarmedH.refl U), k.2.2.2.moved (State.WarmedH.refl U).alike⟩
/-- a body, called -/
theorem m_meet {l : Launch} {P : mP} {G : mG} {D : mD} {E : mE} {n : Nat} (hl : l.stackTraces = false) (hA : mAll P G) (hF : mFr l P G D E n) {z : Nat} {as : List Value} {h : mH} {r : mR} (hz : mF E P n (z, 0, mEnt P z as, [], h) = some r) (hc : ∀ v ∈ as, v.category = 1) (hlen : as.length ≤ mmax P z) (h100 : gL G z < 100) : mOkM l P G D E z as h r := by
  have hne : mcode P z 0 ≠ [] := by
    cases n with
    | zero => cases hz
    | succ n => exact mX_ne hz
  obtain ⟨h9, hhf, -⟩ := hA.2 z 0 hne
  obtain ⟨hpl, hcw, hini⟩ := h9 h100
  refine MetFree.of_bodyS (code := gB G z) (maxLocals := mmax P z) (ret := gR G z) hpl ?_ ?_
  · intro args s m h hn
    have hw := atoms_spec (ws := mCw P G z :: lw_all) h _ List.mem_cons_self
    unfold mCw at hw
    split at hw
    · obtain ⟨meth, c, h1, h2, h3, h4, h5, h6, -, -⟩ := Cond.code_spec hn hw
      exact ⟨meth, c, h1, h2, h3, h4, h5, h6⟩
    · obtain ⟨m9, meth, c, hn9, h1, h2, h3, h4, -, h5, h6, -⟩ := Cond.codeWith_spec hw
      cases hn.symm.trans hn9
      exact ⟨meth, c, h1, h2, h3, h4, h5, h6⟩
  · intro p e s m args below meth c s₁ B hml hP _
    obtain ⟨ha, hR, hK, hSt⟩ := hP
    subst ha
    have hh0 : s₁.heap = s.heap := by rw [B.state]; rfl
    have hwa := atoms_spec (ws := mCw P G z :: lw_all) B.pre
    have htab : c.exceptionTable.toList = tableOf (gH G z) := by
      have hw := hwa _ List.mem_cons_self
      unfold mCw at hw
      split at hw
      · rename_i hg
        obtain ⟨meth9, c9, h1, h2, -, -, -, -, h7, -⟩ := Cond.code_spec B.named hw
        cases Option.some.inj (h1.symm.trans B.method)
        cases Option.some.inj (h2.symm.trans (Stand.of_body B).code)
        rw [Array.isEmpty_iff.mp h7, hg]
        rfl
      · rename_i a9 as9 hg
        rw [hg]
        exact vx_table (x := gN G z) B hw
    have hcx : mCx p l e (headSpec (mCw P G z :: lw_all) (mRm (gL G z) (r.2.2.1 - h.2.1) (r.2.2.2 - h.2.2))).room s m as.toArray meth c D E (gN G z).cls (gN G z).name (gB G z) (mmax P z) :=
      ⟨B.exec, B.bytes, hml, findClass_of_methodNamed B.named, fun w hw => hwa w (List.mem_cons_of_mem _ hw), hK, hSt, B.notSynchronized, hl, (name_of_methodNamed B.named B.method).1, Nat.le_add_left _ _, Nat.le_add_left _ _⟩
    have k := hF z 0 _ _ _ _ hz p e (headSpec (mCw P G z :: lw_all) (mRm (gL G z) (r.2.2.1 - h.2.1) (r.2.2.2 - h.2.2))).room s m as.toArray below meth c s.heap [] 0 0 _ (r.2.2.1 - h.2.1) (r.2.2.2 - h.2.2) (mQc D E r) (mXc D E r) hcx htab B.returns (Nat.le_refl _) (Nat.le_refl _)
      (m_entryLoc hc hlen) hR va_S.rf (by rw [Nat.zero_add]; exact Nat.le_refl _) (by rw [Nat.zero_add]; exact Nat.le_refl _) (by rw [Nat.zero_add]; exact Nat.le_refl _) (by rw [Nat.zero_add]; exact Nat.le_refl _)
      (fun v t e1 hW hr hf => ⟨v, rfl, e1, hr, hf⟩) (fun q t e1 hW hr hf => ⟨e1, hr, hf⟩)
    rw [← lg_entry_eq] at k
    obtain ⟨t, a1, o, b1, b2, b3⟩ := k s₁ hh0 (Stand.of_body B)
    exact ⟨t, o, a1, b1, b2, b3⟩
