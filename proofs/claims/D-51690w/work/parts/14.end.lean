/-! MC soundness 9: ends, throws, handlers -/
set_option maxRecDepth 100000
def mqMQ (below : List Frame) (Qc : Array Value → State → Outcome → State → Prop) (XC : Addr → State → State → Prop) (a : Array Value) (s : State) (mc ms : Nat) (free : Addr → Prop) : State → Prop := fun t =>
  ∃ o, t.status = .running ∧ Ended t below o ∧ mqQ Qc XC mc ms free a s o t
/-- which kind of value an answer is -/
def mTyr (a : Nat) (ty : FieldType) : Prop := match a with
  | 0 => ty = .int
  | 1 => ty = .boolean
  | 2 => ty = .byte
  | 3 => ty = .char
  | _ => False
def mRf (ret : Option FieldType) (x : mI) : Prop := match x.1 with
  | .return_ => ret = none
  | .ireturn => ∃ ty, ret = some ty ∧ mTyr x.2.2.1 ty
  | .areturn => ∃ ty, ret = some ty ∧ ((∃ n, ty = .object n) ∨ ∃ t, ty = .array t)
  | .freturn => ret = some .float
  | .dreturn => ret = some .double
  | _ => True
theorem mTyr_nar {a : Nat} {ty : FieldType} {v : Int32} (h : mfit a (.int v) = true) (ht : mTyr a ty) : narrow ty (.int v) = .int v := by
  unfold mTyr at ht
  split at ht
  · subst ht; rfl
  · subst ht
    simp [mfit] at h
    rcases h with rfl | rfl <;> rfl
  · subst ht
    simp [mfit] at h
    exact congrArg Value.int h
  · subst ht
    simp [mfit] at h
    exact congrArg Value.int h
  · exact ht.elim
/-- the row i of a method's table and of its classes -/
def mHf (own : String) (hh hn : List (Nat × Nat × Nat × Nat)) : Prop := match hh, hn with
  | [], [] => True
  | a :: as, b :: bs => a.1 = b.1 ∧ a.2.1 = b.2.1 ∧ a.2.2.1 = b.2.2.1 ∧ (b.2.2.2 < 9000 → a.2.2.2 ≠ 0 ∧ Cond.classLink own a.2.2.2 (mTn b.2.2.2) ∈ lw_all) ∧ mHf own as bs
  | _, _ => False
theorem mSub_big {c t : Nat} (h : 9000 ≤ t) : mSub c t = false ∧ mNsub c t = false := by
  have h1 : ∀ q ∈ mCaN, q.2 < 9000 := by decide +kernel
  have h2 : ∀ q ∈ mNcN, q.2 < 9000 := by decide +kernel
  constructor
  · cases hs : mSub c t with
    | false => rfl
    | true =>
      unfold mSub at hs
      rw [Bool.or_eq_true] at hs
      rcases hs with hs | hs
      · have := of_decide_eq_true hs
        omega
      · have := h1 _ (List.contains_iff_mem.mp hs)
        omega
  · cases hs : mNsub c t with
    | false => rfl
    | true =>
      have := h2 _ (List.contains_iff_mem.mp hs)
      simp only at this
      omega
section MEN
variable {p : Program} {l : Launch} {e : Env} {R : Room} {s : State} {m : MethodId} {args : Array Value} {below : List Frame} {meth : Method} {c : Code} {H : Heap} {locs : List Loc} {cells slots : Nat} {Q : State → Prop}
variable {D : mD} {E : mE} {own mname : String} {cc : ByteArray} {nL pc : Nat} {ls : Array Slot} {rest : List Value} {h : mH}
variable {Qc : Array Value → State → Outcome → State → Prop} {XC : Addr → State → State → Prop} {free : Addr → Prop}
theorem mq_ret {g : JFrame} {mc ms : Nat} (k : W p l e R s m args below meth c H locs cells slots (MQ below Qc args s mc ms free) g) : W p l e R s m args below meth c H locs cells slots (mqMQ below Qc XC args s mc ms free) g := by
  intro T hT X
  obtain ⟨t, a1, o, b1, b2, b3, b4⟩ := k T hT X
  exact ⟨t, a1, o, b1, b2, Or.inl ⟨b3, b4⟩⟩
theorem mret_sound {x : mI} {st : List Value} {r : mR} (hq : mret x st h = some r) (C : mCx p l e R s m args meth c D E own mname cc nL) (hd : mDec cc pc x) (hrf : mRf meth.sig.returnType x) (hf : ∀ q ∈ locs, free q.base)
    (hQ : ∀ (v : Option Value) (t : State), r = (.inl v, h) → t.heap = H → s.WarmedH t.vm → Qc args s (.returned v) t) : W p l e R s m args below meth c H locs cells slots (mqMQ below Qc XC args s cells slots free) (F0 m pc ls st) := by
  obtain ⟨hx, hb, -, -, -, -, -, hlocks, -⟩ := C
  obtain ⟨i, kd, a, b, d⟩ := x
  cases i with
  | return_ =>
    simp only [mret] at hq
    split at hq
    · cases hq
      exact mq_ret (W.vret hx hb hrf (fun t ht hW => hQ none t rfl ht hW) hf hd hlocks)
    · cases hq
  | ireturn =>
    obtain ⟨ty, h1, h2⟩ := hrf
    simp only [mret] at hq
    split at hq
    · split at hq
      · rename_i hv
        cases hq
        exact mq_ret (W.zret hx hb h1 (mTyr_nar hv h2) (fun t ht hW => hQ _ t rfl ht hW) hf hd hlocks)
      · cases hq
    · cases hq
  | areturn =>
    obtain ⟨ty, h1, h2⟩ := hrf
    simp only [mret] at hq
    split at hq
    · cases hq
      exact mq_ret (W.aret hx hb h1 h2 (Or.inr ⟨_, rfl⟩) (fun t ht hW => hQ _ t rfl ht hW) hf hd hlocks)
    · cases hq
      exact mq_ret (W.aret hx hb h1 h2 (Or.inl rfl) (fun t ht hW => hQ _ t rfl ht hW) hf hd hlocks)
    · cases hq
  | freturn =>
    simp only [mret] at hq
    split at hq
    · cases hq
      exact mq_ret (W.fret hx hb hrf (fun t ht hW => hQ _ t rfl ht hW) hf hd hlocks)
    · cases hq
  | dreturn =>
    simp only [mret] at hq
    split at hq
    · cases hq
      exact mq_ret (W.dret hx hb hrf (fun t ht hW => hQ _ t rfl ht hW) hf hd hlocks)
    · cases hq
  | _ => cases (show (none : Option mR) = some r from hq)
/-- not caught here -/
theorem mq_out {q ci : Nat} {fs : List Value} {mc ms : Nat} {hh hn : List (Nat × Nat × Nat × Nat)} (C : mCx p l e R s m args meth c D E own mname cc nL) (htab : c.exceptionTable.toList = tableOf hh) (hH : mHf own hh hn) (hR : mRep D E.1 s H h) (hq : h.1 q = some (.inr (ci, fs))) (hcat : mcat mSub mNsub pc h q hn = some none)
    (hx : ∀ t : State, t.heap = H → s.WarmedH t.vm → XC q s t) (hf : ∀ z ∈ locs, free z.base) (hc : cells ≤ mc) (hs : slots ≤ ms) :
    vx_W p l e R s m args below meth c H locs cells slots (mqMQ below Qc XC args s mc ms free) (F0 m pc ls rest) q := by
  obtain ⟨-, -, -, hown, hts, hK, -, hlocks, -⟩ := C
  obtain ⟨r, cell, g1, g2, g3, g4, g5, g6, -⟩ := hR.2.2 q _ hq
  have hcls := (hK.1 ci r g1).2
  rw [mCl_name ci r g1] at hcls
  have hcl : s.vm.findClass (mTn ci) = some cell.cls := by rw [g4]; exact hcls.1
  have hpass : ∀ (hh hn : List (Nat × Nat × Nat × Nat)), mHf own hh hn → mcat mSub mNsub pc h q hn = some none → ∀ z ∈ tableOf hh, covers z pc = false ∨ (z.catchType ≠ 0 ∧ ∃ nm : String, (Cond.classLink own z.catchType nm).before args s = true ∧ va_Nc (mTn ci) nm s) := by
    intro hh
    induction hh with
    | nil => intro hn _ _ z hz; exact absurd hz (by simp [tableOf])
    | cons a as ih =>
      intro hn hH hcat z hz
      cases hn with
      | nil => exact hH.elim
      | cons b bs =>
        obtain ⟨e1, e2, e3, e4, e5⟩ := hH
        simp only [mcat, hq] at hcat
        have hz' : z = ⟨a.1, a.2.1, a.2.2.1, a.2.2.2⟩ ∨ z ∈ tableOf as := by
          simpa [tableOf] using hz
        split at hcat
        · split at hcat
          · simp at hcat
          · split at hcat
            · rename_i hn1
              rcases hz' with rfl | hz'
              · right
                have hb9 : b.2.2.2 < 9000 := by
                  rcases Nat.lt_or_ge b.2.2.2 9000 with h9 | h9
                  · exact h9
                  · rw [(mSub_big (c := ci) h9).2] at hn1; cases hn1
                obtain ⟨f1, f2⟩ := e4 hb9
                exact ⟨f1, _, hts _ f2, hK.2.2.2.2.2.2.2.2.1 _ (mNsub_spec hn1)⟩
              · exact ih bs e5 hcat z hz'
            · cases hcat
        · rename_i hno
          rcases hz' with rfl | hz'
          · left
            show (decide (a.1 ≤ pc) && decide (pc < a.2.1)) = false
            rw [e1, e2]
            simpa [Decidable.not_and_iff_or_not] using hno
          · exact ih bs e5 hcat z hz'
  intro T hT X
  have hpl : e.platform.magicAccessors = ({} : Platform).magicAccessors := by rw [X.admits.platform]
  obtain ⟨vm', hW', X', st⟩ := X.outThrough hlocks q (g := F0 m pc ls rest) rfl rfl rfl (cell := cell) (by rw [hT]; exact g3) g6
    (by obtain ⟨k9, h9, -⟩ := Vm.findClass_spec hcl; exact ⟨k9, h9⟩) (fun z hz => by
      rw [htab] at hz
      rcases hpass hh hn hH hcat z hz with h | ⟨hz0, nm, hl1, hn1⟩
      · exact Or.inl h
      · obtain ⟨c6, hc6, hcl6⟩ := Cond.classLink_spec hown hl1 e.platform hpl
        obtain ⟨a8, b8, h1, h2, h3⟩ := hn1
        cases Option.some.inj (h1.symm.trans hcl)
        cases Option.some.inj (h2.symm.trans hc6)
        exact Or.inr ⟨hz0, _, hcl6, h3⟩)
  obtain ⟨g₀, hfr⟩ := X'.frames_eq
  have hend : Ended ((T.setVm vm').setFrames (.throwing q :: below)) below (.threw q) := State.frames_setFrames _ (State.cur_lt_of_frames hfr)
  refine ⟨(T.setVm vm').setFrames (.throwing q :: below), ?_, .threw q, X'.here.running, hend, Or.inr ⟨q, rfl, locs, hx _ hT (X'.ends _).1, (X'.ends _).1, (X'.ends _).2.mono hc hs, hf⟩⟩
  rw [X.pushThrowing_eq]
  exact st
/-- caught here -/
theorem mq_catch {q ci t : Nat} {fs : List Value} {hh hn : List (Nat × Nat × Nat × Nat)} (C : mCx p l e R s m args meth c D E own mname cc nL) (htab : c.exceptionTable.toList = tableOf hh) (hH : mHf own hh hn) (hR : mRep D E.1 s H h) (hq : h.1 q = some (.inr (ci, fs))) (hcat : mcat mSub mNsub pc h q hn = some (some t))
    (kk : W p l e R s m args below meth c H locs cells slots Q (F0 m t ls [.ref q])) :
    vx_W p l e R s m args below meth c H locs cells slots Q (F0 m pc ls rest) q := by
  obtain ⟨-, -, -, hown, hts, hK, -, hlocks, -⟩ := C
  obtain ⟨r, cell, g1, g2, g3, g4, g5, g6, -⟩ := hR.2.2 q _ hq
  have hcls := (hK.1 ci r g1).2
  rw [mCl_name ci r g1] at hcls
  have hcl : s.vm.findClass (mTn ci) = some cell.cls := by rw [g4]; exact hcls.1
  have hpass : ∀ (hh hn : List (Nat × Nat × Nat × Nat)), mHf own hh hn → mcat mSub mNsub pc h q hn = some (some t) → ∃ (pre : List ExceptionTableEntry) (x : ExceptionTableEntry) (suf : List ExceptionTableEntry) (cc9 : Nat), tableOf hh = pre ++ x :: suf ∧ (∀ z ∈ pre, covers z pc = false ∨ (z.catchType ≠ 0 ∧ ∃ nm : String, (Cond.classLink own z.catchType nm).before args s = true ∧ va_Nc (mTn ci) nm s)) ∧ covers x pc = true ∧ x.catchType ≠ 0 ∧ (Cond.classLink own x.catchType (mTn cc9)).before args s = true ∧ mSub ci cc9 = true ∧ x.handlerPc = t := by
    intro hh
    induction hh with
    | nil =>
      intro hn hH hcat
      cases hn with
      | nil => simp [mcat] at hcat
      | cons b bs => exact hH.elim
    | cons a as ih =>
      intro hn hH hcat
      cases hn with
      | nil => exact hH.elim
      | cons b bs =>
        obtain ⟨e1, e2, e3, e4, e5⟩ := hH
        simp only [mcat, hq] at hcat
        split at hcat
        · rename_i hin
          split at hcat
          · rename_i hs1
            have hb9 : b.2.2.2 < 9000 := by
              rcases Nat.lt_or_ge b.2.2.2 9000 with h9 | h9
              · exact h9
              · rw [(mSub_big (c := ci) h9).1] at hs1; cases hs1
            obtain ⟨f1, f2⟩ := e4 hb9
            cases hcat
            refine ⟨[], ⟨a.1, a.2.1, a.2.2.1, a.2.2.2⟩, tableOf as, b.2.2.2, rfl, (fun z hz => absurd hz (by simp)), ?_, f1, hts _ f2, hs1, e3⟩
            show (decide (a.1 ≤ pc) && decide (pc < a.2.1)) = true
            rw [e1, e2]
            simpa using hin
          · split at hcat
            · rename_i hn1
              have hb9 : b.2.2.2 < 9000 := by
                rcases Nat.lt_or_ge b.2.2.2 9000 with h9 | h9
                · exact h9
                · rw [(mSub_big (c := ci) h9).2] at hn1; cases hn1
              obtain ⟨f1, f2⟩ := e4 hb9
              obtain ⟨pre, x, suf, cc9, k1, k2, k3⟩ := ih bs e5 hcat
              refine ⟨⟨a.1, a.2.1, a.2.2.1, a.2.2.2⟩ :: pre, x, suf, cc9, by simp only [tableOf, List.map_cons, List.cons_append] at k1 ⊢; rw [k1], fun z hz => ?_, k3⟩
              rcases List.mem_cons.mp hz with rfl | hz
              · exact Or.inr ⟨f1, _, hts _ f2, hK.2.2.2.2.2.2.2.2.1 _ (mNsub_spec hn1)⟩
              · exact k2 z hz
            · cases hcat
        · rename_i hno
          obtain ⟨pre, x, suf, cc9, k1, k2, k3⟩ := ih bs e5 hcat
          refine ⟨⟨a.1, a.2.1, a.2.2.1, a.2.2.2⟩ :: pre, x, suf, cc9, by simp only [tableOf, List.map_cons, List.cons_append] at k1 ⊢; rw [k1], fun z hz => ?_, k3⟩
          rcases List.mem_cons.mp hz with rfl | hz
          · left
            show (decide (a.1 ≤ pc) && decide (pc < a.2.1)) = false
            rw [e1, e2]
            simpa [Decidable.not_and_iff_or_not] using hno
          · exact k2 z hz
  obtain ⟨pre, x, suf, cc9, k1, k2, k3, k4, k5, k6, k7⟩ := hpass hh hn hH hcat
  subst k7
  intro T hT X
  have hpl : e.platform.magicAccessors = ({} : Platform).magicAccessors := by rw [X.admits.platform]
  obtain ⟨c5, hc5, hcl5⟩ := Cond.classLink_spec hown k5 e.platform hpl
  obtain ⟨vm', X', st⟩ := X.thenCaughtThrough q (g := F0 m pc ls rest) rfl (Steps.refl _) (by rw [hT]; exact g3) g6 (by obtain ⟨k9, h9, -⟩ := Vm.findClass_spec hcl; exact ⟨k9, h9⟩) pre x suf (htab.trans k1)
    (fun z hz => by
      rcases k2 z hz with h | ⟨hz0, nm, hl1, hn1⟩
      · exact Or.inl h
      · obtain ⟨c6, hc6, hcl6⟩ := Cond.classLink_spec hown hl1 e.platform hpl
        obtain ⟨a8, b8, h1, h2, h3⟩ := hn1
        cases Option.some.inj (h1.symm.trans hcl)
        cases Option.some.inj (h2.symm.trans hc6)
        exact Or.inr ⟨hz0, _, hcl6, h3⟩) k3 (Or.inr ⟨k4, c5, hcl5, mTak hK k6 hcl hc5⟩)
  obtain ⟨t9, a1, b1⟩ := kk (T.setVm vm') hT X'
  exact ⟨t9, st.trans a1, b1⟩
end MEN
