/-! MC soundness 2: how a heap of the JVM is pictured; what is known of the tables all through -/
set_option maxRecDepth 100000
abbrev mD : Type := va_G × (Nat → ClassId)
def mVal (x : vp_A) (j : Nat) : Value := match x.2 with
  | .inl f => .int (f j)
  | .inr (.inl f) => .long (f j)
  | .inr (.inr (.inl f)) => .float (f j)
  | .inr (.inr (.inr (.inl f))) => .double (f j)
  | .inr (.inr (.inr (.inr f))) => va_rf (f j)
theorem mVal_cell (cA : ClassId) (x : vp_A) : vp_cell cA x = arrV cA x.1 (mVal x) := by
  obtain ⟨n, f | f | f | f | f⟩ := x <;> rfl
def mAt (D : mD) (B : Nat) (U : State) (H : Heap) (a : Nat) (c : mC) : Prop := match c with
  | .inl (t, x) => ∃ (ty : FieldType) (cell : Cell), (t, ty) ∈ mKd ∧ H[a]? = some cell ∧ U.isArrayOf cell ty ∧ cell.vm ≠ .unknown ∧ cell.slots.size = x.1 ∧ (∀ j, j < x.1 → cell.slots[j]? = some (mVal x j)) ∧ (B ≤ a → cell = vp_cell (D.2 t) x)
  | .inr (ci, fs) => ∃ (r : vw_C) (cell : Cell), mCl[ci]? = some r ∧ fs.length = r.2.2 ∧ H[a]? = some cell ∧ cell.cls = D.1.1 ci ∧ cell.vm ≠ .unknown ∧ cell.vm.isStatics = false ∧ (B ≤ a → cell.vm = .none) ∧ ∀ k, k < r.2.2 → cell.slots[D.1.2 ci k]? = some (vp_V fs k)
def mRep (D : mD) (B : Nat) (U : State) (H : Heap) (h : mH) : Prop := H.size = h.2.1 ∧ B ≤ h.2.1 ∧ ∀ (a : Nat) (c : mC), h.1 a = some c → mAt D B U H a c
theorem mAt.moved {D : mD} {B : Nat} {u U : State} {H : Heap} {a : Nat} {c : mC} (hvm : u.vm.Alike U.vm) (h : mAt D B u H a c) : mAt D B U H a c := by
  rcases c with ⟨t, x⟩ | ⟨ci, fs⟩
  · obtain ⟨ty, cell, h1, h2, h3, h4⟩ := h
    exact ⟨ty, cell, h1, h2, State.isArrayOf_alike hvm h3, h4⟩
  · exact h
theorem mRep.moved {D : mD} {B : Nat} {u U : State} {H : Heap} {h : mH} (hvm : u.vm.Alike U.vm) (hR : mRep D B u H h) : mRep D B U H h := ⟨hR.1, hR.2.1, fun a c e => (hR.2.2 a c e).moved hvm⟩
theorem mAt.kept {D : mD} {B : Nat} {U : State} {H H1 : Heap} {a : Nat} {c : mC} (h : mAt D B U H a c) (e : H1[a]? = H[a]?) : mAt D B U H1 a c := by
  rcases c with ⟨t, x⟩ | ⟨ci, fs⟩
  · obtain ⟨ty, cell, h1, h2, h3⟩ := h
    exact ⟨ty, cell, h1, by rw [e]; exact h2, h3⟩
  · obtain ⟨r, cell, h1, h2, h3, h4⟩ := h
    exact ⟨r, cell, h1, h2, by rw [e]; exact h3, h4⟩
theorem mAt.lt {D : mD} {B : Nat} {U : State} {H : Heap} {a : Nat} {c : mC} (h : mAt D B U H a c) : a < H.size := by
  rcases c with ⟨t, x⟩ | ⟨ci, fs⟩
  · obtain ⟨ty, cell, h1, h2, h3⟩ := h
    exact (Array.getElem?_eq_some_iff.mp h2).1
  · obtain ⟨r, cell, h1, h2, h3, h4⟩ := h
    exact (Array.getElem?_eq_some_iff.mp h3).1
theorem mRep.put {D : mD} {B : Nat} {U : State} {H H1 : Heap} {h : mH} {a : Nat} {c : mC} (hR : mRep D B U H h) (hz : H1.size = H.size) (ho : ∀ q : Nat, q ≠ a → H1[q]? = H[q]?) (hc : mAt D B U H1 a c) : mRep D B U H1 (mput h a c) := by
  refine ⟨hz.trans hR.1, hR.2.1, fun q c' e => ?_⟩
  simp only [mput] at e
  split at e
  · rename_i hq
    cases e
    rw [hq]; exact hc
  · rename_i hq
    exact (hR.2.2 q c' e).kept (ho q hq)
theorem mRep.push {D : mD} {B : Nat} {U : State} {H H1 : Heap} {h : mH} {c : mC} {k : Nat} (hR : mRep D B U H h) (hz : H1.size = H.size + 1) (ho : ∀ q : Nat, q < H.size → H1[q]? = H[q]?) (hc : mAt D B U H1 H.size c) : mRep D B U H1 (mnew h c k) := by
  refine ⟨by rw [hz, hR.1]; rfl, Nat.le_succ_of_le hR.2.1, fun q c' e => ?_⟩
  simp only [mnew] at e
  split at e
  · rename_i hq
    cases e
    rw [hq, ← hR.1]; exact hc
  · have h1 := hR.2.2 q c' e
    exact h1.kept (ho q h1.lt)
/-! the tables -/
def mWd : List Cond := (mNF.map fun q => Cond.fieldLinkNest q.1 q.2.1 q.2.2.1 q.2.2.2.1 q.2.2.2.2.1 q.2.2.2.2.2) ++ (((mNM.map fun q => Cond.methodLinkNest q.1 q.2.1 q.2.2.1 q.2.2.2) ++ (mDe.map fun x => Cond.declares x)) ++ (mCa.map fun q => Cond.castable q.1 q.2))
theorem mWd_on {w : Cond} (h : w ∈ mWd) : w.onTables = true := by
  rcases List.mem_append.mp h with h | h
  · obtain ⟨q, -, rfl⟩ := List.mem_map.mp h; rfl
  · rcases List.mem_append.mp h with h | h
    · rcases List.mem_append.mp h with h | h
      · obtain ⟨q, -, rfl⟩ := List.mem_map.mp h; rfl
      · obtain ⟨q, -, rfl⟩ := List.mem_map.mp h; rfl
    · obtain ⟨q, -, rfl⟩ := List.mem_map.mp h; rfl
theorem mWd_warm {w : Cond} {s U : State} (h : w ∈ mWd) (hW : s.WarmedH U.vm) (hz : va_Nw w s) : va_Nw w U := by
  rcases List.mem_append.mp h with h | h
  · obtain ⟨q, -, rfl⟩ := List.mem_map.mp h; exact va_Nw.warmF hW hz
  · rcases List.mem_append.mp h with h | h
    · rcases List.mem_append.mp h with h | h
      · obtain ⟨q, -, rfl⟩ := List.mem_map.mp h; exact va_Nw.warmM hW hz
      · obtain ⟨q, -, rfl⟩ := List.mem_map.mp h; exact va_Nw.warmD hW hz
    · obtain ⟨q, -, rfl⟩ := List.mem_map.mp h; exact va_Nw.warmC hW hz
def yGr (n d : String) : MethodName := ⟨"MistCouriers$Grid", n, d⟩
def ySq (n d : String) : MethodName := ⟨"MistCouriers$Square", n, d⟩
/-- interface entries, for Square: what is called, what runs -/
def mFws : List (MethodName × MethodName) := [(yGr "width" "()I", ySq "width" "()I"), (yGr "height" "()I", ySq "height" "()I"), (yGr "columnOf" "(I)I", yGr "columnOf" "(I)I"), (yGr "rowOf" "(I)I", yGr "rowOf" "(I)I")]
/-- default methods, for Square -/
def mLds : List (MethodName × MethodName) := [(ySq "cells" "()I", yGr "cells" "()I"), (ySq "far" "(II)I", yGr "far" "(II)I"), (ySq "next" "(II)I", yGr "next" "(II)I"), (ySq "round" "(II)I", yGr "round" "(II)I"), (yGr "columnOf" "(I)I", yGr "columnOf" "(I)I"), (yGr "rowOf" "(I)I", yGr "rowOf" "(I)I")]
def mDws : List Cond := [.methodLink "MistCouriers" 125 (ySq "cells" "()I"), .methodLink "MistCouriers$Parser" 117 (ySq "cells" "()I"), .methodLink "MistCouriers$State" 153 (ySq "cells" "()I"), .methodLink "MistCouriers$Ways" 25 (ySq "cells" "()I"), .methodLink "MistCouriers$State" 97 (ySq "far" "(II)I"), .methodLink "MistCouriers" 296 (ySq "far" "(II)I"), .methodLink "MistCouriers$State" 118 (ySq "next" "(II)I"), .methodLink "MistCouriers$State" 179 (ySq "round" "(II)I"), .sameMethod "MistCouriers$Square" "MistCouriers$Grid" "cells" "()I", .sameMethod "MistCouriers$Square" "MistCouriers$Grid" "far" "(II)I", .sameMethod "MistCouriers$Square" "MistCouriers$Grid" "next" "(II)I", .sameMethod "MistCouriers$Square" "MistCouriers$Grid" "round" "(II)I", .selects "java/lang/StringBuilder" ⟨"java/lang/AbstractStringBuilder", "ensureCapacityInternal", "(I)V"⟩ ⟨"java/lang/AbstractStringBuilder", "ensureCapacityInternal", "(I)V"⟩, .selects "java/lang/StringBuilder" ⟨"java/lang/AbstractStringBuilder", "newCapacity", "(I)I"⟩ ⟨"java/lang/AbstractStringBuilder", "newCapacity", "(I)I"⟩]
theorem mDws_good : ∀ w ∈ mDws, goodWord w = true := List.all_eq_true.mp (by decide +kernel)
/-- what is known of the tables at a state -/
def mKn (D : mD) (E : mE) (U : State) : Prop :=
  (∀ (c : Nat) (q : vw_C), mCl[c]? = some q → u_Kn U q.1 q.2.1 q.2.2 (D.1.1 c) (D.1.2 c)) ∧
  (∀ (t : Nat) (ty : FieldType), (t, ty) ∈ mKd → ArrOfT U (D.2 t) ty ∧ va_RA U (D.2 t) ty) ∧
  (∀ w ∈ mWd, va_Nw w U) ∧
  (∀ q ∈ mFws, va_Fw "MistCouriers$Square" q.1 q.2 U) ∧
  (∀ q ∈ mLds, (Cond.landsInDefault "MistCouriers$Square" q.1 q.2).before #[] U = true) ∧
  (∀ w ∈ mDws, w.before #[] U = true) ∧
  (∀ q ∈ mStr, vk_R q.1 q.2.1 q.2.2.1 (E.2 q.2.2.2) U) ∧
  (∀ C ∈ mAOs, va_AO C U) ∧
  (∀ q ∈ mNcN, va_Nc (mTn q.1) (mTn q.2) U) ∧
  va_Mi "[Ljava/lang/Object;" (E.2 6) U ∧ va_Dc U
/-- .. and of the statics -/
def mSt (E : mE) (U : State) (H : Heap) : Prop :=
  (∀ q ∈ mSta, va_Z q.1 q.2.1 q.2.2.1 (mstv E q.2.2.2.1 q.2.2.2.2) (fun a => E.1 ≤ a) U H) ∧
  vx_Zq Bundle.tN "UNASSIGNED_STACK" Bundle.steD (fun a => E.1 ≤ a) U H ∧ vx_Zq Bundle.tN "SUPPRESSED_SENTINEL" Bundle.listD (fun a => E.1 ≤ a) U H
theorem mSt.moved {E : mE} {u U : State} {H : Heap} (hvm : u.vm.Alike U.vm) (h : mSt E u H) : mSt E U H := ⟨fun q hq => va_Z.moved hvm (h.1 q hq), vx_Zq.moved hvm h.2.1, vx_Zq.moved hvm h.2.2⟩
theorem mSt.kept {E : mE} {U : State} {H H1 : Heap} (h : mSt E U H) (hq : ∀ a : Nat, a < H.size → ¬ E.1 ≤ a → H1[a]? = H[a]?) : mSt E U H1 := ⟨fun q hm => va_Z.kept (h.1 q hm) hq, vx_Zq.kept h.2.1 hq, vx_Zq.kept h.2.2 hq⟩
theorem mld_moved {C : String} {x y : MethodName} {u U : State} (hvm : u.vm.Alike U.vm) (h : (Cond.landsInDefault C x y).before #[] u = true) : (Cond.landsInDefault C x y).before #[] U = true := by
  have h1 : (Cond.landsInDefault C x y).before #[] (u.setVm U.vm) = true := by
    rw [Cond.landsInDefault_setVm (args := #[]) hvm (State.methodFound?_setVm hvm _ _ _)]
    exact h
  exact h1
theorem mld_use {C : String} {x y : MethodName} {A : Array Value} {U : State} (h : (Cond.landsInDefault C x y).before #[] U = true) : (Cond.landsInDefault C x y).before A U = true := h
theorem mFws_ok : ∀ q ∈ mFws, q.1.cls ≠ "java/lang/invoke/MethodHandle" ∧ q.1.cls ≠ "java/lang/invoke/VarHandle" := by
  intro q hq
  simp only [mFws, List.mem_cons, List.not_mem_nil, or_false] at hq
  rcases hq with rfl | rfl | rfl | rfl <;> exact ⟨by decide +kernel, by decide +kernel⟩
theorem mKn.warm {D : mD} {E : mE} {s U : State} (hW : s.WarmedH U.vm) (h : mKn D E s) : mKn D E U := by
  obtain ⟨h1, h2, h3, h4, h5, h6, h7, h8, h9, h10, h11⟩ := h
  have hvm := hW.alike
  exact ⟨fun c q hc => u_Kn_moved hvm (h1 c q hc), fun t ty ht => ⟨arrOfT_moved hvm (h2 t ty ht).1, (h2 t ty ht).2.moved hvm⟩, fun w hw => mWd_warm hw hW (h3 w hw), fun q hq => va_Fw.moved (mFws_ok q hq) hvm (h4 q hq), fun q hq => mld_moved hvm (h5 q hq),
    fun w hw => word_at hW (good_of_word (mDws_good w hw)) (h6 w hw), fun q hq => vk_R.warm hW (h7 q hq), fun C hC => va_AO.moved hvm (h8 C hC), fun q hq => va_Nc.moved hvm (h9 q hq), va_Mi.moved hvm h10, va_Dc.moved hvm h11⟩
/-- locals -/
def mas (al : mL) : List (Nat × Value) := al.zipIdx.filterMap (fun q => q.1.map (fun v => (q.2, v)))
theorem mas_mem {al : mL} {i : Nat} {v : Value} : (i, v) ∈ mas al ↔ al[i]? = some (some v) := by
  unfold mas
  rw [List.mem_filterMap]
  constructor
  · rintro ⟨⟨w, j⟩, hm, he⟩
    cases w with
    | none => cases he
    | some w =>
      have h2 := List.mem_zipIdx' hm
      simp only [Option.map_some, Option.some.injEq, Prod.mk.injEq] at he
      obtain ⟨rfl, rfl⟩ := he
      obtain ⟨h3, h4⟩ := h2
      rw [List.getElem?_eq_getElem h3, ← h4]
  · intro h
    refine ⟨(some v, i), ?_, rfl⟩
    rw [List.mem_zipIdx_iff_getElem?]
    exact h
def mLoc (al : mL) (ls : Array Slot) (nL : Nat) : Prop := al.length = nL ∧ lv_has ls nL (mas al)
theorem mLoc.get {al : mL} {ls : Array Slot} {nL i : Nat} {v : Value} (h : mLoc al ls nL) (e : mld al i = some v) : ls[i]? = some (.val v) := by
  unfold mld at e
  split at e
  · rename_i u hu
    cases e
    exact h.2.2.2 (i, v) (mas_mem.mpr hu)
  · cases e
theorem mLoc.st1 {al : mL} {ls : Array Slot} {nL i : Nat} {v : Value} (hl : al.length = nL) (hc : v.category = 1) (h : lv_has ls nL ((i, v) :: (mas al).filter (fun q => !(q.1 == i) && !(q.1 + 1 == i && q.2.category == 2)))) : mLoc (mst1 al i v) ls nL := by
  refine ⟨by simp [mst1, mclr_len, hl], h.1, h.2.1, ?_⟩
  rintro ⟨j, w⟩ hq
  have e := mas_mem.mp hq
  unfold mst1 at e
  rw [List.getElem?_set] at e
  split at e
  · rename_i hij
    subst hij
    split at e
    · simp only [Option.some.injEq] at e
      subst e
      exact h.2.2 _ List.mem_cons_self
    · cases e
  · rename_i hij
    refine h.2.2 _ (List.mem_cons_of_mem _ (List.mem_filter.mpr ⟨mas_mem.mpr (mclr_sub e), ?_⟩))
    have hg := mclr_gone e
    simp only [Bool.and_eq_true, Bool.not_eq_true', beq_eq_false_iff_ne, ne_eq]
    refine ⟨fun z => hij z.symm, ?_⟩
    cases hb : (j + 1 == i && w.category == 2) with
    | false => rfl
    | true =>
      simp only [Bool.and_eq_true, beq_iff_eq] at hb
      exact absurd hb hg
theorem mLoc.st2 {al : mL} {ls : Array Slot} {nL i : Nat} {v : Value} (hl : al.length = nL) (hc : v.category = 2) (h : lv_has ls nL ((i, v) :: (mas al).filter (fun q => !(q.1 == i) && (!(q.1 == i + 1) && !(q.1 + 1 == i && q.2.category == 2))))) : mLoc (mst2 al i v) ls nL := by
  refine ⟨by simp [mst2, mclr_len, hl], h.1, h.2.1, ?_⟩
  rintro ⟨j, w⟩ hq
  have e := mas_mem.mp hq
  unfold mst2 at e
  rw [List.getElem?_set] at e
  split at e
  · split at e <;> simp at e
  · rename_i hij2
    rw [List.getElem?_set] at e
    split at e
    · rename_i hij
      subst hij
      split at e
      · simp only [Option.some.injEq] at e
        subst e
        exact h.2.2 _ List.mem_cons_self
      · cases e
    · rename_i hij
      refine h.2.2 _ (List.mem_cons_of_mem _ (List.mem_filter.mpr ⟨mas_mem.mpr (mclr_sub e), ?_⟩))
      have hg := mclr_gone e
      simp only [Bool.and_eq_true, Bool.not_eq_true', beq_eq_false_iff_ne, ne_eq]
      refine ⟨fun z => hij z.symm, fun z => hij2 z.symm, ?_⟩
      cases hb : (j + 1 == i && w.category == 2) with
      | false => rfl
      | true =>
        simp only [Bool.and_eq_true, beq_iff_eq] at hb
        exact absurd hb hg
