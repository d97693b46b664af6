/-! MC soundness 5: arrays -/
set_option maxRecDepth 100000
theorem mAt_arr {D : mD} {E : mE} {B : Nat} {s : State} {H : Heap} {a t : Nat} {ty : FieldType} {x : vp_A} (hK : mKn D E s) (ht : (t, ty) ∈ mKd) (hc : H[a]? = some (vp_cell (D.2 t) x)) : mAt D B s H a (.inl (t, x)) := by
  refine ⟨ty, _, ht, hc, ?_, ?_, ?_, ?_, fun _ => rfl⟩
  · rw [mVal_cell]; exact (hK.2.1 t ty ht).1 x.1 (mVal x)
  · rw [mVal_cell]; exact fun z => nomatch z
  · rw [mVal_cell]; exact arrV_size _ _ _
  · intro j hj
    rw [mVal_cell]; exact arrV_read _ _ hj
theorem mKd_0 {ty : FieldType} (h : (0, ty) ∈ mKd) : ty = .int := mKd_fun _ h (0, .int) (by decide +kernel) rfl
theorem mKd_1 {ty : FieldType} (h : (1, ty) ∈ mKd) : ty = .boolean := mKd_fun _ h (1, .boolean) (by decide +kernel) rfl
theorem mKd_2 {ty : FieldType} (h : (2, ty) ∈ mKd) : ty = .byte := mKd_fun _ h (2, .byte) (by decide +kernel) rfl
theorem mKd_4 {ty : FieldType} (h : (4, ty) ∈ mKd) : ty = .long := mKd_fun _ h (4, .long) (by decide +kernel) rfl
theorem mupd_i (cA : ClassId) (n k : Nat) (f : Nat → Int32) (x : Int32) : (vp_cell cA (n, .inl f)).setSlot k (.int x) = vp_cell cA (n, .inl (upd f k x)) := by
  rw [vp_cell_i, vp_cell_i, arrV_store]
  congr 1
  funext q
  by_cases hq : q = k
  · subst hq; simp [updV, upd]
  · simp [updV, upd, hq]
theorem mupd_l (cA : ClassId) (n k : Nat) (f : Nat → Int64) (x : Int64) : (vp_cell cA (n, .inr (.inl f))).setSlot k (.long x) = vp_cell cA (n, .inr (.inl (vp_updL f k x))) := by
  rw [vp_cell_l, vp_cell_l, arrV_store]
  congr 1
  funext q
  by_cases hq : q = k
  · subst hq; simp [updV, vp_updL]
  · simp [updV, vp_updL, hq]
theorem mupd_q (cA : ClassId) (n k : Nat) (f : Nat → Option Nat) (x : Option Nat) : (vp_cell cA (n, .inr (.inr (.inr (.inr f))))).setSlot k (va_rf x) = vp_cell cA (n, .inr (.inr (.inr (.inr (va_up f k x))))) := by
  rw [vp_cell_q, vp_cell_q, arrV_store]
  congr 1
  funext q
  by_cases hq : q = k
  · subst hq; simp [updV, va_up]
  · simp [updV, va_up, hq]
section MAR
variable {p : Program} {l : Launch} {e : Env} {R : Room} {s : State} {m : MethodId} {args : Array Value} {below : List Frame} {meth : Method} {c : Code} {H : Heap} {locs : List Loc} {cells slots : Nat} {Q : State → Prop}
variable {D : mD} {E : mE} {own mname : String} {cc : ByteArray} {nL pc : Nat} {ls : Array Slot} {rest : List Value} {h : mH}
theorem mhit {i : Int32} {n : Nat} (h1 : 0 ≤ i.toInt) (h2 : i.toInt < n) : i.toNatClampNeg < n := Nat.not_le.mp fun q => mIn h1 h2 (Or.inr q)
theorem w_ald0 (C : mCx p l e R s m args meth c D E own mname cc nL) (hR : mRep D E.1 s H h) {a n : Nat} {f : Nat → Int32} {i : Int32} (ha : h.1 a = some (.inl (0, n, .inl f))) (h1 : 0 ≤ i.toInt) (h2 : i.toInt < n) (hd : decode cc pc = .ok (.iaload, 1))
    (kk : W p l e R s m args below meth c H locs cells slots Q (F0 m (pc + 1) ls (.int (f i.toNatClampNeg) :: rest))) : W p l e R s m args below meth c H locs cells slots Q (F0 m pc ls (.int i :: .ref a :: rest)) := by
  obtain ⟨hx, hb, -⟩ := C
  obtain ⟨ty, cell, q1, q2, q3, q4, q5, q6, -⟩ := hR.2.2 a _ ha
  cases mKd_0 q1
  exact W.iald (v := .int (f i.toNatClampNeg)) hx hb q2 q3 q4 (by rw [q5]; exact mIn h1 h2) (q6 _ (mhit h1 h2)) rfl rfl hd kk
theorem w_ald1 (C : mCx p l e R s m args meth c D E own mname cc nL) (hR : mRep D E.1 s H h) {a n t : Nat} {f : Nat → Int32} {i : Int32} (ht : t = 1 ∨ t = 2) (ha : h.1 a = some (.inl (t, n, .inl f))) (h1 : 0 ≤ i.toInt) (h2 : i.toInt < n) (hd : decode cc pc = .ok (.baload, 1))
    (kk : W p l e R s m args below meth c H locs cells slots Q (F0 m (pc + 1) ls (.int (f i.toNatClampNeg) :: rest))) : W p l e R s m args below meth c H locs cells slots Q (F0 m pc ls (.int i :: .ref a :: rest)) := by
  obtain ⟨hx, hb, -⟩ := C
  obtain ⟨ty, cell, q1, q2, q3, q4, q5, q6, -⟩ := hR.2.2 a _ ha
  rcases ht with rfl | rfl
  · cases mKd_1 q1
    exact W.zald (v := .int (f i.toNatClampNeg)) hx hb q2 q3 q4 (by rw [q5]; exact mIn h1 h2) (q6 _ (mhit h1 h2)) rfl rfl hd kk
  · cases mKd_2 q1
    exact W.bald (v := .int (f i.toNatClampNeg)) hx hb q2 q3 q4 (by rw [q5]; exact mIn h1 h2) (q6 _ (mhit h1 h2)) rfl rfl hd kk
theorem w_ald4 (C : mCx p l e R s m args meth c D E own mname cc nL) (hR : mRep D E.1 s H h) {a n : Nat} {f : Nat → Int64} {i : Int32} (ha : h.1 a = some (.inl (4, n, .inr (.inl f)))) (h1 : 0 ≤ i.toInt) (h2 : i.toInt < n) (hd : decode cc pc = .ok (.laload, 1))
    (kk : W p l e R s m args below meth c H locs cells slots Q (F0 m (pc + 1) ls (.long (f i.toNatClampNeg) :: rest))) : W p l e R s m args below meth c H locs cells slots Q (F0 m pc ls (.int i :: .ref a :: rest)) := by
  obtain ⟨hx, hb, -⟩ := C
  obtain ⟨ty, cell, q1, q2, q3, q4, q5, q6, -⟩ := hR.2.2 a _ ha
  cases mKd_4 q1
  exact W.lald (v := .long (f i.toNatClampNeg)) hx hb q2 q3 q4 (by rw [q5]; exact mIn h1 h2) (q6 _ (mhit h1 h2)) rfl rfl hd kk
theorem w_aldq (C : mCx p l e R s m args meth c D E own mname cc nL) (hR : mRep D E.1 s H h) {a n t : Nat} {f : Nat → Option Nat} {i : Int32} (ht : 100 ≤ t) (ha : h.1 a = some (.inl (t, n, .inr (.inr (.inr (.inr f)))))) (h1 : 0 ≤ i.toInt) (h2 : i.toInt < n) (hd : decode cc pc = .ok (.aaload, 1))
    (kk : W p l e R s m args below meth c H locs cells slots Q (F0 m (pc + 1) ls (va_rf (f i.toNatClampNeg) :: rest))) : W p l e R s m args below meth c H locs cells slots Q (F0 m pc ls (.int i :: .ref a :: rest)) := by
  obtain ⟨hx, hb, -⟩ := C
  obtain ⟨ty, cell, q1, q2, q3, q4, q5, q6, -⟩ := hR.2.2 a _ ha
  cases (mKd_ref q1 ht).1
  exact W.aald (v := va_rf (f i.toNatClampNeg)) (ty := .object (mTn t)) hx hb q2 q3 rfl q4 (by rw [q5]; exact mIn h1 h2) (q6 _ (mhit h1 h2)) rfl rfl hd kk
theorem w_alen (C : mCx p l e R s m args meth c D E own mname cc nL) (hR : mRep D E.1 s H h) {a t : Nat} {x : vp_A} (ha : h.1 a = some (.inl (t, x))) (hd : decode cc pc = .ok (.arraylength, 1))
    (kk : W p l e R s m args below meth c H locs cells slots Q (F0 m (pc + 1) ls (.int (Int32.ofNat x.1) :: rest))) : W p l e R s m args below meth c H locs cells slots Q (F0 m pc ls (.ref a :: rest)) := by
  obtain ⟨hx, hb, -⟩ := C
  obtain ⟨ty, cell, q1, q2, q3, q4, q5, q6, -⟩ := hR.2.2 a _ ha
  exact W.alen hx hb q2 q3 (by rw [q5]) rfl rfl hd kk
theorem mput_S (hS : va_S (fun q => E.1 ≤ q) s.heap H locs) {H1 : Heap} {a k : Nat} (z : H1.size = H.size) (oq : ∀ q : Nat, q ≠ a → H1[q]? = H[q]?) (hB : E.1 ≤ a) : va_S (fun q => E.1 ≤ q) s.heap H1 (locs ++ [⟨a, k⟩]) := hS.put z oq hB
theorem w_ast0 (C : mCx p l e R s m args meth c D E own mname cc nL) (hR : mRep D E.1 s H h) (hS : va_S (fun q => E.1 ≤ q) s.heap H locs) {a n : Nat} {f : Nat → Int32} {i x : Int32} (ha : h.1 a = some (.inl (0, n, .inl f))) (h1 : 0 ≤ i.toInt) (h2 : i.toInt < n) (hB : E.1 ≤ a) (hd : decode cc pc = .ok (.iastore, 1))
    (kk : ∀ (H1 : Heap) (locs1 : List Loc), mRep D E.1 s H1 (mput h a (.inl (0, n, .inl (upd f i.toNatClampNeg x)))) → va_S (fun q => E.1 ≤ q) s.heap H1 locs1 → W p l e R s m args below meth c H1 locs1 cells slots Q (F0 m (pc + 1) ls rest)) : W p l e R s m args below meth c H locs cells slots Q (F0 m pc ls (.int x :: .int i :: .ref a :: rest)) := by
  obtain ⟨hx, hb, -, -, -, hK, -⟩ := C
  obtain ⟨ty, cell, q1, q2, q3, q4, q5, q6, q7⟩ := hR.2.2 a _ ha
  cases mKd_0 q1
  refine W.iast hx hb q2 q3 q4 (by rw [q5]; exact mIn h1 h2) rfl rfl hd fun H1 e z oq => ?_
  rw [q7 hB, mupd_i] at e
  exact kk H1 _ (hR.put z oq (mAt_arr hK q1 e)) (mput_S hS z oq hB)
theorem w_ast1 (C : mCx p l e R s m args meth c D E own mname cc nL) (hR : mRep D E.1 s H h) (hS : va_S (fun q => E.1 ≤ q) s.heap H locs) {a n t : Nat} {f : Nat → Int32} {i x : Int32} (ht : t = 1 ∨ t = 2) (ha : h.1 a = some (.inl (t, n, .inl f))) (h1 : 0 ≤ i.toInt) (h2 : i.toInt < n) (hB : E.1 ≤ a) (hd : decode cc pc = .ok (.bastore, 1))
    (kk : ∀ (H1 : Heap) (locs1 : List Loc), mRep D E.1 s H1 (mput h a (.inl (t, n, .inl (upd f i.toNatClampNeg (mnar t x))))) → va_S (fun q => E.1 ≤ q) s.heap H1 locs1 → W p l e R s m args below meth c H1 locs1 cells slots Q (F0 m (pc + 1) ls rest)) : W p l e R s m args below meth c H locs cells slots Q (F0 m pc ls (.int x :: .int i :: .ref a :: rest)) := by
  obtain ⟨hx, hb, -, -, -, hK, -⟩ := C
  obtain ⟨ty, cell, q1, q2, q3, q4, q5, q6, q7⟩ := hR.2.2 a _ ha
  rcases ht with rfl | rfl
  · cases mKd_1 q1
    refine W.zast hx hb q2 q3 q4 (by rw [q5]; exact mIn h1 h2) rfl rfl hd fun H1 e z oq => ?_
    rw [q7 hB, show narrow .boolean (.int x) = .int (mnar 1 x) from rfl, mupd_i] at e
    exact kk H1 _ (hR.put z oq (mAt_arr hK q1 e)) (mput_S hS z oq hB)
  · cases mKd_2 q1
    refine W.bast hx hb q2 q3 q4 (by rw [q5]; exact mIn h1 h2) rfl rfl hd fun H1 e z oq => ?_
    rw [q7 hB, show narrow .byte (.int x) = .int (mnar 2 x) from rfl, mupd_i] at e
    exact kk H1 _ (hR.put z oq (mAt_arr hK q1 e)) (mput_S hS z oq hB)
theorem w_ast4 (C : mCx p l e R s m args meth c D E own mname cc nL) (hR : mRep D E.1 s H h) (hS : va_S (fun q => E.1 ≤ q) s.heap H locs) {a n : Nat} {f : Nat → Int64} {i : Int32} {x : Int64} (ha : h.1 a = some (.inl (4, n, .inr (.inl f)))) (h1 : 0 ≤ i.toInt) (h2 : i.toInt < n) (hB : E.1 ≤ a) (hd : decode cc pc = .ok (.lastore, 1))
    (kk : ∀ (H1 : Heap) (locs1 : List Loc), mRep D E.1 s H1 (mput h a (.inl (4, n, .inr (.inl (vp_updL f i.toNatClampNeg x))))) → va_S (fun q => E.1 ≤ q) s.heap H1 locs1 → W p l e R s m args below meth c H1 locs1 cells slots Q (F0 m (pc + 1) ls rest)) : W p l e R s m args below meth c H locs cells slots Q (F0 m pc ls (.long x :: .int i :: .ref a :: rest)) := by
  obtain ⟨hx, hb, -, -, -, hK, -⟩ := C
  obtain ⟨ty, cell, q1, q2, q3, q4, q5, q6, q7⟩ := hR.2.2 a _ ha
  cases mKd_4 q1
  refine W.last hx hb q2 q3 q4 (by rw [q5]; exact mIn h1 h2) rfl rfl hd fun H1 e z oq => ?_
  rw [q7 hB, mupd_l] at e
  exact kk H1 _ (hR.put z oq (mAt_arr hK q1 e)) (mput_S hS z oq hB)
/-- an object's class is taken -/
theorem mTak {c1 t : Nat} {cv comp : ClassId} (hK : mKn D E s) (h : mSub c1 t = true) (h1 : s.vm.findClass (mTn c1) = some cv) (h2 : s.vm.findClass (mTn t) = some comp) : s.vm.assignable cv comp = true := by
  rcases mSub_spec h with h | h
  · rw [h] at h1
    cases h1.symm.trans h2
    exact va_asg _ _
  · exact vb_asgC (hK.2.2.1 _ (List.mem_append_right _ (List.mem_append_right _ (List.mem_map.mpr ⟨_, h, rfl⟩)))) comp cv h2 h1
theorem w_astq (C : mCx p l e R s m args meth c D E own mname cc nL) (hR : mRep D E.1 s H h) (hS : va_S (fun q => E.1 ≤ q) s.heap H locs) {a n t : Nat} {f : Nat → Option Nat} {i : Int32} {w : Option Nat} (ht : 100 ≤ t) (ha : h.1 a = some (.inl (t, n, .inr (.inr (.inr (.inr f)))))) (h1 : 0 ≤ i.toInt) (h2 : i.toInt < n) (hB : E.1 ≤ a) (hw : mtak mSub h t w = true) (hd : decode cc pc = .ok (.aastore, 1))
    (kk : ∀ (H1 : Heap) (locs1 : List Loc), mRep D E.1 s H1 (mput h a (.inl (t, n, .inr (.inr (.inr (.inr (va_up f i.toNatClampNeg w))))))) → va_S (fun q => E.1 ≤ q) s.heap H1 locs1 → W p l e R s m args below meth c H1 locs1 cells slots Q (F0 m (pc + 1) ls rest)) : W p l e R s m args below meth c H locs cells slots Q (F0 m pc ls (va_rf w :: .int i :: .ref a :: rest)) := by
  obtain ⟨hx, hb, -, -, -, hK, -⟩ := C
  obtain ⟨ty, cell, q1, q2, q3, q4, q5, q6, q7⟩ := hR.2.2 a _ ha
  cases (mKd_ref q1 ht).1
  cases w with
  | none =>
    refine va_WaastN (C := mTn t) hx hb q2 q3 q4 (by rw [q5]; exact mIn h1 h2) rfl rfl hd fun H1 e z oq => ?_
    rw [q7 hB, show (Value.null) = va_rf none from rfl, mupd_q] at e
    exact kk H1 _ (hR.put z oq (mAt_arr hK q1 e)) (mput_S hS z oq hB)
  | some v =>
    simp only [mtak] at hw
    cases hv : h.1 v with
    | none => rw [hv] at hw; simp at hw
    | some cv =>
      rcases cv with x | ⟨ci, fs⟩
      · rw [hv] at hw; simp at hw
      · rw [hv] at hw
        simp only at hw
        obtain ⟨r, cellV, g1, g2, g3, g4, g5, g6, -⟩ := hR.2.2 v _ hv
        have hcls := (hK.1 ci r g1).2
        have hce := q7 hB
        obtain ⟨kA, comp, k1, k2, k3, -⟩ := (hK.2.1 t _ q1).2
        obtain ⟨kE, hkE, -⟩ := Vm.findClass_spec k3
        obtain ⟨kC, hkC, -⟩ := Vm.findClass_spec hcls.1
        have hcA : cell.cls = D.2 t := by rw [hce]; rfl
        have hcv : s.vm.findClass (mTn ci) = some cellV.cls := by rw [g4, ← mCl_name ci r g1]; exact hcls.1
        have hvm : cell.vm = .none := by rw [hce]; rfl
        refine W.aast hx hb q2 (fun q z => by rw [hvm] at z; cases z) q4 (k := kA) (comp := comp) (by rw [hcA]; exact k1) k2 rfl hkE ⟨fun z => mIn h1 h2 (Or.inl z), by rw [q5]; exact mhit h1 h2⟩ g3 (fun q z => by rw [z] at g6; cases g6) (by rw [g4]; exact hkC) (mTak hK hw hcv k3) rfl rfl hd fun H1 e z oq => ?_
        rw [hce, show (Value.ref v) = va_rf (some v) from rfl, mupd_q] at e
        exact kk H1 _ (hR.put z oq (mAt_arr hK q1 e)) (mput_S hS z oq hB)
theorem mpush_S (hS : va_S (fun q => E.1 ≤ q) s.heap H locs) {H1 : Heap} (z : H1.size = H.size + 1) (o : ∀ q : Nat, q < H.size → H1[q]? = H[q]?) : va_S (fun q => E.1 ≤ q) s.heap H1 locs :=
  ⟨Nat.le_trans hS.1 (by omega), fun x y1 y2 => (o x (Nat.lt_of_lt_of_le y1 hS.1)).trans (hS.2.1 x y1 y2), hS.2.2⟩
theorem mdv {t : ArrayType} (h : newarray.typeOf t ≠ .long) {n : Nat} (hk : n < 5) (hm : (n, newarray.typeOf t) ∈ mKd) : defaultValue (newarray.typeOf t) = .int 0 := by
  have : ∀ q ∈ mKd, q.1 < 5 → q.2 ≠ .long → defaultValue q.2 = .int 0 := by decide +kernel
  exact this _ hm hk h
theorem w_newa (C : mCx p l e R s m args meth c D E own mname cc nL) (hR : mRep D E.1 s H h) (hS : va_S (fun q => E.1 ≤ q) s.heap H locs) {t : ArrayType} {k : Nat} {n : Int32} {x : vp_A} (hk : (k, newarray.typeOf t) ∈ mKd) (hac : Cond.arrayClass (newarray.typeOf t) ∈ lw_all) (hx0 : x.1 = n.toNatClampNeg) (hxv : ∀ j, mVal x j = defaultValue (newarray.typeOf t)) (h1 : 0 ≤ n.toInt) (h2 : n.toInt ≤ 65536) (hd : decode cc pc = .ok (.newarray t, 2)) (hcells : cells + 1 ≤ R.cells) (hslots : slots + n.toNatClampNeg ≤ R.slots)
    (kk : ∀ (H1 : Heap), mRep D E.1 s H1 (mnew h (.inl (k, x)) n.toNatClampNeg) → va_S (fun q => E.1 ≤ q) s.heap H1 locs → W p l e R s m args below meth c H1 locs (cells + 1) (slots + n.toNatClampNeg) Q (F0 m (pc + 2) ls (.ref h.2.1 :: rest))) : W p l e R s m args below meth c H locs cells slots Q (F0 m pc ls (.int n :: rest)) := by
  obtain ⟨hx, hb, -, -, hts, hK, -⟩ := C
  have hn : ¬ n < 0 := by
    intro z
    have := Int32.lt_iff_toInt_lt.mp z
    simp at this
    omega
  have hle : n.toNatClampNeg ≤ 65536 := by
    show n.toInt.toNat ≤ 65536
    omega
  have hcb : componentBytes (newarray.typeOf t) ≤ 8 := by cases t <;> decide
  refine va_newaK hx hb (hts _ hac) rfl hd rfl hn rfl (by
    have := Nat.mul_le_mul hle hcb
    omega) hcells hslots rfl fun H1 cA e1 z1 o1 hAr hNm => ?_
  have hcA : cA = D.2 k := by
    have h9 := (hK.2.1 k _ hk).2
    have h10 : s.vm.findClass ("[" ++ (newarray.typeOf t).toString) = some (D.2 k) := by
      revert h9
      cases t <;> exact fun z => z
    exact Option.some.inj (hNm.symm.trans h10)
  subst hcA
  have hc : H1[H.size]? = some (vp_cell (D.2 k) x) := by
    rw [mVal_cell, e1, hx0]
    exact congrArg some (congrArg (arrV _ _) (funext fun j => (hxv j).symm))
  have h9 := kk H1 (hR.push z1 o1 (mAt_arr hK hk hc)) (mpush_S hS z1 o1)
  rw [← hR.1] at h9
  exact h9
theorem w_anew (C : mCx p l e R s m args meth c D E own mname cc nL) (hR : mRep D E.1 s H h) (hS : va_S (fun q => E.1 ≤ q) s.heap H locs) {idx k : Nat} {Cn : String} {n : Int32} (hk : (k, FieldType.object Cn) ∈ mKd) (hao : Cn ∈ mAOs) (hl : Cond.classLink own idx Cn ∈ lw_all) (h1 : 0 ≤ n.toInt) (h2 : n.toInt ≤ 65536) (hd : decode cc pc = .ok (.anewarray idx, 3)) (hcells : cells + 1 ≤ R.cells) (hslots : slots + n.toNatClampNeg ≤ R.slots)
    (kk : ∀ (H1 : Heap), mRep D E.1 s H1 (mnew h (.inl (k, n.toNatClampNeg, .inr (.inr (.inr (.inr (fun _ => none)))))) n.toNatClampNeg) → va_S (fun q => E.1 ≤ q) s.heap H1 locs → W p l e R s m args below meth c H1 locs (cells + 1) (slots + n.toNatClampNeg) Q (F0 m (pc + 3) ls (.ref h.2.1 :: rest))) : W p l e R s m args below meth c H locs cells slots Q (F0 m pc ls (.int n :: rest)) := by
  obtain ⟨hx, hb, -, hown, hts, hK, -⟩ := C
  have hn : ¬ n < 0 := by
    intro z
    have := Int32.lt_iff_toInt_lt.mp z
    simp at this
    omega
  have hle : n.toNatClampNeg ≤ 65536 := by
    show n.toInt.toNat ≤ 65536
    omega
  refine W.anew hx hb hown (hts _ hl) (va_AO.use (hK.2.2.2.2.2.2.2.1 _ hao)) rfl hd rfl hn (by omega) hcells hslots fun cA kA comp f1 f2 f3 f4 => ?_
  generalize hH1 : H.push ({ cls := cA, slots := Array.replicate n.toNatClampNeg .null, vm := .none } : Cell) = H1
  have z1 : H1.size = H.size + 1 := by rw [← hH1, Array.size_push]
  have e1 : H1[H.size]? = some (arrV cA n.toNatClampNeg (fun _ => .null)) := by rw [← hH1, Array.getElem?_push_size, ← arrV_new]
  have o1 : ∀ q : Nat, q < H.size → H1[q]? = H[q]? := fun q hq => by rw [← hH1, Array.getElem?_push, if_neg (Nat.ne_of_lt hq)]
  have hcA : cA = D.2 k := by
    obtain ⟨kA', comp', k1, k2, k3, k4⟩ := (hK.2.1 k _ hk).2
    exact Option.some.inj (f1.symm.trans k4)
  subst hcA
  have h9 := kk H1 (hR.push z1 o1 (mAt_arr hK hk (by rw [vp_cell_q]; exact e1))) (mpush_S hS z1 o1)
  rw [← hR.1] at h9
  exact h9
end MAR
