/-! MC soundness 6: natives, casts, constants -/
set_option maxRecDepth 100000
section MMI
variable {p : Program} {l : Launch} {e : Env} {R : Room} {s : State} {m : MethodId} {args : Array Value} {below : List Frame} {meth : Method} {c : Code} {H : Heap} {locs : List Loc} {cells slots : Nat} {Q : State → Prop}
variable {D : mD} {E : mE} {own mname : String} {cc : ByteArray} {nL pc : Nat} {ls : Array Slot} {rest : List Value} {h : mH}
theorem mnn {z : Int32} (hz : 0 ≤ z.toInt) : z.toInt = (z.toNatClampNeg : Int) := by
  show z.toInt = ((z.toInt.toNat : Nat) : Int)
  omega
theorem mnl {z : Int32} (hz : 0 ≤ z.toInt) : ¬ z < 0 := by
  intro h
  have := Int32.lt_iff_toInt_lt.mp h
  simp at this
  omega
theorem mKd_prim {t : Nat} {ty : FieldType} (h : (t, ty) ∈ mKd) (ht : t < 3) : refKind ty = false ∧ mTyc t ty := by
  have h1 : ∀ q ∈ mKd, q.1 < 3 → refKind q.2 = false := by decide +kernel
  refine ⟨h1 _ h ht, ?_⟩
  match t, ht, h with
  | 0, _, h => exact mKd_0 h
  | 1, _, h => exact mKd_1 h
  | 2, _, h => exact mKd_2 h
theorem mset_S (hS : va_S (fun q => E.1 ≤ q) s.heap H locs) {H1 : Heap} {L : List Loc} {a : Nat} (z : H1.size = H.size) (oq : ∀ q : Nat, q ≠ a → H1[q]? = H[q]?) (hB : E.1 ≤ a) (hL : ∀ x ∈ L, x.base = a) : va_S (fun q => E.1 ≤ q) s.heap H1 (locs ++ L) := by
  refine ⟨by rw [z]; exact hS.1, fun q g1 g2 => ?_, fun x hx => ?_⟩
  · rw [oq q (fun e => g2 (by rw [e]; exact hB))]
    exact hS.2.1 q g1 g2
  · rcases List.mem_append.mp hx with h | h
    · exact hS.2.2 x h
    · show E.1 ≤ x.base
      rw [hL x h]; exact hB
theorem w_copyi (C : mCx p l e R s m args meth c D E own mname cc nL) (hR : mRep D E.1 s H h) (hS : va_S (fun q => E.1 ≤ q) s.heap H locs) {idx t na nb a b : Nat} {f g : Nat → Int32} {sp dp n : Int32} (hl : Cond.methodLink own idx arraycopyName ∈ lw_all) (hls : ls.size = nL)
    (ha : h.1 a = some (.inl (t, na, .inl f))) (hb9 : h.1 b = some (.inl (t, nb, .inl g))) (ht : t < 3) (h1 : 0 ≤ sp.toInt) (h2 : 0 ≤ dp.toInt) (h3 : 0 ≤ n.toInt) (h4 : sp.toInt + n.toInt ≤ na) (h5 : dp.toInt + n.toInt ≤ nb) (hBb : E.1 ≤ b) (hBa : E.1 ≤ a) (hr : rest.length ≤ 8) (hfit : ∀ k : Nat, k < n.toNatClampNeg → mfit t (.int (f (sp.toNatClampNeg + k))) = true)
    (hd : decode cc pc = .ok (.invokestatic idx, 3))
    (kk : ∀ (H1 : Heap) (locs1 : List Loc), mRep D E.1 s H1 (mput h b (.inl (t, nb, .inl (va_cpy f g sp.toNatClampNeg dp.toNatClampNeg n.toNatClampNeg)))) → va_S (fun q => E.1 ≤ q) s.heap H1 locs1 → W p l e R s m args below meth c H1 locs1 cells slots Q (F0 m (pc + 3) ls rest)) : W p l e R s m args below meth c H locs cells slots Q (F0 m pc ls (.int n :: .int dp :: .ref b :: .int sp :: .ref a :: rest)) := by
  obtain ⟨hx, hb, hml, hown, hts, hK, -, -, -, -, hRf, hRl⟩ := C
  obtain ⟨ty, cell, q1, q2, q3, q4, q5, q6, q7⟩ := hR.2.2 a _ ha
  obtain ⟨ty', cell', r1, r2, r3, r4, r5, r6, r7⟩ := hR.2.2 b _ hb9
  have e9 := mKd_fun _ q1 _ r1 rfl
  simp only at e9
  subst e9
  obtain ⟨hprim, htyc⟩ := mKd_prim q1 ht
  have hc0 : H[a]? = some (vp_cell (D.2 t) (na, .inl f)) := by rw [q2, q7 hBa]
  have hc1 : H[b]? = some (vp_cell (D.2 t) (nb, .inl g)) := by rw [r2, r7 hBb]
  have hsum := mcat_sum rest
  have hnf : nativeFrameWords "java/lang/System" "arraycopy" 5 ≤ 100 := by decide +kernel
  intro T hT X
  obtain ⟨-, k0, hk0, cm0, hkk0⟩ := (hK.2.1 t _ q1).1 na (fun j => .int (f j))
  have e4 := mnn h1
  have e5 := mnn h2
  have e6 := mnn h3
  obtain ⟨vm', X', step⟩ := X.arraycopy hx hown (hts _ hl) (hts _ q429) (hts _ q428) (hts _ q171) (src := a) (dst := b) (cs := vp_cell (D.2 t) (na, .inl f)) (cd := vp_cell (D.2 t) (nb, .inl g)) (srcPos := sp) (destPos := dp) (n := n) (by rw [hT]; exact hc0) (by rw [hT]; exact hc1)
    (fun _ h => by cases h) (fun _ h => by cases h) (fun h => by cases h) (fun h => by cases h) hk0 hk0 hkk0 hkk0 (by simp [hprim]) (mnl h1) (mnl h2) (mnl h3)
    (by show ¬ _ > ((arrV (D.2 t) na (fun j => .int (f j))).slots.size : Int); rw [arrV_size]; omega)
    (by show ¬ _ > ((arrV (D.2 t) nb (fun j => .int (g j))).slots.size : Int); rw [arrV_size]; omega)
    (fun vm₁ _ i hi => by
      have e : (vp_cell (D.2 t) (na, .inl f)).slots.getD (sp.toNatClampNeg + i) .null = .int (f (sp.toNatClampNeg + i)) := by
        show (arrV (D.2 t) na (fun j => .int (f j))).slots.getD _ _ = _
        rw [Array.getD_eq_getD_getElem?, arrV_read _ _ (by omega)]
        rfl
      refine ⟨?_, ?_⟩
      · rw [e]
        exact (mfit_ok (hfit i hi) htyc).2
      · rw [e]
        exact trivial)
    (g := F0 m pc ls (.int n :: .int dp :: .ref b :: .int sp :: .ref a :: rest)) rfl (by rw [hml]; exact hls) (rest := rest) rfl (by rw [hb]; exact hd) (by omega) (by show 2 * 0 + _ + (nativeFrameWords "java/lang/System" "arraycopy" 5 + 11) ≤ _; omega)
  have e1 : copied (vp_cell (D.2 t) (na, .inl f)) (vp_cell (D.2 t) (nb, .inl g)) sp dp n = vp_cell (D.2 t) (nb, .inl (va_cpy f g sp.toNatClampNeg dp.toNatClampNeg n.toNatClampNeg)) := va_copied (fun z => .int z) (D.2 t) (D.2 t) f g (by omega)
  rw [e1] at X' step
  have hlt : b < H.size := (Array.getElem?_eq_some_iff.mp hc1).1
  generalize hN : vp_cell (D.2 t) (nb, .inl (va_cpy f g sp.toNatClampNeg dp.toNatClampNeg n.toNatClampNeg)) = N at X' step
  have hheap : ((T.setVm vm').setCell b N).heap = H.setIfInBounds b N := by rw [← hT]; rfl
  have oq : ∀ q : Nat, q ≠ b → (H.setIfInBounds b N)[q]? = H[q]? := fun q hq => by simp [Array.getElem?_setIfInBounds, Ne.symm hq]
  have hself : (H.setIfInBounds b N)[b]? = some N := by simp [Array.getElem?_setIfInBounds, hlt]
  have hz : (H.setIfInBounds b N).size = H.size := by simp
  obtain ⟨t9, a1, b1⟩ := kk (H.setIfInBounds b N) _ (hR.put hz oq (mAt_arr hK q1 (by rw [hself, ← hN]))) (mset_S hS hz oq hBb (fun x hx => by
      obtain ⟨z, -, hz⟩ := List.mem_map.mp hx
      rw [← hz])) _ hheap X'
  exact ⟨t9, step t9 a1, b1⟩
theorem w_copyq (C : mCx p l e R s m args meth c D E own mname cc nL) (hR : mRep D E.1 s H h) (hS : va_S (fun q => E.1 ≤ q) s.heap H locs) {idx t na nb a b : Nat} {f g : Nat → Option Nat} {sp dp n : Int32} (hl : Cond.methodLink own idx arraycopyName ∈ lw_all) (hls : ls.size = nL)
    (ha : h.1 a = some (.inl (t, na, .inr (.inr (.inr (.inr f)))))) (hb9 : h.1 b = some (.inl (t, nb, .inr (.inr (.inr (.inr g)))))) (ht : 100 ≤ t) (h1 : 0 ≤ sp.toInt) (h2 : 0 ≤ dp.toInt) (h3 : 0 ≤ n.toInt) (h4 : sp.toInt + n.toInt ≤ na) (h5 : dp.toInt + n.toInt ≤ nb) (hBb : E.1 ≤ b) (hBa : E.1 ≤ a) (hr : rest.length ≤ 8) (hfit : ∀ k : Nat, k < n.toNatClampNeg → mtak mSub h t (f (sp.toNatClampNeg + k)) = true)
    (hd : decode cc pc = .ok (.invokestatic idx, 3))
    (kk : ∀ (H1 : Heap) (locs1 : List Loc), mRep D E.1 s H1 (mput h b (.inl (t, nb, .inr (.inr (.inr (.inr (va_cpy f g sp.toNatClampNeg dp.toNatClampNeg n.toNatClampNeg))))))) → va_S (fun q => E.1 ≤ q) s.heap H1 locs1 → W p l e R s m args below meth c H1 locs1 cells slots Q (F0 m (pc + 3) ls rest)) : W p l e R s m args below meth c H locs cells slots Q (F0 m pc ls (.int n :: .int dp :: .ref b :: .int sp :: .ref a :: rest)) := by
  obtain ⟨hx, hb, hml, hown, hts, hK, -, -, -, -, hRf, hRl⟩ := C
  obtain ⟨ty, cell, q1, q2, q3, q4, q5, q6, q7⟩ := hR.2.2 a _ ha
  obtain ⟨ty', cell', r1, r2, r3, r4, r5, r6, r7⟩ := hR.2.2 b _ hb9
  have e9 := mKd_fun _ q1 _ r1 rfl
  simp only at e9
  subst e9
  cases (mKd_ref q1 ht).1
  have hc0 : H[a]? = some (vp_cell (D.2 t) (na, .inr (.inr (.inr (.inr f))))) := by rw [q2, q7 hBa]
  have hc1 : H[b]? = some (vp_cell (D.2 t) (nb, .inr (.inr (.inr (.inr g))))) := by rw [r2, r7 hBb]
  have hsum := mcat_sum rest
  have hnf : nativeFrameWords "java/lang/System" "arraycopy" 5 ≤ 100 := by decide +kernel
  intro T hT X
  obtain ⟨-, k0, hk0, cm0, hkk0⟩ := (hK.2.1 t _ q1).1 na (fun j => va_rf (f j))
  have e4 := mnn h1
  have e5 := mnn h2
  have e6 := mnn h3
  obtain ⟨vm', X', step⟩ := X.arraycopy hx hown (hts _ hl) (hts _ q429) (hts _ q428) (hts _ q171) (src := a) (dst := b) (cs := vp_cell (D.2 t) (na, .inr (.inr (.inr (.inr f))))) (cd := vp_cell (D.2 t) (nb, .inr (.inr (.inr (.inr g))))) (srcPos := sp) (destPos := dp) (n := n) (by rw [hT]; exact hc0) (by rw [hT]; exact hc1)
    (fun _ h => by cases h) (fun _ h => by cases h) (fun h => by cases h) (fun h => by cases h) hk0 hk0 hkk0 hkk0 rfl (mnl h1) (mnl h2) (mnl h3)
    (by show ¬ _ > ((arrV (D.2 t) na (fun j => va_rf (f j))).slots.size : Int); rw [arrV_size]; omega)
    (by show ¬ _ > ((arrV (D.2 t) nb (fun j => va_rf (g j))).slots.size : Int); rw [arrV_size]; omega)
    (fun vm₁ hal i hi => by
      have e : (vp_cell (D.2 t) (na, .inr (.inr (.inr (.inr f))))).slots.getD (sp.toNatClampNeg + i) .null = va_rf (f (sp.toNatClampNeg + i)) := by
        show (arrV (D.2 t) na (fun j => va_rf (f j))).slots.getD _ _ = _
        rw [Array.getD_eq_getD_getElem?, arrV_read _ _ (by omega)]
        rfl
      rw [e]
      have hw := hfit i hi
      cases hy : f (sp.toNatClampNeg + i) with
      | none => exact ⟨rfl, trivial⟩
      | some y =>
        rw [hy] at hw
        simp only [mtak] at hw
        cases hv : h.1 y with
        | none => rw [hv] at hw; simp at hw
        | some cv =>
          rcases cv with x | ⟨ci, fs⟩
          · rw [hv] at hw; simp at hw
          · rw [hv] at hw
            simp only at hw
            obtain ⟨r, cellV, g1, g2, g3, g4, g5, g6, -⟩ := hR.2.2 y _ hv
            have hcls := (hK.1 ci r g1).2
            obtain ⟨kA, comp, s1, s2, s3, -⟩ := (hK.2.1 t _ q1).2
            cases hk0.symm.trans s1
            cases hkk0.symm.trans s2
            have hcv : s.vm.findClass (mTn ci) = some cellV.cls := by rw [g4, ← mCl_name ci r g1]; exact hcls.1
            obtain ⟨kC, hkC, -⟩ := Vm.findClass_spec hcv
            obtain ⟨kE, hkE, -⟩ := Vm.findClass_spec s3
            obtain ⟨kC', hkC', -⟩ := hal.2.2 _ _ hkC
            obtain ⟨kE', hkE', -⟩ := hal.2.2 _ _ hkE
            refine ⟨rfl, cellV, (show T.heap[y]? = some cellV by rw [hT]; exact g3), (fun q h => by rw [h] at g6; cases g6), ⟨kC', hkC'⟩, ?_, ?_⟩
            · exact ⟨kE', hkE'⟩
            · show vm₁.assignable _ _ = true
              rw [hal.assignable]
              exact mTak hK hw hcv s3)
    (g := F0 m pc ls (.int n :: .int dp :: .ref b :: .int sp :: .ref a :: rest)) rfl (by rw [hml]; exact hls) (rest := rest) rfl (by rw [hb]; exact hd) (by omega) (by show 2 * 0 + _ + (nativeFrameWords "java/lang/System" "arraycopy" 5 + 11) ≤ _; omega)
  have e1 : copied (vp_cell (D.2 t) (na, .inr (.inr (.inr (.inr f))))) (vp_cell (D.2 t) (nb, .inr (.inr (.inr (.inr g))))) sp dp n = vp_cell (D.2 t) (nb, .inr (.inr (.inr (.inr (va_cpy f g sp.toNatClampNeg dp.toNatClampNeg n.toNatClampNeg))))) := by
    rw [vp_cell_q, vp_cell_q, vp_cell_q]
    exact va_copied (fun z => va_rf z) (D.2 t) (D.2 t) f g (by omega)
  rw [e1] at X' step
  have hlt : b < H.size := (Array.getElem?_eq_some_iff.mp hc1).1
  generalize hN : vp_cell (D.2 t) (nb, .inr (.inr (.inr (.inr (va_cpy f g sp.toNatClampNeg dp.toNatClampNeg n.toNatClampNeg))))) = N at X' step
  have hheap : ((T.setVm vm').setCell b N).heap = H.setIfInBounds b N := by rw [← hT]; rfl
  have oq : ∀ q : Nat, q ≠ b → (H.setIfInBounds b N)[q]? = H[q]? := fun q hq => by simp [Array.getElem?_setIfInBounds, Ne.symm hq]
  have hself : (H.setIfInBounds b N)[b]? = some N := by simp [Array.getElem?_setIfInBounds, hlt]
  have hz : (H.setIfInBounds b N).size = H.size := by simp
  obtain ⟨t9, a1, b1⟩ := kk (H.setIfInBounds b N) _ (hR.put hz oq (mAt_arr hK q1 (by rw [hself, ← hN]))) (mset_S hS hz oq hBb (fun x hx => by
      obtain ⟨z, -, hz⟩ := List.mem_map.mp hx
      rw [← hz])) _ hheap X'
  exact ⟨t9, step t9 a1, b1⟩
theorem w_clone (C : mCx p l e R s m args meth c D E own mname cc nL) (hR : mRep D E.1 s H h) (hS : va_S (fun q => E.1 ≤ q) s.heap H locs) {idx n a : Nat} {f : Nat → Int32} (hl : Cond.methodLink own idx ⟨"[I", "clone", "()Ljava/lang/Object;"⟩ ∈ lw_all) (hls : ls.size = nL)
    (ha : h.1 a = some (.inl (0, n, .inl f))) (hBa : E.1 ≤ a) (hr : rest.length ≤ 8) (hcells : cells + 1 ≤ R.cells) (hslots : slots + n ≤ R.slots) (hd : decode cc pc = .ok (.invokevirtual idx, 3))
    (kk : ∀ (H1 : Heap), mRep D E.1 s H1 (mnew h (.inl (0, n, .inl f)) n) → va_S (fun q => E.1 ≤ q) s.heap H1 locs → W p l e R s m args below meth c H1 locs (cells + 1) (slots + n) Q (F0 m (pc + 3) ls (.ref h.2.1 :: rest))) : W p l e R s m args below meth c H locs cells slots Q (F0 m pc ls (.ref a :: rest)) := by
  obtain ⟨hx, hb, hml, hown, hts, hK, -, -, -, -, hRf, hRl⟩ := C
  obtain ⟨ty, cell, q1, q2, q3, q4, q5, q6, q7⟩ := hR.2.2 a _ ha
  cases mKd_0 q1
  have hc0 : H[a]? = some (vp_cell (D.2 0) (n, .inl f)) := by rw [q2, q7 hBa]
  have hsum := mcat_sum rest
  have hcl : va_Nw (.castable "[I" "java/lang/Cloneable") s := hK.2.2.1 _ (List.mem_append_right _ (List.mem_append_right _ (List.mem_map.mpr ⟨("[I", "java/lang/Cloneable"), by decide +kernel, rfl⟩)))
  have hnm : s.vm.findClass "[I" = some (D.2 0) := va_nm_int (hK.2.1 0 _ q1).2
  obtain ⟨c0, t0', f1, f2, f3⟩ := Cond.castable_spec (va_Nw.use (A := args) rfl hcl)
  cases hnm.symm.trans f1
  intro T hT X
  have hcellT : T.heap[a]? = some (vp_cell (D.2 0) (n, .inl f)) := by rw [hT]; exact hc0
  obtain ⟨-, kA, hkA, comp, hkind⟩ := State.isArrayOf_alike X.warmed.alike ((hK.2.1 0 _ q1).1 0 (fun _ => .null))
  obtain ⟨-, kS, hkS, compS, hkindS⟩ := (hK.2.1 0 _ q1).1 0 (fun _ => .null)
  have hsz : (vp_cell (D.2 0) (n, .inl f)).slots.size = n := arrV_size _ _ _
  obtain ⟨vm', X', st⟩ := X.cloneArray hx hown (hts _ hl) (hts _ q1922) (hts _ q419) (hts _ q420) (hts _ q1923) (a := a) (cell := vp_cell (D.2 0) (n, .inl f)) hcellT (fun k h => by cases h) (fun h => by cases h) hnm f2 f3
    (fun i v hv => by
      have hk' : T.vm.classes[D.2 0]? = some kA := hkA
      have hv9 : fits .int v = true := va_fit (cA := D.2 0) (n := n) (F := fun j => .int (f j)) (fun _ _ => rfl) i v hv
      show T.fitsSlot (D.2 0) .none i v = true
      simpa [State.fitsSlot, State.slotType?, hk', hkind] using hv9)
    (g := F0 m pc ls (.ref a :: rest)) rfl (by rw [hml]; exact hls) rfl (by rw [hb]; exact hd) (by omega) (by show 2 * 0 + _ + 14 ≤ _; omega) hcells (by rw [hsz]; exact hslots) (hloader := Vm.clonesLoader_of_array hkS hkindS)
  have hcellE : ({ cls := (vp_cell (D.2 0) (n, .inl f)).cls, slots := (vp_cell (D.2 0) (n, .inl f)).slots } : Cell) = vp_cell (D.2 0) (n, .inl f) := rfl
  rw [hcellE, hsz] at X'
  generalize hH1 : H.push (vp_cell (D.2 0) (n, .inl f)) = H1
  have z1 : H1.size = H.size + 1 := by rw [← hH1, Array.size_push]
  have e1 : H1[H.size]? = some (vp_cell (D.2 0) (n, .inl f)) := by rw [← hH1, Array.getElem?_push_size]
  have o1 : ∀ q : Nat, q < H.size → H1[q]? = H[q]? := fun q hq => by rw [← hH1, Array.getElem?_push, if_neg (Nat.ne_of_lt hq)]
  have h9 := kk H1 (hR.push z1 o1 (mAt_arr hK q1 e1)) (mpush_S hS z1 o1)
  rw [← hR.1] at h9
  obtain ⟨t, b1, b2⟩ := h9 ((T.setVm vm').pushCell (vp_cell (D.2 0) (n, .inl f))) (by rw [← hH1, ← hT]; rfl) X'
  refine ⟨t, st t ?_, b2⟩
  rw [hcellE, hT]
  exact b1
theorem w_cloneB (C : mCx p l e R s m args meth c D E own mname cc nL) (hR : mRep D E.1 s H h) (hS : va_S (fun q => E.1 ≤ q) s.heap H locs) {idx n a : Nat} {f : Nat → Int32} (hl : Cond.methodLink own idx ⟨"[B", "clone", "()Ljava/lang/Object;"⟩ ∈ lw_all) (hls : ls.size = nL)
    (ha : h.1 a = some (.inl (2, n, .inl f))) (hBa : E.1 ≤ a) (hr : rest.length ≤ 8) (hfit : ∀ k : Nat, k < n → mfit 2 (.int (f k)) = true) (hcells : cells + 1 ≤ R.cells) (hslots : slots + n ≤ R.slots) (hd : decode cc pc = .ok (.invokevirtual idx, 3))
    (kk : ∀ (H1 : Heap), mRep D E.1 s H1 (mnew h (.inl (2, n, .inl f)) n) → va_S (fun q => E.1 ≤ q) s.heap H1 locs → W p l e R s m args below meth c H1 locs (cells + 1) (slots + n) Q (F0 m (pc + 3) ls (.ref h.2.1 :: rest))) : W p l e R s m args below meth c H locs cells slots Q (F0 m pc ls (.ref a :: rest)) := by
  obtain ⟨hx, hb, hml, hown, hts, hK, -, -, -, -, hRf, hRl⟩ := C
  obtain ⟨ty, cell, q1, q2, q3, q4, q5, q6, q7⟩ := hR.2.2 a _ ha
  cases mKd_2 q1
  have hc0 : H[a]? = some (vp_cell (D.2 2) (n, .inl f)) := by rw [q2, q7 hBa]
  have hsum := mcat_sum rest
  have hcl : va_Nw (.castable "[B" "java/lang/Cloneable") s := hK.2.2.1 _ (List.mem_append_right _ (List.mem_append_right _ (List.mem_map.mpr ⟨("[B", "java/lang/Cloneable"), by decide +kernel, rfl⟩)))
  have hnm : s.vm.findClass "[B" = some (D.2 2) := va_nm_byte (hK.2.1 2 _ q1).2
  obtain ⟨c0, t0', f1, f2, f3⟩ := Cond.castable_spec (va_Nw.use (A := args) rfl hcl)
  cases hnm.symm.trans f1
  intro T hT X
  have hcellT : T.heap[a]? = some (vp_cell (D.2 2) (n, .inl f)) := by rw [hT]; exact hc0
  obtain ⟨-, kA, hkA, comp, hkind⟩ := State.isArrayOf_alike X.warmed.alike ((hK.2.1 2 _ q1).1 0 (fun _ => .null))
  obtain ⟨-, kS, hkS, compS, hkindS⟩ := (hK.2.1 2 _ q1).1 0 (fun _ => .null)
  have hsz : (vp_cell (D.2 2) (n, .inl f)).slots.size = n := arrV_size _ _ _
  obtain ⟨vm', X', st⟩ := X.cloneArray hx hown (hts _ hl) (hts _ q418) (hts _ q419) (hts _ q420) (hts _ q421) (a := a) (cell := vp_cell (D.2 2) (n, .inl f)) hcellT (fun k h => by cases h) (fun h => by cases h) hnm f2 f3
    (fun i v hv => by
      have hk' : T.vm.classes[D.2 2]? = some kA := hkA
      have hv9 : fits .byte v = true := va_fit (cA := D.2 2) (n := n) (F := fun j => .int (f j)) (fun i hi => (mfit_ok (hfit i hi) (show mTyc 2 FieldType.byte from rfl)).2) i v hv
      show T.fitsSlot (D.2 2) .none i v = true
      simpa [State.fitsSlot, State.slotType?, hk', hkind] using hv9)
    (g := F0 m pc ls (.ref a :: rest)) rfl (by rw [hml]; exact hls) rfl (by rw [hb]; exact hd) (by omega) (by show 2 * 0 + _ + 14 ≤ _; omega) hcells (by rw [hsz]; exact hslots) (hloader := Vm.clonesLoader_of_array hkS hkindS)
  have hcellE : ({ cls := (vp_cell (D.2 2) (n, .inl f)).cls, slots := (vp_cell (D.2 2) (n, .inl f)).slots } : Cell) = vp_cell (D.2 2) (n, .inl f) := rfl
  rw [hcellE, hsz] at X'
  generalize hH1 : H.push (vp_cell (D.2 2) (n, .inl f)) = H1
  have z1 : H1.size = H.size + 1 := by rw [← hH1, Array.size_push]
  have e1 : H1[H.size]? = some (vp_cell (D.2 2) (n, .inl f)) := by rw [← hH1, Array.getElem?_push_size]
  have o1 : ∀ q : Nat, q < H.size → H1[q]? = H[q]? := fun q hq => by rw [← hH1, Array.getElem?_push, if_neg (Nat.ne_of_lt hq)]
  have h9 := kk H1 (hR.push z1 o1 (mAt_arr hK q1 e1)) (mpush_S hS z1 o1)
  rw [← hR.1] at h9
  obtain ⟨t, b1, b2⟩ := h9 ((T.setVm vm').pushCell (vp_cell (D.2 2) (n, .inl f))) (by rw [← hH1, ← hT]; rfl) X'
  refine ⟨t, st t ?_, b2⟩
  rw [hcellE, hT]
  exact b1
theorem w_gcls (C : mCx p l e R s m args meth c D E own mname cc nL) (hR : mRep D E.1 s H h) {idx a : Nat} {x : vp_A} (hl : Cond.methodLink own idx ⟨"java/lang/Object", "getClass", "()Ljava/lang/Class;"⟩ ∈ lw_all) (hls : ls.size = nL)
    (ha : h.1 a = some (.inl (100, x))) (hBa : E.1 ≤ a) (hr : rest.length ≤ 8) (hd : decode cc pc = .ok (.invokevirtual idx, 3))
    (kk : W p l e R s m args below meth c H locs cells slots Q (F0 m (pc + 3) ls (.ref (E.2 6) :: rest))) : W p l e R s m args below meth c H locs cells slots Q (F0 m pc ls (.ref a :: rest)) := by
  obtain ⟨hx, hb, hml, hown, hts, hK, -, -, -, -, hRf, hRl⟩ := C
  obtain ⟨ty, cell, q1, q2, q3, q4, q5, q6, q7⟩ := hR.2.2 a _ ha
  cases (mKd_ref q1 (Nat.le_refl 100)).1
  have hsum := mcat_sum rest
  have hce := q7 hBa
  refine va_getC hx hb (by rw [hml]; exact hls.symm) hown (C := "[Ljava/lang/Object;") (hts _ hl) (va_Dc.use hK.2.2.2.2.2.2.2.2.2.2) (hts _ q3201) (hts _ q725) (hts _ q755) hK.2.2.2.2.2.2.2.2.2.1 ⟨cell, q2, by rw [hce, mVal_cell]; rfl, ?_⟩ (by omega) (by omega) hd kk
  rw [hce, mVal_cell]
  exact va_nmO (hK.2.1 100 _ q1).2 (by decide +kernel)
theorem w_castO (C : mCx p l e R s m args meth c D E own mname cc nL) (hR : mRep D E.1 s H h) {idx t a ci : Nat} {fs : List Value} (hl : Cond.classLink own idx (mTn t) ∈ lw_all) (ha : h.1 a = some (.inr (ci, fs))) (hs : mSub ci t = true) (hd : decode cc pc = .ok (.checkcast idx, 3))
    (kk : W p l e R s m args below meth c H locs cells slots Q (F0 m (pc + 3) ls (.ref a :: rest))) : W p l e R s m args below meth c H locs cells slots Q (F0 m pc ls (.ref a :: rest)) := by
  obtain ⟨hx, hb, hml, hown, hts, hK, -⟩ := C
  obtain ⟨r, cell, g1, g2, g3, g4, g5, g6, -⟩ := hR.2.2 a _ ha
  have hcls := (hK.1 ci r g1).2
  rw [mCl_name ci r g1] at hcls
  have hr : ∃ cell : Cell, H[a]? = some cell ∧ cell.vm.isStatics = false ∧ s.vm.findClass (mTn ci) = some cell.cls := ⟨cell, g3, g6, by rw [g4]; exact hcls.1⟩
  rcases mSub_spec hs with e | e
  · rw [e] at hr hcls
    exact va_castS hx hb hown (hts _ hl) hcls hr hd kk
  · exact va_castY hx hb hown (hts _ hl) (hK.2.2.1 _ (List.mem_append_right _ (List.mem_append_right _ (List.mem_map.mpr ⟨_, e, rfl⟩)))) hr hd kk
theorem w_instY (C : mCx p l e R s m args meth c D E own mname cc nL) (hR : mRep D E.1 s H h) {idx t a ci : Nat} {fs : List Value} (hl : Cond.classLink own idx (mTn t) ∈ lw_all) (ha : h.1 a = some (.inr (ci, fs))) (hs : mSub ci t = true) (hd : decode cc pc = .ok (.instanceof idx, 3))
    (kk : W p l e R s m args below meth c H locs cells slots Q (F0 m (pc + 3) ls (.int 1 :: rest))) : W p l e R s m args below meth c H locs cells slots Q (F0 m pc ls (.ref a :: rest)) := by
  obtain ⟨hx, hb, hml, hown, hts, hK, -⟩ := C
  obtain ⟨r, cell, g1, g2, g3, g4, g5, g6, -⟩ := hR.2.2 a _ ha
  have hcls := (hK.1 ci r g1).2
  rw [mCl_name ci r g1] at hcls
  have hr : ∃ cell : Cell, H[a]? = some cell ∧ cell.vm.isStatics = false ∧ s.vm.findClass (mTn ci) = some cell.cls := ⟨cell, g3, g6, by rw [g4]; exact hcls.1⟩
  rcases mSub_spec hs with e | e
  · rw [e] at hr hcls
    exact va_instS hx hb hown (hts _ hl) hcls hr hd kk
  · exact va_instY hx hb hown (hts _ hl) (hK.2.2.1 _ (List.mem_append_right _ (List.mem_append_right _ (List.mem_map.mpr ⟨_, e, rfl⟩)))) hr hd kk
theorem w_instN (C : mCx p l e R s m args meth c D E own mname cc nL) (hR : mRep D E.1 s H h) {idx t a ci : Nat} {fs : List Value} (hl : Cond.classLink own idx (mTn t) ∈ lw_all) (ha : h.1 a = some (.inr (ci, fs))) (hs : mNsub ci t = true) (hd : decode cc pc = .ok (.instanceof idx, 3))
    (kk : W p l e R s m args below meth c H locs cells slots Q (F0 m (pc + 3) ls (.int 0 :: rest))) : W p l e R s m args below meth c H locs cells slots Q (F0 m pc ls (.ref a :: rest)) := by
  obtain ⟨hx, hb, hml, hown, hts, hK, -⟩ := C
  obtain ⟨r, cell, g1, g2, g3, g4, g5, g6, -⟩ := hR.2.2 a _ ha
  have hcls := (hK.1 ci r g1).2
  rw [mCl_name ci r g1] at hcls
  exact va_instNo hx hb hown (hts _ hl) (hK.2.2.2.2.2.2.2.2.1 _ (mNsub_spec hs)) ⟨cell, g3, g6, by rw [g4]; exact hcls.1⟩ hd kk
theorem w_castA (C : mCx p l e R s m args meth c D E own mname cc nL) (hR : mRep D E.1 s H h) {idx t a : Nat} {ty : FieldType} {x : vp_A} (hk : (t, ty) ∈ mKd) (hl : Cond.classLink own idx ("[" ++ ty.toString) ∈ lw_all) (ha : h.1 a = some (.inl (t, x))) (hBa : E.1 ≤ a) (hd : decode cc pc = .ok (.checkcast idx, 3))
    (kk : W p l e R s m args below meth c H locs cells slots Q (F0 m (pc + 3) ls (.ref a :: rest))) : W p l e R s m args below meth c H locs cells slots Q (F0 m pc ls (.ref a :: rest)) := by
  obtain ⟨hx, hb, hml, hown, hts, hK, -⟩ := C
  obtain ⟨ty', cell, q1, q2, q3, q4, q5, q6, q7⟩ := hR.2.2 a _ ha
  have e9 := mKd_fun _ hk _ q1 rfl
  simp only at e9
  subst e9
  have hnm : s.vm.findClass ("[" ++ ty.toString) = some (D.2 t) := by
    have h9 := (hK.2.1 t _ hk).2
    revert h9
    cases ty with
    | object C => rintro ⟨kA, comp, k1, k2, k3, k4⟩; exact k4
    | _ => exact fun z => z
  intro T hT X
  obtain ⟨vm', X', st⟩ := X.checkcastYes hx hown (hts _ hl) (by rw [hT]; exact q2) (by rw [q7 hBa, mVal_cell]; rfl) hnm (by rw [q7 hBa, mVal_cell]; exact va_asg _ _) (g := F0 m pc ls (.ref a :: rest)) rfl rfl (by rw [hb]; exact hd)
  obtain ⟨t9, a1, b1⟩ := kk (T.setVm vm') hT X'
  exact ⟨t9, st t9 a1, b1⟩
theorem w_ldcw (hx : p.tables.exec = Jvm.exec) (hb : c.code = cc) {tx : String} {index q : Nat} (hown : s.vm.findClass own = some m.cls) (hZ : vk_R own index tx q s) (hd : decode cc pc = .ok (.ldc_w index, 3))
    (k : W p l e R s m args below meth c H locs cells slots Q (F0 m (pc + 3) ls (.ref q :: rest))) : W p l e R s m args below meth c H locs cells slots Q (F0 m pc ls rest) := by
  intro T hT X
  obtain ⟨t, a1, b1⟩ := k T hT X
  refine ⟨t, ?_, b1⟩
  obtain ⟨k0, cf, i, a', hk, hcf, hcp, -, hr, hev'⟩ := Cond.stringRef_spec hown hZ.1
  cases hZ.2.symm.trans hev'
  obtain ⟨k', hk', he⟩ := X.warmed.alike.2.2 _ _ hk
  have hr' : k'.resolved[index]? = some (some (.string q)) := by
    rcases X.warmed.entry hk hk' index with h | ⟨h, -⟩
    · rw [h]; exact hr
    · rw [hr] at h; cases h
  have hd' : decode c.code pc = .ok (.ldc_w index, 3) := by rw [hb]; exact hd
  jvm_step X.here [hx, hd', ldc_w.wp_string (e := e) (s := T) (f := F0 m pc ls rest) X.here.top hk' (by rw [he]; exact hcf) hcp hr']
  exact a1
end MMI
