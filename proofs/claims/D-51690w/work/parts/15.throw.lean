/-! MC soundness 10: 'throw new E()' of a JDK exception, no traces kept (after vx_throw0) -/
set_option maxRecDepth 100000
def mTf (own : String) (cc : ByteArray) (pc : Nat) (x : mI) : Prop := ∃ (ik ic : Nat) (names : List String), x.1 = .new ik ∧ (x.2.2.1 = 19 ∨ x.2.2.1 = 20 ∨ x.2.2.1 = 21) ∧ Bundle.fit (mTn x.2.2.1) = true ∧ (∀ n ∈ names, Bundle.fit n = true) ∧ names.length ≤ 4 ∧ Cond.classLink own ik (mTn x.2.2.1) ∈ lw_all ∧ Cond.initialized (mTn x.2.2.1) ∈ lw_all ∧
  (∀ w ∈ vx_at0 own ic (mTn x.2.2.1) names, w ∈ lw_all ∨ w ∈ mWd) ∧ decode cc (pc + 3) = .ok (.dup, 1) ∧ decode cc (pc + 4) = .ok (.invokespecial ic, 3) ∧ decode cc (pc + 7) = .ok (.athrow, 1)
section MTH
variable {p : Program} {l : Launch} {e : Env} {R : Room} {s : State} {m : MethodId} {args : Array Value} {below : List Frame} {meth : Method} {c : Code} {H : Heap} {locs : List Loc} {cells slots : Nat} {Q : State → Prop}
variable {D : mD} {E : mE} {own mname : String} {cc : ByteArray} {nL pc : Nat} {ls : Array Slot} {h : mH}
variable {Qc : Array Value → State → Outcome → State → Prop} {XC : Addr → State → State → Prop} {free : Addr → Prop}
theorem w_throw0 {x : mI} (C : mCx p l e R s m args meth c D E own mname cc nL) (hd : decode cc pc = .ok (x.1, mlen x.1)) (hF : mTf own cc pc x) (hR : mRep D E.1 s H h) (hS : va_S (fun q => E.1 ≤ q) s.heap H locs) (hls : ls.size = nL) (htab : c.exceptionTable.toList = []) {mc ms : Nat}
    (hcells : cells + 1 ≤ R.cells) (hslots : slots + 6 ≤ R.slots) (hc : cells + 1 ≤ mc) (hs : slots + 6 ≤ ms) (hf : ∀ z ∈ locs, free z.base)
    (hx9 : ∀ t : State, s.WarmedH t.vm → mRep D E.1 s t.heap (mnew h (.inr (x.2.2.1, [])) 6) → va_S (fun q => E.1 ≤ q) s.heap t.heap locs → XC h.2.1 s t) :
    W p l e R s m args below meth c H locs cells slots (mqMQ below Qc XC args s mc ms free) (F0 m pc ls []) := by
  obtain ⟨ik, ic, names, hi, hci, hcls, hnames, hlen, hk, hini, hat, d3, d4, d7⟩ := hF
  rw [hi] at hd
  obtain ⟨hexec, hb, hml, hown, hts, hK, hSt, hlocks, hl, -, hRf, hRl⟩ := C
  intro T hT X
  have htr : e.platform.stackTraces = false := (show e.platform.stackTraces = l.stackTraces by rw [X.admits.platform]).trans hl
  have Y := vx_rebase X (R' := { frames := R.frames, locals := R.locals, cells := 1, slots := 6 }) (Nat.le_refl _) (Nat.le_refl _) hcells hslots
  obtain ⟨s', hA⟩ : ∃ z, z = (T.setVm s.vm).setFrames (.invoking m args :: below) := ⟨_, rfl⟩
  rw [← hA] at Y
  have hvm : s'.vm = s.vm := by rw [hA]; rfl
  have hhp : s'.heap = H := by rw [hA]; exact hT
  have hW0 : s.WarmedH s'.vm := by rw [hvm]; exact State.WarmedH.refl s
  have hat' : ∀ w ∈ vx_at0 own ic (mTn x.2.2.1) names, w.before args s' = true := by
    intro w hw
    rcases hat w hw with h | h
    · exact vx_ot_at hW0 hvm.symm (by unfold vx_ot; rw [(List.mem_filter.mp h).2, Bool.or_true]) (hts w h)
    · exact vx_ot_at hW0 hvm.symm (by unfold vx_ot; rw [mWd_on h, Bool.true_or]) (va_Nw.use (A := args) (mWd_on h) (hK.2.2.1 _ h))
  have og : ∀ w ∈ lw_all, vx_ot w = true := fun w h => by unfold vx_ot; rw [(List.mem_filter.mp h).2, Bool.or_true]
  have hk' : (Cond.classLink own ik (mTn x.2.2.1)).before args s' = true := vx_ot_at hW0 hvm.symm (og _ hk) (hts _ hk)
  have hini' : (Cond.initialized (mTn x.2.2.1)).before args s' = true := vx_ot_at hW0 hvm.symm (og _ hini) (hts _ hini)
  have hU' : vx_Zq Bundle.tN "UNASSIGNED_STACK" Bundle.steD (fun a => E.1 ≤ a) s' s'.heap := by rw [hhp]; exact vx_Zq.moved hW0.alike (hSt.2.1.kept hS.2.1)
  have hN' : vx_Zq Bundle.tN "SUPPRESSED_SENTINEL" Bundle.listD (fun a => E.1 ≤ a) s' s'.heap := by rw [hhp]; exact vx_Zq.moved hW0.alike (hSt.2.2.kept hS.2.1)
  have h9 : ∀ w ∈ Bundle.ownAtoms0 own ic (mTn x.2.2.1) names, w.before args s' = true := vx_own hat' (vx_isRefq hU'.1) (vx_isRefq hN'.1) hU'.2.word hN'.2.word
  have hown' : s'.vm.findClass own = some m.cls := by rw [hvm]; exact hown
  have hins : (Cond.instantiable (mTn x.2.2.1) 6).before args s' = true := h9 _ (by simp [Bundle.ownAtoms0])
  obtain ⟨vm₁, cX, kX, hfX, hkX, -, -, X₁, st1⟩ := Y.newCold hexec (own := own) (C := mTn x.2.2.1) (index := ik) (n := 6) hown' hk' hins hini'
    (g := F0 m pc ls []) rfl (by rw [hb]; exact hd) (Nat.le_refl _) (Nat.le_refl _)
  generalize hT1 : (T.setVm vm₁).pushCell { cls := cX, slots := kX.instanceTypes.map defaultValue, vm := .none } = T1 at X₁ st1
  have hcat : (Value.ref T.heap.size).category = 1 := rfl
  have hcellA : T1.heap[T.heap.size]? = some (freshCell cX kX) := by rw [← hT1]; exact State.heap_pushCell_size _ _
  have d3' : decode c.code (pc + 3) = .ok (.dup, 1) := by rw [hb]; exact d3
  obtain ⟨U, hsteps, hrun, hend, hW, hsame, ce, hce, hO⟩ := X₁.ctorThrow0 hexec htr (own := own) (cls := mTn x.2.2.1) (names := names) (ic := ic) hown' hcls hnames h9 (fun x hx => nomatch hx) hfX hkX hcellA (by rw [hhp, hT]; exact Nat.le_refl _)
    (g := { method := m, pc := pc + 4, locals := ls, stack := .ref T.heap.size :: .ref T.heap.size :: [], locked := none }) rfl (by rw [hml]; exact hls) rfl rfl (rest := []) rfl
    (by rw [hb]; exact d4) (by rw [hb]; exact d7) (fun z hz => by rw [htab] at hz; cases hz) (by show names.length + 3 < R.frames; omega) (by show 2 * 0 + ((Value.ref T.heap.size :: []).map fun v => v.category).sum + (13 * (names.length + 1) + 41) ≤ R.locals; simp only [List.map_cons, List.map_nil, List.sum_cons, List.sum_nil, hcat]; omega) hlocks
  have hz0 : U.heap.size ≤ H.size + 1 := by
    have := hsame.2.2.1
    rw [hhp] at this
    exact this
  obtain ⟨f1, f2⟩ := vx_frame hsame
  rw [hhp] at f1 f2
  have hz1 : H.size < U.heap.size := by
    have := (Array.getElem?_eq_some_iff.mp hce).1
    rw [hT] at this
    exact this
  have hz : U.heap.size = H.size + 1 := by omega
  have ho : ∀ q : Nat, q < H.size → U.heap[q]? = H[q]? := fun q hq => f2 q hq (fun z hz => nomatch hz)
  have hWs : s.WarmedH U.vm := State.WarmedH.trans hW0 hW
  have hcl : s.vm.findClass (mTn x.2.2.1) = some ce.cls := by
    have h9 := hO.cls
    rw [hvm] at h9
    exact h9
  have hall : s.sameButNew ({ U with vm := s.vm } : State) locs mc ms := by
    subst hA
    obtain ⟨e1, e2⟩ := hsame
    rw [State.setFrames_setFrames] at e1
    have h2 : (T.setVm s.vm).sameButNew ({ U with vm := s.vm } : State) [] (0 + 1) (0 + 6) := ⟨e1, e2⟩
    have h3 := X.same.trans h2
    rw [List.append_nil] at h3
    exact h3.mono hc hs
  have hsub : ∀ n, n = 19 ∨ n = 20 ∨ n = 21 → ∃ r : vw_C, mCl[n]? = some r ∧ r.2.2 = 0 ∧ r.1 = mTn n := by
    rintro n (rfl | rfl | rfl) <;> exact ⟨_, rfl, rfl, rfl⟩
  obtain ⟨r, hr, hr0, hrn⟩ := hsub _ hci
  have hrep : mRep D E.1 s U.heap (mnew h (.inr (x.2.2.1, [])) 6) := by
    refine hR.push hz ho ⟨r, ce, hr, by rw [hr0]; rfl, by rw [← hT]; exact hce, ?_, by rw [hO.vm]; exact (fun z => nomatch z), by rw [hO.vm]; rfl, fun _ => hO.vm, fun k hk => absurd hk (by rw [hr0]; exact Nat.not_lt_zero _)⟩
    have h8 := (hK.1 _ r hr).2.1
    rw [hrn] at h8
    exact Option.some.inj (hcl.symm.trans h8)
  have hq : XC T.heap.size s U := by
    have := hx9 U hWs hrep (mpush_S hS hz ho)
    rw [← hR.1, ← hT] at this
    exact this
  refine ⟨U, ?_, .threw T.heap.size, hrun, hend, Or.inr ⟨T.heap.size, rfl, locs, hq, hWs, hall, hf⟩⟩
  refine st1 _ ?_
  show Steps p.tables e below (T1.setTop { method := m, pc := pc + 3, locals := ls, stack := .ref T.heap.size :: [], locked := none }) _
  jvm_step X₁.here [X₁.here.top, hexec, d3', Value.category]
  exact hsteps
end MTH
