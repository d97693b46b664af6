/-! MC soundness 7: one straight step -/
set_option maxRecDepth 100000
section MST
variable {p : Program} {l : Launch} {e : Env} {R : Room} {s : State} {m : MethodId} {args : Array Value} {below : List Frame} {meth : Method} {c : Code} {H : Heap} {locs : List Loc} {cells slots : Nat} {Q : State → Prop}
variable {D : mD} {E : mE} {own mname : String} {cc : ByteArray} {nL pc : Nat} {ls : Array Slot} {h : mH}
theorem s_i2_inv {st : List Value} {f : Int32 → Int32 → Option Int32} {q : List Value × mH} (hq : s_i2 st h f = some q) : ∃ (x y z : Int32) (r : List Value), st = .int y :: .int x :: r ∧ f x y = some z ∧ q = (.int z :: r, h) := by
  unfold s_i2 at hq
  split at hq
  · split at hq
    · rename_i z hz
      cases hq
      exact ⟨_, _, z, _, rfl, hz, rfl⟩
    · cases hq
  · cases hq
theorem s_i1_inv {st : List Value} {f : Int32 → Value} {q : List Value × mH} (hq : s_i1 st h f = some q) : ∃ (x : Int32) (r : List Value), st = .int x :: r ∧ q = (f x :: r, h) := by
  unfold s_i1 at hq
  split at hq
  · cases hq; exact ⟨_, _, rfl, rfl⟩
  · cases hq

theorem mrf_inv {v : Value} {w : Option Nat} (hw : mrf v = some w) : v = va_rf w := by
  cases v <;> simp [mrf] at hw <;> subst hw <;> rfl
set_option maxHeartbeats 4000000 in
theorem mstep_sound {P : mP} {x : mI} {st st' : List Value} {h' : mH} (hq : mstep E P x st h = some (st', h')) (hP : msub P = mSub ∧ mnsub P = mNsub ∧ mdfl P = mDf) (C : mCx p l e R s m args meth c D E own mname cc nL) (hd : decode cc pc = .ok (x.1, mlen x.1)) (hf : mFact own mname x) (hR : mRep D E.1 s H h) (hS : va_S (fun q => E.1 ≤ q) s.heap H locs) (hls : ls.size = nL)
    (hcells : cells + (h'.2.1 - h.2.1) ≤ R.cells) (hslots : slots + (h'.2.2 - h.2.2) ≤ R.slots)
    (kk : ∀ (H1 : Heap) (locs1 : List Loc), mRep D E.1 s H1 h' → va_S (fun q => E.1 ≤ q) s.heap H1 locs1 → W p l e R s m args below meth c H1 locs1 (cells + (h'.2.1 - h.2.1)) (slots + (h'.2.2 - h.2.2)) Q (F0 m (pc + mlen x.1) ls st')) : W p l e R s m args below meth c H locs cells slots Q (F0 m pc ls st) := by
  have hx := C.1
  have hb := C.2.1
  have hown := C.2.2.2.1
  have hts := C.2.2.2.2.1
  have hK := C.2.2.2.2.2.1
  have hSt := C.2.2.2.2.2.2.1
  have same : ∀ {st1 : List Value}, (st1, h) = (st', h') → W p l e R s m args below meth c H locs cells slots Q (F0 m (pc + mlen x.1) ls st1) := by
    intro st1 e1
    cases e1
    have h9 := kk H locs hR hS
    rw [Nat.sub_self, Nat.sub_self] at h9
    exact h9
  obtain ⟨i, kd, a, b, d⟩ := x
  cases i with

  | aconst_null => exact lv_null hx hb hd (same (Option.some.inj hq))
  | iconst n => exact lv_iconst hx hb hd rfl (same (Option.some.inj hq))
  | bipush n => exact lv_bipush hx hb hd rfl (same (Option.some.inj hq))
  | sipush n => exact lv_sipush hx hb hd rfl (same (Option.some.inj hq))
  | lconst n => exact lv_lconst hx hb hd rfl (same (Option.some.inj hq))
  | fconst n =>
    simp only [mstep] at hq
    split at hq
    · rename_i hn; subst hn
      exact lv_fconst1 hx hb hd (same (Option.some.inj hq))
    · cases hq
  | dconst n =>
    simp only [mstep] at hq
    split at hq
    · rename_i hn; subst hn
      exact lv_dconst0 hx hb hd (same (Option.some.inj hq))
    · cases hq
  | ldc k =>
    simp only [mstep] at hq
    split at hq
    · skip
      exact lv_ldc hx hb hown (hts _ (hf.2.1 rfl)) hd (same (Option.some.inj hq))
    · skip
      rcases hf.2.2 rfl with ⟨e6, hl⟩ | ⟨tx, hl⟩
      · simp only at e6
        subst e6
        exact va_ldcM hx hb hown (hts _ hl) hK.2.2.2.2.2.2.2.2.2.1 hd (same (Option.some.inj hq))
      · exact va_ldcS hx hb hown (hK.2.2.2.2.2.2.1 _ hl) hd (same (Option.some.inj hq))
    · exact lv_ldcf hx hb hown (hts _ (hf.1 rfl)) hd (same (Option.some.inj hq))
    · cases hq
  | ldc_w k =>
    obtain ⟨e1, tx, hl⟩ := hf
    simp only at e1
    subst e1
    exact w_ldcw hx hb hown (hK.2.2.2.2.2.2.1 _ hl) hd (same (Option.some.inj hq))
  | getstatic k =>
    obtain ⟨Cn, n, ds, hm, hl⟩ := hf
    exact va_gets hx hb (hSt.1 _ hm) hS hown (hts _ hl) (fun _ z => z) hd (same (Option.some.inj hq))
  | pop =>
    simp only [mstep, s_pop] at hq
    split at hq
    · split at hq
      · rename_i hc
        exact lv_pop hx hb hd hc (same (Option.some.inj hq))
      · cases hq
    · cases hq
  | dup =>
    simp only [mstep, s_dup] at hq
    split at hq
    · split at hq
      · rename_i hc
        exact lv_dup hx hb hd hc (same (Option.some.inj hq))
      · cases hq
    · cases hq
  | dup_x1 =>
    simp only [mstep, s_dupx1] at hq
    split at hq
    · split at hq
      · rename_i hc
        exact lv_dup_x1 hx hb hd hc.1 hc.2 (same (Option.some.inj hq))
      · cases hq
    · cases hq
  | dup_x2 =>
    simp only [mstep, s_dupx2] at hq
    split at hq
    · split at hq
      · rename_i hc
        exact lv_dup_x2 hx hb hd hc.1 hc.2.1 hc.2.2 (same (Option.some.inj hq))
      · cases hq
    · cases hq
  | dup2 =>
    simp only [mstep, s_dup2] at hq
    split at hq
    · split at hq
      · rename_i hc
        exact lv_dup2_11 hx hb hd hc.1 hc.2 (same (Option.some.inj hq))
      · cases hq
    · cases hq
  | iadd =>
    obtain ⟨v, w, z, r, rfl, hz, e1⟩ := s_i2_inv (st := st) (h := h) (f := fun x y => some (x + y)) hq
    cases hz
    exact lv_iadd hx hb hd (same e1.symm)
  | isub =>
    obtain ⟨v, w, z, r, rfl, hz, e1⟩ := s_i2_inv (st := st) (h := h) (f := fun x y => some (x - y)) hq
    cases hz
    exact lv_isub hx hb hd (same e1.symm)
  | imul =>
    obtain ⟨v, w, z, r, rfl, hz, e1⟩ := s_i2_inv (st := st) (h := h) (f := fun x y => some (x * y)) hq
    cases hz
    exact lv_imul hx hb hd (same e1.symm)
  | iand =>
    obtain ⟨v, w, z, r, rfl, hz, e1⟩ := s_i2_inv (st := st) (h := h) (f := fun x y => some (x &&& y)) hq
    cases hz
    exact lv_iand hx hb hd (same e1.symm)
  | ior =>
    obtain ⟨v, w, z, r, rfl, hz, e1⟩ := s_i2_inv (st := st) (h := h) (f := fun x y => some (x ||| y)) hq
    cases hz
    exact lv_ior hx hb hd (same e1.symm)
  | ixor =>
    obtain ⟨v, w, z, r, rfl, hz, e1⟩ := s_i2_inv (st := st) (h := h) (f := fun x y => some (x ^^^ y)) hq
    cases hz
    exact lv_ixor hx hb hd (same e1.symm)
  | ishl =>
    obtain ⟨v, w, z, r, rfl, hz, e1⟩ := s_i2_inv (st := st) (h := h) (f := fun x y => some (x <<< (y &&& 31))) hq
    cases hz
    exact lv_ishl hx hb hd (same e1.symm)
  | ishr =>
    obtain ⟨v, w, z, r, rfl, hz, e1⟩ := s_i2_inv (st := st) (h := h) (f := fun x y => some (x >>> (y &&& 31))) hq
    cases hz
    exact lv_ishr hx hb hd (same e1.symm)
  | iushr =>
    obtain ⟨v, w, z, r, rfl, hz, e1⟩ := s_i2_inv (st := st) (h := h) (f := fun x y => some ((x.toUInt32 >>> (y.toUInt32 &&& Int32.toUInt32 31)).toInt32)) hq
    cases hz
    exact lv_iushr hx hb hd rfl (same e1.symm)
  | idiv =>
    obtain ⟨v, w, z, r, rfl, hz, e1⟩ := s_i2_inv (st := st) (h := h) (f := fun x y => mnev x y (fun x y => x / y)) hq
    unfold mnev at hz
    split at hz
    · cases hz
    · rename_i hne
      cases hz
      exact lv_idiv hx hb hd hne (same e1.symm)
  | irem =>
    obtain ⟨v, w, z, r, rfl, hz, e1⟩ := s_i2_inv (st := st) (h := h) (f := fun x y => mnev x y (fun x y => x - x / y * y)) hq
    unfold mnev at hz
    split at hz
    · cases hz
    · rename_i hne
      cases hz
      exact lv_irem hx hb hd hne (same e1.symm)
  | ineg =>
    obtain ⟨v, r, rfl, e1⟩ := s_i1_inv (st := st) (h := h) (f := fun x => .int (-x)) hq
    exact lv_ineg hx hb hd (same e1.symm)
  | i2l =>
    obtain ⟨v, r, rfl, e1⟩ := s_i1_inv (st := st) (h := h) (f := fun x => .long x.toInt64) hq
    exact lv_i2l hx hb hd rfl (same e1.symm)
  | i2b =>
    obtain ⟨v, r, rfl, e1⟩ := s_i1_inv (st := st) (h := h) (f := fun x => .int x.toInt8.toInt32) hq
    exact lv_i2b hx hb hd rfl (same e1.symm)
  | i2c =>
    obtain ⟨v, r, rfl, e1⟩ := s_i1_inv (st := st) (h := h) (f := fun x => .int (x.toUInt32 % 65536).toInt32) hq
    exact lv_i2c hx hb hd rfl (same e1.symm)
  | i2f =>
    obtain ⟨v, r, rfl, e1⟩ := s_i1_inv (st := st) (h := h) (f := fun x => .float (FP.i2f x)) hq
    exact lv_i2f hx hb hd (same e1.symm)
  | i2d =>
    obtain ⟨v, r, rfl, e1⟩ := s_i1_inv (st := st) (h := h) (f := fun x => .double (FP.i2d x)) hq
    exact lv_i2d hx hb hd (same e1.symm)
  | f2d =>
    simp only [mstep] at hq
    split at hq
    · split at hq
      · rename_i hc
        exact lv_f2d hx hb hd hc (same (Option.some.inj hq))
      · cases hq
    · cases hq
  | fdiv =>
    simp only [mstep] at hq
    split at hq
    · split at hq
      · rename_i hc
        exact lv_fdiv hx hb hd hc (same (Option.some.inj hq))
      · cases hq
    · cases hq
  | ddiv =>
    simp only [mstep] at hq
    split at hq
    · split at hq
      · rename_i hc
        exact lv_ddiv hx hb hd hc (same (Option.some.inj hq))
      · cases hq
    · cases hq
  | fcmp op =>
    simp only [mstep] at hq
    split at hq
    · exact lv_fcmp hx hb hd (same (Option.some.inj hq))
    · cases hq
  | dcmp op =>
    simp only [mstep] at hq
    split at hq
    · exact lv_dcmp hx hb hd (same (Option.some.inj hq))
    · cases hq
  | lcmp =>
    simp only [mstep] at hq
    split at hq
    · exact W.lcmp hx hb hd (same (Option.some.inj hq))
    · cases hq
  | getfield k =>
    simp only [mstep, s_get] at hq
    split at hq
    · split at hq
      · rename_i ha
        split at hq
        · rename_i hc
          subst hc
          split at hq
          · rename_i hv
            exact w_getf C hR hf ha hv hd (same (Option.some.inj hq))
          · cases hq
        · cases hq
      · cases hq
    · cases hq
  | putfield k =>
    simp only [mstep, s_put] at hq
    split at hq
    · split at hq
      · rename_i ha
        split at hq
        · rename_i hc
          obtain ⟨rfl, hn, hB, hv⟩ := hc
          cases hq
          refine w_putf C hR hS hf ha hn hB hv hd fun H1 locs1 h1 h2 => ?_
          have h9 := kk H1 locs1 h1 h2
          simp only [mput, Nat.sub_self] at h9
          exact h9
        · cases hq
      · cases hq
    · cases hq
  | new k =>
    obtain ⟨r, hr, hn0, f1, f2, f3⟩ := hf
    simp only [mstep, s_new, hP.2.2] at hq
    cases hq
    simp only [mnew, Nat.add_sub_cancel_left] at hcells hslots kk
    exact w_new C hR hS hr hn0 f1 f2 f3 hd hcells hslots fun H1 h1 h2 => kk H1 locs h1 h2
  | newarray t =>
    obtain ⟨f1, f2, f3, f4⟩ := hf
    simp only [mstep] at hq
    rcases f3 with ⟨e0, hne⟩ | ⟨e0, hne⟩
    · simp only at e0
      subst e0
      simp only [s_newa] at hq
      split at hq
      · split at hq
        · rename_i hc
          cases hq
          simp only [mnew, Nat.add_sub_cancel_left] at hcells hslots kk
          exact w_newa (x := (_, .inl (fun _ => 0))) C hR hS f1 f2 rfl (fun j => (mdv hne f4 f1).symm) hc.1 hc.2 hd hcells hslots fun H1 h1 h2 => kk H1 locs h1 h2
        · cases hq
      · cases hq
    · simp only at e0
      subst e0
      simp only [s_newa] at hq
      split at hq
      · split at hq
        · rename_i hc
          cases hq
          simp only [mnew, Nat.add_sub_cancel_left] at hcells hslots kk
          exact w_newa (x := (_, .inr (.inl (fun _ => 0)))) C hR hS f1 f2 rfl (fun j => by rw [hne]; rfl) hc.1 hc.2 hd hcells hslots fun H1 h1 h2 => kk H1 locs h1 h2
        · cases hq
      · cases hq
  | anewarray k =>
    obtain ⟨Cn, f1, f2, f3⟩ := hf
    simp only [mstep, s_newa] at hq
    split at hq
    · split at hq
      · rename_i hc
        cases hq
        simp only [mnew, Nat.add_sub_cancel_left] at hcells hslots kk
        exact w_anew C hR hS f1 f2 f3 hc.1 hc.2 hd hcells hslots fun H1 h1 h2 => kk H1 locs h1 h2
      · cases hq
    · cases hq
  | arraylength =>
    simp only [mstep, s_alen] at hq
    split at hq
    · split at hq
      · rename_i ha
        exact w_alen C hR ha hd (same (Option.some.inj hq))
      · cases hq
    · cases hq
  | iaload =>
    simp only [mstep, s_ald] at hq
    split at hq
    · split at hq
      · rename_i ha
        split at hq
        · rename_i hc
          obtain ⟨rfl, h1, h2⟩ := hc
          exact w_ald0 C hR ha h1 h2 hd (same (Option.some.inj hq))
        · cases hq
      · cases hq
    · cases hq
  | baload =>
    simp only [mstep, s_ald] at hq
    split at hq
    · split at hq
      · rename_i ha
        split at hq
        · rename_i hc
          obtain ⟨rfl, h1, h2⟩ := hc
          exact w_ald1 C hR hf ha h1 h2 hd (same (Option.some.inj hq))
        · cases hq
      · cases hq
    · cases hq
  | laload =>
    simp only [mstep, s_alld] at hq
    split at hq
    · split at hq
      · rename_i ha
        split at hq
        · rename_i hc
          obtain ⟨rfl, h1, h2⟩ := hc
          exact w_ald4 C hR ha h1 h2 hd (same (Option.some.inj hq))
        · cases hq
      · cases hq
    · cases hq
  | aaload =>
    simp only [mstep, s_aald] at hq
    split at hq
    · split at hq
      · rename_i ha
        split at hq
        · rename_i hc
          obtain ⟨rfl, h1, h2⟩ := hc
          exact w_aldq C hR hf ha h1 h2 hd (same (Option.some.inj hq))
        · cases hq
      · cases hq
    · cases hq
  | iastore =>
    simp only [mstep, s_ast] at hq
    split at hq
    · split at hq
      · rename_i ha
        split at hq
        · rename_i hc
          obtain ⟨rfl, h1, h2, hB⟩ := hc
          cases hq
          refine w_ast0 C hR hS ha h1 h2 hB hd fun H1 locs1 g1 g2 => ?_
          have h9 := kk H1 locs1 g1 g2
          simp only [mput, Nat.sub_self] at h9
          exact h9
        · cases hq
      · cases hq
    · cases hq
  | bastore =>
    simp only [mstep, s_ast] at hq
    split at hq
    · split at hq
      · rename_i ha
        split at hq
        · rename_i hc
          obtain ⟨rfl, h1, h2, hB⟩ := hc
          cases hq
          refine w_ast1 C hR hS hf ha h1 h2 hB hd fun H1 locs1 g1 g2 => ?_
          have h9 := kk H1 locs1 g1 g2
          simp only [mput, Nat.sub_self] at h9
          exact h9
        · cases hq
      · cases hq
    · cases hq
  | lastore =>
    simp only [mstep, s_alst] at hq
    split at hq
    · split at hq
      · rename_i ha
        split at hq
        · rename_i hc
          obtain ⟨rfl, h1, h2, hB⟩ := hc
          cases hq
          refine w_ast4 C hR hS ha h1 h2 hB hd fun H1 locs1 g1 g2 => ?_
          have h9 := kk H1 locs1 g1 g2
          simp only [mput, Nat.sub_self] at h9
          exact h9
        · cases hq
      · cases hq
    · cases hq
  | aastore =>
    simp only [mstep, s_aast] at hq
    split at hq
    · split at hq
      · rename_i ha hw
        split at hq
        · rename_i hc
          obtain ⟨rfl, h1, h2, hB, ht⟩ := hc
          cases hq
          rw [hP.1] at ht
          have hv := mrf_inv hw
          subst hv
          refine w_astq C hR hS hf ha h1 h2 hB ht hd fun H1 locs1 g1 g2 => ?_
          have h9 := kk H1 locs1 g1 g2
          simp only [mput, Nat.sub_self] at h9
          exact h9
        · cases hq
      · cases hq
    · cases hq
  | checkcast k =>
    simp only [mstep] at hq
    split at hq
    · skip
      simp only [s_castO] at hq
      split at hq
      · exact lv_castN hx hb hd (same (Option.some.inj hq))
      · split at hq
        · rename_i ha
          split at hq
          · rename_i hc
            rw [hP.1] at hc
            exact w_castO C hR (hf.1 rfl) ha hc hd (same (Option.some.inj hq))
          · cases hq
        · cases hq
      · cases hq
    · rename_i hd0
      obtain ⟨ty, f1, f2⟩ := hf.2 (fun z => hd0 z)
      simp only [s_castA] at hq
      split at hq
      · exact lv_castN hx hb hd (same (Option.some.inj hq))
      · split at hq
        · rename_i ha
          split at hq
          · rename_i hc
            obtain ⟨rfl, hB⟩ := hc
            exact w_castA C hR f1 f2 ha hB hd (same (Option.some.inj hq))
          · cases hq
        · cases hq
      · cases hq
  | instanceof k =>
    simp only [mstep, s_inst] at hq
    split at hq
    · exact lv_instN hx hb hd (same (Option.some.inj hq))
    · split at hq
      · rename_i ha
        split at hq
        · rename_i hc
          rw [hP.1] at hc
          exact w_instY C hR hf ha hc hd (same (Option.some.inj hq))
        · split at hq
          · rename_i hc
            rw [hP.2.1] at hc
            exact w_instN C hR hf ha hc hd (same (Option.some.inj hq))
          · cases hq
      · cases hq
    · cases hq
  | invokespecial k =>
    simp only [mstep] at hq
    split at hq
    · split at hq
      · rename_i r hr
        have hsum := mcat_sum r
        have h1 := C.2.2.1
        obtain ⟨-, -, -, -, -, -, -, -, -, -, hRf, hRl⟩ := C
        refine W.objInit hx hb hown (hts _ hf) (hts _ q206) (hts _ q207) rfl (by rw [h1]; exact hls) rfl hd (by omega) (by show 2 * 0 + _ + 12 ≤ _; omega) (same (Option.some.inj hq))
      · cases hq
    · cases hq
  | invokestatic k =>
    have q408' : (Cond.code Lib.Math.max.name Lib.Math.max.code 2 (some .int)) ∈ lw_all := q408
    have q426' : (Cond.code Lib.Math.min.name Lib.Math.min.code 2 (some .int)) ∈ lw_all := q426
    have q1512' : (Cond.code Lib.Math.abs.name Lib.Math.abs.code 1 (some .int)) ∈ lw_all := q1512
    have hRf : 1 ≤ R.frames := Nat.le_trans (by decide) C.2.2.2.2.2.2.2.2.2.2.1
    have hRl := C.2.2.2.2.2.2.2.2.2.2.2
    rcases hf with ⟨e0, hf⟩ | ⟨e0, hf⟩ | ⟨e0, hf⟩ | ⟨e0, hf⟩
    · simp only at e0
      subst e0
      simp only [mstep, s_copy, hP.1] at hq
      split at hq
      · split at hq
        · rename_i ha hb9
          split at hq
          · rename_i hc
            obtain ⟨rfl, h1, h2, h3, h4, h5, hB, hA, hne, hr, ht, hfit⟩ := hc
            cases hq
            refine w_copyi C hR hS hf hls ha hb9 ht h1 h2 h3 h4 h5 hB hA hr hfit hd fun H1 locs1 g1 g2 => ?_
            have h9 := kk H1 locs1 g1 g2
            simp only [mput, Nat.sub_self] at h9
            exact h9
          · cases hq
        · rename_i ha hb9
          split at hq
          · rename_i hc
            obtain ⟨rfl, h1, h2, h3, h4, h5, hB, hA, hne, hr, ht, hfit⟩ := hc
            cases hq
            refine w_copyq C hR hS hf hls ha hb9 ht h1 h2 h3 h4 h5 hB hA hr hfit hd fun H1 locs1 g1 g2 => ?_
            have h9 := kk H1 locs1 g1 g2
            simp only [mput, Nat.sub_self] at h9
            exact h9
          · cases hq
        · cases hq
      · cases hq
    · simp only at e0
      subst e0
      simp only [mstep, s_mm] at hq
      split at hq
      · split at hq
        · rename_i rr hr
          have hsum := mcat_sum rr
          cases hq
          simp only [Nat.sub_self] at hcells hslots
          exact va_mmax hx hb (by rw [hls]; exact C.2.2.1) hown (hts _ hf) (hts _ q407) (hts _ q169) (hts _ q408') hRf (by omega) (by omega) (by omega) hd (same rfl)
        · cases hq
      · cases hq
    · simp only at e0
      subst e0
      simp only [mstep, s_mm] at hq
      split at hq
      · split at hq
        · rename_i rr hr
          have hsum := mcat_sum rr
          cases hq
          simp only [Nat.sub_self] at hcells hslots
          exact va_mmin hx hb (by rw [hls]; exact C.2.2.1) hown (hts _ hf) (hts _ q425) (hts _ q169) (hts _ q426') hRf (by omega) (by omega) (by omega) hd (same rfl)
        · cases hq
      · cases hq
    · simp only at e0
      subst e0
      simp only [mstep, s_ma] at hq
      split at hq
      · split at hq
        · rename_i rr hr
          have hsum := mcat_sum rr
          cases hq
          simp only [Nat.sub_self] at hcells hslots
          exact va_mabs hx hb (by rw [hls]; exact C.2.2.1) hown (hts _ hf) (hts _ q1511) (hts _ q169) (hts _ q1512') hRf (by omega) (by omega) (by omega) hd (same rfl)
        · cases hq
      · cases hq
  | invokevirtual k =>
    simp only [mstep] at hq
    split at hq
    · skip
      have hf1 := hf.1 rfl
      simp only [s_clone] at hq
      split at hq
      · split at hq
        · rename_i ha
          split at hq
          · rename_i hc
            obtain ⟨rfl, ht, hn, hB, hr, hfit⟩ := hc
            cases hq
            simp only [mnew, Nat.add_sub_cancel_left] at hcells hslots kk
            rcases hf1 with ⟨e0, hl⟩ | ⟨e0, hl⟩
            · simp only at e0
              subst e0
              exact w_clone C hR hS hl hls ha hB hr hcells hslots hd fun H1 h1 h2 => kk H1 locs h1 h2
            · simp only at e0
              subst e0
              exact w_cloneB C hR hS hl hls ha hB hr hfit hcells hslots hd fun H1 h1 h2 => kk H1 locs h1 h2
          · cases hq
        · cases hq
      · cases hq
    · rename_i hd0
      obtain ⟨e0, e1, hl⟩ := hf.2 (fun z => hd0 z)
      simp only at e0 e1
      subst e0
      subst e1
      simp only [s_gcls] at hq
      split at hq
      · split at hq
        · rename_i ha
          split at hq
          · rename_i hc
            obtain ⟨rfl, hB, hr⟩ := hc
            exact w_gcls C hR hl hls ha hB hr hd (same (Option.some.inj hq))
          · cases hq
        · cases hq
      · cases hq
  | _ => cases (show (none : Option (List Value × mH)) = some (st', h') from hq)
end MST
