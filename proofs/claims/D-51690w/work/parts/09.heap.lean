/-! MC soundness 4: the steps that touch the heap -/
set_option maxRecDepth 100000
theorem mfit_ok {ty : Nat} {t : FieldType} {v : Value} (h : mfit ty v = true) (ht : mTyc ty t) : narrow t v = v ∧ fits t v = true := by
  unfold mTyc at ht
  split at ht
  · subst ht
    cases v <;> simp [mfit] at h <;> exact ⟨rfl, rfl⟩
  · subst ht
    cases v <;> simp [mfit] at h
    rcases h with rfl | rfl <;> exact ⟨rfl, rfl⟩
  · subst ht
    cases v <;> simp [mfit] at h
    rename_i x
    refine ⟨congrArg Value.int h, ?_⟩
    have h2 := pk_fb x
    rw [h] at h2
    exact h2
  · cases t <;> simp [FieldType.isReference] at ht <;> cases v <;> simp [mfit] at h <;> exact ⟨rfl, rfl⟩
  · subst ht
    cases v <;> simp [mfit] at h <;> exact ⟨rfl, rfl⟩
  · exact ht.elim
section MHP
variable {p : Program} {l : Launch} {e : Env} {R : Room} {s : State} {m : MethodId} {args : Array Value} {below : List Frame} {meth : Method} {c : Code} {H : Heap} {locs : List Loc} {cells slots : Nat} {Q : State → Prop}
variable {D : mD} {E : mE} {own mname : String} {cc : ByteArray} {nL pc : Nat} {ls : Array Slot} {rest : List Value} {h : mH}
theorem w_getf (C : mCx p l e R s m args meth c D E own mname cc nL) (hR : mRep D E.1 s H h) {k ci n a : Nat} {fs : List Value} {v : Value} (hf : mFl own k ci n) (ha : h.1 a = some (.inr (ci, fs))) (hv : fs[n]? = some v) (hd : decode cc pc = .ok (.getfield k, 3))
    (kk : W p l e R s m args below meth c H locs cells slots Q (F0 m (pc + 3) ls (v :: rest))) : W p l e R s m args below meth c H locs cells slots Q (F0 m pc ls (.ref a :: rest)) := by
  obtain ⟨hx, hb, hml, hown, hts, hKn, hSt, -⟩ := C
  obtain ⟨r, hr, hn, hlk⟩ := hf
  obtain ⟨r', cell, q1, q2, q3, q4, q5, q6, q7, q8⟩ := hR.2.2 a _ ha
  cases hr.symm.trans q1
  obtain ⟨ty, -, ok1, ok2, ok3⟩ := mCl_ok ci r hr
  obtain ⟨hS, hfc, kC, hkC, hkind⟩ := hKn.1 ci _ hr
  obtain ⟨cf, kf, fi, f, hi, hsl⟩ := hS n hn
  have hst := (u_facts hfc hkC (u_lays hts ok3 hn) hi).1
  have hval : cell.slots[f.slot]? = some v := by
    rw [hsl, q8 n hn]
    simp [vp_V, hv]
  rcases hlk with ⟨ref, hl, hre⟩ | ⟨host, hl⟩
  · have hi2 : s.fieldFound? ref (r.2.1 n).2.1 (r.2.1 n).2.2.1 = some (cf, kf, fi, f) := by
      rcases hre with rfl | hre
      · exact hi
      · exact u_same (hts _ hre) _ hi
    exact W.getf hx hb hown (hts _ hl) hi2 hst q3 q5 hval rfl rfl hd kk
  · have hw := hKn.2.2.1 _ (List.mem_append_left _ (List.mem_map.mpr ⟨_, hl, rfl⟩))
    exact va_Wgetf hx hb hown (va_Nw.use rfl hw) hi hst q3 q5 hval rfl rfl hd kk
theorem w_putf (C : mCx p l e R s m args meth c D E own mname cc nL) (hR : mRep D E.1 s H h) (hS0 : va_S (fun q => E.1 ≤ q) s.heap H locs) {k ci n ty a : Nat} {fs : List Value} {v : Value} (hf : mFlw own mname k ci n ty) (ha : h.1 a = some (.inr (ci, fs))) (hn : n < fs.length) (hB : E.1 ≤ a) (hv : mfit ty v = true) (hd : decode cc pc = .ok (.putfield k, 3))
    (kk : ∀ (H1 : Heap) (locs1 : List Loc), mRep D E.1 s H1 (mput h a (.inr (ci, fs.set n v))) → va_S (fun q => E.1 ≤ q) s.heap H1 locs1 → W p l e R s m args below meth c H1 locs1 cells slots Q (F0 m (pc + 3) ls rest)) : W p l e R s m args below meth c H locs cells slots Q (F0 m pc ls (v :: .ref a :: rest)) := by
  obtain ⟨hx, hb, hml, hown, hts, hKn, hSt, -, -, hmn, -⟩ := C
  obtain ⟨r, tys, hr, hty, hn2, htyp, hlk⟩ := hf
  obtain ⟨r', cell, q1, q2, q3, q4, q5, q6, q7, q8⟩ := hR.2.2 a _ ha
  cases hr.symm.trans q1
  obtain ⟨ty', hty', ok1, ok2, ok3⟩ := mCl_ok ci r hr
  cases hty.symm.trans hty'
  obtain ⟨hS, hfc, kC, hkC, hkind⟩ := hKn.1 ci _ hr
  obtain ⟨cf, kf, fi, f, hi, hsl⟩ := hS n hn2
  have hst := (u_facts hfc hkC (u_lays hts ok3 hn2) hi).1
  obtain ⟨hnar, hfit⟩ := mfit_ok hv htyp
  have hap : ∀ x y, x < r.2.2 → y < r.2.2 → x ≠ y → (D.1.2 ci) x ≠ (D.1.2 ci) y := by
    intro x y hx hy hne
    obtain ⟨_, _, _, fa, hia, ea⟩ := hS x hx
    obtain ⟨_, _, _, fb, hib, eb⟩ := hS y hy
    rw [← ea, ← eb]
    refine u_apart (u_lays hts ok3 hx) (u_lays hts ok3 hy) hia hib ?_
    rw [(State.fieldFound?_type hia (ok1 x hx)).1, (State.fieldFound?_type hib (ok1 y hy)).1]
    exact ok2 x hx y hy hne
  have hlay := hts _ (ok3 _ (u_in_lay hn2))
  have fin : ∀ H' : Heap, H'[a]? = some (cell.setSlot f.slot v) → H'.size = H.size → (∀ q, q ≠ a → H'[q]? = H[q]?) → W p l e R s m args below meth c H' (locs ++ [⟨a, f.slot⟩]) cells slots Q (F0 m (pc + 3) ls rest) := by
    intro H' e1 e2 e3
    refine kk H' _ (hR.put e2 e3 ⟨r, _, hr, by rw [List.length_set]; exact q2, e1, q4, q5, q6, q7, fun j hj => ?_⟩) (hS0.put e2 e3 hB)
    have h9 := t_set q8 hap hn2 v j hj
    rw [← hsl] at h9
    rw [h9]
    exact congrArg some (vp_updV_set hn v j)
  rcases hlk with ⟨hfin, hl⟩ | ⟨hfin, hin, hdecl, hl⟩
  · unfold u_lay at hlay
    rw [if_neg (by rw [hfin]; decide)] at hlay
    have h6 := u_store hfc hkC hkind hlay hi (ok1 n hn2) hnar hfit
    rcases hl with ⟨ref, hl, hre⟩ | ⟨host, hl⟩
    · have hi2 : s.fieldFound? ref (r.2.1 n).2.1 (r.2.1 n).2.2.1 = some (cf, kf, fi, f) := by
        rcases hre with rfl | hre
        · exact hi
        · exact u_same (hts _ hre) _ hi
      exact W.putK hx hb (f := f) ⟨hown, hts _ hl, ⟨_, _, _, hi2⟩, hst⟩ (by rw [q4]; exact h6) q3 (q7 hB) (by rw [hsl]; exact k2_hasslot (q8 n hn2)) rfl rfl hd fin
    · have hw := hKn.2.2.1 _ (List.mem_append_left _ (List.mem_map.mpr ⟨_, hl, rfl⟩))
      exact va_WputK hx hb (f := f) hown (va_Nw.use rfl hw) hi hst (by rw [q4]; exact h6) q3 (q7 hB) (by rw [hsl]; exact k2_hasslot (q8 n hn2)) rfl rfl hd fin
  · unfold u_lay at hlay
    rw [if_pos hfin] at hlay
    have hcf : m.cls = cf := by
      obtain ⟨_, _, c', _, _, _, -, -, hf', -, -, -, hown2, -⟩ := Cond.laysFinal_spec hlay
      have e1 : c' = cf := by have := hi.symm.trans hf'; simp at this; exact this.1.symm
      rw [hdecl] at hown2
      rw [← e1]; exact Option.some.inj (hown.symm.trans hown2)
    have h6 := u_fits hfc hkC hkind (Or.inr hlay) hi (ok1 n hn2) hnar hfit
    exact W.putFinK hx hb hown (hts _ hl) hi hst hcf (by rw [hmn]; exact hin) (by rw [q4]; exact h6) q3 (q7 hB) (by rw [hsl]; exact k2_hasslot (q8 n hn2)) rfl rfl hd fin
theorem w_new (C : mCx p l e R s m args meth c D E own mname cc nL) (hR : mRep D E.1 s H h) (hS0 : va_S (fun q => E.1 ≤ q) s.heap H locs) {k ci : Nat} {r : vw_C} (hr : mCl[ci]? = some r) (hn0 : r.2.2 ≠ 0) (h1 : Cond.classLink own k r.1 ∈ lw_all) (h2 : Cond.instantiable r.1 r.2.2 ∈ lw_all) (h3 : Cond.initialized r.1 ∈ lw_all) (hd : decode cc pc = .ok (.new k, 3))
    (hcells : cells + 1 ≤ R.cells) (hslots : slots + (mDf ci).length ≤ R.slots)
    (kk : ∀ (H1 : Heap), mRep D E.1 s H1 (mnew h (.inr (ci, mDf ci)) (mDf ci).length) → va_S (fun q => E.1 ≤ q) s.heap H1 locs → W p l e R s m args below meth c H1 locs (cells + 1) (slots + (mDf ci).length) Q (F0 m (pc + 3) ls (.ref h.2.1 :: rest))) : W p l e R s m args below meth c H locs cells slots Q (F0 m pc ls rest) := by
  obtain ⟨hx, hb, hml, hown, hts, hKn, hSt, -⟩ := C
  obtain ⟨ty, hty, ok1, ok2, ok3⟩ := mCl_ok ci r hr
  have hKc := hKn.1 ci _ hr
  have hdf : r.2.2 ≠ 0 → (mDf ci).length = r.2.2 ∧ ∀ j, j < r.2.2 → defaultValue (ty j) = vp_V (mDf ci) j := by
    have hl : ci < 22 := (List.getElem?_eq_some_iff.mp hr).1
    have : ∀ c, c < 22 → (match mCl[c]?, mClT[c]? with
      | some r, some ty => decide (r.2.2 ≠ 0 → (mDf c).length = r.2.2 ∧ ∀ j, j < r.2.2 → defaultValue (ty j) = vp_V (mDf c) j)
      | _, _ => false) = true := by decide +kernel
    have h9 := this ci hl
    rw [hr, hty] at h9
    exact of_decide_eq_true h9
  obtain ⟨hdl, hdv⟩ := hdf hn0
  rw [hdl] at hslots kk
  refine W.newcK hx hb hown (hts _ h1) (hts _ h2) (hts _ h3) rfl hd hcells hslots hKc.2.1 rfl fun H1 kC hkC e1 z1 o1 => ?_
  obtain ⟨cell, b1, b2, b3, b4⟩ := (u_born ty hts ok3 hKc hkC e1 ok1).to hdv
  have hB : E.1 ≤ H.size := by rw [hR.1]; exact hR.2.1
  have hrep := hR.push (H1 := H1) (c := .inr (ci, mDf ci)) (k := r.2.2) z1 o1 ⟨r, cell, hr, hdl, b1, b2, (by rw [b3]; exact fun z => nomatch z), (by rw [b3]; rfl), fun _ => b3, b4⟩
  have hk := kk H1 hrep ⟨Nat.le_trans hS0.1 (by omega), fun x y1 y2 => (o1 x (Nat.lt_of_lt_of_le y1 hS0.1)).trans (hS0.2.1 x y1 y2), hS0.2.2⟩
  rw [← hR.1] at hk
  exact hk
end MHP
