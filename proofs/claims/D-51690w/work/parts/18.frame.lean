/-! MC soundness 13: bodies with one fuel more -/
set_option maxRecDepth 100000
theorem mcal_cat {P : mP} {x : mI} {st : List Value} {h : mH} {z : Nat} {as rest : List Value} (hq : mcal P x st h = some (z, as, rest)) : (∀ v ∈ as, v.category = 1) ∧ rest.length ≤ 4 := by
  have key : ∀ (n : Nat) (st as rest : List Value), marg n st = some (as, rest) → (∀ v ∈ as, v.category = 1) ∧ rest.length ≤ 4 := by
    intro n st as rest h
    unfold marg at h
    split at h
    · rename_i hn
      cases h
      refine ⟨fun v hv => ?_, by rw [List.length_drop]; omega⟩
      have := List.all_eq_true.mp hn.2.2 v (List.mem_reverse.mp hv)
      exact eq_of_beq this
    · cases h
  unfold mcal at hq
  split at hq
  · split at hq
    · rename_i h1
      cases hq
      exact key _ _ _ _ h1
    · cases hq
  · split at hq
    · rename_i h1
      split at hq
      · cases hq
        exact key _ _ _ _ h1
      · cases hq
    · cases hq
  · split at hq
    · rename_i h1
      split at hq
      · split at hq
        · cases hq
          exact key _ _ _ _ h1
        · cases hq
      · cases hq
    · cases hq
  · split at hq
    · rename_i h1
      split at hq
      · split at hq
        · cases hq
          exact key _ _ _ _ h1
        · cases hq
      · cases hq
    · cases hq
  · cases hq
theorem mS_on {E : mE} {s t : State} {H : Heap} {locs L : List Loc} (hS : va_S (fun q => E.1 ≤ q) s.heap H locs) {st : State} (hst : st.heap = H) (hF : va_F (fun q => E.1 ≤ q) st t) (hL : ∀ z ∈ L, E.1 ≤ z.base) : va_S (fun q => E.1 ≤ q) s.heap t.heap (locs ++ L) := by
  obtain ⟨h1, h2⟩ := hF
  rw [hst] at h1 h2
  refine ⟨Nat.le_trans hS.1 h1, fun q hq hn => (h2 q (Nat.lt_of_lt_of_le hq hS.1) hn).trans (hS.2.1 q hq hn), fun z hz => ?_⟩
  rcases List.mem_append.mp hz with h | h
  · exact hS.2.2 z h
  · exact hL z h
section MFS
variable {l : Launch} {P : mP} {G : mG} {D : mD} {E : mE} {n : Nat}
set_option maxHeartbeats 4000000 in
theorem m_frame (hl : l.stackTraces = false) (hA : mAll P G) (hF : mFr l P G D E n) : mFr l P G D E (n + 1) := by
  intro y t al st h r hr p e R s m args below meth c H locs cells slots ls mc ms Qc XC C htab hret hRf hRl hL hR hS hcells hslots hmc hms hQ hX
  have hne : mcode P y t ≠ [] := mX_ne (show mX E P (mF E P n) y (mcode P y t) al st h = some r from hr)
  obtain ⟨-, hhf, hbk⟩ := hA.2 y t hne
  have hr' : mX E P (mF E P n) y (mcode P y t) al st h = some r := hr
  have hb := hbk t
  clear hr hbk hne
  generalize mcode P y t = is at hr' hb
  have hP := hA.1
  induction is generalizing t al st h H locs cells slots ls with
  | nil => cases hr'
  | cons x is ih =>
    obtain ⟨hI, hb⟩ := hb
    have hend := mX_grow (mF_grow n) _ _ _ _ _ hr'
    obtain ⟨i, kd, a, b, d⟩ := x
    have hls := hL.2.1
    unfold mX at hr'
    dsimp only at hr'
    split at hr'
    · -- straight
      rename_i hk
      obtain ⟨hd, hf⟩ := hI
      split at hr'
      · rename_i s1 hs1
        obtain ⟨st', h'⟩ := s1
        have g1 := mstep_grow hs1
        have g2 := mX_grow (mF_grow n) _ _ _ _ _ hr'
        have g3 := g2.1
        dsimp only at g1 g3
        refine mstep_sound hs1 hP C hd hf hR hS hls (by omega) (by omega) fun H1 locs1 hR1 hS1 => ?_
        exact ih _ _ _ _ _ _ _ _ _ hL hR1 hS1 (by omega) (by omega) (by omega) (by omega) hr' hb
      · cases hr'
    · -- loads and stores
      split at hr'
      · rename_i s1 hs1
        refine mloc_sound hs1 C.1 C.2.1 hI hL fun ls' hL' => ?_
        exact ih _ _ _ _ _ _ _ _ _ hL' hR hS hcells hslots hmc hms hr' hb
      · cases hr'
    · -- jumps
      obtain ⟨hd, hJ⟩ := hI
      split at hr'
      · rename_i r1 t1 hj
        refine mjmp_sound hj C.1 C.2.1 hd hJ (fun t2 ht => ?_) (fun ht => by cases ht)
        cases ht
        exact hF _ _ _ _ _ _ hr' p e R s m args below meth c H locs cells slots ls mc ms Qc XC C htab hret hRf hRl hL hR hS hcells hslots hmc hms hQ hX
      · rename_i r1 hj
        refine mjmp_sound hj C.1 C.2.1 hd hJ (fun t2 ht => by cases ht) (fun _ => ?_)
        exact ih _ _ _ _ _ _ _ _ _ hL hR hS hcells hslots hmc hms hr' hb
      · cases hr'
    · -- calls
      obtain ⟨hd, hpc, hsite⟩ := hI
      dsimp only at hd hpc
      split at hr'
      · rename_i z as rest hcal
        obtain ⟨⟨hlev, hlv9⟩, hmax, hlen, hst⟩ := hsite st h z as rest hcal
        obtain ⟨hcat, hrest⟩ := mcal_cat hcal
        obtain ⟨r1, hrun⟩ : ∃ r1, mF E P n (z, 0, mEnt P z as, [], h) = some r1 := by
          cases hz : mF E P n (z, 0, mEnt P z as, [], h) with
          | none => rw [hz] at hr'; cases hr'
          | some r1 => exact ⟨r1, rfl⟩
        have hzne : mcode P z 0 ≠ [] := by
          cases n with
          | zero => cases hrun
          | succ n => exact mX_ne hrun
        obtain ⟨-, hcwz, hiniz⟩ := (hA.2 z 0 hzne).1 hlv9
        have hM := m_meet hl hA hF hrun hcat hlen hlv9
        have g1 := (mF_grow n _ _ hrun)
        have g2 := g1.1
        dsimp only at g2
        have g3 : r1.2.2.1 ≤ r.2.2.1 ∧ r1.2.2.2 ≤ r.2.2.2 := by
          rw [hrun] at hr'
          split at hr'
          · rename_i h9
            cases h9
            exact (mX_grow (mF_grow n) _ _ _ _ _ hr').1
          · rename_i h9
            cases h9
            split at hr'
            · exact (mF_grow n _ _ hr').1
            · cases hr'; exact ⟨Nat.le_refl _, Nat.le_refl _⟩
            · cases hr'
          · cases hr'
        intro T hT X
        have hR9 : mRep D E.1 s T.heap h := by rw [hT]; exact hR
        have hts := C.2.2.2.2.1
        have hws : ∀ w ∈ mCw P G z :: lw_all, ∀ (a' : Array Value) (U : State), s.WarmedH U.vm → w.before a' U = true := by
          intro w hw a' U hW
          have hw' : w ∈ lw_all := by
            rcases List.mem_cons.mp hw with rfl | hw
            · exact hcwz
            · exact hw
          exact word_at hW (good_of_word (List.mem_filter.mp hw').2) (hts w hw')
        have hcodeW : Cond.code (gN G z) (gB G z) (mmax P z) (gR G z) ∈ mCw P G z :: lw_all ∨ Cond.codeWith (gN G z) (gB G z) (mmax P z) (gR G z) (gH G z) ∈ mCw P G z :: lw_all := by
          cases hg : gH G z with
          | nil => exact Or.inl (List.mem_cons.mpr (Or.inl (by unfold mCw; rw [hg])))
          | cons a9 as9 => exact Or.inr (List.mem_cons.mpr (Or.inl (by unfold mCw; rw [hg])))
        have hback := mq_back (R := R) (p := p) (e := e) (below := below) (s := s) (sargs := args) (len := mlen i) (W9 := 8) hM mPc_blind rfl rfl (by show gL G z + 10 + 1 ≤ R.frames; omega) (by show 8 + (mmax P z + 11) + (64 * gL G z + 400) ≤ R.locals; omega) hws hcodeW
          (fun a' U hW => word_at hW (good_of_word (List.mem_filter.mp hiniz).2) (hts _ hiniz))
        have hcall := hst p l e R s m args below meth c T locs cells slots D E _ _ _ (F0 m t ls st) X C hR9 rfl (by show ls.size = c.maxLocals; rw [hls, C.2.2.1]) rfl (by show decode c.code t = _; rw [C.2.1]; exact hd)
        have hsum := mcat_sum rest
        rcases hcall 8 _ _ _ hback (by show 2 * 0 + _ ≤ 8; omega) (fun vm₁ hW => ⟨by show cells + (r1.2.2.1 - h.2.1) ≤ R.cells; omega, by show slots + (r1.2.2.2 - h.2.2) ≤ R.slots; omega, rfl, hR9.moved hW.alike, C.2.2.2.2.2.1.warm hW, by
            have h9 : mSt E s T.heap := by rw [hT]; exact C.2.2.2.2.2.2.1.kept hS.2.1
            exact h9.moved hW.alike⟩) with ⟨v, vm₁, B, hW, X', ⟨g9, mk, t9, L, e1, e2, hq9, eL, hfree, ec, es⟩, hsteps⟩ | ⟨q, vm₁, B, hW, X', ⟨g9, mk, t9, L, e1, e2, hq9, eL, hfree, ec, es⟩, hsteps⟩
        · obtain ⟨v9, ev, er, hR1, hF1⟩ := hq9
          cases ev
          obtain ⟨o1, h1⟩ := r1
          dsimp only at er
          subst er
          rw [hrun] at hr'
          dsimp only at hr' g2 g3 hR1 ec es
          have hS1 := mS_on (E := E) hS (st := ((T.setVm vm₁).calling g9 mk as.toArray)) hT hF1 hfree
          have hR2 : mRep D E.1 s t9.heap h1 := hR1.moved (u := ((T.setVm vm₁).calling g9 mk as.toArray)) hW.alike.symm
          rw [eL, ec, es] at X'
          obtain ⟨t8, a8, b8⟩ := ih _ _ _ _ t9.heap (locs ++ L) (cells + (h1.2.1 - h.2.1)) (slots + (h1.2.2 - h.2.2)) ls hL hR2 hS1 (by omega) (by omega) (by omega) (by omega) hr' hb B.U e1 X'
          exact ⟨t8, hsteps _ a8, b8⟩
        · obtain ⟨er, hR1, hF1⟩ := hq9
          obtain ⟨o1, h1⟩ := r1
          dsimp only at er
          subst er
          rw [hrun] at hr'
          dsimp only at hr' g2 g3 hR1 ec es
          have hS1 := mS_on (E := E) hS (st := ((T.setVm vm₁).calling g9 mk as.toArray)) hT hF1 hfree
          have hR2 : mRep D E.1 s t9.heap h1 := hR1.moved (u := ((T.setVm vm₁).calling g9 mk as.toArray)) hW.alike.symm
          obtain ⟨ci, fs, hqk⟩ := g1.2 q rfl
          dsimp only at hqk
          rw [eL, ec, es] at X'
          rw [hP.1, hP.2.1, hpc] at hr'
          have kk : vx_W p l e R s m args below meth c t9.heap (locs ++ L) (cells + (h1.2.1 - h.2.1)) (slots + (h1.2.2 - h.2.2)) (mqMQ below Qc XC args s mc ms (fun q => E.1 ≤ q)) (F0 m t ls rest) q := by
            split at hr'
            · rename_i t2 hcat2
              refine mq_catch C htab hhf hR2 hqk hcat2 ?_
              exact hF _ _ _ _ _ _ hr' p e R s m args below meth c t9.heap (locs ++ L) _ _ ls mc ms Qc XC C htab hret hRf hRl hL hR2 hS1 (by omega) (by omega) (by omega) (by omega) hQ hX
            · rename_i hcat2
              cases hr'
              exact mq_out C htab hhf hR2 hqk hcat2 (fun t ht hW9 => hX q t rfl hW9 (by rw [ht]; exact hR2) (hS1.F ht)) hS1.2.2 (by omega) (by omega)
            · cases hr'
          obtain ⟨t8, a8, b8⟩ := kk B.U e1 X'
          exact ⟨t8, hsteps.trans a8, b8⟩
      · cases hr'
    · -- returns
      obtain ⟨hd, hrf⟩ := hI
      obtain ⟨e1, v, e2⟩ := mret_grow hr'
      have e3 : cells ≤ mc := by omega
      have e4 : slots ≤ ms := by omega
      refine W.widen e3 e4 (mret_sound (D := D) (E := E) hr' C hd (by rw [hret]; exact hrf) hS.2.2 fun v t er ht hW => ?_)
      exact hQ v t (by rw [er]) hW (by rw [e1, ht]; exact hR) (hS.F ht)
    · -- throws of new ones
      obtain ⟨hd, hf⟩ := hI
      split at hr'
      · split at hr'
        · rename_i hh
          rw [hh] at hhf
          cases hr'
          dsimp only [mnew] at hcells hslots hmc hms
          refine w_throw0 C hd hf hR hS hls (by rw [htab, mHf_nil hhf]; rfl) (by omega) (by omega) (by omega) (by omega) hS.2.2 fun t hW hR1 hS1 => ?_
          exact hX _ t rfl hW hR1 (hS1.F rfl)
        · cases hr'
      · cases hr'
    · -- throws of known ones
      split at hr'
      · split at hr'
        · rename_i hk hh
          rw [hh] at hhf
          cases hr'
          refine vx_athrow C.1 C.2.1 hI (mq_out C htab hhf hR hk rfl (fun t ht hW9 => hX _ t rfl hW9 (by rw [ht]; exact hR) (hS.F ht)) hS.2.2 (by omega) (by omega))
        · cases hr'
      · cases hr'
    · -- on
      have hI' : a = t := hI
      subst hI'
      exact hF _ _ _ _ _ _ hr' p e R s m args below meth c H locs cells slots ls mc ms Qc XC C htab hret hRf hRl hL hR hS hcells hslots hmc hms hQ hX
    · cases hr'
theorem m_frames (hl : l.stackTraces = false) (hA : mAll P G) : ∀ n, mFr l P G D E n := by
  intro n
  induction n with
  | zero => intro y t al st h r hr; cases hr
  | succ n ih => exact m_frame hl hA ih
/-- THE SOUNDNESS of the machine's runs -/
theorem m_sound (hl : l.stackTraces = false) (hA : mAll P G) {z : Nat} {as : List Value} {h : mH} {r : mR} (hz : mRun E P z as h = some r) (hc : ∀ v ∈ as, v.category = 1) (hlen : as.length ≤ mmax P z) (h100 : gL G z < 100) : mOkM l P G D E z as h r := by
  obtain ⟨n, hn⟩ := mV_iff.mp hz
  exact m_meet hl hA (m_frames hl hA n) hn hc hlen h100
end MFS
