/-! MC component 24: acts: the past, refusals -/
set_option maxRecDepth 100000
/-- the literals are known, wherever nothing below E.1 is written -/
def WD (E : mE) (h : mH) : Prop := ∀ g : mH, (∀ q, q < E.1 → g.1 q = h.1 q) → words E g ∧ (∀ op : Nat, op ≤ 4 → ∃ (v : Nat) (z : Int), strK g (E.2 (10 + op)) (wOf op) v (hashS (wOf op)) z ∧ E.2 (10 + op) < E.1 ∧ v < E.1) ∧ ∃ v : Nat, strK g (E.2 15) [] v 0 1 ∧ E.2 15 < E.1 ∧ v < E.1
theorem WD.w {E : mE} {h : mH} (hW : WD E h) : words E h := (hW h (fun _ _ => rfl)).1
theorem WD.fr {E : mE} {h h' : mH} (hW : WD E h) (he : ∀ q, q < E.1 → h'.1 q = h.1 q) : WD E h' := fun g hg => hW g (fun q hq => (hg q hq).trans (he q hq))
theorem opP_lo {F : Int → Int} (hF : WF F) {op a b c : Int} : -8 ≤ (opP F op a b c).2.1 := by
  unfold opP
  split
  · unfold passP
    split
    · unfold aPass
      split
      · show (-8 : Int) ≤ -8; omega
      · have := passN_13 hF a.toNat
        show (-8 : Int) ≤ passN F a.toNat 13 - F 13
        omega
    · show (-8 : Int) ≤ 0; omega
  · split
    · unfold stepP
      split
      · split
        · unfold aStep
          split
          · have := nextC_r hF (F (132 + 6 * a)) b
            show (-8 : Int) ≤ nextC F (F (132 + 6 * a)) b
            omega
          · have := whyStep_r (F := F) (k := a) (d := b)
            show (-8 : Int) ≤ -whyStep F a b
            omega
        · show (-8 : Int) ≤ 0; omega
      · show (-8 : Int) ≤ 0; omega
    · split
      · unfold pickP
        split
        · unfold aPick
          split
          · have := cN_r (g := fun l => bz (pickF F a b (156 + 6 * l + 2) = 1 ∧ pickF F a b (156 + 6 * l + 4) = a)) (fun _ => bz_2) (pickF F a b 6).toNat
            show (-8 : Int) ≤ carried (pickF F a b) a
            unfold carried
            omega
          · show (-8 : Int) ≤ -whyPick F a b
            unfold whyPick
            repeat' split
            all_goals omega
        · show (-8 : Int) ≤ 0; omega
      · split
        · unfold giveP
          split
          · unfold aGive
            split
            · have := cN_r (g := fun l => bz (giveF F b c (156 + 6 * l + 2) = 1 ∧ giveF F b c (156 + 6 * l + 4) = b)) (fun _ => bz_2) (giveF F b c 6).toNat
              show (-8 : Int) ≤ carried (giveF F b c) b
              unfold carried
              omega
            · have := whyGive_r (F := F) (k := a) (o := b) (l := c)
              show (-8 : Int) ≤ -whyGive F a b c
              omega
          · show (-8 : Int) ≤ 0; omega
        · unfold layP
          split
          · unfold aLay
            split
            · split
              · show (-8 : Int) ≤ 1; omega
              · show (-8 : Int) ≤ 0; omega
            · show (-8 : Int) ≤ -5; omega
          · show (-8 : Int) ≤ 0; omega
/-- a refused act leaves the row -/
theorem opP_ref {F : Int → Int} (hF : WF F) {op a b c : Int} (hv : (opP F op a b c).2.1 < 0) : (opP F op a b c).2.2 = F := by
  revert hv
  unfold opP
  split
  · unfold passP
    split
    · unfold aPass
      split
      · intro _; rfl
      · have := passN_13 hF a.toNat
        intro hv
        have hv' : passN F a.toNat 13 - F 13 < 0 := hv
        omega
    · intro _; rfl
  · split
    · unfold stepP
      split
      · split
        · unfold aStep
          split
          · rename_i e2
            have q := nextC_r hF (F (132 + 6 * a)) b
            intro hv
            have hv' : nextC F (F (132 + 6 * a)) b < 0 := hv
            unfold whyStep at e2
            split at e2
            · omega
            · split at e2
              · omega
              · omega
          · intro _; rfl
        · intro _; rfl
      · intro _; rfl
    · split
      · unfold pickP
        split
        · unfold aPick
          split
          · have := cN_r (g := fun l => bz (pickF F a b (156 + 6 * l + 2) = 1 ∧ pickF F a b (156 + 6 * l + 4) = a)) (fun _ => bz_2) (pickF F a b 6).toNat
            intro hv
            have hv' : carried (pickF F a b) a < 0 := hv
            unfold carried at hv'
            omega
          · intro _; rfl
        · intro _; rfl
      · split
        · unfold giveP
          split
          · unfold aGive
            split
            · have := cN_r (g := fun l => bz (giveF F b c (156 + 6 * l + 2) = 1 ∧ giveF F b c (156 + 6 * l + 4) = b)) (fun _ => bz_2) (giveF F b c 6).toNat
              intro hv
              have hv' : carried (giveF F b c) b < 0 := hv
              unfold carried at hv'
              omega
            · intro _; rfl
          · intro _; rfl
        · unfold layP
          split
          · unfold aLay
            split
            · split
              · intro hv
                have hv' : (1 : Int) < 0 := hv
                omega
              · intro hv
                have hv' : (0 : Int) < 0 := hv
                omega
            · intro _; rfl
          · intro _; rfl
theorem doW_n {w : Nat → Int → Int} {s : Int × Int × (Int → Int)} {i : Nat} (h0 : i ≠ 0) (h2 : i ≠ 2) (h5 : i ≠ 5) (h6 : i ≠ 6) : doW w s i = w i := by
  unfold doW
  split
  · rw [wu_n h0]
    unfold actW
    split
    · exact wu_n h5
    · unfold keptW
      rw [wu_n h6, wu_n h2]
  · rfl
section UA
variable {E : mE} {h : mH} {z : Nat → Nat} {w : Nat → Int → Int} {cm N na : Nat} {v p : Int} {U : Int → Nat} {xs : List Value}
theorem L116_31 (hE : E.1 ≤ z 0 ∧ E.1 ≤ z 1 ∧ E.1 ≤ z 6) (h01 : z 0 ≠ z 1) (h06 : z 0 ≠ z 6) (hx : h.1 (z 0) = some (.inr (0, .ref na :: .ref (z 1) :: xs))) (hq : DQ h (z 1) (z 6) p (w 6 0) U) (hn : 0 ≤ w 6 0 ∧ w 6 0 ≤ 6) (hU : ∀ i, 0 ≤ i → i < w 6 0 → ∃ fs, h.1 (U i) = some (.inr (1, fs))) (hna : ∃ fs, h.1 na = some (.inr (1, fs))) : ∃ (h3 : mH) (p' : Int) (U' : Int → Nat), mV E gP (116, 31, [some (.ref (z 0)), some (.ref cm), some (.ref N), some (.int (Int32.ofInt v)), none], [], h) = some (.inl (some (.int (Int32.ofInt v))), h3) ∧ h3.1 (z 0) = some (.inr (0, .ref N :: .ref (z 1) :: xs)) ∧ DQ h3 (z 1) (z 6) p' (kA (w 6 0) + 1) U' ∧ (∀ i, U' i = if i = kA (w 6 0) then na else if w 6 0 = 6 then U (i + 1) else U i) ∧ (∀ q, q ≠ z 0 → q ≠ z 1 → q ≠ z 6 → h3.1 q = h.1 q) ∧ h3.2 = h.2 := by
  have r27 := R27 (E := E) hq
  have qc : g_cls (h.1 (z 1)) = some 14 := by
    obtain ⟨g, a1, -⟩ := hq
    rw [a1]; rfl
  obtain ⟨nf, hna⟩ := hna
  by_cases e : w 6 0 = 6
  · have k5 : kA (w 6 0) = 5 := if_pos e
    obtain ⟨g1, r25, d25, f25, s25⟩ := R25 (E := E) hE.2.1 hE.2.2 hq (by omega)
    obtain ⟨uf, hu⟩ := hU 0 (by omega) (by omega)
    have u1 : U 0 ≠ z 1 := fun y => by rw [y] at hu; rw [hu] at qc; cases qc
    have u6 : U 0 ≠ z 6 := fun y => by
      obtain ⟨g, -, a2, -⟩ := hq
      rw [y, a2] at hu
      cases hu
    have hu1 : g1.1 (U 0) = some (.inr (1, uf)) := (f25 _ u1 u6).trans hu
    have n1 : na ≠ z 1 := fun y => by rw [y] at hna; rw [hna] at qc; cases qc
    have n6 : na ≠ z 6 := fun y => by
      obtain ⟨g, -, a2, -⟩ := hq
      rw [y, a2] at hna
      cases hna
    have x1 : g1.1 (z 0) = some (.inr (0, .ref na :: .ref (z 1) :: xs)) := (f25 _ h01 h06).trans hx
    have qc1 : g_cls (g1.1 (z 1)) = some 14 := by
      obtain ⟨g, a1, -⟩ := d25
      rw [a1]; rfl
    obtain ⟨g2, r22, d22, f22, s22⟩ := R22 (E := E) (v := na) hE.2.1 hE.2.2 d25 ⟨1, nf, (f25 _ n1 n6).trans hna, by decide +kernel⟩ (by omega)
    have x2 : g2.1 (z 0) = some (.inr (0, .ref na :: .ref (z 1) :: xs)) := (f22 _ h01 h06).trans x1
    rw [e] at r27
    have fin : ∃ (p' : Int) (U' : Int → Nat), DQ g2 (z 1) (z 6) p' (kA (w 6 0) + 1) U' ∧ ∀ i, U' i = if i = kA (w 6 0) then na else if w 6 0 = 6 then U (i + 1) else U i := by
      rw [k5]
      rw [e] at d22
      exact ⟨_, _, d22, fun i => by rw [if_pos e]; rfl⟩
    obtain ⟨p', U', df, hf⟩ := fin
    refine ⟨mput g2 (z 0) (.inr (0, .ref N :: .ref (z 1) :: xs)), p', U', ?_, h_ps, ?_, hf, fun q a b c => ?_, ?_⟩
    · rw [lb116_31]
      simp -implicitDefEqProofs (disch := first | assumption | omega | exact sub_5 | exact sub_16 | exact sub_1 | exact sub_3 | exact sub_4 | exact sub_6 | exact sub_7 | exact i8_r | exact cat1_rf | exact cat_rf | exact mf_20 | exact cat1_i | exact cat1_r | exact cat1_n | exact cat_i | exact cat_r | exact cat_n | exact mf_0 | exact mf_4 | exact mf_4n | exact mf_10 | exact mf_11 | exact mnd_0 | exact mnd_i | exact mnd_r | exact mnd_n | exact mnd_f | exact bz_r | exact bz_01 | (simp only [List.length_cons, List.length_nil] <;> omega) | (simp only [wu, Nat.reduceEqDiff, if_true, if_false] <;> first | assumption | omega) | (simp only [h_n1, h_p1] <;> omega)) only [Int.reduceToNat, Nat.reduceDiv, Nat.reduceMod, Nat.reduceAdd, Nat.reduceSub, Int.reduceNeg, Int.reduceAdd, Int.reduceSub, Int.reduceMul, Int.reduceLT, Int.reduceLE, if_true, if_false, List.length_cons, List.length_nil, bz_z, fin_0, fin_1, fin_2, fin_3, x_0, x_Ts, x_Ss, x_iinc, x_iload_n, x_iload, x_lload_n, x_lload, x_fload_n, x_fload, x_dload_n, x_dload, x_aload_n, x_aload, x_istore_n, x_istore, x_astore_n, x_astore, x_fstore_n, x_fstore, x_dstore_n, x_dstore, x_lstore_n, x_lstore, m_iconst, m_bipush, m_sipush, m_ldci, m_ldcr, m_ldcw, m_null, m_gsi, m_gsr, m_add, m_sub, m_mul, m_neg, m_div, m_rem, m_max, m_min, m_abs, m_pop, m_dup, m_dupx1, m_dupx2, m_dup2, m_getf, m_putf, g_puts, m_iald, m_bald, g_alds, m_iast, m_bast, g_asti, g_astz, m_alen, g_lens, m_new, m_newi, m_oinit, h_ps, h_pn, h_ns, h_nn, h_p1, h_n1, h_n2, h_pp, x_goto, x_if, x_icmp, x_nullr, x_nulln, x_nnr, x_nnn, x_fall, z_eq, z_ne, z_lt, z_ge, z_gt, z_le, c_eq, c_ne, c_lt, c_ge, c_gt, c_le, x_ret, x_iret, x_aret, x_nret, x_zret, x_Rv, x_Rn, x_Rx, g_clss, x_Ws, x_Ks, x_cs0, x_cs1, x_cs2, x_cs3, x_cs4, x_cs5, x_cv0, x_cv1, x_cv2, x_cv3, x_cv4, x_ci0, x_ci1, x_ci2, x_ci3, x_ci4, x_cp0, x_cp1, x_cp2, x_cp3, x_cp4, ldi_0, lda_0, ldf_0, ldl_0, ldd_0, ldi_1, lda_1, ldf_1, ldl_1, ldd_1, ldi_2, lda_2, ldf_2, ldl_2, ldd_2, ldi_3, lda_3, ldf_3, ldl_3, ldd_3, ldi_4, lda_4, ldf_4, ldl_4, ldd_4, ldi_5, lda_5, ldf_5, ldl_5, ldd_5, ldi_6, lda_6, ldf_6, ldl_6, ldd_6, ldi_7, lda_7, ldf_7, ldl_7, ldd_7, ldi_8, lda_8, ldf_8, ldl_8, ldd_8, ldi_9, lda_9, ldf_9, ldl_9, ldd_9, ldi_10, lda_10, ldf_10, ldl_10, ldd_10, ldi_11, lda_11, ldf_11, ldl_11, ldd_11, ldi_12, lda_12, ldf_12, ldl_12, ldd_12, ldi_13, lda_13, ldf_13, ldl_13, ldd_13, ldn_0, ldn_1, ldn_2, ldn_3, ldn_4, ldn_5, ldn_6, ldn_7, ldn_8, ldn_9, ldn_10, ldn_11, ldn_12, ldn_13, sti_0, sta_0, stf_0, sti_1, sta_1, stf_1, sti_2, sta_2, stf_2, sti_3, sta_3, stf_3, sti_4, sta_4, stf_4, sti_5, sta_5, stf_5, sti_6, sta_6, stf_6, sti_7, sta_7, stf_7, sti_8, sta_8, stf_8, sti_9, sta_9, stf_9, sti_10, sta_10, stf_10, sti_11, sta_11, stf_11, sti_12, sta_12, stf_12, sti_13, sta_13, stf_13, stn_0, stn_1, stn_2, stn_3, stn_4, stn_5, stn_6, stn_7, stn_8, stn_9, stn_10, stn_11, stn_12, stn_13, inc_0, inc_1, inc_2, inc_3, inc_4, inc_5, inc_6, inc_7, inc_8, inc_9, inc_10, inc_11, inc_12, inc_13, sw19_2, sw71_2, sw75_39, sw125_11, sw127_18, sw130_17, sw135_20, sw136_19, sw146_44, sw174_83, sw174_183, sw175_11, sw175_106, sw183_11, sw183_128, sw184_17, sw184_92, sw207_17, sw207_123, sw293_60, sw333_6, sw338_20, sw345_20, sw349_20, sw350_20, sw351_6, sw370_7, m_i2f, m_i2d, m_fc1, m_dc0, x_fret, x_dret, m_i2b, m_and255, m_and63, m_shr24, m_shr16, m_shr8, m_shr0, m_shr1, g_astb, m_i2c, x_cret, x_bret, m_gsn, if_pos, if_neg, Bool.false_eq_true, Int.add_zero, Nat.add_zero, Int.reduceEq, Int.zero_add, ne_eq, not_true_eq_false, not_false_eq_true, and_self, and_true, true_and, and_false, false_and, or_true, true_or, or_false, false_or, gs_0, gs_1, gs_2, gs_3, gs_4, gs_5, gs_6, gs_7, gs_8, m_aald, g_aalds, rf_s, rf_n, m_cast, g_casts,  b116_31, lb116_55, b116_55, hx, qc, r27, r25, hu1, x1, qc1, r22, x2, List.set_cons_zero, mf_4]
    · exact DQ_keep (h' := mput g2 (z 0) (.inr (0, .ref N :: .ref (z 1) :: xs))) (h_pn h01.symm) (h_pn h06.symm) df
    · rw [h_pn a, f22 _ b c, f25 _ b c]
    · show g2.2 = h.2
      rw [s22, s25]
  · have k5 : kA (w 6 0) = w 6 0 := if_neg e
    have n1 : na ≠ z 1 := fun y => by rw [y] at hna; rw [hna] at qc; cases qc
    obtain ⟨g2, r22, d22, f22, s22⟩ := R22 (E := E) (v := na) hE.2.1 hE.2.2 hq ⟨1, nf, hna, by decide +kernel⟩ (by omega)
    have x2 : g2.1 (z 0) = some (.inr (0, .ref na :: .ref (z 1) :: xs)) := (f22 _ h01 h06).trans hx
    refine ⟨mput g2 (z 0) (.inr (0, .ref N :: .ref (z 1) :: xs)), p, fun i => if i = w 6 0 then na else U i, ?_, h_ps, ?_, fun i => ?_, fun q a b c => ?_, ?_⟩
    · rw [lb116_31]
      simp -implicitDefEqProofs (disch := first | assumption | omega | exact sub_5 | exact sub_16 | exact sub_1 | exact sub_3 | exact sub_4 | exact sub_6 | exact sub_7 | exact i8_r | exact cat1_rf | exact cat_rf | exact mf_20 | exact cat1_i | exact cat1_r | exact cat1_n | exact cat_i | exact cat_r | exact cat_n | exact mf_0 | exact mf_4 | exact mf_4n | exact mf_10 | exact mf_11 | exact mnd_0 | exact mnd_i | exact mnd_r | exact mnd_n | exact mnd_f | exact bz_r | exact bz_01 | (simp only [List.length_cons, List.length_nil] <;> omega) | (simp only [wu, Nat.reduceEqDiff, if_true, if_false] <;> first | assumption | omega) | (simp only [h_n1, h_p1] <;> omega)) only [Int.reduceToNat, Nat.reduceDiv, Nat.reduceMod, Nat.reduceAdd, Nat.reduceSub, Int.reduceNeg, Int.reduceAdd, Int.reduceSub, Int.reduceMul, Int.reduceLT, Int.reduceLE, if_true, if_false, List.length_cons, List.length_nil, bz_z, fin_0, fin_1, fin_2, fin_3, x_0, x_Ts, x_Ss, x_iinc, x_iload_n, x_iload, x_lload_n, x_lload, x_fload_n, x_fload, x_dload_n, x_dload, x_aload_n, x_aload, x_istore_n, x_istore, x_astore_n, x_astore, x_fstore_n, x_fstore, x_dstore_n, x_dstore, x_lstore_n, x_lstore, m_iconst, m_bipush, m_sipush, m_ldci, m_ldcr, m_ldcw, m_null, m_gsi, m_gsr, m_add, m_sub, m_mul, m_neg, m_div, m_rem, m_max, m_min, m_abs, m_pop, m_dup, m_dupx1, m_dupx2, m_dup2, m_getf, m_putf, g_puts, m_iald, m_bald, g_alds, m_iast, m_bast, g_asti, g_astz, m_alen, g_lens, m_new, m_newi, m_oinit, h_ps, h_pn, h_ns, h_nn, h_p1, h_n1, h_n2, h_pp, x_goto, x_if, x_icmp, x_nullr, x_nulln, x_nnr, x_nnn, x_fall, z_eq, z_ne, z_lt, z_ge, z_gt, z_le, c_eq, c_ne, c_lt, c_ge, c_gt, c_le, x_ret, x_iret, x_aret, x_nret, x_zret, x_Rv, x_Rn, x_Rx, g_clss, x_Ws, x_Ks, x_cs0, x_cs1, x_cs2, x_cs3, x_cs4, x_cs5, x_cv0, x_cv1, x_cv2, x_cv3, x_cv4, x_ci0, x_ci1, x_ci2, x_ci3, x_ci4, x_cp0, x_cp1, x_cp2, x_cp3, x_cp4, ldi_0, lda_0, ldf_0, ldl_0, ldd_0, ldi_1, lda_1, ldf_1, ldl_1, ldd_1, ldi_2, lda_2, ldf_2, ldl_2, ldd_2, ldi_3, lda_3, ldf_3, ldl_3, ldd_3, ldi_4, lda_4, ldf_4, ldl_4, ldd_4, ldi_5, lda_5, ldf_5, ldl_5, ldd_5, ldi_6, lda_6, ldf_6, ldl_6, ldd_6, ldi_7, lda_7, ldf_7, ldl_7, ldd_7, ldi_8, lda_8, ldf_8, ldl_8, ldd_8, ldi_9, lda_9, ldf_9, ldl_9, ldd_9, ldi_10, lda_10, ldf_10, ldl_10, ldd_10, ldi_11, lda_11, ldf_11, ldl_11, ldd_11, ldi_12, lda_12, ldf_12, ldl_12, ldd_12, ldi_13, lda_13, ldf_13, ldl_13, ldd_13, ldn_0, ldn_1, ldn_2, ldn_3, ldn_4, ldn_5, ldn_6, ldn_7, ldn_8, ldn_9, ldn_10, ldn_11, ldn_12, ldn_13, sti_0, sta_0, stf_0, sti_1, sta_1, stf_1, sti_2, sta_2, stf_2, sti_3, sta_3, stf_3, sti_4, sta_4, stf_4, sti_5, sta_5, stf_5, sti_6, sta_6, stf_6, sti_7, sta_7, stf_7, sti_8, sta_8, stf_8, sti_9, sta_9, stf_9, sti_10, sta_10, stf_10, sti_11, sta_11, stf_11, sti_12, sta_12, stf_12, sti_13, sta_13, stf_13, stn_0, stn_1, stn_2, stn_3, stn_4, stn_5, stn_6, stn_7, stn_8, stn_9, stn_10, stn_11, stn_12, stn_13, inc_0, inc_1, inc_2, inc_3, inc_4, inc_5, inc_6, inc_7, inc_8, inc_9, inc_10, inc_11, inc_12, inc_13, sw19_2, sw71_2, sw75_39, sw125_11, sw127_18, sw130_17, sw135_20, sw136_19, sw146_44, sw174_83, sw174_183, sw175_11, sw175_106, sw183_11, sw183_128, sw184_17, sw184_92, sw207_17, sw207_123, sw293_60, sw333_6, sw338_20, sw345_20, sw349_20, sw350_20, sw351_6, sw370_7, m_i2f, m_i2d, m_fc1, m_dc0, x_fret, x_dret, m_i2b, m_and255, m_and63, m_shr24, m_shr16, m_shr8, m_shr0, m_shr1, g_astb, m_i2c, x_cret, x_bret, m_gsn, if_pos, if_neg, Bool.false_eq_true, Int.add_zero, Nat.add_zero, Int.reduceEq, Int.zero_add, ne_eq, not_true_eq_false, not_false_eq_true, and_self, and_true, true_and, and_false, false_and, or_true, true_or, or_false, false_or, gs_0, gs_1, gs_2, gs_3, gs_4, gs_5, gs_6, gs_7, gs_8, m_aald, g_aalds, rf_s, rf_n, m_cast, g_casts,  b116_31, lb116_55, b116_55, hx, qc, r27, e, r22, x2, List.set_cons_zero, mf_4]
    · rw [k5]
      exact DQ_keep (h' := mput g2 (z 0) (.inr (0, .ref N :: .ref (z 1) :: xs))) (h_pn h01.symm) (h_pn h06.symm) d22
    · rw [k5, if_neg e]
    · rw [h_pn a, f22 _ b c]
    · exact s22
end UA
section AC
variable {E : mE} {M : Nat → Prop} {z : Nat → Nat} {h : mH} {w : Nat → Int → Int} {cm kd : Nat} {op a b c : Int}
def resP (F : Int → Int) (op a b c : Int) : Int × Int := ((opP F op a b c).1, (opP F op a b c).2.1)
set_option maxHeartbeats 4000000 in
theorem R116 (x : KW E M z h w) (hM : ∀ q, M q → q < h.2.1) (hE : E.1 ≤ h.2.1) (hW : WD E h) (hop : 0 ≤ op ∧ op ≤ 4) (hc : CMD E h cm kd op a b c) (hkz : ∀ i, i < 8 → kd ≠ z i) (ha : -2147483648 ≤ a ∧ a < 2147483648) (hb : -2147483648 ≤ b ∧ b < 2147483648) (hc3 : -2147483648 ≤ c ∧ c < 2147483648) : ∃ (o : mO) (h' : mH), mRun E gP 116 [.ref (z 0), .ref cm] h = some (o, h') ∧ KW E M z h' (doW w (opP (w 0) op a b c)) ∧ ans (resP (w 0) op a b c) (if op = 4 then 19 else 20) 19 o h' ∧ (∀ q, q < h.2.1 → ¬ Zc z q → q ≠ kd → h'.1 q = h.1 q) ∧ ((h.2.1 ≤ h'.2.1 ∧ h'.2.1 ≤ h.2.1 + 61) ∧ h'.2.2 ≤ h.2.2 + 1606) ∧ ∃ (vk : Nat) (y u u' : Int), strK h kd (wOf op) vk y u ∧ strK h' kd (wOf op) vk (hashS (wOf op)) u' ∧ (HK h kd op → h'.1 kd = h.1 kd) := by
  obtain ⟨a1, a2, ⟨na, a3, a4⟩, a5, a6, a7, a8, a9⟩ := id x
  obtain ⟨l1, s, B, W, C, L, hS, hI, hp⟩ := id a4
  have hI0 : In (fun q => E.1 ≤ q ∧ q < h.2.1) (fun _ => True) na (w 0) s B W C L := In_mono (fun q hq => ⟨hq.1, hq.2.1⟩) (fun _ _ _ => trivial) hI
  obtain ⟨h1, s', B', W', C', L', r206, S1', I1, ⟨e0, e6, e7⟩, old1, sz1, sl1⟩ := R206 (E := E) l1.1 hS hI0 hE
  have hc1 := CMD_keep old1 sz1.1 hc
  have hW1 : WD E h1 := hW.fr (fun q hq => old1 q (by omega))
  obtain ⟨g0, vk, y, u, u', c3, k0, ho, ho2, hx, hok, hex⟩ := R207 (P := fun q => h.2.1 ≤ q) (fun q hq => by omega) l1.1 l1.2.1 I1 S1' hW1.w hop hc1 ha hb hc3
  have kv2 : kd < h.2.1 ∧ vk < h.2.1 := by
    obtain ⟨ar', vk', len', f', x', z', d1, ⟨d2, d3, d4, d5⟩, d6, d7, -⟩ := hc
    have ev := (strK_inj (strK_keep (old1 kd d3) (old1 vk' d5) d7) c3).1
    subst ev
    exact ⟨d3, d5⟩
  have kl : kd < h.2.1 ∧ vk < h1.2.1 := ⟨kv2.1, by omega⟩
  have vl := kv2.2
  have c0 : strK h kd (wOf op) vk y u := strK_keep (old1 kd kl.1).symm (old1 vk vl).symm c3
  have hx2 : HK h kd op → g0 = h1 := by
    rintro ⟨v2, z2, s2⟩
    have ev := (strK_inj c0 s2).1
    subst ev
    exact hx ⟨vk, z2, strK_keep (old1 kd kl.1) (old1 vk vl) s2⟩
  have kt : ∀ X, h.1 kd = some X → tagC X = 18 := fun X hX => by
    rw [c0.2.2.1] at hX
    cases hX
    rfl
  have ga : ∀ q, q < h.2.1 → q ≠ kd → g0.1 q = h.1 q := fun q q1 q2 => (ho q q2).trans (old1 q q1)
  have gz : g0.2.1 = h1.2.1 ∧ g0.2.2 = h1.2.2 := by rw [ho2]; exact ⟨rfl, rfl⟩
  have vne : vk ≠ kd := fun q => by
    have q1 := c0.2.2.1
    have q2 := c0.2.2.2
    rw [q, q1] at q2
    cases q2
  have xm : ∀ i, i < 8 → z i < h.2.1 := fun i hi => (a1.1 i hi).2.2
  have zE : ∀ i, i < 8 → E.1 ≤ z i := fun i hi => (a1.1 i hi).2.1
  have n1 : g_cls (h.1 na) = some 1 := by rw [show h.1 na = _ from hS.1]; exact g_clss
  have nz : ∀ i, i < 8 → na ≠ z i := fun i hi q => hI.2.1.1.2.2 (q ▸ (a1.1 i hi).1)
  have sN : g_cls (h1.1 h.2.1) = some 1 := by rw [show h1.1 h.2.1 = _ from S1'.1]; exact g_clss
  have vz : ∀ i, i < 8 → z i ≠ vk ∨ True := fun _ _ => Or.inr trivial
  by_cases er : (opP (w 0) op a b c).1 = 0
  · obtain ⟨h2, wr, S2, r207⟩ := hok er
    have lo := opP_lo l1.1 (op := op) (a := a) (b := b) (c := c)
    have hi := opP_r l1.1 l1.2.1 (op := op) (a := a) (b := b) (c := c)
    have hb2 : ∀ q, q < h.2.1 → q ≠ kd → h2.1 q = h.1 q := fun q q1 q2 => (wr.1 q (by show ¬ h.2.1 ≤ q; omega)).trans (ga q q1 q2)
    have z2 : h2.2.1 = h1.2.1 ∧ h2.2.2 = h1.2.2 := by rw [wr.2]; exact gz
    have k2 : strK h2 kd (wOf op) vk (hashS (wOf op)) u' := strK_keep (wr.1 kd (by show ¬ h.2.1 ≤ kd; omega)) (wr.1 vk (by show ¬ h.2.1 ≤ vk; omega)) k0
    have X2 : h2.1 (z 0) = h.1 (z 0) := hb2 _ (xm 0 (by omega)) (hkz 0 (by omega)).symm
    unfold XO at a3
    by_cases ev : (opP (w 0) op a b c).2.1 < 0
    · -- refused
      have rf := opP_ref l1.1 ev
      obtain ⟨f, f1, f2⟩ := a7
      have F2 : h2.1 (z 3) = some (mAI 0 9 f) := (hb2 _ (xm 3 (by omega)) (hkz 3 (by omega)).symm).trans f1
      have dW : doW w (opP (w 0) op a b c) = wu (refW w (-(opP (w 0) op a b c).2.1)) 0 (w 0) := by
        unfold doW actW
        rw [if_pos er, if_pos ev, rf]
      have d5 : doW w (opP (w 0) op a b c) 5 = up (w 5) (-(opP (w 0) op a b c).2.1) (w 5 (-(opP (w 0) op a b c).2.1) + 1) := by
        rw [dW, wu_n (by omega)]
        exact wu_s
      have d0 : doW w (opP (w 0) op a b c) 0 = w 0 := by rw [dW, wu_s]
      have d26 : doW w (opP (w 0) op a b c) 2 = w 2 ∧ doW w (opP (w 0) op a b c) 6 = w 6 := by
        rw [dW, wu_n (by omega), wu_n (by omega)]
        exact ⟨wu_n (by omega), wu_n (by omega)⟩
      generalize hv : (opP (w 0) op a b c).2.1 = v at *
      have fz : ∀ q, q < h.2.1 → q ≠ kd → q ≠ z 3 → (mput h2 (z 3) (mAI 0 9 (up f (-v) (f (-v) + 1)))).1 q = h.1 q := fun q q1 q2 q3 => (h_pn q3).trans (hb2 q q1 q2)
      have fl : FrA (LA E M h) h (mput h2 (z 3) (mAI 0 9 (up f (-v) (f (-v) + 1)))) := fun q X hq hX hne => (fz q hq.2.1 (fun y => hne (kt X (y ▸ hX))) (fun y => hq.2.2 (y ▸ (a1.1 3 (by omega)).1))).trans hX
      have zz : ∀ i, i < 8 → i ≠ 3 → (mput h2 (z 3) (mAI 0 9 (up f (-v) (f (-v) + 1)))).1 (z i) = h.1 (z i) := fun i hi i3 => fz _ (xm i hi) (hkz i hi).symm (fun y => i3 (a1.2 i 3 hi (by omega) y))
      have ez3 := (a1.1 3 (by omega)).2.1
      have ll : h.2.1 ≤ (mput h2 (z 3) (mAI 0 9 (up f (-v) (f (-v) + 1)))).2.1 := by show h.2.1 ≤ h2.2.1; omega
      refine ⟨.inl (some (.int (Int32.ofInt v))), mput h2 (z 3) (mAI 0 9 (up f (-v) (f (-v) + 1))), ?_, ⟨ZM_le ll a1, ?_, ⟨na, ?_, ?_⟩, ?_, ?_, ⟨_, h_ps, ?_⟩, ?_, ?_⟩, Or.inl ⟨er, ?_⟩, ?_, ⟨⟨?_, ?_⟩, ?_⟩, vk, y, u, u', c0, ?_, ?_⟩
      · simp -implicitDefEqProofs (disch := first | assumption | omega | exact sub_5 | exact sub_16 | exact sub_1 | exact sub_3 | exact sub_4 | exact sub_6 | exact sub_7 | exact i8_r | exact cat1_rf | exact cat_rf | exact mf_20 | exact cat1_i | exact cat1_r | exact cat1_n | exact cat_i | exact cat_r | exact cat_n | exact mf_0 | exact mf_4 | exact mf_4n | exact mf_10 | exact mf_11 | exact mnd_0 | exact mnd_i | exact mnd_r | exact mnd_n | exact mnd_f | exact bz_r | exact bz_01 | (simp only [List.length_cons, List.length_nil] <;> omega) | (simp only [wu, Nat.reduceEqDiff, if_true, if_false] <;> first | assumption | omega) | (simp only [h_n1, h_p1] <;> omega)) only [Int.reduceToNat, Nat.reduceDiv, Nat.reduceMod, Nat.reduceAdd, Nat.reduceSub, Int.reduceNeg, Int.reduceAdd, Int.reduceSub, Int.reduceMul, Int.reduceLT, Int.reduceLE, if_true, if_false, List.length_cons, List.length_nil, bz_z, fin_0, fin_1, fin_2, fin_3, x_0, x_Ts, x_Ss, x_iinc, x_iload_n, x_iload, x_lload_n, x_lload, x_fload_n, x_fload, x_dload_n, x_dload, x_aload_n, x_aload, x_istore_n, x_istore, x_astore_n, x_astore, x_fstore_n, x_fstore, x_dstore_n, x_dstore, x_lstore_n, x_lstore, m_iconst, m_bipush, m_sipush, m_ldci, m_ldcr, m_ldcw, m_null, m_gsi, m_gsr, m_add, m_sub, m_mul, m_neg, m_div, m_rem, m_max, m_min, m_abs, m_pop, m_dup, m_dupx1, m_dupx2, m_dup2, m_getf, m_putf, g_puts, m_iald, m_bald, g_alds, m_iast, m_bast, g_asti, g_astz, m_alen, g_lens, m_new, m_newi, m_oinit, h_ps, h_pn, h_ns, h_nn, h_p1, h_n1, h_n2, h_pp, x_goto, x_if, x_icmp, x_nullr, x_nulln, x_nnr, x_nnn, x_fall, z_eq, z_ne, z_lt, z_ge, z_gt, z_le, c_eq, c_ne, c_lt, c_ge, c_gt, c_le, x_ret, x_iret, x_aret, x_nret, x_zret, x_Rv, x_Rn, x_Rx, g_clss, x_Ws, x_Ks, x_cs0, x_cs1, x_cs2, x_cs3, x_cs4, x_cs5, x_cv0, x_cv1, x_cv2, x_cv3, x_cv4, x_ci0, x_ci1, x_ci2, x_ci3, x_ci4, x_cp0, x_cp1, x_cp2, x_cp3, x_cp4, ldi_0, lda_0, ldf_0, ldl_0, ldd_0, ldi_1, lda_1, ldf_1, ldl_1, ldd_1, ldi_2, lda_2, ldf_2, ldl_2, ldd_2, ldi_3, lda_3, ldf_3, ldl_3, ldd_3, ldi_4, lda_4, ldf_4, ldl_4, ldd_4, ldi_5, lda_5, ldf_5, ldl_5, ldd_5, ldi_6, lda_6, ldf_6, ldl_6, ldd_6, ldi_7, lda_7, ldf_7, ldl_7, ldd_7, ldi_8, lda_8, ldf_8, ldl_8, ldd_8, ldi_9, lda_9, ldf_9, ldl_9, ldd_9, ldi_10, lda_10, ldf_10, ldl_10, ldd_10, ldi_11, lda_11, ldf_11, ldl_11, ldd_11, ldi_12, lda_12, ldf_12, ldl_12, ldd_12, ldi_13, lda_13, ldf_13, ldl_13, ldd_13, ldn_0, ldn_1, ldn_2, ldn_3, ldn_4, ldn_5, ldn_6, ldn_7, ldn_8, ldn_9, ldn_10, ldn_11, ldn_12, ldn_13, sti_0, sta_0, stf_0, sti_1, sta_1, stf_1, sti_2, sta_2, stf_2, sti_3, sta_3, stf_3, sti_4, sta_4, stf_4, sti_5, sta_5, stf_5, sti_6, sta_6, stf_6, sti_7, sta_7, stf_7, sti_8, sta_8, stf_8, sti_9, sta_9, stf_9, sti_10, sta_10, stf_10, sti_11, sta_11, stf_11, sti_12, sta_12, stf_12, sti_13, sta_13, stf_13, stn_0, stn_1, stn_2, stn_3, stn_4, stn_5, stn_6, stn_7, stn_8, stn_9, stn_10, stn_11, stn_12, stn_13, inc_0, inc_1, inc_2, inc_3, inc_4, inc_5, inc_6, inc_7, inc_8, inc_9, inc_10, inc_11, inc_12, inc_13, sw19_2, sw71_2, sw75_39, sw125_11, sw127_18, sw130_17, sw135_20, sw136_19, sw146_44, sw174_83, sw174_183, sw175_11, sw175_106, sw183_11, sw183_128, sw184_17, sw184_92, sw207_17, sw207_123, sw293_60, sw333_6, sw338_20, sw345_20, sw349_20, sw350_20, sw351_6, sw370_7, m_i2f, m_i2d, m_fc1, m_dc0, x_fret, x_dret, m_i2b, m_and255, m_and63, m_shr24, m_shr16, m_shr8, m_shr0, m_shr1, g_astb, m_i2c, x_cret, x_bret, m_gsn, if_pos, if_neg, Bool.false_eq_true, Int.add_zero, Nat.add_zero, Int.reduceEq, Int.zero_add, ne_eq, not_true_eq_false, not_false_eq_true, and_self, and_true, true_and, and_false, false_and, or_true, true_or, or_false, false_or, gs_0, gs_1, gs_2, gs_3, gs_4, gs_5, gs_6, gs_7, gs_8, m_aald, g_aalds, rf_s, rf_n, m_cast, g_casts,  en116, b116_0, a3, n1, r206, sN, r207, X2, F2]
      · unfold XW TW at a2 ⊢
        rw [d26.2, doW_n (by omega) (by omega) (by omega) (by omega), doW_n (by omega) (by omega) (by omega) (by omega), doW_n (by omega) (by omega) (by omega) (by omega), doW_n (by omega) (by omega) (by omega) (by omega), doW_n (by omega) (by omega) (by omega) (by omega), doW_n (by omega) (by omega) (by omega) (by omega), doW_n (by omega) (by omega) (by omega) (by omega)]
        exact a2
      · unfold XO
        rw [doW_n (by omega) (by omega) (by omega) (by omega), doW_n (by omega) (by omega) (by omega) (by omega), doW_n (by omega) (by omega) (by omega) (by omega)]
        exact (zz 0 (by omega) (by omega)).trans a3
      · rw [d0]
        exact Live_fr fl ll a4
      · have q := XU_fr ll fl (zz 1 (by omega) (by omega)) (zz 6 (by omega) (by omega)) a5
        unfold XU at q ⊢
        rw [d26.1, d26.2]
        exact q
      · have q := XS_fr ll fl (zz 2 (by omega) (by omega)) a6
        unfold XS at q ⊢
        rw [doW_n (by omega) (by omega) (by omega) (by omega), doW_n (by omega) (by omega) (by omega) (by omega)]
        exact q
      · intro j j0 j1
        rw [d5]
        by_cases ej : j = -v
        · rw [ej, up_s, up_s, f2 _ (by omega) (by omega)]
        · rw [up_n ej, up_n ej, f2 j j0 j1]
      · have q := XT_fr (zz 4 (by omega) (by omega)) a8
        unfold XT at q ⊢
        rw [doW_n (by omega) (by omega) (by omega) (by omega)]
        exact q
      · have q := XB_fr (zz 5 (by omega) (by omega)) (zz 7 (by omega) (by omega)) a9
        unfold XB at q ⊢
        rw [doW_n (by omega) (by omega) (by omega) (by omega), doW_n (by omega) (by omega) (by omega) (by omega)]
        exact q
      · unfold resP
        rw [hv]
      · intro q q1 q2 q3
        exact fz q q1 q3 (fun y => q2 ⟨3, by omega, y⟩)
      · exact ll
      · show h2.2.1 ≤ h.2.1 + 61
        omega
      · show h2.2.2 ≤ h.2.2 + 1606
        omega
      · refine strK_keep (h_pn (hkz 3 (by omega))) (h_pn (fun q => ?_)) k2
        have q2 := k2.2.2.2
        rw [q, F2] at q2
        cases q2
      · intro q
        rw [h_pn (hkz 3 (by omega)), wr.1 kd (by show ¬ h.2.1 ≤ kd; omega), hx2 q]
        exact old1 kd kl.1
    · -- done
      have bs := opP_bas l1.1 (op := op) (a := a) (b := b) (c := c)
      have lr := opP_LR l1 (op := op) (a := a) (b := b) (c := c)
      obtain ⟨p, U, u1, u2⟩ := a5
      have U2 : DQ h2 (z 1) (z 6) p (w 6 0) U := DQ_keep (hb2 _ (xm 1 (by omega)) (hkz 1 (by omega)).symm) (hb2 _ (xm 6 (by omega)) (hkz 6 (by omega)).symm) u1
      have cl : ∀ {a' : Nat} {F' : Int → Int}, Live E M h a' F' → ∃ fs, h2.1 a' = some (.inr (1, fs)) := by
        intro a' F' hL
        obtain ⟨-, s9, B9, W9, C9, L9, S9, I9, -⟩ := hL
        have q1 := S9.1
        have q2 := I9.2.1.1
        exact ⟨_, (hb2 a' q2.2.1 (fun q => absurd (kt _ (q ▸ q1)) (by show ¬ (1 : Nat) = 18; omega))).trans q1⟩
      obtain ⟨h3, p', U', r31, x3, dq3, hU', f3, s3⟩ := L116_31 (E := E) (h := h2) (z := z) (w := w) (cm := cm) (N := h.2.1) (na := na) (v := (opP (w 0) op a b c).2.1) (p := p) (U := U) ⟨zE 0 (by omega), zE 1 (by omega), zE 6 (by omega)⟩ (fun q => absurd (a1.2 0 1 (by omega) (by omega) q) (by omega)) (fun q => absurd (a1.2 0 6 (by omega) (by omega) q) (by omega)) (X2.trans a3) U2 a2.2.1 (fun i i0 i1 => cl (u2 i i0 i1)) (cl a4)
      have z3 : h3.2.1 = h1.2.1 ∧ h3.2.2 = h1.2.2 := by rw [s3]; exact z2
      have fz : ∀ q, q < h.2.1 → q ≠ kd → q ≠ z 0 → q ≠ z 1 → q ≠ z 6 → h3.1 q = h.1 q := fun q q1 q2 q3 q4 q5 => (f3 q q3 q4 q5).trans (hb2 q q1 q2)
      have mz : ∀ i, i < 8 → ∀ q, ¬ M q → q ≠ z i := fun i hi q hq y => hq (y ▸ (a1.1 i hi).1)
      have fl : FrA (LA E M h) h h3 := fun q X hq hX hne => (fz q hq.2.1 (fun y => hne (kt X (y ▸ hX))) (mz 0 (by omega) q hq.2.2) (mz 1 (by omega) q hq.2.2) (mz 6 (by omega) q hq.2.2)).trans hX
      have zz : ∀ i, i < 8 → i ≠ 0 → i ≠ 1 → i ≠ 6 → h3.1 (z i) = h.1 (z i) := fun i hi i0 i1 i6 => fz _ (xm i hi) (hkz i hi).symm (fun y => i0 (a1.2 i 0 hi (by omega) y)) (fun y => i1 (a1.2 i 1 hi (by omega) y)) (fun y => i6 (a1.2 i 6 hi (by omega) y))
      have ll : h.2.1 ≤ h3.2.1 := by omega
      have dW : doW w (opP (w 0) op a b c) = wu (keptW w) 0 (opP (w 0) op a b c).2.2 := by
        unfold doW actW
        rw [if_pos er, if_neg ev]
      have d0 : doW w (opP (w 0) op a b c) 0 = (opP (w 0) op a b c).2.2 := by rw [dW, wu_s]
      have d2 : doW w (opP (w 0) op a b c) 2 = cp (w 0) 0 (kP w) (216 * kA (w 6 0)) 216 := by
        rw [dW, wu_n (by omega)]
        unfold keptW
        rw [wu_n (by omega), wu_s]
      have d6 : doW w (opP (w 0) op a b c) 6 = fun _ => kA (w 6 0) + 1 := by
        rw [dW, wu_n (by omega)]
        exact wu_s
      have d5 : doW w (opP (w 0) op a b c) 5 = w 5 := by
        rw [dW, wu_n (by omega)]
        unfold keptW
        rw [wu_n (by omega), wu_n (by omega)]
      have kr := kA_r a2.2.1
      have nA : ∀ q, ((E.1 ≤ q ∧ q < h1.2.1) ∧ (h.2.1 ≤ q ∨ q = s 0 ∨ q = s 6)) → LA E M h3 q := by
        rintro q ⟨⟨q1, q2⟩, q3⟩
        refine ⟨q1, by omega, fun hm => ?_⟩
        rcases q3 with q3 | q3 | q3
        · have := hM q hm
          omega
        · exact hI.1.1.2.2 (q3 ▸ hm)
        · exact hI.1.2.2.2 (q3 ▸ hm)
      have Gn : In (LA E M h3) (fun _ => True) h.2.1 (opP (w 0) op a b c).2.2 s' B' W' C' L' := In_eq (In_mono nA (fun _ _ _ => trivial) I1) (bs.1 3 (by omega)) (bs.1 4 (by omega)) (bs.1 5 (by omega)) (bs.1 6 (by omega))
      have S3 : St h3 h.2.1 (opP (w 0) op a b c).2.2 s' B' W' C' L' := St_frA Gn (FrA_eq (fun q hq => f3 q (mz 0 (by omega) q hq.2.2) (mz 1 (by omega) q hq.2.2) (mz 6 (by omega) q hq.2.2))) S2
      have P3 : PO (LA E M h3) h3 (s' 7) (opP (w 0) op a b c).2.2 := by
        rw [e7]
        obtain ⟨n9, bk9, m9, b9⟩ := PO_fr (LA_le ll) fl hp
        exact ⟨n9, bk9, m9, fun c' c0 c1 => (b9 c' c0 c1).trans (lowW_bas l1.1.n.2.1 bs).symm⟩
      refine ⟨.inl (some (.int (Int32.ofInt (opP (w 0) op a b c).2.1))), h3, ?_, ⟨ZM_le ll a1, ?_, ⟨h.2.1, ?_, ?_⟩, ⟨p', U', ?_, fun i i0 i1 => ?_⟩, ?_, ?_, ?_, ?_⟩, Or.inl ⟨er, rfl⟩, ?_, ⟨⟨ll, by omega⟩, by omega⟩, vk, y, u, u', c0, ?_, ?_⟩
      · generalize (opP (w 0) op a b c).2.1 = v at *
        simp -implicitDefEqProofs (disch := first | assumption | omega | exact sub_5 | exact sub_16 | exact sub_1 | exact sub_3 | exact sub_4 | exact sub_6 | exact sub_7 | exact i8_r | exact cat1_rf | exact cat_rf | exact mf_20 | exact cat1_i | exact cat1_r | exact cat1_n | exact cat_i | exact cat_r | exact cat_n | exact mf_0 | exact mf_4 | exact mf_4n | exact mf_10 | exact mf_11 | exact mnd_0 | exact mnd_i | exact mnd_r | exact mnd_n | exact mnd_f | exact bz_r | exact bz_01 | (simp only [List.length_cons, List.length_nil] <;> omega) | (simp only [wu, Nat.reduceEqDiff, if_true, if_false] <;> first | assumption | omega) | (simp only [h_n1, h_p1] <;> omega)) only [Int.reduceToNat, Nat.reduceDiv, Nat.reduceMod, Nat.reduceAdd, Nat.reduceSub, Int.reduceNeg, Int.reduceAdd, Int.reduceSub, Int.reduceMul, Int.reduceLT, Int.reduceLE, if_true, if_false, List.length_cons, List.length_nil, bz_z, fin_0, fin_1, fin_2, fin_3, x_0, x_Ts, x_Ss, x_iinc, x_iload_n, x_iload, x_lload_n, x_lload, x_fload_n, x_fload, x_dload_n, x_dload, x_aload_n, x_aload, x_istore_n, x_istore, x_astore_n, x_astore, x_fstore_n, x_fstore, x_dstore_n, x_dstore, x_lstore_n, x_lstore, m_iconst, m_bipush, m_sipush, m_ldci, m_ldcr, m_ldcw, m_null, m_gsi, m_gsr, m_add, m_sub, m_mul, m_neg, m_div, m_rem, m_max, m_min, m_abs, m_pop, m_dup, m_dupx1, m_dupx2, m_dup2, m_getf, m_putf, g_puts, m_iald, m_bald, g_alds, m_iast, m_bast, g_asti, g_astz, m_alen, g_lens, m_new, m_newi, m_oinit, h_ps, h_pn, h_ns, h_nn, h_p1, h_n1, h_n2, h_pp, x_goto, x_if, x_icmp, x_nullr, x_nulln, x_nnr, x_nnn, x_fall, z_eq, z_ne, z_lt, z_ge, z_gt, z_le, c_eq, c_ne, c_lt, c_ge, c_gt, c_le, x_ret, x_iret, x_aret, x_nret, x_zret, x_Rv, x_Rn, x_Rx, g_clss, x_Ws, x_Ks, x_cs0, x_cs1, x_cs2, x_cs3, x_cs4, x_cs5, x_cv0, x_cv1, x_cv2, x_cv3, x_cv4, x_ci0, x_ci1, x_ci2, x_ci3, x_ci4, x_cp0, x_cp1, x_cp2, x_cp3, x_cp4, ldi_0, lda_0, ldf_0, ldl_0, ldd_0, ldi_1, lda_1, ldf_1, ldl_1, ldd_1, ldi_2, lda_2, ldf_2, ldl_2, ldd_2, ldi_3, lda_3, ldf_3, ldl_3, ldd_3, ldi_4, lda_4, ldf_4, ldl_4, ldd_4, ldi_5, lda_5, ldf_5, ldl_5, ldd_5, ldi_6, lda_6, ldf_6, ldl_6, ldd_6, ldi_7, lda_7, ldf_7, ldl_7, ldd_7, ldi_8, lda_8, ldf_8, ldl_8, ldd_8, ldi_9, lda_9, ldf_9, ldl_9, ldd_9, ldi_10, lda_10, ldf_10, ldl_10, ldd_10, ldi_11, lda_11, ldf_11, ldl_11, ldd_11, ldi_12, lda_12, ldf_12, ldl_12, ldd_12, ldi_13, lda_13, ldf_13, ldl_13, ldd_13, ldn_0, ldn_1, ldn_2, ldn_3, ldn_4, ldn_5, ldn_6, ldn_7, ldn_8, ldn_9, ldn_10, ldn_11, ldn_12, ldn_13, sti_0, sta_0, stf_0, sti_1, sta_1, stf_1, sti_2, sta_2, stf_2, sti_3, sta_3, stf_3, sti_4, sta_4, stf_4, sti_5, sta_5, stf_5, sti_6, sta_6, stf_6, sti_7, sta_7, stf_7, sti_8, sta_8, stf_8, sti_9, sta_9, stf_9, sti_10, sta_10, stf_10, sti_11, sta_11, stf_11, sti_12, sta_12, stf_12, sti_13, sta_13, stf_13, stn_0, stn_1, stn_2, stn_3, stn_4, stn_5, stn_6, stn_7, stn_8, stn_9, stn_10, stn_11, stn_12, stn_13, inc_0, inc_1, inc_2, inc_3, inc_4, inc_5, inc_6, inc_7, inc_8, inc_9, inc_10, inc_11, inc_12, inc_13, sw19_2, sw71_2, sw75_39, sw125_11, sw127_18, sw130_17, sw135_20, sw136_19, sw146_44, sw174_83, sw174_183, sw175_11, sw175_106, sw183_11, sw183_128, sw184_17, sw184_92, sw207_17, sw207_123, sw293_60, sw333_6, sw338_20, sw345_20, sw349_20, sw350_20, sw351_6, sw370_7, m_i2f, m_i2d, m_fc1, m_dc0, x_fret, x_dret, m_i2b, m_and255, m_and63, m_shr24, m_shr16, m_shr8, m_shr0, m_shr1, g_astb, m_i2c, x_cret, x_bret, m_gsn, if_pos, if_neg, Bool.false_eq_true, Int.add_zero, Nat.add_zero, Int.reduceEq, Int.zero_add, ne_eq, not_true_eq_false, not_false_eq_true, and_self, and_true, true_and, and_false, false_and, or_true, true_or, or_false, false_or, gs_0, gs_1, gs_2, gs_3, gs_4, gs_5, gs_6, gs_7, gs_8, m_aald, g_aalds, rf_s, rf_n, m_cast, g_casts,  en116, b116_0, a3, n1, r206, sN, r207]
        exact r31
      · unfold XW TW at a2 ⊢
        rw [d6, doW_n (by omega) (by omega) (by omega) (by omega), doW_n (by omega) (by omega) (by omega) (by omega), doW_n (by omega) (by omega) (by omega) (by omega), doW_n (by omega) (by omega) (by omega) (by omega), doW_n (by omega) (by omega) (by omega) (by omega), doW_n (by omega) (by omega) (by omega) (by omega), doW_n (by omega) (by omega) (by omega) (by omega)]
        exact ⟨a2.1, kr, a2.2.2⟩
      · unfold XO
        rw [doW_n (by omega) (by omega) (by omega) (by omega), doW_n (by omega) (by omega) (by omega) (by omega), doW_n (by omega) (by omega) (by omega) (by omega)]
        exact x3
      · rw [d0]
        exact ⟨lr, s', B', W', C', L', S3, Gn, P3⟩
      · rw [d6]
        exact dq3
      · rw [d6] at i1
        have i1' : i < kA (w 6 0) + 1 := i1
        rw [hU' i, d2]
        by_cases ei : i = kA (w 6 0)
        · rw [if_pos ei, ei]
          refine Live_eqv (fun j j0 j1 => ?_) (Live_fr fl ll a4)
          unfold cp
          rw [if_pos (by omega)]
          congr 1
          omega
        · rw [if_neg ei]
          by_cases e6' : w 6 0 = 6
          · have k5 : kA (w 6 0) = 5 := if_pos e6'
            rw [if_pos e6']
            refine Live_eqv (fun j j0 j1 => ?_) (Live_fr fl ll (u2 (i + 1) (by omega) (by omega)))
            unfold cp kP
            rw [if_neg (by omega), if_pos e6']
            unfold shiftP
            rw [if_pos (by omega)]
            congr 1
            omega
          · have k5 : kA (w 6 0) = w 6 0 := if_neg e6'
            rw [if_neg e6']
            refine Live_eqv (fun j j0 j1 => ?_) (Live_fr fl ll (u2 i (by omega) (by omega)))
            unfold cp kP
            rw [if_neg (by omega), if_neg e6']
      · have q := XS_fr ll fl (zz 2 (by omega) (by omega) (by omega) (by omega)) a6
        unfold XS at q ⊢
        rw [doW_n (by omega) (by omega) (by omega) (by omega), doW_n (by omega) (by omega) (by omega) (by omega)]
        exact q
      · have q := XR_fr (zz 3 (by omega) (by omega) (by omega) (by omega)) a7
        unfold XR at q ⊢
        rw [d5]
        exact q
      · have q := XT_fr (zz 4 (by omega) (by omega) (by omega) (by omega)) a8
        unfold XT at q ⊢
        rw [doW_n (by omega) (by omega) (by omega) (by omega)]
        exact q
      · have q := XB_fr (zz 5 (by omega) (by omega) (by omega) (by omega)) (zz 7 (by omega) (by omega) (by omega) (by omega)) a9
        unfold XB at q ⊢
        rw [doW_n (by omega) (by omega) (by omega) (by omega), doW_n (by omega) (by omega) (by omega) (by omega)]
        exact q
      · intro q q1 q2 q3
        exact fz q q1 q3 (fun y => q2 ⟨0, by omega, y⟩) (fun y => q2 ⟨1, by omega, y⟩) (fun y => q2 ⟨6, by omega, y⟩)
      · refine strK_keep (f3 _ (hkz 0 (by omega)) (hkz 1 (by omega)) (hkz 6 (by omega))) ?_ k2
        have q2 := k2.2.2.2
        refine f3 _ (fun q => ?_) (fun q => ?_) (fun q => ?_)
        · rw [q, X2, a3] at q2
          cases q2
        · obtain ⟨g9, q9, -⟩ := U2
          rw [q, q9] at q2
          cases q2
        · obtain ⟨g9, -, q9, -⟩ := U2
          rw [q, q9] at q2
          cases q2
      · intro q
        rw [f3 _ (hkz 0 (by omega)) (hkz 1 (by omega)) (hkz 6 (by omega)), wr.1 kd (by show ¬ h.2.1 ≤ kd; omega), hx2 q]
        exact old1 kd kl.1
  · have r207 := hex er
    have dW : doW w (opP (w 0) op a b c) = w := if_neg er
    generalize hcl : (if (opP (w 0) op a b c).1 = 1 then (if op = 4 then 19 else 20) else 19 : Nat) = ec at r207
    have f0 : ∀ q, q < h.2.1 → q ≠ kd → (mnew g0 (.inr (ec, [])) 6).1 q = h.1 q := fun q q1 q2 => (h_nn (by omega)).trans (ga q q1 q2)
    have ll : h.2.1 ≤ (mnew g0 (.inr (ec, [])) 6).2.1 := by show h.2.1 ≤ g0.2.1 + 1; omega
    unfold XO at a3
    refine ⟨.inr g0.2.1, mnew g0 (.inr (ec, [])) 6, ?_, ?_, Or.inr ⟨er, _, rfl, ?_⟩, fun q q1 _ q3 => f0 q q1 q3, ⟨⟨ll, ?_⟩, ?_⟩, vk, y, u, u', c0, ?_, ?_⟩
    · simp -implicitDefEqProofs (disch := first | assumption | omega | exact sub_5 | exact sub_16 | exact sub_1 | exact sub_3 | exact sub_4 | exact sub_6 | exact sub_7 | exact i8_r | exact cat1_rf | exact cat_rf | exact mf_20 | exact cat1_i | exact cat1_r | exact cat1_n | exact cat_i | exact cat_r | exact cat_n | exact mf_0 | exact mf_4 | exact mf_4n | exact mf_10 | exact mf_11 | exact mnd_0 | exact mnd_i | exact mnd_r | exact mnd_n | exact mnd_f | exact bz_r | exact bz_01 | (simp only [List.length_cons, List.length_nil] <;> omega) | (simp only [wu, Nat.reduceEqDiff, if_true, if_false] <;> first | assumption | omega) | (simp only [h_n1, h_p1] <;> omega)) only [Int.reduceToNat, Nat.reduceDiv, Nat.reduceMod, Nat.reduceAdd, Nat.reduceSub, Int.reduceNeg, Int.reduceAdd, Int.reduceSub, Int.reduceMul, Int.reduceLT, Int.reduceLE, if_true, if_false, List.length_cons, List.length_nil, bz_z, fin_0, fin_1, fin_2, fin_3, x_0, x_Ts, x_Ss, x_iinc, x_iload_n, x_iload, x_lload_n, x_lload, x_fload_n, x_fload, x_dload_n, x_dload, x_aload_n, x_aload, x_istore_n, x_istore, x_astore_n, x_astore, x_fstore_n, x_fstore, x_dstore_n, x_dstore, x_lstore_n, x_lstore, m_iconst, m_bipush, m_sipush, m_ldci, m_ldcr, m_ldcw, m_null, m_gsi, m_gsr, m_add, m_sub, m_mul, m_neg, m_div, m_rem, m_max, m_min, m_abs, m_pop, m_dup, m_dupx1, m_dupx2, m_dup2, m_getf, m_putf, g_puts, m_iald, m_bald, g_alds, m_iast, m_bast, g_asti, g_astz, m_alen, g_lens, m_new, m_newi, m_oinit, h_ps, h_pn, h_ns, h_nn, h_p1, h_n1, h_n2, h_pp, x_goto, x_if, x_icmp, x_nullr, x_nulln, x_nnr, x_nnn, x_fall, z_eq, z_ne, z_lt, z_ge, z_gt, z_le, c_eq, c_ne, c_lt, c_ge, c_gt, c_le, x_ret, x_iret, x_aret, x_nret, x_zret, x_Rv, x_Rn, x_Rx, g_clss, x_Ws, x_Ks, x_cs0, x_cs1, x_cs2, x_cs3, x_cs4, x_cs5, x_cv0, x_cv1, x_cv2, x_cv3, x_cv4, x_ci0, x_ci1, x_ci2, x_ci3, x_ci4, x_cp0, x_cp1, x_cp2, x_cp3, x_cp4, ldi_0, lda_0, ldf_0, ldl_0, ldd_0, ldi_1, lda_1, ldf_1, ldl_1, ldd_1, ldi_2, lda_2, ldf_2, ldl_2, ldd_2, ldi_3, lda_3, ldf_3, ldl_3, ldd_3, ldi_4, lda_4, ldf_4, ldl_4, ldd_4, ldi_5, lda_5, ldf_5, ldl_5, ldd_5, ldi_6, lda_6, ldf_6, ldl_6, ldd_6, ldi_7, lda_7, ldf_7, ldl_7, ldd_7, ldi_8, lda_8, ldf_8, ldl_8, ldd_8, ldi_9, lda_9, ldf_9, ldl_9, ldd_9, ldi_10, lda_10, ldf_10, ldl_10, ldd_10, ldi_11, lda_11, ldf_11, ldl_11, ldd_11, ldi_12, lda_12, ldf_12, ldl_12, ldd_12, ldi_13, lda_13, ldf_13, ldl_13, ldd_13, ldn_0, ldn_1, ldn_2, ldn_3, ldn_4, ldn_5, ldn_6, ldn_7, ldn_8, ldn_9, ldn_10, ldn_11, ldn_12, ldn_13, sti_0, sta_0, stf_0, sti_1, sta_1, stf_1, sti_2, sta_2, stf_2, sti_3, sta_3, stf_3, sti_4, sta_4, stf_4, sti_5, sta_5, stf_5, sti_6, sta_6, stf_6, sti_7, sta_7, stf_7, sti_8, sta_8, stf_8, sti_9, sta_9, stf_9, sti_10, sta_10, stf_10, sti_11, sta_11, stf_11, sti_12, sta_12, stf_12, sti_13, sta_13, stf_13, stn_0, stn_1, stn_2, stn_3, stn_4, stn_5, stn_6, stn_7, stn_8, stn_9, stn_10, stn_11, stn_12, stn_13, inc_0, inc_1, inc_2, inc_3, inc_4, inc_5, inc_6, inc_7, inc_8, inc_9, inc_10, inc_11, inc_12, inc_13, sw19_2, sw71_2, sw75_39, sw125_11, sw127_18, sw130_17, sw135_20, sw136_19, sw146_44, sw174_83, sw174_183, sw175_11, sw175_106, sw183_11, sw183_128, sw184_17, sw184_92, sw207_17, sw207_123, sw293_60, sw333_6, sw338_20, sw345_20, sw349_20, sw350_20, sw351_6, sw370_7, m_i2f, m_i2d, m_fc1, m_dc0, x_fret, x_dret, m_i2b, m_and255, m_and63, m_shr24, m_shr16, m_shr8, m_shr0, m_shr1, g_astb, m_i2c, x_cret, x_bret, m_gsn, if_pos, if_neg, Bool.false_eq_true, Int.add_zero, Nat.add_zero, Int.reduceEq, Int.zero_add, ne_eq, not_true_eq_false, not_false_eq_true, and_self, and_true, true_and, and_false, false_and, or_true, true_or, or_false, false_or, gs_0, gs_1, gs_2, gs_3, gs_4, gs_5, gs_6, gs_7, gs_8, m_aald, g_aalds, rf_s, rf_n, m_cast, g_casts,  en116, b116_0, a3, n1, r206, sN, r207, x_Rx (y := 116) (hh := rfl)]
    · rw [dW]
      exact KW_fr ll (fun q X hq hX hne => (f0 q hq.2.1 (fun y => hne (kt X (y ▸ hX)))).trans hX) (fun i hi => f0 _ (xm i hi) (hkz i hi).symm) x
    · rw [h_ns, ← hcl]
      rfl
    · show g0.2.1 + 1 ≤ h.2.1 + 61
      omega
    · show g0.2.2 + 6 ≤ h.2.2 + 1606
      omega
    · exact strK_keep (h_nn (by omega)) (h_nn (by omega)) k0
    · intro q
      rw [h_nn (by omega), hx2 q]
      exact old1 kd kl.1
end AC
