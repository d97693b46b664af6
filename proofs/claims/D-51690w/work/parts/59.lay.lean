/-! MC pure 10: the twin lays what is seen -/
set_option maxRecDepth 100000
def layG (F : Int → Int) (v : Int) : Nat → Nat → (Int → Int) → Int → Int
  | 0, _, g => g
  | d + 1, n, g => if gz F v n = -1 then g else if cost F v n ≤ F (116 + 4 * v + 2) then layG F v d (n + 1) (up g (gz F v n) 1) else g
theorem cost_up {F : Int → Int} (h : WF F) {v : Int} {n k : Nat} (hk : k ≤ n) : cost F v k ≤ cost F v n := by
  obtain ⟨d, rfl⟩ : ∃ d, n = k + d := ⟨n - k, by omega⟩
  induction d with
  | zero => exact Int.le_refl _
  | succ d ih =>
    have h1 := ih (by omega)
    have h2 := mist_r h (gzN F v (k + d + 1))
    have e : costN F v (k + d + 1) = costN F v (k + d) + mist F (gzN F v (k + d + 1)) := rfl
    unfold cost at h1 ⊢
    rw [Int.toNat_natCast, Int.toNat_natCast] at h1 ⊢
    rw [show k + (d + 1) = k + d + 1 from rfl, e]
    omega
section LY
variable {E : mE} {b : Nat} {h : mH} {w : Nat → Int → Int}
theorem L308c (hE : E.1 ≤ b) (hF : WF (w 0)) {v : Int} (hv : 0 ≤ v ∧ v < w 0 4) {r : mR} : ∀ (d n : Nat) (g : Int → Int), (n : Int) + d = w 0 (116 + 4 * v + 2) + 2 → 1 ≤ d → mV E gP (308, 84, [some (.ref b), some (.int (Int32.ofInt v)), none, none], [], tT b h (wu w 8 (layG (w 0) v d n g))) = some r → mV E gP (308, 44, [some (.ref b), some (.int (Int32.ofInt v)), some (.int (Int32.ofInt n)), some (.int (Int32.ofInt (gz (w 0) v n)))], [], tT b h (wu w 8 g)) = some r := by
  have hw := hF.2.2.2.2.2.2.2.2.2.2.1 v hv.1 hv.2
  have h4 := hF.2.2.2.2.1
  have hcc := hF.cells
  intro d
  induction d with
  | zero => intro n g _ hd; omega
  | succ d ih =>
    intro n g hn _ hr
    have h5 := gzN_r hF hv n
    have h6 := costN_r hF v n
    have eg : gz (w 0) v n = -1 ∨ (gz (w 0) v n = gzN (w 0) v n ∧ (n : Int) ≤ w 0 (116 + 4 * v + 2)) := by
      unfold gz
      split
      · exact Or.inl rfl
      · exact Or.inr ⟨rfl, by omega⟩
    have wk : ∀ x y : Value, mle [some (.ref b), some (.int (Int32.ofInt v)), none, none] [some (.ref b), some (.int (Int32.ofInt v)), some x, some y] := fun x y => mle_of rfl (fun i u hu => by
      match i, hu with
      | 0, hu => exact hu
      | 1, hu => exact hu
      | 2, hu => cases hu
      | 3, hu => cases hu)
    unfold layG at hr
    rcases eg with e | ⟨e, e0⟩
    · rw [if_pos e] at hr
      rw [lb308_44, e]
      simp (disch := first | assumption | omega | exact i8_r | exact cat1_rf | exact cat_rf | exact mf_20 | exact cat1_i | exact cat1_r | exact cat1_n | exact cat_i | exact cat_r | exact cat_n | exact mf_0 | exact mf_4 | exact mf_4n | exact mf_10 | exact mf_11 | exact mnd_0 | exact mnd_i | exact mnd_r | exact mnd_n | exact mnd_f | exact bz_r | exact bz_01 | (simp only [List.length_cons, List.length_nil] <;> omega)) only [Int.reduceToNat, Nat.reduceDiv, Nat.reduceMod, Nat.reduceAdd, Nat.reduceSub, Int.reduceNeg, Int.reduceAdd, Int.reduceSub, Int.reduceMul, Int.reduceLT, Int.reduceLE, if_true, if_false, List.length_cons, List.length_nil, bz_z, fin_0, fin_1, fin_2, fin_3, x_0, x_Ts, x_Ss, x_iinc, x_iload_n, x_iload, x_lload_n, x_lload, x_fload_n, x_fload, x_dload_n, x_dload, x_aload_n, x_aload, x_istore_n, x_istore, x_astore_n, x_astore, x_fstore_n, x_fstore, x_dstore_n, x_dstore, x_lstore_n, x_lstore, m_iconst, m_bipush, m_sipush, m_ldci, m_ldcr, m_ldcw, m_null, m_gsi, m_gsr, m_add, m_sub, m_mul, m_neg, m_div, m_rem, m_max, m_min, m_abs, m_pop, m_dup, m_dupx1, m_dupx2, m_dup2, m_getf, m_putf, g_puts, m_iald, m_bald, g_alds, m_iast, m_bast, g_asti, g_astz, m_alen, g_lens, m_new, m_newi, m_oinit, h_ps, h_pn, h_ns, h_nn, h_p1, h_n1, h_n2, h_pp, x_goto, x_if, x_icmp, x_nullr, x_nulln, x_nnr, x_nnn, x_fall, z_eq, z_ne, z_lt, z_ge, z_gt, z_le, c_eq, c_ne, c_lt, c_ge, c_gt, c_le, x_ret, x_iret, x_aret, x_nret, x_zret, x_Rv, x_Rn, x_Rx, g_clss, x_Ws, x_Ks, x_cs0, x_cs1, x_cs2, x_cs3, x_cs4, x_cs5, x_cv0, x_cv1, x_cv2, x_cv3, x_cv4, x_ci0, x_ci1, x_ci2, x_ci3, x_ci4, x_cp0, x_cp1, x_cp2, x_cp3, x_cp4, ldi_0, lda_0, ldf_0, ldl_0, ldd_0, ldi_1, lda_1, ldf_1, ldl_1, ldd_1, ldi_2, lda_2, ldf_2, ldl_2, ldd_2, ldi_3, lda_3, ldf_3, ldl_3, ldd_3, ldi_4, lda_4, ldf_4, ldl_4, ldd_4, ldi_5, lda_5, ldf_5, ldl_5, ldd_5, ldi_6, lda_6, ldf_6, ldl_6, ldd_6, ldi_7, lda_7, ldf_7, ldl_7, ldd_7, ldi_8, lda_8, ldf_8, ldl_8, ldd_8, ldi_9, lda_9, ldf_9, ldl_9, ldd_9, ldi_10, lda_10, ldf_10, ldl_10, ldd_10, ldi_11, lda_11, ldf_11, ldl_11, ldd_11, ldi_12, lda_12, ldf_12, ldl_12, ldd_12, ldi_13, lda_13, ldf_13, ldl_13, ldd_13, ldn_0, ldn_1, ldn_2, ldn_3, ldn_4, ldn_5, ldn_6, ldn_7, ldn_8, ldn_9, ldn_10, ldn_11, ldn_12, ldn_13, sti_0, sta_0, stf_0, sti_1, sta_1, stf_1, sti_2, sta_2, stf_2, sti_3, sta_3, stf_3, sti_4, sta_4, stf_4, sti_5, sta_5, stf_5, sti_6, sta_6, stf_6, sti_7, sta_7, stf_7, sti_8, sta_8, stf_8, sti_9, sta_9, stf_9, sti_10, sta_10, stf_10, sti_11, sta_11, stf_11, sti_12, sta_12, stf_12, sti_13, sta_13, stf_13, stn_0, stn_1, stn_2, stn_3, stn_4, stn_5, stn_6, stn_7, stn_8, stn_9, stn_10, stn_11, stn_12, stn_13, inc_0, inc_1, inc_2, inc_3, inc_4, inc_5, inc_6, inc_7, inc_8, inc_9, inc_10, inc_11, inc_12, inc_13, sw19_2, sw71_2, sw75_39, sw125_11, sw127_18, sw130_17, sw135_20, sw136_19, sw146_44, sw174_83, sw174_183, sw175_11, sw175_106, sw183_11, sw183_128, sw184_17, sw184_92, sw207_17, sw207_123, sw293_60, sw333_6, sw338_20, sw345_20, sw349_20, sw350_20, sw351_6, sw370_7, m_i2f, m_i2d, m_fc1, m_dc0, x_fret, x_dret, m_i2b, m_and255, m_and63, m_shr24, m_shr16, m_shr8, m_shr0, m_shr1, g_astb, m_i2c, x_cret, x_bret, m_gsn, t_0, t_1, t_2, t_3, t_4, t_5, t_6, t_7, t_8, t_9, t_10, t_11, t_12, t_13, tg_0, tg_1, tg_2, tg_3, tg_4, tg_5, tg_6, tg_7, tg_8, tg_9, tg_10, tg_11, tg_12, tg_13, tg_14, tg_15, tg_16, tg_17, tg_18, tg_19, tg_20, tg_21, tg_22, tg_23, tp_0, tp_1, tp_2, tp_3, tp_4, tp_5, tp_6, tp_7, tp_8, tp_9, tp_10, tp_11, tp_12, tp_13, tp_14, tp_15, tp_16, tp_17, tp_18, tp_19, tp_20, tp_21, tp_22, tp_23, wu_s, wu_n, wu_wu, b308_44]
      exact mV_weak hr (wk _ _)
    · by_cases e1 : gz (w 0) v n = -1
      · rw [if_pos e1] at hr
        rw [lb308_44, e1]
        simp (disch := first | assumption | omega | exact i8_r | exact cat1_rf | exact cat_rf | exact mf_20 | exact cat1_i | exact cat1_r | exact cat1_n | exact cat_i | exact cat_r | exact cat_n | exact mf_0 | exact mf_4 | exact mf_4n | exact mf_10 | exact mf_11 | exact mnd_0 | exact mnd_i | exact mnd_r | exact mnd_n | exact mnd_f | exact bz_r | exact bz_01 | (simp only [List.length_cons, List.length_nil] <;> omega)) only [Int.reduceToNat, Nat.reduceDiv, Nat.reduceMod, Nat.reduceAdd, Nat.reduceSub, Int.reduceNeg, Int.reduceAdd, Int.reduceSub, Int.reduceMul, Int.reduceLT, Int.reduceLE, if_true, if_false, List.length_cons, List.length_nil, bz_z, fin_0, fin_1, fin_2, fin_3, x_0, x_Ts, x_Ss, x_iinc, x_iload_n, x_iload, x_lload_n, x_lload, x_fload_n, x_fload, x_dload_n, x_dload, x_aload_n, x_aload, x_istore_n, x_istore, x_astore_n, x_astore, x_fstore_n, x_fstore, x_dstore_n, x_dstore, x_lstore_n, x_lstore, m_iconst, m_bipush, m_sipush, m_ldci, m_ldcr, m_ldcw, m_null, m_gsi, m_gsr, m_add, m_sub, m_mul, m_neg, m_div, m_rem, m_max, m_min, m_abs, m_pop, m_dup, m_dupx1, m_dupx2, m_dup2, m_getf, m_putf, g_puts, m_iald, m_bald, g_alds, m_iast, m_bast, g_asti, g_astz, m_alen, g_lens, m_new, m_newi, m_oinit, h_ps, h_pn, h_ns, h_nn, h_p1, h_n1, h_n2, h_pp, x_goto, x_if, x_icmp, x_nullr, x_nulln, x_nnr, x_nnn, x_fall, z_eq, z_ne, z_lt, z_ge, z_gt, z_le, c_eq, c_ne, c_lt, c_ge, c_gt, c_le, x_ret, x_iret, x_aret, x_nret, x_zret, x_Rv, x_Rn, x_Rx, g_clss, x_Ws, x_Ks, x_cs0, x_cs1, x_cs2, x_cs3, x_cs4, x_cs5, x_cv0, x_cv1, x_cv2, x_cv3, x_cv4, x_ci0, x_ci1, x_ci2, x_ci3, x_ci4, x_cp0, x_cp1, x_cp2, x_cp3, x_cp4, ldi_0, lda_0, ldf_0, ldl_0, ldd_0, ldi_1, lda_1, ldf_1, ldl_1, ldd_1, ldi_2, lda_2, ldf_2, ldl_2, ldd_2, ldi_3, lda_3, ldf_3, ldl_3, ldd_3, ldi_4, lda_4, ldf_4, ldl_4, ldd_4, ldi_5, lda_5, ldf_5, ldl_5, ldd_5, ldi_6, lda_6, ldf_6, ldl_6, ldd_6, ldi_7, lda_7, ldf_7, ldl_7, ldd_7, ldi_8, lda_8, ldf_8, ldl_8, ldd_8, ldi_9, lda_9, ldf_9, ldl_9, ldd_9, ldi_10, lda_10, ldf_10, ldl_10, ldd_10, ldi_11, lda_11, ldf_11, ldl_11, ldd_11, ldi_12, lda_12, ldf_12, ldl_12, ldd_12, ldi_13, lda_13, ldf_13, ldl_13, ldd_13, ldn_0, ldn_1, ldn_2, ldn_3, ldn_4, ldn_5, ldn_6, ldn_7, ldn_8, ldn_9, ldn_10, ldn_11, ldn_12, ldn_13, sti_0, sta_0, stf_0, sti_1, sta_1, stf_1, sti_2, sta_2, stf_2, sti_3, sta_3, stf_3, sti_4, sta_4, stf_4, sti_5, sta_5, stf_5, sti_6, sta_6, stf_6, sti_7, sta_7, stf_7, sti_8, sta_8, stf_8, sti_9, sta_9, stf_9, sti_10, sta_10, stf_10, sti_11, sta_11, stf_11, sti_12, sta_12, stf_12, sti_13, sta_13, stf_13, stn_0, stn_1, stn_2, stn_3, stn_4, stn_5, stn_6, stn_7, stn_8, stn_9, stn_10, stn_11, stn_12, stn_13, inc_0, inc_1, inc_2, inc_3, inc_4, inc_5, inc_6, inc_7, inc_8, inc_9, inc_10, inc_11, inc_12, inc_13, sw19_2, sw71_2, sw75_39, sw125_11, sw127_18, sw130_17, sw135_20, sw136_19, sw146_44, sw174_83, sw174_183, sw175_11, sw175_106, sw183_11, sw183_128, sw184_17, sw184_92, sw207_17, sw207_123, sw293_60, sw333_6, sw338_20, sw345_20, sw349_20, sw350_20, sw351_6, sw370_7, m_i2f, m_i2d, m_fc1, m_dc0, x_fret, x_dret, m_i2b, m_and255, m_and63, m_shr24, m_shr16, m_shr8, m_shr0, m_shr1, g_astb, m_i2c, x_cret, x_bret, m_gsn, t_0, t_1, t_2, t_3, t_4, t_5, t_6, t_7, t_8, t_9, t_10, t_11, t_12, t_13, tg_0, tg_1, tg_2, tg_3, tg_4, tg_5, tg_6, tg_7, tg_8, tg_9, tg_10, tg_11, tg_12, tg_13, tg_14, tg_15, tg_16, tg_17, tg_18, tg_19, tg_20, tg_21, tg_22, tg_23, tp_0, tp_1, tp_2, tp_3, tp_4, tp_5, tp_6, tp_7, tp_8, tp_9, tp_10, tp_11, tp_12, tp_13, tp_14, tp_15, tp_16, tp_17, tp_18, tp_19, tp_20, tp_21, tp_22, tp_23, wu_s, wu_n, wu_wu, b308_44]
        exact mV_weak hr (wk _ _)
      · rw [if_neg e1] at hr
        rw [e] at e1 hr ⊢
        have r1 := R311 (E := E) (b := b) (h := h) (w := wu w 8 g) hF hv (m := (n : Int)) ⟨by omega, e0⟩ (by rw [Int.toNat_natCast]; exact e1)
        have h7 : -2147483648 ≤ cost (w 0) v n ∧ cost (w 0) v n < 2147483648 := by unfold cost; rw [Int.toNat_natCast]; omega
        have s1 : (wu w 8 g) 0 = w 0 := rfl
        rw [s1] at r1
        have r2 := R309 (E := E) (b := b) (h := h) (w := wu w 8 (up g (gzN (w 0) v n) 1)) hF hv (m := (n : Int) + 1) (by omega)
        rw [show (wu w 8 (up g (gzN (w 0) v n) 1)) 0 = w 0 from rfl] at r2
        have r3 := R281 (E := E) (b := b) (h := h) (w := wu w 8 g) (k := v) (j := 2) (by omega) (by omega)
        rw [s1] at r3
        rw [lb308_44]
        simp (disch := first | assumption | omega | exact i8_r | exact cat1_rf | exact cat_rf | exact mf_20 | exact cat1_i | exact cat1_r | exact cat1_n | exact cat_i | exact cat_r | exact cat_n | exact mf_0 | exact mf_4 | exact mf_4n | exact mf_10 | exact mf_11 | exact mnd_0 | exact mnd_i | exact mnd_r | exact mnd_n | exact mnd_f | exact bz_r | exact bz_01 | (simp only [List.length_cons, List.length_nil] <;> omega)) only [Int.reduceToNat, Nat.reduceDiv, Nat.reduceMod, Nat.reduceAdd, Nat.reduceSub, Int.reduceNeg, Int.reduceAdd, Int.reduceSub, Int.reduceMul, Int.reduceLT, Int.reduceLE, if_true, if_false, List.length_cons, List.length_nil, bz_z, fin_0, fin_1, fin_2, fin_3, x_0, x_Ts, x_Ss, x_iinc, x_iload_n, x_iload, x_lload_n, x_lload, x_fload_n, x_fload, x_dload_n, x_dload, x_aload_n, x_aload, x_istore_n, x_istore, x_astore_n, x_astore, x_fstore_n, x_fstore, x_dstore_n, x_dstore, x_lstore_n, x_lstore, m_iconst, m_bipush, m_sipush, m_ldci, m_ldcr, m_ldcw, m_null, m_gsi, m_gsr, m_add, m_sub, m_mul, m_neg, m_div, m_rem, m_max, m_min, m_abs, m_pop, m_dup, m_dupx1, m_dupx2, m_dup2, m_getf, m_putf, g_puts, m_iald, m_bald, g_alds, m_iast, m_bast, g_asti, g_astz, m_alen, g_lens, m_new, m_newi, m_oinit, h_ps, h_pn, h_ns, h_nn, h_p1, h_n1, h_n2, h_pp, x_goto, x_if, x_icmp, x_nullr, x_nulln, x_nnr, x_nnn, x_fall, z_eq, z_ne, z_lt, z_ge, z_gt, z_le, c_eq, c_ne, c_lt, c_ge, c_gt, c_le, x_ret, x_iret, x_aret, x_nret, x_zret, x_Rv, x_Rn, x_Rx, g_clss, x_Ws, x_Ks, x_cs0, x_cs1, x_cs2, x_cs3, x_cs4, x_cs5, x_cv0, x_cv1, x_cv2, x_cv3, x_cv4, x_ci0, x_ci1, x_ci2, x_ci3, x_ci4, x_cp0, x_cp1, x_cp2, x_cp3, x_cp4, ldi_0, lda_0, ldf_0, ldl_0, ldd_0, ldi_1, lda_1, ldf_1, ldl_1, ldd_1, ldi_2, lda_2, ldf_2, ldl_2, ldd_2, ldi_3, lda_3, ldf_3, ldl_3, ldd_3, ldi_4, lda_4, ldf_4, ldl_4, ldd_4, ldi_5, lda_5, ldf_5, ldl_5, ldd_5, ldi_6, lda_6, ldf_6, ldl_6, ldd_6, ldi_7, lda_7, ldf_7, ldl_7, ldd_7, ldi_8, lda_8, ldf_8, ldl_8, ldd_8, ldi_9, lda_9, ldf_9, ldl_9, ldd_9, ldi_10, lda_10, ldf_10, ldl_10, ldd_10, ldi_11, lda_11, ldf_11, ldl_11, ldd_11, ldi_12, lda_12, ldf_12, ldl_12, ldd_12, ldi_13, lda_13, ldf_13, ldl_13, ldd_13, ldn_0, ldn_1, ldn_2, ldn_3, ldn_4, ldn_5, ldn_6, ldn_7, ldn_8, ldn_9, ldn_10, ldn_11, ldn_12, ldn_13, sti_0, sta_0, stf_0, sti_1, sta_1, stf_1, sti_2, sta_2, stf_2, sti_3, sta_3, stf_3, sti_4, sta_4, stf_4, sti_5, sta_5, stf_5, sti_6, sta_6, stf_6, sti_7, sta_7, stf_7, sti_8, sta_8, stf_8, sti_9, sta_9, stf_9, sti_10, sta_10, stf_10, sti_11, sta_11, stf_11, sti_12, sta_12, stf_12, sti_13, sta_13, stf_13, stn_0, stn_1, stn_2, stn_3, stn_4, stn_5, stn_6, stn_7, stn_8, stn_9, stn_10, stn_11, stn_12, stn_13, inc_0, inc_1, inc_2, inc_3, inc_4, inc_5, inc_6, inc_7, inc_8, inc_9, inc_10, inc_11, inc_12, inc_13, sw19_2, sw71_2, sw75_39, sw125_11, sw127_18, sw130_17, sw135_20, sw136_19, sw146_44, sw174_83, sw174_183, sw175_11, sw175_106, sw183_11, sw183_128, sw184_17, sw184_92, sw207_17, sw207_123, sw293_60, sw333_6, sw338_20, sw345_20, sw349_20, sw350_20, sw351_6, sw370_7, m_i2f, m_i2d, m_fc1, m_dc0, x_fret, x_dret, m_i2b, m_and255, m_and63, m_shr24, m_shr16, m_shr8, m_shr0, m_shr1, g_astb, m_i2c, x_cret, x_bret, m_gsn, t_0, t_1, t_2, t_3, t_4, t_5, t_6, t_7, t_8, t_9, t_10, t_11, t_12, t_13, tg_0, tg_1, tg_2, tg_3, tg_4, tg_5, tg_6, tg_7, tg_8, tg_9, tg_10, tg_11, tg_12, tg_13, tg_14, tg_15, tg_16, tg_17, tg_18, tg_19, tg_20, tg_21, tg_22, tg_23, tp_0, tp_1, tp_2, tp_3, tp_4, tp_5, tp_6, tp_7, tp_8, tp_9, tp_10, tp_11, tp_12, tp_13, tp_14, tp_15, tp_16, tp_17, tp_18, tp_19, tp_20, tp_21, tp_22, tp_23, wu_s, wu_n, wu_wu, b308_44, r1, r2, r3]
        rw [if_neg e1]
        by_cases e2 : cost (w 0) v n ≤ w 0 (116 + 4 * v + 2)
        · rw [if_pos e2] at hr
          rw [if_neg (by omega)]
          have h8 := ih (n + 1) (up g (gzN (w 0) v n) 1) (by omega) (by omega) hr
          simp only [Int.natCast_add, Int.natCast_one] at h8
          exact h8
        · rw [if_neg e2] at hr
          rw [if_pos (by omega)]
          exact mV_weak hr (wk _ _)
def zN (g : Int → Int) (k : Int) : Int → Int := fun j => if 0 ≤ j ∧ j < k then 0 else g j
theorem zN_0 {g : Int → Int} : zN g 0 = g := by
  funext j
  unfold zN
  rw [if_neg (by omega)]
theorem zN_s {g : Int → Int} {k : Nat} : up (zN g k) k 0 = zN g (k + 1) := by
  funext j
  unfold zN up
  dsimp only
  by_cases e : j = (k : Int)
  · rw [if_pos e, if_pos (by omega)]
  · rw [if_neg e]
    by_cases e2 : 0 ≤ j ∧ j < (k : Int)
    · rw [if_pos e2, if_pos (by omega)]
    · rw [if_neg e2, if_neg (by omega)]
theorem L308a (hE : E.1 ≤ b) (hF : WF (w 0)) {g : Int → Int} {r : mR} (hr : mV E gP (308, 25, [some (.ref b), some (.int (Int32.ofInt 0)), none, none], [], tT b h (wu w 8 (zN g (w 0 0 * w 0 1)))) = some r) : ∀ d k : Nat, (k : Int) + d = w 0 0 * w 0 1 → mV E gP (308, 2, [some (.ref b), some (.int (Int32.ofInt k)), none, none], [], tT b h (wu w 8 (zN g k))) = some r := by
  have hcc := hF.cells
  intro d
  induction d with
  | zero =>
    intro k hk
    have e : w 0 0 * w 0 1 = k := by omega
    rw [e] at hr
    rw [lb308_2]
    simp (disch := first | assumption | omega | exact i8_r | exact cat1_rf | exact cat_rf | exact mf_20 | exact cat1_i | exact cat1_r | exact cat1_n | exact cat_i | exact cat_r | exact cat_n | exact mf_0 | exact mf_4 | exact mf_4n | exact mf_10 | exact mf_11 | exact mnd_0 | exact mnd_i | exact mnd_r | exact mnd_n | exact mnd_f | exact bz_r | exact bz_01 | (simp only [List.length_cons, List.length_nil] <;> omega)) only [Int.reduceToNat, Nat.reduceDiv, Nat.reduceMod, Nat.reduceAdd, Nat.reduceSub, Int.reduceNeg, Int.reduceAdd, Int.reduceSub, Int.reduceMul, Int.reduceLT, Int.reduceLE, if_true, if_false, List.length_cons, List.length_nil, bz_z, fin_0, fin_1, fin_2, fin_3, x_0, x_Ts, x_Ss, x_iinc, x_iload_n, x_iload, x_lload_n, x_lload, x_fload_n, x_fload, x_dload_n, x_dload, x_aload_n, x_aload, x_istore_n, x_istore, x_astore_n, x_astore, x_fstore_n, x_fstore, x_dstore_n, x_dstore, x_lstore_n, x_lstore, m_iconst, m_bipush, m_sipush, m_ldci, m_ldcr, m_ldcw, m_null, m_gsi, m_gsr, m_add, m_sub, m_mul, m_neg, m_div, m_rem, m_max, m_min, m_abs, m_pop, m_dup, m_dupx1, m_dupx2, m_dup2, m_getf, m_putf, g_puts, m_iald, m_bald, g_alds, m_iast, m_bast, g_asti, g_astz, m_alen, g_lens, m_new, m_newi, m_oinit, h_ps, h_pn, h_ns, h_nn, h_p1, h_n1, h_n2, h_pp, x_goto, x_if, x_icmp, x_nullr, x_nulln, x_nnr, x_nnn, x_fall, z_eq, z_ne, z_lt, z_ge, z_gt, z_le, c_eq, c_ne, c_lt, c_ge, c_gt, c_le, x_ret, x_iret, x_aret, x_nret, x_zret, x_Rv, x_Rn, x_Rx, g_clss, x_Ws, x_Ks, x_cs0, x_cs1, x_cs2, x_cs3, x_cs4, x_cs5, x_cv0, x_cv1, x_cv2, x_cv3, x_cv4, x_ci0, x_ci1, x_ci2, x_ci3, x_ci4, x_cp0, x_cp1, x_cp2, x_cp3, x_cp4, ldi_0, lda_0, ldf_0, ldl_0, ldd_0, ldi_1, lda_1, ldf_1, ldl_1, ldd_1, ldi_2, lda_2, ldf_2, ldl_2, ldd_2, ldi_3, lda_3, ldf_3, ldl_3, ldd_3, ldi_4, lda_4, ldf_4, ldl_4, ldd_4, ldi_5, lda_5, ldf_5, ldl_5, ldd_5, ldi_6, lda_6, ldf_6, ldl_6, ldd_6, ldi_7, lda_7, ldf_7, ldl_7, ldd_7, ldi_8, lda_8, ldf_8, ldl_8, ldd_8, ldi_9, lda_9, ldf_9, ldl_9, ldd_9, ldi_10, lda_10, ldf_10, ldl_10, ldd_10, ldi_11, lda_11, ldf_11, ldl_11, ldd_11, ldi_12, lda_12, ldf_12, ldl_12, ldd_12, ldi_13, lda_13, ldf_13, ldl_13, ldd_13, ldn_0, ldn_1, ldn_2, ldn_3, ldn_4, ldn_5, ldn_6, ldn_7, ldn_8, ldn_9, ldn_10, ldn_11, ldn_12, ldn_13, sti_0, sta_0, stf_0, sti_1, sta_1, stf_1, sti_2, sta_2, stf_2, sti_3, sta_3, stf_3, sti_4, sta_4, stf_4, sti_5, sta_5, stf_5, sti_6, sta_6, stf_6, sti_7, sta_7, stf_7, sti_8, sta_8, stf_8, sti_9, sta_9, stf_9, sti_10, sta_10, stf_10, sti_11, sta_11, stf_11, sti_12, sta_12, stf_12, sti_13, sta_13, stf_13, stn_0, stn_1, stn_2, stn_3, stn_4, stn_5, stn_6, stn_7, stn_8, stn_9, stn_10, stn_11, stn_12, stn_13, inc_0, inc_1, inc_2, inc_3, inc_4, inc_5, inc_6, inc_7, inc_8, inc_9, inc_10, inc_11, inc_12, inc_13, sw19_2, sw71_2, sw75_39, sw125_11, sw127_18, sw130_17, sw135_20, sw136_19, sw146_44, sw174_83, sw174_183, sw175_11, sw175_106, sw183_11, sw183_128, sw184_17, sw184_92, sw207_17, sw207_123, sw293_60, sw333_6, sw338_20, sw345_20, sw349_20, sw350_20, sw351_6, sw370_7, m_i2f, m_i2d, m_fc1, m_dc0, x_fret, x_dret, m_i2b, m_and255, m_and63, m_shr24, m_shr16, m_shr8, m_shr0, m_shr1, g_astb, m_i2c, x_cret, x_bret, m_gsn, t_0, t_1, t_2, t_3, t_4, t_5, t_6, t_7, t_8, t_9, t_10, t_11, t_12, t_13, tg_0, tg_1, tg_2, tg_3, tg_4, tg_5, tg_6, tg_7, tg_8, tg_9, tg_10, tg_11, tg_12, tg_13, tg_14, tg_15, tg_16, tg_17, tg_18, tg_19, tg_20, tg_21, tg_22, tg_23, tp_0, tp_1, tp_2, tp_3, tp_4, tp_5, tp_6, tp_7, tp_8, tp_9, tp_10, tp_11, tp_12, tp_13, tp_14, tp_15, tp_16, tp_17, tp_18, tp_19, tp_20, tp_21, tp_22, tp_23, wu_s, wu_n, wu_wu, if_pos, if_neg, Bool.false_eq_true, Int.add_zero, Nat.add_zero, Int.reduceEq, Int.zero_add, ne_eq, not_true_eq_false, not_false_eq_true, and_self, and_true, true_and, and_false, false_and, or_true, true_or, or_false, false_or,  b308_2, lb308_23, b308_23, R278, e]
    exact hr
  | succ d ih =>
    intro k hk
    have h2 := ih (k + 1) (by omega)
    simp only [Int.natCast_add, Int.natCast_one] at h2
    rw [← zN_s] at h2
    rw [lb308_2]
    simp (disch := first | assumption | omega | exact i8_r | exact cat1_rf | exact cat_rf | exact mf_20 | exact cat1_i | exact cat1_r | exact cat1_n | exact cat_i | exact cat_r | exact cat_n | exact mf_0 | exact mf_4 | exact mf_4n | exact mf_10 | exact mf_11 | exact mnd_0 | exact mnd_i | exact mnd_r | exact mnd_n | exact mnd_f | exact bz_r | exact bz_01 | (simp only [List.length_cons, List.length_nil] <;> omega)) only [Int.reduceToNat, Nat.reduceDiv, Nat.reduceMod, Nat.reduceAdd, Nat.reduceSub, Int.reduceNeg, Int.reduceAdd, Int.reduceSub, Int.reduceMul, Int.reduceLT, Int.reduceLE, if_true, if_false, List.length_cons, List.length_nil, bz_z, fin_0, fin_1, fin_2, fin_3, x_0, x_Ts, x_Ss, x_iinc, x_iload_n, x_iload, x_lload_n, x_lload, x_fload_n, x_fload, x_dload_n, x_dload, x_aload_n, x_aload, x_istore_n, x_istore, x_astore_n, x_astore, x_fstore_n, x_fstore, x_dstore_n, x_dstore, x_lstore_n, x_lstore, m_iconst, m_bipush, m_sipush, m_ldci, m_ldcr, m_ldcw, m_null, m_gsi, m_gsr, m_add, m_sub, m_mul, m_neg, m_div, m_rem, m_max, m_min, m_abs, m_pop, m_dup, m_dupx1, m_dupx2, m_dup2, m_getf, m_putf, g_puts, m_iald, m_bald, g_alds, m_iast, m_bast, g_asti, g_astz, m_alen, g_lens, m_new, m_newi, m_oinit, h_ps, h_pn, h_ns, h_nn, h_p1, h_n1, h_n2, h_pp, x_goto, x_if, x_icmp, x_nullr, x_nulln, x_nnr, x_nnn, x_fall, z_eq, z_ne, z_lt, z_ge, z_gt, z_le, c_eq, c_ne, c_lt, c_ge, c_gt, c_le, x_ret, x_iret, x_aret, x_nret, x_zret, x_Rv, x_Rn, x_Rx, g_clss, x_Ws, x_Ks, x_cs0, x_cs1, x_cs2, x_cs3, x_cs4, x_cs5, x_cv0, x_cv1, x_cv2, x_cv3, x_cv4, x_ci0, x_ci1, x_ci2, x_ci3, x_ci4, x_cp0, x_cp1, x_cp2, x_cp3, x_cp4, ldi_0, lda_0, ldf_0, ldl_0, ldd_0, ldi_1, lda_1, ldf_1, ldl_1, ldd_1, ldi_2, lda_2, ldf_2, ldl_2, ldd_2, ldi_3, lda_3, ldf_3, ldl_3, ldd_3, ldi_4, lda_4, ldf_4, ldl_4, ldd_4, ldi_5, lda_5, ldf_5, ldl_5, ldd_5, ldi_6, lda_6, ldf_6, ldl_6, ldd_6, ldi_7, lda_7, ldf_7, ldl_7, ldd_7, ldi_8, lda_8, ldf_8, ldl_8, ldd_8, ldi_9, lda_9, ldf_9, ldl_9, ldd_9, ldi_10, lda_10, ldf_10, ldl_10, ldd_10, ldi_11, lda_11, ldf_11, ldl_11, ldd_11, ldi_12, lda_12, ldf_12, ldl_12, ldd_12, ldi_13, lda_13, ldf_13, ldl_13, ldd_13, ldn_0, ldn_1, ldn_2, ldn_3, ldn_4, ldn_5, ldn_6, ldn_7, ldn_8, ldn_9, ldn_10, ldn_11, ldn_12, ldn_13, sti_0, sta_0, stf_0, sti_1, sta_1, stf_1, sti_2, sta_2, stf_2, sti_3, sta_3, stf_3, sti_4, sta_4, stf_4, sti_5, sta_5, stf_5, sti_6, sta_6, stf_6, sti_7, sta_7, stf_7, sti_8, sta_8, stf_8, sti_9, sta_9, stf_9, sti_10, sta_10, stf_10, sti_11, sta_11, stf_11, sti_12, sta_12, stf_12, sti_13, sta_13, stf_13, stn_0, stn_1, stn_2, stn_3, stn_4, stn_5, stn_6, stn_7, stn_8, stn_9, stn_10, stn_11, stn_12, stn_13, inc_0, inc_1, inc_2, inc_3, inc_4, inc_5, inc_6, inc_7, inc_8, inc_9, inc_10, inc_11, inc_12, inc_13, sw19_2, sw71_2, sw75_39, sw125_11, sw127_18, sw130_17, sw135_20, sw136_19, sw146_44, sw174_83, sw174_183, sw175_11, sw175_106, sw183_11, sw183_128, sw184_17, sw184_92, sw207_17, sw207_123, sw293_60, sw333_6, sw338_20, sw345_20, sw349_20, sw350_20, sw351_6, sw370_7, m_i2f, m_i2d, m_fc1, m_dc0, x_fret, x_dret, m_i2b, m_and255, m_and63, m_shr24, m_shr16, m_shr8, m_shr0, m_shr1, g_astb, m_i2c, x_cret, x_bret, m_gsn, t_0, t_1, t_2, t_3, t_4, t_5, t_6, t_7, t_8, t_9, t_10, t_11, t_12, t_13, tg_0, tg_1, tg_2, tg_3, tg_4, tg_5, tg_6, tg_7, tg_8, tg_9, tg_10, tg_11, tg_12, tg_13, tg_14, tg_15, tg_16, tg_17, tg_18, tg_19, tg_20, tg_21, tg_22, tg_23, tp_0, tp_1, tp_2, tp_3, tp_4, tp_5, tp_6, tp_7, tp_8, tp_9, tp_10, tp_11, tp_12, tp_13, tp_14, tp_15, tp_16, tp_17, tp_18, tp_19, tp_20, tp_21, tp_22, tp_23, wu_s, wu_n, wu_wu, if_pos, if_neg, Bool.false_eq_true, Int.add_zero, Nat.add_zero, Int.reduceEq, Int.zero_add, ne_eq, not_true_eq_false, not_false_eq_true, and_self, and_true, true_and, and_false, false_and, or_true, true_or, or_false, false_or,  b308_2, R278]
    exact h2
def layAllN (F : Int → Int) (g : Int → Int) : Nat → Int → Int
  | 0 => g
  | n + 1 => layG F n (F (116 + 4 * n + 2) + 2).toNat 0 (layAllN F g n)
theorem L308b (hE : E.1 ≤ b) (hF : WF (w 0)) {g : Int → Int} : ∀ d k : Nat, (k : Int) + d = w 0 4 → mV E gP (308, 25, [some (.ref b), some (.int (Int32.ofInt k)), none, none], [], tT b h (wu w 8 (layAllN (w 0) g k))) = some (.inl none, tT b h (wu w 8 (layAllN (w 0) g (k + d)))) := by
  have hcc := hF.cells
  have h4 := hF.2.2.2.2.1
  intro d
  induction d with
  | zero =>
    intro k hk
    rw [lb308_25]
    simp (disch := first | assumption | omega | exact i8_r | exact cat1_rf | exact cat_rf | exact mf_20 | exact cat1_i | exact cat1_r | exact cat1_n | exact cat_i | exact cat_r | exact cat_n | exact mf_0 | exact mf_4 | exact mf_4n | exact mf_10 | exact mf_11 | exact mnd_0 | exact mnd_i | exact mnd_r | exact mnd_n | exact mnd_f | exact bz_r | exact bz_01 | (simp only [List.length_cons, List.length_nil] <;> omega)) only [Int.reduceToNat, Nat.reduceDiv, Nat.reduceMod, Nat.reduceAdd, Nat.reduceSub, Int.reduceNeg, Int.reduceAdd, Int.reduceSub, Int.reduceMul, Int.reduceLT, Int.reduceLE, if_true, if_false, List.length_cons, List.length_nil, bz_z, fin_0, fin_1, fin_2, fin_3, x_0, x_Ts, x_Ss, x_iinc, x_iload_n, x_iload, x_lload_n, x_lload, x_fload_n, x_fload, x_dload_n, x_dload, x_aload_n, x_aload, x_istore_n, x_istore, x_astore_n, x_astore, x_fstore_n, x_fstore, x_dstore_n, x_dstore, x_lstore_n, x_lstore, m_iconst, m_bipush, m_sipush, m_ldci, m_ldcr, m_ldcw, m_null, m_gsi, m_gsr, m_add, m_sub, m_mul, m_neg, m_div, m_rem, m_max, m_min, m_abs, m_pop, m_dup, m_dupx1, m_dupx2, m_dup2, m_getf, m_putf, g_puts, m_iald, m_bald, g_alds, m_iast, m_bast, g_asti, g_astz, m_alen, g_lens, m_new, m_newi, m_oinit, h_ps, h_pn, h_ns, h_nn, h_p1, h_n1, h_n2, h_pp, x_goto, x_if, x_icmp, x_nullr, x_nulln, x_nnr, x_nnn, x_fall, z_eq, z_ne, z_lt, z_ge, z_gt, z_le, c_eq, c_ne, c_lt, c_ge, c_gt, c_le, x_ret, x_iret, x_aret, x_nret, x_zret, x_Rv, x_Rn, x_Rx, g_clss, x_Ws, x_Ks, x_cs0, x_cs1, x_cs2, x_cs3, x_cs4, x_cs5, x_cv0, x_cv1, x_cv2, x_cv3, x_cv4, x_ci0, x_ci1, x_ci2, x_ci3, x_ci4, x_cp0, x_cp1, x_cp2, x_cp3, x_cp4, ldi_0, lda_0, ldf_0, ldl_0, ldd_0, ldi_1, lda_1, ldf_1, ldl_1, ldd_1, ldi_2, lda_2, ldf_2, ldl_2, ldd_2, ldi_3, lda_3, ldf_3, ldl_3, ldd_3, ldi_4, lda_4, ldf_4, ldl_4, ldd_4, ldi_5, lda_5, ldf_5, ldl_5, ldd_5, ldi_6, lda_6, ldf_6, ldl_6, ldd_6, ldi_7, lda_7, ldf_7, ldl_7, ldd_7, ldi_8, lda_8, ldf_8, ldl_8, ldd_8, ldi_9, lda_9, ldf_9, ldl_9, ldd_9, ldi_10, lda_10, ldf_10, ldl_10, ldd_10, ldi_11, lda_11, ldf_11, ldl_11, ldd_11, ldi_12, lda_12, ldf_12, ldl_12, ldd_12, ldi_13, lda_13, ldf_13, ldl_13, ldd_13, ldn_0, ldn_1, ldn_2, ldn_3, ldn_4, ldn_5, ldn_6, ldn_7, ldn_8, ldn_9, ldn_10, ldn_11, ldn_12, ldn_13, sti_0, sta_0, stf_0, sti_1, sta_1, stf_1, sti_2, sta_2, stf_2, sti_3, sta_3, stf_3, sti_4, sta_4, stf_4, sti_5, sta_5, stf_5, sti_6, sta_6, stf_6, sti_7, sta_7, stf_7, sti_8, sta_8, stf_8, sti_9, sta_9, stf_9, sti_10, sta_10, stf_10, sti_11, sta_11, stf_11, sti_12, sta_12, stf_12, sti_13, sta_13, stf_13, stn_0, stn_1, stn_2, stn_3, stn_4, stn_5, stn_6, stn_7, stn_8, stn_9, stn_10, stn_11, stn_12, stn_13, inc_0, inc_1, inc_2, inc_3, inc_4, inc_5, inc_6, inc_7, inc_8, inc_9, inc_10, inc_11, inc_12, inc_13, sw19_2, sw71_2, sw75_39, sw125_11, sw127_18, sw130_17, sw135_20, sw136_19, sw146_44, sw174_83, sw174_183, sw175_11, sw175_106, sw183_11, sw183_128, sw184_17, sw184_92, sw207_17, sw207_123, sw293_60, sw333_6, sw338_20, sw345_20, sw349_20, sw350_20, sw351_6, sw370_7, m_i2f, m_i2d, m_fc1, m_dc0, x_fret, x_dret, m_i2b, m_and255, m_and63, m_shr24, m_shr16, m_shr8, m_shr0, m_shr1, g_astb, m_i2c, x_cret, x_bret, m_gsn, t_0, t_1, t_2, t_3, t_4, t_5, t_6, t_7, t_8, t_9, t_10, t_11, t_12, t_13, tg_0, tg_1, tg_2, tg_3, tg_4, tg_5, tg_6, tg_7, tg_8, tg_9, tg_10, tg_11, tg_12, tg_13, tg_14, tg_15, tg_16, tg_17, tg_18, tg_19, tg_20, tg_21, tg_22, tg_23, tp_0, tp_1, tp_2, tp_3, tp_4, tp_5, tp_6, tp_7, tp_8, tp_9, tp_10, tp_11, tp_12, tp_13, tp_14, tp_15, tp_16, tp_17, tp_18, tp_19, tp_20, tp_21, tp_22, tp_23, wu_s, wu_n, wu_wu, if_pos, if_neg, Bool.false_eq_true, Int.add_zero, Nat.add_zero, Int.reduceEq, Int.zero_add, ne_eq, not_true_eq_false, not_false_eq_true, and_self, and_true, true_and, and_false, false_and, or_true, true_or, or_false, false_or,  b308_25, lb308_90, b308_90]
  | succ d ih =>
    intro k hk
    have hw := hF.2.2.2.2.2.2.2.2.2.2.1 k (by omega) (by omega)
    have h2 := ih (k + 1) (by omega)
    rw [show k + 1 + d = k + (d + 1) by omega] at h2
    simp only [Int.natCast_add, Int.natCast_one] at h2
    have r1 := R309 (E := E) (b := b) (h := h) (w := wu w 8 (layAllN (w 0) g k)) hF (v := (k : Int)) (m := 0) (by constructor; omega; show (k : Int) < w 0 4; omega) (by omega)
    rw [show (wu w 8 (layAllN (w 0) g k)) 0 = w 0 from rfl] at r1
    have hr : mV E gP (308, 84, [some (.ref b), some (.int (Int32.ofInt k)), none, none], [], tT b h (wu w 8 (layG (w 0) k (w 0 (116 + 4 * k + 2) + 2).toNat 0 (layAllN (w 0) g k)))) = some (.inl none, tT b h (wu w 8 (layAllN (w 0) g (k + (d + 1))))) := by
      rw [lb308_84]
      simp (disch := first | assumption | omega | exact i8_r | exact cat1_rf | exact cat_rf | exact mf_20 | exact cat1_i | exact cat1_r | exact cat1_n | exact cat_i | exact cat_r | exact cat_n | exact mf_0 | exact mf_4 | exact mf_4n | exact mf_10 | exact mf_11 | exact mnd_0 | exact mnd_i | exact mnd_r | exact mnd_n | exact mnd_f | exact bz_r | exact bz_01 | (simp only [List.length_cons, List.length_nil] <;> omega)) only [Int.reduceToNat, Nat.reduceDiv, Nat.reduceMod, Nat.reduceAdd, Nat.reduceSub, Int.reduceNeg, Int.reduceAdd, Int.reduceSub, Int.reduceMul, Int.reduceLT, Int.reduceLE, if_true, if_false, List.length_cons, List.length_nil, bz_z, fin_0, fin_1, fin_2, fin_3, x_0, x_Ts, x_Ss, x_iinc, x_iload_n, x_iload, x_lload_n, x_lload, x_fload_n, x_fload, x_dload_n, x_dload, x_aload_n, x_aload, x_istore_n, x_istore, x_astore_n, x_astore, x_fstore_n, x_fstore, x_dstore_n, x_dstore, x_lstore_n, x_lstore, m_iconst, m_bipush, m_sipush, m_ldci, m_ldcr, m_ldcw, m_null, m_gsi, m_gsr, m_add, m_sub, m_mul, m_neg, m_div, m_rem, m_max, m_min, m_abs, m_pop, m_dup, m_dupx1, m_dupx2, m_dup2, m_getf, m_putf, g_puts, m_iald, m_bald, g_alds, m_iast, m_bast, g_asti, g_astz, m_alen, g_lens, m_new, m_newi, m_oinit, h_ps, h_pn, h_ns, h_nn, h_p1, h_n1, h_n2, h_pp, x_goto, x_if, x_icmp, x_nullr, x_nulln, x_nnr, x_nnn, x_fall, z_eq, z_ne, z_lt, z_ge, z_gt, z_le, c_eq, c_ne, c_lt, c_ge, c_gt, c_le, x_ret, x_iret, x_aret, x_nret, x_zret, x_Rv, x_Rn, x_Rx, g_clss, x_Ws, x_Ks, x_cs0, x_cs1, x_cs2, x_cs3, x_cs4, x_cs5, x_cv0, x_cv1, x_cv2, x_cv3, x_cv4, x_ci0, x_ci1, x_ci2, x_ci3, x_ci4, x_cp0, x_cp1, x_cp2, x_cp3, x_cp4, ldi_0, lda_0, ldf_0, ldl_0, ldd_0, ldi_1, lda_1, ldf_1, ldl_1, ldd_1, ldi_2, lda_2, ldf_2, ldl_2, ldd_2, ldi_3, lda_3, ldf_3, ldl_3, ldd_3, ldi_4, lda_4, ldf_4, ldl_4, ldd_4, ldi_5, lda_5, ldf_5, ldl_5, ldd_5, ldi_6, lda_6, ldf_6, ldl_6, ldd_6, ldi_7, lda_7, ldf_7, ldl_7, ldd_7, ldi_8, lda_8, ldf_8, ldl_8, ldd_8, ldi_9, lda_9, ldf_9, ldl_9, ldd_9, ldi_10, lda_10, ldf_10, ldl_10, ldd_10, ldi_11, lda_11, ldf_11, ldl_11, ldd_11, ldi_12, lda_12, ldf_12, ldl_12, ldd_12, ldi_13, lda_13, ldf_13, ldl_13, ldd_13, ldn_0, ldn_1, ldn_2, ldn_3, ldn_4, ldn_5, ldn_6, ldn_7, ldn_8, ldn_9, ldn_10, ldn_11, ldn_12, ldn_13, sti_0, sta_0, stf_0, sti_1, sta_1, stf_1, sti_2, sta_2, stf_2, sti_3, sta_3, stf_3, sti_4, sta_4, stf_4, sti_5, sta_5, stf_5, sti_6, sta_6, stf_6, sti_7, sta_7, stf_7, sti_8, sta_8, stf_8, sti_9, sta_9, stf_9, sti_10, sta_10, stf_10, sti_11, sta_11, stf_11, sti_12, sta_12, stf_12, sti_13, sta_13, stf_13, stn_0, stn_1, stn_2, stn_3, stn_4, stn_5, stn_6, stn_7, stn_8, stn_9, stn_10, stn_11, stn_12, stn_13, inc_0, inc_1, inc_2, inc_3, inc_4, inc_5, inc_6, inc_7, inc_8, inc_9, inc_10, inc_11, inc_12, inc_13, sw19_2, sw71_2, sw75_39, sw125_11, sw127_18, sw130_17, sw135_20, sw136_19, sw146_44, sw174_83, sw174_183, sw175_11, sw175_106, sw183_11, sw183_128, sw184_17, sw184_92, sw207_17, sw207_123, sw293_60, sw333_6, sw338_20, sw345_20, sw349_20, sw350_20, sw351_6, sw370_7, m_i2f, m_i2d, m_fc1, m_dc0, x_fret, x_dret, m_i2b, m_and255, m_and63, m_shr24, m_shr16, m_shr8, m_shr0, m_shr1, g_astb, m_i2c, x_cret, x_bret, m_gsn, t_0, t_1, t_2, t_3, t_4, t_5, t_6, t_7, t_8, t_9, t_10, t_11, t_12, t_13, tg_0, tg_1, tg_2, tg_3, tg_4, tg_5, tg_6, tg_7, tg_8, tg_9, tg_10, tg_11, tg_12, tg_13, tg_14, tg_15, tg_16, tg_17, tg_18, tg_19, tg_20, tg_21, tg_22, tg_23, tp_0, tp_1, tp_2, tp_3, tp_4, tp_5, tp_6, tp_7, tp_8, tp_9, tp_10, tp_11, tp_12, tp_13, tp_14, tp_15, tp_16, tp_17, tp_18, tp_19, tp_20, tp_21, tp_22, tp_23, wu_s, wu_n, wu_wu, if_pos, if_neg, Bool.false_eq_true, Int.add_zero, Nat.add_zero, Int.reduceEq, Int.zero_add, ne_eq, not_true_eq_false, not_false_eq_true, and_self, and_true, true_and, and_false, false_and, or_true, true_or, or_false, false_or,  b308_84]
      exact h2
    have h3 := L308c (E := E) (b := b) (h := h) hE hF (v := (k : Int)) (by omega) (w 0 (116 + 4 * k + 2) + 2).toNat 0 (layAllN (w 0) g k) (by omega) (by omega) hr
    rw [lb308_25]
    simp (disch := first | assumption | omega | exact i8_r | exact cat1_rf | exact cat_rf | exact mf_20 | exact cat1_i | exact cat1_r | exact cat1_n | exact cat_i | exact cat_r | exact cat_n | exact mf_0 | exact mf_4 | exact mf_4n | exact mf_10 | exact mf_11 | exact mnd_0 | exact mnd_i | exact mnd_r | exact mnd_n | exact mnd_f | exact bz_r | exact bz_01 | (simp only [List.length_cons, List.length_nil] <;> omega)) only [Int.reduceToNat, Nat.reduceDiv, Nat.reduceMod, Nat.reduceAdd, Nat.reduceSub, Int.reduceNeg, Int.reduceAdd, Int.reduceSub, Int.reduceMul, Int.reduceLT, Int.reduceLE, if_true, if_false, List.length_cons, List.length_nil, bz_z, fin_0, fin_1, fin_2, fin_3, x_0, x_Ts, x_Ss, x_iinc, x_iload_n, x_iload, x_lload_n, x_lload, x_fload_n, x_fload, x_dload_n, x_dload, x_aload_n, x_aload, x_istore_n, x_istore, x_astore_n, x_astore, x_fstore_n, x_fstore, x_dstore_n, x_dstore, x_lstore_n, x_lstore, m_iconst, m_bipush, m_sipush, m_ldci, m_ldcr, m_ldcw, m_null, m_gsi, m_gsr, m_add, m_sub, m_mul, m_neg, m_div, m_rem, m_max, m_min, m_abs, m_pop, m_dup, m_dupx1, m_dupx2, m_dup2, m_getf, m_putf, g_puts, m_iald, m_bald, g_alds, m_iast, m_bast, g_asti, g_astz, m_alen, g_lens, m_new, m_newi, m_oinit, h_ps, h_pn, h_ns, h_nn, h_p1, h_n1, h_n2, h_pp, x_goto, x_if, x_icmp, x_nullr, x_nulln, x_nnr, x_nnn, x_fall, z_eq, z_ne, z_lt, z_ge, z_gt, z_le, c_eq, c_ne, c_lt, c_ge, c_gt, c_le, x_ret, x_iret, x_aret, x_nret, x_zret, x_Rv, x_Rn, x_Rx, g_clss, x_Ws, x_Ks, x_cs0, x_cs1, x_cs2, x_cs3, x_cs4, x_cs5, x_cv0, x_cv1, x_cv2, x_cv3, x_cv4, x_ci0, x_ci1, x_ci2, x_ci3, x_ci4, x_cp0, x_cp1, x_cp2, x_cp3, x_cp4, ldi_0, lda_0, ldf_0, ldl_0, ldd_0, ldi_1, lda_1, ldf_1, ldl_1, ldd_1, ldi_2, lda_2, ldf_2, ldl_2, ldd_2, ldi_3, lda_3, ldf_3, ldl_3, ldd_3, ldi_4, lda_4, ldf_4, ldl_4, ldd_4, ldi_5, lda_5, ldf_5, ldl_5, ldd_5, ldi_6, lda_6, ldf_6, ldl_6, ldd_6, ldi_7, lda_7, ldf_7, ldl_7, ldd_7, ldi_8, lda_8, ldf_8, ldl_8, ldd_8, ldi_9, lda_9, ldf_9, ldl_9, ldd_9, ldi_10, lda_10, ldf_10, ldl_10, ldd_10, ldi_11, lda_11, ldf_11, ldl_11, ldd_11, ldi_12, lda_12, ldf_12, ldl_12, ldd_12, ldi_13, lda_13, ldf_13, ldl_13, ldd_13, ldn_0, ldn_1, ldn_2, ldn_3, ldn_4, ldn_5, ldn_6, ldn_7, ldn_8, ldn_9, ldn_10, ldn_11, ldn_12, ldn_13, sti_0, sta_0, stf_0, sti_1, sta_1, stf_1, sti_2, sta_2, stf_2, sti_3, sta_3, stf_3, sti_4, sta_4, stf_4, sti_5, sta_5, stf_5, sti_6, sta_6, stf_6, sti_7, sta_7, stf_7, sti_8, sta_8, stf_8, sti_9, sta_9, stf_9, sti_10, sta_10, stf_10, sti_11, sta_11, stf_11, sti_12, sta_12, stf_12, sti_13, sta_13, stf_13, stn_0, stn_1, stn_2, stn_3, stn_4, stn_5, stn_6, stn_7, stn_8, stn_9, stn_10, stn_11, stn_12, stn_13, inc_0, inc_1, inc_2, inc_3, inc_4, inc_5, inc_6, inc_7, inc_8, inc_9, inc_10, inc_11, inc_12, inc_13, sw19_2, sw71_2, sw75_39, sw125_11, sw127_18, sw130_17, sw135_20, sw136_19, sw146_44, sw174_83, sw174_183, sw175_11, sw175_106, sw183_11, sw183_128, sw184_17, sw184_92, sw207_17, sw207_123, sw293_60, sw333_6, sw338_20, sw345_20, sw349_20, sw350_20, sw351_6, sw370_7, m_i2f, m_i2d, m_fc1, m_dc0, x_fret, x_dret, m_i2b, m_and255, m_and63, m_shr24, m_shr16, m_shr8, m_shr0, m_shr1, g_astb, m_i2c, x_cret, x_bret, m_gsn, t_0, t_1, t_2, t_3, t_4, t_5, t_6, t_7, t_8, t_9, t_10, t_11, t_12, t_13, tg_0, tg_1, tg_2, tg_3, tg_4, tg_5, tg_6, tg_7, tg_8, tg_9, tg_10, tg_11, tg_12, tg_13, tg_14, tg_15, tg_16, tg_17, tg_18, tg_19, tg_20, tg_21, tg_22, tg_23, tp_0, tp_1, tp_2, tp_3, tp_4, tp_5, tp_6, tp_7, tp_8, tp_9, tp_10, tp_11, tp_12, tp_13, tp_14, tp_15, tp_16, tp_17, tp_18, tp_19, tp_20, tp_21, tp_22, tp_23, wu_s, wu_n, wu_wu, if_pos, if_neg, Bool.false_eq_true, Int.add_zero, Nat.add_zero, Int.reduceEq, Int.zero_add, ne_eq, not_true_eq_false, not_false_eq_true, and_self, and_true, true_and, and_false, false_and, or_true, true_or, or_false, false_or,  b308_25, r1]
    exact h3
theorem R308 (hE : E.1 ≤ b) (hF : WF (w 0)) : mRun E gP 308 [.ref b] (tT b h w) = some (.inl none, tT b h (wu w 8 (layAllN (w 0) (zN (w 8) (w 0 0 * w 0 1)) (w 0 4).toNat))) := by
  have hcc := hF.cells
  have h4 := hF.2.2.2.2.1
  have h1 := L308b (E := E) (b := b) (h := h) hE hF (g := zN (w 8) (w 0 0 * w 0 1)) (w 0 4).toNat 0 (by omega)
  rw [Nat.zero_add] at h1
  have h2 := L308a (h := h) hE hF (g := w 8) h1 (w 0 0 * w 0 1).toNat 0 (by omega)
  rw [show ((0 : Nat) : Int) = 0 from rfl, zN_0, wu_id] at h2
  simp (disch := first | assumption | omega | exact i8_r | exact cat1_rf | exact cat_rf | exact mf_20 | exact cat1_i | exact cat1_r | exact cat1_n | exact cat_i | exact cat_r | exact cat_n | exact mf_0 | exact mf_4 | exact mf_4n | exact mf_10 | exact mf_11 | exact mnd_0 | exact mnd_i | exact mnd_r | exact mnd_n | exact mnd_f | exact bz_r | exact bz_01 | (simp only [List.length_cons, List.length_nil] <;> omega)) only [Int.reduceToNat, Nat.reduceDiv, Nat.reduceMod, Nat.reduceAdd, Nat.reduceSub, Int.reduceNeg, Int.reduceAdd, Int.reduceSub, Int.reduceMul, Int.reduceLT, Int.reduceLE, if_true, if_false, List.length_cons, List.length_nil, bz_z, fin_0, fin_1, fin_2, fin_3, x_0, x_Ts, x_Ss, x_iinc, x_iload_n, x_iload, x_lload_n, x_lload, x_fload_n, x_fload, x_dload_n, x_dload, x_aload_n, x_aload, x_istore_n, x_istore, x_astore_n, x_astore, x_fstore_n, x_fstore, x_dstore_n, x_dstore, x_lstore_n, x_lstore, m_iconst, m_bipush, m_sipush, m_ldci, m_ldcr, m_ldcw, m_null, m_gsi, m_gsr, m_add, m_sub, m_mul, m_neg, m_div, m_rem, m_max, m_min, m_abs, m_pop, m_dup, m_dupx1, m_dupx2, m_dup2, m_getf, m_putf, g_puts, m_iald, m_bald, g_alds, m_iast, m_bast, g_asti, g_astz, m_alen, g_lens, m_new, m_newi, m_oinit, h_ps, h_pn, h_ns, h_nn, h_p1, h_n1, h_n2, h_pp, x_goto, x_if, x_icmp, x_nullr, x_nulln, x_nnr, x_nnn, x_fall, z_eq, z_ne, z_lt, z_ge, z_gt, z_le, c_eq, c_ne, c_lt, c_ge, c_gt, c_le, x_ret, x_iret, x_aret, x_nret, x_zret, x_Rv, x_Rn, x_Rx, g_clss, x_Ws, x_Ks, x_cs0, x_cs1, x_cs2, x_cs3, x_cs4, x_cs5, x_cv0, x_cv1, x_cv2, x_cv3, x_cv4, x_ci0, x_ci1, x_ci2, x_ci3, x_ci4, x_cp0, x_cp1, x_cp2, x_cp3, x_cp4, ldi_0, lda_0, ldf_0, ldl_0, ldd_0, ldi_1, lda_1, ldf_1, ldl_1, ldd_1, ldi_2, lda_2, ldf_2, ldl_2, ldd_2, ldi_3, lda_3, ldf_3, ldl_3, ldd_3, ldi_4, lda_4, ldf_4, ldl_4, ldd_4, ldi_5, lda_5, ldf_5, ldl_5, ldd_5, ldi_6, lda_6, ldf_6, ldl_6, ldd_6, ldi_7, lda_7, ldf_7, ldl_7, ldd_7, ldi_8, lda_8, ldf_8, ldl_8, ldd_8, ldi_9, lda_9, ldf_9, ldl_9, ldd_9, ldi_10, lda_10, ldf_10, ldl_10, ldd_10, ldi_11, lda_11, ldf_11, ldl_11, ldd_11, ldi_12, lda_12, ldf_12, ldl_12, ldd_12, ldi_13, lda_13, ldf_13, ldl_13, ldd_13, ldn_0, ldn_1, ldn_2, ldn_3, ldn_4, ldn_5, ldn_6, ldn_7, ldn_8, ldn_9, ldn_10, ldn_11, ldn_12, ldn_13, sti_0, sta_0, stf_0, sti_1, sta_1, stf_1, sti_2, sta_2, stf_2, sti_3, sta_3, stf_3, sti_4, sta_4, stf_4, sti_5, sta_5, stf_5, sti_6, sta_6, stf_6, sti_7, sta_7, stf_7, sti_8, sta_8, stf_8, sti_9, sta_9, stf_9, sti_10, sta_10, stf_10, sti_11, sta_11, stf_11, sti_12, sta_12, stf_12, sti_13, sta_13, stf_13, stn_0, stn_1, stn_2, stn_3, stn_4, stn_5, stn_6, stn_7, stn_8, stn_9, stn_10, stn_11, stn_12, stn_13, inc_0, inc_1, inc_2, inc_3, inc_4, inc_5, inc_6, inc_7, inc_8, inc_9, inc_10, inc_11, inc_12, inc_13, sw19_2, sw71_2, sw75_39, sw125_11, sw127_18, sw130_17, sw135_20, sw136_19, sw146_44, sw174_83, sw174_183, sw175_11, sw175_106, sw183_11, sw183_128, sw184_17, sw184_92, sw207_17, sw207_123, sw293_60, sw333_6, sw338_20, sw345_20, sw349_20, sw350_20, sw351_6, sw370_7, m_i2f, m_i2d, m_fc1, m_dc0, x_fret, x_dret, m_i2b, m_and255, m_and63, m_shr24, m_shr16, m_shr8, m_shr0, m_shr1, g_astb, m_i2c, x_cret, x_bret, m_gsn, t_0, t_1, t_2, t_3, t_4, t_5, t_6, t_7, t_8, t_9, t_10, t_11, t_12, t_13, tg_0, tg_1, tg_2, tg_3, tg_4, tg_5, tg_6, tg_7, tg_8, tg_9, tg_10, tg_11, tg_12, tg_13, tg_14, tg_15, tg_16, tg_17, tg_18, tg_19, tg_20, tg_21, tg_22, tg_23, tp_0, tp_1, tp_2, tp_3, tp_4, tp_5, tp_6, tp_7, tp_8, tp_9, tp_10, tp_11, tp_12, tp_13, tp_14, tp_15, tp_16, tp_17, tp_18, tp_19, tp_20, tp_21, tp_22, tp_23, wu_s, wu_n, wu_wu, if_pos, if_neg, Bool.false_eq_true, Int.add_zero, Nat.add_zero, Int.reduceEq, Int.zero_add, ne_eq, not_true_eq_false, not_false_eq_true, and_self, and_true, true_and, and_false, false_and, or_true, true_or, or_false, false_or,  en308, b308_0]
  exact h2
end LY
/-! what is laid is what is seen -/
def vis (F : Int → Int) (v c : Int) : Prop := ∃ m : Nat, (m : Int) ≤ F (116 + 4 * v + 2) ∧ gzN F v m = c ∧ cost F v m ≤ F (116 + 4 * v + 2)
theorem cost_ge {F : Int → Int} (h : WF F) {v : Int} {n : Nat} : (n : Int) ≤ cost F v n := by
  have := costN_r h v n
  unfold cost
  rw [Int.toNat_natCast]
  omega
theorem gz_n {F : Int → Int} {v : Int} {n : Nat} (h : (n : Int) ≤ F (116 + 4 * v + 2)) : gz F v n = gzN F v n := by
  unfold gz
  rw [if_neg (by omega), Int.toNat_natCast]
theorem layG_A {F : Int → Int} (h : WF F) {v c : Int} (hc : 0 ≤ c) : ∀ (d n : Nat) (g : Int → Int), (n : Int) + d = F (116 + 4 * v + 2) + 2 → ((∃ m : Nat, n ≤ m ∧ (m : Int) ≤ F (116 + 4 * v + 2) ∧ gzN F v m = c ∧ cost F v m ≤ F (116 + 4 * v + 2)) → layG F v d n g c = 1) ∧ (¬ (∃ m : Nat, n ≤ m ∧ (m : Int) ≤ F (116 + 4 * v + 2) ∧ gzN F v m = c ∧ cost F v m ≤ F (116 + 4 * v + 2)) → layG F v d n g c = g c) := by
  intro d
  induction d with
  | zero =>
    intro n g hn
    refine ⟨fun ⟨m, h1, h2, _⟩ => ?_, fun _ => rfl⟩
    omega
  | succ d ih =>
    intro n g hn
    constructor
    · rintro ⟨m, h1, h2, h3, h4⟩
      have g1 : gzN F v m ≠ -1 := by omega
      have g2 := gzN_back g1 h1
      have g3 := gz_n (F := F) (v := v) (n := n) (by omega)
      have g4 := cost_up h (v := v) h1
      unfold layG
      rw [g3, if_neg g2, if_pos (by omega)]
      have := ih (n + 1) (up g (gzN F v n) 1) (by omega)
      by_cases e : ∃ m : Nat, n + 1 ≤ m ∧ (m : Int) ≤ F (116 + 4 * v + 2) ∧ gzN F v m = c ∧ cost F v m ≤ F (116 + 4 * v + 2)
      · exact this.1 e
      · rw [this.2 e]
        by_cases e2 : m = n
        · subst e2
          rw [h3]
          exact up_s
        · exact absurd ⟨m, by omega, h2, h3, h4⟩ e
    · intro hno
      unfold layG
      by_cases e1 : gz F v n = -1
      · rw [if_pos e1]
      · rw [if_neg e1]
        by_cases e2 : cost F v n ≤ F (116 + 4 * v + 2)
        · have g5 := cost_ge h (v := v) (n := n)
          have g3 := gz_n (F := F) (v := v) (n := n) (by omega)
          rw [if_pos e2, (ih (n + 1) _ (by omega)).2 (fun ⟨m, a1, a2⟩ => hno ⟨m, by omega, a2⟩)]
          apply up_n
          intro e3
          exact hno ⟨n, Nat.le_refl _, by omega, by rw [← g3]; exact e3.symm, e2⟩
        · rw [if_neg e2]
theorem layAll_A {F : Int → Int} (h : WF F) {c : Int} (hc : 0 ≤ c) {g : Int → Int} : ∀ n : Nat, (n : Int) ≤ F 4 → ((∃ v : Nat, v < n ∧ vis F v c) → layAllN F g n c = 1) ∧ (¬ (∃ v : Nat, v < n ∧ vis F v c) → layAllN F g n c = g c) := by
  have h10 := h.2.2.2.2.2.2.2.2.2.2.1
  intro n
  induction n with
  | zero => intro _; exact ⟨fun ⟨v, hv, _⟩ => absurd hv (Nat.not_lt_zero _), fun _ => rfl⟩
  | succ n ih =>
    intro hn
    have i1 := ih (by omega)
    have hw := h10 n (by omega) (by omega)
    have i2 := layG_A h (v := (n : Int)) hc (F (116 + 4 * n + 2) + 2).toNat 0 (layAllN F g n) (by omega)
    have e : (∃ m : Nat, 0 ≤ m ∧ (m : Int) ≤ F (116 + 4 * n + 2) ∧ gzN F n m = c ∧ cost F n m ≤ F (116 + 4 * n + 2)) ↔ vis F n c := ⟨fun ⟨m, _, a⟩ => ⟨m, a⟩, fun ⟨m, a⟩ => ⟨m, Nat.zero_le _, a⟩⟩
    rw [e] at i2
    constructor
    · rintro ⟨v, hv, hs⟩
      show layG F n _ 0 (layAllN F g n) c = 1
      by_cases e2 : vis F n c
      · exact i2.1 e2
      · rw [i2.2 e2]
        refine i1.1 ⟨v, ?_, hs⟩
        rcases Nat.lt_or_ge v n with hh | hh
        · exact hh
        · have : v = n := by omega
          rw [this] at hs
          exact absurd hs e2
    · intro hno
      show layG F n _ 0 (layAllN F g n) c = g c
      rw [i2.2 (fun z => hno ⟨n, Nat.lt_succ_self _, z⟩)]
      exact i1.2 (fun ⟨v, hv, z⟩ => hno ⟨v, Nat.lt_succ_of_lt hv, z⟩)
/-- the first place -/
theorem placeS_first {F : Int → Int} {v c : Int} : ∀ (d n m : Nat), n ≤ m → m < n + d → gz F v m = c → placeS F v c d n ≠ -1 ∧ placeS F v c d n ≤ m := by
  intro d
  induction d with
  | zero => intro n m h1 h2 _; omega
  | succ d ih =>
    intro n m h1 h2 h3
    unfold placeS
    by_cases e : gz F v n = c
    · rw [if_pos e]; omega
    · rw [if_neg e]
      have : m ≠ n := fun z => e (by rw [← z]; exact h3)
      exact ih (n + 1) m (by omega) (by omega) h3
theorem sees_vis {F : Int → Int} (h : WF F) {v c : Int} (hv : 0 ≤ v ∧ v < F 4) (hc : 0 ≤ c) : sees F v c = true ↔ vis F v c := by
  have hw := h.2.2.2.2.2.2.2.2.2.2.1 v hv.1 hv.2
  have h1 := placeS_r (F := F) (v := v) (c := c) (F (116 + 4 * v + 2) + 1).toNat 0
  have h2 : place F v c = placeS F v c (F (116 + 4 * v + 2) + 1).toNat 0 := rfl
  rw [← h2] at h1
  unfold sees
  rw [decide_eq_true_eq]
  constructor
  · rintro ⟨a1, a2⟩
    have e : ((place F v c).toNat : Int) = place F v c := Int.toNat_of_nonneg (by omega)
    refine ⟨(place F v c).toNat, by omega, ?_, ?_⟩
    · rcases h1.2.2 with z | z
      · exact absurd z a1
      · rw [← gz_n (by omega), e]; exact z.2
    · rw [e]
      rcases a2 with z | z
      · rw [z]
        show (0 : Int) + costN F v 0 ≤ _
        unfold costN
        omega
      · exact z
  · rintro ⟨m, m1, m2, m3⟩
    have h3 := placeS_first (F := F) (v := v) (c := c) (F (116 + 4 * v + 2) + 1).toNat 0 m (Nat.zero_le _) (by omega) (by rw [gz_n m1]; exact m2)
    rw [← h2] at h3
    refine ⟨h3.1, Or.inr ?_⟩
    have e : ((place F v c).toNat : Int) = place F v c := Int.toNat_of_nonneg (by omega)
    have h4 := cost_up h (v := v) (n := m) (k := (place F v c).toNat) (by omega)
    rw [e] at h4
    omega
theorem seenS_iff {F : Int → Int} {c : Int} : ∀ d n : Nat, seenS F c d n = true ↔ ∃ v : Nat, n ≤ v ∧ v < n + d ∧ sees F v c = true := by
  intro d
  induction d with
  | zero => intro n; exact ⟨fun h => by simp [seenS] at h, fun ⟨v, a, b, _⟩ => by omega⟩
  | succ d ih =>
    intro n
    unfold seenS
    rw [Bool.or_eq_true, ih (n + 1)]
    constructor
    · rintro (h | ⟨v, a, b, h⟩)
      · exact ⟨n, Nat.le_refl _, by omega, h⟩
      · exact ⟨v, by omega, by omega, h⟩
    · rintro ⟨v, a, b, h⟩
      by_cases e : v = n
      · subst e; exact Or.inl h
      · exact Or.inr ⟨v, by omega, by omega, h⟩
theorem seen_vis {F : Int → Int} (h : WF F) {c : Int} (hc : 0 ≤ c) : seen F c = true ↔ ∃ v : Nat, (v : Int) < F 4 ∧ vis F v c := by
  have h4 := h.2.2.2.2.1
  unfold seen
  rw [seenS_iff]
  constructor
  · rintro ⟨v, a, b, s⟩
    exact ⟨v, by omega, (sees_vis h (by omega) hc).mp s⟩
  · rintro ⟨v, a, s⟩
    exact ⟨v, Nat.zero_le _, by omega, (sees_vis h (by omega) hc).mpr s⟩
/-- what laySeen lays -/
theorem lay_seen {F g : Int → Int} (h : WF F) {c : Int} (hc : 0 ≤ c ∧ c < F 0 * F 1) : layAllN F (zN g (F 0 * F 1)) (F 4).toNat c = bz (seen F c = true) := by
  have h4 := h.2.2.2.2.1
  have h1 := layAll_A h hc.1 (g := zN g (F 0 * F 1)) (F 4).toNat (by omega)
  have e : (∃ v : Nat, v < (F 4).toNat ∧ vis F v c) ↔ seen F c = true := by
    rw [seen_vis h hc.1]
    exact ⟨fun ⟨v, a, s⟩ => ⟨v, by omega, s⟩, fun ⟨v, a, s⟩ => ⟨v, by omega, s⟩⟩
  rw [e] at h1
  unfold bz
  by_cases e2 : seen F c = true
  · rw [if_pos e2]; exact h1.1 e2
  · rw [if_neg e2, h1.2 e2]
    unfold zN
    rw [if_pos hc]
