/-! MC component 13: catches and ticks -/
set_option maxRecDepth 100000
/-- what seeing rests on -/
def sEq (F G : Int → Int) : Prop := ∀ j, j < 132 → (j < 7 ∨ 15 ≤ j) → G j = F j
section EQ
variable {F G : Int → Int}
theorem far_cong (e : sEq F G) (c d : Int) : far G c d = far F c d := by
  unfold far
  rw [e 0 (by omega) (by omega)]
theorem nextC_cong (e : sEq F G) (c d : Int) : nextC G c d = nextC F c d := by
  unfold nextC
  rw [e 0 (by omega) (by omega), e 1 (by omega) (by omega)]
theorem mistN_cong (e : sEq F G) (c : Int) : ∀ n : Nat, n ≤ 5 → mistN G c n = mistN F c n := by
  intro n
  induction n with
  | zero => intro _; rfl
  | succ n ih =>
    intro hn
    unfold mistN
    rw [ih (by omega), far_cong e, e _ (by omega) (by omega), e _ (by omega) (by omega), e _ (by omega) (by omega)]
theorem mist_cong (hF : WF F) (e : sEq F G) (c : Int) : mist G c = mist F c := by
  have h3 := hF.2.2.2.1
  unfold mist
  rw [e 3 (by omega) (by omega), mistN_cong e c _ (by omega)]
theorem gzN_cong (hF : WF F) (e : sEq F G) {v : Int} (hv : 0 ≤ v ∧ v < F 4) : ∀ n : Nat, gzN G v n = gzN F v n := by
  obtain ⟨h0, h1, h2, h3, h4, h5, h6, h7, h8, h9, h10, h11, h12⟩ := id hF; have hcc := hF.cells
  intro n
  induction n with
  | zero => exact e _ (by omega) (by omega)
  | succ n ih =>
    have q := nextC_r hF (gzN F v n) (F (116 + 4 * v + 1))
    unfold gzN
    rw [ih, e (116 + 4 * v + 1) (by omega) (by omega), nextC_cong e]
    by_cases e1 : gzN F v n = -1
    · rw [if_pos e1, if_pos e1]
    · rw [if_neg e1, if_neg e1]
      by_cases e2 : nextC F (gzN F v n) (F (116 + 4 * v + 1)) = -1
      · rw [if_pos e2, if_pos e2]
      · rw [if_neg e2, if_neg e2, e _ (by omega) (by omega)]
theorem gz_cong (hF : WF F) (e : sEq F G) {v : Int} (hv : 0 ≤ v ∧ v < F 4) (n : Int) : gz G v n = gz F v n := by
  have h4 := hF.2.2.2.2.1
  unfold gz
  rw [e _ (by omega) (by omega), gzN_cong hF e hv]
theorem costN_cong (hF : WF F) (e : sEq F G) {v : Int} (hv : 0 ≤ v ∧ v < F 4) : ∀ n : Nat, costN G v n = costN F v n := by
  intro n
  induction n with
  | zero => rfl
  | succ n ih =>
    unfold costN
    rw [ih, gzN_cong hF e hv, mist_cong hF e]
theorem placeS_cong (hF : WF F) (e : sEq F G) {v : Int} (hv : 0 ≤ v ∧ v < F 4) {c : Int} : ∀ d n : Nat, placeS G v c d n = placeS F v c d n := by
  intro d
  induction d with
  | zero => intro n; rfl
  | succ d ih =>
    intro n
    unfold placeS
    rw [gz_cong hF e hv, ih]
theorem sees_cong (hF : WF F) (e : sEq F G) {v : Int} (hv : 0 ≤ v ∧ v < F 4) {c : Int} : sees G v c = sees F v c := by
  have h4 := hF.2.2.2.2.1
  have p : place G v c = place F v c := by
    unfold place
    rw [e _ (by omega) (by omega), placeS_cong hF e hv]
  unfold sees cost
  simp only [p, costN_cong hF e hv, e (116 + 4 * v + 2) (by omega) (by omega)]
theorem seenS_cong (hF : WF F) (e : sEq F G) {c : Int} : ∀ d n : Nat, (n : Int) + d ≤ F 4 → seenS G c d n = seenS F c d n := by
  intro d
  induction d with
  | zero => intro n _; rfl
  | succ d ih =>
    intro n hn
    unfold seenS
    rw [sees_cong hF e (by omega), ih (n + 1) (by omega)]
theorem seen_cong (hF : WF F) (e : sEq F G) {c : Int} : seen G c = seen F c := by
  have h4 := hF.2.2.2.2.1
  unfold seen
  rw [e 4 (by omega) (by omega), seenS_cong hF e _ _ (by omega)]
/-- taken and caught: in either order -/
theorem caught0_take {k : Int} (hk : 0 ≤ k ∧ k < 4) {l : Nat} : take1 k (caught0 G k) l = caught0 (take1 k G l) k := by
  have a2 : caught0 G k (156 + 6 * l + 2) = G (156 + 6 * l + 2) := caught0_at (by omega) (by omega) (by omega)
  have a4 : caught0 G k (156 + 6 * l + 4) = G (156 + 6 * l + 4) := caught0_at (by omega) (by omega) (by omega)
  unfold take1
  rw [a2, a4]
  by_cases e : G (156 + 6 * l + 2) = 1 ∧ G (156 + 6 * l + 4) = k
  · rw [if_pos e, if_pos e]
    unfold caught0
    rw [up_n (show 132 + 6 * k + 4 ≠ 156 + 6 * (l : Int) + 4 by omega), up_n (show 132 + 6 * k + 4 ≠ 156 + 6 * (l : Int) + 2 by omega), up_n (show (13 : Int) ≠ 156 + 6 * (l : Int) + 4 by omega), up_n (show (13 : Int) ≠ 156 + 6 * (l : Int) + 2 by omega), up_n (show 132 + 6 * k + 1 ≠ 156 + 6 * (l : Int) + 4 by omega), up_n (show 132 + 6 * k + 1 ≠ 156 + 6 * (l : Int) + 2 by omega)]
    rw [up_comm (show 132 + 6 * k ≠ 156 + 6 * (l : Int) + 2 by omega), up_comm (show 132 + 6 * k ≠ 156 + 6 * (l : Int) + 4 by omega), up_comm (show (13 : Int) ≠ 156 + 6 * (l : Int) + 2 by omega), up_comm (show (13 : Int) ≠ 156 + 6 * (l : Int) + 4 by omega), up_comm (show 132 + 6 * k + 4 ≠ 156 + 6 * (l : Int) + 2 by omega), up_comm (show 132 + 6 * k + 4 ≠ 156 + 6 * (l : Int) + 4 by omega)]
  · rw [if_neg e, if_neg e]
theorem caught0_takeN {k : Int} (hk : 0 ≤ k ∧ k < 4) : ∀ n : Nat, takeN k (caught0 G k) n = caught0 (takeN k G n) k := by
  intro n
  induction n with
  | zero => rfl
  | succ n ih =>
    show take1 k (takeN k (caught0 G k) n) n = caught0 (take1 k (takeN k G n) n) k
    rw [ih, caught0_take hk]
theorem take1_up {k : Int} {j x : Int} (hj : j < 156) {l : Nat} : take1 k (up G j x) l = up (take1 k G l) j x := by
  unfold take1
  rw [up_n (show 156 + 6 * (l : Int) + 2 ≠ j by omega), up_n (show 156 + 6 * (l : Int) + 4 ≠ j by omega)]
  by_cases e : G (156 + 6 * l + 2) = 1 ∧ G (156 + 6 * l + 4) = k
  · rw [if_pos e, if_pos e, up_comm (show j ≠ 156 + 6 * (l : Int) + 2 by omega), up_comm (show j ≠ 156 + 6 * (l : Int) + 4 by omega)]
  · rw [if_neg e, if_neg e]
theorem takeN_up {k : Int} {j x : Int} (hj : j < 156) : ∀ n : Nat, takeN k (up G j x) n = up (takeN k G n) j x := by
  intro n
  induction n with
  | zero => rfl
  | succ n ih =>
    show take1 k (takeN k (up G j x) n) n = up (take1 k (takeN k G n) n) j x
    rw [ih, take1_up hj]
theorem caughtF_up {k : Int} (hk : 0 ≤ k ∧ k < 4) {x : Int} : caughtF (up G (132 + 6 * k + 2) x) k = up (caughtF G k) (132 + 6 * k + 2) x := by
  unfold caughtF
  rw [up_n (show (6 : Int) ≠ 132 + 6 * k + 2 by omega), caught0_takeN hk, caught0_takeN hk, takeN_up (by omega)]
  unfold caught0
  rw [up_n (show 132 + 6 * k + 4 ≠ 132 + 6 * k + 2 by omega), up_n (show (13 : Int) ≠ 132 + 6 * k + 2 by omega), up_n (show 132 + 6 * k + 1 ≠ 132 + 6 * k + 2 by omega), up_comm (show 132 + 6 * k + 2 ≠ 132 + 6 * k + 4 by omega), up_comm (show 132 + 6 * k + 2 ≠ 13 by omega), up_comm (show 132 + 6 * k + 2 ≠ 132 + 6 * k by omega)]
end EQ
theorem WF_ccaught {F : Int → Int} (hF : WF F) {k : Int} (hk : 0 ≤ k ∧ k < F 5) {x : Int} : WF (up F (132 + 6 * k + 4) x) := by
  obtain ⟨h0, h1, h2, h3, h4, h5, h6, h7, h8, h9, h10, h11, h12⟩ := id hF; have hcc := hF.cells
  exact WF_up hF (by unfold okU; (repeat' first | apply And.intro | intro _); all_goals omega)
theorem WF_ccell {F : Int → Int} (hF : WF F) {k : Int} (hk : 0 ≤ k ∧ k < F 5) {x : Int} (hx : 0 ≤ x ∧ x < F 0 * F 1) : WF (up F (132 + 6 * k) x) := by
  obtain ⟨h0, h1, h2, h3, h4, h5, h6, h7, h8, h9, h10, h11, h12⟩ := id hF; have hcc := hF.cells
  exact WF_up hF (by unfold okU; (repeat' first | apply And.intro | intro _); all_goals omega)
section CT
variable {E : mE} {A P : Nat → Prop} {a : Nat} {F : Int → Int} {s : Nat → Nat} {B W C L : Int → Nat}
theorem L225_14 (hP : ∀ q, P q → E.1 ≤ q) {G : Int → Int} (hG : WF G) (hI : In A P a G s B W C L) {c : Int} (hc : 0 ≤ c ∧ c < G 5) : ∀ (d k : Nat) (h : mH), (k : Int) + d = G 6 → St h a (takeN c G k) s B W C L → ∃ h', Wr P h h' ∧ St h' a (takeN c G (G 6).toNat) s B W C L ∧ ∀ r, mV E gP (225, 82, [some (.ref a), some (.int (Int32.ofInt c)), some (.ref (C c)), none], [], h') = some r → mV E gP (225, 14, [some (.ref a), some (.int (Int32.ofInt c)), some (.ref (C c)), some (.int (Int32.ofInt k))], [], h) = some r := by
  have g6 := hG.2.2.2.2.2.2.1
  have g5 := hG.2.2.2.2.2.1
  intro d
  induction d with
  | zero =>
    intro k h hk hS
    have e6 := takeN_lo (c := c) (G := G) k (show (6 : Int) < 156 by omega)
    refine ⟨h, Wr.rfl, by rw [show (G 6).toNat = k by omega]; exact hS, fun r hr => ?_⟩
    obtain ⟨q1, q2, ⟨wf, w1, w2⟩, ⟨lb, lw, lc, ll⟩, ⟨tf, t1, t2⟩, ob, ow, oc, ol⟩ := id hS; unfold S1 at q1; have q2u := id q2; unfold S2 at q2u
    have hr2 := mV_weak hr (show mle [some (.ref a), some (.int (Int32.ofInt c)), some (.ref (C c)), none] [some (.ref a), some (.int (Int32.ofInt c)), some (.ref (C c)), some (.int (Int32.ofInt k))] by simp [mle])
    rw [lb225_14]
    simp (disch := first | assumption | omega | exact sub_1 | exact sub_3 | exact sub_4 | exact sub_6 | exact sub_7 | exact i8_r | exact cat1_rf | exact cat_rf | exact mf_20 | exact cat1_i | exact cat1_r | exact cat1_n | exact cat_i | exact cat_r | exact cat_n | exact mf_0 | exact mf_4 | exact mf_4n | exact mf_10 | exact mf_11 | exact mnd_0 | exact mnd_i | exact mnd_r | exact mnd_n | exact mnd_f | exact bz_r | exact bz_01 | (simp only [List.length_cons, List.length_nil] <;> omega) | (simp only [wu, Nat.reduceEqDiff, if_true, if_false] <;> first | assumption | omega) | (simp only [h_n1, h_p1] <;> omega)) only [Int.reduceToNat, Nat.reduceDiv, Nat.reduceMod, Nat.reduceAdd, Nat.reduceSub, Int.reduceNeg, Int.reduceAdd, Int.reduceSub, Int.reduceMul, Int.reduceLT, Int.reduceLE, if_true, if_false, List.length_cons, List.length_nil, bz_z, fin_0, fin_1, fin_2, fin_3, x_0, x_Ts, x_Ss, x_iinc, x_iload_n, x_iload, x_lload_n, x_lload, x_fload_n, x_fload, x_dload_n, x_dload, x_aload_n, x_aload, x_istore_n, x_istore, x_astore_n, x_astore, x_fstore_n, x_fstore, x_dstore_n, x_dstore, x_lstore_n, x_lstore, m_iconst, m_bipush, m_sipush, m_ldci, m_ldcr, m_ldcw, m_null, m_gsi, m_gsr, m_add, m_sub, m_mul, m_neg, m_div, m_rem, m_max, m_min, m_abs, m_pop, m_dup, m_dupx1, m_dupx2, m_dup2, m_getf, m_putf, g_puts, m_iald, m_bald, g_alds, m_iast, m_bast, g_asti, g_astz, m_alen, g_lens, m_new, m_newi, m_oinit, h_ps, h_pn, h_ns, h_nn, h_p1, h_n1, h_n2, h_pp, x_goto, x_if, x_icmp, x_nullr, x_nulln, x_nnr, x_nnn, x_fall, z_eq, z_ne, z_lt, z_ge, z_gt, z_le, c_eq, c_ne, c_lt, c_ge, c_gt, c_le, x_ret, x_iret, x_aret, x_nret, x_zret, x_Rv, x_Rn, x_Rx, g_clss, x_Ws, x_Ks, x_cs0, x_cs1, x_cs2, x_cs3, x_cs4, x_cs5, x_cv0, x_cv1, x_cv2, x_cv3, x_cv4, x_ci0, x_ci1, x_ci2, x_ci3, x_ci4, x_cp0, x_cp1, x_cp2, x_cp3, x_cp4, ldi_0, lda_0, ldf_0, ldl_0, ldd_0, ldi_1, lda_1, ldf_1, ldl_1, ldd_1, ldi_2, lda_2, ldf_2, ldl_2, ldd_2, ldi_3, lda_3, ldf_3, ldl_3, ldd_3, ldi_4, lda_4, ldf_4, ldl_4, ldd_4, ldi_5, lda_5, ldf_5, ldl_5, ldd_5, ldi_6, lda_6, ldf_6, ldl_6, ldd_6, ldi_7, lda_7, ldf_7, ldl_7, ldd_7, ldi_8, lda_8, ldf_8, ldl_8, ldd_8, ldi_9, lda_9, ldf_9, ldl_9, ldd_9, ldi_10, lda_10, ldf_10, ldl_10, ldd_10, ldi_11, lda_11, ldf_11, ldl_11, ldd_11, ldi_12, lda_12, ldf_12, ldl_12, ldd_12, ldi_13, lda_13, ldf_13, ldl_13, ldd_13, ldn_0, ldn_1, ldn_2, ldn_3, ldn_4, ldn_5, ldn_6, ldn_7, ldn_8, ldn_9, ldn_10, ldn_11, ldn_12, ldn_13, sti_0, sta_0, stf_0, sti_1, sta_1, stf_1, sti_2, sta_2, stf_2, sti_3, sta_3, stf_3, sti_4, sta_4, stf_4, sti_5, sta_5, stf_5, sti_6, sta_6, stf_6, sti_7, sta_7, stf_7, sti_8, sta_8, stf_8, sti_9, sta_9, stf_9, sti_10, sta_10, stf_10, sti_11, sta_11, stf_11, sti_12, sta_12, stf_12, sti_13, sta_13, stf_13, stn_0, stn_1, stn_2, stn_3, stn_4, stn_5, stn_6, stn_7, stn_8, stn_9, stn_10, stn_11, stn_12, stn_13, inc_0, inc_1, inc_2, inc_3, inc_4, inc_5, inc_6, inc_7, inc_8, inc_9, inc_10, inc_11, inc_12, inc_13, sw19_2, sw71_2, sw75_39, sw125_11, sw127_18, sw130_17, sw135_20, sw136_19, sw146_44, sw174_83, sw174_183, sw175_11, sw175_106, sw183_11, sw183_128, sw184_17, sw184_92, sw207_17, sw207_123, sw293_60, sw333_6, sw338_20, sw345_20, sw349_20, sw350_20, sw351_6, sw370_7, m_i2f, m_i2d, m_fc1, m_dc0, x_fret, x_dret, m_i2b, m_and255, m_and63, m_shr24, m_shr16, m_shr8, m_shr0, m_shr1, g_astb, m_i2c, x_cret, x_bret, m_gsn, if_pos, if_neg, Bool.false_eq_true, Int.add_zero, Nat.add_zero, Int.reduceEq, Int.zero_add, ne_eq, not_true_eq_false, not_false_eq_true, and_self, and_true, true_and, and_false, false_and, or_true, true_or, or_false, false_or, gs_0, gs_1, gs_2, gs_3, gs_4, gs_5, gs_6, gs_7, gs_8, m_aald, g_aalds, rf_s, rf_n, m_cast, g_casts,  b225_14, ll.c, R3 ll, q1, e6]
    exact hr2
  | succ d ih =>
    intro k h hk hS
    have hF := takeN_WF hG (c := c) k (by omega)
    have e6 := takeN_lo (c := c) (G := G) k (show (6 : Int) < 156 by omega)
    have e5 := takeN_lo (c := c) (G := G) k (show (5 : Int) < 156 by omega)
    obtain ⟨h0, h1, h2, h3, h4, h5, h6, h7, h8, h9, h10, h11, h12⟩ := id hF; have hcc := hF.cells
    obtain ⟨q1, q2, ⟨wf, w1, w2⟩, ⟨lb, lw, lc, ll⟩, ⟨tf, t1, t2⟩, ob, ow, oc, ol⟩ := id hS; unfold S1 at q1; have q2u := id q2; unfold S2 at q2u
    have o1 := ol.1 k (by omega) (by omega)
    have i1 := hI.2.2.2.2.2.2.2 k (by omega) (by omega)
    have ep := hP _ i1.2
    have w9 := h12 k (by omega) (by omega)
    have rc := R246 (E := E) (c := c) o1 w9 (by omega) (by omega)
    have o1c : g_cls (h.1 (L k)) = some 7 := by rw [o1]; exact g_clss
    have o1u := id o1
    unfold o7 at o1u
    by_cases e1 : takeN c G k (156 + 6 * k + 2) = 1 ∧ takeN c G k (156 + 6 * k + 4) = c
    · have e2 : takeN c G (k + 1) = up (up (takeN c G k) (156 + 6 * k + 2) 3) (156 + 6 * k + 4) (-1) := by
        show take1 c (takeN c G k) k = _
        unfold take1
        rw [if_pos e1]
      have hs2 := St_lstate (x := 3) hF (k := (k : Int)) (by omega) hS
      have hF2 : WF (up (takeN c G k) (156 + 6 * k + 2) 3) := WF_up hF (by unfold okU; (repeat' first | apply And.intro | intro _); all_goals omega)
      have hs3 := St_lhand (x := -1) hF2 (k := (k : Int)) (by rw [up_n (by omega)]; omega) hs2
      rw [up_n (show 156 + 6 * (k : Int) ≠ 156 + 6 * k + 2 by omega), up_n (show 156 + 6 * (k : Int) + 1 ≠ 156 + 6 * k + 2 by omega), up_s, up_n (show 156 + 6 * (k : Int) + 3 ≠ 156 + 6 * k + 2 by omega), up_n (show 156 + 6 * (k : Int) + 5 ≠ 156 + 6 * k + 2 by omega)] at hs3
      obtain ⟨h', u1, u2, u3⟩ := ih (k + 1) _ (by omega) (by rw [e2]; exact hs3)
      simp only [Int.natCast_add, Int.natCast_one] at u3
      refine ⟨h', ((Wr_put i1.2).trans (Wr_put i1.2)).trans u1, u2, fun r hr => ?_⟩
      have hr2 := u3 r hr
      rw [show bz (takeN c G k (156 + 6 * k + 2) = 1 ∧ takeN c G k (156 + 6 * k + 4) = c) = 1 from if_pos e1] at rc
      obtain ⟨-, -, -, ⟨-, -, -, llb⟩, -⟩ := hs2
      have q1b := (St_lstate (x := 3) hF (k := (k : Int)) (by omega) hS).1
      unfold S1 at q1b
      rw [up_n (show (2 : Int) ≠ 156 + 6 * (k : Int) + 2 by omega), up_n (show (7 : Int) ≠ 156 + 6 * (k : Int) + 2 by omega)] at q1b
      rw [up_n (show (6 : Int) ≠ 156 + 6 * (k : Int) + 2 by omega)] at llb
      have r2a := R2 (E := E) ll (k := (k : Int)) (by omega)
      have r2b := R2 (E := E) llb (k := (k : Int)) (by omega)
      rw [lb225_14]
      simp (disch := first | assumption | omega | exact sub_1 | exact sub_3 | exact sub_4 | exact sub_6 | exact sub_7 | exact i8_r | exact cat1_rf | exact cat_rf | exact mf_20 | exact cat1_i | exact cat1_r | exact cat1_n | exact cat_i | exact cat_r | exact cat_n | exact mf_0 | exact mf_4 | exact mf_4n | exact mf_10 | exact mf_11 | exact mnd_0 | exact mnd_i | exact mnd_r | exact mnd_n | exact mnd_f | exact bz_r | exact bz_01 | (simp only [List.length_cons, List.length_nil] <;> omega) | (simp only [wu, Nat.reduceEqDiff, if_true, if_false] <;> first | assumption | omega) | (simp only [h_n1, h_p1] <;> omega)) only [Int.reduceToNat, Nat.reduceDiv, Nat.reduceMod, Nat.reduceAdd, Nat.reduceSub, Int.reduceNeg, Int.reduceAdd, Int.reduceSub, Int.reduceMul, Int.reduceLT, Int.reduceLE, if_true, if_false, List.length_cons, List.length_nil, bz_z, fin_0, fin_1, fin_2, fin_3, x_0, x_Ts, x_Ss, x_iinc, x_iload_n, x_iload, x_lload_n, x_lload, x_fload_n, x_fload, x_dload_n, x_dload, x_aload_n, x_aload, x_istore_n, x_istore, x_astore_n, x_astore, x_fstore_n, x_fstore, x_dstore_n, x_dstore, x_lstore_n, x_lstore, m_iconst, m_bipush, m_sipush, m_ldci, m_ldcr, m_ldcw, m_null, m_gsi, m_gsr, m_add, m_sub, m_mul, m_neg, m_div, m_rem, m_max, m_min, m_abs, m_pop, m_dup, m_dupx1, m_dupx2, m_dup2, m_getf, m_putf, g_puts, m_iald, m_bald, g_alds, m_iast, m_bast, g_asti, g_astz, m_alen, g_lens, m_new, m_newi, m_oinit, h_ps, h_pn, h_ns, h_nn, h_p1, h_n1, h_n2, h_pp, x_goto, x_if, x_icmp, x_nullr, x_nulln, x_nnr, x_nnn, x_fall, z_eq, z_ne, z_lt, z_ge, z_gt, z_le, c_eq, c_ne, c_lt, c_ge, c_gt, c_le, x_ret, x_iret, x_aret, x_nret, x_zret, x_Rv, x_Rn, x_Rx, g_clss, x_Ws, x_Ks, x_cs0, x_cs1, x_cs2, x_cs3, x_cs4, x_cs5, x_cv0, x_cv1, x_cv2, x_cv3, x_cv4, x_ci0, x_ci1, x_ci2, x_ci3, x_ci4, x_cp0, x_cp1, x_cp2, x_cp3, x_cp4, ldi_0, lda_0, ldf_0, ldl_0, ldd_0, ldi_1, lda_1, ldf_1, ldl_1, ldd_1, ldi_2, lda_2, ldf_2, ldl_2, ldd_2, ldi_3, lda_3, ldf_3, ldl_3, ldd_3, ldi_4, lda_4, ldf_4, ldl_4, ldd_4, ldi_5, lda_5, ldf_5, ldl_5, ldd_5, ldi_6, lda_6, ldf_6, ldl_6, ldd_6, ldi_7, lda_7, ldf_7, ldl_7, ldd_7, ldi_8, lda_8, ldf_8, ldl_8, ldd_8, ldi_9, lda_9, ldf_9, ldl_9, ldd_9, ldi_10, lda_10, ldf_10, ldl_10, ldd_10, ldi_11, lda_11, ldf_11, ldl_11, ldd_11, ldi_12, lda_12, ldf_12, ldl_12, ldd_12, ldi_13, lda_13, ldf_13, ldl_13, ldd_13, ldn_0, ldn_1, ldn_2, ldn_3, ldn_4, ldn_5, ldn_6, ldn_7, ldn_8, ldn_9, ldn_10, ldn_11, ldn_12, ldn_13, sti_0, sta_0, stf_0, sti_1, sta_1, stf_1, sti_2, sta_2, stf_2, sti_3, sta_3, stf_3, sti_4, sta_4, stf_4, sti_5, sta_5, stf_5, sti_6, sta_6, stf_6, sti_7, sta_7, stf_7, sti_8, sta_8, stf_8, sti_9, sta_9, stf_9, sti_10, sta_10, stf_10, sti_11, sta_11, stf_11, sti_12, sta_12, stf_12, sti_13, sta_13, stf_13, stn_0, stn_1, stn_2, stn_3, stn_4, stn_5, stn_6, stn_7, stn_8, stn_9, stn_10, stn_11, stn_12, stn_13, inc_0, inc_1, inc_2, inc_3, inc_4, inc_5, inc_6, inc_7, inc_8, inc_9, inc_10, inc_11, inc_12, inc_13, sw19_2, sw71_2, sw75_39, sw125_11, sw127_18, sw130_17, sw135_20, sw136_19, sw146_44, sw174_83, sw174_183, sw175_11, sw175_106, sw183_11, sw183_128, sw184_17, sw184_92, sw207_17, sw207_123, sw293_60, sw333_6, sw338_20, sw345_20, sw349_20, sw350_20, sw351_6, sw370_7, m_i2f, m_i2d, m_fc1, m_dc0, x_fret, x_dret, m_i2b, m_and255, m_and63, m_shr24, m_shr16, m_shr8, m_shr0, m_shr1, g_astb, m_i2c, x_cret, x_bret, m_gsn, if_pos, if_neg, Bool.false_eq_true, Int.add_zero, Nat.add_zero, Int.reduceEq, Int.zero_add, ne_eq, not_true_eq_false, not_false_eq_true, and_self, and_true, true_and, and_false, false_and, or_true, true_or, or_false, false_or, gs_0, gs_1, gs_2, gs_3, gs_4, gs_5, gs_6, gs_7, gs_8, m_aald, g_aalds, rf_s, rf_n, m_cast, g_casts,  b225_14, lb225_46, b225_46, lb225_76, b225_76, ll.c, R3 ll, r2a, q1, e6, o1u, o1c, rc, q1b, llb.c, r2b, List.set_cons_zero, List.set_cons_succ]
      rw [h_pp] at hr2
      exact hr2
    · have e2 : takeN c G (k + 1) = takeN c G k := by
        show take1 c (takeN c G k) k = _
        unfold take1
        rw [if_neg e1]
      obtain ⟨h', u1, u2, u3⟩ := ih (k + 1) h (by omega) (by rw [e2]; exact hS)
      simp only [Int.natCast_add, Int.natCast_one] at u3
      refine ⟨h', u1, u2, fun r hr => ?_⟩
      have hr2 := u3 r hr
      rw [show bz (takeN c G k (156 + 6 * k + 2) = 1 ∧ takeN c G k (156 + 6 * k + 4) = c) = 0 from if_neg e1] at rc
      rw [lb225_14]
      simp (disch := first | assumption | omega | exact sub_1 | exact sub_3 | exact sub_4 | exact sub_6 | exact sub_7 | exact i8_r | exact cat1_rf | exact cat_rf | exact mf_20 | exact cat1_i | exact cat1_r | exact cat1_n | exact cat_i | exact cat_r | exact cat_n | exact mf_0 | exact mf_4 | exact mf_4n | exact mf_10 | exact mf_11 | exact mnd_0 | exact mnd_i | exact mnd_r | exact mnd_n | exact mnd_f | exact bz_r | exact bz_01 | (simp only [List.length_cons, List.length_nil] <;> omega) | (simp only [wu, Nat.reduceEqDiff, if_true, if_false] <;> first | assumption | omega) | (simp only [h_n1, h_p1] <;> omega)) only [Int.reduceToNat, Nat.reduceDiv, Nat.reduceMod, Nat.reduceAdd, Nat.reduceSub, Int.reduceNeg, Int.reduceAdd, Int.reduceSub, Int.reduceMul, Int.reduceLT, Int.reduceLE, if_true, if_false, List.length_cons, List.length_nil, bz_z, fin_0, fin_1, fin_2, fin_3, x_0, x_Ts, x_Ss, x_iinc, x_iload_n, x_iload, x_lload_n, x_lload, x_fload_n, x_fload, x_dload_n, x_dload, x_aload_n, x_aload, x_istore_n, x_istore, x_astore_n, x_astore, x_fstore_n, x_fstore, x_dstore_n, x_dstore, x_lstore_n, x_lstore, m_iconst, m_bipush, m_sipush, m_ldci, m_ldcr, m_ldcw, m_null, m_gsi, m_gsr, m_add, m_sub, m_mul, m_neg, m_div, m_rem, m_max, m_min, m_abs, m_pop, m_dup, m_dupx1, m_dupx2, m_dup2, m_getf, m_putf, g_puts, m_iald, m_bald, g_alds, m_iast, m_bast, g_asti, g_astz, m_alen, g_lens, m_new, m_newi, m_oinit, h_ps, h_pn, h_ns, h_nn, h_p1, h_n1, h_n2, h_pp, x_goto, x_if, x_icmp, x_nullr, x_nulln, x_nnr, x_nnn, x_fall, z_eq, z_ne, z_lt, z_ge, z_gt, z_le, c_eq, c_ne, c_lt, c_ge, c_gt, c_le, x_ret, x_iret, x_aret, x_nret, x_zret, x_Rv, x_Rn, x_Rx, g_clss, x_Ws, x_Ks, x_cs0, x_cs1, x_cs2, x_cs3, x_cs4, x_cs5, x_cv0, x_cv1, x_cv2, x_cv3, x_cv4, x_ci0, x_ci1, x_ci2, x_ci3, x_ci4, x_cp0, x_cp1, x_cp2, x_cp3, x_cp4, ldi_0, lda_0, ldf_0, ldl_0, ldd_0, ldi_1, lda_1, ldf_1, ldl_1, ldd_1, ldi_2, lda_2, ldf_2, ldl_2, ldd_2, ldi_3, lda_3, ldf_3, ldl_3, ldd_3, ldi_4, lda_4, ldf_4, ldl_4, ldd_4, ldi_5, lda_5, ldf_5, ldl_5, ldd_5, ldi_6, lda_6, ldf_6, ldl_6, ldd_6, ldi_7, lda_7, ldf_7, ldl_7, ldd_7, ldi_8, lda_8, ldf_8, ldl_8, ldd_8, ldi_9, lda_9, ldf_9, ldl_9, ldd_9, ldi_10, lda_10, ldf_10, ldl_10, ldd_10, ldi_11, lda_11, ldf_11, ldl_11, ldd_11, ldi_12, lda_12, ldf_12, ldl_12, ldd_12, ldi_13, lda_13, ldf_13, ldl_13, ldd_13, ldn_0, ldn_1, ldn_2, ldn_3, ldn_4, ldn_5, ldn_6, ldn_7, ldn_8, ldn_9, ldn_10, ldn_11, ldn_12, ldn_13, sti_0, sta_0, stf_0, sti_1, sta_1, stf_1, sti_2, sta_2, stf_2, sti_3, sta_3, stf_3, sti_4, sta_4, stf_4, sti_5, sta_5, stf_5, sti_6, sta_6, stf_6, sti_7, sta_7, stf_7, sti_8, sta_8, stf_8, sti_9, sta_9, stf_9, sti_10, sta_10, stf_10, sti_11, sta_11, stf_11, sti_12, sta_12, stf_12, sti_13, sta_13, stf_13, stn_0, stn_1, stn_2, stn_3, stn_4, stn_5, stn_6, stn_7, stn_8, stn_9, stn_10, stn_11, stn_12, stn_13, inc_0, inc_1, inc_2, inc_3, inc_4, inc_5, inc_6, inc_7, inc_8, inc_9, inc_10, inc_11, inc_12, inc_13, sw19_2, sw71_2, sw75_39, sw125_11, sw127_18, sw130_17, sw135_20, sw136_19, sw146_44, sw174_83, sw174_183, sw175_11, sw175_106, sw183_11, sw183_128, sw184_17, sw184_92, sw207_17, sw207_123, sw293_60, sw333_6, sw338_20, sw345_20, sw349_20, sw350_20, sw351_6, sw370_7, m_i2f, m_i2d, m_fc1, m_dc0, x_fret, x_dret, m_i2b, m_and255, m_and63, m_shr24, m_shr16, m_shr8, m_shr0, m_shr1, g_astb, m_i2c, x_cret, x_bret, m_gsn, if_pos, if_neg, Bool.false_eq_true, Int.add_zero, Nat.add_zero, Int.reduceEq, Int.zero_add, ne_eq, not_true_eq_false, not_false_eq_true, and_self, and_true, true_and, and_false, false_and, or_true, true_or, or_false, false_or, gs_0, gs_1, gs_2, gs_3, gs_4, gs_5, gs_6, gs_7, gs_8, m_aald, g_aalds, rf_s, rf_n, m_cast, g_casts,  b225_14, lb225_76, b225_76, ll.c, R3 ll, R2 ll, q1, e6, o1u, o1c, rc]
      exact hr2
theorem R225 (hP : ∀ q, P q → E.1 ≤ q) {h : mH} (hF : WF F) (hI : In A P a F s B W C L) (hS : St h a F s B W C L) {c : Int} (hc : 0 ≤ c ∧ c < F 5) : ∃ h', Wr P h h' ∧ St h' a (caughtF F c) s B W C L ∧ mRun E gP 225 [.ref a, .int (Int32.ofInt c)] h = some (.inl none, h') := by
  have hF0 := hF
  obtain ⟨h0, h1, h2, h3, h4, h5, h6, h7, h8, h9, h10, h11, h12⟩ := id hF; have hcc := hF.cells
  have lo := fun {j : Int} (hj : j < 156) => takeN_lo (c := c) (G := F) (F 6).toNat hj
  have gT := takeN_WF hF (c := c) (F 6).toNat (by omega)
  have ee : caughtF F c = caught0 (takeN c F (F 6).toNat) c := caught0_takeN (by omega) _
  obtain ⟨g, u1, u2, u3⟩ := L225_14 hP hF hI hc (F 6).toNat 0 h (by omega) hS
  have T5 : takeN c F (F 6).toNat 5 = F 5 := lo (by omega)
  have q1 := hS.1
  have lc := hS.2.2.2.1.2.2.1
  have oc := hS.2.2.2.2.2.2.2.1
  unfold S1 at q1
  have i1 := hI.2.2.2.2.2.2.1 c hc.1 hc.2
  have ep := hP _ i1.2
  have i5 := hI.2.2.2.1
  have ep5 := hP _ i5.2
  have o1 := oc.1 c hc.1 hc.2
  have o1u := id o1
  unfold o6 at o1u
  generalize hT : takeN c F (F 6).toNat = T at *
  rw [ee]
  unfold caught0
  have t0 : WF (up T (132 + 6 * c + 4) (T (132 + 6 * c + 4) + 1)) := WF_ccaught gT (by omega)
  have t1 : WF (up (up T (132 + 6 * c + 4) (T (132 + 6 * c + 4) + 1)) 13 (T 13 + 1)) := WF_tal t0 (by omega)
  -- the order in which it is written
  have ord : up (up (up T (132 + 6 * c + 4) (T (132 + 6 * c + 4) + 1)) 13 (T 13 + 1)) (132 + 6 * c) (T (132 + 6 * c + 1)) = up (up (up T (132 + 6 * c) (T (132 + 6 * c + 1))) (132 + 6 * c + 4) (T (132 + 6 * c + 4) + 1)) (8 + 5) (T 13 + 1) := by
    rw [show (8 : Int) + 5 = 13 from rfl, up_comm (show (13 : Int) ≠ 132 + 6 * c by omega), up_comm (show 132 + 6 * c + 4 ≠ 132 + 6 * c by omega)]
  rw [ord]
  have gA : WF (up T (132 + 6 * c) (T (132 + 6 * c + 1))) := WF_ccell gT (by omega) (gT.2.2.2.2.2.2.2.2.2.2.2.1 c hc.1 (by omega)).2.1
  have gB : WF (up (up T (132 + 6 * c) (T (132 + 6 * c + 1))) (132 + 6 * c + 4) (T (132 + 6 * c + 4) + 1)) := WF_ccaught gA (by rw [up_n (by omega)]; omega)
  have sA := St_ccell (x := T (132 + 6 * c + 1)) gT (k := c) (by omega) u2
  have sB := St_ccaught (x := T (132 + 6 * c + 4) + 1) gA (k := c) (by rw [up_n (by omega)]; omega) sA
  rw [up_n (show 132 + 6 * c + 1 ≠ 132 + 6 * c by omega), up_s, up_n (show 132 + 6 * c + 3 ≠ 132 + 6 * c by omega), up_n (show 132 + 6 * c + 5 ≠ 132 + 6 * c by omega), up_n (show 132 + 6 * c + 2 ≠ 132 + 6 * c by omega)] at sB
  obtain ⟨tf, t1', t2'⟩ := sB.2.2.2.2.1
  have sC := St_tal (x := T 13 + 1) (k := 5) gB (by omega) sB t1' t2'
  refine ⟨_, u1.trans (((Wr_put i1.2).trans (Wr_put i1.2)).trans (Wr_put i5.2)), sC, ?_⟩
  have tf5 : tf 5 = T 13 := by
    rw [t2' 5 (by omega) (by omega)]
    show up _ _ _ 13 = _
    rw [up_n (by omega), up_n (by omega)]
  have og := u2.2.2.2.2.2.2.2.1.1 c hc.1 (by omega)
  unfold o6 at og
  have qg := sB.1
  unfold S1 at qg
  have w4 := u3 (.inl none, mput (mput (mput g (C c) (.inr (6, [.int (Int32.ofInt (T (132 + 6 * c + 1))), .int (Int32.ofInt (T (132 + 6 * c + 1))), .int (Int32.ofInt (T (132 + 6 * c + 3))), .int (Int32.ofInt (T (132 + 6 * c + 4))), .int (Int32.ofInt (T (132 + 6 * c + 5))), .int (Int32.ofInt (T (132 + 6 * c + 2)))]))) (C c) (.inr (6, [.int (Int32.ofInt (T (132 + 6 * c + 1))), .int (Int32.ofInt (T (132 + 6 * c + 1))), .int (Int32.ofInt (T (132 + 6 * c + 3))), .int (Int32.ofInt (T (132 + 6 * c + 4) + 1)), .int (Int32.ofInt (T (132 + 6 * c + 5))), .int (Int32.ofInt (T (132 + 6 * c + 2)))]))) (s 5) (mAI 0 7 (up tf 5 (T 13 + 1)))) (by
    rw [h_pp] at t1' qg
    rw [lb225_82]
    simp (disch := first | assumption | omega | exact sub_1 | exact sub_3 | exact sub_4 | exact sub_6 | exact sub_7 | exact i8_r | exact cat1_rf | exact cat_rf | exact mf_20 | exact cat1_i | exact cat1_r | exact cat1_n | exact cat_i | exact cat_r | exact cat_n | exact mf_0 | exact mf_4 | exact mf_4n | exact mf_10 | exact mf_11 | exact mnd_0 | exact mnd_i | exact mnd_r | exact mnd_n | exact mnd_f | exact bz_r | exact bz_01 | (simp only [List.length_cons, List.length_nil] <;> omega) | (simp only [wu, Nat.reduceEqDiff, if_true, if_false] <;> first | assumption | omega) | (simp only [h_n1, h_p1] <;> omega)) only [Int.reduceToNat, Nat.reduceDiv, Nat.reduceMod, Nat.reduceAdd, Nat.reduceSub, Int.reduceNeg, Int.reduceAdd, Int.reduceSub, Int.reduceMul, Int.reduceLT, Int.reduceLE, if_true, if_false, List.length_cons, List.length_nil, bz_z, fin_0, fin_1, fin_2, fin_3, x_0, x_Ts, x_Ss, x_iinc, x_iload_n, x_iload, x_lload_n, x_lload, x_fload_n, x_fload, x_dload_n, x_dload, x_aload_n, x_aload, x_istore_n, x_istore, x_astore_n, x_astore, x_fstore_n, x_fstore, x_dstore_n, x_dstore, x_lstore_n, x_lstore, m_iconst, m_bipush, m_sipush, m_ldci, m_ldcr, m_ldcw, m_null, m_gsi, m_gsr, m_add, m_sub, m_mul, m_neg, m_div, m_rem, m_max, m_min, m_abs, m_pop, m_dup, m_dupx1, m_dupx2, m_dup2, m_getf, m_putf, g_puts, m_iald, m_bald, g_alds, m_iast, m_bast, g_asti, g_astz, m_alen, g_lens, m_new, m_newi, m_oinit, h_ps, h_pn, h_ns, h_nn, h_p1, h_n1, h_n2, h_pp, x_goto, x_if, x_icmp, x_nullr, x_nulln, x_nnr, x_nnn, x_fall, z_eq, z_ne, z_lt, z_ge, z_gt, z_le, c_eq, c_ne, c_lt, c_ge, c_gt, c_le, x_ret, x_iret, x_aret, x_nret, x_zret, x_Rv, x_Rn, x_Rx, g_clss, x_Ws, x_Ks, x_cs0, x_cs1, x_cs2, x_cs3, x_cs4, x_cs5, x_cv0, x_cv1, x_cv2, x_cv3, x_cv4, x_ci0, x_ci1, x_ci2, x_ci3, x_ci4, x_cp0, x_cp1, x_cp2, x_cp3, x_cp4, ldi_0, lda_0, ldf_0, ldl_0, ldd_0, ldi_1, lda_1, ldf_1, ldl_1, ldd_1, ldi_2, lda_2, ldf_2, ldl_2, ldd_2, ldi_3, lda_3, ldf_3, ldl_3, ldd_3, ldi_4, lda_4, ldf_4, ldl_4, ldd_4, ldi_5, lda_5, ldf_5, ldl_5, ldd_5, ldi_6, lda_6, ldf_6, ldl_6, ldd_6, ldi_7, lda_7, ldf_7, ldl_7, ldd_7, ldi_8, lda_8, ldf_8, ldl_8, ldd_8, ldi_9, lda_9, ldf_9, ldl_9, ldd_9, ldi_10, lda_10, ldf_10, ldl_10, ldd_10, ldi_11, lda_11, ldf_11, ldl_11, ldd_11, ldi_12, lda_12, ldf_12, ldl_12, ldd_12, ldi_13, lda_13, ldf_13, ldl_13, ldd_13, ldn_0, ldn_1, ldn_2, ldn_3, ldn_4, ldn_5, ldn_6, ldn_7, ldn_8, ldn_9, ldn_10, ldn_11, ldn_12, ldn_13, sti_0, sta_0, stf_0, sti_1, sta_1, stf_1, sti_2, sta_2, stf_2, sti_3, sta_3, stf_3, sti_4, sta_4, stf_4, sti_5, sta_5, stf_5, sti_6, sta_6, stf_6, sti_7, sta_7, stf_7, sti_8, sta_8, stf_8, sti_9, sta_9, stf_9, sti_10, sta_10, stf_10, sti_11, sta_11, stf_11, sti_12, sta_12, stf_12, sti_13, sta_13, stf_13, stn_0, stn_1, stn_2, stn_3, stn_4, stn_5, stn_6, stn_7, stn_8, stn_9, stn_10, stn_11, stn_12, stn_13, inc_0, inc_1, inc_2, inc_3, inc_4, inc_5, inc_6, inc_7, inc_8, inc_9, inc_10, inc_11, inc_12, inc_13, sw19_2, sw71_2, sw75_39, sw125_11, sw127_18, sw130_17, sw135_20, sw136_19, sw146_44, sw174_83, sw174_183, sw175_11, sw175_106, sw183_11, sw183_128, sw184_17, sw184_92, sw207_17, sw207_123, sw293_60, sw333_6, sw338_20, sw345_20, sw349_20, sw350_20, sw351_6, sw370_7, m_i2f, m_i2d, m_fc1, m_dc0, x_fret, x_dret, m_i2b, m_and255, m_and63, m_shr24, m_shr16, m_shr8, m_shr0, m_shr1, g_astb, m_i2c, x_cret, x_bret, m_gsn, if_pos, if_neg, Bool.false_eq_true, Int.add_zero, Nat.add_zero, Int.reduceEq, Int.zero_add, ne_eq, not_true_eq_false, not_false_eq_true, and_self, and_true, true_and, and_false, false_and, or_true, true_or, or_false, false_or, gs_0, gs_1, gs_2, gs_3, gs_4, gs_5, gs_6, gs_7, gs_8, m_aald, g_aalds, rf_s, rf_n, m_cast, g_casts,  b225_82, og, h_pp, qg, t1', tf5, List.set_cons_zero, List.set_cons_succ])
  rw [en225]
  simp (disch := first | assumption | omega | exact sub_1 | exact sub_3 | exact sub_4 | exact sub_6 | exact sub_7 | exact i8_r | exact cat1_rf | exact cat_rf | exact mf_20 | exact cat1_i | exact cat1_r | exact cat1_n | exact cat_i | exact cat_r | exact cat_n | exact mf_0 | exact mf_4 | exact mf_4n | exact mf_10 | exact mf_11 | exact mnd_0 | exact mnd_i | exact mnd_r | exact mnd_n | exact mnd_f | exact bz_r | exact bz_01 | (simp only [List.length_cons, List.length_nil] <;> omega) | (simp only [wu, Nat.reduceEqDiff, if_true, if_false] <;> first | assumption | omega) | (simp only [h_n1, h_p1] <;> omega)) only [Int.reduceToNat, Nat.reduceDiv, Nat.reduceMod, Nat.reduceAdd, Nat.reduceSub, Int.reduceNeg, Int.reduceAdd, Int.reduceSub, Int.reduceMul, Int.reduceLT, Int.reduceLE, if_true, if_false, List.length_cons, List.length_nil, bz_z, fin_0, fin_1, fin_2, fin_3, x_0, x_Ts, x_Ss, x_iinc, x_iload_n, x_iload, x_lload_n, x_lload, x_fload_n, x_fload, x_dload_n, x_dload, x_aload_n, x_aload, x_istore_n, x_istore, x_astore_n, x_astore, x_fstore_n, x_fstore, x_dstore_n, x_dstore, x_lstore_n, x_lstore, m_iconst, m_bipush, m_sipush, m_ldci, m_ldcr, m_ldcw, m_null, m_gsi, m_gsr, m_add, m_sub, m_mul, m_neg, m_div, m_rem, m_max, m_min, m_abs, m_pop, m_dup, m_dupx1, m_dupx2, m_dup2, m_getf, m_putf, g_puts, m_iald, m_bald, g_alds, m_iast, m_bast, g_asti, g_astz, m_alen, g_lens, m_new, m_newi, m_oinit, h_ps, h_pn, h_ns, h_nn, h_p1, h_n1, h_n2, h_pp, x_goto, x_if, x_icmp, x_nullr, x_nulln, x_nnr, x_nnn, x_fall, z_eq, z_ne, z_lt, z_ge, z_gt, z_le, c_eq, c_ne, c_lt, c_ge, c_gt, c_le, x_ret, x_iret, x_aret, x_nret, x_zret, x_Rv, x_Rn, x_Rx, g_clss, x_Ws, x_Ks, x_cs0, x_cs1, x_cs2, x_cs3, x_cs4, x_cs5, x_cv0, x_cv1, x_cv2, x_cv3, x_cv4, x_ci0, x_ci1, x_ci2, x_ci3, x_ci4, x_cp0, x_cp1, x_cp2, x_cp3, x_cp4, ldi_0, lda_0, ldf_0, ldl_0, ldd_0, ldi_1, lda_1, ldf_1, ldl_1, ldd_1, ldi_2, lda_2, ldf_2, ldl_2, ldd_2, ldi_3, lda_3, ldf_3, ldl_3, ldd_3, ldi_4, lda_4, ldf_4, ldl_4, ldd_4, ldi_5, lda_5, ldf_5, ldl_5, ldd_5, ldi_6, lda_6, ldf_6, ldl_6, ldd_6, ldi_7, lda_7, ldf_7, ldl_7, ldd_7, ldi_8, lda_8, ldf_8, ldl_8, ldd_8, ldi_9, lda_9, ldf_9, ldl_9, ldd_9, ldi_10, lda_10, ldf_10, ldl_10, ldd_10, ldi_11, lda_11, ldf_11, ldl_11, ldd_11, ldi_12, lda_12, ldf_12, ldl_12, ldd_12, ldi_13, lda_13, ldf_13, ldl_13, ldd_13, ldn_0, ldn_1, ldn_2, ldn_3, ldn_4, ldn_5, ldn_6, ldn_7, ldn_8, ldn_9, ldn_10, ldn_11, ldn_12, ldn_13, sti_0, sta_0, stf_0, sti_1, sta_1, stf_1, sti_2, sta_2, stf_2, sti_3, sta_3, stf_3, sti_4, sta_4, stf_4, sti_5, sta_5, stf_5, sti_6, sta_6, stf_6, sti_7, sta_7, stf_7, sti_8, sta_8, stf_8, sti_9, sta_9, stf_9, sti_10, sta_10, stf_10, sti_11, sta_11, stf_11, sti_12, sta_12, stf_12, sti_13, sta_13, stf_13, stn_0, stn_1, stn_2, stn_3, stn_4, stn_5, stn_6, stn_7, stn_8, stn_9, stn_10, stn_11, stn_12, stn_13, inc_0, inc_1, inc_2, inc_3, inc_4, inc_5, inc_6, inc_7, inc_8, inc_9, inc_10, inc_11, inc_12, inc_13, sw19_2, sw71_2, sw75_39, sw125_11, sw127_18, sw130_17, sw135_20, sw136_19, sw146_44, sw174_83, sw174_183, sw175_11, sw175_106, sw183_11, sw183_128, sw184_17, sw184_92, sw207_17, sw207_123, sw293_60, sw333_6, sw338_20, sw345_20, sw349_20, sw350_20, sw351_6, sw370_7, m_i2f, m_i2d, m_fc1, m_dc0, x_fret, x_dret, m_i2b, m_and255, m_and63, m_shr24, m_shr16, m_shr8, m_shr0, m_shr1, g_astb, m_i2c, x_cret, x_bret, m_gsn, if_pos, if_neg, Bool.false_eq_true, Int.add_zero, Nat.add_zero, Int.reduceEq, Int.zero_add, ne_eq, not_true_eq_false, not_false_eq_true, and_self, and_true, true_and, and_false, false_and, or_true, true_or, or_false, false_or, gs_0, gs_1, gs_2, gs_3, gs_4, gs_5, gs_6, gs_7, gs_8, m_aald, g_aalds, rf_s, rf_n, m_cast, g_casts,  b225_0, q1, lc.c, R2 lc, o1u]
  rw [h_pp] at w4
  exact w4
theorem L223_6 (hP : ∀ q, P q → E.1 ≤ q) {S : Int → Int} (hG : WF S) (hI : In A P a S s B W C L) : ∀ (d k : Nat) (h : mH), (k : Int) + d = S 5 → St h a (tickN S k) s B W C L → ∃ h', Wr P h h' ∧ St h' a (tickN S (S 5).toNat) s B W C L ∧ mV E gP (223, 6, [some (.ref a), some (.int (Int32.ofInt k))], [], h) = some (.inl none, h') := by
  have g5 := hG.2.2.2.2.2.1
  intro d
  induction d with
  | zero =>
    intro k h hk hS
    have e5 := tickN_lo (S := S) k (show (5 : Int) < 132 by omega) (by omega)
    refine ⟨h, Wr.rfl, by rw [show (S 5).toNat = k by omega]; exact hS, ?_⟩
    obtain ⟨q1, q2, ⟨wf, w1, w2⟩, ⟨lb, lw, lc, ll⟩, ⟨tf, t1, t2⟩, ob, ow, oc, ol⟩ := id hS; unfold S1 at q1; have q2u := id q2; unfold S2 at q2u
    rw [lb223_6]
    simp (disch := first | assumption | omega | exact sub_1 | exact sub_3 | exact sub_4 | exact sub_6 | exact sub_7 | exact i8_r | exact cat1_rf | exact cat_rf | exact mf_20 | exact cat1_i | exact cat1_r | exact cat1_n | exact cat_i | exact cat_r | exact cat_n | exact mf_0 | exact mf_4 | exact mf_4n | exact mf_10 | exact mf_11 | exact mnd_0 | exact mnd_i | exact mnd_r | exact mnd_n | exact mnd_f | exact bz_r | exact bz_01 | (simp only [List.length_cons, List.length_nil] <;> omega) | (simp only [wu, Nat.reduceEqDiff, if_true, if_false] <;> first | assumption | omega) | (simp only [h_n1, h_p1] <;> omega)) only [Int.reduceToNat, Nat.reduceDiv, Nat.reduceMod, Nat.reduceAdd, Nat.reduceSub, Int.reduceNeg, Int.reduceAdd, Int.reduceSub, Int.reduceMul, Int.reduceLT, Int.reduceLE, if_true, if_false, List.length_cons, List.length_nil, bz_z, fin_0, fin_1, fin_2, fin_3, x_0, x_Ts, x_Ss, x_iinc, x_iload_n, x_iload, x_lload_n, x_lload, x_fload_n, x_fload, x_dload_n, x_dload, x_aload_n, x_aload, x_istore_n, x_istore, x_astore_n, x_astore, x_fstore_n, x_fstore, x_dstore_n, x_dstore, x_lstore_n, x_lstore, m_iconst, m_bipush, m_sipush, m_ldci, m_ldcr, m_ldcw, m_null, m_gsi, m_gsr, m_add, m_sub, m_mul, m_neg, m_div, m_rem, m_max, m_min, m_abs, m_pop, m_dup, m_dupx1, m_dupx2, m_dup2, m_getf, m_putf, g_puts, m_iald, m_bald, g_alds, m_iast, m_bast, g_asti, g_astz, m_alen, g_lens, m_new, m_newi, m_oinit, h_ps, h_pn, h_ns, h_nn, h_p1, h_n1, h_n2, h_pp, x_goto, x_if, x_icmp, x_nullr, x_nulln, x_nnr, x_nnn, x_fall, z_eq, z_ne, z_lt, z_ge, z_gt, z_le, c_eq, c_ne, c_lt, c_ge, c_gt, c_le, x_ret, x_iret, x_aret, x_nret, x_zret, x_Rv, x_Rn, x_Rx, g_clss, x_Ws, x_Ks, x_cs0, x_cs1, x_cs2, x_cs3, x_cs4, x_cs5, x_cv0, x_cv1, x_cv2, x_cv3, x_cv4, x_ci0, x_ci1, x_ci2, x_ci3, x_ci4, x_cp0, x_cp1, x_cp2, x_cp3, x_cp4, ldi_0, lda_0, ldf_0, ldl_0, ldd_0, ldi_1, lda_1, ldf_1, ldl_1, ldd_1, ldi_2, lda_2, ldf_2, ldl_2, ldd_2, ldi_3, lda_3, ldf_3, ldl_3, ldd_3, ldi_4, lda_4, ldf_4, ldl_4, ldd_4, ldi_5, lda_5, ldf_5, ldl_5, ldd_5, ldi_6, lda_6, ldf_6, ldl_6, ldd_6, ldi_7, lda_7, ldf_7, ldl_7, ldd_7, ldi_8, lda_8, ldf_8, ldl_8, ldd_8, ldi_9, lda_9, ldf_9, ldl_9, ldd_9, ldi_10, lda_10, ldf_10, ldl_10, ldd_10, ldi_11, lda_11, ldf_11, ldl_11, ldd_11, ldi_12, lda_12, ldf_12, ldl_12, ldd_12, ldi_13, lda_13, ldf_13, ldl_13, ldd_13, ldn_0, ldn_1, ldn_2, ldn_3, ldn_4, ldn_5, ldn_6, ldn_7, ldn_8, ldn_9, ldn_10, ldn_11, ldn_12, ldn_13, sti_0, sta_0, stf_0, sti_1, sta_1, stf_1, sti_2, sta_2, stf_2, sti_3, sta_3, stf_3, sti_4, sta_4, stf_4, sti_5, sta_5, stf_5, sti_6, sta_6, stf_6, sti_7, sta_7, stf_7, sti_8, sta_8, stf_8, sti_9, sta_9, stf_9, sti_10, sta_10, stf_10, sti_11, sta_11, stf_11, sti_12, sta_12, stf_12, sti_13, sta_13, stf_13, stn_0, stn_1, stn_2, stn_3, stn_4, stn_5, stn_6, stn_7, stn_8, stn_9, stn_10, stn_11, stn_12, stn_13, inc_0, inc_1, inc_2, inc_3, inc_4, inc_5, inc_6, inc_7, inc_8, inc_9, inc_10, inc_11, inc_12, inc_13, sw19_2, sw71_2, sw75_39, sw125_11, sw127_18, sw130_17, sw135_20, sw136_19, sw146_44, sw174_83, sw174_183, sw175_11, sw175_106, sw183_11, sw183_128, sw184_17, sw184_92, sw207_17, sw207_123, sw293_60, sw333_6, sw338_20, sw345_20, sw349_20, sw350_20, sw351_6, sw370_7, m_i2f, m_i2d, m_fc1, m_dc0, x_fret, x_dret, m_i2b, m_and255, m_and63, m_shr24, m_shr16, m_shr8, m_shr0, m_shr1, g_astb, m_i2c, x_cret, x_bret, m_gsn, if_pos, if_neg, Bool.false_eq_true, Int.add_zero, Nat.add_zero, Int.reduceEq, Int.zero_add, ne_eq, not_true_eq_false, not_false_eq_true, and_self, and_true, true_and, and_false, false_and, or_true, true_or, or_false, false_or, gs_0, gs_1, gs_2, gs_3, gs_4, gs_5, gs_6, gs_7, gs_8, m_aald, g_aalds, rf_s, rf_n, m_cast, g_casts,  b223_6, lb223_64, b223_64, lc.c, R3 lc, q1, e5]
  | succ d ih =>
    intro k h hk hS
    have hF := tickN_WF hG k (by omega)
    have e3 := tickN_lo (S := S) k (show (3 : Int) < 132 by omega) (by omega)
    have e4 := tickN_lo (S := S) k (show (4 : Int) < 132 by omega) (by omega)
    have e5 := tickN_lo (S := S) k (show (5 : Int) < 132 by omega) (by omega)
    have e6 := tickN_lo (S := S) k (show (6 : Int) < 132 by omega) (by omega)
    have hI2 := In_eq hI e3 e4 e5 e6
    have es : ∀ c, seen (tickN S k) c = seen S c := fun c => seen_cong hG (fun j j1 j2 => tickN_lo k j1 (by omega))
    obtain ⟨h0, h1, h2, h3, h4, h5, h6, h7, h8, h9, h10, h11, h12⟩ := id hF; have hcc := hF.cells
    obtain ⟨q1, q2, ⟨wf, w1, w2⟩, ⟨lb, lw, lc, ll⟩, ⟨tf, t1, t2⟩, ob, ow, oc, ol⟩ := id hS; unfold S1 at q1; have q2u := id q2; unfold S2 at q2u
    have o1 := oc.1 k (by omega) (by omega)
    have i1 := hI.2.2.2.2.2.2.1 k (by omega) (by omega)
    have ep := hP _ i1.2
    have w9 := h11 k (by omega) (by omega)
    unfold o6 at o1
    have rs := R212 (E := E) hF hS w9.1
    rw [es] at rs
    have r2a := R2 (E := E) lc (k := (k : Int)) (by omega)
    by_cases e1 : seen S (tickN S k (132 + 6 * k)) = true
    · have e2 : tickN S (k + 1) = up (caughtF (tickN S k) k) (132 + 6 * k + 2) 0 := by
        show tick1 S (tickN S k) k = _
        unfold tick1
        rw [if_pos e1, caughtF_up (by omega)]
      obtain ⟨g, u1, u2, u3⟩ := R225 hP hF hI2 hS (c := (k : Int)) (by omega)
      have gC := caughtF_WF hF (k := (k : Int)) (by omega)
      have f5 : caughtF (tickN S k) k 5 = S 5 := (caughtF_lo (by omega) (by omega) (by omega)).trans e5
      have sC := St_cstep (x := 0) gC (k := (k : Int)) (by omega) u2
      obtain ⟨h', v1, v2, v3⟩ := ih (k + 1) _ (by omega) (by rw [e2]; exact sC)
      simp only [Int.natCast_add, Int.natCast_one] at v3
      refine ⟨h', (u1.trans (Wr_put i1.2)).trans v1, v2, ?_⟩
      rw [show bz (seen S (tickN S k (132 + 6 * k)) = true) = 1 from if_pos e1] at rs
      have qg := u2.1
      unfold S1 at qg
      have lg := u2.2.2.2.1.2.2.1
      have og := u2.2.2.2.2.2.2.2.1.1 k (by omega) (by omega)
      unfold o6 at og
      have r2b := R2 (E := E) lg (k := (k : Int)) (by omega)
      have ac : g_cls (h.1 a) = some 1 := by rw [q1]; exact g_clss
      rw [lb223_6]
      simp (disch := first | assumption | omega | exact sub_1 | exact sub_3 | exact sub_4 | exact sub_6 | exact sub_7 | exact i8_r | exact cat1_rf | exact cat_rf | exact mf_20 | exact cat1_i | exact cat1_r | exact cat1_n | exact cat_i | exact cat_r | exact cat_n | exact mf_0 | exact mf_4 | exact mf_4n | exact mf_10 | exact mf_11 | exact mnd_0 | exact mnd_i | exact mnd_r | exact mnd_n | exact mnd_f | exact bz_r | exact bz_01 | (simp only [List.length_cons, List.length_nil] <;> omega) | (simp only [wu, Nat.reduceEqDiff, if_true, if_false] <;> first | assumption | omega) | (simp only [h_n1, h_p1] <;> omega)) only [Int.reduceToNat, Nat.reduceDiv, Nat.reduceMod, Nat.reduceAdd, Nat.reduceSub, Int.reduceNeg, Int.reduceAdd, Int.reduceSub, Int.reduceMul, Int.reduceLT, Int.reduceLE, if_true, if_false, List.length_cons, List.length_nil, bz_z, fin_0, fin_1, fin_2, fin_3, x_0, x_Ts, x_Ss, x_iinc, x_iload_n, x_iload, x_lload_n, x_lload, x_fload_n, x_fload, x_dload_n, x_dload, x_aload_n, x_aload, x_istore_n, x_istore, x_astore_n, x_astore, x_fstore_n, x_fstore, x_dstore_n, x_dstore, x_lstore_n, x_lstore, m_iconst, m_bipush, m_sipush, m_ldci, m_ldcr, m_ldcw, m_null, m_gsi, m_gsr, m_add, m_sub, m_mul, m_neg, m_div, m_rem, m_max, m_min, m_abs, m_pop, m_dup, m_dupx1, m_dupx2, m_dup2, m_getf, m_putf, g_puts, m_iald, m_bald, g_alds, m_iast, m_bast, g_asti, g_astz, m_alen, g_lens, m_new, m_newi, m_oinit, h_ps, h_pn, h_ns, h_nn, h_p1, h_n1, h_n2, h_pp, x_goto, x_if, x_icmp, x_nullr, x_nulln, x_nnr, x_nnn, x_fall, z_eq, z_ne, z_lt, z_ge, z_gt, z_le, c_eq, c_ne, c_lt, c_ge, c_gt, c_le, x_ret, x_iret, x_aret, x_nret, x_zret, x_Rv, x_Rn, x_Rx, g_clss, x_Ws, x_Ks, x_cs0, x_cs1, x_cs2, x_cs3, x_cs4, x_cs5, x_cv0, x_cv1, x_cv2, x_cv3, x_cv4, x_ci0, x_ci1, x_ci2, x_ci3, x_ci4, x_cp0, x_cp1, x_cp2, x_cp3, x_cp4, ldi_0, lda_0, ldf_0, ldl_0, ldd_0, ldi_1, lda_1, ldf_1, ldl_1, ldd_1, ldi_2, lda_2, ldf_2, ldl_2, ldd_2, ldi_3, lda_3, ldf_3, ldl_3, ldd_3, ldi_4, lda_4, ldf_4, ldl_4, ldd_4, ldi_5, lda_5, ldf_5, ldl_5, ldd_5, ldi_6, lda_6, ldf_6, ldl_6, ldd_6, ldi_7, lda_7, ldf_7, ldl_7, ldd_7, ldi_8, lda_8, ldf_8, ldl_8, ldd_8, ldi_9, lda_9, ldf_9, ldl_9, ldd_9, ldi_10, lda_10, ldf_10, ldl_10, ldd_10, ldi_11, lda_11, ldf_11, ldl_11, ldd_11, ldi_12, lda_12, ldf_12, ldl_12, ldd_12, ldi_13, lda_13, ldf_13, ldl_13, ldd_13, ldn_0, ldn_1, ldn_2, ldn_3, ldn_4, ldn_5, ldn_6, ldn_7, ldn_8, ldn_9, ldn_10, ldn_11, ldn_12, ldn_13, sti_0, sta_0, stf_0, sti_1, sta_1, stf_1, sti_2, sta_2, stf_2, sti_3, sta_3, stf_3, sti_4, sta_4, stf_4, sti_5, sta_5, stf_5, sti_6, sta_6, stf_6, sti_7, sta_7, stf_7, sti_8, sta_8, stf_8, sti_9, sta_9, stf_9, sti_10, sta_10, stf_10, sti_11, sta_11, stf_11, sti_12, sta_12, stf_12, sti_13, sta_13, stf_13, stn_0, stn_1, stn_2, stn_3, stn_4, stn_5, stn_6, stn_7, stn_8, stn_9, stn_10, stn_11, stn_12, stn_13, inc_0, inc_1, inc_2, inc_3, inc_4, inc_5, inc_6, inc_7, inc_8, inc_9, inc_10, inc_11, inc_12, inc_13, sw19_2, sw71_2, sw75_39, sw125_11, sw127_18, sw130_17, sw135_20, sw136_19, sw146_44, sw174_83, sw174_183, sw175_11, sw175_106, sw183_11, sw183_128, sw184_17, sw184_92, sw207_17, sw207_123, sw293_60, sw333_6, sw338_20, sw345_20, sw349_20, sw350_20, sw351_6, sw370_7, m_i2f, m_i2d, m_fc1, m_dc0, x_fret, x_dret, m_i2b, m_and255, m_and63, m_shr24, m_shr16, m_shr8, m_shr0, m_shr1, g_astb, m_i2c, x_cret, x_bret, m_gsn, if_pos, if_neg, Bool.false_eq_true, Int.add_zero, Nat.add_zero, Int.reduceEq, Int.zero_add, ne_eq, not_true_eq_false, not_false_eq_true, and_self, and_true, true_and, and_false, false_and, or_true, true_or, or_false, false_or, gs_0, gs_1, gs_2, gs_3, gs_4, gs_5, gs_6, gs_7, gs_8, m_aald, g_aalds, rf_s, rf_n, m_cast, g_casts,  b223_6, lb223_43, b223_43, lc.c, R3 lc, r2a, q1, e5, o1, ac, rs, u3, qg, lg.c, r2b, og, List.set_cons_zero, List.set_cons_succ]
      exact v3
    · have e2 : tickN S (k + 1) = up (tickN S k) (132 + 6 * k + 2) 0 := by
        show tick1 S (tickN S k) k = _
        unfold tick1
        rw [if_neg e1]
      have sC := St_cstep (x := 0) hF (k := (k : Int)) (by omega) hS
      obtain ⟨h', v1, v2, v3⟩ := ih (k + 1) _ (by omega) (by rw [e2]; exact sC)
      simp only [Int.natCast_add, Int.natCast_one] at v3
      refine ⟨h', (Wr_put i1.2).trans v1, v2, ?_⟩
      rw [show bz (seen S (tickN S k (132 + 6 * k)) = true) = 0 from if_neg e1] at rs
      rw [lb223_6]
      simp (disch := first | assumption | omega | exact sub_1 | exact sub_3 | exact sub_4 | exact sub_6 | exact sub_7 | exact i8_r | exact cat1_rf | exact cat_rf | exact mf_20 | exact cat1_i | exact cat1_r | exact cat1_n | exact cat_i | exact cat_r | exact cat_n | exact mf_0 | exact mf_4 | exact mf_4n | exact mf_10 | exact mf_11 | exact mnd_0 | exact mnd_i | exact mnd_r | exact mnd_n | exact mnd_f | exact bz_r | exact bz_01 | (simp only [List.length_cons, List.length_nil] <;> omega) | (simp only [wu, Nat.reduceEqDiff, if_true, if_false] <;> first | assumption | omega) | (simp only [h_n1, h_p1] <;> omega)) only [Int.reduceToNat, Nat.reduceDiv, Nat.reduceMod, Nat.reduceAdd, Nat.reduceSub, Int.reduceNeg, Int.reduceAdd, Int.reduceSub, Int.reduceMul, Int.reduceLT, Int.reduceLE, if_true, if_false, List.length_cons, List.length_nil, bz_z, fin_0, fin_1, fin_2, fin_3, x_0, x_Ts, x_Ss, x_iinc, x_iload_n, x_iload, x_lload_n, x_lload, x_fload_n, x_fload, x_dload_n, x_dload, x_aload_n, x_aload, x_istore_n, x_istore, x_astore_n, x_astore, x_fstore_n, x_fstore, x_dstore_n, x_dstore, x_lstore_n, x_lstore, m_iconst, m_bipush, m_sipush, m_ldci, m_ldcr, m_ldcw, m_null, m_gsi, m_gsr, m_add, m_sub, m_mul, m_neg, m_div, m_rem, m_max, m_min, m_abs, m_pop, m_dup, m_dupx1, m_dupx2, m_dup2, m_getf, m_putf, g_puts, m_iald, m_bald, g_alds, m_iast, m_bast, g_asti, g_astz, m_alen, g_lens, m_new, m_newi, m_oinit, h_ps, h_pn, h_ns, h_nn, h_p1, h_n1, h_n2, h_pp, x_goto, x_if, x_icmp, x_nullr, x_nulln, x_nnr, x_nnn, x_fall, z_eq, z_ne, z_lt, z_ge, z_gt, z_le, c_eq, c_ne, c_lt, c_ge, c_gt, c_le, x_ret, x_iret, x_aret, x_nret, x_zret, x_Rv, x_Rn, x_Rx, g_clss, x_Ws, x_Ks, x_cs0, x_cs1, x_cs2, x_cs3, x_cs4, x_cs5, x_cv0, x_cv1, x_cv2, x_cv3, x_cv4, x_ci0, x_ci1, x_ci2, x_ci3, x_ci4, x_cp0, x_cp1, x_cp2, x_cp3, x_cp4, ldi_0, lda_0, ldf_0, ldl_0, ldd_0, ldi_1, lda_1, ldf_1, ldl_1, ldd_1, ldi_2, lda_2, ldf_2, ldl_2, ldd_2, ldi_3, lda_3, ldf_3, ldl_3, ldd_3, ldi_4, lda_4, ldf_4, ldl_4, ldd_4, ldi_5, lda_5, ldf_5, ldl_5, ldd_5, ldi_6, lda_6, ldf_6, ldl_6, ldd_6, ldi_7, lda_7, ldf_7, ldl_7, ldd_7, ldi_8, lda_8, ldf_8, ldl_8, ldd_8, ldi_9, lda_9, ldf_9, ldl_9, ldd_9, ldi_10, lda_10, ldf_10, ldl_10, ldd_10, ldi_11, lda_11, ldf_11, ldl_11, ldd_11, ldi_12, lda_12, ldf_12, ldl_12, ldd_12, ldi_13, lda_13, ldf_13, ldl_13, ldd_13, ldn_0, ldn_1, ldn_2, ldn_3, ldn_4, ldn_5, ldn_6, ldn_7, ldn_8, ldn_9, ldn_10, ldn_11, ldn_12, ldn_13, sti_0, sta_0, stf_0, sti_1, sta_1, stf_1, sti_2, sta_2, stf_2, sti_3, sta_3, stf_3, sti_4, sta_4, stf_4, sti_5, sta_5, stf_5, sti_6, sta_6, stf_6, sti_7, sta_7, stf_7, sti_8, sta_8, stf_8, sti_9, sta_9, stf_9, sti_10, sta_10, stf_10, sti_11, sta_11, stf_11, sti_12, sta_12, stf_12, sti_13, sta_13, stf_13, stn_0, stn_1, stn_2, stn_3, stn_4, stn_5, stn_6, stn_7, stn_8, stn_9, stn_10, stn_11, stn_12, stn_13, inc_0, inc_1, inc_2, inc_3, inc_4, inc_5, inc_6, inc_7, inc_8, inc_9, inc_10, inc_11, inc_12, inc_13, sw19_2, sw71_2, sw75_39, sw125_11, sw127_18, sw130_17, sw135_20, sw136_19, sw146_44, sw174_83, sw174_183, sw175_11, sw175_106, sw183_11, sw183_128, sw184_17, sw184_92, sw207_17, sw207_123, sw293_60, sw333_6, sw338_20, sw345_20, sw349_20, sw350_20, sw351_6, sw370_7, m_i2f, m_i2d, m_fc1, m_dc0, x_fret, x_dret, m_i2b, m_and255, m_and63, m_shr24, m_shr16, m_shr8, m_shr0, m_shr1, g_astb, m_i2c, x_cret, x_bret, m_gsn, if_pos, if_neg, Bool.false_eq_true, Int.add_zero, Nat.add_zero, Int.reduceEq, Int.zero_add, ne_eq, not_true_eq_false, not_false_eq_true, and_self, and_true, true_and, and_false, false_and, or_true, true_or, or_false, false_or, gs_0, gs_1, gs_2, gs_3, gs_4, gs_5, gs_6, gs_7, gs_8, m_aald, g_aalds, rf_s, rf_n, m_cast, g_casts,  b223_6, lb223_43, b223_43, lc.c, R3 lc, r2a, q1, e5, o1, rs, List.set_cons_zero, List.set_cons_succ]
      exact v3
theorem R223 (hP : ∀ q, P q → E.1 ≤ q) {h : mH} (hF : WF F) (ht : F 7 < 100000) (hI : In A P a F s B W C L) (hS : St h a F s B W C L) : ∃ h', Wr P h h' ∧ St h' a (tick F) s B W C L ∧ mRun E gP 223 [.ref a] h = some (.inl none, h') := by
  obtain ⟨g, u1, u2, u3⟩ := R224 hP hF ht hI hS
  have e := fun {j : Int} (hj : j < 96) (h7 : j ≠ 7) => around_lo (F := F) hj h7
  have g5 := hF.2.2.2.2.2.1
  have e5 : around F 5 = F 5 := e (by omega) (by omega)
  obtain ⟨h', v1, v2, v3⟩ := L223_6 hP (around_WF hF ht) (In_eq hI (e (by omega) (by omega)) (e (by omega) (by omega)) (e (by omega) (by omega)) (e (by omega) (by omega))) (F 5).toNat 0 g (by omega) u2
  rw [e5] at v2
  refine ⟨h', u1.trans v1, v2, ?_⟩
  have ac : g_cls (h.1 a) = some 1 := by rw [show h.1 a = _ from hS.1]; exact g_clss
  rw [en223]
  simp (disch := first | assumption | omega | exact sub_1 | exact sub_3 | exact sub_4 | exact sub_6 | exact sub_7 | exact i8_r | exact cat1_rf | exact cat_rf | exact mf_20 | exact cat1_i | exact cat1_r | exact cat1_n | exact cat_i | exact cat_r | exact cat_n | exact mf_0 | exact mf_4 | exact mf_4n | exact mf_10 | exact mf_11 | exact mnd_0 | exact mnd_i | exact mnd_r | exact mnd_n | exact mnd_f | exact bz_r | exact bz_01 | (simp only [List.length_cons, List.length_nil] <;> omega) | (simp only [wu, Nat.reduceEqDiff, if_true, if_false] <;> first | assumption | omega) | (simp only [h_n1, h_p1] <;> omega)) only [Int.reduceToNat, Nat.reduceDiv, Nat.reduceMod, Nat.reduceAdd, Nat.reduceSub, Int.reduceNeg, Int.reduceAdd, Int.reduceSub, Int.reduceMul, Int.reduceLT, Int.reduceLE, if_true, if_false, List.length_cons, List.length_nil, bz_z, fin_0, fin_1, fin_2, fin_3, x_0, x_Ts, x_Ss, x_iinc, x_iload_n, x_iload, x_lload_n, x_lload, x_fload_n, x_fload, x_dload_n, x_dload, x_aload_n, x_aload, x_istore_n, x_istore, x_astore_n, x_astore, x_fstore_n, x_fstore, x_dstore_n, x_dstore, x_lstore_n, x_lstore, m_iconst, m_bipush, m_sipush, m_ldci, m_ldcr, m_ldcw, m_null, m_gsi, m_gsr, m_add, m_sub, m_mul, m_neg, m_div, m_rem, m_max, m_min, m_abs, m_pop, m_dup, m_dupx1, m_dupx2, m_dup2, m_getf, m_putf, g_puts, m_iald, m_bald, g_alds, m_iast, m_bast, g_asti, g_astz, m_alen, g_lens, m_new, m_newi, m_oinit, h_ps, h_pn, h_ns, h_nn, h_p1, h_n1, h_n2, h_pp, x_goto, x_if, x_icmp, x_nullr, x_nulln, x_nnr, x_nnn, x_fall, z_eq, z_ne, z_lt, z_ge, z_gt, z_le, c_eq, c_ne, c_lt, c_ge, c_gt, c_le, x_ret, x_iret, x_aret, x_nret, x_zret, x_Rv, x_Rn, x_Rx, g_clss, x_Ws, x_Ks, x_cs0, x_cs1, x_cs2, x_cs3, x_cs4, x_cs5, x_cv0, x_cv1, x_cv2, x_cv3, x_cv4, x_ci0, x_ci1, x_ci2, x_ci3, x_ci4, x_cp0, x_cp1, x_cp2, x_cp3, x_cp4, ldi_0, lda_0, ldf_0, ldl_0, ldd_0, ldi_1, lda_1, ldf_1, ldl_1, ldd_1, ldi_2, lda_2, ldf_2, ldl_2, ldd_2, ldi_3, lda_3, ldf_3, ldl_3, ldd_3, ldi_4, lda_4, ldf_4, ldl_4, ldd_4, ldi_5, lda_5, ldf_5, ldl_5, ldd_5, ldi_6, lda_6, ldf_6, ldl_6, ldd_6, ldi_7, lda_7, ldf_7, ldl_7, ldd_7, ldi_8, lda_8, ldf_8, ldl_8, ldd_8, ldi_9, lda_9, ldf_9, ldl_9, ldd_9, ldi_10, lda_10, ldf_10, ldl_10, ldd_10, ldi_11, lda_11, ldf_11, ldl_11, ldd_11, ldi_12, lda_12, ldf_12, ldl_12, ldd_12, ldi_13, lda_13, ldf_13, ldl_13, ldd_13, ldn_0, ldn_1, ldn_2, ldn_3, ldn_4, ldn_5, ldn_6, ldn_7, ldn_8, ldn_9, ldn_10, ldn_11, ldn_12, ldn_13, sti_0, sta_0, stf_0, sti_1, sta_1, stf_1, sti_2, sta_2, stf_2, sti_3, sta_3, stf_3, sti_4, sta_4, stf_4, sti_5, sta_5, stf_5, sti_6, sta_6, stf_6, sti_7, sta_7, stf_7, sti_8, sta_8, stf_8, sti_9, sta_9, stf_9, sti_10, sta_10, stf_10, sti_11, sta_11, stf_11, sti_12, sta_12, stf_12, sti_13, sta_13, stf_13, stn_0, stn_1, stn_2, stn_3, stn_4, stn_5, stn_6, stn_7, stn_8, stn_9, stn_10, stn_11, stn_12, stn_13, inc_0, inc_1, inc_2, inc_3, inc_4, inc_5, inc_6, inc_7, inc_8, inc_9, inc_10, inc_11, inc_12, inc_13, sw19_2, sw71_2, sw75_39, sw125_11, sw127_18, sw130_17, sw135_20, sw136_19, sw146_44, sw174_83, sw174_183, sw175_11, sw175_106, sw183_11, sw183_128, sw184_17, sw184_92, sw207_17, sw207_123, sw293_60, sw333_6, sw338_20, sw345_20, sw349_20, sw350_20, sw351_6, sw370_7, m_i2f, m_i2d, m_fc1, m_dc0, x_fret, x_dret, m_i2b, m_and255, m_and63, m_shr24, m_shr16, m_shr8, m_shr0, m_shr1, g_astb, m_i2c, x_cret, x_bret, m_gsn, if_pos, if_neg, Bool.false_eq_true, Int.add_zero, Nat.add_zero, Int.reduceEq, Int.zero_add, ne_eq, not_true_eq_false, not_false_eq_true, and_self, and_true, true_and, and_false, false_and, or_true, true_or, or_false, false_or, gs_0, gs_1, gs_2, gs_3, gs_4, gs_5, gs_6, gs_7, gs_8, m_aald, g_aalds, rf_s, rf_n, m_cast, g_casts,  b223_0, ac, u3]
  exact v3
theorem L222_9 (hP : ∀ q, P q → E.1 ≤ q) {n : Nat} {x : Int} (hn : n ≤ 1000) : ∀ (d k : Nat) (h : mH) (F : Int → Int), k + d = n → WF F → F 7 + d ≤ 100000 → In A P a F s B W C L → St h a F s B W C L → ∃ h', Wr P h h' ∧ St h' a (passN F d) s B W C L ∧ ∀ r, mV E gP (222, 24, [some (.ref a), some (.int (Int32.ofInt n)), some (.int (Int32.ofInt x)), none], [], h') = some r → mV E gP (222, 9, [some (.ref a), some (.int (Int32.ofInt n)), some (.int (Int32.ofInt x)), some (.int (Int32.ofInt k))], [], h) = some r := by
  intro d
  induction d with
  | zero =>
    intro k h F hk hF ht hI hS
    refine ⟨h, Wr.rfl, hS, fun r hr => ?_⟩
    have hr2 := mV_weak hr (show mle [some (.ref a), some (.int (Int32.ofInt n)), some (.int (Int32.ofInt x)), none] [some (.ref a), some (.int (Int32.ofInt n)), some (.int (Int32.ofInt x)), some (.int (Int32.ofInt k))] by simp [mle])
    rw [lb222_9]
    simp (disch := first | assumption | omega | exact sub_1 | exact sub_3 | exact sub_4 | exact sub_6 | exact sub_7 | exact i8_r | exact cat1_rf | exact cat_rf | exact mf_20 | exact cat1_i | exact cat1_r | exact cat1_n | exact cat_i | exact cat_r | exact cat_n | exact mf_0 | exact mf_4 | exact mf_4n | exact mf_10 | exact mf_11 | exact mnd_0 | exact mnd_i | exact mnd_r | exact mnd_n | exact mnd_f | exact bz_r | exact bz_01 | (simp only [List.length_cons, List.length_nil] <;> omega) | (simp only [wu, Nat.reduceEqDiff, if_true, if_false] <;> first | assumption | omega) | (simp only [h_n1, h_p1] <;> omega)) only [Int.reduceToNat, Nat.reduceDiv, Nat.reduceMod, Nat.reduceAdd, Nat.reduceSub, Int.reduceNeg, Int.reduceAdd, Int.reduceSub, Int.reduceMul, Int.reduceLT, Int.reduceLE, if_true, if_false, List.length_cons, List.length_nil, bz_z, fin_0, fin_1, fin_2, fin_3, x_0, x_Ts, x_Ss, x_iinc, x_iload_n, x_iload, x_lload_n, x_lload, x_fload_n, x_fload, x_dload_n, x_dload, x_aload_n, x_aload, x_istore_n, x_istore, x_astore_n, x_astore, x_fstore_n, x_fstore, x_dstore_n, x_dstore, x_lstore_n, x_lstore, m_iconst, m_bipush, m_sipush, m_ldci, m_ldcr, m_ldcw, m_null, m_gsi, m_gsr, m_add, m_sub, m_mul, m_neg, m_div, m_rem, m_max, m_min, m_abs, m_pop, m_dup, m_dupx1, m_dupx2, m_dup2, m_getf, m_putf, g_puts, m_iald, m_bald, g_alds, m_iast, m_bast, g_asti, g_astz, m_alen, g_lens, m_new, m_newi, m_oinit, h_ps, h_pn, h_ns, h_nn, h_p1, h_n1, h_n2, h_pp, x_goto, x_if, x_icmp, x_nullr, x_nulln, x_nnr, x_nnn, x_fall, z_eq, z_ne, z_lt, z_ge, z_gt, z_le, c_eq, c_ne, c_lt, c_ge, c_gt, c_le, x_ret, x_iret, x_aret, x_nret, x_zret, x_Rv, x_Rn, x_Rx, g_clss, x_Ws, x_Ks, x_cs0, x_cs1, x_cs2, x_cs3, x_cs4, x_cs5, x_cv0, x_cv1, x_cv2, x_cv3, x_cv4, x_ci0, x_ci1, x_ci2, x_ci3, x_ci4, x_cp0, x_cp1, x_cp2, x_cp3, x_cp4, ldi_0, lda_0, ldf_0, ldl_0, ldd_0, ldi_1, lda_1, ldf_1, ldl_1, ldd_1, ldi_2, lda_2, ldf_2, ldl_2, ldd_2, ldi_3, lda_3, ldf_3, ldl_3, ldd_3, ldi_4, lda_4, ldf_4, ldl_4, ldd_4, ldi_5, lda_5, ldf_5, ldl_5, ldd_5, ldi_6, lda_6, ldf_6, ldl_6, ldd_6, ldi_7, lda_7, ldf_7, ldl_7, ldd_7, ldi_8, lda_8, ldf_8, ldl_8, ldd_8, ldi_9, lda_9, ldf_9, ldl_9, ldd_9, ldi_10, lda_10, ldf_10, ldl_10, ldd_10, ldi_11, lda_11, ldf_11, ldl_11, ldd_11, ldi_12, lda_12, ldf_12, ldl_12, ldd_12, ldi_13, lda_13, ldf_13, ldl_13, ldd_13, ldn_0, ldn_1, ldn_2, ldn_3, ldn_4, ldn_5, ldn_6, ldn_7, ldn_8, ldn_9, ldn_10, ldn_11, ldn_12, ldn_13, sti_0, sta_0, stf_0, sti_1, sta_1, stf_1, sti_2, sta_2, stf_2, sti_3, sta_3, stf_3, sti_4, sta_4, stf_4, sti_5, sta_5, stf_5, sti_6, sta_6, stf_6, sti_7, sta_7, stf_7, sti_8, sta_8, stf_8, sti_9, sta_9, stf_9, sti_10, sta_10, stf_10, sti_11, sta_11, stf_11, sti_12, sta_12, stf_12, sti_13, sta_13, stf_13, stn_0, stn_1, stn_2, stn_3, stn_4, stn_5, stn_6, stn_7, stn_8, stn_9, stn_10, stn_11, stn_12, stn_13, inc_0, inc_1, inc_2, inc_3, inc_4, inc_5, inc_6, inc_7, inc_8, inc_9, inc_10, inc_11, inc_12, inc_13, sw19_2, sw71_2, sw75_39, sw125_11, sw127_18, sw130_17, sw135_20, sw136_19, sw146_44, sw174_83, sw174_183, sw175_11, sw175_106, sw183_11, sw183_128, sw184_17, sw184_92, sw207_17, sw207_123, sw293_60, sw333_6, sw338_20, sw345_20, sw349_20, sw350_20, sw351_6, sw370_7, m_i2f, m_i2d, m_fc1, m_dc0, x_fret, x_dret, m_i2b, m_and255, m_and63, m_shr24, m_shr16, m_shr8, m_shr0, m_shr1, g_astb, m_i2c, x_cret, x_bret, m_gsn, if_pos, if_neg, Bool.false_eq_true, Int.add_zero, Nat.add_zero, Int.reduceEq, Int.zero_add, ne_eq, not_true_eq_false, not_false_eq_true, and_self, and_true, true_and, and_false, false_and, or_true, true_or, or_false, false_or, gs_0, gs_1, gs_2, gs_3, gs_4, gs_5, gs_6, gs_7, gs_8, m_aald, g_aalds, rf_s, rf_n, m_cast, g_casts,  b222_9]
    exact hr2
  | succ d ih =>
    intro k h F hk hF ht hI hS
    have g7 := hF.2.2.2.2.2.2.2.1
    obtain ⟨g, u1, u2, u3⟩ := R223 hP hF (by omega) hI hS
    have e := fun {j : Int} (hj : j < 96) (h7 : j ≠ 7) (h13 : j ≠ 13) => tick_lo (F := F) hj h7 h13
    obtain ⟨h', v1, v2, v3⟩ := ih (k + 1) g (tick F) (by omega) (tick_WF hF (by omega)) (by rw [tick_7]; omega) (In_eq hI (e (by omega) (by omega) (by omega)) (e (by omega) (by omega) (by omega)) (e (by omega) (by omega) (by omega)) (e (by omega) (by omega) (by omega))) u2
    rw [passN_s] at v2
    simp only [Int.natCast_add, Int.natCast_one] at v3
    refine ⟨h', u1.trans v1, v2, fun r hr => ?_⟩
    have hr2 := v3 r hr
    have ac : g_cls (h.1 a) = some 1 := by rw [show h.1 a = _ from hS.1]; exact g_clss
    rw [lb222_9]
    simp (disch := first | assumption | omega | exact sub_1 | exact sub_3 | exact sub_4 | exact sub_6 | exact sub_7 | exact i8_r | exact cat1_rf | exact cat_rf | exact mf_20 | exact cat1_i | exact cat1_r | exact cat1_n | exact cat_i | exact cat_r | exact cat_n | exact mf_0 | exact mf_4 | exact mf_4n | exact mf_10 | exact mf_11 | exact mnd_0 | exact mnd_i | exact mnd_r | exact mnd_n | exact mnd_f | exact bz_r | exact bz_01 | (simp only [List.length_cons, List.length_nil] <;> omega) | (simp only [wu, Nat.reduceEqDiff, if_true, if_false] <;> first | assumption | omega) | (simp only [h_n1, h_p1] <;> omega)) only [Int.reduceToNat, Nat.reduceDiv, Nat.reduceMod, Nat.reduceAdd, Nat.reduceSub, Int.reduceNeg, Int.reduceAdd, Int.reduceSub, Int.reduceMul, Int.reduceLT, Int.reduceLE, if_true, if_false, List.length_cons, List.length_nil, bz_z, fin_0, fin_1, fin_2, fin_3, x_0, x_Ts, x_Ss, x_iinc, x_iload_n, x_iload, x_lload_n, x_lload, x_fload_n, x_fload, x_dload_n, x_dload, x_aload_n, x_aload, x_istore_n, x_istore, x_astore_n, x_astore, x_fstore_n, x_fstore, x_dstore_n, x_dstore, x_lstore_n, x_lstore, m_iconst, m_bipush, m_sipush, m_ldci, m_ldcr, m_ldcw, m_null, m_gsi, m_gsr, m_add, m_sub, m_mul, m_neg, m_div, m_rem, m_max, m_min, m_abs, m_pop, m_dup, m_dupx1, m_dupx2, m_dup2, m_getf, m_putf, g_puts, m_iald, m_bald, g_alds, m_iast, m_bast, g_asti, g_astz, m_alen, g_lens, m_new, m_newi, m_oinit, h_ps, h_pn, h_ns, h_nn, h_p1, h_n1, h_n2, h_pp, x_goto, x_if, x_icmp, x_nullr, x_nulln, x_nnr, x_nnn, x_fall, z_eq, z_ne, z_lt, z_ge, z_gt, z_le, c_eq, c_ne, c_lt, c_ge, c_gt, c_le, x_ret, x_iret, x_aret, x_nret, x_zret, x_Rv, x_Rn, x_Rx, g_clss, x_Ws, x_Ks, x_cs0, x_cs1, x_cs2, x_cs3, x_cs4, x_cs5, x_cv0, x_cv1, x_cv2, x_cv3, x_cv4, x_ci0, x_ci1, x_ci2, x_ci3, x_ci4, x_cp0, x_cp1, x_cp2, x_cp3, x_cp4, ldi_0, lda_0, ldf_0, ldl_0, ldd_0, ldi_1, lda_1, ldf_1, ldl_1, ldd_1, ldi_2, lda_2, ldf_2, ldl_2, ldd_2, ldi_3, lda_3, ldf_3, ldl_3, ldd_3, ldi_4, lda_4, ldf_4, ldl_4, ldd_4, ldi_5, lda_5, ldf_5, ldl_5, ldd_5, ldi_6, lda_6, ldf_6, ldl_6, ldd_6, ldi_7, lda_7, ldf_7, ldl_7, ldd_7, ldi_8, lda_8, ldf_8, ldl_8, ldd_8, ldi_9, lda_9, ldf_9, ldl_9, ldd_9, ldi_10, lda_10, ldf_10, ldl_10, ldd_10, ldi_11, lda_11, ldf_11, ldl_11, ldd_11, ldi_12, lda_12, ldf_12, ldl_12, ldd_12, ldi_13, lda_13, ldf_13, ldl_13, ldd_13, ldn_0, ldn_1, ldn_2, ldn_3, ldn_4, ldn_5, ldn_6, ldn_7, ldn_8, ldn_9, ldn_10, ldn_11, ldn_12, ldn_13, sti_0, sta_0, stf_0, sti_1, sta_1, stf_1, sti_2, sta_2, stf_2, sti_3, sta_3, stf_3, sti_4, sta_4, stf_4, sti_5, sta_5, stf_5, sti_6, sta_6, stf_6, sti_7, sta_7, stf_7, sti_8, sta_8, stf_8, sti_9, sta_9, stf_9, sti_10, sta_10, stf_10, sti_11, sta_11, stf_11, sti_12, sta_12, stf_12, sti_13, sta_13, stf_13, stn_0, stn_1, stn_2, stn_3, stn_4, stn_5, stn_6, stn_7, stn_8, stn_9, stn_10, stn_11, stn_12, stn_13, inc_0, inc_1, inc_2, inc_3, inc_4, inc_5, inc_6, inc_7, inc_8, inc_9, inc_10, inc_11, inc_12, inc_13, sw19_2, sw71_2, sw75_39, sw125_11, sw127_18, sw130_17, sw135_20, sw136_19, sw146_44, sw174_83, sw174_183, sw175_11, sw175_106, sw183_11, sw183_128, sw184_17, sw184_92, sw207_17, sw207_123, sw293_60, sw333_6, sw338_20, sw345_20, sw349_20, sw350_20, sw351_6, sw370_7, m_i2f, m_i2d, m_fc1, m_dc0, x_fret, x_dret, m_i2b, m_and255, m_and63, m_shr24, m_shr16, m_shr8, m_shr0, m_shr1, g_astb, m_i2c, x_cret, x_bret, m_gsn, if_pos, if_neg, Bool.false_eq_true, Int.add_zero, Nat.add_zero, Int.reduceEq, Int.zero_add, ne_eq, not_true_eq_false, not_false_eq_true, and_self, and_true, true_and, and_false, false_and, or_true, true_or, or_false, false_or, gs_0, gs_1, gs_2, gs_3, gs_4, gs_5, gs_6, gs_7, gs_8, m_aald, g_aalds, rf_s, rf_n, m_cast, g_casts,  b222_9, ac, u3]
    exact hr2
theorem R222 (hP : ∀ q, P q → E.1 ≤ q) {h : mH} (hF : WF F) {n : Int} (hn : 0 ≤ n ∧ n ≤ 1000) (ht : F 7 + n ≤ 100000) (hI : In A P a F s B W C L) (hS : St h a F s B W C L) : ∃ h', Wr P h h' ∧ St h' a (passN F n.toNat) s B W C L ∧ mRun E gP 222 [.ref a, .int (Int32.ofInt n)] h = some (.inl (some (.int (Int32.ofInt (passN F n.toNat 13 - F 13)))), h') := by
  obtain ⟨g, u1, u2, u3⟩ := L222_9 hP (n := n.toNat) (x := F 13) (by omega) n.toNat 0 h F (by omega) hF (by omega) hI hS
  rw [Int.toNat_of_nonneg hn.1] at u3
  have q1 := hS.1
  unfold S1 at q1
  obtain ⟨tf, t1, t2⟩ := hS.2.2.2.2.1
  have qg := u2.1
  unfold S1 at qg
  obtain ⟨tg, v1, v2⟩ := u2.2.2.2.2.1
  have e1 : tf 5 = F 13 := t2 5 (by omega) (by omega)
  have e2 : tg 5 = passN F n.toNat 13 := v2 5 (by omega) (by omega)
  refine ⟨g, u1, u2, ?_⟩
  have w := u3 (.inl (some (.int (Int32.ofInt (passN F n.toNat 13 - F 13)))), g) (by
    rw [lb222_24]
    simp (disch := first | assumption | omega | exact sub_1 | exact sub_3 | exact sub_4 | exact sub_6 | exact sub_7 | exact i8_r | exact cat1_rf | exact cat_rf | exact mf_20 | exact cat1_i | exact cat1_r | exact cat1_n | exact cat_i | exact cat_r | exact cat_n | exact mf_0 | exact mf_4 | exact mf_4n | exact mf_10 | exact mf_11 | exact mnd_0 | exact mnd_i | exact mnd_r | exact mnd_n | exact mnd_f | exact bz_r | exact bz_01 | (simp only [List.length_cons, List.length_nil] <;> omega) | (simp only [wu, Nat.reduceEqDiff, if_true, if_false] <;> first | assumption | omega) | (simp only [h_n1, h_p1] <;> omega)) only [Int.reduceToNat, Nat.reduceDiv, Nat.reduceMod, Nat.reduceAdd, Nat.reduceSub, Int.reduceNeg, Int.reduceAdd, Int.reduceSub, Int.reduceMul, Int.reduceLT, Int.reduceLE, if_true, if_false, List.length_cons, List.length_nil, bz_z, fin_0, fin_1, fin_2, fin_3, x_0, x_Ts, x_Ss, x_iinc, x_iload_n, x_iload, x_lload_n, x_lload, x_fload_n, x_fload, x_dload_n, x_dload, x_aload_n, x_aload, x_istore_n, x_istore, x_astore_n, x_astore, x_fstore_n, x_fstore, x_dstore_n, x_dstore, x_lstore_n, x_lstore, m_iconst, m_bipush, m_sipush, m_ldci, m_ldcr, m_ldcw, m_null, m_gsi, m_gsr, m_add, m_sub, m_mul, m_neg, m_div, m_rem, m_max, m_min, m_abs, m_pop, m_dup, m_dupx1, m_dupx2, m_dup2, m_getf, m_putf, g_puts, m_iald, m_bald, g_alds, m_iast, m_bast, g_asti, g_astz, m_alen, g_lens, m_new, m_newi, m_oinit, h_ps, h_pn, h_ns, h_nn, h_p1, h_n1, h_n2, h_pp, x_goto, x_if, x_icmp, x_nullr, x_nulln, x_nnr, x_nnn, x_fall, z_eq, z_ne, z_lt, z_ge, z_gt, z_le, c_eq, c_ne, c_lt, c_ge, c_gt, c_le, x_ret, x_iret, x_aret, x_nret, x_zret, x_Rv, x_Rn, x_Rx, g_clss, x_Ws, x_Ks, x_cs0, x_cs1, x_cs2, x_cs3, x_cs4, x_cs5, x_cv0, x_cv1, x_cv2, x_cv3, x_cv4, x_ci0, x_ci1, x_ci2, x_ci3, x_ci4, x_cp0, x_cp1, x_cp2, x_cp3, x_cp4, ldi_0, lda_0, ldf_0, ldl_0, ldd_0, ldi_1, lda_1, ldf_1, ldl_1, ldd_1, ldi_2, lda_2, ldf_2, ldl_2, ldd_2, ldi_3, lda_3, ldf_3, ldl_3, ldd_3, ldi_4, lda_4, ldf_4, ldl_4, ldd_4, ldi_5, lda_5, ldf_5, ldl_5, ldd_5, ldi_6, lda_6, ldf_6, ldl_6, ldd_6, ldi_7, lda_7, ldf_7, ldl_7, ldd_7, ldi_8, lda_8, ldf_8, ldl_8, ldd_8, ldi_9, lda_9, ldf_9, ldl_9, ldd_9, ldi_10, lda_10, ldf_10, ldl_10, ldd_10, ldi_11, lda_11, ldf_11, ldl_11, ldd_11, ldi_12, lda_12, ldf_12, ldl_12, ldd_12, ldi_13, lda_13, ldf_13, ldl_13, ldd_13, ldn_0, ldn_1, ldn_2, ldn_3, ldn_4, ldn_5, ldn_6, ldn_7, ldn_8, ldn_9, ldn_10, ldn_11, ldn_12, ldn_13, sti_0, sta_0, stf_0, sti_1, sta_1, stf_1, sti_2, sta_2, stf_2, sti_3, sta_3, stf_3, sti_4, sta_4, stf_4, sti_5, sta_5, stf_5, sti_6, sta_6, stf_6, sti_7, sta_7, stf_7, sti_8, sta_8, stf_8, sti_9, sta_9, stf_9, sti_10, sta_10, stf_10, sti_11, sta_11, stf_11, sti_12, sta_12, stf_12, sti_13, sta_13, stf_13, stn_0, stn_1, stn_2, stn_3, stn_4, stn_5, stn_6, stn_7, stn_8, stn_9, stn_10, stn_11, stn_12, stn_13, inc_0, inc_1, inc_2, inc_3, inc_4, inc_5, inc_6, inc_7, inc_8, inc_9, inc_10, inc_11, inc_12, inc_13, sw19_2, sw71_2, sw75_39, sw125_11, sw127_18, sw130_17, sw135_20, sw136_19, sw146_44, sw174_83, sw174_183, sw175_11, sw175_106, sw183_11, sw183_128, sw184_17, sw184_92, sw207_17, sw207_123, sw293_60, sw333_6, sw338_20, sw345_20, sw349_20, sw350_20, sw351_6, sw370_7, m_i2f, m_i2d, m_fc1, m_dc0, x_fret, x_dret, m_i2b, m_and255, m_and63, m_shr24, m_shr16, m_shr8, m_shr0, m_shr1, g_astb, m_i2c, x_cret, x_bret, m_gsn, if_pos, if_neg, Bool.false_eq_true, Int.add_zero, Nat.add_zero, Int.reduceEq, Int.zero_add, ne_eq, not_true_eq_false, not_false_eq_true, and_self, and_true, true_and, and_false, false_and, or_true, true_or, or_false, false_or, gs_0, gs_1, gs_2, gs_3, gs_4, gs_5, gs_6, gs_7, gs_8, m_aald, g_aalds, rf_s, rf_n, m_cast, g_casts,  b222_24, qg, v1, e2])
  rw [en222]
  simp (disch := first | assumption | omega | exact sub_1 | exact sub_3 | exact sub_4 | exact sub_6 | exact sub_7 | exact i8_r | exact cat1_rf | exact cat_rf | exact mf_20 | exact cat1_i | exact cat1_r | exact cat1_n | exact cat_i | exact cat_r | exact cat_n | exact mf_0 | exact mf_4 | exact mf_4n | exact mf_10 | exact mf_11 | exact mnd_0 | exact mnd_i | exact mnd_r | exact mnd_n | exact mnd_f | exact bz_r | exact bz_01 | (simp only [List.length_cons, List.length_nil] <;> omega) | (simp only [wu, Nat.reduceEqDiff, if_true, if_false] <;> first | assumption | omega) | (simp only [h_n1, h_p1] <;> omega)) only [Int.reduceToNat, Nat.reduceDiv, Nat.reduceMod, Nat.reduceAdd, Nat.reduceSub, Int.reduceNeg, Int.reduceAdd, Int.reduceSub, Int.reduceMul, Int.reduceLT, Int.reduceLE, if_true, if_false, List.length_cons, List.length_nil, bz_z, fin_0, fin_1, fin_2, fin_3, x_0, x_Ts, x_Ss, x_iinc, x_iload_n, x_iload, x_lload_n, x_lload, x_fload_n, x_fload, x_dload_n, x_dload, x_aload_n, x_aload, x_istore_n, x_istore, x_astore_n, x_astore, x_fstore_n, x_fstore, x_dstore_n, x_dstore, x_lstore_n, x_lstore, m_iconst, m_bipush, m_sipush, m_ldci, m_ldcr, m_ldcw, m_null, m_gsi, m_gsr, m_add, m_sub, m_mul, m_neg, m_div, m_rem, m_max, m_min, m_abs, m_pop, m_dup, m_dupx1, m_dupx2, m_dup2, m_getf, m_putf, g_puts, m_iald, m_bald, g_alds, m_iast, m_bast, g_asti, g_astz, m_alen, g_lens, m_new, m_newi, m_oinit, h_ps, h_pn, h_ns, h_nn, h_p1, h_n1, h_n2, h_pp, x_goto, x_if, x_icmp, x_nullr, x_nulln, x_nnr, x_nnn, x_fall, z_eq, z_ne, z_lt, z_ge, z_gt, z_le, c_eq, c_ne, c_lt, c_ge, c_gt, c_le, x_ret, x_iret, x_aret, x_nret, x_zret, x_Rv, x_Rn, x_Rx, g_clss, x_Ws, x_Ks, x_cs0, x_cs1, x_cs2, x_cs3, x_cs4, x_cs5, x_cv0, x_cv1, x_cv2, x_cv3, x_cv4, x_ci0, x_ci1, x_ci2, x_ci3, x_ci4, x_cp0, x_cp1, x_cp2, x_cp3, x_cp4, ldi_0, lda_0, ldf_0, ldl_0, ldd_0, ldi_1, lda_1, ldf_1, ldl_1, ldd_1, ldi_2, lda_2, ldf_2, ldl_2, ldd_2, ldi_3, lda_3, ldf_3, ldl_3, ldd_3, ldi_4, lda_4, ldf_4, ldl_4, ldd_4, ldi_5, lda_5, ldf_5, ldl_5, ldd_5, ldi_6, lda_6, ldf_6, ldl_6, ldd_6, ldi_7, lda_7, ldf_7, ldl_7, ldd_7, ldi_8, lda_8, ldf_8, ldl_8, ldd_8, ldi_9, lda_9, ldf_9, ldl_9, ldd_9, ldi_10, lda_10, ldf_10, ldl_10, ldd_10, ldi_11, lda_11, ldf_11, ldl_11, ldd_11, ldi_12, lda_12, ldf_12, ldl_12, ldd_12, ldi_13, lda_13, ldf_13, ldl_13, ldd_13, ldn_0, ldn_1, ldn_2, ldn_3, ldn_4, ldn_5, ldn_6, ldn_7, ldn_8, ldn_9, ldn_10, ldn_11, ldn_12, ldn_13, sti_0, sta_0, stf_0, sti_1, sta_1, stf_1, sti_2, sta_2, stf_2, sti_3, sta_3, stf_3, sti_4, sta_4, stf_4, sti_5, sta_5, stf_5, sti_6, sta_6, stf_6, sti_7, sta_7, stf_7, sti_8, sta_8, stf_8, sti_9, sta_9, stf_9, sti_10, sta_10, stf_10, sti_11, sta_11, stf_11, sti_12, sta_12, stf_12, sti_13, sta_13, stf_13, stn_0, stn_1, stn_2, stn_3, stn_4, stn_5, stn_6, stn_7, stn_8, stn_9, stn_10, stn_11, stn_12, stn_13, inc_0, inc_1, inc_2, inc_3, inc_4, inc_5, inc_6, inc_7, inc_8, inc_9, inc_10, inc_11, inc_12, inc_13, sw19_2, sw71_2, sw75_39, sw125_11, sw127_18, sw130_17, sw135_20, sw136_19, sw146_44, sw174_83, sw174_183, sw175_11, sw175_106, sw183_11, sw183_128, sw184_17, sw184_92, sw207_17, sw207_123, sw293_60, sw333_6, sw338_20, sw345_20, sw349_20, sw350_20, sw351_6, sw370_7, m_i2f, m_i2d, m_fc1, m_dc0, x_fret, x_dret, m_i2b, m_and255, m_and63, m_shr24, m_shr16, m_shr8, m_shr0, m_shr1, g_astb, m_i2c, x_cret, x_bret, m_gsn, if_pos, if_neg, Bool.false_eq_true, Int.add_zero, Nat.add_zero, Int.reduceEq, Int.zero_add, ne_eq, not_true_eq_false, not_false_eq_true, and_self, and_true, true_and, and_false, false_and, or_true, true_or, or_false, false_or, gs_0, gs_1, gs_2, gs_3, gs_4, gs_5, gs_6, gs_7, gs_8, m_aald, g_aalds, rf_s, rf_n, m_cast, g_casts,  b222_0, q1, t1, e1]
  exact w
end CT
