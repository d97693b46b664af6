/-! MC pure 26: the twin plays a script, whole -/
set_option maxRecDepth 100000
/-- commands are done: how many, and what it leaves -/
def runV (C : Int → Int) : Nat → Nat → (Nat → Int → Int) → Int
  | 0, k, _ => k
  | d + 1, k, w => if (cmdP (w 0) C k).1 = 0 ∧ 0 ≤ (cmdP (w 0) C k).2.1 then runV C d (k + 1) (doW w (cmdP (w 0) C k)) else k
def runW (C : Int → Int) : Nat → Nat → (Nat → Int → Int) → Nat → Int → Int
  | 0, _, w => w
  | d + 1, k, w => if (cmdP (w 0) C k).1 = 0 ∧ 0 ≤ (cmdP (w 0) C k).2.1 then runW C d (k + 1) (doW w (cmdP (w 0) C k)) else doW w (cmdP (w 0) C k)
theorem scr.trans {u v w : Nat → Int → Int} (h : scr u v) (h' : scr v w) : scr u w := ⟨h.1.trans h'.1, h'.2.1.trans h.2.1, h'.2.2.trans h.2.2⟩
theorem scr_rfl {w : Nat → Int → Int} : scr w w := ⟨simW.rfl, rfl, rfl⟩
theorem scr_at {w w' : Nat → Int → Int} (h : scr w w') {i : Nat} (hi : i ≠ 1 ∧ i ≠ 8 ∧ i ≠ 20 ∧ i ≠ 21) : w' i = w i := by
  by_cases e0 : i = 0
  · rw [e0]; exact h.2.1
  · by_cases e7 : i = 7
    · rw [e7]; exact h.2.2
    · exact h.1 i e0 hi.1 e7 hi.2.1 hi.2.2.1 hi.2.2.2
theorem doW_scr {w w' : Nat → Int → Int} (h : scr w w') {s : Int × Int × (Int → Int)} : scr (doW w s) (doW w' s) := by
  unfold doW
  split
  · refine ⟨fun i i0 i1 i7 i8 i20 i21 => ?_, rfl, ?_⟩
    · rw [wu_n i0, wu_n i0]
      unfold actW
      split
      · unfold refW
        have e5 : w' 5 = w 5 := scr_at h (by omega)
        by_cases z : i = 5
        · subst z; rw [wu_s, wu_s, e5]
        · rw [wu_n z, wu_n z]; exact scr_at h ⟨i1, i8, i20, i21⟩
      · unfold keptW kP
        have e6 : w' 6 = w 6 := scr_at h (by omega)
        have e2 : w' 2 = w 2 := scr_at h (by omega)
        rw [h.2.1, e6, e2]
        by_cases z : i = 6
        · subst z; rfl
        · rw [wu_n z, wu_n z]
          by_cases z2 : i = 2
          · subst z2; rfl
          · rw [wu_n z2, wu_n z2]; exact scr_at h ⟨i1, i8, i20, i21⟩
    · have e7 := h.2.2
      unfold actW
      split
      · exact e7
      · exact e7
  · exact h
theorem runV_scr {C : Int → Int} : ∀ (d k : Nat) (w w' : Nat → Int → Int), scr w w' → runV C d k w' = runV C d k w ∧ scr (runW C d k w) (runW C d k w') := by
  intro d
  induction d with
  | zero => intro k w w' h; exact ⟨rfl, h⟩
  | succ d ih =>
    intro k w w' h
    have g := doW_scr h (s := cmdP (w 0) C k)
    unfold runV runW
    rw [h.2.1]
    split
    · exact ih _ _ _ g
    · exact ⟨rfl, g⟩
/-- all that an act needs of the world -/
def AW (w : Nat → Int → Int) : Prop := WF (w 0) ∧ w 0 7 ≤ 9999 ∧ 0 ≤ w 6 0 ∧ w 6 0 ≤ 6
section PX
variable {w : Nat → Int → Int}
theorem kA_r (ha : 0 ≤ w 6 0 ∧ w 6 0 ≤ 6) : 0 ≤ kA (w 6 0) + 1 ∧ kA (w 6 0) + 1 ≤ 6 := by
  unfold kA
  split <;> omega
theorem AW_do (hA : AW w) {s : Int × Int × (Int → Int)} (hs : s.1 = 0 → WF s.2.2 ∧ s.2.2 7 ≤ 9999) : AW (doW w s) := by
  unfold doW
  split
  · rename_i e
    have z := hs e
    refine ⟨z.1, z.2, ?_⟩
    show 0 ≤ actW w s.2.1 6 0 ∧ actW w s.2.1 6 0 ≤ 6
    unfold actW
    split
    · exact hA.2.2
    · exact kA_r hA.2.2
  · exact hA
theorem pickF_WF {F : Int → Int} (hF : WF F) {k l : Int} (hk : 0 ≤ k ∧ k < F 5) (hl : 0 ≤ l ∧ l < F 6) : WF (pickF F k l) := by
  obtain ⟨h0, h1, h2, h3, h4, h5, h6, h7, h8, h9, h10, h11, h12⟩ := id hF; have hcc := hF.cells
  unfold pickF
  refine WF_tal ?_ (by omega)
  rw [up_comm (by omega)]
  have g1 : WF (up F (156 + 6 * l + 4) k) := WF_up hF (by unfold okU; (repeat' first | apply And.intro | intro _); all_goals omega)
  refine WF_up g1 ?_
  have e : ∀ j : Int, j < 156 → up F (156 + 6 * l + 4) k j = F j := fun j hj => up_n (by omega)
  unfold okU
  rw [e 0 (by omega), e 1 (by omega), e 3 (by omega), e 4 (by omega), e 5 (by omega), e 6 (by omega)]
  refine ⟨by omega, fun _ => by omega, fun _ _ => by omega, fun x _ _ => ?_, fun x _ _ => ?_, fun x _ _ => ?_, fun x x1 x2 => ?_⟩
  · (repeat' first | apply And.intro | intro _); all_goals omega
  · (repeat' first | apply And.intro | intro _); all_goals omega
  · (repeat' first | apply And.intro | intro _); all_goals omega
  · refine ⟨fun _ => by omega, fun _ => by omega, fun z => ⟨by omega, fun _ => ?_⟩, fun _ => by omega, fun _ => by omega⟩
    have : x = l := by omega
    rw [this, up_s]
    omega
theorem aStep_WF {F : Int → Int} (hF : WF F) {k d : Int} (hk : 0 ≤ k ∧ k < F 5) : WF (aStep F k d).2 ∧ (aStep F k d).2 7 = F 7 := by
  unfold aStep
  split
  · rename_i e
    have q := nextC_r hF (F (132 + 6 * k)) d
    have e2 : nextC F (F (132 + 6 * k)) d ≠ -1 := by
      intro z
      unfold whyStep at e
      rw [if_pos z] at e
      split at e <;> omega
    refine ⟨stepF_WF hF hk (by omega), ?_⟩
    show stepF F k _ 7 = F 7
    unfold stepF stepF0
    rw [up_n (by omega), up_n (by omega), up_n (by omega), up_n (by omega), up_n (by omega)]
  · exact ⟨hF, rfl⟩
theorem aPick_WF {F : Int → Int} (hF : WF F) {k l : Int} (hk : 0 ≤ k ∧ k < F 5) (hl : 0 ≤ l ∧ l < F 6) : WF (aPick F k l).2 ∧ (aPick F k l).2 7 = F 7 := by
  unfold aPick
  split
  · refine ⟨pickF_WF hF hk hl, ?_⟩
    show pickF F k l 7 = F 7
    unfold pickF
    rw [up_n (by omega), up_n (by omega), up_n (by omega)]
  · exact ⟨hF, rfl⟩
theorem aGive_WF {F : Int → Int} (hF : WF F) {k o l : Int} (ho : 0 ≤ o ∧ o < F 5) (hl : 0 ≤ l ∧ l < F 6) : WF (aGive F k o l).2 ∧ (aGive F k o l).2 7 = F 7 := by
  unfold aGive
  split
  · refine ⟨giveF_WF hF ho hl, ?_⟩
    show giveF F o l 7 = F 7
    unfold giveF
    rw [up_n (by omega), up_n (by omega), up_n (by omega)]
  · exact ⟨hF, rfl⟩
theorem aLay_WF {F : Int → Int} (hF : WF F) {k l : Int} (hk : 0 ≤ k ∧ k < F 5) (hl : 0 ≤ l ∧ l < F 6) : WF (aLay F k l).2 ∧ (aLay F k l).2 7 = F 7 := by
  unfold aLay
  split
  · split
    · refine ⟨layF1_WF hF hk hl, ?_⟩
      show layF1 F k l 7 = F 7
      unfold layF1
      rw [up_n (by omega), up_n (by omega), up_n (by omega)]
    · refine ⟨layF0_WF hF hk hl, ?_⟩
      show layF0 F k l 7 = F 7
      unfold layF0
      rw [up_n (by omega), up_n (by omega), up_n (by omega), up_n (by omega)]
  · exact ⟨hF, rfl⟩
theorem aPass_WF {F : Int → Int} (hF : WF F) (ht : F 7 ≤ 9999) {n : Int} (hn : 1 ≤ n ∧ n ≤ 20) : WF (aPass F n).2 ∧ (aPass F n).2 7 ≤ 9999 := by
  unfold aPass
  split
  · exact ⟨hF, ht⟩
  · refine ⟨passN_WF hF _ (by omega), ?_⟩
    show passN F n.toNat 7 ≤ 9999
    rw [passN_7]
    omega
theorem stepP_WF {F : Int → Int} (hF : WF F) (ht : F 7 ≤ 9999) {k d : Int} : WF (stepP F k d).2.2 ∧ (stepP F k d).2.2 7 ≤ 9999 := by
  unfold stepP
  split
  · split
    · have := aStep_WF hF (k := k) (d := d) (by omega)
      exact ⟨this.1, by show (aStep F k d).2 7 ≤ 9999; rw [this.2]; exact ht⟩
    · exact ⟨hF, ht⟩
  · exact ⟨hF, ht⟩
theorem pickP_WF {F : Int → Int} (hF : WF F) (ht : F 7 ≤ 9999) {k l : Int} : WF (pickP F k l).2.2 ∧ (pickP F k l).2.2 7 ≤ 9999 := by
  unfold pickP
  split
  · have := aPick_WF hF (k := k) (l := l) (by omega) (by omega)
    exact ⟨this.1, by show (aPick F k l).2 7 ≤ 9999; rw [this.2]; exact ht⟩
  · exact ⟨hF, ht⟩
theorem giveP_WF {F : Int → Int} (hF : WF F) (ht : F 7 ≤ 9999) {k o l : Int} : WF (giveP F k o l).2.2 ∧ (giveP F k o l).2.2 7 ≤ 9999 := by
  unfold giveP
  split
  · have := aGive_WF hF (k := k) (o := o) (l := l) (by omega) (by omega)
    exact ⟨this.1, by show (aGive F k o l).2 7 ≤ 9999; rw [this.2]; exact ht⟩
  · exact ⟨hF, ht⟩
theorem layP_WF {F : Int → Int} (hF : WF F) (ht : F 7 ≤ 9999) {k l : Int} : WF (layP F k l).2.2 ∧ (layP F k l).2.2 7 ≤ 9999 := by
  unfold layP
  split
  · have := aLay_WF hF (k := k) (l := l) (by omega) (by omega)
    exact ⟨this.1, by show (aLay F k l).2 7 ≤ 9999; rw [this.2]; exact ht⟩
  · exact ⟨hF, ht⟩
theorem passP_WF {F : Int → Int} (hF : WF F) (ht : F 7 ≤ 9999) {n : Int} : WF (passP F n).2.2 ∧ (passP F n).2.2 7 ≤ 9999 := by
  unfold passP
  split
  · exact aPass_WF hF ht (by assumption)
  · exact ⟨hF, ht⟩
theorem cmdP_WF {F C : Int → Int} (hF : WF F) (ht : F 7 ≤ 9999) {n : Int} : WF (cmdP F C n).2.2 ∧ (cmdP F C n).2.2 7 ≤ 9999 := by
  unfold cmdP
  repeat' split
  · exact passP_WF hF ht
  · exact stepP_WF hF ht
  · exact pickP_WF hF ht
  · exact giveP_WF hF ht
  · exact layP_WF hF ht
end PX
theorem carried_rr {F : Int → Int} (h6 : F 6 ≤ 10) {c : Int} : 0 ≤ carried F c ∧ carried F c ≤ 10 := by
  have := cN_r (g := fun l => bz (F (156 + 6 * l + 2) = 1 ∧ F (156 + 6 * l + 4) = c)) (fun _ => bz_2) (F 6).toNat
  unfold carried
  omega
theorem cmdP_r {F C : Int → Int} (hF : WF F) (ht : F 7 ≤ 9999) {n : Int} : -10 ≤ (cmdP F C n).2.1 ∧ (cmdP F C n).2.1 ≤ 1000 := by
  obtain ⟨h0, h1, h2, h3, h4, h5, h6, h7, h8, h9, h10, h11, h12⟩ := id hF; have hcc := hF.cells
  unfold cmdP
  repeat' split
  · unfold passP aPass
    repeat' split
    · show -10 ≤ (-8 : Int) ∧ (-8 : Int) ≤ 1000; omega
    · have := passN_13 hF (C (4 * n + 1)).toNat
      show -10 ≤ passN F (C (4 * n + 1)).toNat 13 - F 13 ∧ passN F (C (4 * n + 1)).toNat 13 - F 13 ≤ 1000
      omega
    · show -10 ≤ (0 : Int) ∧ (0 : Int) ≤ 1000; omega
  · unfold stepP aStep
    repeat' split
    · have := nextC_r hF (F (132 + 6 * C (4 * n + 1))) (C (4 * n + 2))
      show -10 ≤ nextC F (F (132 + 6 * C (4 * n + 1))) (C (4 * n + 2)) ∧ nextC F (F (132 + 6 * C (4 * n + 1))) (C (4 * n + 2)) ≤ 1000
      omega
    · have := whyStep_r (F := F) (k := C (4 * n + 1)) (d := C (4 * n + 2))
      show -10 ≤ -whyStep F (C (4 * n + 1)) (C (4 * n + 2)) ∧ -whyStep F (C (4 * n + 1)) (C (4 * n + 2)) ≤ 1000
      omega
    · show -10 ≤ (0 : Int) ∧ (0 : Int) ≤ 1000; omega
    · show -10 ≤ (0 : Int) ∧ (0 : Int) ≤ 1000; omega
  · unfold pickP aPick
    repeat' split
    · have g := pickF_WF hF (k := C (4 * n + 1)) (l := C (4 * n + 2)) (by omega) (by omega)
      have := carried_r g (c := C (4 * n + 1))
      show -10 ≤ carried (pickF F (C (4 * n + 1)) (C (4 * n + 2))) (C (4 * n + 1)) ∧ carried (pickF F (C (4 * n + 1)) (C (4 * n + 2))) (C (4 * n + 1)) ≤ 1000
      omega
    · have : 0 ≤ whyPick F (C (4 * n + 1)) (C (4 * n + 2)) ∧ whyPick F (C (4 * n + 1)) (C (4 * n + 2)) ≤ 4 := by
        unfold whyPick
        repeat' split
        all_goals omega
      show -10 ≤ -whyPick F (C (4 * n + 1)) (C (4 * n + 2)) ∧ -whyPick F (C (4 * n + 1)) (C (4 * n + 2)) ≤ 1000
      omega
    · show -10 ≤ (0 : Int) ∧ (0 : Int) ≤ 1000; omega
  · unfold giveP aGive
    repeat' split
    · have g := giveF_WF hF (o := C (4 * n + 3)) (l := C (4 * n + 2)) (by omega) (by omega)
      have := carried_r g (c := C (4 * n + 3))
      show -10 ≤ carried (giveF F (C (4 * n + 3)) (C (4 * n + 2))) (C (4 * n + 3)) ∧ carried (giveF F (C (4 * n + 3)) (C (4 * n + 2))) (C (4 * n + 3)) ≤ 1000
      omega
    · have := whyGive_r (F := F) (k := C (4 * n + 1)) (o := C (4 * n + 3)) (l := C (4 * n + 2))
      show -10 ≤ -whyGive F (C (4 * n + 1)) (C (4 * n + 3)) (C (4 * n + 2)) ∧ -whyGive F (C (4 * n + 1)) (C (4 * n + 3)) (C (4 * n + 2)) ≤ 1000
      omega
    · show -10 ≤ (0 : Int) ∧ (0 : Int) ≤ 1000; omega
  · unfold layP aLay
    repeat' split
    · show -10 ≤ (1 : Int) ∧ (1 : Int) ≤ 1000; omega
    · show -10 ≤ (0 : Int) ∧ (0 : Int) ≤ 1000; omega
    · show -10 ≤ (-5 : Int) ∧ (-5 : Int) ≤ 1000; omega
    · show -10 ≤ (0 : Int) ∧ (0 : Int) ≤ 1000; omega
section PY
variable {E : mE} {b : Nat} {h : mH} {w : Nat → Int → Int}
theorem L288b (hE : E.1 ≤ b) {C : Int → Int} {N : Nat} (hN : N ≤ 30) (hC : ∀ n, 0 ≤ n → n < (N : Int) → okC C n) : ∀ (d k : Nat) (w : Nat → Int → Int), k + d = N → AW w → w 17 = C → w 18 0 = (N : Int) → ∃ w', scr (runW C d k w) w' ∧ mV E gP (288, 46, [some (.ref b), some (.int (Int32.ofInt k))], [], tT b h w) = some (.inl (some (.int (Int32.ofInt (runV C d k w)))), tT b h w') := by
  intro d
  induction d with
  | zero =>
    intro k w hk hA h17 h18
    refine ⟨w, scr_rfl, ?_⟩
    rw [lb288_46]
    simp (disch := first | assumption | omega | exact i8_r | exact cat1_rf | exact cat_rf | exact mf_20 | exact cat1_i | exact cat1_r | exact cat1_n | exact cat_i | exact cat_r | exact cat_n | exact mf_0 | exact mf_4 | exact mf_4n | exact mf_10 | exact mf_11 | exact mnd_0 | exact mnd_i | exact mnd_r | exact mnd_n | exact mnd_f | exact bz_r | exact bz_01 | (simp only [List.length_cons, List.length_nil] <;> omega) | (simp only [wu, Nat.reduceEqDiff, if_true, if_false] <;> first | assumption | omega)) only [Int.reduceToNat, Nat.reduceDiv, Nat.reduceMod, Nat.reduceAdd, Nat.reduceSub, Int.reduceNeg, Int.reduceAdd, Int.reduceSub, Int.reduceMul, Int.reduceLT, Int.reduceLE, if_true, if_false, List.length_cons, List.length_nil, bz_z, fin_0, fin_1, fin_2, fin_3, x_0, x_Ts, x_Ss, x_iinc, x_iload_n, x_iload, x_lload_n, x_lload, x_fload_n, x_fload, x_dload_n, x_dload, x_aload_n, x_aload, x_istore_n, x_istore, x_astore_n, x_astore, x_fstore_n, x_fstore, x_dstore_n, x_dstore, x_lstore_n, x_lstore, m_iconst, m_bipush, m_sipush, m_ldci, m_ldcr, m_ldcw, m_null, m_gsi, m_gsr, m_add, m_sub, m_mul, m_neg, m_div, m_rem, m_max, m_min, m_abs, m_pop, m_dup, m_dupx1, m_dupx2, m_dup2, m_getf, m_putf, g_puts, m_iald, m_bald, g_alds, m_iast, m_bast, g_asti, g_astz, m_alen, g_lens, m_new, m_newi, m_oinit, h_ps, h_pn, h_ns, h_nn, h_p1, h_n1, h_n2, h_pp, x_goto, x_if, x_icmp, x_nullr, x_nulln, x_nnr, x_nnn, x_fall, z_eq, z_ne, z_lt, z_ge, z_gt, z_le, c_eq, c_ne, c_lt, c_ge, c_gt, c_le, x_ret, x_iret, x_aret, x_nret, x_zret, x_Rv, x_Rn, x_Rx, g_clss, x_Ws, x_Ks, x_cs0, x_cs1, x_cs2, x_cs3, x_cs4, x_cs5, x_cv0, x_cv1, x_cv2, x_cv3, x_cv4, x_ci0, x_ci1, x_ci2, x_ci3, x_ci4, x_cp0, x_cp1, x_cp2, x_cp3, x_cp4, ldi_0, lda_0, ldf_0, ldl_0, ldd_0, ldi_1, lda_1, ldf_1, ldl_1, ldd_1, ldi_2, lda_2, ldf_2, ldl_2, ldd_2, ldi_3, lda_3, ldf_3, ldl_3, ldd_3, ldi_4, lda_4, ldf_4, ldl_4, ldd_4, ldi_5, lda_5, ldf_5, ldl_5, ldd_5, ldi_6, lda_6, ldf_6, ldl_6, ldd_6, ldi_7, lda_7, ldf_7, ldl_7, ldd_7, ldi_8, lda_8, ldf_8, ldl_8, ldd_8, ldi_9, lda_9, ldf_9, ldl_9, ldd_9, ldi_10, lda_10, ldf_10, ldl_10, ldd_10, ldi_11, lda_11, ldf_11, ldl_11, ldd_11, ldi_12, lda_12, ldf_12, ldl_12, ldd_12, ldi_13, lda_13, ldf_13, ldl_13, ldd_13, ldn_0, ldn_1, ldn_2, ldn_3, ldn_4, ldn_5, ldn_6, ldn_7, ldn_8, ldn_9, ldn_10, ldn_11, ldn_12, ldn_13, sti_0, sta_0, stf_0, sti_1, sta_1, stf_1, sti_2, sta_2, stf_2, sti_3, sta_3, stf_3, sti_4, sta_4, stf_4, sti_5, sta_5, stf_5, sti_6, sta_6, stf_6, sti_7, sta_7, stf_7, sti_8, sta_8, stf_8, sti_9, sta_9, stf_9, sti_10, sta_10, stf_10, sti_11, sta_11, stf_11, sti_12, sta_12, stf_12, sti_13, sta_13, stf_13, stn_0, stn_1, stn_2, stn_3, stn_4, stn_5, stn_6, stn_7, stn_8, stn_9, stn_10, stn_11, stn_12, stn_13, inc_0, inc_1, inc_2, inc_3, inc_4, inc_5, inc_6, inc_7, inc_8, inc_9, inc_10, inc_11, inc_12, inc_13, sw19_2, sw71_2, sw75_39, sw125_11, sw127_18, sw130_17, sw135_20, sw136_19, sw146_44, sw174_83, sw174_183, sw175_11, sw175_106, sw183_11, sw183_128, sw184_17, sw184_92, sw207_17, sw207_123, sw293_60, sw333_6, sw338_20, sw345_20, sw349_20, sw350_20, sw351_6, sw370_7, m_i2f, m_i2d, m_fc1, m_dc0, x_fret, x_dret, m_i2b, m_and255, m_and63, m_shr24, m_shr16, m_shr8, m_shr0, m_shr1, g_astb, m_i2c, x_cret, x_bret, m_gsn, t_0, t_1, t_2, t_3, t_4, t_5, t_6, t_7, t_8, t_9, t_10, t_11, t_12, t_13, tg_0, tg_1, tg_2, tg_3, tg_4, tg_5, tg_6, tg_7, tg_8, tg_9, tg_10, tg_11, tg_12, tg_13, tg_14, tg_15, tg_16, tg_17, tg_18, tg_19, tg_20, tg_21, tg_22, tg_23, tp_0, tp_1, tp_2, tp_3, tp_4, tp_5, tp_6, tp_7, tp_8, tp_9, tp_10, tp_11, tp_12, tp_13, tp_14, tp_15, tp_16, tp_17, tp_18, tp_19, tp_20, tp_21, tp_22, tp_23, wu_s, wu_n, wu_wu, if_pos, if_neg, Bool.false_eq_true, Int.add_zero, Nat.add_zero, Int.reduceEq, Int.zero_add, ne_eq, not_true_eq_false, not_false_eq_true, and_self, and_true, true_and, and_false, false_and, or_true, true_or, or_false, false_or,  b288_46, lb288_70, b288_70, h18, runV]
  | succ d ih =>
    intro k w hk hA h17 h18
    obtain ⟨a1, a2, a3⟩ := hA
    have c := hC k (by omega) (by omega)
    obtain ⟨x, w', r, s, hx⟩ := R293 (h := h) hE a1 a2 a3 (n := (k : Int)) (by omega) (by rw [h17]; exact c)
    rw [h17] at s hx
    have g := cmdP_WF (C := C) a1 a2 (n := (k : Int))
    have gr := cmdP_r (C := C) a1 a2 (n := (k : Int))
    have xr : -10 ≤ x ∧ x ≤ 1000 := by
      rw [hx]
      split <;> omega
    unfold runV runW
    by_cases e : (cmdP (w 0) C k).1 = 0 ∧ 0 ≤ (cmdP (w 0) C k).2.1
    · rw [if_pos e, if_pos e]
      have x0 : 0 ≤ x := by
        rw [hx, if_pos e.1]
        exact e.2
      have hA' : AW (doW w (cmdP (w 0) C k)) := AW_do ⟨a1, a2, a3⟩ (fun _ => g)
      have hA2 : AW w' := by
        refine ⟨?_, ?_, ?_⟩
        · rw [s.2.1]; exact hA'.1
        · rw [s.2.1]; exact hA'.2.1
        · rw [scr_at s (by omega)]; exact hA'.2.2
      have d17 : doW w (cmdP (w 0) C k) 17 = C := by
        rw [← h17]
        unfold doW actW
        repeat' split
        all_goals rfl
      have d18 : doW w (cmdP (w 0) C k) 18 = w 18 := by
        unfold doW actW
        repeat' split
        all_goals rfl
      obtain ⟨w2, s2, r2⟩ := ih (k + 1) w' (by omega) hA2 (by rw [scr_at s (by omega)]; exact d17) (by rw [scr_at s (by omega), d18]; exact h18)
      have t := runV_scr (C := C) d (k + 1) _ _ s
      rw [t.1] at r2
      simp only [Int.natCast_add, Int.natCast_one] at r2
      refine ⟨w2, t.2.trans s2, ?_⟩
      rw [lb288_46]
      simp (disch := first | assumption | omega | exact i8_r | exact cat1_rf | exact cat_rf | exact mf_20 | exact cat1_i | exact cat1_r | exact cat1_n | exact cat_i | exact cat_r | exact cat_n | exact mf_0 | exact mf_4 | exact mf_4n | exact mf_10 | exact mf_11 | exact mnd_0 | exact mnd_i | exact mnd_r | exact mnd_n | exact mnd_f | exact bz_r | exact bz_01 | (simp only [List.length_cons, List.length_nil] <;> omega) | (simp only [wu, Nat.reduceEqDiff, if_true, if_false] <;> first | assumption | omega)) only [Int.reduceToNat, Nat.reduceDiv, Nat.reduceMod, Nat.reduceAdd, Nat.reduceSub, Int.reduceNeg, Int.reduceAdd, Int.reduceSub, Int.reduceMul, Int.reduceLT, Int.reduceLE, if_true, if_false, List.length_cons, List.length_nil, bz_z, fin_0, fin_1, fin_2, fin_3, x_0, x_Ts, x_Ss, x_iinc, x_iload_n, x_iload, x_lload_n, x_lload, x_fload_n, x_fload, x_dload_n, x_dload, x_aload_n, x_aload, x_istore_n, x_istore, x_astore_n, x_astore, x_fstore_n, x_fstore, x_dstore_n, x_dstore, x_lstore_n, x_lstore, m_iconst, m_bipush, m_sipush, m_ldci, m_ldcr, m_ldcw, m_null, m_gsi, m_gsr, m_add, m_sub, m_mul, m_neg, m_div, m_rem, m_max, m_min, m_abs, m_pop, m_dup, m_dupx1, m_dupx2, m_dup2, m_getf, m_putf, g_puts, m_iald, m_bald, g_alds, m_iast, m_bast, g_asti, g_astz, m_alen, g_lens, m_new, m_newi, m_oinit, h_ps, h_pn, h_ns, h_nn, h_p1, h_n1, h_n2, h_pp, x_goto, x_if, x_icmp, x_nullr, x_nulln, x_nnr, x_nnn, x_fall, z_eq, z_ne, z_lt, z_ge, z_gt, z_le, c_eq, c_ne, c_lt, c_ge, c_gt, c_le, x_ret, x_iret, x_aret, x_nret, x_zret, x_Rv, x_Rn, x_Rx, g_clss, x_Ws, x_Ks, x_cs0, x_cs1, x_cs2, x_cs3, x_cs4, x_cs5, x_cv0, x_cv1, x_cv2, x_cv3, x_cv4, x_ci0, x_ci1, x_ci2, x_ci3, x_ci4, x_cp0, x_cp1, x_cp2, x_cp3, x_cp4, ldi_0, lda_0, ldf_0, ldl_0, ldd_0, ldi_1, lda_1, ldf_1, ldl_1, ldd_1, ldi_2, lda_2, ldf_2, ldl_2, ldd_2, ldi_3, lda_3, ldf_3, ldl_3, ldd_3, ldi_4, lda_4, ldf_4, ldl_4, ldd_4, ldi_5, lda_5, ldf_5, ldl_5, ldd_5, ldi_6, lda_6, ldf_6, ldl_6, ldd_6, ldi_7, lda_7, ldf_7, ldl_7, ldd_7, ldi_8, lda_8, ldf_8, ldl_8, ldd_8, ldi_9, lda_9, ldf_9, ldl_9, ldd_9, ldi_10, lda_10, ldf_10, ldl_10, ldd_10, ldi_11, lda_11, ldf_11, ldl_11, ldd_11, ldi_12, lda_12, ldf_12, ldl_12, ldd_12, ldi_13, lda_13, ldf_13, ldl_13, ldd_13, ldn_0, ldn_1, ldn_2, ldn_3, ldn_4, ldn_5, ldn_6, ldn_7, ldn_8, ldn_9, ldn_10, ldn_11, ldn_12, ldn_13, sti_0, sta_0, stf_0, sti_1, sta_1, stf_1, sti_2, sta_2, stf_2, sti_3, sta_3, stf_3, sti_4, sta_4, stf_4, sti_5, sta_5, stf_5, sti_6, sta_6, stf_6, sti_7, sta_7, stf_7, sti_8, sta_8, stf_8, sti_9, sta_9, stf_9, sti_10, sta_10, stf_10, sti_11, sta_11, stf_11, sti_12, sta_12, stf_12, sti_13, sta_13, stf_13, stn_0, stn_1, stn_2, stn_3, stn_4, stn_5, stn_6, stn_7, stn_8, stn_9, stn_10, stn_11, stn_12, stn_13, inc_0, inc_1, inc_2, inc_3, inc_4, inc_5, inc_6, inc_7, inc_8, inc_9, inc_10, inc_11, inc_12, inc_13, sw19_2, sw71_2, sw75_39, sw125_11, sw127_18, sw130_17, sw135_20, sw136_19, sw146_44, sw174_83, sw174_183, sw175_11, sw175_106, sw183_11, sw183_128, sw184_17, sw184_92, sw207_17, sw207_123, sw293_60, sw333_6, sw338_20, sw345_20, sw349_20, sw350_20, sw351_6, sw370_7, m_i2f, m_i2d, m_fc1, m_dc0, x_fret, x_dret, m_i2b, m_and255, m_and63, m_shr24, m_shr16, m_shr8, m_shr0, m_shr1, g_astb, m_i2c, x_cret, x_bret, m_gsn, t_0, t_1, t_2, t_3, t_4, t_5, t_6, t_7, t_8, t_9, t_10, t_11, t_12, t_13, tg_0, tg_1, tg_2, tg_3, tg_4, tg_5, tg_6, tg_7, tg_8, tg_9, tg_10, tg_11, tg_12, tg_13, tg_14, tg_15, tg_16, tg_17, tg_18, tg_19, tg_20, tg_21, tg_22, tg_23, tp_0, tp_1, tp_2, tp_3, tp_4, tp_5, tp_6, tp_7, tp_8, tp_9, tp_10, tp_11, tp_12, tp_13, tp_14, tp_15, tp_16, tp_17, tp_18, tp_19, tp_20, tp_21, tp_22, tp_23, wu_s, wu_n, wu_wu, if_pos, if_neg, Bool.false_eq_true, Int.add_zero, Nat.add_zero, Int.reduceEq, Int.zero_add, ne_eq, not_true_eq_false, not_false_eq_true, and_self, and_true, true_and, and_false, false_and, or_true, true_or, or_false, false_or,  b288_46, lb288_70, b288_70, h18, r]
      exact r2
    · rw [if_neg e, if_neg e]
      refine ⟨w', s, ?_⟩
      have x2 : x < 0 := by
        rw [hx]
        split
        · rename_i z
          have : ¬ 0 ≤ (cmdP (w 0) C k).2.1 := fun y => e ⟨z, y⟩
          omega
        · omega
      rw [lb288_46]
      simp (disch := first | assumption | omega | exact i8_r | exact cat1_rf | exact cat_rf | exact mf_20 | exact cat1_i | exact cat1_r | exact cat1_n | exact cat_i | exact cat_r | exact cat_n | exact mf_0 | exact mf_4 | exact mf_4n | exact mf_10 | exact mf_11 | exact mnd_0 | exact mnd_i | exact mnd_r | exact mnd_n | exact mnd_f | exact bz_r | exact bz_01 | (simp only [List.length_cons, List.length_nil] <;> omega) | (simp only [wu, Nat.reduceEqDiff, if_true, if_false] <;> first | assumption | omega)) only [Int.reduceToNat, Nat.reduceDiv, Nat.reduceMod, Nat.reduceAdd, Nat.reduceSub, Int.reduceNeg, Int.reduceAdd, Int.reduceSub, Int.reduceMul, Int.reduceLT, Int.reduceLE, if_true, if_false, List.length_cons, List.length_nil, bz_z, fin_0, fin_1, fin_2, fin_3, x_0, x_Ts, x_Ss, x_iinc, x_iload_n, x_iload, x_lload_n, x_lload, x_fload_n, x_fload, x_dload_n, x_dload, x_aload_n, x_aload, x_istore_n, x_istore, x_astore_n, x_astore, x_fstore_n, x_fstore, x_dstore_n, x_dstore, x_lstore_n, x_lstore, m_iconst, m_bipush, m_sipush, m_ldci, m_ldcr, m_ldcw, m_null, m_gsi, m_gsr, m_add, m_sub, m_mul, m_neg, m_div, m_rem, m_max, m_min, m_abs, m_pop, m_dup, m_dupx1, m_dupx2, m_dup2, m_getf, m_putf, g_puts, m_iald, m_bald, g_alds, m_iast, m_bast, g_asti, g_astz, m_alen, g_lens, m_new, m_newi, m_oinit, h_ps, h_pn, h_ns, h_nn, h_p1, h_n1, h_n2, h_pp, x_goto, x_if, x_icmp, x_nullr, x_nulln, x_nnr, x_nnn, x_fall, z_eq, z_ne, z_lt, z_ge, z_gt, z_le, c_eq, c_ne, c_lt, c_ge, c_gt, c_le, x_ret, x_iret, x_aret, x_nret, x_zret, x_Rv, x_Rn, x_Rx, g_clss, x_Ws, x_Ks, x_cs0, x_cs1, x_cs2, x_cs3, x_cs4, x_cs5, x_cv0, x_cv1, x_cv2, x_cv3, x_cv4, x_ci0, x_ci1, x_ci2, x_ci3, x_ci4, x_cp0, x_cp1, x_cp2, x_cp3, x_cp4, ldi_0, lda_0, ldf_0, ldl_0, ldd_0, ldi_1, lda_1, ldf_1, ldl_1, ldd_1, ldi_2, lda_2, ldf_2, ldl_2, ldd_2, ldi_3, lda_3, ldf_3, ldl_3, ldd_3, ldi_4, lda_4, ldf_4, ldl_4, ldd_4, ldi_5, lda_5, ldf_5, ldl_5, ldd_5, ldi_6, lda_6, ldf_6, ldl_6, ldd_6, ldi_7, lda_7, ldf_7, ldl_7, ldd_7, ldi_8, lda_8, ldf_8, ldl_8, ldd_8, ldi_9, lda_9, ldf_9, ldl_9, ldd_9, ldi_10, lda_10, ldf_10, ldl_10, ldd_10, ldi_11, lda_11, ldf_11, ldl_11, ldd_11, ldi_12, lda_12, ldf_12, ldl_12, ldd_12, ldi_13, lda_13, ldf_13, ldl_13, ldd_13, ldn_0, ldn_1, ldn_2, ldn_3, ldn_4, ldn_5, ldn_6, ldn_7, ldn_8, ldn_9, ldn_10, ldn_11, ldn_12, ldn_13, sti_0, sta_0, stf_0, sti_1, sta_1, stf_1, sti_2, sta_2, stf_2, sti_3, sta_3, stf_3, sti_4, sta_4, stf_4, sti_5, sta_5, stf_5, sti_6, sta_6, stf_6, sti_7, sta_7, stf_7, sti_8, sta_8, stf_8, sti_9, sta_9, stf_9, sti_10, sta_10, stf_10, sti_11, sta_11, stf_11, sti_12, sta_12, stf_12, sti_13, sta_13, stf_13, stn_0, stn_1, stn_2, stn_3, stn_4, stn_5, stn_6, stn_7, stn_8, stn_9, stn_10, stn_11, stn_12, stn_13, inc_0, inc_1, inc_2, inc_3, inc_4, inc_5, inc_6, inc_7, inc_8, inc_9, inc_10, inc_11, inc_12, inc_13, sw19_2, sw71_2, sw75_39, sw125_11, sw127_18, sw130_17, sw135_20, sw136_19, sw146_44, sw174_83, sw174_183, sw175_11, sw175_106, sw183_11, sw183_128, sw184_17, sw184_92, sw207_17, sw207_123, sw293_60, sw333_6, sw338_20, sw345_20, sw349_20, sw350_20, sw351_6, sw370_7, m_i2f, m_i2d, m_fc1, m_dc0, x_fret, x_dret, m_i2b, m_and255, m_and63, m_shr24, m_shr16, m_shr8, m_shr0, m_shr1, g_astb, m_i2c, x_cret, x_bret, m_gsn, t_0, t_1, t_2, t_3, t_4, t_5, t_6, t_7, t_8, t_9, t_10, t_11, t_12, t_13, tg_0, tg_1, tg_2, tg_3, tg_4, tg_5, tg_6, tg_7, tg_8, tg_9, tg_10, tg_11, tg_12, tg_13, tg_14, tg_15, tg_16, tg_17, tg_18, tg_19, tg_20, tg_21, tg_22, tg_23, tp_0, tp_1, tp_2, tp_3, tp_4, tp_5, tp_6, tp_7, tp_8, tp_9, tp_10, tp_11, tp_12, tp_13, tp_14, tp_15, tp_16, tp_17, tp_18, tp_19, tp_20, tp_21, tp_22, tp_23, wu_s, wu_n, wu_wu, if_pos, if_neg, Bool.false_eq_true, Int.add_zero, Nat.add_zero, Int.reduceEq, Int.zero_add, ne_eq, not_true_eq_false, not_false_eq_true, and_self, and_true, true_and, and_false, false_and, or_true, true_or, or_false, false_or,  b288_46, lb288_70, b288_70, h18, r]
theorem L288a (hE : E.1 ≤ b) (hW : ∀ w, words E (tT b h w)) : ∀ (d : Nat) (w : Nat → Int → Int), PW w → CW w → w 10 0 - w 12 0 < d → mV E gP (288, 9, [some (.ref b), none], [], tT b h w) = mV E gP (288, 30, [some (.ref b), none], [], tT b h (cmdsW d w)) := by
  intro d
  induction d with
  | zero =>
    intro w hP hC hd
    have := hP.2.1
    have := hP.2.2.1
    omega
  | succ d ih =>
    intro w hP hC hd
    have p15 := hP.2.2.2.2.2.1
    have p11 := hP.2.2.2.2.1
    unfold cmdsW
    by_cases e1 : w 15 0 = 0
    · by_cases e2 : w 11 0 = 0
      · rw [if_neg (fun z => z.2 e2), lb288_9]
        simp (disch := first | assumption | omega | exact i8_r | exact cat1_rf | exact cat_rf | exact mf_20 | exact cat1_i | exact cat1_r | exact cat1_n | exact cat_i | exact cat_r | exact cat_n | exact mf_0 | exact mf_4 | exact mf_4n | exact mf_10 | exact mf_11 | exact mnd_0 | exact mnd_i | exact mnd_r | exact mnd_n | exact mnd_f | exact bz_r | exact bz_01 | (simp only [List.length_cons, List.length_nil] <;> omega) | (simp only [wu, Nat.reduceEqDiff, if_true, if_false] <;> first | assumption | omega)) only [Int.reduceToNat, Nat.reduceDiv, Nat.reduceMod, Nat.reduceAdd, Nat.reduceSub, Int.reduceNeg, Int.reduceAdd, Int.reduceSub, Int.reduceMul, Int.reduceLT, Int.reduceLE, if_true, if_false, List.length_cons, List.length_nil, bz_z, fin_0, fin_1, fin_2, fin_3, x_0, x_Ts, x_Ss, x_iinc, x_iload_n, x_iload, x_lload_n, x_lload, x_fload_n, x_fload, x_dload_n, x_dload, x_aload_n, x_aload, x_istore_n, x_istore, x_astore_n, x_astore, x_fstore_n, x_fstore, x_dstore_n, x_dstore, x_lstore_n, x_lstore, m_iconst, m_bipush, m_sipush, m_ldci, m_ldcr, m_ldcw, m_null, m_gsi, m_gsr, m_add, m_sub, m_mul, m_neg, m_div, m_rem, m_max, m_min, m_abs, m_pop, m_dup, m_dupx1, m_dupx2, m_dup2, m_getf, m_putf, g_puts, m_iald, m_bald, g_alds, m_iast, m_bast, g_asti, g_astz, m_alen, g_lens, m_new, m_newi, m_oinit, h_ps, h_pn, h_ns, h_nn, h_p1, h_n1, h_n2, h_pp, x_goto, x_if, x_icmp, x_nullr, x_nulln, x_nnr, x_nnn, x_fall, z_eq, z_ne, z_lt, z_ge, z_gt, z_le, c_eq, c_ne, c_lt, c_ge, c_gt, c_le, x_ret, x_iret, x_aret, x_nret, x_zret, x_Rv, x_Rn, x_Rx, g_clss, x_Ws, x_Ks, x_cs0, x_cs1, x_cs2, x_cs3, x_cs4, x_cs5, x_cv0, x_cv1, x_cv2, x_cv3, x_cv4, x_ci0, x_ci1, x_ci2, x_ci3, x_ci4, x_cp0, x_cp1, x_cp2, x_cp3, x_cp4, ldi_0, lda_0, ldf_0, ldl_0, ldd_0, ldi_1, lda_1, ldf_1, ldl_1, ldd_1, ldi_2, lda_2, ldf_2, ldl_2, ldd_2, ldi_3, lda_3, ldf_3, ldl_3, ldd_3, ldi_4, lda_4, ldf_4, ldl_4, ldd_4, ldi_5, lda_5, ldf_5, ldl_5, ldd_5, ldi_6, lda_6, ldf_6, ldl_6, ldd_6, ldi_7, lda_7, ldf_7, ldl_7, ldd_7, ldi_8, lda_8, ldf_8, ldl_8, ldd_8, ldi_9, lda_9, ldf_9, ldl_9, ldd_9, ldi_10, lda_10, ldf_10, ldl_10, ldd_10, ldi_11, lda_11, ldf_11, ldl_11, ldd_11, ldi_12, lda_12, ldf_12, ldl_12, ldd_12, ldi_13, lda_13, ldf_13, ldl_13, ldd_13, ldn_0, ldn_1, ldn_2, ldn_3, ldn_4, ldn_5, ldn_6, ldn_7, ldn_8, ldn_9, ldn_10, ldn_11, ldn_12, ldn_13, sti_0, sta_0, stf_0, sti_1, sta_1, stf_1, sti_2, sta_2, stf_2, sti_3, sta_3, stf_3, sti_4, sta_4, stf_4, sti_5, sta_5, stf_5, sti_6, sta_6, stf_6, sti_7, sta_7, stf_7, sti_8, sta_8, stf_8, sti_9, sta_9, stf_9, sti_10, sta_10, stf_10, sti_11, sta_11, stf_11, sti_12, sta_12, stf_12, sti_13, sta_13, stf_13, stn_0, stn_1, stn_2, stn_3, stn_4, stn_5, stn_6, stn_7, stn_8, stn_9, stn_10, stn_11, stn_12, stn_13, inc_0, inc_1, inc_2, inc_3, inc_4, inc_5, inc_6, inc_7, inc_8, inc_9, inc_10, inc_11, inc_12, inc_13, sw19_2, sw71_2, sw75_39, sw125_11, sw127_18, sw130_17, sw135_20, sw136_19, sw146_44, sw174_83, sw174_183, sw175_11, sw175_106, sw183_11, sw183_128, sw184_17, sw184_92, sw207_17, sw207_123, sw293_60, sw333_6, sw338_20, sw345_20, sw349_20, sw350_20, sw351_6, sw370_7, m_i2f, m_i2d, m_fc1, m_dc0, x_fret, x_dret, m_i2b, m_and255, m_and63, m_shr24, m_shr16, m_shr8, m_shr0, m_shr1, g_astb, m_i2c, x_cret, x_bret, m_gsn, t_0, t_1, t_2, t_3, t_4, t_5, t_6, t_7, t_8, t_9, t_10, t_11, t_12, t_13, tg_0, tg_1, tg_2, tg_3, tg_4, tg_5, tg_6, tg_7, tg_8, tg_9, tg_10, tg_11, tg_12, tg_13, tg_14, tg_15, tg_16, tg_17, tg_18, tg_19, tg_20, tg_21, tg_22, tg_23, tp_0, tp_1, tp_2, tp_3, tp_4, tp_5, tp_6, tp_7, tp_8, tp_9, tp_10, tp_11, tp_12, tp_13, tp_14, tp_15, tp_16, tp_17, tp_18, tp_19, tp_20, tp_21, tp_22, tp_23, wu_s, wu_n, wu_wu, if_pos, if_neg, Bool.false_eq_true, Int.add_zero, Nat.add_zero, Int.reduceEq, Int.zero_add, ne_eq, not_true_eq_false, not_false_eq_true, and_self, and_true, true_and, and_false, false_and, or_true, true_or, or_false, false_or,  b288_9, R265, bz, e1, e2]
      · rw [if_pos ⟨e1, e2⟩]
        have s := stri_cmd hP e2
        have r := R289 (h := h) hE hP hC.1 hW
        by_cases e3 : cmdW w 15 0 = 0
        · have s2 := s.2 e3
          have h2 := ih (cmdW w) (PW_cmd hP) (CW_cmd hP hC) (by rw [s.1]; omega)
          rw [← h2, lb288_9]
          simp (disch := first | assumption | omega | exact i8_r | exact cat1_rf | exact cat_rf | exact mf_20 | exact cat1_i | exact cat1_r | exact cat1_n | exact cat_i | exact cat_r | exact cat_n | exact mf_0 | exact mf_4 | exact mf_4n | exact mf_10 | exact mf_11 | exact mnd_0 | exact mnd_i | exact mnd_r | exact mnd_n | exact mnd_f | exact bz_r | exact bz_01 | (simp only [List.length_cons, List.length_nil] <;> omega) | (simp only [wu, Nat.reduceEqDiff, if_true, if_false] <;> first | assumption | omega)) only [Int.reduceToNat, Nat.reduceDiv, Nat.reduceMod, Nat.reduceAdd, Nat.reduceSub, Int.reduceNeg, Int.reduceAdd, Int.reduceSub, Int.reduceMul, Int.reduceLT, Int.reduceLE, if_true, if_false, List.length_cons, List.length_nil, bz_z, fin_0, fin_1, fin_2, fin_3, x_0, x_Ts, x_Ss, x_iinc, x_iload_n, x_iload, x_lload_n, x_lload, x_fload_n, x_fload, x_dload_n, x_dload, x_aload_n, x_aload, x_istore_n, x_istore, x_astore_n, x_astore, x_fstore_n, x_fstore, x_dstore_n, x_dstore, x_lstore_n, x_lstore, m_iconst, m_bipush, m_sipush, m_ldci, m_ldcr, m_ldcw, m_null, m_gsi, m_gsr, m_add, m_sub, m_mul, m_neg, m_div, m_rem, m_max, m_min, m_abs, m_pop, m_dup, m_dupx1, m_dupx2, m_dup2, m_getf, m_putf, g_puts, m_iald, m_bald, g_alds, m_iast, m_bast, g_asti, g_astz, m_alen, g_lens, m_new, m_newi, m_oinit, h_ps, h_pn, h_ns, h_nn, h_p1, h_n1, h_n2, h_pp, x_goto, x_if, x_icmp, x_nullr, x_nulln, x_nnr, x_nnn, x_fall, z_eq, z_ne, z_lt, z_ge, z_gt, z_le, c_eq, c_ne, c_lt, c_ge, c_gt, c_le, x_ret, x_iret, x_aret, x_nret, x_zret, x_Rv, x_Rn, x_Rx, g_clss, x_Ws, x_Ks, x_cs0, x_cs1, x_cs2, x_cs3, x_cs4, x_cs5, x_cv0, x_cv1, x_cv2, x_cv3, x_cv4, x_ci0, x_ci1, x_ci2, x_ci3, x_ci4, x_cp0, x_cp1, x_cp2, x_cp3, x_cp4, ldi_0, lda_0, ldf_0, ldl_0, ldd_0, ldi_1, lda_1, ldf_1, ldl_1, ldd_1, ldi_2, lda_2, ldf_2, ldl_2, ldd_2, ldi_3, lda_3, ldf_3, ldl_3, ldd_3, ldi_4, lda_4, ldf_4, ldl_4, ldd_4, ldi_5, lda_5, ldf_5, ldl_5, ldd_5, ldi_6, lda_6, ldf_6, ldl_6, ldd_6, ldi_7, lda_7, ldf_7, ldl_7, ldd_7, ldi_8, lda_8, ldf_8, ldl_8, ldd_8, ldi_9, lda_9, ldf_9, ldl_9, ldd_9, ldi_10, lda_10, ldf_10, ldl_10, ldd_10, ldi_11, lda_11, ldf_11, ldl_11, ldd_11, ldi_12, lda_12, ldf_12, ldl_12, ldd_12, ldi_13, lda_13, ldf_13, ldl_13, ldd_13, ldn_0, ldn_1, ldn_2, ldn_3, ldn_4, ldn_5, ldn_6, ldn_7, ldn_8, ldn_9, ldn_10, ldn_11, ldn_12, ldn_13, sti_0, sta_0, stf_0, sti_1, sta_1, stf_1, sti_2, sta_2, stf_2, sti_3, sta_3, stf_3, sti_4, sta_4, stf_4, sti_5, sta_5, stf_5, sti_6, sta_6, stf_6, sti_7, sta_7, stf_7, sti_8, sta_8, stf_8, sti_9, sta_9, stf_9, sti_10, sta_10, stf_10, sti_11, sta_11, stf_11, sti_12, sta_12, stf_12, sti_13, sta_13, stf_13, stn_0, stn_1, stn_2, stn_3, stn_4, stn_5, stn_6, stn_7, stn_8, stn_9, stn_10, stn_11, stn_12, stn_13, inc_0, inc_1, inc_2, inc_3, inc_4, inc_5, inc_6, inc_7, inc_8, inc_9, inc_10, inc_11, inc_12, inc_13, sw19_2, sw71_2, sw75_39, sw125_11, sw127_18, sw130_17, sw135_20, sw136_19, sw146_44, sw174_83, sw174_183, sw175_11, sw175_106, sw183_11, sw183_128, sw184_17, sw184_92, sw207_17, sw207_123, sw293_60, sw333_6, sw338_20, sw345_20, sw349_20, sw350_20, sw351_6, sw370_7, m_i2f, m_i2d, m_fc1, m_dc0, x_fret, x_dret, m_i2b, m_and255, m_and63, m_shr24, m_shr16, m_shr8, m_shr0, m_shr1, g_astb, m_i2c, x_cret, x_bret, m_gsn, t_0, t_1, t_2, t_3, t_4, t_5, t_6, t_7, t_8, t_9, t_10, t_11, t_12, t_13, tg_0, tg_1, tg_2, tg_3, tg_4, tg_5, tg_6, tg_7, tg_8, tg_9, tg_10, tg_11, tg_12, tg_13, tg_14, tg_15, tg_16, tg_17, tg_18, tg_19, tg_20, tg_21, tg_22, tg_23, tp_0, tp_1, tp_2, tp_3, tp_4, tp_5, tp_6, tp_7, tp_8, tp_9, tp_10, tp_11, tp_12, tp_13, tp_14, tp_15, tp_16, tp_17, tp_18, tp_19, tp_20, tp_21, tp_22, tp_23, wu_s, wu_n, wu_wu, if_pos, if_neg, Bool.false_eq_true, Int.add_zero, Nat.add_zero, Int.reduceEq, Int.zero_add, ne_eq, not_true_eq_false, not_false_eq_true, and_self, and_true, true_and, and_false, false_and, or_true, true_or, or_false, false_or,  b288_9, R265, bz, r, e1, e2]
        · have e4 : cmdsW d (cmdW w) = cmdW w := by
            cases d with
            | zero => rfl
            | succ d => exact if_neg (fun z => e3 z.1)
          have p15' := (PW_cmd hP).2.2.2.2.2.1
          rw [e4, lb288_9]
          simp (disch := first | assumption | omega | exact i8_r | exact cat1_rf | exact cat_rf | exact mf_20 | exact cat1_i | exact cat1_r | exact cat1_n | exact cat_i | exact cat_r | exact cat_n | exact mf_0 | exact mf_4 | exact mf_4n | exact mf_10 | exact mf_11 | exact mnd_0 | exact mnd_i | exact mnd_r | exact mnd_n | exact mnd_f | exact bz_r | exact bz_01 | (simp only [List.length_cons, List.length_nil] <;> omega) | (simp only [wu, Nat.reduceEqDiff, if_true, if_false] <;> first | assumption | omega)) only [Int.reduceToNat, Nat.reduceDiv, Nat.reduceMod, Nat.reduceAdd, Nat.reduceSub, Int.reduceNeg, Int.reduceAdd, Int.reduceSub, Int.reduceMul, Int.reduceLT, Int.reduceLE, if_true, if_false, List.length_cons, List.length_nil, bz_z, fin_0, fin_1, fin_2, fin_3, x_0, x_Ts, x_Ss, x_iinc, x_iload_n, x_iload, x_lload_n, x_lload, x_fload_n, x_fload, x_dload_n, x_dload, x_aload_n, x_aload, x_istore_n, x_istore, x_astore_n, x_astore, x_fstore_n, x_fstore, x_dstore_n, x_dstore, x_lstore_n, x_lstore, m_iconst, m_bipush, m_sipush, m_ldci, m_ldcr, m_ldcw, m_null, m_gsi, m_gsr, m_add, m_sub, m_mul, m_neg, m_div, m_rem, m_max, m_min, m_abs, m_pop, m_dup, m_dupx1, m_dupx2, m_dup2, m_getf, m_putf, g_puts, m_iald, m_bald, g_alds, m_iast, m_bast, g_asti, g_astz, m_alen, g_lens, m_new, m_newi, m_oinit, h_ps, h_pn, h_ns, h_nn, h_p1, h_n1, h_n2, h_pp, x_goto, x_if, x_icmp, x_nullr, x_nulln, x_nnr, x_nnn, x_fall, z_eq, z_ne, z_lt, z_ge, z_gt, z_le, c_eq, c_ne, c_lt, c_ge, c_gt, c_le, x_ret, x_iret, x_aret, x_nret, x_zret, x_Rv, x_Rn, x_Rx, g_clss, x_Ws, x_Ks, x_cs0, x_cs1, x_cs2, x_cs3, x_cs4, x_cs5, x_cv0, x_cv1, x_cv2, x_cv3, x_cv4, x_ci0, x_ci1, x_ci2, x_ci3, x_ci4, x_cp0, x_cp1, x_cp2, x_cp3, x_cp4, ldi_0, lda_0, ldf_0, ldl_0, ldd_0, ldi_1, lda_1, ldf_1, ldl_1, ldd_1, ldi_2, lda_2, ldf_2, ldl_2, ldd_2, ldi_3, lda_3, ldf_3, ldl_3, ldd_3, ldi_4, lda_4, ldf_4, ldl_4, ldd_4, ldi_5, lda_5, ldf_5, ldl_5, ldd_5, ldi_6, lda_6, ldf_6, ldl_6, ldd_6, ldi_7, lda_7, ldf_7, ldl_7, ldd_7, ldi_8, lda_8, ldf_8, ldl_8, ldd_8, ldi_9, lda_9, ldf_9, ldl_9, ldd_9, ldi_10, lda_10, ldf_10, ldl_10, ldd_10, ldi_11, lda_11, ldf_11, ldl_11, ldd_11, ldi_12, lda_12, ldf_12, ldl_12, ldd_12, ldi_13, lda_13, ldf_13, ldl_13, ldd_13, ldn_0, ldn_1, ldn_2, ldn_3, ldn_4, ldn_5, ldn_6, ldn_7, ldn_8, ldn_9, ldn_10, ldn_11, ldn_12, ldn_13, sti_0, sta_0, stf_0, sti_1, sta_1, stf_1, sti_2, sta_2, stf_2, sti_3, sta_3, stf_3, sti_4, sta_4, stf_4, sti_5, sta_5, stf_5, sti_6, sta_6, stf_6, sti_7, sta_7, stf_7, sti_8, sta_8, stf_8, sti_9, sta_9, stf_9, sti_10, sta_10, stf_10, sti_11, sta_11, stf_11, sti_12, sta_12, stf_12, sti_13, sta_13, stf_13, stn_0, stn_1, stn_2, stn_3, stn_4, stn_5, stn_6, stn_7, stn_8, stn_9, stn_10, stn_11, stn_12, stn_13, inc_0, inc_1, inc_2, inc_3, inc_4, inc_5, inc_6, inc_7, inc_8, inc_9, inc_10, inc_11, inc_12, inc_13, sw19_2, sw71_2, sw75_39, sw125_11, sw127_18, sw130_17, sw135_20, sw136_19, sw146_44, sw174_83, sw174_183, sw175_11, sw175_106, sw183_11, sw183_128, sw184_17, sw184_92, sw207_17, sw207_123, sw293_60, sw333_6, sw338_20, sw345_20, sw349_20, sw350_20, sw351_6, sw370_7, m_i2f, m_i2d, m_fc1, m_dc0, x_fret, x_dret, m_i2b, m_and255, m_and63, m_shr24, m_shr16, m_shr8, m_shr0, m_shr1, g_astb, m_i2c, x_cret, x_bret, m_gsn, t_0, t_1, t_2, t_3, t_4, t_5, t_6, t_7, t_8, t_9, t_10, t_11, t_12, t_13, tg_0, tg_1, tg_2, tg_3, tg_4, tg_5, tg_6, tg_7, tg_8, tg_9, tg_10, tg_11, tg_12, tg_13, tg_14, tg_15, tg_16, tg_17, tg_18, tg_19, tg_20, tg_21, tg_22, tg_23, tp_0, tp_1, tp_2, tp_3, tp_4, tp_5, tp_6, tp_7, tp_8, tp_9, tp_10, tp_11, tp_12, tp_13, tp_14, tp_15, tp_16, tp_17, tp_18, tp_19, tp_20, tp_21, tp_22, tp_23, wu_s, wu_n, wu_wu, if_pos, if_neg, Bool.false_eq_true, Int.add_zero, Nat.add_zero, Int.reduceEq, Int.zero_add, ne_eq, not_true_eq_false, not_false_eq_true, and_self, and_true, true_and, and_false, false_and, or_true, true_or, or_false, false_or,  b288_9, R265, bz, r, e1, e2]
          rw [lb288_9]
          simp (disch := first | assumption | omega | exact i8_r | exact cat1_rf | exact cat_rf | exact mf_20 | exact cat1_i | exact cat1_r | exact cat1_n | exact cat_i | exact cat_r | exact cat_n | exact mf_0 | exact mf_4 | exact mf_4n | exact mf_10 | exact mf_11 | exact mnd_0 | exact mnd_i | exact mnd_r | exact mnd_n | exact mnd_f | exact bz_r | exact bz_01 | (simp only [List.length_cons, List.length_nil] <;> omega) | (simp only [wu, Nat.reduceEqDiff, if_true, if_false] <;> first | assumption | omega)) only [Int.reduceToNat, Nat.reduceDiv, Nat.reduceMod, Nat.reduceAdd, Nat.reduceSub, Int.reduceNeg, Int.reduceAdd, Int.reduceSub, Int.reduceMul, Int.reduceLT, Int.reduceLE, if_true, if_false, List.length_cons, List.length_nil, bz_z, fin_0, fin_1, fin_2, fin_3, x_0, x_Ts, x_Ss, x_iinc, x_iload_n, x_iload, x_lload_n, x_lload, x_fload_n, x_fload, x_dload_n, x_dload, x_aload_n, x_aload, x_istore_n, x_istore, x_astore_n, x_astore, x_fstore_n, x_fstore, x_dstore_n, x_dstore, x_lstore_n, x_lstore, m_iconst, m_bipush, m_sipush, m_ldci, m_ldcr, m_ldcw, m_null, m_gsi, m_gsr, m_add, m_sub, m_mul, m_neg, m_div, m_rem, m_max, m_min, m_abs, m_pop, m_dup, m_dupx1, m_dupx2, m_dup2, m_getf, m_putf, g_puts, m_iald, m_bald, g_alds, m_iast, m_bast, g_asti, g_astz, m_alen, g_lens, m_new, m_newi, m_oinit, h_ps, h_pn, h_ns, h_nn, h_p1, h_n1, h_n2, h_pp, x_goto, x_if, x_icmp, x_nullr, x_nulln, x_nnr, x_nnn, x_fall, z_eq, z_ne, z_lt, z_ge, z_gt, z_le, c_eq, c_ne, c_lt, c_ge, c_gt, c_le, x_ret, x_iret, x_aret, x_nret, x_zret, x_Rv, x_Rn, x_Rx, g_clss, x_Ws, x_Ks, x_cs0, x_cs1, x_cs2, x_cs3, x_cs4, x_cs5, x_cv0, x_cv1, x_cv2, x_cv3, x_cv4, x_ci0, x_ci1, x_ci2, x_ci3, x_ci4, x_cp0, x_cp1, x_cp2, x_cp3, x_cp4, ldi_0, lda_0, ldf_0, ldl_0, ldd_0, ldi_1, lda_1, ldf_1, ldl_1, ldd_1, ldi_2, lda_2, ldf_2, ldl_2, ldd_2, ldi_3, lda_3, ldf_3, ldl_3, ldd_3, ldi_4, lda_4, ldf_4, ldl_4, ldd_4, ldi_5, lda_5, ldf_5, ldl_5, ldd_5, ldi_6, lda_6, ldf_6, ldl_6, ldd_6, ldi_7, lda_7, ldf_7, ldl_7, ldd_7, ldi_8, lda_8, ldf_8, ldl_8, ldd_8, ldi_9, lda_9, ldf_9, ldl_9, ldd_9, ldi_10, lda_10, ldf_10, ldl_10, ldd_10, ldi_11, lda_11, ldf_11, ldl_11, ldd_11, ldi_12, lda_12, ldf_12, ldl_12, ldd_12, ldi_13, lda_13, ldf_13, ldl_13, ldd_13, ldn_0, ldn_1, ldn_2, ldn_3, ldn_4, ldn_5, ldn_6, ldn_7, ldn_8, ldn_9, ldn_10, ldn_11, ldn_12, ldn_13, sti_0, sta_0, stf_0, sti_1, sta_1, stf_1, sti_2, sta_2, stf_2, sti_3, sta_3, stf_3, sti_4, sta_4, stf_4, sti_5, sta_5, stf_5, sti_6, sta_6, stf_6, sti_7, sta_7, stf_7, sti_8, sta_8, stf_8, sti_9, sta_9, stf_9, sti_10, sta_10, stf_10, sti_11, sta_11, stf_11, sti_12, sta_12, stf_12, sti_13, sta_13, stf_13, stn_0, stn_1, stn_2, stn_3, stn_4, stn_5, stn_6, stn_7, stn_8, stn_9, stn_10, stn_11, stn_12, stn_13, inc_0, inc_1, inc_2, inc_3, inc_4, inc_5, inc_6, inc_7, inc_8, inc_9, inc_10, inc_11, inc_12, inc_13, sw19_2, sw71_2, sw75_39, sw125_11, sw127_18, sw130_17, sw135_20, sw136_19, sw146_44, sw174_83, sw174_183, sw175_11, sw175_106, sw183_11, sw183_128, sw184_17, sw184_92, sw207_17, sw207_123, sw293_60, sw333_6, sw338_20, sw345_20, sw349_20, sw350_20, sw351_6, sw370_7, m_i2f, m_i2d, m_fc1, m_dc0, x_fret, x_dret, m_i2b, m_and255, m_and63, m_shr24, m_shr16, m_shr8, m_shr0, m_shr1, g_astb, m_i2c, x_cret, x_bret, m_gsn, t_0, t_1, t_2, t_3, t_4, t_5, t_6, t_7, t_8, t_9, t_10, t_11, t_12, t_13, tg_0, tg_1, tg_2, tg_3, tg_4, tg_5, tg_6, tg_7, tg_8, tg_9, tg_10, tg_11, tg_12, tg_13, tg_14, tg_15, tg_16, tg_17, tg_18, tg_19, tg_20, tg_21, tg_22, tg_23, tp_0, tp_1, tp_2, tp_3, tp_4, tp_5, tp_6, tp_7, tp_8, tp_9, tp_10, tp_11, tp_12, tp_13, tp_14, tp_15, tp_16, tp_17, tp_18, tp_19, tp_20, tp_21, tp_22, tp_23, wu_s, wu_n, wu_wu, if_pos, if_neg, Bool.false_eq_true, Int.add_zero, Nat.add_zero, Int.reduceEq, Int.zero_add, ne_eq, not_true_eq_false, not_false_eq_true, and_self, and_true, true_and, and_false, false_and, or_true, true_or, or_false, false_or,  b288_9, R265, bz, e3]
    · rw [if_neg (fun z => e1 z.1), lb288_9]
      simp (disch := first | assumption | omega | exact i8_r | exact cat1_rf | exact cat_rf | exact mf_20 | exact cat1_i | exact cat1_r | exact cat1_n | exact cat_i | exact cat_r | exact cat_n | exact mf_0 | exact mf_4 | exact mf_4n | exact mf_10 | exact mf_11 | exact mnd_0 | exact mnd_i | exact mnd_r | exact mnd_n | exact mnd_f | exact bz_r | exact bz_01 | (simp only [List.length_cons, List.length_nil] <;> omega) | (simp only [wu, Nat.reduceEqDiff, if_true, if_false] <;> first | assumption | omega)) only [Int.reduceToNat, Nat.reduceDiv, Nat.reduceMod, Nat.reduceAdd, Nat.reduceSub, Int.reduceNeg, Int.reduceAdd, Int.reduceSub, Int.reduceMul, Int.reduceLT, Int.reduceLE, if_true, if_false, List.length_cons, List.length_nil, bz_z, fin_0, fin_1, fin_2, fin_3, x_0, x_Ts, x_Ss, x_iinc, x_iload_n, x_iload, x_lload_n, x_lload, x_fload_n, x_fload, x_dload_n, x_dload, x_aload_n, x_aload, x_istore_n, x_istore, x_astore_n, x_astore, x_fstore_n, x_fstore, x_dstore_n, x_dstore, x_lstore_n, x_lstore, m_iconst, m_bipush, m_sipush, m_ldci, m_ldcr, m_ldcw, m_null, m_gsi, m_gsr, m_add, m_sub, m_mul, m_neg, m_div, m_rem, m_max, m_min, m_abs, m_pop, m_dup, m_dupx1, m_dupx2, m_dup2, m_getf, m_putf, g_puts, m_iald, m_bald, g_alds, m_iast, m_bast, g_asti, g_astz, m_alen, g_lens, m_new, m_newi, m_oinit, h_ps, h_pn, h_ns, h_nn, h_p1, h_n1, h_n2, h_pp, x_goto, x_if, x_icmp, x_nullr, x_nulln, x_nnr, x_nnn, x_fall, z_eq, z_ne, z_lt, z_ge, z_gt, z_le, c_eq, c_ne, c_lt, c_ge, c_gt, c_le, x_ret, x_iret, x_aret, x_nret, x_zret, x_Rv, x_Rn, x_Rx, g_clss, x_Ws, x_Ks, x_cs0, x_cs1, x_cs2, x_cs3, x_cs4, x_cs5, x_cv0, x_cv1, x_cv2, x_cv3, x_cv4, x_ci0, x_ci1, x_ci2, x_ci3, x_ci4, x_cp0, x_cp1, x_cp2, x_cp3, x_cp4, ldi_0, lda_0, ldf_0, ldl_0, ldd_0, ldi_1, lda_1, ldf_1, ldl_1, ldd_1, ldi_2, lda_2, ldf_2, ldl_2, ldd_2, ldi_3, lda_3, ldf_3, ldl_3, ldd_3, ldi_4, lda_4, ldf_4, ldl_4, ldd_4, ldi_5, lda_5, ldf_5, ldl_5, ldd_5, ldi_6, lda_6, ldf_6, ldl_6, ldd_6, ldi_7, lda_7, ldf_7, ldl_7, ldd_7, ldi_8, lda_8, ldf_8, ldl_8, ldd_8, ldi_9, lda_9, ldf_9, ldl_9, ldd_9, ldi_10, lda_10, ldf_10, ldl_10, ldd_10, ldi_11, lda_11, ldf_11, ldl_11, ldd_11, ldi_12, lda_12, ldf_12, ldl_12, ldd_12, ldi_13, lda_13, ldf_13, ldl_13, ldd_13, ldn_0, ldn_1, ldn_2, ldn_3, ldn_4, ldn_5, ldn_6, ldn_7, ldn_8, ldn_9, ldn_10, ldn_11, ldn_12, ldn_13, sti_0, sta_0, stf_0, sti_1, sta_1, stf_1, sti_2, sta_2, stf_2, sti_3, sta_3, stf_3, sti_4, sta_4, stf_4, sti_5, sta_5, stf_5, sti_6, sta_6, stf_6, sti_7, sta_7, stf_7, sti_8, sta_8, stf_8, sti_9, sta_9, stf_9, sti_10, sta_10, stf_10, sti_11, sta_11, stf_11, sti_12, sta_12, stf_12, sti_13, sta_13, stf_13, stn_0, stn_1, stn_2, stn_3, stn_4, stn_5, stn_6, stn_7, stn_8, stn_9, stn_10, stn_11, stn_12, stn_13, inc_0, inc_1, inc_2, inc_3, inc_4, inc_5, inc_6, inc_7, inc_8, inc_9, inc_10, inc_11, inc_12, inc_13, sw19_2, sw71_2, sw75_39, sw125_11, sw127_18, sw130_17, sw135_20, sw136_19, sw146_44, sw174_83, sw174_183, sw175_11, sw175_106, sw183_11, sw183_128, sw184_17, sw184_92, sw207_17, sw207_123, sw293_60, sw333_6, sw338_20, sw345_20, sw349_20, sw350_20, sw351_6, sw370_7, m_i2f, m_i2d, m_fc1, m_dc0, x_fret, x_dret, m_i2b, m_and255, m_and63, m_shr24, m_shr16, m_shr8, m_shr0, m_shr1, g_astb, m_i2c, x_cret, x_bret, m_gsn, t_0, t_1, t_2, t_3, t_4, t_5, t_6, t_7, t_8, t_9, t_10, t_11, t_12, t_13, tg_0, tg_1, tg_2, tg_3, tg_4, tg_5, tg_6, tg_7, tg_8, tg_9, tg_10, tg_11, tg_12, tg_13, tg_14, tg_15, tg_16, tg_17, tg_18, tg_19, tg_20, tg_21, tg_22, tg_23, tp_0, tp_1, tp_2, tp_3, tp_4, tp_5, tp_6, tp_7, tp_8, tp_9, tp_10, tp_11, tp_12, tp_13, tp_14, tp_15, tp_16, tp_17, tp_18, tp_19, tp_20, tp_21, tp_22, tp_23, wu_s, wu_n, wu_wu, if_pos, if_neg, Bool.false_eq_true, Int.add_zero, Nat.add_zero, Int.reduceEq, Int.zero_add, ne_eq, not_true_eq_false, not_false_eq_true, and_self, and_true, true_and, and_false, false_and, or_true, true_or, or_false, false_or,  b288_9, R265, bz, e1]
def pl1 (w : Nat → Int → Int) : Nat → Int → Int := startW (wu w 7 (fun _ => 0))
def pl2 (w : Nat → Int → Int) : Nat → Int → Int := wu (cmdsW 502 (pl1 w)) 10 (fun _ => 0)
def playV (w : Nat → Int → Int) : Int := if pl2 w 15 0 = 0 then runV (pl2 w 17) (pl2 w 18 0).toNat 0 (pl2 w) else -1
def playW (w : Nat → Int → Int) : Nat → Int → Int := if pl2 w 15 0 = 0 then runW (pl2 w 17) (pl2 w 18 0).toNat 0 (pl2 w) else pl2 w
theorem start_n {i : Nat} (hi : i < 11 ∨ 18 < i ∨ i = 17) : startW w i = w i := by
  unfold startW
  rw [proc_n (by omega) (by omega) (by omega) (by omega), wu_n (by omega), wu_n (by omega), wu_n (by omega), wu_n (by omega)]
theorem start_18 : startW w 18 0 = 0 := by
  unfold startW
  rw [proc_n (by omega) (by omega) (by omega) (by omega), wu_s]
theorem cmds_n {i : Nat} (hi : i < 11) : ∀ (d : Nat) (w : Nat → Int → Int), cmdsW d w i = w i := by
  intro d
  induction d with
  | zero => intro w; rfl
  | succ d ih =>
    intro w
    unfold cmdsW
    split
    · rw [ih]
      unfold cmdW
      split
      · rw [wu_n (by omega), wu_n (by omega), pc5_n (by omega)]
      · rw [pc5_n (by omega)]
    · rfl
theorem pl_facts (hT : TW w) : PW (pl1 w) ∧ CW (pl1 w) ∧ PW (cmdsW 502 (pl1 w)) ∧ CW (cmdsW 502 (pl1 w)) := by
  have p1 : PW (pl1 w) := PW_start hT
  have c1 : CW (pl1 w) := by
    have e : pl1 w 18 0 = 0 := start_18
    unfold CW
    rw [e]
    exact ⟨by omega, fun n a b => by omega⟩
  have := cmds_inv 502 (pl1 w) p1 c1
  exact ⟨p1, c1, this.1, this.2⟩
theorem R288 (hE : E.1 ≤ b) (hT : TW w) (hA : AW w) (hW : ∀ w, words E (tT b h w)) : ∃ w', scr (playW w) w' ∧ mRun E gP 288 [.ref b] (tT b h w) = some (.inl (some (.int (Int32.ofInt (playV w)))), tT b h w') := by
  obtain ⟨p1, c1, p2, c2⟩ := pl_facts hT
  have r1 := R263 (h := h) (w := wu w 7 (fun _ => 0)) hE hT
  have f1 : startW (wu w 7 (fun _ => 0)) = pl1 w := rfl
  rw [f1] at r1
  have l1 := L288a (h := h) hE hW 502 (pl1 w) p1 c1 (by
    have := p1.1
    have := p1.2.2.1
    omega)
  have f2 : wu (cmdsW 502 (pl1 w)) 10 (fun _ => 0) = pl2 w := rfl
  have q15 : 0 ≤ pl2 w 15 0 ∧ pl2 w 15 0 ≤ 4 := p2.2.2.2.2.2.1
  have q18 : 0 ≤ pl2 w 18 0 ∧ pl2 w 18 0 ≤ 30 := c2.1
  unfold playV playW
  by_cases e : pl2 w 15 0 = 0
  · have n0 : pl2 w 0 = w 0 := by
      show cmdsW 502 (pl1 w) 0 = w 0
      rw [cmds_n (by omega)]
      exact start_n (by omega)
    have n6 : pl2 w 6 = w 6 := by
      show cmdsW 502 (pl1 w) 6 = w 6
      rw [cmds_n (by omega)]
      exact start_n (by omega)
    obtain ⟨w', s, r⟩ := L288b (h := h) hE (C := pl2 w 17) (N := (pl2 w 18 0).toNat) (by omega) (fun n a b => c2.2 n a (by show n < pl2 w 18 0; omega)) (pl2 w 18 0).toNat 0 (pl2 w) (by omega) (by unfold AW; rw [n0, n6]; exact hA) rfl (by omega)
    rw [if_pos e, if_pos e]
    refine ⟨w', s, ?_⟩
    have t : mV E gP (288, 30, [some (.ref b), none], [], tT b h (cmdsW 502 (pl1 w))) = some (.inl (some (.int (Int32.ofInt (runV (pl2 w 17) (pl2 w 18 0).toNat 0 (pl2 w))))), tT b h w') := by
      rw [lb288_30]
      simp (disch := first | assumption | omega | exact i8_r | exact cat1_rf | exact cat_rf | exact mf_20 | exact cat1_i | exact cat1_r | exact cat1_n | exact cat_i | exact cat_r | exact cat_n | exact mf_0 | exact mf_4 | exact mf_4n | exact mf_10 | exact mf_11 | exact mnd_0 | exact mnd_i | exact mnd_r | exact mnd_n | exact mnd_f | exact bz_r | exact bz_01 | (simp only [List.length_cons, List.length_nil] <;> omega) | (simp only [wu, Nat.reduceEqDiff, if_true, if_false] <;> first | assumption | omega)) only [Int.reduceToNat, Nat.reduceDiv, Nat.reduceMod, Nat.reduceAdd, Nat.reduceSub, Int.reduceNeg, Int.reduceAdd, Int.reduceSub, Int.reduceMul, Int.reduceLT, Int.reduceLE, if_true, if_false, List.length_cons, List.length_nil, bz_z, fin_0, fin_1, fin_2, fin_3, x_0, x_Ts, x_Ss, x_iinc, x_iload_n, x_iload, x_lload_n, x_lload, x_fload_n, x_fload, x_dload_n, x_dload, x_aload_n, x_aload, x_istore_n, x_istore, x_astore_n, x_astore, x_fstore_n, x_fstore, x_dstore_n, x_dstore, x_lstore_n, x_lstore, m_iconst, m_bipush, m_sipush, m_ldci, m_ldcr, m_ldcw, m_null, m_gsi, m_gsr, m_add, m_sub, m_mul, m_neg, m_div, m_rem, m_max, m_min, m_abs, m_pop, m_dup, m_dupx1, m_dupx2, m_dup2, m_getf, m_putf, g_puts, m_iald, m_bald, g_alds, m_iast, m_bast, g_asti, g_astz, m_alen, g_lens, m_new, m_newi, m_oinit, h_ps, h_pn, h_ns, h_nn, h_p1, h_n1, h_n2, h_pp, x_goto, x_if, x_icmp, x_nullr, x_nulln, x_nnr, x_nnn, x_fall, z_eq, z_ne, z_lt, z_ge, z_gt, z_le, c_eq, c_ne, c_lt, c_ge, c_gt, c_le, x_ret, x_iret, x_aret, x_nret, x_zret, x_Rv, x_Rn, x_Rx, g_clss, x_Ws, x_Ks, x_cs0, x_cs1, x_cs2, x_cs3, x_cs4, x_cs5, x_cv0, x_cv1, x_cv2, x_cv3, x_cv4, x_ci0, x_ci1, x_ci2, x_ci3, x_ci4, x_cp0, x_cp1, x_cp2, x_cp3, x_cp4, ldi_0, lda_0, ldf_0, ldl_0, ldd_0, ldi_1, lda_1, ldf_1, ldl_1, ldd_1, ldi_2, lda_2, ldf_2, ldl_2, ldd_2, ldi_3, lda_3, ldf_3, ldl_3, ldd_3, ldi_4, lda_4, ldf_4, ldl_4, ldd_4, ldi_5, lda_5, ldf_5, ldl_5, ldd_5, ldi_6, lda_6, ldf_6, ldl_6, ldd_6, ldi_7, lda_7, ldf_7, ldl_7, ldd_7, ldi_8, lda_8, ldf_8, ldl_8, ldd_8, ldi_9, lda_9, ldf_9, ldl_9, ldd_9, ldi_10, lda_10, ldf_10, ldl_10, ldd_10, ldi_11, lda_11, ldf_11, ldl_11, ldd_11, ldi_12, lda_12, ldf_12, ldl_12, ldd_12, ldi_13, lda_13, ldf_13, ldl_13, ldd_13, ldn_0, ldn_1, ldn_2, ldn_3, ldn_4, ldn_5, ldn_6, ldn_7, ldn_8, ldn_9, ldn_10, ldn_11, ldn_12, ldn_13, sti_0, sta_0, stf_0, sti_1, sta_1, stf_1, sti_2, sta_2, stf_2, sti_3, sta_3, stf_3, sti_4, sta_4, stf_4, sti_5, sta_5, stf_5, sti_6, sta_6, stf_6, sti_7, sta_7, stf_7, sti_8, sta_8, stf_8, sti_9, sta_9, stf_9, sti_10, sta_10, stf_10, sti_11, sta_11, stf_11, sti_12, sta_12, stf_12, sti_13, sta_13, stf_13, stn_0, stn_1, stn_2, stn_3, stn_4, stn_5, stn_6, stn_7, stn_8, stn_9, stn_10, stn_11, stn_12, stn_13, inc_0, inc_1, inc_2, inc_3, inc_4, inc_5, inc_6, inc_7, inc_8, inc_9, inc_10, inc_11, inc_12, inc_13, sw19_2, sw71_2, sw75_39, sw125_11, sw127_18, sw130_17, sw135_20, sw136_19, sw146_44, sw174_83, sw174_183, sw175_11, sw175_106, sw183_11, sw183_128, sw184_17, sw184_92, sw207_17, sw207_123, sw293_60, sw333_6, sw338_20, sw345_20, sw349_20, sw350_20, sw351_6, sw370_7, m_i2f, m_i2d, m_fc1, m_dc0, x_fret, x_dret, m_i2b, m_and255, m_and63, m_shr24, m_shr16, m_shr8, m_shr0, m_shr1, g_astb, m_i2c, x_cret, x_bret, m_gsn, t_0, t_1, t_2, t_3, t_4, t_5, t_6, t_7, t_8, t_9, t_10, t_11, t_12, t_13, tg_0, tg_1, tg_2, tg_3, tg_4, tg_5, tg_6, tg_7, tg_8, tg_9, tg_10, tg_11, tg_12, tg_13, tg_14, tg_15, tg_16, tg_17, tg_18, tg_19, tg_20, tg_21, tg_22, tg_23, tp_0, tp_1, tp_2, tp_3, tp_4, tp_5, tp_6, tp_7, tp_8, tp_9, tp_10, tp_11, tp_12, tp_13, tp_14, tp_15, tp_16, tp_17, tp_18, tp_19, tp_20, tp_21, tp_22, tp_23, wu_s, wu_n, wu_wu, if_pos, if_neg, Bool.false_eq_true, Int.add_zero, Nat.add_zero, Int.reduceEq, Int.zero_add, ne_eq, not_true_eq_false, not_false_eq_true, and_self, and_true, true_and, and_false, false_and, or_true, true_or, or_false, false_or,  b288_30, lb288_44, b288_44, f2, R265, bz, e]
      exact r
    rw [← l1] at t
    simp (disch := first | assumption | omega | exact i8_r | exact cat1_rf | exact cat_rf | exact mf_20 | exact cat1_i | exact cat1_r | exact cat1_n | exact cat_i | exact cat_r | exact cat_n | exact mf_0 | exact mf_4 | exact mf_4n | exact mf_10 | exact mf_11 | exact mnd_0 | exact mnd_i | exact mnd_r | exact mnd_n | exact mnd_f | exact bz_r | exact bz_01 | (simp only [List.length_cons, List.length_nil] <;> omega) | (simp only [wu, Nat.reduceEqDiff, if_true, if_false] <;> first | assumption | omega)) only [Int.reduceToNat, Nat.reduceDiv, Nat.reduceMod, Nat.reduceAdd, Nat.reduceSub, Int.reduceNeg, Int.reduceAdd, Int.reduceSub, Int.reduceMul, Int.reduceLT, Int.reduceLE, if_true, if_false, List.length_cons, List.length_nil, bz_z, fin_0, fin_1, fin_2, fin_3, x_0, x_Ts, x_Ss, x_iinc, x_iload_n, x_iload, x_lload_n, x_lload, x_fload_n, x_fload, x_dload_n, x_dload, x_aload_n, x_aload, x_istore_n, x_istore, x_astore_n, x_astore, x_fstore_n, x_fstore, x_dstore_n, x_dstore, x_lstore_n, x_lstore, m_iconst, m_bipush, m_sipush, m_ldci, m_ldcr, m_ldcw, m_null, m_gsi, m_gsr, m_add, m_sub, m_mul, m_neg, m_div, m_rem, m_max, m_min, m_abs, m_pop, m_dup, m_dupx1, m_dupx2, m_dup2, m_getf, m_putf, g_puts, m_iald, m_bald, g_alds, m_iast, m_bast, g_asti, g_astz, m_alen, g_lens, m_new, m_newi, m_oinit, h_ps, h_pn, h_ns, h_nn, h_p1, h_n1, h_n2, h_pp, x_goto, x_if, x_icmp, x_nullr, x_nulln, x_nnr, x_nnn, x_fall, z_eq, z_ne, z_lt, z_ge, z_gt, z_le, c_eq, c_ne, c_lt, c_ge, c_gt, c_le, x_ret, x_iret, x_aret, x_nret, x_zret, x_Rv, x_Rn, x_Rx, g_clss, x_Ws, x_Ks, x_cs0, x_cs1, x_cs2, x_cs3, x_cs4, x_cs5, x_cv0, x_cv1, x_cv2, x_cv3, x_cv4, x_ci0, x_ci1, x_ci2, x_ci3, x_ci4, x_cp0, x_cp1, x_cp2, x_cp3, x_cp4, ldi_0, lda_0, ldf_0, ldl_0, ldd_0, ldi_1, lda_1, ldf_1, ldl_1, ldd_1, ldi_2, lda_2, ldf_2, ldl_2, ldd_2, ldi_3, lda_3, ldf_3, ldl_3, ldd_3, ldi_4, lda_4, ldf_4, ldl_4, ldd_4, ldi_5, lda_5, ldf_5, ldl_5, ldd_5, ldi_6, lda_6, ldf_6, ldl_6, ldd_6, ldi_7, lda_7, ldf_7, ldl_7, ldd_7, ldi_8, lda_8, ldf_8, ldl_8, ldd_8, ldi_9, lda_9, ldf_9, ldl_9, ldd_9, ldi_10, lda_10, ldf_10, ldl_10, ldd_10, ldi_11, lda_11, ldf_11, ldl_11, ldd_11, ldi_12, lda_12, ldf_12, ldl_12, ldd_12, ldi_13, lda_13, ldf_13, ldl_13, ldd_13, ldn_0, ldn_1, ldn_2, ldn_3, ldn_4, ldn_5, ldn_6, ldn_7, ldn_8, ldn_9, ldn_10, ldn_11, ldn_12, ldn_13, sti_0, sta_0, stf_0, sti_1, sta_1, stf_1, sti_2, sta_2, stf_2, sti_3, sta_3, stf_3, sti_4, sta_4, stf_4, sti_5, sta_5, stf_5, sti_6, sta_6, stf_6, sti_7, sta_7, stf_7, sti_8, sta_8, stf_8, sti_9, sta_9, stf_9, sti_10, sta_10, stf_10, sti_11, sta_11, stf_11, sti_12, sta_12, stf_12, sti_13, sta_13, stf_13, stn_0, stn_1, stn_2, stn_3, stn_4, stn_5, stn_6, stn_7, stn_8, stn_9, stn_10, stn_11, stn_12, stn_13, inc_0, inc_1, inc_2, inc_3, inc_4, inc_5, inc_6, inc_7, inc_8, inc_9, inc_10, inc_11, inc_12, inc_13, sw19_2, sw71_2, sw75_39, sw125_11, sw127_18, sw130_17, sw135_20, sw136_19, sw146_44, sw174_83, sw174_183, sw175_11, sw175_106, sw183_11, sw183_128, sw184_17, sw184_92, sw207_17, sw207_123, sw293_60, sw333_6, sw338_20, sw345_20, sw349_20, sw350_20, sw351_6, sw370_7, m_i2f, m_i2d, m_fc1, m_dc0, x_fret, x_dret, m_i2b, m_and255, m_and63, m_shr24, m_shr16, m_shr8, m_shr0, m_shr1, g_astb, m_i2c, x_cret, x_bret, m_gsn, t_0, t_1, t_2, t_3, t_4, t_5, t_6, t_7, t_8, t_9, t_10, t_11, t_12, t_13, tg_0, tg_1, tg_2, tg_3, tg_4, tg_5, tg_6, tg_7, tg_8, tg_9, tg_10, tg_11, tg_12, tg_13, tg_14, tg_15, tg_16, tg_17, tg_18, tg_19, tg_20, tg_21, tg_22, tg_23, tp_0, tp_1, tp_2, tp_3, tp_4, tp_5, tp_6, tp_7, tp_8, tp_9, tp_10, tp_11, tp_12, tp_13, tp_14, tp_15, tp_16, tp_17, tp_18, tp_19, tp_20, tp_21, tp_22, tp_23, wu_s, wu_n, wu_wu, if_pos, if_neg, Bool.false_eq_true, Int.add_zero, Nat.add_zero, Int.reduceEq, Int.zero_add, ne_eq, not_true_eq_false, not_false_eq_true, and_self, and_true, true_and, and_false, false_and, or_true, true_or, or_false, false_or,  en288, b288_0, r1]
    exact t
  · rw [if_neg e, if_neg e]
    refine ⟨_, scr_rfl, ?_⟩
    have t : mV E gP (288, 30, [some (.ref b), none], [], tT b h (cmdsW 502 (pl1 w))) = some (.inl (some (.int (Int32.ofInt (-1)))), tT b h (pl2 w)) := by
      rw [lb288_30]
      simp (disch := first | assumption | omega | exact i8_r | exact cat1_rf | exact cat_rf | exact mf_20 | exact cat1_i | exact cat1_r | exact cat1_n | exact cat_i | exact cat_r | exact cat_n | exact mf_0 | exact mf_4 | exact mf_4n | exact mf_10 | exact mf_11 | exact mnd_0 | exact mnd_i | exact mnd_r | exact mnd_n | exact mnd_f | exact bz_r | exact bz_01 | (simp only [List.length_cons, List.length_nil] <;> omega) | (simp only [wu, Nat.reduceEqDiff, if_true, if_false] <;> first | assumption | omega)) only [Int.reduceToNat, Nat.reduceDiv, Nat.reduceMod, Nat.reduceAdd, Nat.reduceSub, Int.reduceNeg, Int.reduceAdd, Int.reduceSub, Int.reduceMul, Int.reduceLT, Int.reduceLE, if_true, if_false, List.length_cons, List.length_nil, bz_z, fin_0, fin_1, fin_2, fin_3, x_0, x_Ts, x_Ss, x_iinc, x_iload_n, x_iload, x_lload_n, x_lload, x_fload_n, x_fload, x_dload_n, x_dload, x_aload_n, x_aload, x_istore_n, x_istore, x_astore_n, x_astore, x_fstore_n, x_fstore, x_dstore_n, x_dstore, x_lstore_n, x_lstore, m_iconst, m_bipush, m_sipush, m_ldci, m_ldcr, m_ldcw, m_null, m_gsi, m_gsr, m_add, m_sub, m_mul, m_neg, m_div, m_rem, m_max, m_min, m_abs, m_pop, m_dup, m_dupx1, m_dupx2, m_dup2, m_getf, m_putf, g_puts, m_iald, m_bald, g_alds, m_iast, m_bast, g_asti, g_astz, m_alen, g_lens, m_new, m_newi, m_oinit, h_ps, h_pn, h_ns, h_nn, h_p1, h_n1, h_n2, h_pp, x_goto, x_if, x_icmp, x_nullr, x_nulln, x_nnr, x_nnn, x_fall, z_eq, z_ne, z_lt, z_ge, z_gt, z_le, c_eq, c_ne, c_lt, c_ge, c_gt, c_le, x_ret, x_iret, x_aret, x_nret, x_zret, x_Rv, x_Rn, x_Rx, g_clss, x_Ws, x_Ks, x_cs0, x_cs1, x_cs2, x_cs3, x_cs4, x_cs5, x_cv0, x_cv1, x_cv2, x_cv3, x_cv4, x_ci0, x_ci1, x_ci2, x_ci3, x_ci4, x_cp0, x_cp1, x_cp2, x_cp3, x_cp4, ldi_0, lda_0, ldf_0, ldl_0, ldd_0, ldi_1, lda_1, ldf_1, ldl_1, ldd_1, ldi_2, lda_2, ldf_2, ldl_2, ldd_2, ldi_3, lda_3, ldf_3, ldl_3, ldd_3, ldi_4, lda_4, ldf_4, ldl_4, ldd_4, ldi_5, lda_5, ldf_5, ldl_5, ldd_5, ldi_6, lda_6, ldf_6, ldl_6, ldd_6, ldi_7, lda_7, ldf_7, ldl_7, ldd_7, ldi_8, lda_8, ldf_8, ldl_8, ldd_8, ldi_9, lda_9, ldf_9, ldl_9, ldd_9, ldi_10, lda_10, ldf_10, ldl_10, ldd_10, ldi_11, lda_11, ldf_11, ldl_11, ldd_11, ldi_12, lda_12, ldf_12, ldl_12, ldd_12, ldi_13, lda_13, ldf_13, ldl_13, ldd_13, ldn_0, ldn_1, ldn_2, ldn_3, ldn_4, ldn_5, ldn_6, ldn_7, ldn_8, ldn_9, ldn_10, ldn_11, ldn_12, ldn_13, sti_0, sta_0, stf_0, sti_1, sta_1, stf_1, sti_2, sta_2, stf_2, sti_3, sta_3, stf_3, sti_4, sta_4, stf_4, sti_5, sta_5, stf_5, sti_6, sta_6, stf_6, sti_7, sta_7, stf_7, sti_8, sta_8, stf_8, sti_9, sta_9, stf_9, sti_10, sta_10, stf_10, sti_11, sta_11, stf_11, sti_12, sta_12, stf_12, sti_13, sta_13, stf_13, stn_0, stn_1, stn_2, stn_3, stn_4, stn_5, stn_6, stn_7, stn_8, stn_9, stn_10, stn_11, stn_12, stn_13, inc_0, inc_1, inc_2, inc_3, inc_4, inc_5, inc_6, inc_7, inc_8, inc_9, inc_10, inc_11, inc_12, inc_13, sw19_2, sw71_2, sw75_39, sw125_11, sw127_18, sw130_17, sw135_20, sw136_19, sw146_44, sw174_83, sw174_183, sw175_11, sw175_106, sw183_11, sw183_128, sw184_17, sw184_92, sw207_17, sw207_123, sw293_60, sw333_6, sw338_20, sw345_20, sw349_20, sw350_20, sw351_6, sw370_7, m_i2f, m_i2d, m_fc1, m_dc0, x_fret, x_dret, m_i2b, m_and255, m_and63, m_shr24, m_shr16, m_shr8, m_shr0, m_shr1, g_astb, m_i2c, x_cret, x_bret, m_gsn, t_0, t_1, t_2, t_3, t_4, t_5, t_6, t_7, t_8, t_9, t_10, t_11, t_12, t_13, tg_0, tg_1, tg_2, tg_3, tg_4, tg_5, tg_6, tg_7, tg_8, tg_9, tg_10, tg_11, tg_12, tg_13, tg_14, tg_15, tg_16, tg_17, tg_18, tg_19, tg_20, tg_21, tg_22, tg_23, tp_0, tp_1, tp_2, tp_3, tp_4, tp_5, tp_6, tp_7, tp_8, tp_9, tp_10, tp_11, tp_12, tp_13, tp_14, tp_15, tp_16, tp_17, tp_18, tp_19, tp_20, tp_21, tp_22, tp_23, wu_s, wu_n, wu_wu, if_pos, if_neg, Bool.false_eq_true, Int.add_zero, Nat.add_zero, Int.reduceEq, Int.zero_add, ne_eq, not_true_eq_false, not_false_eq_true, and_self, and_true, true_and, and_false, false_and, or_true, true_or, or_false, false_or,  b288_30, f2, R265, bz, e]
    rw [← l1] at t
    simp (disch := first | assumption | omega | exact i8_r | exact cat1_rf | exact cat_rf | exact mf_20 | exact cat1_i | exact cat1_r | exact cat1_n | exact cat_i | exact cat_r | exact cat_n | exact mf_0 | exact mf_4 | exact mf_4n | exact mf_10 | exact mf_11 | exact mnd_0 | exact mnd_i | exact mnd_r | exact mnd_n | exact mnd_f | exact bz_r | exact bz_01 | (simp only [List.length_cons, List.length_nil] <;> omega) | (simp only [wu, Nat.reduceEqDiff, if_true, if_false] <;> first | assumption | omega)) only [Int.reduceToNat, Nat.reduceDiv, Nat.reduceMod, Nat.reduceAdd, Nat.reduceSub, Int.reduceNeg, Int.reduceAdd, Int.reduceSub, Int.reduceMul, Int.reduceLT, Int.reduceLE, if_true, if_false, List.length_cons, List.length_nil, bz_z, fin_0, fin_1, fin_2, fin_3, x_0, x_Ts, x_Ss, x_iinc, x_iload_n, x_iload, x_lload_n, x_lload, x_fload_n, x_fload, x_dload_n, x_dload, x_aload_n, x_aload, x_istore_n, x_istore, x_astore_n, x_astore, x_fstore_n, x_fstore, x_dstore_n, x_dstore, x_lstore_n, x_lstore, m_iconst, m_bipush, m_sipush, m_ldci, m_ldcr, m_ldcw, m_null, m_gsi, m_gsr, m_add, m_sub, m_mul, m_neg, m_div, m_rem, m_max, m_min, m_abs, m_pop, m_dup, m_dupx1, m_dupx2, m_dup2, m_getf, m_putf, g_puts, m_iald, m_bald, g_alds, m_iast, m_bast, g_asti, g_astz, m_alen, g_lens, m_new, m_newi, m_oinit, h_ps, h_pn, h_ns, h_nn, h_p1, h_n1, h_n2, h_pp, x_goto, x_if, x_icmp, x_nullr, x_nulln, x_nnr, x_nnn, x_fall, z_eq, z_ne, z_lt, z_ge, z_gt, z_le, c_eq, c_ne, c_lt, c_ge, c_gt, c_le, x_ret, x_iret, x_aret, x_nret, x_zret, x_Rv, x_Rn, x_Rx, g_clss, x_Ws, x_Ks, x_cs0, x_cs1, x_cs2, x_cs3, x_cs4, x_cs5, x_cv0, x_cv1, x_cv2, x_cv3, x_cv4, x_ci0, x_ci1, x_ci2, x_ci3, x_ci4, x_cp0, x_cp1, x_cp2, x_cp3, x_cp4, ldi_0, lda_0, ldf_0, ldl_0, ldd_0, ldi_1, lda_1, ldf_1, ldl_1, ldd_1, ldi_2, lda_2, ldf_2, ldl_2, ldd_2, ldi_3, lda_3, ldf_3, ldl_3, ldd_3, ldi_4, lda_4, ldf_4, ldl_4, ldd_4, ldi_5, lda_5, ldf_5, ldl_5, ldd_5, ldi_6, lda_6, ldf_6, ldl_6, ldd_6, ldi_7, lda_7, ldf_7, ldl_7, ldd_7, ldi_8, lda_8, ldf_8, ldl_8, ldd_8, ldi_9, lda_9, ldf_9, ldl_9, ldd_9, ldi_10, lda_10, ldf_10, ldl_10, ldd_10, ldi_11, lda_11, ldf_11, ldl_11, ldd_11, ldi_12, lda_12, ldf_12, ldl_12, ldd_12, ldi_13, lda_13, ldf_13, ldl_13, ldd_13, ldn_0, ldn_1, ldn_2, ldn_3, ldn_4, ldn_5, ldn_6, ldn_7, ldn_8, ldn_9, ldn_10, ldn_11, ldn_12, ldn_13, sti_0, sta_0, stf_0, sti_1, sta_1, stf_1, sti_2, sta_2, stf_2, sti_3, sta_3, stf_3, sti_4, sta_4, stf_4, sti_5, sta_5, stf_5, sti_6, sta_6, stf_6, sti_7, sta_7, stf_7, sti_8, sta_8, stf_8, sti_9, sta_9, stf_9, sti_10, sta_10, stf_10, sti_11, sta_11, stf_11, sti_12, sta_12, stf_12, sti_13, sta_13, stf_13, stn_0, stn_1, stn_2, stn_3, stn_4, stn_5, stn_6, stn_7, stn_8, stn_9, stn_10, stn_11, stn_12, stn_13, inc_0, inc_1, inc_2, inc_3, inc_4, inc_5, inc_6, inc_7, inc_8, inc_9, inc_10, inc_11, inc_12, inc_13, sw19_2, sw71_2, sw75_39, sw125_11, sw127_18, sw130_17, sw135_20, sw136_19, sw146_44, sw174_83, sw174_183, sw175_11, sw175_106, sw183_11, sw183_128, sw184_17, sw184_92, sw207_17, sw207_123, sw293_60, sw333_6, sw338_20, sw345_20, sw349_20, sw350_20, sw351_6, sw370_7, m_i2f, m_i2d, m_fc1, m_dc0, x_fret, x_dret, m_i2b, m_and255, m_and63, m_shr24, m_shr16, m_shr8, m_shr0, m_shr1, g_astb, m_i2c, x_cret, x_bret, m_gsn, t_0, t_1, t_2, t_3, t_4, t_5, t_6, t_7, t_8, t_9, t_10, t_11, t_12, t_13, tg_0, tg_1, tg_2, tg_3, tg_4, tg_5, tg_6, tg_7, tg_8, tg_9, tg_10, tg_11, tg_12, tg_13, tg_14, tg_15, tg_16, tg_17, tg_18, tg_19, tg_20, tg_21, tg_22, tg_23, tp_0, tp_1, tp_2, tp_3, tp_4, tp_5, tp_6, tp_7, tp_8, tp_9, tp_10, tp_11, tp_12, tp_13, tp_14, tp_15, tp_16, tp_17, tp_18, tp_19, tp_20, tp_21, tp_22, tp_23, wu_s, wu_n, wu_wu, if_pos, if_neg, Bool.false_eq_true, Int.add_zero, Nat.add_zero, Int.reduceEq, Int.zero_add, ne_eq, not_true_eq_false, not_false_eq_true, and_self, and_true, true_and, and_false, false_and, or_true, true_or, or_false, false_or,  en288, b288_0, r1]
    exact t
end PY
