/-! MC component 20: the posts, laid -/
set_option maxRecDepth 100000
/-- all cells but a map's own kinds are as they were -/
def Km (h h' : mH) : Prop := ∀ (p : Nat) (X : mC), p < h.2.1 → h.1 p = some X → tagC X ≠ 15 → tagC X ≠ 16 → tagC X ≠ 1102 → h'.1 p = some X
theorem Km.rfl {h : mH} : Km h h := fun _ _ _ z _ _ _ => z
theorem Km.trans {h h' h'' : mH} (hl : h.2.1 ≤ h'.2.1) (u : Km h h') (v : Km h' h'') : Km h h'' := fun p X pl a b c d => v p X (by omega) (u p X pl a b c d) b c d
theorem hfe_none {c : Int} {e : hEnt} {l : List hEnt} (h : hfe c (e :: l) = none) : e.2.2.2.1 ≠ c ∧ hfe c l = none := by
  unfold hfe at h
  by_cases z : e.2.2.2.1 = c
  · rw [if_pos z] at h; cases h
  · rw [if_neg z] at h; exact ⟨z, h⟩
theorem hfe_app {c x : Int} {e : hEnt} (he : e.2.2.2.1 = c) : ∀ l : List hEnt, hfe c l = none → hfe x (l ++ [e]) = if x = c then some e else hfe x l := by
  intro l
  induction l with
  | nil =>
    intro _
    show (if e.2.2.2.1 = x then some e else none) = _
    by_cases z : x = c
    · rw [if_pos z, if_pos (by omega)]
    · rw [if_neg z, if_neg (by omega)]; rfl
  | cons y l ih =>
    intro h
    have h2 := hfe_none h
    have i := ih h2.2
    show (if y.2.2.2.1 = x then some y else hfe x (l ++ [e])) = _
    rw [i]
    by_cases z : x = c
    · rw [if_pos z, if_neg (by rw [z]; exact h2.1)]
      rw [if_pos z]
    · rw [if_neg z, if_neg z]; rfl
def bkA (bk : Nat → List hEnt) (c : Int) (e : hEnt) : Nat → List hEnt := fun i => if (i : Int) = c % 16 then bk i ++ [e] else bk i
theorem bkA_fe {bk : Nat → List hEnt} {c x : Int} {e : hEnt} (he : e.2.2.2.1 = c) (hn : hfe c (bkc bk c) = none) : hfe x (bkc (bkA bk c e) x) = if x = c then some e else hfe x (bkc bk x) := by
  unfold bkc bkA
  by_cases z : x % 16 = c % 16
  · rw [if_pos (by omega), z]
    have := hfe_app (x := x) he _ hn
    unfold bkc at this
    exact this
  · rw [if_neg (by omega), if_neg (fun y => z (by rw [y]))]
/-- a chain, one more at its end -/
theorem hch_snoc {A : Nat → Prop} {h h' : mH} {c nu : Int} {k v N : Nat} (hA : ∀ q, A q → q < h.2.1) (hN : h.2.1 ≤ N) (hc : 0 ≤ c ∧ c < 81) (hnu : 0 ≤ nu ∧ nu < 10) (o1 : h'.1 N = some (.inr (16, [.int (Int32.ofInt c), .ref k, .ref v, .null]))) (o2 : h'.1 k = some (.inr (5, [.int (Int32.ofInt c)]))) (o3 : ∃ v1 v2 v3 v4, h'.1 v = some (.inr (4, [.int (Int32.ofInt nu), v1, v2, v3, v4]))) : ∀ (l : List hEnt) (e : hEnt), hch A h (e :: l) (some e.1) → ∃ (z : hEnt), z ∈ (e :: l) ∧ h.1 z.1 = some (.inr (16, [.int (Int32.ofInt z.2.2.2.1), .ref z.2.1, .ref z.2.2.1, .null])) ∧ (h'.1 z.1 = some (.inr (16, [.int (Int32.ofInt z.2.2.2.1), .ref z.2.1, .ref z.2.2.1, .ref N])) → (∀ q, A q → q ≠ z.1 → h'.1 q = h.1 q) → hch (fun q => A q ∨ q = N ∨ q = k ∨ q = v) h' ((e :: l) ++ [(N, k, v, c, nu)]) (some e.1)) := by
  have nn : ∀ q, A q → q ≠ N := fun q hq z => by
    have := hA q hq
    omega
  intro l
  induction l with
  | nil =>
    intro e hl
    obtain ⟨a1, a2, a3, a4, a5, a6, ⟨v1, v2, v3, v4, a7⟩, o', a8, a9⟩ := hl
    have oz : o' = none := a9
    rw [oz, rf_n] at a8
    refine ⟨e, List.mem_cons_self .., a8, fun y1 y2 => ?_⟩
    have s1 : e.2.1 ≠ e.1 := fun z => by rw [z, a8] at a6; cases a6
    have s2 : e.2.2.1 ≠ e.1 := fun z => by rw [z, a8] at a7; cases a7
    refine ⟨rfl, ⟨Or.inl a2.1, Or.inl a2.2.1, Or.inl a2.2.2⟩, a3, a4, ?_, (y2 _ a2.2.1 s1).trans a6, ⟨v1, v2, v3, v4, (y2 _ a2.2.2 s2).trans a7⟩, some N, y1, rfl, ⟨Or.inr (Or.inl rfl), Or.inr (Or.inr (Or.inl rfl)), Or.inr (Or.inr (Or.inr rfl))⟩, hc, hnu, ?_, o2, o3, none, o1, rfl⟩
    · intro x hx
      have hx2 : x ∈ ([] : List hEnt) ++ [(N, k, v, c, nu)] := hx
      rw [List.nil_append, List.mem_singleton] at hx2
      rw [hx2]
      exact (nn _ a2.1).symm
    · intro x hx
      cases hx
  | cons e2 l ih =>
    intro e hl
    obtain ⟨a1, a2, a3, a4, a5, a6, ⟨v1, v2, v3, v4, a7⟩, o', a8, a9⟩ := hl
    have oz : o' = some e2.1 := a9.1
    rw [oz] at a8 a9
    obtain ⟨z, z1, z2, z3⟩ := ih e2 a9
    refine ⟨z, List.mem_cons_of_mem _ z1, z2, fun y1 y2 => ?_⟩
    have s0 : e.1 ≠ z.1 := fun q => (a5 z z1) q.symm
    have s1 : e.2.1 ≠ z.1 := fun q => by rw [q, z2] at a6; cases a6
    have s2 : e.2.2.1 ≠ z.1 := fun q => by rw [q, z2] at a7; cases a7
    refine ⟨rfl, ⟨Or.inl a2.1, Or.inl a2.2.1, Or.inl a2.2.2⟩, a3, a4, ?_, (y2 _ a2.2.1 s1).trans a6, ⟨v1, v2, v3, v4, (y2 _ a2.2.2 s2).trans a7⟩, some e2.1, (y2 _ a2.1 s0).trans a8, z3 y1 y2⟩
    intro x hx
    have hx2 : x ∈ (e2 :: l) ++ [(N, k, v, c, nu)] := hx
    rw [List.mem_append, List.mem_singleton] at hx2
    rcases hx2 with hx | hx
    · exact a5 x hx
    · rw [hx]
      exact (nn _ a2.1).symm
theorem hch_not {A : Nat → Prop} {h : mH} {m t : Nat} {fs : List Value} {g : Nat → Option Nat} (hm : h.1 m = some (.inr (15, fs))) (ht : h.1 t = some (mAK 102 16 g)) : ∀ (l : List hEnt) (o : Option Nat), hch A h l o → hch (fun q => A q ∧ q ≠ m ∧ q ≠ t) h l o := by
  intro l
  induction l with
  | nil => intro o hc; exact hc
  | cons e l ih =>
    intro o hc
    obtain ⟨a1, a2, a3, a4, a5, a6, ⟨v1, v2, v3, v4, a7⟩, o', a8, a9⟩ := hc
    refine ⟨a1, ⟨⟨a2.1, fun z => ?_, fun z => ?_⟩, ⟨a2.2.1, fun z => ?_, fun z => ?_⟩, ⟨a2.2.2, fun z => ?_, fun z => ?_⟩⟩, a3, a4, a5, a6, ⟨v1, v2, v3, v4, a7⟩, o', a8, ih o' a9⟩
    · rw [z, hm] at a8; cases a8
    · rw [z, ht] at a8; cases a8
    · rw [z, hm] at a6; cases a6
    · rw [z, ht] at a6; cases a6
    · rw [z, hm] at a7; cases a7
    · rw [z, ht] at a7; cases a7
theorem hch_not2 {A : Nat → Prop} {h : mH} {m d : Nat} {fs gs : List Value} (hm : h.1 m = some (.inr (15, fs))) (hd : h.1 d = some (.inr (16, gs))) : ∀ (l : List hEnt) (o : Option Nat), (∀ x, x ∈ l → x.1 ≠ d) → hch A h l o → hch (fun q => A q ∧ q ≠ m ∧ q ≠ d) h l o := by
  intro l
  induction l with
  | nil => intro o _ hc; exact hc
  | cons e l ih =>
    intro o hn hc
    obtain ⟨a1, a2, a3, a4, a5, a6, ⟨v1, v2, v3, v4, a7⟩, o', a8, a9⟩ := hc
    refine ⟨a1, ⟨⟨a2.1, fun z => ?_, hn e (List.mem_cons_self ..)⟩, ⟨a2.2.1, fun z => ?_, fun z => ?_⟩, ⟨a2.2.2, fun z => ?_, fun z => ?_⟩⟩, a3, a4, a5, a6, ⟨v1, v2, v3, v4, a7⟩, o', a8, ih o' (fun x hx => hn x (List.mem_cons_of_mem _ hx)) a9⟩
    · rw [z, hm] at a8; cases a8
    · rw [z, hm] at a6; cases a6
    · rw [z, hd] at a6; cases a6
    · rw [z, hm] at a7; cases a7
    · rw [z, hd] at a7; cases a7
/-- a chain has one last node -/
theorem hch_last {A : Nat → Prop} {h : mH} : ∀ (l : List hEnt) (e : hEnt), hch A h (e :: l) (some e.1) → ∀ {y z : hEnt}, y ∈ (e :: l) → h.1 y.1 = some (.inr (16, [.int (Int32.ofInt y.2.2.2.1), .ref y.2.1, .ref y.2.2.1, .null])) → z ∈ (e :: l) → h.1 z.1 = some (.inr (16, [.int (Int32.ofInt z.2.2.2.1), .ref z.2.1, .ref z.2.2.1, .null])) → y = z := by
  intro l
  induction l with
  | nil =>
    intro e _ y z hy _ hz _
    rw [List.mem_singleton] at hy hz
    rw [hy, hz]
  | cons e2 l ih =>
    intro e hc y z hy y2 hz z2
    obtain ⟨a1, a2, a3, a4, a5, a6, a7, o', a8, a9⟩ := hc
    have oz : o' = some e2.1 := a9.1
    rw [oz] at a9
    rw [oz, rf_s] at a8
    have ny : y ∈ (e2 :: l) := by
      rcases List.mem_cons.mp hy with q | q
      · rw [q, a8] at y2; cases y2
      · exact q
    have nz : z ∈ (e2 :: l) := by
      rcases List.mem_cons.mp hz with q | q
      · rw [q, a8] at z2; cases z2
      · exact q
    exact ih e2 a9 ny y2 nz z2
section PU
variable {E : mE} {A : Nat → Prop} {h : mH} {m k v : Nat} {n : Int} {bk : Nat → List hEnt} {c nu : Int}
theorem mf_6 {x : UInt32} : mfit 6 (.float x) = true := rfl
theorem R41 (hE : E.1 ≤ h.2.1) {b : Nat} : mRun E gP 41 [.ref b, .int (Int32.ofInt c), .ref k, .ref v, .null] h = some (.inl (some (.ref h.2.1)), mnew h (.inr (16, [.int (Int32.ofInt c), .ref k, .ref v, .null])) 4) := by
  have d16 : mDf 16 = [.int (Int32.ofInt 0), .null, .null, .null] := rfl
  simp -implicitDefEqProofs (disch := first | assumption | omega | exact sub_5 | exact sub_16 | exact sub_1 | exact sub_3 | exact sub_4 | exact sub_6 | exact sub_7 | exact i8_r | exact cat1_rf | exact cat_rf | exact mf_20 | exact cat1_i | exact cat1_r | exact cat1_n | exact cat_i | exact cat_r | exact cat_n | exact mf_0 | exact mf_4 | exact mf_4n | exact mf_10 | exact mf_11 | exact mnd_0 | exact mnd_i | exact mnd_r | exact mnd_n | exact mnd_f | exact bz_r | exact bz_01 | (simp only [List.length_cons, List.length_nil] <;> omega) | (simp only [wu, Nat.reduceEqDiff, if_true, if_false] <;> first | assumption | omega) | (simp only [h_n1, h_p1] <;> omega)) only [Int.reduceToNat, Nat.reduceDiv, Nat.reduceMod, Nat.reduceAdd, Nat.reduceSub, Int.reduceNeg, Int.reduceAdd, Int.reduceSub, Int.reduceMul, Int.reduceLT, Int.reduceLE, if_true, if_false, List.length_cons, List.length_nil, bz_z, fin_0, fin_1, fin_2, fin_3, x_0, x_Ts, x_Ss, x_iinc, x_iload_n, x_iload, x_lload_n, x_lload, x_fload_n, x_fload, x_dload_n, x_dload, x_aload_n, x_aload, x_istore_n, x_istore, x_astore_n, x_astore, x_fstore_n, x_fstore, x_dstore_n, x_dstore, x_lstore_n, x_lstore, m_iconst, m_bipush, m_sipush, m_ldci, m_ldcr, m_ldcw, m_null, m_gsi, m_gsr, m_add, m_sub, m_mul, m_neg, m_div, m_rem, m_max, m_min, m_abs, m_pop, m_dup, m_dupx1, m_dupx2, m_dup2, m_getf, m_putf, g_puts, m_iald, m_bald, g_alds, m_iast, m_bast, g_asti, g_astz, m_alen, g_lens, m_new, m_newi, m_oinit, h_ps, h_pn, h_ns, h_nn, h_p1, h_n1, h_n2, h_pp, x_goto, x_if, x_icmp, x_nullr, x_nulln, x_nnr, x_nnn, x_fall, z_eq, z_ne, z_lt, z_ge, z_gt, z_le, c_eq, c_ne, c_lt, c_ge, c_gt, c_le, x_ret, x_iret, x_aret, x_nret, x_zret, x_Rv, x_Rn, x_Rx, g_clss, x_Ws, x_Ks, x_cs0, x_cs1, x_cs2, x_cs3, x_cs4, x_cs5, x_cv0, x_cv1, x_cv2, x_cv3, x_cv4, x_ci0, x_ci1, x_ci2, x_ci3, x_ci4, x_cp0, x_cp1, x_cp2, x_cp3, x_cp4, ldi_0, lda_0, ldf_0, ldl_0, ldd_0, ldi_1, lda_1, ldf_1, ldl_1, ldd_1, ldi_2, lda_2, ldf_2, ldl_2, ldd_2, ldi_3, lda_3, ldf_3, ldl_3, ldd_3, ldi_4, lda_4, ldf_4, ldl_4, ldd_4, ldi_5, lda_5, ldf_5, ldl_5, ldd_5, ldi_6, lda_6, ldf_6, ldl_6, ldd_6, ldi_7, lda_7, ldf_7, ldl_7, ldd_7, ldi_8, lda_8, ldf_8, ldl_8, ldd_8, ldi_9, lda_9, ldf_9, ldl_9, ldd_9, ldi_10, lda_10, ldf_10, ldl_10, ldd_10, ldi_11, lda_11, ldf_11, ldl_11, ldd_11, ldi_12, lda_12, ldf_12, ldl_12, ldd_12, ldi_13, lda_13, ldf_13, ldl_13, ldd_13, ldn_0, ldn_1, ldn_2, ldn_3, ldn_4, ldn_5, ldn_6, ldn_7, ldn_8, ldn_9, ldn_10, ldn_11, ldn_12, ldn_13, sti_0, sta_0, stf_0, sti_1, sta_1, stf_1, sti_2, sta_2, stf_2, sti_3, sta_3, stf_3, sti_4, sta_4, stf_4, sti_5, sta_5, stf_5, sti_6, sta_6, stf_6, sti_7, sta_7, stf_7, sti_8, sta_8, stf_8, sti_9, sta_9, stf_9, sti_10, sta_10, stf_10, sti_11, sta_11, stf_11, sti_12, sta_12, stf_12, sti_13, sta_13, stf_13, stn_0, stn_1, stn_2, stn_3, stn_4, stn_5, stn_6, stn_7, stn_8, stn_9, stn_10, stn_11, stn_12, stn_13, inc_0, inc_1, inc_2, inc_3, inc_4, inc_5, inc_6, inc_7, inc_8, inc_9, inc_10, inc_11, inc_12, inc_13, sw19_2, sw71_2, sw75_39, sw125_11, sw127_18, sw130_17, sw135_20, sw136_19, sw146_44, sw174_83, sw174_183, sw175_11, sw175_106, sw183_11, sw183_128, sw184_17, sw184_92, sw207_17, sw207_123, sw293_60, sw333_6, sw338_20, sw345_20, sw349_20, sw350_20, sw351_6, sw370_7, m_i2f, m_i2d, m_fc1, m_dc0, x_fret, x_dret, m_i2b, m_and255, m_and63, m_shr24, m_shr16, m_shr8, m_shr0, m_shr1, g_astb, m_i2c, x_cret, x_bret, m_gsn, if_pos, if_neg, Bool.false_eq_true, Int.add_zero, Nat.add_zero, Int.reduceEq, Int.zero_add, ne_eq, not_true_eq_false, not_false_eq_true, and_self, and_true, true_and, and_false, false_and, or_true, true_or, or_false, false_or, gs_0, gs_1, gs_2, gs_3, gs_4, gs_5, gs_6, gs_7, gs_8, m_aald, g_aalds, rf_s, rf_n, m_cast, g_casts,  en41, b41_0, en44, b44_0, d16, put_new, List.set_cons_zero, List.set_cons_succ, List.length_cons, List.length_nil]
theorem R42 {b : Nat} : mRun E gP 42 [.ref b, .int (Int32.ofInt 1)] h = some (.inl none, h) := by
  simp -implicitDefEqProofs (disch := first | assumption | omega | exact sub_5 | exact sub_16 | exact sub_1 | exact sub_3 | exact sub_4 | exact sub_6 | exact sub_7 | exact i8_r | exact cat1_rf | exact cat_rf | exact mf_20 | exact cat1_i | exact cat1_r | exact cat1_n | exact cat_i | exact cat_r | exact cat_n | exact mf_0 | exact mf_4 | exact mf_4n | exact mf_10 | exact mf_11 | exact mnd_0 | exact mnd_i | exact mnd_r | exact mnd_n | exact mnd_f | exact bz_r | exact bz_01 | (simp only [List.length_cons, List.length_nil] <;> omega) | (simp only [wu, Nat.reduceEqDiff, if_true, if_false] <;> first | assumption | omega) | (simp only [h_n1, h_p1] <;> omega)) only [Int.reduceToNat, Nat.reduceDiv, Nat.reduceMod, Nat.reduceAdd, Nat.reduceSub, Int.reduceNeg, Int.reduceAdd, Int.reduceSub, Int.reduceMul, Int.reduceLT, Int.reduceLE, if_true, if_false, List.length_cons, List.length_nil, bz_z, fin_0, fin_1, fin_2, fin_3, x_0, x_Ts, x_Ss, x_iinc, x_iload_n, x_iload, x_lload_n, x_lload, x_fload_n, x_fload, x_dload_n, x_dload, x_aload_n, x_aload, x_istore_n, x_istore, x_astore_n, x_astore, x_fstore_n, x_fstore, x_dstore_n, x_dstore, x_lstore_n, x_lstore, m_iconst, m_bipush, m_sipush, m_ldci, m_ldcr, m_ldcw, m_null, m_gsi, m_gsr, m_add, m_sub, m_mul, m_neg, m_div, m_rem, m_max, m_min, m_abs, m_pop, m_dup, m_dupx1, m_dupx2, m_dup2, m_getf, m_putf, g_puts, m_iald, m_bald, g_alds, m_iast, m_bast, g_asti, g_astz, m_alen, g_lens, m_new, m_newi, m_oinit, h_ps, h_pn, h_ns, h_nn, h_p1, h_n1, h_n2, h_pp, x_goto, x_if, x_icmp, x_nullr, x_nulln, x_nnr, x_nnn, x_fall, z_eq, z_ne, z_lt, z_ge, z_gt, z_le, c_eq, c_ne, c_lt, c_ge, c_gt, c_le, x_ret, x_iret, x_aret, x_nret, x_zret, x_Rv, x_Rn, x_Rx, g_clss, x_Ws, x_Ks, x_cs0, x_cs1, x_cs2, x_cs3, x_cs4, x_cs5, x_cv0, x_cv1, x_cv2, x_cv3, x_cv4, x_ci0, x_ci1, x_ci2, x_ci3, x_ci4, x_cp0, x_cp1, x_cp2, x_cp3, x_cp4, ldi_0, lda_0, ldf_0, ldl_0, ldd_0, ldi_1, lda_1, ldf_1, ldl_1, ldd_1, ldi_2, lda_2, ldf_2, ldl_2, ldd_2, ldi_3, lda_3, ldf_3, ldl_3, ldd_3, ldi_4, lda_4, ldf_4, ldl_4, ldd_4, ldi_5, lda_5, ldf_5, ldl_5, ldd_5, ldi_6, lda_6, ldf_6, ldl_6, ldd_6, ldi_7, lda_7, ldf_7, ldl_7, ldd_7, ldi_8, lda_8, ldf_8, ldl_8, ldd_8, ldi_9, lda_9, ldf_9, ldl_9, ldd_9, ldi_10, lda_10, ldf_10, ldl_10, ldd_10, ldi_11, lda_11, ldf_11, ldl_11, ldd_11, ldi_12, lda_12, ldf_12, ldl_12, ldd_12, ldi_13, lda_13, ldf_13, ldl_13, ldd_13, ldn_0, ldn_1, ldn_2, ldn_3, ldn_4, ldn_5, ldn_6, ldn_7, ldn_8, ldn_9, ldn_10, ldn_11, ldn_12, ldn_13, sti_0, sta_0, stf_0, sti_1, sta_1, stf_1, sti_2, sta_2, stf_2, sti_3, sta_3, stf_3, sti_4, sta_4, stf_4, sti_5, sta_5, stf_5, sti_6, sta_6, stf_6, sti_7, sta_7, stf_7, sti_8, sta_8, stf_8, sti_9, sta_9, stf_9, sti_10, sta_10, stf_10, sti_11, sta_11, stf_11, sti_12, sta_12, stf_12, sti_13, sta_13, stf_13, stn_0, stn_1, stn_2, stn_3, stn_4, stn_5, stn_6, stn_7, stn_8, stn_9, stn_10, stn_11, stn_12, stn_13, inc_0, inc_1, inc_2, inc_3, inc_4, inc_5, inc_6, inc_7, inc_8, inc_9, inc_10, inc_11, inc_12, inc_13, sw19_2, sw71_2, sw75_39, sw125_11, sw127_18, sw130_17, sw135_20, sw136_19, sw146_44, sw174_83, sw174_183, sw175_11, sw175_106, sw183_11, sw183_128, sw184_17, sw184_92, sw207_17, sw207_123, sw293_60, sw333_6, sw338_20, sw345_20, sw349_20, sw350_20, sw351_6, sw370_7, m_i2f, m_i2d, m_fc1, m_dc0, x_fret, x_dret, m_i2b, m_and255, m_and63, m_shr24, m_shr16, m_shr8, m_shr0, m_shr1, g_astb, m_i2c, x_cret, x_bret, m_gsn, if_pos, if_neg, Bool.false_eq_true, Int.add_zero, Nat.add_zero, Int.reduceEq, Int.zero_add, ne_eq, not_true_eq_false, not_false_eq_true, and_self, and_true, true_and, and_false, false_and, or_true, true_or, or_false, false_or, gs_0, gs_1, gs_2, gs_3, gs_4, gs_5, gs_6, gs_7, gs_8, m_aald, g_aalds, rf_s, rf_n, m_cast, g_casts,  en42, b42_0]
theorem L39_259 {t : Nat} {md : Int} {lf : UInt32} {y1 y2 y3 y4 y6 y7 y8 y9 y10 y11 y12 : Option Value} (hE : E.1 ≤ m) (hn : 0 ≤ n ∧ n ≤ 5) (hm : h.1 m = some (.inr (15, [.null, .null, .ref t, .null, .int (Int32.ofInt n), .int (Int32.ofInt md), .int (Int32.ofInt 12), .float lf]))) : mV E gP (39, 259, [some (.ref m), y1, y2, y3, y4, some (.int (Int32.ofInt 1)), y6, y7, y8, y9, y10, y11, y12], [], h) = some (.inl (some .null), mput h m (.inr (15, [.null, .null, .ref t, .null, .int (Int32.ofInt (n + 1)), .int (Int32.ofInt (md + 1)), .int (Int32.ofInt 12), .float lf]))) := by
  rw [lb39_259]
  simp -implicitDefEqProofs (disch := first | assumption | omega | exact sub_5 | exact sub_16 | exact sub_1 | exact sub_3 | exact sub_4 | exact sub_6 | exact sub_7 | exact i8_r | exact cat1_rf | exact cat_rf | exact mf_20 | exact cat1_i | exact cat1_r | exact cat1_n | exact cat_i | exact cat_r | exact cat_n | exact mf_0 | exact mf_4 | exact mf_4n | exact mf_10 | exact mf_11 | exact mnd_0 | exact mnd_i | exact mnd_r | exact mnd_n | exact mnd_f | exact bz_r | exact bz_01 | (simp only [List.length_cons, List.length_nil] <;> omega) | (simp only [wu, Nat.reduceEqDiff, if_true, if_false] <;> first | assumption | omega) | (simp only [h_n1, h_p1] <;> omega)) only [Int.reduceToNat, Nat.reduceDiv, Nat.reduceMod, Nat.reduceAdd, Nat.reduceSub, Int.reduceNeg, Int.reduceAdd, Int.reduceSub, Int.reduceMul, Int.reduceLT, Int.reduceLE, if_true, if_false, List.length_cons, List.length_nil, bz_z, fin_0, fin_1, fin_2, fin_3, x_0, x_Ts, x_Ss, x_iinc, x_iload_n, x_iload, x_lload_n, x_lload, x_fload_n, x_fload, x_dload_n, x_dload, x_aload_n, x_aload, x_istore_n, x_istore, x_astore_n, x_astore, x_fstore_n, x_fstore, x_dstore_n, x_dstore, x_lstore_n, x_lstore, m_iconst, m_bipush, m_sipush, m_ldci, m_ldcr, m_ldcw, m_null, m_gsi, m_gsr, m_add, m_sub, m_mul, m_neg, m_div, m_rem, m_max, m_min, m_abs, m_pop, m_dup, m_dupx1, m_dupx2, m_dup2, m_getf, m_putf, g_puts, m_iald, m_bald, g_alds, m_iast, m_bast, g_asti, g_astz, m_alen, g_lens, m_new, m_newi, m_oinit, h_ps, h_pn, h_ns, h_nn, h_p1, h_n1, h_n2, h_pp, x_goto, x_if, x_icmp, x_nullr, x_nulln, x_nnr, x_nnn, x_fall, z_eq, z_ne, z_lt, z_ge, z_gt, z_le, c_eq, c_ne, c_lt, c_ge, c_gt, c_le, x_ret, x_iret, x_aret, x_nret, x_zret, x_Rv, x_Rn, x_Rx, g_clss, x_Ws, x_Ks, x_cs0, x_cs1, x_cs2, x_cs3, x_cs4, x_cs5, x_cv0, x_cv1, x_cv2, x_cv3, x_cv4, x_ci0, x_ci1, x_ci2, x_ci3, x_ci4, x_cp0, x_cp1, x_cp2, x_cp3, x_cp4, ldi_0, lda_0, ldf_0, ldl_0, ldd_0, ldi_1, lda_1, ldf_1, ldl_1, ldd_1, ldi_2, lda_2, ldf_2, ldl_2, ldd_2, ldi_3, lda_3, ldf_3, ldl_3, ldd_3, ldi_4, lda_4, ldf_4, ldl_4, ldd_4, ldi_5, lda_5, ldf_5, ldl_5, ldd_5, ldi_6, lda_6, ldf_6, ldl_6, ldd_6, ldi_7, lda_7, ldf_7, ldl_7, ldd_7, ldi_8, lda_8, ldf_8, ldl_8, ldd_8, ldi_9, lda_9, ldf_9, ldl_9, ldd_9, ldi_10, lda_10, ldf_10, ldl_10, ldd_10, ldi_11, lda_11, ldf_11, ldl_11, ldd_11, ldi_12, lda_12, ldf_12, ldl_12, ldd_12, ldi_13, lda_13, ldf_13, ldl_13, ldd_13, ldn_0, ldn_1, ldn_2, ldn_3, ldn_4, ldn_5, ldn_6, ldn_7, ldn_8, ldn_9, ldn_10, ldn_11, ldn_12, ldn_13, sti_0, sta_0, stf_0, sti_1, sta_1, stf_1, sti_2, sta_2, stf_2, sti_3, sta_3, stf_3, sti_4, sta_4, stf_4, sti_5, sta_5, stf_5, sti_6, sta_6, stf_6, sti_7, sta_7, stf_7, sti_8, sta_8, stf_8, sti_9, sta_9, stf_9, sti_10, sta_10, stf_10, sti_11, sta_11, stf_11, sti_12, sta_12, stf_12, sti_13, sta_13, stf_13, stn_0, stn_1, stn_2, stn_3, stn_4, stn_5, stn_6, stn_7, stn_8, stn_9, stn_10, stn_11, stn_12, stn_13, inc_0, inc_1, inc_2, inc_3, inc_4, inc_5, inc_6, inc_7, inc_8, inc_9, inc_10, inc_11, inc_12, inc_13, sw19_2, sw71_2, sw75_39, sw125_11, sw127_18, sw130_17, sw135_20, sw136_19, sw146_44, sw174_83, sw174_183, sw175_11, sw175_106, sw183_11, sw183_128, sw184_17, sw184_92, sw207_17, sw207_123, sw293_60, sw333_6, sw338_20, sw345_20, sw349_20, sw350_20, sw351_6, sw370_7, m_i2f, m_i2d, m_fc1, m_dc0, x_fret, x_dret, m_i2b, m_and255, m_and63, m_shr24, m_shr16, m_shr8, m_shr0, m_shr1, g_astb, m_i2c, x_cret, x_bret, m_gsn, if_pos, if_neg, Bool.false_eq_true, Int.add_zero, Nat.add_zero, Int.reduceEq, Int.zero_add, ne_eq, not_true_eq_false, not_false_eq_true, and_self, and_true, true_and, and_false, false_and, or_true, true_or, or_false, false_or, gs_0, gs_1, gs_2, gs_3, gs_4, gs_5, gs_6, gs_7, gs_8, m_aald, g_aalds, rf_s, rf_n, m_cast, g_casts,  b39_259, lb39_292, b39_292, hm, R42, List.set_cons_zero, List.set_cons_succ]
/-- the walk to the chain's end -/
theorem L39_134 (hmc : g_cls (h.1 m) = some 15) (hE : E.1 ≤ h.2.1) (hA : ∀ q, A q → E.1 ≤ q ∧ q < h.2.1) (hc : 0 ≤ c ∧ c < 81) {y4 y5 y6 y8 y9 : Option Value} (hy9 : mnd y9 = true) (hy6 : mnd y6 = true) {r : mR} : ∀ (l : List hEnt) (e : hEnt) (y10 y11 : Option Value) (bc : Nat), mnd y11 = true → hch A h (e :: l) (some e.1) → hfe c (e :: l) = none → bc + l.length ≤ 6 → ∀ z, z ∈ (e :: l) → h.1 z.1 = some (.inr (16, [.int (Int32.ofInt z.2.2.2.1), .ref z.2.1, .ref z.2.2.1, .null])) → (∀ y7 y11 y12, mV E gP (39, 259, [some (.ref m), some (.int (Int32.ofInt c)), some (.ref k), some (.ref v), y4, y5, y6, y7, y8, y9, some .null, y11, y12], [], mput (mnew h (.inr (16, [.int (Int32.ofInt c), .ref k, .ref v, .null])) 4) z.1 (.inr (16, [.int (Int32.ofInt z.2.2.2.1), .ref z.2.1, .ref z.2.2.1, .ref h.2.1]))) = some r) → mV E gP (39, 134, [some (.ref m), some (.int (Int32.ofInt c)), some (.ref k), some (.ref v), y4, y5, y6, some (.ref e.1), y8, y9, y10, y11, some (.int (Int32.ofInt bc))], [], h) = some r := by
  intro l
  induction l with
  | nil =>
    intro e y10 y11 bc hy11 hl hf hb z hz z2 hr
    rw [List.mem_singleton] at hz
    rw [hz] at z2 hr
    obtain ⟨a1, a2, a3, a4, a5, a6, a7, o', a8, a9⟩ := hl
    have h1 := hA _ a2.1
    have ne : e.1 ≠ h.2.1 := by omega
    have r41 := R41 (E := E) (h := h) (c := c) (k := k) (v := v) hE (b := m)
    have hb2 : (bc : Int) < 7 := by
      simp only [List.length_nil] at hb
      omega
    have hr2 := hr (some (.ref e.1)) y11 (some (.int (Int32.ofInt bc)))
    have mcl : ∀ (hh : mH), mV E gP (39, 222, [some (.ref m), some (.int (Int32.ofInt c)), some (.ref k), some (.ref v), y4, y5, y6, some (.ref e.1), y8, y9, some .null, y11, some (.int (Int32.ofInt bc))], [], hh) = mV E gP (39, 259, [some (.ref m), some (.int (Int32.ofInt c)), some (.ref k), some (.ref v), y4, y5, y6, some (.ref e.1), y8, y9, some .null, y11, some (.int (Int32.ofInt bc))], [], hh) := by
      intro hh
      rw [lb39_222]
      simp -implicitDefEqProofs (disch := first | assumption | omega | exact sub_5 | exact sub_16 | exact sub_1 | exact sub_3 | exact sub_4 | exact sub_6 | exact sub_7 | exact i8_r | exact cat1_rf | exact cat_rf | exact mf_20 | exact cat1_i | exact cat1_r | exact cat1_n | exact cat_i | exact cat_r | exact cat_n | exact mf_0 | exact mf_4 | exact mf_4n | exact mf_10 | exact mf_11 | exact mnd_0 | exact mnd_i | exact mnd_r | exact mnd_n | exact mnd_f | exact bz_r | exact bz_01 | (simp only [List.length_cons, List.length_nil] <;> omega) | (simp only [wu, Nat.reduceEqDiff, if_true, if_false] <;> first | assumption | omega) | (simp only [h_n1, h_p1] <;> omega)) only [Int.reduceToNat, Nat.reduceDiv, Nat.reduceMod, Nat.reduceAdd, Nat.reduceSub, Int.reduceNeg, Int.reduceAdd, Int.reduceSub, Int.reduceMul, Int.reduceLT, Int.reduceLE, if_true, if_false, List.length_cons, List.length_nil, bz_z, fin_0, fin_1, fin_2, fin_3, x_0, x_Ts, x_Ss, x_iinc, x_iload_n, x_iload, x_lload_n, x_lload, x_fload_n, x_fload, x_dload_n, x_dload, x_aload_n, x_aload, x_istore_n, x_istore, x_astore_n, x_astore, x_fstore_n, x_fstore, x_dstore_n, x_dstore, x_lstore_n, x_lstore, m_iconst, m_bipush, m_sipush, m_ldci, m_ldcr, m_ldcw, m_null, m_gsi, m_gsr, m_add, m_sub, m_mul, m_neg, m_div, m_rem, m_max, m_min, m_abs, m_pop, m_dup, m_dupx1, m_dupx2, m_dup2, m_getf, m_putf, g_puts, m_iald, m_bald, g_alds, m_iast, m_bast, g_asti, g_astz, m_alen, g_lens, m_new, m_newi, m_oinit, h_ps, h_pn, h_ns, h_nn, h_p1, h_n1, h_n2, h_pp, x_goto, x_if, x_icmp, x_nullr, x_nulln, x_nnr, x_nnn, x_fall, z_eq, z_ne, z_lt, z_ge, z_gt, z_le, c_eq, c_ne, c_lt, c_ge, c_gt, c_le, x_ret, x_iret, x_aret, x_nret, x_zret, x_Rv, x_Rn, x_Rx, g_clss, x_Ws, x_Ks, x_cs0, x_cs1, x_cs2, x_cs3, x_cs4, x_cs5, x_cv0, x_cv1, x_cv2, x_cv3, x_cv4, x_ci0, x_ci1, x_ci2, x_ci3, x_ci4, x_cp0, x_cp1, x_cp2, x_cp3, x_cp4, ldi_0, lda_0, ldf_0, ldl_0, ldd_0, ldi_1, lda_1, ldf_1, ldl_1, ldd_1, ldi_2, lda_2, ldf_2, ldl_2, ldd_2, ldi_3, lda_3, ldf_3, ldl_3, ldd_3, ldi_4, lda_4, ldf_4, ldl_4, ldd_4, ldi_5, lda_5, ldf_5, ldl_5, ldd_5, ldi_6, lda_6, ldf_6, ldl_6, ldd_6, ldi_7, lda_7, ldf_7, ldl_7, ldd_7, ldi_8, lda_8, ldf_8, ldl_8, ldd_8, ldi_9, lda_9, ldf_9, ldl_9, ldd_9, ldi_10, lda_10, ldf_10, ldl_10, ldd_10, ldi_11, lda_11, ldf_11, ldl_11, ldd_11, ldi_12, lda_12, ldf_12, ldl_12, ldd_12, ldi_13, lda_13, ldf_13, ldl_13, ldd_13, ldn_0, ldn_1, ldn_2, ldn_3, ldn_4, ldn_5, ldn_6, ldn_7, ldn_8, ldn_9, ldn_10, ldn_11, ldn_12, ldn_13, sti_0, sta_0, stf_0, sti_1, sta_1, stf_1, sti_2, sta_2, stf_2, sti_3, sta_3, stf_3, sti_4, sta_4, stf_4, sti_5, sta_5, stf_5, sti_6, sta_6, stf_6, sti_7, sta_7, stf_7, sti_8, sta_8, stf_8, sti_9, sta_9, stf_9, sti_10, sta_10, stf_10, sti_11, sta_11, stf_11, sti_12, sta_12, stf_12, sti_13, sta_13, stf_13, stn_0, stn_1, stn_2, stn_3, stn_4, stn_5, stn_6, stn_7, stn_8, stn_9, stn_10, stn_11, stn_12, stn_13, inc_0, inc_1, inc_2, inc_3, inc_4, inc_5, inc_6, inc_7, inc_8, inc_9, inc_10, inc_11, inc_12, inc_13, sw19_2, sw71_2, sw75_39, sw125_11, sw127_18, sw130_17, sw135_20, sw136_19, sw146_44, sw174_83, sw174_183, sw175_11, sw175_106, sw183_11, sw183_128, sw184_17, sw184_92, sw207_17, sw207_123, sw293_60, sw333_6, sw338_20, sw345_20, sw349_20, sw350_20, sw351_6, sw370_7, m_i2f, m_i2d, m_fc1, m_dc0, x_fret, x_dret, m_i2b, m_and255, m_and63, m_shr24, m_shr16, m_shr8, m_shr0, m_shr1, g_astb, m_i2c, x_cret, x_bret, m_gsn, if_pos, if_neg, Bool.false_eq_true, Int.add_zero, Nat.add_zero, Int.reduceEq, Int.zero_add, ne_eq, not_true_eq_false, not_false_eq_true, and_self, and_true, true_and, and_false, false_and, or_true, true_or, or_false, false_or, gs_0, gs_1, gs_2, gs_3, gs_4, gs_5, gs_6, gs_7, gs_8, m_aald, g_aalds, rf_s, rf_n, m_cast, g_casts,  b39_222]
    rw [lb39_134]
    simp -implicitDefEqProofs (disch := first | assumption | omega | exact sub_5 | exact sub_16 | exact sub_1 | exact sub_3 | exact sub_4 | exact sub_6 | exact sub_7 | exact i8_r | exact cat1_rf | exact cat_rf | exact mf_20 | exact cat1_i | exact cat1_r | exact cat1_n | exact cat_i | exact cat_r | exact cat_n | exact mf_0 | exact mf_4 | exact mf_4n | exact mf_10 | exact mf_11 | exact mnd_0 | exact mnd_i | exact mnd_r | exact mnd_n | exact mnd_f | exact bz_r | exact bz_01 | (simp only [List.length_cons, List.length_nil] <;> omega) | (simp only [wu, Nat.reduceEqDiff, if_true, if_false] <;> first | assumption | omega) | (simp only [h_n1, h_p1] <;> omega)) only [Int.reduceToNat, Nat.reduceDiv, Nat.reduceMod, Nat.reduceAdd, Nat.reduceSub, Int.reduceNeg, Int.reduceAdd, Int.reduceSub, Int.reduceMul, Int.reduceLT, Int.reduceLE, if_true, if_false, List.length_cons, List.length_nil, bz_z, fin_0, fin_1, fin_2, fin_3, x_0, x_Ts, x_Ss, x_iinc, x_iload_n, x_iload, x_lload_n, x_lload, x_fload_n, x_fload, x_dload_n, x_dload, x_aload_n, x_aload, x_istore_n, x_istore, x_astore_n, x_astore, x_fstore_n, x_fstore, x_dstore_n, x_dstore, x_lstore_n, x_lstore, m_iconst, m_bipush, m_sipush, m_ldci, m_ldcr, m_ldcw, m_null, m_gsi, m_gsr, m_add, m_sub, m_mul, m_neg, m_div, m_rem, m_max, m_min, m_abs, m_pop, m_dup, m_dupx1, m_dupx2, m_dup2, m_getf, m_putf, g_puts, m_iald, m_bald, g_alds, m_iast, m_bast, g_asti, g_astz, m_alen, g_lens, m_new, m_newi, m_oinit, h_ps, h_pn, h_ns, h_nn, h_p1, h_n1, h_n2, h_pp, x_goto, x_if, x_icmp, x_nullr, x_nulln, x_nnr, x_nnn, x_fall, z_eq, z_ne, z_lt, z_ge, z_gt, z_le, c_eq, c_ne, c_lt, c_ge, c_gt, c_le, x_ret, x_iret, x_aret, x_nret, x_zret, x_Rv, x_Rn, x_Rx, g_clss, x_Ws, x_Ks, x_cs0, x_cs1, x_cs2, x_cs3, x_cs4, x_cs5, x_cv0, x_cv1, x_cv2, x_cv3, x_cv4, x_ci0, x_ci1, x_ci2, x_ci3, x_ci4, x_cp0, x_cp1, x_cp2, x_cp3, x_cp4, ldi_0, lda_0, ldf_0, ldl_0, ldd_0, ldi_1, lda_1, ldf_1, ldl_1, ldd_1, ldi_2, lda_2, ldf_2, ldl_2, ldd_2, ldi_3, lda_3, ldf_3, ldl_3, ldd_3, ldi_4, lda_4, ldf_4, ldl_4, ldd_4, ldi_5, lda_5, ldf_5, ldl_5, ldd_5, ldi_6, lda_6, ldf_6, ldl_6, ldd_6, ldi_7, lda_7, ldf_7, ldl_7, ldd_7, ldi_8, lda_8, ldf_8, ldl_8, ldd_8, ldi_9, lda_9, ldf_9, ldl_9, ldd_9, ldi_10, lda_10, ldf_10, ldl_10, ldd_10, ldi_11, lda_11, ldf_11, ldl_11, ldd_11, ldi_12, lda_12, ldf_12, ldl_12, ldd_12, ldi_13, lda_13, ldf_13, ldl_13, ldd_13, ldn_0, ldn_1, ldn_2, ldn_3, ldn_4, ldn_5, ldn_6, ldn_7, ldn_8, ldn_9, ldn_10, ldn_11, ldn_12, ldn_13, sti_0, sta_0, stf_0, sti_1, sta_1, stf_1, sti_2, sta_2, stf_2, sti_3, sta_3, stf_3, sti_4, sta_4, stf_4, sti_5, sta_5, stf_5, sti_6, sta_6, stf_6, sti_7, sta_7, stf_7, sti_8, sta_8, stf_8, sti_9, sta_9, stf_9, sti_10, sta_10, stf_10, sti_11, sta_11, stf_11, sti_12, sta_12, stf_12, sti_13, sta_13, stf_13, stn_0, stn_1, stn_2, stn_3, stn_4, stn_5, stn_6, stn_7, stn_8, stn_9, stn_10, stn_11, stn_12, stn_13, inc_0, inc_1, inc_2, inc_3, inc_4, inc_5, inc_6, inc_7, inc_8, inc_9, inc_10, inc_11, inc_12, inc_13, sw19_2, sw71_2, sw75_39, sw125_11, sw127_18, sw130_17, sw135_20, sw136_19, sw146_44, sw174_83, sw174_183, sw175_11, sw175_106, sw183_11, sw183_128, sw184_17, sw184_92, sw207_17, sw207_123, sw293_60, sw333_6, sw338_20, sw345_20, sw349_20, sw350_20, sw351_6, sw370_7, m_i2f, m_i2d, m_fc1, m_dc0, x_fret, x_dret, m_i2b, m_and255, m_and63, m_shr24, m_shr16, m_shr8, m_shr0, m_shr1, g_astb, m_i2c, x_cret, x_bret, m_gsn, if_pos, if_neg, Bool.false_eq_true, Int.add_zero, Nat.add_zero, Int.reduceEq, Int.zero_add, ne_eq, not_true_eq_false, not_false_eq_true, and_self, and_true, true_and, and_false, false_and, or_true, true_or, or_false, false_or, gs_0, gs_1, gs_2, gs_3, gs_4, gs_5, gs_6, gs_7, gs_8, m_aald, g_aalds, rf_s, rf_n, m_cast, g_casts,  b39_134, z2, hmc, r41, ne, mcl, List.set_cons_zero, List.set_cons_succ]
    exact hr2
  | cons e2 l ih =>
    intro e y10 y11 bc hy11 hl hf hb z hz z2 hr
    have f2 := hfe_none hf
    obtain ⟨a1, a2, a3, a4, a5, a6, a7, o', a8, a9⟩ := hl
    have oz : o' = some e2.1 := a9.1
    rw [oz] at a9
    rw [oz, rf_s] at a8
    have hz2 : z ∈ (e2 :: l) := by
      rcases List.mem_cons.mp hz with q | q
      · rw [q, a8] at z2
        cases z2
      · exact q
    have hb2 : bc + 1 + l.length ≤ 6 := by
      simp only [List.length_cons] at hb
      omega
    have h2 := ih e2 (some (.ref e2.1)) y11 (bc + 1) hy11 a9 f2.2 hb2 z hz2 z2 hr
    simp only [Int.natCast_add, Int.natCast_one] at h2
    obtain ⟨b1, b2, b3, b4, b5, b6, b7, o2, b8, b9⟩ := a9
    have f3 := (hfe_none f2.2).1
    rw [lb39_134]
    simp -implicitDefEqProofs (disch := first | assumption | omega | exact sub_5 | exact sub_16 | exact sub_1 | exact sub_3 | exact sub_4 | exact sub_6 | exact sub_7 | exact i8_r | exact cat1_rf | exact cat_rf | exact mf_20 | exact cat1_i | exact cat1_r | exact cat1_n | exact cat_i | exact cat_r | exact cat_n | exact mf_0 | exact mf_4 | exact mf_4n | exact mf_10 | exact mf_11 | exact mnd_0 | exact mnd_i | exact mnd_r | exact mnd_n | exact mnd_f | exact bz_r | exact bz_01 | (simp only [List.length_cons, List.length_nil] <;> omega) | (simp only [wu, Nat.reduceEqDiff, if_true, if_false] <;> first | assumption | omega) | (simp only [h_n1, h_p1] <;> omega)) only [Int.reduceToNat, Nat.reduceDiv, Nat.reduceMod, Nat.reduceAdd, Nat.reduceSub, Int.reduceNeg, Int.reduceAdd, Int.reduceSub, Int.reduceMul, Int.reduceLT, Int.reduceLE, if_true, if_false, List.length_cons, List.length_nil, bz_z, fin_0, fin_1, fin_2, fin_3, x_0, x_Ts, x_Ss, x_iinc, x_iload_n, x_iload, x_lload_n, x_lload, x_fload_n, x_fload, x_dload_n, x_dload, x_aload_n, x_aload, x_istore_n, x_istore, x_astore_n, x_astore, x_fstore_n, x_fstore, x_dstore_n, x_dstore, x_lstore_n, x_lstore, m_iconst, m_bipush, m_sipush, m_ldci, m_ldcr, m_ldcw, m_null, m_gsi, m_gsr, m_add, m_sub, m_mul, m_neg, m_div, m_rem, m_max, m_min, m_abs, m_pop, m_dup, m_dupx1, m_dupx2, m_dup2, m_getf, m_putf, g_puts, m_iald, m_bald, g_alds, m_iast, m_bast, g_asti, g_astz, m_alen, g_lens, m_new, m_newi, m_oinit, h_ps, h_pn, h_ns, h_nn, h_p1, h_n1, h_n2, h_pp, x_goto, x_if, x_icmp, x_nullr, x_nulln, x_nnr, x_nnn, x_fall, z_eq, z_ne, z_lt, z_ge, z_gt, z_le, c_eq, c_ne, c_lt, c_ge, c_gt, c_le, x_ret, x_iret, x_aret, x_nret, x_zret, x_Rv, x_Rn, x_Rx, g_clss, x_Ws, x_Ks, x_cs0, x_cs1, x_cs2, x_cs3, x_cs4, x_cs5, x_cv0, x_cv1, x_cv2, x_cv3, x_cv4, x_ci0, x_ci1, x_ci2, x_ci3, x_ci4, x_cp0, x_cp1, x_cp2, x_cp3, x_cp4, ldi_0, lda_0, ldf_0, ldl_0, ldd_0, ldi_1, lda_1, ldf_1, ldl_1, ldd_1, ldi_2, lda_2, ldf_2, ldl_2, ldd_2, ldi_3, lda_3, ldf_3, ldl_3, ldd_3, ldi_4, lda_4, ldf_4, ldl_4, ldd_4, ldi_5, lda_5, ldf_5, ldl_5, ldd_5, ldi_6, lda_6, ldf_6, ldl_6, ldd_6, ldi_7, lda_7, ldf_7, ldl_7, ldd_7, ldi_8, lda_8, ldf_8, ldl_8, ldd_8, ldi_9, lda_9, ldf_9, ldl_9, ldd_9, ldi_10, lda_10, ldf_10, ldl_10, ldd_10, ldi_11, lda_11, ldf_11, ldl_11, ldd_11, ldi_12, lda_12, ldf_12, ldl_12, ldd_12, ldi_13, lda_13, ldf_13, ldl_13, ldd_13, ldn_0, ldn_1, ldn_2, ldn_3, ldn_4, ldn_5, ldn_6, ldn_7, ldn_8, ldn_9, ldn_10, ldn_11, ldn_12, ldn_13, sti_0, sta_0, stf_0, sti_1, sta_1, stf_1, sti_2, sta_2, stf_2, sti_3, sta_3, stf_3, sti_4, sta_4, stf_4, sti_5, sta_5, stf_5, sti_6, sta_6, stf_6, sti_7, sta_7, stf_7, sti_8, sta_8, stf_8, sti_9, sta_9, stf_9, sti_10, sta_10, stf_10, sti_11, sta_11, stf_11, sti_12, sta_12, stf_12, sti_13, sta_13, stf_13, stn_0, stn_1, stn_2, stn_3, stn_4, stn_5, stn_6, stn_7, stn_8, stn_9, stn_10, stn_11, stn_12, stn_13, inc_0, inc_1, inc_2, inc_3, inc_4, inc_5, inc_6, inc_7, inc_8, inc_9, inc_10, inc_11, inc_12, inc_13, sw19_2, sw71_2, sw75_39, sw125_11, sw127_18, sw130_17, sw135_20, sw136_19, sw146_44, sw174_83, sw174_183, sw175_11, sw175_106, sw183_11, sw183_128, sw184_17, sw184_92, sw207_17, sw207_123, sw293_60, sw333_6, sw338_20, sw345_20, sw349_20, sw350_20, sw351_6, sw370_7, m_i2f, m_i2d, m_fc1, m_dc0, x_fret, x_dret, m_i2b, m_and255, m_and63, m_shr24, m_shr16, m_shr8, m_shr0, m_shr1, g_astb, m_i2c, x_cret, x_bret, m_gsn, if_pos, if_neg, Bool.false_eq_true, Int.add_zero, Nat.add_zero, Int.reduceEq, Int.zero_add, ne_eq, not_true_eq_false, not_false_eq_true, and_self, and_true, true_and, and_false, false_and, or_true, true_or, or_false, false_or, gs_0, gs_1, gs_2, gs_3, gs_4, gs_5, gs_6, gs_7, gs_8, m_aald, g_aalds, rf_s, rf_n, m_cast, g_casts,  b39_134, lb39_175, b39_175, lb39_212, b39_212, a8, b8, f3]
    exact h2
theorem R40 (hE : E.1 ≤ m) (hm0 : m < h.2.1) {md : Int} {lf : UInt32} (hm : h.1 m = some (.inr (15, [.null, .null, .null, .null, .int (Int32.ofInt 0), .int (Int32.ofInt md), .int (Int32.ofInt 0), .float lf]))) : ∃ h1, mRun E gP 40 [.ref m] h = some (.inl (some (.ref h.2.1)), h1) ∧ h1.1 m = some (.inr (15, [.null, .null, .ref h.2.1, .null, .int (Int32.ofInt 0), .int (Int32.ofInt md), .int (Int32.ofInt 12), .float lf])) ∧ h1.1 h.2.1 = some (mAK 102 16 (fun _ => none)) ∧ (∀ q, q ≠ m → q ≠ h.2.1 → h1.1 q = h.1 q) ∧ h1.2 = (h.2.1 + 1, h.2.2 + 16) := by
  have ne : m ≠ h.2.1 := by omega
  have t16 : (16 : Int).toNat = 16 := rfl
  refine ⟨mput (mnew (mput h m (.inr (15, [.null, .null, .null, .null, .int (Int32.ofInt 0), .int (Int32.ofInt md), .int (Int32.ofInt 12), .float lf]))) (mAK 102 16 (fun _ => none)) 16) m (.inr (15, [.null, .null, .ref h.2.1, .null, .int (Int32.ofInt 0), .int (Int32.ofInt md), .int (Int32.ofInt 12), .float lf])), ?_, h_ps, (h_pn ne.symm).trans h_ns, fun q a b => by rw [h_pn a, h_nn (by exact b), h_pn a], rfl⟩
  simp -implicitDefEqProofs (disch := first | assumption | omega | exact sub_5 | exact sub_16 | exact sub_1 | exact sub_3 | exact sub_4 | exact sub_6 | exact sub_7 | exact i8_r | exact cat1_rf | exact cat_rf | exact mf_20 | exact cat1_i | exact cat1_r | exact cat1_n | exact cat_i | exact cat_r | exact cat_n | exact mf_0 | exact mf_4 | exact mf_4n | exact mf_10 | exact mf_11 | exact mnd_0 | exact mnd_i | exact mnd_r | exact mnd_n | exact mnd_f | exact bz_r | exact bz_01 | (simp only [List.length_cons, List.length_nil] <;> omega) | (simp only [wu, Nat.reduceEqDiff, if_true, if_false] <;> first | assumption | omega) | (simp only [h_n1, h_p1] <;> omega)) only [Int.reduceToNat, Nat.reduceDiv, Nat.reduceMod, Nat.reduceAdd, Nat.reduceSub, Int.reduceNeg, Int.reduceAdd, Int.reduceSub, Int.reduceMul, Int.reduceLT, Int.reduceLE, if_true, if_false, List.length_cons, List.length_nil, bz_z, fin_0, fin_1, fin_2, fin_3, x_0, x_Ts, x_Ss, x_iinc, x_iload_n, x_iload, x_lload_n, x_lload, x_fload_n, x_fload, x_dload_n, x_dload, x_aload_n, x_aload, x_istore_n, x_istore, x_astore_n, x_astore, x_fstore_n, x_fstore, x_dstore_n, x_dstore, x_lstore_n, x_lstore, m_iconst, m_bipush, m_sipush, m_ldci, m_ldcr, m_ldcw, m_null, m_gsi, m_gsr, m_add, m_sub, m_mul, m_neg, m_div, m_rem, m_max, m_min, m_abs, m_pop, m_dup, m_dupx1, m_dupx2, m_dup2, m_getf, m_putf, g_puts, m_iald, m_bald, g_alds, m_iast, m_bast, g_asti, g_astz, m_alen, g_lens, m_new, m_newi, m_oinit, h_ps, h_pn, h_ns, h_nn, h_p1, h_n1, h_n2, h_pp, x_goto, x_if, x_icmp, x_nullr, x_nulln, x_nnr, x_nnn, x_fall, z_eq, z_ne, z_lt, z_ge, z_gt, z_le, c_eq, c_ne, c_lt, c_ge, c_gt, c_le, x_ret, x_iret, x_aret, x_nret, x_zret, x_Rv, x_Rn, x_Rx, g_clss, x_Ws, x_Ks, x_cs0, x_cs1, x_cs2, x_cs3, x_cs4, x_cs5, x_cv0, x_cv1, x_cv2, x_cv3, x_cv4, x_ci0, x_ci1, x_ci2, x_ci3, x_ci4, x_cp0, x_cp1, x_cp2, x_cp3, x_cp4, ldi_0, lda_0, ldf_0, ldl_0, ldd_0, ldi_1, lda_1, ldf_1, ldl_1, ldd_1, ldi_2, lda_2, ldf_2, ldl_2, ldd_2, ldi_3, lda_3, ldf_3, ldl_3, ldd_3, ldi_4, lda_4, ldf_4, ldl_4, ldd_4, ldi_5, lda_5, ldf_5, ldl_5, ldd_5, ldi_6, lda_6, ldf_6, ldl_6, ldd_6, ldi_7, lda_7, ldf_7, ldl_7, ldd_7, ldi_8, lda_8, ldf_8, ldl_8, ldd_8, ldi_9, lda_9, ldf_9, ldl_9, ldd_9, ldi_10, lda_10, ldf_10, ldl_10, ldd_10, ldi_11, lda_11, ldf_11, ldl_11, ldd_11, ldi_12, lda_12, ldf_12, ldl_12, ldd_12, ldi_13, lda_13, ldf_13, ldl_13, ldd_13, ldn_0, ldn_1, ldn_2, ldn_3, ldn_4, ldn_5, ldn_6, ldn_7, ldn_8, ldn_9, ldn_10, ldn_11, ldn_12, ldn_13, sti_0, sta_0, stf_0, sti_1, sta_1, stf_1, sti_2, sta_2, stf_2, sti_3, sta_3, stf_3, sti_4, sta_4, stf_4, sti_5, sta_5, stf_5, sti_6, sta_6, stf_6, sti_7, sta_7, stf_7, sti_8, sta_8, stf_8, sti_9, sta_9, stf_9, sti_10, sta_10, stf_10, sti_11, sta_11, stf_11, sti_12, sta_12, stf_12, sti_13, sta_13, stf_13, stn_0, stn_1, stn_2, stn_3, stn_4, stn_5, stn_6, stn_7, stn_8, stn_9, stn_10, stn_11, stn_12, stn_13, inc_0, inc_1, inc_2, inc_3, inc_4, inc_5, inc_6, inc_7, inc_8, inc_9, inc_10, inc_11, inc_12, inc_13, sw19_2, sw71_2, sw75_39, sw125_11, sw127_18, sw130_17, sw135_20, sw136_19, sw146_44, sw174_83, sw174_183, sw175_11, sw175_106, sw183_11, sw183_128, sw184_17, sw184_92, sw207_17, sw207_123, sw293_60, sw333_6, sw338_20, sw345_20, sw349_20, sw350_20, sw351_6, sw370_7, m_i2f, m_i2d, m_fc1, m_dc0, x_fret, x_dret, m_i2b, m_and255, m_and63, m_shr24, m_shr16, m_shr8, m_shr0, m_shr1, g_astb, m_i2c, x_cret, x_bret, m_gsn, if_pos, if_neg, Bool.false_eq_true, Int.add_zero, Nat.add_zero, Int.reduceEq, Int.zero_add, ne_eq, not_true_eq_false, not_false_eq_true, and_self, and_true, true_and, and_false, false_and, or_true, true_or, or_false, false_or, gs_0, gs_1, gs_2, gs_3, gs_4, gs_5, gs_6, gs_7, gs_8, m_aald, g_aalds, rf_s, rf_n, m_cast, g_casts,  en40, b40_0, lb40_15, b40_15, lb40_67, b40_67, lb40_77, b40_77, lb40_85, b40_85, lb40_125, b40_125, lb40_353, b40_353, hm, m_newk, t16, ne, List.set_cons_zero, List.set_cons_succ]
/-- where the map's cells lie behind a put -/
def AP (A : Nat → Prop) (h h' : mH) (k v : Nat) : Nat → Prop := fun q => A q ∨ q = k ∨ q = v ∨ (h.2.1 ≤ q ∧ q < h'.2.1)
theorem E39_29 {t : Nat} {g : Nat → Option Nat} {md : Int} {lf : UInt32} (a5 : h.1 m = some (.inr (15, [.null, .null, .ref t, .null, .int (Int32.ofInt n), .int (Int32.ofInt md), .int (Int32.ofInt 12), .float lf]))) (a6 : h.1 t = some (mAK 102 16 g)) : mRun E gP 39 [.ref m, .int (Int32.ofInt c), .ref k, .ref v, .int (Int32.ofInt 0), .int (Int32.ofInt 1)] h = mV E gP (39, 29, [some (.ref m), some (.int (Int32.ofInt c)), some (.ref k), some (.ref v), some (.int (Int32.ofInt 0)), some (.int (Int32.ofInt 1)), some (.ref t), none, some (.int (Int32.ofInt 16)), none, none, none, none], [], h) := by
  have t16 : ((16 : Nat) : Int) = 16 := rfl
  rw [en39]
  simp -implicitDefEqProofs (disch := first | assumption | omega | exact sub_5 | exact sub_16 | exact sub_1 | exact sub_3 | exact sub_4 | exact sub_6 | exact sub_7 | exact i8_r | exact cat1_rf | exact cat_rf | exact mf_20 | exact cat1_i | exact cat1_r | exact cat1_n | exact cat_i | exact cat_r | exact cat_n | exact mf_0 | exact mf_4 | exact mf_4n | exact mf_10 | exact mf_11 | exact mnd_0 | exact mnd_i | exact mnd_r | exact mnd_n | exact mnd_f | exact bz_r | exact bz_01 | (simp only [List.length_cons, List.length_nil] <;> omega) | (simp only [wu, Nat.reduceEqDiff, if_true, if_false] <;> first | assumption | omega) | (simp only [h_n1, h_p1] <;> omega)) only [Int.reduceToNat, Nat.reduceDiv, Nat.reduceMod, Nat.reduceAdd, Nat.reduceSub, Int.reduceNeg, Int.reduceAdd, Int.reduceSub, Int.reduceMul, Int.reduceLT, Int.reduceLE, if_true, if_false, List.length_cons, List.length_nil, bz_z, fin_0, fin_1, fin_2, fin_3, x_0, x_Ts, x_Ss, x_iinc, x_iload_n, x_iload, x_lload_n, x_lload, x_fload_n, x_fload, x_dload_n, x_dload, x_aload_n, x_aload, x_istore_n, x_istore, x_astore_n, x_astore, x_fstore_n, x_fstore, x_dstore_n, x_dstore, x_lstore_n, x_lstore, m_iconst, m_bipush, m_sipush, m_ldci, m_ldcr, m_ldcw, m_null, m_gsi, m_gsr, m_add, m_sub, m_mul, m_neg, m_div, m_rem, m_max, m_min, m_abs, m_pop, m_dup, m_dupx1, m_dupx2, m_dup2, m_getf, m_putf, g_puts, m_iald, m_bald, g_alds, m_iast, m_bast, g_asti, g_astz, m_alen, g_lens, m_new, m_newi, m_oinit, h_ps, h_pn, h_ns, h_nn, h_p1, h_n1, h_n2, h_pp, x_goto, x_if, x_icmp, x_nullr, x_nulln, x_nnr, x_nnn, x_fall, z_eq, z_ne, z_lt, z_ge, z_gt, z_le, c_eq, c_ne, c_lt, c_ge, c_gt, c_le, x_ret, x_iret, x_aret, x_nret, x_zret, x_Rv, x_Rn, x_Rx, g_clss, x_Ws, x_Ks, x_cs0, x_cs1, x_cs2, x_cs3, x_cs4, x_cs5, x_cv0, x_cv1, x_cv2, x_cv3, x_cv4, x_ci0, x_ci1, x_ci2, x_ci3, x_ci4, x_cp0, x_cp1, x_cp2, x_cp3, x_cp4, ldi_0, lda_0, ldf_0, ldl_0, ldd_0, ldi_1, lda_1, ldf_1, ldl_1, ldd_1, ldi_2, lda_2, ldf_2, ldl_2, ldd_2, ldi_3, lda_3, ldf_3, ldl_3, ldd_3, ldi_4, lda_4, ldf_4, ldl_4, ldd_4, ldi_5, lda_5, ldf_5, ldl_5, ldd_5, ldi_6, lda_6, ldf_6, ldl_6, ldd_6, ldi_7, lda_7, ldf_7, ldl_7, ldd_7, ldi_8, lda_8, ldf_8, ldl_8, ldd_8, ldi_9, lda_9, ldf_9, ldl_9, ldd_9, ldi_10, lda_10, ldf_10, ldl_10, ldd_10, ldi_11, lda_11, ldf_11, ldl_11, ldd_11, ldi_12, lda_12, ldf_12, ldl_12, ldd_12, ldi_13, lda_13, ldf_13, ldl_13, ldd_13, ldn_0, ldn_1, ldn_2, ldn_3, ldn_4, ldn_5, ldn_6, ldn_7, ldn_8, ldn_9, ldn_10, ldn_11, ldn_12, ldn_13, sti_0, sta_0, stf_0, sti_1, sta_1, stf_1, sti_2, sta_2, stf_2, sti_3, sta_3, stf_3, sti_4, sta_4, stf_4, sti_5, sta_5, stf_5, sti_6, sta_6, stf_6, sti_7, sta_7, stf_7, sti_8, sta_8, stf_8, sti_9, sta_9, stf_9, sti_10, sta_10, stf_10, sti_11, sta_11, stf_11, sti_12, sta_12, stf_12, sti_13, sta_13, stf_13, stn_0, stn_1, stn_2, stn_3, stn_4, stn_5, stn_6, stn_7, stn_8, stn_9, stn_10, stn_11, stn_12, stn_13, inc_0, inc_1, inc_2, inc_3, inc_4, inc_5, inc_6, inc_7, inc_8, inc_9, inc_10, inc_11, inc_12, inc_13, sw19_2, sw71_2, sw75_39, sw125_11, sw127_18, sw130_17, sw135_20, sw136_19, sw146_44, sw174_83, sw174_183, sw175_11, sw175_106, sw183_11, sw183_128, sw184_17, sw184_92, sw207_17, sw207_123, sw293_60, sw333_6, sw338_20, sw345_20, sw349_20, sw350_20, sw351_6, sw370_7, m_i2f, m_i2d, m_fc1, m_dc0, x_fret, x_dret, m_i2b, m_and255, m_and63, m_shr24, m_shr16, m_shr8, m_shr0, m_shr1, g_astb, m_i2c, x_cret, x_bret, m_gsn, if_pos, if_neg, Bool.false_eq_true, Int.add_zero, Nat.add_zero, Int.reduceEq, Int.zero_add, ne_eq, not_true_eq_false, not_false_eq_true, and_self, and_true, true_and, and_false, false_and, or_true, true_or, or_false, false_or, gs_0, gs_1, gs_2, gs_3, gs_4, gs_5, gs_6, gs_7, gs_8, m_aald, g_aalds, rf_s, rf_n, m_cast, g_casts,  b39_0, a5, a6, g_lenk, t16]
theorem E39_19 {h1 : mH} {t : Nat} {g : Nat → Option Nat} {md : Int} {lf : UInt32} (a5 : h.1 m = some (.inr (15, [.null, .null, .null, .null, .int (Int32.ofInt 0), .int (Int32.ofInt md), .int (Int32.ofInt 0), .float lf]))) (r40 : mRun E gP 40 [.ref m] h = some (.inl (some (.ref t)), h1)) (e2 : h1.1 t = some (mAK 102 16 g)) : mRun E gP 39 [.ref m, .int (Int32.ofInt c), .ref k, .ref v, .int (Int32.ofInt 0), .int (Int32.ofInt 1)] h = mV E gP (39, 29, [some (.ref m), some (.int (Int32.ofInt c)), some (.ref k), some (.ref v), some (.int (Int32.ofInt 0)), some (.int (Int32.ofInt 1)), some (.ref t), none, some (.int (Int32.ofInt 16)), none, none, none, none], [], h1) := by
  have t16 : ((16 : Nat) : Int) = 16 := rfl
  rw [en39]
  simp -implicitDefEqProofs (disch := first | assumption | omega | exact sub_5 | exact sub_16 | exact sub_1 | exact sub_3 | exact sub_4 | exact sub_6 | exact sub_7 | exact i8_r | exact cat1_rf | exact cat_rf | exact mf_20 | exact cat1_i | exact cat1_r | exact cat1_n | exact cat_i | exact cat_r | exact cat_n | exact mf_0 | exact mf_4 | exact mf_4n | exact mf_10 | exact mf_11 | exact mnd_0 | exact mnd_i | exact mnd_r | exact mnd_n | exact mnd_f | exact bz_r | exact bz_01 | (simp only [List.length_cons, List.length_nil] <;> omega) | (simp only [wu, Nat.reduceEqDiff, if_true, if_false] <;> first | assumption | omega) | (simp only [h_n1, h_p1] <;> omega)) only [Int.reduceToNat, Nat.reduceDiv, Nat.reduceMod, Nat.reduceAdd, Nat.reduceSub, Int.reduceNeg, Int.reduceAdd, Int.reduceSub, Int.reduceMul, Int.reduceLT, Int.reduceLE, if_true, if_false, List.length_cons, List.length_nil, bz_z, fin_0, fin_1, fin_2, fin_3, x_0, x_Ts, x_Ss, x_iinc, x_iload_n, x_iload, x_lload_n, x_lload, x_fload_n, x_fload, x_dload_n, x_dload, x_aload_n, x_aload, x_istore_n, x_istore, x_astore_n, x_astore, x_fstore_n, x_fstore, x_dstore_n, x_dstore, x_lstore_n, x_lstore, m_iconst, m_bipush, m_sipush, m_ldci, m_ldcr, m_ldcw, m_null, m_gsi, m_gsr, m_add, m_sub, m_mul, m_neg, m_div, m_rem, m_max, m_min, m_abs, m_pop, m_dup, m_dupx1, m_dupx2, m_dup2, m_getf, m_putf, g_puts, m_iald, m_bald, g_alds, m_iast, m_bast, g_asti, g_astz, m_alen, g_lens, m_new, m_newi, m_oinit, h_ps, h_pn, h_ns, h_nn, h_p1, h_n1, h_n2, h_pp, x_goto, x_if, x_icmp, x_nullr, x_nulln, x_nnr, x_nnn, x_fall, z_eq, z_ne, z_lt, z_ge, z_gt, z_le, c_eq, c_ne, c_lt, c_ge, c_gt, c_le, x_ret, x_iret, x_aret, x_nret, x_zret, x_Rv, x_Rn, x_Rx, g_clss, x_Ws, x_Ks, x_cs0, x_cs1, x_cs2, x_cs3, x_cs4, x_cs5, x_cv0, x_cv1, x_cv2, x_cv3, x_cv4, x_ci0, x_ci1, x_ci2, x_ci3, x_ci4, x_cp0, x_cp1, x_cp2, x_cp3, x_cp4, ldi_0, lda_0, ldf_0, ldl_0, ldd_0, ldi_1, lda_1, ldf_1, ldl_1, ldd_1, ldi_2, lda_2, ldf_2, ldl_2, ldd_2, ldi_3, lda_3, ldf_3, ldl_3, ldd_3, ldi_4, lda_4, ldf_4, ldl_4, ldd_4, ldi_5, lda_5, ldf_5, ldl_5, ldd_5, ldi_6, lda_6, ldf_6, ldl_6, ldd_6, ldi_7, lda_7, ldf_7, ldl_7, ldd_7, ldi_8, lda_8, ldf_8, ldl_8, ldd_8, ldi_9, lda_9, ldf_9, ldl_9, ldd_9, ldi_10, lda_10, ldf_10, ldl_10, ldd_10, ldi_11, lda_11, ldf_11, ldl_11, ldd_11, ldi_12, lda_12, ldf_12, ldl_12, ldd_12, ldi_13, lda_13, ldf_13, ldl_13, ldd_13, ldn_0, ldn_1, ldn_2, ldn_3, ldn_4, ldn_5, ldn_6, ldn_7, ldn_8, ldn_9, ldn_10, ldn_11, ldn_12, ldn_13, sti_0, sta_0, stf_0, sti_1, sta_1, stf_1, sti_2, sta_2, stf_2, sti_3, sta_3, stf_3, sti_4, sta_4, stf_4, sti_5, sta_5, stf_5, sti_6, sta_6, stf_6, sti_7, sta_7, stf_7, sti_8, sta_8, stf_8, sti_9, sta_9, stf_9, sti_10, sta_10, stf_10, sti_11, sta_11, stf_11, sti_12, sta_12, stf_12, sti_13, sta_13, stf_13, stn_0, stn_1, stn_2, stn_3, stn_4, stn_5, stn_6, stn_7, stn_8, stn_9, stn_10, stn_11, stn_12, stn_13, inc_0, inc_1, inc_2, inc_3, inc_4, inc_5, inc_6, inc_7, inc_8, inc_9, inc_10, inc_11, inc_12, inc_13, sw19_2, sw71_2, sw75_39, sw125_11, sw127_18, sw130_17, sw135_20, sw136_19, sw146_44, sw174_83, sw174_183, sw175_11, sw175_106, sw183_11, sw183_128, sw184_17, sw184_92, sw207_17, sw207_123, sw293_60, sw333_6, sw338_20, sw345_20, sw349_20, sw350_20, sw351_6, sw370_7, m_i2f, m_i2d, m_fc1, m_dc0, x_fret, x_dret, m_i2b, m_and255, m_and63, m_shr24, m_shr16, m_shr8, m_shr0, m_shr1, g_astb, m_i2c, x_cret, x_bret, m_gsn, if_pos, if_neg, Bool.false_eq_true, Int.add_zero, Nat.add_zero, Int.reduceEq, Int.zero_add, ne_eq, not_true_eq_false, not_false_eq_true, and_self, and_true, true_and, and_false, false_and, or_true, true_or, or_false, false_or, gs_0, gs_1, gs_2, gs_3, gs_4, gs_5, gs_6, gs_7, gs_8, m_aald, g_aalds, rf_s, rf_n, m_cast, g_casts,  b39_0, lb39_19, b39_19, a5, r40, e2, g_lenk, t16]
theorem R39_a (hE : E.1 ≤ h.2.1) (hA : ∀ q, A q → E.1 ≤ q ∧ q < h.2.1) (a1 : A m) (a2 : 0 ≤ n ∧ n ≤ 5) (a3 : ∀ i x, x ∈ bk i → x.2.2.2.1 % 16 = (i : Int)) (a4 : n = 0 ∧ ∀ i, bk i = []) {md : Int} {lf : UInt32} (a5 : h.1 m = some (.inr (15, [.null, .null, .null, .null, .int (Int32.ofInt 0), .int (Int32.ofInt md), .int (Int32.ofInt 0), .float lf]))) (hn : n ≤ 4) (hk : h.1 k = some (.inr (5, [.int (Int32.ofInt c)]))) (hk2 : k < h.2.1) (hkA : ¬ A k) (hv : ∃ v1 v2 v3 v4, h.1 v = some (.inr (4, [.int (Int32.ofInt nu), v1, v2, v3, v4]))) (hv2 : v < h.2.1) (hc : 0 ≤ c ∧ c < 81) (hnu : 0 ≤ nu ∧ nu < 10) (hno : hfe c (bkc bk c) = none) (hlen : (bkc bk c).length ≤ 6) : ∃ (h' : mH) (N : Nat), mRun E gP 39 [.ref m, .int (Int32.ofInt c), .ref k, .ref v, .int (Int32.ofInt 0), .int (Int32.ofInt 1)] h = some (.inl (some .null), h') ∧ HM (AP A h h' k v) h' m (n + 1) (bkA bk c (N, k, v, c, nu)) ∧ Km h h' ∧ (∀ q, q < h.2.1 → ¬ A q → h'.1 q = h.1 q) ∧ (h.2.1 ≤ h'.2.1 ∧ h'.2.1 ≤ h.2.1 + 2) ∧ h'.2.2 ≤ h.2.2 + 20 := by
  obtain ⟨w1, w2, w3, w4, hv⟩ := hv
  have kv : ∀ g : mH, Km h g → g.1 k = some (.inr (5, [.int (Int32.ofInt c)])) ∧ g.1 v = some (.inr (4, [.int (Int32.ofInt nu), w1, w2, w3, w4])) := fun g K => ⟨K _ _ hk2 hk (by show (5 : Nat) ≠ 15; omega) (by show (5 : Nat) ≠ 16; omega) (by show (5 : Nat) ≠ 1102; omega), K _ _ hv2 hv (by show (4 : Nat) ≠ 15; omega) (by show (4 : Nat) ≠ 16; omega) (by show (4 : Nat) ≠ 1102; omega)⟩
  have hmA := hA _ a1
  have t16 : ((16 : Nat) : Int) = 16 := rfl
  -- the buckets' own cells
  have b3 : ∀ (N i : Nat) (x : hEnt), x ∈ bkA bk c (N, k, v, c, nu) i → x.2.2.2.1 % 16 = (i : Int) := by
    intro N i x hx
    unfold bkA at hx
    by_cases z : (i : Int) = c % 16
    · rw [if_pos z, List.mem_append, List.mem_singleton] at hx
      rcases hx with q | q
      · exact a3 i x q
      · rw [q]; exact z.symm
    · rw [if_neg z] at hx
      exact a3 i x hx
  obtain ⟨h1, r40, e1, e2, e3, e4⟩ := R40 (E := E) (h := h) hmA.1 hmA.2 a5
  have sz : h1.2.1 = h.2.1 + 1 := congrArg Prod.fst e4
  have sz2 : h1.2.2 = h.2.2 + 16 := congrArg Prod.snd e4
  have r41 := R41 (E := E) (h := h1) (c := c) (k := k) (v := v) (by omega) (b := m)
  have ne1 : h.2.1 ≠ h1.2.1 := by omega
  have ne2 : m ≠ h1.2.1 := by omega
  have ne3 : m ≠ h.2.1 := by omega
  have mt : mtak mSub (mnew h1 (.inr (16, [.int (Int32.ofInt c), .ref k, .ref v, .null])) 4) 102 (some h1.2.1) = true := mtak_s h_ns sub_16
  have n0 := a4.1
  have r59 := fun y4 y7 y9 => L39_259 (E := E) (h := mput (mnew h1 (.inr (16, [.int (Int32.ofInt c), .ref k, .ref v, .null])) 4) h.2.1 (mAK 102 16 (va_up (fun _ => none) (c % 16).toNat (some h1.2.1)))) (m := m) (n := 0) (t := h.2.1) (md := md) (lf := lf) (y1 := some (.int (Int32.ofInt c))) (y2 := some (.ref k)) (y3 := some (.ref v)) (y4 := y4) (y6 := some (.ref h.2.1)) (y7 := y7) (y8 := some (.int (Int32.ofInt 16))) (y9 := y9) (y10 := none) (y11 := none) (y12 := none) hmA.1 (by omega) ((h_pn ne3).trans ((h_nn ne2).trans e1))
  refine ⟨mput (mput (mnew h1 (.inr (16, [.int (Int32.ofInt c), .ref k, .ref v, .null])) 4) h.2.1 (mAK 102 16 (va_up (fun _ => none) (c % 16).toNat (some h1.2.1)))) m (.inr (15, [.null, .null, .ref h.2.1, .null, .int (Int32.ofInt (0 + 1)), .int (Int32.ofInt (md + 1)), .int (Int32.ofInt 12), .float lf])), h1.2.1, ?_, ?_, ?_, ?_, ⟨?_, ?_⟩, ?_⟩
  · rw [E39_19 a5 r40 e2, lb39_29]
    simp -implicitDefEqProofs (disch := first | assumption | omega | exact sub_5 | exact sub_16 | exact sub_1 | exact sub_3 | exact sub_4 | exact sub_6 | exact sub_7 | exact i8_r | exact cat1_rf | exact cat_rf | exact mf_20 | exact cat1_i | exact cat1_r | exact cat1_n | exact cat_i | exact cat_r | exact cat_n | exact mf_0 | exact mf_4 | exact mf_4n | exact mf_10 | exact mf_11 | exact mnd_0 | exact mnd_i | exact mnd_r | exact mnd_n | exact mnd_f | exact bz_r | exact bz_01 | (simp only [List.length_cons, List.length_nil] <;> omega) | (simp only [wu, Nat.reduceEqDiff, if_true, if_false] <;> first | assumption | omega) | (simp only [h_n1, h_p1] <;> omega)) only [Int.reduceToNat, Nat.reduceDiv, Nat.reduceMod, Nat.reduceAdd, Nat.reduceSub, Int.reduceNeg, Int.reduceAdd, Int.reduceSub, Int.reduceMul, Int.reduceLT, Int.reduceLE, if_true, if_false, List.length_cons, List.length_nil, bz_z, fin_0, fin_1, fin_2, fin_3, x_0, x_Ts, x_Ss, x_iinc, x_iload_n, x_iload, x_lload_n, x_lload, x_fload_n, x_fload, x_dload_n, x_dload, x_aload_n, x_aload, x_istore_n, x_istore, x_astore_n, x_astore, x_fstore_n, x_fstore, x_dstore_n, x_dstore, x_lstore_n, x_lstore, m_iconst, m_bipush, m_sipush, m_ldci, m_ldcr, m_ldcw, m_null, m_gsi, m_gsr, m_add, m_sub, m_mul, m_neg, m_div, m_rem, m_max, m_min, m_abs, m_pop, m_dup, m_dupx1, m_dupx2, m_dup2, m_getf, m_putf, g_puts, m_iald, m_bald, g_alds, m_iast, m_bast, g_asti, g_astz, m_alen, g_lens, m_new, m_newi, m_oinit, h_ps, h_pn, h_ns, h_nn, h_p1, h_n1, h_n2, h_pp, x_goto, x_if, x_icmp, x_nullr, x_nulln, x_nnr, x_nnn, x_fall, z_eq, z_ne, z_lt, z_ge, z_gt, z_le, c_eq, c_ne, c_lt, c_ge, c_gt, c_le, x_ret, x_iret, x_aret, x_nret, x_zret, x_Rv, x_Rn, x_Rx, g_clss, x_Ws, x_Ks, x_cs0, x_cs1, x_cs2, x_cs3, x_cs4, x_cs5, x_cv0, x_cv1, x_cv2, x_cv3, x_cv4, x_ci0, x_ci1, x_ci2, x_ci3, x_ci4, x_cp0, x_cp1, x_cp2, x_cp3, x_cp4, ldi_0, lda_0, ldf_0, ldl_0, ldd_0, ldi_1, lda_1, ldf_1, ldl_1, ldd_1, ldi_2, lda_2, ldf_2, ldl_2, ldd_2, ldi_3, lda_3, ldf_3, ldl_3, ldd_3, ldi_4, lda_4, ldf_4, ldl_4, ldd_4, ldi_5, lda_5, ldf_5, ldl_5, ldd_5, ldi_6, lda_6, ldf_6, ldl_6, ldd_6, ldi_7, lda_7, ldf_7, ldl_7, ldd_7, ldi_8, lda_8, ldf_8, ldl_8, ldd_8, ldi_9, lda_9, ldf_9, ldl_9, ldd_9, ldi_10, lda_10, ldf_10, ldl_10, ldd_10, ldi_11, lda_11, ldf_11, ldl_11, ldd_11, ldi_12, lda_12, ldf_12, ldl_12, ldd_12, ldi_13, lda_13, ldf_13, ldl_13, ldd_13, ldn_0, ldn_1, ldn_2, ldn_3, ldn_4, ldn_5, ldn_6, ldn_7, ldn_8, ldn_9, ldn_10, ldn_11, ldn_12, ldn_13, sti_0, sta_0, stf_0, sti_1, sta_1, stf_1, sti_2, sta_2, stf_2, sti_3, sta_3, stf_3, sti_4, sta_4, stf_4, sti_5, sta_5, stf_5, sti_6, sta_6, stf_6, sti_7, sta_7, stf_7, sti_8, sta_8, stf_8, sti_9, sta_9, stf_9, sti_10, sta_10, stf_10, sti_11, sta_11, stf_11, sti_12, sta_12, stf_12, sti_13, sta_13, stf_13, stn_0, stn_1, stn_2, stn_3, stn_4, stn_5, stn_6, stn_7, stn_8, stn_9, stn_10, stn_11, stn_12, stn_13, inc_0, inc_1, inc_2, inc_3, inc_4, inc_5, inc_6, inc_7, inc_8, inc_9, inc_10, inc_11, inc_12, inc_13, sw19_2, sw71_2, sw75_39, sw125_11, sw127_18, sw130_17, sw135_20, sw136_19, sw146_44, sw174_83, sw174_183, sw175_11, sw175_106, sw183_11, sw183_128, sw184_17, sw184_92, sw207_17, sw207_123, sw293_60, sw333_6, sw338_20, sw345_20, sw349_20, sw350_20, sw351_6, sw370_7, m_i2f, m_i2d, m_fc1, m_dc0, x_fret, x_dret, m_i2b, m_and255, m_and63, m_shr24, m_shr16, m_shr8, m_shr0, m_shr1, g_astb, m_i2c, x_cret, x_bret, m_gsn, if_pos, if_neg, Bool.false_eq_true, Int.add_zero, Nat.add_zero, Int.reduceEq, Int.zero_add, ne_eq, not_true_eq_false, not_false_eq_true, and_self, and_true, true_and, and_false, false_and, or_true, true_or, or_false, false_or, gs_0, gs_1, gs_2, gs_3, gs_4, gs_5, gs_6, gs_7, gs_8, m_aald, g_aalds, rf_s, rf_n, m_cast, g_casts,  b39_29, e2, e1, m_15and, g_aaldk, r41, ne1, ne2, ne3, m_aast, g_aastk, mt, r59]
  · have K : Km h (mput (mput (mnew h1 (.inr (16, [.int (Int32.ofInt c), .ref k, .ref v, .null])) 4) h.2.1 (mAK 102 16 (va_up (fun _ => none) (c % 16).toNat (some h1.2.1)))) m (.inr (15, [.null, .null, .ref h.2.1, .null, .int (Int32.ofInt (0 + 1)), .int (Int32.ofInt (md + 1)), .int (Int32.ofInt 12), .float lf]))) := by
      intro p X pl p1 p2 p3 p4
      have pm : p ≠ m := fun z => by
        rw [z, a5] at p1
        cases p1
        exact p2 rfl
      rw [h_pn pm, h_pn (by omega), h_nn (by omega), e3 p pm (by omega)]
      exact p1
    have kv1 := kv _ K
    refine ⟨Or.inl a1, by omega, b3 _, Or.inr ⟨h.2.1, _, md + 1, lf, Or.inr (Or.inr (Or.inr ⟨Nat.le_refl _, by show h.2.1 < h1.2.1 + 1; omega⟩)), by rw [h_ps, n0], (h_pn ne3.symm).trans h_ps, fun i hi => ?_⟩⟩
    unfold bkA va_up
    by_cases z : (i : Int) = c % 16
    · rw [if_pos z, a4.2, if_pos (by omega)]
      refine ⟨rfl, ⟨Or.inr (Or.inr (Or.inr ⟨by show h.2.1 ≤ h1.2.1; omega, by show h1.2.1 < h1.2.1 + 1; omega⟩)), Or.inr (Or.inl rfl), Or.inr (Or.inr (Or.inl rfl))⟩, hc, hnu, fun x hx => (by cases hx), kv1.1, ⟨w1, w2, w3, w4, kv1.2⟩, none, ?_, rfl⟩
      rw [h_pn ne2.symm, h_pn ne1.symm]
      exact h_ns
    · rw [if_neg z, a4.2, if_neg (by omega)]
      exact rfl
  · intro p X pl p1 p2 p3 p4
    have pm : p ≠ m := fun z => by
      rw [z, a5] at p1
      cases p1
      exact p2 rfl
    rw [h_pn pm, h_pn (by omega), h_nn (by omega), e3 p pm (by omega)]
    exact p1
  · intro q q1 q2
    have pm : q ≠ m := fun z => q2 (z ▸ a1)
    rw [h_pn pm, h_pn (by omega), h_nn (by omega), e3 q pm (by omega)]
  · show h.2.1 ≤ h1.2.1 + 1
    omega
  · show h1.2.1 + 1 ≤ h.2.1 + 2
    omega
  · show h1.2.2 + 4 ≤ h.2.2 + 20
    omega
theorem R39_b (hE : E.1 ≤ h.2.1) (hA : ∀ q, A q → E.1 ≤ q ∧ q < h.2.1) (a1 : A m) (a2 : 0 ≤ n ∧ n ≤ 5) (a3 : ∀ i x, x ∈ bk i → x.2.2.2.1 % 16 = (i : Int)) {t : Nat} {g : Nat → Option Nat} {md : Int} {lf : UInt32} (a4 : A t) (a5 : h.1 m = some (.inr (15, [.null, .null, .ref t, .null, .int (Int32.ofInt n), .int (Int32.ofInt md), .int (Int32.ofInt 12), .float lf]))) (a6 : h.1 t = some (mAK 102 16 g)) (a7 : ∀ i : Nat, i < 16 → hch A h (bk i) (g i)) (hb : bkc bk c = []) (hn : n ≤ 4) (hk : h.1 k = some (.inr (5, [.int (Int32.ofInt c)]))) (hk2 : k < h.2.1) (hkA : ¬ A k) (hv : ∃ v1 v2 v3 v4, h.1 v = some (.inr (4, [.int (Int32.ofInt nu), v1, v2, v3, v4]))) (hv2 : v < h.2.1) (hc : 0 ≤ c ∧ c < 81) (hnu : 0 ≤ nu ∧ nu < 10) (hno : hfe c (bkc bk c) = none) (hlen : (bkc bk c).length ≤ 6) : ∃ (h' : mH) (N : Nat), mRun E gP 39 [.ref m, .int (Int32.ofInt c), .ref k, .ref v, .int (Int32.ofInt 0), .int (Int32.ofInt 1)] h = some (.inl (some .null), h') ∧ HM (AP A h h' k v) h' m (n + 1) (bkA bk c (N, k, v, c, nu)) ∧ Km h h' ∧ (∀ q, q < h.2.1 → ¬ A q → h'.1 q = h.1 q) ∧ (h.2.1 ≤ h'.2.1 ∧ h'.2.1 ≤ h.2.1 + 2) ∧ h'.2.2 ≤ h.2.2 + 20 := by
  obtain ⟨w1, w2, w3, w4, hv⟩ := hv
  have kv : ∀ g : mH, Km h g → g.1 k = some (.inr (5, [.int (Int32.ofInt c)])) ∧ g.1 v = some (.inr (4, [.int (Int32.ofInt nu), w1, w2, w3, w4])) := fun g K => ⟨K _ _ hk2 hk (by show (5 : Nat) ≠ 15; omega) (by show (5 : Nat) ≠ 16; omega) (by show (5 : Nat) ≠ 1102; omega), K _ _ hv2 hv (by show (4 : Nat) ≠ 15; omega) (by show (4 : Nat) ≠ 16; omega) (by show (4 : Nat) ≠ 1102; omega)⟩
  have hmA := hA _ a1
  have t16 : ((16 : Nat) : Int) = 16 := rfl
  -- the buckets' own cells
  have b3 : ∀ (N i : Nat) (x : hEnt), x ∈ bkA bk c (N, k, v, c, nu) i → x.2.2.2.1 % 16 = (i : Int) := by
    intro N i x hx
    unfold bkA at hx
    by_cases z : (i : Int) = c % 16
    · rw [if_pos z, List.mem_append, List.mem_singleton] at hx
      rcases hx with q | q
      · exact a3 i x q
      · rw [q]; exact z.symm
    · rw [if_neg z] at hx
      exact a3 i x hx
  have htA := hA _ a4
  have ch := a7 (c % 16).toNat (by omega)
  have nmt : m ≠ t := fun z => by rw [z, a6] at a5; cases a5
  have nmN : m ≠ h.2.1 := by omega
  have ntN : t ≠ h.2.1 := by omega
  have r41 := R41 (E := E) (h := h) (c := c) (k := k) (v := v) hE (b := m)
  rw [show bk (c % 16).toNat = bkc bk c from rfl] at ch
  rw [hb] at ch
  have g0 : g (c % 16).toNat = none := ch
  have mt : mtak mSub (mnew h (.inr (16, [.int (Int32.ofInt c), .ref k, .ref v, .null])) 4) 102 (some h.2.1) = true := mtak_s h_ns sub_16
  have r59 := fun y4 y7 y9 => L39_259 (E := E) (h := mput (mnew h (.inr (16, [.int (Int32.ofInt c), .ref k, .ref v, .null])) 4) t (mAK 102 16 (va_up g (c % 16).toNat (some h.2.1)))) (m := m) (n := n) (t := t) (md := md) (lf := lf) (y1 := some (.int (Int32.ofInt c))) (y2 := some (.ref k)) (y3 := some (.ref v)) (y4 := y4) (y6 := some (.ref t)) (y7 := y7) (y8 := some (.int (Int32.ofInt 16))) (y9 := y9) (y10 := none) (y11 := none) (y12 := none) hmA.1 a2 ((h_pn nmt).trans ((h_nn nmN).trans a5))
  have K : Km h (mput (mput (mnew h (.inr (16, [.int (Int32.ofInt c), .ref k, .ref v, .null])) 4) t (mAK 102 16 (va_up g (c % 16).toNat (some h.2.1)))) m (.inr (15, [.null, .null, .ref t, .null, .int (Int32.ofInt (n + 1)), .int (Int32.ofInt (md + 1)), .int (Int32.ofInt 12), .float lf]))) := by
    intro p X pl p1 p2 p3 p4
    have pm : p ≠ m := fun z => by
      rw [z, a5] at p1
      cases p1
      exact p2 rfl
    have pt : p ≠ t := fun z => by
      rw [z, a6] at p1
      cases p1
      exact p4 rfl
    rw [h_pn pm, h_pn pt, h_nn (by omega)]
    exact p1
  have kv1 := kv _ K
  refine ⟨_, h.2.1, ?_, ?_, K, ?_, ⟨?_, ?_⟩, ?_⟩
  · rw [E39_29 a5 a6, lb39_29]
    simp -implicitDefEqProofs (disch := first | assumption | omega | exact sub_5 | exact sub_16 | exact sub_1 | exact sub_3 | exact sub_4 | exact sub_6 | exact sub_7 | exact i8_r | exact cat1_rf | exact cat_rf | exact mf_20 | exact cat1_i | exact cat1_r | exact cat1_n | exact cat_i | exact cat_r | exact cat_n | exact mf_0 | exact mf_4 | exact mf_4n | exact mf_10 | exact mf_11 | exact mnd_0 | exact mnd_i | exact mnd_r | exact mnd_n | exact mnd_f | exact bz_r | exact bz_01 | (simp only [List.length_cons, List.length_nil] <;> omega) | (simp only [wu, Nat.reduceEqDiff, if_true, if_false] <;> first | assumption | omega) | (simp only [h_n1, h_p1] <;> omega)) only [Int.reduceToNat, Nat.reduceDiv, Nat.reduceMod, Nat.reduceAdd, Nat.reduceSub, Int.reduceNeg, Int.reduceAdd, Int.reduceSub, Int.reduceMul, Int.reduceLT, Int.reduceLE, if_true, if_false, List.length_cons, List.length_nil, bz_z, fin_0, fin_1, fin_2, fin_3, x_0, x_Ts, x_Ss, x_iinc, x_iload_n, x_iload, x_lload_n, x_lload, x_fload_n, x_fload, x_dload_n, x_dload, x_aload_n, x_aload, x_istore_n, x_istore, x_astore_n, x_astore, x_fstore_n, x_fstore, x_dstore_n, x_dstore, x_lstore_n, x_lstore, m_iconst, m_bipush, m_sipush, m_ldci, m_ldcr, m_ldcw, m_null, m_gsi, m_gsr, m_add, m_sub, m_mul, m_neg, m_div, m_rem, m_max, m_min, m_abs, m_pop, m_dup, m_dupx1, m_dupx2, m_dup2, m_getf, m_putf, g_puts, m_iald, m_bald, g_alds, m_iast, m_bast, g_asti, g_astz, m_alen, g_lens, m_new, m_newi, m_oinit, h_ps, h_pn, h_ns, h_nn, h_p1, h_n1, h_n2, h_pp, x_goto, x_if, x_icmp, x_nullr, x_nulln, x_nnr, x_nnn, x_fall, z_eq, z_ne, z_lt, z_ge, z_gt, z_le, c_eq, c_ne, c_lt, c_ge, c_gt, c_le, x_ret, x_iret, x_aret, x_nret, x_zret, x_Rv, x_Rn, x_Rx, g_clss, x_Ws, x_Ks, x_cs0, x_cs1, x_cs2, x_cs3, x_cs4, x_cs5, x_cv0, x_cv1, x_cv2, x_cv3, x_cv4, x_ci0, x_ci1, x_ci2, x_ci3, x_ci4, x_cp0, x_cp1, x_cp2, x_cp3, x_cp4, ldi_0, lda_0, ldf_0, ldl_0, ldd_0, ldi_1, lda_1, ldf_1, ldl_1, ldd_1, ldi_2, lda_2, ldf_2, ldl_2, ldd_2, ldi_3, lda_3, ldf_3, ldl_3, ldd_3, ldi_4, lda_4, ldf_4, ldl_4, ldd_4, ldi_5, lda_5, ldf_5, ldl_5, ldd_5, ldi_6, lda_6, ldf_6, ldl_6, ldd_6, ldi_7, lda_7, ldf_7, ldl_7, ldd_7, ldi_8, lda_8, ldf_8, ldl_8, ldd_8, ldi_9, lda_9, ldf_9, ldl_9, ldd_9, ldi_10, lda_10, ldf_10, ldl_10, ldd_10, ldi_11, lda_11, ldf_11, ldl_11, ldd_11, ldi_12, lda_12, ldf_12, ldl_12, ldd_12, ldi_13, lda_13, ldf_13, ldl_13, ldd_13, ldn_0, ldn_1, ldn_2, ldn_3, ldn_4, ldn_5, ldn_6, ldn_7, ldn_8, ldn_9, ldn_10, ldn_11, ldn_12, ldn_13, sti_0, sta_0, stf_0, sti_1, sta_1, stf_1, sti_2, sta_2, stf_2, sti_3, sta_3, stf_3, sti_4, sta_4, stf_4, sti_5, sta_5, stf_5, sti_6, sta_6, stf_6, sti_7, sta_7, stf_7, sti_8, sta_8, stf_8, sti_9, sta_9, stf_9, sti_10, sta_10, stf_10, sti_11, sta_11, stf_11, sti_12, sta_12, stf_12, sti_13, sta_13, stf_13, stn_0, stn_1, stn_2, stn_3, stn_4, stn_5, stn_6, stn_7, stn_8, stn_9, stn_10, stn_11, stn_12, stn_13, inc_0, inc_1, inc_2, inc_3, inc_4, inc_5, inc_6, inc_7, inc_8, inc_9, inc_10, inc_11, inc_12, inc_13, sw19_2, sw71_2, sw75_39, sw125_11, sw127_18, sw130_17, sw135_20, sw136_19, sw146_44, sw174_83, sw174_183, sw175_11, sw175_106, sw183_11, sw183_128, sw184_17, sw184_92, sw207_17, sw207_123, sw293_60, sw333_6, sw338_20, sw345_20, sw349_20, sw350_20, sw351_6, sw370_7, m_i2f, m_i2d, m_fc1, m_dc0, x_fret, x_dret, m_i2b, m_and255, m_and63, m_shr24, m_shr16, m_shr8, m_shr0, m_shr1, g_astb, m_i2c, x_cret, x_bret, m_gsn, if_pos, if_neg, Bool.false_eq_true, Int.add_zero, Nat.add_zero, Int.reduceEq, Int.zero_add, ne_eq, not_true_eq_false, not_false_eq_true, and_self, and_true, true_and, and_false, false_and, or_true, true_or, or_false, false_or, gs_0, gs_1, gs_2, gs_3, gs_4, gs_5, gs_6, gs_7, gs_8, m_aald, g_aalds, rf_s, rf_n, m_cast, g_casts,  b39_29, a5, a6, m_15and, g_aaldk, g0, r41, nmt, nmN, ntN, m_aast, g_aastk, mt, r59]
  · refine ⟨Or.inl a1, by omega, b3 _, Or.inr ⟨t, _, md + 1, lf, Or.inl a4, h_ps, (h_pn nmt.symm).trans h_ps, fun i hi => ?_⟩⟩
    unfold bkA va_up
    by_cases z : (i : Int) = c % 16
    · have iz : i = (c % 16).toNat := by omega
      rw [if_pos z, if_pos iz, show bk i = bkc bk c from by rw [iz]; rfl, hb]
      refine ⟨rfl, ⟨Or.inr (Or.inr (Or.inr ⟨Nat.le_refl _, Nat.lt_succ_self _⟩)), Or.inr (Or.inl rfl), Or.inr (Or.inr (Or.inl rfl))⟩, hc, hnu, fun x hx => (by cases hx), kv1.1, ⟨w1, w2, w3, w4, kv1.2⟩, none, ?_, rfl⟩
      rw [h_pn nmN.symm, h_pn ntN.symm]
      exact h_ns
    · rw [if_neg z, if_neg (by omega)]
      refine hch_fr (h := h) (A := fun q => A q ∧ q ≠ m ∧ q ≠ t) (fun q hq => Or.inl hq.1) (fun q hq => ?_) _ _ ?_
      · have := hA q hq.1
        rw [h_pn hq.2.1, h_pn hq.2.2, h_nn (by omega)]
      · exact hch_not a5 a6 _ _ (a7 i hi)
  · intro q q1 q2
    rw [h_pn (fun z => q2 (by rw [z]; exact a1)), h_pn (fun z => q2 (by rw [z]; exact a4)), h_nn (by omega)]
  · show h.2.1 ≤ h.2.1 + 1
    omega
  · show h.2.1 + 1 ≤ h.2.1 + 2
    omega
  · show h.2.2 + 4 ≤ h.2.2 + 20
    omega
theorem R39_c (hE : E.1 ≤ h.2.1) (hA : ∀ q, A q → E.1 ≤ q ∧ q < h.2.1) (a1 : A m) (a2 : 0 ≤ n ∧ n ≤ 5) (a3 : ∀ i x, x ∈ bk i → x.2.2.2.1 % 16 = (i : Int)) {t : Nat} {g : Nat → Option Nat} {md : Int} {lf : UInt32} (a4 : A t) (a5 : h.1 m = some (.inr (15, [.null, .null, .ref t, .null, .int (Int32.ofInt n), .int (Int32.ofInt md), .int (Int32.ofInt 12), .float lf]))) (a6 : h.1 t = some (mAK 102 16 g)) (a7 : ∀ i : Nat, i < 16 → hch A h (bk i) (g i)) {e : hEnt} {l : List hEnt} (hb : bkc bk c = e :: l) (hn : n ≤ 4) (hk : h.1 k = some (.inr (5, [.int (Int32.ofInt c)]))) (hk2 : k < h.2.1) (hkA : ¬ A k) (hv : ∃ v1 v2 v3 v4, h.1 v = some (.inr (4, [.int (Int32.ofInt nu), v1, v2, v3, v4]))) (hv2 : v < h.2.1) (hc : 0 ≤ c ∧ c < 81) (hnu : 0 ≤ nu ∧ nu < 10) (hno : hfe c (bkc bk c) = none) (hlen : (bkc bk c).length ≤ 6) : ∃ (h' : mH) (N : Nat), mRun E gP 39 [.ref m, .int (Int32.ofInt c), .ref k, .ref v, .int (Int32.ofInt 0), .int (Int32.ofInt 1)] h = some (.inl (some .null), h') ∧ HM (AP A h h' k v) h' m (n + 1) (bkA bk c (N, k, v, c, nu)) ∧ Km h h' ∧ (∀ q, q < h.2.1 → ¬ A q → h'.1 q = h.1 q) ∧ (h.2.1 ≤ h'.2.1 ∧ h'.2.1 ≤ h.2.1 + 2) ∧ h'.2.2 ≤ h.2.2 + 20 := by
  obtain ⟨w1, w2, w3, w4, hv⟩ := hv
  have kv : ∀ g : mH, Km h g → g.1 k = some (.inr (5, [.int (Int32.ofInt c)])) ∧ g.1 v = some (.inr (4, [.int (Int32.ofInt nu), w1, w2, w3, w4])) := fun g K => ⟨K _ _ hk2 hk (by show (5 : Nat) ≠ 15; omega) (by show (5 : Nat) ≠ 16; omega) (by show (5 : Nat) ≠ 1102; omega), K _ _ hv2 hv (by show (4 : Nat) ≠ 15; omega) (by show (4 : Nat) ≠ 16; omega) (by show (4 : Nat) ≠ 1102; omega)⟩
  have hmA := hA _ a1
  have t16 : ((16 : Nat) : Int) = 16 := rfl
  -- the buckets' own cells
  have b3 : ∀ (N i : Nat) (x : hEnt), x ∈ bkA bk c (N, k, v, c, nu) i → x.2.2.2.1 % 16 = (i : Int) := by
    intro N i x hx
    unfold bkA at hx
    by_cases z : (i : Int) = c % 16
    · rw [if_pos z, List.mem_append, List.mem_singleton] at hx
      rcases hx with q | q
      · exact a3 i x q
      · rw [q]; exact z.symm
    · rw [if_neg z] at hx
      exact a3 i x hx
  have htA := hA _ a4
  have ch := a7 (c % 16).toNat (by omega)
  have nmt : m ≠ t := fun z => by rw [z, a6] at a5; cases a5
  have nmN : m ≠ h.2.1 := by omega
  have ntN : t ≠ h.2.1 := by omega
  have r41 := R41 (E := E) (h := h) (c := c) (k := k) (v := v) hE (b := m)
  rw [show bk (c % 16).toNat = bkc bk c from rfl] at ch
  rw [hb] at ch hno hlen
  have oe : g (c % 16).toNat = some e.1 := ch.1
  rw [oe] at ch
  obtain ⟨b1, b2, b3', b4, b5, b6, b7, o', b8, b9⟩ := id ch
  have f1 := hfe_none hno
  have hl2 : 0 + l.length ≤ 6 := by
    simp only [List.length_cons] at hlen
    omega
  obtain ⟨z, z1, z2, -⟩ := hch_snoc (A := A) (h := h) (h' := mnew h (.inr (16, [.int (Int32.ofInt c), .ref k, .ref v, .null])) 4) (c := c) (nu := nu) (k := k) (v := v) (N := h.2.1) (fun q hq => (hA q hq).2) (Nat.le_refl _) hc hnu h_ns ((h_nn (by omega)).trans hk) ⟨w1, w2, w3, w4, (h_nn (by omega)).trans hv⟩ l e ch
  have zA := (hch_mem _ _ ch z z1).1
  have zA2 := hA _ zA
  have nzm : m ≠ z.1 := fun y => by rw [y, z2] at a5; cases a5
  have nzt : t ≠ z.1 := fun y => by rw [y, z2] at a6; cases a6
  have r59 := fun y4 y7 y9 y11 y12 => L39_259 (E := E) (h := mput (mnew h (.inr (16, [.int (Int32.ofInt c), .ref k, .ref v, .null])) 4) z.1 (.inr (16, [.int (Int32.ofInt z.2.2.2.1), .ref z.2.1, .ref z.2.2.1, .ref h.2.1]))) (m := m) (n := n) (t := t) (md := md) (lf := lf) (y1 := some (.int (Int32.ofInt c))) (y2 := some (.ref k)) (y3 := some (.ref v)) (y4 := y4) (y6 := some (.ref t)) (y7 := y7) (y8 := some (.int (Int32.ofInt 16))) (y9 := y9) (y10 := some .null) (y11 := y11) (y12 := y12) hmA.1 a2 ((h_pn nzm).trans ((h_nn nmN).trans a5))
  have r34 := fun y10 y11 (hy11 : mnd y11 = true) => L39_134 (E := E) (A := A) (h := h) (m := m) (k := k) (v := v) (c := c) (y4 := some (.int (Int32.ofInt 0))) (y5 := some (.int (Int32.ofInt 1))) (y6 := some (.ref t)) (y8 := some (.int (Int32.ofInt 16))) (y9 := some (.int (Int32.ofInt (c % 16)))) (by rw [a5]; rfl) hE hA hc mnd_i mnd_r l e y10 y11 0 hy11 ch hno hl2 z z1 z2 (fun y7 y11 y12 => r59 _ y7 _ y11 y12)
  have i0 := fun {k b d : Nat} {r : List Value} => m_inst0 (E := E) (k := k) (b := b) (d := d) (r := r) b8 sub_1640 nsub_1640
  have K : Km h (mput (mput (mnew h (.inr (16, [.int (Int32.ofInt c), .ref k, .ref v, .null])) 4) z.1 (.inr (16, [.int (Int32.ofInt z.2.2.2.1), .ref z.2.1, .ref z.2.2.1, .ref h.2.1]))) m (.inr (15, [.null, .null, .ref t, .null, .int (Int32.ofInt (n + 1)), .int (Int32.ofInt (md + 1)), .int (Int32.ofInt 12), .float lf]))) := by
    intro p X pl p1 p2 p3 p4
    have pm : p ≠ m := fun y => by
      rw [y, a5] at p1
      cases p1
      exact p2 rfl
    have pz : p ≠ z.1 := fun y => by
      rw [y, z2] at p1
      cases p1
      exact p3 rfl
    rw [h_pn pm, h_pn pz, h_nn (by omega)]
    exact p1
  have kv1 := kv _ K
  refine ⟨_, h.2.1, ?_, ?_, K, ?_, ⟨?_, ?_⟩, ?_⟩
  · have c0 : ((0 : Nat) : Int) = 0 := rfl
    simp only [c0] at r34
    rw [E39_29 a5 a6, lb39_29]
    simp -implicitDefEqProofs (disch := first | assumption | omega | exact sub_5 | exact sub_16 | exact sub_1 | exact sub_3 | exact sub_4 | exact sub_6 | exact sub_7 | exact i8_r | exact cat1_rf | exact cat_rf | exact mf_20 | exact cat1_i | exact cat1_r | exact cat1_n | exact cat_i | exact cat_r | exact cat_n | exact mf_0 | exact mf_4 | exact mf_4n | exact mf_10 | exact mf_11 | exact mnd_0 | exact mnd_i | exact mnd_r | exact mnd_n | exact mnd_f | exact bz_r | exact bz_01 | (simp only [List.length_cons, List.length_nil] <;> omega) | (simp only [wu, Nat.reduceEqDiff, if_true, if_false] <;> first | assumption | omega) | (simp only [h_n1, h_p1] <;> omega)) only [Int.reduceToNat, Nat.reduceDiv, Nat.reduceMod, Nat.reduceAdd, Nat.reduceSub, Int.reduceNeg, Int.reduceAdd, Int.reduceSub, Int.reduceMul, Int.reduceLT, Int.reduceLE, if_true, if_false, List.length_cons, List.length_nil, bz_z, fin_0, fin_1, fin_2, fin_3, x_0, x_Ts, x_Ss, x_iinc, x_iload_n, x_iload, x_lload_n, x_lload, x_fload_n, x_fload, x_dload_n, x_dload, x_aload_n, x_aload, x_istore_n, x_istore, x_astore_n, x_astore, x_fstore_n, x_fstore, x_dstore_n, x_dstore, x_lstore_n, x_lstore, m_iconst, m_bipush, m_sipush, m_ldci, m_ldcr, m_ldcw, m_null, m_gsi, m_gsr, m_add, m_sub, m_mul, m_neg, m_div, m_rem, m_max, m_min, m_abs, m_pop, m_dup, m_dupx1, m_dupx2, m_dup2, m_getf, m_putf, g_puts, m_iald, m_bald, g_alds, m_iast, m_bast, g_asti, g_astz, m_alen, g_lens, m_new, m_newi, m_oinit, h_ps, h_pn, h_ns, h_nn, h_p1, h_n1, h_n2, h_pp, x_goto, x_if, x_icmp, x_nullr, x_nulln, x_nnr, x_nnn, x_fall, z_eq, z_ne, z_lt, z_ge, z_gt, z_le, c_eq, c_ne, c_lt, c_ge, c_gt, c_le, x_ret, x_iret, x_aret, x_nret, x_zret, x_Rv, x_Rn, x_Rx, g_clss, x_Ws, x_Ks, x_cs0, x_cs1, x_cs2, x_cs3, x_cs4, x_cs5, x_cv0, x_cv1, x_cv2, x_cv3, x_cv4, x_ci0, x_ci1, x_ci2, x_ci3, x_ci4, x_cp0, x_cp1, x_cp2, x_cp3, x_cp4, ldi_0, lda_0, ldf_0, ldl_0, ldd_0, ldi_1, lda_1, ldf_1, ldl_1, ldd_1, ldi_2, lda_2, ldf_2, ldl_2, ldd_2, ldi_3, lda_3, ldf_3, ldl_3, ldd_3, ldi_4, lda_4, ldf_4, ldl_4, ldd_4, ldi_5, lda_5, ldf_5, ldl_5, ldd_5, ldi_6, lda_6, ldf_6, ldl_6, ldd_6, ldi_7, lda_7, ldf_7, ldl_7, ldd_7, ldi_8, lda_8, ldf_8, ldl_8, ldd_8, ldi_9, lda_9, ldf_9, ldl_9, ldd_9, ldi_10, lda_10, ldf_10, ldl_10, ldd_10, ldi_11, lda_11, ldf_11, ldl_11, ldd_11, ldi_12, lda_12, ldf_12, ldl_12, ldd_12, ldi_13, lda_13, ldf_13, ldl_13, ldd_13, ldn_0, ldn_1, ldn_2, ldn_3, ldn_4, ldn_5, ldn_6, ldn_7, ldn_8, ldn_9, ldn_10, ldn_11, ldn_12, ldn_13, sti_0, sta_0, stf_0, sti_1, sta_1, stf_1, sti_2, sta_2, stf_2, sti_3, sta_3, stf_3, sti_4, sta_4, stf_4, sti_5, sta_5, stf_5, sti_6, sta_6, stf_6, sti_7, sta_7, stf_7, sti_8, sta_8, stf_8, sti_9, sta_9, stf_9, sti_10, sta_10, stf_10, sti_11, sta_11, stf_11, sti_12, sta_12, stf_12, sti_13, sta_13, stf_13, stn_0, stn_1, stn_2, stn_3, stn_4, stn_5, stn_6, stn_7, stn_8, stn_9, stn_10, stn_11, stn_12, stn_13, inc_0, inc_1, inc_2, inc_3, inc_4, inc_5, inc_6, inc_7, inc_8, inc_9, inc_10, inc_11, inc_12, inc_13, sw19_2, sw71_2, sw75_39, sw125_11, sw127_18, sw130_17, sw135_20, sw136_19, sw146_44, sw174_83, sw174_183, sw175_11, sw175_106, sw183_11, sw183_128, sw184_17, sw184_92, sw207_17, sw207_123, sw293_60, sw333_6, sw338_20, sw345_20, sw349_20, sw350_20, sw351_6, sw370_7, m_i2f, m_i2d, m_fc1, m_dc0, x_fret, x_dret, m_i2b, m_and255, m_and63, m_shr24, m_shr16, m_shr8, m_shr0, m_shr1, g_astb, m_i2c, x_cret, x_bret, m_gsn, if_pos, if_neg, Bool.false_eq_true, Int.add_zero, Nat.add_zero, Int.reduceEq, Int.zero_add, ne_eq, not_true_eq_false, not_false_eq_true, and_self, and_true, true_and, and_false, false_and, or_true, true_or, or_false, false_or, gs_0, gs_1, gs_2, gs_3, gs_4, gs_5, gs_6, gs_7, gs_8, m_aald, g_aalds, rf_s, rf_n, m_cast, g_casts,  b39_29, lb39_63, b39_63, lb39_104, b39_104, lb39_131, b39_131, a5, a6, m_15and, g_aaldk, oe, b8, f1.1, i0, r34]
  · refine ⟨Or.inl a1, by omega, b3 _, Or.inr ⟨t, g, md + 1, lf, Or.inl a4, h_ps, (h_pn nmt.symm).trans ((h_pn nzt).trans ((h_nn ntN).trans a6)), fun i hi => ?_⟩⟩
    unfold bkA
    by_cases y : (i : Int) = c % 16
    · have iz : i = (c % 16).toNat := by omega
      rw [if_pos y, show bk i = bkc bk c from by rw [iz]; rfl, hb, iz, oe]
      obtain ⟨z', y1, y2, y3⟩ := hch_snoc (A := fun q => A q ∧ q ≠ m ∧ q ≠ t) (h := h) (h' := mput (mput (mnew h (.inr (16, [.int (Int32.ofInt c), .ref k, .ref v, .null])) 4) z.1 (.inr (16, [.int (Int32.ofInt z.2.2.2.1), .ref z.2.1, .ref z.2.2.1, .ref h.2.1]))) m (.inr (15, [.null, .null, .ref t, .null, .int (Int32.ofInt (n + 1)), .int (Int32.ofInt (md + 1)), .int (Int32.ofInt 12), .float lf]))) (c := c) (nu := nu) (k := k) (v := v) (N := h.2.1) (fun q hq => (hA q hq.1).2) (Nat.le_refl _) hc hnu (by rw [h_pn nmN.symm, h_pn (by omega)]; exact h_ns) kv1.1 ⟨w1, w2, w3, w4, kv1.2⟩ l e (hch_not a5 a6 _ _ ch)
      have zz : z' = z := hch_last l e ch y1 y2 z1 z2
      rw [zz] at y3
      refine hch_fr (fun q hq => ?_) (fun q _ => rfl) _ _ (y3 ((h_pn nzm.symm).trans h_ps) (fun q hq hq2 => ?_))
      · rcases hq with u | u | u | u
        · exact Or.inl u.1
        · exact Or.inr (Or.inr (Or.inr ⟨by omega, by show q < h.2.1 + 1; omega⟩))
        · exact Or.inr (Or.inl u)
        · exact Or.inr (Or.inr (Or.inl u))
      · have := hA q hq.1
        rw [h_pn hq.2.1, h_pn hq2, h_nn (by omega)]
    · rw [if_neg y]
      refine hch_fr (h := h) (A := fun q => A q ∧ q ≠ m ∧ q ≠ z.1) (fun q hq => Or.inl hq.1) (fun q hq => ?_) _ _ ?_
      · have := hA q hq.1
        rw [h_pn hq.2.1, h_pn hq.2.2, h_nn (by omega)]
      · refine hch_not2 a5 z2 _ _ (fun x hx hxz => ?_) (a7 i hi)
        have u1 := a3 i x hx
        have u2 := a3 (c % 16).toNat z (by rw [show bk (c % 16).toNat = bkc bk c from rfl, hb]; exact z1)
        obtain ⟨-, x3, o3, x4⟩ := hch_mem _ _ (a7 i hi) x hx
        obtain ⟨-, x5, -⟩ := hch_mem _ _ ch z z1
        rw [hxz, z2] at x4
        injection x4 with x4
        injection x4 with x4
        injection x4 with _ x4
        injection x4 with x4
        injection x4 with x4
        have x6 := (i_eq (x := z.2.2.2.1) (y := x.2.2.2.1) (by omega) (by omega)).mp x4
        omega
  · intro q q1 q2
    rw [h_pn (fun y => q2 (by rw [y]; exact a1)), h_pn (fun y => q2 (by rw [y]; exact zA)), h_nn (by omega)]
  · show h.2.1 ≤ h.2.1 + 1
    omega
  · show h.2.1 + 1 ≤ h.2.1 + 2
    omega
  · show h.2.2 + 4 ≤ h.2.2 + 20
    omega
theorem R39 (hE : E.1 ≤ h.2.1) (hA : ∀ q, A q → E.1 ≤ q ∧ q < h.2.1) (hm : HM A h m n bk) (hn : n ≤ 4) (hk : h.1 k = some (.inr (5, [.int (Int32.ofInt c)]))) (hk2 : k < h.2.1) (hkA : ¬ A k) (hv : ∃ v1 v2 v3 v4, h.1 v = some (.inr (4, [.int (Int32.ofInt nu), v1, v2, v3, v4]))) (hv2 : v < h.2.1) (hc : 0 ≤ c ∧ c < 81) (hnu : 0 ≤ nu ∧ nu < 10) (hno : hfe c (bkc bk c) = none) (hlen : (bkc bk c).length ≤ 6) : ∃ (h' : mH) (N : Nat), mRun E gP 39 [.ref m, .int (Int32.ofInt c), .ref k, .ref v, .int (Int32.ofInt 0), .int (Int32.ofInt 1)] h = some (.inl (some .null), h') ∧ HM (AP A h h' k v) h' m (n + 1) (bkA bk c (N, k, v, c, nu)) ∧ Km h h' ∧ (∀ q, q < h.2.1 → ¬ A q → h'.1 q = h.1 q) ∧ (h.2.1 ≤ h'.2.1 ∧ h'.2.1 ≤ h.2.1 + 2) ∧ h'.2.2 ≤ h.2.2 + 20 := by
  obtain ⟨a1, a2, a3, ⟨a4, md, lf, a5⟩ | ⟨t, g, md, lf, a4, a5, a6, a7⟩⟩ := hm
  · exact R39_a hE hA a1 a2 a3 a4 a5 hn hk hk2 hkA hv hv2 hc hnu hno hlen
  · cases hb : bkc bk c with
    | nil => exact R39_b hE hA a1 a2 a3 a4 a5 a6 a7 hb hn hk hk2 hkA hv hv2 hc hnu hno hlen
    | cons e l => exact R39_c hE hA a1 a2 a3 a4 a5 a6 a7 hb hn hk hk2 hkA hv hv2 hc hnu hno hlen
end PU
