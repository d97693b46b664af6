/-! MC component 11: a State's twin, assembled -/
set_option maxRecDepth 100000
section CL
variable {E : mE} {h : mH} {a k b q n t : Nat} {r : List Value}
theorem m_clone {f : Int → Int} (ha : h.1 a = some (mAI 0 n f)) (hE : E.1 ≤ a) (hn : n ≤ 65536) (hr : r.length ≤ 8) : mstep E gP (.invokevirtual k, 0, 0, b, 0) (.ref a :: r) h = some (.ref h.2.1 :: r, mnew h (mAI 0 n f) n) := by
  show s_clone E (.ref a :: r) h 0 = _
  unfold s_clone
  dsimp only
  rw [ha]
  exact if_pos ⟨rfl, Or.inl rfl, hn, hE, hr, fun _ _ => rfl⟩
theorem m_casta {f : Int → Int} (ha : h.1 a = some (mAI 0 n f)) (hE : E.1 ≤ a) : mstep E gP (.checkcast q, 0, 0, b, 1) (.ref a :: r) h = some (.ref a :: r, h) := by
  show s_castA E (.ref a :: r) h 0 = _
  unfold s_castA
  dsimp only
  rw [ha]
  exact if_pos ⟨rfl, hE⟩
end CL
theorem newS_o {a sq q : Nat} {h : mH} {x : Int32} (hq : q < h.2.1) (ha : q ≠ a) : (newS a h sq x).1 q = h.1 q := by
  show (if _ then _ else _) = _
  rw [if_neg ha, if_neg (by omega), if_neg (by omega), if_neg (by omega)]
theorem newS_a {a sq : Nat} {h : mH} {x : Int32} : (newS a h sq x).1 a = some (.inr (1, [.ref sq, .int x, .ref h.2.1, .ref (h.2.1 + 2), .ref (h.2.1 + 4), .ref (h.2.1 + 6), .ref (h.2.1 + 8), .int 0])) := if_pos rfl
theorem newS_l {a sq l : Nat} {h : mH} {x : Int32} (ha : a < h.2.1) (hl : l = 0 ∨ l = 2 ∨ l = 4 ∨ l = 6) {B : Int → Nat} : FL (newS a h sq x) (h.2.1 + l) (h.2.1 + l + 1) 2 0 B := by
  refine ⟨Int32.ofInt 0, fun _ => none, ?_, ?_, by omega, fun k hk => absurd hk (Nat.not_lt_zero _)⟩
  · show (if _ then _ else _) = _
    rw [if_neg (by omega), if_neg (by omega), if_pos (by omega)]
    rfl
  · show (if _ then _ else _) = _
    rw [if_neg (by omega), if_neg (by omega), if_neg (by omega), if_pos (by omega)]
theorem newS_t {a sq : Nat} {h : mH} {x : Int32} (ha : a < h.2.1) : (newS a h sq x).1 (h.2.1 + 8) = some (mAI 0 7 (fun _ => 0)) := by
  show (if _ then _ else _) = _
  rw [if_neg (by omega), if_pos rfl]
/-- of a list that is filled: what is left when more is made -/
theorem Fill_0 {g0 : mH} {l ar0 : Nat} {ob : Int → mC} {B : Int → Nat} (hf : FL g0 l ar0 2 0 B) (ha : ar0 < g0.2.1) : Fill g0 l ar0 ob 0 0 g0 := ⟨fun _ _ _ _ => rfl, ⟨Nat.le_refl _, Nat.le_refl _⟩, Nat.le_refl _, ar0, 2, B, hf, Or.inl rfl, ha, fun j hj => absurd hj (Nat.not_lt_zero _), fun i j _ hj => absurd hj (Nat.not_lt_zero _)⟩
theorem FL_keep {h h' : mH} {l ar cap n : Nat} {B : Int → Nat} (e1 : h'.1 l = h.1 l) (e2 : h'.1 ar = h.1 ar) (hf : FL h l ar cap n B) : FL h' l ar cap n B := by
  obtain ⟨m, g, a1, a2, a3, a4⟩ := hf
  exact ⟨m, g, e1.trans a1, e2.trans a2, a3, a4⟩
theorem inj_of {B : Int → Nat} {n : Nat} {i j : Int} (hB : ∀ i j : Nat, i < j → j < n → B i ≠ B j) (i0 : 0 ≤ i) (i1 : i < (n : Int)) (j0 : 0 ≤ j) (j1 : j < (n : Int)) (e : B i = B j) : i = j := by
  obtain ⟨x, rfl⟩ := Int.eq_ofNat_of_zero_le i0
  obtain ⟨y, rfl⟩ := Int.eq_ofNat_of_zero_le j0
  by_cases h1 : x < y
  · exact absurd e (hB x y h1 (by omega))
  · by_cases h2 : y < x
    · exact absurd e.symm (hB y x h2 (by omega))
    · omega
section T6
variable {E : mE} {h : mH} {a : Nat} {F : Int → Int} {s : Nat → Nat} {B W C L : Int → Nat}
/-- the new State's parts -/
def partS (s : Nat → Nat) (N ta ab aw ac al : Nat) : Nat → Nat := fun i => match i with
  | 0 => s 0
  | 1 => N + 1
  | 2 => N + 3
  | 3 => N + 5
  | 4 => N + 7
  | 5 => ta
  | 6 => s 6
  | 7 => s 7
  | 11 => ab
  | 12 => aw
  | 13 => ac
  | _ => al
theorem L206_180 {g : mH} {N n1 n2 n3 n4 n5 : Nat} (hS : St g a F s B W C L) (hE : E.1 ≤ s 5) (h5 : s 5 < g.2.1) (hN : E.1 ≤ N) (hl : N < g.2.1) (h2c : g.1 N = some (.inr (1, [.ref (s 0), .int (Int32.ofInt (F 2)), .ref n1, .ref n2, .ref n3, .ref n4, .ref n5, .int 0]))) (hne : a ≠ N) (hal : a < g.2.1) (hEg : E.1 ≤ g.2.1) : ∃ f : Int → Int, (∀ j, 0 ≤ j → j < 7 → f j = F (8 + j)) ∧ mV E gP (206, 180, [some (.ref a), some (.ref N), none], [], g) = some (.inl (some (.ref N)), mput (mnew g (mAI 0 7 f) 7) N (.inr (1, [.ref (s 0), .int (Int32.ofInt (F 2)), .ref n1, .ref n2, .ref n3, .ref n4, .ref g.2.1, .int (Int32.ofInt (F 7))]))) := by
  obtain ⟨q1, q2, ⟨wf, w1, w2⟩, ⟨lb, lw, lc, ll⟩, ⟨tf, t1, t2⟩, ob, ow, oc, ol⟩ := id hS; unfold S1 at q1; have q2u := id q2; unfold S2 at q2u
  refine ⟨tf, t2, ?_⟩
  have e1 : N ≠ g.2.1 := by omega
  have e2 : a ≠ g.2.1 := by omega
  rw [lb206_180]
  simp (disch := first | assumption | omega | exact sub_1 | exact sub_3 | exact sub_4 | exact sub_6 | exact sub_7 | exact i8_r | exact cat1_rf | exact cat_rf | exact mf_20 | exact cat1_i | exact cat1_r | exact cat1_n | exact cat_i | exact cat_r | exact cat_n | exact mf_0 | exact mf_4 | exact mf_4n | exact mf_10 | exact mf_11 | exact mnd_0 | exact mnd_i | exact mnd_r | exact mnd_n | exact mnd_f | exact bz_r | exact bz_01 | (simp only [List.length_cons, List.length_nil] <;> omega) | (simp only [wu, Nat.reduceEqDiff, if_true, if_false] <;> first | assumption | omega) | (simp only [h_n1, h_p1] <;> omega)) only [Int.reduceToNat, Nat.reduceDiv, Nat.reduceMod, Nat.reduceAdd, Nat.reduceSub, Int.reduceNeg, Int.reduceAdd, Int.reduceSub, Int.reduceMul, Int.reduceLT, Int.reduceLE, if_true, if_false, List.length_cons, List.length_nil, bz_z, fin_0, fin_1, fin_2, fin_3, x_0, x_Ts, x_Ss, x_iinc, x_iload_n, x_iload, x_lload_n, x_lload, x_fload_n, x_fload, x_dload_n, x_dload, x_aload_n, x_aload, x_istore_n, x_istore, x_astore_n, x_astore, x_fstore_n, x_fstore, x_dstore_n, x_dstore, x_lstore_n, x_lstore, m_iconst, m_bipush, m_sipush, m_ldci, m_ldcr, m_ldcw, m_null, m_gsi, m_gsr, m_add, m_sub, m_mul, m_neg, m_div, m_rem, m_max, m_min, m_abs, m_pop, m_dup, m_dupx1, m_dupx2, m_dup2, m_getf, m_putf, g_puts, m_iald, m_bald, g_alds, m_iast, m_bast, g_asti, g_astz, m_alen, g_lens, m_new, m_newi, m_oinit, h_ps, h_pn, h_ns, h_nn, h_p1, h_n1, h_n2, h_pp, x_goto, x_if, x_icmp, x_nullr, x_nulln, x_nnr, x_nnn, x_fall, z_eq, z_ne, z_lt, z_ge, z_gt, z_le, c_eq, c_ne, c_lt, c_ge, c_gt, c_le, x_ret, x_iret, x_aret, x_nret, x_zret, x_Rv, x_Rn, x_Rx, g_clss, x_Ws, x_Ks, x_cs0, x_cs1, x_cs2, x_cs3, x_cs4, x_cs5, x_cv0, x_cv1, x_cv2, x_cv3, x_cv4, x_ci0, x_ci1, x_ci2, x_ci3, x_ci4, x_cp0, x_cp1, x_cp2, x_cp3, x_cp4, ldi_0, lda_0, ldf_0, ldl_0, ldd_0, ldi_1, lda_1, ldf_1, ldl_1, ldd_1, ldi_2, lda_2, ldf_2, ldl_2, ldd_2, ldi_3, lda_3, ldf_3, ldl_3, ldd_3, ldi_4, lda_4, ldf_4, ldl_4, ldd_4, ldi_5, lda_5, ldf_5, ldl_5, ldd_5, ldi_6, lda_6, ldf_6, ldl_6, ldd_6, ldi_7, lda_7, ldf_7, ldl_7, ldd_7, ldi_8, lda_8, ldf_8, ldl_8, ldd_8, ldi_9, lda_9, ldf_9, ldl_9, ldd_9, ldi_10, lda_10, ldf_10, ldl_10, ldd_10, ldi_11, lda_11, ldf_11, ldl_11, ldd_11, ldi_12, lda_12, ldf_12, ldl_12, ldd_12, ldi_13, lda_13, ldf_13, ldl_13, ldd_13, ldn_0, ldn_1, ldn_2, ldn_3, ldn_4, ldn_5, ldn_6, ldn_7, ldn_8, ldn_9, ldn_10, ldn_11, ldn_12, ldn_13, sti_0, sta_0, stf_0, sti_1, sta_1, stf_1, sti_2, sta_2, stf_2, sti_3, sta_3, stf_3, sti_4, sta_4, stf_4, sti_5, sta_5, stf_5, sti_6, sta_6, stf_6, sti_7, sta_7, stf_7, sti_8, sta_8, stf_8, sti_9, sta_9, stf_9, sti_10, sta_10, stf_10, sti_11, sta_11, stf_11, sti_12, sta_12, stf_12, sti_13, sta_13, stf_13, stn_0, stn_1, stn_2, stn_3, stn_4, stn_5, stn_6, stn_7, stn_8, stn_9, stn_10, stn_11, stn_12, stn_13, inc_0, inc_1, inc_2, inc_3, inc_4, inc_5, inc_6, inc_7, inc_8, inc_9, inc_10, inc_11, inc_12, inc_13, sw19_2, sw71_2, sw75_39, sw125_11, sw127_18, sw130_17, sw135_20, sw136_19, sw146_44, sw174_83, sw174_183, sw175_11, sw175_106, sw183_11, sw183_128, sw184_17, sw184_92, sw207_17, sw207_123, sw293_60, sw333_6, sw338_20, sw345_20, sw349_20, sw350_20, sw351_6, sw370_7, m_i2f, m_i2d, m_fc1, m_dc0, x_fret, x_dret, m_i2b, m_and255, m_and63, m_shr24, m_shr16, m_shr8, m_shr0, m_shr1, g_astb, m_i2c, x_cret, x_bret, m_gsn, if_pos, if_neg, Bool.false_eq_true, Int.add_zero, Nat.add_zero, Int.reduceEq, Int.zero_add, ne_eq, not_true_eq_false, not_false_eq_true, and_self, and_true, true_and, and_false, false_and, or_true, true_or, or_false, false_or, gs_0, gs_1, gs_2, gs_3, gs_4, gs_5, gs_6, gs_7, gs_8, m_aald, g_aalds, rf_s, rf_n, m_cast, g_casts,  b206_180, m_clone t1, m_casta (f := tf) (n := 7) h_ns, q1, h2c, e1, e2, hne, List.set_cons_zero, List.set_cons_succ]
set_option maxHeartbeats 4000000 in
theorem R206 (hF : WF F) (hS : St h a F s B W C L) (hI : In (fun q => E.1 ≤ q ∧ q < h.2.1) (fun _ => True) a F s B W C L) (hE : E.1 ≤ h.2.1) : ∃ (h' : mH) (s' : Nat → Nat) (B' W' C' L' : Int → Nat), mRun E gP 206 [.ref a] h = some (.inl (some (.ref h.2.1)), h') ∧ St h' h.2.1 F s' B' W' C' L' ∧ In (fun q => (E.1 ≤ q ∧ q < h'.2.1) ∧ (h.2.1 ≤ q ∨ q = s 0 ∨ q = s 6)) (fun q => h.2.1 ≤ q) h.2.1 F s' B' W' C' L' ∧ (s' 0 = s 0 ∧ s' 6 = s 6 ∧ s' 7 = s 7) ∧ (∀ q, q < h.2.1 → h'.1 q = h.1 q) ∧ (h.2.1 ≤ h'.2.1 ∧ h'.2.1 ≤ h.2.1 + 60) ∧ h'.2.2 ≤ h.2.2 + 1600 := by
  obtain ⟨h0, h1, h2, h3, h4, h5, h6, h7, h8, h9, h10, h11, h12⟩ := id hF; have hcc := hF.cells
  generalize hN : h.2.1 = N at *
  obtain ⟨i1, i2, i3, i4, i5, i6, i7, i8⟩ := id hI
  -- the new State, its lists empty
  have e0 : (mnew h (.inr (1, mDf 1)) 8).2.1 = N + 1 := by rw [← hN]; rfl
  have ha0 : (mnew h (.inr (1, mDf 1)) 8).1 N = some (.inr (1, mDf 1)) := by rw [← hN]; exact h_ns
  have r1 := R201 (E := E) (h := mnew h (.inr (1, mDf 1)) 8) (a := N) (sq := s 0) (x := Int32.ofInt (F 2)) hE (by rw [e0]; omega) ha0
  generalize hg0 : newS N (mnew h (.inr (1, mDf 1)) 8) (s 0) (Int32.ofInt (F 2)) = g0 at *
  have z0 : g0.2.1 = N + 10 ∧ g0.2.2 = h.2.2 + 35 := by rw [← hg0]; exact ⟨by show (mnew h (.inr (1, mDf 1)) 8).2.1 + 9 = _; omega, rfl⟩
  have o0 : ∀ q, q < N → g0.1 q = h.1 q := by
    intro q hq
    rw [← hg0, newS_o (by omega) (by omega), h_nn (by omega)]
  have a0 : g0.1 N = some (.inr (1, [.ref (s 0), .int (Int32.ofInt (F 2)), .ref (N + 1), .ref (N + 3), .ref (N + 5), .ref (N + 7), .ref (N + 9), .int 0])) := by
    rw [← hg0, newS_a, e0]
  have l0 : ∀ l, (l = 0 ∨ l = 2 ∨ l = 4 ∨ l = 6) → FL g0 (N + 1 + l) (N + 1 + l + 1) 2 0 B := by
    intro l hl
    have := newS_l (a := N) (sq := s 0) (h := mnew h (.inr (1, mDf 1)) 8) (x := Int32.ofInt (F 2)) (l := l) (B := B) (by rw [e0]; omega) hl
    rw [e0, hg0] at this
    exact this
  have In0 : ∀ (M l ar : Nat), N ≤ M → N ≤ l → N ≤ ar → In (fun q => q < M ∧ q ≠ l ∧ q ≠ ar) (fun _ => True) a F s B W C L := fun M l ar h1 h2 h3 => In_mono (fun q hq => ⟨by omega, by omega, by omega⟩) (fun _ _ _ => trivial) hI
  have S0 : St g0 a F s B W C L := St_frame hI (fun q hq => o0 q hq.2) hS
  -- banks
  have c0 := (L206_18 (E := E) (a2 := N) hF (g0 := g0) (l := N + 1) (ar0 := N + 2) (by omega) (by omega) (by omega) S0 (In0 _ _ _ (by omega) (by omega) (by omega)) a0 rfl (by omega) (F 3).toNat 0 g0 (by omega) (Fill_0 (l0 0 (Or.inl rfl)) (by omega)))
  obtain ⟨g1, f1, t1⟩ := c0
  obtain ⟨f1a, f1b, f1c, ab, capb, B', f1d, f1e, f1f, f1g, f1h⟩ := id f1
  have S1' : St g1 a F s B W C L := St_frame hI (fun q hq => (f1a q (by omega) (by omega) (by omega)).trans (o0 q hq.2)) hS
  have a1 : g1.1 N = some (.inr (1, [.ref (s 0), .int (Int32.ofInt (F 2)), .ref (N + 1), .ref (N + 3), .ref (N + 5), .ref (N + 7), .ref (N + 9), .int 0])) := (f1a N (by omega) (by omega) (by omega)).trans a0
  have l1 : FL g1 (N + 3) (N + 4) 2 0 B := FL_keep (f1a _ (by omega) (by omega) (by omega)) (f1a _ (by omega) (by omega) (by omega)) (l0 2 (Or.inr (Or.inl rfl)))
  -- watchers
  obtain ⟨g2, f2, t2⟩ := L206_59 (E := E) (a2 := N) hF (g0 := g1) (l := N + 3) (ar0 := N + 4) (by omega) (by omega) (by omega) S1' (In0 _ _ _ (by omega) (by omega) (by omega)) a1 rfl (by omega) (F 4).toNat 0 g1 (by omega) (Fill_0 l1 (by omega))
  obtain ⟨f2a, f2b, f2c, aw, capw, W', f2d, f2e, f2f, f2g, f2h⟩ := id f2
  have S2' : St g2 a F s B W C L := St_frame hI (fun q hq => (f2a q (by omega) (by omega) (by omega)).trans ((f1a q (by omega) (by omega) (by omega)).trans (o0 q hq.2))) hS
  have a2 : g2.1 N = some (.inr (1, [.ref (s 0), .int (Int32.ofInt (F 2)), .ref (N + 1), .ref (N + 3), .ref (N + 5), .ref (N + 7), .ref (N + 9), .int 0])) := (f2a N (by omega) (by omega) (by omega)).trans a1
  have l2 : FL g2 (N + 5) (N + 6) 2 0 B := FL_keep (f2a _ (by omega) (by omega) (by omega)) (f2a _ (by omega) (by omega) (by omega)) (FL_keep (f1a _ (by omega) (by omega) (by omega)) (f1a _ (by omega) (by omega) (by omega)) (l0 4 (Or.inr (Or.inr (Or.inl rfl)))))
  -- couriers
  obtain ⟨g3, f3, t3⟩ := L206_100 (E := E) (a2 := N) hF (g0 := g2) (l := N + 5) (ar0 := N + 6) (by omega) (by omega) (by omega) S2' (In0 _ _ _ (by omega) (by omega) (by omega)) a2 rfl (by omega) (F 5).toNat 0 g2 (by omega) (Fill_0 l2 (by omega))
  obtain ⟨f3a, f3b, f3c, ac, capc, C', f3d, f3e, f3f, f3g, f3h⟩ := id f3
  have S3' : St g3 a F s B W C L := St_frame hI (fun q hq => (f3a q (by omega) (by omega) (by omega)).trans ((f2a q (by omega) (by omega) (by omega)).trans ((f1a q (by omega) (by omega) (by omega)).trans (o0 q hq.2)))) hS
  have a3 : g3.1 N = some (.inr (1, [.ref (s 0), .int (Int32.ofInt (F 2)), .ref (N + 1), .ref (N + 3), .ref (N + 5), .ref (N + 7), .ref (N + 9), .int 0])) := (f3a N (by omega) (by omega) (by omega)).trans a2
  have l3 : FL g3 (N + 7) (N + 8) 2 0 B := FL_keep (f3a _ (by omega) (by omega) (by omega)) (f3a _ (by omega) (by omega) (by omega)) (FL_keep (f2a _ (by omega) (by omega) (by omega)) (f2a _ (by omega) (by omega) (by omega)) (FL_keep (f1a _ (by omega) (by omega) (by omega)) (f1a _ (by omega) (by omega) (by omega)) (l0 6 (Or.inr (Or.inr (Or.inr rfl))))))
  -- letters
  obtain ⟨g4, f4, t4⟩ := L206_141 (E := E) (a2 := N) hF (g0 := g3) (l := N + 7) (ar0 := N + 8) (by omega) (by omega) (by omega) S3' (In0 _ _ _ (by omega) (by omega) (by omega)) a3 rfl (by omega) (F 6).toNat 0 g3 (by omega) (Fill_0 l3 (by omega))
  obtain ⟨f4a, f4b, f4c, al, capl, L', f4d, f4e, f4f, f4g, f4h⟩ := id f4
  have old4 : ∀ q, q < N → g4.1 q = h.1 q := fun q hq => (f4a q (by omega) (by omega) (by omega)).trans ((f3a q (by omega) (by omega) (by omega)).trans ((f2a q (by omega) (by omega) (by omega)).trans ((f1a q (by omega) (by omega) (by omega)).trans (o0 q hq))))
  have S4' : St g4 a F s B W C L := St_frame hI (fun q hq => old4 q hq.2) hS
  have a4 : g4.1 N = some (.inr (1, [.ref (s 0), .int (Int32.ofInt (F 2)), .ref (N + 1), .ref (N + 3), .ref (N + 5), .ref (N + 7), .ref (N + 9), .int 0])) := (f4a N (by omega) (by omega) (by omega)).trans a3
  obtain ⟨f, t5a, t5⟩ := L206_180 (E := E) S4' i4.1.1 (by omega) (by omega) (by omega) a4 (by omega) (by omega) (by omega)
  have run : mRun E gP 206 [.ref a] h = some (.inl (some (.ref N)), mput (mnew g4 (mAI 0 7 f) 7) N (.inr (1, [.ref (s 0), .int (Int32.ofInt (F 2)), .ref (N + 1), .ref (N + 3), .ref (N + 5), .ref (N + 7), .ref g4.2.1, .int (Int32.ofInt (F 7))]))) := by
    have c4 := t4 _ t5
    have d4 : mV E gP (206, 139, [some (.ref a), some (.ref N), none], [], g3) = some (.inl (some (.ref N)), mput (mnew g4 (mAI 0 7 f) 7) N (.inr (1, [.ref (s 0), .int (Int32.ofInt (F 2)), .ref (N + 1), .ref (N + 3), .ref (N + 5), .ref (N + 7), .ref g4.2.1, .int (Int32.ofInt (F 7))]))) := by
      rw [lb206_139]
      simp (disch := first | assumption | omega | exact sub_1 | exact sub_3 | exact sub_4 | exact sub_6 | exact sub_7 | exact i8_r | exact cat1_rf | exact cat_rf | exact mf_20 | exact cat1_i | exact cat1_r | exact cat1_n | exact cat_i | exact cat_r | exact cat_n | exact mf_0 | exact mf_4 | exact mf_4n | exact mf_10 | exact mf_11 | exact mnd_0 | exact mnd_i | exact mnd_r | exact mnd_n | exact mnd_f | exact bz_r | exact bz_01 | (simp only [List.length_cons, List.length_nil] <;> omega) | (simp only [wu, Nat.reduceEqDiff, if_true, if_false] <;> first | assumption | omega) | (simp only [h_n1, h_p1] <;> omega)) only [Int.reduceToNat, Nat.reduceDiv, Nat.reduceMod, Nat.reduceAdd, Nat.reduceSub, Int.reduceNeg, Int.reduceAdd, Int.reduceSub, Int.reduceMul, Int.reduceLT, Int.reduceLE, if_true, if_false, List.length_cons, List.length_nil, bz_z, fin_0, fin_1, fin_2, fin_3, x_0, x_Ts, x_Ss, x_iinc, x_iload_n, x_iload, x_lload_n, x_lload, x_fload_n, x_fload, x_dload_n, x_dload, x_aload_n, x_aload, x_istore_n, x_istore, x_astore_n, x_astore, x_fstore_n, x_fstore, x_dstore_n, x_dstore, x_lstore_n, x_lstore, m_iconst, m_bipush, m_sipush, m_ldci, m_ldcr, m_ldcw, m_null, m_gsi, m_gsr, m_add, m_sub, m_mul, m_neg, m_div, m_rem, m_max, m_min, m_abs, m_pop, m_dup, m_dupx1, m_dupx2, m_dup2, m_getf, m_putf, g_puts, m_iald, m_bald, g_alds, m_iast, m_bast, g_asti, g_astz, m_alen, g_lens, m_new, m_newi, m_oinit, h_ps, h_pn, h_ns, h_nn, h_p1, h_n1, h_n2, h_pp, x_goto, x_if, x_icmp, x_nullr, x_nulln, x_nnr, x_nnn, x_fall, z_eq, z_ne, z_lt, z_ge, z_gt, z_le, c_eq, c_ne, c_lt, c_ge, c_gt, c_le, x_ret, x_iret, x_aret, x_nret, x_zret, x_Rv, x_Rn, x_Rx, g_clss, x_Ws, x_Ks, x_cs0, x_cs1, x_cs2, x_cs3, x_cs4, x_cs5, x_cv0, x_cv1, x_cv2, x_cv3, x_cv4, x_ci0, x_ci1, x_ci2, x_ci3, x_ci4, x_cp0, x_cp1, x_cp2, x_cp3, x_cp4, ldi_0, lda_0, ldf_0, ldl_0, ldd_0, ldi_1, lda_1, ldf_1, ldl_1, ldd_1, ldi_2, lda_2, ldf_2, ldl_2, ldd_2, ldi_3, lda_3, ldf_3, ldl_3, ldd_3, ldi_4, lda_4, ldf_4, ldl_4, ldd_4, ldi_5, lda_5, ldf_5, ldl_5, ldd_5, ldi_6, lda_6, ldf_6, ldl_6, ldd_6, ldi_7, lda_7, ldf_7, ldl_7, ldd_7, ldi_8, lda_8, ldf_8, ldl_8, ldd_8, ldi_9, lda_9, ldf_9, ldl_9, ldd_9, ldi_10, lda_10, ldf_10, ldl_10, ldd_10, ldi_11, lda_11, ldf_11, ldl_11, ldd_11, ldi_12, lda_12, ldf_12, ldl_12, ldd_12, ldi_13, lda_13, ldf_13, ldl_13, ldd_13, ldn_0, ldn_1, ldn_2, ldn_3, ldn_4, ldn_5, ldn_6, ldn_7, ldn_8, ldn_9, ldn_10, ldn_11, ldn_12, ldn_13, sti_0, sta_0, stf_0, sti_1, sta_1, stf_1, sti_2, sta_2, stf_2, sti_3, sta_3, stf_3, sti_4, sta_4, stf_4, sti_5, sta_5, stf_5, sti_6, sta_6, stf_6, sti_7, sta_7, stf_7, sti_8, sta_8, stf_8, sti_9, sta_9, stf_9, sti_10, sta_10, stf_10, sti_11, sta_11, stf_11, sti_12, sta_12, stf_12, sti_13, sta_13, stf_13, stn_0, stn_1, stn_2, stn_3, stn_4, stn_5, stn_6, stn_7, stn_8, stn_9, stn_10, stn_11, stn_12, stn_13, inc_0, inc_1, inc_2, inc_3, inc_4, inc_5, inc_6, inc_7, inc_8, inc_9, inc_10, inc_11, inc_12, inc_13, sw19_2, sw71_2, sw75_39, sw125_11, sw127_18, sw130_17, sw135_20, sw136_19, sw146_44, sw174_83, sw174_183, sw175_11, sw175_106, sw183_11, sw183_128, sw184_17, sw184_92, sw207_17, sw207_123, sw293_60, sw333_6, sw338_20, sw345_20, sw349_20, sw350_20, sw351_6, sw370_7, m_i2f, m_i2d, m_fc1, m_dc0, x_fret, x_dret, m_i2b, m_and255, m_and63, m_shr24, m_shr16, m_shr8, m_shr0, m_shr1, g_astb, m_i2c, x_cret, x_bret, m_gsn, if_pos, if_neg, Bool.false_eq_true, Int.add_zero, Nat.add_zero, Int.reduceEq, Int.zero_add, ne_eq, not_true_eq_false, not_false_eq_true, and_self, and_true, true_and, and_false, false_and, or_true, true_or, or_false, false_or, gs_0, gs_1, gs_2, gs_3, gs_4, gs_5, gs_6, gs_7, gs_8, m_aald, g_aalds, rf_s, rf_n, m_cast, g_casts,  b206_139]
      exact c4
    have c3 := t3 _ d4
    have d3 : mV E gP (206, 98, [some (.ref a), some (.ref N), none], [], g2) = some (.inl (some (.ref N)), mput (mnew g4 (mAI 0 7 f) 7) N (.inr (1, [.ref (s 0), .int (Int32.ofInt (F 2)), .ref (N + 1), .ref (N + 3), .ref (N + 5), .ref (N + 7), .ref g4.2.1, .int (Int32.ofInt (F 7))]))) := by
      rw [lb206_98]
      simp (disch := first | assumption | omega | exact sub_1 | exact sub_3 | exact sub_4 | exact sub_6 | exact sub_7 | exact i8_r | exact cat1_rf | exact cat_rf | exact mf_20 | exact cat1_i | exact cat1_r | exact cat1_n | exact cat_i | exact cat_r | exact cat_n | exact mf_0 | exact mf_4 | exact mf_4n | exact mf_10 | exact mf_11 | exact mnd_0 | exact mnd_i | exact mnd_r | exact mnd_n | exact mnd_f | exact bz_r | exact bz_01 | (simp only [List.length_cons, List.length_nil] <;> omega) | (simp only [wu, Nat.reduceEqDiff, if_true, if_false] <;> first | assumption | omega) | (simp only [h_n1, h_p1] <;> omega)) only [Int.reduceToNat, Nat.reduceDiv, Nat.reduceMod, Nat.reduceAdd, Nat.reduceSub, Int.reduceNeg, Int.reduceAdd, Int.reduceSub, Int.reduceMul, Int.reduceLT, Int.reduceLE, if_true, if_false, List.length_cons, List.length_nil, bz_z, fin_0, fin_1, fin_2, fin_3, x_0, x_Ts, x_Ss, x_iinc, x_iload_n, x_iload, x_lload_n, x_lload, x_fload_n, x_fload, x_dload_n, x_dload, x_aload_n, x_aload, x_istore_n, x_istore, x_astore_n, x_astore, x_fstore_n, x_fstore, x_dstore_n, x_dstore, x_lstore_n, x_lstore, m_iconst, m_bipush, m_sipush, m_ldci, m_ldcr, m_ldcw, m_null, m_gsi, m_gsr, m_add, m_sub, m_mul, m_neg, m_div, m_rem, m_max, m_min, m_abs, m_pop, m_dup, m_dupx1, m_dupx2, m_dup2, m_getf, m_putf, g_puts, m_iald, m_bald, g_alds, m_iast, m_bast, g_asti, g_astz, m_alen, g_lens, m_new, m_newi, m_oinit, h_ps, h_pn, h_ns, h_nn, h_p1, h_n1, h_n2, h_pp, x_goto, x_if, x_icmp, x_nullr, x_nulln, x_nnr, x_nnn, x_fall, z_eq, z_ne, z_lt, z_ge, z_gt, z_le, c_eq, c_ne, c_lt, c_ge, c_gt, c_le, x_ret, x_iret, x_aret, x_nret, x_zret, x_Rv, x_Rn, x_Rx, g_clss, x_Ws, x_Ks, x_cs0, x_cs1, x_cs2, x_cs3, x_cs4, x_cs5, x_cv0, x_cv1, x_cv2, x_cv3, x_cv4, x_ci0, x_ci1, x_ci2, x_ci3, x_ci4, x_cp0, x_cp1, x_cp2, x_cp3, x_cp4, ldi_0, lda_0, ldf_0, ldl_0, ldd_0, ldi_1, lda_1, ldf_1, ldl_1, ldd_1, ldi_2, lda_2, ldf_2, ldl_2, ldd_2, ldi_3, lda_3, ldf_3, ldl_3, ldd_3, ldi_4, lda_4, ldf_4, ldl_4, ldd_4, ldi_5, lda_5, ldf_5, ldl_5, ldd_5, ldi_6, lda_6, ldf_6, ldl_6, ldd_6, ldi_7, lda_7, ldf_7, ldl_7, ldd_7, ldi_8, lda_8, ldf_8, ldl_8, ldd_8, ldi_9, lda_9, ldf_9, ldl_9, ldd_9, ldi_10, lda_10, ldf_10, ldl_10, ldd_10, ldi_11, lda_11, ldf_11, ldl_11, ldd_11, ldi_12, lda_12, ldf_12, ldl_12, ldd_12, ldi_13, lda_13, ldf_13, ldl_13, ldd_13, ldn_0, ldn_1, ldn_2, ldn_3, ldn_4, ldn_5, ldn_6, ldn_7, ldn_8, ldn_9, ldn_10, ldn_11, ldn_12, ldn_13, sti_0, sta_0, stf_0, sti_1, sta_1, stf_1, sti_2, sta_2, stf_2, sti_3, sta_3, stf_3, sti_4, sta_4, stf_4, sti_5, sta_5, stf_5, sti_6, sta_6, stf_6, sti_7, sta_7, stf_7, sti_8, sta_8, stf_8, sti_9, sta_9, stf_9, sti_10, sta_10, stf_10, sti_11, sta_11, stf_11, sti_12, sta_12, stf_12, sti_13, sta_13, stf_13, stn_0, stn_1, stn_2, stn_3, stn_4, stn_5, stn_6, stn_7, stn_8, stn_9, stn_10, stn_11, stn_12, stn_13, inc_0, inc_1, inc_2, inc_3, inc_4, inc_5, inc_6, inc_7, inc_8, inc_9, inc_10, inc_11, inc_12, inc_13, sw19_2, sw71_2, sw75_39, sw125_11, sw127_18, sw130_17, sw135_20, sw136_19, sw146_44, sw174_83, sw174_183, sw175_11, sw175_106, sw183_11, sw183_128, sw184_17, sw184_92, sw207_17, sw207_123, sw293_60, sw333_6, sw338_20, sw345_20, sw349_20, sw350_20, sw351_6, sw370_7, m_i2f, m_i2d, m_fc1, m_dc0, x_fret, x_dret, m_i2b, m_and255, m_and63, m_shr24, m_shr16, m_shr8, m_shr0, m_shr1, g_astb, m_i2c, x_cret, x_bret, m_gsn, if_pos, if_neg, Bool.false_eq_true, Int.add_zero, Nat.add_zero, Int.reduceEq, Int.zero_add, ne_eq, not_true_eq_false, not_false_eq_true, and_self, and_true, true_and, and_false, false_and, or_true, true_or, or_false, false_or, gs_0, gs_1, gs_2, gs_3, gs_4, gs_5, gs_6, gs_7, gs_8, m_aald, g_aalds, rf_s, rf_n, m_cast, g_casts,  b206_98]
      exact c3
    have c2 := t2 _ d3
    have d2 : mV E gP (206, 57, [some (.ref a), some (.ref N), none], [], g1) = some (.inl (some (.ref N)), mput (mnew g4 (mAI 0 7 f) 7) N (.inr (1, [.ref (s 0), .int (Int32.ofInt (F 2)), .ref (N + 1), .ref (N + 3), .ref (N + 5), .ref (N + 7), .ref g4.2.1, .int (Int32.ofInt (F 7))]))) := by
      rw [lb206_57]
      simp (disch := first | assumption | omega | exact sub_1 | exact sub_3 | exact sub_4 | exact sub_6 | exact sub_7 | exact i8_r | exact cat1_rf | exact cat_rf | exact mf_20 | exact cat1_i | exact cat1_r | exact cat1_n | exact cat_i | exact cat_r | exact cat_n | exact mf_0 | exact mf_4 | exact mf_4n | exact mf_10 | exact mf_11 | exact mnd_0 | exact mnd_i | exact mnd_r | exact mnd_n | exact mnd_f | exact bz_r | exact bz_01 | (simp only [List.length_cons, List.length_nil] <;> omega) | (simp only [wu, Nat.reduceEqDiff, if_true, if_false] <;> first | assumption | omega) | (simp only [h_n1, h_p1] <;> omega)) only [Int.reduceToNat, Nat.reduceDiv, Nat.reduceMod, Nat.reduceAdd, Nat.reduceSub, Int.reduceNeg, Int.reduceAdd, Int.reduceSub, Int.reduceMul, Int.reduceLT, Int.reduceLE, if_true, if_false, List.length_cons, List.length_nil, bz_z, fin_0, fin_1, fin_2, fin_3, x_0, x_Ts, x_Ss, x_iinc, x_iload_n, x_iload, x_lload_n, x_lload, x_fload_n, x_fload, x_dload_n, x_dload, x_aload_n, x_aload, x_istore_n, x_istore, x_astore_n, x_astore, x_fstore_n, x_fstore, x_dstore_n, x_dstore, x_lstore_n, x_lstore, m_iconst, m_bipush, m_sipush, m_ldci, m_ldcr, m_ldcw, m_null, m_gsi, m_gsr, m_add, m_sub, m_mul, m_neg, m_div, m_rem, m_max, m_min, m_abs, m_pop, m_dup, m_dupx1, m_dupx2, m_dup2, m_getf, m_putf, g_puts, m_iald, m_bald, g_alds, m_iast, m_bast, g_asti, g_astz, m_alen, g_lens, m_new, m_newi, m_oinit, h_ps, h_pn, h_ns, h_nn, h_p1, h_n1, h_n2, h_pp, x_goto, x_if, x_icmp, x_nullr, x_nulln, x_nnr, x_nnn, x_fall, z_eq, z_ne, z_lt, z_ge, z_gt, z_le, c_eq, c_ne, c_lt, c_ge, c_gt, c_le, x_ret, x_iret, x_aret, x_nret, x_zret, x_Rv, x_Rn, x_Rx, g_clss, x_Ws, x_Ks, x_cs0, x_cs1, x_cs2, x_cs3, x_cs4, x_cs5, x_cv0, x_cv1, x_cv2, x_cv3, x_cv4, x_ci0, x_ci1, x_ci2, x_ci3, x_ci4, x_cp0, x_cp1, x_cp2, x_cp3, x_cp4, ldi_0, lda_0, ldf_0, ldl_0, ldd_0, ldi_1, lda_1, ldf_1, ldl_1, ldd_1, ldi_2, lda_2, ldf_2, ldl_2, ldd_2, ldi_3, lda_3, ldf_3, ldl_3, ldd_3, ldi_4, lda_4, ldf_4, ldl_4, ldd_4, ldi_5, lda_5, ldf_5, ldl_5, ldd_5, ldi_6, lda_6, ldf_6, ldl_6, ldd_6, ldi_7, lda_7, ldf_7, ldl_7, ldd_7, ldi_8, lda_8, ldf_8, ldl_8, ldd_8, ldi_9, lda_9, ldf_9, ldl_9, ldd_9, ldi_10, lda_10, ldf_10, ldl_10, ldd_10, ldi_11, lda_11, ldf_11, ldl_11, ldd_11, ldi_12, lda_12, ldf_12, ldl_12, ldd_12, ldi_13, lda_13, ldf_13, ldl_13, ldd_13, ldn_0, ldn_1, ldn_2, ldn_3, ldn_4, ldn_5, ldn_6, ldn_7, ldn_8, ldn_9, ldn_10, ldn_11, ldn_12, ldn_13, sti_0, sta_0, stf_0, sti_1, sta_1, stf_1, sti_2, sta_2, stf_2, sti_3, sta_3, stf_3, sti_4, sta_4, stf_4, sti_5, sta_5, stf_5, sti_6, sta_6, stf_6, sti_7, sta_7, stf_7, sti_8, sta_8, stf_8, sti_9, sta_9, stf_9, sti_10, sta_10, stf_10, sti_11, sta_11, stf_11, sti_12, sta_12, stf_12, sti_13, sta_13, stf_13, stn_0, stn_1, stn_2, stn_3, stn_4, stn_5, stn_6, stn_7, stn_8, stn_9, stn_10, stn_11, stn_12, stn_13, inc_0, inc_1, inc_2, inc_3, inc_4, inc_5, inc_6, inc_7, inc_8, inc_9, inc_10, inc_11, inc_12, inc_13, sw19_2, sw71_2, sw75_39, sw125_11, sw127_18, sw130_17, sw135_20, sw136_19, sw146_44, sw174_83, sw174_183, sw175_11, sw175_106, sw183_11, sw183_128, sw184_17, sw184_92, sw207_17, sw207_123, sw293_60, sw333_6, sw338_20, sw345_20, sw349_20, sw350_20, sw351_6, sw370_7, m_i2f, m_i2d, m_fc1, m_dc0, x_fret, x_dret, m_i2b, m_and255, m_and63, m_shr24, m_shr16, m_shr8, m_shr0, m_shr1, g_astb, m_i2c, x_cret, x_bret, m_gsn, if_pos, if_neg, Bool.false_eq_true, Int.add_zero, Nat.add_zero, Int.reduceEq, Int.zero_add, ne_eq, not_true_eq_false, not_false_eq_true, and_self, and_true, true_and, and_false, false_and, or_true, true_or, or_false, false_or, gs_0, gs_1, gs_2, gs_3, gs_4, gs_5, gs_6, gs_7, gs_8, m_aald, g_aalds, rf_s, rf_n, m_cast, g_casts,  b206_57]
      exact c2
    have c1 := t1 _ d2
    have q1 : h.1 a = _ := hS.1
    have e1 : a ≠ N := by omega
    have dl : (mDf 1).length = 8 := rfl
    rw [en206]
    simp (disch := first | assumption | omega | exact sub_1 | exact sub_3 | exact sub_4 | exact sub_6 | exact sub_7 | exact i8_r | exact cat1_rf | exact cat_rf | exact mf_20 | exact cat1_i | exact cat1_r | exact cat1_n | exact cat_i | exact cat_r | exact cat_n | exact mf_0 | exact mf_4 | exact mf_4n | exact mf_10 | exact mf_11 | exact mnd_0 | exact mnd_i | exact mnd_r | exact mnd_n | exact mnd_f | exact bz_r | exact bz_01 | (simp only [List.length_cons, List.length_nil] <;> omega) | (simp only [wu, Nat.reduceEqDiff, if_true, if_false] <;> first | assumption | omega) | (simp only [h_n1, h_p1] <;> omega)) only [Int.reduceToNat, Nat.reduceDiv, Nat.reduceMod, Nat.reduceAdd, Nat.reduceSub, Int.reduceNeg, Int.reduceAdd, Int.reduceSub, Int.reduceMul, Int.reduceLT, Int.reduceLE, if_true, if_false, List.length_cons, List.length_nil, bz_z, fin_0, fin_1, fin_2, fin_3, x_0, x_Ts, x_Ss, x_iinc, x_iload_n, x_iload, x_lload_n, x_lload, x_fload_n, x_fload, x_dload_n, x_dload, x_aload_n, x_aload, x_istore_n, x_istore, x_astore_n, x_astore, x_fstore_n, x_fstore, x_dstore_n, x_dstore, x_lstore_n, x_lstore, m_iconst, m_bipush, m_sipush, m_ldci, m_ldcr, m_ldcw, m_null, m_gsi, m_gsr, m_add, m_sub, m_mul, m_neg, m_div, m_rem, m_max, m_min, m_abs, m_pop, m_dup, m_dupx1, m_dupx2, m_dup2, m_getf, m_putf, g_puts, m_iald, m_bald, g_alds, m_iast, m_bast, g_asti, g_astz, m_alen, g_lens, m_new, m_newi, m_oinit, h_ps, h_pn, h_ns, h_nn, h_p1, h_n1, h_n2, h_pp, x_goto, x_if, x_icmp, x_nullr, x_nulln, x_nnr, x_nnn, x_fall, z_eq, z_ne, z_lt, z_ge, z_gt, z_le, c_eq, c_ne, c_lt, c_ge, c_gt, c_le, x_ret, x_iret, x_aret, x_nret, x_zret, x_Rv, x_Rn, x_Rx, g_clss, x_Ws, x_Ks, x_cs0, x_cs1, x_cs2, x_cs3, x_cs4, x_cs5, x_cv0, x_cv1, x_cv2, x_cv3, x_cv4, x_ci0, x_ci1, x_ci2, x_ci3, x_ci4, x_cp0, x_cp1, x_cp2, x_cp3, x_cp4, ldi_0, lda_0, ldf_0, ldl_0, ldd_0, ldi_1, lda_1, ldf_1, ldl_1, ldd_1, ldi_2, lda_2, ldf_2, ldl_2, ldd_2, ldi_3, lda_3, ldf_3, ldl_3, ldd_3, ldi_4, lda_4, ldf_4, ldl_4, ldd_4, ldi_5, lda_5, ldf_5, ldl_5, ldd_5, ldi_6, lda_6, ldf_6, ldl_6, ldd_6, ldi_7, lda_7, ldf_7, ldl_7, ldd_7, ldi_8, lda_8, ldf_8, ldl_8, ldd_8, ldi_9, lda_9, ldf_9, ldl_9, ldd_9, ldi_10, lda_10, ldf_10, ldl_10, ldd_10, ldi_11, lda_11, ldf_11, ldl_11, ldd_11, ldi_12, lda_12, ldf_12, ldl_12, ldd_12, ldi_13, lda_13, ldf_13, ldl_13, ldd_13, ldn_0, ldn_1, ldn_2, ldn_3, ldn_4, ldn_5, ldn_6, ldn_7, ldn_8, ldn_9, ldn_10, ldn_11, ldn_12, ldn_13, sti_0, sta_0, stf_0, sti_1, sta_1, stf_1, sti_2, sta_2, stf_2, sti_3, sta_3, stf_3, sti_4, sta_4, stf_4, sti_5, sta_5, stf_5, sti_6, sta_6, stf_6, sti_7, sta_7, stf_7, sti_8, sta_8, stf_8, sti_9, sta_9, stf_9, sti_10, sta_10, stf_10, sti_11, sta_11, stf_11, sti_12, sta_12, stf_12, sti_13, sta_13, stf_13, stn_0, stn_1, stn_2, stn_3, stn_4, stn_5, stn_6, stn_7, stn_8, stn_9, stn_10, stn_11, stn_12, stn_13, inc_0, inc_1, inc_2, inc_3, inc_4, inc_5, inc_6, inc_7, inc_8, inc_9, inc_10, inc_11, inc_12, inc_13, sw19_2, sw71_2, sw75_39, sw125_11, sw127_18, sw130_17, sw135_20, sw136_19, sw146_44, sw174_83, sw174_183, sw175_11, sw175_106, sw183_11, sw183_128, sw184_17, sw184_92, sw207_17, sw207_123, sw293_60, sw333_6, sw338_20, sw345_20, sw349_20, sw350_20, sw351_6, sw370_7, m_i2f, m_i2d, m_fc1, m_dc0, x_fret, x_dret, m_i2b, m_and255, m_and63, m_shr24, m_shr16, m_shr8, m_shr0, m_shr1, g_astb, m_i2c, x_cret, x_bret, m_gsn, if_pos, if_neg, Bool.false_eq_true, Int.add_zero, Nat.add_zero, Int.reduceEq, Int.zero_add, ne_eq, not_true_eq_false, not_false_eq_true, and_self, and_true, true_and, and_false, false_and, or_true, true_or, or_false, false_or, gs_0, gs_1, gs_2, gs_3, gs_4, gs_5, gs_6, gs_7, gs_8, m_aald, g_aalds, rf_s, rf_n, m_cast, g_casts,  b206_0, q1, hN, dl, ha0, r1, e1, h_nn]
    exact c1
  generalize hh' : mput (mnew g4 (mAI 0 7 f) 7) N (.inr (1, [.ref (s 0), .int (Int32.ofInt (F 2)), .ref (N + 1), .ref (N + 3), .ref (N + 5), .ref (N + 7), .ref g4.2.1, .int (Int32.ofInt (F 7))])) = h' at *
  have hp1 : h'.1 N = some (.inr (1, [.ref (s 0), .int (Int32.ofInt (F 2)), .ref (N + 1), .ref (N + 3), .ref (N + 5), .ref (N + 7), .ref g4.2.1, .int (Int32.ofInt (F 7))])) := by rw [← hh']; exact h_ps
  have hp2 : h'.1 g4.2.1 = some (mAI 0 7 f) := by
    rw [← hh', h_pn (by omega)]
    exact h_ns
  have hz : h'.2.1 = g4.2.1 + 1 ∧ h'.2.2 = g4.2.2 + 7 := by rw [← hh']; exact ⟨rfl, rfl⟩
  have k4 : ∀ q, q < g4.2.1 → q ≠ N → h'.1 q = g4.1 q := by
    intro q u v
    rw [← hh', h_pn v, h_nn (by omega)]
  have k3 : ∀ q, q < g3.2.1 → q ≠ N → q ≠ N + 7 → q ≠ N + 8 → h'.1 q = g3.1 q := fun q u v w x => (k4 q (by omega) v).trans (f4a q u w x)
  have k2 : ∀ q, q < g2.2.1 → q ≠ N → q ≠ N + 7 → q ≠ N + 8 → q ≠ N + 5 → q ≠ N + 6 → h'.1 q = g2.1 q := fun q u v w x y z => (k3 q (by omega) v w x).trans (f3a q u y z)
  have k1 : ∀ q, q < g1.2.1 → q ≠ N → q ≠ N + 7 → q ≠ N + 8 → q ≠ N + 5 → q ≠ N + 6 → q ≠ N + 3 → q ≠ N + 4 → h'.1 q = g1.1 q := fun q u v w x y z c d => (k2 q (by omega) v w x y z).trans (f2a q u c d)
  have old : ∀ q, q < N → h'.1 q = h.1 q := fun q hq => (k4 q (by omega) (by omega)).trans (old4 q hq)
  obtain ⟨q1, q2, ⟨wf, w1, w2⟩, ⟨lb, lw, lc, ll⟩, ⟨tf, t1', t2'⟩, ob, ow, oc, ol⟩ := id hS
  have n3 : ((F 3).toNat : Int) = F 3 := by omega
  have n4 : ((F 4).toNat : Int) = F 4 := by omega
  have n5 : ((F 5).toNat : Int) = F 5 := by omega
  have n6 : ((F 6).toNat : Int) = F 6 := by omega
  refine ⟨h', partS s N g4.2.1 ab aw ac al, B', W', C', L', run, ⟨?_, ?_, ?_, ⟨?_, ?_, ?_, ?_⟩, ?_, ⟨?_, ?_⟩, ⟨?_, ?_⟩, ⟨?_, ?_⟩, ⟨?_, ?_⟩⟩, ?_, ⟨rfl, rfl, rfl⟩, old, by omega, by omega⟩
  · exact hp1
  · exact (old _ i1.1.2).trans q2
  · exact ⟨wf, (old _ i1.2.2).trans w1, w2⟩
  · have := (FL_keep (k1 _ (by omega) (by omega) (by omega) (by omega) (by omega) (by omega) (by omega) (by omega)) (k1 ab f1f (by omega) (by omega) (by omega) (by omega) (by omega) (by omega) (by omega)) f1d).al
    rw [n3] at this
    exact this
  · have := (FL_keep (k2 _ (by omega) (by omega) (by omega) (by omega) (by omega) (by omega)) (k2 aw f2f (by omega) (by omega) (by omega) (by omega) (by omega)) f2d).al
    rw [n4] at this
    exact this
  · have := (FL_keep (k3 _ (by omega) (by omega) (by omega) (by omega)) (k3 ac f3f (by omega) (by omega) (by omega)) f3d).al
    rw [n5] at this
    exact this
  · have := (FL_keep (k4 _ (by omega) (by omega)) (k4 al f4f (by omega)) f4d).al
    rw [n6] at this
    exact this
  · exact ⟨f, hp2, t5a⟩
  · intro k k0 k1'
    have := f1g k.toNat (by omega)
    rw [Int.toNat_of_nonneg k0] at this
    rw [k1 _ this.2.2 (by omega) (by omega) (by omega) (by omega) (by omega) (by omega) (by omega)]
    exact this.1
  · intro i j i0 i1' j0 j1 e
    exact inj_of f1h i0 (by omega) j0 (by omega) e
  · intro k k0 k1'
    have := f2g k.toNat (by omega)
    rw [Int.toNat_of_nonneg k0] at this
    rw [k2 _ this.2.2 (by omega) (by omega) (by omega) (by omega) (by omega)]
    exact this.1
  · intro i j i0 i1' j0 j1 e
    exact inj_of f2h i0 (by omega) j0 (by omega) e
  · intro k k0 k1'
    have := f3g k.toNat (by omega)
    rw [Int.toNat_of_nonneg k0] at this
    rw [k3 _ this.2.2 (by omega) (by omega) (by omega)]
    exact this.1
  · intro i j i0 i1' j0 j1 e
    exact inj_of f3h i0 (by omega) j0 (by omega) e
  · intro k k0 k1'
    have := f4g k.toNat (by omega)
    rw [Int.toNat_of_nonneg k0] at this
    rw [k4 _ this.2.2 (by omega)]
    exact this.1
  · intro i j i0 i1' j0 j1 e
    exact inj_of f4h i0 (by omega) j0 (by omega) e
  · refine ⟨⟨⟨⟨i1.1.1, by show s 0 < _; omega⟩, Or.inr (Or.inl rfl)⟩, ⟨⟨i1.2.1, by show s 6 < _; omega⟩, Or.inr (Or.inr rfl)⟩⟩, ⟨⟨⟨by omega, by omega⟩, Or.inl (Nat.le_refl _)⟩, Nat.le_refl _⟩, ⟨⟨⟨⟨by show E.1 ≤ N + 1; omega, by show N + 1 < _; omega⟩, Or.inl (by show N ≤ N + 1; omega)⟩, ⟨⟨by show E.1 ≤ ab; omega, by show ab < _; omega⟩, Or.inl (by show N ≤ ab; omega)⟩⟩, ⟨⟨⟨by show E.1 ≤ N + 3; omega, by show N + 3 < _; omega⟩, Or.inl (by show N ≤ N + 3; omega)⟩, ⟨⟨by show E.1 ≤ aw; omega, by show aw < _; omega⟩, Or.inl (by show N ≤ aw; omega)⟩⟩, ⟨⟨⟨by show E.1 ≤ N + 5; omega, by show N + 5 < _; omega⟩, Or.inl (by show N ≤ N + 5; omega)⟩, ⟨⟨by show E.1 ≤ ac; omega, by show ac < _; omega⟩, Or.inl (by show N ≤ ac; omega)⟩⟩, ⟨⟨⟨by show E.1 ≤ N + 7; omega, by show N + 7 < _; omega⟩, Or.inl (by show N ≤ N + 7; omega)⟩, ⟨⟨by show E.1 ≤ al; omega, by show al < _; omega⟩, Or.inl (by show N ≤ al; omega)⟩⟩⟩, ⟨⟨⟨by show E.1 ≤ g4.2.1; omega, by show g4.2.1 < _; omega⟩, Or.inl (by show N ≤ g4.2.1; omega)⟩, by show N ≤ g4.2.1; omega⟩, ?_, ?_, ?_, ?_⟩
    · intro k k0 k1'
      have := f1g k.toNat (by omega)
      rw [Int.toNat_of_nonneg k0] at this
      exact ⟨⟨⟨by omega, by omega⟩, Or.inl (by omega)⟩, by omega⟩
    · intro k k0 k1'
      have := f2g k.toNat (by omega)
      rw [Int.toNat_of_nonneg k0] at this
      exact ⟨⟨⟨by omega, by omega⟩, Or.inl (by omega)⟩, by omega⟩
    · intro k k0 k1'
      have := f3g k.toNat (by omega)
      rw [Int.toNat_of_nonneg k0] at this
      exact ⟨⟨⟨by omega, by omega⟩, Or.inl (by omega)⟩, by omega⟩
    · intro k k0 k1'
      have := f4g k.toNat (by omega)
      rw [Int.toNat_of_nonneg k0] at this
      exact ⟨⟨⟨by omega, by omega⟩, Or.inl (by omega)⟩, by omega⟩
end T6
