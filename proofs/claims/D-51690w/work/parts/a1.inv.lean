/-! MC law 2: the law's invariant -/
set_option maxRecDepth 100000
def twc (b q : Nat) : Prop := b ≤ q ∧ q ≤ b + 13
theorem tT_in {b q : Nat} {h h' : mH} {w : Nat → Int → Int} (hq : twc b q) : (tT b h w).1 q = (tT b h' w).1 q := by
  unfold twc at hq
  rcases (show q = b ∨ q = b + 1 ∨ q = b + 2 ∨ q = b + 3 ∨ q = b + 4 ∨ q = b + 5 ∨ q = b + 6 ∨ q = b + 7 ∨ q = b + 8 ∨ q = b + 9 ∨ q = b + 10 ∨ q = b + 11 ∨ q = b + 12 ∨ q = b + 13 by omega) with rfl | rfl | rfl | rfl | rfl | rfl | rfl | rfl | rfl | rfl | rfl | rfl | rfl | rfl
  · rw [t_0, t_0]
  · rw [t_1, t_1]
  · rw [t_2, t_2]
  · rw [t_3, t_3]
  · rw [t_4, t_4]
  · rw [t_5, t_5]
  · rw [t_6, t_6]
  · rw [t_7, t_7]
  · rw [t_8, t_8]
  · rw [t_9, t_9]
  · rw [t_10, t_10]
  · rw [t_11, t_11]
  · rw [t_12, t_12]
  · rw [t_13, t_13]
theorem tT_out {b q : Nat} {h : mH} {w : Nat → Int → Int} (hq : ¬ twc b q) : (tT b h w).1 q = h.1 q := by
  unfold twc at hq
  unfold tT
  dsimp only
  rw [if_neg (by omega), if_neg (by omega), if_neg (by omega), if_neg (by omega), if_neg (by omega), if_neg (by omega), if_neg (by omega), if_neg (by omega), if_neg (by omega), if_neg (by omega), if_neg (by omega), if_neg (by omega), if_neg (by omega), if_neg (by omega)]
theorem tT_2 {b : Nat} {h : mH} {w : Nat → Int → Int} : (tT b h w).2 = h.2 := rfl
/-- the twin lies in the heap -/
def TWN (b : Nat) (h : mH) (w : Nat → Int → Int) : Prop := tT b h w = h
theorem TWN_fr {b : Nat} {h h' : mH} {w : Nat → Int → Int} (ht : TWN b h w) (he : ∀ q, twc b q → h'.1 q = h.1 q) : TWN b h' w := by
  refine Prod.ext (funext fun q => ?_) rfl
  by_cases e : twc b q
  · rw [he q e, tT_in (h' := h) e, show tT b h w = h from ht]
  · rw [tT_out e]
theorem TWN_tT {b : Nat} {h : mH} {w : Nat → Int → Int} : TWN b (tT b h w) w := by
  refine Prod.ext (funext fun q => ?_) rfl
  by_cases e : twc b q
  · exact tT_in e
  · rw [tT_out e]
/-- where the law's things lie -/
def LM (E : mE) (M : Nat → Prop) (z : Nat → Nat) (b ob : Nat) (h : mH) : Prop := (∀ q, M q → q < h.2.1) ∧ (∀ q, twc b q → M q ∧ ¬ Zc z q ∧ q ≠ ob) ∧ (M ob ∧ ¬ Zc z ob ∧ E.1 ≤ ob) ∧ E.1 ≤ b ∧ E.1 ≤ h.2.1
/-- between two calls of the law -/
def LInv (E : mE) (M : Nat → Prop) (z : Nat → Nat) (b ob : Nat) (h : mH) (w : Nat → Int → Int) : Prop := KW E M z h w ∧ TWN b h w ∧ (∃ fl, h.1 ob = some (mAL fl)) ∧ LM E M z b ob h ∧ WD E h
section LI
variable {E : mE} {M : Nat → Prop} {z : Nat → Nat} {b ob : Nat} {h h' : mH} {w w' w2 : Nat → Int → Int}
theorem LM_le (hl : h.2.1 ≤ h'.2.1) (x : LM E M z b ob h) : LM E M z b ob h' := ⟨fun q hq => by have := x.1 q hq; omega, x.2.1, x.2.2.1, x.2.2.2.1, by have := x.2.2.2.2; omega⟩
/-- behind a call of the component -/
theorem LInv_mid (I : LInv E M z b ob h w) (fr : ∀ q, q < h.2.1 → ¬ Zc z q → q ≠ ob → h'.1 q = h.1 q) : TWN b h' w := by
  obtain ⟨c, t, -, m, -⟩ := I
  exact TWN_fr t (fun q hq => fr q (m.1 q (m.2.1 q hq).1) (m.2.1 q hq).2.1 (m.2.1 q hq).2.2)
/-- behind the twin's -/
theorem LInv_end (I : LInv E M z b ob h w) (cw : KW E M z h' w') {fl : Nat → Int64} (ho : h'.1 ob = some (mAL fl)) (fr : ∀ q, q < h.2.1 → ¬ Zc z q → q ≠ ob → h'.1 q = h.1 q) (hl : h.2.1 ≤ h'.2.1) (hs : simC w' w2) : LInv E M z b ob (tT b h' w2) w2 := by
  obtain ⟨c, t, -, m, d⟩ := I
  have nb : ¬ twc b ob := fun q => (m.2.1 ob q).2.2 rfl
  have zt : ∀ i, i < 8 → ¬ twc b (z i) := fun i hi q => (m.2.1 _ q).2.1 ⟨i, hi, rfl⟩
  refine ⟨KW_sim hs (KW_fr (h := h') (h' := tT b h' w2) (Nat.le_refl _) (FrA_eq (fun q hq => tT_out (fun y => hq.2.2 (m.2.1 q y).1))) (fun i hi => tT_out (zt i hi)) cw), TWN_tT, ⟨fl, (tT_out nb).trans ho⟩, LM_le hl m, d.fr (fun q hq => ?_)⟩
  have e1 := m.2.2.2.1
  have e2 := m.2.2.2.2
  have e3 := m.2.2.1.2.2
  rw [tT_out (by unfold twc; omega)]
  refine fr q (by omega) (fun y => ?_) (by omega)
  obtain ⟨i, hi, e⟩ := y
  have := (c.1.1 i hi).2.1
  omega
theorem m_lald {a : Nat} {r : List Value} {f : Nat → Int64} {p : Nat × Nat × Nat} (ha : h.1 a = some (mAL f)) : mstep E gP (.laload, 0, p) (.int (Int32.ofInt 0) :: .ref a :: r) h = some (.long (f 0) :: r, h) := by
  show s_alld (.int (Int32.ofInt 0) :: .ref a :: r) h 4 = _
  unfold s_alld
  dsimp only
  rw [ha]
  exact if_pos ⟨rfl, by decide, by decide⟩
theorem m_lcmp {u v : Int64} {r : List Value} {p : Nat × Nat × Nat} : mstep E gP (.lcmp, 0, p) (.long u :: .long v :: r) h = some (.int (lg_cmp v u) :: r, h) := rfl
theorem lg_eq {v : Int64} : lg_cmp v v = Int32.ofInt 0 := by
  unfold lg_cmp
  simp
end LI
