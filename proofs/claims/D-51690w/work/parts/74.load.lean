/-! MC pure 23: the twin loads a setup -/
set_option maxRecDepth 100000
def okB (F : Int → Int) (G : Int → Int) (k : Int) : Prop := (0 ≤ G (96 + 4 * k) ∧ G (96 + 4 * k) < F 0 * F 1) ∧ (0 ≤ G (96 + 4 * k + 1) ∧ G (96 + 4 * k + 1) ≤ 4) ∧ (1 ≤ G (96 + 4 * k + 2) ∧ G (96 + 4 * k + 2) ≤ 9) ∧ (0 ≤ G (96 + 4 * k + 3) ∧ G (96 + 4 * k + 3) ≤ 4)
/-- a row whose entries below 8 are as told -/
theorem WF_hi {F G : Int → Int} (hF : WF F) (e0 : G 0 = F 0) (e1 : G 1 = F 1) (e2 : G 2 = F 2) (e7 : G 7 = F 7) (hn : (0 ≤ G 3 ∧ G 3 ≤ 5) ∧ (0 ≤ G 4 ∧ G 4 ≤ 4) ∧ (0 ≤ G 5 ∧ G 5 ≤ 4) ∧ (0 ≤ G 6 ∧ G 6 ≤ 10)) (h5 : F 5 ≤ G 5) (hw : ∀ c, 0 ≤ c → c < 81 → G (15 + c) = F (15 + c))
    (hb : ∀ k, 0 ≤ k → k < G 3 → (k < F 3 ∧ ∀ j, 0 ≤ j → j < 4 → G (96 + 4 * k + j) = F (96 + 4 * k + j)) ∨ ((0 ≤ G (96 + 4 * k) ∧ G (96 + 4 * k) < F 0 * F 1) ∧ (0 ≤ G (96 + 4 * k + 1) ∧ G (96 + 4 * k + 1) ≤ 4) ∧ (1 ≤ G (96 + 4 * k + 2) ∧ G (96 + 4 * k + 2) ≤ 9) ∧ (0 ≤ G (96 + 4 * k + 3) ∧ G (96 + 4 * k + 3) ≤ 4)))
    (hv : ∀ k, 0 ≤ k → k < G 4 → (k < F 4 ∧ ∀ j, 0 ≤ j → j < 4 → G (116 + 4 * k + j) = F (116 + 4 * k + j)) ∨ ((0 ≤ G (116 + 4 * k) ∧ G (116 + 4 * k) < F 0 * F 1) ∧ (0 ≤ G (116 + 4 * k + 1) ∧ G (116 + 4 * k + 1) ≤ 3) ∧ (1 ≤ G (116 + 4 * k + 2) ∧ G (116 + 4 * k + 2) ≤ 9) ∧ (0 ≤ G (116 + 4 * k + 3) ∧ G (116 + 4 * k + 3) ≤ 3)))
    (hc : ∀ k, 0 ≤ k → k < G 5 → (k < F 5 ∧ ∀ j, 0 ≤ j → j < 3 → G (132 + 6 * k + j) = F (132 + 6 * k + j)) ∨ ((0 ≤ G (132 + 6 * k) ∧ G (132 + 6 * k) < F 0 * F 1) ∧ (0 ≤ G (132 + 6 * k + 1) ∧ G (132 + 6 * k + 1) < F 0 * F 1) ∧ (G (132 + 6 * k + 2) = 0 ∨ G (132 + 6 * k + 2) = 1)))
    (hl : ∀ k, 0 ≤ k → k < G 6 → (k < F 6 ∧ ∀ j, 0 ≤ j → j < 5 → G (156 + 6 * k + j) = F (156 + 6 * k + j)) ∨ ((0 ≤ G (156 + 6 * k) ∧ G (156 + 6 * k) < F 0 * F 1) ∧ (0 ≤ G (156 + 6 * k + 1) ∧ G (156 + 6 * k + 1) < F 0 * F 1) ∧ G (156 + 6 * k + 2) = 0 ∧ (0 ≤ G (156 + 6 * k + 3) ∧ G (156 + 6 * k + 3) < F 0 * F 1) ∧ G (156 + 6 * k + 4) = -1)) : WF G := by
  obtain ⟨a0, a1, a2, a3, a4, a5, a6, a7, a8, a9, a10, a11, a12⟩ := hF
  unfold WF
  rw [e0, e1, e2, e7]
  refine ⟨a0, a1, a2, hn.1, hn.2.1, hn.2.2.1, hn.2.2.2, a7, fun c c0 c1 => by rw [hw c c0 c1]; exact a8 c c0 c1, fun k k0 k1 => ?_, fun k k0 k1 => ?_, fun k k0 k1 => ?_, fun k k0 k1 => ?_⟩
  · rcases hb k k0 k1 with ⟨z, y⟩ | z
    · have y0 := y 0 (by omega) (by omega)
      rw [Int.add_zero] at y0
      rw [y0, y 1 (by omega) (by omega), y 2 (by omega) (by omega), y 3 (by omega) (by omega)]
      exact a9 k k0 z
    · exact z
  · rcases hv k k0 k1 with ⟨z, y⟩ | z
    · have y0 := y 0 (by omega) (by omega)
      rw [Int.add_zero] at y0
      rw [y0, y 1 (by omega) (by omega), y 2 (by omega) (by omega), y 3 (by omega) (by omega)]
      exact a10 k k0 z
    · exact z
  · rcases hc k k0 k1 with ⟨z, y⟩ | z
    · have y0 := y 0 (by omega) (by omega)
      rw [Int.add_zero] at y0
      rw [y0, y 1 (by omega) (by omega), y 2 (by omega) (by omega)]
      exact a11 k k0 z
    · exact z
  · rcases hl k k0 k1 with ⟨z, y⟩ | z
    · have y0 := y 0 (by omega) (by omega)
      rw [Int.add_zero] at y0
      rw [y0, y 1 (by omega) (by omega), y 2 (by omega) (by omega), y 3 (by omega) (by omega), y 4 (by omega) (by omega)]
      have a := a12 k k0 z
      exact ⟨a.1, a.2.1, a.2.2.1, a.2.2.2.1, ⟨a.2.2.2.2.1.1, by omega⟩, a.2.2.2.2.2⟩
    · exact ⟨z.1, z.2.1, by omega, z.2.2.2.1, by omega, fun q => by omega⟩
theorem addB_at {F : Int → Int} {c r t d j : Int} : addB F c r t d j = if j = 3 then F 3 + 1 else if j = 96 + 4 * F 3 + 3 then d else if j = 96 + 4 * F 3 + 2 then t else if j = 96 + 4 * F 3 + 1 then r else if j = 96 + 4 * F 3 then c else F j := rfl
theorem addV_at {F : Int → Int} {c d r t j : Int} : addV F c d r t j = if j = 4 then F 4 + 1 else if j = 116 + 4 * F 4 + 3 then t else if j = 116 + 4 * F 4 + 2 then r else if j = 116 + 4 * F 4 + 1 then d else if j = 116 + 4 * F 4 then c else F j := rfl
theorem addC_at {F : Int → Int} {c j : Int} : addC F c j = if j = 5 then F 5 + 1 else if j = 132 + 6 * F 5 + 1 then c else if j = 132 + 6 * F 5 then c else F j := rfl
theorem addL_at {F : Int → Int} {c d j : Int} : addL F c d j = if j = 6 then F 6 + 1 else if j = 156 + 6 * F 6 + 4 then -1 else if j = 156 + 6 * F 6 + 3 then c else if j = 156 + 6 * F 6 + 2 then 0 else if j = 156 + 6 * F 6 + 1 then d else if j = 156 + 6 * F 6 then c else F j := rfl
theorem addB_WF {F : Int → Int} (hF : WF F) (hn : F 3 < 5) {c r t d : Int} (hc : 0 ≤ c ∧ c < F 0 * F 1) (hr : 0 ≤ r ∧ r ≤ 4) (ht : 1 ≤ t ∧ t ≤ 9) (hd : 0 ≤ d ∧ d ≤ 4) : WF (addB F c r t d) := by
  obtain ⟨h0, h1, h2, h3, h4, h5, h6, h7, h8, h9, h10, h11, h12⟩ := id hF; have hcc := hF.cells
  have e : ∀ j, j ≠ 3 → (j < 96 + 4 * F 3 ∨ 96 + 4 * F 3 + 3 < j) → addB F c r t d j = F j := fun j _ _ => by rw [addB_at, if_neg (by omega), if_neg (by omega), if_neg (by omega), if_neg (by omega), if_neg (by omega)]
  have e3 : addB F c r t d 3 = F 3 + 1 := rfl
  have f0 : addB F c r t d (96 + 4 * F 3) = c := by rw [addB_at, if_neg (by omega), if_neg (by omega), if_neg (by omega), if_neg (by omega), if_pos rfl]
  have f1 : addB F c r t d (96 + 4 * F 3 + 1) = r := by rw [addB_at, if_neg (by omega), if_neg (by omega), if_neg (by omega), if_pos rfl]
  have f2 : addB F c r t d (96 + 4 * F 3 + 2) = t := by rw [addB_at, if_neg (by omega), if_neg (by omega), if_pos rfl]
  have f3 : addB F c r t d (96 + 4 * F 3 + 3) = d := by rw [addB_at, if_neg (by omega), if_pos rfl]
  refine WF_hi hF (e 0 (by omega) (by omega)) (e 1 (by omega) (by omega)) (e 2 (by omega) (by omega)) (e 7 (by omega) (by omega)) (by rw [e3, e 4 (by omega) (by omega), e 5 (by omega) (by omega), e 6 (by omega) (by omega)]; omega) (by rw [e 5 (by omega) (by omega)]; omega) (fun c _ _ => e _ (by omega) (by omega)) (fun k k0 k1 => ?_) (fun k k0 k1 => ?_) (fun k k0 k1 => ?_) (fun k k0 k1 => ?_)
  · rw [e3] at k1
    by_cases z : k < F 3
    · exact Or.inl ⟨z, fun j _ _ => e _ (by omega) (by omega)⟩
    · have : k = F 3 := by omega
      subst this
      rw [f0, f1, f2, f3]
      exact Or.inr ⟨hc, hr, ht, hd⟩
  · rw [e 4 (by omega) (by omega)] at k1
    exact Or.inl ⟨k1, fun j _ _ => e _ (by omega) (by omega)⟩
  · rw [e 5 (by omega) (by omega)] at k1
    exact Or.inl ⟨k1, fun j _ _ => e _ (by omega) (by omega)⟩
  · rw [e 6 (by omega) (by omega)] at k1
    exact Or.inl ⟨k1, fun j _ _ => e _ (by omega) (by omega)⟩
theorem addV_WF {F : Int → Int} (hF : WF F) (hn : F 4 < 4) {c d r t : Int} (hc : 0 ≤ c ∧ c < F 0 * F 1) (hd : 0 ≤ d ∧ d ≤ 3) (hr : 1 ≤ r ∧ r ≤ 9) (ht : 0 ≤ t ∧ t ≤ 3) : WF (addV F c d r t) := by
  obtain ⟨h0, h1, h2, h3, h4, h5, h6, h7, h8, h9, h10, h11, h12⟩ := id hF; have hcc := hF.cells
  have e : ∀ j, j ≠ 4 → (j < 116 + 4 * F 4 ∨ 116 + 4 * F 4 + 3 < j) → addV F c d r t j = F j := fun j _ _ => by rw [addV_at, if_neg (by omega), if_neg (by omega), if_neg (by omega), if_neg (by omega), if_neg (by omega)]
  have e3 : addV F c d r t 4 = F 4 + 1 := rfl
  have f0 : addV F c d r t (116 + 4 * F 4) = c := by rw [addV_at, if_neg (by omega), if_neg (by omega), if_neg (by omega), if_neg (by omega), if_pos rfl]
  have f1 : addV F c d r t (116 + 4 * F 4 + 1) = d := by rw [addV_at, if_neg (by omega), if_neg (by omega), if_neg (by omega), if_pos rfl]
  have f2 : addV F c d r t (116 + 4 * F 4 + 2) = r := by rw [addV_at, if_neg (by omega), if_neg (by omega), if_pos rfl]
  have f3 : addV F c d r t (116 + 4 * F 4 + 3) = t := by rw [addV_at, if_neg (by omega), if_pos rfl]
  refine WF_hi hF (e 0 (by omega) (by omega)) (e 1 (by omega) (by omega)) (e 2 (by omega) (by omega)) (e 7 (by omega) (by omega)) (by rw [e3, e 3 (by omega) (by omega), e 5 (by omega) (by omega), e 6 (by omega) (by omega)]; omega) (by rw [e 5 (by omega) (by omega)]; omega) (fun c _ _ => e _ (by omega) (by omega)) (fun k k0 k1 => ?_) (fun k k0 k1 => ?_) (fun k k0 k1 => ?_) (fun k k0 k1 => ?_)
  · rw [e 3 (by omega) (by omega)] at k1
    exact Or.inl ⟨k1, fun j _ _ => e _ (by omega) (by omega)⟩
  · rw [e3] at k1
    by_cases z : k < F 4
    · exact Or.inl ⟨z, fun j _ _ => e _ (by omega) (by omega)⟩
    · have : k = F 4 := by omega
      subst this
      rw [f0, f1, f2, f3]
      exact Or.inr ⟨hc, hd, hr, ht⟩
  · rw [e 5 (by omega) (by omega)] at k1
    exact Or.inl ⟨k1, fun j _ _ => e _ (by omega) (by omega)⟩
  · rw [e 6 (by omega) (by omega)] at k1
    exact Or.inl ⟨k1, fun j _ _ => e _ (by omega) (by omega)⟩
/-- a courier's places that are free hold what the row's start holds: no step -/
theorem addC_WF {F : Int → Int} (hF : WF F) (hn : F 5 < 4) {c : Int} (hc : 0 ≤ c ∧ c < F 0 * F 1) (hs : F (132 + 6 * F 5 + 2) = 0) : WF (addC F c) := by
  obtain ⟨h0, h1, h2, h3, h4, h5, h6, h7, h8, h9, h10, h11, h12⟩ := id hF; have hcc := hF.cells
  have e : ∀ j, j ≠ 5 → (j < 132 + 6 * F 5 ∨ 132 + 6 * F 5 + 1 < j) → addC F c j = F j := fun j _ _ => by rw [addC_at, if_neg (by omega), if_neg (by omega), if_neg (by omega)]
  have e3 : addC F c 5 = F 5 + 1 := rfl
  have f0 : addC F c (132 + 6 * F 5) = c := by rw [addC_at, if_neg (by omega), if_neg (by omega), if_pos rfl]
  have f1 : addC F c (132 + 6 * F 5 + 1) = c := by rw [addC_at, if_neg (by omega), if_pos rfl]
  refine WF_hi hF (e 0 (by omega) (by omega)) (e 1 (by omega) (by omega)) (e 2 (by omega) (by omega)) (e 7 (by omega) (by omega)) (by rw [e3, e 3 (by omega) (by omega), e 4 (by omega) (by omega), e 6 (by omega) (by omega)]; omega) (by rw [e3]; omega) (fun c _ _ => e _ (by omega) (by omega)) (fun k k0 k1 => ?_) (fun k k0 k1 => ?_) (fun k k0 k1 => ?_) (fun k k0 k1 => ?_)
  · rw [e 3 (by omega) (by omega)] at k1
    exact Or.inl ⟨k1, fun j _ _ => e _ (by omega) (by omega)⟩
  · rw [e 4 (by omega) (by omega)] at k1
    exact Or.inl ⟨k1, fun j _ _ => e _ (by omega) (by omega)⟩
  · rw [e3] at k1
    by_cases z : k < F 5
    · exact Or.inl ⟨z, fun j _ _ => e _ (by omega) (by omega)⟩
    · have : k = F 5 := by omega
      subst this
      rw [f0, f1, e (132 + 6 * F 5 + 2) (by omega) (by omega)]
      exact Or.inr ⟨hc, hc, Or.inl hs⟩
  · rw [e 6 (by omega) (by omega)] at k1
    exact Or.inl ⟨k1, fun j _ _ => e _ (by omega) (by omega)⟩
theorem addL_WF {F : Int → Int} (hF : WF F) (hn : F 6 < 10) {c d : Int} (hc : 0 ≤ c ∧ c < F 0 * F 1) (hd : 0 ≤ d ∧ d < F 0 * F 1) : WF (addL F c d) := by
  obtain ⟨h0, h1, h2, h3, h4, h5, h6, h7, h8, h9, h10, h11, h12⟩ := id hF; have hcc := hF.cells
  have e : ∀ j, j ≠ 6 → (j < 156 + 6 * F 6 ∨ 156 + 6 * F 6 + 4 < j) → addL F c d j = F j := fun j _ _ => by rw [addL_at, if_neg (by omega), if_neg (by omega), if_neg (by omega), if_neg (by omega), if_neg (by omega), if_neg (by omega)]
  have e3 : addL F c d 6 = F 6 + 1 := rfl
  have f0 : addL F c d (156 + 6 * F 6) = c := by rw [addL_at, if_neg (by omega), if_neg (by omega), if_neg (by omega), if_neg (by omega), if_neg (by omega), if_pos rfl]
  have f1 : addL F c d (156 + 6 * F 6 + 1) = d := by rw [addL_at, if_neg (by omega), if_neg (by omega), if_neg (by omega), if_neg (by omega), if_pos rfl]
  have f2 : addL F c d (156 + 6 * F 6 + 2) = 0 := by rw [addL_at, if_neg (by omega), if_neg (by omega), if_neg (by omega), if_pos rfl]
  have f3 : addL F c d (156 + 6 * F 6 + 3) = c := by rw [addL_at, if_neg (by omega), if_neg (by omega), if_pos rfl]
  have f4 : addL F c d (156 + 6 * F 6 + 4) = -1 := by rw [addL_at, if_neg (by omega), if_pos rfl]
  refine WF_hi hF (e 0 (by omega) (by omega)) (e 1 (by omega) (by omega)) (e 2 (by omega) (by omega)) (e 7 (by omega) (by omega)) (by rw [e3, e 3 (by omega) (by omega), e 4 (by omega) (by omega), e 5 (by omega) (by omega)]; omega) (by rw [e 5 (by omega) (by omega)]; omega) (fun c _ _ => e _ (by omega) (by omega)) (fun k k0 k1 => ?_) (fun k k0 k1 => ?_) (fun k k0 k1 => ?_) (fun k k0 k1 => ?_)
  · rw [e 3 (by omega) (by omega)] at k1
    exact Or.inl ⟨k1, fun j _ _ => e _ (by omega) (by omega)⟩
  · rw [e 4 (by omega) (by omega)] at k1
    exact Or.inl ⟨k1, fun j _ _ => e _ (by omega) (by omega)⟩
  · rw [e 5 (by omega) (by omega)] at k1
    exact Or.inl ⟨k1, fun j _ _ => e _ (by omega) (by omega)⟩
  · rw [e3] at k1
    by_cases z : k < F 6
    · exact Or.inl ⟨z, fun j _ _ => e _ (by omega) (by omega)⟩
    · have : k = F 6 := by omega
      subst this
      rw [f0, f1, f2, f3, f4]
      exact Or.inr ⟨hc, hd, rfl, hc, rfl⟩
/-- a row while a setup is read: what is not yet told is 0; couriers are at home, off the walls -/
def RW (F : Int → Int) : Prop := WF F ∧ F 7 = 0 ∧ (∀ j, 8 ≤ j → j < 15 → F j = 0) ∧ (∀ c, F 0 * F 1 ≤ c → c < 81 → F (15 + c) = 0) ∧ (∀ k j, 0 ≤ k → k < 4 → 2 ≤ j → j < 6 → F (132 + 6 * k + j) = 0) ∧ (∀ k, 0 ≤ k → k < 10 → F (156 + 6 * k + 5) = 0) ∧ (∀ k, 0 ≤ k → k < F 5 → F (132 + 6 * k + 1) = F (132 + 6 * k) ∧ F (15 + F (132 + 6 * k)) = 0) ∧ (∀ k, 0 ≤ k → k < F 6 → F (156 + 6 * k + 2) = 0 ∧ F (156 + 6 * k + 3) = F (156 + 6 * k) ∧ F (156 + 6 * k + 4) = -1)
theorem told_no {F : Int → Int} (hF : WF F) {c : Int} (h : ¬ told F c = true) {k : Int} (hk : 0 ≤ k ∧ k < F 5) : F (132 + 6 * k) ≠ c := by
  have h5 := hF.2.2.2.2.2.1
  have key : ∀ (P : Int → Bool) (d n : Nat) (m : Nat), n ≤ m → m < n + d → P m = true → anyS P d n = true := by
    intro P d
    induction d with
    | zero => intro n m a b _; omega
    | succ d ih =>
      intro n m a b hp
      rw [anyS_s, Bool.or_eq_true]
      by_cases e : m = n
      · subst e; exact Or.inl hp
      · exact Or.inr (ih (n + 1) m (by omega) (by omega) hp)
  intro z
  apply h
  unfold told
  rw [Bool.or_eq_true, Bool.or_eq_true]
  refine Or.inr (Or.inl (key _ _ 0 k.toNat (Nat.zero_le _) (by omega) ?_))
  rw [Int.toNat_of_nonneg hk.1]
  exact decide_eq_true z
section LO
variable {w : Nat → Int → Int}
theorem RW_wall (hP : PW w) (hR : RW (w 0)) : RW (wallW w 0) := by
  unfold wallW
  have n0 : wl1 w 0 = w 0 := by unfold wl1; rw [cel_n (by omega), proc_n (by omega) (by omega) (by omega) (by omega)]
  split
  · rename_i e
    have o := cel_ok (w := procW w) (fw := 1) (but := -1) e
    rw [o.2.2.2.2]
    rw [proc_n (i := 0) (by omega) (by omega) (by omega) (by omega)] at o
    generalize procW w 14 0 = v at o
    obtain ⟨-, -, o1, o2, -⟩ := o
    obtain ⟨hF, r7, r8, rw8, rc, rl, rh, rt⟩ := hR
    obtain ⟨h0, h1, h2, h3, h4, h5, h6, h7, h8, h9, h10, h11, h12⟩ := id hF; have hcc := hF.cells
    show RW (up (w 0) (15 + v) 1)
    have tn : ∀ k, 0 ≤ k → k < w 0 5 → w 0 (132 + 6 * k) ≠ v := fun k a c => told_no hF (fun z => o2.2.2 ⟨rfl, z⟩) ⟨a, c⟩
    generalize hG : w 0 = F at *
    have e0 : ∀ j, (j < 15 ∨ 96 ≤ j) → up F (15 + v) 1 j = F j := fun j hj => up_n (by omega)
    refine ⟨WF_up hF (by unfold okU; (repeat' first | apply And.intro | intro _); all_goals omega), (e0 7 (by omega)).trans r7, fun j a c => (e0 j (by omega)).trans (r8 j a c), fun c a d => ?_, fun k j a c d f => (e0 _ (by omega)).trans (rc k j a c d f), fun k a c => (e0 _ (by omega)).trans (rl k a c), fun k a c => ?_, fun k a c => ?_⟩
    · rw [e0 0 (by omega), e0 1 (by omega)] at a
      rw [up_n (by omega)]
      exact rw8 c a d
    · rw [e0 5 (by omega)] at c
      have := rh k a c
      have t := tn k a c
      rw [e0 _ (by omega), e0 _ (by omega), up_n (by omega)]
      exact this
    · rw [e0 6 (by omega)] at c
      have := rt k a c
      rw [e0 _ (by omega), e0 _ (by omega), e0 _ (by omega), e0 _ (by omega)]
      exact this
  · rw [n0]; exact hR
theorem RW_bank (hP : PW w) (hR : RW (w 0)) : RW (bankW w 0) := by
  unfold bankW
  have n1 : bk1 w 0 = w 0 := by unfold bk1; rw [proc_n (by omega) (by omega) (by omega) (by omega), req_n (by omega) (by omega)]
  have n5 : bk5 w 0 = w 0 := by unfold bk5 bk4 bk3 bk2; rw [num_n (by omega), num_n (by omega), num_n (by omega), num_n (by omega), n1]
  split
  · rename_i e
    have o4 := num_ok (w := bk4 w) e
    have o3 := num_ok (w := bk3 w) o4.1
    have o2 := num_ok (w := bk2 w) o3.1
    have o1 := num_ok (w := bk1 w) o2.1
    have a := o1.1
    unfold bk1 at a
    rw [proc_n (by omega) (by omega) (by omega) (by omega)] at a
    have hn := bz_n0 (req_15 (by omega) a).2
    have v4 := o4.2.2.2
    have v3 := o3.2.2.2
    have v2 := o2.2.2.2
    have v1 := o1.2.2.2
    show RW (addB (w 0) (numV (bk1 w) 0 (w 0 0 * w 0 1 - 1)) (numV (bk2 w) 0 4) (numV (bk3 w) 1 9) (numV (bk4 w) 0 4))
    rw [v4, v3, v2, v1]
    have q4 := o4.2.2.1
    have q3 := o3.2.2.1
    have q2 := o2.2.2.1
    have q1 := o1.2.2.1
    generalize bk1 w 14 0 = x1 at *
    generalize bk2 w 14 0 = x2 at *
    generalize bk3 w 14 0 = x3 at *
    generalize bk4 w 14 0 = x4 at *
    clear v1 v2 v3 v4 o1 o2 o3 o4 a e
    obtain ⟨hF, r7, r8, rw8, rc, rl, rh, rt⟩ := hR
    obtain ⟨h0, h1, h2, h3, h4, h5, h6, h7, h8, h9, h10, h11, h12⟩ := id hF; have hcc := hF.cells
    generalize w 0 = F at *
    have e0 : ∀ j, j ≠ 3 → (j < 96 + 4 * F 3 ∨ 96 + 4 * F 3 + 3 < j) → addB F x1 x2 x3 x4 j = F j := fun j _ _ => by rw [addB_at, if_neg (by omega), if_neg (by omega), if_neg (by omega), if_neg (by omega), if_neg (by omega)]
    refine ⟨addB_WF hF hn (by omega) (by omega) (by omega) (by omega), (e0 7 (by omega) (by omega)).trans r7, fun j a c => (e0 j (by omega) (by omega)).trans (r8 j a c), fun c a d => ?_, fun k j a c d f => (e0 _ (by omega) (by omega)).trans (rc k j a c d f), fun k a c => (e0 _ (by omega) (by omega)).trans (rl k a c), fun k a c => ?_, fun k a c => ?_⟩
    · rw [e0 0 (by omega) (by omega), e0 1 (by omega) (by omega)] at a
      rw [e0 _ (by omega) (by omega)]
      exact rw8 c a d
    · rw [e0 5 (by omega) (by omega)] at c
      have b := h11 k a c
      rw [e0 _ (by omega) (by omega), e0 _ (by omega) (by omega), e0 _ (by omega) (by omega)]
      exact rh k a c
    · rw [e0 6 (by omega) (by omega)] at c
      rw [e0 _ (by omega) (by omega), e0 _ (by omega) (by omega), e0 _ (by omega) (by omega), e0 _ (by omega) (by omega)]
      exact rt k a c
  · rw [n5]; exact hR
theorem RW_wat (hP : PW w) (hR : RW (w 0)) : RW (watW w 0) := by
  unfold watW
  have n1 : wt1 w 0 = w 0 := by unfold wt1; rw [proc_n (by omega) (by omega) (by omega) (by omega), req_n (by omega) (by omega)]
  have n6 : wt6 w 0 = w 0 := by unfold wt6 wt5; rw [num_n (by omega), req_n (by omega) (by omega)]; unfold wt4 wt3 wt2; rw [num_n (by omega), num_n (by omega), cel_n (by omega), n1]
  split
  · rename_i e
    have o4 := num_ok (w := wt5 w) e
    have o3 := num_ok (w := wt3 w) (req_15 (by omega) o4.1).1
    have o2 := num_ok (w := wt2 w) o3.1
    have o1 := cel_ok (w := wt1 w) o2.1
    have a := o1.1
    unfold wt1 at a
    rw [proc_n (by omega) (by omega) (by omega) (by omega)] at a
    have hn := bz_n0 (req_15 (by omega) a).2
    have v4 := o4.2.2.2
    have v3 := o3.2.2.2
    have v2 := o2.2.2.2
    have v1 := o1.2.2.2.2
    show RW (addV (w 0) (celV (wt1 w) 0 (-1)) (numV (wt2 w) 0 3) (numV (wt3 w) 1 9) (numV (wt5 w) 0 3))
    rw [v4, v3, v2, v1]
    have q4 := o4.2.2.1
    have q3 := o3.2.2.1
    have q2 := o2.2.2.1
    have q1 := o1.2.2.1
    rw [n1] at q1
    generalize wt1 w 14 0 = x1 at *
    generalize wt2 w 14 0 = x2 at *
    generalize wt3 w 14 0 = x3 at *
    generalize wt5 w 14 0 = x4 at *
    clear v1 v2 v3 v4 o1 o2 o3 o4 a e n1 n6
    obtain ⟨hF, r7, r8, rw8, rc, rl, rh, rt⟩ := hR
    obtain ⟨h0, h1, h2, h3, h4, h5, h6, h7, h8, h9, h10, h11, h12⟩ := id hF; have hcc := hF.cells
    generalize w 0 = F at *
    have e0 : ∀ j, j ≠ 4 → (j < 116 + 4 * F 4 ∨ 116 + 4 * F 4 + 3 < j) → addV F x1 x2 x3 x4 j = F j := fun j _ _ => by rw [addV_at, if_neg (by omega), if_neg (by omega), if_neg (by omega), if_neg (by omega), if_neg (by omega)]
    refine ⟨addV_WF hF hn (by omega) (by omega) (by omega) (by omega), (e0 7 (by omega) (by omega)).trans r7, fun j a c => (e0 j (by omega) (by omega)).trans (r8 j a c), fun c a d => ?_, fun k j a c d f => (e0 _ (by omega) (by omega)).trans (rc k j a c d f), fun k a c => (e0 _ (by omega) (by omega)).trans (rl k a c), fun k a c => ?_, fun k a c => ?_⟩
    · rw [e0 0 (by omega) (by omega), e0 1 (by omega) (by omega)] at a
      rw [e0 _ (by omega) (by omega)]
      exact rw8 c a d
    · rw [e0 5 (by omega) (by omega)] at c
      have b := h11 k a c
      rw [e0 _ (by omega) (by omega), e0 _ (by omega) (by omega), e0 _ (by omega) (by omega)]
      exact rh k a c
    · rw [e0 6 (by omega) (by omega)] at c
      rw [e0 _ (by omega) (by omega), e0 _ (by omega) (by omega), e0 _ (by omega) (by omega), e0 _ (by omega) (by omega)]
      exact rt k a c
  · rw [n6]; exact hR
theorem RW_cou (hP : PW w) (hR : RW (w 0)) : RW (couW w 0) := by
  unfold couW
  have n1 : co1 w 0 = w 0 := by unfold co1; rw [proc_n (by omega) (by omega) (by omega) (by omega), req_n (by omega) (by omega)]
  have n2 : co2 w 0 = w 0 := by unfold co2; rw [cel_n (by omega), n1]
  split
  · rename_i e
    have o1 := cel_ok (w := co1 w) e
    have a := o1.1
    unfold co1 at a
    rw [proc_n (by omega) (by omega) (by omega) (by omega)] at a
    have hn := bz_n0 (req_15 (by omega) a).2
    have v1 := o1.2.2.2.2
    show RW (addC (w 0) (celV (co1 w) 0 (-1)))
    rw [v1]
    have q1 := o1.2.2.1
    have q2 := o1.2.2.2.1.1
    rw [n1] at q1 q2
    generalize co1 w 14 0 = x1 at *
    clear v1 o1 a e n1 n2
    obtain ⟨hF, r7, r8, rw8, rc, rl, rh, rt⟩ := hR
    obtain ⟨h0, h1, h2, h3, h4, h5, h6, h7, h8, h9, h10, h11, h12⟩ := id hF; have hcc := hF.cells
    generalize w 0 = F at *
    have e0 : ∀ j, j ≠ 5 → (j < 132 + 6 * F 5 ∨ 132 + 6 * F 5 + 1 < j) → addC F x1 j = F j := fun j _ _ => by rw [addC_at, if_neg (by omega), if_neg (by omega), if_neg (by omega)]
    have f0 : addC F x1 (132 + 6 * F 5) = x1 := by rw [addC_at, if_neg (by omega), if_neg (by omega), if_pos rfl]
    have f1 : addC F x1 (132 + 6 * F 5 + 1) = x1 := by rw [addC_at, if_neg (by omega), if_pos rfl]
    have e8 := h8 x1 q1.1 (by omega)
    refine ⟨addC_WF hF hn (by omega) (rc _ 2 (by omega) (by omega) (by omega) (by omega)), (e0 7 (by omega) (by omega)).trans r7, fun j a c => (e0 j (by omega) (by omega)).trans (r8 j a c), fun c a d => ?_, fun k j a c d f => (e0 _ (by omega) (by omega)).trans (rc k j a c d f), fun k a c => (e0 _ (by omega) (by omega)).trans (rl k a c), fun k a c => ?_, fun k a c => ?_⟩
    · rw [e0 0 (by omega) (by omega), e0 1 (by omega) (by omega)] at a
      rw [e0 _ (by omega) (by omega)]
      exact rw8 c a d
    · rw [show addC F x1 5 = F 5 + 1 from rfl] at c
      by_cases z : k < F 5
      · have b := h11 k a z
        rw [e0 (132 + 6 * k + 1) (by omega) (by omega), e0 (132 + 6 * k) (by omega) (by omega), e0 _ (by omega) (by omega)]
        exact rh k a z
      · have : k = F 5 := by omega
        subst this
        rw [f0, f1, e0 _ (by omega) (by omega)]
        exact ⟨rfl, by omega⟩
    · rw [e0 6 (by omega) (by omega)] at c
      rw [e0 _ (by omega) (by omega), e0 _ (by omega) (by omega), e0 _ (by omega) (by omega), e0 _ (by omega) (by omega)]
      exact rt k a c
  · rw [n2]; exact hR
theorem RW_let (hP : PW w) (hR : RW (w 0)) : RW (letW w 0) := by
  unfold letW
  have n00 : le0 w 0 = w 0 := by unfold le0; rw [req_n (by omega) (by omega)]
  have n1 : le1 w 0 = w 0 := by unfold le1; rw [proc_n (by omega) (by omega) (by omega) (by omega), req_n (by omega) (by omega), n00]
  have n2 : le2 w 0 = w 0 := by unfold le2; rw [cel_n (by omega), n1]
  have n3 : le3 w 0 = w 0 := by unfold le3; rw [cel_n (by omega), n2]
  split
  · rename_i e
    have o2 := cel_ok (w := le2 w) e
    have o1 := cel_ok (w := le1 w) o2.1
    have a := o1.1
    unfold le1 at a
    rw [proc_n (by omega) (by omega) (by omega) (by omega)] at a
    have hn := bz_n0 (req_15 (by omega) a).2
    have v2 := o2.2.2.2.2
    have v1 := o1.2.2.2.2
    show RW (addL (w 0) (celV (le1 w) 0 (-1)) (celV (le2 w) 0 (celV (le1 w) 0 (-1))))
    rw [v2, v1]
    have q2 := o2.2.2.1
    have q1 := o1.2.2.1
    rw [n1] at q1
    rw [n2] at q2
    generalize le1 w 14 0 = x1 at *
    generalize le2 w 14 0 = x2 at *
    clear v1 v2 o1 o2 a e n1 n2 n3 n00
    obtain ⟨hF, r7, r8, rw8, rc, rl, rh, rt⟩ := hR
    obtain ⟨h0, h1, h2, h3, h4, h5, h6, h7, h8, h9, h10, h11, h12⟩ := id hF; have hcc := hF.cells
    generalize w 0 = F at *
    have e0 : ∀ j, j ≠ 6 → (j < 156 + 6 * F 6 ∨ 156 + 6 * F 6 + 4 < j) → addL F x1 x2 j = F j := fun j _ _ => by rw [addL_at, if_neg (by omega), if_neg (by omega), if_neg (by omega), if_neg (by omega), if_neg (by omega), if_neg (by omega)]
    have f0 : addL F x1 x2 (156 + 6 * F 6) = x1 := by rw [addL_at, if_neg (by omega), if_neg (by omega), if_neg (by omega), if_neg (by omega), if_neg (by omega), if_pos rfl]
    have f2 : addL F x1 x2 (156 + 6 * F 6 + 2) = 0 := by rw [addL_at, if_neg (by omega), if_neg (by omega), if_neg (by omega), if_pos rfl]
    have f3 : addL F x1 x2 (156 + 6 * F 6 + 3) = x1 := by rw [addL_at, if_neg (by omega), if_neg (by omega), if_pos rfl]
    have f4 : addL F x1 x2 (156 + 6 * F 6 + 4) = -1 := by rw [addL_at, if_neg (by omega), if_pos rfl]
    refine ⟨addL_WF hF hn (by omega) (by omega), (e0 7 (by omega) (by omega)).trans r7, fun j a c => (e0 j (by omega) (by omega)).trans (r8 j a c), fun c a d => ?_, fun k j a c d f => (e0 _ (by omega) (by omega)).trans (rc k j a c d f), fun k a c => (e0 _ (by omega) (by omega)).trans (rl k a c), fun k a c => ?_, fun k a c => ?_⟩
    · rw [e0 0 (by omega) (by omega), e0 1 (by omega) (by omega)] at a
      rw [e0 _ (by omega) (by omega)]
      exact rw8 c a d
    · rw [e0 5 (by omega) (by omega)] at c
      have b := h11 k a c
      rw [e0 _ (by omega) (by omega), e0 _ (by omega) (by omega), e0 _ (by omega) (by omega)]
      exact rh k a c
    · rw [show addL F x1 x2 6 = F 6 + 1 from rfl] at c
      by_cases z : k < F 6
      · rw [e0 _ (by omega) (by omega), e0 _ (by omega) (by omega), e0 _ (by omega) (by omega), e0 _ (by omega) (by omega)]
        exact rt k a z
      · have : k = F 6 := by omega
        subst this
        rw [f0, f2, f3, f4]
        exact ⟨rfl, rfl, rfl⟩
  · rw [n3]; exact hR
theorem RW_line (hP : PW w) (hR : RW (w 0)) : RW (lineW w 0) := by
  unfold lineW
  rw [end_n (by omega)]
  unfold thingW
  repeat' split
  · exact RW_wall hP hR
  · exact RW_bank hP hR
  · exact RW_wat hP hR
  · exact RW_cou hP hR
  · exact RW_let hP hR
end LO
