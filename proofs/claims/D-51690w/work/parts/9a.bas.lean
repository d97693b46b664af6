/-! MC component 21: what acts leave of a row; rows that live -/
set_option maxRecDepth 100000
/-- couriers and their homes are on no wall -/
def NW (F : Int → Int) : Prop := F 5 ≤ 4 ∧ ∀ k, 0 ≤ k → k < F 5 → ((0 ≤ F (132 + 6 * k) ∧ F (132 + 6 * k) < 81) ∧ F (15 + F (132 + 6 * k)) = 0) ∧ ((0 ≤ F (132 + 6 * k + 1) ∧ F (132 + 6 * k + 1) < 81) ∧ F (15 + F (132 + 6 * k + 1)) = 0)
/-- a row that lives -/
def LR (F : Int → Int) : Prop := WF F ∧ F 7 ≤ 9999 ∧ NW F
def bas (F G : Int → Int) : Prop := (∀ j, j < 7 → G j = F j) ∧ (∀ j, 15 ≤ j → j < 96 → G j = F j) ∧ (∀ k, 0 ≤ k → k < 4 → G (116 + 4 * k) = F (116 + 4 * k)) ∧ (NW F → NW G)
theorem bas.rfl {F : Int → Int} : bas F F := ⟨fun _ _ => Eq.refl _, fun _ _ _ => Eq.refl _, fun _ _ _ => Eq.refl _, fun z => z⟩
theorem bas.trans {F G H : Int → Int} (u : bas F G) (v : bas G H) : bas F H := ⟨fun j a => (v.1 j a).trans (u.1 j a), fun j a b => (v.2.1 j a b).trans (u.2.1 j a b), fun k a b => (v.2.2.1 k a b).trans (u.2.2.1 k a b), fun z => v.2.2.2 (u.2.2.2 z)⟩
theorem bas.ch {F G : Int → Int} (u : bas F G) {j x : Int} (h1 : (7 ≤ j ∧ j < 15) ∨ 96 ≤ j) (h3 : ∀ k, 0 ≤ k → k < 4 → j ≠ 116 + 4 * k) (h4 : ∀ k, 0 ≤ k → k < 4 → j ≠ 132 + 6 * k ∧ j ≠ 132 + 6 * k + 1) : bas F (up G j x) := by
  refine u.trans ⟨fun i a => up_n (by omega), fun i a b => up_n (by omega), fun k a b => up_n (fun z => h3 k a b z.symm), fun hn => ?_⟩
  have e5 : up G j x 5 = G 5 := up_n (by omega)
  refine ⟨by rw [e5]; exact hn.1, fun k k0 k1 => ?_⟩
  rw [e5] at k1
  have n1 := hn.1
  have q := hn.2 k k0 k1
  have r := h4 k k0 (by omega)
  rw [up_n (fun z => r.1 z.symm), up_n (fun z => r.2 z.symm), up_n (by omega), up_n (by omega)]
  exact q
theorem bas_cell {F : Int → Int} {k x : Int} (hk : 0 ≤ k ∧ k < 4) (hx : NW F → k < F 5 → (0 ≤ x ∧ x < 81) ∧ F (15 + x) = 0) : bas F (up F (132 + 6 * k) x) := by
  refine ⟨fun i a => up_n (by omega), fun i a b => up_n (by omega), fun k a b => up_n (by omega), fun hn => ?_⟩
  have e5 : up F (132 + 6 * k) x 5 = F 5 := up_n (by omega)
  refine ⟨by rw [e5]; exact hn.1, fun i i0 i1 => ?_⟩
  rw [e5] at i1
  have n1 := hn.1
  have q := hn.2 i i0 i1
  rw [up_n (show 132 + 6 * i + 1 ≠ 132 + 6 * k by omega), up_n (show 15 + F (132 + 6 * i + 1) ≠ 132 + 6 * k by omega)]
  refine ⟨?_, q.2⟩
  by_cases e : i = k
  · subst e
    have y := hx hn i1
    rw [up_s, up_n (by omega)]
    exact y
  · rw [up_n (show 132 + 6 * i ≠ 132 + 6 * k by omega), up_n (by omega)]
    exact q.1
theorem drift1_bas {F : Int → Int} {k : Nat} (hk : k < 5) : bas F (drift1 F k) := by
  unfold drift1
  split
  · exact bas.rfl
  · exact bas.rfl.ch (by omega) (fun _ _ _ => by omega) (fun _ _ _ => by omega)
theorem driftN_bas {F : Int → Int} : ∀ n : Nat, n ≤ 5 → bas F (driftN F n) := by
  intro n
  induction n with
  | zero => intro _; exact bas.rfl
  | succ n ih => intro hn; exact (ih (by omega)).trans (drift1_bas (by omega))
theorem turnN_bas {F : Int → Int} : ∀ n : Nat, n ≤ 4 → bas F (turnN F n) := by
  intro n
  induction n with
  | zero => intro _; exact bas.rfl
  | succ n ih => intro hn; exact (ih (by omega)).trans (bas.rfl.ch (by omega) (fun _ _ _ => by omega) (fun _ _ _ => by omega))
theorem around_bas {F : Int → Int} (h3 : F 3 ≤ 5) (h4 : F 4 ≤ 4) : bas F (around F) := by
  unfold around
  have a : bas F (up F 7 (F 7 + 1)) := bas.rfl.ch (by omega) (fun _ _ _ => by omega) (fun _ _ _ => by omega)
  exact (a.trans (driftN_bas _ (by omega))).trans (turnN_bas _ (by omega))
theorem takeN_bas {G : Int → Int} {c : Int} : ∀ n : Nat, bas G (takeN c G n) := by
  intro n
  induction n with
  | zero => exact bas.rfl
  | succ n ih =>
    refine ih.trans ?_
    show bas _ (take1 c (takeN c G n) n)
    unfold take1
    split
    · exact (bas.rfl.ch (by omega) (fun _ _ _ => by omega) (fun _ _ _ => by omega)).ch (by omega) (fun _ _ _ => by omega) (fun _ _ _ => by omega)
    · exact bas.rfl
theorem caughtF_bas {F : Int → Int} {k : Int} (hk : 0 ≤ k ∧ k < 4) : bas F (caughtF F k) := by
  unfold caughtF
  refine bas.trans ?_ (takeN_bas _)
  unfold caught0
  have a : bas F (up (up F (132 + 6 * k + 4) (F (132 + 6 * k + 4) + 1)) 13 (F 13 + 1)) := (bas.rfl.ch (by omega) (fun _ _ _ => by omega) (fun _ _ _ => by omega)).ch (by omega) (fun _ _ _ => by omega) (fun _ _ _ => by omega)
  refine a.trans (bas_cell hk (fun hn h5 => ?_))
  have q := (hn.2 k hk.1 h5).2
  rw [up_n (show 132 + 6 * k + 1 ≠ 13 by omega), up_n (show 132 + 6 * k + 1 ≠ 132 + 6 * k + 4 by omega)] at q
  exact q
theorem tick1_bas {S G : Int → Int} {k : Nat} (hk : k < 4) : bas G (tick1 S G k) := by
  have a : bas G (up G (132 + 6 * (k : Int) + 2) 0) := bas.rfl.ch (by omega) (fun _ _ _ => by omega) (fun _ _ _ => by omega)
  unfold tick1
  split
  · exact a.trans (caughtF_bas (by omega))
  · exact a
theorem tickN_bas {S : Int → Int} : ∀ n : Nat, n ≤ 4 → bas S (tickN S n) := by
  intro n
  induction n with
  | zero => intro _; exact bas.rfl
  | succ n ih => intro hn; exact (ih (by omega)).trans (tick1_bas (by omega))
theorem tick_bas {F : Int → Int} (h3 : F 3 ≤ 5) (h4 : F 4 ≤ 4) (h5 : F 5 ≤ 4) : bas F (tick F) := (around_bas h3 h4).trans (tickN_bas _ (by omega))
theorem passN_bas : ∀ (n : Nat) (F : Int → Int), F 3 ≤ 5 → F 4 ≤ 4 → F 5 ≤ 4 → bas F (passN F n) := by
  intro n
  induction n with
  | zero => intro F _ _ _; exact bas.rfl
  | succ n ih =>
    intro F h3 h4 h5
    have i := ih F h3 h4 h5
    refine i.trans ?_
    show bas _ (tick (passN F n))
    exact tick_bas (by rw [i.1 3 (by omega)]; exact h3) (by rw [i.1 4 (by omega)]; exact h4) (by rw [i.1 5 (by omega)]; exact h5)
theorem WF.n {F : Int → Int} (hF : WF F) : F 3 ≤ 5 ∧ F 4 ≤ 4 ∧ F 5 ≤ 4 ∧ F 6 ≤ 10 := ⟨hF.2.2.2.1.2, hF.2.2.2.2.1.2, hF.2.2.2.2.2.1.2, hF.2.2.2.2.2.2.1.2⟩
theorem stepP_bas {F : Int → Int} (hF : WF F) {k d : Int} : bas F (stepP F k d).2.2 := by
  have hn := hF.n
  have hcc := hF.cells
  unfold stepP
  split
  · rename_i e1
    split
    · unfold aStep
      split
      · rename_i e2
        unfold whyStep at e2
        have q := nextC_r hF (F (132 + 6 * k)) d
        split at e2
        · omega
        · split at e2
          · omega
          · split at e2
            · omega
            · rename_i u1 u2 u3
              have h8 := hF.2.2.2.2.2.2.2.2.1 (nextC F (F (132 + 6 * k)) d) (by omega) (by omega)
              show bas F (stepF F k _)
              unfold stepF stepF0
              have a : bas F (up F (132 + 6 * k) (nextC F (F (132 + 6 * k)) d)) := bas_cell (by omega) (fun _ _ => ⟨by omega, by omega⟩)
              refine bas.ch (bas.ch (bas.ch (bas.ch a ?_ ?_ ?_) ?_ ?_ ?_) ?_ ?_ ?_) ?_ ?_ ?_
              all_goals first | omega | (intro k' _ _; omega)
      · exact bas.rfl
    · exact bas.rfl
  · exact bas.rfl
theorem pickP_bas {F : Int → Int} {k l : Int} : bas F (pickP F k l).2.2 := by
  unfold pickP
  split
  · rename_i e1
    unfold aPick
    split
    · show bas F (pickF F k l)
      unfold pickF
      refine bas.ch (bas.ch (bas.ch bas.rfl ?_ ?_ ?_) ?_ ?_ ?_) ?_ ?_ ?_
      all_goals first | omega | (intro k' _ _; omega)
    · exact bas.rfl
  · exact bas.rfl
theorem giveP_bas {F : Int → Int} {k o l : Int} : bas F (giveP F k o l).2.2 := by
  unfold giveP
  split
  · rename_i e1
    unfold aGive
    split
    · show bas F (giveF F o l)
      unfold giveF
      refine bas.ch (bas.ch (bas.ch bas.rfl ?_ ?_ ?_) ?_ ?_ ?_) ?_ ?_ ?_
      all_goals first | omega | (intro k' _ _; omega)
    · exact bas.rfl
  · exact bas.rfl
theorem layP_bas {F : Int → Int} {k l : Int} (h5 : F 5 ≤ 4) : bas F (layP F k l).2.2 := by
  unfold layP
  split
  · rename_i e1
    unfold aLay
    split
    · split
      · show bas F (layF1 F k l)
        unfold layF1
        refine bas.ch (bas.ch (bas.ch bas.rfl ?_ ?_ ?_) ?_ ?_ ?_) ?_ ?_ ?_
        all_goals first | omega | (intro k' _ _; omega)
      · show bas F (layF0 F k l)
        unfold layF0
        refine bas.ch (bas.ch (bas.ch (bas.ch bas.rfl ?_ ?_ ?_) ?_ ?_ ?_) ?_ ?_ ?_) ?_ ?_ ?_
        all_goals first | omega | (intro k' _ _; omega)
    · exact bas.rfl
  · exact bas.rfl
theorem passP_bas {F : Int → Int} (hF : WF F) {n : Int} : bas F (passP F n).2.2 := by
  have hn := hF.n
  unfold passP
  split
  · unfold aPass
    split
    · exact bas.rfl
    · exact passN_bas _ _ hn.1 hn.2.1 hn.2.2.1
  · exact bas.rfl
/-- an act by its number: 0 step, 1 pick, 2 give (who, to whom, letter), 3 lay, 4 pass -/
def opP (F : Int → Int) (op a b c : Int) : Int × Int × (Int → Int) := if op = 4 then passP F a else if op = 0 then stepP F a b else if op = 1 then pickP F a b else if op = 2 then giveP F a b c else layP F a b
theorem opP_bas {F : Int → Int} (hF : WF F) {op a b c : Int} : bas F (opP F op a b c).2.2 := by
  have hn := hF.n
  unfold opP
  split
  · exact passP_bas hF
  · split
    · exact stepP_bas hF
    · split
      · exact pickP_bas
      · split
        · exact giveP_bas
        · exact layP_bas hn.2.2.1
theorem opP_WF {F : Int → Int} (hF : WF F) (ht : F 7 ≤ 9999) {op a b c : Int} : WF (opP F op a b c).2.2 ∧ (opP F op a b c).2.2 7 ≤ 9999 := by
  unfold opP
  split
  · exact passP_WF hF ht
  · split
    · exact stepP_WF hF ht
    · split
      · exact pickP_WF hF ht
      · split
        · exact giveP_WF hF ht
        · exact layP_WF hF ht
theorem opP_LR {F : Int → Int} (hF : LR F) {op a b c : Int} : LR (opP F op a b c).2.2 := ⟨(opP_WF hF.1 hF.2.1).1, (opP_WF hF.1 hF.2.1).2, (opP_bas hF.1).2.2.2 hF.2.2⟩
theorem lowS_cong {P Q : Int → Bool} : ∀ d n : Nat, (∀ k : Nat, n ≤ k → k < n + d → P k = Q k) → lowS P d n = lowS Q d n := by
  intro d
  induction d with
  | zero => intro n _; rfl
  | succ d ih =>
    intro n h
    have i := ih (n + 1) (fun k a b => h k (by omega) (by omega))
    unfold lowS
    rw [h n (Nat.le_refl _) (by omega), i]
theorem lowW_bas {F G : Int → Int} (h4 : F 4 ≤ 4) (u : bas F G) {c : Int} : lowW G c = lowW F c := by
  unfold lowW
  rw [u.1 4 (by omega)]
  exact lowS_cong _ _ (fun k a b => by rw [u.2.2.1 k (by omega) (by omega)])
theorem NW_eqv {F G : Int → Int} (h : NW F) (e : eqv G F) : NW G := by
  have e5 := e 5 (by omega) (by omega)
  refine ⟨by rw [e5]; exact h.1, fun k k0 k1 => ?_⟩
  rw [e5] at k1
  have n1 := h.1
  have q := h.2 k k0 k1
  rw [e (132 + 6 * k) (by omega) (by omega), e (132 + 6 * k + 1) (by omega) (by omega), e (15 + F (132 + 6 * k)) (by omega) (by omega), e (15 + F (132 + 6 * k + 1)) (by omega) (by omega)]
  exact q
theorem LR_eqv {F G : Int → Int} (h : LR F) (e : eqv G F) : LR G := ⟨WF_eqv h.1 e, by rw [e 7 (by omega) (by omega)]; exact h.2.1, NW_eqv h.2.2 e⟩
theorem lowW_eqv {F G : Int → Int} (h4 : F 4 ≤ 4) (e : eqv G F) {c : Int} : lowW G c = lowW F c := by
  unfold lowW
  rw [e 4 (by omega) (by omega)]
  exact lowS_cong _ _ (fun k a b => by rw [e (116 + 4 * (k : Int)) (by omega) (by omega)])
