/-! MC pure 11: the twin's catches and ticks -/
set_option maxRecDepth 100000
def okU (F : Int → Int) (j x : Int) : Prop := 7 ≤ j ∧ (j = 7 → 0 ≤ x ∧ x ≤ 100000) ∧ (15 ≤ j → j < 96 → x = 0 ∨ x = 1) ∧
  (∀ k, 0 ≤ k → k < F 3 → (j = 96 + 4 * k → 0 ≤ x ∧ x < F 0 * F 1) ∧ (j = 96 + 4 * k + 1 → 0 ≤ x ∧ x ≤ 4) ∧ (j = 96 + 4 * k + 2 → 1 ≤ x ∧ x ≤ 9) ∧ (j = 96 + 4 * k + 3 → 0 ≤ x ∧ x ≤ 4)) ∧
  (∀ k, 0 ≤ k → k < F 4 → (j = 116 + 4 * k → 0 ≤ x ∧ x < F 0 * F 1) ∧ (j = 116 + 4 * k + 1 → 0 ≤ x ∧ x ≤ 3) ∧ (j = 116 + 4 * k + 2 → 1 ≤ x ∧ x ≤ 9) ∧ (j = 116 + 4 * k + 3 → 0 ≤ x ∧ x ≤ 3)) ∧
  (∀ k, 0 ≤ k → k < F 5 → (j = 132 + 6 * k → 0 ≤ x ∧ x < F 0 * F 1) ∧ (j = 132 + 6 * k + 1 → 0 ≤ x ∧ x < F 0 * F 1) ∧ (j = 132 + 6 * k + 2 → x = 0 ∨ x = 1)) ∧
  (∀ k, 0 ≤ k → k < F 6 → (j = 156 + 6 * k → 0 ≤ x ∧ x < F 0 * F 1) ∧ (j = 156 + 6 * k + 1 → 0 ≤ x ∧ x < F 0 * F 1) ∧ (j = 156 + 6 * k + 2 → (0 ≤ x ∧ x ≤ 3) ∧ (x = 1 → 0 ≤ F (156 + 6 * k + 4))) ∧ (j = 156 + 6 * k + 3 → 0 ≤ x ∧ x < F 0 * F 1) ∧ (j = 156 + 6 * k + 4 → (-1 ≤ x ∧ x < F 5) ∧ (F (156 + 6 * k + 2) = 1 → 0 ≤ x)))
theorem up_v {F : Int → Int} {i j x : Int} {p : Int → Prop} (h1 : j = i → p x) (h2 : j ≠ i → p (F j)) : p (up F i x j) := by
  unfold up
  split
  · rename_i e; exact h1 e
  · rename_i e; exact h2 e
theorem WF_up {F : Int → Int} (h : WF F) {j x : Int} (hj : okU F j x) : WF (up F j x) := by
  obtain ⟨h0, h1, h2, h3, h4, h5, h6, h7, h8, h9, h10, h11, h12⟩ := h
  obtain ⟨j7, j8, j9, j10, j11, j12, j13⟩ := hj
  have e : ∀ i : Int, i < 7 → up F j x i = F i := fun i hi => up_n (by omega)
  unfold WF
  rw [e 0 (by omega), e 1 (by omega), e 2 (by omega), e 3 (by omega), e 4 (by omega), e 5 (by omega), e 6 (by omega)]
  refine ⟨h0, h1, h2, h3, h4, h5, h6, ?_, fun c c1 c2 => ?_, fun k k1 k2 => ?_, fun k k1 k2 => ?_, fun k k1 k2 => ?_, fun k k1 k2 => ?_⟩
  · exact up_v (p := fun z => 0 ≤ z ∧ z ≤ 100000) (fun z => j8 z.symm) (fun _ => h7)
  · exact up_v (p := fun z => z = 0 ∨ z = 1) (fun z => j9 (by omega) (by omega)) (fun _ => h8 c c1 c2)
  · have a := j10 k k1 k2
    have b := h9 k k1 k2
    exact ⟨up_v (p := fun z => 0 ≤ z ∧ z < F 0 * F 1) (fun z => a.1 z.symm) (fun _ => b.1), up_v (p := fun z => 0 ≤ z ∧ z ≤ 4) (fun z => a.2.1 z.symm) (fun _ => b.2.1), up_v (p := fun z => 1 ≤ z ∧ z ≤ 9) (fun z => a.2.2.1 z.symm) (fun _ => b.2.2.1), up_v (p := fun z => 0 ≤ z ∧ z ≤ 4) (fun z => a.2.2.2 z.symm) (fun _ => b.2.2.2)⟩
  · have a := j11 k k1 k2
    have b := h10 k k1 k2
    exact ⟨up_v (p := fun z => 0 ≤ z ∧ z < F 0 * F 1) (fun z => a.1 z.symm) (fun _ => b.1), up_v (p := fun z => 0 ≤ z ∧ z ≤ 3) (fun z => a.2.1 z.symm) (fun _ => b.2.1), up_v (p := fun z => 1 ≤ z ∧ z ≤ 9) (fun z => a.2.2.1 z.symm) (fun _ => b.2.2.1), up_v (p := fun z => 0 ≤ z ∧ z ≤ 3) (fun z => a.2.2.2 z.symm) (fun _ => b.2.2.2)⟩
  · have a := j12 k k1 k2
    have b := h11 k k1 k2
    exact ⟨up_v (p := fun z => 0 ≤ z ∧ z < F 0 * F 1) (fun z => a.1 z.symm) (fun _ => b.1), up_v (p := fun z => 0 ≤ z ∧ z < F 0 * F 1) (fun z => a.2.1 z.symm) (fun _ => b.2.1), up_v (p := fun z => z = 0 ∨ z = 1) (fun z => a.2.2 z.symm) (fun _ => b.2.2)⟩
  · have a := j13 k k1 k2
    have b := h12 k k1 k2
    refine ⟨up_v (p := fun z => 0 ≤ z ∧ z < F 0 * F 1) (fun z => a.1 z.symm) (fun _ => b.1), up_v (p := fun z => 0 ≤ z ∧ z < F 0 * F 1) (fun z => a.2.1 z.symm) (fun _ => b.2.1), up_v (p := fun z => 0 ≤ z ∧ z ≤ 3) (fun z => (a.2.2.1 z.symm).1) (fun _ => b.2.2.1), up_v (p := fun z => 0 ≤ z ∧ z < F 0 * F 1) (fun z => a.2.2.2.1 z.symm) (fun _ => b.2.2.2.1), up_v (p := fun z => -1 ≤ z ∧ z < F 5) (fun z => (a.2.2.2.2 z.symm).1) (fun _ => b.2.2.2.2.1), ?_⟩
    by_cases e1 : j = 156 + 6 * k + 2
    · have := (a.2.2.1 e1).2
      rw [e1, up_s, up_n (by omega)]
      exact this
    · rw [up_n (fun z => e1 z.symm)]
      by_cases e2 : j = 156 + 6 * k + 4
      · rw [e2, up_s]
        exact (a.2.2.2.2 e2).2
      · rw [up_n (fun z => e2 z.symm)]
        exact b.2.2.2.2.2
theorem up_comm {F : Int → Int} {i j x y : Int} (hij : i ≠ j) : up (up F i x) j y = up (up F j y) i x := by
  funext z
  unfold up
  repeat' split
  all_goals first | rfl | (exfalso; omega)
/-- the same row -/
def eqv (F G : Int → Int) : Prop := ∀ j, 0 ≤ j → j < 216 → F j = G j
theorem WF_eqv {F G : Int → Int} (h : WF F) (e : eqv G F) : WF G := by
  obtain ⟨h0, h1, h2, h3, h4, h5, h6, h7, h8, h9, h10, h11, h12⟩ := h
  unfold WF
  rw [e 0 (by omega) (by omega), e 1 (by omega) (by omega), e 2 (by omega) (by omega), e 3 (by omega) (by omega), e 4 (by omega) (by omega), e 5 (by omega) (by omega), e 6 (by omega) (by omega), e 7 (by omega) (by omega)]
  refine ⟨h0, h1, h2, h3, h4, h5, h6, h7, fun c c1 c2 => ?_, fun k k1 k2 => ?_, fun k k1 k2 => ?_, fun k k1 k2 => ?_, fun k k1 k2 => ?_⟩
  · rw [e _ (by omega) (by omega)]; exact h8 c c1 c2
  · rw [e _ (by omega) (by omega), e _ (by omega) (by omega), e _ (by omega) (by omega), e _ (by omega) (by omega)]; exact h9 k k1 k2
  · rw [e _ (by omega) (by omega), e _ (by omega) (by omega), e _ (by omega) (by omega), e _ (by omega) (by omega)]; exact h10 k k1 k2
  · rw [e _ (by omega) (by omega), e _ (by omega) (by omega), e _ (by omega) (by omega)]; exact h11 k k1 k2
  · rw [e _ (by omega) (by omega), e _ (by omega) (by omega), e _ (by omega) (by omega), e _ (by omega) (by omega), e _ (by omega) (by omega)]; exact h12 k k1 k2
/-- a caught courier's letters are taken -/
def take1 (c : Int) (G : Int → Int) (l : Nat) : Int → Int := if G (156 + 6 * l + 2) = 1 ∧ G (156 + 6 * l + 4) = c then up (up G (156 + 6 * l + 2) 3) (156 + 6 * l + 4) (-1) else G
def takeN (c : Int) (G : Int → Int) : Nat → Int → Int
  | 0 => G
  | n + 1 => take1 c (takeN c G n) n
theorem take1_lo {c : Int} {G : Int → Int} {l : Nat} {j : Int} (hj : j < 156) : take1 c G l j = G j := by
  unfold take1
  split
  · rw [up_n (by omega), up_n (by omega)]
  · rfl
theorem takeN_lo {c : Int} {G : Int → Int} : ∀ (n : Nat) {j : Int}, j < 156 → takeN c G n j = G j := by
  intro n
  induction n with
  | zero => intro j _; rfl
  | succ n ih => intro j hj; exact (take1_lo hj).trans (ih hj)
theorem take1_WF {G : Int → Int} (hF : WF G) {c : Int} {l : Nat} (hl : (l : Int) < G 6) : WF (take1 c G l) := by
  unfold take1
  split
  · obtain ⟨h0, h1, h2, h3, h4, h5, h6, h7, h8, h9, h10, h11, h12⟩ := id hF; have hcc := hF.cells
    have g1 : WF (up G (156 + 6 * l + 2) 3) := WF_up hF (by unfold okU; (repeat' first | apply And.intro | intro _); all_goals omega)
    refine WF_up g1 ?_
    unfold okU
    have e : ∀ j : Int, j < 156 → up G (156 + 6 * l + 2) 3 j = G j := fun j hj => up_n (by omega)
    rw [e 0 (by omega), e 1 (by omega), e 3 (by omega), e 4 (by omega), e 5 (by omega), e 6 (by omega)]
    refine ⟨by omega, fun _ => by omega, fun _ _ => by omega, fun k _ _ => ?_, fun k _ _ => ?_, fun k _ _ => ?_, fun k k1 k2 => ?_⟩
    · (repeat' first | apply And.intro | intro _); all_goals omega
    · (repeat' first | apply And.intro | intro _); all_goals omega
    · (repeat' first | apply And.intro | intro _); all_goals omega
    · refine ⟨fun _ => by omega, fun _ => by omega, fun _ => by omega, fun _ => by omega, fun z => ⟨by omega, fun z2 => ?_⟩⟩
      have : k = l := by omega
      rw [this, up_s] at z2
      omega
  · exact hF
theorem takeN_WF {G : Int → Int} (hF : WF G) {c : Int} : ∀ n : Nat, (n : Int) ≤ G 6 → WF (takeN c G n) := by
  intro n
  induction n with
  | zero => intro _; exact hF
  | succ n ih => intro hn; exact take1_WF (ih (by omega)) (by rw [takeN_lo n (by omega)]; omega)
def caught0 (F : Int → Int) (k : Int) : Int → Int := up (up (up F (132 + 6 * k + 4) (F (132 + 6 * k + 4) + 1)) 13 (F 13 + 1)) (132 + 6 * k) (F (132 + 6 * k + 1))
def caughtF (F : Int → Int) (k : Int) : Int → Int := takeN k (caught0 F k) (F 6).toNat
theorem caught0_WF {F : Int → Int} (hF : WF F) {k : Int} (hk : 0 ≤ k ∧ k < F 5) : WF (caught0 F k) := by
  obtain ⟨h0, h1, h2, h3, h4, h5, h6, h7, h8, h9, h10, h11, h12⟩ := id hF; have hcc := hF.cells
  have b := h11 k hk.1 hk.2
  unfold caught0
  have g1 : WF (up F (132 + 6 * k + 4) (F (132 + 6 * k + 4) + 1)) := WF_up hF (by unfold okU; (repeat' first | apply And.intro | intro _); all_goals omega)
  have g2 : WF (up (up F (132 + 6 * k + 4) (F (132 + 6 * k + 4) + 1)) 13 (F 13 + 1)) := by
    refine WF_up g1 ?_
    have e : ∀ j : Int, j < 132 → up F (132 + 6 * k + 4) (F (132 + 6 * k + 4) + 1) j = F j := fun j hj => up_n (by omega)
    unfold okU
    rw [e 0 (by omega), e 1 (by omega), e 3 (by omega), e 4 (by omega), e 5 (by omega), e 6 (by omega)]
    (repeat' first | apply And.intro | intro _); all_goals omega
  refine WF_up g2 ?_
  have e : ∀ j : Int, j < 8 → up (up F (132 + 6 * k + 4) (F (132 + 6 * k + 4) + 1)) 13 (F 13 + 1) j = F j := fun j hj => (up_n (by omega)).trans (up_n (by omega))
  unfold okU
  rw [e 0 (by omega), e 1 (by omega), e 3 (by omega), e 4 (by omega), e 5 (by omega), e 6 (by omega)]
  (repeat' first | apply And.intro | intro _); all_goals omega
theorem caught0_at {F : Int → Int} {k j : Int} (h1 : j ≠ 13) (h2 : j ≠ 132 + 6 * k) (h3 : j ≠ 132 + 6 * k + 4) : caught0 F k j = F j := by
  unfold caught0
  rw [up_n h2, up_n h1, up_n h3]
theorem caughtF_WF {F : Int → Int} (hF : WF F) {k : Int} (hk : 0 ≤ k ∧ k < F 5) : WF (caughtF F k) := by
  have h6 := hF.2.2.2.2.2.2.1
  exact takeN_WF (caught0_WF hF hk) _ (by rw [caught0_at (by omega) (by omega) (by omega)]; omega)
theorem caughtF_lo {F : Int → Int} {k j : Int} (hk : 0 ≤ k) (hj : j < 132) (h13 : j ≠ 13) : caughtF F k j = F j := by
  unfold caughtF
  rw [takeN_lo _ (by omega), caught0_at h13 (by omega) (by omega)]
/-- a courier's tick, seen as in S -/
def tick1 (S : Int → Int) (G : Int → Int) (k : Nat) : Int → Int := if seen S (G (132 + 6 * k)) = true then caughtF (up G (132 + 6 * k + 2) 0) k else up G (132 + 6 * k + 2) 0
def tickN (S : Int → Int) : Nat → Int → Int
  | 0 => S
  | n + 1 => tick1 S (tickN S n) n
def tick (F : Int → Int) : Int → Int := tickN (around F) (F 5).toNat
def passN (F : Int → Int) : Nat → Int → Int
  | 0 => F
  | n + 1 => tick (passN F n)
theorem WF_step0 {G : Int → Int} (hF : WF G) {k : Int} (hk : 0 ≤ k ∧ k < G 5) {x : Int} (hx : x = 0 ∨ x = 1) : WF (up G (132 + 6 * k + 2) x) := by
  obtain ⟨h0, h1, h2, h3, h4, h5, h6, h7, h8, h9, h10, h11, h12⟩ := id hF; have hcc := hF.cells
  exact WF_up hF (by unfold okU; (repeat' first | apply And.intro | intro _); all_goals omega)
theorem tick1_WF {S G : Int → Int} (hF : WF G) {k : Nat} (hk : (k : Int) < G 5) : WF (tick1 S G k) := by
  have g1 := WF_step0 hF (k := (k : Int)) (x := 0) (by omega) (Or.inl rfl)
  unfold tick1
  split
  · exact caughtF_WF g1 (by rw [up_n (by omega)]; omega)
  · exact g1
theorem tick1_lo {S G : Int → Int} {k : Nat} {j : Int} (hj : j < 132) (h13 : j ≠ 13) : tick1 S G k j = G j := by
  unfold tick1
  split
  · rw [caughtF_lo (by omega) hj h13, up_n (by omega)]
  · exact up_n (by omega)
theorem tickN_lo {S : Int → Int} : ∀ (n : Nat) {j : Int}, j < 132 → j ≠ 13 → tickN S n j = S j := by
  intro n
  induction n with
  | zero => intro j _ _; rfl
  | succ n ih => intro j hj h13; exact (tick1_lo hj h13).trans (ih hj h13)
theorem tickN_WF {S : Int → Int} (hF : WF S) : ∀ n : Nat, (n : Int) ≤ S 5 → WF (tickN S n) := by
  intro n
  induction n with
  | zero => intro _; exact hF
  | succ n ih => intro hn; exact tick1_WF (ih (by omega)) (by rw [tickN_lo n (by omega) (by omega)]; omega)
theorem around_WF {F : Int → Int} (hF : WF F) (ht : F 7 < 100000) : WF (around F) := by
  obtain ⟨h0, h1, h2, h3, h4, h5, h6, h7, h8, h9, h10, h11, h12⟩ := id hF; have hcc := hF.cells
  have g1 := WF_time hF (x := F 7 + 1) (by omega)
  have e3 : up F 7 (F 7 + 1) 3 = F 3 := up_n (by omega)
  have e4 : up F 7 (F 7 + 1) 4 = F 4 := up_n (by omega)
  have g2 := driftN_WF g1 (F 3).toNat (by rw [e3]; omega)
  exact turnN_WF g2 _ (by rw [driftN_lo _ (by omega), e4]; omega)
theorem around_lo {F : Int → Int} {j : Int} (hj : j < 96) (h7 : j ≠ 7) : around F j = F j := by
  unfold around
  rw [turnN_lo _ (by omega), driftN_lo _ hj, up_n h7]
theorem around_7 {F : Int → Int} : around F 7 = F 7 + 1 := by
  unfold around
  rw [turnN_lo _ (by omega), driftN_lo _ (by omega), up_s]
theorem tick_WF {F : Int → Int} (hF : WF F) (ht : F 7 < 100000) : WF (tick F) := by
  have h5 := hF.2.2.2.2.2.1
  exact tickN_WF (around_WF hF ht) _ (by rw [around_lo (by omega) (by omega)]; omega)
theorem tick_lo {F : Int → Int} {j : Int} (hj : j < 96) (h7 : j ≠ 7) (h13 : j ≠ 13) : tick F j = F j := by
  unfold tick
  rw [tickN_lo _ (by omega) h13, around_lo hj h7]
theorem tick_7 {F : Int → Int} : tick F 7 = F 7 + 1 := by
  unfold tick
  rw [tickN_lo _ (by omega) (by omega), around_7]
theorem passN_7 {F : Int → Int} : ∀ n : Nat, passN F n 7 = F 7 + n := by
  intro n
  induction n with
  | zero => show F 7 = F 7 + ((0 : Nat) : Int); omega
  | succ n ih => show tick (passN F n) 7 = _; rw [tick_7, ih]; omega
theorem passN_WF {F : Int → Int} (hF : WF F) : ∀ n : Nat, F 7 + n ≤ 100000 → WF (passN F n) := by
  intro n
  induction n with
  | zero => intro _; exact hF
  | succ n ih => intro hn; exact tick_WF (ih (by omega)) (by rw [passN_7]; omega)
theorem passN_lo {F : Int → Int} {j : Int} (hj : j < 96) (h7 : j ≠ 7) (h13 : j ≠ 13) : ∀ n : Nat, passN F n j = F j := by
  intro n
  induction n with
  | zero => rfl
  | succ n ih => exact (tick_lo hj h7 h13).trans ih
/-- how often caught -/
theorem tick1_13 {S G : Int → Int} {k : Nat} : G 13 ≤ tick1 S G k 13 ∧ tick1 S G k 13 ≤ G 13 + 1 := by
  unfold tick1
  split
  · unfold caughtF
    rw [takeN_lo _ (by omega)]
    unfold caught0
    rw [up_n (by omega), up_s, up_n (by omega)]
    omega
  · rw [up_n (by omega)]
    omega
theorem tickN_13 {S : Int → Int} : ∀ n : Nat, S 13 ≤ tickN S n 13 ∧ tickN S n 13 ≤ S 13 + n := by
  intro n
  induction n with
  | zero => show S 13 ≤ S 13 ∧ S 13 ≤ S 13 + ((0 : Nat) : Int); omega
  | succ n ih =>
    have := tick1_13 (S := S) (G := tickN S n) (k := n)
    show S 13 ≤ tick1 S (tickN S n) n 13 ∧ tick1 S (tickN S n) n 13 ≤ _
    omega
theorem passN_13 {F : Int → Int} (hF : WF F) : ∀ n : Nat, F 13 ≤ passN F n 13 ∧ passN F n 13 ≤ F 13 + 4 * n := by
  have h5 := hF.2.2.2.2.2.1
  intro n
  induction n with
  | zero => show F 13 ≤ F 13 ∧ F 13 ≤ F 13 + 4 * ((0 : Nat) : Int); omega
  | succ n ih =>
    have h1 := tickN_13 (S := around (passN F n)) (passN F n 5).toNat
    have e5 := passN_lo (F := F) (show (5 : Int) < 96 by omega) (by omega) (by omega) n
    rw [around_lo (by omega) (by omega), e5] at h1
    have e : passN F (n + 1) 13 = tickN (around (passN F n)) (F 5).toNat 13 := by
      show tickN (around (passN F n)) (passN F n 5).toNat 13 = _
      rw [e5]
    rw [e]
    omega
section CA
variable {E : mE} {b : Nat} {h : mH} {w : Nat → Int → Int}
theorem L314 (hE : E.1 ≤ b) {G : Int → Int} (hF : WF G) {c : Int} (hc : 0 ≤ c ∧ c < 4) : ∀ d k : Nat, (k : Int) + d = G 6 → mV E gP (314, 26, [some (.ref b), some (.int (Int32.ofInt c)), some (.int (Int32.ofInt k))], [], tT b h (wu w 0 (takeN c G k))) = some (.inl none, tT b h (wu w 0 (takeN c G (k + d)))) := by
  have h6 := hF.2.2.2.2.2.2.1
  intro d
  induction d with
  | zero =>
    intro k hk
    have e := takeN_lo (c := c) (G := G) k (show (6 : Int) < 156 by omega)
    rw [lb314_26]
    simp (disch := first | assumption | omega | exact i8_r | exact cat1_rf | exact cat_rf | exact mf_20 | exact cat1_i | exact cat1_r | exact cat1_n | exact cat_i | exact cat_r | exact cat_n | exact mf_0 | exact mf_4 | exact mf_4n | exact mf_10 | exact mf_11 | exact mnd_0 | exact mnd_i | exact mnd_r | exact mnd_n | exact mnd_f | exact bz_r | exact bz_01 | (simp only [List.length_cons, List.length_nil] <;> omega) | (simp only [wu, Nat.reduceEqDiff, if_true, if_false] <;> first | assumption | omega)) only [Int.reduceToNat, Nat.reduceDiv, Nat.reduceMod, Nat.reduceAdd, Nat.reduceSub, Int.reduceNeg, Int.reduceAdd, Int.reduceSub, Int.reduceMul, Int.reduceLT, Int.reduceLE, if_true, if_false, List.length_cons, List.length_nil, bz_z, fin_0, fin_1, fin_2, fin_3, x_0, x_Ts, x_Ss, x_iinc, x_iload_n, x_iload, x_lload_n, x_lload, x_fload_n, x_fload, x_dload_n, x_dload, x_aload_n, x_aload, x_istore_n, x_istore, x_astore_n, x_astore, x_fstore_n, x_fstore, x_dstore_n, x_dstore, x_lstore_n, x_lstore, m_iconst, m_bipush, m_sipush, m_ldci, m_ldcr, m_ldcw, m_null, m_gsi, m_gsr, m_add, m_sub, m_mul, m_neg, m_div, m_rem, m_max, m_min, m_abs, m_pop, m_dup, m_dupx1, m_dupx2, m_dup2, m_getf, m_putf, g_puts, m_iald, m_bald, g_alds, m_iast, m_bast, g_asti, g_astz, m_alen, g_lens, m_new, m_newi, m_oinit, h_ps, h_pn, h_ns, h_nn, h_p1, h_n1, h_n2, h_pp, x_goto, x_if, x_icmp, x_nullr, x_nulln, x_nnr, x_nnn, x_fall, z_eq, z_ne, z_lt, z_ge, z_gt, z_le, c_eq, c_ne, c_lt, c_ge, c_gt, c_le, x_ret, x_iret, x_aret, x_nret, x_zret, x_Rv, x_Rn, x_Rx, g_clss, x_Ws, x_Ks, x_cs0, x_cs1, x_cs2, x_cs3, x_cs4, x_cs5, x_cv0, x_cv1, x_cv2, x_cv3, x_cv4, x_ci0, x_ci1, x_ci2, x_ci3, x_ci4, x_cp0, x_cp1, x_cp2, x_cp3, x_cp4, ldi_0, lda_0, ldf_0, ldl_0, ldd_0, ldi_1, lda_1, ldf_1, ldl_1, ldd_1, ldi_2, lda_2, ldf_2, ldl_2, ldd_2, ldi_3, lda_3, ldf_3, ldl_3, ldd_3, ldi_4, lda_4, ldf_4, ldl_4, ldd_4, ldi_5, lda_5, ldf_5, ldl_5, ldd_5, ldi_6, lda_6, ldf_6, ldl_6, ldd_6, ldi_7, lda_7, ldf_7, ldl_7, ldd_7, ldi_8, lda_8, ldf_8, ldl_8, ldd_8, ldi_9, lda_9, ldf_9, ldl_9, ldd_9, ldi_10, lda_10, ldf_10, ldl_10, ldd_10, ldi_11, lda_11, ldf_11, ldl_11, ldd_11, ldi_12, lda_12, ldf_12, ldl_12, ldd_12, ldi_13, lda_13, ldf_13, ldl_13, ldd_13, ldn_0, ldn_1, ldn_2, ldn_3, ldn_4, ldn_5, ldn_6, ldn_7, ldn_8, ldn_9, ldn_10, ldn_11, ldn_12, ldn_13, sti_0, sta_0, stf_0, sti_1, sta_1, stf_1, sti_2, sta_2, stf_2, sti_3, sta_3, stf_3, sti_4, sta_4, stf_4, sti_5, sta_5, stf_5, sti_6, sta_6, stf_6, sti_7, sta_7, stf_7, sti_8, sta_8, stf_8, sti_9, sta_9, stf_9, sti_10, sta_10, stf_10, sti_11, sta_11, stf_11, sti_12, sta_12, stf_12, sti_13, sta_13, stf_13, stn_0, stn_1, stn_2, stn_3, stn_4, stn_5, stn_6, stn_7, stn_8, stn_9, stn_10, stn_11, stn_12, stn_13, inc_0, inc_1, inc_2, inc_3, inc_4, inc_5, inc_6, inc_7, inc_8, inc_9, inc_10, inc_11, inc_12, inc_13, sw19_2, sw71_2, sw75_39, sw125_11, sw127_18, sw130_17, sw135_20, sw136_19, sw146_44, sw174_83, sw174_183, sw175_11, sw175_106, sw183_11, sw183_128, sw184_17, sw184_92, sw207_17, sw207_123, sw293_60, sw333_6, sw338_20, sw345_20, sw349_20, sw350_20, sw351_6, sw370_7, m_i2f, m_i2d, m_fc1, m_dc0, x_fret, x_dret, m_i2b, m_and255, m_and63, m_shr24, m_shr16, m_shr8, m_shr0, m_shr1, g_astb, m_i2c, x_cret, x_bret, m_gsn, t_0, t_1, t_2, t_3, t_4, t_5, t_6, t_7, t_8, t_9, t_10, t_11, t_12, t_13, tg_0, tg_1, tg_2, tg_3, tg_4, tg_5, tg_6, tg_7, tg_8, tg_9, tg_10, tg_11, tg_12, tg_13, tg_14, tg_15, tg_16, tg_17, tg_18, tg_19, tg_20, tg_21, tg_22, tg_23, tp_0, tp_1, tp_2, tp_3, tp_4, tp_5, tp_6, tp_7, tp_8, tp_9, tp_10, tp_11, tp_12, tp_13, tp_14, tp_15, tp_16, tp_17, tp_18, tp_19, tp_20, tp_21, tp_22, tp_23, wu_s, wu_n, wu_wu, if_pos, if_neg, Bool.false_eq_true, Int.add_zero, Nat.add_zero, Int.reduceEq, Int.zero_add, ne_eq, not_true_eq_false, not_false_eq_true, and_self, and_true, true_and, and_false, false_and, or_true, true_or, or_false, false_or,  b314_26, lb314_60, b314_60, lb314_66, b314_66, e]
  | succ d ih =>
    intro k hk
    have e := takeN_lo (c := c) (G := G) k (show (6 : Int) < 156 by omega)
    have hG := takeN_WF hF (c := c) k (by omega)
    have h2 := ih (k + 1) (by omega)
    rw [show k + 1 + d = k + (d + 1) by omega] at h2
    simp only [Int.natCast_add, Int.natCast_one] at h2
    rw [lb314_26]
    by_cases e1 : takeN c G k (156 + 6 * k + 2) = 1 ∧ takeN c G k (156 + 6 * k + 4) = c
    · have e2 : takeN c G (k + 1) = up (up (takeN c G k) (156 + 6 * k + 2) 3) (156 + 6 * k + 4) (-1) := by
        show take1 c (takeN c G k) k = _
        unfold take1
        rw [if_pos e1]
      rw [e2] at h2
      simp (disch := first | assumption | omega | exact i8_r | exact cat1_rf | exact cat_rf | exact mf_20 | exact cat1_i | exact cat1_r | exact cat1_n | exact cat_i | exact cat_r | exact cat_n | exact mf_0 | exact mf_4 | exact mf_4n | exact mf_10 | exact mf_11 | exact mnd_0 | exact mnd_i | exact mnd_r | exact mnd_n | exact mnd_f | exact bz_r | exact bz_01 | (simp only [List.length_cons, List.length_nil] <;> omega) | (simp only [wu, Nat.reduceEqDiff, if_true, if_false] <;> first | assumption | omega)) only [Int.reduceToNat, Nat.reduceDiv, Nat.reduceMod, Nat.reduceAdd, Nat.reduceSub, Int.reduceNeg, Int.reduceAdd, Int.reduceSub, Int.reduceMul, Int.reduceLT, Int.reduceLE, if_true, if_false, List.length_cons, List.length_nil, bz_z, fin_0, fin_1, fin_2, fin_3, x_0, x_Ts, x_Ss, x_iinc, x_iload_n, x_iload, x_lload_n, x_lload, x_fload_n, x_fload, x_dload_n, x_dload, x_aload_n, x_aload, x_istore_n, x_istore, x_astore_n, x_astore, x_fstore_n, x_fstore, x_dstore_n, x_dstore, x_lstore_n, x_lstore, m_iconst, m_bipush, m_sipush, m_ldci, m_ldcr, m_ldcw, m_null, m_gsi, m_gsr, m_add, m_sub, m_mul, m_neg, m_div, m_rem, m_max, m_min, m_abs, m_pop, m_dup, m_dupx1, m_dupx2, m_dup2, m_getf, m_putf, g_puts, m_iald, m_bald, g_alds, m_iast, m_bast, g_asti, g_astz, m_alen, g_lens, m_new, m_newi, m_oinit, h_ps, h_pn, h_ns, h_nn, h_p1, h_n1, h_n2, h_pp, x_goto, x_if, x_icmp, x_nullr, x_nulln, x_nnr, x_nnn, x_fall, z_eq, z_ne, z_lt, z_ge, z_gt, z_le, c_eq, c_ne, c_lt, c_ge, c_gt, c_le, x_ret, x_iret, x_aret, x_nret, x_zret, x_Rv, x_Rn, x_Rx, g_clss, x_Ws, x_Ks, x_cs0, x_cs1, x_cs2, x_cs3, x_cs4, x_cs5, x_cv0, x_cv1, x_cv2, x_cv3, x_cv4, x_ci0, x_ci1, x_ci2, x_ci3, x_ci4, x_cp0, x_cp1, x_cp2, x_cp3, x_cp4, ldi_0, lda_0, ldf_0, ldl_0, ldd_0, ldi_1, lda_1, ldf_1, ldl_1, ldd_1, ldi_2, lda_2, ldf_2, ldl_2, ldd_2, ldi_3, lda_3, ldf_3, ldl_3, ldd_3, ldi_4, lda_4, ldf_4, ldl_4, ldd_4, ldi_5, lda_5, ldf_5, ldl_5, ldd_5, ldi_6, lda_6, ldf_6, ldl_6, ldd_6, ldi_7, lda_7, ldf_7, ldl_7, ldd_7, ldi_8, lda_8, ldf_8, ldl_8, ldd_8, ldi_9, lda_9, ldf_9, ldl_9, ldd_9, ldi_10, lda_10, ldf_10, ldl_10, ldd_10, ldi_11, lda_11, ldf_11, ldl_11, ldd_11, ldi_12, lda_12, ldf_12, ldl_12, ldd_12, ldi_13, lda_13, ldf_13, ldl_13, ldd_13, ldn_0, ldn_1, ldn_2, ldn_3, ldn_4, ldn_5, ldn_6, ldn_7, ldn_8, ldn_9, ldn_10, ldn_11, ldn_12, ldn_13, sti_0, sta_0, stf_0, sti_1, sta_1, stf_1, sti_2, sta_2, stf_2, sti_3, sta_3, stf_3, sti_4, sta_4, stf_4, sti_5, sta_5, stf_5, sti_6, sta_6, stf_6, sti_7, sta_7, stf_7, sti_8, sta_8, stf_8, sti_9, sta_9, stf_9, sti_10, sta_10, stf_10, sti_11, sta_11, stf_11, sti_12, sta_12, stf_12, sti_13, sta_13, stf_13, stn_0, stn_1, stn_2, stn_3, stn_4, stn_5, stn_6, stn_7, stn_8, stn_9, stn_10, stn_11, stn_12, stn_13, inc_0, inc_1, inc_2, inc_3, inc_4, inc_5, inc_6, inc_7, inc_8, inc_9, inc_10, inc_11, inc_12, inc_13, sw19_2, sw71_2, sw75_39, sw125_11, sw127_18, sw130_17, sw135_20, sw136_19, sw146_44, sw174_83, sw174_183, sw175_11, sw175_106, sw183_11, sw183_128, sw184_17, sw184_92, sw207_17, sw207_123, sw293_60, sw333_6, sw338_20, sw345_20, sw349_20, sw350_20, sw351_6, sw370_7, m_i2f, m_i2d, m_fc1, m_dc0, x_fret, x_dret, m_i2b, m_and255, m_and63, m_shr24, m_shr16, m_shr8, m_shr0, m_shr1, g_astb, m_i2c, x_cret, x_bret, m_gsn, t_0, t_1, t_2, t_3, t_4, t_5, t_6, t_7, t_8, t_9, t_10, t_11, t_12, t_13, tg_0, tg_1, tg_2, tg_3, tg_4, tg_5, tg_6, tg_7, tg_8, tg_9, tg_10, tg_11, tg_12, tg_13, tg_14, tg_15, tg_16, tg_17, tg_18, tg_19, tg_20, tg_21, tg_22, tg_23, tp_0, tp_1, tp_2, tp_3, tp_4, tp_5, tp_6, tp_7, tp_8, tp_9, tp_10, tp_11, tp_12, tp_13, tp_14, tp_15, tp_16, tp_17, tp_18, tp_19, tp_20, tp_21, tp_22, tp_23, wu_s, wu_n, wu_wu, if_pos, if_neg, Bool.false_eq_true, Int.add_zero, Nat.add_zero, Int.reduceEq, Int.zero_add, ne_eq, not_true_eq_false, not_false_eq_true, and_self, and_true, true_and, and_false, false_and, or_true, true_or, or_false, false_or,  b314_26, lb314_60, b314_60, lb314_66, b314_66, e, R317, R255, e1]
      exact h2
    · have e2 : takeN c G (k + 1) = takeN c G k := by
        show take1 c (takeN c G k) k = _
        unfold take1
        rw [if_neg e1]
      rw [e2] at h2
      simp (disch := first | assumption | omega | exact i8_r | exact cat1_rf | exact cat_rf | exact mf_20 | exact cat1_i | exact cat1_r | exact cat1_n | exact cat_i | exact cat_r | exact cat_n | exact mf_0 | exact mf_4 | exact mf_4n | exact mf_10 | exact mf_11 | exact mnd_0 | exact mnd_i | exact mnd_r | exact mnd_n | exact mnd_f | exact bz_r | exact bz_01 | (simp only [List.length_cons, List.length_nil] <;> omega) | (simp only [wu, Nat.reduceEqDiff, if_true, if_false] <;> first | assumption | omega)) only [Int.reduceToNat, Nat.reduceDiv, Nat.reduceMod, Nat.reduceAdd, Nat.reduceSub, Int.reduceNeg, Int.reduceAdd, Int.reduceSub, Int.reduceMul, Int.reduceLT, Int.reduceLE, if_true, if_false, List.length_cons, List.length_nil, bz_z, fin_0, fin_1, fin_2, fin_3, x_0, x_Ts, x_Ss, x_iinc, x_iload_n, x_iload, x_lload_n, x_lload, x_fload_n, x_fload, x_dload_n, x_dload, x_aload_n, x_aload, x_istore_n, x_istore, x_astore_n, x_astore, x_fstore_n, x_fstore, x_dstore_n, x_dstore, x_lstore_n, x_lstore, m_iconst, m_bipush, m_sipush, m_ldci, m_ldcr, m_ldcw, m_null, m_gsi, m_gsr, m_add, m_sub, m_mul, m_neg, m_div, m_rem, m_max, m_min, m_abs, m_pop, m_dup, m_dupx1, m_dupx2, m_dup2, m_getf, m_putf, g_puts, m_iald, m_bald, g_alds, m_iast, m_bast, g_asti, g_astz, m_alen, g_lens, m_new, m_newi, m_oinit, h_ps, h_pn, h_ns, h_nn, h_p1, h_n1, h_n2, h_pp, x_goto, x_if, x_icmp, x_nullr, x_nulln, x_nnr, x_nnn, x_fall, z_eq, z_ne, z_lt, z_ge, z_gt, z_le, c_eq, c_ne, c_lt, c_ge, c_gt, c_le, x_ret, x_iret, x_aret, x_nret, x_zret, x_Rv, x_Rn, x_Rx, g_clss, x_Ws, x_Ks, x_cs0, x_cs1, x_cs2, x_cs3, x_cs4, x_cs5, x_cv0, x_cv1, x_cv2, x_cv3, x_cv4, x_ci0, x_ci1, x_ci2, x_ci3, x_ci4, x_cp0, x_cp1, x_cp2, x_cp3, x_cp4, ldi_0, lda_0, ldf_0, ldl_0, ldd_0, ldi_1, lda_1, ldf_1, ldl_1, ldd_1, ldi_2, lda_2, ldf_2, ldl_2, ldd_2, ldi_3, lda_3, ldf_3, ldl_3, ldd_3, ldi_4, lda_4, ldf_4, ldl_4, ldd_4, ldi_5, lda_5, ldf_5, ldl_5, ldd_5, ldi_6, lda_6, ldf_6, ldl_6, ldd_6, ldi_7, lda_7, ldf_7, ldl_7, ldd_7, ldi_8, lda_8, ldf_8, ldl_8, ldd_8, ldi_9, lda_9, ldf_9, ldl_9, ldd_9, ldi_10, lda_10, ldf_10, ldl_10, ldd_10, ldi_11, lda_11, ldf_11, ldl_11, ldd_11, ldi_12, lda_12, ldf_12, ldl_12, ldd_12, ldi_13, lda_13, ldf_13, ldl_13, ldd_13, ldn_0, ldn_1, ldn_2, ldn_3, ldn_4, ldn_5, ldn_6, ldn_7, ldn_8, ldn_9, ldn_10, ldn_11, ldn_12, ldn_13, sti_0, sta_0, stf_0, sti_1, sta_1, stf_1, sti_2, sta_2, stf_2, sti_3, sta_3, stf_3, sti_4, sta_4, stf_4, sti_5, sta_5, stf_5, sti_6, sta_6, stf_6, sti_7, sta_7, stf_7, sti_8, sta_8, stf_8, sti_9, sta_9, stf_9, sti_10, sta_10, stf_10, sti_11, sta_11, stf_11, sti_12, sta_12, stf_12, sti_13, sta_13, stf_13, stn_0, stn_1, stn_2, stn_3, stn_4, stn_5, stn_6, stn_7, stn_8, stn_9, stn_10, stn_11, stn_12, stn_13, inc_0, inc_1, inc_2, inc_3, inc_4, inc_5, inc_6, inc_7, inc_8, inc_9, inc_10, inc_11, inc_12, inc_13, sw19_2, sw71_2, sw75_39, sw125_11, sw127_18, sw130_17, sw135_20, sw136_19, sw146_44, sw174_83, sw174_183, sw175_11, sw175_106, sw183_11, sw183_128, sw184_17, sw184_92, sw207_17, sw207_123, sw293_60, sw333_6, sw338_20, sw345_20, sw349_20, sw350_20, sw351_6, sw370_7, m_i2f, m_i2d, m_fc1, m_dc0, x_fret, x_dret, m_i2b, m_and255, m_and63, m_shr24, m_shr16, m_shr8, m_shr0, m_shr1, g_astb, m_i2c, x_cret, x_bret, m_gsn, t_0, t_1, t_2, t_3, t_4, t_5, t_6, t_7, t_8, t_9, t_10, t_11, t_12, t_13, tg_0, tg_1, tg_2, tg_3, tg_4, tg_5, tg_6, tg_7, tg_8, tg_9, tg_10, tg_11, tg_12, tg_13, tg_14, tg_15, tg_16, tg_17, tg_18, tg_19, tg_20, tg_21, tg_22, tg_23, tp_0, tp_1, tp_2, tp_3, tp_4, tp_5, tp_6, tp_7, tp_8, tp_9, tp_10, tp_11, tp_12, tp_13, tp_14, tp_15, tp_16, tp_17, tp_18, tp_19, tp_20, tp_21, tp_22, tp_23, wu_s, wu_n, wu_wu, if_pos, if_neg, Bool.false_eq_true, Int.add_zero, Nat.add_zero, Int.reduceEq, Int.zero_add, ne_eq, not_true_eq_false, not_false_eq_true, and_self, and_true, true_and, and_false, false_and, or_true, true_or, or_false, false_or,  b314_26, lb314_60, b314_60, lb314_66, b314_66, e, R317, R255, e1]
      exact h2
theorem R314 (hE : E.1 ≤ b) (hF : WF (w 0)) {c : Int} (hc : 0 ≤ c ∧ c < w 0 5) : mRun E gP 314 [.ref b, .int (Int32.ofInt c)] (tT b h w) = some (.inl none, tT b h (wu w 0 (caughtF (w 0) c))) := by
  have h6 := hF.2.2.2.2.2.2.1
  have h5 := hF.2.2.2.2.2.1
  have g := caught0_WF hF hc
  have e6 : caught0 (w 0) c 6 = w 0 6 := caught0_at (by omega) (by omega) (by omega)
  have h1 := L314 (h := h) (w := w) hE g (c := c) (by omega) (w 0 6).toNat 0 (by rw [e6]; omega)
  rw [show takeN c (caught0 (w 0) c) 0 = caught0 (w 0) c from rfl, Nat.zero_add] at h1
  have e1 : up (w 0) (132 + 6 * c + 4) (w 0 (132 + 6 * c + 4) + 1) 13 = w 0 13 := up_n (by omega)
  have e2 : up (up (w 0) (132 + 6 * c + 4) (w 0 (132 + 6 * c + 4) + 1)) 13 (w 0 13 + 1) (132 + 6 * c + 1) = w 0 (132 + 6 * c + 1) := by rw [up_n (by omega), up_n (by omega)]
  simp (disch := first | assumption | omega | exact i8_r | exact cat1_rf | exact cat_rf | exact mf_20 | exact cat1_i | exact cat1_r | exact cat1_n | exact cat_i | exact cat_r | exact cat_n | exact mf_0 | exact mf_4 | exact mf_4n | exact mf_10 | exact mf_11 | exact mnd_0 | exact mnd_i | exact mnd_r | exact mnd_n | exact mnd_f | exact bz_r | exact bz_01 | (simp only [List.length_cons, List.length_nil] <;> omega) | (simp only [wu, Nat.reduceEqDiff, if_true, if_false] <;> first | assumption | omega)) only [Int.reduceToNat, Nat.reduceDiv, Nat.reduceMod, Nat.reduceAdd, Nat.reduceSub, Int.reduceNeg, Int.reduceAdd, Int.reduceSub, Int.reduceMul, Int.reduceLT, Int.reduceLE, if_true, if_false, List.length_cons, List.length_nil, bz_z, fin_0, fin_1, fin_2, fin_3, x_0, x_Ts, x_Ss, x_iinc, x_iload_n, x_iload, x_lload_n, x_lload, x_fload_n, x_fload, x_dload_n, x_dload, x_aload_n, x_aload, x_istore_n, x_istore, x_astore_n, x_astore, x_fstore_n, x_fstore, x_dstore_n, x_dstore, x_lstore_n, x_lstore, m_iconst, m_bipush, m_sipush, m_ldci, m_ldcr, m_ldcw, m_null, m_gsi, m_gsr, m_add, m_sub, m_mul, m_neg, m_div, m_rem, m_max, m_min, m_abs, m_pop, m_dup, m_dupx1, m_dupx2, m_dup2, m_getf, m_putf, g_puts, m_iald, m_bald, g_alds, m_iast, m_bast, g_asti, g_astz, m_alen, g_lens, m_new, m_newi, m_oinit, h_ps, h_pn, h_ns, h_nn, h_p1, h_n1, h_n2, h_pp, x_goto, x_if, x_icmp, x_nullr, x_nulln, x_nnr, x_nnn, x_fall, z_eq, z_ne, z_lt, z_ge, z_gt, z_le, c_eq, c_ne, c_lt, c_ge, c_gt, c_le, x_ret, x_iret, x_aret, x_nret, x_zret, x_Rv, x_Rn, x_Rx, g_clss, x_Ws, x_Ks, x_cs0, x_cs1, x_cs2, x_cs3, x_cs4, x_cs5, x_cv0, x_cv1, x_cv2, x_cv3, x_cv4, x_ci0, x_ci1, x_ci2, x_ci3, x_ci4, x_cp0, x_cp1, x_cp2, x_cp3, x_cp4, ldi_0, lda_0, ldf_0, ldl_0, ldd_0, ldi_1, lda_1, ldf_1, ldl_1, ldd_1, ldi_2, lda_2, ldf_2, ldl_2, ldd_2, ldi_3, lda_3, ldf_3, ldl_3, ldd_3, ldi_4, lda_4, ldf_4, ldl_4, ldd_4, ldi_5, lda_5, ldf_5, ldl_5, ldd_5, ldi_6, lda_6, ldf_6, ldl_6, ldd_6, ldi_7, lda_7, ldf_7, ldl_7, ldd_7, ldi_8, lda_8, ldf_8, ldl_8, ldd_8, ldi_9, lda_9, ldf_9, ldl_9, ldd_9, ldi_10, lda_10, ldf_10, ldl_10, ldd_10, ldi_11, lda_11, ldf_11, ldl_11, ldd_11, ldi_12, lda_12, ldf_12, ldl_12, ldd_12, ldi_13, lda_13, ldf_13, ldl_13, ldd_13, ldn_0, ldn_1, ldn_2, ldn_3, ldn_4, ldn_5, ldn_6, ldn_7, ldn_8, ldn_9, ldn_10, ldn_11, ldn_12, ldn_13, sti_0, sta_0, stf_0, sti_1, sta_1, stf_1, sti_2, sta_2, stf_2, sti_3, sta_3, stf_3, sti_4, sta_4, stf_4, sti_5, sta_5, stf_5, sti_6, sta_6, stf_6, sti_7, sta_7, stf_7, sti_8, sta_8, stf_8, sti_9, sta_9, stf_9, sti_10, sta_10, stf_10, sti_11, sta_11, stf_11, sti_12, sta_12, stf_12, sti_13, sta_13, stf_13, stn_0, stn_1, stn_2, stn_3, stn_4, stn_5, stn_6, stn_7, stn_8, stn_9, stn_10, stn_11, stn_12, stn_13, inc_0, inc_1, inc_2, inc_3, inc_4, inc_5, inc_6, inc_7, inc_8, inc_9, inc_10, inc_11, inc_12, inc_13, sw19_2, sw71_2, sw75_39, sw125_11, sw127_18, sw130_17, sw135_20, sw136_19, sw146_44, sw174_83, sw174_183, sw175_11, sw175_106, sw183_11, sw183_128, sw184_17, sw184_92, sw207_17, sw207_123, sw293_60, sw333_6, sw338_20, sw345_20, sw349_20, sw350_20, sw351_6, sw370_7, m_i2f, m_i2d, m_fc1, m_dc0, x_fret, x_dret, m_i2b, m_and255, m_and63, m_shr24, m_shr16, m_shr8, m_shr0, m_shr1, g_astb, m_i2c, x_cret, x_bret, m_gsn, t_0, t_1, t_2, t_3, t_4, t_5, t_6, t_7, t_8, t_9, t_10, t_11, t_12, t_13, tg_0, tg_1, tg_2, tg_3, tg_4, tg_5, tg_6, tg_7, tg_8, tg_9, tg_10, tg_11, tg_12, tg_13, tg_14, tg_15, tg_16, tg_17, tg_18, tg_19, tg_20, tg_21, tg_22, tg_23, tp_0, tp_1, tp_2, tp_3, tp_4, tp_5, tp_6, tp_7, tp_8, tp_9, tp_10, tp_11, tp_12, tp_13, tp_14, tp_15, tp_16, tp_17, tp_18, tp_19, tp_20, tp_21, tp_22, tp_23, wu_s, wu_n, wu_wu, if_pos, if_neg, Bool.false_eq_true, Int.add_zero, Nat.add_zero, Int.reduceEq, Int.zero_add, ne_eq, not_true_eq_false, not_false_eq_true, and_self, and_true, true_and, and_false, false_and, or_true, true_or, or_false, false_or,  en314, b314_0, R315, R316, R253, R282, e1, e2]
  exact h1
theorem L298 (hE : E.1 ≤ b) {S : Int → Int} (hF : WF S) (hs : ∀ c, 0 ≤ c → c < S 0 * S 1 → w 8 c = bz (seen S c = true)) : ∀ d k : Nat, (k : Int) + d = S 5 → mV E gP (298, 10, [some (.ref b), some (.int (Int32.ofInt k))], [], tT b h (wu w 0 (tickN S k))) = some (.inl none, tT b h (wu w 0 (tickN S (k + d)))) := by
  have h5 := hF.2.2.2.2.2.1
  have hcc := hF.cells
  intro d
  induction d with
  | zero =>
    intro k hk
    have e := tickN_lo (S := S) k (show (5 : Int) < 132 by omega) (by omega)
    rw [lb298_10]
    simp (disch := first | assumption | omega | exact i8_r | exact cat1_rf | exact cat_rf | exact mf_20 | exact cat1_i | exact cat1_r | exact cat1_n | exact cat_i | exact cat_r | exact cat_n | exact mf_0 | exact mf_4 | exact mf_4n | exact mf_10 | exact mf_11 | exact mnd_0 | exact mnd_i | exact mnd_r | exact mnd_n | exact mnd_f | exact bz_r | exact bz_01 | (simp only [List.length_cons, List.length_nil] <;> omega) | (simp only [wu, Nat.reduceEqDiff, if_true, if_false] <;> first | assumption | omega)) only [Int.reduceToNat, Nat.reduceDiv, Nat.reduceMod, Nat.reduceAdd, Nat.reduceSub, Int.reduceNeg, Int.reduceAdd, Int.reduceSub, Int.reduceMul, Int.reduceLT, Int.reduceLE, if_true, if_false, List.length_cons, List.length_nil, bz_z, fin_0, fin_1, fin_2, fin_3, x_0, x_Ts, x_Ss, x_iinc, x_iload_n, x_iload, x_lload_n, x_lload, x_fload_n, x_fload, x_dload_n, x_dload, x_aload_n, x_aload, x_istore_n, x_istore, x_astore_n, x_astore, x_fstore_n, x_fstore, x_dstore_n, x_dstore, x_lstore_n, x_lstore, m_iconst, m_bipush, m_sipush, m_ldci, m_ldcr, m_ldcw, m_null, m_gsi, m_gsr, m_add, m_sub, m_mul, m_neg, m_div, m_rem, m_max, m_min, m_abs, m_pop, m_dup, m_dupx1, m_dupx2, m_dup2, m_getf, m_putf, g_puts, m_iald, m_bald, g_alds, m_iast, m_bast, g_asti, g_astz, m_alen, g_lens, m_new, m_newi, m_oinit, h_ps, h_pn, h_ns, h_nn, h_p1, h_n1, h_n2, h_pp, x_goto, x_if, x_icmp, x_nullr, x_nulln, x_nnr, x_nnn, x_fall, z_eq, z_ne, z_lt, z_ge, z_gt, z_le, c_eq, c_ne, c_lt, c_ge, c_gt, c_le, x_ret, x_iret, x_aret, x_nret, x_zret, x_Rv, x_Rn, x_Rx, g_clss, x_Ws, x_Ks, x_cs0, x_cs1, x_cs2, x_cs3, x_cs4, x_cs5, x_cv0, x_cv1, x_cv2, x_cv3, x_cv4, x_ci0, x_ci1, x_ci2, x_ci3, x_ci4, x_cp0, x_cp1, x_cp2, x_cp3, x_cp4, ldi_0, lda_0, ldf_0, ldl_0, ldd_0, ldi_1, lda_1, ldf_1, ldl_1, ldd_1, ldi_2, lda_2, ldf_2, ldl_2, ldd_2, ldi_3, lda_3, ldf_3, ldl_3, ldd_3, ldi_4, lda_4, ldf_4, ldl_4, ldd_4, ldi_5, lda_5, ldf_5, ldl_5, ldd_5, ldi_6, lda_6, ldf_6, ldl_6, ldd_6, ldi_7, lda_7, ldf_7, ldl_7, ldd_7, ldi_8, lda_8, ldf_8, ldl_8, ldd_8, ldi_9, lda_9, ldf_9, ldl_9, ldd_9, ldi_10, lda_10, ldf_10, ldl_10, ldd_10, ldi_11, lda_11, ldf_11, ldl_11, ldd_11, ldi_12, lda_12, ldf_12, ldl_12, ldd_12, ldi_13, lda_13, ldf_13, ldl_13, ldd_13, ldn_0, ldn_1, ldn_2, ldn_3, ldn_4, ldn_5, ldn_6, ldn_7, ldn_8, ldn_9, ldn_10, ldn_11, ldn_12, ldn_13, sti_0, sta_0, stf_0, sti_1, sta_1, stf_1, sti_2, sta_2, stf_2, sti_3, sta_3, stf_3, sti_4, sta_4, stf_4, sti_5, sta_5, stf_5, sti_6, sta_6, stf_6, sti_7, sta_7, stf_7, sti_8, sta_8, stf_8, sti_9, sta_9, stf_9, sti_10, sta_10, stf_10, sti_11, sta_11, stf_11, sti_12, sta_12, stf_12, sti_13, sta_13, stf_13, stn_0, stn_1, stn_2, stn_3, stn_4, stn_5, stn_6, stn_7, stn_8, stn_9, stn_10, stn_11, stn_12, stn_13, inc_0, inc_1, inc_2, inc_3, inc_4, inc_5, inc_6, inc_7, inc_8, inc_9, inc_10, inc_11, inc_12, inc_13, sw19_2, sw71_2, sw75_39, sw125_11, sw127_18, sw130_17, sw135_20, sw136_19, sw146_44, sw174_83, sw174_183, sw175_11, sw175_106, sw183_11, sw183_128, sw184_17, sw184_92, sw207_17, sw207_123, sw293_60, sw333_6, sw338_20, sw345_20, sw349_20, sw350_20, sw351_6, sw370_7, m_i2f, m_i2d, m_fc1, m_dc0, x_fret, x_dret, m_i2b, m_and255, m_and63, m_shr24, m_shr16, m_shr8, m_shr0, m_shr1, g_astb, m_i2c, x_cret, x_bret, m_gsn, t_0, t_1, t_2, t_3, t_4, t_5, t_6, t_7, t_8, t_9, t_10, t_11, t_12, t_13, tg_0, tg_1, tg_2, tg_3, tg_4, tg_5, tg_6, tg_7, tg_8, tg_9, tg_10, tg_11, tg_12, tg_13, tg_14, tg_15, tg_16, tg_17, tg_18, tg_19, tg_20, tg_21, tg_22, tg_23, tp_0, tp_1, tp_2, tp_3, tp_4, tp_5, tp_6, tp_7, tp_8, tp_9, tp_10, tp_11, tp_12, tp_13, tp_14, tp_15, tp_16, tp_17, tp_18, tp_19, tp_20, tp_21, tp_22, tp_23, wu_s, wu_n, wu_wu, if_pos, if_neg, Bool.false_eq_true, Int.add_zero, Nat.add_zero, Int.reduceEq, Int.zero_add, ne_eq, not_true_eq_false, not_false_eq_true, and_self, and_true, true_and, and_false, false_and, or_true, true_or, or_false, false_or,  b298_10, lb298_46, b298_46, lb298_52, b298_52, e]
  | succ d ih =>
    intro k hk
    have e := tickN_lo (S := S) k (show (5 : Int) < 132 by omega) (by omega)
    have a0 := tickN_lo (S := S) k (show (0 : Int) < 132 by omega) (by omega)
    have a1 := tickN_lo (S := S) k (show (1 : Int) < 132 by omega) (by omega)
    have hG := tickN_WF hF k (by omega)
    have b1 := (hG.2.2.2.2.2.2.2.2.2.2.2.1 k (by omega) (by omega)).1
    rw [a0, a1] at b1
    have hs1 := hs _ b1.1 b1.2
    have g1 := WF_step0 hG (k := (k : Int)) (x := 0) (by omega) (Or.inl rfl)
    have n1 : up (tickN S k) (132 + 6 * k + 2) 0 (132 + 6 * k) = tickN S k (132 + 6 * k) := up_n (by omega)
    have n5 : up (tickN S k) (132 + 6 * k + 2) 0 5 = S 5 := (up_n (by omega)).trans e
    have h2 := ih (k + 1) (by omega)
    rw [show k + 1 + d = k + (d + 1) by omega] at h2
    simp only [Int.natCast_add, Int.natCast_one] at h2
    rw [lb298_10]
    by_cases e1 : seen S (tickN S k (132 + 6 * k)) = true
    · have e2 : tickN S (k + 1) = caughtF (up (tickN S k) (132 + 6 * k + 2) 0) k := by
        show tick1 S (tickN S k) k = _
        unfold tick1
        rw [if_pos e1]
      rw [e2] at h2
      simp (disch := first | assumption | omega | exact i8_r | exact cat1_rf | exact cat_rf | exact mf_20 | exact cat1_i | exact cat1_r | exact cat1_n | exact cat_i | exact cat_r | exact cat_n | exact mf_0 | exact mf_4 | exact mf_4n | exact mf_10 | exact mf_11 | exact mnd_0 | exact mnd_i | exact mnd_r | exact mnd_n | exact mnd_f | exact bz_r | exact bz_01 | (simp only [List.length_cons, List.length_nil] <;> omega) | (simp only [wu, Nat.reduceEqDiff, if_true, if_false] <;> first | assumption | omega)) only [Int.reduceToNat, Nat.reduceDiv, Nat.reduceMod, Nat.reduceAdd, Nat.reduceSub, Int.reduceNeg, Int.reduceAdd, Int.reduceSub, Int.reduceMul, Int.reduceLT, Int.reduceLE, if_true, if_false, List.length_cons, List.length_nil, bz_z, fin_0, fin_1, fin_2, fin_3, x_0, x_Ts, x_Ss, x_iinc, x_iload_n, x_iload, x_lload_n, x_lload, x_fload_n, x_fload, x_dload_n, x_dload, x_aload_n, x_aload, x_istore_n, x_istore, x_astore_n, x_astore, x_fstore_n, x_fstore, x_dstore_n, x_dstore, x_lstore_n, x_lstore, m_iconst, m_bipush, m_sipush, m_ldci, m_ldcr, m_ldcw, m_null, m_gsi, m_gsr, m_add, m_sub, m_mul, m_neg, m_div, m_rem, m_max, m_min, m_abs, m_pop, m_dup, m_dupx1, m_dupx2, m_dup2, m_getf, m_putf, g_puts, m_iald, m_bald, g_alds, m_iast, m_bast, g_asti, g_astz, m_alen, g_lens, m_new, m_newi, m_oinit, h_ps, h_pn, h_ns, h_nn, h_p1, h_n1, h_n2, h_pp, x_goto, x_if, x_icmp, x_nullr, x_nulln, x_nnr, x_nnn, x_fall, z_eq, z_ne, z_lt, z_ge, z_gt, z_le, c_eq, c_ne, c_lt, c_ge, c_gt, c_le, x_ret, x_iret, x_aret, x_nret, x_zret, x_Rv, x_Rn, x_Rx, g_clss, x_Ws, x_Ks, x_cs0, x_cs1, x_cs2, x_cs3, x_cs4, x_cs5, x_cv0, x_cv1, x_cv2, x_cv3, x_cv4, x_ci0, x_ci1, x_ci2, x_ci3, x_ci4, x_cp0, x_cp1, x_cp2, x_cp3, x_cp4, ldi_0, lda_0, ldf_0, ldl_0, ldd_0, ldi_1, lda_1, ldf_1, ldl_1, ldd_1, ldi_2, lda_2, ldf_2, ldl_2, ldd_2, ldi_3, lda_3, ldf_3, ldl_3, ldd_3, ldi_4, lda_4, ldf_4, ldl_4, ldd_4, ldi_5, lda_5, ldf_5, ldl_5, ldd_5, ldi_6, lda_6, ldf_6, ldl_6, ldd_6, ldi_7, lda_7, ldf_7, ldl_7, ldd_7, ldi_8, lda_8, ldf_8, ldl_8, ldd_8, ldi_9, lda_9, ldf_9, ldl_9, ldd_9, ldi_10, lda_10, ldf_10, ldl_10, ldd_10, ldi_11, lda_11, ldf_11, ldl_11, ldd_11, ldi_12, lda_12, ldf_12, ldl_12, ldd_12, ldi_13, lda_13, ldf_13, ldl_13, ldd_13, ldn_0, ldn_1, ldn_2, ldn_3, ldn_4, ldn_5, ldn_6, ldn_7, ldn_8, ldn_9, ldn_10, ldn_11, ldn_12, ldn_13, sti_0, sta_0, stf_0, sti_1, sta_1, stf_1, sti_2, sta_2, stf_2, sti_3, sta_3, stf_3, sti_4, sta_4, stf_4, sti_5, sta_5, stf_5, sti_6, sta_6, stf_6, sti_7, sta_7, stf_7, sti_8, sta_8, stf_8, sti_9, sta_9, stf_9, sti_10, sta_10, stf_10, sti_11, sta_11, stf_11, sti_12, sta_12, stf_12, sti_13, sta_13, stf_13, stn_0, stn_1, stn_2, stn_3, stn_4, stn_5, stn_6, stn_7, stn_8, stn_9, stn_10, stn_11, stn_12, stn_13, inc_0, inc_1, inc_2, inc_3, inc_4, inc_5, inc_6, inc_7, inc_8, inc_9, inc_10, inc_11, inc_12, inc_13, sw19_2, sw71_2, sw75_39, sw125_11, sw127_18, sw130_17, sw135_20, sw136_19, sw146_44, sw174_83, sw174_183, sw175_11, sw175_106, sw183_11, sw183_128, sw184_17, sw184_92, sw207_17, sw207_123, sw293_60, sw333_6, sw338_20, sw345_20, sw349_20, sw350_20, sw351_6, sw370_7, m_i2f, m_i2d, m_fc1, m_dc0, x_fret, x_dret, m_i2b, m_and255, m_and63, m_shr24, m_shr16, m_shr8, m_shr0, m_shr1, g_astb, m_i2c, x_cret, x_bret, m_gsn, t_0, t_1, t_2, t_3, t_4, t_5, t_6, t_7, t_8, t_9, t_10, t_11, t_12, t_13, tg_0, tg_1, tg_2, tg_3, tg_4, tg_5, tg_6, tg_7, tg_8, tg_9, tg_10, tg_11, tg_12, tg_13, tg_14, tg_15, tg_16, tg_17, tg_18, tg_19, tg_20, tg_21, tg_22, tg_23, tp_0, tp_1, tp_2, tp_3, tp_4, tp_5, tp_6, tp_7, tp_8, tp_9, tp_10, tp_11, tp_12, tp_13, tp_14, tp_15, tp_16, tp_17, tp_18, tp_19, tp_20, tp_21, tp_22, tp_23, wu_s, wu_n, wu_wu, if_pos, if_neg, Bool.false_eq_true, Int.add_zero, Nat.add_zero, Int.reduceEq, Int.zero_add, ne_eq, not_true_eq_false, not_false_eq_true, and_self, and_true, true_and, and_false, false_and, or_true, true_or, or_false, false_or,  b298_10, lb298_46, b298_46, lb298_52, b298_52, e, R253, R282, R314, n1, n5, hs1, e1]
      exact h2
    · have e2 : tickN S (k + 1) = up (tickN S k) (132 + 6 * k + 2) 0 := by
        show tick1 S (tickN S k) k = _
        unfold tick1
        rw [if_neg e1]
      rw [e2] at h2
      simp (disch := first | assumption | omega | exact i8_r | exact cat1_rf | exact cat_rf | exact mf_20 | exact cat1_i | exact cat1_r | exact cat1_n | exact cat_i | exact cat_r | exact cat_n | exact mf_0 | exact mf_4 | exact mf_4n | exact mf_10 | exact mf_11 | exact mnd_0 | exact mnd_i | exact mnd_r | exact mnd_n | exact mnd_f | exact bz_r | exact bz_01 | (simp only [List.length_cons, List.length_nil] <;> omega) | (simp only [wu, Nat.reduceEqDiff, if_true, if_false] <;> first | assumption | omega)) only [Int.reduceToNat, Nat.reduceDiv, Nat.reduceMod, Nat.reduceAdd, Nat.reduceSub, Int.reduceNeg, Int.reduceAdd, Int.reduceSub, Int.reduceMul, Int.reduceLT, Int.reduceLE, if_true, if_false, List.length_cons, List.length_nil, bz_z, fin_0, fin_1, fin_2, fin_3, x_0, x_Ts, x_Ss, x_iinc, x_iload_n, x_iload, x_lload_n, x_lload, x_fload_n, x_fload, x_dload_n, x_dload, x_aload_n, x_aload, x_istore_n, x_istore, x_astore_n, x_astore, x_fstore_n, x_fstore, x_dstore_n, x_dstore, x_lstore_n, x_lstore, m_iconst, m_bipush, m_sipush, m_ldci, m_ldcr, m_ldcw, m_null, m_gsi, m_gsr, m_add, m_sub, m_mul, m_neg, m_div, m_rem, m_max, m_min, m_abs, m_pop, m_dup, m_dupx1, m_dupx2, m_dup2, m_getf, m_putf, g_puts, m_iald, m_bald, g_alds, m_iast, m_bast, g_asti, g_astz, m_alen, g_lens, m_new, m_newi, m_oinit, h_ps, h_pn, h_ns, h_nn, h_p1, h_n1, h_n2, h_pp, x_goto, x_if, x_icmp, x_nullr, x_nulln, x_nnr, x_nnn, x_fall, z_eq, z_ne, z_lt, z_ge, z_gt, z_le, c_eq, c_ne, c_lt, c_ge, c_gt, c_le, x_ret, x_iret, x_aret, x_nret, x_zret, x_Rv, x_Rn, x_Rx, g_clss, x_Ws, x_Ks, x_cs0, x_cs1, x_cs2, x_cs3, x_cs4, x_cs5, x_cv0, x_cv1, x_cv2, x_cv3, x_cv4, x_ci0, x_ci1, x_ci2, x_ci3, x_ci4, x_cp0, x_cp1, x_cp2, x_cp3, x_cp4, ldi_0, lda_0, ldf_0, ldl_0, ldd_0, ldi_1, lda_1, ldf_1, ldl_1, ldd_1, ldi_2, lda_2, ldf_2, ldl_2, ldd_2, ldi_3, lda_3, ldf_3, ldl_3, ldd_3, ldi_4, lda_4, ldf_4, ldl_4, ldd_4, ldi_5, lda_5, ldf_5, ldl_5, ldd_5, ldi_6, lda_6, ldf_6, ldl_6, ldd_6, ldi_7, lda_7, ldf_7, ldl_7, ldd_7, ldi_8, lda_8, ldf_8, ldl_8, ldd_8, ldi_9, lda_9, ldf_9, ldl_9, ldd_9, ldi_10, lda_10, ldf_10, ldl_10, ldd_10, ldi_11, lda_11, ldf_11, ldl_11, ldd_11, ldi_12, lda_12, ldf_12, ldl_12, ldd_12, ldi_13, lda_13, ldf_13, ldl_13, ldd_13, ldn_0, ldn_1, ldn_2, ldn_3, ldn_4, ldn_5, ldn_6, ldn_7, ldn_8, ldn_9, ldn_10, ldn_11, ldn_12, ldn_13, sti_0, sta_0, stf_0, sti_1, sta_1, stf_1, sti_2, sta_2, stf_2, sti_3, sta_3, stf_3, sti_4, sta_4, stf_4, sti_5, sta_5, stf_5, sti_6, sta_6, stf_6, sti_7, sta_7, stf_7, sti_8, sta_8, stf_8, sti_9, sta_9, stf_9, sti_10, sta_10, stf_10, sti_11, sta_11, stf_11, sti_12, sta_12, stf_12, sti_13, sta_13, stf_13, stn_0, stn_1, stn_2, stn_3, stn_4, stn_5, stn_6, stn_7, stn_8, stn_9, stn_10, stn_11, stn_12, stn_13, inc_0, inc_1, inc_2, inc_3, inc_4, inc_5, inc_6, inc_7, inc_8, inc_9, inc_10, inc_11, inc_12, inc_13, sw19_2, sw71_2, sw75_39, sw125_11, sw127_18, sw130_17, sw135_20, sw136_19, sw146_44, sw174_83, sw174_183, sw175_11, sw175_106, sw183_11, sw183_128, sw184_17, sw184_92, sw207_17, sw207_123, sw293_60, sw333_6, sw338_20, sw345_20, sw349_20, sw350_20, sw351_6, sw370_7, m_i2f, m_i2d, m_fc1, m_dc0, x_fret, x_dret, m_i2b, m_and255, m_and63, m_shr24, m_shr16, m_shr8, m_shr0, m_shr1, g_astb, m_i2c, x_cret, x_bret, m_gsn, t_0, t_1, t_2, t_3, t_4, t_5, t_6, t_7, t_8, t_9, t_10, t_11, t_12, t_13, tg_0, tg_1, tg_2, tg_3, tg_4, tg_5, tg_6, tg_7, tg_8, tg_9, tg_10, tg_11, tg_12, tg_13, tg_14, tg_15, tg_16, tg_17, tg_18, tg_19, tg_20, tg_21, tg_22, tg_23, tp_0, tp_1, tp_2, tp_3, tp_4, tp_5, tp_6, tp_7, tp_8, tp_9, tp_10, tp_11, tp_12, tp_13, tp_14, tp_15, tp_16, tp_17, tp_18, tp_19, tp_20, tp_21, tp_22, tp_23, wu_s, wu_n, wu_wu, if_pos, if_neg, Bool.false_eq_true, Int.add_zero, Nat.add_zero, Int.reduceEq, Int.zero_add, ne_eq, not_true_eq_false, not_false_eq_true, and_self, and_true, true_and, and_false, false_and, or_true, true_or, or_false, false_or,  b298_10, lb298_46, b298_46, lb298_52, b298_52, e, R253, R282, R314, n1, n5, hs1, e1]
      exact h2
/-- what the twin lays as seen, from a row -/
def layS (w : Nat → Int → Int) (F : Int → Int) : Nat → Int → Int := wu w 8 (layAllN F (zN (w 8) (F 0 * F 1)) (F 4).toNat)
theorem wu_cm {w : Nat → Int → Int} {i j : Nat} {f g : Int → Int} (hij : i ≠ j) : wu (wu w i f) j g = wu (wu w j g) i f := by
  funext z
  unfold wu
  repeat' split
  all_goals first | rfl | (exfalso; omega)
theorem R298 (hE : E.1 ≤ b) (hF : WF (w 0)) (ht : w 0 7 < 100000) : mRun E gP 298 [.ref b] (tT b h w) = some (.inl none, tT b h (wu (layS w (around (w 0))) 0 (tick (w 0)))) := by
  have h5 := hF.2.2.2.2.2.1
  have g := around_WF hF ht
  have a0 := around_lo (F := w 0) (show (0 : Int) < 96 by omega) (by omega)
  have a1 := around_lo (F := w 0) (show (1 : Int) < 96 by omega) (by omega)
  have a5 := around_lo (F := w 0) (show (5 : Int) < 96 by omega) (by omega)
  have r1 := R308 (h := h) (w := wu w 0 (around (w 0))) hE g
  rw [wu_s, wu_n (by omega), wu_cm (by omega)] at r1
  have h1 := L298 (h := h) (w := layS w (around (w 0))) hE g (fun c c0 c1 => lay_seen g ⟨c0, c1⟩) (w 0 5).toNat 0 (by rw [a5]; omega)
  rw [show tickN (around (w 0)) 0 = around (w 0) from rfl, Nat.zero_add] at h1
  simp (disch := first | assumption | omega | exact i8_r | exact cat1_rf | exact cat_rf | exact mf_20 | exact cat1_i | exact cat1_r | exact cat1_n | exact cat_i | exact cat_r | exact cat_n | exact mf_0 | exact mf_4 | exact mf_4n | exact mf_10 | exact mf_11 | exact mnd_0 | exact mnd_i | exact mnd_r | exact mnd_n | exact mnd_f | exact bz_r | exact bz_01 | (simp only [List.length_cons, List.length_nil] <;> omega) | (simp only [wu, Nat.reduceEqDiff, if_true, if_false] <;> first | assumption | omega)) only [Int.reduceToNat, Nat.reduceDiv, Nat.reduceMod, Nat.reduceAdd, Nat.reduceSub, Int.reduceNeg, Int.reduceAdd, Int.reduceSub, Int.reduceMul, Int.reduceLT, Int.reduceLE, if_true, if_false, List.length_cons, List.length_nil, bz_z, fin_0, fin_1, fin_2, fin_3, x_0, x_Ts, x_Ss, x_iinc, x_iload_n, x_iload, x_lload_n, x_lload, x_fload_n, x_fload, x_dload_n, x_dload, x_aload_n, x_aload, x_istore_n, x_istore, x_astore_n, x_astore, x_fstore_n, x_fstore, x_dstore_n, x_dstore, x_lstore_n, x_lstore, m_iconst, m_bipush, m_sipush, m_ldci, m_ldcr, m_ldcw, m_null, m_gsi, m_gsr, m_add, m_sub, m_mul, m_neg, m_div, m_rem, m_max, m_min, m_abs, m_pop, m_dup, m_dupx1, m_dupx2, m_dup2, m_getf, m_putf, g_puts, m_iald, m_bald, g_alds, m_iast, m_bast, g_asti, g_astz, m_alen, g_lens, m_new, m_newi, m_oinit, h_ps, h_pn, h_ns, h_nn, h_p1, h_n1, h_n2, h_pp, x_goto, x_if, x_icmp, x_nullr, x_nulln, x_nnr, x_nnn, x_fall, z_eq, z_ne, z_lt, z_ge, z_gt, z_le, c_eq, c_ne, c_lt, c_ge, c_gt, c_le, x_ret, x_iret, x_aret, x_nret, x_zret, x_Rv, x_Rn, x_Rx, g_clss, x_Ws, x_Ks, x_cs0, x_cs1, x_cs2, x_cs3, x_cs4, x_cs5, x_cv0, x_cv1, x_cv2, x_cv3, x_cv4, x_ci0, x_ci1, x_ci2, x_ci3, x_ci4, x_cp0, x_cp1, x_cp2, x_cp3, x_cp4, ldi_0, lda_0, ldf_0, ldl_0, ldd_0, ldi_1, lda_1, ldf_1, ldl_1, ldd_1, ldi_2, lda_2, ldf_2, ldl_2, ldd_2, ldi_3, lda_3, ldf_3, ldl_3, ldd_3, ldi_4, lda_4, ldf_4, ldl_4, ldd_4, ldi_5, lda_5, ldf_5, ldl_5, ldd_5, ldi_6, lda_6, ldf_6, ldl_6, ldd_6, ldi_7, lda_7, ldf_7, ldl_7, ldd_7, ldi_8, lda_8, ldf_8, ldl_8, ldd_8, ldi_9, lda_9, ldf_9, ldl_9, ldd_9, ldi_10, lda_10, ldf_10, ldl_10, ldd_10, ldi_11, lda_11, ldf_11, ldl_11, ldd_11, ldi_12, lda_12, ldf_12, ldl_12, ldd_12, ldi_13, lda_13, ldf_13, ldl_13, ldd_13, ldn_0, ldn_1, ldn_2, ldn_3, ldn_4, ldn_5, ldn_6, ldn_7, ldn_8, ldn_9, ldn_10, ldn_11, ldn_12, ldn_13, sti_0, sta_0, stf_0, sti_1, sta_1, stf_1, sti_2, sta_2, stf_2, sti_3, sta_3, stf_3, sti_4, sta_4, stf_4, sti_5, sta_5, stf_5, sti_6, sta_6, stf_6, sti_7, sta_7, stf_7, sti_8, sta_8, stf_8, sti_9, sta_9, stf_9, sti_10, sta_10, stf_10, sti_11, sta_11, stf_11, sti_12, sta_12, stf_12, sti_13, sta_13, stf_13, stn_0, stn_1, stn_2, stn_3, stn_4, stn_5, stn_6, stn_7, stn_8, stn_9, stn_10, stn_11, stn_12, stn_13, inc_0, inc_1, inc_2, inc_3, inc_4, inc_5, inc_6, inc_7, inc_8, inc_9, inc_10, inc_11, inc_12, inc_13, sw19_2, sw71_2, sw75_39, sw125_11, sw127_18, sw130_17, sw135_20, sw136_19, sw146_44, sw174_83, sw174_183, sw175_11, sw175_106, sw183_11, sw183_128, sw184_17, sw184_92, sw207_17, sw207_123, sw293_60, sw333_6, sw338_20, sw345_20, sw349_20, sw350_20, sw351_6, sw370_7, m_i2f, m_i2d, m_fc1, m_dc0, x_fret, x_dret, m_i2b, m_and255, m_and63, m_shr24, m_shr16, m_shr8, m_shr0, m_shr1, g_astb, m_i2c, x_cret, x_bret, m_gsn, t_0, t_1, t_2, t_3, t_4, t_5, t_6, t_7, t_8, t_9, t_10, t_11, t_12, t_13, tg_0, tg_1, tg_2, tg_3, tg_4, tg_5, tg_6, tg_7, tg_8, tg_9, tg_10, tg_11, tg_12, tg_13, tg_14, tg_15, tg_16, tg_17, tg_18, tg_19, tg_20, tg_21, tg_22, tg_23, tp_0, tp_1, tp_2, tp_3, tp_4, tp_5, tp_6, tp_7, tp_8, tp_9, tp_10, tp_11, tp_12, tp_13, tp_14, tp_15, tp_16, tp_17, tp_18, tp_19, tp_20, tp_21, tp_22, tp_23, wu_s, wu_n, wu_wu, if_pos, if_neg, Bool.false_eq_true, Int.add_zero, Nat.add_zero, Int.reduceEq, Int.zero_add, ne_eq, not_true_eq_false, not_false_eq_true, and_self, and_true, true_and, and_false, false_and, or_true, true_or, or_false, false_or,  en298, b298_0, R299, r1]
  exact h1
end CA
