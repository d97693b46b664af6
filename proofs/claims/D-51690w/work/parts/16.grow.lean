/-! MC soundness 11: heaps only grow; what is thrown is known -/
set_option maxRecDepth 100000
def mEnd (h : mH) (r : mR) : Prop := (h.2.1 ≤ r.2.2.1 ∧ h.2.2 ≤ r.2.2.2) ∧ ∀ q, r.1 = .inr q → ∃ (ci : Nat) (fs : List Value), r.2.1 q = some (.inr (ci, fs))
theorem mEnd.trans {h h1 : mH} {r : mR} (a : h.2.1 ≤ h1.2.1 ∧ h.2.2 ≤ h1.2.2) (b : mEnd h1 r) : mEnd h r := ⟨⟨Nat.le_trans a.1 b.1.1, Nat.le_trans a.2 b.1.2⟩, b.2⟩
set_option maxHeartbeats 4000000 in
theorem mstep_grow {E : mE} {P : mP} {x : mI} {st st' : List Value} {h h' : mH} (hq : mstep E P x st h = some (st', h')) : h.2.1 ≤ h'.2.1 ∧ h.2.2 ≤ h'.2.2 := by
  unfold mstep at hq
  split at hq
  all_goals try simp only [s_pop, s_dup, s_dupx1, s_dupx2, s_dup2, s_i1, s_i2, s_get, s_put, s_ald, s_ast, s_alld, s_alst, s_aald, s_aast, s_alen, s_newa, s_copy, s_clone, s_new, s_castO, s_castA, s_inst, s_gcls, s_mm, s_ma] at hq
  all_goals repeat' split at hq
  all_goals first
    | (cases hq; done)
    | (cases hq; exact ⟨Nat.le_refl _, Nat.le_refl _⟩)
    | (cases hq; exact ⟨Nat.le_succ _, Nat.le_add_right _ _⟩)
theorem mret_grow {x : mI} {st : List Value} {h : mH} {r : mR} (hq : mret x st h = some r) : r.2 = h ∧ ∃ v, r.1 = .inl v := by
  unfold mret at hq
  split at hq
  all_goals repeat' split at hq
  all_goals first
    | (cases hq; done)
    | (cases hq; exact ⟨rfl, _, rfl⟩)
theorem mX_grow {E : mE} {P : mP} {ρ : mK → Option mR} (hρ : ∀ c r, ρ c = some r → mEnd c.2.2.2.2 r) {y : Nat} : ∀ (is : List mI) (ls : mL) (st : List Value) (h : mH) (r : mR), mX E P ρ y is ls st h = some r → mEnd h r := by
  intro is
  induction is with
  | nil => intro ls st h r hr; cases hr
  | cons x is ih =>
    intro ls st h r hr
    unfold mX at hr
    split at hr
    · split at hr
      · rename_i s hs
        exact (ih _ _ _ _ hr).trans (mstep_grow (h' := s.2) (st' := s.1) hs)
      · cases hr
    · split at hr
      · exact ih _ _ _ _ hr
      · cases hr
    · split at hr
      · exact hρ _ _ hr
      · exact ih _ _ _ _ hr
      · cases hr
    · split at hr
      · split at hr
        · rename_i h2
          exact (ih _ _ _ _ hr).trans (hρ _ _ h2).1
        · rename_i h2
          have h3 := hρ _ _ h2
          split at hr
          · exact (hρ _ _ hr).trans h3.1
          · cases hr; exact h3
          · cases hr
        · cases hr
      · cases hr
    · obtain ⟨h1, v, h2⟩ := mret_grow hr
      exact ⟨by rw [h1]; exact ⟨Nat.le_refl _, Nat.le_refl _⟩, fun q hq => by rw [h2] at hq; cases hq⟩
    · split at hr
      · split at hr
        · cases hr
          refine ⟨⟨Nat.le_succ _, Nat.le_add_right _ _⟩, fun q hq => ?_⟩
          cases hq
          exact ⟨_, _, if_pos rfl⟩
        · cases hr
      · cases hr
    · split at hr
      · split at hr
        · rename_i hk hh
          cases hr
          refine ⟨⟨Nat.le_refl _, Nat.le_refl _⟩, fun q hq => ?_⟩
          cases hq
          exact ⟨_, _, hk⟩
        · cases hr
      · cases hr
    · exact hρ _ _ hr
    · cases hr
theorem mF_grow {E : mE} {P : mP} : ∀ (n : Nat) (c : mK) (r : mR), mF E P n c = some r → mEnd c.2.2.2.2 r := by
  intro n
  induction n with
  | zero => intro c r h; cases h
  | succ n ih => intro c r h; exact mX_grow ih _ _ _ _ _ h
theorem mX_ne {E : mE} {P : mP} {ρ : mK → Option mR} {y : Nat} {is : List mI} {ls : mL} {st : List Value} {h : mH} {r : mR} (hr : mX E P ρ y is ls st h = some r) : is ≠ [] := by
  rintro rfl
  cases hr
