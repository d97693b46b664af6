/-! MC: laws of the abstract machine: more fuel, less known of the locals -/
set_option maxRecDepth 100000
theorem mX_mono {E : mE} {P : mP} {ρ ρ' : mK → Option mR} (hm : ∀ c r, ρ c = some r → ρ' c = some r) {y : Nat} : ∀ (is : List mI) (ls : mL) (st : List Value) (h : mH) (r : mR), mX E P ρ y is ls st h = some r → mX E P ρ' y is ls st h = some r := by
  intro is
  induction is with
  | nil => intro ls st h r hr; simp [mX] at hr
  | cons x is ih =>
    intro ls st h r hr
    obtain ⟨i, kd, a, b, d⟩ := x
    match kd, hr with
    | 0, hr =>
      simp only [mX] at hr ⊢
      cases hc : mstep E P (i, 0, a, b, d) st h with
      | none => simp [hc] at hr
      | some q => simp only [hc] at hr ⊢; exact ih _ _ _ _ hr
    | 1, hr =>
      simp only [mX] at hr ⊢
      cases hc : mjmp (i, 1, a, b, d) st with
      | none => simp [hc] at hr
      | some q =>
        obtain ⟨q1, q2⟩ := q
        cases q2 with
        | none => simp only [hc] at hr ⊢; exact ih _ _ _ _ hr
        | some t => simp only [hc] at hr ⊢; exact hm _ _ hr
    | 2, hr =>
      simp only [mX] at hr ⊢
      cases hc : mcal P (i, 2, a, b, d) st h with
      | none => simp [hc] at hr
      | some q =>
        obtain ⟨z, as, r0⟩ := q
        simp only [hc] at hr ⊢
        cases hρ : ρ (z, 0, mEnt P z as, [], h) with
        | none => simp [hρ] at hr
        | some w =>
          obtain ⟨o, h1⟩ := w
          rw [hm _ _ hρ]
          simp only [hρ] at hr
          cases o with
          | inl v => exact ih _ _ _ _ hr
          | inr q =>
            cases hk : mcat (msub P) (mnsub P) d h1 q (mhnd P y) with
            | none => simp [hk] at hr
            | some w =>
              cases w with
              | none => simp only [hk] at hr ⊢; exact hr
              | some t => simp only [hk] at hr ⊢; exact hm _ _ hr
    | 3, hr => simp only [mX] at hr ⊢; exact hr
    | 4, hr => simp only [mX] at hr ⊢; exact hr
    | 5, hr => simp only [mX] at hr ⊢; exact hr
    | 6, hr => simp only [mX] at hr ⊢; exact hm _ _ hr
    | 7, hr =>
      simp only [mX] at hr ⊢
      cases hc : mloc (i, 7, a, b, d) ls st with
      | none => simp [hc] at hr
      | some q => simp only [hc] at hr ⊢; exact ih _ _ _ _ hr
    | n + 8, hr => simp [mX] at hr
theorem mF_succ {E : mE} {P : mP} : ∀ (n : Nat) (c : mK) (r : mR), mF E P n c = some r → mF E P (n + 1) c = some r := by
  intro n
  induction n with
  | zero => intro c r hr; simp [mF] at hr
  | succ n ih => intro c r hr; exact mX_mono ih _ _ _ _ _ hr
theorem mF_le {E : mE} {P : mP} {n m : Nat} (hnm : n ≤ m) {c : mK} {r : mR} (hr : mF E P n c = some r) : mF E P m c = some r := by
  induction hnm with
  | refl => exact hr
  | step _ ih => exact mF_succ _ _ _ ih
theorem mV_iff {E : mE} {P : mP} {c : mK} {r : mR} : mV E P c = some r ↔ ∃ n, mF E P n c = some r := by
  classical
  constructor
  · intro h
    unfold mV at h
    split at h
    · rename_i hx
      have h1 := hx.choose_spec
      cases h
      exact h1
    · cases h
  · rintro ⟨n, hn⟩
    have hx : ∃ r n, mF E P n c = some r := ⟨r, n, hn⟩
    unfold mV
    rw [dif_pos hx]
    obtain ⟨m, hm⟩ := hx.choose_spec
    have h1 := mF_le (Nat.le_max_left n m) hn
    have h2 := mF_le (Nat.le_max_right n m) hm
    rw [h1] at h2
    exact h2.symm
theorem mX_cont {E : mE} {P : mP} {y : Nat} : ∀ (is : List mI) (ls : mL) (st : List Value) (h : mH) (r : mR), mX E P (mV E P) y is ls st h = some r → ∃ n, mX E P (mF E P n) y is ls st h = some r := by
  intro is
  induction is with
  | nil => intro ls st h r hr; simp [mX] at hr
  | cons x is ih =>
    intro ls st h r hr
    obtain ⟨i, kd, a, b, d⟩ := x
    match kd, hr with
    | 0, hr =>
      simp only [mX] at hr ⊢
      cases hc : mstep E P (i, 0, a, b, d) st h with
      | none => simp [hc] at hr
      | some q => simp only [hc] at hr ⊢; exact ih _ _ _ _ hr
    | 1, hr =>
      simp only [mX] at hr ⊢
      cases hc : mjmp (i, 1, a, b, d) st with
      | none => simp [hc] at hr
      | some q =>
        obtain ⟨q1, q2⟩ := q
        cases q2 with
        | none => simp only [hc] at hr ⊢; exact ih _ _ _ _ hr
        | some t => simp only [hc] at hr ⊢; exact mV_iff.mp hr
    | 2, hr =>
      simp only [mX] at hr ⊢
      cases hc : mcal P (i, 2, a, b, d) st h with
      | none => simp [hc] at hr
      | some q =>
        obtain ⟨z, as, r0⟩ := q
        simp only [hc] at hr ⊢
        cases hρ : mV E P (z, 0, mEnt P z as, [], h) with
        | none => simp [hρ] at hr
        | some w =>
          obtain ⟨o, h1⟩ := w
          simp only [hρ] at hr
          obtain ⟨n, hn⟩ := mV_iff.mp hρ
          cases o with
          | inl v =>
            obtain ⟨m, hm⟩ := ih _ _ _ _ hr
            refine ⟨max n m, ?_⟩
            rw [mF_le (Nat.le_max_left n m) hn]
            exact mX_mono (fun c r => mF_le (Nat.le_max_right n m)) _ _ _ _ _ hm
          | inr q =>
            cases hk : mcat (msub P) (mnsub P) d h1 q (mhnd P y) with
            | none => simp [hk] at hr
            | some w =>
              cases w with
              | none => refine ⟨n, ?_⟩; rw [hn]; simp only [hk] at hr ⊢; exact hr
              | some t =>
                simp only [hk] at hr
                obtain ⟨m, hm⟩ := mV_iff.mp hr
                refine ⟨max n m, ?_⟩
                rw [mF_le (Nat.le_max_left n m) hn]
                simp only [hk]
                exact mF_le (Nat.le_max_right n m) hm
    | 3, hr => exact ⟨0, by simp only [mX] at hr ⊢; exact hr⟩
    | 4, hr => exact ⟨0, by simp only [mX] at hr ⊢; exact hr⟩
    | 5, hr => exact ⟨0, by simp only [mX] at hr ⊢; exact hr⟩
    | 6, hr => simp only [mX] at hr ⊢; exact mV_iff.mp hr
    | 7, hr =>
      simp only [mX] at hr ⊢
      cases hc : mloc (i, 7, a, b, d) ls st with
      | none => simp [hc] at hr
      | some q => simp only [hc] at hr ⊢; exact ih _ _ _ _ hr
    | n + 8, hr => simp [mX] at hr
/-- a run's equation -/
theorem mV_eq (E : mE) (P : mP) (y t : Nat) (ls : mL) (st : List Value) (h : mH) : mV E P (y, t, ls, st, h) = mX E P (mV E P) y (mcode P y t) ls st h := by
  refine Option.ext fun r => ?_
  constructor
  · intro hr
    obtain ⟨n, hn⟩ := mV_iff.mp hr
    cases n with
    | zero => simp [mF] at hn
    | succ n => exact mX_mono (fun c r hc => mV_iff.mpr ⟨n, hc⟩) _ _ _ _ _ hn
  · intro hr
    obtain ⟨n, hn⟩ := mX_cont _ _ _ _ _ hr
    exact mV_iff.mpr ⟨n + 1, hn⟩
/-! less known of the locals -/
def mle : mL → mL → Prop
  | [], [] => True
  | none :: a, _ :: b => mle a b
  | some v :: a, w :: b => w = some v ∧ mle a b
  | _, _ => False
theorem mle_len : ∀ {a b : mL}, mle a b → a.length = b.length
  | [], [], _ => rfl
  | none :: a, _ :: b, h => congrArg Nat.succ (mle_len (a := a) (b := b) h)
  | some v :: a, w :: b, h => congrArg Nat.succ (mle_len (a := a) (b := b) h.2)
  | [], _ :: _, h => h.elim
  | none :: _, [], h => h.elim
  | some _ :: _, [], h => h.elim
theorem mle_get : ∀ {a b : mL}, mle a b → ∀ {i : Nat} {v : Value}, a[i]? = some (some v) → b[i]? = some (some v)
  | [], [], _, i, v, e => by simp at e
  | none :: a, w :: b, h, 0, v, e => by simp at e
  | none :: a, w :: b, h, i + 1, v, e => by
    rw [List.getElem?_cons_succ] at e ⊢
    exact mle_get (a := a) (b := b) h e
  | some u :: a, w :: b, h, 0, v, e => by
    rw [List.getElem?_cons_zero] at e ⊢
    rw [h.1]; exact e
  | some u :: a, w :: b, h, i + 1, v, e => by
    rw [List.getElem?_cons_succ] at e ⊢
    exact mle_get (a := a) (b := b) h.2 e
  | [], _ :: _, h, _, _, _ => h.elim
  | none :: _, [], h, _, _, _ => h.elim
  | some _ :: _, [], h, _, _, _ => h.elim
theorem mle_of : ∀ {a b : mL}, a.length = b.length → (∀ (i : Nat) (v : Value), a[i]? = some (some v) → b[i]? = some (some v)) → mle a b
  | [], [], _, _ => trivial
  | none :: a, w :: b, h, e => mle_of (a := a) (b := b) (Nat.succ.inj h) (fun i v q => by simpa using e (i + 1) v (by simpa using q))
  | some u :: a, w :: b, h, e => ⟨by simpa using e 0 u (by simp), mle_of (a := a) (b := b) (Nat.succ.inj h) (fun i v q => by simpa using e (i + 1) v (by simpa using q))⟩
  | [], _ :: _, h, _ => by simp at h
  | _ :: _, [], h, _ => by simp at h
theorem mle_refl (a : mL) : mle a a := mle_of rfl fun _ _ h => h
theorem mld_le {a b : mL} (h : mle a b) {i : Nat} {v : Value} (e : mld a i = some v) : mld b i = some v := by
  unfold mld at e ⊢
  split at e
  · rename_i u hu
    cases e
    rw [mle_get h hu]
  · cases e
theorem mclr_len (a : mL) (i : Nat) : (mclr a i).length = a.length := by
  unfold mclr
  split
  · rfl
  · split <;> simp
theorem mclr_sub {a : mL} {i j : Nat} {v : Value} (e : (mclr a i)[j]? = some (some v)) : a[j]? = some (some v) := by
  unfold mclr at e
  split at e
  · exact e
  · split at e
    · rw [List.getElem?_set] at e
      split at e
      · split at e <;> simp at e
      · exact e
    · rw [List.getElem?_set] at e
      split at e
      · split at e <;> simp at e
      · exact e
    · exact e
theorem mclr_keep {a : mL} {i j : Nat} {v : Value} (e : a[j]? = some (some v)) (hn : ¬ (j + 1 = i ∧ v.category = 2)) : (mclr a i)[j]? = some (some v) := by
  unfold mclr
  split
  · exact e
  · rename_i i k
    split
    · rename_i x hx
      by_cases hj : k = j
      · subst hj
        rw [e] at hx
        cases hx
        exact absurd ⟨rfl, rfl⟩ hn
      · rw [List.getElem?_set_ne hj]; exact e
    · rename_i x hx
      by_cases hj : k = j
      · subst hj
        rw [e] at hx
        cases hx
        exact absurd ⟨rfl, rfl⟩ hn
      · rw [List.getElem?_set_ne hj]; exact e
    · exact e
theorem mclr_gone {a : mL} {i j : Nat} {v : Value} (e : (mclr a i)[j]? = some (some v)) : ¬ (j + 1 = i ∧ v.category = 2) := by
  rintro ⟨rfl, hc⟩
  have h0 := mclr_sub e
  unfold mclr at e
  simp only [h0] at e
  have hl := (List.getElem?_eq_some_iff.mp h0).1
  cases v <;> simp [Value.category] at hc <;> (simp only at e; rw [List.getElem?_set_self hl] at e; cases e)
theorem mclr_le {a b : mL} (h : mle a b) (i : Nat) : mle (mclr a i) (mclr b i) :=
  mle_of (by rw [mclr_len, mclr_len, mle_len h]) fun j v e => mclr_keep (mle_get h (mclr_sub e)) (mclr_gone e)
theorem mset_le {a b : mL} (h : mle a b) (i : Nat) (w : Option Value) : mle (a.set i w) (b.set i w) :=
  mle_of (by simp [mle_len h]) fun j v e => by
    rw [List.getElem?_set] at e ⊢
    split
    · rename_i hij
      rw [if_pos hij] at e
      rw [← mle_len h]; exact e
    · rename_i hij
      rw [if_neg hij] at e
      exact mle_get h e
theorem mst1_le {a b : mL} (h : mle a b) (i : Nat) (v : Value) : mle (mst1 a i v) (mst1 b i v) := mset_le (mclr_le h i) i _
theorem mst2_le {a b : mL} (h : mle a b) (i : Nat) (v : Value) : mle (mst2 a i v) (mst2 b i v) := mset_le (mset_le (mclr_le h i) i _) _ _
theorem mloc_le {a b : mL} (h : mle a b) {x : mI} {st : List Value} {q : mL × List Value} (e : mloc x a st = some q) : ∃ b', mloc x b st = some (b', q.2) ∧ mle q.1 b' := by
  have hl := mle_len h
  obtain ⟨i, kd, u, v, d⟩ := x
  cases i <;> simp only [mloc, s_ldi, s_ldl, s_ldf, s_ldd, s_lda, s_sti, s_stf, s_sta, s_std, s_stl] at e ⊢ <;> try (simp at e; done)
  all_goals
    first
    | (split at e
       · rename_i x0 hx; cases e; rw [mld_le h hx]; exact ⟨_, rfl, h⟩
       · (simp at e; done))
    | (split at e
       · rename_i x0 hx; cases e; rw [mld_le h hx]; exact ⟨_, rfl, h⟩
       · rename_i hx; cases e; rw [mld_le h hx]; exact ⟨_, rfl, h⟩
       · (simp at e; done))
    | (split at e
       · split at e
         · rename_i hi; cases e; rw [hl] at hi; rw [if_pos hi]; exact ⟨_, rfl, mst1_le h _ _⟩
         · (simp at e; done)
       · (simp at e; done))
    | (split at e
       · split at e
         · rename_i hi; cases e; rw [hl] at hi; rw [if_pos hi]; exact ⟨_, rfl, mst1_le h _ _⟩
         · (simp at e; done)
       · split at e
         · rename_i hi; cases e; rw [hl] at hi; rw [if_pos hi]; exact ⟨_, rfl, mst1_le h _ _⟩
         · (simp at e; done)
       · (simp at e; done))
    | (split at e
       · split at e
         · rename_i hi; cases e; rw [hl] at hi; rw [if_pos hi]; exact ⟨_, rfl, mst2_le h _ _⟩
         · (simp at e; done)
       · (simp at e; done))
    | (split at e
       · rename_i x0 hx
         split at e
         · rename_i hi; cases e; rw [hl] at hi; rw [mld_le h hx]; simp only [if_pos hi]; exact ⟨_, rfl, mst1_le h _ _⟩
         · (simp at e; done)
       · (simp at e; done))
theorem mX_le {E : mE} {P : mP} {ρ : mK → Option mR} {y : Nat} (hρ : ∀ (t : Nat) (a b : mL) (st : List Value) (h : mH) (r : mR), mle a b → ρ (y, t, a, st, h) = some r → ρ (y, t, b, st, h) = some r) : ∀ (is : List mI) (a b : mL) (st : List Value) (h : mH) (r : mR), mle a b → mX E P ρ y is a st h = some r → mX E P ρ y is b st h = some r := by
  intro is
  induction is with
  | nil => intro a b st h r hab hr; simp [mX] at hr
  | cons x is ih =>
    intro ls b0 st h r hab hr
    obtain ⟨i, kd, a, b, d⟩ := x
    match kd, hr with
    | 0, hr =>
      simp only [mX] at hr ⊢
      cases hc : mstep E P (i, 0, a, b, d) st h with
      | none => simp [hc] at hr
      | some q => simp only [hc] at hr ⊢; exact ih _ _ _ _ _ hab hr
    | 1, hr =>
      simp only [mX] at hr ⊢
      cases hc : mjmp (i, 1, a, b, d) st with
      | none => simp [hc] at hr
      | some q =>
        obtain ⟨q1, q2⟩ := q
        cases q2 with
        | none => simp only [hc] at hr ⊢; exact ih _ _ _ _ _ hab hr
        | some t => simp only [hc] at hr ⊢; exact hρ _ _ _ _ _ _ hab hr
    | 2, hr =>
      simp only [mX] at hr ⊢
      cases hc : mcal P (i, 2, a, b, d) st h with
      | none => simp [hc] at hr
      | some q =>
        obtain ⟨z, as, r0⟩ := q
        simp only [hc] at hr ⊢
        cases hq : ρ (z, 0, mEnt P z as, [], h) with
        | none => simp [hq] at hr
        | some w =>
          obtain ⟨o, h1⟩ := w
          simp only [hq] at hr
          cases o with
          | inl v => exact ih _ _ _ _ _ hab hr
          | inr q =>
            cases hk : mcat (msub P) (mnsub P) d h1 q (mhnd P y) with
            | none => simp [hk] at hr
            | some w =>
              cases w with
              | none => simp only [hk] at hr ⊢; exact hr
              | some t => simp only [hk] at hr ⊢; exact hρ _ _ _ _ _ _ hab hr
    | 3, hr => simp only [mX] at hr ⊢; exact hr
    | 4, hr => simp only [mX] at hr ⊢; exact hr
    | 5, hr => simp only [mX] at hr ⊢; exact hr
    | 6, hr => simp only [mX] at hr ⊢; exact hρ _ _ _ _ _ _ hab hr
    | 7, hr =>
      simp only [mX] at hr ⊢
      cases hc : mloc (i, 7, a, b, d) ls st with
      | none => simp [hc] at hr
      | some q =>
        simp only [hc] at hr
        obtain ⟨b', e1, e2⟩ := mloc_le hab hc
        rw [e1]
        exact ih _ _ _ _ _ e2 hr
    | n + 8, hr => simp [mX] at hr
theorem mF_weak {E : mE} {P : mP} : ∀ (n y t : Nat) (a b : mL) (st : List Value) (h : mH) (r : mR), mle a b → mF E P n (y, t, a, st, h) = some r → mF E P n (y, t, b, st, h) = some r := by
  intro n
  induction n with
  | zero => intro y t a b st h r _ hr; simp [mF] at hr
  | succ n ih => intro y t a b st h r hab hr; exact mX_le (fun t a b st h r => ih y t a b st h r) _ _ _ _ _ _ hab hr
/-- a run with fewer locals known -/
theorem mV_weak {E : mE} {P : mP} {y t : Nat} {a b : mL} {st : List Value} {h : mH} {r : mR} (hr : mV E P (y, t, a, st, h) = some r) (hab : mle a b) : mV E P (y, t, b, st, h) = some r := by
  obtain ⟨n, hn⟩ := mV_iff.mp hr
  exact mV_iff.mpr ⟨n, mF_weak n y t a b st h r hab hn⟩
