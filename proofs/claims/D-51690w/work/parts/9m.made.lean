/-! MC component 33: a State that is being made (printed by gen/genmade.py) -/
set_option maxRecDepth 100000
def Sm (h : mH) (a : Nat) (F : Int → Int) (s cp : Nat → Nat) (B W C L : Int → Nat) : Prop := (S1 h a F s ∧ S2 h F s ∧ S3 h F s ∧ S8 h F s) ∧ (FL h (s 1) (s 11) (cp 1) (F 3).toNat B ∧ FL h (s 2) (s 12) (cp 2) (F 4).toNat W ∧ FL h (s 3) (s 13) (cp 3) (F 5).toNat C ∧ FL h (s 4) (s 14) (cp 4) (F 6).toNat L) ∧ O3 h F B ∧ O4 h F W ∧ O6 h F C ∧ O7 h F L
/-- four lists, four arrays -/
def Sp (s : Nat → Nat) : Prop := (s 1 ≠ s 2 ∧ s 1 ≠ s 3 ∧ s 1 ≠ s 4 ∧ s 2 ≠ s 3 ∧ s 2 ≠ s 4 ∧ s 3 ≠ s 4) ∧ (s 11 ≠ s 12 ∧ s 11 ≠ s 13 ∧ s 11 ≠ s 14 ∧ s 12 ≠ s 13 ∧ s 12 ≠ s 14 ∧ s 13 ≠ s 14)
/-- cells in A of the kinds T are as they were -/
def FTg (T : Nat → Prop) (A : Nat → Prop) (h h' : mH) : Prop := ∀ (q : Nat) (X : mC), A q → h.1 q = some X → T (tagC X) → h'.1 q = some X
def sAr (s : Nat → Nat) (i x : Nat) : Nat → Nat := fun j => if j = i then x else s j
theorem sAr_n {s : Nat → Nat} {i x j : Nat} (h : j ≠ i) : sAr s i x j = s j := if_neg h
theorem sAr_s {s : Nat → Nat} {i x : Nat} : sAr s i x i = x := if_pos rfl
section TG
variable {T : Nat → Prop} {A A' P : Nat → Prop} {h h' : mH} {a m : Nat} {F G : Int → Int} {s cp : Nat → Nat} {B W C L : Int → Nat} {n : Int} {bk : Nat → List hEnt}
theorem S1_T (K : FTg T A h h') (hA : A a) (ht : T 1) (e2 : G 2 = F 2) (e7 : G 7 = F 7) (hS : S1 h a F s) : S1 h' a G s := by
  unfold S1
  rw [e2, e7]
  exact K _ _ hA hS ht
theorem S2_T (K : FTg T A h h') (hA : A (s 0)) (ht : T 2) (e0 : G 0 = F 0) (e1 : G 1 = F 1) (hS : S2 h F s) : S2 h' G s := by
  unfold S2
  rw [e0, e1]
  exact K _ _ hA hS ht
theorem S3_T (K : FTg T A h h') (hA : A (s 6)) (ht : T 1001) (e0 : G 0 = F 0) (e1 : G 1 = F 1) (ew : ∀ c, 0 ≤ c → c < F 0 * F 1 → G (15 + c) = F (15 + c)) (hS : S3 h F s) : S3 h' G s := by
  obtain ⟨f, a1, a2⟩ := hS
  refine ⟨f, ?_, fun c c0 c1 => ?_⟩
  · rw [e0, e1]
    exact K _ _ hA a1 ht
  · rw [e0, e1] at c1
    rw [ew c c0 c1]
    exact a2 c c0 c1
theorem S8_T (K : FTg T A h h') (hA : A (s 5)) (ht : T 1000) (ew : ∀ j, 0 ≤ j → j < 7 → G (8 + j) = F (8 + j)) (hS : S8 h F s) : S8 h' G s := by
  obtain ⟨f, a1, a2⟩ := hS
  exact ⟨f, K _ _ hA a1 ht, fun j j0 j1 => (a2 j j0 j1).trans (ew j j0 j1).symm⟩
theorem FL_T {l ar cap k : Nat} (K : FTg T A h h') (h1 : A l) (h2 : A ar) (ht : T 13 ∧ T 1100) (hf : FL h l ar cap k B) : FL h' l ar cap k B := by
  obtain ⟨m, g, a1, a2, a3, a4⟩ := hf
  exact ⟨m, g, K _ _ h1 a1 ht.1, K _ _ h2 a2 ht.2, a3, a4⟩
theorem hch_T (K : FTg T A h h') (hA : ∀ q, A q → A' q) (ht : T 4 ∧ T 5 ∧ T 16) : ∀ (l : List hEnt) (o : Option Nat), hch A h l o → hch A' h' l o := by
  intro l
  induction l with
  | nil => intro o hc; exact hc
  | cons e l ih =>
    intro o hc
    obtain ⟨a1, a2, a3, a4, a5, a6, ⟨v1, v2, v3, v4, a7⟩, o', a8, a9⟩ := hc
    exact ⟨a1, ⟨hA _ a2.1, hA _ a2.2.1, hA _ a2.2.2⟩, a3, a4, a5, K _ _ a2.2.1 a6 ht.2.1, ⟨v1, v2, v3, v4, K _ _ a2.2.2 a7 ht.1⟩, o', K _ _ a2.1 a8 ht.2.2, ih o' a9⟩
theorem HM_T (K : FTg T A h h') (hA : ∀ q, A q → A' q) (ht : T 4 ∧ T 5 ∧ T 16 ∧ T 15 ∧ T 1102) (hm : HM A h m n bk) : HM A' h' m n bk := by
  obtain ⟨a1, a2, a3, ⟨a4, md, lf, a5⟩ | ⟨t, g, md, lf, a4, a5, a6, a7⟩⟩ := hm
  · exact ⟨hA _ a1, a2, a3, Or.inl ⟨a4, md, lf, K _ _ a1 a5 ht.2.2.2.1⟩⟩
  · exact ⟨hA _ a1, a2, a3, Or.inr ⟨t, g, md, lf, hA _ a4, K _ _ a1 a5 ht.2.2.2.1, K _ _ a4 a6 ht.2.2.2.2, fun i hi => hch_T K hA ⟨ht.1, ht.2.1, ht.2.2.1⟩ _ _ (a7 i hi)⟩⟩
theorem o3_e {k : Int} (e : ∀ j, 96 + 4 * k ≤ j → j < 96 + 4 * k + 4 → G j = F j) : o3 G k = o3 F k := by
  unfold o3
  rw [e (96 + 4 * k + 1) (by omega) (by omega), e (96 + 4 * k + 2) (by omega) (by omega), e (96 + 4 * k + 3) (by omega) (by omega), e (96 + 4 * k) (by omega) (by omega)]
theorem O3_T (K : FTg T A h h') (hA : ∀ k, 0 ≤ k → k < F 3 → A (B k)) (ht : T 3) (en : G 3 = F 3) (e : ∀ j, 96 ≤ j → j < 96 + 4 * F 3 → G j = F j) (hS : O3 h F B) : O3 h' G B := by
  refine ⟨fun k k0 k1 => ?_, fun j k j0 j1 k0 k1 => hS.2 j k j0 (by rw [← en]; exact j1) k0 (by rw [← en]; exact k1)⟩
  rw [en] at k1
  rw [o3_e (k := k) (fun j j0 j1 => e j (by omega) (by omega))]
  exact K _ _ (hA k k0 k1) (hS.1 k k0 k1) ht
/-- one more -/
theorem O3_a {N : Nat} (K : FTg T A h h') (hA : ∀ k, 0 ≤ k → k < F 3 → A (B k)) (ht : T 3) (h0 : 0 ≤ F 3) (en : G 3 = F 3 + 1) (e : ∀ j, 96 ≤ j → j < 96 + 4 * F 3 → G j = F j) (hN : h'.1 N = some (o3 G (F 3))) (hf : ¬ A N) (hS : O3 h F B) : O3 h' G (addN B (F 3).toNat N) := by
  have n3 : ((F 3).toNat : Int) = F 3 := Int.toNat_of_nonneg h0
  refine ⟨fun k k0 k1 => ?_, fun i j i0 i1 j0 j1 q => ?_⟩
  · rw [en] at k1
    unfold addN
    by_cases z : k = F 3
    · rw [if_pos (by rw [n3]; exact z), z]
      exact hN
    · rw [if_neg (by rw [n3]; exact z), o3_e (k := k) (fun j j0 j1 => e j (by omega) (by omega))]
      exact K _ _ (hA k k0 (by omega)) (hS.1 k k0 (by omega)) ht
  · rw [en] at i1 j1
    unfold addN at q
    rw [n3] at q
    by_cases z : i = F 3
    · by_cases y : j = F 3
      · omega
      · rw [if_pos z, if_neg y] at q
        exact absurd (q ▸ hA j j0 (by omega)) hf
    · by_cases y : j = F 3
      · rw [if_neg z, if_pos y] at q
        exact absurd (q ▸ hA i i0 (by omega)) hf
      · rw [if_neg z, if_neg y] at q
        exact hS.2 i j i0 (by omega) j0 (by omega) q
theorem o4_e {k : Int} (e : ∀ j, 116 + 4 * k ≤ j → j < 116 + 4 * k + 4 → G j = F j) : o4 G k = o4 F k := by
  unfold o4
  rw [e (116 + 4 * k) (by omega) (by omega), e (116 + 4 * k + 2) (by omega) (by omega), e (116 + 4 * k + 3) (by omega) (by omega), e (116 + 4 * k + 1) (by omega) (by omega)]
theorem O4_T (K : FTg T A h h') (hA : ∀ k, 0 ≤ k → k < F 4 → A (W k)) (ht : T 4) (en : G 4 = F 4) (e : ∀ j, 116 ≤ j → j < 116 + 4 * F 4 → G j = F j) (hS : O4 h F W) : O4 h' G W := by
  refine ⟨fun k k0 k1 => ?_, fun j k j0 j1 k0 k1 => hS.2 j k j0 (by rw [← en]; exact j1) k0 (by rw [← en]; exact k1)⟩
  rw [en] at k1
  rw [o4_e (k := k) (fun j j0 j1 => e j (by omega) (by omega))]
  exact K _ _ (hA k k0 k1) (hS.1 k k0 k1) ht
/-- one more -/
theorem O4_a {N : Nat} (K : FTg T A h h') (hA : ∀ k, 0 ≤ k → k < F 4 → A (W k)) (ht : T 4) (h0 : 0 ≤ F 4) (en : G 4 = F 4 + 1) (e : ∀ j, 116 ≤ j → j < 116 + 4 * F 4 → G j = F j) (hN : h'.1 N = some (o4 G (F 4))) (hf : ¬ A N) (hS : O4 h F W) : O4 h' G (addN W (F 4).toNat N) := by
  have n3 : ((F 4).toNat : Int) = F 4 := Int.toNat_of_nonneg h0
  refine ⟨fun k k0 k1 => ?_, fun i j i0 i1 j0 j1 q => ?_⟩
  · rw [en] at k1
    unfold addN
    by_cases z : k = F 4
    · rw [if_pos (by rw [n3]; exact z), z]
      exact hN
    · rw [if_neg (by rw [n3]; exact z), o4_e (k := k) (fun j j0 j1 => e j (by omega) (by omega))]
      exact K _ _ (hA k k0 (by omega)) (hS.1 k k0 (by omega)) ht
  · rw [en] at i1 j1
    unfold addN at q
    rw [n3] at q
    by_cases z : i = F 4
    · by_cases y : j = F 4
      · omega
      · rw [if_pos z, if_neg y] at q
        exact absurd (q ▸ hA j j0 (by omega)) hf
    · by_cases y : j = F 4
      · rw [if_neg z, if_pos y] at q
        exact absurd (q ▸ hA i i0 (by omega)) hf
      · rw [if_neg z, if_neg y] at q
        exact hS.2 i j i0 (by omega) j0 (by omega) q
theorem o6_e {k : Int} (e : ∀ j, 132 + 6 * k ≤ j → j < 132 + 6 * k + 6 → G j = F j) : o6 G k = o6 F k := by
  unfold o6
  rw [e (132 + 6 * k + 1) (by omega) (by omega), e (132 + 6 * k) (by omega) (by omega), e (132 + 6 * k + 3) (by omega) (by omega), e (132 + 6 * k + 4) (by omega) (by omega), e (132 + 6 * k + 5) (by omega) (by omega), e (132 + 6 * k + 2) (by omega) (by omega)]
theorem O6_T (K : FTg T A h h') (hA : ∀ k, 0 ≤ k → k < F 5 → A (C k)) (ht : T 6) (en : G 5 = F 5) (e : ∀ j, 132 ≤ j → j < 132 + 6 * F 5 → G j = F j) (hS : O6 h F C) : O6 h' G C := by
  refine ⟨fun k k0 k1 => ?_, fun j k j0 j1 k0 k1 => hS.2 j k j0 (by rw [← en]; exact j1) k0 (by rw [← en]; exact k1)⟩
  rw [en] at k1
  rw [o6_e (k := k) (fun j j0 j1 => e j (by omega) (by omega))]
  exact K _ _ (hA k k0 k1) (hS.1 k k0 k1) ht
/-- one more -/
theorem O6_a {N : Nat} (K : FTg T A h h') (hA : ∀ k, 0 ≤ k → k < F 5 → A (C k)) (ht : T 6) (h0 : 0 ≤ F 5) (en : G 5 = F 5 + 1) (e : ∀ j, 132 ≤ j → j < 132 + 6 * F 5 → G j = F j) (hN : h'.1 N = some (o6 G (F 5))) (hf : ¬ A N) (hS : O6 h F C) : O6 h' G (addN C (F 5).toNat N) := by
  have n3 : ((F 5).toNat : Int) = F 5 := Int.toNat_of_nonneg h0
  refine ⟨fun k k0 k1 => ?_, fun i j i0 i1 j0 j1 q => ?_⟩
  · rw [en] at k1
    unfold addN
    by_cases z : k = F 5
    · rw [if_pos (by rw [n3]; exact z), z]
      exact hN
    · rw [if_neg (by rw [n3]; exact z), o6_e (k := k) (fun j j0 j1 => e j (by omega) (by omega))]
      exact K _ _ (hA k k0 (by omega)) (hS.1 k k0 (by omega)) ht
  · rw [en] at i1 j1
    unfold addN at q
    rw [n3] at q
    by_cases z : i = F 5
    · by_cases y : j = F 5
      · omega
      · rw [if_pos z, if_neg y] at q
        exact absurd (q ▸ hA j j0 (by omega)) hf
    · by_cases y : j = F 5
      · rw [if_neg z, if_pos y] at q
        exact absurd (q ▸ hA i i0 (by omega)) hf
      · rw [if_neg z, if_neg y] at q
        exact hS.2 i j i0 (by omega) j0 (by omega) q
theorem o7_e {k : Int} (e : ∀ j, 156 + 6 * k ≤ j → j < 156 + 6 * k + 6 → G j = F j) : o7 G k = o7 F k := by
  unfold o7
  rw [e (156 + 6 * k) (by omega) (by omega), e (156 + 6 * k + 1) (by omega) (by omega), e (156 + 6 * k + 2) (by omega) (by omega), e (156 + 6 * k + 3) (by omega) (by omega), e (156 + 6 * k + 4) (by omega) (by omega), e (156 + 6 * k + 5) (by omega) (by omega)]
theorem O7_T (K : FTg T A h h') (hA : ∀ k, 0 ≤ k → k < F 6 → A (L k)) (ht : T 7) (en : G 6 = F 6) (e : ∀ j, 156 ≤ j → j < 156 + 6 * F 6 → G j = F j) (hS : O7 h F L) : O7 h' G L := by
  refine ⟨fun k k0 k1 => ?_, fun j k j0 j1 k0 k1 => hS.2 j k j0 (by rw [← en]; exact j1) k0 (by rw [← en]; exact k1)⟩
  rw [en] at k1
  rw [o7_e (k := k) (fun j j0 j1 => e j (by omega) (by omega))]
  exact K _ _ (hA k k0 k1) (hS.1 k k0 k1) ht
/-- one more -/
theorem O7_a {N : Nat} (K : FTg T A h h') (hA : ∀ k, 0 ≤ k → k < F 6 → A (L k)) (ht : T 7) (h0 : 0 ≤ F 6) (en : G 6 = F 6 + 1) (e : ∀ j, 156 ≤ j → j < 156 + 6 * F 6 → G j = F j) (hN : h'.1 N = some (o7 G (F 6))) (hf : ¬ A N) (hS : O7 h F L) : O7 h' G (addN L (F 6).toNat N) := by
  have n3 : ((F 6).toNat : Int) = F 6 := Int.toNat_of_nonneg h0
  refine ⟨fun k k0 k1 => ?_, fun i j i0 i1 j0 j1 q => ?_⟩
  · rw [en] at k1
    unfold addN
    by_cases z : k = F 6
    · rw [if_pos (by rw [n3]; exact z), z]
      exact hN
    · rw [if_neg (by rw [n3]; exact z), o7_e (k := k) (fun j j0 j1 => e j (by omega) (by omega))]
      exact K _ _ (hA k k0 (by omega)) (hS.1 k k0 (by omega)) ht
  · rw [en] at i1 j1
    unfold addN at q
    rw [n3] at q
    by_cases z : i = F 6
    · by_cases y : j = F 6
      · omega
      · rw [if_pos z, if_neg y] at q
        exact absurd (q ▸ hA j j0 (by omega)) hf
    · by_cases y : j = F 6
      · rw [if_neg z, if_pos y] at q
        exact absurd (q ▸ hA i i0 (by omega)) hf
      · rw [if_neg z, if_neg y] at q
        exact hS.2 i j i0 (by omega) j0 (by omega) q
theorem Sm.st (hF : WF F) (hS : Sm h a F s cp B W C L) : St h a F s B W C L := by
  obtain ⟨h0, h1, h2, h3, h4, h5, h6, h7, h8, h9, h10, h11, h12⟩ := id hF; have hcc := hF.cells
  obtain ⟨⟨q1, q2, q3, q8⟩, ⟨f1, f2, f3, f4⟩, o3, o4, o6, o7⟩ := hS
  have n3 : ((F 3).toNat : Int) = F 3 := by omega
  have n4 : ((F 4).toNat : Int) = F 4 := by omega
  have n5 : ((F 5).toNat : Int) = F 5 := by omega
  have n6 : ((F 6).toNat : Int) = F 6 := by omega
  exact ⟨q1, q2, q3, ⟨n3 ▸ f1.al, n4 ▸ f2.al, n5 ▸ f3.al, n6 ▸ f4.al⟩, q8, o3, o4, o6, o7⟩
/-- nothing of it was written -/
theorem Sm_fr (hI : In A P a F s B W C L) (he : ∀ q, A q → h'.1 q = h.1 q) (hS : Sm h a F s cp B W C L) : Sm h' a F s cp B W C L := by
  obtain ⟨⟨q1, q2, q3, q8⟩, ⟨f1, f2, f3, f4⟩, o3, o4, o6, o7⟩ := hS
  obtain ⟨i1, i2, i3, i4, i5, i6, i7, i8⟩ := hI
  have K : FTg (fun _ => True) A h h' := fun q X hq e _ => (he q hq).trans e
  exact ⟨⟨S1_T K i2.1 trivial rfl rfl q1, S2_T K i1.1 trivial rfl rfl q2, S3_T K i1.2 trivial rfl rfl (fun _ _ _ => rfl) q3, S8_T K i4.1 trivial (fun _ _ _ => rfl) q8⟩, ⟨FL_T K i3.1.1 i3.1.2 ⟨trivial, trivial⟩ f1, FL_T K i3.2.1.1 i3.2.1.2 ⟨trivial, trivial⟩ f2, FL_T K i3.2.2.1.1 i3.2.2.1.2 ⟨trivial, trivial⟩ f3, FL_T K i3.2.2.2.1 i3.2.2.2.2 ⟨trivial, trivial⟩ f4⟩, O3_T K (fun k a b => (i5 k a b).1) trivial rfl (fun _ _ _ => rfl) o3, O4_T K (fun k a b => (i6 k a b).1) trivial rfl (fun _ _ _ => rfl) o4, O6_T K (fun k a b => (i7 k a b).1) trivial rfl (fun _ _ _ => rfl) o6, O7_T K (fun k a b => (i8 k a b).1) trivial rfl (fun _ _ _ => rfl) o7⟩
/-- the walls, written -/
theorem Sm_wall (hF : WF F) (hI : In A P a F s B W C L) (hS : Sm h a F s cp B W C L) {c : Int} (hc : 0 ≤ c ∧ c < 81) {f : Int → Int} {k : Nat} (hw : h.1 (s 6) = some (mAI 1 k f)) (hk : k = (F 0 * F 1).toNat) (hv : ∀ j, 0 ≤ j → j < F 0 * F 1 → f j = F (15 + j)) : Sm (mput h (s 6) (mAI 1 k (up f c 1))) a (up F (15 + c) 1) s cp B W C L := by
  obtain ⟨h0, h1, h2, h3, h4, h5, h6, h7, h8, h9, h10, h11, h12⟩ := id hF; have hcc := hF.cells
  obtain ⟨⟨q1, q2, q3, q8⟩, ⟨f1, f2, f3, f4⟩, o3, o4, o6, o7⟩ := hS
  obtain ⟨i1, i2, i3, i4, i5, i6, i7, i8⟩ := hI
  have K : FTg (fun t => t ≠ 1001) A h (mput h (s 6) (mAI 1 k (up f c 1))) := fun q X hq e ht => by
    rw [h_pn (fun z => ht (by rw [z, hw] at e; cases e; rfl))]
    exact e
  have u : ∀ j, j ≠ 15 + c → up F (15 + c) 1 j = F j := fun j hj => up_n hj
  refine ⟨⟨S1_T K i2.1 (by decide) (u _ (by omega)) (u _ (by omega)) q1, S2_T K i1.1 (by decide) (u _ (by omega)) (u _ (by omega)) q2, ?_, S8_T K i4.1 (by decide) (fun _ _ _ => u _ (by omega)) q8⟩, ⟨?_, ?_, ?_, ?_⟩, O3_T K (fun k a b => (i5 k a b).1) (by decide) (u _ (by omega)) (fun _ _ _ => u _ (by omega)) o3, O4_T K (fun k a b => (i6 k a b).1) (by decide) (u _ (by omega)) (fun _ _ _ => u _ (by omega)) o4, O6_T K (fun k a b => (i7 k a b).1) (by decide) (u _ (by omega)) (fun _ _ _ => u _ (by omega)) o6, O7_T K (fun k a b => (i8 k a b).1) (by decide) (u _ (by omega)) (fun _ _ _ => u _ (by omega)) o7⟩
  · refine ⟨up f c 1, ?_, fun j j0 j1 => ?_⟩
    · rw [u 0 (by omega), u 1 (by omega), ← hk]
      exact h_ps
    · rw [u 0 (by omega), u 1 (by omega)] at j1
      by_cases e : j = c
      · rw [e, up_s, up_s]
      · rw [up_n e, u _ (by omega)]
        exact hv j j0 j1
  · rw [u 3 (by omega)]
    exact FL_T K i3.1.1 i3.1.2 ⟨by decide, by decide⟩ f1
  · rw [u 4 (by omega)]
    exact FL_T K i3.2.1.1 i3.2.1.2 ⟨by decide, by decide⟩ f2
  · rw [u 5 (by omega)]
    exact FL_T K i3.2.2.1.1 i3.2.2.1.2 ⟨by decide, by decide⟩ f3
  · rw [u 6 (by omega)]
    exact FL_T K i3.2.2.2.1 i3.2.2.2.2 ⟨by decide, by decide⟩ f4
theorem Sm_a3 (hF : WF F) (hlt : F 3 < 5) (hI : In A P a F s B W C L) (hS : Sm h a F s cp B W C L) (K : FTg (fun t => t ≠ 13 ∧ t ≠ 1100) A h h') (e3 : G 3 = F 3 + 1) (u : ∀ j, j ≠ 3 → ¬ (96 + 4 * F 3 ≤ j ∧ j < 96 + 4 * F 3 + 4) → G j = F j) {N ar' cap' : Nat} (hl : FL h' (s 1) ar' cap' ((F 3).toNat + 1) (addN B (F 3).toNat N)) (k2 : h'.1 (s 2) = h.1 (s 2) ∧ h'.1 (s 12) = h.1 (s 12)) (k3 : h'.1 (s 3) = h.1 (s 3) ∧ h'.1 (s 13) = h.1 (s 13)) (k4 : h'.1 (s 4) = h.1 (s 4) ∧ h'.1 (s 14) = h.1 (s 14)) (hN : h'.1 N = some (o3 G (F 3))) (hf : ¬ A N) : Sm h' a G (sAr s 11 ar') (sAr cp 1 cap') (addN B (F 3).toNat N) W C L := by
  obtain ⟨h0, h1, h2, h3, h4, h5, h6, h7, h8, h9, h10, h11, h12⟩ := id hF; have hcc := hF.cells
  obtain ⟨⟨q1, q2, q3, q8⟩, ⟨f1, f2, f3, f4⟩, o3, o4, o6, o7⟩ := hS
  obtain ⟨i1, i2, i3, i4, i5, i6, i7, i8⟩ := hI
  refine ⟨⟨S1_T K i2.1 ⟨by decide, by decide⟩ (u _ (by omega) (by omega)) (u _ (by omega) (by omega)) q1, S2_T K i1.1 ⟨by decide, by decide⟩ (u _ (by omega) (by omega)) (u _ (by omega) (by omega)) q2, S3_T K i1.2 ⟨by decide, by decide⟩ (u _ (by omega) (by omega)) (u _ (by omega) (by omega)) (fun _ _ _ => u _ (by omega) (by omega)) q3, S8_T K i4.1 ⟨by decide, by decide⟩ (fun _ _ _ => u _ (by omega) (by omega)) q8⟩, ⟨?_, ?_, ?_, ?_⟩, O3_a K (fun k a b => (i5 k a b).1) ⟨by decide, by decide⟩ (by omega) e3 (fun _ _ _ => u _ (by omega) (by omega)) hN hf o3, O4_T K (fun k a b => (i6 k a b).1) ⟨by decide, by decide⟩ (u _ (by omega) (by omega)) (fun _ _ _ => u _ (by omega) (by omega)) o4, O6_T K (fun k a b => (i7 k a b).1) ⟨by decide, by decide⟩ (u _ (by omega) (by omega)) (fun _ _ _ => u _ (by omega) (by omega)) o6, O7_T K (fun k a b => (i8 k a b).1) ⟨by decide, by decide⟩ (u _ (by omega) (by omega)) (fun _ _ _ => u _ (by omega) (by omega)) o7⟩
  · rw [e3, show (F 3 + 1).toNat = (F 3).toNat + 1 by omega]
    exact hl
  · rw [u 4 (by omega) (by omega)]
    exact FL_keep k2.1 k2.2 f2
  · rw [u 5 (by omega) (by omega)]
    exact FL_keep k3.1 k3.2 f3
  · rw [u 6 (by omega) (by omega)]
    exact FL_keep k4.1 k4.2 f4
theorem In_a3 (h0 : 0 ≤ F 3) (hI : In A P a F s B W C L) (e3 : G 3 = F 3 + 1) (u : ∀ j, (j = 3 ∨ j = 4 ∨ j = 5 ∨ j = 6) → j ≠ 3 → G j = F j) {N ar' : Nat} (hA : ∀ q, A q → A' q) (hN : A' N) (ha : A' ar') : In A' (fun _ => True) a G (sAr s 11 ar') (addN B (F 3).toNat N) W C L := by
  obtain ⟨i1, i2, i3, i4, i5, i6, i7, i8⟩ := In_mono (P' := fun _ => True) hA (fun _ _ _ => trivial) hI
  have n3 : ((F 3).toNat : Int) = F 3 := Int.toNat_of_nonneg h0
  refine ⟨i1, i2, ⟨⟨i3.1.1, ha⟩, ⟨i3.2.1.1, i3.2.1.2⟩, ⟨i3.2.2.1.1, i3.2.2.1.2⟩, ⟨i3.2.2.2.1, i3.2.2.2.2⟩⟩, i4, fun k k0 k1 => ?_, fun k k0 k1 => i6 k k0 (by rw [← u 4 (by omega) (by omega)]; exact k1), fun k k0 k1 => i7 k k0 (by rw [← u 5 (by omega) (by omega)]; exact k1), fun k k0 k1 => i8 k k0 (by rw [← u 6 (by omega) (by omega)]; exact k1)⟩
  rw [e3] at k1
  unfold addN
  by_cases z : k = F 3
  · rw [if_pos (by rw [n3]; exact z)]
    exact ⟨hN, trivial⟩
  · rw [if_neg (by rw [n3]; exact z)]
    exact i5 k k0 (by omega)
theorem Sm_a4 (hF : WF F) (hlt : F 4 < 4) (hI : In A P a F s B W C L) (hS : Sm h a F s cp B W C L) (K : FTg (fun t => t ≠ 13 ∧ t ≠ 1100) A h h') (e3 : G 4 = F 4 + 1) (u : ∀ j, j ≠ 4 → ¬ (116 + 4 * F 4 ≤ j ∧ j < 116 + 4 * F 4 + 4) → G j = F j) {N ar' cap' : Nat} (hl : FL h' (s 2) ar' cap' ((F 4).toNat + 1) (addN W (F 4).toNat N)) (k1 : h'.1 (s 1) = h.1 (s 1) ∧ h'.1 (s 11) = h.1 (s 11)) (k3 : h'.1 (s 3) = h.1 (s 3) ∧ h'.1 (s 13) = h.1 (s 13)) (k4 : h'.1 (s 4) = h.1 (s 4) ∧ h'.1 (s 14) = h.1 (s 14)) (hN : h'.1 N = some (o4 G (F 4))) (hf : ¬ A N) : Sm h' a G (sAr s 12 ar') (sAr cp 2 cap') B (addN W (F 4).toNat N) C L := by
  obtain ⟨h0, h1, h2, h3, h4, h5, h6, h7, h8, h9, h10, h11, h12⟩ := id hF; have hcc := hF.cells
  obtain ⟨⟨q1, q2, q3, q8⟩, ⟨f1, f2, f3, f4⟩, o3, o4, o6, o7⟩ := hS
  obtain ⟨i1, i2, i3, i4, i5, i6, i7, i8⟩ := hI
  refine ⟨⟨S1_T K i2.1 ⟨by decide, by decide⟩ (u _ (by omega) (by omega)) (u _ (by omega) (by omega)) q1, S2_T K i1.1 ⟨by decide, by decide⟩ (u _ (by omega) (by omega)) (u _ (by omega) (by omega)) q2, S3_T K i1.2 ⟨by decide, by decide⟩ (u _ (by omega) (by omega)) (u _ (by omega) (by omega)) (fun _ _ _ => u _ (by omega) (by omega)) q3, S8_T K i4.1 ⟨by decide, by decide⟩ (fun _ _ _ => u _ (by omega) (by omega)) q8⟩, ⟨?_, ?_, ?_, ?_⟩, O3_T K (fun k a b => (i5 k a b).1) ⟨by decide, by decide⟩ (u _ (by omega) (by omega)) (fun _ _ _ => u _ (by omega) (by omega)) o3, O4_a K (fun k a b => (i6 k a b).1) ⟨by decide, by decide⟩ (by omega) e3 (fun _ _ _ => u _ (by omega) (by omega)) hN hf o4, O6_T K (fun k a b => (i7 k a b).1) ⟨by decide, by decide⟩ (u _ (by omega) (by omega)) (fun _ _ _ => u _ (by omega) (by omega)) o6, O7_T K (fun k a b => (i8 k a b).1) ⟨by decide, by decide⟩ (u _ (by omega) (by omega)) (fun _ _ _ => u _ (by omega) (by omega)) o7⟩
  · rw [u 3 (by omega) (by omega)]
    exact FL_keep k1.1 k1.2 f1
  · rw [e3, show (F 4 + 1).toNat = (F 4).toNat + 1 by omega]
    exact hl
  · rw [u 5 (by omega) (by omega)]
    exact FL_keep k3.1 k3.2 f3
  · rw [u 6 (by omega) (by omega)]
    exact FL_keep k4.1 k4.2 f4
theorem In_a4 (h0 : 0 ≤ F 4) (hI : In A P a F s B W C L) (e3 : G 4 = F 4 + 1) (u : ∀ j, (j = 3 ∨ j = 4 ∨ j = 5 ∨ j = 6) → j ≠ 4 → G j = F j) {N ar' : Nat} (hA : ∀ q, A q → A' q) (hN : A' N) (ha : A' ar') : In A' (fun _ => True) a G (sAr s 12 ar') B (addN W (F 4).toNat N) C L := by
  obtain ⟨i1, i2, i3, i4, i5, i6, i7, i8⟩ := In_mono (P' := fun _ => True) hA (fun _ _ _ => trivial) hI
  have n3 : ((F 4).toNat : Int) = F 4 := Int.toNat_of_nonneg h0
  refine ⟨i1, i2, ⟨⟨i3.1.1, i3.1.2⟩, ⟨i3.2.1.1, ha⟩, ⟨i3.2.2.1.1, i3.2.2.1.2⟩, ⟨i3.2.2.2.1, i3.2.2.2.2⟩⟩, i4, fun k k0 k1 => i5 k k0 (by rw [← u 3 (by omega) (by omega)]; exact k1), fun k k0 k1 => ?_, fun k k0 k1 => i7 k k0 (by rw [← u 5 (by omega) (by omega)]; exact k1), fun k k0 k1 => i8 k k0 (by rw [← u 6 (by omega) (by omega)]; exact k1)⟩
  rw [e3] at k1
  unfold addN
  by_cases z : k = F 4
  · rw [if_pos (by rw [n3]; exact z)]
    exact ⟨hN, trivial⟩
  · rw [if_neg (by rw [n3]; exact z)]
    exact i6 k k0 (by omega)
theorem Sm_a6 (hF : WF F) (hlt : F 5 < 4) (hI : In A P a F s B W C L) (hS : Sm h a F s cp B W C L) (K : FTg (fun t => t ≠ 13 ∧ t ≠ 1100) A h h') (e3 : G 5 = F 5 + 1) (u : ∀ j, j ≠ 5 → ¬ (132 + 6 * F 5 ≤ j ∧ j < 132 + 6 * F 5 + 6) → G j = F j) {N ar' cap' : Nat} (hl : FL h' (s 3) ar' cap' ((F 5).toNat + 1) (addN C (F 5).toNat N)) (k1 : h'.1 (s 1) = h.1 (s 1) ∧ h'.1 (s 11) = h.1 (s 11)) (k2 : h'.1 (s 2) = h.1 (s 2) ∧ h'.1 (s 12) = h.1 (s 12)) (k4 : h'.1 (s 4) = h.1 (s 4) ∧ h'.1 (s 14) = h.1 (s 14)) (hN : h'.1 N = some (o6 G (F 5))) (hf : ¬ A N) : Sm h' a G (sAr s 13 ar') (sAr cp 3 cap') B W (addN C (F 5).toNat N) L := by
  obtain ⟨h0, h1, h2, h3, h4, h5, h6, h7, h8, h9, h10, h11, h12⟩ := id hF; have hcc := hF.cells
  obtain ⟨⟨q1, q2, q3, q8⟩, ⟨f1, f2, f3, f4⟩, o3, o4, o6, o7⟩ := hS
  obtain ⟨i1, i2, i3, i4, i5, i6, i7, i8⟩ := hI
  refine ⟨⟨S1_T K i2.1 ⟨by decide, by decide⟩ (u _ (by omega) (by omega)) (u _ (by omega) (by omega)) q1, S2_T K i1.1 ⟨by decide, by decide⟩ (u _ (by omega) (by omega)) (u _ (by omega) (by omega)) q2, S3_T K i1.2 ⟨by decide, by decide⟩ (u _ (by omega) (by omega)) (u _ (by omega) (by omega)) (fun _ _ _ => u _ (by omega) (by omega)) q3, S8_T K i4.1 ⟨by decide, by decide⟩ (fun _ _ _ => u _ (by omega) (by omega)) q8⟩, ⟨?_, ?_, ?_, ?_⟩, O3_T K (fun k a b => (i5 k a b).1) ⟨by decide, by decide⟩ (u _ (by omega) (by omega)) (fun _ _ _ => u _ (by omega) (by omega)) o3, O4_T K (fun k a b => (i6 k a b).1) ⟨by decide, by decide⟩ (u _ (by omega) (by omega)) (fun _ _ _ => u _ (by omega) (by omega)) o4, O6_a K (fun k a b => (i7 k a b).1) ⟨by decide, by decide⟩ (by omega) e3 (fun _ _ _ => u _ (by omega) (by omega)) hN hf o6, O7_T K (fun k a b => (i8 k a b).1) ⟨by decide, by decide⟩ (u _ (by omega) (by omega)) (fun _ _ _ => u _ (by omega) (by omega)) o7⟩
  · rw [u 3 (by omega) (by omega)]
    exact FL_keep k1.1 k1.2 f1
  · rw [u 4 (by omega) (by omega)]
    exact FL_keep k2.1 k2.2 f2
  · rw [e3, show (F 5 + 1).toNat = (F 5).toNat + 1 by omega]
    exact hl
  · rw [u 6 (by omega) (by omega)]
    exact FL_keep k4.1 k4.2 f4
theorem In_a6 (h0 : 0 ≤ F 5) (hI : In A P a F s B W C L) (e3 : G 5 = F 5 + 1) (u : ∀ j, (j = 3 ∨ j = 4 ∨ j = 5 ∨ j = 6) → j ≠ 5 → G j = F j) {N ar' : Nat} (hA : ∀ q, A q → A' q) (hN : A' N) (ha : A' ar') : In A' (fun _ => True) a G (sAr s 13 ar') B W (addN C (F 5).toNat N) L := by
  obtain ⟨i1, i2, i3, i4, i5, i6, i7, i8⟩ := In_mono (P' := fun _ => True) hA (fun _ _ _ => trivial) hI
  have n3 : ((F 5).toNat : Int) = F 5 := Int.toNat_of_nonneg h0
  refine ⟨i1, i2, ⟨⟨i3.1.1, i3.1.2⟩, ⟨i3.2.1.1, i3.2.1.2⟩, ⟨i3.2.2.1.1, ha⟩, ⟨i3.2.2.2.1, i3.2.2.2.2⟩⟩, i4, fun k k0 k1 => i5 k k0 (by rw [← u 3 (by omega) (by omega)]; exact k1), fun k k0 k1 => i6 k k0 (by rw [← u 4 (by omega) (by omega)]; exact k1), fun k k0 k1 => ?_, fun k k0 k1 => i8 k k0 (by rw [← u 6 (by omega) (by omega)]; exact k1)⟩
  rw [e3] at k1
  unfold addN
  by_cases z : k = F 5
  · rw [if_pos (by rw [n3]; exact z)]
    exact ⟨hN, trivial⟩
  · rw [if_neg (by rw [n3]; exact z)]
    exact i7 k k0 (by omega)
theorem Sm_a7 (hF : WF F) (hlt : F 6 < 10) (hI : In A P a F s B W C L) (hS : Sm h a F s cp B W C L) (K : FTg (fun t => t ≠ 13 ∧ t ≠ 1100) A h h') (e3 : G 6 = F 6 + 1) (u : ∀ j, j ≠ 6 → ¬ (156 + 6 * F 6 ≤ j ∧ j < 156 + 6 * F 6 + 6) → G j = F j) {N ar' cap' : Nat} (hl : FL h' (s 4) ar' cap' ((F 6).toNat + 1) (addN L (F 6).toNat N)) (k1 : h'.1 (s 1) = h.1 (s 1) ∧ h'.1 (s 11) = h.1 (s 11)) (k2 : h'.1 (s 2) = h.1 (s 2) ∧ h'.1 (s 12) = h.1 (s 12)) (k3 : h'.1 (s 3) = h.1 (s 3) ∧ h'.1 (s 13) = h.1 (s 13)) (hN : h'.1 N = some (o7 G (F 6))) (hf : ¬ A N) : Sm h' a G (sAr s 14 ar') (sAr cp 4 cap') B W C (addN L (F 6).toNat N) := by
  obtain ⟨h0, h1, h2, h3, h4, h5, h6, h7, h8, h9, h10, h11, h12⟩ := id hF; have hcc := hF.cells
  obtain ⟨⟨q1, q2, q3, q8⟩, ⟨f1, f2, f3, f4⟩, o3, o4, o6, o7⟩ := hS
  obtain ⟨i1, i2, i3, i4, i5, i6, i7, i8⟩ := hI
  refine ⟨⟨S1_T K i2.1 ⟨by decide, by decide⟩ (u _ (by omega) (by omega)) (u _ (by omega) (by omega)) q1, S2_T K i1.1 ⟨by decide, by decide⟩ (u _ (by omega) (by omega)) (u _ (by omega) (by omega)) q2, S3_T K i1.2 ⟨by decide, by decide⟩ (u _ (by omega) (by omega)) (u _ (by omega) (by omega)) (fun _ _ _ => u _ (by omega) (by omega)) q3, S8_T K i4.1 ⟨by decide, by decide⟩ (fun _ _ _ => u _ (by omega) (by omega)) q8⟩, ⟨?_, ?_, ?_, ?_⟩, O3_T K (fun k a b => (i5 k a b).1) ⟨by decide, by decide⟩ (u _ (by omega) (by omega)) (fun _ _ _ => u _ (by omega) (by omega)) o3, O4_T K (fun k a b => (i6 k a b).1) ⟨by decide, by decide⟩ (u _ (by omega) (by omega)) (fun _ _ _ => u _ (by omega) (by omega)) o4, O6_T K (fun k a b => (i7 k a b).1) ⟨by decide, by decide⟩ (u _ (by omega) (by omega)) (fun _ _ _ => u _ (by omega) (by omega)) o6, O7_a K (fun k a b => (i8 k a b).1) ⟨by decide, by decide⟩ (by omega) e3 (fun _ _ _ => u _ (by omega) (by omega)) hN hf o7⟩
  · rw [u 3 (by omega) (by omega)]
    exact FL_keep k1.1 k1.2 f1
  · rw [u 4 (by omega) (by omega)]
    exact FL_keep k2.1 k2.2 f2
  · rw [u 5 (by omega) (by omega)]
    exact FL_keep k3.1 k3.2 f3
  · rw [e3, show (F 6 + 1).toNat = (F 6).toNat + 1 by omega]
    exact hl
theorem In_a7 (h0 : 0 ≤ F 6) (hI : In A P a F s B W C L) (e3 : G 6 = F 6 + 1) (u : ∀ j, (j = 3 ∨ j = 4 ∨ j = 5 ∨ j = 6) → j ≠ 6 → G j = F j) {N ar' : Nat} (hA : ∀ q, A q → A' q) (hN : A' N) (ha : A' ar') : In A' (fun _ => True) a G (sAr s 14 ar') B W C (addN L (F 6).toNat N) := by
  obtain ⟨i1, i2, i3, i4, i5, i6, i7, i8⟩ := In_mono (P' := fun _ => True) hA (fun _ _ _ => trivial) hI
  have n3 : ((F 6).toNat : Int) = F 6 := Int.toNat_of_nonneg h0
  refine ⟨i1, i2, ⟨⟨i3.1.1, i3.1.2⟩, ⟨i3.2.1.1, i3.2.1.2⟩, ⟨i3.2.2.1.1, i3.2.2.1.2⟩, ⟨i3.2.2.2.1, ha⟩⟩, i4, fun k k0 k1 => i5 k k0 (by rw [← u 3 (by omega) (by omega)]; exact k1), fun k k0 k1 => i6 k k0 (by rw [← u 4 (by omega) (by omega)]; exact k1), fun k k0 k1 => i7 k k0 (by rw [← u 5 (by omega) (by omega)]; exact k1), fun k k0 k1 => ?_⟩
  rw [e3] at k1
  unfold addN
  by_cases z : k = F 6
  · rw [if_pos (by rw [n3]; exact z)]
    exact ⟨hN, trivial⟩
  · rw [if_neg (by rw [n3]; exact z)]
    exact i8 k k0 (by omega)
end TG
