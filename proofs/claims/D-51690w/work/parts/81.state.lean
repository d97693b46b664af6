/-! MC component 2: a State in the heap (printed by gen/genst.py) -/
set_option maxRecDepth 100000
/-- a cell's kind: an object's class; 1000 and an array's kind -/
def tagC (c : mC) : Nat := match c with
  | .inl (t, _) => 1000 + t
  | .inr (c, _) => c
/-- all cells but those of kind T are as they were -/
def Kt (T : Nat) (h h' : mH) : Prop := ∀ (p : Nat) (X : mC), h.1 p = some X → tagC X ≠ T → h'.1 p = some X
theorem Kt_put {h : mH} {d : Nat} {Y c : mC} (hd : h.1 d = some Y) : Kt (tagC Y) h (mput h d c) := fun p X hp ht => by
  have : p ≠ d := fun e => ht (by rw [e, hd] at hp; cases hp; rfl)
  rw [h_pn this]
  exact hp
theorem AL_Kt {T : Nat} {h h' : mH} {l ar : Nat} {n : Int} {B : Int → Nat} (K : Kt T h h') (hT : T ≠ 13 ∧ T ≠ 1100) (hl : AL h l ar n B) : AL h' l ar n B := by
  obtain ⟨m, cap, g, h1, h2, h3, h4⟩ := hl
  exact ⟨m, cap, g, K _ _ h1 (fun e => hT.1 e.symm), K _ _ h2 (fun e => hT.2 e.symm), h3, h4⟩
def S1 (h : mH) (a : Nat) (F : Int → Int) (s : Nat → Nat) : Prop := h.1 a = some (.inr (1, [.ref (s 0), .int (Int32.ofInt (F 2)), .ref (s 1), .ref (s 2), .ref (s 3), .ref (s 4), .ref (s 5), .int (Int32.ofInt (F 7))]))
def S2 (h : mH) (F : Int → Int) (s : Nat → Nat) : Prop := h.1 (s 0) = some (.inr (2, [.int (Int32.ofInt (F 0)), .int (Int32.ofInt (F 1)), .ref (s 6), .ref (s 7)]))
def S3 (h : mH) (F : Int → Int) (s : Nat → Nat) : Prop := ∃ f : Int → Int, h.1 (s 6) = some (mAI 1 (F 0 * F 1).toNat f) ∧ ∀ c, 0 ≤ c → c < F 0 * F 1 → f c = F (15 + c)
def S8 (h : mH) (F : Int → Int) (s : Nat → Nat) : Prop := ∃ f : Int → Int, h.1 (s 5) = some (mAI 0 7 f) ∧ ∀ j, 0 ≤ j → j < 7 → f j = F (8 + j)
def o3 (F : Int → Int) (k : Int) : mC := .inr (3, [.int (Int32.ofInt (F (96 + 4 * k + 1))), .int (Int32.ofInt (F (96 + 4 * k + 2))), .int (Int32.ofInt (F (96 + 4 * k + 3))), .int (Int32.ofInt (F (96 + 4 * k)))])
def O3 (h : mH) (F : Int → Int) (B : Int → Nat) : Prop := (∀ k, 0 ≤ k → k < F 3 → h.1 (B k) = some (o3 F k)) ∧ ∀ j k, 0 ≤ j → j < F 3 → 0 ≤ k → k < F 3 → B j = B k → j = k
def o4 (F : Int → Int) (k : Int) : mC := .inr (4, [.int (Int32.ofInt (k)), .int (Int32.ofInt (F (116 + 4 * k))), .int (Int32.ofInt (F (116 + 4 * k + 2))), .int (Int32.ofInt (F (116 + 4 * k + 3))), .int (Int32.ofInt (F (116 + 4 * k + 1)))])
def O4 (h : mH) (F : Int → Int) (W : Int → Nat) : Prop := (∀ k, 0 ≤ k → k < F 4 → h.1 (W k) = some (o4 F k)) ∧ ∀ j k, 0 ≤ j → j < F 4 → 0 ≤ k → k < F 4 → W j = W k → j = k
def o6 (F : Int → Int) (k : Int) : mC := .inr (6, [.int (Int32.ofInt (F (132 + 6 * k + 1))), .int (Int32.ofInt (F (132 + 6 * k))), .int (Int32.ofInt (F (132 + 6 * k + 3))), .int (Int32.ofInt (F (132 + 6 * k + 4))), .int (Int32.ofInt (F (132 + 6 * k + 5))), .int (Int32.ofInt (F (132 + 6 * k + 2)))])
def O6 (h : mH) (F : Int → Int) (C : Int → Nat) : Prop := (∀ k, 0 ≤ k → k < F 5 → h.1 (C k) = some (o6 F k)) ∧ ∀ j k, 0 ≤ j → j < F 5 → 0 ≤ k → k < F 5 → C j = C k → j = k
def o7 (F : Int → Int) (k : Int) : mC := .inr (7, [.int (Int32.ofInt (F (156 + 6 * k))), .int (Int32.ofInt (F (156 + 6 * k + 1))), .int (Int32.ofInt (F (156 + 6 * k + 2))), .int (Int32.ofInt (F (156 + 6 * k + 3))), .int (Int32.ofInt (F (156 + 6 * k + 4))), .int (Int32.ofInt (F (156 + 6 * k + 5)))])
def O7 (h : mH) (F : Int → Int) (L : Int → Nat) : Prop := (∀ k, 0 ≤ k → k < F 6 → h.1 (L k) = some (o7 F k)) ∧ ∀ j k, 0 ≤ j → j < F 6 → 0 ≤ k → k < F 6 → L j = L k → j = k
/-- a State: its cell a, its parts s (square, four lists, tallies, walls, posts; 11.. the lists' arrays), its things -/
def St (h : mH) (a : Nat) (F : Int → Int) (s : Nat → Nat) (B W C L : Int → Nat) : Prop := S1 h a F s ∧ S2 h F s ∧ S3 h F s ∧ (AL h (s 1) (s 11) (F 3) B ∧ AL h (s 2) (s 12) (F 4) W ∧ AL h (s 3) (s 13) (F 5) C ∧ AL h (s 4) (s 14) (F 6) L) ∧ S8 h F s ∧ O3 h F B ∧ O4 h F W ∧ O6 h F C ∧ O7 h F L
section KE
variable {h h' : mH} {a T : Nat} {F G : Int → Int} {s : Nat → Nat} {B W C L : Int → Nat}
theorem S1_k (K : Kt T h h') (hT : T ≠ 1) (e2 : G 2 = F 2) (e7 : G 7 = F 7) (hS : S1 h a F s) : S1 h' a G s := by
  unfold S1
  rw [e2, e7]
  exact K _ _ hS (fun e => hT e.symm)
theorem S2_k (K : Kt T h h') (hT : T ≠ 2) (e0 : G 0 = F 0) (e1 : G 1 = F 1) (hS : S2 h F s) : S2 h' G s := by
  unfold S2
  rw [e0, e1]
  exact K _ _ hS (fun e => hT e.symm)
theorem S3_k (K : Kt T h h') (hT : T ≠ 1001) (e0 : G 0 = F 0) (e1 : G 1 = F 1) (ew : ∀ c, 0 ≤ c → c < F 0 * F 1 → G (15 + c) = F (15 + c)) (hS : S3 h F s) : S3 h' G s := by
  obtain ⟨f, a1, a2⟩ := hS
  refine ⟨f, ?_, fun c c0 c1 => ?_⟩
  · rw [e0, e1]
    exact K _ _ a1 (fun e => hT e.symm)
  · rw [e0, e1] at c1
    rw [ew c c0 c1]
    exact a2 c c0 c1
theorem S8_k (K : Kt T h h') (hT : T ≠ 1000) (ew : ∀ j, 0 ≤ j → j < 7 → G (8 + j) = F (8 + j)) (hS : S8 h F s) : S8 h' G s := by
  obtain ⟨f, a1, a2⟩ := hS
  exact ⟨f, K _ _ a1 (fun e => hT e.symm), fun j j0 j1 => (a2 j j0 j1).trans (ew j j0 j1).symm⟩
theorem O3_k (K : Kt T h h') (hT : T ≠ 3) (en : G 3 = F 3) (e : ∀ k i, 0 ≤ k → k < F 3 → 0 ≤ i → i < 4 → G (96 + 4 * k + i) = F (96 + 4 * k + i)) (hS : O3 h F B) : O3 h' G B := by
  refine ⟨fun k k0 k1 => ?_, fun j k j0 j1 k0 k1 => hS.2 j k j0 (by rw [← en]; exact j1) k0 (by rw [← en]; exact k1)⟩
  rw [en] at k1
  have z0 := e k 0 k0 k1 (by omega) (by omega)
  rw [Int.add_zero] at z0
  have q := K _ _ (hS.1 k k0 k1) (fun e => hT (e.symm.trans rfl))
  rw [q]
  unfold o3
  rw [z0, e k 1 k0 k1 (by omega) (by omega), e k 2 k0 k1 (by omega) (by omega), e k 3 k0 k1 (by omega) (by omega)]
theorem O3_p {k : Int} (hk : 0 ≤ k ∧ k < F 3) (en : G 3 = F 3) (e : ∀ j i, 0 ≤ j → j < F 3 → j ≠ k → 0 ≤ i → i < 4 → G (96 + 4 * j + i) = F (96 + 4 * j + i)) (hS : O3 h F B) : O3 (mput h (B k) (o3 G k)) G B := by
  refine ⟨fun j j0 j1 => ?_, fun i j i0 i1 j0 j1 => hS.2 i j i0 (by rw [← en]; exact i1) j0 (by rw [← en]; exact j1)⟩
  rw [en] at j1
  by_cases z : j = k
  · rw [z]; exact h_ps
  · rw [h_pn (fun y => z (hS.2 j k j0 j1 hk.1 hk.2 y)), hS.1 j j0 j1]
    have z0 := e j 0 j0 j1 z (by omega) (by omega)
    rw [Int.add_zero] at z0
    unfold o3
    rw [z0, e j 1 j0 j1 z (by omega) (by omega), e j 2 j0 j1 z (by omega) (by omega), e j 3 j0 j1 z (by omega) (by omega)]
theorem O4_k (K : Kt T h h') (hT : T ≠ 4) (en : G 4 = F 4) (e : ∀ k i, 0 ≤ k → k < F 4 → 0 ≤ i → i < 4 → G (116 + 4 * k + i) = F (116 + 4 * k + i)) (hS : O4 h F W) : O4 h' G W := by
  refine ⟨fun k k0 k1 => ?_, fun j k j0 j1 k0 k1 => hS.2 j k j0 (by rw [← en]; exact j1) k0 (by rw [← en]; exact k1)⟩
  rw [en] at k1
  have z0 := e k 0 k0 k1 (by omega) (by omega)
  rw [Int.add_zero] at z0
  have q := K _ _ (hS.1 k k0 k1) (fun e => hT (e.symm.trans rfl))
  rw [q]
  unfold o4
  rw [z0, e k 1 k0 k1 (by omega) (by omega), e k 2 k0 k1 (by omega) (by omega), e k 3 k0 k1 (by omega) (by omega)]
theorem O4_p {k : Int} (hk : 0 ≤ k ∧ k < F 4) (en : G 4 = F 4) (e : ∀ j i, 0 ≤ j → j < F 4 → j ≠ k → 0 ≤ i → i < 4 → G (116 + 4 * j + i) = F (116 + 4 * j + i)) (hS : O4 h F W) : O4 (mput h (W k) (o4 G k)) G W := by
  refine ⟨fun j j0 j1 => ?_, fun i j i0 i1 j0 j1 => hS.2 i j i0 (by rw [← en]; exact i1) j0 (by rw [← en]; exact j1)⟩
  rw [en] at j1
  by_cases z : j = k
  · rw [z]; exact h_ps
  · rw [h_pn (fun y => z (hS.2 j k j0 j1 hk.1 hk.2 y)), hS.1 j j0 j1]
    have z0 := e j 0 j0 j1 z (by omega) (by omega)
    rw [Int.add_zero] at z0
    unfold o4
    rw [z0, e j 1 j0 j1 z (by omega) (by omega), e j 2 j0 j1 z (by omega) (by omega), e j 3 j0 j1 z (by omega) (by omega)]
theorem O6_k (K : Kt T h h') (hT : T ≠ 6) (en : G 5 = F 5) (e : ∀ k i, 0 ≤ k → k < F 5 → 0 ≤ i → i < 6 → G (132 + 6 * k + i) = F (132 + 6 * k + i)) (hS : O6 h F C) : O6 h' G C := by
  refine ⟨fun k k0 k1 => ?_, fun j k j0 j1 k0 k1 => hS.2 j k j0 (by rw [← en]; exact j1) k0 (by rw [← en]; exact k1)⟩
  rw [en] at k1
  have z0 := e k 0 k0 k1 (by omega) (by omega)
  rw [Int.add_zero] at z0
  have q := K _ _ (hS.1 k k0 k1) (fun e => hT (e.symm.trans rfl))
  rw [q]
  unfold o6
  rw [z0, e k 1 k0 k1 (by omega) (by omega), e k 2 k0 k1 (by omega) (by omega), e k 3 k0 k1 (by omega) (by omega), e k 4 k0 k1 (by omega) (by omega), e k 5 k0 k1 (by omega) (by omega)]
theorem O6_p {k : Int} (hk : 0 ≤ k ∧ k < F 5) (en : G 5 = F 5) (e : ∀ j i, 0 ≤ j → j < F 5 → j ≠ k → 0 ≤ i → i < 6 → G (132 + 6 * j + i) = F (132 + 6 * j + i)) (hS : O6 h F C) : O6 (mput h (C k) (o6 G k)) G C := by
  refine ⟨fun j j0 j1 => ?_, fun i j i0 i1 j0 j1 => hS.2 i j i0 (by rw [← en]; exact i1) j0 (by rw [← en]; exact j1)⟩
  rw [en] at j1
  by_cases z : j = k
  · rw [z]; exact h_ps
  · rw [h_pn (fun y => z (hS.2 j k j0 j1 hk.1 hk.2 y)), hS.1 j j0 j1]
    have z0 := e j 0 j0 j1 z (by omega) (by omega)
    rw [Int.add_zero] at z0
    unfold o6
    rw [z0, e j 1 j0 j1 z (by omega) (by omega), e j 2 j0 j1 z (by omega) (by omega), e j 3 j0 j1 z (by omega) (by omega), e j 4 j0 j1 z (by omega) (by omega), e j 5 j0 j1 z (by omega) (by omega)]
theorem O7_k (K : Kt T h h') (hT : T ≠ 7) (en : G 6 = F 6) (e : ∀ k i, 0 ≤ k → k < F 6 → 0 ≤ i → i < 6 → G (156 + 6 * k + i) = F (156 + 6 * k + i)) (hS : O7 h F L) : O7 h' G L := by
  refine ⟨fun k k0 k1 => ?_, fun j k j0 j1 k0 k1 => hS.2 j k j0 (by rw [← en]; exact j1) k0 (by rw [← en]; exact k1)⟩
  rw [en] at k1
  have z0 := e k 0 k0 k1 (by omega) (by omega)
  rw [Int.add_zero] at z0
  have q := K _ _ (hS.1 k k0 k1) (fun e => hT (e.symm.trans rfl))
  rw [q]
  unfold o7
  rw [z0, e k 1 k0 k1 (by omega) (by omega), e k 2 k0 k1 (by omega) (by omega), e k 3 k0 k1 (by omega) (by omega), e k 4 k0 k1 (by omega) (by omega), e k 5 k0 k1 (by omega) (by omega)]
theorem O7_p {k : Int} (hk : 0 ≤ k ∧ k < F 6) (en : G 6 = F 6) (e : ∀ j i, 0 ≤ j → j < F 6 → j ≠ k → 0 ≤ i → i < 6 → G (156 + 6 * j + i) = F (156 + 6 * j + i)) (hS : O7 h F L) : O7 (mput h (L k) (o7 G k)) G L := by
  refine ⟨fun j j0 j1 => ?_, fun i j i0 i1 j0 j1 => hS.2 i j i0 (by rw [← en]; exact i1) j0 (by rw [← en]; exact j1)⟩
  rw [en] at j1
  by_cases z : j = k
  · rw [z]; exact h_ps
  · rw [h_pn (fun y => z (hS.2 j k j0 j1 hk.1 hk.2 y)), hS.1 j j0 j1]
    have z0 := e j 0 j0 j1 z (by omega) (by omega)
    rw [Int.add_zero] at z0
    unfold o7
    rw [z0, e j 1 j0 j1 z (by omega) (by omega), e j 2 j0 j1 z (by omega) (by omega), e j 3 j0 j1 z (by omega) (by omega), e j 4 j0 j1 z (by omega) (by omega), e j 5 j0 j1 z (by omega) (by omega)]
end KE
section PT
variable {h : mH} {a : Nat} {F : Int → Int} {s : Nat → Nat} {B W C L : Int → Nat} {k x : Int}
theorem St_bcell (hF : WF F) (hk : 0 ≤ k ∧ k < F 3) (hS : St h a F s B W C L) : St (mput h (B k) (.inr (3, [.int (Int32.ofInt (F (96 + 4 * k + 1))), .int (Int32.ofInt (F (96 + 4 * k + 2))), .int (Int32.ofInt (F (96 + 4 * k + 3))), .int (Int32.ofInt x)]))) a (up F (96 + 4 * k) x) s B W C L := by
  obtain ⟨h0, h1, h2, h3, h4, h5, h6, h7, h8, h9, h10, h11, h12⟩ := id hF; have hcc := hF.cells
  obtain ⟨q1, q2, q3w, qa, q8, q3, q4, q6, q7⟩ := hS
  have hd := q3.1 k hk.1 hk.2
  have K : Kt 3 h (mput h (B k) (.inr (3, [.int (Int32.ofInt (F (96 + 4 * k + 1))), .int (Int32.ofInt (F (96 + 4 * k + 2))), .int (Int32.ofInt (F (96 + 4 * k + 3))), .int (Int32.ofInt x)]))) := Kt_put hd
  have q : O3 (mput h (B k) (o3 (up F (96 + 4 * k) x) k)) (up F (96 + 4 * k) x) B := O3_p hk (up_n (by omega)) (fun _ _ _ _ _ _ _ => up_n (by omega)) q3
  unfold o3 at q
  rw [up_n (show (96 : Int) + 4 * k + 1 ≠ 96 + 4 * k by omega), up_n (show (96 : Int) + 4 * k + 2 ≠ 96 + 4 * k by omega), up_n (show (96 : Int) + 4 * k + 3 ≠ 96 + 4 * k by omega), up_s] at q
  exact ⟨S1_k K (by decide) (up_n (by omega)) (up_n (by omega)) q1, S2_k K (by decide) (up_n (by omega)) (up_n (by omega)) q2, S3_k K (by decide) (up_n (by omega)) (up_n (by omega)) (fun _ _ _ => up_n (by omega)) q3w, ⟨AL_Kt K (by decide) (by rw [up_n (by omega)]; exact qa.1), AL_Kt K (by decide) (by rw [up_n (by omega)]; exact qa.2.1), AL_Kt K (by decide) (by rw [up_n (by omega)]; exact qa.2.2.1), AL_Kt K (by decide) (by rw [up_n (by omega)]; exact qa.2.2.2)⟩, S8_k K (by decide) (fun _ _ _ => up_n (by omega)) q8, q, (O4_k K (by decide) (up_n (by omega)) (fun _ _ _ _ _ _ => up_n (by omega)) q4), (O6_k K (by decide) (up_n (by omega)) (fun _ _ _ _ _ _ => up_n (by omega)) q6), (O7_k K (by decide) (up_n (by omega)) (fun _ _ _ _ _ _ => up_n (by omega)) q7)⟩
theorem St_wdir (hF : WF F) (hk : 0 ≤ k ∧ k < F 4) (hS : St h a F s B W C L) : St (mput h (W k) (.inr (4, [.int (Int32.ofInt (k)), .int (Int32.ofInt (F (116 + 4 * k))), .int (Int32.ofInt (F (116 + 4 * k + 2))), .int (Int32.ofInt (F (116 + 4 * k + 3))), .int (Int32.ofInt x)]))) a (up F (116 + 4 * k + 1) x) s B W C L := by
  obtain ⟨h0, h1, h2, h3, h4, h5, h6, h7, h8, h9, h10, h11, h12⟩ := id hF; have hcc := hF.cells
  obtain ⟨q1, q2, q3w, qa, q8, q3, q4, q6, q7⟩ := hS
  have hd := q4.1 k hk.1 hk.2
  have K : Kt 4 h (mput h (W k) (.inr (4, [.int (Int32.ofInt (k)), .int (Int32.ofInt (F (116 + 4 * k))), .int (Int32.ofInt (F (116 + 4 * k + 2))), .int (Int32.ofInt (F (116 + 4 * k + 3))), .int (Int32.ofInt x)]))) := Kt_put hd
  have q : O4 (mput h (W k) (o4 (up F (116 + 4 * k + 1) x) k)) (up F (116 + 4 * k + 1) x) W := O4_p hk (up_n (by omega)) (fun _ _ _ _ _ _ _ => up_n (by omega)) q4
  unfold o4 at q
  rw [up_n (show (116 : Int) + 4 * k ≠ 116 + 4 * k + 1 by omega), up_n (show (116 : Int) + 4 * k + 2 ≠ 116 + 4 * k + 1 by omega), up_n (show (116 : Int) + 4 * k + 3 ≠ 116 + 4 * k + 1 by omega), up_s] at q
  exact ⟨S1_k K (by decide) (up_n (by omega)) (up_n (by omega)) q1, S2_k K (by decide) (up_n (by omega)) (up_n (by omega)) q2, S3_k K (by decide) (up_n (by omega)) (up_n (by omega)) (fun _ _ _ => up_n (by omega)) q3w, ⟨AL_Kt K (by decide) (by rw [up_n (by omega)]; exact qa.1), AL_Kt K (by decide) (by rw [up_n (by omega)]; exact qa.2.1), AL_Kt K (by decide) (by rw [up_n (by omega)]; exact qa.2.2.1), AL_Kt K (by decide) (by rw [up_n (by omega)]; exact qa.2.2.2)⟩, S8_k K (by decide) (fun _ _ _ => up_n (by omega)) q8, (O3_k K (by decide) (up_n (by omega)) (fun _ _ _ _ _ _ => up_n (by omega)) q3), q, (O6_k K (by decide) (up_n (by omega)) (fun _ _ _ _ _ _ => up_n (by omega)) q6), (O7_k K (by decide) (up_n (by omega)) (fun _ _ _ _ _ _ => up_n (by omega)) q7)⟩
theorem St_ccell (hF : WF F) (hk : 0 ≤ k ∧ k < F 5) (hS : St h a F s B W C L) : St (mput h (C k) (.inr (6, [.int (Int32.ofInt (F (132 + 6 * k + 1))), .int (Int32.ofInt x), .int (Int32.ofInt (F (132 + 6 * k + 3))), .int (Int32.ofInt (F (132 + 6 * k + 4))), .int (Int32.ofInt (F (132 + 6 * k + 5))), .int (Int32.ofInt (F (132 + 6 * k + 2)))]))) a (up F (132 + 6 * k) x) s B W C L := by
  obtain ⟨h0, h1, h2, h3, h4, h5, h6, h7, h8, h9, h10, h11, h12⟩ := id hF; have hcc := hF.cells
  obtain ⟨q1, q2, q3w, qa, q8, q3, q4, q6, q7⟩ := hS
  have hd := q6.1 k hk.1 hk.2
  have K : Kt 6 h (mput h (C k) (.inr (6, [.int (Int32.ofInt (F (132 + 6 * k + 1))), .int (Int32.ofInt x), .int (Int32.ofInt (F (132 + 6 * k + 3))), .int (Int32.ofInt (F (132 + 6 * k + 4))), .int (Int32.ofInt (F (132 + 6 * k + 5))), .int (Int32.ofInt (F (132 + 6 * k + 2)))]))) := Kt_put hd
  have q : O6 (mput h (C k) (o6 (up F (132 + 6 * k) x) k)) (up F (132 + 6 * k) x) C := O6_p hk (up_n (by omega)) (fun _ _ _ _ _ _ _ => up_n (by omega)) q6
  unfold o6 at q
  rw [up_n (show (132 : Int) + 6 * k + 1 ≠ 132 + 6 * k by omega), up_s, up_n (show (132 : Int) + 6 * k + 3 ≠ 132 + 6 * k by omega), up_n (show (132 : Int) + 6 * k + 4 ≠ 132 + 6 * k by omega), up_n (show (132 : Int) + 6 * k + 5 ≠ 132 + 6 * k by omega), up_n (show (132 : Int) + 6 * k + 2 ≠ 132 + 6 * k by omega)] at q
  exact ⟨S1_k K (by decide) (up_n (by omega)) (up_n (by omega)) q1, S2_k K (by decide) (up_n (by omega)) (up_n (by omega)) q2, S3_k K (by decide) (up_n (by omega)) (up_n (by omega)) (fun _ _ _ => up_n (by omega)) q3w, ⟨AL_Kt K (by decide) (by rw [up_n (by omega)]; exact qa.1), AL_Kt K (by decide) (by rw [up_n (by omega)]; exact qa.2.1), AL_Kt K (by decide) (by rw [up_n (by omega)]; exact qa.2.2.1), AL_Kt K (by decide) (by rw [up_n (by omega)]; exact qa.2.2.2)⟩, S8_k K (by decide) (fun _ _ _ => up_n (by omega)) q8, (O3_k K (by decide) (up_n (by omega)) (fun _ _ _ _ _ _ => up_n (by omega)) q3), (O4_k K (by decide) (up_n (by omega)) (fun _ _ _ _ _ _ => up_n (by omega)) q4), q, (O7_k K (by decide) (up_n (by omega)) (fun _ _ _ _ _ _ => up_n (by omega)) q7)⟩
theorem St_csteps (hF : WF F) (hk : 0 ≤ k ∧ k < F 5) (hS : St h a F s B W C L) : St (mput h (C k) (.inr (6, [.int (Int32.ofInt (F (132 + 6 * k + 1))), .int (Int32.ofInt (F (132 + 6 * k))), .int (Int32.ofInt x), .int (Int32.ofInt (F (132 + 6 * k + 4))), .int (Int32.ofInt (F (132 + 6 * k + 5))), .int (Int32.ofInt (F (132 + 6 * k + 2)))]))) a (up F (132 + 6 * k + 3) x) s B W C L := by
  obtain ⟨h0, h1, h2, h3, h4, h5, h6, h7, h8, h9, h10, h11, h12⟩ := id hF; have hcc := hF.cells
  obtain ⟨q1, q2, q3w, qa, q8, q3, q4, q6, q7⟩ := hS
  have hd := q6.1 k hk.1 hk.2
  have K : Kt 6 h (mput h (C k) (.inr (6, [.int (Int32.ofInt (F (132 + 6 * k + 1))), .int (Int32.ofInt (F (132 + 6 * k))), .int (Int32.ofInt x), .int (Int32.ofInt (F (132 + 6 * k + 4))), .int (Int32.ofInt (F (132 + 6 * k + 5))), .int (Int32.ofInt (F (132 + 6 * k + 2)))]))) := Kt_put hd
  have q : O6 (mput h (C k) (o6 (up F (132 + 6 * k + 3) x) k)) (up F (132 + 6 * k + 3) x) C := O6_p hk (up_n (by omega)) (fun _ _ _ _ _ _ _ => up_n (by omega)) q6
  unfold o6 at q
  rw [up_n (show (132 : Int) + 6 * k + 1 ≠ 132 + 6 * k + 3 by omega), up_n (show (132 : Int) + 6 * k ≠ 132 + 6 * k + 3 by omega), up_s, up_n (show (132 : Int) + 6 * k + 4 ≠ 132 + 6 * k + 3 by omega), up_n (show (132 : Int) + 6 * k + 5 ≠ 132 + 6 * k + 3 by omega), up_n (show (132 : Int) + 6 * k + 2 ≠ 132 + 6 * k + 3 by omega)] at q
  exact ⟨S1_k K (by decide) (up_n (by omega)) (up_n (by omega)) q1, S2_k K (by decide) (up_n (by omega)) (up_n (by omega)) q2, S3_k K (by decide) (up_n (by omega)) (up_n (by omega)) (fun _ _ _ => up_n (by omega)) q3w, ⟨AL_Kt K (by decide) (by rw [up_n (by omega)]; exact qa.1), AL_Kt K (by decide) (by rw [up_n (by omega)]; exact qa.2.1), AL_Kt K (by decide) (by rw [up_n (by omega)]; exact qa.2.2.1), AL_Kt K (by decide) (by rw [up_n (by omega)]; exact qa.2.2.2)⟩, S8_k K (by decide) (fun _ _ _ => up_n (by omega)) q8, (O3_k K (by decide) (up_n (by omega)) (fun _ _ _ _ _ _ => up_n (by omega)) q3), (O4_k K (by decide) (up_n (by omega)) (fun _ _ _ _ _ _ => up_n (by omega)) q4), q, (O7_k K (by decide) (up_n (by omega)) (fun _ _ _ _ _ _ => up_n (by omega)) q7)⟩
theorem St_ccaught (hF : WF F) (hk : 0 ≤ k ∧ k < F 5) (hS : St h a F s B W C L) : St (mput h (C k) (.inr (6, [.int (Int32.ofInt (F (132 + 6 * k + 1))), .int (Int32.ofInt (F (132 + 6 * k))), .int (Int32.ofInt (F (132 + 6 * k + 3))), .int (Int32.ofInt x), .int (Int32.ofInt (F (132 + 6 * k + 5))), .int (Int32.ofInt (F (132 + 6 * k + 2)))]))) a (up F (132 + 6 * k + 4) x) s B W C L := by
  obtain ⟨h0, h1, h2, h3, h4, h5, h6, h7, h8, h9, h10, h11, h12⟩ := id hF; have hcc := hF.cells
  obtain ⟨q1, q2, q3w, qa, q8, q3, q4, q6, q7⟩ := hS
  have hd := q6.1 k hk.1 hk.2
  have K : Kt 6 h (mput h (C k) (.inr (6, [.int (Int32.ofInt (F (132 + 6 * k + 1))), .int (Int32.ofInt (F (132 + 6 * k))), .int (Int32.ofInt (F (132 + 6 * k + 3))), .int (Int32.ofInt x), .int (Int32.ofInt (F (132 + 6 * k + 5))), .int (Int32.ofInt (F (132 + 6 * k + 2)))]))) := Kt_put hd
  have q : O6 (mput h (C k) (o6 (up F (132 + 6 * k + 4) x) k)) (up F (132 + 6 * k + 4) x) C := O6_p hk (up_n (by omega)) (fun _ _ _ _ _ _ _ => up_n (by omega)) q6
  unfold o6 at q
  rw [up_n (show (132 : Int) + 6 * k + 1 ≠ 132 + 6 * k + 4 by omega), up_n (show (132 : Int) + 6 * k ≠ 132 + 6 * k + 4 by omega), up_n (show (132 : Int) + 6 * k + 3 ≠ 132 + 6 * k + 4 by omega), up_s, up_n (show (132 : Int) + 6 * k + 5 ≠ 132 + 6 * k + 4 by omega), up_n (show (132 : Int) + 6 * k + 2 ≠ 132 + 6 * k + 4 by omega)] at q
  exact ⟨S1_k K (by decide) (up_n (by omega)) (up_n (by omega)) q1, S2_k K (by decide) (up_n (by omega)) (up_n (by omega)) q2, S3_k K (by decide) (up_n (by omega)) (up_n (by omega)) (fun _ _ _ => up_n (by omega)) q3w, ⟨AL_Kt K (by decide) (by rw [up_n (by omega)]; exact qa.1), AL_Kt K (by decide) (by rw [up_n (by omega)]; exact qa.2.1), AL_Kt K (by decide) (by rw [up_n (by omega)]; exact qa.2.2.1), AL_Kt K (by decide) (by rw [up_n (by omega)]; exact qa.2.2.2)⟩, S8_k K (by decide) (fun _ _ _ => up_n (by omega)) q8, (O3_k K (by decide) (up_n (by omega)) (fun _ _ _ _ _ _ => up_n (by omega)) q3), (O4_k K (by decide) (up_n (by omega)) (fun _ _ _ _ _ _ => up_n (by omega)) q4), q, (O7_k K (by decide) (up_n (by omega)) (fun _ _ _ _ _ _ => up_n (by omega)) q7)⟩
theorem St_cbrought (hF : WF F) (hk : 0 ≤ k ∧ k < F 5) (hS : St h a F s B W C L) : St (mput h (C k) (.inr (6, [.int (Int32.ofInt (F (132 + 6 * k + 1))), .int (Int32.ofInt (F (132 + 6 * k))), .int (Int32.ofInt (F (132 + 6 * k + 3))), .int (Int32.ofInt (F (132 + 6 * k + 4))), .int (Int32.ofInt x), .int (Int32.ofInt (F (132 + 6 * k + 2)))]))) a (up F (132 + 6 * k + 5) x) s B W C L := by
  obtain ⟨h0, h1, h2, h3, h4, h5, h6, h7, h8, h9, h10, h11, h12⟩ := id hF; have hcc := hF.cells
  obtain ⟨q1, q2, q3w, qa, q8, q3, q4, q6, q7⟩ := hS
  have hd := q6.1 k hk.1 hk.2
  have K : Kt 6 h (mput h (C k) (.inr (6, [.int (Int32.ofInt (F (132 + 6 * k + 1))), .int (Int32.ofInt (F (132 + 6 * k))), .int (Int32.ofInt (F (132 + 6 * k + 3))), .int (Int32.ofInt (F (132 + 6 * k + 4))), .int (Int32.ofInt x), .int (Int32.ofInt (F (132 + 6 * k + 2)))]))) := Kt_put hd
  have q : O6 (mput h (C k) (o6 (up F (132 + 6 * k + 5) x) k)) (up F (132 + 6 * k + 5) x) C := O6_p hk (up_n (by omega)) (fun _ _ _ _ _ _ _ => up_n (by omega)) q6
  unfold o6 at q
  rw [up_n (show (132 : Int) + 6 * k + 1 ≠ 132 + 6 * k + 5 by omega), up_n (show (132 : Int) + 6 * k ≠ 132 + 6 * k + 5 by omega), up_n (show (132 : Int) + 6 * k + 3 ≠ 132 + 6 * k + 5 by omega), up_n (show (132 : Int) + 6 * k + 4 ≠ 132 + 6 * k + 5 by omega), up_s, up_n (show (132 : Int) + 6 * k + 2 ≠ 132 + 6 * k + 5 by omega)] at q
  exact ⟨S1_k K (by decide) (up_n (by omega)) (up_n (by omega)) q1, S2_k K (by decide) (up_n (by omega)) (up_n (by omega)) q2, S3_k K (by decide) (up_n (by omega)) (up_n (by omega)) (fun _ _ _ => up_n (by omega)) q3w, ⟨AL_Kt K (by decide) (by rw [up_n (by omega)]; exact qa.1), AL_Kt K (by decide) (by rw [up_n (by omega)]; exact qa.2.1), AL_Kt K (by decide) (by rw [up_n (by omega)]; exact qa.2.2.1), AL_Kt K (by decide) (by rw [up_n (by omega)]; exact qa.2.2.2)⟩, S8_k K (by decide) (fun _ _ _ => up_n (by omega)) q8, (O3_k K (by decide) (up_n (by omega)) (fun _ _ _ _ _ _ => up_n (by omega)) q3), (O4_k K (by decide) (up_n (by omega)) (fun _ _ _ _ _ _ => up_n (by omega)) q4), q, (O7_k K (by decide) (up_n (by omega)) (fun _ _ _ _ _ _ => up_n (by omega)) q7)⟩
theorem St_cstep (hF : WF F) (hk : 0 ≤ k ∧ k < F 5) (hS : St h a F s B W C L) : St (mput h (C k) (.inr (6, [.int (Int32.ofInt (F (132 + 6 * k + 1))), .int (Int32.ofInt (F (132 + 6 * k))), .int (Int32.ofInt (F (132 + 6 * k + 3))), .int (Int32.ofInt (F (132 + 6 * k + 4))), .int (Int32.ofInt (F (132 + 6 * k + 5))), .int (Int32.ofInt x)]))) a (up F (132 + 6 * k + 2) x) s B W C L := by
  obtain ⟨h0, h1, h2, h3, h4, h5, h6, h7, h8, h9, h10, h11, h12⟩ := id hF; have hcc := hF.cells
  obtain ⟨q1, q2, q3w, qa, q8, q3, q4, q6, q7⟩ := hS
  have hd := q6.1 k hk.1 hk.2
  have K : Kt 6 h (mput h (C k) (.inr (6, [.int (Int32.ofInt (F (132 + 6 * k + 1))), .int (Int32.ofInt (F (132 + 6 * k))), .int (Int32.ofInt (F (132 + 6 * k + 3))), .int (Int32.ofInt (F (132 + 6 * k + 4))), .int (Int32.ofInt (F (132 + 6 * k + 5))), .int (Int32.ofInt x)]))) := Kt_put hd
  have q : O6 (mput h (C k) (o6 (up F (132 + 6 * k + 2) x) k)) (up F (132 + 6 * k + 2) x) C := O6_p hk (up_n (by omega)) (fun _ _ _ _ _ _ _ => up_n (by omega)) q6
  unfold o6 at q
  rw [up_n (show (132 : Int) + 6 * k + 1 ≠ 132 + 6 * k + 2 by omega), up_n (show (132 : Int) + 6 * k ≠ 132 + 6 * k + 2 by omega), up_n (show (132 : Int) + 6 * k + 3 ≠ 132 + 6 * k + 2 by omega), up_n (show (132 : Int) + 6 * k + 4 ≠ 132 + 6 * k + 2 by omega), up_n (show (132 : Int) + 6 * k + 5 ≠ 132 + 6 * k + 2 by omega), up_s] at q
  exact ⟨S1_k K (by decide) (up_n (by omega)) (up_n (by omega)) q1, S2_k K (by decide) (up_n (by omega)) (up_n (by omega)) q2, S3_k K (by decide) (up_n (by omega)) (up_n (by omega)) (fun _ _ _ => up_n (by omega)) q3w, ⟨AL_Kt K (by decide) (by rw [up_n (by omega)]; exact qa.1), AL_Kt K (by decide) (by rw [up_n (by omega)]; exact qa.2.1), AL_Kt K (by decide) (by rw [up_n (by omega)]; exact qa.2.2.1), AL_Kt K (by decide) (by rw [up_n (by omega)]; exact qa.2.2.2)⟩, S8_k K (by decide) (fun _ _ _ => up_n (by omega)) q8, (O3_k K (by decide) (up_n (by omega)) (fun _ _ _ _ _ _ => up_n (by omega)) q3), (O4_k K (by decide) (up_n (by omega)) (fun _ _ _ _ _ _ => up_n (by omega)) q4), q, (O7_k K (by decide) (up_n (by omega)) (fun _ _ _ _ _ _ => up_n (by omega)) q7)⟩
theorem St_lstate (hF : WF F) (hk : 0 ≤ k ∧ k < F 6) (hS : St h a F s B W C L) : St (mput h (L k) (.inr (7, [.int (Int32.ofInt (F (156 + 6 * k))), .int (Int32.ofInt (F (156 + 6 * k + 1))), .int (Int32.ofInt x), .int (Int32.ofInt (F (156 + 6 * k + 3))), .int (Int32.ofInt (F (156 + 6 * k + 4))), .int (Int32.ofInt (F (156 + 6 * k + 5)))]))) a (up F (156 + 6 * k + 2) x) s B W C L := by
  obtain ⟨h0, h1, h2, h3, h4, h5, h6, h7, h8, h9, h10, h11, h12⟩ := id hF; have hcc := hF.cells
  obtain ⟨q1, q2, q3w, qa, q8, q3, q4, q6, q7⟩ := hS
  have hd := q7.1 k hk.1 hk.2
  have K : Kt 7 h (mput h (L k) (.inr (7, [.int (Int32.ofInt (F (156 + 6 * k))), .int (Int32.ofInt (F (156 + 6 * k + 1))), .int (Int32.ofInt x), .int (Int32.ofInt (F (156 + 6 * k + 3))), .int (Int32.ofInt (F (156 + 6 * k + 4))), .int (Int32.ofInt (F (156 + 6 * k + 5)))]))) := Kt_put hd
  have q : O7 (mput h (L k) (o7 (up F (156 + 6 * k + 2) x) k)) (up F (156 + 6 * k + 2) x) L := O7_p hk (up_n (by omega)) (fun _ _ _ _ _ _ _ => up_n (by omega)) q7
  unfold o7 at q
  rw [up_n (show (156 : Int) + 6 * k ≠ 156 + 6 * k + 2 by omega), up_n (show (156 : Int) + 6 * k + 1 ≠ 156 + 6 * k + 2 by omega), up_s, up_n (show (156 : Int) + 6 * k + 3 ≠ 156 + 6 * k + 2 by omega), up_n (show (156 : Int) + 6 * k + 4 ≠ 156 + 6 * k + 2 by omega), up_n (show (156 : Int) + 6 * k + 5 ≠ 156 + 6 * k + 2 by omega)] at q
  exact ⟨S1_k K (by decide) (up_n (by omega)) (up_n (by omega)) q1, S2_k K (by decide) (up_n (by omega)) (up_n (by omega)) q2, S3_k K (by decide) (up_n (by omega)) (up_n (by omega)) (fun _ _ _ => up_n (by omega)) q3w, ⟨AL_Kt K (by decide) (by rw [up_n (by omega)]; exact qa.1), AL_Kt K (by decide) (by rw [up_n (by omega)]; exact qa.2.1), AL_Kt K (by decide) (by rw [up_n (by omega)]; exact qa.2.2.1), AL_Kt K (by decide) (by rw [up_n (by omega)]; exact qa.2.2.2)⟩, S8_k K (by decide) (fun _ _ _ => up_n (by omega)) q8, (O3_k K (by decide) (up_n (by omega)) (fun _ _ _ _ _ _ => up_n (by omega)) q3), (O4_k K (by decide) (up_n (by omega)) (fun _ _ _ _ _ _ => up_n (by omega)) q4), (O6_k K (by decide) (up_n (by omega)) (fun _ _ _ _ _ _ => up_n (by omega)) q6), q⟩
theorem St_lplace (hF : WF F) (hk : 0 ≤ k ∧ k < F 6) (hS : St h a F s B W C L) : St (mput h (L k) (.inr (7, [.int (Int32.ofInt (F (156 + 6 * k))), .int (Int32.ofInt (F (156 + 6 * k + 1))), .int (Int32.ofInt (F (156 + 6 * k + 2))), .int (Int32.ofInt x), .int (Int32.ofInt (F (156 + 6 * k + 4))), .int (Int32.ofInt (F (156 + 6 * k + 5)))]))) a (up F (156 + 6 * k + 3) x) s B W C L := by
  obtain ⟨h0, h1, h2, h3, h4, h5, h6, h7, h8, h9, h10, h11, h12⟩ := id hF; have hcc := hF.cells
  obtain ⟨q1, q2, q3w, qa, q8, q3, q4, q6, q7⟩ := hS
  have hd := q7.1 k hk.1 hk.2
  have K : Kt 7 h (mput h (L k) (.inr (7, [.int (Int32.ofInt (F (156 + 6 * k))), .int (Int32.ofInt (F (156 + 6 * k + 1))), .int (Int32.ofInt (F (156 + 6 * k + 2))), .int (Int32.ofInt x), .int (Int32.ofInt (F (156 + 6 * k + 4))), .int (Int32.ofInt (F (156 + 6 * k + 5)))]))) := Kt_put hd
  have q : O7 (mput h (L k) (o7 (up F (156 + 6 * k + 3) x) k)) (up F (156 + 6 * k + 3) x) L := O7_p hk (up_n (by omega)) (fun _ _ _ _ _ _ _ => up_n (by omega)) q7
  unfold o7 at q
  rw [up_n (show (156 : Int) + 6 * k ≠ 156 + 6 * k + 3 by omega), up_n (show (156 : Int) + 6 * k + 1 ≠ 156 + 6 * k + 3 by omega), up_n (show (156 : Int) + 6 * k + 2 ≠ 156 + 6 * k + 3 by omega), up_s, up_n (show (156 : Int) + 6 * k + 4 ≠ 156 + 6 * k + 3 by omega), up_n (show (156 : Int) + 6 * k + 5 ≠ 156 + 6 * k + 3 by omega)] at q
  exact ⟨S1_k K (by decide) (up_n (by omega)) (up_n (by omega)) q1, S2_k K (by decide) (up_n (by omega)) (up_n (by omega)) q2, S3_k K (by decide) (up_n (by omega)) (up_n (by omega)) (fun _ _ _ => up_n (by omega)) q3w, ⟨AL_Kt K (by decide) (by rw [up_n (by omega)]; exact qa.1), AL_Kt K (by decide) (by rw [up_n (by omega)]; exact qa.2.1), AL_Kt K (by decide) (by rw [up_n (by omega)]; exact qa.2.2.1), AL_Kt K (by decide) (by rw [up_n (by omega)]; exact qa.2.2.2)⟩, S8_k K (by decide) (fun _ _ _ => up_n (by omega)) q8, (O3_k K (by decide) (up_n (by omega)) (fun _ _ _ _ _ _ => up_n (by omega)) q3), (O4_k K (by decide) (up_n (by omega)) (fun _ _ _ _ _ _ => up_n (by omega)) q4), (O6_k K (by decide) (up_n (by omega)) (fun _ _ _ _ _ _ => up_n (by omega)) q6), q⟩
theorem St_lhand (hF : WF F) (hk : 0 ≤ k ∧ k < F 6) (hS : St h a F s B W C L) : St (mput h (L k) (.inr (7, [.int (Int32.ofInt (F (156 + 6 * k))), .int (Int32.ofInt (F (156 + 6 * k + 1))), .int (Int32.ofInt (F (156 + 6 * k + 2))), .int (Int32.ofInt (F (156 + 6 * k + 3))), .int (Int32.ofInt x), .int (Int32.ofInt (F (156 + 6 * k + 5)))]))) a (up F (156 + 6 * k + 4) x) s B W C L := by
  obtain ⟨h0, h1, h2, h3, h4, h5, h6, h7, h8, h9, h10, h11, h12⟩ := id hF; have hcc := hF.cells
  obtain ⟨q1, q2, q3w, qa, q8, q3, q4, q6, q7⟩ := hS
  have hd := q7.1 k hk.1 hk.2
  have K : Kt 7 h (mput h (L k) (.inr (7, [.int (Int32.ofInt (F (156 + 6 * k))), .int (Int32.ofInt (F (156 + 6 * k + 1))), .int (Int32.ofInt (F (156 + 6 * k + 2))), .int (Int32.ofInt (F (156 + 6 * k + 3))), .int (Int32.ofInt x), .int (Int32.ofInt (F (156 + 6 * k + 5)))]))) := Kt_put hd
  have q : O7 (mput h (L k) (o7 (up F (156 + 6 * k + 4) x) k)) (up F (156 + 6 * k + 4) x) L := O7_p hk (up_n (by omega)) (fun _ _ _ _ _ _ _ => up_n (by omega)) q7
  unfold o7 at q
  rw [up_n (show (156 : Int) + 6 * k ≠ 156 + 6 * k + 4 by omega), up_n (show (156 : Int) + 6 * k + 1 ≠ 156 + 6 * k + 4 by omega), up_n (show (156 : Int) + 6 * k + 2 ≠ 156 + 6 * k + 4 by omega), up_n (show (156 : Int) + 6 * k + 3 ≠ 156 + 6 * k + 4 by omega), up_s, up_n (show (156 : Int) + 6 * k + 5 ≠ 156 + 6 * k + 4 by omega)] at q
  exact ⟨S1_k K (by decide) (up_n (by omega)) (up_n (by omega)) q1, S2_k K (by decide) (up_n (by omega)) (up_n (by omega)) q2, S3_k K (by decide) (up_n (by omega)) (up_n (by omega)) (fun _ _ _ => up_n (by omega)) q3w, ⟨AL_Kt K (by decide) (by rw [up_n (by omega)]; exact qa.1), AL_Kt K (by decide) (by rw [up_n (by omega)]; exact qa.2.1), AL_Kt K (by decide) (by rw [up_n (by omega)]; exact qa.2.2.1), AL_Kt K (by decide) (by rw [up_n (by omega)]; exact qa.2.2.2)⟩, S8_k K (by decide) (fun _ _ _ => up_n (by omega)) q8, (O3_k K (by decide) (up_n (by omega)) (fun _ _ _ _ _ _ => up_n (by omega)) q3), (O4_k K (by decide) (up_n (by omega)) (fun _ _ _ _ _ _ => up_n (by omega)) q4), (O6_k K (by decide) (up_n (by omega)) (fun _ _ _ _ _ _ => up_n (by omega)) q6), q⟩
theorem St_lhands (hF : WF F) (hk : 0 ≤ k ∧ k < F 6) (hS : St h a F s B W C L) : St (mput h (L k) (.inr (7, [.int (Int32.ofInt (F (156 + 6 * k))), .int (Int32.ofInt (F (156 + 6 * k + 1))), .int (Int32.ofInt (F (156 + 6 * k + 2))), .int (Int32.ofInt (F (156 + 6 * k + 3))), .int (Int32.ofInt (F (156 + 6 * k + 4))), .int (Int32.ofInt x)]))) a (up F (156 + 6 * k + 5) x) s B W C L := by
  obtain ⟨h0, h1, h2, h3, h4, h5, h6, h7, h8, h9, h10, h11, h12⟩ := id hF; have hcc := hF.cells
  obtain ⟨q1, q2, q3w, qa, q8, q3, q4, q6, q7⟩ := hS
  have hd := q7.1 k hk.1 hk.2
  have K : Kt 7 h (mput h (L k) (.inr (7, [.int (Int32.ofInt (F (156 + 6 * k))), .int (Int32.ofInt (F (156 + 6 * k + 1))), .int (Int32.ofInt (F (156 + 6 * k + 2))), .int (Int32.ofInt (F (156 + 6 * k + 3))), .int (Int32.ofInt (F (156 + 6 * k + 4))), .int (Int32.ofInt x)]))) := Kt_put hd
  have q : O7 (mput h (L k) (o7 (up F (156 + 6 * k + 5) x) k)) (up F (156 + 6 * k + 5) x) L := O7_p hk (up_n (by omega)) (fun _ _ _ _ _ _ _ => up_n (by omega)) q7
  unfold o7 at q
  rw [up_n (show (156 : Int) + 6 * k ≠ 156 + 6 * k + 5 by omega), up_n (show (156 : Int) + 6 * k + 1 ≠ 156 + 6 * k + 5 by omega), up_n (show (156 : Int) + 6 * k + 2 ≠ 156 + 6 * k + 5 by omega), up_n (show (156 : Int) + 6 * k + 3 ≠ 156 + 6 * k + 5 by omega), up_n (show (156 : Int) + 6 * k + 4 ≠ 156 + 6 * k + 5 by omega), up_s] at q
  exact ⟨S1_k K (by decide) (up_n (by omega)) (up_n (by omega)) q1, S2_k K (by decide) (up_n (by omega)) (up_n (by omega)) q2, S3_k K (by decide) (up_n (by omega)) (up_n (by omega)) (fun _ _ _ => up_n (by omega)) q3w, ⟨AL_Kt K (by decide) (by rw [up_n (by omega)]; exact qa.1), AL_Kt K (by decide) (by rw [up_n (by omega)]; exact qa.2.1), AL_Kt K (by decide) (by rw [up_n (by omega)]; exact qa.2.2.1), AL_Kt K (by decide) (by rw [up_n (by omega)]; exact qa.2.2.2)⟩, S8_k K (by decide) (fun _ _ _ => up_n (by omega)) q8, (O3_k K (by decide) (up_n (by omega)) (fun _ _ _ _ _ _ => up_n (by omega)) q3), (O4_k K (by decide) (up_n (by omega)) (fun _ _ _ _ _ _ => up_n (by omega)) q4), (O6_k K (by decide) (up_n (by omega)) (fun _ _ _ _ _ _ => up_n (by omega)) q6), q⟩
theorem St_time (hF : WF F) (hS : St h a F s B W C L) : St (mput h a (.inr (1, [.ref (s 0), .int (Int32.ofInt (F 2)), .ref (s 1), .ref (s 2), .ref (s 3), .ref (s 4), .ref (s 5), .int (Int32.ofInt x)]))) a (up F 7 x) s B W C L := by
  obtain ⟨h0, h1, h2, h3, h4, h5, h6, h7, h8, h9, h10, h11, h12⟩ := id hF; have hcc := hF.cells
  obtain ⟨q1, q2, q3w, qa, q8, q3, q4, q6, q7⟩ := hS
  have hd : h.1 a = _ := q1
  have K : Kt 1 h (mput h a (.inr (1, [.ref (s 0), .int (Int32.ofInt (F 2)), .ref (s 1), .ref (s 2), .ref (s 3), .ref (s 4), .ref (s 5), .int (Int32.ofInt x)]))) := Kt_put hd
  have q : S1 (mput h a (.inr (1, [.ref (s 0), .int (Int32.ofInt (F 2)), .ref (s 1), .ref (s 2), .ref (s 3), .ref (s 4), .ref (s 5), .int (Int32.ofInt x)]))) a (up F 7 x) s := by
    unfold S1
    rw [up_s, up_n (by omega)]
    exact h_ps
  exact ⟨q, S2_k K (by decide) (up_n (by omega)) (up_n (by omega)) q2, S3_k K (by decide) (up_n (by omega)) (up_n (by omega)) (fun _ _ _ => up_n (by omega)) q3w, ⟨AL_Kt K (by decide) (by rw [up_n (by omega)]; exact qa.1), AL_Kt K (by decide) (by rw [up_n (by omega)]; exact qa.2.1), AL_Kt K (by decide) (by rw [up_n (by omega)]; exact qa.2.2.1), AL_Kt K (by decide) (by rw [up_n (by omega)]; exact qa.2.2.2)⟩, S8_k K (by decide) (fun _ _ _ => up_n (by omega)) q8, (O3_k K (by decide) (up_n (by omega)) (fun _ _ _ _ _ _ => up_n (by omega)) q3), (O4_k K (by decide) (up_n (by omega)) (fun _ _ _ _ _ _ => up_n (by omega)) q4), (O6_k K (by decide) (up_n (by omega)) (fun _ _ _ _ _ _ => up_n (by omega)) q6), (O7_k K (by decide) (up_n (by omega)) (fun _ _ _ _ _ _ => up_n (by omega)) q7)⟩
/-- the tallies' array, written -/
theorem St_tal (hF : WF F) (hk : 0 ≤ k ∧ k < 7) (hS : St h a F s B W C L) {f : Int → Int} (hf : h.1 (s 5) = some (mAI 0 7 f)) (hf2 : ∀ j, 0 ≤ j → j < 7 → f j = F (8 + j)) : St (mput h (s 5) (mAI 0 7 (up f k x))) a (up F (8 + k) x) s B W C L := by
  obtain ⟨h0, h1, h2, h3, h4, h5, h6, h7, h8, h9, h10, h11, h12⟩ := id hF; have hcc := hF.cells
  obtain ⟨q1, q2, q3w, qa, q8, q3, q4, q6, q7⟩ := hS
  have K : Kt 1000 h (mput h (s 5) (mAI 0 7 (up f k x))) := Kt_put hf
  have q : S8 (mput h (s 5) (mAI 0 7 (up f k x))) (up F (8 + k) x) s := by
    refine ⟨_, h_ps, fun j j0 j1 => ?_⟩
    by_cases e : j = k
    · rw [e, up_s, up_s]
    · rw [up_n e, up_n (by omega)]
      exact hf2 j j0 j1
  exact ⟨S1_k K (by decide) (up_n (by omega)) (up_n (by omega)) q1, S2_k K (by decide) (up_n (by omega)) (up_n (by omega)) q2, S3_k K (by decide) (up_n (by omega)) (up_n (by omega)) (fun _ _ _ => up_n (by omega)) q3w, ⟨AL_Kt K (by decide) (by rw [up_n (by omega)]; exact qa.1), AL_Kt K (by decide) (by rw [up_n (by omega)]; exact qa.2.1), AL_Kt K (by decide) (by rw [up_n (by omega)]; exact qa.2.2.1), AL_Kt K (by decide) (by rw [up_n (by omega)]; exact qa.2.2.2)⟩, q, (O3_k K (by decide) (up_n (by omega)) (fun _ _ _ _ _ _ => up_n (by omega)) q3), (O4_k K (by decide) (up_n (by omega)) (fun _ _ _ _ _ _ => up_n (by omega)) q4), (O6_k K (by decide) (up_n (by omega)) (fun _ _ _ _ _ _ => up_n (by omega)) q6), (O7_k K (by decide) (up_n (by omega)) (fun _ _ _ _ _ _ => up_n (by omega)) q7)⟩
end PT
section SE
variable {h h' : mH} {a : Nat} {F G : Int → Int} {s : Nat → Nat} {B W C L : Int → Nat}
/-- the same State, of a row that is the same -/
theorem St_eqv (hF : WF F) (e : eqv G F) (hS : St h a F s B W C L) : St h a G s B W C L := by
  obtain ⟨h0, h1, h2, h3, h4, h5, h6, h7, h8, h9, h10, h11, h12⟩ := id hF; have hcc := hF.cells
  obtain ⟨q1, q2, q3w, qa, q8, q3, q4, q6, q7⟩ := hS
  have K : Kt 5000 h h := fun _ _ z _ => z
  exact ⟨S1_k K (by decide) (e _ (by omega) (by omega)) (e _ (by omega) (by omega)) q1, S2_k K (by decide) (e _ (by omega) (by omega)) (e _ (by omega) (by omega)) q2, S3_k K (by decide) (e _ (by omega) (by omega)) (e _ (by omega) (by omega)) (fun _ _ _ => e _ (by omega) (by omega)) q3w, ⟨by rw [e _ (by omega) (by omega)]; exact qa.1, by rw [e _ (by omega) (by omega)]; exact qa.2.1, by rw [e _ (by omega) (by omega)]; exact qa.2.2.1, by rw [e _ (by omega) (by omega)]; exact qa.2.2.2⟩, S8_k K (by decide) (fun _ _ _ => e _ (by omega) (by omega)) q8, O3_k K (by decide) (e _ (by omega) (by omega)) (fun _ _ _ _ _ _ => e _ (by omega) (by omega)) q3, O4_k K (by decide) (e _ (by omega) (by omega)) (fun _ _ _ _ _ _ => e _ (by omega) (by omega)) q4, O6_k K (by decide) (e _ (by omega) (by omega)) (fun _ _ _ _ _ _ => e _ (by omega) (by omega)) q6, O7_k K (by decide) (e _ (by omega) (by omega)) (fun _ _ _ _ _ _ => e _ (by omega) (by omega)) q7⟩
/-- where a State's cells lie: all in A; those of its own (not the square's) in P -/
def In (A P : Nat → Prop) (a : Nat) (F : Int → Int) (s : Nat → Nat) (B W C L : Int → Nat) : Prop := (A (s 0) ∧ A (s 6)) ∧ (A a ∧ P a) ∧ ((A (s 1) ∧ A (s 11)) ∧ (A (s 2) ∧ A (s 12)) ∧ (A (s 3) ∧ A (s 13)) ∧ (A (s 4) ∧ A (s 14))) ∧ (A (s 5) ∧ P (s 5)) ∧ (∀ k, 0 ≤ k → k < F 3 → A (B k) ∧ P (B k)) ∧ (∀ k, 0 ≤ k → k < F 4 → A (W k) ∧ P (W k)) ∧ (∀ k, 0 ≤ k → k < F 5 → A (C k) ∧ P (C k)) ∧ (∀ k, 0 ≤ k → k < F 6 → A (L k) ∧ P (L k))
theorem In_mono {A P A' P' : Nat → Prop} (hA : ∀ q, A q → A' q) (hP : ∀ q, A q → P q → P' q) (hI : In A P a F s B W C L) : In A' P' a F s B W C L := by
  obtain ⟨i1, i2, i3, i4, i5, i6, i7, i8⟩ := hI
  exact ⟨⟨hA _ i1.1, hA _ i1.2⟩, ⟨hA _ i2.1, hP _ i2.1 i2.2⟩, ⟨⟨hA _ i3.1.1, hA _ i3.1.2⟩, ⟨hA _ i3.2.1.1, hA _ i3.2.1.2⟩, ⟨hA _ i3.2.2.1.1, hA _ i3.2.2.1.2⟩, ⟨hA _ i3.2.2.2.1, hA _ i3.2.2.2.2⟩⟩, ⟨hA _ i4.1, hP _ i4.1 i4.2⟩, fun k a b => ⟨hA _ (i5 k a b).1, hP _ (i5 k a b).1 (i5 k a b).2⟩, fun k a b => ⟨hA _ (i6 k a b).1, hP _ (i6 k a b).1 (i6 k a b).2⟩, fun k a b => ⟨hA _ (i7 k a b).1, hP _ (i7 k a b).1 (i7 k a b).2⟩, fun k a b => ⟨hA _ (i8 k a b).1, hP _ (i8 k a b).1 (i8 k a b).2⟩⟩
theorem St_frame {A P : Nat → Prop} (hI : In A P a F s B W C L) (he : ∀ q, A q → h'.1 q = h.1 q) (hS : St h a F s B W C L) : St h' a F s B W C L := by
  obtain ⟨i1, i2, i3, i4, i5, i6, i7, i8⟩ := hI
  obtain ⟨q1, q2, ⟨f, f1, f2⟩, qa, ⟨g, g1, g2⟩, q3, q4, q6, q7⟩ := hS
  have ea : ∀ {l ar : Nat} {n : Int} {B : Int → Nat}, A l → A ar → AL h l ar n B → AL h' l ar n B := fun z1 z2 hl => AL_keep hl (fun X hX => (he _ z1).trans hX) (fun X hX => (he _ z2).trans hX)
  exact ⟨(he _ i2.1).trans q1, (he _ i1.1).trans q2, ⟨f, (he _ i1.2).trans f1, f2⟩, ⟨ea i3.1.1 i3.1.2 qa.1, ea i3.2.1.1 i3.2.1.2 qa.2.1, ea i3.2.2.1.1 i3.2.2.1.2 qa.2.2.1, ea i3.2.2.2.1 i3.2.2.2.2 qa.2.2.2⟩, ⟨g, (he _ i4.1).trans g1, g2⟩, ⟨fun k a b => (he _ (i5 k a b).1).trans (q3.1 k a b), q3.2⟩, ⟨fun k a b => (he _ (i6 k a b).1).trans (q4.1 k a b), q4.2⟩, ⟨fun k a b => (he _ (i7 k a b).1).trans (q6.1 k a b), q6.2⟩, ⟨fun k a b => (he _ (i8 k a b).1).trans (q7.1 k a b), q7.2⟩⟩
end SE
