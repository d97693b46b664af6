/-! MC component 22: the component's world -/
set_option maxRecDepth 100000
/-- a map that knows each cell's lowest watcher -/
def PO (A : Nat → Prop) (h : mH) (m : Nat) (F : Int → Int) : Prop := ∃ (n : Int) (bk : Nat → List hEnt), HM A h m n bk ∧ ∀ c, 0 ≤ c → c < 81 → numOf (hfe c (bkc bk c)) = lowW F c
def LA (E : mE) (M : Nat → Prop) (h : mH) : Nat → Prop := fun q => E.1 ≤ q ∧ q < h.2.1 ∧ ¬ M q
/-- a State that lives: none of its cells is in M -/
def Live (E : mE) (M : Nat → Prop) (h : mH) (a : Nat) (F : Int → Int) : Prop := LR F ∧ ∃ (s : Nat → Nat) (B W C L : Int → Nat), St h a F s B W C L ∧ In (LA E M h) (fun _ => True) a F s B W C L ∧ PO (LA E M h) h (s 7) F
/-- what is kept: all that is in A but Strings -/
def FrA (A : Nat → Prop) (h h' : mH) : Prop := ∀ (q : Nat) (X : mC), A q → h.1 q = some X → tagC X ≠ 18 → h'.1 q = some X
theorem FrA_eq {A : Nat → Prop} {h h' : mH} (he : ∀ q, A q → h'.1 q = h.1 q) : FrA A h h' := fun q X a b _ => (he q a).trans b
theorem hch_frA {A A' : Nat → Prop} {h h' : mH} (hA : ∀ q, A q → A' q) (he : FrA A h h') : ∀ (l : List hEnt) (o : Option Nat), hch A h l o → hch A' h' l o := by
  intro l
  induction l with
  | nil => intro o hc; exact hc
  | cons e l ih =>
    intro o hc
    obtain ⟨a1, a2, a3, a4, a5, a6, ⟨v1, v2, v3, v4, a7⟩, o', a8, a9⟩ := hc
    exact ⟨a1, ⟨hA _ a2.1, hA _ a2.2.1, hA _ a2.2.2⟩, a3, a4, a5, he _ _ a2.2.1 a6 (by show (5 : Nat) ≠ 18; omega), ⟨v1, v2, v3, v4, he _ _ a2.2.2 a7 (by show (4 : Nat) ≠ 18; omega)⟩, o', he _ _ a2.1 a8 (by show (16 : Nat) ≠ 18; omega), ih o' a9⟩
theorem PO_fr {A A' : Nat → Prop} {h h' : mH} {m : Nat} {F : Int → Int} (hA : ∀ q, A q → A' q) (he : FrA A h h') (hp : PO A h m F) : PO A' h' m F := by
  obtain ⟨n, bk, ⟨a1, a2, a3, a9⟩, b⟩ := hp
  refine ⟨n, bk, ⟨hA _ a1, a2, a3, ?_⟩, b⟩
  rcases a9 with ⟨a4, md, lf, a5⟩ | ⟨t, g, md, lf, a4, a5, a6, a7⟩
  · exact Or.inl ⟨a4, md, lf, he _ _ a1 a5 (by show (15 : Nat) ≠ 18; omega)⟩
  · exact Or.inr ⟨t, g, md, lf, hA _ a4, he _ _ a1 a5 (by show (15 : Nat) ≠ 18; omega), he _ _ a4 a6 (by show (1102 : Nat) ≠ 18; omega), fun i hi => hch_frA hA he _ _ (a7 i hi)⟩
section FR
variable {E : mE} {M : Nat → Prop} {h h' : mH} {a : Nat} {F G : Int → Int} {s : Nat → Nat} {B W C L : Int → Nat}
theorem AL_frA {A : Nat → Prop} {l ar : Nat} {n : Int} {B : Int → Nat} (he : FrA A h h') (z1 : A l) (z2 : A ar) (hl : AL h l ar n B) : AL h' l ar n B := by
  obtain ⟨m, cap, g, h1, h2, h3, h4⟩ := hl
  exact ⟨m, cap, g, he _ _ z1 h1 (by show (13 : Nat) ≠ 18; omega), he _ _ z2 h2 (by show (1100 : Nat) ≠ 18; omega), h3, h4⟩
theorem St_frA {A P : Nat → Prop} (hI : In A P a F s B W C L) (he : FrA A h h') (hS : St h a F s B W C L) : St h' a F s B W C L := by
  obtain ⟨i1, i2, i3, i4, i5, i6, i7, i8⟩ := hI
  obtain ⟨q1, q2, ⟨f, f1, f2⟩, qa, ⟨g, g1, g2⟩, q3, q4, q6, q7⟩ := hS
  exact ⟨he _ _ i2.1 q1 (by show (1 : Nat) ≠ 18; omega), he _ _ i1.1 q2 (by show (2 : Nat) ≠ 18; omega), ⟨f, he _ _ i1.2 f1 (by show (1001 : Nat) ≠ 18; omega), f2⟩, ⟨AL_frA he i3.1.1 i3.1.2 qa.1, AL_frA he i3.2.1.1 i3.2.1.2 qa.2.1, AL_frA he i3.2.2.1.1 i3.2.2.1.2 qa.2.2.1, AL_frA he i3.2.2.2.1 i3.2.2.2.2 qa.2.2.2⟩, ⟨g, he _ _ i4.1 g1 (by show (1000 : Nat) ≠ 18; omega), g2⟩, ⟨fun k a b => he _ _ (i5 k a b).1 (q3.1 k a b) (by show (3 : Nat) ≠ 18; omega), q3.2⟩, ⟨fun k a b => he _ _ (i6 k a b).1 (q4.1 k a b) (by show (4 : Nat) ≠ 18; omega), q4.2⟩, ⟨fun k a b => he _ _ (i7 k a b).1 (q6.1 k a b) (by show (6 : Nat) ≠ 18; omega), q6.2⟩, ⟨fun k a b => he _ _ (i8 k a b).1 (q7.1 k a b) (by show (7 : Nat) ≠ 18; omega), q7.2⟩⟩
theorem LA_le (hl : h.2.1 ≤ h'.2.1) : ∀ q, LA E M h q → LA E M h' q := fun q z => ⟨z.1, by have := z.2.1; omega, z.2.2⟩
theorem Live_fr (he : FrA (LA E M h) h h') (hl : h.2.1 ≤ h'.2.1) (hL : Live E M h a F) : Live E M h' a F := by
  obtain ⟨l1, s, B, W, C, L, hS, hI, hp⟩ := hL
  exact ⟨l1, s, B, W, C, L, St_frA hI he hS, In_mono (LA_le hl) (fun _ _ _ => trivial) hI, PO_fr (LA_le hl) he hp⟩
theorem Live_eqv (e : eqv G F) (hL : Live E M h a F) : Live E M h a G := by
  obtain ⟨l1, s, B, W, C, L, hS, hI, n, bk, hm, hb⟩ := hL
  have n4 := l1.1.n.2.1
  exact ⟨LR_eqv l1 e, s, B, W, C, L, St_eqv l1.1 e hS, In_eq hI (e _ (by omega) (by omega)) (e _ (by omega) (by omega)) (e _ (by omega) (by omega)) (e _ (by omega) (by omega)), n, bk, hm, fun c c0 c1 => (hb c c0 c1).trans (lowW_eqv n4 e).symm⟩
end FR
/-! the component's object and its own cells: z 0 itself, 1 undos, 2 saved, 3 refused, 4 text, 5 out; 6 the deque's array, 7 the builder's -/
def XO (h : mH) (z : Nat → Nat) (a : Nat) (w : Nat → Int → Int) : Prop := h.1 (z 0) = some (.inr (0, [.ref a, .ref (z 1), .ref (z 2), .ref (z 3), .ref (z 4), .int (Int32.ofInt (w 10 0)), .int (Int32.ofInt (w 15 0)), .int (Int32.ofInt (w 16 0)), .ref (z 5)]))
def XS (E : mE) (M : Nat → Prop) (h : mH) (z : Nat → Nat) (w : Nat → Int → Int) : Prop := ∃ g : Nat → Option Nat, h.1 (z 2) = some (mAK 101 2 g) ∧ ∀ k : Int, 0 ≤ k → k < 2 → (w 4 k = 0 ∧ g k.toNat = none) ∨ (w 4 k = 1 ∧ ∃ a, g k.toNat = some a ∧ Live E M h a (fun j => w 3 (216 * k + j)))
def XR (h : mH) (z : Nat → Nat) (w : Nat → Int → Int) : Prop := ∃ f : Int → Int, h.1 (z 3) = some (mAI 0 9 f) ∧ ∀ j, 1 ≤ j → j ≤ 8 → f j = w 5 j
def XT (h : mH) (z : Nat → Nat) (w : Nat → Int → Int) : Prop := ∃ f : Int → Int, h.1 (z 4) = some (mAI 2 500 f) ∧ ∀ j, 0 ≤ j → j < 500 → f j = w 9 j
def XB (h : mH) (z : Nat → Nat) (w : Nat → Int → Int) : Prop := ∃ (f : Int → Int) (ml : Int), h.1 (z 5) = some (.inr (17, [.ref (z 7), .int (Int32.ofInt 0), .int (Int32.ofInt ml), .int (Int32.ofInt (w 23 0))])) ∧ h.1 (z 7) = some (mAI 2 16 f) ∧ (ml = 0 ∨ ml = 1) ∧ ∀ j, 0 ≤ j → j < w 23 0 → f j = w 22 j
def XU (E : mE) (M : Nat → Prop) (h : mH) (z : Nat → Nat) (w : Nat → Int → Int) : Prop := ∃ (p : Int) (U : Int → Nat), DQ h (z 1) (z 6) p (w 6 0) U ∧ ∀ i, 0 ≤ i → i < w 6 0 → Live E M h (U i) (fun j => w 2 (216 * i + j))
def XW (w : Nat → Int → Int) : Prop := TW w ∧ (0 ≤ w 6 0 ∧ w 6 0 ≤ 6) ∧ (0 ≤ w 23 0 ∧ w 23 0 ≤ 9) ∧ (∀ j, 0 ≤ j → j < w 23 0 → 33 ≤ w 22 j ∧ w 22 j ≤ 100) ∧ (-1 ≤ w 16 0 ∧ w 16 0 ≤ 500) ∧ (0 ≤ w 15 0 ∧ w 15 0 ≤ 4)
def ZM (E : mE) (M : Nat → Prop) (h : mH) (z : Nat → Nat) : Prop := (∀ i, i < 8 → M (z i) ∧ E.1 ≤ z i ∧ z i < h.2.1) ∧ ∀ i j, i < 8 → j < 8 → z i = z j → i = j
def KW (E : mE) (M : Nat → Prop) (z : Nat → Nat) (h : mH) (w : Nat → Int → Int) : Prop := ZM E M h z ∧ XW w ∧ (∃ a, XO h z a w ∧ Live E M h a (w 0)) ∧ XU E M h z w ∧ XS E M h z w ∧ XR h z w ∧ XT h z w ∧ XB h z w
/-- the component's own cells -/
def Zc (z : Nat → Nat) (q : Nat) : Prop := ∃ i, i < 8 ∧ q = z i
section WO
variable {E : mE} {M : Nat → Prop} {z : Nat → Nat} {h h' : mH} {w w' : Nat → Int → Int}
theorem DQ_keep {q ar : Nat} {p n : Int} {U : Int → Nat} (e1 : h'.1 q = h.1 q) (e2 : h'.1 ar = h.1 ar) (hq : DQ h q ar p n U) : DQ h' q ar p n U := by
  obtain ⟨g, a1, a2, a3⟩ := hq
  exact ⟨g, e1.trans a1, e2.trans a2, a3⟩
theorem ZM_le (hl : h.2.1 ≤ h'.2.1) (hz : ZM E M h z) : ZM E M h' z := ⟨fun i hi => ⟨(hz.1 i hi).1, (hz.1 i hi).2.1, by have := (hz.1 i hi).2.2; omega⟩, hz.2⟩
theorem XU_fr (hl : h.2.1 ≤ h'.2.1) (he : FrA (LA E M h) h h') (e1 : h'.1 (z 1) = h.1 (z 1)) (e6 : h'.1 (z 6) = h.1 (z 6)) (x : XU E M h z w) : XU E M h' z w := by
  obtain ⟨p, U, a1, a2⟩ := x
  exact ⟨p, U, DQ_keep e1 e6 a1, fun i a b => Live_fr he hl (a2 i a b)⟩
theorem XS_fr (hl : h.2.1 ≤ h'.2.1) (he : FrA (LA E M h) h h') (e2 : h'.1 (z 2) = h.1 (z 2)) (x : XS E M h z w) : XS E M h' z w := by
  obtain ⟨g, a1, a2⟩ := x
  refine ⟨g, e2.trans a1, fun k k0 k1 => ?_⟩
  rcases a2 k k0 k1 with q | ⟨q1, a, q2, q3⟩
  · exact Or.inl q
  · exact Or.inr ⟨q1, a, q2, Live_fr he hl q3⟩
theorem XR_fr (e3 : h'.1 (z 3) = h.1 (z 3)) (x : XR h z w) : XR h' z w := by
  obtain ⟨f, a1, a2⟩ := x
  exact ⟨f, e3.trans a1, a2⟩
theorem XT_fr (e4 : h'.1 (z 4) = h.1 (z 4)) (x : XT h z w) : XT h' z w := by
  obtain ⟨f, a1, a2⟩ := x
  exact ⟨f, e4.trans a1, a2⟩
theorem XB_fr (e5 : h'.1 (z 5) = h.1 (z 5)) (e7 : h'.1 (z 7) = h.1 (z 7)) (x : XB h z w) : XB h' z w := by
  obtain ⟨f, ml, a1, a2, a3⟩ := x
  exact ⟨f, ml, e5.trans a1, e7.trans a2, a3⟩
/-- the component's world when nothing old is written but Strings -/
theorem KW_fr (hl : h.2.1 ≤ h'.2.1) (he : FrA (LA E M h) h h') (hz : ∀ i, i < 8 → h'.1 (z i) = h.1 (z i)) (x : KW E M z h w) : KW E M z h' w := by
  obtain ⟨a1, a2, ⟨a, a3, a4⟩, a5, a6, a7, a8, a9⟩ := x
  exact ⟨ZM_le hl a1, a2, ⟨a, (hz 0 (by omega)).trans a3, Live_fr he hl a4⟩, XU_fr hl he (hz 1 (by omega)) (hz 6 (by omega)) a5, XS_fr hl he (hz 2 (by omega)) a6, XR_fr (hz 3 (by omega)) a7, XT_fr (hz 4 (by omega)) a8, XB_fr (hz 5 (by omega)) (hz 7 (by omega)) a9⟩
theorem KW_old (hl : h.2.1 ≤ h'.2.1) (he : ∀ q, q < h.2.1 → h'.1 q = h.1 q) (x : KW E M z h w) : KW E M z h' w := KW_fr hl (FrA_eq (fun q hq => he q hq.2.1)) (fun i hi => he _ (x.1.1 i hi).2.2) x
/-- what the component's world asks of a twin's -/
def simC (w w' : Nat → Int → Int) : Prop := eqv (w' 0) (w 0) ∧ ∀ i : Nat, i = 2 ∨ i = 3 ∨ i = 4 ∨ i = 5 ∨ i = 6 ∨ i = 9 ∨ i = 10 ∨ i = 14 ∨ i = 15 ∨ i = 16 ∨ i = 22 ∨ i = 23 → w' i = w i
theorem simC_of (hs : simW w w') (h0 : w' 0 = w 0) : simC w w' := ⟨fun j _ _ => by rw [h0], fun i hi => hs i (by omega) (by omega) (by omega) (by omega) (by omega) (by omega)⟩
theorem KW_sim (hs : simC w w') (x : KW E M z h w) : KW E M z h w' := by
  obtain ⟨s0, s⟩ := hs
  obtain ⟨a1, a2, ⟨a, a3, a4⟩, a5, a6, a7, a8, a9⟩ := x
  unfold XO at a3
  unfold XU at a5
  unfold XS at a6
  unfold XR at a7
  unfold XT at a8
  unfold XB at a9
  unfold XW TW at a2
  unfold KW XO XU XS XR XT XB XW TW
  rw [s 2 (by omega), s 3 (by omega), s 4 (by omega), s 5 (by omega), s 6 (by omega), s 9 (by omega), s 10 (by omega), s 14 (by omega), s 15 (by omega), s 16 (by omega), s 22 (by omega), s 23 (by omega)]
  exact ⟨a1, a2, ⟨a, a3, Live_eqv s0 a4⟩, a5, a6, a7, a8, a9⟩
/-- what a call of the component answers -/
def ans (s : Int × Int) (e1 e2 : Nat) (o : mO) (h' : mH) : Prop := (s.1 = 0 ∧ o = .inl (some (.int (Int32.ofInt s.2)))) ∨ (s.1 ≠ 0 ∧ ∃ q, o = .inr q ∧ h'.1 q = some (.inr (if s.1 = 1 then e1 else e2, [])))
/-- .. and leaves -/
def FrZ (z : Nat → Nat) (h h' : mH) (dc ds : Nat) : Prop := (∀ q, q < h.2.1 → ¬ Zc z q → h'.1 q = h.1 q) ∧ (h.2.1 ≤ h'.2.1 ∧ h'.2.1 ≤ h.2.1 + dc) ∧ h'.2.2 ≤ h.2.2 + ds
def cPub (E : mE) (M : Nat → Prop) (z : Nat → Nat) (h : mH) (w' : Nat → Int → Int) (i : Nat) (as : List Value) (s : Int × Int) (e1 e2 dc ds : Nat) : Prop := ∃ (o : mO) (h' : mH), mRun E gP i (.ref (z 0) :: as) h = some (o, h') ∧ KW E M z h' w' ∧ ans s e1 e2 o h' ∧ FrZ z h h' dc ds
/-- an ask that writes nothing -/
theorem cPub_ask {i : Nat} {as : List Value} {s : Int × Int} {e1 e2 : Nat} (x : KW E M z h w) (hr : mRun E gP i (.ref (z 0) :: as) h = some (cAns h s e1 e2)) : cPub E M z h w i as s e1 e2 1 6 := by
  obtain ⟨t, v⟩ := s
  by_cases e : t = 0
  · subst e
    rw [cAns_0] at hr
    exact ⟨_, _, hr, x, Or.inl ⟨rfl, rfl⟩, fun q _ _ => rfl, ⟨Nat.le_refl _, by omega⟩, by omega⟩
  · have e2' : cAns h (t, v) e1 e2 = (.inr h.2.1, mnew h (.inr (if t = 1 then e1 else e2, [])) 6) := if_neg e
    rw [e2'] at hr
    exact ⟨_, _, hr, KW_old (Nat.le_succ _) (fun q hq => h_nn (by omega)) x, Or.inr ⟨e, _, rfl, h_ns⟩, fun q hq _ => h_nn (by omega), ⟨Nat.le_succ _, Nat.le_refl _⟩, Nat.le_refl _⟩
/-- an answer with cells made -/
theorem cPub_new {i : Nat} {as : List Value} {s : Int × Int} {e1 e2 dc ds : Nat} {o : mO} {h' : mH} (x : KW E M z h w) (hr : mRun E gP i (.ref (z 0) :: as) h = some (o, h')) (ho : ans s e1 e2 o h') (he : ∀ q, q < h.2.1 → h'.1 q = h.1 q) (h1 : h.2.1 ≤ h'.2.1 ∧ h'.2.1 ≤ h.2.1 + dc) (h2 : h'.2.2 ≤ h.2.2 + ds) : cPub E M z h w i as s e1 e2 dc ds := ⟨o, h', hr, KW_old h1.1 he x, ho, fun q hq _ => he q hq, h1, h2⟩
end WO
