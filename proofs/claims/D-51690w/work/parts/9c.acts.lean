/-! MC component 23: an act, whole -/
set_option maxRecDepth 100000
def wOf (op : Int) : List Int := if op = 4 then wPass else if op = 0 then wStep else if op = 1 then wPick else if op = 2 then wGive else wLay
theorem hs_ne {op : Int} : hashS (wOf op) ≠ 0 := by
  unfold wOf
  split
  · rw [hs_pass]; decide
  · split
    · rw [hs_step]; decide
    · split
      · rw [hs_pick]; decide
      · split
        · rw [hs_give]; decide
        · rw [hs_lay]; decide
/-- a command: its word (kd), its numbers -/
def CMD (E : mE) (h : mH) (cm kd : Nat) (op a b c : Int) : Prop := ∃ (ar vk len : Nat) (f : Int → Int) (x z : Int), h.1 cm = some (.inr (11, [.ref kd, .ref ar])) ∧ (cm < h.2.1 ∧ kd < h.2.1 ∧ ar < h.2.1 ∧ vk < h.2.1) ∧ h.1 ar = some (mAI 0 len f) ∧ strK h kd (wOf op) vk x z ∧ (x = hashS (wOf op) ∨ (x = 0 ∧ z = 0 ∧ E.1 ≤ kd ∧ E.1 ≤ vk)) ∧ (1 ≤ len ∧ len < 1000 ∧ (op ≠ 4 → 2 ≤ len) ∧ (op = 2 → 3 ≤ len)) ∧ f 0 = a ∧ (op ≠ 4 → f 1 = b) ∧ (op = 2 → f 2 = c)
theorem strK_keep {h h' : mH} {kd vk : Nat} {cs : List Int} {x z : Int} (e1 : h'.1 kd = h.1 kd) (e2 : h'.1 vk = h.1 vk) (hs : strK h kd cs vk x z) : strK h' kd cs vk x z := ⟨hs.1, hs.2.1, e1.trans hs.2.2.1, e2.trans hs.2.2.2⟩
theorem strK_inj {h : mH} {kd v v' : Nat} {cs cs' : List Int} {x z x' z' : Int} (u : strK h kd cs v x z) (u' : strK h kd cs' v' x' z') : v = v' ∧ Int32.ofInt x = Int32.ofInt x' := by
  have q := u.2.2.1.symm.trans u'.2.2.1
  simp only [Option.some.injEq, Sum.inr.injEq, Prod.mk.injEq, List.cons.injEq, Value.ref.injEq, Value.int.injEq, true_and] at q
  exact ⟨q.1, q.2.1⟩
/-- the word's hash is kept already -/
def HK (h : mH) (kd : Nat) (op : Int) : Prop := ∃ (v : Nat) (z : Int), strK h kd (wOf op) v (hashS (wOf op)) z
theorem CMD_keep {E : mE} {h h' : mH} {cm kd : Nat} {op a b c : Int} (he : ∀ q, q < h.2.1 → h'.1 q = h.1 q) (hl : h.2.1 ≤ h'.2.1) (hc : CMD E h cm kd op a b c) : CMD E h' cm kd op a b c := by
  obtain ⟨ar, vk, len, f, x, z, c1, ⟨l1, l2, l3, l4⟩, c2, c3, c4⟩ := hc
  exact ⟨ar, vk, len, f, x, z, (he _ l1).trans c1, ⟨by omega, by omega, by omega, by omega⟩, (he _ l3).trans c2, strK_keep (he _ l2) (he _ l4) c3, c4⟩
section CD
variable {E : mE} {h h0 : mH} {kd vk : Nat} {cs ds : List Int} {x z x' z' : Int}
theorem R62_any (hs : strK h kd cs vk x z) (hx : x = hashS cs ∨ (x = 0 ∧ z = 0 ∧ E.1 ≤ kd ∧ E.1 ≤ vk)) (hn : hashS cs ≠ 0) : ∃ (h0 : mH) (z' : Int), mRun E gP 62 [.ref kd] h = some (.inl (some (.int (Int32.ofInt (hashS cs)))), h0) ∧ strK h0 kd cs vk (hashS cs) z' ∧ (∀ q, q ≠ kd → h0.1 q = h.1 q) ∧ h0.2 = h.2 ∧ (x = hashS cs → h0 = h) := by
  by_cases e : x = hashS cs
  · subst e
    exact ⟨h, z, R62c hs ⟨hn, hashS_r.1, hashS_r.2⟩, hs, fun _ _ => rfl, rfl, fun _ => rfl⟩
  · obtain ⟨e1, e2, e3, e4⟩ := hx.resolve_left e
    subst e1
    subst e2
    have r := R62n (E := E) e4 e3 hs
    rw [if_neg hn] at r
    have ne : vk ≠ kd := fun y => by
      have q1 := hs.2.2.1
      have q2 := hs.2.2.2
      rw [y, q1] at q2
      cases q2
    exact ⟨_, 0, r, ⟨hs.1, hs.2.1, h_ps, (h_pn ne).trans hs.2.2.2⟩, fun q hq => h_pn hq, rfl, fun y => absurd y e⟩
theorem strC_K {a : Nat} (hc : strC h a cs) : ∃ (v : Nat) (x z : Int), strK h a cs v x z := by
  obtain ⟨c1, c2, v, x, z, c3, c4⟩ := hc
  exact ⟨v, x.toInt, z.toInt, c1, c2, by rw [c3, ← ofI x, ← ofI z], c4⟩
theorem strK_C {a v : Nat} (hc : strK h a cs v x z) : strC h a cs := ⟨hc.1, hc.2.1, v, _, _, hc.2.2.1, hc.2.2.2⟩
theorem strC_h0 (hs : strK h kd ds vk x z) (hs0 : strK h0 kd ds vk x' z') (ho : ∀ q, q ≠ kd → h0.1 q = h.1 q) {a : Nat} (hc : strC h a cs) : strC h0 a cs := by
  obtain ⟨c1, c2, v, y, u, c3, c4⟩ := hc
  have k1 := hs.2.2.1
  by_cases e : a = kd
  · subst e
    rw [k1] at c3
    have ev : vk = v := by injection c3 with q; injection q with q; injection q with _ q; injection q with q; injection q
    subst ev
    have ne : vk ≠ a := fun y => by
      rw [y, k1] at c4
      cases c4
    exact ⟨c1, c2, vk, _, _, hs0.2.2.1, (ho _ ne).trans c4⟩
  · have ne : v ≠ kd := fun y => by
      rw [y, k1] at c4
      cases c4
    exact ⟨c1, c2, v, y, u, (ho _ e).trans c3, (ho _ ne).trans c4⟩
theorem words_h0 (hs : strK h kd ds vk x z) (hs0 : strK h0 kd ds vk x' z') (ho : ∀ q, q ≠ kd → h0.1 q = h.1 q) (hw : words E h) : words E h0 := by
  obtain ⟨w1, w2, w3, w4, w5, w6, w7, w8, w9, w10, w11⟩ := hw
  exact ⟨strC_h0 hs hs0 ho w1, strC_h0 hs hs0 ho w2, strC_h0 hs hs0 ho w3, strC_h0 hs hs0 ho w4, strC_h0 hs hs0 ho w5, strC_h0 hs hs0 ho w6, strC_h0 hs hs0 ho w7, strC_h0 hs hs0 ho w8, strC_h0 hs hs0 ho w9, strC_h0 hs hs0 ho w10, strC_h0 hs hs0 ho w11⟩
end CD
section CZ
variable {E : mE} {A P : Nat → Prop} {h : mH} {N cm kd : Nat} {F : Int → Int} {s : Nat → Nat} {B W C L : Int → Nat} {op a b c : Int}
theorem cAct_via {g0 : mH} {i e1 e2 : Nat} {as : List Value} {r : Int × Int × (Int → Int)} (hA : cAct E P g0 N s B W C L i as r e1 e2) (hv : ∀ (o : mO) (h' : mH), mRun E gP i (.ref N :: as) g0 = some (o, h') → ((∃ v, o = .inl (some (.int v))) ∨ ∃ x, o = .inr x) → mRun E gP 207 [.ref N, .ref cm] h = some (o, h')) : (r.1 = 0 → ∃ h', Wr P g0 h' ∧ St h' N r.2.2 s B W C L ∧ mRun E gP 207 [.ref N, .ref cm] h = some (.inl (some (.int (Int32.ofInt r.2.1))), h')) ∧ (r.1 ≠ 0 → mRun E gP 207 [.ref N, .ref cm] h = some (.inr g0.2.1, mnew g0 (.inr (if r.1 = 1 then e1 else e2, [])) 6)) := by
  unfold cAct at hA
  by_cases e : r.1 = 0
  · rw [if_pos e] at hA
    obtain ⟨h', u1, u2, u3⟩ := hA
    exact ⟨fun _ => ⟨h', u1, u2, hv _ _ u3 (Or.inl ⟨_, rfl⟩)⟩, fun y => absurd e y⟩
  · rw [if_neg e] at hA
    rw [show cAns g0 (r.1, 0) e1 e2 = (.inr g0.2.1, mnew g0 (.inr (if r.1 = 1 then e1 else e2, [])) 6) from if_neg e] at hA
    exact ⟨fun y => absurd y e, fun _ => hv _ _ hA (Or.inr ⟨_, rfl⟩)⟩
theorem R207 (hP : ∀ q, P q → E.1 ≤ q) (hF : WF F) (ht : F 7 ≤ 9999) (hI : In A P N F s B W C L) (hS : St h N F s B W C L) (hw : words E h) (hop : 0 ≤ op ∧ op ≤ 4) (hc : CMD E h cm kd op a b c) (ha : -2147483648 ≤ a ∧ a < 2147483648) (hb : -2147483648 ≤ b ∧ b < 2147483648) (hc3 : -2147483648 ≤ c ∧ c < 2147483648) : ∃ (g0 : mH) (vk : Nat) (x z zz : Int), strK h kd (wOf op) vk x z ∧ strK g0 kd (wOf op) vk (hashS (wOf op)) zz ∧ (∀ q, q ≠ kd → g0.1 q = h.1 q) ∧ g0.2 = h.2 ∧ (HK h kd op → g0 = h) ∧ ((opP F op a b c).1 = 0 → ∃ h', Wr P g0 h' ∧ St h' N (opP F op a b c).2.2 s B W C L ∧ mRun E gP 207 [.ref N, .ref cm] h = some (.inl (some (.int (Int32.ofInt (opP F op a b c).2.1))), h')) ∧ ((opP F op a b c).1 ≠ 0 → mRun E gP 207 [.ref N, .ref cm] h = some (.inr g0.2.1, mnew g0 (.inr (if (opP F op a b c).1 = 1 then (if op = 4 then 19 else 20) else 19, [])) 6)) := by
  obtain ⟨ar, vk, len, f, x, z, c1, -, c2, c3, c4, ⟨n1, n2, n3, n4⟩, f0, f1, f2⟩ := hc
  obtain ⟨g0, zz, r62, k0, ho, ho2, hx⟩ := R62_any (E := E) c3 c4 hs_ne
  have kc := c3.2.2.1
  have hkc : g_cls (h.1 kd) = some 18 := by rw [kc]; exact g_clss
  have fr : FrA A h g0 := fun q X _ hX hne => (ho q (fun y => by
    rw [y, kc] at hX
    cases hX
    exact hne rfl)).trans hX
  have S0 := St_frA hI fr hS
  have w0 := words_h0 c3 k0 ho hw
  have ac : g_cls (g0.1 N) = some 1 := by rw [show g0.1 N = _ from S0.1]; exact g_clss
  have har : g0.1 ar = some (mAI 0 len f) := (ho _ (fun y => by
    rw [y, kc] at c2
    cases c2)).trans c2
  refine ⟨g0, vk, x, z, zz, c3, k0, ho, ho2, ?_, ?_⟩
  · rintro ⟨v2, z2, s2⟩
    apply hx
    rcases c4 with e | ⟨e, -⟩
    · exact e
    · exfalso
      have q := (strK_inj c3 s2).2
      rw [e] at q
      exact hs_ne ((i_eq (by omega) hashS_r).mp q).symm
  by_cases o4 : op = 4
  · subst o4
    rw [show wOf 4 = wPass from rfl, hs_pass] at r62
    have hA := R221 hP hF hI S0 ht ha
    rw [show opP F 4 a b c = passP F a from rfl]
    rw [← f0] at hA ⊢
    have q := cAct_via (cm := cm) (h := h) hA (fun o h' hr hr2 => R207_pass c1 har ⟨n1, n2⟩ r62 hkc ac hr hr2)
    exact q
  · have n2' := n3 o4
    have f1' := f1 o4
    by_cases o0 : op = 0
    · subst o0
      rw [show wOf 0 = wStep from rfl] at k0
      rw [show wOf 0 = wStep from rfl, hs_step] at r62
      obtain ⟨v2, x2, z2, kl⟩ := strC_K w0.1
      have hA := R208 hP hF hI S0 ha hb
      rw [show opP F 0 a b c = stepP F a b from rfl]
      rw [← f0, ← f1'] at hA ⊢
      exact cAct_via (cm := cm) (h := h) hA (fun o h' hr hr2 => R207_step c1 har ⟨n2', n2⟩ r62 hkc k0 kl ac hr hr2)
    · by_cases o1 : op = 1
      · subst o1
        rw [show wOf 1 = wPick from rfl] at k0
        rw [show wOf 1 = wPick from rfl, hs_pick] at r62
        obtain ⟨v2, x2, z2, kl⟩ := strC_K w0.2.1
        have hA := R217 hP hF hI S0 ha hb
        rw [show opP F 1 a b c = pickP F a b from rfl]
        rw [← f0, ← f1'] at hA ⊢
        exact cAct_via (cm := cm) (h := h) hA (fun o h' hr hr2 => R207_pick c1 har ⟨n2', n2⟩ r62 hkc k0 kl ac hr hr2)
      · by_cases o2 : op = 2
        · subst o2
          have f2' := f2 rfl
          rw [show wOf 2 = wGive from rfl] at k0
          rw [show wOf 2 = wGive from rfl, hs_give] at r62
          obtain ⟨v2, x2, z2, kl⟩ := strC_K w0.2.2.1
          have hA := R219 hP hF hI S0 ha hb hc3
          rw [show opP F 2 a b c = giveP F a b c from rfl]
          rw [← f0, ← f1', ← f2'] at hA ⊢
          exact cAct_via (cm := cm) (h := h) hA (fun o h' hr hr2 => R207_give c1 har ⟨n4 rfl, n2⟩ r62 hkc k0 kl ac hr hr2)
        · have o3 : op = 3 := by omega
          subst o3
          rw [show wOf 3 = wLay from rfl] at k0
          rw [show wOf 3 = wLay from rfl, hs_lay] at r62
          obtain ⟨v2, x2, z2, kl⟩ := strC_K w0.2.2.2.1
          have hA := R220 hP hF hI S0 ha hb
          rw [show opP F 3 a b c = layP F a b from rfl]
          rw [← f0, ← f1'] at hA ⊢
          exact cAct_via (cm := cm) (h := h) hA (fun o h' hr hr2 => R207_lay c1 har ⟨n2', n2⟩ r62 hkc k0 kl ac hr hr2)
end CZ
theorem opP_r {F : Int → Int} (hF : WF F) (ht : F 7 ≤ 9999) {op a b c : Int} : -10 ≤ (opP F op a b c).2.1 ∧ (opP F op a b c).2.1 ≤ 1000 := by
  have q := fun C => cmdP_r (C := C) hF ht (n := 0)
  have e : opP F op a b c = cmdP F (fun j => if j = 0 then (if op = 4 then 4 else if op = 0 then 0 else if op = 1 then 1 else if op = 2 then 2 else 3) else if j = 1 then a else if j = 2 then (if op = 2 then c else b) else b) 0 := by
    unfold opP cmdP
    simp only [Int.mul_zero, Int.zero_add, if_true, show ¬ (1 : Int) = 0 by decide, show ¬ (2 : Int) = 0 by decide, show ¬ (2 : Int) = 1 by decide, show ¬ (3 : Int) = 0 by decide, show ¬ (3 : Int) = 1 by decide, show ¬ (3 : Int) = 2 by decide, if_false]
    by_cases o4 : op = 4
    · rw [if_pos o4, if_pos (by rw [if_pos o4])]
    · by_cases o0 : op = 0
      · rw [if_neg o4, if_pos o0, if_neg o4, if_pos o0, if_neg (by decide), if_pos rfl, if_neg (by omega)]
      · by_cases o1 : op = 1
        · rw [if_neg o4, if_neg o0, if_pos o1, if_neg o4, if_neg o0, if_pos o1, if_neg (by decide), if_neg (by decide), if_pos rfl, if_neg (by omega)]
        · by_cases o2 : op = 2
          · rw [if_neg o4, if_neg o0, if_neg o1, if_pos o2, if_neg o4, if_neg o0, if_neg o1, if_pos o2, if_neg (by decide), if_neg (by decide), if_neg (by decide), if_pos rfl, if_pos o2]
          · rw [if_neg o4, if_neg o0, if_neg o1, if_neg o2, if_neg o4, if_neg o0, if_neg o1, if_neg o2, if_neg (by decide), if_neg (by decide), if_neg (by decide), if_neg (by decide), if_neg o2]
  rw [e]
  exact q _
