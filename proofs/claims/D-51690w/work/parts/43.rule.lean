/-! MC: rewrite rules of the steps, by hand -/
set_option maxRecDepth 100000
/-! numbers -/
theorem i_add (x y : Int) : Int32.ofInt x + Int32.ofInt y = Int32.ofInt (x + y) := (Int32.ofInt_add x y).symm
theorem i_sub (x y : Int) : Int32.ofInt x - Int32.ofInt y = Int32.ofInt (x - y) := (Int32.ofInt_sub x y).symm
theorem i_mul (x y : Int) : Int32.ofInt x * Int32.ofInt y = Int32.ofInt (x * y) := (Int32.ofInt_mul x y).symm
theorem i_neg (x : Int) : -Int32.ofInt x = Int32.ofInt (-x) := (Int32.ofInt_neg x).symm
theorem i_to {x : Int} (h : -2147483648 ≤ x ∧ x < 2147483648) : (Int32.ofInt x).toInt = x := Int32.toInt_ofInt_of_le (by omega) (by omega)
theorem i_lt {x y : Int} (hx : -2147483648 ≤ x ∧ x < 2147483648) (hy : -2147483648 ≤ y ∧ y < 2147483648) : (Int32.ofInt x < Int32.ofInt y) = (x < y) := by
  rw [Int32.lt_iff_toInt_lt, i_to hx, i_to hy]
theorem i_le {x y : Int} (hx : -2147483648 ≤ x ∧ x < 2147483648) (hy : -2147483648 ≤ y ∧ y < 2147483648) : (Int32.ofInt x ≤ Int32.ofInt y) = (x ≤ y) := by
  rw [Int32.le_iff_toInt_le, i_to hx, i_to hy]
theorem i_eq {x y : Int} (hx : -2147483648 ≤ x ∧ x < 2147483648) (hy : -2147483648 ≤ y ∧ y < 2147483648) : (Int32.ofInt x = Int32.ofInt y) = (x = y) := by
  rw [← Int32.toInt_inj, i_to hx, i_to hy]
theorem i_nat (n : Nat) : Int32.ofNat n = Int32.ofInt (n : Int) := (Int32.ofInt_eq_ofNat (n := n)).symm
theorem i_clamp {x : Int} (h : 0 ≤ x ∧ x < 2147483648) : (Int32.ofInt x).toNatClampNeg = x.toNat := by
  show (Int32.ofInt x).toInt.toNat = x.toNat
  rw [i_to (by omega)]
theorem i_zero : (0 : Int32) = Int32.ofInt 0 := rfl
theorem i_one : (1 : Int32) = Int32.ofInt 1 := rfl
theorem i_div {x y : Int} (hx : 0 ≤ x ∧ x < 2147483648) (hy : 0 < y ∧ y < 2147483648) : Int32.ofInt x / Int32.ofInt y = Int32.ofInt (x / y) := by
  apply Int32.toInt_inj.mp
  have h1 : 0 ≤ x / y := Int.ediv_nonneg hx.1 (by omega)
  have h2 : x / y ≤ x := Int.ediv_le_self _ hx.1
  have hne : Int32.ofInt y ≠ -1 := by
    intro h
    have h3 := congrArg Int32.toInt h
    rw [i_to (by omega)] at h3
    have h4 : (-1 : Int32).toInt = -1 := rfl
    omega
  rw [Int32.toInt_div_of_ne_right _ _ hne, i_to (by omega), i_to (by omega), i_to (by omega), Int.tdiv_eq_ediv_of_nonneg hx.1]
theorem i_nz {y : Int} (hy : 0 < y ∧ y < 2147483648) : ¬ Int32.ofInt y = 0 := by
  rw [i_zero, i_eq (by omega) (by omega)]
  omega
theorem fin_0 : ((0 : Fin 4) : Nat) = 0 := rfl
theorem fin_1 : ((1 : Fin 4) : Nat) = 1 := rfl
theorem fin_2 : ((2 : Fin 4) : Nat) = 2 := rfl
theorem fin_3 : ((3 : Fin 4) : Nat) = 3 := rfl
section RU
variable {E : mE} {ρ : mK → Option mR} {y : Nat} {is : List mI} {ls : mL} {st r : List Value} {h : mH} {q : Nat × Nat × Nat} {a b d t k ci c : Nat} {v w u : Value}
/-! straight -/
theorem m_iconst {n} : mstep E gP (.iconst n, 0, q) st h = some (.int (Int32.ofInt n) :: st, h) := rfl
theorem m_bipush {n} (hn : -128 ≤ n ∧ n < 128) : mstep E gP (.bipush n, 0, q) st h = some (.int (Int32.ofInt n) :: st, h) := by
  show some (Value.int (Int8.ofInt n).toInt32 :: st, h) = _
  have : (Int8.ofInt n).toInt32 = Int32.ofInt n := by
    apply Int32.toInt_inj.mp
    rw [i_to (by omega), Int8.toInt_toInt32]
    exact Int8.toInt_ofInt_of_le (by omega) (by omega)
  rw [this]
theorem m_sipush {n} (hn : -32768 ≤ n ∧ n < 32768) : mstep E gP (.sipush n, 0, q) st h = some (.int (Int32.ofInt n) :: st, h) := by
  show some (Value.int (Int16.ofInt n).toInt32 :: st, h) = _
  have : (Int16.ofInt n).toInt32 = Int32.ofInt n := by
    apply Int32.toInt_inj.mp
    rw [i_to (by omega), Int16.toInt_toInt32]
    exact Int16.toInt_ofInt_of_le (by omega) (by omega)
  rw [this]
theorem m_ldci : mstep E gP (.ldc k, 0, 0, b, d) st h = some (.int (Int32.ofInt (b : Int)) :: st, h) := by
  show some (Value.int (Int32.ofNat b) :: st, h) = _
  rw [i_nat]
theorem m_ldcr : mstep E gP (.ldc k, 0, 1, b, d) st h = some (.ref (E.2 b) :: st, h) := rfl
theorem m_ldcw : mstep E gP (.ldc_w k, 0, 1, b, d) st h = some (.ref (E.2 b) :: st, h) := rfl
theorem m_null : mstep E gP (.aconst_null, 0, q) st h = some (.null :: st, h) := rfl
theorem m_gsi : mstep E gP (.getstatic k, 0, 0, b, d) st h = some (.int (Int32.ofInt (b : Int)) :: st, h) := by
  show some (Value.int (Int32.ofNat b) :: st, h) = _
  rw [i_nat]
theorem m_gsr : mstep E gP (.getstatic k, 0, 1, b, d) st h = some (.ref (E.2 b) :: st, h) := rfl
theorem m_add {x z : Int} : mstep E gP (.iadd, 0, q) (.int (Int32.ofInt z) :: .int (Int32.ofInt x) :: r) h = some (.int (Int32.ofInt (x + z)) :: r, h) := by
  rw [← i_add]; rfl
theorem m_sub {x z : Int} : mstep E gP (.isub, 0, q) (.int (Int32.ofInt z) :: .int (Int32.ofInt x) :: r) h = some (.int (Int32.ofInt (x - z)) :: r, h) := by
  rw [← i_sub]; rfl
theorem m_mul {x z : Int} : mstep E gP (.imul, 0, q) (.int (Int32.ofInt z) :: .int (Int32.ofInt x) :: r) h = some (.int (Int32.ofInt (x * z)) :: r, h) := by
  rw [← i_mul]; rfl
theorem m_neg {x : Int} : mstep E gP (.ineg, 0, q) (.int (Int32.ofInt x) :: r) h = some (.int (Int32.ofInt (-x)) :: r, h) := by
  rw [← i_neg]; rfl
theorem m_div {x z : Int} (hx : 0 ≤ x ∧ x < 2147483648) (hz : 0 < z ∧ z < 2147483648) : mstep E gP (.idiv, 0, q) (.int (Int32.ofInt z) :: .int (Int32.ofInt x) :: r) h = some (.int (Int32.ofInt (x / z)) :: r, h) := by
  simp only [mstep, s_i2, mnev, if_neg (i_nz hz), i_div hx hz]
theorem m_rem {x z : Int} (hx : 0 ≤ x ∧ x < 2147483648) (hz : 0 < z ∧ z < 2147483648) : mstep E gP (.irem, 0, q) (.int (Int32.ofInt z) :: .int (Int32.ofInt x) :: r) h = some (.int (Int32.ofInt (x % z)) :: r, h) := by
  simp only [mstep, s_i2, mnev, if_neg (i_nz hz), i_div hx hz, i_mul, i_sub]
  have : x - x / z * z = x % z := by rw [Int.mul_comm, Int.emod_def]
  rw [this]
theorem m_max {x z : Int} (hx : -2147483648 ≤ x ∧ x < 2147483648) (hz : -2147483648 ≤ z ∧ z < 2147483648) (hr : r.length ≤ 8) : mstep E gP (.invokestatic k, 0, a, b, 1) (.int (Int32.ofInt z) :: .int (Int32.ofInt x) :: r) h = some (.int (Int32.ofInt (max x z)) :: r, h) := by
  have hr' := hr
  simp only [mstep, s_mm, hr', if_true, i_lt hx hz]
  split
  · rw [Int.max_eq_right (by omega)]
  · rw [Int.max_eq_left (by omega)]
theorem m_min {x z : Int} (hx : -2147483648 ≤ x ∧ x < 2147483648) (hz : -2147483648 ≤ z ∧ z < 2147483648) (hr : r.length ≤ 8) : mstep E gP (.invokestatic k, 0, a, b, 2) (.int (Int32.ofInt z) :: .int (Int32.ofInt x) :: r) h = some (.int (Int32.ofInt (min x z)) :: r, h) := by
  have hr' := hr
  simp only [mstep, s_mm, hr', if_true, i_lt hz hx]
  split
  · rw [Int.min_eq_right (by omega)]
  · rw [Int.min_eq_left (by omega)]
theorem m_abs {x : Int} (hx : -2147483648 ≤ x ∧ x < 2147483648) (hr : r.length ≤ 8) : mstep E gP (.invokestatic k, 0, a, b, 3) (.int (Int32.ofInt x) :: r) h = some (.int (Int32.ofInt (x.natAbs : Int)) :: r, h) := by
  have hr' := hr
  simp only [mstep, s_ma, hr', if_true, i_zero, i_le (show -2147483648 ≤ (0 : Int) ∧ (0 : Int) < 2147483648 by omega) hx, i_sub]
  split
  · rw [Int.natAbs_of_nonneg (by omega)]
  · rw [Int.ofNat_natAbs_of_nonpos (by omega), Int.zero_sub]
theorem m_pop (hv : v.category = 1) : mstep E gP (.pop, 0, q) (v :: r) h = some (r, h) := if_pos hv
theorem m_dup (hv : v.category = 1) : mstep E gP (.dup, 0, q) (v :: r) h = some (v :: v :: r, h) := if_pos hv
theorem m_dupx1 (hv : v.category = 1) (hw : w.category = 1) : mstep E gP (.dup_x1, 0, q) (v :: w :: r) h = some (v :: w :: v :: r, h) := if_pos ⟨hv, hw⟩
theorem m_dupx2 (hv : v.category = 1) (hw : w.category = 1) (hu : u.category = 1) : mstep E gP (.dup_x2, 0, q) (v :: w :: u :: r) h = some (v :: w :: u :: v :: r, h) := if_pos ⟨hv, hw, hu⟩
theorem m_dup2 (hv : v.category = 1) (hw : w.category = 1) : mstep E gP (.dup2, 0, q) (v :: w :: r) h = some (v :: w :: v :: w :: r, h) := if_pos ⟨hv, hw⟩
/-! fields -/
def g_get (o : Option mC) (ci n : Nat) (r : List Value) (h : mH) : Option (List Value × mH) := match o with
  | some (.inr (c, fs)) => if c = ci then match fs[n]? with
      | some v => some (v :: r, h)
      | none => none
    else none
  | _ => none
theorem m_getf {n : Nat} : mstep E gP (.getfield k, 0, ci, n, d) (.ref a :: r) h = g_get (h.1 a) ci n r h := rfl
theorem g_gets {n : Nat} {fs : List Value} : g_get (some (.inr (c, fs))) c n r h = (match fs[n]? with
      | some v => some (v :: r, h)
      | none => none) := if_pos rfl
def g_put (E : mE) (o : Option mC) (ci n ty : Nat) (v : Value) (a : Nat) (r : List Value) (h : mH) : Option (List Value × mH) := match o with
  | some (.inr (c, fs)) => if c = ci ∧ n < fs.length ∧ E.1 ≤ a ∧ mfit ty v = true then some (r, mput h a (.inr (c, fs.set n v))) else none
  | _ => none
theorem m_putf {n ty : Nat} : mstep E gP (.putfield k, 0, ci, n, ty) (v :: .ref a :: r) h = g_put E (h.1 a) ci n ty v a r h := rfl
theorem g_puts {n ty : Nat} {fs : List Value} (hn : n < fs.length) (hE : E.1 ≤ a) (hf : mfit ty v = true) : g_put E (some (.inr (c, fs))) c n ty v a r h = some (r, mput h a (.inr (c, fs.set n v))) := if_pos ⟨rfl, hn, hE, hf⟩
/-! arrays of ints -/
def mAI (t n : Nat) (f : Int → Int) : mC := .inl (t, n, .inl (fun j => Int32.ofInt (f (j : Int))))
def up (f : Int → Int) (i : Int) (x : Int) : Int → Int := fun j => if j = i then x else f j
theorem up_s {f : Int → Int} {i : Int} {x : Int} : up f i x i = x := if_pos rfl
theorem up_n {f : Int → Int} {i j : Int} {x : Int} (hj : j ≠ i) : up f i x j = f j := if_neg hj
def g_ald (o : Option mC) (t : Nat) (i : Int32) (r : List Value) (h : mH) : Option (List Value × mH) := match o with
  | some (.inl (t', n, .inl f)) => if t' = t ∧ 0 ≤ i.toInt ∧ i.toInt < n then some (.int (f i.toNatClampNeg) :: r, h) else none
  | _ => none
theorem m_iald {i : Int32} : mstep E gP (.iaload, 0, q) (.int i :: .ref a :: r) h = g_ald (h.1 a) 0 i r h := rfl
theorem m_bald {i : Int32} : mstep E gP (.baload, 0, k, b, d) (.int i :: .ref a :: r) h = g_ald (h.1 a) k i r h := rfl
theorem g_alds {t n : Nat} {f : Int → Int} {i : Int} (hi : 0 ≤ i ∧ i < n ∧ i < 2147483648) : g_ald (some (mAI t n f)) t (Int32.ofInt i) r h = some (.int (Int32.ofInt (f i)) :: r, h) := by
  have e := i_to (x := i) (by omega)
  unfold g_ald mAI
  dsimp only
  rw [if_pos ⟨rfl, by rw [e]; omega, by rw [e]; omega⟩, i_clamp (by omega), Int.toNat_of_nonneg hi.1]
def g_ast (E : mE) (o : Option mC) (t : Nat) (nar : Int32 → Int32) (x i : Int32) (a : Nat) (r : List Value) (h : mH) : Option (List Value × mH) := match o with
  | some (.inl (t', n, .inl f)) => if t' = t ∧ 0 ≤ i.toInt ∧ i.toInt < n ∧ E.1 ≤ a then some (r, mput h a (.inl (t', n, .inl (upd f i.toNatClampNeg (nar x))))) else none
  | _ => none
theorem m_iast {i x : Int32} : mstep E gP (.iastore, 0, q) (.int x :: .int i :: .ref a :: r) h = g_ast E (h.1 a) 0 (fun v => v) x i a r h := rfl
theorem m_bast {i x : Int32} : mstep E gP (.bastore, 0, k, b, d) (.int x :: .int i :: .ref a :: r) h = g_ast E (h.1 a) k (mnar k) x i a r h := rfl
theorem g_asts {nar : Int32 → Int32} {t n : Nat} {f : Int → Int} {i x x' : Int} (hi : 0 ≤ i ∧ i < n ∧ i < 2147483648) (hE : E.1 ≤ a) (hx : nar (Int32.ofInt x) = Int32.ofInt x') : g_ast E (some (mAI t n f)) t nar (Int32.ofInt x) (Int32.ofInt i) a r h = some (r, mput h a (mAI t n (up f i x'))) := by
  have e := i_to (x := i) (by omega)
  unfold g_ast mAI
  dsimp only
  rw [if_pos ⟨rfl, by rw [e]; omega, by rw [e]; omega, hE⟩, i_clamp (by omega), hx]
  congr 7
  funext j
  simp only [upd, up]
  by_cases hj : j = i.toNat
  · rw [if_pos hj, if_pos (by omega)]
  · rw [if_neg hj, if_neg (by omega)]
theorem g_asti {t n : Nat} {f : Int → Int} {i x : Int} (hi : 0 ≤ i ∧ i < n ∧ i < 2147483648) (hE : E.1 ≤ a) : g_ast E (some (mAI t n f)) t (fun v => v) (Int32.ofInt x) (Int32.ofInt i) a r h = some (r, mput h a (mAI t n (up f i x))) := g_asts hi hE rfl
theorem g_astz {t n : Nat} {f : Int → Int} {i x : Int} (hi : 0 ≤ i ∧ i < n ∧ i < 2147483648) (hE : E.1 ≤ a) (hx : x = 0 ∨ x = 1) : g_ast E (some (mAI t n f)) t (mnar 1) (Int32.ofInt x) (Int32.ofInt i) a r h = some (r, mput h a (mAI t n (up f i x))) := g_asts hi hE (by rcases hx with rfl | rfl <;> rfl)
def g_len (o : Option mC) (r : List Value) (h : mH) : Option (List Value × mH) := match o with
  | some (.inl (_, n, _)) => some (.int (Int32.ofNat n) :: r, h)
  | _ => none
theorem m_alen : mstep E gP (.arraylength, 0, q) (.ref a :: r) h = g_len (h.1 a) r h := rfl
theorem g_lens {t n : Nat} {f : Int → Int} : g_len (some (mAI t n f)) r h = some (.int (Int32.ofInt (n : Int)) :: r, h) := by
  show some (Value.int (Int32.ofNat n) :: r, h) = _
  rw [i_nat]
theorem m_new : mstep E gP (.new k, 0, ci, b, d) st h = some (.ref h.2.1 :: st, mnew h (.inr (ci, mDf ci)) (mDf ci).length) := rfl
theorem m_newi {n : Int} {q4} (hn : 0 ≤ n ∧ n ≤ 65536) : mstep E gP (.newarray q4, 0, a, b, 0) (.int (Int32.ofInt n) :: r) h = some (.ref h.2.1 :: r, mnew h (mAI a n.toNat (fun _ => 0)) n.toNat) := by
  have e := i_to (x := n) (by omega)
  show s_newa (.int (Int32.ofInt n) :: r) h a (.inl (fun _ => 0)) = _
  unfold s_newa
  dsimp only
  rw [if_pos (by rw [e]; exact hn), i_clamp (by omega)]
  rfl
/-! heaps -/
theorem h_ps {c : mC} : (mput h a c).1 a = some c := if_pos rfl
theorem h_pn {c : mC} (hb : b ≠ a) : (mput h a c).1 b = h.1 b := if_neg hb
theorem h_ns {c : mC} : (mnew h c k).1 h.2.1 = some c := if_pos rfl
theorem h_nn {c : mC} (hb : b ≠ h.2.1) : (mnew h c k).1 b = h.1 b := if_neg hb
theorem h_p1 {c : mC} : (mput h a c).2 = h.2 := rfl
theorem h_n1 {c : mC} : (mnew h c k).2.1 = h.2.1 + 1 := rfl
theorem h_n2 {c : mC} : (mnew h c k).2.2 = h.2.2 + k := rfl
theorem h_pp {c c' : mC} : mput (mput h a c) a c' = mput h a c' := by
  unfold mput
  congr 1
  funext z
  dsimp only
  split <;> rfl
/-! jumps -/
theorem x_goto {o} : mX E gP ρ y ((.goto o, 1, t, b, d) :: is) ls st h = ρ (y, t, ls, st, h) := rfl
theorem x_if {o c'} {v : Int32} : mX E gP ρ y ((.ifCond c' o, 1, t, b, d) :: is) ls (.int v :: r) h = if mcz c' v = true then ρ (y, t, ls, r, h) else mX E gP ρ y is ls r h := by
  have e : ∀ o' : Option Nat, (match (some (r, o') : Option (List Value × Option Nat)) with
    | some (r, some t) => ρ (y, t, ls, r, h)
    | some (r, none) => mX E gP ρ y is ls r h
    | none => none) = (match o' with
    | some t => ρ (y, t, ls, r, h)
    | none => mX E gP ρ y is ls r h) := fun o' => by cases o' <;> rfl
  refine (e (if mcz c' v = true then some t else none)).trans ?_
  by_cases hc : mcz c' v = true
  · rw [if_pos hc, if_pos hc]
  · rw [if_neg hc, if_neg hc]
theorem x_icmp {o c'} {v w : Int32} : mX E gP ρ y ((.if_icmp c' o, 1, t, b, d) :: is) ls (.int w :: .int v :: r) h = if mcc c' v w = true then ρ (y, t, ls, r, h) else mX E gP ρ y is ls r h := by
  have e : ∀ o' : Option Nat, (match (some (r, o') : Option (List Value × Option Nat)) with
    | some (r, some t) => ρ (y, t, ls, r, h)
    | some (r, none) => mX E gP ρ y is ls r h
    | none => none) = (match o' with
    | some t => ρ (y, t, ls, r, h)
    | none => mX E gP ρ y is ls r h) := fun o' => by cases o' <;> rfl
  refine (e (if mcc c' v w = true then some t else none)).trans ?_
  by_cases hc : mcc c' v w = true
  · rw [if_pos hc, if_pos hc]
  · rw [if_neg hc, if_neg hc]
theorem x_nullr {o} : mX E gP ρ y ((.ifnull o, 1, t, b, d) :: is) ls (.ref a :: r) h = mX E gP ρ y is ls r h := rfl
theorem x_nulln {o} : mX E gP ρ y ((.ifnull o, 1, t, b, d) :: is) ls (.null :: r) h = ρ (y, t, ls, r, h) := rfl
theorem x_nnr {o} : mX E gP ρ y ((.ifnonnull o, 1, t, b, d) :: is) ls (.ref a :: r) h = ρ (y, t, ls, r, h) := rfl
theorem x_nnn {o} : mX E gP ρ y ((.ifnonnull o, 1, t, b, d) :: is) ls (.null :: r) h = mX E gP ρ y is ls r h := rfl
theorem x_fall {i} : mX E gP ρ y ((i, 6, t, b, d) :: is) ls st h = ρ (y, t, ls, st, h) := rfl
theorem z_eq {x : Int} (hx : -2147483648 ≤ x ∧ x < 2147483648) : (mcz .eq (Int32.ofInt x) = true) = (x = 0) := by
  simp only [mcz, decide_eq_true_eq, i_zero, i_eq hx (show -2147483648 ≤ (0 : Int) ∧ (0 : Int) < 2147483648 by omega)]
theorem z_ne {x : Int} (hx : -2147483648 ≤ x ∧ x < 2147483648) : (mcz .ne (Int32.ofInt x) = true) = ¬ (x = 0) := by
  simp only [mcz, decide_eq_true_eq, i_zero, i_eq hx (show -2147483648 ≤ (0 : Int) ∧ (0 : Int) < 2147483648 by omega)]
theorem z_lt {x : Int} (hx : -2147483648 ≤ x ∧ x < 2147483648) : (mcz .lt (Int32.ofInt x) = true) = (x < 0) := by
  simp only [mcz, decide_eq_true_eq, i_zero, i_lt hx (show -2147483648 ≤ (0 : Int) ∧ (0 : Int) < 2147483648 by omega)]
theorem z_ge {x : Int} (hx : -2147483648 ≤ x ∧ x < 2147483648) : (mcz .ge (Int32.ofInt x) = true) = (0 ≤ x) := by
  simp only [mcz, decide_eq_true_eq, i_zero, i_le (show -2147483648 ≤ (0 : Int) ∧ (0 : Int) < 2147483648 by omega) hx]
theorem z_gt {x : Int} (hx : -2147483648 ≤ x ∧ x < 2147483648) : (mcz .gt (Int32.ofInt x) = true) = (0 < x) := by
  simp only [mcz, decide_eq_true_eq, i_zero, i_lt (show -2147483648 ≤ (0 : Int) ∧ (0 : Int) < 2147483648 by omega) hx]
theorem z_le {x : Int} (hx : -2147483648 ≤ x ∧ x < 2147483648) : (mcz .le (Int32.ofInt x) = true) = (x ≤ 0) := by
  simp only [mcz, decide_eq_true_eq, i_zero, i_le hx (show -2147483648 ≤ (0 : Int) ∧ (0 : Int) < 2147483648 by omega)]
theorem c_eq {x z : Int} (hx : -2147483648 ≤ x ∧ x < 2147483648) (hz : -2147483648 ≤ z ∧ z < 2147483648) : (mcc .eq (Int32.ofInt x) (Int32.ofInt z) = true) = (x = z) := by
  simp only [mcc, decide_eq_true_eq, i_eq hx hz]
theorem c_ne {x z : Int} (hx : -2147483648 ≤ x ∧ x < 2147483648) (hz : -2147483648 ≤ z ∧ z < 2147483648) : (mcc .ne (Int32.ofInt x) (Int32.ofInt z) = true) = ¬ (x = z) := by
  simp only [mcc, decide_eq_true_eq, i_eq hx hz]
theorem c_lt {x z : Int} (hx : -2147483648 ≤ x ∧ x < 2147483648) (hz : -2147483648 ≤ z ∧ z < 2147483648) : (mcc .lt (Int32.ofInt x) (Int32.ofInt z) = true) = (x < z) := by
  simp only [mcc, decide_eq_true_eq, i_lt hx hz]
theorem c_ge {x z : Int} (hx : -2147483648 ≤ x ∧ x < 2147483648) (hz : -2147483648 ≤ z ∧ z < 2147483648) : (mcc .ge (Int32.ofInt x) (Int32.ofInt z) = true) = (z ≤ x) := by
  simp only [mcc, decide_eq_true_eq, i_le hz hx]
theorem c_gt {x z : Int} (hx : -2147483648 ≤ x ∧ x < 2147483648) (hz : -2147483648 ≤ z ∧ z < 2147483648) : (mcc .gt (Int32.ofInt x) (Int32.ofInt z) = true) = (z < x) := by
  simp only [mcc, decide_eq_true_eq, i_lt hz hx]
theorem c_le {x z : Int} (hx : -2147483648 ≤ x ∧ x < 2147483648) (hz : -2147483648 ≤ z ∧ z < 2147483648) : (mcc .le (Int32.ofInt x) (Int32.ofInt z) = true) = (x ≤ z) := by
  simp only [mcc, decide_eq_true_eq, i_le hx hz]
/-! ends -/
theorem x_ret : mX E gP ρ y ((.return_, 3, q) :: is) ls [] h = some (.inl none, h) := rfl
theorem x_iret {x : Int32} : mX E gP ρ y ((.ireturn, 3, 0, b, d) :: is) ls [.int x] h = some (.inl (some (.int x)), h) := rfl
theorem x_zret {x : Int} (hx : x = 0 ∨ x = 1) : mX E gP ρ y ((.ireturn, 3, 1, b, d) :: is) ls [.int (Int32.ofInt x)] h = some (.inl (some (.int (Int32.ofInt x))), h) := by
  rcases hx with rfl | rfl <;> rfl
theorem x_aret : mX E gP ρ y ((.areturn, 3, q) :: is) ls [.ref a] h = some (.inl (some (.ref a)), h) := rfl
theorem x_nret : mX E gP ρ y ((.areturn, 3, q) :: is) ls [.null] h = some (.inl (some .null), h) := rfl
/-! calls -/
noncomputable def x_R (E : mE) (y pc : Nat) (is : List mI) (ls : mL) (r : List Value) (o : Option mR) : Option mR := match o with
  | some (.inl v, h1) => mX E gP (mV E gP) y is ls (v.toList ++ r) h1
  | some (.inr q, h1) => match mcat mSub mNsub pc h1 q (mhnd gP y) with
    | some (some t) => mV E gP (y, t, ls, [.ref q], h1)
    | some none => some (.inr q, h1)
    | none => none
  | none => none
theorem x_Rv : x_R E y d is ls r (some (.inl (some v), h)) = mX E gP (mV E gP) y is ls (v :: r) h := rfl
theorem x_Rn : x_R E y d is ls r (some (.inl none, h)) = mX E gP (mV E gP) y is ls r h := rfl
theorem x_Rx (hh : mhnd gP y = []) : x_R E y d is ls r (some (.inr a, h)) = some (.inr a, h) := by
  unfold x_R
  dsimp only
  rw [hh]
  rfl
theorem marg_of {as r : List Value} {n : Nat} (hn : as.length = n) (hr : r.length ≤ 4) (hc : as.all (fun v => v.category == 1) = true) : marg n (as ++ r) = some (as.reverse, r) := by
  subst hn
  have hr' := hr
  unfold marg
  rw [if_pos ⟨by simp, by simp; omega, by rw [List.take_left' rfl]; exact hc⟩, List.take_left' rfl, List.drop_left' rfl]
def cat1 (v : Value) : Bool := v.category == 1
theorem cat1_i {x : Int32} : cat1 (.int x) = true := rfl
theorem cat1_r {a : Addr} : cat1 (.ref a) = true := rfl
theorem cat1_n : cat1 .null = true := rfl
theorem cat_i {x : Int32} : (Value.int x).category = 1 := rfl
theorem cat_r {a : Addr} : (Value.ref a).category = 1 := rfl
theorem cat_n : Value.null.category = 1 := rfl
theorem mf_0 {x : Int32} : mfit 0 (.int x) = true := rfl
theorem mf_4 {a : Addr} : mfit 4 (.ref a) = true := rfl
theorem mf_4n : mfit 4 .null = true := rfl
theorem mf_10 : mfit 1 (.int (Int32.ofInt 0)) = true := rfl
theorem mf_11 : mfit 1 (.int (Int32.ofInt 1)) = true := rfl
theorem mnd_0 : mnd none = true := rfl
theorem mnd_i {x : Int32} : mnd (some (.int x)) = true := rfl
theorem mnd_r {x : Addr} : mnd (some (.ref x)) = true := rfl
theorem mnd_n : mnd (some .null) = true := rfl
theorem mnd_f {x : UInt32} : mnd (some (.float x)) = true := rfl
theorem x_cs {as : List Value} {z n : Nat} (hm : marg n st = some (as, r)) : mX E gP (mV E gP) y ((.invokestatic k, 2, z, n, d) :: is) ls st h = x_R E y d is ls r (mRun E gP z as h) := by
  unfold mX mcal
  dsimp only
  rw [hm]
  rfl
def g_cls (o : Option mC) : Option Nat := match o with
  | some (.inr (c, _)) => some c
  | _ => none
theorem g_clss {fs : List Value} : g_cls (some (.inr (c, fs))) = some c := rfl
def x_W (o : Option Nat) (a : Nat) (f : Nat → Option mR) : Option mR := match o with
  | some c => match mVt a c with
    | some z => f z
    | none => none
  | none => none
theorem x_Ws {f : Nat → Option mR} (e : c = a / 1000) : x_W (some c) a f = f (a % 1000) := by
  have e' := e
  unfold x_W mVt
  dsimp only
  rw [if_pos e']
theorem x_cv {as : List Value} {n : Nat} (hm : marg (n + 1) st = some (.ref b :: as, r)) : mX E gP (mV E gP) y ((.invokevirtual k, 2, a, n, d) :: is) ls st h = x_W (g_cls (h.1 b)) a (fun z => x_R E y d is ls r (mRun E gP z (.ref b :: as) h)) := by
  unfold mX mcal
  dsimp only
  rw [hm]
  dsimp only
  unfold x_W g_cls
  have hv : mvt gP = mVt := rfl
  rw [hv]
  cases h.1 b with
  | none => rfl
  | some c =>
    rcases c with c | ⟨c, fs⟩
    · rfl
    · dsimp only
      cases mVt a c <;> rfl
theorem x_ci {as : List Value} {n cnt : Nat} (hm : marg (n + 1) st = some (.ref b :: as, r)) : mX E gP (mV E gP) y ((.invokeinterface k cnt, 2, a, n, d) :: is) ls st h = x_W (g_cls (h.1 b)) a (fun z => x_R E y d is ls r (mRun E gP z (.ref b :: as) h)) := by
  unfold mX mcal
  dsimp only
  rw [hm]
  dsimp only
  unfold x_W g_cls
  have hv : mvt gP = mVt := rfl
  rw [hv]
  cases h.1 b with
  | none => rfl
  | some c =>
    rcases c with c | ⟨c, fs⟩
    · rfl
    · dsimp only
      cases mVt a c <;> rfl
def x_K (o : Option Nat) (f : Option mR) : Option mR := match o with
  | some _ => f
  | none => none
theorem x_Ks {f : Option mR} : x_K (some c) f = f := rfl
theorem x_cp {as : List Value} {n z : Nat} (hm : marg (n + 1) st = some (.ref b :: as, r)) : mX E gP (mV E gP) y ((.invokespecial k, 2, z, n, d) :: is) ls st h = x_K (g_cls (h.1 b)) (x_R E y d is ls r (mRun E gP z (.ref b :: as) h)) := by
  unfold mX mcal
  dsimp only
  rw [hm]
  dsimp only
  unfold x_K g_cls
  cases h.1 b with
  | none => rfl
  | some c =>
    rcases c with c | ⟨c, fs⟩ <;> rfl
theorem m_oinit (hr : r.length ≤ 8) : mstep E gP (.invokespecial k, 0, q) (.ref a :: r) h = some (r, h) := if_pos hr
end RU
