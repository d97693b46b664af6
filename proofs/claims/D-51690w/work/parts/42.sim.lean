/-! MC: rewrite rules of the steps (printed by gen/gensim.py) -/
set_option maxRecDepth 100000
def x_T (F : mL → List Value → mH → Option mR) (o : mT) (h : mH) : Option mR := match o with
  | some s => F s.1 s.2 h
  | none => none
def x_S (F : List Value → mH → Option mR) (o : Option (List Value × mH)) : Option mR := match o with
  | some s => F s.1 s.2
  | none => none
theorem x_Ts {F : mL → List Value → mH → Option mR} {ls : mL} {st : List Value} {h : mH} : x_T F (some (ls, st)) h = F ls st h := rfl
theorem x_Ss {F : List Value → mH → Option mR} {st : List Value} {h : mH} : x_S F (some (st, h)) = F st h := rfl
def mnd (p : Option Value) : Bool := match p with
  | some (.long _) => false
  | some (.double _) => false
  | _ => true
theorem mclr_mnd {ls : mL} {j : Nat} {p : Option Value} (hp : mnd p = true) (e : ls[j]? = some p) : mclr ls (j + 1) = ls := by
  simp only [mclr, e]
  match p, hp with
  | none, _ => rfl
  | some (.int _), _ => rfl
  | some (.ref _), _ => rfl
  | some .null, _ => rfl
  | some (.float _), _ => rfl
  | some (.retAddr _), _ => rfl
section XR
variable {E : mE} {P : mP} {ρ : mK → Option mR} {y : Nat} {is : List mI} {ls : mL} {st r : List Value} {h : mH} {q : Nat × Nat × Nat} {a b d t n k ci : Nat}
theorem x_0 {i : Instr} : mX E P ρ y ((i, 0, q) :: is) ls st h = x_S (mX E P ρ y is ls) (mstep E P (i, 0, q) st h) := by
  unfold mX x_S
  cases mstep E P (i, 0, q) st h <;> rfl
theorem x_iload_n {k9} : mX E P ρ y ((.iload_n k9, 7, q) :: is) ls st h = x_T (mX E P ρ y is) (s_ldi ls st k9) h := rfl
theorem x_iload {k9} : mX E P ρ y ((.iload k9, 7, q) :: is) ls st h = x_T (mX E P ρ y is) (s_ldi ls st k9) h := rfl
theorem x_lload_n {k9} : mX E P ρ y ((.lload_n k9, 7, q) :: is) ls st h = x_T (mX E P ρ y is) (s_ldl ls st k9) h := rfl
theorem x_lload {k9} : mX E P ρ y ((.lload k9, 7, q) :: is) ls st h = x_T (mX E P ρ y is) (s_ldl ls st k9) h := rfl
theorem x_fload_n {k9} : mX E P ρ y ((.fload_n k9, 7, q) :: is) ls st h = x_T (mX E P ρ y is) (s_ldf ls st k9) h := rfl
theorem x_fload {k9} : mX E P ρ y ((.fload k9, 7, q) :: is) ls st h = x_T (mX E P ρ y is) (s_ldf ls st k9) h := rfl
theorem x_dload_n {k9} : mX E P ρ y ((.dload_n k9, 7, q) :: is) ls st h = x_T (mX E P ρ y is) (s_ldd ls st k9) h := rfl
theorem x_dload {k9} : mX E P ρ y ((.dload k9, 7, q) :: is) ls st h = x_T (mX E P ρ y is) (s_ldd ls st k9) h := rfl
theorem x_aload_n {k9} : mX E P ρ y ((.aload_n k9, 7, q) :: is) ls st h = x_T (mX E P ρ y is) (s_lda ls st k9) h := rfl
theorem x_aload {k9} : mX E P ρ y ((.aload k9, 7, q) :: is) ls st h = x_T (mX E P ρ y is) (s_lda ls st k9) h := rfl
theorem x_istore_n {k9} : mX E P ρ y ((.istore_n k9, 7, q) :: is) ls st h = x_T (mX E P ρ y is) (s_sti ls st k9) h := rfl
theorem x_istore {k9} : mX E P ρ y ((.istore k9, 7, q) :: is) ls st h = x_T (mX E P ρ y is) (s_sti ls st k9) h := rfl
theorem x_astore_n {k9} : mX E P ρ y ((.astore_n k9, 7, q) :: is) ls st h = x_T (mX E P ρ y is) (s_sta ls st k9) h := rfl
theorem x_astore {k9} : mX E P ρ y ((.astore k9, 7, q) :: is) ls st h = x_T (mX E P ρ y is) (s_sta ls st k9) h := rfl
theorem x_fstore_n {k9} : mX E P ρ y ((.fstore_n k9, 7, q) :: is) ls st h = x_T (mX E P ρ y is) (s_stf ls st k9) h := rfl
theorem x_fstore {k9} : mX E P ρ y ((.fstore k9, 7, q) :: is) ls st h = x_T (mX E P ρ y is) (s_stf ls st k9) h := rfl
theorem x_dstore_n {k9} : mX E P ρ y ((.dstore_n k9, 7, q) :: is) ls st h = x_T (mX E P ρ y is) (s_std ls st k9) h := rfl
theorem x_dstore {k9} : mX E P ρ y ((.dstore k9, 7, q) :: is) ls st h = x_T (mX E P ρ y is) (s_std ls st k9) h := rfl
theorem x_lstore_n {k9} : mX E P ρ y ((.lstore_n k9, 7, q) :: is) ls st h = x_T (mX E P ρ y is) (s_stl ls st k9) h := rfl
theorem x_lstore {k9} : mX E P ρ y ((.lstore k9, 7, q) :: is) ls st h = x_T (mX E P ρ y is) (s_stl ls st k9) h := rfl
def s_inc (ls : mL) (st : List Value) (k : Nat) (n : Int) : mT := match mld ls k with
  | some (.int v) => if k < ls.length then some (mst1 ls k (.int (v + Int32.ofInt n)), st) else none
  | _ => none
theorem x_iinc {k9 : Nat} {n9 : Int} : mX E P ρ y ((.iinc k9 n9, 7, q) :: is) ls st h = x_T (mX E P ρ y is) (s_inc ls st k9 n9) h := rfl
theorem ldi_0 {l : mL} {x : Int32} : s_ldi (some (.int x) :: l) st 0 = some (some (.int x) :: l, .int x :: st) := rfl
theorem lda_0 {l : mL} {x : Addr} : s_lda (some (.ref x) :: l) st 0 = some (some (.ref x) :: l, .ref x :: st) := rfl
theorem ldf_0 {l : mL} {x : UInt32} : s_ldf (some (.float x) :: l) st 0 = some (some (.float x) :: l, .float x :: st) := rfl
theorem ldl_0 {l : mL} {x : Int64} : s_ldl (some (.long x) :: l) st 0 = some (some (.long x) :: l, .long x :: st) := rfl
theorem ldd_0 {l : mL} {x : UInt64} : s_ldd (some (.double x) :: l) st 0 = some (some (.double x) :: l, .double x :: st) := rfl
theorem ldn_0 {l : mL} : s_lda (some .null :: l) st 0 = some (some .null :: l, .null :: st) := rfl
theorem ldi_1 {a0 : Option Value} {l : mL} {x : Int32} : s_ldi (a0 :: some (.int x) :: l) st 1 = some (a0 :: some (.int x) :: l, .int x :: st) := rfl
theorem lda_1 {a0 : Option Value} {l : mL} {x : Addr} : s_lda (a0 :: some (.ref x) :: l) st 1 = some (a0 :: some (.ref x) :: l, .ref x :: st) := rfl
theorem ldf_1 {a0 : Option Value} {l : mL} {x : UInt32} : s_ldf (a0 :: some (.float x) :: l) st 1 = some (a0 :: some (.float x) :: l, .float x :: st) := rfl
theorem ldl_1 {a0 : Option Value} {l : mL} {x : Int64} : s_ldl (a0 :: some (.long x) :: l) st 1 = some (a0 :: some (.long x) :: l, .long x :: st) := rfl
theorem ldd_1 {a0 : Option Value} {l : mL} {x : UInt64} : s_ldd (a0 :: some (.double x) :: l) st 1 = some (a0 :: some (.double x) :: l, .double x :: st) := rfl
theorem ldn_1 {a0 : Option Value} {l : mL} : s_lda (a0 :: some .null :: l) st 1 = some (a0 :: some .null :: l, .null :: st) := rfl
theorem ldi_2 {a0 a1 : Option Value} {l : mL} {x : Int32} : s_ldi (a0 :: a1 :: some (.int x) :: l) st 2 = some (a0 :: a1 :: some (.int x) :: l, .int x :: st) := rfl
theorem lda_2 {a0 a1 : Option Value} {l : mL} {x : Addr} : s_lda (a0 :: a1 :: some (.ref x) :: l) st 2 = some (a0 :: a1 :: some (.ref x) :: l, .ref x :: st) := rfl
theorem ldf_2 {a0 a1 : Option Value} {l : mL} {x : UInt32} : s_ldf (a0 :: a1 :: some (.float x) :: l) st 2 = some (a0 :: a1 :: some (.float x) :: l, .float x :: st) := rfl
theorem ldl_2 {a0 a1 : Option Value} {l : mL} {x : Int64} : s_ldl (a0 :: a1 :: some (.long x) :: l) st 2 = some (a0 :: a1 :: some (.long x) :: l, .long x :: st) := rfl
theorem ldd_2 {a0 a1 : Option Value} {l : mL} {x : UInt64} : s_ldd (a0 :: a1 :: some (.double x) :: l) st 2 = some (a0 :: a1 :: some (.double x) :: l, .double x :: st) := rfl
theorem ldn_2 {a0 a1 : Option Value} {l : mL} : s_lda (a0 :: a1 :: some .null :: l) st 2 = some (a0 :: a1 :: some .null :: l, .null :: st) := rfl
theorem ldi_3 {a0 a1 a2 : Option Value} {l : mL} {x : Int32} : s_ldi (a0 :: a1 :: a2 :: some (.int x) :: l) st 3 = some (a0 :: a1 :: a2 :: some (.int x) :: l, .int x :: st) := rfl
theorem lda_3 {a0 a1 a2 : Option Value} {l : mL} {x : Addr} : s_lda (a0 :: a1 :: a2 :: some (.ref x) :: l) st 3 = some (a0 :: a1 :: a2 :: some (.ref x) :: l, .ref x :: st) := rfl
theorem ldf_3 {a0 a1 a2 : Option Value} {l : mL} {x : UInt32} : s_ldf (a0 :: a1 :: a2 :: some (.float x) :: l) st 3 = some (a0 :: a1 :: a2 :: some (.float x) :: l, .float x :: st) := rfl
theorem ldl_3 {a0 a1 a2 : Option Value} {l : mL} {x : Int64} : s_ldl (a0 :: a1 :: a2 :: some (.long x) :: l) st 3 = some (a0 :: a1 :: a2 :: some (.long x) :: l, .long x :: st) := rfl
theorem ldd_3 {a0 a1 a2 : Option Value} {l : mL} {x : UInt64} : s_ldd (a0 :: a1 :: a2 :: some (.double x) :: l) st 3 = some (a0 :: a1 :: a2 :: some (.double x) :: l, .double x :: st) := rfl
theorem ldn_3 {a0 a1 a2 : Option Value} {l : mL} : s_lda (a0 :: a1 :: a2 :: some .null :: l) st 3 = some (a0 :: a1 :: a2 :: some .null :: l, .null :: st) := rfl
theorem ldi_4 {a0 a1 a2 a3 : Option Value} {l : mL} {x : Int32} : s_ldi (a0 :: a1 :: a2 :: a3 :: some (.int x) :: l) st 4 = some (a0 :: a1 :: a2 :: a3 :: some (.int x) :: l, .int x :: st) := rfl
theorem lda_4 {a0 a1 a2 a3 : Option Value} {l : mL} {x : Addr} : s_lda (a0 :: a1 :: a2 :: a3 :: some (.ref x) :: l) st 4 = some (a0 :: a1 :: a2 :: a3 :: some (.ref x) :: l, .ref x :: st) := rfl
theorem ldf_4 {a0 a1 a2 a3 : Option Value} {l : mL} {x : UInt32} : s_ldf (a0 :: a1 :: a2 :: a3 :: some (.float x) :: l) st 4 = some (a0 :: a1 :: a2 :: a3 :: some (.float x) :: l, .float x :: st) := rfl
theorem ldl_4 {a0 a1 a2 a3 : Option Value} {l : mL} {x : Int64} : s_ldl (a0 :: a1 :: a2 :: a3 :: some (.long x) :: l) st 4 = some (a0 :: a1 :: a2 :: a3 :: some (.long x) :: l, .long x :: st) := rfl
theorem ldd_4 {a0 a1 a2 a3 : Option Value} {l : mL} {x : UInt64} : s_ldd (a0 :: a1 :: a2 :: a3 :: some (.double x) :: l) st 4 = some (a0 :: a1 :: a2 :: a3 :: some (.double x) :: l, .double x :: st) := rfl
theorem ldn_4 {a0 a1 a2 a3 : Option Value} {l : mL} : s_lda (a0 :: a1 :: a2 :: a3 :: some .null :: l) st 4 = some (a0 :: a1 :: a2 :: a3 :: some .null :: l, .null :: st) := rfl
theorem ldi_5 {a0 a1 a2 a3 a4 : Option Value} {l : mL} {x : Int32} : s_ldi (a0 :: a1 :: a2 :: a3 :: a4 :: some (.int x) :: l) st 5 = some (a0 :: a1 :: a2 :: a3 :: a4 :: some (.int x) :: l, .int x :: st) := rfl
theorem lda_5 {a0 a1 a2 a3 a4 : Option Value} {l : mL} {x : Addr} : s_lda (a0 :: a1 :: a2 :: a3 :: a4 :: some (.ref x) :: l) st 5 = some (a0 :: a1 :: a2 :: a3 :: a4 :: some (.ref x) :: l, .ref x :: st) := rfl
theorem ldf_5 {a0 a1 a2 a3 a4 : Option Value} {l : mL} {x : UInt32} : s_ldf (a0 :: a1 :: a2 :: a3 :: a4 :: some (.float x) :: l) st 5 = some (a0 :: a1 :: a2 :: a3 :: a4 :: some (.float x) :: l, .float x :: st) := rfl
theorem ldl_5 {a0 a1 a2 a3 a4 : Option Value} {l : mL} {x : Int64} : s_ldl (a0 :: a1 :: a2 :: a3 :: a4 :: some (.long x) :: l) st 5 = some (a0 :: a1 :: a2 :: a3 :: a4 :: some (.long x) :: l, .long x :: st) := rfl
theorem ldd_5 {a0 a1 a2 a3 a4 : Option Value} {l : mL} {x : UInt64} : s_ldd (a0 :: a1 :: a2 :: a3 :: a4 :: some (.double x) :: l) st 5 = some (a0 :: a1 :: a2 :: a3 :: a4 :: some (.double x) :: l, .double x :: st) := rfl
theorem ldn_5 {a0 a1 a2 a3 a4 : Option Value} {l : mL} : s_lda (a0 :: a1 :: a2 :: a3 :: a4 :: some .null :: l) st 5 = some (a0 :: a1 :: a2 :: a3 :: a4 :: some .null :: l, .null :: st) := rfl
theorem ldi_6 {a0 a1 a2 a3 a4 a5 : Option Value} {l : mL} {x : Int32} : s_ldi (a0 :: a1 :: a2 :: a3 :: a4 :: a5 :: some (.int x) :: l) st 6 = some (a0 :: a1 :: a2 :: a3 :: a4 :: a5 :: some (.int x) :: l, .int x :: st) := rfl
theorem lda_6 {a0 a1 a2 a3 a4 a5 : Option Value} {l : mL} {x : Addr} : s_lda (a0 :: a1 :: a2 :: a3 :: a4 :: a5 :: some (.ref x) :: l) st 6 = some (a0 :: a1 :: a2 :: a3 :: a4 :: a5 :: some (.ref x) :: l, .ref x :: st) := rfl
theorem ldf_6 {a0 a1 a2 a3 a4 a5 : Option Value} {l : mL} {x : UInt32} : s_ldf (a0 :: a1 :: a2 :: a3 :: a4 :: a5 :: some (.float x) :: l) st 6 = some (a0 :: a1 :: a2 :: a3 :: a4 :: a5 :: some (.float x) :: l, .float x :: st) := rfl
theorem ldl_6 {a0 a1 a2 a3 a4 a5 : Option Value} {l : mL} {x : Int64} : s_ldl (a0 :: a1 :: a2 :: a3 :: a4 :: a5 :: some (.long x) :: l) st 6 = some (a0 :: a1 :: a2 :: a3 :: a4 :: a5 :: some (.long x) :: l, .long x :: st) := rfl
theorem ldd_6 {a0 a1 a2 a3 a4 a5 : Option Value} {l : mL} {x : UInt64} : s_ldd (a0 :: a1 :: a2 :: a3 :: a4 :: a5 :: some (.double x) :: l) st 6 = some (a0 :: a1 :: a2 :: a3 :: a4 :: a5 :: some (.double x) :: l, .double x :: st) := rfl
theorem ldn_6 {a0 a1 a2 a3 a4 a5 : Option Value} {l : mL} : s_lda (a0 :: a1 :: a2 :: a3 :: a4 :: a5 :: some .null :: l) st 6 = some (a0 :: a1 :: a2 :: a3 :: a4 :: a5 :: some .null :: l, .null :: st) := rfl
theorem ldi_7 {a0 a1 a2 a3 a4 a5 a6 : Option Value} {l : mL} {x : Int32} : s_ldi (a0 :: a1 :: a2 :: a3 :: a4 :: a5 :: a6 :: some (.int x) :: l) st 7 = some (a0 :: a1 :: a2 :: a3 :: a4 :: a5 :: a6 :: some (.int x) :: l, .int x :: st) := rfl
theorem lda_7 {a0 a1 a2 a3 a4 a5 a6 : Option Value} {l : mL} {x : Addr} : s_lda (a0 :: a1 :: a2 :: a3 :: a4 :: a5 :: a6 :: some (.ref x) :: l) st 7 = some (a0 :: a1 :: a2 :: a3 :: a4 :: a5 :: a6 :: some (.ref x) :: l, .ref x :: st) := rfl
theorem ldf_7 {a0 a1 a2 a3 a4 a5 a6 : Option Value} {l : mL} {x : UInt32} : s_ldf (a0 :: a1 :: a2 :: a3 :: a4 :: a5 :: a6 :: some (.float x) :: l) st 7 = some (a0 :: a1 :: a2 :: a3 :: a4 :: a5 :: a6 :: some (.float x) :: l, .float x :: st) := rfl
theorem ldl_7 {a0 a1 a2 a3 a4 a5 a6 : Option Value} {l : mL} {x : Int64} : s_ldl (a0 :: a1 :: a2 :: a3 :: a4 :: a5 :: a6 :: some (.long x) :: l) st 7 = some (a0 :: a1 :: a2 :: a3 :: a4 :: a5 :: a6 :: some (.long x) :: l, .long x :: st) := rfl
theorem ldd_7 {a0 a1 a2 a3 a4 a5 a6 : Option Value} {l : mL} {x : UInt64} : s_ldd (a0 :: a1 :: a2 :: a3 :: a4 :: a5 :: a6 :: some (.double x) :: l) st 7 = some (a0 :: a1 :: a2 :: a3 :: a4 :: a5 :: a6 :: some (.double x) :: l, .double x :: st) := rfl
theorem ldn_7 {a0 a1 a2 a3 a4 a5 a6 : Option Value} {l : mL} : s_lda (a0 :: a1 :: a2 :: a3 :: a4 :: a5 :: a6 :: some .null :: l) st 7 = some (a0 :: a1 :: a2 :: a3 :: a4 :: a5 :: a6 :: some .null :: l, .null :: st) := rfl
theorem ldi_8 {a0 a1 a2 a3 a4 a5 a6 a7 : Option Value} {l : mL} {x : Int32} : s_ldi (a0 :: a1 :: a2 :: a3 :: a4 :: a5 :: a6 :: a7 :: some (.int x) :: l) st 8 = some (a0 :: a1 :: a2 :: a3 :: a4 :: a5 :: a6 :: a7 :: some (.int x) :: l, .int x :: st) := rfl
theorem lda_8 {a0 a1 a2 a3 a4 a5 a6 a7 : Option Value} {l : mL} {x : Addr} : s_lda (a0 :: a1 :: a2 :: a3 :: a4 :: a5 :: a6 :: a7 :: some (.ref x) :: l) st 8 = some (a0 :: a1 :: a2 :: a3 :: a4 :: a5 :: a6 :: a7 :: some (.ref x) :: l, .ref x :: st) := rfl
theorem ldf_8 {a0 a1 a2 a3 a4 a5 a6 a7 : Option Value} {l : mL} {x : UInt32} : s_ldf (a0 :: a1 :: a2 :: a3 :: a4 :: a5 :: a6 :: a7 :: some (.float x) :: l) st 8 = some (a0 :: a1 :: a2 :: a3 :: a4 :: a5 :: a6 :: a7 :: some (.float x) :: l, .float x :: st) := rfl
theorem ldl_8 {a0 a1 a2 a3 a4 a5 a6 a7 : Option Value} {l : mL} {x : Int64} : s_ldl (a0 :: a1 :: a2 :: a3 :: a4 :: a5 :: a6 :: a7 :: some (.long x) :: l) st 8 = some (a0 :: a1 :: a2 :: a3 :: a4 :: a5 :: a6 :: a7 :: some (.long x) :: l, .long x :: st) := rfl
theorem ldd_8 {a0 a1 a2 a3 a4 a5 a6 a7 : Option Value} {l : mL} {x : UInt64} : s_ldd (a0 :: a1 :: a2 :: a3 :: a4 :: a5 :: a6 :: a7 :: some (.double x) :: l) st 8 = some (a0 :: a1 :: a2 :: a3 :: a4 :: a5 :: a6 :: a7 :: some (.double x) :: l, .double x :: st) := rfl
theorem ldn_8 {a0 a1 a2 a3 a4 a5 a6 a7 : Option Value} {l : mL} : s_lda (a0 :: a1 :: a2 :: a3 :: a4 :: a5 :: a6 :: a7 :: some .null :: l) st 8 = some (a0 :: a1 :: a2 :: a3 :: a4 :: a5 :: a6 :: a7 :: some .null :: l, .null :: st) := rfl
theorem ldi_9 {a0 a1 a2 a3 a4 a5 a6 a7 a8 : Option Value} {l : mL} {x : Int32} : s_ldi (a0 :: a1 :: a2 :: a3 :: a4 :: a5 :: a6 :: a7 :: a8 :: some (.int x) :: l) st 9 = some (a0 :: a1 :: a2 :: a3 :: a4 :: a5 :: a6 :: a7 :: a8 :: some (.int x) :: l, .int x :: st) := rfl
theorem lda_9 {a0 a1 a2 a3 a4 a5 a6 a7 a8 : Option Value} {l : mL} {x : Addr} : s_lda (a0 :: a1 :: a2 :: a3 :: a4 :: a5 :: a6 :: a7 :: a8 :: some (.ref x) :: l) st 9 = some (a0 :: a1 :: a2 :: a3 :: a4 :: a5 :: a6 :: a7 :: a8 :: some (.ref x) :: l, .ref x :: st) := rfl
theorem ldf_9 {a0 a1 a2 a3 a4 a5 a6 a7 a8 : Option Value} {l : mL} {x : UInt32} : s_ldf (a0 :: a1 :: a2 :: a3 :: a4 :: a5 :: a6 :: a7 :: a8 :: some (.float x) :: l) st 9 = some (a0 :: a1 :: a2 :: a3 :: a4 :: a5 :: a6 :: a7 :: a8 :: some (.float x) :: l, .float x :: st) := rfl
theorem ldl_9 {a0 a1 a2 a3 a4 a5 a6 a7 a8 : Option Value} {l : mL} {x : Int64} : s_ldl (a0 :: a1 :: a2 :: a3 :: a4 :: a5 :: a6 :: a7 :: a8 :: some (.long x) :: l) st 9 = some (a0 :: a1 :: a2 :: a3 :: a4 :: a5 :: a6 :: a7 :: a8 :: some (.long x) :: l, .long x :: st) := rfl
theorem ldd_9 {a0 a1 a2 a3 a4 a5 a6 a7 a8 : Option Value} {l : mL} {x : UInt64} : s_ldd (a0 :: a1 :: a2 :: a3 :: a4 :: a5 :: a6 :: a7 :: a8 :: some (.double x) :: l) st 9 = some (a0 :: a1 :: a2 :: a3 :: a4 :: a5 :: a6 :: a7 :: a8 :: some (.double x) :: l, .double x :: st) := rfl
theorem ldn_9 {a0 a1 a2 a3 a4 a5 a6 a7 a8 : Option Value} {l : mL} : s_lda (a0 :: a1 :: a2 :: a3 :: a4 :: a5 :: a6 :: a7 :: a8 :: some .null :: l) st 9 = some (a0 :: a1 :: a2 :: a3 :: a4 :: a5 :: a6 :: a7 :: a8 :: some .null :: l, .null :: st) := rfl
theorem ldi_10 {a0 a1 a2 a3 a4 a5 a6 a7 a8 a9 : Option Value} {l : mL} {x : Int32} : s_ldi (a0 :: a1 :: a2 :: a3 :: a4 :: a5 :: a6 :: a7 :: a8 :: a9 :: some (.int x) :: l) st 10 = some (a0 :: a1 :: a2 :: a3 :: a4 :: a5 :: a6 :: a7 :: a8 :: a9 :: some (.int x) :: l, .int x :: st) := rfl
theorem lda_10 {a0 a1 a2 a3 a4 a5 a6 a7 a8 a9 : Option Value} {l : mL} {x : Addr} : s_lda (a0 :: a1 :: a2 :: a3 :: a4 :: a5 :: a6 :: a7 :: a8 :: a9 :: some (.ref x) :: l) st 10 = some (a0 :: a1 :: a2 :: a3 :: a4 :: a5 :: a6 :: a7 :: a8 :: a9 :: some (.ref x) :: l, .ref x :: st) := rfl
theorem ldf_10 {a0 a1 a2 a3 a4 a5 a6 a7 a8 a9 : Option Value} {l : mL} {x : UInt32} : s_ldf (a0 :: a1 :: a2 :: a3 :: a4 :: a5 :: a6 :: a7 :: a8 :: a9 :: some (.float x) :: l) st 10 = some (a0 :: a1 :: a2 :: a3 :: a4 :: a5 :: a6 :: a7 :: a8 :: a9 :: some (.float x) :: l, .float x :: st) := rfl
theorem ldl_10 {a0 a1 a2 a3 a4 a5 a6 a7 a8 a9 : Option Value} {l : mL} {x : Int64} : s_ldl (a0 :: a1 :: a2 :: a3 :: a4 :: a5 :: a6 :: a7 :: a8 :: a9 :: some (.long x) :: l) st 10 = some (a0 :: a1 :: a2 :: a3 :: a4 :: a5 :: a6 :: a7 :: a8 :: a9 :: some (.long x) :: l, .long x :: st) := rfl
theorem ldd_10 {a0 a1 a2 a3 a4 a5 a6 a7 a8 a9 : Option Value} {l : mL} {x : UInt64} : s_ldd (a0 :: a1 :: a2 :: a3 :: a4 :: a5 :: a6 :: a7 :: a8 :: a9 :: some (.double x) :: l) st 10 = some (a0 :: a1 :: a2 :: a3 :: a4 :: a5 :: a6 :: a7 :: a8 :: a9 :: some (.double x) :: l, .double x :: st) := rfl
theorem ldn_10 {a0 a1 a2 a3 a4 a5 a6 a7 a8 a9 : Option Value} {l : mL} : s_lda (a0 :: a1 :: a2 :: a3 :: a4 :: a5 :: a6 :: a7 :: a8 :: a9 :: some .null :: l) st 10 = some (a0 :: a1 :: a2 :: a3 :: a4 :: a5 :: a6 :: a7 :: a8 :: a9 :: some .null :: l, .null :: st) := rfl
theorem ldi_11 {a0 a1 a2 a3 a4 a5 a6 a7 a8 a9 a10 : Option Value} {l : mL} {x : Int32} : s_ldi (a0 :: a1 :: a2 :: a3 :: a4 :: a5 :: a6 :: a7 :: a8 :: a9 :: a10 :: some (.int x) :: l) st 11 = some (a0 :: a1 :: a2 :: a3 :: a4 :: a5 :: a6 :: a7 :: a8 :: a9 :: a10 :: some (.int x) :: l, .int x :: st) := rfl
theorem lda_11 {a0 a1 a2 a3 a4 a5 a6 a7 a8 a9 a10 : Option Value} {l : mL} {x : Addr} : s_lda (a0 :: a1 :: a2 :: a3 :: a4 :: a5 :: a6 :: a7 :: a8 :: a9 :: a10 :: some (.ref x) :: l) st 11 = some (a0 :: a1 :: a2 :: a3 :: a4 :: a5 :: a6 :: a7 :: a8 :: a9 :: a10 :: some (.ref x) :: l, .ref x :: st) := rfl
theorem ldf_11 {a0 a1 a2 a3 a4 a5 a6 a7 a8 a9 a10 : Option Value} {l : mL} {x : UInt32} : s_ldf (a0 :: a1 :: a2 :: a3 :: a4 :: a5 :: a6 :: a7 :: a8 :: a9 :: a10 :: some (.float x) :: l) st 11 = some (a0 :: a1 :: a2 :: a3 :: a4 :: a5 :: a6 :: a7 :: a8 :: a9 :: a10 :: some (.float x) :: l, .float x :: st) := rfl
theorem ldl_11 {a0 a1 a2 a3 a4 a5 a6 a7 a8 a9 a10 : Option Value} {l : mL} {x : Int64} : s_ldl (a0 :: a1 :: a2 :: a3 :: a4 :: a5 :: a6 :: a7 :: a8 :: a9 :: a10 :: some (.long x) :: l) st 11 = some (a0 :: a1 :: a2 :: a3 :: a4 :: a5 :: a6 :: a7 :: a8 :: a9 :: a10 :: some (.long x) :: l, .long x :: st) := rfl
theorem ldd_11 {a0 a1 a2 a3 a4 a5 a6 a7 a8 a9 a10 : Option Value} {l : mL} {x : UInt64} : s_ldd (a0 :: a1 :: a2 :: a3 :: a4 :: a5 :: a6 :: a7 :: a8 :: a9 :: a10 :: some (.double x) :: l) st 11 = some (a0 :: a1 :: a2 :: a3 :: a4 :: a5 :: a6 :: a7 :: a8 :: a9 :: a10 :: some (.double x) :: l, .double x :: st) := rfl
theorem ldn_11 {a0 a1 a2 a3 a4 a5 a6 a7 a8 a9 a10 : Option Value} {l : mL} : s_lda (a0 :: a1 :: a2 :: a3 :: a4 :: a5 :: a6 :: a7 :: a8 :: a9 :: a10 :: some .null :: l) st 11 = some (a0 :: a1 :: a2 :: a3 :: a4 :: a5 :: a6 :: a7 :: a8 :: a9 :: a10 :: some .null :: l, .null :: st) := rfl
theorem ldi_12 {a0 a1 a2 a3 a4 a5 a6 a7 a8 a9 a10 a11 : Option Value} {l : mL} {x : Int32} : s_ldi (a0 :: a1 :: a2 :: a3 :: a4 :: a5 :: a6 :: a7 :: a8 :: a9 :: a10 :: a11 :: some (.int x) :: l) st 12 = some (a0 :: a1 :: a2 :: a3 :: a4 :: a5 :: a6 :: a7 :: a8 :: a9 :: a10 :: a11 :: some (.int x) :: l, .int x :: st) := rfl
theorem lda_12 {a0 a1 a2 a3 a4 a5 a6 a7 a8 a9 a10 a11 : Option Value} {l : mL} {x : Addr} : s_lda (a0 :: a1 :: a2 :: a3 :: a4 :: a5 :: a6 :: a7 :: a8 :: a9 :: a10 :: a11 :: some (.ref x) :: l) st 12 = some (a0 :: a1 :: a2 :: a3 :: a4 :: a5 :: a6 :: a7 :: a8 :: a9 :: a10 :: a11 :: some (.ref x) :: l, .ref x :: st) := rfl
theorem ldf_12 {a0 a1 a2 a3 a4 a5 a6 a7 a8 a9 a10 a11 : Option Value} {l : mL} {x : UInt32} : s_ldf (a0 :: a1 :: a2 :: a3 :: a4 :: a5 :: a6 :: a7 :: a8 :: a9 :: a10 :: a11 :: some (.float x) :: l) st 12 = some (a0 :: a1 :: a2 :: a3 :: a4 :: a5 :: a6 :: a7 :: a8 :: a9 :: a10 :: a11 :: some (.float x) :: l, .float x :: st) := rfl
theorem ldl_12 {a0 a1 a2 a3 a4 a5 a6 a7 a8 a9 a10 a11 : Option Value} {l : mL} {x : Int64} : s_ldl (a0 :: a1 :: a2 :: a3 :: a4 :: a5 :: a6 :: a7 :: a8 :: a9 :: a10 :: a11 :: some (.long x) :: l) st 12 = some (a0 :: a1 :: a2 :: a3 :: a4 :: a5 :: a6 :: a7 :: a8 :: a9 :: a10 :: a11 :: some (.long x) :: l, .long x :: st) := rfl
theorem ldd_12 {a0 a1 a2 a3 a4 a5 a6 a7 a8 a9 a10 a11 : Option Value} {l : mL} {x : UInt64} : s_ldd (a0 :: a1 :: a2 :: a3 :: a4 :: a5 :: a6 :: a7 :: a8 :: a9 :: a10 :: a11 :: some (.double x) :: l) st 12 = some (a0 :: a1 :: a2 :: a3 :: a4 :: a5 :: a6 :: a7 :: a8 :: a9 :: a10 :: a11 :: some (.double x) :: l, .double x :: st) := rfl
theorem ldn_12 {a0 a1 a2 a3 a4 a5 a6 a7 a8 a9 a10 a11 : Option Value} {l : mL} : s_lda (a0 :: a1 :: a2 :: a3 :: a4 :: a5 :: a6 :: a7 :: a8 :: a9 :: a10 :: a11 :: some .null :: l) st 12 = some (a0 :: a1 :: a2 :: a3 :: a4 :: a5 :: a6 :: a7 :: a8 :: a9 :: a10 :: a11 :: some .null :: l, .null :: st) := rfl
theorem ldi_13 {a0 a1 a2 a3 a4 a5 a6 a7 a8 a9 a10 a11 a12 : Option Value} {l : mL} {x : Int32} : s_ldi (a0 :: a1 :: a2 :: a3 :: a4 :: a5 :: a6 :: a7 :: a8 :: a9 :: a10 :: a11 :: a12 :: some (.int x) :: l) st 13 = some (a0 :: a1 :: a2 :: a3 :: a4 :: a5 :: a6 :: a7 :: a8 :: a9 :: a10 :: a11 :: a12 :: some (.int x) :: l, .int x :: st) := rfl
theorem lda_13 {a0 a1 a2 a3 a4 a5 a6 a7 a8 a9 a10 a11 a12 : Option Value} {l : mL} {x : Addr} : s_lda (a0 :: a1 :: a2 :: a3 :: a4 :: a5 :: a6 :: a7 :: a8 :: a9 :: a10 :: a11 :: a12 :: some (.ref x) :: l) st 13 = some (a0 :: a1 :: a2 :: a3 :: a4 :: a5 :: a6 :: a7 :: a8 :: a9 :: a10 :: a11 :: a12 :: some (.ref x) :: l, .ref x :: st) := rfl
theorem ldf_13 {a0 a1 a2 a3 a4 a5 a6 a7 a8 a9 a10 a11 a12 : Option Value} {l : mL} {x : UInt32} : s_ldf (a0 :: a1 :: a2 :: a3 :: a4 :: a5 :: a6 :: a7 :: a8 :: a9 :: a10 :: a11 :: a12 :: some (.float x) :: l) st 13 = some (a0 :: a1 :: a2 :: a3 :: a4 :: a5 :: a6 :: a7 :: a8 :: a9 :: a10 :: a11 :: a12 :: some (.float x) :: l, .float x :: st) := rfl
theorem ldl_13 {a0 a1 a2 a3 a4 a5 a6 a7 a8 a9 a10 a11 a12 : Option Value} {l : mL} {x : Int64} : s_ldl (a0 :: a1 :: a2 :: a3 :: a4 :: a5 :: a6 :: a7 :: a8 :: a9 :: a10 :: a11 :: a12 :: some (.long x) :: l) st 13 = some (a0 :: a1 :: a2 :: a3 :: a4 :: a5 :: a6 :: a7 :: a8 :: a9 :: a10 :: a11 :: a12 :: some (.long x) :: l, .long x :: st) := rfl
theorem ldd_13 {a0 a1 a2 a3 a4 a5 a6 a7 a8 a9 a10 a11 a12 : Option Value} {l : mL} {x : UInt64} : s_ldd (a0 :: a1 :: a2 :: a3 :: a4 :: a5 :: a6 :: a7 :: a8 :: a9 :: a10 :: a11 :: a12 :: some (.double x) :: l) st 13 = some (a0 :: a1 :: a2 :: a3 :: a4 :: a5 :: a6 :: a7 :: a8 :: a9 :: a10 :: a11 :: a12 :: some (.double x) :: l, .double x :: st) := rfl
theorem ldn_13 {a0 a1 a2 a3 a4 a5 a6 a7 a8 a9 a10 a11 a12 : Option Value} {l : mL} : s_lda (a0 :: a1 :: a2 :: a3 :: a4 :: a5 :: a6 :: a7 :: a8 :: a9 :: a10 :: a11 :: a12 :: some .null :: l) st 13 = some (a0 :: a1 :: a2 :: a3 :: a4 :: a5 :: a6 :: a7 :: a8 :: a9 :: a10 :: a11 :: a12 :: some .null :: l, .null :: st) := rfl
theorem sti_0 {p9 : Option Value} {l : mL} {x : Int32} : s_sti (p9 :: l) (.int x :: r) 0 = some (some (.int x) :: l, r) := rfl
theorem sta_0 {p9 : Option Value} {l : mL} {x : Addr} : s_sta (p9 :: l) (.ref x :: r) 0 = some (some (.ref x) :: l, r) := rfl
theorem stf_0 {p9 : Option Value} {l : mL} {x : UInt32} : s_stf (p9 :: l) (.float x :: r) 0 = some (some (.float x) :: l, r) := rfl
theorem stn_0 {p9 : Option Value} {l : mL} : s_sta (p9 :: l) (.null :: r) 0 = some (some .null :: l, r) := rfl
theorem inc_0 {l : mL} {x n9 : Int} : s_inc (some (.int (Int32.ofInt x)) :: l) st 0 n9 = some (some (.int (Int32.ofInt (x + n9))) :: l, st) := by
  have hlt : 0 < (some (.int (Int32.ofInt x)) :: l).length := by simp
  have e : mld (some (.int (Int32.ofInt x)) :: l) 0 = some (.int (Int32.ofInt x)) := rfl
  simp only [s_inc, e]
  rw [if_pos hlt, mst1, mclr, ← Int32.ofInt_add]
  rfl
theorem sti_1 {a0 : Option Value} {p9 : Option Value} {l : mL} {x : Int32} (hp : mnd a0 = true) : s_sti (a0 :: p9 :: l) (.int x :: r) 1 = some (a0 :: some (.int x) :: l, r) := by
  have hlt : 1 < (a0 :: p9 :: l).length := by simp
  simp only [s_sti]
  rw [if_pos hlt, mst1, mclr_mnd hp rfl]
  rfl
theorem sta_1 {a0 : Option Value} {p9 : Option Value} {l : mL} {x : Addr} (hp : mnd a0 = true) : s_sta (a0 :: p9 :: l) (.ref x :: r) 1 = some (a0 :: some (.ref x) :: l, r) := by
  have hlt : 1 < (a0 :: p9 :: l).length := by simp
  simp only [s_sta]
  rw [if_pos hlt, mst1, mclr_mnd hp rfl]
  rfl
theorem stf_1 {a0 : Option Value} {p9 : Option Value} {l : mL} {x : UInt32} (hp : mnd a0 = true) : s_stf (a0 :: p9 :: l) (.float x :: r) 1 = some (a0 :: some (.float x) :: l, r) := by
  have hlt : 1 < (a0 :: p9 :: l).length := by simp
  simp only [s_stf]
  rw [if_pos hlt, mst1, mclr_mnd hp rfl]
  rfl
theorem stn_1 {a0 : Option Value} {p9 : Option Value} {l : mL} (hp : mnd a0 = true) : s_sta (a0 :: p9 :: l) (.null :: r) 1 = some (a0 :: some .null :: l, r) := by
  have hlt : 1 < (a0 :: p9 :: l).length := by simp
  simp only [s_sta]
  rw [if_pos hlt, mst1, mclr_mnd hp rfl]
  rfl
theorem inc_1 {a0 : Option Value} {l : mL} {x n9 : Int} (hp : mnd a0 = true) : s_inc (a0 :: some (.int (Int32.ofInt x)) :: l) st 1 n9 = some (a0 :: some (.int (Int32.ofInt (x + n9))) :: l, st) := by
  have hlt : 1 < (a0 :: some (.int (Int32.ofInt x)) :: l).length := by simp
  have e : mld (a0 :: some (.int (Int32.ofInt x)) :: l) 1 = some (.int (Int32.ofInt x)) := rfl
  simp only [s_inc, e]
  rw [if_pos hlt, mst1, mclr_mnd hp rfl, ← Int32.ofInt_add]
  rfl
theorem sti_2 {a0 a1 : Option Value} {p9 : Option Value} {l : mL} {x : Int32} (hp : mnd a1 = true) : s_sti (a0 :: a1 :: p9 :: l) (.int x :: r) 2 = some (a0 :: a1 :: some (.int x) :: l, r) := by
  have hlt : 2 < (a0 :: a1 :: p9 :: l).length := by simp
  simp only [s_sti]
  rw [if_pos hlt, mst1, mclr_mnd hp rfl]
  rfl
theorem sta_2 {a0 a1 : Option Value} {p9 : Option Value} {l : mL} {x : Addr} (hp : mnd a1 = true) : s_sta (a0 :: a1 :: p9 :: l) (.ref x :: r) 2 = some (a0 :: a1 :: some (.ref x) :: l, r) := by
  have hlt : 2 < (a0 :: a1 :: p9 :: l).length := by simp
  simp only [s_sta]
  rw [if_pos hlt, mst1, mclr_mnd hp rfl]
  rfl
theorem stf_2 {a0 a1 : Option Value} {p9 : Option Value} {l : mL} {x : UInt32} (hp : mnd a1 = true) : s_stf (a0 :: a1 :: p9 :: l) (.float x :: r) 2 = some (a0 :: a1 :: some (.float x) :: l, r) := by
  have hlt : 2 < (a0 :: a1 :: p9 :: l).length := by simp
  simp only [s_stf]
  rw [if_pos hlt, mst1, mclr_mnd hp rfl]
  rfl
theorem stn_2 {a0 a1 : Option Value} {p9 : Option Value} {l : mL} (hp : mnd a1 = true) : s_sta (a0 :: a1 :: p9 :: l) (.null :: r) 2 = some (a0 :: a1 :: some .null :: l, r) := by
  have hlt : 2 < (a0 :: a1 :: p9 :: l).length := by simp
  simp only [s_sta]
  rw [if_pos hlt, mst1, mclr_mnd hp rfl]
  rfl
theorem inc_2 {a0 a1 : Option Value} {l : mL} {x n9 : Int} (hp : mnd a1 = true) : s_inc (a0 :: a1 :: some (.int (Int32.ofInt x)) :: l) st 2 n9 = some (a0 :: a1 :: some (.int (Int32.ofInt (x + n9))) :: l, st) := by
  have hlt : 2 < (a0 :: a1 :: some (.int (Int32.ofInt x)) :: l).length := by simp
  have e : mld (a0 :: a1 :: some (.int (Int32.ofInt x)) :: l) 2 = some (.int (Int32.ofInt x)) := rfl
  simp only [s_inc, e]
  rw [if_pos hlt, mst1, mclr_mnd hp rfl, ← Int32.ofInt_add]
  rfl
theorem sti_3 {a0 a1 a2 : Option Value} {p9 : Option Value} {l : mL} {x : Int32} (hp : mnd a2 = true) : s_sti (a0 :: a1 :: a2 :: p9 :: l) (.int x :: r) 3 = some (a0 :: a1 :: a2 :: some (.int x) :: l, r) := by
  have hlt : 3 < (a0 :: a1 :: a2 :: p9 :: l).length := by simp
  simp only [s_sti]
  rw [if_pos hlt, mst1, mclr_mnd hp rfl]
  rfl
theorem sta_3 {a0 a1 a2 : Option Value} {p9 : Option Value} {l : mL} {x : Addr} (hp : mnd a2 = true) : s_sta (a0 :: a1 :: a2 :: p9 :: l) (.ref x :: r) 3 = some (a0 :: a1 :: a2 :: some (.ref x) :: l, r) := by
  have hlt : 3 < (a0 :: a1 :: a2 :: p9 :: l).length := by simp
  simp only [s_sta]
  rw [if_pos hlt, mst1, mclr_mnd hp rfl]
  rfl
theorem stf_3 {a0 a1 a2 : Option Value} {p9 : Option Value} {l : mL} {x : UInt32} (hp : mnd a2 = true) : s_stf (a0 :: a1 :: a2 :: p9 :: l) (.float x :: r) 3 = some (a0 :: a1 :: a2 :: some (.float x) :: l, r) := by
  have hlt : 3 < (a0 :: a1 :: a2 :: p9 :: l).length := by simp
  simp only [s_stf]
  rw [if_pos hlt, mst1, mclr_mnd hp rfl]
  rfl
theorem stn_3 {a0 a1 a2 : Option Value} {p9 : Option Value} {l : mL} (hp : mnd a2 = true) : s_sta (a0 :: a1 :: a2 :: p9 :: l) (.null :: r) 3 = some (a0 :: a1 :: a2 :: some .null :: l, r) := by
  have hlt : 3 < (a0 :: a1 :: a2 :: p9 :: l).length := by simp
  simp only [s_sta]
  rw [if_pos hlt, mst1, mclr_mnd hp rfl]
  rfl
theorem inc_3 {a0 a1 a2 : Option Value} {l : mL} {x n9 : Int} (hp : mnd a2 = true) : s_inc (a0 :: a1 :: a2 :: some (.int (Int32.ofInt x)) :: l) st 3 n9 = some (a0 :: a1 :: a2 :: some (.int (Int32.ofInt (x + n9))) :: l, st) := by
  have hlt : 3 < (a0 :: a1 :: a2 :: some (.int (Int32.ofInt x)) :: l).length := by simp
  have e : mld (a0 :: a1 :: a2 :: some (.int (Int32.ofInt x)) :: l) 3 = some (.int (Int32.ofInt x)) := rfl
  simp only [s_inc, e]
  rw [if_pos hlt, mst1, mclr_mnd hp rfl, ← Int32.ofInt_add]
  rfl
theorem sti_4 {a0 a1 a2 a3 : Option Value} {p9 : Option Value} {l : mL} {x : Int32} (hp : mnd a3 = true) : s_sti (a0 :: a1 :: a2 :: a3 :: p9 :: l) (.int x :: r) 4 = some (a0 :: a1 :: a2 :: a3 :: some (.int x) :: l, r) := by
  have hlt : 4 < (a0 :: a1 :: a2 :: a3 :: p9 :: l).length := by simp
  simp only [s_sti]
  rw [if_pos hlt, mst1, mclr_mnd hp rfl]
  rfl
theorem sta_4 {a0 a1 a2 a3 : Option Value} {p9 : Option Value} {l : mL} {x : Addr} (hp : mnd a3 = true) : s_sta (a0 :: a1 :: a2 :: a3 :: p9 :: l) (.ref x :: r) 4 = some (a0 :: a1 :: a2 :: a3 :: some (.ref x) :: l, r) := by
  have hlt : 4 < (a0 :: a1 :: a2 :: a3 :: p9 :: l).length := by simp
  simp only [s_sta]
  rw [if_pos hlt, mst1, mclr_mnd hp rfl]
  rfl
theorem stf_4 {a0 a1 a2 a3 : Option Value} {p9 : Option Value} {l : mL} {x : UInt32} (hp : mnd a3 = true) : s_stf (a0 :: a1 :: a2 :: a3 :: p9 :: l) (.float x :: r) 4 = some (a0 :: a1 :: a2 :: a3 :: some (.float x) :: l, r) := by
  have hlt : 4 < (a0 :: a1 :: a2 :: a3 :: p9 :: l).length := by simp
  simp only [s_stf]
  rw [if_pos hlt, mst1, mclr_mnd hp rfl]
  rfl
theorem stn_4 {a0 a1 a2 a3 : Option Value} {p9 : Option Value} {l : mL} (hp : mnd a3 = true) : s_sta (a0 :: a1 :: a2 :: a3 :: p9 :: l) (.null :: r) 4 = some (a0 :: a1 :: a2 :: a3 :: some .null :: l, r) := by
  have hlt : 4 < (a0 :: a1 :: a2 :: a3 :: p9 :: l).length := by simp
  simp only [s_sta]
  rw [if_pos hlt, mst1, mclr_mnd hp rfl]
  rfl
theorem inc_4 {a0 a1 a2 a3 : Option Value} {l : mL} {x n9 : Int} (hp : mnd a3 = true) : s_inc (a0 :: a1 :: a2 :: a3 :: some (.int (Int32.ofInt x)) :: l) st 4 n9 = some (a0 :: a1 :: a2 :: a3 :: some (.int (Int32.ofInt (x + n9))) :: l, st) := by
  have hlt : 4 < (a0 :: a1 :: a2 :: a3 :: some (.int (Int32.ofInt x)) :: l).length := by simp
  have e : mld (a0 :: a1 :: a2 :: a3 :: some (.int (Int32.ofInt x)) :: l) 4 = some (.int (Int32.ofInt x)) := rfl
  simp only [s_inc, e]
  rw [if_pos hlt, mst1, mclr_mnd hp rfl, ← Int32.ofInt_add]
  rfl
theorem sti_5 {a0 a1 a2 a3 a4 : Option Value} {p9 : Option Value} {l : mL} {x : Int32} (hp : mnd a4 = true) : s_sti (a0 :: a1 :: a2 :: a3 :: a4 :: p9 :: l) (.int x :: r) 5 = some (a0 :: a1 :: a2 :: a3 :: a4 :: some (.int x) :: l, r) := by
  have hlt : 5 < (a0 :: a1 :: a2 :: a3 :: a4 :: p9 :: l).length := by simp
  simp only [s_sti]
  rw [if_pos hlt, mst1, mclr_mnd hp rfl]
  rfl
theorem sta_5 {a0 a1 a2 a3 a4 : Option Value} {p9 : Option Value} {l : mL} {x : Addr} (hp : mnd a4 = true) : s_sta (a0 :: a1 :: a2 :: a3 :: a4 :: p9 :: l) (.ref x :: r) 5 = some (a0 :: a1 :: a2 :: a3 :: a4 :: some (.ref x) :: l, r) := by
  have hlt : 5 < (a0 :: a1 :: a2 :: a3 :: a4 :: p9 :: l).length := by simp
  simp only [s_sta]
  rw [if_pos hlt, mst1, mclr_mnd hp rfl]
  rfl
theorem stf_5 {a0 a1 a2 a3 a4 : Option Value} {p9 : Option Value} {l : mL} {x : UInt32} (hp : mnd a4 = true) : s_stf (a0 :: a1 :: a2 :: a3 :: a4 :: p9 :: l) (.float x :: r) 5 = some (a0 :: a1 :: a2 :: a3 :: a4 :: some (.float x) :: l, r) := by
  have hlt : 5 < (a0 :: a1 :: a2 :: a3 :: a4 :: p9 :: l).length := by simp
  simp only [s_stf]
  rw [if_pos hlt, mst1, mclr_mnd hp rfl]
  rfl
theorem stn_5 {a0 a1 a2 a3 a4 : Option Value} {p9 : Option Value} {l : mL} (hp : mnd a4 = true) : s_sta (a0 :: a1 :: a2 :: a3 :: a4 :: p9 :: l) (.null :: r) 5 = some (a0 :: a1 :: a2 :: a3 :: a4 :: some .null :: l, r) := by
  have hlt : 5 < (a0 :: a1 :: a2 :: a3 :: a4 :: p9 :: l).length := by simp
  simp only [s_sta]
  rw [if_pos hlt, mst1, mclr_mnd hp rfl]
  rfl
theorem inc_5 {a0 a1 a2 a3 a4 : Option Value} {l : mL} {x n9 : Int} (hp : mnd a4 = true) : s_inc (a0 :: a1 :: a2 :: a3 :: a4 :: some (.int (Int32.ofInt x)) :: l) st 5 n9 = some (a0 :: a1 :: a2 :: a3 :: a4 :: some (.int (Int32.ofInt (x + n9))) :: l, st) := by
  have hlt : 5 < (a0 :: a1 :: a2 :: a3 :: a4 :: some (.int (Int32.ofInt x)) :: l).length := by simp
  have e : mld (a0 :: a1 :: a2 :: a3 :: a4 :: some (.int (Int32.ofInt x)) :: l) 5 = some (.int (Int32.ofInt x)) := rfl
  simp only [s_inc, e]
  rw [if_pos hlt, mst1, mclr_mnd hp rfl, ← Int32.ofInt_add]
  rfl
theorem sti_6 {a0 a1 a2 a3 a4 a5 : Option Value} {p9 : Option Value} {l : mL} {x : Int32} (hp : mnd a5 = true) : s_sti (a0 :: a1 :: a2 :: a3 :: a4 :: a5 :: p9 :: l) (.int x :: r) 6 = some (a0 :: a1 :: a2 :: a3 :: a4 :: a5 :: some (.int x) :: l, r) := by
  have hlt : 6 < (a0 :: a1 :: a2 :: a3 :: a4 :: a5 :: p9 :: l).length := by simp
  simp only [s_sti]
  rw [if_pos hlt, mst1, mclr_mnd hp rfl]
  rfl
theorem sta_6 {a0 a1 a2 a3 a4 a5 : Option Value} {p9 : Option Value} {l : mL} {x : Addr} (hp : mnd a5 = true) : s_sta (a0 :: a1 :: a2 :: a3 :: a4 :: a5 :: p9 :: l) (.ref x :: r) 6 = some (a0 :: a1 :: a2 :: a3 :: a4 :: a5 :: some (.ref x) :: l, r) := by
  have hlt : 6 < (a0 :: a1 :: a2 :: a3 :: a4 :: a5 :: p9 :: l).length := by simp
  simp only [s_sta]
  rw [if_pos hlt, mst1, mclr_mnd hp rfl]
  rfl
theorem stf_6 {a0 a1 a2 a3 a4 a5 : Option Value} {p9 : Option Value} {l : mL} {x : UInt32} (hp : mnd a5 = true) : s_stf (a0 :: a1 :: a2 :: a3 :: a4 :: a5 :: p9 :: l) (.float x :: r) 6 = some (a0 :: a1 :: a2 :: a3 :: a4 :: a5 :: some (.float x) :: l, r) := by
  have hlt : 6 < (a0 :: a1 :: a2 :: a3 :: a4 :: a5 :: p9 :: l).length := by simp
  simp only [s_stf]
  rw [if_pos hlt, mst1, mclr_mnd hp rfl]
  rfl
theorem stn_6 {a0 a1 a2 a3 a4 a5 : Option Value} {p9 : Option Value} {l : mL} (hp : mnd a5 = true) : s_sta (a0 :: a1 :: a2 :: a3 :: a4 :: a5 :: p9 :: l) (.null :: r) 6 = some (a0 :: a1 :: a2 :: a3 :: a4 :: a5 :: some .null :: l, r) := by
  have hlt : 6 < (a0 :: a1 :: a2 :: a3 :: a4 :: a5 :: p9 :: l).length := by simp
  simp only [s_sta]
  rw [if_pos hlt, mst1, mclr_mnd hp rfl]
  rfl
theorem inc_6 {a0 a1 a2 a3 a4 a5 : Option Value} {l : mL} {x n9 : Int} (hp : mnd a5 = true) : s_inc (a0 :: a1 :: a2 :: a3 :: a4 :: a5 :: some (.int (Int32.ofInt x)) :: l) st 6 n9 = some (a0 :: a1 :: a2 :: a3 :: a4 :: a5 :: some (.int (Int32.ofInt (x + n9))) :: l, st) := by
  have hlt : 6 < (a0 :: a1 :: a2 :: a3 :: a4 :: a5 :: some (.int (Int32.ofInt x)) :: l).length := by simp
  have e : mld (a0 :: a1 :: a2 :: a3 :: a4 :: a5 :: some (.int (Int32.ofInt x)) :: l) 6 = some (.int (Int32.ofInt x)) := rfl
  simp only [s_inc, e]
  rw [if_pos hlt, mst1, mclr_mnd hp rfl, ← Int32.ofInt_add]
  rfl
theorem sti_7 {a0 a1 a2 a3 a4 a5 a6 : Option Value} {p9 : Option Value} {l : mL} {x : Int32} (hp : mnd a6 = true) : s_sti (a0 :: a1 :: a2 :: a3 :: a4 :: a5 :: a6 :: p9 :: l) (.int x :: r) 7 = some (a0 :: a1 :: a2 :: a3 :: a4 :: a5 :: a6 :: some (.int x) :: l, r) := by
  have hlt : 7 < (a0 :: a1 :: a2 :: a3 :: a4 :: a5 :: a6 :: p9 :: l).length := by simp
  simp only [s_sti]
  rw [if_pos hlt, mst1, mclr_mnd hp rfl]
  rfl
theorem sta_7 {a0 a1 a2 a3 a4 a5 a6 : Option Value} {p9 : Option Value} {l : mL} {x : Addr} (hp : mnd a6 = true) : s_sta (a0 :: a1 :: a2 :: a3 :: a4 :: a5 :: a6 :: p9 :: l) (.ref x :: r) 7 = some (a0 :: a1 :: a2 :: a3 :: a4 :: a5 :: a6 :: some (.ref x) :: l, r) := by
  have hlt : 7 < (a0 :: a1 :: a2 :: a3 :: a4 :: a5 :: a6 :: p9 :: l).length := by simp
  simp only [s_sta]
  rw [if_pos hlt, mst1, mclr_mnd hp rfl]
  rfl
theorem stf_7 {a0 a1 a2 a3 a4 a5 a6 : Option Value} {p9 : Option Value} {l : mL} {x : UInt32} (hp : mnd a6 = true) : s_stf (a0 :: a1 :: a2 :: a3 :: a4 :: a5 :: a6 :: p9 :: l) (.float x :: r) 7 = some (a0 :: a1 :: a2 :: a3 :: a4 :: a5 :: a6 :: some (.float x) :: l, r) := by
  have hlt : 7 < (a0 :: a1 :: a2 :: a3 :: a4 :: a5 :: a6 :: p9 :: l).length := by simp
  simp only [s_stf]
  rw [if_pos hlt, mst1, mclr_mnd hp rfl]
  rfl
theorem stn_7 {a0 a1 a2 a3 a4 a5 a6 : Option Value} {p9 : Option Value} {l : mL} (hp : mnd a6 = true) : s_sta (a0 :: a1 :: a2 :: a3 :: a4 :: a5 :: a6 :: p9 :: l) (.null :: r) 7 = some (a0 :: a1 :: a2 :: a3 :: a4 :: a5 :: a6 :: some .null :: l, r) := by
  have hlt : 7 < (a0 :: a1 :: a2 :: a3 :: a4 :: a5 :: a6 :: p9 :: l).length := by simp
  simp only [s_sta]
  rw [if_pos hlt, mst1, mclr_mnd hp rfl]
  rfl
theorem inc_7 {a0 a1 a2 a3 a4 a5 a6 : Option Value} {l : mL} {x n9 : Int} (hp : mnd a6 = true) : s_inc (a0 :: a1 :: a2 :: a3 :: a4 :: a5 :: a6 :: some (.int (Int32.ofInt x)) :: l) st 7 n9 = some (a0 :: a1 :: a2 :: a3 :: a4 :: a5 :: a6 :: some (.int (Int32.ofInt (x + n9))) :: l, st) := by
  have hlt : 7 < (a0 :: a1 :: a2 :: a3 :: a4 :: a5 :: a6 :: some (.int (Int32.ofInt x)) :: l).length := by simp
  have e : mld (a0 :: a1 :: a2 :: a3 :: a4 :: a5 :: a6 :: some (.int (Int32.ofInt x)) :: l) 7 = some (.int (Int32.ofInt x)) := rfl
  simp only [s_inc, e]
  rw [if_pos hlt, mst1, mclr_mnd hp rfl, ← Int32.ofInt_add]
  rfl
theorem sti_8 {a0 a1 a2 a3 a4 a5 a6 a7 : Option Value} {p9 : Option Value} {l : mL} {x : Int32} (hp : mnd a7 = true) : s_sti (a0 :: a1 :: a2 :: a3 :: a4 :: a5 :: a6 :: a7 :: p9 :: l) (.int x :: r) 8 = some (a0 :: a1 :: a2 :: a3 :: a4 :: a5 :: a6 :: a7 :: some (.int x) :: l, r) := by
  have hlt : 8 < (a0 :: a1 :: a2 :: a3 :: a4 :: a5 :: a6 :: a7 :: p9 :: l).length := by simp
  simp only [s_sti]
  rw [if_pos hlt, mst1, mclr_mnd hp rfl]
  rfl
theorem sta_8 {a0 a1 a2 a3 a4 a5 a6 a7 : Option Value} {p9 : Option Value} {l : mL} {x : Addr} (hp : mnd a7 = true) : s_sta (a0 :: a1 :: a2 :: a3 :: a4 :: a5 :: a6 :: a7 :: p9 :: l) (.ref x :: r) 8 = some (a0 :: a1 :: a2 :: a3 :: a4 :: a5 :: a6 :: a7 :: some (.ref x) :: l, r) := by
  have hlt : 8 < (a0 :: a1 :: a2 :: a3 :: a4 :: a5 :: a6 :: a7 :: p9 :: l).length := by simp
  simp only [s_sta]
  rw [if_pos hlt, mst1, mclr_mnd hp rfl]
  rfl
theorem stf_8 {a0 a1 a2 a3 a4 a5 a6 a7 : Option Value} {p9 : Option Value} {l : mL} {x : UInt32} (hp : mnd a7 = true) : s_stf (a0 :: a1 :: a2 :: a3 :: a4 :: a5 :: a6 :: a7 :: p9 :: l) (.float x :: r) 8 = some (a0 :: a1 :: a2 :: a3 :: a4 :: a5 :: a6 :: a7 :: some (.float x) :: l, r) := by
  have hlt : 8 < (a0 :: a1 :: a2 :: a3 :: a4 :: a5 :: a6 :: a7 :: p9 :: l).length := by simp
  simp only [s_stf]
  rw [if_pos hlt, mst1, mclr_mnd hp rfl]
  rfl
theorem stn_8 {a0 a1 a2 a3 a4 a5 a6 a7 : Option Value} {p9 : Option Value} {l : mL} (hp : mnd a7 = true) : s_sta (a0 :: a1 :: a2 :: a3 :: a4 :: a5 :: a6 :: a7 :: p9 :: l) (.null :: r) 8 = some (a0 :: a1 :: a2 :: a3 :: a4 :: a5 :: a6 :: a7 :: some .null :: l, r) := by
  have hlt : 8 < (a0 :: a1 :: a2 :: a3 :: a4 :: a5 :: a6 :: a7 :: p9 :: l).length := by simp
  simp only [s_sta]
  rw [if_pos hlt, mst1, mclr_mnd hp rfl]
  rfl
theorem inc_8 {a0 a1 a2 a3 a4 a5 a6 a7 : Option Value} {l : mL} {x n9 : Int} (hp : mnd a7 = true) : s_inc (a0 :: a1 :: a2 :: a3 :: a4 :: a5 :: a6 :: a7 :: some (.int (Int32.ofInt x)) :: l) st 8 n9 = some (a0 :: a1 :: a2 :: a3 :: a4 :: a5 :: a6 :: a7 :: some (.int (Int32.ofInt (x + n9))) :: l, st) := by
  have hlt : 8 < (a0 :: a1 :: a2 :: a3 :: a4 :: a5 :: a6 :: a7 :: some (.int (Int32.ofInt x)) :: l).length := by simp
  have e : mld (a0 :: a1 :: a2 :: a3 :: a4 :: a5 :: a6 :: a7 :: some (.int (Int32.ofInt x)) :: l) 8 = some (.int (Int32.ofInt x)) := rfl
  simp only [s_inc, e]
  rw [if_pos hlt, mst1, mclr_mnd hp rfl, ← Int32.ofInt_add]
  rfl
theorem sti_9 {a0 a1 a2 a3 a4 a5 a6 a7 a8 : Option Value} {p9 : Option Value} {l : mL} {x : Int32} (hp : mnd a8 = true) : s_sti (a0 :: a1 :: a2 :: a3 :: a4 :: a5 :: a6 :: a7 :: a8 :: p9 :: l) (.int x :: r) 9 = some (a0 :: a1 :: a2 :: a3 :: a4 :: a5 :: a6 :: a7 :: a8 :: some (.int x) :: l, r) := by
  have hlt : 9 < (a0 :: a1 :: a2 :: a3 :: a4 :: a5 :: a6 :: a7 :: a8 :: p9 :: l).length := by simp
  simp only [s_sti]
  rw [if_pos hlt, mst1, mclr_mnd hp rfl]
  rfl
theorem sta_9 {a0 a1 a2 a3 a4 a5 a6 a7 a8 : Option Value} {p9 : Option Value} {l : mL} {x : Addr} (hp : mnd a8 = true) : s_sta (a0 :: a1 :: a2 :: a3 :: a4 :: a5 :: a6 :: a7 :: a8 :: p9 :: l) (.ref x :: r) 9 = some (a0 :: a1 :: a2 :: a3 :: a4 :: a5 :: a6 :: a7 :: a8 :: some (.ref x) :: l, r) := by
  have hlt : 9 < (a0 :: a1 :: a2 :: a3 :: a4 :: a5 :: a6 :: a7 :: a8 :: p9 :: l).length := by simp
  simp only [s_sta]
  rw [if_pos hlt, mst1, mclr_mnd hp rfl]
  rfl
theorem stf_9 {a0 a1 a2 a3 a4 a5 a6 a7 a8 : Option Value} {p9 : Option Value} {l : mL} {x : UInt32} (hp : mnd a8 = true) : s_stf (a0 :: a1 :: a2 :: a3 :: a4 :: a5 :: a6 :: a7 :: a8 :: p9 :: l) (.float x :: r) 9 = some (a0 :: a1 :: a2 :: a3 :: a4 :: a5 :: a6 :: a7 :: a8 :: some (.float x) :: l, r) := by
  have hlt : 9 < (a0 :: a1 :: a2 :: a3 :: a4 :: a5 :: a6 :: a7 :: a8 :: p9 :: l).length := by simp
  simp only [s_stf]
  rw [if_pos hlt, mst1, mclr_mnd hp rfl]
  rfl
theorem stn_9 {a0 a1 a2 a3 a4 a5 a6 a7 a8 : Option Value} {p9 : Option Value} {l : mL} (hp : mnd a8 = true) : s_sta (a0 :: a1 :: a2 :: a3 :: a4 :: a5 :: a6 :: a7 :: a8 :: p9 :: l) (.null :: r) 9 = some (a0 :: a1 :: a2 :: a3 :: a4 :: a5 :: a6 :: a7 :: a8 :: some .null :: l, r) := by
  have hlt : 9 < (a0 :: a1 :: a2 :: a3 :: a4 :: a5 :: a6 :: a7 :: a8 :: p9 :: l).length := by simp
  simp only [s_sta]
  rw [if_pos hlt, mst1, mclr_mnd hp rfl]
  rfl
theorem inc_9 {a0 a1 a2 a3 a4 a5 a6 a7 a8 : Option Value} {l : mL} {x n9 : Int} (hp : mnd a8 = true) : s_inc (a0 :: a1 :: a2 :: a3 :: a4 :: a5 :: a6 :: a7 :: a8 :: some (.int (Int32.ofInt x)) :: l) st 9 n9 = some (a0 :: a1 :: a2 :: a3 :: a4 :: a5 :: a6 :: a7 :: a8 :: some (.int (Int32.ofInt (x + n9))) :: l, st) := by
  have hlt : 9 < (a0 :: a1 :: a2 :: a3 :: a4 :: a5 :: a6 :: a7 :: a8 :: some (.int (Int32.ofInt x)) :: l).length := by simp
  have e : mld (a0 :: a1 :: a2 :: a3 :: a4 :: a5 :: a6 :: a7 :: a8 :: some (.int (Int32.ofInt x)) :: l) 9 = some (.int (Int32.ofInt x)) := rfl
  simp only [s_inc, e]
  rw [if_pos hlt, mst1, mclr_mnd hp rfl, ← Int32.ofInt_add]
  rfl
theorem sti_10 {a0 a1 a2 a3 a4 a5 a6 a7 a8 a9 : Option Value} {p9 : Option Value} {l : mL} {x : Int32} (hp : mnd a9 = true) : s_sti (a0 :: a1 :: a2 :: a3 :: a4 :: a5 :: a6 :: a7 :: a8 :: a9 :: p9 :: l) (.int x :: r) 10 = some (a0 :: a1 :: a2 :: a3 :: a4 :: a5 :: a6 :: a7 :: a8 :: a9 :: some (.int x) :: l, r) := by
  have hlt : 10 < (a0 :: a1 :: a2 :: a3 :: a4 :: a5 :: a6 :: a7 :: a8 :: a9 :: p9 :: l).length := by simp
  simp only [s_sti]
  rw [if_pos hlt, mst1, mclr_mnd hp rfl]
  rfl
theorem sta_10 {a0 a1 a2 a3 a4 a5 a6 a7 a8 a9 : Option Value} {p9 : Option Value} {l : mL} {x : Addr} (hp : mnd a9 = true) : s_sta (a0 :: a1 :: a2 :: a3 :: a4 :: a5 :: a6 :: a7 :: a8 :: a9 :: p9 :: l) (.ref x :: r) 10 = some (a0 :: a1 :: a2 :: a3 :: a4 :: a5 :: a6 :: a7 :: a8 :: a9 :: some (.ref x) :: l, r) := by
  have hlt : 10 < (a0 :: a1 :: a2 :: a3 :: a4 :: a5 :: a6 :: a7 :: a8 :: a9 :: p9 :: l).length := by simp
  simp only [s_sta]
  rw [if_pos hlt, mst1, mclr_mnd hp rfl]
  rfl
theorem stf_10 {a0 a1 a2 a3 a4 a5 a6 a7 a8 a9 : Option Value} {p9 : Option Value} {l : mL} {x : UInt32} (hp : mnd a9 = true) : s_stf (a0 :: a1 :: a2 :: a3 :: a4 :: a5 :: a6 :: a7 :: a8 :: a9 :: p9 :: l) (.float x :: r) 10 = some (a0 :: a1 :: a2 :: a3 :: a4 :: a5 :: a6 :: a7 :: a8 :: a9 :: some (.float x) :: l, r) := by
  have hlt : 10 < (a0 :: a1 :: a2 :: a3 :: a4 :: a5 :: a6 :: a7 :: a8 :: a9 :: p9 :: l).length := by simp
  simp only [s_stf]
  rw [if_pos hlt, mst1, mclr_mnd hp rfl]
  rfl
theorem stn_10 {a0 a1 a2 a3 a4 a5 a6 a7 a8 a9 : Option Value} {p9 : Option Value} {l : mL} (hp : mnd a9 = true) : s_sta (a0 :: a1 :: a2 :: a3 :: a4 :: a5 :: a6 :: a7 :: a8 :: a9 :: p9 :: l) (.null :: r) 10 = some (a0 :: a1 :: a2 :: a3 :: a4 :: a5 :: a6 :: a7 :: a8 :: a9 :: some .null :: l, r) := by
  have hlt : 10 < (a0 :: a1 :: a2 :: a3 :: a4 :: a5 :: a6 :: a7 :: a8 :: a9 :: p9 :: l).length := by simp
  simp only [s_sta]
  rw [if_pos hlt, mst1, mclr_mnd hp rfl]
  rfl
theorem inc_10 {a0 a1 a2 a3 a4 a5 a6 a7 a8 a9 : Option Value} {l : mL} {x n9 : Int} (hp : mnd a9 = true) : s_inc (a0 :: a1 :: a2 :: a3 :: a4 :: a5 :: a6 :: a7 :: a8 :: a9 :: some (.int (Int32.ofInt x)) :: l) st 10 n9 = some (a0 :: a1 :: a2 :: a3 :: a4 :: a5 :: a6 :: a7 :: a8 :: a9 :: some (.int (Int32.ofInt (x + n9))) :: l, st) := by
  have hlt : 10 < (a0 :: a1 :: a2 :: a3 :: a4 :: a5 :: a6 :: a7 :: a8 :: a9 :: some (.int (Int32.ofInt x)) :: l).length := by simp
  have e : mld (a0 :: a1 :: a2 :: a3 :: a4 :: a5 :: a6 :: a7 :: a8 :: a9 :: some (.int (Int32.ofInt x)) :: l) 10 = some (.int (Int32.ofInt x)) := rfl
  simp only [s_inc, e]
  rw [if_pos hlt, mst1, mclr_mnd hp rfl, ← Int32.ofInt_add]
  rfl
theorem sti_11 {a0 a1 a2 a3 a4 a5 a6 a7 a8 a9 a10 : Option Value} {p9 : Option Value} {l : mL} {x : Int32} (hp : mnd a10 = true) : s_sti (a0 :: a1 :: a2 :: a3 :: a4 :: a5 :: a6 :: a7 :: a8 :: a9 :: a10 :: p9 :: l) (.int x :: r) 11 = some (a0 :: a1 :: a2 :: a3 :: a4 :: a5 :: a6 :: a7 :: a8 :: a9 :: a10 :: some (.int x) :: l, r) := by
  have hlt : 11 < (a0 :: a1 :: a2 :: a3 :: a4 :: a5 :: a6 :: a7 :: a8 :: a9 :: a10 :: p9 :: l).length := by simp
  simp only [s_sti]
  rw [if_pos hlt, mst1, mclr_mnd hp rfl]
  rfl
theorem sta_11 {a0 a1 a2 a3 a4 a5 a6 a7 a8 a9 a10 : Option Value} {p9 : Option Value} {l : mL} {x : Addr} (hp : mnd a10 = true) : s_sta (a0 :: a1 :: a2 :: a3 :: a4 :: a5 :: a6 :: a7 :: a8 :: a9 :: a10 :: p9 :: l) (.ref x :: r) 11 = some (a0 :: a1 :: a2 :: a3 :: a4 :: a5 :: a6 :: a7 :: a8 :: a9 :: a10 :: some (.ref x) :: l, r) := by
  have hlt : 11 < (a0 :: a1 :: a2 :: a3 :: a4 :: a5 :: a6 :: a7 :: a8 :: a9 :: a10 :: p9 :: l).length := by simp
  simp only [s_sta]
  rw [if_pos hlt, mst1, mclr_mnd hp rfl]
  rfl
theorem stf_11 {a0 a1 a2 a3 a4 a5 a6 a7 a8 a9 a10 : Option Value} {p9 : Option Value} {l : mL} {x : UInt32} (hp : mnd a10 = true) : s_stf (a0 :: a1 :: a2 :: a3 :: a4 :: a5 :: a6 :: a7 :: a8 :: a9 :: a10 :: p9 :: l) (.float x :: r) 11 = some (a0 :: a1 :: a2 :: a3 :: a4 :: a5 :: a6 :: a7 :: a8 :: a9 :: a10 :: some (.float x) :: l, r) := by
  have hlt : 11 < (a0 :: a1 :: a2 :: a3 :: a4 :: a5 :: a6 :: a7 :: a8 :: a9 :: a10 :: p9 :: l).length := by simp
  simp only [s_stf]
  rw [if_pos hlt, mst1, mclr_mnd hp rfl]
  rfl
theorem stn_11 {a0 a1 a2 a3 a4 a5 a6 a7 a8 a9 a10 : Option Value} {p9 : Option Value} {l : mL} (hp : mnd a10 = true) : s_sta (a0 :: a1 :: a2 :: a3 :: a4 :: a5 :: a6 :: a7 :: a8 :: a9 :: a10 :: p9 :: l) (.null :: r) 11 = some (a0 :: a1 :: a2 :: a3 :: a4 :: a5 :: a6 :: a7 :: a8 :: a9 :: a10 :: some .null :: l, r) := by
  have hlt : 11 < (a0 :: a1 :: a2 :: a3 :: a4 :: a5 :: a6 :: a7 :: a8 :: a9 :: a10 :: p9 :: l).length := by simp
  simp only [s_sta]
  rw [if_pos hlt, mst1, mclr_mnd hp rfl]
  rfl
theorem inc_11 {a0 a1 a2 a3 a4 a5 a6 a7 a8 a9 a10 : Option Value} {l : mL} {x n9 : Int} (hp : mnd a10 = true) : s_inc (a0 :: a1 :: a2 :: a3 :: a4 :: a5 :: a6 :: a7 :: a8 :: a9 :: a10 :: some (.int (Int32.ofInt x)) :: l) st 11 n9 = some (a0 :: a1 :: a2 :: a3 :: a4 :: a5 :: a6 :: a7 :: a8 :: a9 :: a10 :: some (.int (Int32.ofInt (x + n9))) :: l, st) := by
  have hlt : 11 < (a0 :: a1 :: a2 :: a3 :: a4 :: a5 :: a6 :: a7 :: a8 :: a9 :: a10 :: some (.int (Int32.ofInt x)) :: l).length := by simp
  have e : mld (a0 :: a1 :: a2 :: a3 :: a4 :: a5 :: a6 :: a7 :: a8 :: a9 :: a10 :: some (.int (Int32.ofInt x)) :: l) 11 = some (.int (Int32.ofInt x)) := rfl
  simp only [s_inc, e]
  rw [if_pos hlt, mst1, mclr_mnd hp rfl, ← Int32.ofInt_add]
  rfl
theorem sti_12 {a0 a1 a2 a3 a4 a5 a6 a7 a8 a9 a10 a11 : Option Value} {p9 : Option Value} {l : mL} {x : Int32} (hp : mnd a11 = true) : s_sti (a0 :: a1 :: a2 :: a3 :: a4 :: a5 :: a6 :: a7 :: a8 :: a9 :: a10 :: a11 :: p9 :: l) (.int x :: r) 12 = some (a0 :: a1 :: a2 :: a3 :: a4 :: a5 :: a6 :: a7 :: a8 :: a9 :: a10 :: a11 :: some (.int x) :: l, r) := by
  have hlt : 12 < (a0 :: a1 :: a2 :: a3 :: a4 :: a5 :: a6 :: a7 :: a8 :: a9 :: a10 :: a11 :: p9 :: l).length := by simp
  simp only [s_sti]
  rw [if_pos hlt, mst1, mclr_mnd hp rfl]
  rfl
theorem sta_12 {a0 a1 a2 a3 a4 a5 a6 a7 a8 a9 a10 a11 : Option Value} {p9 : Option Value} {l : mL} {x : Addr} (hp : mnd a11 = true) : s_sta (a0 :: a1 :: a2 :: a3 :: a4 :: a5 :: a6 :: a7 :: a8 :: a9 :: a10 :: a11 :: p9 :: l) (.ref x :: r) 12 = some (a0 :: a1 :: a2 :: a3 :: a4 :: a5 :: a6 :: a7 :: a8 :: a9 :: a10 :: a11 :: some (.ref x) :: l, r) := by
  have hlt : 12 < (a0 :: a1 :: a2 :: a3 :: a4 :: a5 :: a6 :: a7 :: a8 :: a9 :: a10 :: a11 :: p9 :: l).length := by simp
  simp only [s_sta]
  rw [if_pos hlt, mst1, mclr_mnd hp rfl]
  rfl
theorem stf_12 {a0 a1 a2 a3 a4 a5 a6 a7 a8 a9 a10 a11 : Option Value} {p9 : Option Value} {l : mL} {x : UInt32} (hp : mnd a11 = true) : s_stf (a0 :: a1 :: a2 :: a3 :: a4 :: a5 :: a6 :: a7 :: a8 :: a9 :: a10 :: a11 :: p9 :: l) (.float x :: r) 12 = some (a0 :: a1 :: a2 :: a3 :: a4 :: a5 :: a6 :: a7 :: a8 :: a9 :: a10 :: a11 :: some (.float x) :: l, r) := by
  have hlt : 12 < (a0 :: a1 :: a2 :: a3 :: a4 :: a5 :: a6 :: a7 :: a8 :: a9 :: a10 :: a11 :: p9 :: l).length := by simp
  simp only [s_stf]
  rw [if_pos hlt, mst1, mclr_mnd hp rfl]
  rfl
theorem stn_12 {a0 a1 a2 a3 a4 a5 a6 a7 a8 a9 a10 a11 : Option Value} {p9 : Option Value} {l : mL} (hp : mnd a11 = true) : s_sta (a0 :: a1 :: a2 :: a3 :: a4 :: a5 :: a6 :: a7 :: a8 :: a9 :: a10 :: a11 :: p9 :: l) (.null :: r) 12 = some (a0 :: a1 :: a2 :: a3 :: a4 :: a5 :: a6 :: a7 :: a8 :: a9 :: a10 :: a11 :: some .null :: l, r) := by
  have hlt : 12 < (a0 :: a1 :: a2 :: a3 :: a4 :: a5 :: a6 :: a7 :: a8 :: a9 :: a10 :: a11 :: p9 :: l).length := by simp
  simp only [s_sta]
  rw [if_pos hlt, mst1, mclr_mnd hp rfl]
  rfl
theorem inc_12 {a0 a1 a2 a3 a4 a5 a6 a7 a8 a9 a10 a11 : Option Value} {l : mL} {x n9 : Int} (hp : mnd a11 = true) : s_inc (a0 :: a1 :: a2 :: a3 :: a4 :: a5 :: a6 :: a7 :: a8 :: a9 :: a10 :: a11 :: some (.int (Int32.ofInt x)) :: l) st 12 n9 = some (a0 :: a1 :: a2 :: a3 :: a4 :: a5 :: a6 :: a7 :: a8 :: a9 :: a10 :: a11 :: some (.int (Int32.ofInt (x + n9))) :: l, st) := by
  have hlt : 12 < (a0 :: a1 :: a2 :: a3 :: a4 :: a5 :: a6 :: a7 :: a8 :: a9 :: a10 :: a11 :: some (.int (Int32.ofInt x)) :: l).length := by simp
  have e : mld (a0 :: a1 :: a2 :: a3 :: a4 :: a5 :: a6 :: a7 :: a8 :: a9 :: a10 :: a11 :: some (.int (Int32.ofInt x)) :: l) 12 = some (.int (Int32.ofInt x)) := rfl
  simp only [s_inc, e]
  rw [if_pos hlt, mst1, mclr_mnd hp rfl, ← Int32.ofInt_add]
  rfl
theorem sti_13 {a0 a1 a2 a3 a4 a5 a6 a7 a8 a9 a10 a11 a12 : Option Value} {p9 : Option Value} {l : mL} {x : Int32} (hp : mnd a12 = true) : s_sti (a0 :: a1 :: a2 :: a3 :: a4 :: a5 :: a6 :: a7 :: a8 :: a9 :: a10 :: a11 :: a12 :: p9 :: l) (.int x :: r) 13 = some (a0 :: a1 :: a2 :: a3 :: a4 :: a5 :: a6 :: a7 :: a8 :: a9 :: a10 :: a11 :: a12 :: some (.int x) :: l, r) := by
  have hlt : 13 < (a0 :: a1 :: a2 :: a3 :: a4 :: a5 :: a6 :: a7 :: a8 :: a9 :: a10 :: a11 :: a12 :: p9 :: l).length := by simp
  simp only [s_sti]
  rw [if_pos hlt, mst1, mclr_mnd hp rfl]
  rfl
theorem sta_13 {a0 a1 a2 a3 a4 a5 a6 a7 a8 a9 a10 a11 a12 : Option Value} {p9 : Option Value} {l : mL} {x : Addr} (hp : mnd a12 = true) : s_sta (a0 :: a1 :: a2 :: a3 :: a4 :: a5 :: a6 :: a7 :: a8 :: a9 :: a10 :: a11 :: a12 :: p9 :: l) (.ref x :: r) 13 = some (a0 :: a1 :: a2 :: a3 :: a4 :: a5 :: a6 :: a7 :: a8 :: a9 :: a10 :: a11 :: a12 :: some (.ref x) :: l, r) := by
  have hlt : 13 < (a0 :: a1 :: a2 :: a3 :: a4 :: a5 :: a6 :: a7 :: a8 :: a9 :: a10 :: a11 :: a12 :: p9 :: l).length := by simp
  simp only [s_sta]
  rw [if_pos hlt, mst1, mclr_mnd hp rfl]
  rfl
theorem stf_13 {a0 a1 a2 a3 a4 a5 a6 a7 a8 a9 a10 a11 a12 : Option Value} {p9 : Option Value} {l : mL} {x : UInt32} (hp : mnd a12 = true) : s_stf (a0 :: a1 :: a2 :: a3 :: a4 :: a5 :: a6 :: a7 :: a8 :: a9 :: a10 :: a11 :: a12 :: p9 :: l) (.float x :: r) 13 = some (a0 :: a1 :: a2 :: a3 :: a4 :: a5 :: a6 :: a7 :: a8 :: a9 :: a10 :: a11 :: a12 :: some (.float x) :: l, r) := by
  have hlt : 13 < (a0 :: a1 :: a2 :: a3 :: a4 :: a5 :: a6 :: a7 :: a8 :: a9 :: a10 :: a11 :: a12 :: p9 :: l).length := by simp
  simp only [s_stf]
  rw [if_pos hlt, mst1, mclr_mnd hp rfl]
  rfl
theorem stn_13 {a0 a1 a2 a3 a4 a5 a6 a7 a8 a9 a10 a11 a12 : Option Value} {p9 : Option Value} {l : mL} (hp : mnd a12 = true) : s_sta (a0 :: a1 :: a2 :: a3 :: a4 :: a5 :: a6 :: a7 :: a8 :: a9 :: a10 :: a11 :: a12 :: p9 :: l) (.null :: r) 13 = some (a0 :: a1 :: a2 :: a3 :: a4 :: a5 :: a6 :: a7 :: a8 :: a9 :: a10 :: a11 :: a12 :: some .null :: l, r) := by
  have hlt : 13 < (a0 :: a1 :: a2 :: a3 :: a4 :: a5 :: a6 :: a7 :: a8 :: a9 :: a10 :: a11 :: a12 :: p9 :: l).length := by simp
  simp only [s_sta]
  rw [if_pos hlt, mst1, mclr_mnd hp rfl]
  rfl
theorem inc_13 {a0 a1 a2 a3 a4 a5 a6 a7 a8 a9 a10 a11 a12 : Option Value} {l : mL} {x n9 : Int} (hp : mnd a12 = true) : s_inc (a0 :: a1 :: a2 :: a3 :: a4 :: a5 :: a6 :: a7 :: a8 :: a9 :: a10 :: a11 :: a12 :: some (.int (Int32.ofInt x)) :: l) st 13 n9 = some (a0 :: a1 :: a2 :: a3 :: a4 :: a5 :: a6 :: a7 :: a8 :: a9 :: a10 :: a11 :: a12 :: some (.int (Int32.ofInt (x + n9))) :: l, st) := by
  have hlt : 13 < (a0 :: a1 :: a2 :: a3 :: a4 :: a5 :: a6 :: a7 :: a8 :: a9 :: a10 :: a11 :: a12 :: some (.int (Int32.ofInt x)) :: l).length := by simp
  have e : mld (a0 :: a1 :: a2 :: a3 :: a4 :: a5 :: a6 :: a7 :: a8 :: a9 :: a10 :: a11 :: a12 :: some (.int (Int32.ofInt x)) :: l) 13 = some (.int (Int32.ofInt x)) := rfl
  simp only [s_inc, e]
  rw [if_pos hlt, mst1, mclr_mnd hp rfl, ← Int32.ofInt_add]
  rfl
end XR
