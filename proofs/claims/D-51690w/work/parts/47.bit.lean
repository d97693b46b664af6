/-! MC: bytes, masks, shifts -/
set_option maxRecDepth 100000
def i8 (x : Int) : Int := (x + 128) % 256 - 128
theorem i8_r {x : Int} : -128 ≤ i8 x ∧ i8 x < 128 := by
  unfold i8
  omega
theorem i8_id {x : Int} (h : -128 ≤ x ∧ x < 128) : i8 x = x := by
  unfold i8
  omega
theorem i8_bmod (x : Int) : x.bmod (2 ^ 8) = i8 x := by
  have e : x.bmod (2 ^ 8) = if x % 256 < 128 then x % 256 else x % 256 - 256 := rfl
  rw [e]
  unfold i8
  split <;> omega
theorem i8_of (x : Int) : (Int32.ofInt x).toInt8.toInt32 = Int32.ofInt (i8 x) := by
  have r := i8_r (x := x)
  apply Int32.toInt_inj.mp
  rw [Int8.toInt_toInt32, Int32.toInt_toInt8, i_to (x := i8 x) (by omega), Int32.toInt_ofInt, ← i8_bmod]
  exact Int.bmod_bmod_of_dvd (show (2 ^ 8) ∣ Int32.size by decide)
theorem bv_and {x : Int} {k : Nat} (hk : k < 32) : BitVec.ofInt 32 x &&& BitVec.ofNat 32 (2 ^ k - 1) = BitVec.ofInt 32 (x % (2 ^ k : Nat)) := by
  apply BitVec.eq_of_toNat_eq
  have p : 2 ^ k ≤ 2 ^ 31 := Nat.pow_le_pow_right (by omega) (by omega)
  have p0 : 0 < 2 ^ k := Nat.pow_pos (by omega)
  rw [BitVec.toNat_and, BitVec.toNat_ofNat, Nat.mod_eq_of_lt (a := 2 ^ k - 1) (by omega), Nat.and_two_pow_sub_one_eq_mod, BitVec.toNat_ofInt, BitVec.toNat_ofInt]
  have d : ((2 : Int) ^ 32) = ((2 ^ k : Nat) : Int) * ((2 ^ (32 - k) : Nat) : Int) := by
    rw [← Int.natCast_mul, ← Nat.pow_add, show k + (32 - k) = 32 by omega]
    rfl
  have e1 : 0 ≤ x % (2 ^ k : Nat) := Int.emod_nonneg _ (by omega)
  have e2 : x % (2 ^ k : Nat) < (2 ^ k : Nat) := Int.emod_lt_of_pos _ (by omega)
  have e3 : (x % (2 ^ k : Nat)) % ((2 ^ 32 : Nat) : Int) = x % (2 ^ k : Nat) := Int.emod_eq_of_lt e1 (by omega)
  have e4 : 0 ≤ x % ((2 ^ 32 : Nat) : Int) := Int.emod_nonneg _ (by omega)
  rw [e3]
  apply Int.ofNat_inj.mp
  rw [Int.toNat_of_nonneg e1, Int.natCast_emod, Int.toNat_of_nonneg e4]
  exact Int.emod_emod_of_dvd _ ⟨((2 ^ (32 - k) : Nat) : Int), d⟩
theorem and_of (x : Int) {k : Nat} (hk : k < 32) : Int32.ofInt x &&& Int32.ofBitVec (BitVec.ofNat 32 (2 ^ k - 1)) = Int32.ofInt (x % (2 ^ k : Nat)) := Int32.toBitVec_inj.mp (bv_and hk)
theorem and_255 (x : Int) : Int32.ofInt x &&& Int32.ofInt 255 = Int32.ofInt (x % 256) := and_of x (k := 8) (by omega)
theorem and_63 (x : Int) : Int32.ofInt x &&& Int32.ofInt 63 = Int32.ofInt (x % 64) := and_of x (k := 6) (by omega)
theorem shr_of {x : Int} (hx : -2147483648 ≤ x ∧ x < 2147483648) {y : Int32} {s : Nat} (hy : (y.toBitVec.smod 32).toNat = s) : Int32.ofInt x >>> y = Int32.ofInt (x / (2 ^ s : Nat)) := by
  apply Int32.toInt_inj.mp
  have e : (Int32.ofInt x >>> y).toInt = (Int32.ofInt x).toInt >>> s := by
    show ((Int32.ofInt x >>> y).toBitVec).toInt = _
    rw [Int32.toBitVec_shiftRight, BitVec.toInt_sshiftRight', hy]
    rfl
  rw [e, i_to hx, Int.shiftRight_eq_div_pow]
  have p0 : 0 < 2 ^ s := Nat.pow_pos (by omega)
  have l1 : -2147483648 ≤ x / (2 ^ s : Nat) := by
    apply Int.le_ediv_of_mul_le (by omega)
    have : (1 : Int) ≤ ((2 ^ s : Nat) : Int) := by omega
    have h2 := Int.mul_le_mul_of_nonneg_left this (show (0 : Int) ≤ 2147483648 by omega)
    omega
  have l2 : x / (2 ^ s : Nat) < 2147483648 := by
    rcases Int.le_total 0 x with h | h
    · have := Int.ediv_le_self ((2 ^ s : Nat) : Int) h
      omega
    · have h3 : x / (2 ^ s : Nat) ≤ 0 := by
        apply Int.ediv_le_of_le_mul (by omega)
        omega
      omega
  rw [i_to ⟨l1, l2⟩]
section BT
variable {E : mE} {r : List Value} {h : mH} {q : Nat × Nat × Nat} {a k b d : Nat}
theorem m_i2b {x : Int} : mstep E gP (.i2b, 0, q) (.int (Int32.ofInt x) :: r) h = some (.int (Int32.ofInt (i8 x)) :: r, h) := by
  show some (Value.int (Int32.ofInt x).toInt8.toInt32 :: r, h) = _
  rw [i8_of]
theorem m_and255 {x : Int} : mstep E gP (.iand, 0, q) (.int (Int32.ofInt 255) :: .int (Int32.ofInt x) :: r) h = some (.int (Int32.ofInt (x % 256)) :: r, h) := by
  show some (Value.int (Int32.ofInt x &&& Int32.ofInt 255) :: r, h) = _
  rw [and_255]
theorem m_and63 {x : Int} : mstep E gP (.iand, 0, q) (.int (Int32.ofInt 63) :: .int (Int32.ofInt x) :: r) h = some (.int (Int32.ofInt (x % 64)) :: r, h) := by
  show some (Value.int (Int32.ofInt x &&& Int32.ofInt 63) :: r, h) = _
  rw [and_63]
theorem m_shr24 {x : Int} (hx : -2147483648 ≤ x ∧ x < 2147483648) : mstep E gP (.ishr, 0, q) (.int (Int32.ofInt 24) :: .int (Int32.ofInt x) :: r) h = some (.int (Int32.ofInt (x / 16777216)) :: r, h) := by
  show some (Value.int (Int32.ofInt x >>> (Int32.ofInt 24 &&& 31)) :: r, h) = _
  rw [shr_of hx (s := 24) (by decide +kernel)]
  rfl
theorem m_shr16 {x : Int} (hx : -2147483648 ≤ x ∧ x < 2147483648) : mstep E gP (.ishr, 0, q) (.int (Int32.ofInt 16) :: .int (Int32.ofInt x) :: r) h = some (.int (Int32.ofInt (x / 65536)) :: r, h) := by
  show some (Value.int (Int32.ofInt x >>> (Int32.ofInt 16 &&& 31)) :: r, h) = _
  rw [shr_of hx (s := 16) (by decide +kernel)]
  rfl
theorem m_shr8 {x : Int} (hx : -2147483648 ≤ x ∧ x < 2147483648) : mstep E gP (.ishr, 0, q) (.int (Int32.ofInt 8) :: .int (Int32.ofInt x) :: r) h = some (.int (Int32.ofInt (x / 256)) :: r, h) := by
  show some (Value.int (Int32.ofInt x >>> (Int32.ofInt 8 &&& 31)) :: r, h) = _
  rw [shr_of hx (s := 8) (by decide +kernel)]
  rfl
theorem m_shr0 {x : Int} (hx : -2147483648 ≤ x ∧ x < 2147483648) : mstep E gP (.ishr, 0, q) (.int (Int32.ofInt 0) :: .int (Int32.ofInt x) :: r) h = some (.int (Int32.ofInt x) :: r, h) := by
  show some (Value.int (Int32.ofInt x >>> (Int32.ofInt 0 &&& 31)) :: r, h) = _
  rw [shr_of hx (s := 0) (by decide +kernel), show ((2 ^ 0 : Nat) : Int) = 1 from rfl, Int.ediv_one]
theorem m_shr1 {x : Int} (hx : -2147483648 ≤ x ∧ x < 2147483648) : mstep E gP (.ishr, 0, q) (.int (Int32.ofInt 1) :: .int (Int32.ofInt x) :: r) h = some (.int (Int32.ofInt (x / 2)) :: r, h) := by
  show some (Value.int (Int32.ofInt x >>> (Int32.ofInt 1 &&& 31)) :: r, h) = _
  rw [shr_of hx (s := 1) (by decide +kernel)]
  rfl
theorem g_astb {n : Nat} {f : Int → Int} {i x : Int} (hi : 0 ≤ i ∧ i < n ∧ i < 2147483648) (hE : E.1 ≤ a) (hx : -128 ≤ x ∧ x < 128) : g_ast E (some (mAI 2 n f)) 2 (mnar 2) (Int32.ofInt x) (Int32.ofInt i) a r h = some (r, mput h a (mAI 2 n (up f i x))) := g_asts hi hE (by
  show (Int32.ofInt x).toInt8.toInt32 = _
  rw [i8_of, i8_id hx])
theorem i_u16 {x : Int} (hx : 0 ≤ x ∧ x < 65536) : ((Int32.ofInt x).toUInt32 % 65536).toInt32 = Int32.ofInt x := by
  apply Int32.toBitVec_inj.mp
  apply BitVec.eq_of_toNat_eq
  have e : (Int32.ofInt x).toBitVec.toNat = x.toNat := by
    rw [Int32.toBitVec_ofInt, BitVec.toNat_ofInt, Int.emod_eq_of_lt hx.1 (by omega)]
  show ((Int32.ofInt x).toBitVec % 65536#32).toNat = _
  rw [BitVec.toNat_umod, e]
  show x.toNat % 65536 = x.toNat
  omega
theorem m_i2c {x : Int} (hx : 0 ≤ x ∧ x < 65536) : mstep E gP (.i2c, 0, q) (.int (Int32.ofInt x) :: r) h = some (.int (Int32.ofInt x) :: r, h) := by
  show some (Value.int ((Int32.ofInt x).toUInt32 % 65536).toInt32 :: r, h) = _
  rw [i_u16 hx]
theorem mf_c {x : Int} (hx : 0 ≤ x ∧ x < 65536) : mfit 3 (.int (Int32.ofInt x)) = true := by
  apply decide_eq_true
  have e : (Int32.ofInt x).toUInt32.toUInt16.toUInt32.toInt32 = ((Int32.ofInt x).toUInt32 % 65536).toInt32 := by
    congr 1
  rw [e, i_u16 hx]
theorem mf_b {x : Int} (hx : -128 ≤ x ∧ x < 128) : mfit 2 (.int (Int32.ofInt x)) = true := by
  apply decide_eq_true
  rw [i8_of, i8_id hx]
variable {ρ : mK → Option mR} {y : Nat} {is : List mI} {ls : mL}
theorem x_cret {x : Int} (hx : 0 ≤ x ∧ x < 65536) : mX E gP ρ y ((.ireturn, 3, 3, b, d) :: is) ls [.int (Int32.ofInt x)] h = some (.inl (some (.int (Int32.ofInt x))), h) := if_pos (mf_c hx)
theorem x_bret {x : Int} (hx : -128 ≤ x ∧ x < 128) : mX E gP ρ y ((.ireturn, 3, 2, b, d) :: is) ls [.int (Int32.ofInt x)] h = some (.inl (some (.int (Int32.ofInt x))), h) := if_pos (mf_b hx)
theorem m_gsn : mstep E gP (.getstatic k, 0, 2, b, d) r h = some (va_rf (mopt (E.2 b)) :: r, h) := rfl
theorem cat1_rf {o : Option Nat} : cat1 (va_rf o) = true := by cases o <;> rfl
theorem mf_20 : mfit 2 (.int (Int32.ofInt 0)) = true := rfl
theorem cat_rf {o : Option Nat} : (va_rf o).category = 1 := by cases o <;> rfl
end BT
