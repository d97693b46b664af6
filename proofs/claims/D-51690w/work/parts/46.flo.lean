/-! MC: floats and doubles -/
set_option maxRecDepth 100000
section FLO
variable {E : mE} {ρ : mK → Option mR} {y : Nat} {is : List mI} {ls : mL} {st r : List Value} {h : mH} {q : Nat × Nat × Nat}
theorem m_i2f {x : Int32} : mstep E gP (.i2f, 0, q) (.int x :: r) h = some (.float (FP.i2f x) :: r, h) := rfl
theorem m_i2d {x : Int32} : mstep E gP (.i2d, 0, q) (.int x :: r) h = some (.double (FP.i2d x) :: r, h) := rfl
theorem m_fc1 : mstep E gP (.fconst 1, 0, q) st h = some (.float FP.fconst1 :: st, h) := rfl
theorem m_dc0 : mstep E gP (.dconst 0, 0, q) st h = some (.double FP.dconst0 :: st, h) := rfl
theorem m_fdiv {v w : UInt32} (hn : FP.fdiv v w &&& 0x7fffffff ≤ 0x7f800000) : mstep E gP (.fdiv, 0, q) (.float w :: .float v :: r) h = some (.float (FP.fdiv v w) :: r, h) := if_pos hn
theorem m_ddiv {v w : UInt64} (hn : FP.ddiv v w &&& 0x7fffffffffffffff ≤ 0x7ff0000000000000) : mstep E gP (.ddiv, 0, q) (.double w :: .double v :: r) h = some (.double (FP.ddiv v w) :: r, h) := if_pos hn
theorem x_fret {v : UInt32} : mX E gP ρ y ((.freturn, 3, q) :: is) ls [.float v] h = some (.inl (some (.float v)), h) := rfl
theorem x_dret {v : UInt64} : mX E gP ρ y ((.dreturn, 3, q) :: is) ls [.double v] h = some (.inl (some (.double v)), h) := rfl
end FLO
