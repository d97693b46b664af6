/-! MC: rewrite rules of the switches (printed by gen/gensw.py) -/
set_option maxRecDepth 100000
def swR (f : Nat → Option mR) (p : Nat) (d : Int) : List (Int × Int) → Int → Option mR
  | [], _ => f (mtgt p d)
  | k :: l, x => if x = k.1 then f (mtgt p k.2) else swR f p d l x
def tsP (lo : Int) : List Int → List (Int × Int)
  | [] => []
  | o :: os => (lo, o) :: tsP (lo + 1) os
section SW
variable {E : mE} {ρ : mK → Option mR} {y : Nat} {is : List mI} {ls : mL} {r : List Value} {h : mH} {a b p : Nat}
theorem swR_ts {f : Nat → Option mR} {d x : Int} : ∀ (l : List Int) (lo : Int), swR f p d (tsP lo l) x = (if x < lo ∨ lo + l.length - 1 < x then f (mtgt p d) else match l[(x - lo).toNat]? with
      | some o => f (mtgt p o)
      | none => none) := by
  intro l
  induction l with
  | nil =>
    intro lo
    rw [if_pos (by simp only [List.length_nil]; omega)]
    rfl
  | cons o os ih =>
    intro lo
    show (if x = lo then f (mtgt p o) else swR f p d (tsP (lo + 1) os) x) = _
    by_cases e : x = lo
    · subst e
      rw [if_pos rfl, if_neg (by simp only [List.length_cons]; omega), Int.sub_self]
      rfl
    · rw [if_neg e, ih (lo + 1)]
      simp only [List.length_cons]
      by_cases e2 : x < lo ∨ lo + ((os.length + 1 : Nat) : Int) - 1 < x
      · rw [if_pos e2, if_pos (by omega)]
      · rw [if_neg e2, if_neg (by omega)]
        have e3 : (x - lo).toNat = (x - (lo + 1)).toNat + 1 := by omega
        rw [e3, List.getElem?_cons_succ]
theorem x_tsw {d lo hi : Int} {offs : Array Int} {x : Int} (hx : -2147483648 ≤ x ∧ x < 2147483648) (hn : hi = lo + offs.toList.length - 1) : mX E gP ρ y ((.tableswitch d lo hi offs, 1, a, b, p) :: is) ls (.int (Int32.ofInt x) :: r) h = swR (fun t => ρ (y, t, ls, r, h)) p d (tsP lo offs.toList) x := by
  rw [swR_ts]
  subst hn
  unfold mX mjmp
  dsimp only
  rw [i_to hx]
  by_cases e : x < lo ∨ lo + (offs.toList.length : Int) - 1 < x
  · rw [if_pos e, if_pos e]
    rfl
  · rw [if_neg e, if_neg e]
    rw [← Array.getElem?_toList]
    cases offs.toList[(x - lo).toNat]? <;> rfl
theorem swR_ls {f : Nat → Option mR} {d x : Int} : ∀ (l : List (Int × Int)), swR f p d l x = f (mtgt p (Op.lookupswitch.offset l d x)) := by
  intro l
  induction l with
  | nil => rfl
  | cons k l ih =>
    show (if x = k.1 then f (mtgt p k.2) else swR f p d l x) = f (mtgt p (if k.1 = x then k.2 else Op.lookupswitch.offset l d x))
    by_cases e : x = k.1
    · rw [if_pos e, if_pos e.symm]
    · rw [if_neg e, if_neg (fun z => e z.symm), ih]
theorem x_lsw {d : Int} {ps : Array (Int × Int)} {x : Int} (hx : -2147483648 ≤ x ∧ x < 2147483648) : mX E gP ρ y ((.lookupswitch d ps, 1, a, b, p) :: is) ls (.int (Int32.ofInt x) :: r) h = swR (fun t => ρ (y, t, ls, r, h)) p d ps.toList x := by
  rw [swR_ls]
  unfold mX mjmp
  dsimp only
  rw [i_to hx]
  rfl
theorem sw19_2 {x : Int} (hx : -2147483648 ≤ x ∧ x < 2147483648) : mX E gP ρ 19 ((.tableswitch 127 4 10 #[42, 55, 127, 127, 88, 101, 114], 1, 0, 0, 2) :: is) ls (.int (Int32.ofInt x) :: r) h = if x = 4 then ρ (19, 44, ls, r, h) else if x = 5 then ρ (19, 57, ls, r, h) else if x = 6 then ρ (19, 129, ls, r, h) else if x = 7 then ρ (19, 129, ls, r, h) else if x = 8 then ρ (19, 90, ls, r, h) else if x = 9 then ρ (19, 103, ls, r, h) else if x = 10 then ρ (19, 116, ls, r, h) else ρ (19, 129, ls, r, h) := x_tsw hx rfl
theorem sw71_2 {x : Int} (hx : -2147483648 ≤ x ∧ x < 2147483648) : mX E gP ρ 71 ((.lookupswitch 40 #[(0, 26), (1, 30)], 1, 0, 0, 2) :: is) ls (.int (Int32.ofInt x) :: r) h = if x = 0 then ρ (71, 28, ls, r, h) else if x = 1 then ρ (71, 32, ls, r, h) else ρ (71, 42, ls, r, h) := x_lsw hx
theorem sw75_39 {x : Int} (hx : -2147483648 ≤ x ∧ x < 2147483648) : mX E gP ρ 75 ((.tableswitch 2027 0 35 #[157, 213, 269, 282, 295, 308, 321, 377, 433, 501, 569, 637, 705, 773, 841, 909, 922, 965, 1006, 1081, 1137, 1205, 1273, 1341, 1409, 1465, 1521, 1589, 1657, 1737, 1805, 1861, 1917, 1942, 1955, 1991], 1, 0, 0, 39) :: is) ls (.int (Int32.ofInt x) :: r) h = if x = 0 then ρ (75, 196, ls, r, h) else if x = 1 then ρ (75, 252, ls, r, h) else if x = 2 then ρ (75, 308, ls, r, h) else if x = 3 then ρ (75, 321, ls, r, h) else if x = 4 then ρ (75, 334, ls, r, h) else if x = 5 then ρ (75, 347, ls, r, h) else if x = 6 then ρ (75, 360, ls, r, h) else if x = 7 then ρ (75, 416, ls, r, h) else if x = 8 then ρ (75, 472, ls, r, h) else if x = 9 then ρ (75, 540, ls, r, h) else if x = 10 then ρ (75, 608, ls, r, h) else if x = 11 then ρ (75, 676, ls, r, h) else if x = 12 then ρ (75, 744, ls, r, h) else if x = 13 then ρ (75, 812, ls, r, h) else if x = 14 then ρ (75, 880, ls, r, h) else if x = 15 then ρ (75, 948, ls, r, h) else if x = 16 then ρ (75, 961, ls, r, h) else if x = 17 then ρ (75, 1004, ls, r, h) else if x = 18 then ρ (75, 1045, ls, r, h) else if x = 19 then ρ (75, 1120, ls, r, h) else if x = 20 then ρ (75, 1176, ls, r, h) else if x = 21 then ρ (75, 1244, ls, r, h) else if x = 22 then ρ (75, 1312, ls, r, h) else if x = 23 then ρ (75, 1380, ls, r, h) else if x = 24 then ρ (75, 1448, ls, r, h) else if x = 25 then ρ (75, 1504, ls, r, h) else if x = 26 then ρ (75, 1560, ls, r, h) else if x = 27 then ρ (75, 1628, ls, r, h) else if x = 28 then ρ (75, 1696, ls, r, h) else if x = 29 then ρ (75, 1776, ls, r, h) else if x = 30 then ρ (75, 1844, ls, r, h) else if x = 31 then ρ (75, 1900, ls, r, h) else if x = 32 then ρ (75, 1956, ls, r, h) else if x = 33 then ρ (75, 1981, ls, r, h) else if x = 34 then ρ (75, 1994, ls, r, h) else if x = 35 then ρ (75, 2030, ls, r, h) else ρ (75, 2066, ls, r, h) := x_tsw hx rfl
theorem sw125_11 {x : Int} (hx : -2147483648 ≤ x ∧ x < 2147483648) : mX E gP ρ 125 ((.tableswitch 215 0 14 #[73, 86, 99, 112, 119, 132, 145, 158, 171, 181, 191, 191, 191, 191, 205], 1, 0, 0, 11) :: is) ls (.int (Int32.ofInt x) :: r) h = if x = 0 then ρ (125, 84, ls, r, h) else if x = 1 then ρ (125, 97, ls, r, h) else if x = 2 then ρ (125, 110, ls, r, h) else if x = 3 then ρ (125, 123, ls, r, h) else if x = 4 then ρ (125, 130, ls, r, h) else if x = 5 then ρ (125, 143, ls, r, h) else if x = 6 then ρ (125, 156, ls, r, h) else if x = 7 then ρ (125, 169, ls, r, h) else if x = 8 then ρ (125, 182, ls, r, h) else if x = 9 then ρ (125, 192, ls, r, h) else if x = 10 then ρ (125, 202, ls, r, h) else if x = 11 then ρ (125, 202, ls, r, h) else if x = 12 then ρ (125, 202, ls, r, h) else if x = 13 then ρ (125, 202, ls, r, h) else if x = 14 then ρ (125, 216, ls, r, h) else ρ (125, 226, ls, r, h) := x_tsw hx rfl
theorem sw127_18 {x : Int} (hx : -2147483648 ≤ x ∧ x < 2147483648) : mX E gP ρ 127 ((.tableswitch 90 0 4 #[34, 52, 63, 74, 82], 1, 0, 0, 18) :: is) ls (.int (Int32.ofInt x) :: r) h = if x = 0 then ρ (127, 52, ls, r, h) else if x = 1 then ρ (127, 70, ls, r, h) else if x = 2 then ρ (127, 81, ls, r, h) else if x = 3 then ρ (127, 92, ls, r, h) else if x = 4 then ρ (127, 100, ls, r, h) else ρ (127, 108, ls, r, h) := x_tsw hx rfl
theorem sw130_17 {x : Int} (hx : -2147483648 ≤ x ∧ x < 2147483648) : mX E gP ρ 130 ((.tableswitch 83 0 5 #[39, 46, 53, 60, 67, 75], 1, 0, 0, 17) :: is) ls (.int (Int32.ofInt x) :: r) h = if x = 0 then ρ (130, 56, ls, r, h) else if x = 1 then ρ (130, 63, ls, r, h) else if x = 2 then ρ (130, 70, ls, r, h) else if x = 3 then ρ (130, 77, ls, r, h) else if x = 4 then ρ (130, 84, ls, r, h) else if x = 5 then ρ (130, 92, ls, r, h) else ρ (130, 100, ls, r, h) := x_tsw hx rfl
theorem sw135_20 {x : Int} (hx : -2147483648 ≤ x ∧ x < 2147483648) : mX E gP ρ 135 ((.tableswitch 110 0 6 #[44, 51, 58, 69, 79, 96, 103], 1, 0, 0, 20) :: is) ls (.int (Int32.ofInt x) :: r) h = if x = 0 then ρ (135, 64, ls, r, h) else if x = 1 then ρ (135, 71, ls, r, h) else if x = 2 then ρ (135, 78, ls, r, h) else if x = 3 then ρ (135, 89, ls, r, h) else if x = 4 then ρ (135, 99, ls, r, h) else if x = 5 then ρ (135, 116, ls, r, h) else if x = 6 then ρ (135, 123, ls, r, h) else ρ (135, 130, ls, r, h) := x_tsw hx rfl
theorem sw136_19 {x : Int} (hx : -2147483648 ≤ x ∧ x < 2147483648) : mX E gP ρ 136 ((.tableswitch 69 0 4 #[33, 40, 47, 54, 62], 1, 0, 0, 19) :: is) ls (.int (Int32.ofInt x) :: r) h = if x = 0 then ρ (136, 52, ls, r, h) else if x = 1 then ρ (136, 59, ls, r, h) else if x = 2 then ρ (136, 66, ls, r, h) else if x = 3 then ρ (136, 73, ls, r, h) else if x = 4 then ρ (136, 81, ls, r, h) else ρ (136, 88, ls, r, h) := x_tsw hx rfl
theorem sw146_44 {x : Int} (hx : -2147483648 ≤ x ∧ x < 2147483648) : mX E gP ρ 146 ((.tableswitch 48 0 2 #[28, 35, 40], 1, 0, 0, 44) :: is) ls (.int (Int32.ofInt x) :: r) h = if x = 0 then ρ (146, 72, ls, r, h) else if x = 1 then ρ (146, 79, ls, r, h) else if x = 2 then ρ (146, 84, ls, r, h) else ρ (146, 92, ls, r, h) := x_tsw hx rfl
theorem sw174_83 {x : Int} (hx : -2147483648 ≤ x ∧ x < 2147483648) : mX E gP ρ 174 ((.lookupswitch 98 #[(3016252, 56), (3641802, 41), (957939245, 86), (1125964220, 71)], 1, 0, 0, 83) :: is) ls (.int (Int32.ofInt x) :: r) h = if x = 3016252 then ρ (174, 139, ls, r, h) else if x = 3641802 then ρ (174, 124, ls, r, h) else if x = 957939245 then ρ (174, 169, ls, r, h) else if x = 1125964220 then ρ (174, 154, ls, r, h) else ρ (174, 181, ls, r, h) := x_lsw hx
theorem sw174_183 {x : Int} (hx : -2147483648 ≤ x ∧ x < 2147483648) : mX E gP ρ 174 ((.tableswitch 83 0 3 #[29, 40, 48, 56], 1, 0, 0, 183) :: is) ls (.int (Int32.ofInt x) :: r) h = if x = 0 then ρ (174, 212, ls, r, h) else if x = 1 then ρ (174, 223, ls, r, h) else if x = 2 then ρ (174, 231, ls, r, h) else if x = 3 then ρ (174, 239, ls, r, h) else ρ (174, 266, ls, r, h) := x_tsw hx rfl
theorem sw175_11 {x : Int} (hx : -2147483648 ≤ x ∧ x < 2147483648) : mX E gP ρ 175 ((.lookupswitch 94 #[(-1106172890, 83), (3016252, 41), (957939245, 69), (1125964220, 55)], 1, 0, 0, 11) :: is) ls (.int (Int32.ofInt x) :: r) h = if x = (-1106172890) then ρ (175, 94, ls, r, h) else if x = 3016252 then ρ (175, 52, ls, r, h) else if x = 957939245 then ρ (175, 80, ls, r, h) else if x = 1125964220 then ρ (175, 66, ls, r, h) else ρ (175, 105, ls, r, h) := x_lsw hx
theorem sw175_106 {x : Int} (hx : -2147483648 ≤ x ∧ x < 2147483648) : mX E gP ρ 175 ((.tableswitch 107 0 3 #[30, 49, 68, 87], 1, 0, 0, 106) :: is) ls (.int (Int32.ofInt x) :: r) h = if x = 0 then ρ (175, 136, ls, r, h) else if x = 1 then ρ (175, 155, ls, r, h) else if x = 2 then ρ (175, 174, ls, r, h) else if x = 3 then ρ (175, 193, ls, r, h) else ρ (175, 213, ls, r, h) := x_tsw hx rfl
theorem sw183_11 {x : Int} (hx : -2147483648 ≤ x ∧ x < 2147483648) : mX E gP ρ 183 ((.lookupswitch 116 #[(106916, 91), (3173137, 77), (3433489, 105), (3440673, 63), (3540684, 49)], 1, 0, 0, 11) :: is) ls (.int (Int32.ofInt x) :: r) h = if x = 106916 then ρ (183, 102, ls, r, h) else if x = 3173137 then ρ (183, 88, ls, r, h) else if x = 3433489 then ρ (183, 116, ls, r, h) else if x = 3440673 then ρ (183, 74, ls, r, h) else if x = 3540684 then ρ (183, 60, ls, r, h) else ρ (183, 127, ls, r, h) := x_lsw hx
theorem sw183_128 {x : Int} (hx : -2147483648 ≤ x ∧ x < 2147483648) : mX E gP ρ 183 ((.tableswitch 40 0 4 #[36, 36, 36, 36, 36], 1, 0, 0, 128) :: is) ls (.int (Int32.ofInt x) :: r) h = if x = 0 then ρ (183, 164, ls, r, h) else if x = 1 then ρ (183, 164, ls, r, h) else if x = 2 then ρ (183, 164, ls, r, h) else if x = 3 then ρ (183, 164, ls, r, h) else if x = 4 then ρ (183, 164, ls, r, h) else ρ (183, 168, ls, r, h) := x_tsw hx rfl
theorem sw184_17 {x : Int} (hx : -2147483648 ≤ x ∧ x < 2147483648) : mX E gP ρ 184 ((.lookupswitch 74 #[(3173137, 49), (3433489, 63), (3540684, 35)], 1, 0, 0, 17) :: is) ls (.int (Int32.ofInt x) :: r) h = if x = 3173137 then ρ (184, 66, ls, r, h) else if x = 3433489 then ρ (184, 80, ls, r, h) else if x = 3540684 then ρ (184, 52, ls, r, h) else ρ (184, 91, ls, r, h) := x_lsw hx
theorem sw184_92 {x : Int} (hx : -2147483648 ≤ x ∧ x < 2147483648) : mX E gP ρ 184 ((.tableswitch 69 0 2 #[28, 37, 45], 1, 0, 0, 92) :: is) ls (.int (Int32.ofInt x) :: r) h = if x = 0 then ρ (184, 120, ls, r, h) else if x = 1 then ρ (184, 129, ls, r, h) else if x = 2 then ρ (184, 137, ls, r, h) else ρ (184, 161, ls, r, h) := x_tsw hx rfl
theorem sw207_17 {x : Int} (hx : -2147483648 ≤ x ∧ x < 2147483648) : mX E gP ρ 207 ((.lookupswitch 104 #[(106916, 91), (3173137, 75), (3440673, 59), (3540684, 43)], 1, 0, 0, 17) :: is) ls (.int (Int32.ofInt x) :: r) h = if x = 106916 then ρ (207, 108, ls, r, h) else if x = 3173137 then ρ (207, 92, ls, r, h) else if x = 3440673 then ρ (207, 76, ls, r, h) else if x = 3540684 then ρ (207, 60, ls, r, h) else ρ (207, 121, ls, r, h) := x_lsw hx
theorem sw207_123 {x : Int} (hx : -2147483648 ≤ x ∧ x < 2147483648) : mX E gP ρ 207 ((.tableswitch 84 0 3 #[29, 42, 55, 71], 1, 0, 0, 123) :: is) ls (.int (Int32.ofInt x) :: r) h = if x = 0 then ρ (207, 152, ls, r, h) else if x = 1 then ρ (207, 165, ls, r, h) else if x = 2 then ρ (207, 178, ls, r, h) else if x = 3 then ρ (207, 194, ls, r, h) else ρ (207, 207, ls, r, h) := x_tsw hx rfl
theorem sw293_60 {x : Int} (hx : -2147483648 ≤ x ∧ x < 2147483648) : mX E gP ρ 293 ((.tableswitch 84 0 2 #[28, 35, 54], 1, 0, 0, 60) :: is) ls (.int (Int32.ofInt x) :: r) h = if x = 0 then ρ (293, 88, ls, r, h) else if x = 1 then ρ (293, 95, ls, r, h) else if x = 2 then ρ (293, 114, ls, r, h) else ρ (293, 144, ls, r, h) := x_tsw hx rfl
theorem sw333_6 {x : Int} (hx : -2147483648 ≤ x ∧ x < 2147483648) : mX E gP ρ 333 ((.tableswitch 138 0 15 #[78, 78, 85, 90, 95, 95, 95, 95, 104, 111, 119, 119, 119, 119, 128, 133], 1, 0, 0, 6) :: is) ls (.int (Int32.ofInt x) :: r) h = if x = 0 then ρ (333, 84, ls, r, h) else if x = 1 then ρ (333, 84, ls, r, h) else if x = 2 then ρ (333, 91, ls, r, h) else if x = 3 then ρ (333, 96, ls, r, h) else if x = 4 then ρ (333, 101, ls, r, h) else if x = 5 then ρ (333, 101, ls, r, h) else if x = 6 then ρ (333, 101, ls, r, h) else if x = 7 then ρ (333, 101, ls, r, h) else if x = 8 then ρ (333, 110, ls, r, h) else if x = 9 then ρ (333, 117, ls, r, h) else if x = 10 then ρ (333, 125, ls, r, h) else if x = 11 then ρ (333, 125, ls, r, h) else if x = 12 then ρ (333, 125, ls, r, h) else if x = 13 then ρ (333, 125, ls, r, h) else if x = 14 then ρ (333, 134, ls, r, h) else if x = 15 then ρ (333, 139, ls, r, h) else ρ (333, 144, ls, r, h) := x_tsw hx rfl
theorem sw338_20 {x : Int} (hx : -2147483648 ≤ x ∧ x < 2147483648) : mX E gP ρ 338 ((.tableswitch 80 0 5 #[40, 50, 56, 62, 68, 74], 1, 0, 0, 20) :: is) ls (.int (Int32.ofInt x) :: r) h = if x = 0 then ρ (338, 60, ls, r, h) else if x = 1 then ρ (338, 70, ls, r, h) else if x = 2 then ρ (338, 76, ls, r, h) else if x = 3 then ρ (338, 82, ls, r, h) else if x = 4 then ρ (338, 88, ls, r, h) else if x = 5 then ρ (338, 94, ls, r, h) else ρ (338, 100, ls, r, h) := x_tsw hx rfl
theorem sw345_20 {x : Int} (hx : -2147483648 ≤ x ∧ x < 2147483648) : mX E gP ρ 345 ((.tableswitch 76 0 6 #[44, 44, 44, 44, 51, 57, 63], 1, 0, 0, 20) :: is) ls (.int (Int32.ofInt x) :: r) h = if x = 0 then ρ (345, 64, ls, r, h) else if x = 1 then ρ (345, 64, ls, r, h) else if x = 2 then ρ (345, 64, ls, r, h) else if x = 3 then ρ (345, 64, ls, r, h) else if x = 4 then ρ (345, 71, ls, r, h) else if x = 5 then ρ (345, 77, ls, r, h) else if x = 6 then ρ (345, 83, ls, r, h) else ρ (345, 96, ls, r, h) := x_tsw hx rfl
theorem sw349_20 {x : Int} (hx : -2147483648 ≤ x ∧ x < 2147483648) : mX E gP ρ 349 ((.tableswitch 96 0 7 #[48, 48, 55, 61, 68, 87, 87, 87], 1, 0, 0, 20) :: is) ls (.int (Int32.ofInt x) :: r) h = if x = 0 then ρ (349, 68, ls, r, h) else if x = 1 then ρ (349, 68, ls, r, h) else if x = 2 then ρ (349, 75, ls, r, h) else if x = 3 then ρ (349, 81, ls, r, h) else if x = 4 then ρ (349, 88, ls, r, h) else if x = 5 then ρ (349, 107, ls, r, h) else if x = 6 then ρ (349, 107, ls, r, h) else if x = 7 then ρ (349, 107, ls, r, h) else ρ (349, 116, ls, r, h) := x_tsw hx rfl
theorem sw350_20 {x : Int} (hx : -2147483648 ≤ x ∧ x < 2147483648) : mX E gP ρ 350 ((.tableswitch 67 0 5 #[40, 40, 40, 47, 53, 60], 1, 0, 0, 20) :: is) ls (.int (Int32.ofInt x) :: r) h = if x = 0 then ρ (350, 60, ls, r, h) else if x = 1 then ρ (350, 60, ls, r, h) else if x = 2 then ρ (350, 60, ls, r, h) else if x = 3 then ρ (350, 67, ls, r, h) else if x = 4 then ρ (350, 73, ls, r, h) else if x = 5 then ρ (350, 80, ls, r, h) else ρ (350, 87, ls, r, h) := x_tsw hx rfl
theorem sw351_6 {x : Int} (hx : -2147483648 ≤ x ∧ x < 2147483648) : mX E gP ρ 351 ((.lookupswitch 45 #[(0, 26), (1, 33)], 1, 0, 0, 6) :: is) ls (.int (Int32.ofInt x) :: r) h = if x = 0 then ρ (351, 32, ls, r, h) else if x = 1 then ρ (351, 39, ls, r, h) else ρ (351, 51, ls, r, h) := x_lsw hx
theorem sw370_7 {x : Int} (hx : -2147483648 ≤ x ∧ x < 2147483648) : mX E gP ρ 370 ((.lookupswitch 32 #[(0, 25), (1, 30)], 1, 0, 0, 7) :: is) ls (.int (Int32.ofInt x) :: r) h = if x = 0 then ρ (370, 32, ls, r, h) else if x = 1 then ρ (370, 37, ls, r, h) else ρ (370, 39, ls, r, h) := x_lsw hx
end SW
