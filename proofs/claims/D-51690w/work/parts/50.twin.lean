/-! MC pure 1: the twin's world -/
set_option maxRecDepth 100000
def bz (p : Prop) [Decidable p] : Int := if p then 1 else 0
theorem bz_01 {p : Prop} [Decidable p] : bz p = 0 ∨ bz p = 1 := by
  unfold bz
  split
  · exact Or.inr rfl
  · exact Or.inl rfl
theorem bz_r {p : Prop} [Decidable p] : -2147483648 ≤ bz p ∧ bz p < 2147483648 := by
  rcases bz_01 (p := p) with e | e <;> rw [e] <;> omega
theorem bz_z {p : Prop} [Decidable p] : (bz p = 0) = ¬ p := by
  unfold bz
  by_cases h : p <;> simp [h]
def tFs (b : Nat) (w : Nat → Int → Int) : List Value := [.ref (b + 1), .ref (b + 2), .ref (b + 3), .ref (b + 4), .ref (b + 5), .ref (b + 6), .int (Int32.ofInt (w 6 0)), .int (Int32.ofInt (w 7 0)), .ref (b + 7), .ref (b + 8), .int (Int32.ofInt (w 10 0)), .int (Int32.ofInt (w 11 0)), .int (Int32.ofInt (w 12 0)), .int (Int32.ofInt (w 13 0)), .int (Int32.ofInt (w 14 0)), .int (Int32.ofInt (w 15 0)), .int (Int32.ofInt (w 16 0)), .ref (b + 9), .int (Int32.ofInt (w 18 0)), .ref (b + 10), .ref (b + 11), .ref (b + 12), .ref (b + 13), .int (Int32.ofInt (w 23 0))]
def tT (b : Nat) (h : mH) (w : Nat → Int → Int) : mH := (fun q => if q = b then some (.inr (8, tFs b w)) else if q = b + 1 then some (mAI 0 216 (w 0)) else if q = b + 2 then some (mAI 0 216 (w 1)) else if q = b + 3 then some (mAI 0 1296 (w 2)) else if q = b + 4 then some (mAI 0 432 (w 3)) else if q = b + 5 then some (mAI 1 2 (w 4)) else if q = b + 6 then some (mAI 0 9 (w 5)) else if q = b + 7 then some (mAI 1 81 (w 8)) else if q = b + 8 then some (mAI 2 500 (w 9)) else if q = b + 9 then some (mAI 0 124 (w 17)) else if q = b + 10 then some (mAI 0 3 (w 19)) else if q = b + 11 then some (mAI 1 81 (w 20)) else if q = b + 12 then some (mAI 1 81 (w 21)) else if q = b + 13 then some (mAI 2 9 (w 22)) else h.1 q, h.2.1, h.2.2)
def wu (w : Nat → Int → Int) (i : Nat) (f : Int → Int) : Nat → Int → Int := fun j => if j = i then f else w j
theorem wu_s {w : Nat → Int → Int} {i : Nat} {f : Int → Int} : wu w i f i = f := if_pos rfl
theorem wu_n {w : Nat → Int → Int} {i j : Nat} {f : Int → Int} (hj : j ≠ i) : wu w i f j = w j := if_neg hj
theorem wu_wu {w : Nat → Int → Int} {i : Nat} {f g : Int → Int} : wu (wu w i f) i g = wu w i g := by
  funext j
  unfold wu
  split <;> rfl
section TW
variable {E : mE} {b : Nat} {h : mH} {w : Nat → Int → Int} {r : List Value}
theorem t_0 : (tT b h w).1 b = some (.inr (8, tFs b w)) := if_pos rfl
theorem t_1 : (tT b h w).1 (b + 1) = some (mAI 0 216 (w 0)) := by simp [tT]
theorem t_2 : (tT b h w).1 (b + 2) = some (mAI 0 216 (w 1)) := by simp [tT]
theorem t_3 : (tT b h w).1 (b + 3) = some (mAI 0 1296 (w 2)) := by simp [tT]
theorem t_4 : (tT b h w).1 (b + 4) = some (mAI 0 432 (w 3)) := by simp [tT]
theorem t_5 : (tT b h w).1 (b + 5) = some (mAI 1 2 (w 4)) := by simp [tT]
theorem t_6 : (tT b h w).1 (b + 6) = some (mAI 0 9 (w 5)) := by simp [tT]
theorem t_7 : (tT b h w).1 (b + 7) = some (mAI 1 81 (w 8)) := by simp [tT]
theorem t_8 : (tT b h w).1 (b + 8) = some (mAI 2 500 (w 9)) := by simp [tT]
theorem t_9 : (tT b h w).1 (b + 9) = some (mAI 0 124 (w 17)) := by simp [tT]
theorem t_10 : (tT b h w).1 (b + 10) = some (mAI 0 3 (w 19)) := by simp [tT]
theorem t_11 : (tT b h w).1 (b + 11) = some (mAI 1 81 (w 20)) := by simp [tT]
theorem t_12 : (tT b h w).1 (b + 12) = some (mAI 1 81 (w 21)) := by simp [tT]
theorem t_13 : (tT b h w).1 (b + 13) = some (mAI 2 9 (w 22)) := by simp [tT]
theorem tg_0 : g_get (some (.inr (8, tFs b w))) 8 0 r h = some (.ref (b + 1) :: r, h) := rfl
theorem tg_1 : g_get (some (.inr (8, tFs b w))) 8 1 r h = some (.ref (b + 2) :: r, h) := rfl
theorem tg_2 : g_get (some (.inr (8, tFs b w))) 8 2 r h = some (.ref (b + 3) :: r, h) := rfl
theorem tg_3 : g_get (some (.inr (8, tFs b w))) 8 3 r h = some (.ref (b + 4) :: r, h) := rfl
theorem tg_4 : g_get (some (.inr (8, tFs b w))) 8 4 r h = some (.ref (b + 5) :: r, h) := rfl
theorem tg_5 : g_get (some (.inr (8, tFs b w))) 8 5 r h = some (.ref (b + 6) :: r, h) := rfl
theorem tg_6 : g_get (some (.inr (8, tFs b w))) 8 6 r h = some (.int (Int32.ofInt (w 6 0)) :: r, h) := rfl
theorem tg_7 : g_get (some (.inr (8, tFs b w))) 8 7 r h = some (.int (Int32.ofInt (w 7 0)) :: r, h) := rfl
theorem tg_8 : g_get (some (.inr (8, tFs b w))) 8 8 r h = some (.ref (b + 7) :: r, h) := rfl
theorem tg_9 : g_get (some (.inr (8, tFs b w))) 8 9 r h = some (.ref (b + 8) :: r, h) := rfl
theorem tg_10 : g_get (some (.inr (8, tFs b w))) 8 10 r h = some (.int (Int32.ofInt (w 10 0)) :: r, h) := rfl
theorem tg_11 : g_get (some (.inr (8, tFs b w))) 8 11 r h = some (.int (Int32.ofInt (w 11 0)) :: r, h) := rfl
theorem tg_12 : g_get (some (.inr (8, tFs b w))) 8 12 r h = some (.int (Int32.ofInt (w 12 0)) :: r, h) := rfl
theorem tg_13 : g_get (some (.inr (8, tFs b w))) 8 13 r h = some (.int (Int32.ofInt (w 13 0)) :: r, h) := rfl
theorem tg_14 : g_get (some (.inr (8, tFs b w))) 8 14 r h = some (.int (Int32.ofInt (w 14 0)) :: r, h) := rfl
theorem tg_15 : g_get (some (.inr (8, tFs b w))) 8 15 r h = some (.int (Int32.ofInt (w 15 0)) :: r, h) := rfl
theorem tg_16 : g_get (some (.inr (8, tFs b w))) 8 16 r h = some (.int (Int32.ofInt (w 16 0)) :: r, h) := rfl
theorem tg_17 : g_get (some (.inr (8, tFs b w))) 8 17 r h = some (.ref (b + 9) :: r, h) := rfl
theorem tg_18 : g_get (some (.inr (8, tFs b w))) 8 18 r h = some (.int (Int32.ofInt (w 18 0)) :: r, h) := rfl
theorem tg_19 : g_get (some (.inr (8, tFs b w))) 8 19 r h = some (.ref (b + 10) :: r, h) := rfl
theorem tg_20 : g_get (some (.inr (8, tFs b w))) 8 20 r h = some (.ref (b + 11) :: r, h) := rfl
theorem tg_21 : g_get (some (.inr (8, tFs b w))) 8 21 r h = some (.ref (b + 12) :: r, h) := rfl
theorem tg_22 : g_get (some (.inr (8, tFs b w))) 8 22 r h = some (.ref (b + 13) :: r, h) := rfl
theorem tg_23 : g_get (some (.inr (8, tFs b w))) 8 23 r h = some (.int (Int32.ofInt (w 23 0)) :: r, h) := rfl
theorem tp_0 {f : Int → Int} : mput (tT b h w) (b + 1) (mAI 0 216 f) = tT b h (wu w 0 f) := by
  unfold mput tT
  congr 1
  funext q
  dsimp only
  by_cases e : q = b + 1
  · subst e; simp [wu]
  · rw [if_neg e]; simp only [wu, tFs, Nat.reduceEqDiff, if_false, if_true, if_neg e]
theorem tp_1 {f : Int → Int} : mput (tT b h w) (b + 2) (mAI 0 216 f) = tT b h (wu w 1 f) := by
  unfold mput tT
  congr 1
  funext q
  dsimp only
  by_cases e : q = b + 2
  · subst e; simp [wu]
  · rw [if_neg e]; simp only [wu, tFs, Nat.reduceEqDiff, if_false, if_true, if_neg e]
theorem tp_2 {f : Int → Int} : mput (tT b h w) (b + 3) (mAI 0 1296 f) = tT b h (wu w 2 f) := by
  unfold mput tT
  congr 1
  funext q
  dsimp only
  by_cases e : q = b + 3
  · subst e; simp [wu]
  · rw [if_neg e]; simp only [wu, tFs, Nat.reduceEqDiff, if_false, if_true, if_neg e]
theorem tp_3 {f : Int → Int} : mput (tT b h w) (b + 4) (mAI 0 432 f) = tT b h (wu w 3 f) := by
  unfold mput tT
  congr 1
  funext q
  dsimp only
  by_cases e : q = b + 4
  · subst e; simp [wu]
  · rw [if_neg e]; simp only [wu, tFs, Nat.reduceEqDiff, if_false, if_true, if_neg e]
theorem tp_4 {f : Int → Int} : mput (tT b h w) (b + 5) (mAI 1 2 f) = tT b h (wu w 4 f) := by
  unfold mput tT
  congr 1
  funext q
  dsimp only
  by_cases e : q = b + 5
  · subst e; simp [wu]
  · rw [if_neg e]; simp only [wu, tFs, Nat.reduceEqDiff, if_false, if_true, if_neg e]
theorem tp_5 {f : Int → Int} : mput (tT b h w) (b + 6) (mAI 0 9 f) = tT b h (wu w 5 f) := by
  unfold mput tT
  congr 1
  funext q
  dsimp only
  by_cases e : q = b + 6
  · subst e; simp [wu]
  · rw [if_neg e]; simp only [wu, tFs, Nat.reduceEqDiff, if_false, if_true, if_neg e]
theorem tp_6 {x : Int} (hE : E.1 ≤ b) : g_put E (some (.inr (8, tFs b w))) 8 6 0 (.int (Int32.ofInt x)) b r (tT b h w) = some (r, tT b h (wu w 6 (fun _ => x))) := by
  rw [g_puts (by simp [tFs]) hE rfl]
  congr 2
  unfold mput tT
  congr 1
  funext q
  dsimp only
  by_cases e : q = b
  · subst e; simp [wu, tFs]
  · rw [if_neg e]; simp only [wu, Nat.reduceEqDiff, if_false, if_true, if_neg e]
theorem tp_7 {x : Int} (hE : E.1 ≤ b) : g_put E (some (.inr (8, tFs b w))) 8 7 0 (.int (Int32.ofInt x)) b r (tT b h w) = some (r, tT b h (wu w 7 (fun _ => x))) := by
  rw [g_puts (by simp [tFs]) hE rfl]
  congr 2
  unfold mput tT
  congr 1
  funext q
  dsimp only
  by_cases e : q = b
  · subst e; simp [wu, tFs]
  · rw [if_neg e]; simp only [wu, Nat.reduceEqDiff, if_false, if_true, if_neg e]
theorem tp_8 {f : Int → Int} : mput (tT b h w) (b + 7) (mAI 1 81 f) = tT b h (wu w 8 f) := by
  unfold mput tT
  congr 1
  funext q
  dsimp only
  by_cases e : q = b + 7
  · subst e; simp [wu]
  · rw [if_neg e]; simp only [wu, tFs, Nat.reduceEqDiff, if_false, if_true, if_neg e]
theorem tp_9 {f : Int → Int} : mput (tT b h w) (b + 8) (mAI 2 500 f) = tT b h (wu w 9 f) := by
  unfold mput tT
  congr 1
  funext q
  dsimp only
  by_cases e : q = b + 8
  · subst e; simp [wu]
  · rw [if_neg e]; simp only [wu, tFs, Nat.reduceEqDiff, if_false, if_true, if_neg e]
theorem tp_10 {x : Int} (hE : E.1 ≤ b) : g_put E (some (.inr (8, tFs b w))) 8 10 0 (.int (Int32.ofInt x)) b r (tT b h w) = some (r, tT b h (wu w 10 (fun _ => x))) := by
  rw [g_puts (by simp [tFs]) hE rfl]
  congr 2
  unfold mput tT
  congr 1
  funext q
  dsimp only
  by_cases e : q = b
  · subst e; simp [wu, tFs]
  · rw [if_neg e]; simp only [wu, Nat.reduceEqDiff, if_false, if_true, if_neg e]
theorem tp_11 {x : Int} (hE : E.1 ≤ b) : g_put E (some (.inr (8, tFs b w))) 8 11 0 (.int (Int32.ofInt x)) b r (tT b h w) = some (r, tT b h (wu w 11 (fun _ => x))) := by
  rw [g_puts (by simp [tFs]) hE rfl]
  congr 2
  unfold mput tT
  congr 1
  funext q
  dsimp only
  by_cases e : q = b
  · subst e; simp [wu, tFs]
  · rw [if_neg e]; simp only [wu, Nat.reduceEqDiff, if_false, if_true, if_neg e]
theorem tp_12 {x : Int} (hE : E.1 ≤ b) : g_put E (some (.inr (8, tFs b w))) 8 12 0 (.int (Int32.ofInt x)) b r (tT b h w) = some (r, tT b h (wu w 12 (fun _ => x))) := by
  rw [g_puts (by simp [tFs]) hE rfl]
  congr 2
  unfold mput tT
  congr 1
  funext q
  dsimp only
  by_cases e : q = b
  · subst e; simp [wu, tFs]
  · rw [if_neg e]; simp only [wu, Nat.reduceEqDiff, if_false, if_true, if_neg e]
theorem tp_13 {x : Int} (hE : E.1 ≤ b) : g_put E (some (.inr (8, tFs b w))) 8 13 0 (.int (Int32.ofInt x)) b r (tT b h w) = some (r, tT b h (wu w 13 (fun _ => x))) := by
  rw [g_puts (by simp [tFs]) hE rfl]
  congr 2
  unfold mput tT
  congr 1
  funext q
  dsimp only
  by_cases e : q = b
  · subst e; simp [wu, tFs]
  · rw [if_neg e]; simp only [wu, Nat.reduceEqDiff, if_false, if_true, if_neg e]
theorem tp_14 {x : Int} (hE : E.1 ≤ b) : g_put E (some (.inr (8, tFs b w))) 8 14 0 (.int (Int32.ofInt x)) b r (tT b h w) = some (r, tT b h (wu w 14 (fun _ => x))) := by
  rw [g_puts (by simp [tFs]) hE rfl]
  congr 2
  unfold mput tT
  congr 1
  funext q
  dsimp only
  by_cases e : q = b
  · subst e; simp [wu, tFs]
  · rw [if_neg e]; simp only [wu, Nat.reduceEqDiff, if_false, if_true, if_neg e]
theorem tp_15 {x : Int} (hE : E.1 ≤ b) : g_put E (some (.inr (8, tFs b w))) 8 15 0 (.int (Int32.ofInt x)) b r (tT b h w) = some (r, tT b h (wu w 15 (fun _ => x))) := by
  rw [g_puts (by simp [tFs]) hE rfl]
  congr 2
  unfold mput tT
  congr 1
  funext q
  dsimp only
  by_cases e : q = b
  · subst e; simp [wu, tFs]
  · rw [if_neg e]; simp only [wu, Nat.reduceEqDiff, if_false, if_true, if_neg e]
theorem tp_16 {x : Int} (hE : E.1 ≤ b) : g_put E (some (.inr (8, tFs b w))) 8 16 0 (.int (Int32.ofInt x)) b r (tT b h w) = some (r, tT b h (wu w 16 (fun _ => x))) := by
  rw [g_puts (by simp [tFs]) hE rfl]
  congr 2
  unfold mput tT
  congr 1
  funext q
  dsimp only
  by_cases e : q = b
  · subst e; simp [wu, tFs]
  · rw [if_neg e]; simp only [wu, Nat.reduceEqDiff, if_false, if_true, if_neg e]
theorem tp_17 {f : Int → Int} : mput (tT b h w) (b + 9) (mAI 0 124 f) = tT b h (wu w 17 f) := by
  unfold mput tT
  congr 1
  funext q
  dsimp only
  by_cases e : q = b + 9
  · subst e; simp [wu]
  · rw [if_neg e]; simp only [wu, tFs, Nat.reduceEqDiff, if_false, if_true, if_neg e]
theorem tp_18 {x : Int} (hE : E.1 ≤ b) : g_put E (some (.inr (8, tFs b w))) 8 18 0 (.int (Int32.ofInt x)) b r (tT b h w) = some (r, tT b h (wu w 18 (fun _ => x))) := by
  rw [g_puts (by simp [tFs]) hE rfl]
  congr 2
  unfold mput tT
  congr 1
  funext q
  dsimp only
  by_cases e : q = b
  · subst e; simp [wu, tFs]
  · rw [if_neg e]; simp only [wu, Nat.reduceEqDiff, if_false, if_true, if_neg e]
theorem tp_19 {f : Int → Int} : mput (tT b h w) (b + 10) (mAI 0 3 f) = tT b h (wu w 19 f) := by
  unfold mput tT
  congr 1
  funext q
  dsimp only
  by_cases e : q = b + 10
  · subst e; simp [wu]
  · rw [if_neg e]; simp only [wu, tFs, Nat.reduceEqDiff, if_false, if_true, if_neg e]
theorem tp_20 {f : Int → Int} : mput (tT b h w) (b + 11) (mAI 1 81 f) = tT b h (wu w 20 f) := by
  unfold mput tT
  congr 1
  funext q
  dsimp only
  by_cases e : q = b + 11
  · subst e; simp [wu]
  · rw [if_neg e]; simp only [wu, tFs, Nat.reduceEqDiff, if_false, if_true, if_neg e]
theorem tp_21 {f : Int → Int} : mput (tT b h w) (b + 12) (mAI 1 81 f) = tT b h (wu w 21 f) := by
  unfold mput tT
  congr 1
  funext q
  dsimp only
  by_cases e : q = b + 12
  · subst e; simp [wu]
  · rw [if_neg e]; simp only [wu, tFs, Nat.reduceEqDiff, if_false, if_true, if_neg e]
theorem tp_22 {f : Int → Int} : mput (tT b h w) (b + 13) (mAI 2 9 f) = tT b h (wu w 22 f) := by
  unfold mput tT
  congr 1
  funext q
  dsimp only
  by_cases e : q = b + 13
  · subst e; simp [wu]
  · rw [if_neg e]; simp only [wu, tFs, Nat.reduceEqDiff, if_false, if_true, if_neg e]
theorem tp_23 {x : Int} (hE : E.1 ≤ b) : g_put E (some (.inr (8, tFs b w))) 8 23 0 (.int (Int32.ofInt x)) b r (tT b h w) = some (r, tT b h (wu w 23 (fun _ => x))) := by
  rw [g_puts (by simp [tFs]) hE rfl]
  congr 2
  unfold mput tT
  congr 1
  funext q
  dsimp only
  by_cases e : q = b
  · subst e; simp [wu, tFs]
  · rw [if_neg e]; simp only [wu, Nat.reduceEqDiff, if_false, if_true, if_neg e]
end TW
