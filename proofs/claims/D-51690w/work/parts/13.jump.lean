/-! MC soundness 8: loads and stores, jumps -/
set_option maxRecDepth 100000
def mDec (cc : ByteArray) (pc : Nat) (x : mI) : Prop := match x.1 with
  | .tableswitch _ _ _ _ => ∃ len : Nat, decode cc pc = .ok (x.1, len)
  | .lookupswitch _ _ => ∃ len : Nat, decode cc pc = .ok (x.1, len)
  | _ => decode cc pc = .ok (x.1, mlen x.1)
def mJf (pc : Nat) (x : mI) : Prop := match x.1 with
  | .goto o => (pc : Int) + o = (x.2.2.1 : Int)
  | .ifCond _ o => (pc : Int) + o = (x.2.2.1 : Int)
  | .if_icmp _ o => (pc : Int) + o = (x.2.2.1 : Int)
  | .if_acmp _ o => (pc : Int) + o = (x.2.2.1 : Int)
  | .ifnull o => (pc : Int) + o = (x.2.2.1 : Int)
  | .ifnonnull o => (pc : Int) + o = (x.2.2.1 : Int)
  | .tableswitch d _ _ offs => x.2.2.2.2 = pc ∧ 0 ≤ (pc : Int) + d ∧ ∀ o ∈ offs.toList, 0 ≤ (pc : Int) + o
  | .lookupswitch d ps => x.2.2.2.2 = pc ∧ 0 ≤ (pc : Int) + d ∧ (∀ q ∈ ps.toList, 0 ≤ (pc : Int) + q.2) ∧ (ps.toList.zip (ps.toList.drop 1)).all (fun (a, next) => a.1 < next.1) = true
  | _ => True
theorem mtgt_eq {pc : Nat} {o : Int} (h : 0 ≤ (pc : Int) + o) : (pc : Int) + o = (mtgt pc o : Int) := by
  show (pc : Int) + o = ((((pc : Int) + o).toNat : Nat) : Int)
  omega
theorem mlook {d : Int} {v : Int} : ∀ (ps : List (Int × Int)), Op.lookupswitch.offset ps d v = d ∨ ∃ q ∈ ps, Op.lookupswitch.offset ps d v = q.2 := by
  intro ps
  induction ps with
  | nil => left; rfl
  | cons q ps ih =>
    obtain ⟨a, o⟩ := q
    rw [lookupswitch.offset_cons]
    split
    · right; exact ⟨(a, o), List.mem_cons_self, rfl⟩
    · rcases ih with h | ⟨q, hm, h⟩
      · left; exact h
      · right; exact ⟨q, List.mem_cons_of_mem _ hm, h⟩
section MLJ
variable {p : Program} {l : Launch} {e : Env} {R : Room} {s : State} {m : MethodId} {args : Array Value} {below : List Frame} {meth : Method} {c : Code} {H : Heap} {locs : List Loc} {cells slots : Nat} {Q : State → Prop}
variable {cc : ByteArray} {nL pc : Nat} {ls : Array Slot}
set_option maxHeartbeats 2000000 in
theorem mloc_sound {x : mI} {al : mL} {st : List Value} {q : mL × List Value} (hq : mloc x al st = some q) (hx : p.tables.exec = Jvm.exec) (hb : c.code = cc) (hd : decode cc pc = .ok (x.1, mlen x.1)) (hL : mLoc al ls nL)
    (kk : ∀ ls' : Array Slot, mLoc q.1 ls' nL → W p l e R s m args below meth c H locs cells slots Q (F0 m (pc + mlen x.1) ls' q.2)) : W p l e R s m args below meth c H locs cells slots Q (F0 m pc ls st) := by
  obtain ⟨i, kd, a, b, d⟩ := x
  cases i with

  | iload_n k =>
    simp only [mloc, s_ldi] at hq
    split at hq
    · rename_i hv
      cases hq
      exact lv_iload_n hx hb hd rfl (hL.get hv) (kk ls hL)
    · cases hq
  | iload k =>
    simp only [mloc, s_ldi] at hq
    split at hq
    · rename_i hv
      cases hq
      exact lv_iload hx hb hd (hL.get hv) (kk ls hL)
    · cases hq
  | lload_n k =>
    simp only [mloc, s_ldl] at hq
    split at hq
    · rename_i hv
      cases hq
      exact lv_lload_n hx hb hd rfl (hL.get hv) (kk ls hL)
    · cases hq
  | lload k =>
    simp only [mloc, s_ldl] at hq
    split at hq
    · rename_i hv
      cases hq
      exact lv_lload hx hb hd (hL.get hv) (kk ls hL)
    · cases hq
  | fload_n k =>
    simp only [mloc, s_ldf] at hq
    split at hq
    · rename_i hv
      cases hq
      exact lv_fload_n hx hb hd rfl (hL.get hv) (kk ls hL)
    · cases hq
  | fload k =>
    simp only [mloc, s_ldf] at hq
    split at hq
    · rename_i hv
      cases hq
      exact lv_fload hx hb hd (hL.get hv) (kk ls hL)
    · cases hq
  | dload_n k =>
    simp only [mloc, s_ldd] at hq
    split at hq
    · rename_i hv
      cases hq
      exact lv_dload_n hx hb hd rfl (hL.get hv) (kk ls hL)
    · cases hq
  | dload k =>
    simp only [mloc, s_ldd] at hq
    split at hq
    · rename_i hv
      cases hq
      exact lv_dload hx hb hd (hL.get hv) (kk ls hL)
    · cases hq
  | aload_n k =>
    simp only [mloc, s_lda] at hq
    split at hq
    · rename_i hv
      cases hq
      exact lv_aload_n hx hb hd rfl (hL.get hv) (kk ls hL)
    · rename_i hv
      cases hq
      exact lv_aload_nN hx hb hd rfl (hL.get hv) (kk ls hL)
    · cases hq
  | aload k =>
    simp only [mloc, s_lda] at hq
    split at hq
    · rename_i hv
      cases hq
      exact lv_aload hx hb hd (hL.get hv) (kk ls hL)
    · rename_i hv
      cases hq
      exact lv_aloadN hx hb hd (hL.get hv) (kk ls hL)
    · cases hq
  | istore_n k =>
    simp only [mloc, s_sti] at hq
    split at hq
    · split at hq
      · rename_i hk
        cases hq
        exact lv_istore_n hx hb hd rfl hL.2 (by rw [← hL.1]; exact hk) rfl (fun ls' hl => kk ls' (mLoc.st1 hL.1 rfl hl))
      · cases hq
    · cases hq
  | istore k =>
    simp only [mloc, s_sti] at hq
    split at hq
    · split at hq
      · rename_i hk
        cases hq
        exact lv_istore hx hb hd hL.2 (by rw [← hL.1]; exact hk) rfl (fun ls' hl => kk ls' (mLoc.st1 hL.1 rfl hl))
      · cases hq
    · cases hq
  | fstore_n k =>
    simp only [mloc, s_stf] at hq
    split at hq
    · split at hq
      · rename_i hk
        cases hq
        exact lv_fstore_n hx hb hd rfl hL.2 (by rw [← hL.1]; exact hk) rfl (fun ls' hl => kk ls' (mLoc.st1 hL.1 rfl hl))
      · cases hq
    · cases hq
  | fstore k =>
    simp only [mloc, s_stf] at hq
    split at hq
    · split at hq
      · rename_i hk
        cases hq
        exact lv_fstore hx hb hd hL.2 (by rw [← hL.1]; exact hk) rfl (fun ls' hl => kk ls' (mLoc.st1 hL.1 rfl hl))
      · cases hq
    · cases hq
  | dstore_n k =>
    simp only [mloc, s_std] at hq
    split at hq
    · split at hq
      · rename_i hk
        cases hq
        exact lv_dstore_n hx hb hd rfl hL.2 (by rw [← hL.1]; exact hk) rfl (fun ls' hl => kk ls' (mLoc.st2 hL.1 rfl hl))
      · cases hq
    · cases hq
  | dstore k =>
    simp only [mloc, s_std] at hq
    split at hq
    · split at hq
      · rename_i hk
        cases hq
        exact lv_dstore hx hb hd hL.2 (by rw [← hL.1]; exact hk) rfl (fun ls' hl => kk ls' (mLoc.st2 hL.1 rfl hl))
      · cases hq
    · cases hq
  | lstore_n k =>
    simp only [mloc, s_stl] at hq
    split at hq
    · split at hq
      · rename_i hk
        cases hq
        exact lv_lstore_n hx hb hd rfl hL.2 (by rw [← hL.1]; exact hk) rfl (fun ls' hl => kk ls' (mLoc.st2 hL.1 rfl hl))
      · cases hq
    · cases hq
  | lstore k =>
    simp only [mloc, s_stl] at hq
    split at hq
    · split at hq
      · rename_i hk
        cases hq
        exact lv_lstore hx hb hd hL.2 (by rw [← hL.1]; exact hk) rfl (fun ls' hl => kk ls' (mLoc.st2 hL.1 rfl hl))
      · cases hq
    · cases hq
  | astore_n k =>
    simp only [mloc, s_sta] at hq
    split at hq
    · split at hq
      · rename_i hk
        cases hq
        exact lv_astore_n hx hb hd rfl hL.2 (by rw [← hL.1]; exact hk) rfl (fun ls' hl => kk ls' (mLoc.st1 hL.1 rfl hl))
      · cases hq
    · split at hq
      · rename_i hk
        cases hq
        exact lv_astore_nN hx hb hd rfl hL.2 (by rw [← hL.1]; exact hk) rfl (fun ls' hl => kk ls' (mLoc.st1 hL.1 rfl hl))
      · cases hq
    · cases hq
  | astore k =>
    simp only [mloc, s_sta] at hq
    split at hq
    · split at hq
      · rename_i hk
        cases hq
        exact lv_astore hx hb hd hL.2 (by rw [← hL.1]; exact hk) rfl (fun ls' hl => kk ls' (mLoc.st1 hL.1 rfl hl))
      · cases hq
    · split at hq
      · rename_i hk
        cases hq
        exact lv_astoreN hx hb hd hL.2 (by rw [← hL.1]; exact hk) rfl (fun ls' hl => kk ls' (mLoc.st1 hL.1 rfl hl))
      · cases hq
    · cases hq
  | iinc k n =>
    simp only [mloc] at hq
    split at hq
    · rename_i v0 hv
      split at hq
      · rename_i hk
        cases hq
        have hm : al[k]? = some (some (.int v0)) := by
          unfold mld at hv
          split at hv
          · rename_i u hu
            cases hv
            exact hu
          · cases hv
        obtain ⟨j, hj⟩ := List.getElem?_of_mem (mas_mem.mpr hm)
        exact lv_iinc hx hb hd hL.2 hj rfl (by rw [← hL.1]; exact hk) rfl (fun ls' hl => kk ls' (mLoc.st1 hL.1 rfl hl))
      · cases hq
    · cases hq
  | _ => cases (show (none : Option (mL × List Value)) = some q from hq)
set_option maxHeartbeats 2000000 in
theorem mjmp_sound {x : mI} {st r : List Value} {to : Option Nat} (hq : mjmp x st = some (r, to)) (hx : p.tables.exec = Jvm.exec) (hb : c.code = cc) (hd : mDec cc pc x) (hJ : mJf pc x)
    (kt : ∀ t, to = some t → W p l e R s m args below meth c H locs cells slots Q (F0 m t ls r)) (kn : to = none → W p l e R s m args below meth c H locs cells slots Q (F0 m (pc + mlen x.1) ls r)) : W p l e R s m args below meth c H locs cells slots Q (F0 m pc ls st) := by
  obtain ⟨i, kd, a, b, d⟩ := x
  cases i with
  | goto o =>
    cases hq
    exact lv_goto hx hb hd hJ (kt _ rfl)
  | ifnull o =>
    simp only [mjmp] at hq
    split at hq
    · cases hq
      exact lv_ifnull hx hb hd (kn rfl)
    · cases hq
      exact lv_ifnullN hx hb hd hJ (kt _ rfl)
    · cases hq
  | ifnonnull o =>
    simp only [mjmp] at hq
    split at hq
    · cases hq
      exact lv_ifnonnull hx hb hd hJ (kt _ rfl)
    · cases hq
      exact lv_ifnonnullN hx hb hd (kn rfl)
    · cases hq
  | ifCond cd o =>
    simp only [mjmp] at hq
    split at hq
    · rename_i v r0
      have e1 : r0 = r ∧ (if mcz cd v = true then some a else none) = to := by cases hq; exact ⟨rfl, rfl⟩
      obtain ⟨rfl, rfl⟩ := e1
      cases cd with
      | eq => exact lv_if_eq hx hb hd hJ (fun z => kt _ (if_pos (decide_eq_true z))) (fun z => kn (if_neg (by simp only [mcz, decide_eq_true_eq]; exact z)))
      | ne => exact lv_if_ne hx hb hd hJ (fun z => kt _ (if_pos (decide_eq_true z))) (fun z => kn (if_neg (by simp only [mcz, decide_eq_true_eq]; exact fun w => w z)))
      | lt => exact lv_if_lt hx hb hd hJ (fun z => kt _ (if_pos (decide_eq_true z))) (fun z => kn (if_neg (by simp only [mcz, decide_eq_true_eq]; exact z)))
      | ge => exact lv_if_ge hx hb hd hJ (fun z => kt _ (if_pos (decide_eq_true z))) (fun z => kn (if_neg (by simp only [mcz, decide_eq_true_eq]; exact z)))
      | gt => exact lv_if_gt hx hb hd hJ (fun z => kt _ (if_pos (decide_eq_true z))) (fun z => kn (if_neg (by simp only [mcz, decide_eq_true_eq]; exact z)))
      | le => exact lv_if_le hx hb hd hJ (fun z => kt _ (if_pos (decide_eq_true z))) (fun z => kn (if_neg (by simp only [mcz, decide_eq_true_eq]; exact z)))
    · cases hq
  | if_icmp cd o =>
    simp only [mjmp] at hq
    split at hq
    · rename_i w v r0
      have e1 : r0 = r ∧ (if mcc cd v w = true then some a else none) = to := by cases hq; exact ⟨rfl, rfl⟩
      obtain ⟨rfl, rfl⟩ := e1
      cases cd with
      | eq => exact lv_icmp_eq hx hb hd hJ (fun z => kt _ (if_pos (decide_eq_true z))) (fun z => kn (if_neg (by simp only [mcc, decide_eq_true_eq]; exact z)))
      | ne => exact lv_icmp_ne hx hb hd hJ (fun z => kt _ (if_pos (decide_eq_true z))) (fun z => kn (if_neg (by simp only [mcc, decide_eq_true_eq]; exact fun w => w z)))
      | lt => exact lv_icmp_lt hx hb hd hJ (fun z => kt _ (if_pos (decide_eq_true z))) (fun z => kn (if_neg (by simp only [mcc, decide_eq_true_eq]; exact z)))
      | ge => exact lv_icmp_ge hx hb hd hJ (fun z => kt _ (if_pos (decide_eq_true z))) (fun z => kn (if_neg (by simp only [mcc, decide_eq_true_eq]; exact z)))
      | gt => exact lv_icmp_gt hx hb hd hJ (fun z => kt _ (if_pos (decide_eq_true z))) (fun z => kn (if_neg (by simp only [mcc, decide_eq_true_eq]; exact z)))
      | le => exact lv_icmp_le hx hb hd hJ (fun z => kt _ (if_pos (decide_eq_true z))) (fun z => kn (if_neg (by simp only [mcc, decide_eq_true_eq]; exact z)))
    · cases hq
  | if_acmp cd o =>
    simp only [mjmp] at hq
    split at hq
    · rename_i w v r0
      split at hq
      · rename_i rb ra h1 h2
        have e1 : r0 = r ∧ (if mca cd ra rb = true then some a else none) = to := by cases hq; exact ⟨rfl, rfl⟩
        obtain ⟨rfl, rfl⟩ := e1
        have e2 := mrf_inv h1
        have e3 := mrf_inv h2
        subst e2
        subst e3
        cases cd with
        | eq => exact lv_acmp_eq hx hb hd hJ (fun z => kt _ (if_pos (decide_eq_true z))) (fun z => kn (if_neg (by simp only [mca, decide_eq_true_eq]; exact z)))
        | ne => exact lv_acmp_ne hx hb hd hJ (fun z => kt _ (if_pos (decide_eq_true z))) (fun z => kn (if_neg (by simp only [mca, decide_eq_true_eq]; exact fun w => w z)))
      · cases hq
    · cases hq
  | tableswitch df lo hi offs =>
    obtain ⟨len, hd⟩ := hd
    obtain ⟨e0, j1, j2⟩ := hJ
    simp only at e0
    subst e0
    simp only [mjmp] at hq
    split at hq
    · split at hq
      · rename_i hc
        cases hq
        exact lv_tableOut hx hb hd hc (mtgt_eq j1) (kt _ rfl)
      · rename_i hc
        split at hq
        · rename_i o ho
          cases hq
          have hm : o ∈ offs.toList := by
            rw [← Array.getElem?_toList] at ho
            exact List.mem_of_getElem? ho
          exact lv_tableIn hx hb hd (fun z => hc (Or.inl z)) (fun z => hc (Or.inr z)) ho (mtgt_eq (j2 o hm)) (kt _ rfl)
        · cases hq
    · cases hq
  | lookupswitch df ps =>
    obtain ⟨len, hd⟩ := hd
    obtain ⟨e0, j1, j2, j3⟩ := hJ
    simp only at e0
    subst e0
    simp only [mjmp] at hq
    split at hq
    · cases hq
      refine lv_lookup hx hb hd j3 rfl (mtgt_eq ?_) (kt _ rfl)
      rcases mlook (d := df) ps.toList with h | ⟨q, hm, h⟩
      · rw [h]; exact j1
      · rw [h]; exact j2 q hm
    · cases hq
  | _ => cases (show (none : Option (List Value × Option Nat)) = some (r, to) from hq)
end MLJ
