/-! MC tables 4: the blocks stand (printed by gen/gentab.py) -/
set_option maxRecDepth 100000
theorem k395_0 : mBk gP gG 395 0 b395_0 := (bk_c (pc' := 1) (ok7 gb395 dJ16_checkLength_0) rfl (bk_c (pc' := 2) (ok7 gb395 dJ16_checkLength_1) rfl (bk_c (pc' := 5) (ok1 gb395 dJ16_checkLength_2 rfl) rfl bk_n)))
theorem k395_37 : mBk gP gG 395 37 b395_37 := (bk_c (pc' := 38) (ok3 gb395 gr395 dJ16_checkLength_37 rfl) rfl bk_n)
theorem kk395 : ∀ t, mBk gP gG 395 t (mcode gP 395 t) := mlk_row grw395 (List.forall_mem_cons.mpr ⟨k395_0, (List.forall_mem_cons.mpr ⟨k395_37, (fun _ h => absurd h List.not_mem_nil)⟩)⟩)
theorem mt395 : mMt gP gG 395 := mt_of gn395 (by decide +kernel) cw395 q170 (by rw [gh395]; exact trivial) kk395
