/-! MC tables 3: the rows by their numbers (printed by gen/gentab.py) -/
set_option maxRecDepth 100000
theorem mlk_row {i : Nat} {w : mRow} (h : gRow i = w) (hb : ∀ q ∈ w.1, mBk gP gG i q.1 q.2) : ∀ t, mBk gP gG i t (mcode gP i t) := by
  intro t
  show mBk gP gG i t (mlk (gRow i).1 t)
  rw [h]
  exact mlk_bk w.1 hb t
theorem mt_law {z : Nat} {N : MethodName} (hn : gN gG z = N) (hl : gL gG z = 100) (hh : gH gG z = []) (h5 : ∀ t, mBk gP gG z t (mcode gP z t)) (h6 : mhnd gP z = [] := by rfl) : mMt gP gG z := ⟨fun h => by rw [hl] at h; exact absurd h (by decide), by rw [hh, h6]; trivial, h5⟩
theorem grw0 : gRow 0 = w0 := rfl
theorem gn0 : gN gG 0 = yJ5_init := congrArg (fun r : mRow => r.2.2.2.1) grw0
theorem gb0 : gB gG 0 = cJ5_init := congrArg (fun r : mRow => r.2.2.2.2.1) grw0
theorem gr0 : gR gG 0 = (none : Option FieldType) := congrArg (fun r : mRow => r.2.2.2.2.2.1) grw0
theorem lv0 : gL gG 0 = 3 := congrArg (fun r : mRow => r.2.2.2.2.2.2.1) grw0
theorem gh0 : gH gG 0 = [] := congrArg (fun r : mRow => r.2.2.2.2.2.2.2) grw0
theorem gm0 : mmax gP 0 = 2 := congrArg (fun r : mRow => r.2.1) grw0
theorem cw0 : mCw gP gG 0 ∈ lw_all := cw_of gh0 gn0 gb0 gm0 gr0 q298
theorem tg0 : mTg gP gG 0 1 := tg_of gn0 gm0 cw0 (by decide) ⟨by decide +kernel, by decide +kernel⟩ (by decide +kernel)
theorem grw1 : gRow 1 = w1 := rfl
theorem gn1 : gN gG 1 = yJ5_add := congrArg (fun r : mRow => r.2.2.2.1) grw1
theorem gb1 : gB gG 1 = cJ5_add := congrArg (fun r : mRow => r.2.2.2.2.1) grw1
theorem gr1 : gR gG 1 = (Option.some Jvm.ClassFile.FieldType.boolean : Option FieldType) := congrArg (fun r : mRow => r.2.2.2.2.2.1) grw1
theorem lv1 : gL gG 1 = 6 := congrArg (fun r : mRow => r.2.2.2.2.2.2.1) grw1
theorem gh1 : gH gG 1 = [] := congrArg (fun r : mRow => r.2.2.2.2.2.2.2) grw1
theorem gm1 : mmax gP 1 = 2 := congrArg (fun r : mRow => r.2.1) grw1
theorem cw1 : mCw gP gG 1 ∈ lw_all := cw_of gh1 gn1 gb1 gm1 gr1 q705
theorem tg1 : mTg gP gG 1 1 := tg_of gn1 gm1 cw1 (by decide) ⟨by decide +kernel, by decide +kernel⟩ (by decide +kernel)
theorem grw2 : gRow 2 = w2 := rfl
theorem gn2 : gN gG 2 = yJ5_get := congrArg (fun r : mRow => r.2.2.2.1) grw2
theorem gb2 : gB gG 2 = cJ5_get := congrArg (fun r : mRow => r.2.2.2.2.1) grw2
theorem gr2 : gR gG 2 = (Option.some (Jvm.ClassFile.FieldType.object "java/lang/Object") : Option FieldType) := congrArg (fun r : mRow => r.2.2.2.2.2.1) grw2
theorem lv2 : gL gG 2 = 3 := congrArg (fun r : mRow => r.2.2.2.2.2.2.1) grw2
theorem gh2 : gH gG 2 = [] := congrArg (fun r : mRow => r.2.2.2.2.2.2.2) grw2
theorem gm2 : mmax gP 2 = 2 := congrArg (fun r : mRow => r.2.1) grw2
theorem cw2 : mCw gP gG 2 ∈ lw_all := cw_of gh2 gn2 gb2 gm2 gr2 q1449
theorem tg2 : mTg gP gG 2 1 := tg_of gn2 gm2 cw2 (by decide) ⟨by decide +kernel, by decide +kernel⟩ (by decide +kernel)
theorem grw3 : gRow 3 = w3 := rfl
theorem gn3 : gN gG 3 = yJ5_size := congrArg (fun r : mRow => r.2.2.2.1) grw3
theorem gb3 : gB gG 3 = cJ5_size := congrArg (fun r : mRow => r.2.2.2.2.1) grw3
theorem gr3 : gR gG 3 = (Option.some Jvm.ClassFile.FieldType.int : Option FieldType) := congrArg (fun r : mRow => r.2.2.2.2.2.1) grw3
theorem lv3 : gL gG 3 = 1 := congrArg (fun r : mRow => r.2.2.2.2.2.2.1) grw3
theorem gh3 : gH gG 3 = [] := congrArg (fun r : mRow => r.2.2.2.2.2.2.2) grw3
theorem gm3 : mmax gP 3 = 1 := congrArg (fun r : mRow => r.2.1) grw3
theorem cw3 : mCw gP gG 3 ∈ lw_all := cw_of gh3 gn3 gb3 gm3 gr3 q771
theorem tg3 : mTg gP gG 3 0 := tg_of gn3 gm3 cw3 (by decide) ⟨by decide +kernel, by decide +kernel⟩ (by decide +kernel)
theorem grw4 : gRow 4 = w4 := rfl
theorem gn4 : gN gG 4 = yJ5_isEmpty := congrArg (fun r : mRow => r.2.2.2.1) grw4
theorem gb4 : gB gG 4 = cJ5_isEmpty := congrArg (fun r : mRow => r.2.2.2.2.1) grw4
theorem gr4 : gR gG 4 = (Option.some Jvm.ClassFile.FieldType.boolean : Option FieldType) := congrArg (fun r : mRow => r.2.2.2.2.2.1) grw4
theorem lv4 : gL gG 4 = 1 := congrArg (fun r : mRow => r.2.2.2.2.2.2.1) grw4
theorem gh4 : gH gG 4 = [] := congrArg (fun r : mRow => r.2.2.2.2.2.2.2) grw4
theorem gm4 : mmax gP 4 = 1 := congrArg (fun r : mRow => r.2.1) grw4
theorem cw4 : mCw gP gG 4 ∈ lw_all := cw_of gh4 gn4 gb4 gm4 gr4 q1520
theorem tg4 : mTg gP gG 4 0 := tg_of gn4 gm4 cw4 (by decide) ⟨by decide +kernel, by decide +kernel⟩ (by decide +kernel)
theorem grw5 : gRow 5 = w5 := rfl
theorem gn5 : gN gG 5 = yJ5_add_2 := congrArg (fun r : mRow => r.2.2.2.1) grw5
theorem gb5 : gB gG 5 = cJ5_add_2 := congrArg (fun r : mRow => r.2.2.2.2.1) grw5
theorem gr5 : gR gG 5 = (none : Option FieldType) := congrArg (fun r : mRow => r.2.2.2.2.2.1) grw5
theorem lv5 : gL gG 5 = 5 := congrArg (fun r : mRow => r.2.2.2.2.2.2.1) grw5
theorem gh5 : gH gG 5 = [] := congrArg (fun r : mRow => r.2.2.2.2.2.2.2) grw5
theorem gm5 : mmax gP 5 = 4 := congrArg (fun r : mRow => r.2.1) grw5
theorem cw5 : mCw gP gG 5 ∈ lw_all := cw_of gh5 gn5 gb5 gm5 gr5 q709
theorem tg5 : mTg gP gG 5 3 := tg_of gn5 gm5 cw5 (by decide) ⟨by decide +kernel, by decide +kernel⟩ (by decide +kernel)
theorem grw6 : gRow 6 = w6 := rfl
theorem gn6 : gN gG 6 = yJ5_elementData := congrArg (fun r : mRow => r.2.2.2.1) grw6
theorem gb6 : gB gG 6 = cJ5_elementData := congrArg (fun r : mRow => r.2.2.2.2.1) grw6
theorem gr6 : gR gG 6 = (Option.some (Jvm.ClassFile.FieldType.object "java/lang/Object") : Option FieldType) := congrArg (fun r : mRow => r.2.2.2.2.2.1) grw6
theorem lv6 : gL gG 6 = 1 := congrArg (fun r : mRow => r.2.2.2.2.2.2.1) grw6
theorem gh6 : gH gG 6 = [] := congrArg (fun r : mRow => r.2.2.2.2.2.2.2) grw6
theorem gm6 : mmax gP 6 = 2 := congrArg (fun r : mRow => r.2.1) grw6
theorem cw6 : mCw gP gG 6 ∈ lw_all := cw_of gh6 gn6 gb6 gm6 gr6 q1459
theorem tg6 : mTg gP gG 6 1 := tg_of gn6 gm6 cw6 (by decide) ⟨by decide +kernel, by decide +kernel⟩ (by decide +kernel)
theorem grw7 : gRow 7 = w7 := rfl
theorem gn7 : gN gG 7 = yJ5_grow := congrArg (fun r : mRow => r.2.2.2.1) grw7
theorem gb7 : gB gG 7 = cJ5_grow := congrArg (fun r : mRow => r.2.2.2.2.1) grw7
theorem gr7 : gR gG 7 = (Option.some (Jvm.ClassFile.FieldType.array (Jvm.ClassFile.FieldType.object "java/lang/Object")) : Option FieldType) := congrArg (fun r : mRow => r.2.2.2.2.2.1) grw7
theorem lv7 : gL gG 7 = 4 := congrArg (fun r : mRow => r.2.2.2.2.2.2.1) grw7
theorem gh7 : gH gG 7 = [] := congrArg (fun r : mRow => r.2.2.2.2.2.2.2) grw7
theorem gm7 : mmax gP 7 = 1 := congrArg (fun r : mRow => r.2.1) grw7
theorem cw7 : mCw gP gG 7 ∈ lw_all := cw_of gh7 gn7 gb7 gm7 gr7 q713
theorem tg7 : mTg gP gG 7 0 := tg_of gn7 gm7 cw7 (by decide) ⟨by decide +kernel, by decide +kernel⟩ (by decide +kernel)
theorem grw8 : gRow 8 = w8 := rfl
theorem gn8 : gN gG 8 = yJ5_grow_2 := congrArg (fun r : mRow => r.2.2.2.1) grw8
theorem gb8 : gB gG 8 = cJ5_grow_2 := congrArg (fun r : mRow => r.2.2.2.2.1) grw8
theorem gr8 : gR gG 8 = (Option.some (Jvm.ClassFile.FieldType.array (Jvm.ClassFile.FieldType.object "java/lang/Object")) : Option FieldType) := congrArg (fun r : mRow => r.2.2.2.2.2.1) grw8
theorem lv8 : gL gG 8 = 3 := congrArg (fun r : mRow => r.2.2.2.2.2.2.1) grw8
theorem gh8 : gH gG 8 = [] := congrArg (fun r : mRow => r.2.2.2.2.2.2.2) grw8
theorem gm8 : mmax gP 8 = 4 := congrArg (fun r : mRow => r.2.1) grw8
theorem cw8 : mCw gP gG 8 ∈ lw_all := cw_of gh8 gn8 gb8 gm8 gr8 q717
theorem tg8 : mTg gP gG 8 1 := tg_of gn8 gm8 cw8 (by decide) ⟨by decide +kernel, by decide +kernel⟩ (by decide +kernel)
theorem grw9 : gRow 9 = w9 := rfl
theorem gn9 : gN gG 9 = yJ4_init := congrArg (fun r : mRow => r.2.2.2.1) grw9
theorem gb9 : gB gG 9 = cJ4_init := congrArg (fun r : mRow => r.2.2.2.2.1) grw9
theorem gr9 : gR gG 9 = (none : Option FieldType) := congrArg (fun r : mRow => r.2.2.2.2.2.1) grw9
theorem lv9 : gL gG 9 = 2 := congrArg (fun r : mRow => r.2.2.2.2.2.2.1) grw9
theorem gh9 : gH gG 9 = [] := congrArg (fun r : mRow => r.2.2.2.2.2.2.2) grw9
theorem gm9 : mmax gP 9 = 1 := congrArg (fun r : mRow => r.2.1) grw9
theorem cw9 : mCw gP gG 9 ∈ lw_all := cw_of gh9 gn9 gb9 gm9 gr9 q301
theorem tg9 : mTg gP gG 9 0 := tg_of gn9 gm9 cw9 (by decide) ⟨by decide +kernel, by decide +kernel⟩ (by decide +kernel)
theorem grw10 : gRow 10 = w10 := rfl
theorem gn10 : gN gG 10 = yJ0_init := congrArg (fun r : mRow => r.2.2.2.1) grw10
theorem gb10 : gB gG 10 = cJ0_init := congrArg (fun r : mRow => r.2.2.2.2.1) grw10
theorem gr10 : gR gG 10 = (none : Option FieldType) := congrArg (fun r : mRow => r.2.2.2.2.2.1) grw10
theorem lv10 : gL gG 10 = 1 := congrArg (fun r : mRow => r.2.2.2.2.2.2.1) grw10
theorem gh10 : gH gG 10 = [] := congrArg (fun r : mRow => r.2.2.2.2.2.2.2) grw10
theorem gm10 : mmax gP 10 = 1 := congrArg (fun r : mRow => r.2.1) grw10
theorem cw10 : mCw gP gG 10 ∈ lw_all := cw_of gh10 gn10 gb10 gm10 gr10 q215
theorem tg10 : mTg gP gG 10 0 := tg_of gn10 gm10 cw10 (by decide) ⟨by decide +kernel, by decide +kernel⟩ (by decide +kernel)
theorem grw11 : gRow 11 = w11 := rfl
theorem gn11 : gN gG 11 = yJ29_checkIndex := congrArg (fun r : mRow => r.2.2.2.1) grw11
theorem gb11 : gB gG 11 = cJ29_checkIndex := congrArg (fun r : mRow => r.2.2.2.2.1) grw11
theorem gr11 : gR gG 11 = (Option.some Jvm.ClassFile.FieldType.int : Option FieldType) := congrArg (fun r : mRow => r.2.2.2.2.2.1) grw11
theorem lv11 : gL gG 11 = 2 := congrArg (fun r : mRow => r.2.2.2.2.2.2.1) grw11
theorem gh11 : gH gG 11 = [] := congrArg (fun r : mRow => r.2.2.2.2.2.2.2) grw11
theorem gm11 : mmax gP 11 = 2 := congrArg (fun r : mRow => r.2.1) grw11
theorem cw11 : mCw gP gG 11 ∈ lw_all := cw_of gh11 gn11 gb11 gm11 gr11 q1452
theorem tg11 : mTg gP gG 11 2 := tg_of gn11 gm11 cw11 (by decide) ⟨by decide +kernel, by decide +kernel⟩ (by decide +kernel)
theorem grw12 : gRow 12 = w12 := rfl
theorem gn12 : gN gG 12 = yJ17_checkIndex := congrArg (fun r : mRow => r.2.2.2.1) grw12
theorem gb12 : gB gG 12 = cJ17_checkIndex := congrArg (fun r : mRow => r.2.2.2.2.1) grw12
theorem gr12 : gR gG 12 = (Option.some Jvm.ClassFile.FieldType.int : Option FieldType) := congrArg (fun r : mRow => r.2.2.2.2.2.1) grw12
theorem lv12 : gL gG 12 = 1 := congrArg (fun r : mRow => r.2.2.2.2.2.2.1) grw12
theorem gh12 : gH gG 12 = [] := congrArg (fun r : mRow => r.2.2.2.2.2.2.2) grw12
theorem gm12 : mmax gP 12 = 3 := congrArg (fun r : mRow => r.2.1) grw12
theorem cw12 : mCw gP gG 12 ∈ lw_all := cw_of gh12 gn12 gb12 gm12 gr12 q1455
theorem tg12 : mTg gP gG 12 3 := tg_of gn12 gm12 cw12 (by decide) ⟨by decide +kernel, by decide +kernel⟩ (by decide +kernel)
theorem grw13 : gRow 13 = w13 := rfl
theorem gn13 : gN gG 13 = yJ16_copyOf := congrArg (fun r : mRow => r.2.2.2.1) grw13
theorem gb13 : gB gG 13 = cJ16_copyOf := congrArg (fun r : mRow => r.2.2.2.2.1) grw13
theorem gr13 : gR gG 13 = (Option.some (Jvm.ClassFile.FieldType.array Jvm.ClassFile.FieldType.byte) : Option FieldType) := congrArg (fun r : mRow => r.2.2.2.2.2.1) grw13
theorem lv13 : gL gG 13 = 1 := congrArg (fun r : mRow => r.2.2.2.2.2.2.1) grw13
theorem gh13 : gH gG 13 = [] := congrArg (fun r : mRow => r.2.2.2.2.2.2.2) grw13
theorem gm13 : mmax gP 13 = 3 := congrArg (fun r : mRow => r.2.1) grw13
theorem cw13 : mCw gP gG 13 ∈ lw_all := cw_of gh13 gn13 gb13 gm13 gr13 q416
theorem tg13 : mTg gP gG 13 2 := tg_of gn13 gm13 cw13 (by decide) ⟨by decide +kernel, by decide +kernel⟩ (by decide +kernel)
theorem grw14 : gRow 14 = w14 := rfl
theorem gn14 : gN gG 14 = yJ16_copyOf_2 := congrArg (fun r : mRow => r.2.2.2.1) grw14
theorem gb14 : gB gG 14 = cJ16_copyOf_2 := congrArg (fun r : mRow => r.2.2.2.2.1) grw14
theorem gr14 : gR gG 14 = (Option.some (Jvm.ClassFile.FieldType.array (Jvm.ClassFile.FieldType.object "java/lang/Object")) : Option FieldType) := congrArg (fun r : mRow => r.2.2.2.2.2.1) grw14
theorem lv14 : gL gG 14 = 2 := congrArg (fun r : mRow => r.2.2.2.2.2.2.1) grw14
theorem gh14 : gH gG 14 = [] := congrArg (fun r : mRow => r.2.2.2.2.2.2.2) grw14
theorem gm14 : mmax gP 14 = 2 := congrArg (fun r : mRow => r.2.1) grw14
theorem cw14 : mCw gP gG 14 ∈ lw_all := cw_of gh14 gn14 gb14 gm14 gr14 q723
theorem tg14 : mTg gP gG 14 2 := tg_of gn14 gm14 cw14 (by decide) ⟨by decide +kernel, by decide +kernel⟩ (by decide +kernel)
theorem grw15 : gRow 15 = w15 := rfl
theorem gn15 : gN gG 15 = yJ16_copyOf_3 := congrArg (fun r : mRow => r.2.2.2.1) grw15
theorem gb15 : gB gG 15 = cJ16_copyOf_3 := congrArg (fun r : mRow => r.2.2.2.2.1) grw15
theorem gr15 : gR gG 15 = (Option.some (Jvm.ClassFile.FieldType.array (Jvm.ClassFile.FieldType.object "java/lang/Object")) : Option FieldType) := congrArg (fun r : mRow => r.2.2.2.2.2.1) grw15
theorem lv15 : gL gG 15 = 1 := congrArg (fun r : mRow => r.2.2.2.2.2.2.1) grw15
theorem gh15 : gH gG 15 = [] := congrArg (fun r : mRow => r.2.2.2.2.2.2.2) grw15
theorem gm15 : mmax gP 15 = 4 := congrArg (fun r : mRow => r.2.1) grw15
theorem cw15 : mCw gP gG 15 ∈ lw_all := cw_of gh15 gn15 gb15 gm15 gr15 q758
theorem tg15 : mTg gP gG 15 3 := tg_of gn15 gm15 cw15 (by decide) ⟨by decide +kernel, by decide +kernel⟩ (by decide +kernel)
theorem grw16 : gRow 16 = w16 := rfl
theorem gn16 : gN gG 16 = yJ16_copyOfRange := congrArg (fun r : mRow => r.2.2.2.1) grw16
theorem gb16 : gB gG 16 = cJ16_copyOfRange := congrArg (fun r : mRow => r.2.2.2.2.1) grw16
theorem gr16 : gR gG 16 = (Option.some (Jvm.ClassFile.FieldType.array Jvm.ClassFile.FieldType.byte) : Option FieldType) := congrArg (fun r : mRow => r.2.2.2.2.2.1) grw16
theorem lv16 : gL gG 16 = 3 := congrArg (fun r : mRow => r.2.2.2.2.2.2.1) grw16
theorem gh16 : gH gG 16 = [] := congrArg (fun r : mRow => r.2.2.2.2.2.2.2) grw16
theorem gm16 : mmax gP 16 = 3 := congrArg (fun r : mRow => r.2.1) grw16
theorem cw16 : mCw gP gG 16 ∈ lw_all := cw_of gh16 gn16 gb16 gm16 gr16 q558
theorem tg16 : mTg gP gG 16 3 := tg_of gn16 gm16 cw16 (by decide) ⟨by decide +kernel, by decide +kernel⟩ (by decide +kernel)
theorem grw17 : gRow 17 = w17 := rfl
theorem gn17 : gN gG 17 = yJ16_copyOfRangeByte := congrArg (fun r : mRow => r.2.2.2.1) grw17
theorem gb17 : gB gG 17 = cJ16_copyOfRangeByte := congrArg (fun r : mRow => r.2.2.2.2.1) grw17
theorem gr17 : gR gG 17 = (Option.some (Jvm.ClassFile.FieldType.array Jvm.ClassFile.FieldType.byte) : Option FieldType) := congrArg (fun r : mRow => r.2.2.2.2.2.1) grw17
theorem lv17 : gL gG 17 = 2 := congrArg (fun r : mRow => r.2.2.2.2.2.2.1) grw17
theorem gh17 : gH gG 17 = [] := congrArg (fun r : mRow => r.2.2.2.2.2.2.2) grw17
theorem gm17 : mmax gP 17 = 5 := congrArg (fun r : mRow => r.2.1) grw17
theorem cw17 : mCw gP gG 17 ∈ lw_all := cw_of gh17 gn17 gb17 gm17 gr17 q561
theorem tg17 : mTg gP gG 17 3 := tg_of gn17 gm17 cw17 (by decide) ⟨by decide +kernel, by decide +kernel⟩ (by decide +kernel)
theorem grw18 : gRow 18 = w18 := rfl
theorem gn18 : gN gG 18 = yJ14_newLength := congrArg (fun r : mRow => r.2.2.2.1) grw18
theorem gb18 : gB gG 18 = cJ14_newLength := congrArg (fun r : mRow => r.2.2.2.2.1) grw18
theorem gr18 : gR gG 18 = (Option.some Jvm.ClassFile.FieldType.int : Option FieldType) := congrArg (fun r : mRow => r.2.2.2.2.2.1) grw18
theorem lv18 : gL gG 18 = 1 := congrArg (fun r : mRow => r.2.2.2.2.2.2.1) grw18
theorem gh18 : gH gG 18 = [] := congrArg (fun r : mRow => r.2.2.2.2.2.2.2) grw18
theorem gm18 : mmax gP 18 = 4 := congrArg (fun r : mRow => r.2.1) grw18
theorem cw18 : mCw gP gG 18 ∈ lw_all := cw_of gh18 gn18 gb18 gm18 gr18 q405
theorem tg18 : mTg gP gG 18 3 := tg_of gn18 gm18 cw18 (by decide) ⟨by decide +kernel, by decide +kernel⟩ (by decide +kernel)
theorem grw19 : gRow 19 = w19 := rfl
theorem gn19 : gN gG 19 = yJ14_vectorizedHashCode := congrArg (fun r : mRow => r.2.2.2.1) grw19
theorem gb19 : gB gG 19 = cJ14_vectorizedHashCode := congrArg (fun r : mRow => r.2.2.2.2.1) grw19
theorem gr19 : gR gG 19 = (Option.some Jvm.ClassFile.FieldType.int : Option FieldType) := congrArg (fun r : mRow => r.2.2.2.2.2.1) grw19
theorem lv19 : gL gG 19 = 2 := congrArg (fun r : mRow => r.2.2.2.2.2.2.1) grw19
theorem gh19 : gH gG 19 = [] := congrArg (fun r : mRow => r.2.2.2.2.2.2.2) grw19
theorem gm19 : mmax gP 19 = 5 := congrArg (fun r : mRow => r.2.1) grw19
theorem cw19 : mCw gP gG 19 ∈ lw_all := cw_of gh19 gn19 gb19 gm19 gr19 q869
theorem tg19 : mTg gP gG 19 5 := tg_of gn19 gm19 cw19 (by decide) ⟨by decide +kernel, by decide +kernel⟩ (by decide +kernel)
theorem grw20 : gRow 20 = w20 := rfl
theorem gn20 : gN gG 20 = yJ14_signedHashCode := congrArg (fun r : mRow => r.2.2.2.1) grw20
theorem gb20 : gB gG 20 = cJ14_signedHashCode := congrArg (fun r : mRow => r.2.2.2.2.1) grw20
theorem gr20 : gR gG 20 = (Option.some Jvm.ClassFile.FieldType.int : Option FieldType) := congrArg (fun r : mRow => r.2.2.2.2.2.1) grw20
theorem lv20 : gL gG 20 = 1 := congrArg (fun r : mRow => r.2.2.2.2.2.2.1) grw20
theorem gh20 : gH gG 20 = [] := congrArg (fun r : mRow => r.2.2.2.2.2.2.2) grw20
theorem gm20 : mmax gP 20 = 6 := congrArg (fun r : mRow => r.2.1) grw20
theorem cw20 : mCw gP gG 20 ∈ lw_all := cw_of gh20 gn20 gb20 gm20 gr20 q873
theorem tg20 : mTg gP gG 20 4 := tg_of gn20 gm20 cw20 (by decide) ⟨by decide +kernel, by decide +kernel⟩ (by decide +kernel)
theorem grw21 : gRow 21 = w21 := rfl
theorem gn21 : gN gG 21 = yJ1_init := congrArg (fun r : mRow => r.2.2.2.1) grw21
theorem gb21 : gB gG 21 = cJ1_init := congrArg (fun r : mRow => r.2.2.2.2.1) grw21
theorem gr21 : gR gG 21 = (none : Option FieldType) := congrArg (fun r : mRow => r.2.2.2.2.2.1) grw21
theorem lv21 : gL gG 21 = 2 := congrArg (fun r : mRow => r.2.2.2.2.2.2.1) grw21
theorem gh21 : gH gG 21 = [] := congrArg (fun r : mRow => r.2.2.2.2.2.2.2) grw21
theorem gm21 : mmax gP 21 = 1 := congrArg (fun r : mRow => r.2.1) grw21
theorem cw21 : mCw gP gG 21 ∈ lw_all := cw_of gh21 gn21 gb21 gm21 gr21 q212
theorem tg21 : mTg gP gG 21 0 := tg_of gn21 gm21 cw21 (by decide) ⟨by decide +kernel, by decide +kernel⟩ (by decide +kernel)
theorem grw22 : gRow 22 = w22 := rfl
theorem gn22 : gN gG 22 = yJ1_addLast := congrArg (fun r : mRow => r.2.2.2.1) grw22
theorem gb22 : gB gG 22 = cJ1_addLast := congrArg (fun r : mRow => r.2.2.2.2.1) grw22
theorem gr22 : gR gG 22 = (none : Option FieldType) := congrArg (fun r : mRow => r.2.2.2.2.2.1) grw22
theorem lv22 : gL gG 22 = 2 := congrArg (fun r : mRow => r.2.2.2.2.2.2.1) grw22
theorem gh22 : gH gG 22 = [] := congrArg (fun r : mRow => r.2.2.2.2.2.2.2) grw22
theorem gm22 : mmax gP 22 = 3 := congrArg (fun r : mRow => r.2.1) grw22
theorem cw22 : mCw gP gG 22 ∈ lw_all := cw_of gh22 gn22 gb22 gm22 gr22 q1819
theorem tg22 : mTg gP gG 22 1 := tg_of gn22 gm22 cw22 (by decide) ⟨by decide +kernel, by decide +kernel⟩ (by decide +kernel)
theorem grw23 : gRow 23 = w23 := rfl
theorem gn23 : gN gG 23 = yJ1_clear := congrArg (fun r : mRow => r.2.2.2.1) grw23
theorem gb23 : gB gG 23 = cJ1_clear := congrArg (fun r : mRow => r.2.2.2.2.1) grw23
theorem gr23 : gR gG 23 = (none : Option FieldType) := congrArg (fun r : mRow => r.2.2.2.2.2.1) grw23
theorem lv23 : gL gG 23 = 2 := congrArg (fun r : mRow => r.2.2.2.2.2.2.1) grw23
theorem gh23 : gH gG 23 = [] := congrArg (fun r : mRow => r.2.2.2.2.2.2.2) grw23
theorem gm23 : mmax gP 23 = 1 := congrArg (fun r : mRow => r.2.1) grw23
theorem cw23 : mCw gP gG 23 ∈ lw_all := cw_of gh23 gn23 gb23 gm23 gr23 q1755
theorem tg23 : mTg gP gG 23 0 := tg_of gn23 gm23 cw23 (by decide) ⟨by decide +kernel, by decide +kernel⟩ (by decide +kernel)
theorem grw24 : gRow 24 = w24 := rfl
theorem gn24 : gN gG 24 = yJ1_isEmpty := congrArg (fun r : mRow => r.2.2.2.1) grw24
theorem gb24 : gB gG 24 = cJ1_isEmpty := congrArg (fun r : mRow => r.2.2.2.2.1) grw24
theorem gr24 : gR gG 24 = (Option.some Jvm.ClassFile.FieldType.boolean : Option FieldType) := congrArg (fun r : mRow => r.2.2.2.2.2.1) grw24
theorem lv24 : gL gG 24 = 1 := congrArg (fun r : mRow => r.2.2.2.2.2.2.1) grw24
theorem gh24 : gH gG 24 = [] := congrArg (fun r : mRow => r.2.2.2.2.2.2.2) grw24
theorem gm24 : mmax gP 24 = 1 := congrArg (fun r : mRow => r.2.1) grw24
theorem cw24 : mCw gP gG 24 ∈ lw_all := cw_of gh24 gn24 gb24 gm24 gr24 q1854
theorem tg24 : mTg gP gG 24 0 := tg_of gn24 gm24 cw24 (by decide) ⟨by decide +kernel, by decide +kernel⟩ (by decide +kernel)
theorem grw25 : gRow 25 = w25 := rfl
theorem gn25 : gN gG 25 = yJ1_pollFirst := congrArg (fun r : mRow => r.2.2.2.1) grw25
theorem gb25 : gB gG 25 = cJ1_pollFirst := congrArg (fun r : mRow => r.2.2.2.2.1) grw25
theorem gr25 : gR gG 25 = (Option.some (Jvm.ClassFile.FieldType.object "java/lang/Object") : Option FieldType) := congrArg (fun r : mRow => r.2.2.2.2.2.1) grw25
theorem lv25 : gL gG 25 = 2 := congrArg (fun r : mRow => r.2.2.2.2.2.2.1) grw25
theorem gh25 : gH gG 25 = [] := congrArg (fun r : mRow => r.2.2.2.2.2.2.2) grw25
theorem gm25 : mmax gP 25 = 4 := congrArg (fun r : mRow => r.2.1) grw25
theorem cw25 : mCw gP gG 25 ∈ lw_all := cw_of gh25 gn25 gb25 gm25 gr25 q1858
theorem tg25 : mTg gP gG 25 0 := tg_of gn25 gm25 cw25 (by decide) ⟨by decide +kernel, by decide +kernel⟩ (by decide +kernel)
theorem grw26 : gRow 26 = w26 := rfl
theorem gn26 : gN gG 26 = yJ1_pollLast := congrArg (fun r : mRow => r.2.2.2.1) grw26
theorem gb26 : gB gG 26 = cJ1_pollLast := congrArg (fun r : mRow => r.2.2.2.2.1) grw26
theorem gr26 : gR gG 26 = (Option.some (Jvm.ClassFile.FieldType.object "java/lang/Object") : Option FieldType) := congrArg (fun r : mRow => r.2.2.2.2.2.1) grw26
theorem lv26 : gL gG 26 = 2 := congrArg (fun r : mRow => r.2.2.2.2.2.2.1) grw26
theorem gh26 : gH gG 26 = [] := congrArg (fun r : mRow => r.2.2.2.2.2.2.2) grw26
theorem gm26 : mmax gP 26 = 4 := congrArg (fun r : mRow => r.2.1) grw26
theorem cw26 : mCw gP gG 26 ∈ lw_all := cw_of gh26 gn26 gb26 gm26 gr26 q2095
theorem tg26 : mTg gP gG 26 0 := tg_of gn26 gm26 cw26 (by decide) ⟨by decide +kernel, by decide +kernel⟩ (by decide +kernel)
theorem grw27 : gRow 27 = w27 := rfl
theorem gn27 : gN gG 27 = yJ1_size := congrArg (fun r : mRow => r.2.2.2.1) grw27
theorem gb27 : gB gG 27 = cJ1_size := congrArg (fun r : mRow => r.2.2.2.2.1) grw27
theorem gr27 : gR gG 27 = (Option.some Jvm.ClassFile.FieldType.int : Option FieldType) := congrArg (fun r : mRow => r.2.2.2.2.2.1) grw27
theorem lv27 : gL gG 27 = 2 := congrArg (fun r : mRow => r.2.2.2.2.2.2.1) grw27
theorem gh27 : gH gG 27 = [] := congrArg (fun r : mRow => r.2.2.2.2.2.2.2) grw27
theorem gm27 : mmax gP 27 = 1 := congrArg (fun r : mRow => r.2.1) grw27
theorem cw27 : mCw gP gG 27 ∈ lw_all := cw_of gh27 gn27 gb27 gm27 gr27 q1781
theorem tg27 : mTg gP gG 27 0 := tg_of gn27 gm27 cw27 (by decide) ⟨by decide +kernel, by decide +kernel⟩ (by decide +kernel)
theorem grw28 : gRow 28 = w28 := rfl
theorem gn28 : gN gG 28 = yJ1_inc := congrArg (fun r : mRow => r.2.2.2.1) grw28
theorem gb28 : gB gG 28 = cJ1_inc := congrArg (fun r : mRow => r.2.2.2.2.1) grw28
theorem gr28 : gR gG 28 = (Option.some Jvm.ClassFile.FieldType.int : Option FieldType) := congrArg (fun r : mRow => r.2.2.2.2.2.1) grw28
theorem lv28 : gL gG 28 = 1 := congrArg (fun r : mRow => r.2.2.2.2.2.2.1) grw28
theorem gh28 : gH gG 28 = [] := congrArg (fun r : mRow => r.2.2.2.2.2.2.2) grw28
theorem gm28 : mmax gP 28 = 2 := congrArg (fun r : mRow => r.2.1) grw28
theorem cw28 : mCw gP gG 28 ∈ lw_all := cw_of gh28 gn28 gb28 gm28 gr28 q1822
theorem tg28 : mTg gP gG 28 2 := tg_of gn28 gm28 cw28 (by decide) ⟨by decide +kernel, by decide +kernel⟩ (by decide +kernel)
theorem grw29 : gRow 29 = w29 := rfl
theorem gn29 : gN gG 29 = yJ1_circularClear := congrArg (fun r : mRow => r.2.2.2.1) grw29
theorem gb29 : gB gG 29 = cJ1_circularClear := congrArg (fun r : mRow => r.2.2.2.2.1) grw29
theorem gr29 : gR gG 29 = (none : Option FieldType) := congrArg (fun r : mRow => r.2.2.2.2.2.1) grw29
theorem lv29 : gL gG 29 = 1 := congrArg (fun r : mRow => r.2.2.2.2.2.2.1) grw29
theorem gh29 : gH gG 29 = [] := congrArg (fun r : mRow => r.2.2.2.2.2.2.2) grw29
theorem gm29 : mmax gP 29 = 4 := congrArg (fun r : mRow => r.2.1) grw29
theorem cw29 : mCw gP gG 29 ∈ lw_all := cw_of gh29 gn29 gb29 gm29 gr29 q1758
theorem tg29 : mTg gP gG 29 3 := tg_of gn29 gm29 cw29 (by decide) ⟨by decide +kernel, by decide +kernel⟩ (by decide +kernel)
theorem grw30 : gRow 30 = w30 := rfl
theorem gn30 : gN gG 30 = yJ1_elementAt := congrArg (fun r : mRow => r.2.2.2.1) grw30
theorem gb30 : gB gG 30 = cJ1_elementAt := congrArg (fun r : mRow => r.2.2.2.2.1) grw30
theorem gr30 : gR gG 30 = (Option.some (Jvm.ClassFile.FieldType.object "java/lang/Object") : Option FieldType) := congrArg (fun r : mRow => r.2.2.2.2.2.1) grw30
theorem lv30 : gL gG 30 = 1 := congrArg (fun r : mRow => r.2.2.2.2.2.2.1) grw30
theorem gh30 : gH gG 30 = [] := congrArg (fun r : mRow => r.2.2.2.2.2.2.2) grw30
theorem gm30 : mmax gP 30 = 2 := congrArg (fun r : mRow => r.2.1) grw30
theorem cw30 : mCw gP gG 30 ∈ lw_all := cw_of gh30 gn30 gb30 gm30 gr30 q1861
theorem tg30 : mTg gP gG 30 2 := tg_of gn30 gm30 cw30 (by decide) ⟨by decide +kernel, by decide +kernel⟩ (by decide +kernel)
theorem grw31 : gRow 31 = w31 := rfl
theorem gn31 : gN gG 31 = yJ1_dec := congrArg (fun r : mRow => r.2.2.2.1) grw31
theorem gb31 : gB gG 31 = cJ1_dec := congrArg (fun r : mRow => r.2.2.2.2.1) grw31
theorem gr31 : gR gG 31 = (Option.some Jvm.ClassFile.FieldType.int : Option FieldType) := congrArg (fun r : mRow => r.2.2.2.2.2.1) grw31
theorem lv31 : gL gG 31 = 1 := congrArg (fun r : mRow => r.2.2.2.2.2.2.1) grw31
theorem gh31 : gH gG 31 = [] := congrArg (fun r : mRow => r.2.2.2.2.2.2.2) grw31
theorem gm31 : mmax gP 31 = 2 := congrArg (fun r : mRow => r.2.1) grw31
theorem cw31 : mCw gP gG 31 ∈ lw_all := cw_of gh31 gn31 gb31 gm31 gr31 q2098
theorem tg31 : mTg gP gG 31 2 := tg_of gn31 gm31 cw31 (by decide) ⟨by decide +kernel, by decide +kernel⟩ (by decide +kernel)
theorem grw32 : gRow 32 = w32 := rfl
theorem gn32 : gN gG 32 = yJ1_sub := congrArg (fun r : mRow => r.2.2.2.1) grw32
theorem gb32 : gB gG 32 = cJ1_sub := congrArg (fun r : mRow => r.2.2.2.2.1) grw32
theorem gr32 : gR gG 32 = (Option.some Jvm.ClassFile.FieldType.int : Option FieldType) := congrArg (fun r : mRow => r.2.2.2.2.2.1) grw32
theorem lv32 : gL gG 32 = 1 := congrArg (fun r : mRow => r.2.2.2.2.2.2.1) grw32
theorem gh32 : gH gG 32 = [] := congrArg (fun r : mRow => r.2.2.2.2.2.2.2) grw32
theorem gm32 : mmax gP 32 = 3 := congrArg (fun r : mRow => r.2.1) grw32
theorem cw32 : mCw gP gG 32 ∈ lw_all := cw_of gh32 gn32 gb32 gm32 gr32 q1784
theorem tg32 : mTg gP gG 32 3 := tg_of gn32 gm32 cw32 (by decide) ⟨by decide +kernel, by decide +kernel⟩ (by decide +kernel)
theorem grw33 : gRow 33 = w33 := rfl
theorem gn33 : gN gG 33 = yJ3_init := congrArg (fun r : mRow => r.2.2.2.1) grw33
theorem gb33 : gB gG 33 = cJ3_init := congrArg (fun r : mRow => r.2.2.2.2.1) grw33
theorem gr33 : gR gG 33 = (none : Option FieldType) := congrArg (fun r : mRow => r.2.2.2.2.2.1) grw33
theorem lv33 : gL gG 33 = 2 := congrArg (fun r : mRow => r.2.2.2.2.2.2.1) grw33
theorem gh33 : gH gG 33 = [] := congrArg (fun r : mRow => r.2.2.2.2.2.2.2) grw33
theorem gm33 : mmax gP 33 = 1 := congrArg (fun r : mRow => r.2.1) grw33
theorem cw33 : mCw gP gG 33 ∈ lw_all := cw_of gh33 gn33 gb33 gm33 gr33 q242
theorem tg33 : mTg gP gG 33 0 := tg_of gn33 gm33 cw33 (by decide) ⟨by decide +kernel, by decide +kernel⟩ (by decide +kernel)
theorem grw34 : gRow 34 = w34 := rfl
theorem gn34 : gN gG 34 = yJ3_containsKey := congrArg (fun r : mRow => r.2.2.2.1) grw34
theorem gb34 : gB gG 34 = cJ3_containsKey := congrArg (fun r : mRow => r.2.2.2.2.1) grw34
theorem gr34 : gR gG 34 = (Option.some Jvm.ClassFile.FieldType.boolean : Option FieldType) := congrArg (fun r : mRow => r.2.2.2.2.2.1) grw34
theorem lv34 : gL gG 34 = 4 := congrArg (fun r : mRow => r.2.2.2.2.2.2.1) grw34
theorem gh34 : gH gG 34 = [] := congrArg (fun r : mRow => r.2.2.2.2.2.2.2) grw34
theorem gm34 : mmax gP 34 = 2 := congrArg (fun r : mRow => r.2.1) grw34
theorem cw34 : mCw gP gG 34 ∈ lw_all := cw_of gh34 gn34 gb34 gm34 gr34 q820
theorem tg34 : mTg gP gG 34 1 := tg_of gn34 gm34 cw34 (by decide) ⟨by decide +kernel, by decide +kernel⟩ (by decide +kernel)
theorem grw35 : gRow 35 = w35 := rfl
theorem gn35 : gN gG 35 = yJ3_get := congrArg (fun r : mRow => r.2.2.2.1) grw35
theorem gb35 : gB gG 35 = cJ3_get := congrArg (fun r : mRow => r.2.2.2.2.1) grw35
theorem gr35 : gR gG 35 = (Option.some (Jvm.ClassFile.FieldType.object "java/lang/Object") : Option FieldType) := congrArg (fun r : mRow => r.2.2.2.2.2.1) grw35
theorem lv35 : gL gG 35 = 4 := congrArg (fun r : mRow => r.2.2.2.2.2.2.1) grw35
theorem gh35 : gH gG 35 = [] := congrArg (fun r : mRow => r.2.2.2.2.2.2.2) grw35
theorem gm35 : mmax gP 35 = 3 := congrArg (fun r : mRow => r.2.1) grw35
theorem cw35 : mCw gP gG 35 ∈ lw_all := cw_of gh35 gn35 gb35 gm35 gr35 q2455
theorem tg35 : mTg gP gG 35 1 := tg_of gn35 gm35 cw35 (by decide) ⟨by decide +kernel, by decide +kernel⟩ (by decide +kernel)
theorem grw36 : gRow 36 = w36 := rfl
theorem gn36 : gN gG 36 = yJ3_put := congrArg (fun r : mRow => r.2.2.2.1) grw36
theorem gb36 : gB gG 36 = cJ3_put := congrArg (fun r : mRow => r.2.2.2.2.1) grw36
theorem gr36 : gR gG 36 = (Option.some (Jvm.ClassFile.FieldType.object "java/lang/Object") : Option FieldType) := congrArg (fun r : mRow => r.2.2.2.2.2.1) grw36
theorem lv36 : gL gG 36 = 4 := congrArg (fun r : mRow => r.2.2.2.2.2.2.1) grw36
theorem gh36 : gH gG 36 = [] := congrArg (fun r : mRow => r.2.2.2.2.2.2.2) grw36
theorem gm36 : mmax gP 36 = 3 := congrArg (fun r : mRow => r.2.1) grw36
theorem cw36 : mCw gP gG 36 ∈ lw_all := cw_of gh36 gn36 gb36 gm36 gr36 q1187
theorem tg36 : mTg gP gG 36 2 := tg_of gn36 gm36 cw36 (by decide) ⟨by decide +kernel, by decide +kernel⟩ (by decide +kernel)
theorem grw37 : gRow 37 = w37 := rfl
theorem gn37 : gN gG 37 = yJ3_getNode := congrArg (fun r : mRow => r.2.2.2.1) grw37
theorem gb37 : gB gG 37 = cJ3_getNode := congrArg (fun r : mRow => r.2.2.2.2.1) grw37
theorem gr37 : gR gG 37 = (Option.some (Jvm.ClassFile.FieldType.object "java/util/HashMap$Node") : Option FieldType) := congrArg (fun r : mRow => r.2.2.2.2.2.1) grw37
theorem lv37 : gL gG 37 = 3 := congrArg (fun r : mRow => r.2.2.2.2.2.2.1) grw37
theorem gh37 : gH gG 37 = [] := congrArg (fun r : mRow => r.2.2.2.2.2.2.2) grw37
theorem gm37 : mmax gP 37 = 8 := congrArg (fun r : mRow => r.2.1) grw37
theorem cw37 : mCw gP gG 37 ∈ lw_all := cw_of gh37 gn37 gb37 gm37 gr37 q824
theorem tg37 : mTg gP gG 37 1 := tg_of gn37 gm37 cw37 (by decide) ⟨by decide +kernel, by decide +kernel⟩ (by decide +kernel)
theorem grw38 : gRow 38 = w38 := rfl
theorem gn38 : gN gG 38 = yJ3_hash := congrArg (fun r : mRow => r.2.2.2.1) grw38
theorem gb38 : gB gG 38 = cJ3_hash := congrArg (fun r : mRow => r.2.2.2.2.1) grw38
theorem gr38 : gR gG 38 = (Option.some Jvm.ClassFile.FieldType.int : Option FieldType) := congrArg (fun r : mRow => r.2.2.2.2.2.1) grw38
theorem lv38 : gL gG 38 = 2 := congrArg (fun r : mRow => r.2.2.2.2.2.2.1) grw38
theorem gh38 : gH gG 38 = [] := congrArg (fun r : mRow => r.2.2.2.2.2.2.2) grw38
theorem gm38 : mmax gP 38 = 2 := congrArg (fun r : mRow => r.2.1) grw38
theorem cw38 : mCw gP gG 38 ∈ lw_all := cw_of gh38 gn38 gb38 gm38 gr38 q827
theorem tg38 : mTg gP gG 38 1 := tg_of gn38 gm38 cw38 (by decide) ⟨by decide +kernel, by decide +kernel⟩ (by decide +kernel)
theorem grw39 : gRow 39 = w39 := rfl
theorem gn39 : gN gG 39 = yJ3_putVal := congrArg (fun r : mRow => r.2.2.2.1) grw39
theorem gb39 : gB gG 39 = cJ3_putVal := congrArg (fun r : mRow => r.2.2.2.2.1) grw39
theorem gr39 : gR gG 39 = (Option.some (Jvm.ClassFile.FieldType.object "java/lang/Object") : Option FieldType) := congrArg (fun r : mRow => r.2.2.2.2.2.1) grw39
theorem lv39 : gL gG 39 = 3 := congrArg (fun r : mRow => r.2.2.2.2.2.2.1) grw39
theorem gh39 : gH gG 39 = [] := congrArg (fun r : mRow => r.2.2.2.2.2.2.2) grw39
theorem gm39 : mmax gP 39 = 13 := congrArg (fun r : mRow => r.2.1) grw39
theorem cw39 : mCw gP gG 39 ∈ lw_all := cw_of gh39 gn39 gb39 gm39 gr39 q1191
theorem tg39 : mTg gP gG 39 5 := tg_of gn39 gm39 cw39 (by decide) ⟨by decide +kernel, by decide +kernel⟩ (by decide +kernel)
theorem grw40 : gRow 40 = w40 := rfl
theorem gn40 : gN gG 40 = yJ3_resize := congrArg (fun r : mRow => r.2.2.2.1) grw40
theorem gb40 : gB gG 40 = cJ3_resize := congrArg (fun r : mRow => r.2.2.2.2.1) grw40
theorem gr40 : gR gG 40 = (Option.some (Jvm.ClassFile.FieldType.array (Jvm.ClassFile.FieldType.object "java/util/HashMap$Node")) : Option FieldType) := congrArg (fun r : mRow => r.2.2.2.2.2.1) grw40
theorem lv40 : gL gG 40 = 1 := congrArg (fun r : mRow => r.2.2.2.2.2.2.1) grw40
theorem gh40 : gH gG 40 = [] := congrArg (fun r : mRow => r.2.2.2.2.2.2.2) grw40
theorem gm40 : mmax gP 40 = 14 := congrArg (fun r : mRow => r.2.1) grw40
theorem cw40 : mCw gP gG 40 ∈ lw_all := cw_of gh40 gn40 gb40 gm40 gr40 q1195
theorem tg40 : mTg gP gG 40 0 := tg_of gn40 gm40 cw40 (by decide) ⟨by decide +kernel, by decide +kernel⟩ (by decide +kernel)
theorem grw41 : gRow 41 = w41 := rfl
theorem gn41 : gN gG 41 = yJ3_newNode := congrArg (fun r : mRow => r.2.2.2.1) grw41
theorem gb41 : gB gG 41 = cJ3_newNode := congrArg (fun r : mRow => r.2.2.2.2.1) grw41
theorem gr41 : gR gG 41 = (Option.some (Jvm.ClassFile.FieldType.object "java/util/HashMap$Node") : Option FieldType) := congrArg (fun r : mRow => r.2.2.2.2.2.1) grw41
theorem lv41 : gL gG 41 = 2 := congrArg (fun r : mRow => r.2.2.2.2.2.2.1) grw41
theorem gh41 : gH gG 41 = [] := congrArg (fun r : mRow => r.2.2.2.2.2.2.2) grw41
theorem gm41 : mmax gP 41 = 5 := congrArg (fun r : mRow => r.2.1) grw41
theorem cw41 : mCw gP gG 41 ∈ lw_all := cw_of gh41 gn41 gb41 gm41 gr41 q1265
theorem tg41 : mTg gP gG 41 4 := tg_of gn41 gm41 cw41 (by decide) ⟨by decide +kernel, by decide +kernel⟩ (by decide +kernel)
theorem grw42 : gRow 42 = w42 := rfl
theorem gn42 : gN gG 42 = yJ3_afterNodeInsertion := congrArg (fun r : mRow => r.2.2.2.1) grw42
theorem gb42 : gB gG 42 = cJ3_afterNodeInsertion := congrArg (fun r : mRow => r.2.2.2.2.1) grw42
theorem gr42 : gR gG 42 = (none : Option FieldType) := congrArg (fun r : mRow => r.2.2.2.2.2.1) grw42
theorem lv42 : gL gG 42 = 1 := congrArg (fun r : mRow => r.2.2.2.2.2.2.1) grw42
theorem gh42 : gH gG 42 = [] := congrArg (fun r : mRow => r.2.2.2.2.2.2.2) grw42
theorem gm42 : mmax gP 42 = 2 := congrArg (fun r : mRow => r.2.1) grw42
theorem cw42 : mCw gP gG 42 ∈ lw_all := cw_of gh42 gn42 gb42 gm42 gr42 q1323
theorem tg42 : mTg gP gG 42 1 := tg_of gn42 gm42 cw42 (by decide) ⟨by decide +kernel, by decide +kernel⟩ (by decide +kernel)
theorem grw43 : gRow 43 = w43 := rfl
theorem gn43 : gN gG 43 = yJ2_init := congrArg (fun r : mRow => r.2.2.2.1) grw43
theorem gb43 : gB gG 43 = cJ2_init := congrArg (fun r : mRow => r.2.2.2.2.1) grw43
theorem gr43 : gR gG 43 = (none : Option FieldType) := congrArg (fun r : mRow => r.2.2.2.2.2.1) grw43
theorem lv43 : gL gG 43 = 1 := congrArg (fun r : mRow => r.2.2.2.2.2.2.1) grw43
theorem gh43 : gH gG 43 = [] := congrArg (fun r : mRow => r.2.2.2.2.2.2.2) grw43
theorem gm43 : mmax gP 43 = 1 := congrArg (fun r : mRow => r.2.1) grw43
theorem cw43 : mCw gP gG 43 ∈ lw_all := cw_of gh43 gn43 gb43 gm43 gr43 q245
theorem tg43 : mTg gP gG 43 0 := tg_of gn43 gm43 cw43 (by decide) ⟨by decide +kernel, by decide +kernel⟩ (by decide +kernel)
theorem grw44 : gRow 44 = w44 := rfl
theorem gn44 : gN gG 44 = yJ22_init := congrArg (fun r : mRow => r.2.2.2.1) grw44
theorem gb44 : gB gG 44 = cJ22_init := congrArg (fun r : mRow => r.2.2.2.2.1) grw44
theorem gr44 : gR gG 44 = (none : Option FieldType) := congrArg (fun r : mRow => r.2.2.2.2.2.1) grw44
theorem lv44 : gL gG 44 = 1 := congrArg (fun r : mRow => r.2.2.2.2.2.2.1) grw44
theorem gh44 : gH gG 44 = [] := congrArg (fun r : mRow => r.2.2.2.2.2.2.2) grw44
theorem gm44 : mmax gP 44 = 5 := congrArg (fun r : mRow => r.2.1) grw44
theorem cw44 : mCw gP gG 44 ∈ lw_all := cw_of gh44 gn44 gb44 gm44 gr44 q1217
theorem tg44 : mTg gP gG 44 4 := tg_of gn44 gm44 cw44 (by decide) ⟨by decide +kernel, by decide +kernel⟩ (by decide +kernel)
theorem grw45 : gRow 45 = w45 := rfl
theorem gn45 : gN gG 45 = yJ11_init := congrArg (fun r : mRow => r.2.2.2.1) grw45
theorem gb45 : gB gG 45 = cJ11_init := congrArg (fun r : mRow => r.2.2.2.2.1) grw45
theorem gr45 : gR gG 45 = (none : Option FieldType) := congrArg (fun r : mRow => r.2.2.2.2.2.1) grw45
theorem lv45 : gL gG 45 = 2 := congrArg (fun r : mRow => r.2.2.2.2.2.2.1) grw45
theorem gh45 : gH gG 45 = [] := congrArg (fun r : mRow => r.2.2.2.2.2.2.2) grw45
theorem gm45 : mmax gP 45 = 1 := congrArg (fun r : mRow => r.2.1) grw45
theorem cw45 : mCw gP gG 45 ∈ lw_all := cw_of gh45 gn45 gb45 gm45 gr45 q354
theorem tg45 : mTg gP gG 45 0 := tg_of gn45 gm45 cw45 (by decide) ⟨by decide +kernel, by decide +kernel⟩ (by decide +kernel)
theorem grw46 : gRow 46 = w46 := rfl
theorem gn46 : gN gG 46 = yJ11_append_3 := congrArg (fun r : mRow => r.2.2.2.1) grw46
theorem gb46 : gB gG 46 = cJ11_append_3 := congrArg (fun r : mRow => r.2.2.2.2.1) grw46
theorem gr46 : gR gG 46 = (Option.some (Jvm.ClassFile.FieldType.object "java/lang/StringBuilder") : Option FieldType) := congrArg (fun r : mRow => r.2.2.2.2.2.1) grw46
theorem lv46 : gL gG 46 = 5 := congrArg (fun r : mRow => r.2.2.2.2.2.2.1) grw46
theorem gh46 : gH gG 46 = [] := congrArg (fun r : mRow => r.2.2.2.2.2.2.2) grw46
theorem gm46 : mmax gP 46 = 2 := congrArg (fun r : mRow => r.2.1) grw46
theorem cw46 : mCw gP gG 46 ∈ lw_all := cw_of gh46 gn46 gb46 gm46 gr46 q1622
theorem tg46 : mTg gP gG 46 1 := tg_of gn46 gm46 cw46 (by decide) ⟨by decide +kernel, by decide +kernel⟩ (by decide +kernel)
theorem grw47 : gRow 47 = w47 := rfl
theorem gn47 : gN gG 47 = yJ11_charAt := congrArg (fun r : mRow => r.2.2.2.1) grw47
theorem gb47 : gB gG 47 = cJ11_charAt := congrArg (fun r : mRow => r.2.2.2.2.1) grw47
theorem gr47 : gR gG 47 = (Option.some Jvm.ClassFile.FieldType.char : Option FieldType) := congrArg (fun r : mRow => r.2.2.2.2.2.1) grw47
theorem lv47 : gL gG 47 = 4 := congrArg (fun r : mRow => r.2.2.2.2.2.2.1) grw47
theorem gh47 : gH gG 47 = [] := congrArg (fun r : mRow => r.2.2.2.2.2.2.2) grw47
theorem gm47 : mmax gP 47 = 2 := congrArg (fun r : mRow => r.2.1) grw47
theorem cw47 : mCw gP gG 47 ∈ lw_all := cw_of gh47 gn47 gb47 gm47 gr47 q2081
theorem tg47 : mTg gP gG 47 1 := tg_of gn47 gm47 cw47 (by decide) ⟨by decide +kernel, by decide +kernel⟩ (by decide +kernel)
theorem grw48 : gRow 48 = w48 := rfl
theorem gn48 : gN gG 48 = yJ11_length := congrArg (fun r : mRow => r.2.2.2.1) grw48
theorem gb48 : gB gG 48 = cJ11_length := congrArg (fun r : mRow => r.2.2.2.2.1) grw48
theorem gr48 : gR gG 48 = (Option.some Jvm.ClassFile.FieldType.int : Option FieldType) := congrArg (fun r : mRow => r.2.2.2.2.2.1) grw48
theorem lv48 : gL gG 48 = 2 := congrArg (fun r : mRow => r.2.2.2.2.2.2.1) grw48
theorem gh48 : gH gG 48 = [] := congrArg (fun r : mRow => r.2.2.2.2.2.2.2) grw48
theorem gm48 : mmax gP 48 = 1 := congrArg (fun r : mRow => r.2.1) grw48
theorem cw48 : mCw gP gG 48 ∈ lw_all := cw_of gh48 gn48 gb48 gm48 gr48 q552
theorem tg48 : mTg gP gG 48 0 := tg_of gn48 gm48 cw48 (by decide) ⟨by decide +kernel, by decide +kernel⟩ (by decide +kernel)
theorem grw49 : gRow 49 = w49 := rfl
theorem gn49 : gN gG 49 = yJ11_setLength := congrArg (fun r : mRow => r.2.2.2.1) grw49
theorem gb49 : gB gG 49 = cJ11_setLength := congrArg (fun r : mRow => r.2.2.2.2.1) grw49
theorem gr49 : gR gG 49 = (none : Option FieldType) := congrArg (fun r : mRow => r.2.2.2.2.2.1) grw49
theorem lv49 : gL gG 49 = 5 := congrArg (fun r : mRow => r.2.2.2.2.2.2.1) grw49
theorem gh49 : gH gG 49 = [] := congrArg (fun r : mRow => r.2.2.2.2.2.2.2) grw49
theorem gm49 : mmax gP 49 = 2 := congrArg (fun r : mRow => r.2.1) grw49
theorem cw49 : mCw gP gG 49 ∈ lw_all := cw_of gh49 gn49 gb49 gm49 gr49 q2391
theorem tg49 : mTg gP gG 49 1 := tg_of gn49 gm49 cw49 (by decide) ⟨by decide +kernel, by decide +kernel⟩ (by decide +kernel)
theorem grw50 : gRow 50 = w50 := rfl
theorem gn50 : gN gG 50 = yJ11_toString := congrArg (fun r : mRow => r.2.2.2.1) grw50
theorem gb50 : gB gG 50 = cJ11_toString := congrArg (fun r : mRow => r.2.2.2.2.1) grw50
theorem gr50 : gR gG 50 = (Option.some (Jvm.ClassFile.FieldType.object "java/lang/String") : Option FieldType) := congrArg (fun r : mRow => r.2.2.2.2.2.1) grw50
theorem lv50 : gL gG 50 = 6 := congrArg (fun r : mRow => r.2.2.2.2.2.2.1) grw50
theorem gh50 : gH gG 50 = [] := congrArg (fun r : mRow => r.2.2.2.2.2.2.2) grw50
theorem gm50 : mmax gP 50 = 1 := congrArg (fun r : mRow => r.2.1) grw50
theorem cw50 : mCw gP gG 50 ∈ lw_all := cw_of gh50 gn50 gb50 gm50 gr50 q532
theorem tg50 : mTg gP gG 50 0 := tg_of gn50 gm50 cw50 (by decide) ⟨by decide +kernel, by decide +kernel⟩ (by decide +kernel)
theorem grw51 : gRow 51 = w51 := rfl
theorem gn51 : gN gG 51 = yJ10_init := congrArg (fun r : mRow => r.2.2.2.1) grw51
theorem gb51 : gB gG 51 = cJ10_init := congrArg (fun r : mRow => r.2.2.2.2.1) grw51
theorem gr51 : gR gG 51 = (none : Option FieldType) := congrArg (fun r : mRow => r.2.2.2.2.2.1) grw51
theorem lv51 : gL gG 51 = 1 := congrArg (fun r : mRow => r.2.2.2.2.2.2.1) grw51
theorem gh51 : gH gG 51 = [] := congrArg (fun r : mRow => r.2.2.2.2.2.2.2) grw51
theorem gm51 : mmax gP 51 = 2 := congrArg (fun r : mRow => r.2.1) grw51
theorem cw51 : mCw gP gG 51 ∈ lw_all := cw_of gh51 gn51 gb51 gm51 gr51 q357
theorem tg51 : mTg gP gG 51 1 := tg_of gn51 gm51 cw51 (by decide) ⟨by decide +kernel, by decide +kernel⟩ (by decide +kernel)
theorem grw52 : gRow 52 = w52 := rfl
theorem gn52 : gN gG 52 = yJ10_append_3 := congrArg (fun r : mRow => r.2.2.2.1) grw52
theorem gb52 : gB gG 52 = cJ10_append_3 := congrArg (fun r : mRow => r.2.2.2.2.1) grw52
theorem gr52 : gR gG 52 = (Option.some (Jvm.ClassFile.FieldType.object "java/lang/AbstractStringBuilder") : Option FieldType) := congrArg (fun r : mRow => r.2.2.2.2.2.1) grw52
theorem lv52 : gL gG 52 = 4 := congrArg (fun r : mRow => r.2.2.2.2.2.2.1) grw52
theorem gh52 : gH gG 52 = [] := congrArg (fun r : mRow => r.2.2.2.2.2.2.2) grw52
theorem gm52 : mmax gP 52 = 2 := congrArg (fun r : mRow => r.2.1) grw52
theorem cw52 : mCw gP gG 52 ∈ lw_all := cw_of gh52 gn52 gb52 gm52 gr52 q1625
theorem tg52 : mTg gP gG 52 1 := tg_of gn52 gm52 cw52 (by decide) ⟨by decide +kernel, by decide +kernel⟩ (by decide +kernel)
theorem grw53 : gRow 53 = w53 := rfl
theorem gn53 : gN gG 53 = yJ10_charAt := congrArg (fun r : mRow => r.2.2.2.1) grw53
theorem gb53 : gB gG 53 = cJ10_charAt := congrArg (fun r : mRow => r.2.2.2.2.1) grw53
theorem gr53 : gR gG 53 = (Option.some Jvm.ClassFile.FieldType.char : Option FieldType) := congrArg (fun r : mRow => r.2.2.2.2.2.1) grw53
theorem lv53 : gL gG 53 = 3 := congrArg (fun r : mRow => r.2.2.2.2.2.2.1) grw53
theorem gh53 : gH gG 53 = [] := congrArg (fun r : mRow => r.2.2.2.2.2.2.2) grw53
theorem gm53 : mmax gP 53 = 5 := congrArg (fun r : mRow => r.2.1) grw53
theorem cw53 : mCw gP gG 53 ∈ lw_all := cw_of gh53 gn53 gb53 gm53 gr53 q2084
theorem tg53 : mTg gP gG 53 1 := tg_of gn53 gm53 cw53 (by decide) ⟨by decide +kernel, by decide +kernel⟩ (by decide +kernel)
theorem grw54 : gRow 54 = w54 := rfl
theorem gn54 : gN gG 54 = yJ10_length := congrArg (fun r : mRow => r.2.2.2.1) grw54
theorem gb54 : gB gG 54 = cJ10_length := congrArg (fun r : mRow => r.2.2.2.2.1) grw54
theorem gr54 : gR gG 54 = (Option.some Jvm.ClassFile.FieldType.int : Option FieldType) := congrArg (fun r : mRow => r.2.2.2.2.2.1) grw54
theorem lv54 : gL gG 54 = 1 := congrArg (fun r : mRow => r.2.2.2.2.2.2.1) grw54
theorem gh54 : gH gG 54 = [] := congrArg (fun r : mRow => r.2.2.2.2.2.2.2) grw54
theorem gm54 : mmax gP 54 = 1 := congrArg (fun r : mRow => r.2.1) grw54
theorem cw54 : mCw gP gG 54 ∈ lw_all := cw_of gh54 gn54 gb54 gm54 gr54 q554
theorem tg54 : mTg gP gG 54 0 := tg_of gn54 gm54 cw54 (by decide) ⟨by decide +kernel, by decide +kernel⟩ (by decide +kernel)
theorem grw55 : gRow 55 = w55 := rfl
theorem gn55 : gN gG 55 = yJ10_setLength := congrArg (fun r : mRow => r.2.2.2.1) grw55
theorem gb55 : gB gG 55 = cJ10_setLength := congrArg (fun r : mRow => r.2.2.2.2.1) grw55
theorem gr55 : gR gG 55 = (none : Option FieldType) := congrArg (fun r : mRow => r.2.2.2.2.2.1) grw55
theorem lv55 : gL gG 55 = 4 := congrArg (fun r : mRow => r.2.2.2.2.2.2.1) grw55
theorem gh55 : gH gG 55 = [] := congrArg (fun r : mRow => r.2.2.2.2.2.2.2) grw55
theorem gm55 : mmax gP 55 = 2 := congrArg (fun r : mRow => r.2.1) grw55
theorem cw55 : mCw gP gG 55 ∈ lw_all := cw_of gh55 gn55 gb55 gm55 gr55 q2394
theorem tg55 : mTg gP gG 55 1 := tg_of gn55 gm55 cw55 (by decide) ⟨by decide +kernel, by decide +kernel⟩ (by decide +kernel)
theorem grw56 : gRow 56 = w56 := rfl
theorem gn56 : gN gG 56 = yJ10_ensureCapacityInternal := congrArg (fun r : mRow => r.2.2.2.1) grw56
theorem gb56 : gB gG 56 = cJ10_ensureCapacityInternal := congrArg (fun r : mRow => r.2.2.2.2.1) grw56
theorem gr56 : gR gG 56 = (none : Option FieldType) := congrArg (fun r : mRow => r.2.2.2.2.2.1) grw56
theorem lv56 : gL gG 56 = 3 := congrArg (fun r : mRow => r.2.2.2.2.2.2.1) grw56
theorem gh56 : gH gG 56 = [] := congrArg (fun r : mRow => r.2.2.2.2.2.2.2) grw56
theorem gm56 : mmax gP 56 = 3 := congrArg (fun r : mRow => r.2.1) grw56
theorem cw56 : mCw gP gG 56 ∈ lw_all := cw_of gh56 gn56 gb56 gm56 gr56 q398
theorem tg56 : mTg gP gG 56 1 := tg_of gn56 gm56 cw56 (by decide) ⟨by decide +kernel, by decide +kernel⟩ (by decide +kernel)
theorem grw57 : gRow 57 = w57 := rfl
theorem gn57 : gN gG 57 = yJ10_newCapacity := congrArg (fun r : mRow => r.2.2.2.1) grw57
theorem gb57 : gB gG 57 = cJ10_newCapacity := congrArg (fun r : mRow => r.2.2.2.2.1) grw57
theorem gr57 : gR gG 57 = (Option.some Jvm.ClassFile.FieldType.int : Option FieldType) := congrArg (fun r : mRow => r.2.2.2.2.2.1) grw57
theorem lv57 : gL gG 57 = 2 := congrArg (fun r : mRow => r.2.2.2.2.2.2.1) grw57
theorem gh57 : gH gG 57 = [] := congrArg (fun r : mRow => r.2.2.2.2.2.2.2) grw57
theorem gm57 : mmax gP 57 = 6 := congrArg (fun r : mRow => r.2.1) grw57
theorem cw57 : mCw gP gG 57 ∈ lw_all := cw_of gh57 gn57 gb57 gm57 gr57 q402
theorem tg57 : mTg gP gG 57 1 := tg_of gn57 gm57 cw57 (by decide) ⟨by decide +kernel, by decide +kernel⟩ (by decide +kernel)
theorem grw58 : gRow 58 = w58 := rfl
theorem gn58 : gN gG 58 = yJ10_isLatin1 := congrArg (fun r : mRow => r.2.2.2.1) grw58
theorem gb58 : gB gG 58 = cJ10_isLatin1 := congrArg (fun r : mRow => r.2.2.2.2.1) grw58
theorem gr58 : gR gG 58 = (Option.some Jvm.ClassFile.FieldType.boolean : Option FieldType) := congrArg (fun r : mRow => r.2.2.2.2.2.1) grw58
theorem lv58 : gL gG 58 = 1 := congrArg (fun r : mRow => r.2.2.2.2.2.2.1) grw58
theorem gh58 : gH gG 58 = [] := congrArg (fun r : mRow => r.2.2.2.2.2.2.2) grw58
theorem gm58 : mmax gP 58 = 1 := congrArg (fun r : mRow => r.2.1) grw58
theorem cw58 : mCw gP gG 58 ∈ lw_all := cw_of gh58 gn58 gb58 gm58 gr58 q434
theorem tg58 : mTg gP gG 58 0 := tg_of gn58 gm58 cw58 (by decide) ⟨by decide +kernel, by decide +kernel⟩ (by decide +kernel)
theorem grw59 : gRow 59 = w59 := rfl
theorem gn59 : gN gG 59 = yJ10_getValue := congrArg (fun r : mRow => r.2.2.2.1) grw59
theorem gb59 : gB gG 59 = cJ10_getValue := congrArg (fun r : mRow => r.2.2.2.2.1) grw59
theorem gr59 : gR gG 59 = (Option.some (Jvm.ClassFile.FieldType.array Jvm.ClassFile.FieldType.byte) : Option FieldType) := congrArg (fun r : mRow => r.2.2.2.2.2.1) grw59
theorem lv59 : gL gG 59 = 1 := congrArg (fun r : mRow => r.2.2.2.2.2.2.1) grw59
theorem gh59 : gH gG 59 = [] := congrArg (fun r : mRow => r.2.2.2.2.2.2.2) grw59
theorem gm59 : mmax gP 59 = 1 := congrArg (fun r : mRow => r.2.1) grw59
theorem cw59 : mCw gP gG 59 ∈ lw_all := cw_of gh59 gn59 gb59 gm59 gr59 q546
theorem tg59 : mTg gP gG 59 0 := tg_of gn59 gm59 cw59 (by decide) ⟨by decide +kernel, by decide +kernel⟩ (by decide +kernel)
theorem grw60 : gRow 60 = w60 := rfl
theorem gn60 : gN gG 60 = yJ12_charAt := congrArg (fun r : mRow => r.2.2.2.1) grw60
theorem gb60 : gB gG 60 = cJ12_charAt := congrArg (fun r : mRow => r.2.2.2.2.1) grw60
theorem gr60 : gR gG 60 = (Option.some Jvm.ClassFile.FieldType.char : Option FieldType) := congrArg (fun r : mRow => r.2.2.2.2.2.1) grw60
theorem lv60 : gL gG 60 = 4 := congrArg (fun r : mRow => r.2.2.2.2.2.2.1) grw60
theorem gh60 : gH gG 60 = [] := congrArg (fun r : mRow => r.2.2.2.2.2.2.2) grw60
theorem gm60 : mmax gP 60 = 2 := congrArg (fun r : mRow => r.2.1) grw60
theorem cw60 : mCw gP gG 60 ∈ lw_all := cw_of gh60 gn60 gb60 gm60 gr60 q2637
theorem tg60 : mTg gP gG 60 1 := tg_of gn60 gm60 cw60 (by decide) ⟨by decide +kernel, by decide +kernel⟩ (by decide +kernel)
theorem grw61 : gRow 61 = w61 := rfl
theorem gn61 : gN gG 61 = yJ12_equals := congrArg (fun r : mRow => r.2.2.2.1) grw61
theorem gb61 : gB gG 61 = cJ12_equals := congrArg (fun r : mRow => r.2.2.2.2.1) grw61
theorem gr61 : gR gG 61 = (Option.some Jvm.ClassFile.FieldType.boolean : Option FieldType) := congrArg (fun r : mRow => r.2.2.2.2.2.1) grw61
theorem lv61 : gL gG 61 = 2 := congrArg (fun r : mRow => r.2.2.2.2.2.2.1) grw61
theorem gh61 : gH gG 61 = [] := congrArg (fun r : mRow => r.2.2.2.2.2.2.2) grw61
theorem gm61 : mmax gP 61 = 3 := congrArg (fun r : mRow => r.2.1) grw61
theorem cw61 : mCw gP gG 61 ∈ lw_all := cw_of gh61 gn61 gb61 gm61 gr61 q951
theorem tg61 : mTg gP gG 61 1 := tg_of gn61 gm61 cw61 (by decide) ⟨by decide +kernel, by decide +kernel⟩ (by decide +kernel)
theorem grw62 : gRow 62 = w62 := rfl
theorem gn62 : gN gG 62 = yJ12_hashCode := congrArg (fun r : mRow => r.2.2.2.1) grw62
theorem gb62 : gB gG 62 = cJ12_hashCode := congrArg (fun r : mRow => r.2.2.2.2.1) grw62
theorem gr62 : gR gG 62 = (Option.some Jvm.ClassFile.FieldType.int : Option FieldType) := congrArg (fun r : mRow => r.2.2.2.2.2.1) grw62
theorem lv62 : gL gG 62 = 4 := congrArg (fun r : mRow => r.2.2.2.2.2.2.1) grw62
theorem gh62 : gH gG 62 = [] := congrArg (fun r : mRow => r.2.2.2.2.2.2.2) grw62
theorem gm62 : mmax gP 62 = 2 := congrArg (fun r : mRow => r.2.1) grw62
theorem cw62 : mCw gP gG 62 ∈ lw_all := cw_of gh62 gn62 gb62 gm62 gr62 q859
theorem tg62 : mTg gP gG 62 0 := tg_of gn62 gm62 cw62 (by decide) ⟨by decide +kernel, by decide +kernel⟩ (by decide +kernel)
theorem grw63 : gRow 63 = w63 := rfl
theorem gn63 : gN gG 63 = yJ12_length := congrArg (fun r : mRow => r.2.2.2.1) grw63
theorem gb63 : gB gG 63 = cJ12_length := congrArg (fun r : mRow => r.2.2.2.2.1) grw63
theorem gr63 : gR gG 63 = (Option.some Jvm.ClassFile.FieldType.int : Option FieldType) := congrArg (fun r : mRow => r.2.2.2.2.2.1) grw63
theorem lv63 : gL gG 63 = 2 := congrArg (fun r : mRow => r.2.2.2.2.2.2.1) grw63
theorem gh63 : gH gG 63 = [] := congrArg (fun r : mRow => r.2.2.2.2.2.2.2) grw63
theorem gm63 : mmax gP 63 = 1 := congrArg (fun r : mRow => r.2.1) grw63
theorem cw63 : mCw gP gG 63 ∈ lw_all := cw_of gh63 gn63 gb63 gm63 gr63 q464
theorem tg63 : mTg gP gG 63 0 := tg_of gn63 gm63 cw63 (by decide) ⟨by decide +kernel, by decide +kernel⟩ (by decide +kernel)
theorem grw64 : gRow 64 = w64 := rfl
theorem gn64 : gN gG 64 = yJ12_init := congrArg (fun r : mRow => r.2.2.2.1) grw64
theorem gb64 : gB gG 64 = cJ12_init := congrArg (fun r : mRow => r.2.2.2.2.1) grw64
theorem gr64 : gR gG 64 = (none : Option FieldType) := congrArg (fun r : mRow => r.2.2.2.2.2.1) grw64
theorem lv64 : gL gG 64 = 5 := congrArg (fun r : mRow => r.2.2.2.2.2.2.1) grw64
theorem gh64 : gH gG 64 = [] := congrArg (fun r : mRow => r.2.2.2.2.2.2.2) grw64
theorem gm64 : mmax gP 64 = 2 := congrArg (fun r : mRow => r.2.1) grw64
theorem cw64 : mCw gP gG 64 ∈ lw_all := cw_of gh64 gn64 gb64 gm64 gr64 q537
theorem tg64 : mTg gP gG 64 1 := tg_of gn64 gm64 cw64 (by decide) ⟨by decide +kernel, by decide +kernel⟩ (by decide +kernel)
theorem grw65 : gRow 65 = w65 := rfl
theorem gn65 : gN gG 65 = yJ12_init_2 := congrArg (fun r : mRow => r.2.2.2.1) grw65
theorem gb65 : gB gG 65 = cJ12_init_2 := congrArg (fun r : mRow => r.2.2.2.2.1) grw65
theorem gr65 : gR gG 65 = (none : Option FieldType) := congrArg (fun r : mRow => r.2.2.2.2.2.1) grw65
theorem lv65 : gL gG 65 = 4 := congrArg (fun r : mRow => r.2.2.2.2.2.2.1) grw65
theorem gh65 : gH gG 65 = [] := congrArg (fun r : mRow => r.2.2.2.2.2.2.2) grw65
theorem gm65 : mmax gP 65 = 5 := congrArg (fun r : mRow => r.2.1) grw65
theorem cw65 : mCw gP gG 65 ∈ lw_all := cw_of gh65 gn65 gb65 gm65 gr65 q540
theorem tg65 : mTg gP gG 65 2 := tg_of gn65 gm65 cw65 (by decide) ⟨by decide +kernel, by decide +kernel⟩ (by decide +kernel)
theorem grw66 : gRow 66 = w66 := rfl
theorem gn66 : gN gG 66 = yJ12_isLatin1 := congrArg (fun r : mRow => r.2.2.2.1) grw66
theorem gb66 : gB gG 66 = cJ12_isLatin1 := congrArg (fun r : mRow => r.2.2.2.2.1) grw66
theorem gr66 : gR gG 66 = (Option.some Jvm.ClassFile.FieldType.boolean : Option FieldType) := congrArg (fun r : mRow => r.2.2.2.2.2.1) grw66
theorem lv66 : gL gG 66 = 1 := congrArg (fun r : mRow => r.2.2.2.2.2.2.1) grw66
theorem gh66 : gH gG 66 = [] := congrArg (fun r : mRow => r.2.2.2.2.2.2.2) grw66
theorem gm66 : mmax gP 66 = 1 := congrArg (fun r : mRow => r.2.1) grw66
theorem cw66 : mCw gP gG 66 ∈ lw_all := cw_of gh66 gn66 gb66 gm66 gr66 q863
theorem tg66 : mTg gP gG 66 0 := tg_of gn66 gm66 cw66 (by decide) ⟨by decide +kernel, by decide +kernel⟩ (by decide +kernel)
theorem grw67 : gRow 67 = w67 := rfl
theorem gn67 : gN gG 67 = yJ12_coder := congrArg (fun r : mRow => r.2.2.2.1) grw67
theorem gb67 : gB gG 67 = cJ12_coder := congrArg (fun r : mRow => r.2.2.2.2.1) grw67
theorem gr67 : gR gG 67 = (Option.some Jvm.ClassFile.FieldType.byte : Option FieldType) := congrArg (fun r : mRow => r.2.2.2.2.2.1) grw67
theorem lv67 : gL gG 67 = 1 := congrArg (fun r : mRow => r.2.2.2.2.2.2.1) grw67
theorem gh67 : gH gG 67 = [] := congrArg (fun r : mRow => r.2.2.2.2.2.2.2) grw67
theorem gm67 : mmax gP 67 = 1 := congrArg (fun r : mRow => r.2.1) grw67
theorem cw67 : mCw gP gG 67 ∈ lw_all := cw_of gh67 gn67 gb67 gm67 gr67 q468
theorem tg67 : mTg gP gG 67 0 := tg_of gn67 gm67 cw67 (by decide) ⟨by decide +kernel, by decide +kernel⟩ (by decide +kernel)
theorem grw68 : gRow 68 = w68 := rfl
theorem gn68 : gN gG 68 = yJ12_checkIndex := congrArg (fun r : mRow => r.2.2.2.1) grw68
theorem gb68 : gB gG 68 = cJ12_checkIndex := congrArg (fun r : mRow => r.2.2.2.2.1) grw68
theorem gr68 : gR gG 68 = (none : Option FieldType) := congrArg (fun r : mRow => r.2.2.2.2.2.1) grw68
theorem lv68 : gL gG 68 = 2 := congrArg (fun r : mRow => r.2.2.2.2.2.2.1) grw68
theorem gh68 : gH gG 68 = [] := congrArg (fun r : mRow => r.2.2.2.2.2.2.2) grw68
theorem gm68 : mmax gP 68 = 2 := congrArg (fun r : mRow => r.2.1) grw68
theorem cw68 : mCw gP gG 68 ∈ lw_all := cw_of gh68 gn68 gb68 gm68 gr68 q1637
theorem tg68 : mTg gP gG 68 2 := tg_of gn68 gm68 cw68 (by decide) ⟨by decide +kernel, by decide +kernel⟩ (by decide +kernel)
theorem grw69 : gRow 69 = w69 := rfl
theorem gn69 : gN gG 69 = yJ18_charAt := congrArg (fun r : mRow => r.2.2.2.1) grw69
theorem gb69 : gB gG 69 = cJ18_charAt := congrArg (fun r : mRow => r.2.2.2.2.1) grw69
theorem gr69 : gR gG 69 = (Option.some Jvm.ClassFile.FieldType.char : Option FieldType) := congrArg (fun r : mRow => r.2.2.2.2.2.1) grw69
theorem lv69 : gL gG 69 = 3 := congrArg (fun r : mRow => r.2.2.2.2.2.2.1) grw69
theorem gh69 : gH gG 69 = [] := congrArg (fun r : mRow => r.2.2.2.2.2.2.2) grw69
theorem gm69 : mmax gP 69 = 2 := congrArg (fun r : mRow => r.2.1) grw69
theorem cw69 : mCw gP gG 69 ∈ lw_all := cw_of gh69 gn69 gb69 gm69 gr69 q2640
theorem tg69 : mTg gP gG 69 2 := tg_of gn69 gm69 cw69 (by decide) ⟨by decide +kernel, by decide +kernel⟩ (by decide +kernel)
theorem grw70 : gRow 70 = w70 := rfl
theorem gn70 : gN gG 70 = yJ18_equals := congrArg (fun r : mRow => r.2.2.2.1) grw70
theorem gb70 : gB gG 70 = cJ18_equals := congrArg (fun r : mRow => r.2.2.2.2.1) grw70
theorem gr70 : gR gG 70 = (Option.some Jvm.ClassFile.FieldType.boolean : Option FieldType) := congrArg (fun r : mRow => r.2.2.2.2.2.1) grw70
theorem lv70 : gL gG 70 = 1 := congrArg (fun r : mRow => r.2.2.2.2.2.2.1) grw70
theorem gh70 : gH gG 70 = [] := congrArg (fun r : mRow => r.2.2.2.2.2.2.2) grw70
theorem gm70 : mmax gP 70 = 3 := congrArg (fun r : mRow => r.2.1) grw70
theorem cw70 : mCw gP gG 70 ∈ lw_all := cw_of gh70 gn70 gb70 gm70 gr70 q955
theorem tg70 : mTg gP gG 70 2 := tg_of gn70 gm70 cw70 (by decide) ⟨by decide +kernel, by decide +kernel⟩ (by decide +kernel)
theorem grw71 : gRow 71 = w71 := rfl
theorem gn71 : gN gG 71 = yJ18_hashCode := congrArg (fun r : mRow => r.2.2.2.1) grw71
theorem gb71 : gB gG 71 = cJ18_hashCode := congrArg (fun r : mRow => r.2.2.2.2.1) grw71
theorem gr71 : gR gG 71 = (Option.some Jvm.ClassFile.FieldType.int : Option FieldType) := congrArg (fun r : mRow => r.2.2.2.2.2.1) grw71
theorem lv71 : gL gG 71 = 3 := congrArg (fun r : mRow => r.2.2.2.2.2.2.1) grw71
theorem gh71 : gH gG 71 = [] := congrArg (fun r : mRow => r.2.2.2.2.2.2.2) grw71
theorem gm71 : mmax gP 71 = 1 := congrArg (fun r : mRow => r.2.1) grw71
theorem cw71 : mCw gP gG 71 ∈ lw_all := cw_of gh71 gn71 gb71 gm71 gr71 q866
theorem tg71 : mTg gP gG 71 1 := tg_of gn71 gm71 cw71 (by decide) ⟨by decide +kernel, by decide +kernel⟩ (by decide +kernel)
theorem grw72 : gRow 72 = w72 := rfl
theorem gn72 : gN gG 72 = yJ18_canEncode := congrArg (fun r : mRow => r.2.2.2.1) grw72
theorem gb72 : gB gG 72 = cJ18_canEncode := congrArg (fun r : mRow => r.2.2.2.2.1) grw72
theorem gr72 : gR gG 72 = (Option.some Jvm.ClassFile.FieldType.boolean : Option FieldType) := congrArg (fun r : mRow => r.2.2.2.2.2.1) grw72
theorem lv72 : gL gG 72 = 1 := congrArg (fun r : mRow => r.2.2.2.2.2.2.1) grw72
theorem gh72 : gH gG 72 = [] := congrArg (fun r : mRow => r.2.2.2.2.2.2.2) grw72
theorem gm72 : mmax gP 72 = 1 := congrArg (fun r : mRow => r.2.1) grw72
theorem cw72 : mCw gP gG 72 ∈ lw_all := cw_of gh72 gn72 gb72 gm72 gr72 q1628
theorem tg72 : mTg gP gG 72 1 := tg_of gn72 gm72 cw72 (by decide) ⟨by decide +kernel, by decide +kernel⟩ (by decide +kernel)
theorem grw73 : gRow 73 = w73 := rfl
theorem gn73 : gN gG 73 = yJ7_init_2 := congrArg (fun r : mRow => r.2.2.2.1) grw73
theorem gb73 : gB gG 73 = cJ7_init_2 := congrArg (fun r : mRow => r.2.2.2.2.1) grw73
theorem gr73 : gR gG 73 = (none : Option FieldType) := congrArg (fun r : mRow => r.2.2.2.2.2.1) grw73
theorem lv73 : gL gG 73 = 2 := congrArg (fun r : mRow => r.2.2.2.2.2.2.1) grw73
theorem gh73 : gH gG 73 = [] := congrArg (fun r : mRow => r.2.2.2.2.2.2.2) grw73
theorem gm73 : mmax gP 73 = 5 := congrArg (fun r : mRow => r.2.1) grw73
theorem cw73 : mCw gP gG 73 ∈ lw_all := cw_of gh73 gn73 gb73 gm73 gr73 q1678
theorem tg73 : mTg gP gG 73 4 := tg_of gn73 gm73 cw73 (by decide) ⟨by decide +kernel, by decide +kernel⟩ (by decide +kernel)
theorem grw74 : gRow 74 = w74 := rfl
theorem gn74 : gN gG 74 = yJ6_init_3 := congrArg (fun r : mRow => r.2.2.2.1) grw74
theorem gb74 : gB gG 74 = cJ6_init_3 := congrArg (fun r : mRow => r.2.2.2.2.1) grw74
theorem gr74 : gR gG 74 = (none : Option FieldType) := congrArg (fun r : mRow => r.2.2.2.2.2.1) grw74
theorem lv74 : gL gG 74 = 1 := congrArg (fun r : mRow => r.2.2.2.2.2.2.1) grw74
theorem gh74 : gH gG 74 = [] := congrArg (fun r : mRow => r.2.2.2.2.2.2.2) grw74
theorem gm74 : mmax gP 74 = 5 := congrArg (fun r : mRow => r.2.1) grw74
theorem cw74 : mCw gP gG 74 ∈ lw_all := cw_of gh74 gn74 gb74 gm74 gr74 q1681
theorem tg74 : mTg gP gG 74 4 := tg_of gn74 gm74 cw74 (by decide) ⟨by decide +kernel, by decide +kernel⟩ (by decide +kernel)
theorem grw75 : gRow 75 = w75 := rfl
theorem gn75 : gN gG 75 = yL_law := congrArg (fun r : mRow => r.2.2.2.1) grw75
theorem gb75 : gB gG 75 = cL_law := congrArg (fun r : mRow => r.2.2.2.2.1) grw75
theorem gr75 : gR gG 75 = (Option.some Jvm.ClassFile.FieldType.boolean : Option FieldType) := congrArg (fun r : mRow => r.2.2.2.2.2.1) grw75
theorem lv75 : gL gG 75 = 100 := congrArg (fun r : mRow => r.2.2.2.2.2.2.1) grw75
theorem gh75 : gH gG 75 = [] := congrArg (fun r : mRow => r.2.2.2.2.2.2.2) grw75
theorem gm75 : mmax gP 75 = 9 := congrArg (fun r : mRow => r.2.1) grw75
theorem grw76 : gRow 76 = w76 := rfl
theorem gn76 : gN gG 76 = yX0_appendText := congrArg (fun r : mRow => r.2.2.2.1) grw76
theorem gb76 : gB gG 76 = cX0_appendText := congrArg (fun r : mRow => r.2.2.2.2.1) grw76
theorem gr76 : gR gG 76 = (Option.some Jvm.ClassFile.FieldType.int : Option FieldType) := congrArg (fun r : mRow => r.2.2.2.2.2.1) grw76
theorem lv76 : gL gG 76 = 2 := congrArg (fun r : mRow => r.2.2.2.2.2.2.1) grw76
theorem gh76 : gH gG 76 = [(0, 9, 12, 13)] := congrArg (fun r : mRow => r.2.2.2.2.2.2.2) grw76
theorem gm76 : mmax gP 76 = 4 := congrArg (fun r : mRow => r.2.1) grw76
theorem cw76 : mCw gP gG 76 ∈ lw_all := cw_ofW gh76 gn76 gb76 gm76 gr76 q2101
theorem tg76 : mTg gP gG 76 3 := tg_of gn76 gm76 cw76 (by decide) ⟨by decide +kernel, by decide +kernel⟩ (by decide +kernel)
theorem grw77 : gRow 77 = w77 := rfl
theorem gn77 : gN gG 77 = yX0_truncateText := congrArg (fun r : mRow => r.2.2.2.1) grw77
theorem gb77 : gB gG 77 = cX0_truncateText := congrArg (fun r : mRow => r.2.2.2.2.1) grw77
theorem gr77 : gR gG 77 = (Option.some Jvm.ClassFile.FieldType.int : Option FieldType) := congrArg (fun r : mRow => r.2.2.2.2.2.1) grw77
theorem lv77 : gL gG 77 = 3 := congrArg (fun r : mRow => r.2.2.2.2.2.2.1) grw77
theorem gh77 : gH gG 77 = [(0, 9, 12, 18)] := congrArg (fun r : mRow => r.2.2.2.2.2.2.2) grw77
theorem gm77 : mmax gP 77 = 4 := congrArg (fun r : mRow => r.2.1) grw77
theorem cw77 : mCw gP gG 77 ∈ lw_all := cw_ofW gh77 gn77 gb77 gm77 gr77 q2114
theorem tg77 : mTg gP gG 77 3 := tg_of gn77 gm77 cw77 (by decide) ⟨by decide +kernel, by decide +kernel⟩ (by decide +kernel)
theorem grw78 : gRow 78 = w78 := rfl
theorem gn78 : gN gG 78 = yX0_total := congrArg (fun r : mRow => r.2.2.2.1) grw78
theorem gb78 : gB gG 78 = cX0_total := congrArg (fun r : mRow => r.2.2.2.2.1) grw78
theorem gr78 : gR gG 78 = (Option.some Jvm.ClassFile.FieldType.int : Option FieldType) := congrArg (fun r : mRow => r.2.2.2.2.2.1) grw78
theorem lv78 : gL gG 78 = 11 := congrArg (fun r : mRow => r.2.2.2.2.2.2.1) grw78
theorem gh78 : gH gG 78 = [(0, 9, 12, 18)] := congrArg (fun r : mRow => r.2.2.2.2.2.2.2) grw78
theorem gm78 : mmax gP 78 = 4 := congrArg (fun r : mRow => r.2.1) grw78
theorem cw78 : mCw gP gG 78 ∈ lw_all := cw_ofW gh78 gn78 gb78 gm78 gr78 q2123
theorem tg78 : mTg gP gG 78 3 := tg_of gn78 gm78 cw78 (by decide) ⟨by decide +kernel, by decide +kernel⟩ (by decide +kernel)
theorem grw79 : gRow 79 = w79 := rfl
theorem gn79 : gN gG 79 = yX0_tally := congrArg (fun r : mRow => r.2.2.2.1) grw79
theorem gb79 : gB gG 79 = cX0_tally := congrArg (fun r : mRow => r.2.2.2.2.1) grw79
theorem gr79 : gR gG 79 = (Option.some Jvm.ClassFile.FieldType.int : Option FieldType) := congrArg (fun r : mRow => r.2.2.2.2.2.1) grw79
theorem lv79 : gL gG 79 = 3 := congrArg (fun r : mRow => r.2.2.2.2.2.2.1) grw79
theorem gh79 : gH gG 79 = [(0, 9, 12, 18)] := congrArg (fun r : mRow => r.2.2.2.2.2.2.2) grw79
theorem gm79 : mmax gP 79 = 4 := congrArg (fun r : mRow => r.2.1) grw79
theorem cw79 : mCw gP gG 79 ∈ lw_all := cw_ofW gh79 gn79 gb79 gm79 gr79 q2134
theorem tg79 : mTg gP gG 79 3 := tg_of gn79 gm79 cw79 (by decide) ⟨by decide +kernel, by decide +kernel⟩ (by decide +kernel)
theorem grw80 : gRow 80 = w80 := rfl
theorem gn80 : gN gG 80 = yX0_cell := congrArg (fun r : mRow => r.2.2.2.1) grw80
theorem gb80 : gB gG 80 = cX0_cell := congrArg (fun r : mRow => r.2.2.2.2.1) grw80
theorem gr80 : gR gG 80 = (Option.some Jvm.ClassFile.FieldType.int : Option FieldType) := congrArg (fun r : mRow => r.2.2.2.2.2.1) grw80
theorem lv80 : gL gG 80 = 9 := congrArg (fun r : mRow => r.2.2.2.2.2.2.1) grw80
theorem gh80 : gH gG 80 = [(0, 10, 13, 30), (0, 10, 17, 18)] := congrArg (fun r : mRow => r.2.2.2.2.2.2.2) grw80
theorem gm80 : mmax gP 80 = 5 := congrArg (fun r : mRow => r.2.1) grw80
theorem cw80 : mCw gP gG 80 ∈ lw_all := cw_ofW gh80 gn80 gb80 gm80 gr80 q2141
theorem tg80 : mTg gP gG 80 4 := tg_of gn80 gm80 cw80 (by decide) ⟨by decide +kernel, by decide +kernel⟩ (by decide +kernel)
theorem grw81 : gRow 81 = w81 := rfl
theorem gn81 : gN gG 81 = yX0_bank := congrArg (fun r : mRow => r.2.2.2.1) grw81
theorem gb81 : gB gG 81 = cX0_bank := congrArg (fun r : mRow => r.2.2.2.2.1) grw81
theorem gr81 : gR gG 81 = (Option.some Jvm.ClassFile.FieldType.int : Option FieldType) := congrArg (fun r : mRow => r.2.2.2.2.2.1) grw81
theorem lv81 : gL gG 81 = 5 := congrArg (fun r : mRow => r.2.2.2.2.2.2.1) grw81
theorem gh81 : gH gG 81 = [(0, 10, 13, 30), (0, 10, 17, 18)] := congrArg (fun r : mRow => r.2.2.2.2.2.2.2) grw81
theorem gm81 : mmax gP 81 = 5 := congrArg (fun r : mRow => r.2.1) grw81
theorem cw81 : mCw gP gG 81 ∈ lw_all := cw_ofW gh81 gn81 gb81 gm81 gr81 q2158
theorem tg81 : mTg gP gG 81 4 := tg_of gn81 gm81 cw81 (by decide) ⟨by decide +kernel, by decide +kernel⟩ (by decide +kernel)
theorem grw82 : gRow 82 = w82 := rfl
theorem gn82 : gN gG 82 = yX0_watcher := congrArg (fun r : mRow => r.2.2.2.1) grw82
theorem gb82 : gB gG 82 = cX0_watcher := congrArg (fun r : mRow => r.2.2.2.2.1) grw82
theorem gr82 : gR gG 82 = (Option.some Jvm.ClassFile.FieldType.int : Option FieldType) := congrArg (fun r : mRow => r.2.2.2.2.2.1) grw82
theorem lv82 : gL gG 82 = 10 := congrArg (fun r : mRow => r.2.2.2.2.2.2.1) grw82
theorem gh82 : gH gG 82 = [(0, 10, 13, 30), (0, 10, 17, 18)] := congrArg (fun r : mRow => r.2.2.2.2.2.2.2) grw82
theorem gm82 : mmax gP 82 = 5 := congrArg (fun r : mRow => r.2.1) grw82
theorem cw82 : mCw gP gG 82 ∈ lw_all := cw_ofW gh82 gn82 gb82 gm82 gr82 q2166
theorem tg82 : mTg gP gG 82 4 := tg_of gn82 gm82 cw82 (by decide) ⟨by decide +kernel, by decide +kernel⟩ (by decide +kernel)
theorem grw83 : gRow 83 = w83 := rfl
theorem gn83 : gN gG 83 = yX0_courier := congrArg (fun r : mRow => r.2.2.2.1) grw83
theorem gb83 : gB gG 83 = cX0_courier := congrArg (fun r : mRow => r.2.2.2.2.1) grw83
theorem gr83 : gR gG 83 = (Option.some Jvm.ClassFile.FieldType.int : Option FieldType) := congrArg (fun r : mRow => r.2.2.2.2.2.1) grw83
theorem lv83 : gL gG 83 = 10 := congrArg (fun r : mRow => r.2.2.2.2.2.2.1) grw83
theorem gh83 : gH gG 83 = [(0, 10, 13, 30), (0, 10, 17, 18)] := congrArg (fun r : mRow => r.2.2.2.2.2.2.2) grw83
theorem gm83 : mmax gP 83 = 5 := congrArg (fun r : mRow => r.2.1) grw83
theorem cw83 : mCw gP gG 83 ∈ lw_all := cw_ofW gh83 gn83 gb83 gm83 gr83 q2195
theorem tg83 : mTg gP gG 83 4 := tg_of gn83 gm83 cw83 (by decide) ⟨by decide +kernel, by decide +kernel⟩ (by decide +kernel)
theorem grw84 : gRow 84 = w84 := rfl
theorem gn84 : gN gG 84 = yX0_letter := congrArg (fun r : mRow => r.2.2.2.1) grw84
theorem gb84 : gB gG 84 = cX0_letter := congrArg (fun r : mRow => r.2.2.2.2.1) grw84
theorem gr84 : gR gG 84 = (Option.some Jvm.ClassFile.FieldType.int : Option FieldType) := congrArg (fun r : mRow => r.2.2.2.2.2.1) grw84
theorem lv84 : gL gG 84 = 6 := congrArg (fun r : mRow => r.2.2.2.2.2.2.1) grw84
theorem gh84 : gH gG 84 = [(0, 10, 13, 30), (0, 10, 17, 18)] := congrArg (fun r : mRow => r.2.2.2.2.2.2.2) grw84
theorem gm84 : mmax gP 84 = 5 := congrArg (fun r : mRow => r.2.1) grw84
theorem cw84 : mCw gP gG 84 ∈ lw_all := cw_ofW gh84 gn84 gb84 gm84 gr84 q2204
theorem tg84 : mTg gP gG 84 4 := tg_of gn84 gm84 cw84 (by decide) ⟨by decide +kernel, by decide +kernel⟩ (by decide +kernel)
theorem grw85 : gRow 85 = w85 := rfl
theorem gn85 : gN gG 85 = yX0_gaze := congrArg (fun r : mRow => r.2.2.2.1) grw85
theorem gb85 : gB gG 85 = cX0_gaze := congrArg (fun r : mRow => r.2.2.2.2.1) grw85
theorem gr85 : gR gG 85 = (Option.some Jvm.ClassFile.FieldType.int : Option FieldType) := congrArg (fun r : mRow => r.2.2.2.2.2.1) grw85
theorem lv85 : gL gG 85 = 7 := congrArg (fun r : mRow => r.2.2.2.2.2.2.1) grw85
theorem gh85 : gH gG 85 = [(0, 10, 13, 30)] := congrArg (fun r : mRow => r.2.2.2.2.2.2.2) grw85
theorem gm85 : mmax gP 85 = 5 := congrArg (fun r : mRow => r.2.1) grw85
theorem cw85 : mCw gP gG 85 ∈ lw_all := cw_ofW gh85 gn85 gb85 gm85 gr85 q2216
theorem tg85 : mTg gP gG 85 4 := tg_of gn85 gm85 cw85 (by decide) ⟨by decide +kernel, by decide +kernel⟩ (by decide +kernel)
theorem grw86 : gRow 86 = w86 := rfl
theorem gn86 : gN gG 86 = yX0_why := congrArg (fun r : mRow => r.2.2.2.1) grw86
theorem gb86 : gB gG 86 = cX0_why := congrArg (fun r : mRow => r.2.2.2.2.1) grw86
theorem gr86 : gR gG 86 = (Option.some Jvm.ClassFile.FieldType.int : Option FieldType) := congrArg (fun r : mRow => r.2.2.2.2.2.1) grw86
theorem lv86 : gL gG 86 = 9 := congrArg (fun r : mRow => r.2.2.2.2.2.2.1) grw86
theorem gh86 : gH gG 86 = [(0, 10, 13, 30), (0, 10, 17, 18)] := congrArg (fun r : mRow => r.2.2.2.2.2.2.2) grw86
theorem gm86 : mmax gP 86 = 5 := congrArg (fun r : mRow => r.2.1) grw86
theorem cw86 : mCw gP gG 86 ∈ lw_all := cw_ofW gh86 gn86 gb86 gm86 gr86 q2224
theorem tg86 : mTg gP gG 86 4 := tg_of gn86 gm86 cw86 (by decide) ⟨by decide +kernel, by decide +kernel⟩ (by decide +kernel)
theorem grw87 : gRow 87 = w87 := rfl
theorem gn87 : gN gG 87 = yX0_ifSeen := congrArg (fun r : mRow => r.2.2.2.1) grw87
theorem gb87 : gB gG 87 = cX0_ifSeen := congrArg (fun r : mRow => r.2.2.2.2.1) grw87
theorem gr87 : gR gG 87 = (Option.some Jvm.ClassFile.FieldType.int : Option FieldType) := congrArg (fun r : mRow => r.2.2.2.2.2.1) grw87
theorem lv87 : gL gG 87 = 10 := congrArg (fun r : mRow => r.2.2.2.2.2.2.1) grw87
theorem gh87 : gH gG 87 = [(0, 17, 20, 30), (0, 17, 24, 18)] := congrArg (fun r : mRow => r.2.2.2.2.2.2.2) grw87
theorem gm87 : mmax gP 87 = 5 := congrArg (fun r : mRow => r.2.1) grw87
theorem cw87 : mCw gP gG 87 ∈ lw_all := cw_ofW gh87 gn87 gb87 gm87 gr87 q2248
theorem tg87 : mTg gP gG 87 4 := tg_of gn87 gm87 cw87 (by decide) ⟨by decide +kernel, by decide +kernel⟩ (by decide +kernel)
theorem grw88 : gRow 88 = w88 := rfl
theorem gn88 : gN gG 88 = yX0_seenIn := congrArg (fun r : mRow => r.2.2.2.1) grw88
theorem gb88 : gB gG 88 = cX0_seenIn := congrArg (fun r : mRow => r.2.2.2.2.1) grw88
theorem gr88 : gR gG 88 = (Option.some Jvm.ClassFile.FieldType.int : Option FieldType) := congrArg (fun r : mRow => r.2.2.2.2.2.1) grw88
theorem lv88 : gL gG 88 = 10 := congrArg (fun r : mRow => r.2.2.2.2.2.2.1) grw88
theorem gh88 : gH gG 88 = [(0, 9, 12, 30)] := congrArg (fun r : mRow => r.2.2.2.2.2.2.2) grw88
theorem gm88 : mmax gP 88 = 4 := congrArg (fun r : mRow => r.2.1) grw88
theorem cw88 : mCw gP gG 88 ∈ lw_all := cw_ofW gh88 gn88 gb88 gm88 gr88 q2256
theorem tg88 : mTg gP gG 88 3 := tg_of gn88 gm88 cw88 (by decide) ⟨by decide +kernel, by decide +kernel⟩ (by decide +kernel)
theorem grw89 : gRow 89 = w89 := rfl
theorem gn89 : gN gG 89 = yX0_ifPassed := congrArg (fun r : mRow => r.2.2.2.1) grw89
theorem gb89 : gB gG 89 = cX0_ifPassed := congrArg (fun r : mRow => r.2.2.2.2.1) grw89
theorem gr89 : gR gG 89 = (Option.some Jvm.ClassFile.FieldType.int : Option FieldType) := congrArg (fun r : mRow => r.2.2.2.2.2.1) grw89
theorem lv89 : gL gG 89 = 12 := congrArg (fun r : mRow => r.2.2.2.2.2.2.1) grw89
theorem gh89 : gH gG 89 = [(0, 10, 13, 18)] := congrArg (fun r : mRow => r.2.2.2.2.2.2.2) grw89
theorem gm89 : mmax gP 89 = 5 := congrArg (fun r : mRow => r.2.1) grw89
theorem cw89 : mCw gP gG 89 ∈ lw_all := cw_ofW gh89 gn89 gb89 gm89 gr89 q2263
theorem tg89 : mTg gP gG 89 4 := tg_of gn89 gm89 cw89 (by decide) ⟨by decide +kernel, by decide +kernel⟩ (by decide +kernel)
theorem grw90 : gRow 90 = w90 := rfl
theorem gn90 : gN gG 90 = yX0_unseen := congrArg (fun r : mRow => r.2.2.2.1) grw90
theorem gb90 : gB gG 90 = cX0_unseen := congrArg (fun r : mRow => r.2.2.2.2.1) grw90
theorem gr90 : gR gG 90 = (Option.some Jvm.ClassFile.FieldType.int : Option FieldType) := congrArg (fun r : mRow => r.2.2.2.2.2.1) grw90
theorem lv90 : gL gG 90 = 12 := congrArg (fun r : mRow => r.2.2.2.2.2.2.1) grw90
theorem gh90 : gH gG 90 = [(0, 10, 13, 30)] := congrArg (fun r : mRow => r.2.2.2.2.2.2.2) grw90
theorem gm90 : mmax gP 90 = 5 := congrArg (fun r : mRow => r.2.1) grw90
theorem cw90 : mCw gP gG 90 ∈ lw_all := cw_ofW gh90 gn90 gb90 gm90 gr90 q2271
theorem tg90 : mTg gP gG 90 4 := tg_of gn90 gm90 cw90 (by decide) ⟨by decide +kernel, by decide +kernel⟩ (by decide +kernel)
theorem grw91 : gRow 91 = w91 := rfl
theorem gn91 : gN gG 91 = yX0_canBe := congrArg (fun r : mRow => r.2.2.2.1) grw91
theorem gb91 : gB gG 91 = cX0_canBe := congrArg (fun r : mRow => r.2.2.2.2.1) grw91
theorem gr91 : gR gG 91 = (Option.some Jvm.ClassFile.FieldType.int : Option FieldType) := congrArg (fun r : mRow => r.2.2.2.2.2.1) grw91
theorem lv91 : gL gG 91 = 11 := congrArg (fun r : mRow => r.2.2.2.2.2.2.1) grw91
theorem gh91 : gH gG 91 = [(0, 10, 13, 30), (0, 10, 17, 18)] := congrArg (fun r : mRow => r.2.2.2.2.2.2.2) grw91
theorem gm91 : mmax gP 91 = 5 := congrArg (fun r : mRow => r.2.1) grw91
theorem cw91 : mCw gP gG 91 ∈ lw_all := cw_ofW gh91 gn91 gb91 gm91 gr91 q2304
theorem tg91 : mTg gP gG 91 4 := tg_of gn91 gm91 cw91 (by decide) ⟨by decide +kernel, by decide +kernel⟩ (by decide +kernel)
theorem grw92 : gRow 92 = w92 := rfl
theorem gn92 : gN gG 92 = yX0_ifStepped := congrArg (fun r : mRow => r.2.2.2.1) grw92
theorem gb92 : gB gG 92 = cX0_ifStepped := congrArg (fun r : mRow => r.2.2.2.2.1) grw92
theorem gr92 : gR gG 92 = (Option.some Jvm.ClassFile.FieldType.int : Option FieldType) := congrArg (fun r : mRow => r.2.2.2.2.2.1) grw92
theorem lv92 : gL gG 92 = 11 := congrArg (fun r : mRow => r.2.2.2.2.2.2.1) grw92
theorem gh92 : gH gG 92 = [(0, 10, 13, 30), (0, 10, 17, 18)] := congrArg (fun r : mRow => r.2.2.2.2.2.2.2) grw92
theorem gm92 : mmax gP 92 = 5 := congrArg (fun r : mRow => r.2.1) grw92
theorem cw92 : mCw gP gG 92 ∈ lw_all := cw_ofW gh92 gn92 gb92 gm92 gr92 q2316
theorem tg92 : mTg gP gG 92 4 := tg_of gn92 gm92 cw92 (by decide) ⟨by decide +kernel, by decide +kernel⟩ (by decide +kernel)
theorem grw93 : gRow 93 = w93 := rfl
theorem gn93 : gN gG 93 = yX0_nearest := congrArg (fun r : mRow => r.2.2.2.1) grw93
theorem gb93 : gB gG 93 = cX0_nearest := congrArg (fun r : mRow => r.2.2.2.2.1) grw93
theorem gr93 : gR gG 93 = (Option.some Jvm.ClassFile.FieldType.int : Option FieldType) := congrArg (fun r : mRow => r.2.2.2.2.2.1) grw93
theorem lv93 : gL gG 93 = 12 := congrArg (fun r : mRow => r.2.2.2.2.2.2.1) grw93
theorem gh93 : gH gG 93 = [(0, 9, 12, 30)] := congrArg (fun r : mRow => r.2.2.2.2.2.2.2) grw93
theorem gm93 : mmax gP 93 = 4 := congrArg (fun r : mRow => r.2.1) grw93
theorem cw93 : mCw gP gG 93 ∈ lw_all := cw_ofW gh93 gn93 gb93 gm93 gr93 q2324
theorem tg93 : mTg gP gG 93 3 := tg_of gn93 gm93 cw93 (by decide) ⟨by decide +kernel, by decide +kernel⟩ (by decide +kernel)
theorem grw94 : gRow 94 = w94 := rfl
theorem gn94 : gN gG 94 = yX0_refusals := congrArg (fun r : mRow => r.2.2.2.1) grw94
theorem gb94 : gB gG 94 = cX0_refusals := congrArg (fun r : mRow => r.2.2.2.2.1) grw94
theorem gr94 : gR gG 94 = (Option.some Jvm.ClassFile.FieldType.int : Option FieldType) := congrArg (fun r : mRow => r.2.2.2.2.2.1) grw94
theorem lv94 : gL gG 94 = 3 := congrArg (fun r : mRow => r.2.2.2.2.2.2.1) grw94
theorem gh94 : gH gG 94 = [(0, 9, 12, 18)] := congrArg (fun r : mRow => r.2.2.2.2.2.2.2) grw94
theorem gm94 : mmax gP 94 = 4 := congrArg (fun r : mRow => r.2.1) grw94
theorem cw94 : mCw gP gG 94 ∈ lw_all := cw_ofW gh94 gn94 gb94 gm94 gr94 q2331
theorem tg94 : mTg gP gG 94 3 := tg_of gn94 gm94 cw94 (by decide) ⟨by decide +kernel, by decide +kernel⟩ (by decide +kernel)
theorem grw95 : gRow 95 = w95 := rfl
theorem gn95 : gN gG 95 = yX0_step := congrArg (fun r : mRow => r.2.2.2.1) grw95
theorem gb95 : gB gG 95 = cX0_step := congrArg (fun r : mRow => r.2.2.2.2.1) grw95
theorem gr95 : gR gG 95 = (Option.some Jvm.ClassFile.FieldType.int : Option FieldType) := congrArg (fun r : mRow => r.2.2.2.2.2.1) grw95
theorem lv95 : gL gG 95 = 16 := congrArg (fun r : mRow => r.2.2.2.2.2.2.1) grw95
theorem gh95 : gH gG 95 = [(0, 10, 13, 30), (0, 10, 17, 18)] := congrArg (fun r : mRow => r.2.2.2.2.2.2.2) grw95
theorem gm95 : mmax gP 95 = 5 := congrArg (fun r : mRow => r.2.1) grw95
theorem cw95 : mCw gP gG 95 ∈ lw_all := cw_ofW gh95 gn95 gb95 gm95 gr95 q2338
theorem tg95 : mTg gP gG 95 4 := tg_of gn95 gm95 cw95 (by decide) ⟨by decide +kernel, by decide +kernel⟩ (by decide +kernel)
theorem grw96 : gRow 96 = w96 := rfl
theorem gn96 : gN gG 96 = yX0_pick := congrArg (fun r : mRow => r.2.2.2.1) grw96
theorem gb96 : gB gG 96 = cX0_pick := congrArg (fun r : mRow => r.2.2.2.2.1) grw96
theorem gr96 : gR gG 96 = (Option.some Jvm.ClassFile.FieldType.int : Option FieldType) := congrArg (fun r : mRow => r.2.2.2.2.2.1) grw96
theorem lv96 : gL gG 96 = 16 := congrArg (fun r : mRow => r.2.2.2.2.2.2.1) grw96
theorem gh96 : gH gG 96 = [(0, 10, 13, 30)] := congrArg (fun r : mRow => r.2.2.2.2.2.2.2) grw96
theorem gm96 : mmax gP 96 = 5 := congrArg (fun r : mRow => r.2.1) grw96
theorem cw96 : mCw gP gG 96 ∈ lw_all := cw_ofW gh96 gn96 gb96 gm96 gr96 q2351
theorem tg96 : mTg gP gG 96 4 := tg_of gn96 gm96 cw96 (by decide) ⟨by decide +kernel, by decide +kernel⟩ (by decide +kernel)
theorem grw97 : gRow 97 = w97 := rfl
theorem gn97 : gN gG 97 = yX0_give := congrArg (fun r : mRow => r.2.2.2.1) grw97
theorem gb97 : gB gG 97 = cX0_give := congrArg (fun r : mRow => r.2.2.2.2.1) grw97
theorem gr97 : gR gG 97 = (Option.some Jvm.ClassFile.FieldType.int : Option FieldType) := congrArg (fun r : mRow => r.2.2.2.2.2.1) grw97
theorem lv97 : gL gG 97 = 16 := congrArg (fun r : mRow => r.2.2.2.2.2.2.1) grw97
theorem gh97 : gH gG 97 = [(0, 12, 15, 30)] := congrArg (fun r : mRow => r.2.2.2.2.2.2.2) grw97
theorem gm97 : mmax gP 97 = 6 := congrArg (fun r : mRow => r.2.1) grw97
theorem cw97 : mCw gP gG 97 ∈ lw_all := cw_ofW gh97 gn97 gb97 gm97 gr97 q2359
theorem tg97 : mTg gP gG 97 5 := tg_of gn97 gm97 cw97 (by decide) ⟨by decide +kernel, by decide +kernel⟩ (by decide +kernel)
theorem grw98 : gRow 98 = w98 := rfl
theorem gn98 : gN gG 98 = yX0_lay := congrArg (fun r : mRow => r.2.2.2.1) grw98
theorem gb98 : gB gG 98 = cX0_lay := congrArg (fun r : mRow => r.2.2.2.2.1) grw98
theorem gr98 : gR gG 98 = (Option.some Jvm.ClassFile.FieldType.int : Option FieldType) := congrArg (fun r : mRow => r.2.2.2.2.2.1) grw98
theorem lv98 : gL gG 98 = 16 := congrArg (fun r : mRow => r.2.2.2.2.2.2.1) grw98
theorem gh98 : gH gG 98 = [(0, 10, 13, 30)] := congrArg (fun r : mRow => r.2.2.2.2.2.2.2) grw98
theorem gm98 : mmax gP 98 = 5 := congrArg (fun r : mRow => r.2.1) grw98
theorem cw98 : mCw gP gG 98 ∈ lw_all := cw_ofW gh98 gn98 gb98 gm98 gr98 q2367
theorem tg98 : mTg gP gG 98 4 := tg_of gn98 gm98 cw98 (by decide) ⟨by decide +kernel, by decide +kernel⟩ (by decide +kernel)
theorem grw99 : gRow 99 = w99 := rfl
theorem gn99 : gN gG 99 = yX0_pass := congrArg (fun r : mRow => r.2.2.2.1) grw99
theorem gb99 : gB gG 99 = cX0_pass := congrArg (fun r : mRow => r.2.2.2.2.1) grw99
theorem gr99 : gR gG 99 = (Option.some Jvm.ClassFile.FieldType.int : Option FieldType) := congrArg (fun r : mRow => r.2.2.2.2.2.1) grw99
theorem lv99 : gL gG 99 = 16 := congrArg (fun r : mRow => r.2.2.2.2.2.2.1) grw99
theorem gh99 : gH gG 99 = [(0, 9, 12, 18)] := congrArg (fun r : mRow => r.2.2.2.2.2.2.2) grw99
theorem gm99 : mmax gP 99 = 4 := congrArg (fun r : mRow => r.2.1) grw99
theorem cw99 : mCw gP gG 99 ∈ lw_all := cw_ofW gh99 gn99 gb99 gm99 gr99 q2375
theorem tg99 : mTg gP gG 99 3 := tg_of gn99 gm99 cw99 (by decide) ⟨by decide +kernel, by decide +kernel⟩ (by decide +kernel)
theorem grw100 : gRow 100 = w100 := rfl
theorem gn100 : gN gG 100 = yX0_write := congrArg (fun r : mRow => r.2.2.2.1) grw100
theorem gb100 : gB gG 100 = cX0_write := congrArg (fun r : mRow => r.2.2.2.2.1) grw100
theorem gr100 : gR gG 100 = (Option.some Jvm.ClassFile.FieldType.int : Option FieldType) := congrArg (fun r : mRow => r.2.2.2.2.2.1) grw100
theorem lv100 : gL gG 100 = 11 := congrArg (fun r : mRow => r.2.2.2.2.2.2.1) grw100
theorem gh100 : gH gG 100 = [(0, 9, 12, 18)] := congrArg (fun r : mRow => r.2.2.2.2.2.2.2) grw100
theorem gm100 : mmax gP 100 = 4 := congrArg (fun r : mRow => r.2.1) grw100
theorem cw100 : mCw gP gG 100 ∈ lw_all := cw_ofW gh100 gn100 gb100 gm100 gr100 q2383
theorem tg100 : mTg gP gG 100 3 := tg_of gn100 gm100 cw100 (by decide) ⟨by decide +kernel, by decide +kernel⟩ (by decide +kernel)
theorem grw101 : gRow 101 = w101 := rfl
theorem gn101 : gN gG 101 = yX0_save := congrArg (fun r : mRow => r.2.2.2.1) grw101
theorem gb101 : gB gG 101 = cX0_save := congrArg (fun r : mRow => r.2.2.2.2.1) grw101
theorem gr101 : gR gG 101 = (Option.some Jvm.ClassFile.FieldType.int : Option FieldType) := congrArg (fun r : mRow => r.2.2.2.2.2.1) grw101
theorem lv101 : gL gG 101 = 3 := congrArg (fun r : mRow => r.2.2.2.2.2.2.1) grw101
theorem gh101 : gH gG 101 = [(0, 5, 8, 18)] := congrArg (fun r : mRow => r.2.2.2.2.2.2.2) grw101
theorem gm101 : mmax gP 101 = 3 := congrArg (fun r : mRow => r.2.1) grw101
theorem cw101 : mCw gP gG 101 ∈ lw_all := cw_ofW gh101 gn101 gb101 gm101 gr101 q2459
theorem tg101 : mTg gP gG 101 2 := tg_of gn101 gm101 cw101 (by decide) ⟨by decide +kernel, by decide +kernel⟩ (by decide +kernel)
theorem grw102 : gRow 102 = w102 := rfl
theorem gn102 : gN gG 102 = yX0_restore := congrArg (fun r : mRow => r.2.2.2.1) grw102
theorem gb102 : gB gG 102 = cX0_restore := congrArg (fun r : mRow => r.2.2.2.2.1) grw102
theorem gr102 : gR gG 102 = (Option.some Jvm.ClassFile.FieldType.int : Option FieldType) := congrArg (fun r : mRow => r.2.2.2.2.2.1) grw102
theorem lv102 : gL gG 102 = 4 := congrArg (fun r : mRow => r.2.2.2.2.2.2.1) grw102
theorem gh102 : gH gG 102 = [(0, 5, 8, 18), (0, 5, 11, 13)] := congrArg (fun r : mRow => r.2.2.2.2.2.2.2) grw102
theorem gm102 : mmax gP 102 = 3 := congrArg (fun r : mRow => r.2.1) grw102
theorem cw102 : mCw gP gG 102 ∈ lw_all := cw_ofW gh102 gn102 gb102 gm102 gr102 q2466
theorem tg102 : mTg gP gG 102 2 := tg_of gn102 gm102 cw102 (by decide) ⟨by decide +kernel, by decide +kernel⟩ (by decide +kernel)
theorem grw103 : gRow 103 = w103 := rfl
theorem gn103 : gN gG 103 = yX1_init := congrArg (fun r : mRow => r.2.2.2.1) grw103
theorem gb103 : gB gG 103 = cX1_init := congrArg (fun r : mRow => r.2.2.2.2.1) grw103
theorem gr103 : gR gG 103 = (none : Option FieldType) := congrArg (fun r : mRow => r.2.2.2.2.2.1) grw103
theorem lv103 : gL gG 103 = 8 := congrArg (fun r : mRow => r.2.2.2.2.2.2.1) grw103
theorem gh103 : gH gG 103 = [] := congrArg (fun r : mRow => r.2.2.2.2.2.2.2) grw103
theorem gm103 : mmax gP 103 = 5 := congrArg (fun r : mRow => r.2.1) grw103
theorem cw103 : mCw gP gG 103 ∈ lw_all := cw_of gh103 gn103 gb103 gm103 gr103 q204
theorem tg103 : mTg gP gG 103 0 := tg_of gn103 gm103 cw103 (by decide) ⟨by decide +kernel, by decide +kernel⟩ (by decide +kernel)
theorem grw104 : gRow 104 = w104 := rfl
theorem gn104 : gN gG 104 = yX1_gap := congrArg (fun r : mRow => r.2.2.2.1) grw104
theorem gb104 : gB gG 104 = cX1_gap := congrArg (fun r : mRow => r.2.2.2.2.1) grw104
theorem gr104 : gR gG 104 = (Option.some Jvm.ClassFile.FieldType.int : Option FieldType) := congrArg (fun r : mRow => r.2.2.2.2.2.1) grw104
theorem lv104 : gL gG 104 = 5 := congrArg (fun r : mRow => r.2.2.2.2.2.2.1) grw104
theorem gh104 : gH gG 104 = [] := congrArg (fun r : mRow => r.2.2.2.2.2.2.2) grw104
theorem gm104 : mmax gP 104 = 4 := congrArg (fun r : mRow => r.2.1) grw104
theorem cw104 : mCw gP gG 104 ∈ lw_all := cw_of gh104 gn104 gb104 gm104 gr104 q1440
theorem tg104 : mTg gP gG 104 0 := tg_of gn104 gm104 cw104 (by decide) ⟨by decide +kernel, by decide +kernel⟩ (by decide +kernel)
theorem grw105 : gRow 105 = w105 := rfl
theorem gn105 : gN gG 105 = yX1_one := congrArg (fun r : mRow => r.2.2.2.1) grw105
theorem gb105 : gB gG 105 = cX1_one := congrArg (fun r : mRow => r.2.2.2.2.1) grw105
theorem gr105 : gR gG 105 = (Option.some Jvm.ClassFile.FieldType.int : Option FieldType) := congrArg (fun r : mRow => r.2.2.2.2.2.1) grw105
theorem lv105 : gL gG 105 = 1 := congrArg (fun r : mRow => r.2.2.2.2.2.2.1) grw105
theorem gh105 : gH gG 105 = [] := congrArg (fun r : mRow => r.2.2.2.2.2.2.2) grw105
theorem gm105 : mmax gP 105 = 1 := congrArg (fun r : mRow => r.2.1) grw105
theorem cw105 : mCw gP gG 105 ∈ lw_all := cw_of gh105 gn105 gb105 gm105 gr105 q1463
theorem tg105 : mTg gP gG 105 1 := tg_of gn105 gm105 cw105 (by decide) ⟨by decide +kernel, by decide +kernel⟩ (by decide +kernel)
theorem grw106 : gRow 106 = w106 := rfl
theorem gn106 : gN gG 106 = yX1_lettersOn := congrArg (fun r : mRow => r.2.2.2.1) grw106
theorem gb106 : gB gG 106 = cX1_lettersOn := congrArg (fun r : mRow => r.2.2.2.2.1) grw106
theorem gr106 : gR gG 106 = (Option.some Jvm.ClassFile.FieldType.int : Option FieldType) := congrArg (fun r : mRow => r.2.2.2.2.2.1) grw106
theorem lv106 : gL gG 106 = 4 := congrArg (fun r : mRow => r.2.2.2.2.2.2.1) grw106
theorem gh106 : gH gG 106 = [] := congrArg (fun r : mRow => r.2.2.2.2.2.2.2) grw106
theorem gm106 : mmax gP 106 = 4 := congrArg (fun r : mRow => r.2.1) grw106
theorem cw106 : mCw gP gG 106 ∈ lw_all := cw_of gh106 gn106 gb106 gm106 gr106 q1491
theorem tg106 : mTg gP gG 106 1 := tg_of gn106 gm106 cw106 (by decide) ⟨by decide +kernel, by decide +kernel⟩ (by decide +kernel)
theorem grw107 : gRow 107 = w107 := rfl
theorem gn107 : gN gG 107 = yX1_couriersOn := congrArg (fun r : mRow => r.2.2.2.1) grw107
theorem gb107 : gB gG 107 = cX1_couriersOn := congrArg (fun r : mRow => r.2.2.2.2.1) grw107
theorem gr107 : gR gG 107 = (Option.some Jvm.ClassFile.FieldType.int : Option FieldType) := congrArg (fun r : mRow => r.2.2.2.2.2.1) grw107
theorem lv107 : gL gG 107 = 4 := congrArg (fun r : mRow => r.2.2.2.2.2.2.1) grw107
theorem gh107 : gH gG 107 = [] := congrArg (fun r : mRow => r.2.2.2.2.2.2.2) grw107
theorem gm107 : mmax gP 107 = 4 := congrArg (fun r : mRow => r.2.1) grw107
theorem cw107 : mCw gP gG 107 ∈ lw_all := cw_of gh107 gn107 gb107 gm107 gr107 q1501
theorem tg107 : mTg gP gG 107 1 := tg_of gn107 gm107 cw107 (by decide) ⟨by decide +kernel, by decide +kernel⟩ (by decide +kernel)
theorem grw108 : gRow 108 = w108 := rfl
theorem gn108 : gN gG 108 = yX1_share := congrArg (fun r : mRow => r.2.2.2.1) grw108
theorem gb108 : gB gG 108 = cX1_share := congrArg (fun r : mRow => r.2.2.2.2.1) grw108
theorem gr108 : gR gG 108 = (Option.some Jvm.ClassFile.FieldType.float : Option FieldType) := congrArg (fun r : mRow => r.2.2.2.2.2.1) grw108
theorem lv108 : gL gG 108 = 5 := congrArg (fun r : mRow => r.2.2.2.2.2.2.1) grw108
theorem gh108 : gH gG 108 = [] := congrArg (fun r : mRow => r.2.2.2.2.2.2.2) grw108
theorem gm108 : mmax gP 108 = 1 := congrArg (fun r : mRow => r.2.1) grw108
theorem cw108 : mCw gP gG 108 ∈ lw_all := cw_of gh108 gn108 gb108 gm108 gr108 q1516
theorem tg108 : mTg gP gG 108 0 := tg_of gn108 gm108 cw108 (by decide) ⟨by decide +kernel, by decide +kernel⟩ (by decide +kernel)
theorem grw109 : gRow 109 = w109 := rfl
theorem gn109 : gN gG 109 = yX1_meanMist := congrArg (fun r : mRow => r.2.2.2.1) grw109
theorem gb109 : gB gG 109 = cX1_meanMist := congrArg (fun r : mRow => r.2.2.2.2.1) grw109
theorem gr109 : gR gG 109 = (Option.some Jvm.ClassFile.FieldType.double : Option FieldType) := congrArg (fun r : mRow => r.2.2.2.2.2.1) grw109
theorem lv109 : gL gG 109 = 5 := congrArg (fun r : mRow => r.2.2.2.2.2.2.1) grw109
theorem gh109 : gH gG 109 = [] := congrArg (fun r : mRow => r.2.2.2.2.2.2.2) grw109
theorem gm109 : mmax gP 109 = 4 := congrArg (fun r : mRow => r.2.1) grw109
theorem cw109 : mCw gP gG 109 ∈ lw_all := cw_of gh109 gn109 gb109 gm109 gr109 q1524
theorem tg109 : mTg gP gG 109 0 := tg_of gn109 gm109 cw109 (by decide) ⟨by decide +kernel, by decide +kernel⟩ (by decide +kernel)
theorem grw110 : gRow 110 = w110 := rfl
theorem gn110 : gN gG 110 = yX1_walls := congrArg (fun r : mRow => r.2.2.2.1) grw110
theorem gb110 : gB gG 110 = cX1_walls := congrArg (fun r : mRow => r.2.2.2.2.1) grw110
theorem gr110 : gR gG 110 = (Option.some Jvm.ClassFile.FieldType.int : Option FieldType) := congrArg (fun r : mRow => r.2.2.2.2.2.1) grw110
theorem lv110 : gL gG 110 = 2 := congrArg (fun r : mRow => r.2.2.2.2.2.2.1) grw110
theorem gh110 : gH gG 110 = [] := congrArg (fun r : mRow => r.2.2.2.2.2.2.2) grw110
theorem gm110 : mmax gP 110 = 6 := congrArg (fun r : mRow => r.2.1) grw110
theorem cw110 : mCw gP gG 110 ∈ lw_all := cw_of gh110 gn110 gb110 gm110 gr110 q1528
theorem tg110 : mTg gP gG 110 0 := tg_of gn110 gm110 cw110 (by decide) ⟨by decide +kernel, by decide +kernel⟩ (by decide +kernel)
theorem grw111 : gRow 111 = w111 := rfl
theorem gn111 : gN gG 111 = yX1_load := congrArg (fun r : mRow => r.2.2.2.1) grw111
theorem gb111 : gB gG 111 = cX1_load := congrArg (fun r : mRow => r.2.2.2.2.1) grw111
theorem gr111 : gR gG 111 = (Option.some Jvm.ClassFile.FieldType.int : Option FieldType) := congrArg (fun r : mRow => r.2.2.2.2.2.1) grw111
theorem lv111 : gL gG 111 = 13 := congrArg (fun r : mRow => r.2.2.2.2.2.2.1) grw111
theorem gh111 : gH gG 111 = [(7, 40, 47, 401), (7, 40, 68, 0), (47, 61, 68, 0), (68, 70, 68, 0)] := congrArg (fun r : mRow => r.2.2.2.2.2.2.2) grw111
theorem gm111 : mmax gP 111 = 5 := congrArg (fun r : mRow => r.2.1) grw111
theorem cw111 : mCw gP gG 111 ∈ lw_all := cw_ofW gh111 gn111 gb111 gm111 gr111 q1560
theorem tg111 : mTg gP gG 111 0 := tg_of gn111 gm111 cw111 (by decide) ⟨by decide +kernel, by decide +kernel⟩ (by decide +kernel)
theorem grw112 : gRow 112 = w112 := rfl
theorem gn112 : gN gG 112 = yX1_failed := congrArg (fun r : mRow => r.2.2.2.1) grw112
theorem gb112 : gB gG 112 = cX1_failed := congrArg (fun r : mRow => r.2.2.2.2.1) grw112
theorem gr112 : gR gG 112 = (Option.some Jvm.ClassFile.FieldType.int : Option FieldType) := congrArg (fun r : mRow => r.2.2.2.2.2.1) grw112
theorem lv112 : gL gG 112 = 1 := congrArg (fun r : mRow => r.2.2.2.2.2.2.1) grw112
theorem gh112 : gH gG 112 = [] := congrArg (fun r : mRow => r.2.2.2.2.2.2.2) grw112
theorem gm112 : mmax gP 112 = 3 := congrArg (fun r : mRow => r.2.1) grw112
theorem cw112 : mCw gP gG 112 ∈ lw_all := cw_of gh112 gn112 gb112 gm112 gr112 q1565
theorem tg112 : mTg gP gG 112 2 := tg_of gn112 gm112 cw112 (by decide) ⟨by decide +kernel, by decide +kernel⟩ (by decide +kernel)
theorem grw113 : gRow 113 = w113 := rfl
theorem gn113 : gN gG 113 = yX1_in := congrArg (fun r : mRow => r.2.2.2.1) grw113
theorem gb113 : gB gG 113 = cX1_in := congrArg (fun r : mRow => r.2.2.2.2.1) grw113
theorem gr113 : gR gG 113 = (Option.some Jvm.ClassFile.FieldType.boolean : Option FieldType) := congrArg (fun r : mRow => r.2.2.2.2.2.1) grw113
theorem lv113 : gL gG 113 = 1 := congrArg (fun r : mRow => r.2.2.2.2.2.2.1) grw113
theorem gh113 : gH gG 113 = [] := congrArg (fun r : mRow => r.2.2.2.2.2.2.2) grw113
theorem gm113 : mmax gP 113 = 3 := congrArg (fun r : mRow => r.2.1) grw113
theorem cw113 : mCw gP gG 113 ∈ lw_all := cw_of gh113 gn113 gb113 gm113 gr113 q1615
theorem tg113 : mTg gP gG 113 3 := tg_of gn113 gm113 cw113 (by decide) ⟨by decide +kernel, by decide +kernel⟩ (by decide +kernel)
theorem grw114 : gRow 114 = w114 := rfl
theorem gn114 : gN gG 114 = yX1_play := congrArg (fun r : mRow => r.2.2.2.1) grw114
theorem gb114 : gB gG 114 = cX1_play := congrArg (fun r : mRow => r.2.2.2.2.1) grw114
theorem gr114 : gR gG 114 = (Option.some Jvm.ClassFile.FieldType.int : Option FieldType) := congrArg (fun r : mRow => r.2.2.2.2.2.1) grw114
theorem lv114 : gL gG 114 = 15 := congrArg (fun r : mRow => r.2.2.2.2.2.2.1) grw114
theorem gh114 : gH gG 114 = [(7, 19, 27, 401), (7, 19, 50, 0), (27, 42, 50, 0), (50, 52, 50, 0)] := congrArg (fun r : mRow => r.2.2.2.2.2.2.2) grw114
theorem gm114 : mmax gP 114 = 6 := congrArg (fun r : mRow => r.2.1) grw114
theorem cw114 : mCw gP gG 114 ∈ lw_all := cw_ofW gh114 gn114 gb114 gm114 gr114 q1762
theorem tg114 : mTg gP gG 114 0 := tg_of gn114 gm114 cw114 (by decide) ⟨by decide +kernel, by decide +kernel⟩ (by decide +kernel)
theorem grw115 : gRow 115 = w115 := rfl
theorem gn115 : gN gG 115 = yX1_isPlayed := congrArg (fun r : mRow => r.2.2.2.1) grw115
theorem gb115 : gB gG 115 = cX1_isPlayed := congrArg (fun r : mRow => r.2.2.2.2.1) grw115
theorem gr115 : gR gG 115 = (Option.some Jvm.ClassFile.FieldType.boolean : Option FieldType) := congrArg (fun r : mRow => r.2.2.2.2.2.1) grw115
theorem lv115 : gL gG 115 = 14 := congrArg (fun r : mRow => r.2.2.2.2.2.2.1) grw115
theorem gh115 : gH gG 115 = [(0, 13, 14, 7), (0, 13, 14, 1)] := congrArg (fun r : mRow => r.2.2.2.2.2.2.2) grw115
theorem gm115 : mmax gP 115 = 3 := congrArg (fun r : mRow => r.2.1) grw115
theorem cw115 : mCw gP gG 115 ∈ lw_all := cw_ofW gh115 gn115 gb115 gm115 gr115 q1866
theorem tg115 : mTg gP gG 115 1 := tg_of gn115 gm115 cw115 (by decide) ⟨by decide +kernel, by decide +kernel⟩ (by decide +kernel)
theorem grw116 : gRow 116 = w116 := rfl
theorem gn116 : gN gG 116 = yX1_acts := congrArg (fun r : mRow => r.2.2.2.1) grw116
theorem gb116 : gB gG 116 = cX1_acts := congrArg (fun r : mRow => r.2.2.2.2.1) grw116
theorem gr116 : gR gG 116 = (Option.some Jvm.ClassFile.FieldType.int : Option FieldType) := congrArg (fun r : mRow => r.2.2.2.2.2.1) grw116
theorem lv116 : gL gG 116 = 13 := congrArg (fun r : mRow => r.2.2.2.2.2.2.1) grw116
theorem gh116 : gH gG 116 = [] := congrArg (fun r : mRow => r.2.2.2.2.2.2.2) grw116
theorem gm116 : mmax gP 116 = 5 := congrArg (fun r : mRow => r.2.1) grw116
theorem cw116 : mCw gP gG 116 ∈ lw_all := cw_of gh116 gn116 gb116 gm116 gr116 q1890
theorem tg116 : mTg gP gG 116 1 := tg_of gn116 gm116 cw116 (by decide) ⟨by decide +kernel, by decide +kernel⟩ (by decide +kernel)
theorem grw117 : gRow 117 = w117 := rfl
theorem gn117 : gN gG 117 = yX1_requireIndex := congrArg (fun r : mRow => r.2.2.2.1) grw117
theorem gb117 : gB gG 117 = cX1_requireIndex := congrArg (fun r : mRow => r.2.2.2.2.1) grw117
theorem gr117 : gR gG 117 = (none : Option FieldType) := congrArg (fun r : mRow => r.2.2.2.2.2.1) grw117
theorem lv117 : gL gG 117 = 1 := congrArg (fun r : mRow => r.2.2.2.2.2.2.1) grw117
theorem gh117 : gH gG 117 = [] := congrArg (fun r : mRow => r.2.2.2.2.2.2.2) grw117
theorem gm117 : mmax gP 117 = 1 := congrArg (fun r : mRow => r.2.1) grw117
theorem cw117 : mCw gP gG 117 ∈ lw_all := cw_of gh117 gn117 gb117 gm117 gr117 q1947
theorem tg117 : mTg gP gG 117 1 := tg_of gn117 gm117 cw117 (by decide) ⟨by decide +kernel, by decide +kernel⟩ (by decide +kernel)
theorem grw118 : gRow 118 = w118 := rfl
theorem gn118 : gN gG 118 = yX1_requireArgument := congrArg (fun r : mRow => r.2.2.2.1) grw118
theorem gb118 : gB gG 118 = cX1_requireArgument := congrArg (fun r : mRow => r.2.2.2.2.1) grw118
theorem gr118 : gR gG 118 = (none : Option FieldType) := congrArg (fun r : mRow => r.2.2.2.2.2.1) grw118
theorem lv118 : gL gG 118 = 1 := congrArg (fun r : mRow => r.2.2.2.2.2.2.1) grw118
theorem gh118 : gH gG 118 = [] := congrArg (fun r : mRow => r.2.2.2.2.2.2.2) grw118
theorem gm118 : mmax gP 118 = 1 := congrArg (fun r : mRow => r.2.1) grw118
theorem cw118 : mCw gP gG 118 ∈ lw_all := cw_of gh118 gn118 gb118 gm118 gr118 q1973
theorem tg118 : mTg gP gG 118 1 := tg_of gn118 gm118 cw118 (by decide) ⟨by decide +kernel, by decide +kernel⟩ (by decide +kernel)
theorem grw119 : gRow 119 = w119 := rfl
theorem gn119 : gN gG 119 = yX1_errorCode := congrArg (fun r : mRow => r.2.2.2.1) grw119
theorem gb119 : gB gG 119 = cX1_errorCode := congrArg (fun r : mRow => r.2.2.2.2.1) grw119
theorem gr119 : gR gG 119 = (Option.some Jvm.ClassFile.FieldType.int : Option FieldType) := congrArg (fun r : mRow => r.2.2.2.2.2.1) grw119
theorem lv119 : gL gG 119 = 1 := congrArg (fun r : mRow => r.2.2.2.2.2.2.1) grw119
theorem gh119 : gH gG 119 = [] := congrArg (fun r : mRow => r.2.2.2.2.2.2.2) grw119
theorem gm119 : mmax gP 119 = 1 := congrArg (fun r : mRow => r.2.1) grw119
theorem cw119 : mCw gP gG 119 ∈ lw_all := cw_of gh119 gn119 gb119 gm119 gr119 q2067
theorem tg119 : mTg gP gG 119 0 := tg_of gn119 gm119 cw119 (by decide) ⟨by decide +kernel, by decide +kernel⟩ (by decide +kernel)
theorem grw120 : gRow 120 = w120 := rfl
theorem gn120 : gN gG 120 = yX1_errorPosition := congrArg (fun r : mRow => r.2.2.2.1) grw120
theorem gb120 : gB gG 120 = cX1_errorPosition := congrArg (fun r : mRow => r.2.2.2.2.1) grw120
theorem gr120 : gR gG 120 = (Option.some Jvm.ClassFile.FieldType.int : Option FieldType) := congrArg (fun r : mRow => r.2.2.2.2.2.1) grw120
theorem lv120 : gL gG 120 = 1 := congrArg (fun r : mRow => r.2.2.2.2.2.2.1) grw120
theorem gh120 : gH gG 120 = [] := congrArg (fun r : mRow => r.2.2.2.2.2.2.2) grw120
theorem gm120 : mmax gP 120 = 1 := congrArg (fun r : mRow => r.2.1) grw120
theorem cw120 : mCw gP gG 120 ∈ lw_all := cw_of gh120 gn120 gb120 gm120 gr120 q2071
theorem tg120 : mTg gP gG 120 0 := tg_of gn120 gm120 cw120 (by decide) ⟨by decide +kernel, by decide +kernel⟩ (by decide +kernel)
theorem grw121 : gRow 121 = w121 := rfl
theorem gn121 : gN gG 121 = yX1_output := congrArg (fun r : mRow => r.2.2.2.1) grw121
theorem gb121 : gB gG 121 = cX1_output := congrArg (fun r : mRow => r.2.2.2.2.1) grw121
theorem gr121 : gR gG 121 = (Option.some Jvm.ClassFile.FieldType.int : Option FieldType) := congrArg (fun r : mRow => r.2.2.2.2.2.1) grw121
theorem lv121 : gL gG 121 = 5 := congrArg (fun r : mRow => r.2.2.2.2.2.2.1) grw121
theorem gh121 : gH gG 121 = [] := congrArg (fun r : mRow => r.2.2.2.2.2.2.2) grw121
theorem gm121 : mmax gP 121 = 2 := congrArg (fun r : mRow => r.2.1) grw121
theorem cw121 : mCw gP gG 121 ∈ lw_all := cw_of gh121 gn121 gb121 gm121 gr121 q2075
theorem tg121 : mTg gP gG 121 1 := tg_of gn121 gm121 cw121 (by decide) ⟨by decide +kernel, by decide +kernel⟩ (by decide +kernel)
theorem grw122 : gRow 122 = w122 := rfl
theorem gn122 : gN gG 122 = yX1_undo := congrArg (fun r : mRow => r.2.2.2.1) grw122
theorem gb122 : gB gG 122 = cX1_undo := congrArg (fun r : mRow => r.2.2.2.2.1) grw122
theorem gr122 : gR gG 122 = (Option.some Jvm.ClassFile.FieldType.int : Option FieldType) := congrArg (fun r : mRow => r.2.2.2.2.2.1) grw122
theorem lv122 : gL gG 122 = 3 := congrArg (fun r : mRow => r.2.2.2.2.2.2.1) grw122
theorem gh122 : gH gG 122 = [] := congrArg (fun r : mRow => r.2.2.2.2.2.2.2) grw122
theorem gm122 : mmax gP 122 = 1 := congrArg (fun r : mRow => r.2.1) grw122
theorem cw122 : mCw gP gG 122 ∈ lw_all := cw_of gh122 gn122 gb122 gm122 gr122 q2091
theorem tg122 : mTg gP gG 122 0 := tg_of gn122 gm122 cw122 (by decide) ⟨by decide +kernel, by decide +kernel⟩ (by decide +kernel)
theorem grw123 : gRow 123 = w123 := rfl
theorem gn123 : gN gG 123 = yX1_appendText := congrArg (fun r : mRow => r.2.2.2.1) grw123
theorem gb123 : gB gG 123 = cX1_appendText := congrArg (fun r : mRow => r.2.2.2.2.1) grw123
theorem gr123 : gR gG 123 = (Option.some Jvm.ClassFile.FieldType.int : Option FieldType) := congrArg (fun r : mRow => r.2.2.2.2.2.1) grw123
theorem lv123 : gL gG 123 = 1 := congrArg (fun r : mRow => r.2.2.2.2.2.2.1) grw123
theorem gh123 : gH gG 123 = [] := congrArg (fun r : mRow => r.2.2.2.2.2.2.2) grw123
theorem gm123 : mmax gP 123 = 3 := congrArg (fun r : mRow => r.2.1) grw123
theorem cw123 : mCw gP gG 123 ∈ lw_all := cw_of gh123 gn123 gb123 gm123 gr123 q2106
theorem tg123 : mTg gP gG 123 1 := tg_of gn123 gm123 cw123 (by decide) ⟨by decide +kernel, by decide +kernel⟩ (by decide +kernel)
theorem grw124 : gRow 124 = w124 := rfl
theorem gn124 : gN gG 124 = yX1_truncateText := congrArg (fun r : mRow => r.2.2.2.1) grw124
theorem gb124 : gB gG 124 = cX1_truncateText := congrArg (fun r : mRow => r.2.2.2.2.1) grw124
theorem gr124 : gR gG 124 = (Option.some Jvm.ClassFile.FieldType.int : Option FieldType) := congrArg (fun r : mRow => r.2.2.2.2.2.1) grw124
theorem lv124 : gL gG 124 = 2 := congrArg (fun r : mRow => r.2.2.2.2.2.2.1) grw124
theorem gh124 : gH gG 124 = [] := congrArg (fun r : mRow => r.2.2.2.2.2.2.2) grw124
theorem gm124 : mmax gP 124 = 2 := congrArg (fun r : mRow => r.2.1) grw124
theorem cw124 : mCw gP gG 124 ∈ lw_all := cw_of gh124 gn124 gb124 gm124 gr124 q2119
theorem tg124 : mTg gP gG 124 1 := tg_of gn124 gm124 cw124 (by decide) ⟨by decide +kernel, by decide +kernel⟩ (by decide +kernel)
theorem grw125 : gRow 125 = w125 := rfl
theorem gn125 : gN gG 125 = yX1_total := congrArg (fun r : mRow => r.2.2.2.1) grw125
theorem gb125 : gB gG 125 = cX1_total := congrArg (fun r : mRow => r.2.2.2.2.1) grw125
theorem gr125 : gR gG 125 = (Option.some Jvm.ClassFile.FieldType.int : Option FieldType) := congrArg (fun r : mRow => r.2.2.2.2.2.1) grw125
theorem lv125 : gL gG 125 = 10 := congrArg (fun r : mRow => r.2.2.2.2.2.2.1) grw125
theorem gh125 : gH gG 125 = [] := congrArg (fun r : mRow => r.2.2.2.2.2.2.2) grw125
theorem gm125 : mmax gP 125 = 2 := congrArg (fun r : mRow => r.2.1) grw125
theorem cw125 : mCw gP gG 125 ∈ lw_all := cw_of gh125 gn125 gb125 gm125 gr125 q2127
theorem tg125 : mTg gP gG 125 1 := tg_of gn125 gm125 cw125 (by decide) ⟨by decide +kernel, by decide +kernel⟩ (by decide +kernel)
theorem grw126 : gRow 126 = w126 := rfl
theorem gn126 : gN gG 126 = yX1_tally := congrArg (fun r : mRow => r.2.2.2.1) grw126
theorem gb126 : gB gG 126 = cX1_tally := congrArg (fun r : mRow => r.2.2.2.2.1) grw126
theorem gr126 : gR gG 126 = (Option.some Jvm.ClassFile.FieldType.int : Option FieldType) := congrArg (fun r : mRow => r.2.2.2.2.2.1) grw126
theorem lv126 : gL gG 126 = 2 := congrArg (fun r : mRow => r.2.2.2.2.2.2.1) grw126
theorem gh126 : gH gG 126 = [] := congrArg (fun r : mRow => r.2.2.2.2.2.2.2) grw126
theorem gm126 : mmax gP 126 = 2 := congrArg (fun r : mRow => r.2.1) grw126
theorem cw126 : mCw gP gG 126 ∈ lw_all := cw_of gh126 gn126 gb126 gm126 gr126 q2138
theorem tg126 : mTg gP gG 126 1 := tg_of gn126 gm126 cw126 (by decide) ⟨by decide +kernel, by decide +kernel⟩ (by decide +kernel)
theorem grw127 : gRow 127 = w127 := rfl
theorem gn127 : gN gG 127 = yX1_cell := congrArg (fun r : mRow => r.2.2.2.1) grw127
theorem gb127 : gB gG 127 = cX1_cell := congrArg (fun r : mRow => r.2.2.2.2.1) grw127
theorem gr127 : gR gG 127 = (Option.some Jvm.ClassFile.FieldType.int : Option FieldType) := congrArg (fun r : mRow => r.2.2.2.2.2.1) grw127
theorem lv127 : gL gG 127 = 8 := congrArg (fun r : mRow => r.2.2.2.2.2.2.1) grw127
theorem gh127 : gH gG 127 = [] := congrArg (fun r : mRow => r.2.2.2.2.2.2.2) grw127
theorem gm127 : mmax gP 127 = 3 := congrArg (fun r : mRow => r.2.1) grw127
theorem cw127 : mCw gP gG 127 ∈ lw_all := cw_of gh127 gn127 gb127 gm127 gr127 q2146
theorem tg127 : mTg gP gG 127 2 := tg_of gn127 gm127 cw127 (by decide) ⟨by decide +kernel, by decide +kernel⟩ (by decide +kernel)
theorem grw128 : gRow 128 = w128 := rfl
theorem gn128 : gN gG 128 = yX1_lettersFor := congrArg (fun r : mRow => r.2.2.2.1) grw128
theorem gb128 : gB gG 128 = cX1_lettersFor := congrArg (fun r : mRow => r.2.2.2.2.1) grw128
theorem gr128 : gR gG 128 = (Option.some Jvm.ClassFile.FieldType.int : Option FieldType) := congrArg (fun r : mRow => r.2.2.2.2.2.1) grw128
theorem lv128 : gL gG 128 = 4 := congrArg (fun r : mRow => r.2.2.2.2.2.2.1) grw128
theorem gh128 : gH gG 128 = [] := congrArg (fun r : mRow => r.2.2.2.2.2.2.2) grw128
theorem gm128 : mmax gP 128 = 4 := congrArg (fun r : mRow => r.2.1) grw128
theorem cw128 : mCw gP gG 128 ∈ lw_all := cw_of gh128 gn128 gb128 gm128 gr128 q2155
theorem tg128 : mTg gP gG 128 1 := tg_of gn128 gm128 cw128 (by decide) ⟨by decide +kernel, by decide +kernel⟩ (by decide +kernel)
theorem grw129 : gRow 129 = w129 := rfl
theorem gn129 : gN gG 129 = yX1_bank := congrArg (fun r : mRow => r.2.2.2.1) grw129
theorem gb129 : gB gG 129 = cX1_bank := congrArg (fun r : mRow => r.2.2.2.2.1) grw129
theorem gr129 : gR gG 129 = (Option.some Jvm.ClassFile.FieldType.int : Option FieldType) := congrArg (fun r : mRow => r.2.2.2.2.2.1) grw129
theorem lv129 : gL gG 129 = 4 := congrArg (fun r : mRow => r.2.2.2.2.2.2.1) grw129
theorem gh129 : gH gG 129 = [] := congrArg (fun r : mRow => r.2.2.2.2.2.2.2) grw129
theorem gm129 : mmax gP 129 = 4 := congrArg (fun r : mRow => r.2.1) grw129
theorem cw129 : mCw gP gG 129 ∈ lw_all := cw_of gh129 gn129 gb129 gm129 gr129 q2162
theorem tg129 : mTg gP gG 129 2 := tg_of gn129 gm129 cw129 (by decide) ⟨by decide +kernel, by decide +kernel⟩ (by decide +kernel)
theorem grw130 : gRow 130 = w130 := rfl
theorem gn130 : gN gG 130 = yX1_watcher := congrArg (fun r : mRow => r.2.2.2.1) grw130
theorem gb130 : gB gG 130 = cX1_watcher := congrArg (fun r : mRow => r.2.2.2.2.1) grw130
theorem gr130 : gR gG 130 = (Option.some Jvm.ClassFile.FieldType.int : Option FieldType) := congrArg (fun r : mRow => r.2.2.2.2.2.1) grw130
theorem lv130 : gL gG 130 = 9 := congrArg (fun r : mRow => r.2.2.2.2.2.2.1) grw130
theorem gh130 : gH gG 130 = [] := congrArg (fun r : mRow => r.2.2.2.2.2.2.2) grw130
theorem gm130 : mmax gP 130 = 4 := congrArg (fun r : mRow => r.2.1) grw130
theorem cw130 : mCw gP gG 130 ∈ lw_all := cw_of gh130 gn130 gb130 gm130 gr130 q2170
theorem tg130 : mTg gP gG 130 2 := tg_of gn130 gm130 cw130 (by decide) ⟨by decide +kernel, by decide +kernel⟩ (by decide +kernel)
theorem grw131 : gRow 131 = w131 := rfl
theorem gn131 : gN gG 131 = yX1_aWatcher := congrArg (fun r : mRow => r.2.2.2.1) grw131
theorem gb131 : gB gG 131 = cX1_aWatcher := congrArg (fun r : mRow => r.2.2.2.2.1) grw131
theorem gr131 : gR gG 131 = (Option.some (Jvm.ClassFile.FieldType.object "MistCouriers$Watcher") : Option FieldType) := congrArg (fun r : mRow => r.2.2.2.2.2.1) grw131
theorem lv131 : gL gG 131 = 4 := congrArg (fun r : mRow => r.2.2.2.2.2.2.1) grw131
theorem gh131 : gH gG 131 = [] := congrArg (fun r : mRow => r.2.2.2.2.2.2.2) grw131
theorem gm131 : mmax gP 131 = 2 := congrArg (fun r : mRow => r.2.1) grw131
theorem cw131 : mCw gP gG 131 ∈ lw_all := cw_of gh131 gn131 gb131 gm131 gr131 q2174
theorem tg131 : mTg gP gG 131 1 := tg_of gn131 gm131 cw131 (by decide) ⟨by decide +kernel, by decide +kernel⟩ (by decide +kernel)
theorem grw132 : gRow 132 = w132 := rfl
theorem gn132 : gN gG 132 = yX1_seenBy := congrArg (fun r : mRow => r.2.2.2.1) grw132
theorem gb132 : gB gG 132 = cX1_seenBy := congrArg (fun r : mRow => r.2.2.2.2.1) grw132
theorem gr132 : gR gG 132 = (Option.some Jvm.ClassFile.FieldType.int : Option FieldType) := congrArg (fun r : mRow => r.2.2.2.2.2.1) grw132
theorem lv132 : gL gG 132 = 7 := congrArg (fun r : mRow => r.2.2.2.2.2.2.1) grw132
theorem gh132 : gH gG 132 = [] := congrArg (fun r : mRow => r.2.2.2.2.2.2.2) grw132
theorem gm132 : mmax gP 132 = 4 := congrArg (fun r : mRow => r.2.1) grw132
theorem cw132 : mCw gP gG 132 ∈ lw_all := cw_of gh132 gn132 gb132 gm132 gr132 q2179
theorem tg132 : mTg gP gG 132 1 := tg_of gn132 gm132 cw132 (by decide) ⟨by decide +kernel, by decide +kernel⟩ (by decide +kernel)
theorem grw133 : gRow 133 = w133 := rfl
theorem gn133 : gN gG 133 = yX1_couriersBefore := congrArg (fun r : mRow => r.2.2.2.1) grw133
theorem gb133 : gB gG 133 = cX1_couriersBefore := congrArg (fun r : mRow => r.2.2.2.2.1) grw133
theorem gr133 : gR gG 133 = (Option.some Jvm.ClassFile.FieldType.int : Option FieldType) := congrArg (fun r : mRow => r.2.2.2.2.2.1) grw133
theorem lv133 : gL gG 133 = 7 := congrArg (fun r : mRow => r.2.2.2.2.2.2.1) grw133
theorem gh133 : gH gG 133 = [] := congrArg (fun r : mRow => r.2.2.2.2.2.2.2) grw133
theorem gm133 : mmax gP 133 = 4 := congrArg (fun r : mRow => r.2.1) grw133
theorem cw133 : mCw gP gG 133 ∈ lw_all := cw_of gh133 gn133 gb133 gm133 gr133 q2184
theorem tg133 : mTg gP gG 133 1 := tg_of gn133 gm133 cw133 (by decide) ⟨by decide +kernel, by decide +kernel⟩ (by decide +kernel)
theorem grw134 : gRow 134 = w134 := rfl
theorem gn134 : gN gG 134 = yX1_farthest := congrArg (fun r : mRow => r.2.2.2.1) grw134
theorem gb134 : gB gG 134 = cX1_farthest := congrArg (fun r : mRow => r.2.2.2.2.1) grw134
theorem gr134 : gR gG 134 = (Option.some Jvm.ClassFile.FieldType.int : Option FieldType) := congrArg (fun r : mRow => r.2.2.2.2.2.1) grw134
theorem lv134 : gL gG 134 = 8 := congrArg (fun r : mRow => r.2.2.2.2.2.2.1) grw134
theorem gh134 : gH gG 134 = [] := congrArg (fun r : mRow => r.2.2.2.2.2.2.2) grw134
theorem gm134 : mmax gP 134 = 2 := congrArg (fun r : mRow => r.2.1) grw134
theorem cw134 : mCw gP gG 134 ∈ lw_all := cw_of gh134 gn134 gb134 gm134 gr134 q2188
theorem tg134 : mTg gP gG 134 1 := tg_of gn134 gm134 cw134 (by decide) ⟨by decide +kernel, by decide +kernel⟩ (by decide +kernel)
theorem grw135 : gRow 135 = w135 := rfl
theorem gn135 : gN gG 135 = yX1_courier := congrArg (fun r : mRow => r.2.2.2.1) grw135
theorem gb135 : gB gG 135 = cX1_courier := congrArg (fun r : mRow => r.2.2.2.2.1) grw135
theorem gr135 : gR gG 135 = (Option.some Jvm.ClassFile.FieldType.int : Option FieldType) := congrArg (fun r : mRow => r.2.2.2.2.2.1) grw135
theorem lv135 : gL gG 135 = 9 := congrArg (fun r : mRow => r.2.2.2.2.2.2.1) grw135
theorem gh135 : gH gG 135 = [] := congrArg (fun r : mRow => r.2.2.2.2.2.2.2) grw135
theorem gm135 : mmax gP 135 = 4 := congrArg (fun r : mRow => r.2.1) grw135
theorem cw135 : mCw gP gG 135 ∈ lw_all := cw_of gh135 gn135 gb135 gm135 gr135 q2199
theorem tg135 : mTg gP gG 135 2 := tg_of gn135 gm135 cw135 (by decide) ⟨by decide +kernel, by decide +kernel⟩ (by decide +kernel)
theorem grw136 : gRow 136 = w136 := rfl
theorem gn136 : gN gG 136 = yX1_letter := congrArg (fun r : mRow => r.2.2.2.1) grw136
theorem gb136 : gB gG 136 = cX1_letter := congrArg (fun r : mRow => r.2.2.2.2.1) grw136
theorem gr136 : gR gG 136 = (Option.some Jvm.ClassFile.FieldType.int : Option FieldType) := congrArg (fun r : mRow => r.2.2.2.2.2.1) grw136
theorem lv136 : gL gG 136 = 5 := congrArg (fun r : mRow => r.2.2.2.2.2.2.1) grw136
theorem gh136 : gH gG 136 = [] := congrArg (fun r : mRow => r.2.2.2.2.2.2.2) grw136
theorem gm136 : mmax gP 136 = 4 := congrArg (fun r : mRow => r.2.1) grw136
theorem cw136 : mCw gP gG 136 ∈ lw_all := cw_of gh136 gn136 gb136 gm136 gr136 q2208
theorem tg136 : mTg gP gG 136 2 := tg_of gn136 gm136 cw136 (by decide) ⟨by decide +kernel, by decide +kernel⟩ (by decide +kernel)
theorem grw137 : gRow 137 = w137 := rfl
theorem gn137 : gN gG 137 = yX1_placeOf := congrArg (fun r : mRow => r.2.2.2.1) grw137
theorem gb137 : gB gG 137 = cX1_placeOf := congrArg (fun r : mRow => r.2.2.2.2.1) grw137
theorem gr137 : gR gG 137 = (Option.some Jvm.ClassFile.FieldType.int : Option FieldType) := congrArg (fun r : mRow => r.2.2.2.2.2.1) grw137
theorem lv137 : gL gG 137 = 4 := congrArg (fun r : mRow => r.2.2.2.2.2.2.1) grw137
theorem gh137 : gH gG 137 = [] := congrArg (fun r : mRow => r.2.2.2.2.2.2.2) grw137
theorem gm137 : mmax gP 137 = 2 := congrArg (fun r : mRow => r.2.1) grw137
theorem cw137 : mCw gP gG 137 ∈ lw_all := cw_of gh137 gn137 gb137 gm137 gr137 q2213
theorem tg137 : mTg gP gG 137 1 := tg_of gn137 gm137 cw137 (by decide) ⟨by decide +kernel, by decide +kernel⟩ (by decide +kernel)
theorem grw138 : gRow 138 = w138 := rfl
theorem gn138 : gN gG 138 = yX1_gaze := congrArg (fun r : mRow => r.2.2.2.1) grw138
theorem gb138 : gB gG 138 = cX1_gaze := congrArg (fun r : mRow => r.2.2.2.2.1) grw138
theorem gr138 : gR gG 138 = (Option.some Jvm.ClassFile.FieldType.int : Option FieldType) := congrArg (fun r : mRow => r.2.2.2.2.2.1) grw138
theorem lv138 : gL gG 138 = 6 := congrArg (fun r : mRow => r.2.2.2.2.2.2.1) grw138
theorem gh138 : gH gG 138 = [] := congrArg (fun r : mRow => r.2.2.2.2.2.2.2) grw138
theorem gm138 : mmax gP 138 = 4 := congrArg (fun r : mRow => r.2.1) grw138
theorem cw138 : mCw gP gG 138 ∈ lw_all := cw_of gh138 gn138 gb138 gm138 gr138 q2220
theorem tg138 : mTg gP gG 138 2 := tg_of gn138 gm138 cw138 (by decide) ⟨by decide +kernel, by decide +kernel⟩ (by decide +kernel)
theorem grw139 : gRow 139 = w139 := rfl
theorem gn139 : gN gG 139 = yX1_why := congrArg (fun r : mRow => r.2.2.2.1) grw139
theorem gb139 : gB gG 139 = cX1_why := congrArg (fun r : mRow => r.2.2.2.2.1) grw139
theorem gr139 : gR gG 139 = (Option.some Jvm.ClassFile.FieldType.int : Option FieldType) := congrArg (fun r : mRow => r.2.2.2.2.2.1) grw139
theorem lv139 : gL gG 139 = 8 := congrArg (fun r : mRow => r.2.2.2.2.2.2.1) grw139
theorem gh139 : gH gG 139 = [] := congrArg (fun r : mRow => r.2.2.2.2.2.2.2) grw139
theorem gm139 : mmax gP 139 = 4 := congrArg (fun r : mRow => r.2.1) grw139
theorem cw139 : mCw gP gG 139 ∈ lw_all := cw_of gh139 gn139 gb139 gm139 gr139 q2228
theorem tg139 : mTg gP gG 139 2 := tg_of gn139 gm139 cw139 (by decide) ⟨by decide +kernel, by decide +kernel⟩ (by decide +kernel)
theorem grw140 : gRow 140 = w140 := rfl
theorem gn140 : gN gG 140 = yX1_reasonOf := congrArg (fun r : mRow => r.2.2.2.1) grw140
theorem gb140 : gB gG 140 = cX1_reasonOf := congrArg (fun r : mRow => r.2.2.2.2.1) grw140
theorem gr140 : gR gG 140 = (Option.some Jvm.ClassFile.FieldType.int : Option FieldType) := congrArg (fun r : mRow => r.2.2.2.2.2.1) grw140
theorem lv140 : gL gG 140 = 7 := congrArg (fun r : mRow => r.2.2.2.2.2.2.1) grw140
theorem gh140 : gH gG 140 = [] := congrArg (fun r : mRow => r.2.2.2.2.2.2.2) grw140
theorem gm140 : mmax gP 140 = 2 := congrArg (fun r : mRow => r.2.1) grw140
theorem cw140 : mCw gP gG 140 ∈ lw_all := cw_of gh140 gn140 gb140 gm140 gr140 q2232
theorem tg140 : mTg gP gG 140 1 := tg_of gn140 gm140 cw140 (by decide) ⟨by decide +kernel, by decide +kernel⟩ (by decide +kernel)
theorem grw141 : gRow 141 = w141 := rfl
theorem gn141 : gN gG 141 = yX1_lowest := congrArg (fun r : mRow => r.2.2.2.1) grw141
theorem gb141 : gB gG 141 = cX1_lowest := congrArg (fun r : mRow => r.2.2.2.2.1) grw141
theorem gr141 : gR gG 141 = (Option.some Jvm.ClassFile.FieldType.int : Option FieldType) := congrArg (fun r : mRow => r.2.2.2.2.2.1) grw141
theorem lv141 : gL gG 141 = 6 := congrArg (fun r : mRow => r.2.2.2.2.2.2.1) grw141
theorem gh141 : gH gG 141 = [] := congrArg (fun r : mRow => r.2.2.2.2.2.2.2) grw141
theorem gm141 : mmax gP 141 = 5 := congrArg (fun r : mRow => r.2.1) grw141
theorem cw141 : mCw gP gG 141 ∈ lw_all := cw_of gh141 gn141 gb141 gm141 gr141 q2236
theorem tg141 : mTg gP gG 141 2 := tg_of gn141 gm141 cw141 (by decide) ⟨by decide +kernel, by decide +kernel⟩ (by decide +kernel)
theorem grw142 : gRow 142 = w142 := rfl
theorem gn142 : gN gG 142 = yX1_causeOf := congrArg (fun r : mRow => r.2.2.2.1) grw142
theorem gb142 : gB gG 142 = cX1_causeOf := congrArg (fun r : mRow => r.2.2.2.2.1) grw142
theorem gr142 : gR gG 142 = (Option.some Jvm.ClassFile.FieldType.int : Option FieldType) := congrArg (fun r : mRow => r.2.2.2.2.2.1) grw142
theorem lv142 : gL gG 142 = 7 := congrArg (fun r : mRow => r.2.2.2.2.2.2.1) grw142
theorem gh142 : gH gG 142 = [] := congrArg (fun r : mRow => r.2.2.2.2.2.2.2) grw142
theorem gm142 : mmax gP 142 = 3 := congrArg (fun r : mRow => r.2.1) grw142
theorem cw142 : mCw gP gG 142 ∈ lw_all := cw_of gh142 gn142 gb142 gm142 gr142 q2241
theorem tg142 : mTg gP gG 142 2 := tg_of gn142 gm142 cw142 (by decide) ⟨by decide +kernel, by decide +kernel⟩ (by decide +kernel)
theorem grw143 : gRow 143 = w143 := rfl
theorem gn143 : gN gG 143 = yX1_secondOf := congrArg (fun r : mRow => r.2.2.2.1) grw143
theorem gb143 : gB gG 143 = cX1_secondOf := congrArg (fun r : mRow => r.2.2.2.2.1) grw143
theorem gr143 : gR gG 143 = (Option.some Jvm.ClassFile.FieldType.int : Option FieldType) := congrArg (fun r : mRow => r.2.2.2.2.2.1) grw143
theorem lv143 : gL gG 143 = 7 := congrArg (fun r : mRow => r.2.2.2.2.2.2.1) grw143
theorem gh143 : gH gG 143 = [] := congrArg (fun r : mRow => r.2.2.2.2.2.2.2) grw143
theorem gm143 : mmax gP 143 = 4 := congrArg (fun r : mRow => r.2.1) grw143
theorem cw143 : mCw gP gG 143 ∈ lw_all := cw_of gh143 gn143 gb143 gm143 gr143 q2245
theorem tg143 : mTg gP gG 143 2 := tg_of gn143 gm143 cw143 (by decide) ⟨by decide +kernel, by decide +kernel⟩ (by decide +kernel)
theorem grw144 : gRow 144 = w144 := rfl
theorem gn144 : gN gG 144 = yX1_ifSeen := congrArg (fun r : mRow => r.2.2.2.1) grw144
theorem gb144 : gB gG 144 = cX1_ifSeen := congrArg (fun r : mRow => r.2.2.2.2.1) grw144
theorem gr144 : gR gG 144 = (Option.some Jvm.ClassFile.FieldType.boolean : Option FieldType) := congrArg (fun r : mRow => r.2.2.2.2.2.1) grw144
theorem lv144 : gL gG 144 = 9 := congrArg (fun r : mRow => r.2.2.2.2.2.2.1) grw144
theorem gh144 : gH gG 144 = [] := congrArg (fun r : mRow => r.2.2.2.2.2.2.2) grw144
theorem gm144 : mmax gP 144 = 5 := congrArg (fun r : mRow => r.2.1) grw144
theorem cw144 : mCw gP gG 144 ∈ lw_all := cw_of gh144 gn144 gb144 gm144 gr144 q2252
theorem tg144 : mTg gP gG 144 2 := tg_of gn144 gm144 cw144 (by decide) ⟨by decide +kernel, by decide +kernel⟩ (by decide +kernel)
theorem grw145 : gRow 145 = w145 := rfl
theorem gn145 : gN gG 145 = yX1_seenIn := congrArg (fun r : mRow => r.2.2.2.1) grw145
theorem gb145 : gB gG 145 = cX1_seenIn := congrArg (fun r : mRow => r.2.2.2.2.1) grw145
theorem gr145 : gR gG 145 = (Option.some Jvm.ClassFile.FieldType.int : Option FieldType) := congrArg (fun r : mRow => r.2.2.2.2.2.1) grw145
theorem lv145 : gL gG 145 = 9 := congrArg (fun r : mRow => r.2.2.2.2.2.2.1) grw145
theorem gh145 : gH gG 145 = [] := congrArg (fun r : mRow => r.2.2.2.2.2.2.2) grw145
theorem gm145 : mmax gP 145 = 4 := congrArg (fun r : mRow => r.2.1) grw145
theorem cw145 : mCw gP gG 145 ∈ lw_all := cw_of gh145 gn145 gb145 gm145 gr145 q2260
theorem tg145 : mTg gP gG 145 1 := tg_of gn145 gm145 cw145 (by decide) ⟨by decide +kernel, by decide +kernel⟩ (by decide +kernel)
theorem grw146 : gRow 146 = w146 := rfl
theorem gn146 : gN gG 146 = yX1_ifPassed := congrArg (fun r : mRow => r.2.2.2.1) grw146
theorem gb146 : gB gG 146 = cX1_ifPassed := congrArg (fun r : mRow => r.2.2.2.2.1) grw146
theorem gr146 : gR gG 146 = (Option.some Jvm.ClassFile.FieldType.int : Option FieldType) := congrArg (fun r : mRow => r.2.2.2.2.2.1) grw146
theorem lv146 : gL gG 146 = 11 := congrArg (fun r : mRow => r.2.2.2.2.2.2.1) grw146
theorem gh146 : gH gG 146 = [] := congrArg (fun r : mRow => r.2.2.2.2.2.2.2) grw146
theorem gm146 : mmax gP 146 = 5 := congrArg (fun r : mRow => r.2.1) grw146
theorem cw146 : mCw gP gG 146 ∈ lw_all := cw_of gh146 gn146 gb146 gm146 gr146 q2267
theorem tg146 : mTg gP gG 146 2 := tg_of gn146 gm146 cw146 (by decide) ⟨by decide +kernel, by decide +kernel⟩ (by decide +kernel)
theorem grw147 : gRow 147 = w147 := rfl
theorem gn147 : gN gG 147 = yX1_unseen := congrArg (fun r : mRow => r.2.2.2.1) grw147
theorem gb147 : gB gG 147 = cX1_unseen := congrArg (fun r : mRow => r.2.2.2.2.1) grw147
theorem gr147 : gR gG 147 = (Option.some Jvm.ClassFile.FieldType.int : Option FieldType) := congrArg (fun r : mRow => r.2.2.2.2.2.1) grw147
theorem lv147 : gL gG 147 = 11 := congrArg (fun r : mRow => r.2.2.2.2.2.2.1) grw147
theorem gh147 : gH gG 147 = [] := congrArg (fun r : mRow => r.2.2.2.2.2.2.2) grw147
theorem gm147 : mmax gP 147 = 4 := congrArg (fun r : mRow => r.2.1) grw147
theorem cw147 : mCw gP gG 147 ∈ lw_all := cw_of gh147 gn147 gb147 gm147 gr147 q2275
theorem tg147 : mTg gP gG 147 2 := tg_of gn147 gm147 cw147 (by decide) ⟨by decide +kernel, by decide +kernel⟩ (by decide +kernel)
theorem grw148 : gRow 148 = w148 := rfl
theorem gn148 : gN gG 148 = yX1_ticksTo := congrArg (fun r : mRow => r.2.2.2.1) grw148
theorem gb148 : gB gG 148 = cX1_ticksTo := congrArg (fun r : mRow => r.2.2.2.2.1) grw148
theorem gr148 : gR gG 148 = (Option.some Jvm.ClassFile.FieldType.int : Option FieldType) := congrArg (fun r : mRow => r.2.2.2.2.2.1) grw148
theorem lv148 : gL gG 148 = 10 := congrArg (fun r : mRow => r.2.2.2.2.2.2.1) grw148
theorem gh148 : gH gG 148 = [] := congrArg (fun r : mRow => r.2.2.2.2.2.2.2) grw148
theorem gm148 : mmax gP 148 = 5 := congrArg (fun r : mRow => r.2.1) grw148
theorem cw148 : mCw gP gG 148 ∈ lw_all := cw_of gh148 gn148 gb148 gm148 gr148 q2279
theorem tg148 : mTg gP gG 148 2 := tg_of gn148 gm148 cw148 (by decide) ⟨by decide +kernel, by decide +kernel⟩ (by decide +kernel)
theorem grw149 : gRow 149 = w149 := rfl
theorem gn149 : gN gG 149 = yX1_canBe := congrArg (fun r : mRow => r.2.2.2.1) grw149
theorem gb149 : gB gG 149 = cX1_canBe := congrArg (fun r : mRow => r.2.2.2.2.1) grw149
theorem gr149 : gR gG 149 = (Option.some Jvm.ClassFile.FieldType.int : Option FieldType) := congrArg (fun r : mRow => r.2.2.2.2.2.1) grw149
theorem lv149 : gL gG 149 = 10 := congrArg (fun r : mRow => r.2.2.2.2.2.2.1) grw149
theorem gh149 : gH gG 149 = [] := congrArg (fun r : mRow => r.2.2.2.2.2.2.2) grw149
theorem gm149 : mmax gP 149 = 6 := congrArg (fun r : mRow => r.2.1) grw149
theorem cw149 : mCw gP gG 149 ∈ lw_all := cw_of gh149 gn149 gb149 gm149 gr149 q2308
theorem tg149 : mTg gP gG 149 2 := tg_of gn149 gm149 cw149 (by decide) ⟨by decide +kernel, by decide +kernel⟩ (by decide +kernel)
theorem grw150 : gRow 150 = w150 := rfl
theorem gn150 : gN gG 150 = yX1_ifStepped := congrArg (fun r : mRow => r.2.2.2.1) grw150
theorem gb150 : gB gG 150 = cX1_ifStepped := congrArg (fun r : mRow => r.2.2.2.2.1) grw150
theorem gr150 : gR gG 150 = (Option.some Jvm.ClassFile.FieldType.int : Option FieldType) := congrArg (fun r : mRow => r.2.2.2.2.2.1) grw150
theorem lv150 : gL gG 150 = 10 := congrArg (fun r : mRow => r.2.2.2.2.2.2.1) grw150
theorem gh150 : gH gG 150 = [] := congrArg (fun r : mRow => r.2.2.2.2.2.2.2) grw150
theorem gm150 : mmax gP 150 = 6 := congrArg (fun r : mRow => r.2.1) grw150
theorem cw150 : mCw gP gG 150 ∈ lw_all := cw_of gh150 gn150 gb150 gm150 gr150 q2320
theorem tg150 : mTg gP gG 150 2 := tg_of gn150 gm150 cw150 (by decide) ⟨by decide +kernel, by decide +kernel⟩ (by decide +kernel)
theorem grw151 : gRow 151 = w151 := rfl
theorem gn151 : gN gG 151 = yX1_nearest := congrArg (fun r : mRow => r.2.2.2.1) grw151
theorem gb151 : gB gG 151 = cX1_nearest := congrArg (fun r : mRow => r.2.2.2.2.1) grw151
theorem gr151 : gR gG 151 = (Option.some Jvm.ClassFile.FieldType.int : Option FieldType) := congrArg (fun r : mRow => r.2.2.2.2.2.1) grw151
theorem lv151 : gL gG 151 = 11 := congrArg (fun r : mRow => r.2.2.2.2.2.2.1) grw151
theorem gh151 : gH gG 151 = [] := congrArg (fun r : mRow => r.2.2.2.2.2.2.2) grw151
theorem gm151 : mmax gP 151 = 7 := congrArg (fun r : mRow => r.2.1) grw151
theorem cw151 : mCw gP gG 151 ∈ lw_all := cw_of gh151 gn151 gb151 gm151 gr151 q2328
theorem tg151 : mTg gP gG 151 1 := tg_of gn151 gm151 cw151 (by decide) ⟨by decide +kernel, by decide +kernel⟩ (by decide +kernel)
theorem grw152 : gRow 152 = w152 := rfl
theorem gn152 : gN gG 152 = yX1_refusals := congrArg (fun r : mRow => r.2.2.2.1) grw152
theorem gb152 : gB gG 152 = cX1_refusals := congrArg (fun r : mRow => r.2.2.2.2.1) grw152
theorem gr152 : gR gG 152 = (Option.some Jvm.ClassFile.FieldType.int : Option FieldType) := congrArg (fun r : mRow => r.2.2.2.2.2.1) grw152
theorem lv152 : gL gG 152 = 2 := congrArg (fun r : mRow => r.2.2.2.2.2.2.1) grw152
theorem gh152 : gH gG 152 = [] := congrArg (fun r : mRow => r.2.2.2.2.2.2.2) grw152
theorem gm152 : mmax gP 152 = 2 := congrArg (fun r : mRow => r.2.1) grw152
theorem cw152 : mCw gP gG 152 ∈ lw_all := cw_of gh152 gn152 gb152 gm152 gr152 q2335
theorem tg152 : mTg gP gG 152 1 := tg_of gn152 gm152 cw152 (by decide) ⟨by decide +kernel, by decide +kernel⟩ (by decide +kernel)
theorem grw153 : gRow 153 = w153 := rfl
theorem gn153 : gN gG 153 = yX1_step := congrArg (fun r : mRow => r.2.2.2.1) grw153
theorem gb153 : gB gG 153 = cX1_step := congrArg (fun r : mRow => r.2.2.2.2.1) grw153
theorem gr153 : gR gG 153 = (Option.some Jvm.ClassFile.FieldType.int : Option FieldType) := congrArg (fun r : mRow => r.2.2.2.2.2.1) grw153
theorem lv153 : gL gG 153 = 15 := congrArg (fun r : mRow => r.2.2.2.2.2.2.1) grw153
theorem gh153 : gH gG 153 = [] := congrArg (fun r : mRow => r.2.2.2.2.2.2.2) grw153
theorem gm153 : mmax gP 153 = 3 := congrArg (fun r : mRow => r.2.1) grw153
theorem cw153 : mCw gP gG 153 ∈ lw_all := cw_of gh153 gn153 gb153 gm153 gr153 q2342
theorem tg153 : mTg gP gG 153 2 := tg_of gn153 gm153 cw153 (by decide) ⟨by decide +kernel, by decide +kernel⟩ (by decide +kernel)
theorem grw154 : gRow 154 = w154 := rfl
theorem gn154 : gN gG 154 = yX1_does := congrArg (fun r : mRow => r.2.2.2.1) grw154
theorem gb154 : gB gG 154 = cX1_does := congrArg (fun r : mRow => r.2.2.2.2.1) grw154
theorem gr154 : gR gG 154 = (Option.some Jvm.ClassFile.FieldType.int : Option FieldType) := congrArg (fun r : mRow => r.2.2.2.2.2.1) grw154
theorem lv154 : gL gG 154 = 14 := congrArg (fun r : mRow => r.2.2.2.2.2.2.1) grw154
theorem gh154 : gH gG 154 = [] := congrArg (fun r : mRow => r.2.2.2.2.2.2.2) grw154
theorem gm154 : mmax gP 154 = 3 := congrArg (fun r : mRow => r.2.1) grw154
theorem cw154 : mCw gP gG 154 ∈ lw_all := cw_of gh154 gn154 gb154 gm154 gr154 q2347
theorem tg154 : mTg gP gG 154 2 := tg_of gn154 gm154 cw154 (by decide) ⟨by decide +kernel, by decide +kernel⟩ (by decide +kernel)
theorem grw155 : gRow 155 = w155 := rfl
theorem gn155 : gN gG 155 = yX1_pick := congrArg (fun r : mRow => r.2.2.2.1) grw155
theorem gb155 : gB gG 155 = cX1_pick := congrArg (fun r : mRow => r.2.2.2.2.1) grw155
theorem gr155 : gR gG 155 = (Option.some Jvm.ClassFile.FieldType.int : Option FieldType) := congrArg (fun r : mRow => r.2.2.2.2.2.1) grw155
theorem lv155 : gL gG 155 = 15 := congrArg (fun r : mRow => r.2.2.2.2.2.2.1) grw155
theorem gh155 : gH gG 155 = [] := congrArg (fun r : mRow => r.2.2.2.2.2.2.2) grw155
theorem gm155 : mmax gP 155 = 3 := congrArg (fun r : mRow => r.2.1) grw155
theorem cw155 : mCw gP gG 155 ∈ lw_all := cw_of gh155 gn155 gb155 gm155 gr155 q2355
theorem tg155 : mTg gP gG 155 2 := tg_of gn155 gm155 cw155 (by decide) ⟨by decide +kernel, by decide +kernel⟩ (by decide +kernel)
theorem grw156 : gRow 156 = w156 := rfl
theorem gn156 : gN gG 156 = yX1_give := congrArg (fun r : mRow => r.2.2.2.1) grw156
theorem gb156 : gB gG 156 = cX1_give := congrArg (fun r : mRow => r.2.2.2.2.1) grw156
theorem gr156 : gR gG 156 = (Option.some Jvm.ClassFile.FieldType.int : Option FieldType) := congrArg (fun r : mRow => r.2.2.2.2.2.1) grw156
theorem lv156 : gL gG 156 = 15 := congrArg (fun r : mRow => r.2.2.2.2.2.2.1) grw156
theorem gh156 : gH gG 156 = [] := congrArg (fun r : mRow => r.2.2.2.2.2.2.2) grw156
theorem gm156 : mmax gP 156 = 4 := congrArg (fun r : mRow => r.2.1) grw156
theorem cw156 : mCw gP gG 156 ∈ lw_all := cw_of gh156 gn156 gb156 gm156 gr156 q2363
theorem tg156 : mTg gP gG 156 3 := tg_of gn156 gm156 cw156 (by decide) ⟨by decide +kernel, by decide +kernel⟩ (by decide +kernel)
theorem grw157 : gRow 157 = w157 := rfl
theorem gn157 : gN gG 157 = yX1_lay := congrArg (fun r : mRow => r.2.2.2.1) grw157
theorem gb157 : gB gG 157 = cX1_lay := congrArg (fun r : mRow => r.2.2.2.2.1) grw157
theorem gr157 : gR gG 157 = (Option.some Jvm.ClassFile.FieldType.int : Option FieldType) := congrArg (fun r : mRow => r.2.2.2.2.2.1) grw157
theorem lv157 : gL gG 157 = 15 := congrArg (fun r : mRow => r.2.2.2.2.2.2.1) grw157
theorem gh157 : gH gG 157 = [] := congrArg (fun r : mRow => r.2.2.2.2.2.2.2) grw157
theorem gm157 : mmax gP 157 = 3 := congrArg (fun r : mRow => r.2.1) grw157
theorem cw157 : mCw gP gG 157 ∈ lw_all := cw_of gh157 gn157 gb157 gm157 gr157 q2371
theorem tg157 : mTg gP gG 157 2 := tg_of gn157 gm157 cw157 (by decide) ⟨by decide +kernel, by decide +kernel⟩ (by decide +kernel)
theorem grw158 : gRow 158 = w158 := rfl
theorem gn158 : gN gG 158 = yX1_pass := congrArg (fun r : mRow => r.2.2.2.1) grw158
theorem gb158 : gB gG 158 = cX1_pass := congrArg (fun r : mRow => r.2.2.2.2.1) grw158
theorem gr158 : gR gG 158 = (Option.some Jvm.ClassFile.FieldType.int : Option FieldType) := congrArg (fun r : mRow => r.2.2.2.2.2.1) grw158
theorem lv158 : gL gG 158 = 15 := congrArg (fun r : mRow => r.2.2.2.2.2.2.1) grw158
theorem gh158 : gH gG 158 = [] := congrArg (fun r : mRow => r.2.2.2.2.2.2.2) grw158
theorem gm158 : mmax gP 158 = 2 := congrArg (fun r : mRow => r.2.1) grw158
theorem cw158 : mCw gP gG 158 ∈ lw_all := cw_of gh158 gn158 gb158 gm158 gr158 q2379
theorem tg158 : mTg gP gG 158 1 := tg_of gn158 gm158 cw158 (by decide) ⟨by decide +kernel, by decide +kernel⟩ (by decide +kernel)
theorem grw159 : gRow 159 = w159 := rfl
theorem gn159 : gN gG 159 = yX1_write := congrArg (fun r : mRow => r.2.2.2.1) grw159
theorem gb159 : gB gG 159 = cX1_write := congrArg (fun r : mRow => r.2.2.2.2.1) grw159
theorem gr159 : gR gG 159 = (Option.some Jvm.ClassFile.FieldType.int : Option FieldType) := congrArg (fun r : mRow => r.2.2.2.2.2.1) grw159
theorem lv159 : gL gG 159 = 10 := congrArg (fun r : mRow => r.2.2.2.2.2.2.1) grw159
theorem gh159 : gH gG 159 = [] := congrArg (fun r : mRow => r.2.2.2.2.2.2.2) grw159
theorem gm159 : mmax gP 159 = 3 := congrArg (fun r : mRow => r.2.1) grw159
theorem cw159 : mCw gP gG 159 ∈ lw_all := cw_of gh159 gn159 gb159 gm159 gr159 q2387
theorem tg159 : mTg gP gG 159 1 := tg_of gn159 gm159 cw159 (by decide) ⟨by decide +kernel, by decide +kernel⟩ (by decide +kernel)
theorem grw160 : gRow 160 = w160 := rfl
theorem gn160 : gN gG 160 = yX1_sign := congrArg (fun r : mRow => r.2.2.2.1) grw160
theorem gb160 : gB gG 160 = cX1_sign := congrArg (fun r : mRow => r.2.2.2.2.1) grw160
theorem gr160 : gR gG 160 = (Option.some Jvm.ClassFile.FieldType.char : Option FieldType) := congrArg (fun r : mRow => r.2.2.2.2.2.1) grw160
theorem lv160 : gL gG 160 = 9 := congrArg (fun r : mRow => r.2.2.2.2.2.2.1) grw160
theorem gh160 : gH gG 160 = [] := congrArg (fun r : mRow => r.2.2.2.2.2.2.2) grw160
theorem gm160 : mmax gP 160 = 4 := congrArg (fun r : mRow => r.2.1) grw160
theorem cw160 : mCw gP gG 160 ∈ lw_all := cw_of gh160 gn160 gb160 gm160 gr160 q2443
theorem tg160 : mTg gP gG 160 1 := tg_of gn160 gm160 cw160 (by decide) ⟨by decide +kernel, by decide +kernel⟩ (by decide +kernel)
theorem grw161 : gRow 161 = w161 := rfl
theorem gn161 : gN gG 161 = yX1_courierOn := congrArg (fun r : mRow => r.2.2.2.1) grw161
theorem gb161 : gB gG 161 = cX1_courierOn := congrArg (fun r : mRow => r.2.2.2.2.1) grw161
theorem gr161 : gR gG 161 = (Option.some Jvm.ClassFile.FieldType.int : Option FieldType) := congrArg (fun r : mRow => r.2.2.2.2.2.1) grw161
theorem lv161 : gL gG 161 = 4 := congrArg (fun r : mRow => r.2.2.2.2.2.2.1) grw161
theorem gh161 : gH gG 161 = [] := congrArg (fun r : mRow => r.2.2.2.2.2.2.2) grw161
theorem gm161 : mmax gP 161 = 3 := congrArg (fun r : mRow => r.2.1) grw161
theorem cw161 : mCw gP gG 161 ∈ lw_all := cw_of gh161 gn161 gb161 gm161 gr161 q2447
theorem tg161 : mTg gP gG 161 1 := tg_of gn161 gm161 cw161 (by decide) ⟨by decide +kernel, by decide +kernel⟩ (by decide +kernel)
theorem grw162 : gRow 162 = w162 := rfl
theorem gn162 : gN gG 162 = yX1_save := congrArg (fun r : mRow => r.2.2.2.1) grw162
theorem gb162 : gB gG 162 = cX1_save := congrArg (fun r : mRow => r.2.2.2.2.1) grw162
theorem gr162 : gR gG 162 = (none : Option FieldType) := congrArg (fun r : mRow => r.2.2.2.2.2.1) grw162
theorem lv162 : gL gG 162 = 2 := congrArg (fun r : mRow => r.2.2.2.2.2.2.1) grw162
theorem gh162 : gH gG 162 = [] := congrArg (fun r : mRow => r.2.2.2.2.2.2.2) grw162
theorem gm162 : mmax gP 162 = 2 := congrArg (fun r : mRow => r.2.1) grw162
theorem cw162 : mCw gP gG 162 ∈ lw_all := cw_of gh162 gn162 gb162 gm162 gr162 q2463
theorem tg162 : mTg gP gG 162 1 := tg_of gn162 gm162 cw162 (by decide) ⟨by decide +kernel, by decide +kernel⟩ (by decide +kernel)
theorem grw163 : gRow 163 = w163 := rfl
theorem gn163 : gN gG 163 = yX1_restore := congrArg (fun r : mRow => r.2.2.2.1) grw163
theorem gb163 : gB gG 163 = cX1_restore := congrArg (fun r : mRow => r.2.2.2.2.1) grw163
theorem gr163 : gR gG 163 = (none : Option FieldType) := congrArg (fun r : mRow => r.2.2.2.2.2.1) grw163
theorem lv163 : gL gG 163 = 3 := congrArg (fun r : mRow => r.2.2.2.2.2.2.1) grw163
theorem gh163 : gH gG 163 = [] := congrArg (fun r : mRow => r.2.2.2.2.2.2.2) grw163
theorem gm163 : mmax gP 163 = 2 := congrArg (fun r : mRow => r.2.1) grw163
theorem cw163 : mCw gP gG 163 ∈ lw_all := cw_of gh163 gn163 gb163 gm163 gr163 q2470
theorem tg163 : mTg gP gG 163 1 := tg_of gn163 gm163 cw163 (by decide) ⟨by decide +kernel, by decide +kernel⟩ (by decide +kernel)
theorem grw164 : gRow 164 = w164 := rfl
theorem gn164 : gN gG 164 = yX10_init := congrArg (fun r : mRow => r.2.2.2.1) grw164
theorem gb164 : gB gG 164 = cX10_init := congrArg (fun r : mRow => r.2.2.2.2.1) grw164
theorem gr164 : gR gG 164 = (none : Option FieldType) := congrArg (fun r : mRow => r.2.2.2.2.2.1) grw164
theorem lv164 : gL gG 164 = 1 := congrArg (fun r : mRow => r.2.2.2.2.2.2.1) grw164
theorem gh164 : gH gG 164 = [] := congrArg (fun r : mRow => r.2.2.2.2.2.2.2) grw164
theorem gm164 : mmax gP 164 = 2 := congrArg (fun r : mRow => r.2.1) grw164
theorem cw164 : mCw gP gG 164 ∈ lw_all := cw_of gh164 gn164 gb164 gm164 gr164 q1570
theorem tg164 : mTg gP gG 164 1 := tg_of gn164 gm164 cw164 (by decide) ⟨by decide +kernel, by decide +kernel⟩ (by decide +kernel)
theorem grw165 : gRow 165 = w165 := rfl
theorem gn165 : gN gG 165 = yX10_setup := congrArg (fun r : mRow => r.2.2.2.1) grw165
theorem gb165 : gB gG 165 = cX10_setup := congrArg (fun r : mRow => r.2.2.2.2.1) grw165
theorem gr165 : gR gG 165 = (Option.some (Jvm.ClassFile.FieldType.object "MistCouriers$State") : Option FieldType) := congrArg (fun r : mRow => r.2.2.2.2.2.1) grw165
theorem lv165 : gL gG 165 = 12 := congrArg (fun r : mRow => r.2.2.2.2.2.2.1) grw165
theorem gh165 : gH gG 165 = [] := congrArg (fun r : mRow => r.2.2.2.2.2.2.2) grw165
theorem gm165 : mmax gP 165 = 4 := congrArg (fun r : mRow => r.2.1) grw165
theorem cw165 : mCw gP gG 165 ∈ lw_all := cw_of gh165 gn165 gb165 gm165 gr165 q1598
theorem tg165 : mTg gP gG 165 0 := tg_of gn165 gm165 cw165 (by decide) ⟨by decide +kernel, by decide +kernel⟩ (by decide +kernel)
theorem grw166 : gRow 166 = w166 := rfl
theorem gn166 : gN gG 166 = yX10_goOn := congrArg (fun r : mRow => r.2.2.2.1) grw166
theorem gb166 : gB gG 166 = cX10_goOn := congrArg (fun r : mRow => r.2.2.2.2.1) grw166
theorem gr166 : gR gG 166 = (none : Option FieldType) := congrArg (fun r : mRow => r.2.2.2.2.2.1) grw166
theorem lv166 : gL gG 166 = 7 := congrArg (fun r : mRow => r.2.2.2.2.2.2.1) grw166
theorem gh166 : gH gG 166 = [] := congrArg (fun r : mRow => r.2.2.2.2.2.2.2) grw166
theorem gm166 : mmax gP 166 = 2 := congrArg (fun r : mRow => r.2.1) grw166
theorem cw166 : mCw gP gG 166 ∈ lw_all := cw_of gh166 gn166 gb166 gm166 gr166 q1602
theorem tg166 : mTg gP gG 166 0 := tg_of gn166 gm166 cw166 (by decide) ⟨by decide +kernel, by decide +kernel⟩ (by decide +kernel)
theorem grw167 : gRow 167 = w167 := rfl
theorem gn167 : gN gG 167 = yX10_byteAt := congrArg (fun r : mRow => r.2.2.2.1) grw167
theorem gb167 : gB gG 167 = cX10_byteAt := congrArg (fun r : mRow => r.2.2.2.2.1) grw167
theorem gr167 : gR gG 167 = (Option.some Jvm.ClassFile.FieldType.int : Option FieldType) := congrArg (fun r : mRow => r.2.2.2.2.2.1) grw167
theorem lv167 : gL gG 167 = 1 := congrArg (fun r : mRow => r.2.2.2.2.2.2.1) grw167
theorem gh167 : gH gG 167 = [] := congrArg (fun r : mRow => r.2.2.2.2.2.2.2) grw167
theorem gm167 : mmax gP 167 = 2 := congrArg (fun r : mRow => r.2.1) grw167
theorem cw167 : mCw gP gG 167 ∈ lw_all := cw_of gh167 gn167 gb167 gm167 gr167 q1606
theorem tg167 : mTg gP gG 167 1 := tg_of gn167 gm167 cw167 (by decide) ⟨by decide +kernel, by decide +kernel⟩ (by decide +kernel)
theorem grw168 : gRow 168 = w168 := rfl
theorem gn168 : gN gG 168 = yX10_isSmall := congrArg (fun r : mRow => r.2.2.2.1) grw168
theorem gb168 : gB gG 168 = cX10_isSmall := congrArg (fun r : mRow => r.2.2.2.2.1) grw168
theorem gr168 : gR gG 168 = (Option.some Jvm.ClassFile.FieldType.boolean : Option FieldType) := congrArg (fun r : mRow => r.2.2.2.2.2.1) grw168
theorem lv168 : gL gG 168 = 2 := congrArg (fun r : mRow => r.2.2.2.2.2.2.1) grw168
theorem gh168 : gH gG 168 = [] := congrArg (fun r : mRow => r.2.2.2.2.2.2.2) grw168
theorem gm168 : mmax gP 168 = 1 := congrArg (fun r : mRow => r.2.1) grw168
theorem cw168 : mCw gP gG 168 ∈ lw_all := cw_of gh168 gn168 gb168 gm168 gr168 q1612
theorem tg168 : mTg gP gG 168 0 := tg_of gn168 gm168 cw168 (by decide) ⟨by decide +kernel, by decide +kernel⟩ (by decide +kernel)
theorem grw169 : gRow 169 = w169 := rfl
theorem gn169 : gN gG 169 = yX10_isDigit := congrArg (fun r : mRow => r.2.2.2.1) grw169
theorem gb169 : gB gG 169 = cX10_isDigit := congrArg (fun r : mRow => r.2.2.2.2.1) grw169
theorem gr169 : gR gG 169 = (Option.some Jvm.ClassFile.FieldType.boolean : Option FieldType) := congrArg (fun r : mRow => r.2.2.2.2.2.1) grw169
theorem lv169 : gL gG 169 = 2 := congrArg (fun r : mRow => r.2.2.2.2.2.2.1) grw169
theorem gh169 : gH gG 169 = [] := congrArg (fun r : mRow => r.2.2.2.2.2.2.2) grw169
theorem gm169 : mmax gP 169 = 1 := congrArg (fun r : mRow => r.2.1) grw169
theorem cw169 : mCw gP gG 169 ∈ lw_all := cw_of gh169 gn169 gb169 gm169 gr169 q1645
theorem tg169 : mTg gP gG 169 0 := tg_of gn169 gm169 cw169 (by decide) ⟨by decide +kernel, by decide +kernel⟩ (by decide +kernel)
theorem grw170 : gRow 170 = w170 := rfl
theorem gn170 : gN gG 170 = yX10_is := congrArg (fun r : mRow => r.2.2.2.1) grw170
theorem gb170 : gB gG 170 = cX10_is := congrArg (fun r : mRow => r.2.2.2.2.1) grw170
theorem gr170 : gR gG 170 = (Option.some Jvm.ClassFile.FieldType.boolean : Option FieldType) := congrArg (fun r : mRow => r.2.2.2.2.2.1) grw170
theorem lv170 : gL gG 170 = 3 := congrArg (fun r : mRow => r.2.2.2.2.2.2.1) grw170
theorem gh170 : gH gG 170 = [] := congrArg (fun r : mRow => r.2.2.2.2.2.2.2) grw170
theorem gm170 : mmax gP 170 = 2 := congrArg (fun r : mRow => r.2.1) grw170
theorem cw170 : mCw gP gG 170 ∈ lw_all := cw_of gh170 gn170 gb170 gm170 gr170 q1658
theorem tg170 : mTg gP gG 170 1 := tg_of gn170 gm170 cw170 (by decide) ⟨by decide +kernel, by decide +kernel⟩ (by decide +kernel)
theorem grw171 : gRow 171 = w171 := rfl
theorem gn171 : gN gG 171 = yX10_must := congrArg (fun r : mRow => r.2.2.2.1) grw171
theorem gb171 : gB gG 171 = cX10_must := congrArg (fun r : mRow => r.2.2.2.2.1) grw171
theorem gr171 : gR gG 171 = (none : Option FieldType) := congrArg (fun r : mRow => r.2.2.2.2.2.1) grw171
theorem lv171 : gL gG 171 = 4 := congrArg (fun r : mRow => r.2.2.2.2.2.2.1) grw171
theorem gh171 : gH gG 171 = [] := congrArg (fun r : mRow => r.2.2.2.2.2.2.2) grw171
theorem gm171 : mmax gP 171 = 3 := congrArg (fun r : mRow => r.2.1) grw171
theorem cw171 : mCw gP gG 171 ∈ lw_all := cw_of gh171 gn171 gb171 gm171 gr171 q1663
theorem tg171 : mTg gP gG 171 2 := tg_of gn171 gm171 cw171 (by decide) ⟨by decide +kernel, by decide +kernel⟩ (by decide +kernel)
theorem grw172 : gRow 172 = w172 := rfl
theorem gn172 : gN gG 172 = yX10_number := congrArg (fun r : mRow => r.2.2.2.1) grw172
theorem gb172 : gB gG 172 = cX10_number := congrArg (fun r : mRow => r.2.2.2.2.1) grw172
theorem gr172 : gR gG 172 = (Option.some Jvm.ClassFile.FieldType.int : Option FieldType) := congrArg (fun r : mRow => r.2.2.2.2.2.1) grw172
theorem lv172 : gL gG 172 = 8 := congrArg (fun r : mRow => r.2.2.2.2.2.2.1) grw172
theorem gh172 : gH gG 172 = [] := congrArg (fun r : mRow => r.2.2.2.2.2.2.2) grw172
theorem gm172 : mmax gP 172 = 4 := congrArg (fun r : mRow => r.2.1) grw172
theorem cw172 : mCw gP gG 172 ∈ lw_all := cw_of gh172 gn172 gb172 gm172 gr172 q1695
theorem tg172 : mTg gP gG 172 2 := tg_of gn172 gm172 cw172 (by decide) ⟨by decide +kernel, by decide +kernel⟩ (by decide +kernel)
theorem grw173 : gRow 173 = w173 := rfl
theorem gn173 : gN gG 173 = yX10_ends := congrArg (fun r : mRow => r.2.2.2.1) grw173
theorem gb173 : gB gG 173 = cX10_ends := congrArg (fun r : mRow => r.2.2.2.2.1) grw173
theorem gr173 : gR gG 173 = (none : Option FieldType) := congrArg (fun r : mRow => r.2.2.2.2.2.1) grw173
theorem lv173 : gL gG 173 = 8 := congrArg (fun r : mRow => r.2.2.2.2.2.2.1) grw173
theorem gh173 : gH gG 173 = [] := congrArg (fun r : mRow => r.2.2.2.2.2.2.2) grw173
theorem gm173 : mmax gP 173 = 1 := congrArg (fun r : mRow => r.2.1) grw173
theorem cw173 : mCw gP gG 173 ∈ lw_all := cw_of gh173 gn173 gb173 gm173 gr173 q1703
theorem tg173 : mTg gP gG 173 0 := tg_of gn173 gm173 cw173 (by decide) ⟨by decide +kernel, by decide +kernel⟩ (by decide +kernel)
theorem grw174 : gRow 174 = w174 := rfl
theorem gn174 : gN gG 174 = yX10_aThing := congrArg (fun r : mRow => r.2.2.2.1) grw174
theorem gb174 : gB gG 174 = cX10_aThing := congrArg (fun r : mRow => r.2.2.2.2.1) grw174
theorem gr174 : gR gG 174 = (none : Option FieldType) := congrArg (fun r : mRow => r.2.2.2.2.2.1) grw174
theorem lv174 : gL gG 174 = 11 := congrArg (fun r : mRow => r.2.2.2.2.2.2.1) grw174
theorem gh174 : gH gG 174 = [] := congrArg (fun r : mRow => r.2.2.2.2.2.2.2) grw174
theorem gm174 : mmax gP 174 = 5 := congrArg (fun r : mRow => r.2.1) grw174
theorem cw174 : mCw gP gG 174 ∈ lw_all := cw_of gh174 gn174 gb174 gm174 gr174 q1708
theorem tg174 : mTg gP gG 174 1 := tg_of gn174 gm174 cw174 (by decide) ⟨by decide +kernel, by decide +kernel⟩ (by decide +kernel)
theorem grw175 : gRow 175 = w175 := rfl
theorem gn175 : gN gG 175 = yX10_isRoom := congrArg (fun r : mRow => r.2.2.2.1) grw175
theorem gb175 : gB gG 175 = cX10_isRoom := congrArg (fun r : mRow => r.2.2.2.2.1) grw175
theorem gr175 : gR gG 175 = (Option.some Jvm.ClassFile.FieldType.boolean : Option FieldType) := congrArg (fun r : mRow => r.2.2.2.2.2.1) grw175
theorem lv175 : gL gG 175 = 5 := congrArg (fun r : mRow => r.2.2.2.2.2.2.1) grw175
theorem gh175 : gH gG 175 = [] := congrArg (fun r : mRow => r.2.2.2.2.2.2.2) grw175
theorem gm175 : mmax gP 175 = 4 := congrArg (fun r : mRow => r.2.1) grw175
theorem cw175 : mCw gP gG 175 ∈ lw_all := cw_of gh175 gn175 gb175 gm175 gr175 q1717
theorem tg175 : mTg gP gG 175 1 := tg_of gn175 gm175 cw175 (by decide) ⟨by decide +kernel, by decide +kernel⟩ (by decide +kernel)
theorem grw176 : gRow 176 = w176 := rfl
theorem gn176 : gN gG 176 = yX10_aWall := congrArg (fun r : mRow => r.2.2.2.1) grw176
theorem gb176 : gB gG 176 = cX10_aWall := congrArg (fun r : mRow => r.2.2.2.2.1) grw176
theorem gr176 : gR gG 176 = (none : Option FieldType) := congrArg (fun r : mRow => r.2.2.2.2.2.1) grw176
theorem lv176 : gL gG 176 = 8 := congrArg (fun r : mRow => r.2.2.2.2.2.2.1) grw176
theorem gh176 : gH gG 176 = [] := congrArg (fun r : mRow => r.2.2.2.2.2.2.2) grw176
theorem gm176 : mmax gP 176 = 2 := congrArg (fun r : mRow => r.2.1) grw176
theorem cw176 : mCw gP gG 176 ∈ lw_all := cw_of gh176 gn176 gb176 gm176 gr176 q1723
theorem tg176 : mTg gP gG 176 1 := tg_of gn176 gm176 cw176 (by decide) ⟨by decide +kernel, by decide +kernel⟩ (by decide +kernel)
theorem grw177 : gRow 177 = w177 := rfl
theorem gn177 : gN gG 177 = yX10_aBank := congrArg (fun r : mRow => r.2.2.2.1) grw177
theorem gb177 : gB gG 177 = cX10_aBank := congrArg (fun r : mRow => r.2.2.2.2.1) grw177
theorem gr177 : gR gG 177 = (none : Option FieldType) := congrArg (fun r : mRow => r.2.2.2.2.2.1) grw177
theorem lv177 : gL gG 177 = 10 := congrArg (fun r : mRow => r.2.2.2.2.2.2.1) grw177
theorem gh177 : gH gG 177 = [] := congrArg (fun r : mRow => r.2.2.2.2.2.2.2) grw177
theorem gm177 : mmax gP 177 = 5 := congrArg (fun r : mRow => r.2.1) grw177
theorem cw177 : mCw gP gG 177 ∈ lw_all := cw_of gh177 gn177 gb177 gm177 gr177 q1727
theorem tg177 : mTg gP gG 177 1 := tg_of gn177 gm177 cw177 (by decide) ⟨by decide +kernel, by decide +kernel⟩ (by decide +kernel)
theorem grw178 : gRow 178 = w178 := rfl
theorem gn178 : gN gG 178 = yX10_cell := congrArg (fun r : mRow => r.2.2.2.1) grw178
theorem gb178 : gB gG 178 = cX10_cell := congrArg (fun r : mRow => r.2.2.2.2.1) grw178
theorem gr178 : gR gG 178 = (Option.some Jvm.ClassFile.FieldType.int : Option FieldType) := congrArg (fun r : mRow => r.2.2.2.2.2.1) grw178
theorem lv178 : gL gG 178 = 9 := congrArg (fun r : mRow => r.2.2.2.2.2.2.1) grw178
theorem gh178 : gH gG 178 = [] := congrArg (fun r : mRow => r.2.2.2.2.2.2.2) grw178
theorem gm178 : mmax gP 178 = 2 := congrArg (fun r : mRow => r.2.1) grw178
theorem cw178 : mCw gP gG 178 ∈ lw_all := cw_of gh178 gn178 gb178 gm178 gr178 q1731
theorem tg178 : mTg gP gG 178 1 := tg_of gn178 gm178 cw178 (by decide) ⟨by decide +kernel, by decide +kernel⟩ (by decide +kernel)
theorem grw179 : gRow 179 = w179 := rfl
theorem gn179 : gN gG 179 = yX10_aWatcher := congrArg (fun r : mRow => r.2.2.2.1) grw179
theorem gb179 : gB gG 179 = cX10_aWatcher := congrArg (fun r : mRow => r.2.2.2.2.1) grw179
theorem gr179 : gR gG 179 = (none : Option FieldType) := congrArg (fun r : mRow => r.2.2.2.2.2.1) grw179
theorem lv179 : gL gG 179 = 9 := congrArg (fun r : mRow => r.2.2.2.2.2.2.1) grw179
theorem gh179 : gH gG 179 = [] := congrArg (fun r : mRow => r.2.2.2.2.2.2.2) grw179
theorem gm179 : mmax gP 179 = 5 := congrArg (fun r : mRow => r.2.1) grw179
theorem cw179 : mCw gP gG 179 ∈ lw_all := cw_of gh179 gn179 gb179 gm179 gr179 q1738
theorem tg179 : mTg gP gG 179 1 := tg_of gn179 gm179 cw179 (by decide) ⟨by decide +kernel, by decide +kernel⟩ (by decide +kernel)
theorem grw180 : gRow 180 = w180 := rfl
theorem gn180 : gN gG 180 = yX10_openCell := congrArg (fun r : mRow => r.2.2.2.1) grw180
theorem gb180 : gB gG 180 = cX10_openCell := congrArg (fun r : mRow => r.2.2.2.2.1) grw180
theorem gr180 : gR gG 180 = (Option.some Jvm.ClassFile.FieldType.int : Option FieldType) := congrArg (fun r : mRow => r.2.2.2.2.2.1) grw180
theorem lv180 : gL gG 180 = 8 := congrArg (fun r : mRow => r.2.2.2.2.2.2.1) grw180
theorem gh180 : gH gG 180 = [] := congrArg (fun r : mRow => r.2.2.2.2.2.2.2) grw180
theorem gm180 : mmax gP 180 = 4 := congrArg (fun r : mRow => r.2.1) grw180
theorem cw180 : mCw gP gG 180 ∈ lw_all := cw_of gh180 gn180 gb180 gm180 gr180 q1742
theorem tg180 : mTg gP gG 180 2 := tg_of gn180 gm180 cw180 (by decide) ⟨by decide +kernel, by decide +kernel⟩ (by decide +kernel)
theorem grw181 : gRow 181 = w181 := rfl
theorem gn181 : gN gG 181 = yX10_aLetter := congrArg (fun r : mRow => r.2.2.2.1) grw181
theorem gb181 : gB gG 181 = cX10_aLetter := congrArg (fun r : mRow => r.2.2.2.2.1) grw181
theorem gr181 : gR gG 181 = (none : Option FieldType) := congrArg (fun r : mRow => r.2.2.2.2.2.1) grw181
theorem lv181 : gL gG 181 = 9 := congrArg (fun r : mRow => r.2.2.2.2.2.2.1) grw181
theorem gh181 : gH gG 181 = [] := congrArg (fun r : mRow => r.2.2.2.2.2.2.2) grw181
theorem gm181 : mmax gP 181 = 3 := congrArg (fun r : mRow => r.2.1) grw181
theorem cw181 : mCw gP gG 181 ∈ lw_all := cw_of gh181 gn181 gb181 gm181 gr181 q1749
theorem tg181 : mTg gP gG 181 1 := tg_of gn181 gm181 cw181 (by decide) ⟨by decide +kernel, by decide +kernel⟩ (by decide +kernel)
theorem grw182 : gRow 182 = w182 := rfl
theorem gn182 : gN gG 182 = yX10_script := congrArg (fun r : mRow => r.2.2.2.1) grw182
theorem gb182 : gB gG 182 = cX10_script := congrArg (fun r : mRow => r.2.2.2.2.1) grw182
theorem gr182 : gR gG 182 = (Option.some (Jvm.ClassFile.FieldType.object "java/util/ArrayDeque") : Option FieldType) := congrArg (fun r : mRow => r.2.2.2.2.2.1) grw182
theorem lv182 : gL gG 182 = 12 := congrArg (fun r : mRow => r.2.2.2.2.2.2.1) grw182
theorem gh182 : gH gG 182 = [] := congrArg (fun r : mRow => r.2.2.2.2.2.2.2) grw182
theorem gm182 : mmax gP 182 = 2 := congrArg (fun r : mRow => r.2.1) grw182
theorem cw182 : mCw gP gG 182 ∈ lw_all := cw_of gh182 gn182 gb182 gm182 gr182 q1766
theorem tg182 : mTg gP gG 182 0 := tg_of gn182 gm182 cw182 (by decide) ⟨by decide +kernel, by decide +kernel⟩ (by decide +kernel)
theorem grw183 : gRow 183 = w183 := rfl
theorem gn183 : gN gG 183 = yX10_isCommand := congrArg (fun r : mRow => r.2.2.2.1) grw183
theorem gb183 : gB gG 183 = cX10_isCommand := congrArg (fun r : mRow => r.2.2.2.2.1) grw183
theorem gr183 : gR gG 183 = (Option.some Jvm.ClassFile.FieldType.boolean : Option FieldType) := congrArg (fun r : mRow => r.2.2.2.2.2.1) grw183
theorem lv183 : gL gG 183 = 5 := congrArg (fun r : mRow => r.2.2.2.2.2.2.1) grw183
theorem gh183 : gH gG 183 = [] := congrArg (fun r : mRow => r.2.2.2.2.2.2.2) grw183
theorem gm183 : mmax gP 183 = 3 := congrArg (fun r : mRow => r.2.1) grw183
theorem cw183 : mCw gP gG 183 ∈ lw_all := cw_of gh183 gn183 gb183 gm183 gr183 q1772
theorem tg183 : mTg gP gG 183 0 := tg_of gn183 gm183 cw183 (by decide) ⟨by decide +kernel, by decide +kernel⟩ (by decide +kernel)
theorem grw184 : gRow 184 = w184 := rfl
theorem gn184 : gN gG 184 = yX10_command := congrArg (fun r : mRow => r.2.2.2.1) grw184
theorem gb184 : gB gG 184 = cX10_command := congrArg (fun r : mRow => r.2.2.2.2.1) grw184
theorem gr184 : gR gG 184 = (Option.some (Jvm.ClassFile.FieldType.object "MistCouriers$Command") : Option FieldType) := congrArg (fun r : mRow => r.2.2.2.2.2.1) grw184
theorem lv184 : gL gG 184 = 11 := congrArg (fun r : mRow => r.2.2.2.2.2.2.1) grw184
theorem gh184 : gH gG 184 = [] := congrArg (fun r : mRow => r.2.2.2.2.2.2.2) grw184
theorem gm184 : mmax gP 184 = 4 := congrArg (fun r : mRow => r.2.1) grw184
theorem cw184 : mCw gP gG 184 ∈ lw_all := cw_of gh184 gn184 gb184 gm184 gr184 q1788
theorem tg184 : mTg gP gG 184 0 := tg_of gn184 gm184 cw184 (by decide) ⟨by decide +kernel, by decide +kernel⟩ (by decide +kernel)
theorem grw185 : gRow 185 = w185 := rfl
theorem gn185 : gN gG 185 = yX10_two := congrArg (fun r : mRow => r.2.2.2.1) grw185
theorem gb185 : gB gG 185 = cX10_two := congrArg (fun r : mRow => r.2.2.2.2.1) grw185
theorem gr185 : gR gG 185 = (Option.some (Jvm.ClassFile.FieldType.object "MistCouriers$Command") : Option FieldType) := congrArg (fun r : mRow => r.2.2.2.2.2.1) grw185
theorem lv185 : gL gG 185 = 10 := congrArg (fun r : mRow => r.2.2.2.2.2.2.1) grw185
theorem gh185 : gH gG 185 = [] := congrArg (fun r : mRow => r.2.2.2.2.2.2.2) grw185
theorem gm185 : mmax gP 185 = 4 := congrArg (fun r : mRow => r.2.1) grw185
theorem cw185 : mCw gP gG 185 ∈ lw_all := cw_of gh185 gn185 gb185 gm185 gr185 q1792
theorem tg185 : mTg gP gG 185 2 := tg_of gn185 gm185 cw185 (by decide) ⟨by decide +kernel, by decide +kernel⟩ (by decide +kernel)
theorem grw186 : gRow 186 = w186 := rfl
theorem gn186 : gN gG 186 = yX10_courier := congrArg (fun r : mRow => r.2.2.2.1) grw186
theorem gb186 : gB gG 186 = cX10_courier := congrArg (fun r : mRow => r.2.2.2.2.1) grw186
theorem gr186 : gR gG 186 = (Option.some Jvm.ClassFile.FieldType.int : Option FieldType) := congrArg (fun r : mRow => r.2.2.2.2.2.1) grw186
theorem lv186 : gL gG 186 = 9 := congrArg (fun r : mRow => r.2.2.2.2.2.2.1) grw186
theorem gh186 : gH gG 186 = [] := congrArg (fun r : mRow => r.2.2.2.2.2.2.2) grw186
theorem gm186 : mmax gP 186 = 1 := congrArg (fun r : mRow => r.2.1) grw186
theorem cw186 : mCw gP gG 186 ∈ lw_all := cw_of gh186 gn186 gb186 gm186 gr186 q1796
theorem tg186 : mTg gP gG 186 0 := tg_of gn186 gm186 cw186 (by decide) ⟨by decide +kernel, by decide +kernel⟩ (by decide +kernel)
theorem grw187 : gRow 187 = w187 := rfl
theorem gn187 : gN gG 187 = yX10_gives := congrArg (fun r : mRow => r.2.2.2.1) grw187
theorem gb187 : gB gG 187 = cX10_gives := congrArg (fun r : mRow => r.2.2.2.2.1) grw187
theorem gr187 : gR gG 187 = (Option.some (Jvm.ClassFile.FieldType.object "MistCouriers$Command") : Option FieldType) := congrArg (fun r : mRow => r.2.2.2.2.2.1) grw187
theorem lv187 : gL gG 187 = 10 := congrArg (fun r : mRow => r.2.2.2.2.2.2.1) grw187
theorem gh187 : gH gG 187 = [] := congrArg (fun r : mRow => r.2.2.2.2.2.2.2) grw187
theorem gm187 : mmax gP 187 = 4 := congrArg (fun r : mRow => r.2.1) grw187
theorem cw187 : mCw gP gG 187 ∈ lw_all := cw_of gh187 gn187 gb187 gm187 gr187 q1815
theorem tg187 : mTg gP gG 187 1 := tg_of gn187 gm187 cw187 (by decide) ⟨by decide +kernel, by decide +kernel⟩ (by decide +kernel)
theorem grw188 : gRow 188 = w188 := rfl
theorem gn188 : gN gG 188 = yX11_init := congrArg (fun r : mRow => r.2.2.2.1) grw188
theorem gb188 : gB gG 188 = cX11_init := congrArg (fun r : mRow => r.2.2.2.2.1) grw188
theorem gr188 : gR gG 188 = (none : Option FieldType) := congrArg (fun r : mRow => r.2.2.2.2.2.1) grw188
theorem lv188 : gL gG 188 = 3 := congrArg (fun r : mRow => r.2.2.2.2.2.2.1) grw188
theorem gh188 : gH gG 188 = [] := congrArg (fun r : mRow => r.2.2.2.2.2.2.2) grw188
theorem gm188 : mmax gP 188 = 3 := congrArg (fun r : mRow => r.2.1) grw188
theorem cw188 : mCw gP gG 188 ∈ lw_all := cw_of gh188 gn188 gb188 gm188 gr188 q1675
theorem tg188 : mTg gP gG 188 2 := tg_of gn188 gm188 cw188 (by decide) ⟨by decide +kernel, by decide +kernel⟩ (by decide +kernel)
theorem grw189 : gRow 189 = w189 := rfl
theorem gn189 : gN gG 189 = yX12_init := congrArg (fun r : mRow => r.2.2.2.1) grw189
theorem gb189 : gB gG 189 = cX12_init := congrArg (fun r : mRow => r.2.2.2.2.1) grw189
theorem gr189 : gR gG 189 = (none : Option FieldType) := congrArg (fun r : mRow => r.2.2.2.2.2.1) grw189
theorem lv189 : gL gG 189 = 1 := congrArg (fun r : mRow => r.2.2.2.2.2.2.1) grw189
theorem gh189 : gH gG 189 = [] := congrArg (fun r : mRow => r.2.2.2.2.2.2.2) grw189
theorem gm189 : mmax gP 189 = 3 := congrArg (fun r : mRow => r.2.1) grw189
theorem cw189 : mCw gP gG 189 ∈ lw_all := cw_of gh189 gn189 gb189 gm189 gr189 q1801
theorem tg189 : mTg gP gG 189 2 := tg_of gn189 gm189 cw189 (by decide) ⟨by decide +kernel, by decide +kernel⟩ (by decide +kernel)
theorem grw190 : gRow 190 = w190 := rfl
theorem gn190 : gN gG 190 = yX13_cells := congrArg (fun r : mRow => r.2.2.2.1) grw190
theorem gb190 : gB gG 190 = cX13_cells := congrArg (fun r : mRow => r.2.2.2.2.1) grw190
theorem gr190 : gR gG 190 = (Option.some Jvm.ClassFile.FieldType.int : Option FieldType) := congrArg (fun r : mRow => r.2.2.2.2.2.1) grw190
theorem lv190 : gL gG 190 = 2 := congrArg (fun r : mRow => r.2.2.2.2.2.2.1) grw190
theorem gh190 : gH gG 190 = [] := congrArg (fun r : mRow => r.2.2.2.2.2.2.2) grw190
theorem gm190 : mmax gP 190 = 1 := congrArg (fun r : mRow => r.2.1) grw190
theorem cw190 : mCw gP gG 190 ∈ lw_all := cw_of gh190 gn190 gb190 gm190 gr190 q1468
theorem tg190 : mTg gP gG 190 0 := tg_of gn190 gm190 cw190 (by decide) ⟨by decide +kernel, by decide +kernel⟩ (by decide +kernel)
theorem grw191 : gRow 191 = w191 := rfl
theorem gn191 : gN gG 191 = yX13_far := congrArg (fun r : mRow => r.2.2.2.1) grw191
theorem gb191 : gB gG 191 = cX13_far := congrArg (fun r : mRow => r.2.2.2.2.1) grw191
theorem gr191 : gR gG 191 = (Option.some Jvm.ClassFile.FieldType.int : Option FieldType) := congrArg (fun r : mRow => r.2.2.2.2.2.1) grw191
theorem lv191 : gL gG 191 = 3 := congrArg (fun r : mRow => r.2.2.2.2.2.2.1) grw191
theorem gh191 : gH gG 191 = [] := congrArg (fun r : mRow => r.2.2.2.2.2.2.2) grw191
theorem gm191 : mmax gP 191 = 3 := congrArg (fun r : mRow => r.2.1) grw191
theorem cw191 : mCw gP gG 191 ∈ lw_all := cw_of gh191 gn191 gb191 gm191 gr191 q1538
theorem tg191 : mTg gP gG 191 2 := tg_of gn191 gm191 cw191 (by decide) ⟨by decide +kernel, by decide +kernel⟩ (by decide +kernel)
theorem grw192 : gRow 192 = w192 := rfl
theorem gn192 : gN gG 192 = yX13_columnOf := congrArg (fun r : mRow => r.2.2.2.1) grw192
theorem gb192 : gB gG 192 = cX13_columnOf := congrArg (fun r : mRow => r.2.2.2.2.1) grw192
theorem gr192 : gR gG 192 = (Option.some Jvm.ClassFile.FieldType.int : Option FieldType) := congrArg (fun r : mRow => r.2.2.2.2.2.1) grw192
theorem lv192 : gL gG 192 = 2 := congrArg (fun r : mRow => r.2.2.2.2.2.2.1) grw192
theorem gh192 : gH gG 192 = [] := congrArg (fun r : mRow => r.2.2.2.2.2.2.2) grw192
theorem gm192 : mmax gP 192 = 2 := congrArg (fun r : mRow => r.2.1) grw192
theorem cw192 : mCw gP gG 192 ∈ lw_all := cw_of gh192 gn192 gb192 gm192 gr192 q1546
theorem tg192 : mTg gP gG 192 1 := tg_of gn192 gm192 cw192 (by decide) ⟨by decide +kernel, by decide +kernel⟩ (by decide +kernel)
theorem grw193 : gRow 193 = w193 := rfl
theorem gn193 : gN gG 193 = yX13_rowOf := congrArg (fun r : mRow => r.2.2.2.1) grw193
theorem gb193 : gB gG 193 = cX13_rowOf := congrArg (fun r : mRow => r.2.2.2.2.1) grw193
theorem gr193 : gR gG 193 = (Option.some Jvm.ClassFile.FieldType.int : Option FieldType) := congrArg (fun r : mRow => r.2.2.2.2.2.1) grw193
theorem lv193 : gL gG 193 = 2 := congrArg (fun r : mRow => r.2.2.2.2.2.2.1) grw193
theorem gh193 : gH gG 193 = [] := congrArg (fun r : mRow => r.2.2.2.2.2.2.2) grw193
theorem gm193 : mmax gP 193 = 2 := congrArg (fun r : mRow => r.2.1) grw193
theorem cw193 : mCw gP gG 193 ∈ lw_all := cw_of gh193 gn193 gb193 gm193 gr193 q1555
theorem tg193 : mTg gP gG 193 1 := tg_of gn193 gm193 cw193 (by decide) ⟨by decide +kernel, by decide +kernel⟩ (by decide +kernel)
theorem grw194 : gRow 194 = w194 := rfl
theorem gn194 : gN gG 194 = yX13_next := congrArg (fun r : mRow => r.2.2.2.1) grw194
theorem gb194 : gB gG 194 = cX13_next := congrArg (fun r : mRow => r.2.2.2.2.1) grw194
theorem gr194 : gR gG 194 = (Option.some Jvm.ClassFile.FieldType.int : Option FieldType) := congrArg (fun r : mRow => r.2.2.2.2.2.1) grw194
theorem lv194 : gL gG 194 = 3 := congrArg (fun r : mRow => r.2.2.2.2.2.2.1) grw194
theorem gh194 : gH gG 194 = [] := congrArg (fun r : mRow => r.2.2.2.2.2.2.2) grw194
theorem gm194 : mmax gP 194 = 5 := congrArg (fun r : mRow => r.2.1) grw194
theorem cw194 : mCw gP gG 194 ∈ lw_all := cw_of gh194 gn194 gb194 gm194 gr194 q1986
theorem tg194 : mTg gP gG 194 2 := tg_of gn194 gm194 cw194 (by decide) ⟨by decide +kernel, by decide +kernel⟩ (by decide +kernel)
theorem grw195 : gRow 195 = w195 := rfl
theorem gn195 : gN gG 195 = yX13_columns := congrArg (fun r : mRow => r.2.2.2.1) grw195
theorem gb195 : gB gG 195 = cX13_columns := congrArg (fun r : mRow => r.2.2.2.2.1) grw195
theorem gr195 : gR gG 195 = (Option.some Jvm.ClassFile.FieldType.int : Option FieldType) := congrArg (fun r : mRow => r.2.2.2.2.2.1) grw195
theorem lv195 : gL gG 195 = 1 := congrArg (fun r : mRow => r.2.2.2.2.2.2.1) grw195
theorem gh195 : gH gG 195 = [] := congrArg (fun r : mRow => r.2.2.2.2.2.2.2) grw195
theorem gm195 : mmax gP 195 = 1 := congrArg (fun r : mRow => r.2.1) grw195
theorem cw195 : mCw gP gG 195 ∈ lw_all := cw_of gh195 gn195 gb195 gm195 gr195 q1989
theorem tg195 : mTg gP gG 195 1 := tg_of gn195 gm195 cw195 (by decide) ⟨by decide +kernel, by decide +kernel⟩ (by decide +kernel)
theorem grw196 : gRow 196 = w196 := rfl
theorem gn196 : gN gG 196 = yX13_rows := congrArg (fun r : mRow => r.2.2.2.1) grw196
theorem gb196 : gB gG 196 = cX13_rows := congrArg (fun r : mRow => r.2.2.2.2.1) grw196
theorem gr196 : gR gG 196 = (Option.some Jvm.ClassFile.FieldType.int : Option FieldType) := congrArg (fun r : mRow => r.2.2.2.2.2.1) grw196
theorem lv196 : gL gG 196 = 1 := congrArg (fun r : mRow => r.2.2.2.2.2.2.1) grw196
theorem gh196 : gH gG 196 = [] := congrArg (fun r : mRow => r.2.2.2.2.2.2.2) grw196
theorem gm196 : mmax gP 196 = 1 := congrArg (fun r : mRow => r.2.1) grw196
theorem cw196 : mCw gP gG 196 ∈ lw_all := cw_of gh196 gn196 gb196 gm196 gr196 q1992
theorem tg196 : mTg gP gG 196 1 := tg_of gn196 gm196 cw196 (by decide) ⟨by decide +kernel, by decide +kernel⟩ (by decide +kernel)
theorem grw197 : gRow 197 = w197 := rfl
theorem gn197 : gN gG 197 = yX13_round := congrArg (fun r : mRow => r.2.2.2.1) grw197
theorem gb197 : gB gG 197 = cX13_round := congrArg (fun r : mRow => r.2.2.2.2.1) grw197
theorem gr197 : gR gG 197 = (Option.some Jvm.ClassFile.FieldType.int : Option FieldType) := congrArg (fun r : mRow => r.2.2.2.2.2.1) grw197
theorem lv197 : gL gG 197 = 3 := congrArg (fun r : mRow => r.2.2.2.2.2.2.1) grw197
theorem gh197 : gH gG 197 = [] := congrArg (fun r : mRow => r.2.2.2.2.2.2.2) grw197
theorem gm197 : mmax gP 197 = 5 := congrArg (fun r : mRow => r.2.1) grw197
theorem cw197 : mCw gP gG 197 ∈ lw_all := cw_of gh197 gn197 gb197 gm197 gr197 q2057
theorem tg197 : mTg gP gG 197 2 := tg_of gn197 gm197 cw197 (by decide) ⟨by decide +kernel, by decide +kernel⟩ (by decide +kernel)
theorem grw198 : gRow 198 = w198 := rfl
theorem gn198 : gN gG 198 = yX14_init := congrArg (fun r : mRow => r.2.2.2.1) grw198
theorem gb198 : gB gG 198 = cX14_init := congrArg (fun r : mRow => r.2.2.2.2.1) grw198
theorem gr198 : gR gG 198 = (none : Option FieldType) := congrArg (fun r : mRow => r.2.2.2.2.2.1) grw198
theorem lv198 : gL gG 198 = 8 := congrArg (fun r : mRow => r.2.2.2.2.2.2.1) grw198
theorem gh198 : gH gG 198 = [] := congrArg (fun r : mRow => r.2.2.2.2.2.2.2) grw198
theorem gm198 : mmax gP 198 = 3 := congrArg (fun r : mRow => r.2.1) grw198
theorem cw198 : mCw gP gG 198 ∈ lw_all := cw_of gh198 gn198 gb198 gm198 gr198 q2284
theorem tg198 : mTg gP gG 198 2 := tg_of gn198 gm198 cw198 (by decide) ⟨by decide +kernel, by decide +kernel⟩ (by decide +kernel)
theorem grw199 : gRow 199 = w199 := rfl
theorem gn199 : gN gG 199 = yX14_goesOn := congrArg (fun r : mRow => r.2.2.2.1) grw199
theorem gb199 : gB gG 199 = cX14_goesOn := congrArg (fun r : mRow => r.2.2.2.2.1) grw199
theorem gr199 : gR gG 199 = (none : Option FieldType) := congrArg (fun r : mRow => r.2.2.2.2.2.1) grw199
theorem lv199 : gL gG 199 = 9 := congrArg (fun r : mRow => r.2.2.2.2.2.2.1) grw199
theorem gh199 : gH gG 199 = [] := congrArg (fun r : mRow => r.2.2.2.2.2.2.2) grw199
theorem gm199 : mmax gP 199 = 5 := congrArg (fun r : mRow => r.2.1) grw199
theorem cw199 : mCw gP gG 199 ∈ lw_all := cw_of gh199 gn199 gb199 gm199 gr199 q2298
theorem tg199 : mTg gP gG 199 0 := tg_of gn199 gm199 cw199 (by decide) ⟨by decide +kernel, by decide +kernel⟩ (by decide +kernel)
theorem grw200 : gRow 200 = w200 := rfl
theorem gn200 : gN gG 200 = yX14_many := congrArg (fun r : mRow => r.2.2.2.1) grw200
theorem gb200 : gB gG 200 = cX14_many := congrArg (fun r : mRow => r.2.2.2.2.1) grw200
theorem gr200 : gR gG 200 = (Option.some Jvm.ClassFile.FieldType.int : Option FieldType) := congrArg (fun r : mRow => r.2.2.2.2.2.1) grw200
theorem lv200 : gL gG 200 = 2 := congrArg (fun r : mRow => r.2.2.2.2.2.2.1) grw200
theorem gh200 : gH gG 200 = [] := congrArg (fun r : mRow => r.2.2.2.2.2.2.2) grw200
theorem gm200 : mmax gP 200 = 6 := congrArg (fun r : mRow => r.2.1) grw200
theorem cw200 : mCw gP gG 200 ∈ lw_all := cw_of gh200 gn200 gb200 gm200 gr200 q2312
theorem tg200 : mTg gP gG 200 0 := tg_of gn200 gm200 cw200 (by decide) ⟨by decide +kernel, by decide +kernel⟩ (by decide +kernel)
theorem grw201 : gRow 201 = w201 := rfl
theorem gn201 : gN gG 201 = yX2_init := congrArg (fun r : mRow => r.2.2.2.1) grw201
theorem gb201 : gB gG 201 = cX2_init := congrArg (fun r : mRow => r.2.2.2.2.1) grw201
theorem gr201 : gR gG 201 = (none : Option FieldType) := congrArg (fun r : mRow => r.2.2.2.2.2.1) grw201
theorem lv201 : gL gG 201 = 4 := congrArg (fun r : mRow => r.2.2.2.2.2.2.1) grw201
theorem gh201 : gH gG 201 = [] := congrArg (fun r : mRow => r.2.2.2.2.2.2.2) grw201
theorem gm201 : mmax gP 201 = 3 := congrArg (fun r : mRow => r.2.1) grw201
theorem cw201 : mCw gP gG 201 ∈ lw_all := cw_of gh201 gn201 gb201 gm201 gr201 q292
theorem tg201 : mTg gP gG 201 2 := tg_of gn201 gm201 cw201 (by decide) ⟨by decide +kernel, by decide +kernel⟩ (by decide +kernel)
theorem grw202 : gRow 202 = w202 := rfl
theorem gn202 : gN gG 202 = yX2_posts := congrArg (fun r : mRow => r.2.2.2.1) grw202
theorem gb202 : gB gG 202 = cX2_posts := congrArg (fun r : mRow => r.2.2.2.2.1) grw202
theorem gr202 : gR gG 202 = (none : Option FieldType) := congrArg (fun r : mRow => r.2.2.2.2.2.1) grw202
theorem lv202 : gL gG 202 = 7 := congrArg (fun r : mRow => r.2.2.2.2.2.2.1) grw202
theorem gh202 : gH gG 202 = [] := congrArg (fun r : mRow => r.2.2.2.2.2.2.2) grw202
theorem gm202 : mmax gP 202 = 6 := congrArg (fun r : mRow => r.2.1) grw202
theorem cw202 : mCw gP gG 202 ∈ lw_all := cw_of gh202 gn202 gb202 gm202 gr202 q765
theorem tg202 : mTg gP gG 202 4 := tg_of gn202 gm202 cw202 (by decide) ⟨by decide +kernel, by decide +kernel⟩ (by decide +kernel)
theorem grw203 : gRow 203 = w203 := rfl
theorem gn203 : gN gG 203 = yX2_lettersThat := congrArg (fun r : mRow => r.2.2.2.1) grw203
theorem gb203 : gB gG 203 = cX2_lettersThat := congrArg (fun r : mRow => r.2.2.2.2.1) grw203
theorem gr203 : gR gG 203 = (Option.some Jvm.ClassFile.FieldType.int : Option FieldType) := congrArg (fun r : mRow => r.2.2.2.2.2.1) grw203
theorem lv203 : gL gG 203 = 4 := congrArg (fun r : mRow => r.2.2.2.2.2.2.1) grw203
theorem gh203 : gH gG 203 = [] := congrArg (fun r : mRow => r.2.2.2.2.2.2.2) grw203
theorem gm203 : mmax gP 203 = 4 := congrArg (fun r : mRow => r.2.1) grw203
theorem cw203 : mCw gP gG 203 ∈ lw_all := cw_of gh203 gn203 gb203 gm203 gr203 q1445
theorem tg203 : mTg gP gG 203 1 := tg_of gn203 gm203 cw203 (by decide) ⟨by decide +kernel, by decide +kernel⟩ (by decide +kernel)
theorem grw204 : gRow 204 = w204 := rfl
theorem gn204 : gN gG 204 = yX2_carriedBy := congrArg (fun r : mRow => r.2.2.2.1) grw204
theorem gb204 : gB gG 204 = cX2_carriedBy := congrArg (fun r : mRow => r.2.2.2.2.1) grw204
theorem gr204 : gR gG 204 = (Option.some Jvm.ClassFile.FieldType.int : Option FieldType) := congrArg (fun r : mRow => r.2.2.2.2.2.1) grw204
theorem lv204 : gL gG 204 = 4 := congrArg (fun r : mRow => r.2.2.2.2.2.2.1) grw204
theorem gh204 : gH gG 204 = [] := congrArg (fun r : mRow => r.2.2.2.2.2.2.2) grw204
theorem gm204 : mmax gP 204 = 4 := congrArg (fun r : mRow => r.2.1) grw204
theorem cw204 : mCw gP gG 204 ∈ lw_all := cw_of gh204 gn204 gb204 gm204 gr204 q1505
theorem tg204 : mTg gP gG 204 1 := tg_of gn204 gm204 cw204 (by decide) ⟨by decide +kernel, by decide +kernel⟩ (by decide +kernel)
theorem grw205 : gRow 205 = w205 := rfl
theorem gn205 : gN gG 205 = yX2_mist := congrArg (fun r : mRow => r.2.2.2.1) grw205
theorem gb205 : gB gG 205 = cX2_mist := congrArg (fun r : mRow => r.2.2.2.2.1) grw205
theorem gr205 : gR gG 205 = (Option.some Jvm.ClassFile.FieldType.int : Option FieldType) := congrArg (fun r : mRow => r.2.2.2.2.2.1) grw205
theorem lv205 : gL gG 205 = 4 := congrArg (fun r : mRow => r.2.2.2.2.2.2.1) grw205
theorem gh205 : gH gG 205 = [] := congrArg (fun r : mRow => r.2.2.2.2.2.2.2) grw205
theorem gm205 : mmax gP 205 = 5 := congrArg (fun r : mRow => r.2.1) grw205
theorem cw205 : mCw gP gG 205 ∈ lw_all := cw_of gh205 gn205 gb205 gm205 gr205 q1532
theorem tg205 : mTg gP gG 205 1 := tg_of gn205 gm205 cw205 (by decide) ⟨by decide +kernel, by decide +kernel⟩ (by decide +kernel)
theorem grw206 : gRow 206 = w206 := rfl
theorem gn206 : gN gG 206 = yX2_twin := congrArg (fun r : mRow => r.2.2.2.1) grw206
theorem gb206 : gB gG 206 = cX2_twin := congrArg (fun r : mRow => r.2.2.2.2.1) grw206
theorem gr206 : gR gG 206 = (Option.some (Jvm.ClassFile.FieldType.object "MistCouriers$State") : Option FieldType) := congrArg (fun r : mRow => r.2.2.2.2.2.1) grw206
theorem lv206 : gL gG 206 = 7 := congrArg (fun r : mRow => r.2.2.2.2.2.2.1) grw206
theorem gh206 : gH gG 206 = [] := congrArg (fun r : mRow => r.2.2.2.2.2.2.2) grw206
theorem gm206 : mmax gP 206 = 3 := congrArg (fun r : mRow => r.2.1) grw206
theorem cw206 : mCw gP gG 206 ∈ lw_all := cw_of gh206 gn206 gb206 gm206 gr206 q1894
theorem tg206 : mTg gP gG 206 0 := tg_of gn206 gm206 cw206 (by decide) ⟨by decide +kernel, by decide +kernel⟩ (by decide +kernel)
theorem grw207 : gRow 207 = w207 := rfl
theorem gn207 : gN gG 207 = yX2_act := congrArg (fun r : mRow => r.2.2.2.1) grw207
theorem gb207 : gB gG 207 = cX2_act := congrArg (fun r : mRow => r.2.2.2.2.1) grw207
theorem gr207 : gR gG 207 = (Option.some Jvm.ClassFile.FieldType.int : Option FieldType) := congrArg (fun r : mRow => r.2.2.2.2.2.1) grw207
theorem lv207 : gL gG 207 = 12 := congrArg (fun r : mRow => r.2.2.2.2.2.2.1) grw207
theorem gh207 : gH gG 207 = [] := congrArg (fun r : mRow => r.2.2.2.2.2.2.2) grw207
theorem gm207 : mmax gP 207 = 5 := congrArg (fun r : mRow => r.2.1) grw207
theorem cw207 : mCw gP gG 207 ∈ lw_all := cw_of gh207 gn207 gb207 gm207 gr207 q1929
theorem tg207 : mTg gP gG 207 1 := tg_of gn207 gm207 cw207 (by decide) ⟨by decide +kernel, by decide +kernel⟩ (by decide +kernel)
theorem grw208 : gRow 208 = w208 := rfl
theorem gn208 : gN gG 208 = yX2_step := congrArg (fun r : mRow => r.2.2.2.1) grw208
theorem gb208 : gB gG 208 = cX2_step := congrArg (fun r : mRow => r.2.2.2.2.1) grw208
theorem gr208 : gR gG 208 = (Option.some Jvm.ClassFile.FieldType.int : Option FieldType) := congrArg (fun r : mRow => r.2.2.2.2.2.1) grw208
theorem lv208 : gL gG 208 = 9 := congrArg (fun r : mRow => r.2.2.2.2.2.2.1) grw208
theorem gh208 : gH gG 208 = [] := congrArg (fun r : mRow => r.2.2.2.2.2.2.2) grw208
theorem gm208 : mmax gP 208 = 5 := congrArg (fun r : mRow => r.2.1) grw208
theorem cw208 : mCw gP gG 208 ∈ lw_all := cw_of gh208 gn208 gb208 gm208 gr208 q1939
theorem tg208 : mTg gP gG 208 2 := tg_of gn208 gm208 cw208 (by decide) ⟨by decide +kernel, by decide +kernel⟩ (by decide +kernel)
theorem grw209 : gRow 209 = w209 := rfl
theorem gn209 : gN gG 209 = yX2_aCourier := congrArg (fun r : mRow => r.2.2.2.1) grw209
theorem gb209 : gB gG 209 = cX2_aCourier := congrArg (fun r : mRow => r.2.2.2.2.1) grw209
theorem gr209 : gR gG 209 = (Option.some (Jvm.ClassFile.FieldType.object "MistCouriers$Courier") : Option FieldType) := congrArg (fun r : mRow => r.2.2.2.2.2.1) grw209
theorem lv209 : gL gG 209 = 4 := congrArg (fun r : mRow => r.2.2.2.2.2.2.1) grw209
theorem gh209 : gH gG 209 = [] := congrArg (fun r : mRow => r.2.2.2.2.2.2.2) grw209
theorem gm209 : mmax gP 209 = 2 := congrArg (fun r : mRow => r.2.1) grw209
theorem cw209 : mCw gP gG 209 ∈ lw_all := cw_of gh209 gn209 gb209 gm209 gr209 q1943
theorem tg209 : mTg gP gG 209 1 := tg_of gn209 gm209 cw209 (by decide) ⟨by decide +kernel, by decide +kernel⟩ (by decide +kernel)
theorem grw210 : gRow 210 = w210 := rfl
theorem gn210 : gN gG 210 = yX2_requireDirection := congrArg (fun r : mRow => r.2.2.2.1) grw210
theorem gb210 : gB gG 210 = cX2_requireDirection := congrArg (fun r : mRow => r.2.2.2.2.1) grw210
theorem gr210 : gR gG 210 = (none : Option FieldType) := congrArg (fun r : mRow => r.2.2.2.2.2.1) grw210
theorem lv210 : gL gG 210 = 2 := congrArg (fun r : mRow => r.2.2.2.2.2.2.1) grw210
theorem gh210 : gH gG 210 = [] := congrArg (fun r : mRow => r.2.2.2.2.2.2.2) grw210
theorem gm210 : mmax gP 210 = 1 := congrArg (fun r : mRow => r.2.1) grw210
theorem cw210 : mCw gP gG 210 ∈ lw_all := cw_of gh210 gn210 gb210 gm210 gr210 q1970
theorem tg210 : mTg gP gG 210 1 := tg_of gn210 gm210 cw210 (by decide) ⟨by decide +kernel, by decide +kernel⟩ (by decide +kernel)
theorem grw211 : gRow 211 = w211 := rfl
theorem gn211 : gN gG 211 = yX2_stepsTo := congrArg (fun r : mRow => r.2.2.2.1) grw211
theorem gb211 : gB gG 211 = cX2_stepsTo := congrArg (fun r : mRow => r.2.2.2.2.1) grw211
theorem gr211 : gR gG 211 = (Option.some Jvm.ClassFile.FieldType.int : Option FieldType) := congrArg (fun r : mRow => r.2.2.2.2.2.1) grw211
theorem lv211 : gL gG 211 = 4 := congrArg (fun r : mRow => r.2.2.2.2.2.2.1) grw211
theorem gh211 : gH gG 211 = [] := congrArg (fun r : mRow => r.2.2.2.2.2.2.2) grw211
theorem gm211 : mmax gP 211 = 4 := congrArg (fun r : mRow => r.2.1) grw211
theorem cw211 : mCw gP gG 211 ∈ lw_all := cw_of gh211 gn211 gb211 gm211 gr211 q1981
theorem tg211 : mTg gP gG 211 2 := tg_of gn211 gm211 cw211 (by decide) ⟨by decide +kernel, by decide +kernel⟩ (by decide +kernel)
theorem grw212 : gRow 212 = w212 := rfl
theorem gn212 : gN gG 212 = yX2_isSeen := congrArg (fun r : mRow => r.2.2.2.1) grw212
theorem gb212 : gB gG 212 = cX2_isSeen := congrArg (fun r : mRow => r.2.2.2.2.1) grw212
theorem gr212 : gR gG 212 = (Option.some Jvm.ClassFile.FieldType.boolean : Option FieldType) := congrArg (fun r : mRow => r.2.2.2.2.2.1) grw212
theorem lv212 : gL gG 212 = 8 := congrArg (fun r : mRow => r.2.2.2.2.2.2.1) grw212
theorem gh212 : gH gG 212 = [] := congrArg (fun r : mRow => r.2.2.2.2.2.2.2) grw212
theorem gm212 : mmax gP 212 = 2 := congrArg (fun r : mRow => r.2.1) grw212
theorem cw212 : mCw gP gG 212 ∈ lw_all := cw_of gh212 gn212 gb212 gm212 gr212 q1997
theorem tg212 : mTg gP gG 212 1 := tg_of gn212 gm212 cw212 (by decide) ⟨by decide +kernel, by decide +kernel⟩ (by decide +kernel)
theorem grw213 : gRow 213 = w213 := rfl
theorem gn213 : gN gG 213 = yX2_seers := congrArg (fun r : mRow => r.2.2.2.1) grw213
theorem gb213 : gB gG 213 = cX2_seers := congrArg (fun r : mRow => r.2.2.2.2.1) grw213
theorem gr213 : gR gG 213 = (Option.some Jvm.ClassFile.FieldType.int : Option FieldType) := congrArg (fun r : mRow => r.2.2.2.2.2.1) grw213
theorem lv213 : gL gG 213 = 7 := congrArg (fun r : mRow => r.2.2.2.2.2.2.1) grw213
theorem gh213 : gH gG 213 = [] := congrArg (fun r : mRow => r.2.2.2.2.2.2.2) grw213
theorem gm213 : mmax gP 213 = 4 := congrArg (fun r : mRow => r.2.1) grw213
theorem cw213 : mCw gP gG 213 ∈ lw_all := cw_of gh213 gn213 gb213 gm213 gr213 q2001
theorem tg213 : mTg gP gG 213 1 := tg_of gn213 gm213 cw213 (by decide) ⟨by decide +kernel, by decide +kernel⟩ (by decide +kernel)
theorem grw214 : gRow 214 = w214 := rfl
theorem gn214 : gN gG 214 = yX2_sees := congrArg (fun r : mRow => r.2.2.2.1) grw214
theorem gb214 : gB gG 214 = cX2_sees := congrArg (fun r : mRow => r.2.2.2.2.1) grw214
theorem gr214 : gR gG 214 = (Option.some Jvm.ClassFile.FieldType.boolean : Option FieldType) := congrArg (fun r : mRow => r.2.2.2.2.2.1) grw214
theorem lv214 : gL gG 214 = 6 := congrArg (fun r : mRow => r.2.2.2.2.2.2.1) grw214
theorem gh214 : gH gG 214 = [] := congrArg (fun r : mRow => r.2.2.2.2.2.2.2) grw214
theorem gm214 : mmax gP 214 = 3 := congrArg (fun r : mRow => r.2.1) grw214
theorem cw214 : mCw gP gG 214 ∈ lw_all := cw_of gh214 gn214 gb214 gm214 gr214 q2005
theorem tg214 : mTg gP gG 214 2 := tg_of gn214 gm214 cw214 (by decide) ⟨by decide +kernel, by decide +kernel⟩ (by decide +kernel)
theorem grw215 : gRow 215 = w215 := rfl
theorem gn215 : gN gG 215 = yX2_veil := congrArg (fun r : mRow => r.2.2.2.1) grw215
theorem gb215 : gB gG 215 = cX2_veil := congrArg (fun r : mRow => r.2.2.2.2.1) grw215
theorem gr215 : gR gG 215 = (Option.some Jvm.ClassFile.FieldType.int : Option FieldType) := congrArg (fun r : mRow => r.2.2.2.2.2.1) grw215
theorem lv215 : gL gG 215 = 5 := congrArg (fun r : mRow => r.2.2.2.2.2.2.1) grw215
theorem gh215 : gH gG 215 = [] := congrArg (fun r : mRow => r.2.2.2.2.2.2.2) grw215
theorem gm215 : mmax gP 215 = 6 := congrArg (fun r : mRow => r.2.1) grw215
theorem cw215 : mCw gP gG 215 ∈ lw_all := cw_of gh215 gn215 gb215 gm215 gr215 q2009
theorem tg215 : mTg gP gG 215 2 := tg_of gn215 gm215 cw215 (by decide) ⟨by decide +kernel, by decide +kernel⟩ (by decide +kernel)
theorem grw216 : gRow 216 = w216 := rfl
theorem gn216 : gN gG 216 = yX2_gazesOn := congrArg (fun r : mRow => r.2.2.2.1) grw216
theorem gb216 : gB gG 216 = cX2_gazesOn := congrArg (fun r : mRow => r.2.2.2.2.1) grw216
theorem gr216 : gR gG 216 = (Option.some Jvm.ClassFile.FieldType.int : Option FieldType) := congrArg (fun r : mRow => r.2.2.2.2.2.1) grw216
theorem lv216 : gL gG 216 = 4 := congrArg (fun r : mRow => r.2.2.2.2.2.2.1) grw216
theorem gh216 : gH gG 216 = [] := congrArg (fun r : mRow => r.2.2.2.2.2.2.2) grw216
theorem gm216 : mmax gP 216 = 5 := congrArg (fun r : mRow => r.2.1) grw216
theorem cw216 : mCw gP gG 216 ∈ lw_all := cw_of gh216 gn216 gb216 gm216 gr216 q2013
theorem tg216 : mTg gP gG 216 3 := tg_of gn216 gm216 cw216 (by decide) ⟨by decide +kernel, by decide +kernel⟩ (by decide +kernel)
theorem grw217 : gRow 217 = w217 := rfl
theorem gn217 : gN gG 217 = yX2_pick := congrArg (fun r : mRow => r.2.2.2.1) grw217
theorem gb217 : gB gG 217 = cX2_pick := congrArg (fun r : mRow => r.2.2.2.2.1) grw217
theorem gr217 : gR gG 217 = (Option.some Jvm.ClassFile.FieldType.int : Option FieldType) := congrArg (fun r : mRow => r.2.2.2.2.2.1) grw217
theorem lv217 : gL gG 217 = 5 := congrArg (fun r : mRow => r.2.2.2.2.2.2.1) grw217
theorem gh217 : gH gG 217 = [] := congrArg (fun r : mRow => r.2.2.2.2.2.2.2) grw217
theorem gm217 : mmax gP 217 = 5 := congrArg (fun r : mRow => r.2.1) grw217
theorem cw217 : mCw gP gG 217 ∈ lw_all := cw_of gh217 gn217 gb217 gm217 gr217 q2018
theorem tg217 : mTg gP gG 217 2 := tg_of gn217 gm217 cw217 (by decide) ⟨by decide +kernel, by decide +kernel⟩ (by decide +kernel)
theorem grw218 : gRow 218 = w218 := rfl
theorem gn218 : gN gG 218 = yX2_aLetter := congrArg (fun r : mRow => r.2.2.2.1) grw218
theorem gb218 : gB gG 218 = cX2_aLetter := congrArg (fun r : mRow => r.2.2.2.2.1) grw218
theorem gr218 : gR gG 218 = (Option.some (Jvm.ClassFile.FieldType.object "MistCouriers$Letter") : Option FieldType) := congrArg (fun r : mRow => r.2.2.2.2.2.1) grw218
theorem lv218 : gL gG 218 = 4 := congrArg (fun r : mRow => r.2.2.2.2.2.2.1) grw218
theorem gh218 : gH gG 218 = [] := congrArg (fun r : mRow => r.2.2.2.2.2.2.2) grw218
theorem gm218 : mmax gP 218 = 2 := congrArg (fun r : mRow => r.2.1) grw218
theorem cw218 : mCw gP gG 218 ∈ lw_all := cw_of gh218 gn218 gb218 gm218 gr218 q2022
theorem tg218 : mTg gP gG 218 1 := tg_of gn218 gm218 cw218 (by decide) ⟨by decide +kernel, by decide +kernel⟩ (by decide +kernel)
theorem grw219 : gRow 219 = w219 := rfl
theorem gn219 : gN gG 219 = yX2_give := congrArg (fun r : mRow => r.2.2.2.1) grw219
theorem gb219 : gB gG 219 = cX2_give := congrArg (fun r : mRow => r.2.2.2.2.1) grw219
theorem gr219 : gR gG 219 = (Option.some Jvm.ClassFile.FieldType.int : Option FieldType) := congrArg (fun r : mRow => r.2.2.2.2.2.1) grw219
theorem lv219 : gL gG 219 = 5 := congrArg (fun r : mRow => r.2.2.2.2.2.2.1) grw219
theorem gh219 : gH gG 219 = [] := congrArg (fun r : mRow => r.2.2.2.2.2.2.2) grw219
theorem gm219 : mmax gP 219 = 7 := congrArg (fun r : mRow => r.2.1) grw219
theorem cw219 : mCw gP gG 219 ∈ lw_all := cw_of gh219 gn219 gb219 gm219 gr219 q2032
theorem tg219 : mTg gP gG 219 3 := tg_of gn219 gm219 cw219 (by decide) ⟨by decide +kernel, by decide +kernel⟩ (by decide +kernel)
theorem grw220 : gRow 220 = w220 := rfl
theorem gn220 : gN gG 220 = yX2_lay := congrArg (fun r : mRow => r.2.2.2.1) grw220
theorem gb220 : gB gG 220 = cX2_lay := congrArg (fun r : mRow => r.2.2.2.2.1) grw220
theorem gr220 : gR gG 220 = (Option.some Jvm.ClassFile.FieldType.int : Option FieldType) := congrArg (fun r : mRow => r.2.2.2.2.2.1) grw220
theorem lv220 : gL gG 220 = 5 := congrArg (fun r : mRow => r.2.2.2.2.2.2.1) grw220
theorem gh220 : gH gG 220 = [] := congrArg (fun r : mRow => r.2.2.2.2.2.2.2) grw220
theorem gm220 : mmax gP 220 = 5 := congrArg (fun r : mRow => r.2.1) grw220
theorem cw220 : mCw gP gG 220 ∈ lw_all := cw_of gh220 gn220 gb220 gm220 gr220 q2036
theorem tg220 : mTg gP gG 220 2 := tg_of gn220 gm220 cw220 (by decide) ⟨by decide +kernel, by decide +kernel⟩ (by decide +kernel)
theorem grw221 : gRow 221 = w221 := rfl
theorem gn221 : gN gG 221 = yX2_pass := congrArg (fun r : mRow => r.2.2.2.1) grw221
theorem gb221 : gB gG 221 = cX2_pass := congrArg (fun r : mRow => r.2.2.2.2.1) grw221
theorem gr221 : gR gG 221 = (Option.some Jvm.ClassFile.FieldType.int : Option FieldType) := congrArg (fun r : mRow => r.2.2.2.2.2.1) grw221
theorem lv221 : gL gG 221 = 11 := congrArg (fun r : mRow => r.2.2.2.2.2.2.1) grw221
theorem gh221 : gH gG 221 = [] := congrArg (fun r : mRow => r.2.2.2.2.2.2.2) grw221
theorem gm221 : mmax gP 221 = 2 := congrArg (fun r : mRow => r.2.1) grw221
theorem cw221 : mCw gP gG 221 ∈ lw_all := cw_of gh221 gn221 gb221 gm221 gr221 q2040
theorem tg221 : mTg gP gG 221 1 := tg_of gn221 gm221 cw221 (by decide) ⟨by decide +kernel, by decide +kernel⟩ (by decide +kernel)
theorem grw222 : gRow 222 = w222 := rfl
theorem gn222 : gN gG 222 = yX2_passes := congrArg (fun r : mRow => r.2.2.2.1) grw222
theorem gb222 : gB gG 222 = cX2_passes := congrArg (fun r : mRow => r.2.2.2.2.1) grw222
theorem gr222 : gR gG 222 = (Option.some Jvm.ClassFile.FieldType.int : Option FieldType) := congrArg (fun r : mRow => r.2.2.2.2.2.1) grw222
theorem lv222 : gL gG 222 = 10 := congrArg (fun r : mRow => r.2.2.2.2.2.2.1) grw222
theorem gh222 : gH gG 222 = [] := congrArg (fun r : mRow => r.2.2.2.2.2.2.2) grw222
theorem gm222 : mmax gP 222 = 4 := congrArg (fun r : mRow => r.2.1) grw222
theorem cw222 : mCw gP gG 222 ∈ lw_all := cw_of gh222 gn222 gb222 gm222 gr222 q2044
theorem tg222 : mTg gP gG 222 1 := tg_of gn222 gm222 cw222 (by decide) ⟨by decide +kernel, by decide +kernel⟩ (by decide +kernel)
theorem grw223 : gRow 223 = w223 := rfl
theorem gn223 : gN gG 223 = yX2_tick := congrArg (fun r : mRow => r.2.2.2.1) grw223
theorem gb223 : gB gG 223 = cX2_tick := congrArg (fun r : mRow => r.2.2.2.2.1) grw223
theorem gr223 : gR gG 223 = (none : Option FieldType) := congrArg (fun r : mRow => r.2.2.2.2.2.1) grw223
theorem lv223 : gL gG 223 = 9 := congrArg (fun r : mRow => r.2.2.2.2.2.2.1) grw223
theorem gh223 : gH gG 223 = [] := congrArg (fun r : mRow => r.2.2.2.2.2.2.2) grw223
theorem gm223 : mmax gP 223 = 2 := congrArg (fun r : mRow => r.2.1) grw223
theorem cw223 : mCw gP gG 223 ∈ lw_all := cw_of gh223 gn223 gb223 gm223 gr223 q2048
theorem tg223 : mTg gP gG 223 0 := tg_of gn223 gm223 cw223 (by decide) ⟨by decide +kernel, by decide +kernel⟩ (by decide +kernel)
theorem grw224 : gRow 224 = w224 := rfl
theorem gn224 : gN gG 224 = yX2_drifts := congrArg (fun r : mRow => r.2.2.2.1) grw224
theorem gb224 : gB gG 224 = cX2_drifts := congrArg (fun r : mRow => r.2.2.2.2.1) grw224
theorem gr224 : gR gG 224 = (none : Option FieldType) := congrArg (fun r : mRow => r.2.2.2.2.2.1) grw224
theorem lv224 : gL gG 224 = 4 := congrArg (fun r : mRow => r.2.2.2.2.2.2.1) grw224
theorem gh224 : gH gG 224 = [] := congrArg (fun r : mRow => r.2.2.2.2.2.2.2) grw224
theorem gm224 : mmax gP 224 = 3 := congrArg (fun r : mRow => r.2.1) grw224
theorem cw224 : mCw gP gG 224 ∈ lw_all := cw_of gh224 gn224 gb224 gm224 gr224 q2052
theorem tg224 : mTg gP gG 224 0 := tg_of gn224 gm224 cw224 (by decide) ⟨by decide +kernel, by decide +kernel⟩ (by decide +kernel)
theorem grw225 : gRow 225 = w225 := rfl
theorem gn225 : gN gG 225 = yX2_catches := congrArg (fun r : mRow => r.2.2.2.1) grw225
theorem gb225 : gB gG 225 = cX2_catches := congrArg (fun r : mRow => r.2.2.2.2.1) grw225
theorem gr225 : gR gG 225 = (none : Option FieldType) := congrArg (fun r : mRow => r.2.2.2.2.2.1) grw225
theorem lv225 : gL gG 225 = 4 := congrArg (fun r : mRow => r.2.2.2.2.2.2.1) grw225
theorem gh225 : gH gG 225 = [] := congrArg (fun r : mRow => r.2.2.2.2.2.2.2) grw225
theorem gm225 : mmax gP 225 = 4 := congrArg (fun r : mRow => r.2.1) grw225
theorem cw225 : mCw gP gG 225 ∈ lw_all := cw_of gh225 gn225 gb225 gm225 gr225 q2061
theorem tg225 : mTg gP gG 225 1 := tg_of gn225 gm225 cw225 (by decide) ⟨by decide +kernel, by decide +kernel⟩ (by decide +kernel)
theorem grw226 : gRow 226 = w226 := rfl
theorem gn226 : gN gG 226 = yX2_allSeen := congrArg (fun r : mRow => r.2.2.2.1) grw226
theorem gb226 : gB gG 226 = cX2_allSeen := congrArg (fun r : mRow => r.2.2.2.2.1) grw226
theorem gr226 : gR gG 226 = (Option.some Jvm.ClassFile.FieldType.int : Option FieldType) := congrArg (fun r : mRow => r.2.2.2.2.2.1) grw226
theorem lv226 : gL gG 226 = 9 := congrArg (fun r : mRow => r.2.2.2.2.2.2.1) grw226
theorem gh226 : gH gG 226 = [] := congrArg (fun r : mRow => r.2.2.2.2.2.2.2) grw226
theorem gm226 : mmax gP 226 = 3 := congrArg (fun r : mRow => r.2.1) grw226
theorem cw226 : mCw gP gG 226 ∈ lw_all := cw_of gh226 gn226 gb226 gm226 gr226 q2131
theorem tg226 : mTg gP gG 226 0 := tg_of gn226 gm226 cw226 (by decide) ⟨by decide +kernel, by decide +kernel⟩ (by decide +kernel)
theorem grw227 : gRow 227 = w227 := rfl
theorem gn227 : gN gG 227 = yX2_requireCell := congrArg (fun r : mRow => r.2.2.2.1) grw227
theorem gb227 : gB gG 227 = cX2_requireCell := congrArg (fun r : mRow => r.2.2.2.2.1) grw227
theorem gr227 : gR gG 227 = (none : Option FieldType) := congrArg (fun r : mRow => r.2.2.2.2.2.1) grw227
theorem lv227 : gL gG 227 = 3 := congrArg (fun r : mRow => r.2.2.2.2.2.2.1) grw227
theorem gh227 : gH gG 227 = [] := congrArg (fun r : mRow => r.2.2.2.2.2.2.2) grw227
theorem gm227 : mmax gP 227 = 2 := congrArg (fun r : mRow => r.2.1) grw227
theorem cw227 : mCw gP gG 227 ∈ lw_all := cw_of gh227 gn227 gb227 gm227 gr227 q2150
theorem tg227 : mTg gP gG 227 1 := tg_of gn227 gm227 cw227 (by decide) ⟨by decide +kernel, by decide +kernel⟩ (by decide +kernel)
theorem grw228 : gRow 228 = w228 := rfl
theorem gn228 : gN gG 228 = yX2_gaze := congrArg (fun r : mRow => r.2.2.2.1) grw228
theorem gb228 : gB gG 228 = cX2_gaze := congrArg (fun r : mRow => r.2.2.2.2.1) grw228
theorem gr228 : gR gG 228 = (Option.some Jvm.ClassFile.FieldType.int : Option FieldType) := congrArg (fun r : mRow => r.2.2.2.2.2.1) grw228
theorem lv228 : gL gG 228 = 5 := congrArg (fun r : mRow => r.2.2.2.2.2.2.1) grw228
theorem gh228 : gH gG 228 = [] := congrArg (fun r : mRow => r.2.2.2.2.2.2.2) grw228
theorem gm228 : mmax gP 228 = 5 := congrArg (fun r : mRow => r.2.1) grw228
theorem cw228 : mCw gP gG 228 ∈ lw_all := cw_of gh228 gn228 gb228 gm228 gr228 q2192
theorem tg228 : mTg gP gG 228 2 := tg_of gn228 gm228 cw228 (by decide) ⟨by decide +kernel, by decide +kernel⟩ (by decide +kernel)
theorem grw229 : gRow 229 = w229 := rfl
theorem gn229 : gN gG 229 = yX3_init := congrArg (fun r : mRow => r.2.2.2.1) grw229
theorem gb229 : gB gG 229 = cX3_init := congrArg (fun r : mRow => r.2.2.2.2.1) grw229
theorem gr229 : gR gG 229 = (none : Option FieldType) := congrArg (fun r : mRow => r.2.2.2.2.2.1) grw229
theorem lv229 : gL gG 229 = 3 := congrArg (fun r : mRow => r.2.2.2.2.2.2.1) grw229
theorem gh229 : gH gG 229 = [] := congrArg (fun r : mRow => r.2.2.2.2.2.2.2) grw229
theorem gm229 : mmax gP 229 = 8 := congrArg (fun r : mRow => r.2.1) grw229
theorem cw229 : mCw gP gG 229 ∈ lw_all := cw_of gh229 gn229 gb229 gm229 gr229 q236
theorem tg229 : mTg gP gG 229 3 := tg_of gn229 gm229 cw229 (by decide) ⟨by decide +kernel, by decide +kernel⟩ (by decide +kernel)
theorem grw230 : gRow 230 = w230 := rfl
theorem gn230 : gN gG 230 = yX3_posts := congrArg (fun r : mRow => r.2.2.2.1) grw230
theorem gb230 : gB gG 230 = cX3_posts := congrArg (fun r : mRow => r.2.2.2.2.1) grw230
theorem gr230 : gR gG 230 = (none : Option FieldType) := congrArg (fun r : mRow => r.2.2.2.2.2.1) grw230
theorem lv230 : gL gG 230 = 5 := congrArg (fun r : mRow => r.2.2.2.2.2.2.1) grw230
theorem gh230 : gH gG 230 = [] := congrArg (fun r : mRow => r.2.2.2.2.2.2.2) grw230
theorem gm230 : mmax gP 230 = 4 := congrArg (fun r : mRow => r.2.1) grw230
theorem cw230 : mCw gP gG 230 ∈ lw_all := cw_of gh230 gn230 gb230 gm230 gr230 q806
theorem tg230 : mTg gP gG 230 1 := tg_of gn230 gm230 cw230 (by decide) ⟨by decide +kernel, by decide +kernel⟩ (by decide +kernel)
theorem grw231 : gRow 231 = w231 := rfl
theorem gn231 : gN gG 231 = yX3_width := congrArg (fun r : mRow => r.2.2.2.1) grw231
theorem gb231 : gB gG 231 = cX3_width := congrArg (fun r : mRow => r.2.2.2.2.1) grw231
theorem gr231 : gR gG 231 = (Option.some Jvm.ClassFile.FieldType.int : Option FieldType) := congrArg (fun r : mRow => r.2.2.2.2.2.1) grw231
theorem lv231 : gL gG 231 = 1 := congrArg (fun r : mRow => r.2.2.2.2.2.2.1) grw231
theorem gh231 : gH gG 231 = [] := congrArg (fun r : mRow => r.2.2.2.2.2.2.2) grw231
theorem gm231 : mmax gP 231 = 1 := congrArg (fun r : mRow => r.2.1) grw231
theorem cw231 : mCw gP gG 231 ∈ lw_all := cw_of gh231 gn231 gb231 gm231 gr231 q1478
theorem tg231 : mTg gP gG 231 0 := tg_of gn231 gm231 cw231 (by decide) ⟨by decide +kernel, by decide +kernel⟩ (by decide +kernel)
theorem grw232 : gRow 232 = w232 := rfl
theorem gn232 : gN gG 232 = yX3_height := congrArg (fun r : mRow => r.2.2.2.1) grw232
theorem gb232 : gB gG 232 = cX3_height := congrArg (fun r : mRow => r.2.2.2.2.1) grw232
theorem gr232 : gR gG 232 = (Option.some Jvm.ClassFile.FieldType.int : Option FieldType) := congrArg (fun r : mRow => r.2.2.2.2.2.1) grw232
theorem lv232 : gL gG 232 = 1 := congrArg (fun r : mRow => r.2.2.2.2.2.2.1) grw232
theorem gh232 : gH gG 232 = [] := congrArg (fun r : mRow => r.2.2.2.2.2.2.2) grw232
theorem gm232 : mmax gP 232 = 1 := congrArg (fun r : mRow => r.2.1) grw232
theorem cw232 : mCw gP gG 232 ∈ lw_all := cw_of gh232 gn232 gb232 gm232 gr232 q1487
theorem tg232 : mTg gP gG 232 0 := tg_of gn232 gm232 cw232 (by decide) ⟨by decide +kernel, by decide +kernel⟩ (by decide +kernel)
theorem grw233 : gRow 233 = w233 := rfl
theorem gn233 : gN gG 233 = yX3_postAt := congrArg (fun r : mRow => r.2.2.2.1) grw233
theorem gb233 : gB gG 233 = cX3_postAt := congrArg (fun r : mRow => r.2.2.2.2.1) grw233
theorem gr233 : gR gG 233 = (Option.some Jvm.ClassFile.FieldType.int : Option FieldType) := congrArg (fun r : mRow => r.2.2.2.2.2.1) grw233
theorem lv233 : gL gG 233 = 5 := congrArg (fun r : mRow => r.2.2.2.2.2.2.1) grw233
theorem gh233 : gH gG 233 = [] := congrArg (fun r : mRow => r.2.2.2.2.2.2.2) grw233
theorem gm233 : mmax gP 233 = 3 := congrArg (fun r : mRow => r.2.1) grw233
theorem cw233 : mCw gP gG 233 ∈ lw_all := cw_of gh233 gn233 gb233 gm233 gr233 q2451
theorem tg233 : mTg gP gG 233 1 := tg_of gn233 gm233 cw233 (by decide) ⟨by decide +kernel, by decide +kernel⟩ (by decide +kernel)
theorem grw234 : gRow 234 = w234 := rfl
theorem gn234 : gN gG 234 = yX4_init := congrArg (fun r : mRow => r.2.2.2.1) grw234
theorem gb234 : gB gG 234 = cX4_init := congrArg (fun r : mRow => r.2.2.2.2.1) grw234
theorem gr234 : gR gG 234 = (none : Option FieldType) := congrArg (fun r : mRow => r.2.2.2.2.2.1) grw234
theorem lv234 : gL gG 234 = 1 := congrArg (fun r : mRow => r.2.2.2.2.2.2.1) grw234
theorem gh234 : gH gG 234 = [] := congrArg (fun r : mRow => r.2.2.2.2.2.2.2) grw234
theorem gm234 : mmax gP 234 = 5 := congrArg (fun r : mRow => r.2.1) grw234
theorem cw234 : mCw gP gG 234 ∈ lw_all := cw_of gh234 gn234 gb234 gm234 gr234 q679
theorem tg234 : mTg gP gG 234 4 := tg_of gn234 gm234 cw234 (by decide) ⟨by decide +kernel, by decide +kernel⟩ (by decide +kernel)
theorem grw235 : gRow 235 = w235 := rfl
theorem gn235 : gN gG 235 = yX4_twin := congrArg (fun r : mRow => r.2.2.2.1) grw235
theorem gb235 : gB gG 235 = cX4_twin := congrArg (fun r : mRow => r.2.2.2.2.1) grw235
theorem gr235 : gR gG 235 = (Option.some (Jvm.ClassFile.FieldType.object "MistCouriers$Bank") : Option FieldType) := congrArg (fun r : mRow => r.2.2.2.2.2.1) grw235
theorem lv235 : gL gG 235 = 2 := congrArg (fun r : mRow => r.2.2.2.2.2.2.1) grw235
theorem gh235 : gH gG 235 = [] := congrArg (fun r : mRow => r.2.2.2.2.2.2.2) grw235
theorem gm235 : mmax gP 235 = 1 := congrArg (fun r : mRow => r.2.1) grw235
theorem cw235 : mCw gP gG 235 ∈ lw_all := cw_of gh235 gn235 gb235 gm235 gr235 q1900
theorem tg235 : mTg gP gG 235 0 := tg_of gn235 gm235 cw235 (by decide) ⟨by decide +kernel, by decide +kernel⟩ (by decide +kernel)
theorem grw236 : gRow 236 = w236 := rfl
theorem gn236 : gN gG 236 = yX5_init := congrArg (fun r : mRow => r.2.2.2.1) grw236
theorem gb236 : gB gG 236 = cX5_init := congrArg (fun r : mRow => r.2.2.2.2.1) grw236
theorem gr236 : gR gG 236 = (none : Option FieldType) := congrArg (fun r : mRow => r.2.2.2.2.2.1) grw236
theorem lv236 : gL gG 236 = 1 := congrArg (fun r : mRow => r.2.2.2.2.2.2.1) grw236
theorem gh236 : gH gG 236 = [] := congrArg (fun r : mRow => r.2.2.2.2.2.2.2) grw236
theorem gm236 : mmax gP 236 = 6 := congrArg (fun r : mRow => r.2.1) grw236
theorem cw236 : mCw gP gG 236 ∈ lw_all := cw_of gh236 gn236 gb236 gm236 gr236 q774
theorem tg236 : mTg gP gG 236 5 := tg_of gn236 gm236 cw236 (by decide) ⟨by decide +kernel, by decide +kernel⟩ (by decide +kernel)
theorem grw237 : gRow 237 = w237 := rfl
theorem gn237 : gN gG 237 = yX5_twin := congrArg (fun r : mRow => r.2.2.2.1) grw237
theorem gb237 : gB gG 237 = cX5_twin := congrArg (fun r : mRow => r.2.2.2.2.1) grw237
theorem gr237 : gR gG 237 = (Option.some (Jvm.ClassFile.FieldType.object "MistCouriers$Watcher") : Option FieldType) := congrArg (fun r : mRow => r.2.2.2.2.2.1) grw237
theorem lv237 : gL gG 237 = 2 := congrArg (fun r : mRow => r.2.2.2.2.2.2.1) grw237
theorem gh237 : gH gG 237 = [] := congrArg (fun r : mRow => r.2.2.2.2.2.2.2) grw237
theorem gm237 : mmax gP 237 = 1 := congrArg (fun r : mRow => r.2.1) grw237
theorem cw237 : mCw gP gG 237 ∈ lw_all := cw_of gh237 gn237 gb237 gm237 gr237 q1906
theorem tg237 : mTg gP gG 237 0 := tg_of gn237 gm237 cw237 (by decide) ⟨by decide +kernel, by decide +kernel⟩ (by decide +kernel)
theorem grw238 : gRow 238 = w238 := rfl
theorem gn238 : gN gG 238 = yX6_init := congrArg (fun r : mRow => r.2.2.2.1) grw238
theorem gb238 : gB gG 238 = cX6_init := congrArg (fun r : mRow => r.2.2.2.2.1) grw238
theorem gr238 : gR gG 238 = (none : Option FieldType) := congrArg (fun r : mRow => r.2.2.2.2.2.1) grw238
theorem lv238 : gL gG 238 = 1 := congrArg (fun r : mRow => r.2.2.2.2.2.2.1) grw238
theorem gh238 : gH gG 238 = [] := congrArg (fun r : mRow => r.2.2.2.2.2.2.2) grw238
theorem gm238 : mmax gP 238 = 2 := congrArg (fun r : mRow => r.2.1) grw238
theorem cw238 : mCw gP gG 238 ∈ lw_all := cw_of gh238 gn238 gb238 gm238 gr238 q811
theorem tg238 : mTg gP gG 238 1 := tg_of gn238 gm238 cw238 (by decide) ⟨by decide +kernel, by decide +kernel⟩ (by decide +kernel)
theorem grw239 : gRow 239 = w239 := rfl
theorem gn239 : gN gG 239 = yX6_hashCode := congrArg (fun r : mRow => r.2.2.2.1) grw239
theorem gb239 : gB gG 239 = cX6_hashCode := congrArg (fun r : mRow => r.2.2.2.2.1) grw239
theorem gr239 : gR gG 239 = (Option.some Jvm.ClassFile.FieldType.int : Option FieldType) := congrArg (fun r : mRow => r.2.2.2.2.2.1) grw239
theorem lv239 : gL gG 239 = 1 := congrArg (fun r : mRow => r.2.2.2.2.2.2.1) grw239
theorem gh239 : gH gG 239 = [] := congrArg (fun r : mRow => r.2.2.2.2.2.2.2) grw239
theorem gm239 : mmax gP 239 = 1 := congrArg (fun r : mRow => r.2.1) grw239
theorem cw239 : mCw gP gG 239 ∈ lw_all := cw_of gh239 gn239 gb239 gm239 gr239 q841
theorem tg239 : mTg gP gG 239 0 := tg_of gn239 gm239 cw239 (by decide) ⟨by decide +kernel, by decide +kernel⟩ (by decide +kernel)
theorem grw240 : gRow 240 = w240 := rfl
theorem gn240 : gN gG 240 = yX6_equals := congrArg (fun r : mRow => r.2.2.2.1) grw240
theorem gb240 : gB gG 240 = cX6_equals := congrArg (fun r : mRow => r.2.2.2.2.1) grw240
theorem gr240 : gR gG 240 = (Option.some Jvm.ClassFile.FieldType.boolean : Option FieldType) := congrArg (fun r : mRow => r.2.2.2.2.2.1) grw240
theorem lv240 : gL gG 240 = 1 := congrArg (fun r : mRow => r.2.2.2.2.2.2.1) grw240
theorem gh240 : gH gG 240 = [] := congrArg (fun r : mRow => r.2.2.2.2.2.2.2) grw240
theorem gm240 : mmax gP 240 = 3 := congrArg (fun r : mRow => r.2.1) grw240
theorem cw240 : mCw gP gG 240 ∈ lw_all := cw_of gh240 gn240 gb240 gm240 gr240 q935
theorem tg240 : mTg gP gG 240 1 := tg_of gn240 gm240 cw240 (by decide) ⟨by decide +kernel, by decide +kernel⟩ (by decide +kernel)
theorem grw241 : gRow 241 = w241 := rfl
theorem gn241 : gN gG 241 = yX7_init := congrArg (fun r : mRow => r.2.2.2.1) grw241
theorem gb241 : gB gG 241 = cX7_init := congrArg (fun r : mRow => r.2.2.2.2.1) grw241
theorem gr241 : gR gG 241 = (none : Option FieldType) := congrArg (fun r : mRow => r.2.2.2.2.2.1) grw241
theorem lv241 : gL gG 241 = 2 := congrArg (fun r : mRow => r.2.2.2.2.2.2.1) grw241
theorem gh241 : gH gG 241 = [] := congrArg (fun r : mRow => r.2.2.2.2.2.2.2) grw241
theorem gm241 : mmax gP 241 = 2 := congrArg (fun r : mRow => r.2.1) grw241
theorem cw241 : mCw gP gG 241 ∈ lw_all := cw_of gh241 gn241 gb241 gm241 gr241 q1331
theorem tg241 : mTg gP gG 241 1 := tg_of gn241 gm241 cw241 (by decide) ⟨by decide +kernel, by decide +kernel⟩ (by decide +kernel)
theorem grw242 : gRow 242 = w242 := rfl
theorem gn242 : gN gG 242 = yX7_init_2 := congrArg (fun r : mRow => r.2.2.2.1) grw242
theorem gb242 : gB gG 242 = cX7_init_2 := congrArg (fun r : mRow => r.2.2.2.2.1) grw242
theorem gr242 : gR gG 242 = (none : Option FieldType) := congrArg (fun r : mRow => r.2.2.2.2.2.1) grw242
theorem lv242 : gL gG 242 = 1 := congrArg (fun r : mRow => r.2.2.2.2.2.2.1) grw242
theorem gh242 : gH gG 242 = [] := congrArg (fun r : mRow => r.2.2.2.2.2.2.2) grw242
theorem gm242 : mmax gP 242 = 3 := congrArg (fun r : mRow => r.2.1) grw242
theorem cw242 : mCw gP gG 242 ∈ lw_all := cw_of gh242 gn242 gb242 gm242 gr242 q1334
theorem tg242 : mTg gP gG 242 2 := tg_of gn242 gm242 cw242 (by decide) ⟨by decide +kernel, by decide +kernel⟩ (by decide +kernel)
theorem grw243 : gRow 243 = w243 := rfl
theorem gn243 : gN gG 243 = yX7_twin := congrArg (fun r : mRow => r.2.2.2.1) grw243
theorem gb243 : gB gG 243 = cX7_twin := congrArg (fun r : mRow => r.2.2.2.2.1) grw243
theorem gr243 : gR gG 243 = (Option.some (Jvm.ClassFile.FieldType.object "MistCouriers$Courier") : Option FieldType) := congrArg (fun r : mRow => r.2.2.2.2.2.1) grw243
theorem lv243 : gL gG 243 = 2 := congrArg (fun r : mRow => r.2.2.2.2.2.2.1) grw243
theorem gh243 : gH gG 243 = [] := congrArg (fun r : mRow => r.2.2.2.2.2.2.2) grw243
theorem gm243 : mmax gP 243 = 2 := congrArg (fun r : mRow => r.2.1) grw243
theorem cw243 : mCw gP gG 243 ∈ lw_all := cw_of gh243 gn243 gb243 gm243 gr243 q1913
theorem tg243 : mTg gP gG 243 0 := tg_of gn243 gm243 cw243 (by decide) ⟨by decide +kernel, by decide +kernel⟩ (by decide +kernel)
theorem grw244 : gRow 244 = w244 := rfl
theorem gn244 : gN gG 244 = yX8_init := congrArg (fun r : mRow => r.2.2.2.1) grw244
theorem gb244 : gB gG 244 = cX8_init := congrArg (fun r : mRow => r.2.2.2.2.1) grw244
theorem gr244 : gR gG 244 = (none : Option FieldType) := congrArg (fun r : mRow => r.2.2.2.2.2.1) grw244
theorem lv244 : gL gG 244 = 1 := congrArg (fun r : mRow => r.2.2.2.2.2.2.1) grw244
theorem gh244 : gH gG 244 = [] := congrArg (fun r : mRow => r.2.2.2.2.2.2.2) grw244
theorem gm244 : mmax gP 244 = 3 := congrArg (fun r : mRow => r.2.1) grw244
theorem cw244 : mCw gP gG 244 ∈ lw_all := cw_of gh244 gn244 gb244 gm244 gr244 q1373
theorem tg244 : mTg gP gG 244 2 := tg_of gn244 gm244 cw244 (by decide) ⟨by decide +kernel, by decide +kernel⟩ (by decide +kernel)
theorem grw245 : gRow 245 = w245 := rfl
theorem gn245 : gN gG 245 = yX8_liesOn := congrArg (fun r : mRow => r.2.2.2.1) grw245
theorem gb245 : gB gG 245 = cX8_liesOn := congrArg (fun r : mRow => r.2.2.2.2.1) grw245
theorem gr245 : gR gG 245 = (Option.some Jvm.ClassFile.FieldType.boolean : Option FieldType) := congrArg (fun r : mRow => r.2.2.2.2.2.1) grw245
theorem lv245 : gL gG 245 = 1 := congrArg (fun r : mRow => r.2.2.2.2.2.2.1) grw245
theorem gh245 : gH gG 245 = [] := congrArg (fun r : mRow => r.2.2.2.2.2.2.2) grw245
theorem gm245 : mmax gP 245 = 2 := congrArg (fun r : mRow => r.2.1) grw245
theorem cw245 : mCw gP gG 245 ∈ lw_all := cw_of gh245 gn245 gb245 gm245 gr245 q1496
theorem tg245 : mTg gP gG 245 1 := tg_of gn245 gm245 cw245 (by decide) ⟨by decide +kernel, by decide +kernel⟩ (by decide +kernel)
theorem grw246 : gRow 246 = w246 := rfl
theorem gn246 : gN gG 246 = yX8_isWith := congrArg (fun r : mRow => r.2.2.2.1) grw246
theorem gb246 : gB gG 246 = cX8_isWith := congrArg (fun r : mRow => r.2.2.2.2.1) grw246
theorem gr246 : gR gG 246 = (Option.some Jvm.ClassFile.FieldType.boolean : Option FieldType) := congrArg (fun r : mRow => r.2.2.2.2.2.1) grw246
theorem lv246 : gL gG 246 = 1 := congrArg (fun r : mRow => r.2.2.2.2.2.2.1) grw246
theorem gh246 : gH gG 246 = [] := congrArg (fun r : mRow => r.2.2.2.2.2.2.2) grw246
theorem gm246 : mmax gP 246 = 2 := congrArg (fun r : mRow => r.2.1) grw246
theorem cw246 : mCw gP gG 246 ∈ lw_all := cw_of gh246 gn246 gb246 gm246 gr246 q1509
theorem tg246 : mTg gP gG 246 1 := tg_of gn246 gm246 cw246 (by decide) ⟨by decide +kernel, by decide +kernel⟩ (by decide +kernel)
theorem grw247 : gRow 247 = w247 := rfl
theorem gn247 : gN gG 247 = yX8_twin := congrArg (fun r : mRow => r.2.2.2.1) grw247
theorem gb247 : gB gG 247 = cX8_twin := congrArg (fun r : mRow => r.2.2.2.2.1) grw247
theorem gr247 : gR gG 247 = (Option.some (Jvm.ClassFile.FieldType.object "MistCouriers$Letter") : Option FieldType) := congrArg (fun r : mRow => r.2.2.2.2.2.1) grw247
theorem lv247 : gL gG 247 = 2 := congrArg (fun r : mRow => r.2.2.2.2.2.2.1) grw247
theorem gh247 : gH gG 247 = [] := congrArg (fun r : mRow => r.2.2.2.2.2.2.2) grw247
theorem gm247 : mmax gP 247 = 2 := congrArg (fun r : mRow => r.2.1) grw247
theorem cw247 : mCw gP gG 247 ∈ lw_all := cw_of gh247 gn247 gb247 gm247 gr247 q1918
theorem tg247 : mTg gP gG 247 0 := tg_of gn247 gm247 cw247 (by decide) ⟨by decide +kernel, by decide +kernel⟩ (by decide +kernel)
theorem grw248 : gRow 248 = w248 := rfl
theorem gn248 : gN gG 248 = yX8_comesTo := congrArg (fun r : mRow => r.2.2.2.1) grw248
theorem gb248 : gB gG 248 = cX8_comesTo := congrArg (fun r : mRow => r.2.2.2.2.1) grw248
theorem gr248 : gR gG 248 = (none : Option FieldType) := congrArg (fun r : mRow => r.2.2.2.2.2.1) grw248
theorem lv248 : gL gG 248 = 1 := congrArg (fun r : mRow => r.2.2.2.2.2.2.1) grw248
theorem gh248 : gH gG 248 = [] := congrArg (fun r : mRow => r.2.2.2.2.2.2.2) grw248
theorem gm248 : mmax gP 248 = 2 := congrArg (fun r : mRow => r.2.1) grw248
theorem cw248 : mCw gP gG 248 ∈ lw_all := cw_of gh248 gn248 gb248 gm248 gr248 q2028
theorem tg248 : mTg gP gG 248 1 := tg_of gn248 gm248 cw248 (by decide) ⟨by decide +kernel, by decide +kernel⟩ (by decide +kernel)
theorem grw249 : gRow 249 = w249 := rfl
theorem gn249 : gN gG 249 = yX9_init := congrArg (fun r : mRow => r.2.2.2.1) grw249
theorem gb249 : gB gG 249 = cX9_init := congrArg (fun r : mRow => r.2.2.2.2.1) grw249
theorem gr249 : gR gG 249 = (none : Option FieldType) := congrArg (fun r : mRow => r.2.2.2.2.2.1) grw249
theorem lv249 : gL gG 249 = 3 := congrArg (fun r : mRow => r.2.2.2.2.2.2.1) grw249
theorem gh249 : gH gG 249 = [] := congrArg (fun r : mRow => r.2.2.2.2.2.2.2) grw249
theorem gm249 : mmax gP 249 = 1 := congrArg (fun r : mRow => r.2.1) grw249
theorem cw249 : mCw gP gG 249 ∈ lw_all := cw_of gh249 gn249 gb249 gm249 gr249 q2475
theorem tg249 : mTg gP gG 249 0 := tg_of gn249 gm249 cw249 (by decide) ⟨by decide +kernel, by decide +kernel⟩ (by decide +kernel)
theorem grw250 : gRow 250 = w250 := rfl
theorem gn250 : gN gG 250 = yX9_addBank := congrArg (fun r : mRow => r.2.2.2.1) grw250
theorem gb250 : gB gG 250 = cX9_addBank := congrArg (fun r : mRow => r.2.2.2.2.1) grw250
theorem gr250 : gR gG 250 = (none : Option FieldType) := congrArg (fun r : mRow => r.2.2.2.2.2.1) grw250
theorem lv250 : gL gG 250 = 1 := congrArg (fun r : mRow => r.2.2.2.2.2.2.1) grw250
theorem gh250 : gH gG 250 = [] := congrArg (fun r : mRow => r.2.2.2.2.2.2.2) grw250
theorem gm250 : mmax gP 250 = 6 := congrArg (fun r : mRow => r.2.1) grw250
theorem cw250 : mCw gP gG 250 ∈ lw_all := cw_of gh250 gn250 gb250 gm250 gr250 q2480
theorem tg250 : mTg gP gG 250 4 := tg_of gn250 gm250 cw250 (by decide) ⟨by decide +kernel, by decide +kernel⟩ (by decide +kernel)
theorem grw251 : gRow 251 = w251 := rfl
theorem gn251 : gN gG 251 = yX9_addWatcher := congrArg (fun r : mRow => r.2.2.2.1) grw251
theorem gb251 : gB gG 251 = cX9_addWatcher := congrArg (fun r : mRow => r.2.2.2.2.1) grw251
theorem gr251 : gR gG 251 = (none : Option FieldType) := congrArg (fun r : mRow => r.2.2.2.2.2.1) grw251
theorem lv251 : gL gG 251 = 1 := congrArg (fun r : mRow => r.2.2.2.2.2.2.1) grw251
theorem gh251 : gH gG 251 = [] := congrArg (fun r : mRow => r.2.2.2.2.2.2.2) grw251
theorem gm251 : mmax gP 251 = 6 := congrArg (fun r : mRow => r.2.1) grw251
theorem cw251 : mCw gP gG 251 ∈ lw_all := cw_of gh251 gn251 gb251 gm251 gr251 q2484
theorem tg251 : mTg gP gG 251 4 := tg_of gn251 gm251 cw251 (by decide) ⟨by decide +kernel, by decide +kernel⟩ (by decide +kernel)
theorem grw252 : gRow 252 = w252 := rfl
theorem gn252 : gN gG 252 = yX9_addCourier := congrArg (fun r : mRow => r.2.2.2.1) grw252
theorem gb252 : gB gG 252 = cX9_addCourier := congrArg (fun r : mRow => r.2.2.2.2.1) grw252
theorem gr252 : gR gG 252 = (none : Option FieldType) := congrArg (fun r : mRow => r.2.2.2.2.2.1) grw252
theorem lv252 : gL gG 252 = 2 := congrArg (fun r : mRow => r.2.2.2.2.2.2.1) grw252
theorem gh252 : gH gG 252 = [] := congrArg (fun r : mRow => r.2.2.2.2.2.2.2) grw252
theorem gm252 : mmax gP 252 = 2 := congrArg (fun r : mRow => r.2.1) grw252
theorem cw252 : mCw gP gG 252 ∈ lw_all := cw_of gh252 gn252 gb252 gm252 gr252 q2488
theorem tg252 : mTg gP gG 252 1 := tg_of gn252 gm252 cw252 (by decide) ⟨by decide +kernel, by decide +kernel⟩ (by decide +kernel)
theorem grw253 : gRow 253 = w253 := rfl
theorem gn253 : gN gG 253 = yX9_lay := congrArg (fun r : mRow => r.2.2.2.1) grw253
theorem gb253 : gB gG 253 = cX9_lay := congrArg (fun r : mRow => r.2.2.2.2.1) grw253
theorem gr253 : gR gG 253 = (none : Option FieldType) := congrArg (fun r : mRow => r.2.2.2.2.2.1) grw253
theorem lv253 : gL gG 253 = 1 := congrArg (fun r : mRow => r.2.2.2.2.2.2.1) grw253
theorem gh253 : gH gG 253 = [] := congrArg (fun r : mRow => r.2.2.2.2.2.2.2) grw253
theorem gm253 : mmax gP 253 = 4 := congrArg (fun r : mRow => r.2.1) grw253
theorem cw253 : mCw gP gG 253 ∈ lw_all := cw_of gh253 gn253 gb253 gm253 gr253 q2492
theorem tg253 : mTg gP gG 253 3 := tg_of gn253 gm253 cw253 (by decide) ⟨by decide +kernel, by decide +kernel⟩ (by decide +kernel)
theorem grw254 : gRow 254 = w254 := rfl
theorem gn254 : gN gG 254 = yX9_addLetter := congrArg (fun r : mRow => r.2.2.2.1) grw254
theorem gb254 : gB gG 254 = cX9_addLetter := congrArg (fun r : mRow => r.2.2.2.2.1) grw254
theorem gr254 : gR gG 254 = (none : Option FieldType) := congrArg (fun r : mRow => r.2.2.2.2.2.1) grw254
theorem lv254 : gL gG 254 = 2 := congrArg (fun r : mRow => r.2.2.2.2.2.2.1) grw254
theorem gh254 : gH gG 254 = [] := congrArg (fun r : mRow => r.2.2.2.2.2.2.2) grw254
theorem gm254 : mmax gP 254 = 4 := congrArg (fun r : mRow => r.2.1) grw254
theorem cw254 : mCw gP gG 254 ∈ lw_all := cw_of gh254 gn254 gb254 gm254 gr254 q2496
theorem tg254 : mTg gP gG 254 2 := tg_of gn254 gm254 cw254 (by decide) ⟨by decide +kernel, by decide +kernel⟩ (by decide +kernel)
theorem grw255 : gRow 255 = w255 := rfl
theorem gn255 : gN gG 255 = yX9_layOfLetter := congrArg (fun r : mRow => r.2.2.2.1) grw255
theorem gb255 : gB gG 255 = cX9_layOfLetter := congrArg (fun r : mRow => r.2.2.2.2.1) grw255
theorem gr255 : gR gG 255 = (none : Option FieldType) := congrArg (fun r : mRow => r.2.2.2.2.2.1) grw255
theorem lv255 : gL gG 255 = 1 := congrArg (fun r : mRow => r.2.2.2.2.2.2.1) grw255
theorem gh255 : gH gG 255 = [] := congrArg (fun r : mRow => r.2.2.2.2.2.2.2) grw255
theorem gm255 : mmax gP 255 = 4 := congrArg (fun r : mRow => r.2.1) grw255
theorem cw255 : mCw gP gG 255 ∈ lw_all := cw_of gh255 gn255 gb255 gm255 gr255 q2500
theorem tg255 : mTg gP gG 255 3 := tg_of gn255 gm255 cw255 (by decide) ⟨by decide +kernel, by decide +kernel⟩ (by decide +kernel)
theorem grw256 : gRow 256 = w256 := rfl
theorem gn256 : gN gG 256 = yX9_thrown := congrArg (fun r : mRow => r.2.2.2.1) grw256
theorem gb256 : gB gG 256 = cX9_thrown := congrArg (fun r : mRow => r.2.2.2.2.1) grw256
theorem gr256 : gR gG 256 = (Option.some Jvm.ClassFile.FieldType.int : Option FieldType) := congrArg (fun r : mRow => r.2.2.2.2.2.1) grw256
theorem lv256 : gL gG 256 = 1 := congrArg (fun r : mRow => r.2.2.2.2.2.2.1) grw256
theorem gh256 : gH gG 256 = [] := congrArg (fun r : mRow => r.2.2.2.2.2.2.2) grw256
theorem gm256 : mmax gP 256 = 1 := congrArg (fun r : mRow => r.2.1) grw256
theorem cw256 : mCw gP gG 256 ∈ lw_all := cw_of gh256 gn256 gb256 gm256 gr256 q2577
theorem tg256 : mTg gP gG 256 0 := tg_of gn256 gm256 cw256 (by decide) ⟨by decide +kernel, by decide +kernel⟩ (by decide +kernel)
theorem grw257 : gRow 257 = w257 := rfl
theorem gn257 : gN gG 257 = yX9_appendText := congrArg (fun r : mRow => r.2.2.2.1) grw257
theorem gb257 : gB gG 257 = cX9_appendText := congrArg (fun r : mRow => r.2.2.2.2.1) grw257
theorem gr257 : gR gG 257 = (Option.some Jvm.ClassFile.FieldType.int : Option FieldType) := congrArg (fun r : mRow => r.2.2.2.2.2.1) grw257
theorem lv257 : gL gG 257 = 2 := congrArg (fun r : mRow => r.2.2.2.2.2.2.1) grw257
theorem gh257 : gH gG 257 = [] := congrArg (fun r : mRow => r.2.2.2.2.2.2.2) grw257
theorem gm257 : mmax gP 257 = 3 := congrArg (fun r : mRow => r.2.1) grw257
theorem cw257 : mCw gP gG 257 ∈ lw_all := cw_of gh257 gn257 gb257 gm257 gr257 q2581
theorem tg257 : mTg gP gG 257 1 := tg_of gn257 gm257 cw257 (by decide) ⟨by decide +kernel, by decide +kernel⟩ (by decide +kernel)
theorem grw258 : gRow 258 = w258 := rfl
theorem gn258 : gN gG 258 = yX9_fail := congrArg (fun r : mRow => r.2.2.2.1) grw258
theorem gb258 : gB gG 258 = cX9_fail := congrArg (fun r : mRow => r.2.2.2.2.1) grw258
theorem gr258 : gR gG 258 = (Option.some Jvm.ClassFile.FieldType.int : Option FieldType) := congrArg (fun r : mRow => r.2.2.2.2.2.1) grw258
theorem lv258 : gL gG 258 = 1 := congrArg (fun r : mRow => r.2.2.2.2.2.2.1) grw258
theorem gh258 : gH gG 258 = [] := congrArg (fun r : mRow => r.2.2.2.2.2.2.2) grw258
theorem gm258 : mmax gP 258 = 2 := congrArg (fun r : mRow => r.2.1) grw258
theorem cw258 : mCw gP gG 258 ∈ lw_all := cw_of gh258 gn258 gb258 gm258 gr258 q2585
theorem tg258 : mTg gP gG 258 1 := tg_of gn258 gm258 cw258 (by decide) ⟨by decide +kernel, by decide +kernel⟩ (by decide +kernel)
theorem grw259 : gRow 259 = w259 := rfl
theorem gn259 : gN gG 259 = yX9_truncateText := congrArg (fun r : mRow => r.2.2.2.1) grw259
theorem gb259 : gB gG 259 = cX9_truncateText := congrArg (fun r : mRow => r.2.2.2.2.1) grw259
theorem gr259 : gR gG 259 = (Option.some Jvm.ClassFile.FieldType.int : Option FieldType) := congrArg (fun r : mRow => r.2.2.2.2.2.1) grw259
theorem lv259 : gL gG 259 = 2 := congrArg (fun r : mRow => r.2.2.2.2.2.2.1) grw259
theorem gh259 : gH gG 259 = [] := congrArg (fun r : mRow => r.2.2.2.2.2.2.2) grw259
theorem gm259 : mmax gP 259 = 2 := congrArg (fun r : mRow => r.2.1) grw259
theorem cw259 : mCw gP gG 259 ∈ lw_all := cw_of gh259 gn259 gb259 gm259 gr259 q2589
theorem tg259 : mTg gP gG 259 1 := tg_of gn259 gm259 cw259 (by decide) ⟨by decide +kernel, by decide +kernel⟩ (by decide +kernel)
theorem grw260 : gRow 260 = w260 := rfl
theorem gn260 : gN gG 260 = yX9_isBetween := congrArg (fun r : mRow => r.2.2.2.1) grw260
theorem gb260 : gB gG 260 = cX9_isBetween := congrArg (fun r : mRow => r.2.2.2.2.1) grw260
theorem gr260 : gR gG 260 = (Option.some Jvm.ClassFile.FieldType.boolean : Option FieldType) := congrArg (fun r : mRow => r.2.2.2.2.2.1) grw260
theorem lv260 : gL gG 260 = 1 := congrArg (fun r : mRow => r.2.2.2.2.2.2.1) grw260
theorem gh260 : gH gG 260 = [] := congrArg (fun r : mRow => r.2.2.2.2.2.2.2) grw260
theorem gm260 : mmax gP 260 = 3 := congrArg (fun r : mRow => r.2.1) grw260
theorem cw260 : mCw gP gG 260 ∈ lw_all := cw_of gh260 gn260 gb260 gm260 gr260 q2592
theorem tg260 : mTg gP gG 260 3 := tg_of gn260 gm260 cw260 (by decide) ⟨by decide +kernel, by decide +kernel⟩ (by decide +kernel)
theorem grw261 : gRow 261 = w261 := rfl
theorem gn261 : gN gG 261 = yX9_load := congrArg (fun r : mRow => r.2.2.2.1) grw261
theorem gb261 : gB gG 261 = cX9_load := congrArg (fun r : mRow => r.2.2.2.2.1) grw261
theorem gr261 : gR gG 261 = (Option.some Jvm.ClassFile.FieldType.int : Option FieldType) := congrArg (fun r : mRow => r.2.2.2.2.2.1) grw261
theorem lv261 : gL gG 261 = 9 := congrArg (fun r : mRow => r.2.2.2.2.2.2.1) grw261
theorem gh261 : gH gG 261 = [] := congrArg (fun r : mRow => r.2.2.2.2.2.2.2) grw261
theorem gm261 : mmax gP 261 = 2 := congrArg (fun r : mRow => r.2.1) grw261
theorem cw261 : mCw gP gG 261 ∈ lw_all := cw_of gh261 gn261 gb261 gm261 gr261 q2596
theorem tg261 : mTg gP gG 261 0 := tg_of gn261 gm261 cw261 (by decide) ⟨by decide +kernel, by decide +kernel⟩ (by decide +kernel)
theorem grw262 : gRow 262 = w262 := rfl
theorem gn262 : gN gG 262 = yX9_copy := congrArg (fun r : mRow => r.2.2.2.1) grw262
theorem gb262 : gB gG 262 = cX9_copy := congrArg (fun r : mRow => r.2.2.2.2.1) grw262
theorem gr262 : gR gG 262 = (none : Option FieldType) := congrArg (fun r : mRow => r.2.2.2.2.2.1) grw262
theorem lv262 : gL gG 262 = 1 := congrArg (fun r : mRow => r.2.2.2.2.2.2.1) grw262
theorem gh262 : gH gG 262 = [] := congrArg (fun r : mRow => r.2.2.2.2.2.2.2) grw262
theorem gm262 : mmax gP 262 = 5 := congrArg (fun r : mRow => r.2.1) grw262
theorem cw262 : mCw gP gG 262 ∈ lw_all := cw_of gh262 gn262 gb262 gm262 gr262 q2599
theorem tg262 : mTg gP gG 262 4 := tg_of gn262 gm262 cw262 (by decide) ⟨by decide +kernel, by decide +kernel⟩ (by decide +kernel)
theorem grw263 : gRow 263 = w263 := rfl
theorem gn263 : gN gG 263 = yX9_startText := congrArg (fun r : mRow => r.2.2.2.1) grw263
theorem gb263 : gB gG 263 = cX9_startText := congrArg (fun r : mRow => r.2.2.2.2.1) grw263
theorem gr263 : gR gG 263 = (none : Option FieldType) := congrArg (fun r : mRow => r.2.2.2.2.2.1) grw263
theorem lv263 : gL gG 263 = 4 := congrArg (fun r : mRow => r.2.2.2.2.2.2.1) grw263
theorem gh263 : gH gG 263 = [] := congrArg (fun r : mRow => r.2.2.2.2.2.2.2) grw263
theorem gm263 : mmax gP 263 = 1 := congrArg (fun r : mRow => r.2.1) grw263
theorem cw263 : mCw gP gG 263 ∈ lw_all := cw_of gh263 gn263 gb263 gm263 gr263 q2603
theorem tg263 : mTg gP gG 263 0 := tg_of gn263 gm263 cw263 (by decide) ⟨by decide +kernel, by decide +kernel⟩ (by decide +kernel)
theorem grw264 : gRow 264 = w264 := rfl
theorem gn264 : gN gG 264 = yX9_proceed := congrArg (fun r : mRow => r.2.2.2.1) grw264
theorem gb264 : gB gG 264 = cX9_proceed := congrArg (fun r : mRow => r.2.2.2.2.1) grw264
theorem gr264 : gR gG 264 = (none : Option FieldType) := congrArg (fun r : mRow => r.2.2.2.2.2.1) grw264
theorem lv264 : gL gG 264 = 3 := congrArg (fun r : mRow => r.2.2.2.2.2.2.1) grw264
theorem gh264 : gH gG 264 = [] := congrArg (fun r : mRow => r.2.2.2.2.2.2.2) grw264
theorem gm264 : mmax gP 264 = 2 := congrArg (fun r : mRow => r.2.1) grw264
theorem cw264 : mCw gP gG 264 ∈ lw_all := cw_of gh264 gn264 gb264 gm264 gr264 q2607
theorem tg264 : mTg gP gG 264 0 := tg_of gn264 gm264 cw264 (by decide) ⟨by decide +kernel, by decide +kernel⟩ (by decide +kernel)
theorem grw265 : gRow 265 = w265 := rfl
theorem gn265 : gN gG 265 = yX9_isFine := congrArg (fun r : mRow => r.2.2.2.1) grw265
theorem gb265 : gB gG 265 = cX9_isFine := congrArg (fun r : mRow => r.2.2.2.2.1) grw265
theorem gr265 : gR gG 265 = (Option.some Jvm.ClassFile.FieldType.boolean : Option FieldType) := congrArg (fun r : mRow => r.2.2.2.2.2.1) grw265
theorem lv265 : gL gG 265 = 1 := congrArg (fun r : mRow => r.2.2.2.2.2.2.1) grw265
theorem gh265 : gH gG 265 = [] := congrArg (fun r : mRow => r.2.2.2.2.2.2.2) grw265
theorem gm265 : mmax gP 265 = 1 := congrArg (fun r : mRow => r.2.1) grw265
theorem cw265 : mCw gP gG 265 ∈ lw_all := cw_of gh265 gn265 gb265 gm265 gr265 q2611
theorem tg265 : mTg gP gG 265 0 := tg_of gn265 gm265 cw265 (by decide) ⟨by decide +kernel, by decide +kernel⟩ (by decide +kernel)
theorem grw266 : gRow 266 = w266 := rfl
theorem gn266 : gN gG 266 = yX9_byteAt := congrArg (fun r : mRow => r.2.2.2.1) grw266
theorem gb266 : gB gG 266 = cX9_byteAt := congrArg (fun r : mRow => r.2.2.2.2.1) grw266
theorem gr266 : gR gG 266 = (Option.some Jvm.ClassFile.FieldType.int : Option FieldType) := congrArg (fun r : mRow => r.2.2.2.2.2.1) grw266
theorem lv266 : gL gG 266 = 1 := congrArg (fun r : mRow => r.2.2.2.2.2.2.1) grw266
theorem gh266 : gH gG 266 = [] := congrArg (fun r : mRow => r.2.2.2.2.2.2.2) grw266
theorem gm266 : mmax gP 266 = 2 := congrArg (fun r : mRow => r.2.1) grw266
theorem cw266 : mCw gP gG 266 ∈ lw_all := cw_of gh266 gn266 gb266 gm266 gr266 q2615
theorem tg266 : mTg gP gG 266 1 := tg_of gn266 gm266 cw266 (by decide) ⟨by decide +kernel, by decide +kernel⟩ (by decide +kernel)
theorem grw267 : gRow 267 = w267 := rfl
theorem gn267 : gN gG 267 = yX9_isSmall := congrArg (fun r : mRow => r.2.2.2.1) grw267
theorem gb267 : gB gG 267 = cX9_isSmall := congrArg (fun r : mRow => r.2.2.2.2.1) grw267
theorem gr267 : gR gG 267 = (Option.some Jvm.ClassFile.FieldType.boolean : Option FieldType) := congrArg (fun r : mRow => r.2.2.2.2.2.1) grw267
theorem lv267 : gL gG 267 = 2 := congrArg (fun r : mRow => r.2.2.2.2.2.2.1) grw267
theorem gh267 : gH gG 267 = [] := congrArg (fun r : mRow => r.2.2.2.2.2.2.2) grw267
theorem gm267 : mmax gP 267 = 1 := congrArg (fun r : mRow => r.2.1) grw267
theorem cw267 : mCw gP gG 267 ∈ lw_all := cw_of gh267 gn267 gb267 gm267 gr267 q2618
theorem tg267 : mTg gP gG 267 1 := tg_of gn267 gm267 cw267 (by decide) ⟨by decide +kernel, by decide +kernel⟩ (by decide +kernel)
theorem grw268 : gRow 268 = w268 := rfl
theorem gn268 : gN gG 268 = yX9_isDigit := congrArg (fun r : mRow => r.2.2.2.1) grw268
theorem gb268 : gB gG 268 = cX9_isDigit := congrArg (fun r : mRow => r.2.2.2.2.1) grw268
theorem gr268 : gR gG 268 = (Option.some Jvm.ClassFile.FieldType.boolean : Option FieldType) := congrArg (fun r : mRow => r.2.2.2.2.2.1) grw268
theorem lv268 : gL gG 268 = 2 := congrArg (fun r : mRow => r.2.2.2.2.2.2.1) grw268
theorem gh268 : gH gG 268 = [] := congrArg (fun r : mRow => r.2.2.2.2.2.2.2) grw268
theorem gm268 : mmax gP 268 = 1 := congrArg (fun r : mRow => r.2.1) grw268
theorem cw268 : mCw gP gG 268 ∈ lw_all := cw_of gh268 gn268 gb268 gm268 gr268 q2621
theorem tg268 : mTg gP gG 268 1 := tg_of gn268 gm268 cw268 (by decide) ⟨by decide +kernel, by decide +kernel⟩ (by decide +kernel)
theorem grw269 : gRow 269 = w269 := rfl
theorem gn269 : gN gG 269 = yX9_parseMist := congrArg (fun r : mRow => r.2.2.2.1) grw269
theorem gb269 : gB gG 269 = cX9_parseMist := congrArg (fun r : mRow => r.2.2.2.2.1) grw269
theorem gr269 : gR gG 269 = (none : Option FieldType) := congrArg (fun r : mRow => r.2.2.2.2.2.1) grw269
theorem lv269 : gL gG 269 = 8 := congrArg (fun r : mRow => r.2.2.2.2.2.2.1) grw269
theorem gh269 : gH gG 269 = [] := congrArg (fun r : mRow => r.2.2.2.2.2.2.2) grw269
theorem gm269 : mmax gP 269 = 1 := congrArg (fun r : mRow => r.2.1) grw269
theorem cw269 : mCw gP gG 269 ∈ lw_all := cw_of gh269 gn269 gb269 gm269 gr269 q2627
theorem tg269 : mTg gP gG 269 0 := tg_of gn269 gm269 cw269 (by decide) ⟨by decide +kernel, by decide +kernel⟩ (by decide +kernel)
theorem grw270 : gRow 270 = w270 := rfl
theorem gn270 : gN gG 270 = yX9_isWord := congrArg (fun r : mRow => r.2.2.2.1) grw270
theorem gb270 : gB gG 270 = cX9_isWord := congrArg (fun r : mRow => r.2.2.2.2.1) grw270
theorem gr270 : gR gG 270 = (Option.some Jvm.ClassFile.FieldType.boolean : Option FieldType) := congrArg (fun r : mRow => r.2.2.2.2.2.1) grw270
theorem lv270 : gL gG 270 = 5 := congrArg (fun r : mRow => r.2.2.2.2.2.2.1) grw270
theorem gh270 : gH gG 270 = [] := congrArg (fun r : mRow => r.2.2.2.2.2.2.2) grw270
theorem gm270 : mmax gP 270 = 3 := congrArg (fun r : mRow => r.2.1) grw270
theorem cw270 : mCw gP gG 270 ∈ lw_all := cw_of gh270 gn270 gb270 gm270 gr270 q2632
theorem tg270 : mTg gP gG 270 1 := tg_of gn270 gm270 cw270 (by decide) ⟨by decide +kernel, by decide +kernel⟩ (by decide +kernel)
theorem grw271 : gRow 271 = w271 := rfl
theorem gn271 : gN gG 271 = yX9_require := congrArg (fun r : mRow => r.2.2.2.1) grw271
theorem gb271 : gB gG 271 = cX9_require := congrArg (fun r : mRow => r.2.2.2.2.1) grw271
theorem gr271 : gR gG 271 = (none : Option FieldType) := congrArg (fun r : mRow => r.2.2.2.2.2.1) grw271
theorem lv271 : gL gG 271 = 2 := congrArg (fun r : mRow => r.2.2.2.2.2.2.1) grw271
theorem gh271 : gH gG 271 = [] := congrArg (fun r : mRow => r.2.2.2.2.2.2.2) grw271
theorem gm271 : mmax gP 271 = 3 := congrArg (fun r : mRow => r.2.1) grw271
theorem cw271 : mCw gP gG 271 ∈ lw_all := cw_of gh271 gn271 gb271 gm271 gr271 q2648
theorem tg271 : mTg gP gG 271 2 := tg_of gn271 gm271 cw271 (by decide) ⟨by decide +kernel, by decide +kernel⟩ (by decide +kernel)
theorem grw272 : gRow 272 = w272 := rfl
theorem gn272 : gN gG 272 = yX9_parseRange := congrArg (fun r : mRow => r.2.2.2.1) grw272
theorem gb272 : gB gG 272 = cX9_parseRange := congrArg (fun r : mRow => r.2.2.2.2.1) grw272
theorem gr272 : gR gG 272 = (Option.some Jvm.ClassFile.FieldType.int : Option FieldType) := congrArg (fun r : mRow => r.2.2.2.2.2.1) grw272
theorem lv272 : gL gG 272 = 5 := congrArg (fun r : mRow => r.2.2.2.2.2.2.1) grw272
theorem gh272 : gH gG 272 = [] := congrArg (fun r : mRow => r.2.2.2.2.2.2.2) grw272
theorem gm272 : mmax gP 272 = 3 := congrArg (fun r : mRow => r.2.1) grw272
theorem cw272 : mCw gP gG 272 ∈ lw_all := cw_of gh272 gn272 gb272 gm272 gr272 q2652
theorem tg272 : mTg gP gG 272 2 := tg_of gn272 gm272 cw272 (by decide) ⟨by decide +kernel, by decide +kernel⟩ (by decide +kernel)
theorem grw273 : gRow 273 = w273 := rfl
theorem gn273 : gN gG 273 = yX9_parseNumber := congrArg (fun r : mRow => r.2.2.2.1) grw273
theorem gb273 : gB gG 273 = cX9_parseNumber := congrArg (fun r : mRow => r.2.2.2.2.1) grw273
theorem gr273 : gR gG 273 = (Option.some Jvm.ClassFile.FieldType.int : Option FieldType) := congrArg (fun r : mRow => r.2.2.2.2.2.1) grw273
theorem lv273 : gL gG 273 = 4 := congrArg (fun r : mRow => r.2.2.2.2.2.2.1) grw273
theorem gh273 : gH gG 273 = [] := congrArg (fun r : mRow => r.2.2.2.2.2.2.2) grw273
theorem gm273 : mmax gP 273 = 4 := congrArg (fun r : mRow => r.2.1) grw273
theorem cw273 : mCw gP gG 273 ∈ lw_all := cw_of gh273 gn273 gb273 gm273 gr273 q2656
theorem tg273 : mTg gP gG 273 2 := tg_of gn273 gm273 cw273 (by decide) ⟨by decide +kernel, by decide +kernel⟩ (by decide +kernel)
theorem grw274 : gRow 274 = w274 := rfl
theorem gn274 : gN gG 274 = yX9_parseEnd := congrArg (fun r : mRow => r.2.2.2.1) grw274
theorem gb274 : gB gG 274 = cX9_parseEnd := congrArg (fun r : mRow => r.2.2.2.2.1) grw274
theorem gr274 : gR gG 274 = (none : Option FieldType) := congrArg (fun r : mRow => r.2.2.2.2.2.1) grw274
theorem lv274 : gL gG 274 = 4 := congrArg (fun r : mRow => r.2.2.2.2.2.2.1) grw274
theorem gh274 : gH gG 274 = [] := congrArg (fun r : mRow => r.2.2.2.2.2.2.2) grw274
theorem gm274 : mmax gP 274 = 1 := congrArg (fun r : mRow => r.2.1) grw274
theorem cw274 : mCw gP gG 274 ∈ lw_all := cw_of gh274 gn274 gb274 gm274 gr274 q2660
theorem tg274 : mTg gP gG 274 0 := tg_of gn274 gm274 cw274 (by decide) ⟨by decide +kernel, by decide +kernel⟩ (by decide +kernel)
theorem grw275 : gRow 275 = w275 := rfl
theorem gn275 : gN gG 275 = yX9_parseLine := congrArg (fun r : mRow => r.2.2.2.1) grw275
theorem gb275 : gB gG 275 = cX9_parseLine := congrArg (fun r : mRow => r.2.2.2.2.1) grw275
theorem gr275 : gR gG 275 = (none : Option FieldType) := congrArg (fun r : mRow => r.2.2.2.2.2.1) grw275
theorem lv275 : gL gG 275 = 7 := congrArg (fun r : mRow => r.2.2.2.2.2.2.1) grw275
theorem gh275 : gH gG 275 = [] := congrArg (fun r : mRow => r.2.2.2.2.2.2.2) grw275
theorem gm275 : mmax gP 275 = 1 := congrArg (fun r : mRow => r.2.1) grw275
theorem cw275 : mCw gP gG 275 ∈ lw_all := cw_of gh275 gn275 gb275 gm275 gr275 q2664
theorem tg275 : mTg gP gG 275 0 := tg_of gn275 gm275 cw275 (by decide) ⟨by decide +kernel, by decide +kernel⟩ (by decide +kernel)
theorem grw276 : gRow 276 = w276 := rfl
theorem gn276 : gN gG 276 = yX9_parseWall := congrArg (fun r : mRow => r.2.2.2.1) grw276
theorem gb276 : gB gG 276 = cX9_parseWall := congrArg (fun r : mRow => r.2.2.2.2.1) grw276
theorem gr276 : gR gG 276 = (none : Option FieldType) := congrArg (fun r : mRow => r.2.2.2.2.2.1) grw276
theorem lv276 : gL gG 276 = 5 := congrArg (fun r : mRow => r.2.2.2.2.2.2.1) grw276
theorem gh276 : gH gG 276 = [] := congrArg (fun r : mRow => r.2.2.2.2.2.2.2) grw276
theorem gm276 : mmax gP 276 = 2 := congrArg (fun r : mRow => r.2.1) grw276
theorem cw276 : mCw gP gG 276 ∈ lw_all := cw_of gh276 gn276 gb276 gm276 gr276 q2669
theorem tg276 : mTg gP gG 276 0 := tg_of gn276 gm276 cw276 (by decide) ⟨by decide +kernel, by decide +kernel⟩ (by decide +kernel)
theorem grw277 : gRow 277 = w277 := rfl
theorem gn277 : gN gG 277 = yX9_parseCell := congrArg (fun r : mRow => r.2.2.2.1) grw277
theorem gb277 : gB gG 277 = cX9_parseCell := congrArg (fun r : mRow => r.2.2.2.2.1) grw277
theorem gr277 : gR gG 277 = (Option.some Jvm.ClassFile.FieldType.int : Option FieldType) := congrArg (fun r : mRow => r.2.2.2.2.2.1) grw277
theorem lv277 : gL gG 277 = 4 := congrArg (fun r : mRow => r.2.2.2.2.2.2.1) grw277
theorem gh277 : gH gG 277 = [] := congrArg (fun r : mRow => r.2.2.2.2.2.2.2) grw277
theorem gm277 : mmax gP 277 = 4 := congrArg (fun r : mRow => r.2.1) grw277
theorem cw277 : mCw gP gG 277 ∈ lw_all := cw_of gh277 gn277 gb277 gm277 gr277 q2673
theorem tg277 : mTg gP gG 277 2 := tg_of gn277 gm277 cw277 (by decide) ⟨by decide +kernel, by decide +kernel⟩ (by decide +kernel)
theorem grw278 : gRow 278 = w278 := rfl
theorem gn278 : gN gG 278 = yX9_cells := congrArg (fun r : mRow => r.2.2.2.1) grw278
theorem gb278 : gB gG 278 = cX9_cells := congrArg (fun r : mRow => r.2.2.2.2.1) grw278
theorem gr278 : gR gG 278 = (Option.some Jvm.ClassFile.FieldType.int : Option FieldType) := congrArg (fun r : mRow => r.2.2.2.2.2.1) grw278
theorem lv278 : gL gG 278 = 1 := congrArg (fun r : mRow => r.2.2.2.2.2.2.1) grw278
theorem gh278 : gH gG 278 = [] := congrArg (fun r : mRow => r.2.2.2.2.2.2.2) grw278
theorem gm278 : mmax gP 278 = 1 := congrArg (fun r : mRow => r.2.1) grw278
theorem cw278 : mCw gP gG 278 ∈ lw_all := cw_of gh278 gn278 gb278 gm278 gr278 q2677
theorem tg278 : mTg gP gG 278 0 := tg_of gn278 gm278 cw278 (by decide) ⟨by decide +kernel, by decide +kernel⟩ (by decide +kernel)
theorem grw279 : gRow 279 = w279 := rfl
theorem gn279 : gN gG 279 = yX9_isWall := congrArg (fun r : mRow => r.2.2.2.1) grw279
theorem gb279 : gB gG 279 = cX9_isWall := congrArg (fun r : mRow => r.2.2.2.2.1) grw279
theorem gr279 : gR gG 279 = (Option.some Jvm.ClassFile.FieldType.boolean : Option FieldType) := congrArg (fun r : mRow => r.2.2.2.2.2.1) grw279
theorem lv279 : gL gG 279 = 1 := congrArg (fun r : mRow => r.2.2.2.2.2.2.1) grw279
theorem gh279 : gH gG 279 = [] := congrArg (fun r : mRow => r.2.2.2.2.2.2.2) grw279
theorem gm279 : mmax gP 279 = 2 := congrArg (fun r : mRow => r.2.1) grw279
theorem cw279 : mCw gP gG 279 ∈ lw_all := cw_of gh279 gn279 gb279 gm279 gr279 q2681
theorem tg279 : mTg gP gG 279 1 := tg_of gn279 gm279 cw279 (by decide) ⟨by decide +kernel, by decide +kernel⟩ (by decide +kernel)
theorem grw280 : gRow 280 = w280 := rfl
theorem gn280 : gN gG 280 = yX9_isTold := congrArg (fun r : mRow => r.2.2.2.1) grw280
theorem gb280 : gB gG 280 = cX9_isTold := congrArg (fun r : mRow => r.2.2.2.2.1) grw280
theorem gr280 : gR gG 280 = (Option.some Jvm.ClassFile.FieldType.boolean : Option FieldType) := congrArg (fun r : mRow => r.2.2.2.2.2.1) grw280
theorem lv280 : gL gG 280 = 2 := congrArg (fun r : mRow => r.2.2.2.2.2.2.1) grw280
theorem gh280 : gH gG 280 = [] := congrArg (fun r : mRow => r.2.2.2.2.2.2.2) grw280
theorem gm280 : mmax gP 280 = 3 := congrArg (fun r : mRow => r.2.1) grw280
theorem cw280 : mCw gP gG 280 ∈ lw_all := cw_of gh280 gn280 gb280 gm280 gr280 q2685
theorem tg280 : mTg gP gG 280 1 := tg_of gn280 gm280 cw280 (by decide) ⟨by decide +kernel, by decide +kernel⟩ (by decide +kernel)
theorem grw281 : gRow 281 = w281 := rfl
theorem gn281 : gN gG 281 = yX9_ofWatcher := congrArg (fun r : mRow => r.2.2.2.1) grw281
theorem gb281 : gB gG 281 = cX9_ofWatcher := congrArg (fun r : mRow => r.2.2.2.2.1) grw281
theorem gr281 : gR gG 281 = (Option.some Jvm.ClassFile.FieldType.int : Option FieldType) := congrArg (fun r : mRow => r.2.2.2.2.2.1) grw281
theorem lv281 : gL gG 281 = 1 := congrArg (fun r : mRow => r.2.2.2.2.2.2.1) grw281
theorem gh281 : gH gG 281 = [] := congrArg (fun r : mRow => r.2.2.2.2.2.2.2) grw281
theorem gm281 : mmax gP 281 = 3 := congrArg (fun r : mRow => r.2.1) grw281
theorem cw281 : mCw gP gG 281 ∈ lw_all := cw_of gh281 gn281 gb281 gm281 gr281 q2689
theorem tg281 : mTg gP gG 281 2 := tg_of gn281 gm281 cw281 (by decide) ⟨by decide +kernel, by decide +kernel⟩ (by decide +kernel)
theorem grw282 : gRow 282 = w282 := rfl
theorem gn282 : gN gG 282 = yX9_of := congrArg (fun r : mRow => r.2.2.2.1) grw282
theorem gb282 : gB gG 282 = cX9_of := congrArg (fun r : mRow => r.2.2.2.2.1) grw282
theorem gr282 : gR gG 282 = (Option.some Jvm.ClassFile.FieldType.int : Option FieldType) := congrArg (fun r : mRow => r.2.2.2.2.2.1) grw282
theorem lv282 : gL gG 282 = 1 := congrArg (fun r : mRow => r.2.2.2.2.2.2.1) grw282
theorem gh282 : gH gG 282 = [] := congrArg (fun r : mRow => r.2.2.2.2.2.2.2) grw282
theorem gm282 : mmax gP 282 = 3 := congrArg (fun r : mRow => r.2.1) grw282
theorem cw282 : mCw gP gG 282 ∈ lw_all := cw_of gh282 gn282 gb282 gm282 gr282 q2693
theorem tg282 : mTg gP gG 282 2 := tg_of gn282 gm282 cw282 (by decide) ⟨by decide +kernel, by decide +kernel⟩ (by decide +kernel)
theorem grw283 : gRow 283 = w283 := rfl
theorem gn283 : gN gG 283 = yX9_ofLetter := congrArg (fun r : mRow => r.2.2.2.1) grw283
theorem gb283 : gB gG 283 = cX9_ofLetter := congrArg (fun r : mRow => r.2.2.2.2.1) grw283
theorem gr283 : gR gG 283 = (Option.some Jvm.ClassFile.FieldType.int : Option FieldType) := congrArg (fun r : mRow => r.2.2.2.2.2.1) grw283
theorem lv283 : gL gG 283 = 1 := congrArg (fun r : mRow => r.2.2.2.2.2.2.1) grw283
theorem gh283 : gH gG 283 = [] := congrArg (fun r : mRow => r.2.2.2.2.2.2.2) grw283
theorem gm283 : mmax gP 283 = 3 := congrArg (fun r : mRow => r.2.1) grw283
theorem cw283 : mCw gP gG 283 ∈ lw_all := cw_of gh283 gn283 gb283 gm283 gr283 q2697
theorem tg283 : mTg gP gG 283 2 := tg_of gn283 gm283 cw283 (by decide) ⟨by decide +kernel, by decide +kernel⟩ (by decide +kernel)
theorem grw284 : gRow 284 = w284 := rfl
theorem gn284 : gN gG 284 = yX9_parseBank := congrArg (fun r : mRow => r.2.2.2.1) grw284
theorem gb284 : gB gG 284 = cX9_parseBank := congrArg (fun r : mRow => r.2.2.2.2.1) grw284
theorem gr284 : gR gG 284 = (none : Option FieldType) := congrArg (fun r : mRow => r.2.2.2.2.2.1) grw284
theorem lv284 : gL gG 284 = 6 := congrArg (fun r : mRow => r.2.2.2.2.2.2.1) grw284
theorem gh284 : gH gG 284 = [] := congrArg (fun r : mRow => r.2.2.2.2.2.2.2) grw284
theorem gm284 : mmax gP 284 = 5 := congrArg (fun r : mRow => r.2.1) grw284
theorem cw284 : mCw gP gG 284 ∈ lw_all := cw_of gh284 gn284 gb284 gm284 gr284 q2702
theorem tg284 : mTg gP gG 284 0 := tg_of gn284 gm284 cw284 (by decide) ⟨by decide +kernel, by decide +kernel⟩ (by decide +kernel)
theorem grw285 : gRow 285 = w285 := rfl
theorem gn285 : gN gG 285 = yX9_parseWatcher := congrArg (fun r : mRow => r.2.2.2.1) grw285
theorem gb285 : gB gG 285 = cX9_parseWatcher := congrArg (fun r : mRow => r.2.2.2.2.1) grw285
theorem gr285 : gR gG 285 = (none : Option FieldType) := congrArg (fun r : mRow => r.2.2.2.2.2.1) grw285
theorem lv285 : gL gG 285 = 6 := congrArg (fun r : mRow => r.2.2.2.2.2.2.1) grw285
theorem gh285 : gH gG 285 = [] := congrArg (fun r : mRow => r.2.2.2.2.2.2.2) grw285
theorem gm285 : mmax gP 285 = 5 := congrArg (fun r : mRow => r.2.1) grw285
theorem cw285 : mCw gP gG 285 ∈ lw_all := cw_of gh285 gn285 gb285 gm285 gr285 q2707
theorem tg285 : mTg gP gG 285 0 := tg_of gn285 gm285 cw285 (by decide) ⟨by decide +kernel, by decide +kernel⟩ (by decide +kernel)
theorem grw286 : gRow 286 = w286 := rfl
theorem gn286 : gN gG 286 = yX9_parseCourier := congrArg (fun r : mRow => r.2.2.2.1) grw286
theorem gb286 : gB gG 286 = cX9_parseCourier := congrArg (fun r : mRow => r.2.2.2.2.1) grw286
theorem gr286 : gR gG 286 = (none : Option FieldType) := congrArg (fun r : mRow => r.2.2.2.2.2.1) grw286
theorem lv286 : gL gG 286 = 5 := congrArg (fun r : mRow => r.2.2.2.2.2.2.1) grw286
theorem gh286 : gH gG 286 = [] := congrArg (fun r : mRow => r.2.2.2.2.2.2.2) grw286
theorem gm286 : mmax gP 286 = 2 := congrArg (fun r : mRow => r.2.1) grw286
theorem cw286 : mCw gP gG 286 ∈ lw_all := cw_of gh286 gn286 gb286 gm286 gr286 q2712
theorem tg286 : mTg gP gG 286 0 := tg_of gn286 gm286 cw286 (by decide) ⟨by decide +kernel, by decide +kernel⟩ (by decide +kernel)
theorem grw287 : gRow 287 = w287 := rfl
theorem gn287 : gN gG 287 = yX9_parseLetter := congrArg (fun r : mRow => r.2.2.2.1) grw287
theorem gb287 : gB gG 287 = cX9_parseLetter := congrArg (fun r : mRow => r.2.2.2.2.1) grw287
theorem gr287 : gR gG 287 = (none : Option FieldType) := congrArg (fun r : mRow => r.2.2.2.2.2.1) grw287
theorem lv287 : gL gG 287 = 6 := congrArg (fun r : mRow => r.2.2.2.2.2.2.1) grw287
theorem gh287 : gH gG 287 = [] := congrArg (fun r : mRow => r.2.2.2.2.2.2.2) grw287
theorem gm287 : mmax gP 287 = 3 := congrArg (fun r : mRow => r.2.1) grw287
theorem cw287 : mCw gP gG 287 ∈ lw_all := cw_of gh287 gn287 gb287 gm287 gr287 q2716
theorem tg287 : mTg gP gG 287 0 := tg_of gn287 gm287 cw287 (by decide) ⟨by decide +kernel, by decide +kernel⟩ (by decide +kernel)
theorem grw288 : gRow 288 = w288 := rfl
theorem gn288 : gN gG 288 = yX9_play := congrArg (fun r : mRow => r.2.2.2.1) grw288
theorem gb288 : gB gG 288 = cX9_play := congrArg (fun r : mRow => r.2.2.2.2.1) grw288
theorem gr288 : gR gG 288 = (Option.some Jvm.ClassFile.FieldType.int : Option FieldType) := congrArg (fun r : mRow => r.2.2.2.2.2.1) grw288
theorem lv288 : gL gG 288 = 10 := congrArg (fun r : mRow => r.2.2.2.2.2.2.1) grw288
theorem gh288 : gH gG 288 = [] := congrArg (fun r : mRow => r.2.2.2.2.2.2.2) grw288
theorem gm288 : mmax gP 288 = 2 := congrArg (fun r : mRow => r.2.1) grw288
theorem cw288 : mCw gP gG 288 ∈ lw_all := cw_of gh288 gn288 gb288 gm288 gr288 q2721
theorem tg288 : mTg gP gG 288 0 := tg_of gn288 gm288 cw288 (by decide) ⟨by decide +kernel, by decide +kernel⟩ (by decide +kernel)
theorem grw289 : gRow 289 = w289 := rfl
theorem gn289 : gN gG 289 = yX9_parseCommand := congrArg (fun r : mRow => r.2.2.2.1) grw289
theorem gb289 : gB gG 289 = cX9_parseCommand := congrArg (fun r : mRow => r.2.2.2.2.1) grw289
theorem gr289 : gR gG 289 = (none : Option FieldType) := congrArg (fun r : mRow => r.2.2.2.2.2.1) grw289
theorem lv289 : gL gG 289 = 8 := congrArg (fun r : mRow => r.2.2.2.2.2.2.1) grw289
theorem gh289 : gH gG 289 = [] := congrArg (fun r : mRow => r.2.2.2.2.2.2.2) grw289
theorem gm289 : mmax gP 289 = 4 := congrArg (fun r : mRow => r.2.1) grw289
theorem cw289 : mCw gP gG 289 ∈ lw_all := cw_of gh289 gn289 gb289 gm289 gr289 q2725
theorem tg289 : mTg gP gG 289 0 := tg_of gn289 gm289 cw289 (by decide) ⟨by decide +kernel, by decide +kernel⟩ (by decide +kernel)
theorem grw290 : gRow 290 = w290 := rfl
theorem gn290 : gN gG 290 = yX9_commandHere := congrArg (fun r : mRow => r.2.2.2.1) grw290
theorem gb290 : gB gG 290 = cX9_commandHere := congrArg (fun r : mRow => r.2.2.2.2.1) grw290
theorem gr290 : gR gG 290 = (Option.some Jvm.ClassFile.FieldType.int : Option FieldType) := congrArg (fun r : mRow => r.2.2.2.2.2.1) grw290
theorem lv290 : gL gG 290 = 6 := congrArg (fun r : mRow => r.2.2.2.2.2.2.1) grw290
theorem gh290 : gH gG 290 = [] := congrArg (fun r : mRow => r.2.2.2.2.2.2.2) grw290
theorem gm290 : mmax gP 290 = 1 := congrArg (fun r : mRow => r.2.1) grw290
theorem cw290 : mCw gP gG 290 ∈ lw_all := cw_of gh290 gn290 gb290 gm290 gr290 q2729
theorem tg290 : mTg gP gG 290 0 := tg_of gn290 gm290 cw290 (by decide) ⟨by decide +kernel, by decide +kernel⟩ (by decide +kernel)
theorem grw291 : gRow 291 = w291 := rfl
theorem gn291 : gN gG 291 = yX9_parseSaids := congrArg (fun r : mRow => r.2.2.2.1) grw291
theorem gb291 : gB gG 291 = cX9_parseSaids := congrArg (fun r : mRow => r.2.2.2.2.1) grw291
theorem gr291 : gR gG 291 = (none : Option FieldType) := congrArg (fun r : mRow => r.2.2.2.2.2.1) grw291
theorem lv291 : gL gG 291 = 7 := congrArg (fun r : mRow => r.2.2.2.2.2.2.1) grw291
theorem gh291 : gH gG 291 = [] := congrArg (fun r : mRow => r.2.2.2.2.2.2.2) grw291
theorem gm291 : mmax gP 291 = 2 := congrArg (fun r : mRow => r.2.1) grw291
theorem cw291 : mCw gP gG 291 ∈ lw_all := cw_of gh291 gn291 gb291 gm291 gr291 q2738
theorem tg291 : mTg gP gG 291 1 := tg_of gn291 gm291 cw291 (by decide) ⟨by decide +kernel, by decide +kernel⟩ (by decide +kernel)
theorem grw292 : gRow 292 = w292 := rfl
theorem gn292 : gN gG 292 = yX9_parseSaid := congrArg (fun r : mRow => r.2.2.2.1) grw292
theorem gb292 : gB gG 292 = cX9_parseSaid := congrArg (fun r : mRow => r.2.2.2.2.1) grw292
theorem gr292 : gR gG 292 = (none : Option FieldType) := congrArg (fun r : mRow => r.2.2.2.2.2.1) grw292
theorem lv292 : gL gG 292 = 6 := congrArg (fun r : mRow => r.2.2.2.2.2.2.1) grw292
theorem gh292 : gH gG 292 = [] := congrArg (fun r : mRow => r.2.2.2.2.2.2.2) grw292
theorem gm292 : mmax gP 292 = 3 := congrArg (fun r : mRow => r.2.1) grw292
theorem cw292 : mCw gP gG 292 ∈ lw_all := cw_of gh292 gn292 gb292 gm292 gr292 q2742
theorem tg292 : mTg gP gG 292 2 := tg_of gn292 gm292 cw292 (by decide) ⟨by decide +kernel, by decide +kernel⟩ (by decide +kernel)
theorem grw293 : gRow 293 = w293 := rfl
theorem gn293 : gN gG 293 = yX9_doCommand := congrArg (fun r : mRow => r.2.2.2.1) grw293
theorem gb293 : gB gG 293 = cX9_doCommand := congrArg (fun r : mRow => r.2.2.2.2.1) grw293
theorem gr293 : gR gG 293 = (Option.some Jvm.ClassFile.FieldType.int : Option FieldType) := congrArg (fun r : mRow => r.2.2.2.2.2.1) grw293
theorem lv293 : gL gG 293 = 9 := congrArg (fun r : mRow => r.2.2.2.2.2.2.1) grw293
theorem gh293 : gH gG 293 = [] := congrArg (fun r : mRow => r.2.2.2.2.2.2.2) grw293
theorem gm293 : mmax gP 293 = 5 := congrArg (fun r : mRow => r.2.1) grw293
theorem cw293 : mCw gP gG 293 ∈ lw_all := cw_of gh293 gn293 gb293 gm293 gr293 q2746
theorem tg293 : mTg gP gG 293 1 := tg_of gn293 gm293 cw293 (by decide) ⟨by decide +kernel, by decide +kernel⟩ (by decide +kernel)
theorem grw294 : gRow 294 = w294 := rfl
theorem gn294 : gN gG 294 = yX9_passIt := congrArg (fun r : mRow => r.2.2.2.1) grw294
theorem gb294 : gB gG 294 = cX9_passIt := congrArg (fun r : mRow => r.2.2.2.2.1) grw294
theorem gr294 : gR gG 294 = (Option.some Jvm.ClassFile.FieldType.int : Option FieldType) := congrArg (fun r : mRow => r.2.2.2.2.2.1) grw294
theorem lv294 : gL gG 294 = 8 := congrArg (fun r : mRow => r.2.2.2.2.2.2.1) grw294
theorem gh294 : gH gG 294 = [] := congrArg (fun r : mRow => r.2.2.2.2.2.2.2) grw294
theorem gm294 : mmax gP 294 = 2 := congrArg (fun r : mRow => r.2.1) grw294
theorem cw294 : mCw gP gG 294 ∈ lw_all := cw_of gh294 gn294 gb294 gm294 gr294 q2750
theorem tg294 : mTg gP gG 294 1 := tg_of gn294 gm294 cw294 (by decide) ⟨by decide +kernel, by decide +kernel⟩ (by decide +kernel)
theorem grw295 : gRow 295 = w295 := rfl
theorem gn295 : gN gG 295 = yX9_refuse := congrArg (fun r : mRow => r.2.2.2.1) grw295
theorem gb295 : gB gG 295 = cX9_refuse := congrArg (fun r : mRow => r.2.2.2.2.1) grw295
theorem gr295 : gR gG 295 = (Option.some Jvm.ClassFile.FieldType.int : Option FieldType) := congrArg (fun r : mRow => r.2.2.2.2.2.1) grw295
theorem lv295 : gL gG 295 = 1 := congrArg (fun r : mRow => r.2.2.2.2.2.2.1) grw295
theorem gh295 : gH gG 295 = [] := congrArg (fun r : mRow => r.2.2.2.2.2.2.2) grw295
theorem gm295 : mmax gP 295 = 2 := congrArg (fun r : mRow => r.2.1) grw295
theorem cw295 : mCw gP gG 295 ∈ lw_all := cw_of gh295 gn295 gb295 gm295 gr295 q2754
theorem tg295 : mTg gP gG 295 1 := tg_of gn295 gm295 cw295 (by decide) ⟨by decide +kernel, by decide +kernel⟩ (by decide +kernel)
theorem grw296 : gRow 296 = w296 := rfl
theorem gn296 : gN gG 296 = yX9_keep := congrArg (fun r : mRow => r.2.2.2.1) grw296
theorem gb296 : gB gG 296 = cX9_keep := congrArg (fun r : mRow => r.2.2.2.2.1) grw296
theorem gr296 : gR gG 296 = (none : Option FieldType) := congrArg (fun r : mRow => r.2.2.2.2.2.1) grw296
theorem lv296 : gL gG 296 = 2 := congrArg (fun r : mRow => r.2.2.2.2.2.2.1) grw296
theorem gh296 : gH gG 296 = [] := congrArg (fun r : mRow => r.2.2.2.2.2.2.2) grw296
theorem gm296 : mmax gP 296 = 2 := congrArg (fun r : mRow => r.2.1) grw296
theorem cw296 : mCw gP gG 296 ∈ lw_all := cw_of gh296 gn296 gb296 gm296 gr296 q2758
theorem tg296 : mTg gP gG 296 0 := tg_of gn296 gm296 cw296 (by decide) ⟨by decide +kernel, by decide +kernel⟩ (by decide +kernel)
theorem grw297 : gRow 297 = w297 := rfl
theorem gn297 : gN gG 297 = yX9_passMany := congrArg (fun r : mRow => r.2.2.2.1) grw297
theorem gb297 : gB gG 297 = cX9_passMany := congrArg (fun r : mRow => r.2.2.2.2.1) grw297
theorem gr297 : gR gG 297 = (Option.some Jvm.ClassFile.FieldType.int : Option FieldType) := congrArg (fun r : mRow => r.2.2.2.2.2.1) grw297
theorem lv297 : gL gG 297 = 7 := congrArg (fun r : mRow => r.2.2.2.2.2.2.1) grw297
theorem gh297 : gH gG 297 = [] := congrArg (fun r : mRow => r.2.2.2.2.2.2.2) grw297
theorem gm297 : mmax gP 297 = 4 := congrArg (fun r : mRow => r.2.1) grw297
theorem cw297 : mCw gP gG 297 ∈ lw_all := cw_of gh297 gn297 gb297 gm297 gr297 q2762
theorem tg297 : mTg gP gG 297 1 := tg_of gn297 gm297 cw297 (by decide) ⟨by decide +kernel, by decide +kernel⟩ (by decide +kernel)
theorem grw298 : gRow 298 = w298 := rfl
theorem gn298 : gN gG 298 = yX9_passOne := congrArg (fun r : mRow => r.2.2.2.1) grw298
theorem gb298 : gB gG 298 = cX9_passOne := congrArg (fun r : mRow => r.2.2.2.2.1) grw298
theorem gr298 : gR gG 298 = (none : Option FieldType) := congrArg (fun r : mRow => r.2.2.2.2.2.1) grw298
theorem lv298 : gL gG 298 = 6 := congrArg (fun r : mRow => r.2.2.2.2.2.2.1) grw298
theorem gh298 : gH gG 298 = [] := congrArg (fun r : mRow => r.2.2.2.2.2.2.2) grw298
theorem gm298 : mmax gP 298 = 2 := congrArg (fun r : mRow => r.2.1) grw298
theorem cw298 : mCw gP gG 298 ∈ lw_all := cw_of gh298 gn298 gb298 gm298 gr298 q2766
theorem tg298 : mTg gP gG 298 0 := tg_of gn298 gm298 cw298 (by decide) ⟨by decide +kernel, by decide +kernel⟩ (by decide +kernel)
theorem grw299 : gRow 299 = w299 := rfl
theorem gn299 : gN gG 299 = yX9_passAround := congrArg (fun r : mRow => r.2.2.2.1) grw299
theorem gb299 : gB gG 299 = cX9_passAround := congrArg (fun r : mRow => r.2.2.2.2.1) grw299
theorem gr299 : gR gG 299 = (none : Option FieldType) := congrArg (fun r : mRow => r.2.2.2.2.2.1) grw299
theorem lv299 : gL gG 299 = 4 := congrArg (fun r : mRow => r.2.2.2.2.2.2.1) grw299
theorem gh299 : gH gG 299 = [] := congrArg (fun r : mRow => r.2.2.2.2.2.2.2) grw299
theorem gm299 : mmax gP 299 = 1 := congrArg (fun r : mRow => r.2.1) grw299
theorem cw299 : mCw gP gG 299 ∈ lw_all := cw_of gh299 gn299 gb299 gm299 gr299 q2770
theorem tg299 : mTg gP gG 299 0 := tg_of gn299 gm299 cw299 (by decide) ⟨by decide +kernel, by decide +kernel⟩ (by decide +kernel)
theorem grw300 : gRow 300 = w300 := rfl
theorem gn300 : gN gG 300 = yX9_driftAll := congrArg (fun r : mRow => r.2.2.2.1) grw300
theorem gb300 : gB gG 300 = cX9_driftAll := congrArg (fun r : mRow => r.2.2.2.2.1) grw300
theorem gr300 : gR gG 300 = (none : Option FieldType) := congrArg (fun r : mRow => r.2.2.2.2.2.1) grw300
theorem lv300 : gL gG 300 = 3 := congrArg (fun r : mRow => r.2.2.2.2.2.2.1) grw300
theorem gh300 : gH gG 300 = [] := congrArg (fun r : mRow => r.2.2.2.2.2.2.2) grw300
theorem gm300 : mmax gP 300 = 3 := congrArg (fun r : mRow => r.2.1) grw300
theorem cw300 : mCw gP gG 300 ∈ lw_all := cw_of gh300 gn300 gb300 gm300 gr300 q2774
theorem tg300 : mTg gP gG 300 0 := tg_of gn300 gm300 cw300 (by decide) ⟨by decide +kernel, by decide +kernel⟩ (by decide +kernel)
theorem grw301 : gRow 301 = w301 := rfl
theorem gn301 : gN gG 301 = yX9_ofBank := congrArg (fun r : mRow => r.2.2.2.1) grw301
theorem gb301 : gB gG 301 = cX9_ofBank := congrArg (fun r : mRow => r.2.2.2.2.1) grw301
theorem gr301 : gR gG 301 = (Option.some Jvm.ClassFile.FieldType.int : Option FieldType) := congrArg (fun r : mRow => r.2.2.2.2.2.1) grw301
theorem lv301 : gL gG 301 = 1 := congrArg (fun r : mRow => r.2.2.2.2.2.2.1) grw301
theorem gh301 : gH gG 301 = [] := congrArg (fun r : mRow => r.2.2.2.2.2.2.2) grw301
theorem gm301 : mmax gP 301 = 3 := congrArg (fun r : mRow => r.2.1) grw301
theorem cw301 : mCw gP gG 301 ∈ lw_all := cw_of gh301 gn301 gb301 gm301 gr301 q2778
theorem tg301 : mTg gP gG 301 2 := tg_of gn301 gm301 cw301 (by decide) ⟨by decide +kernel, by decide +kernel⟩ (by decide +kernel)
theorem grw302 : gRow 302 = w302 := rfl
theorem gn302 : gN gG 302 = yX9_nextAround := congrArg (fun r : mRow => r.2.2.2.1) grw302
theorem gb302 : gB gG 302 = cX9_nextAround := congrArg (fun r : mRow => r.2.2.2.2.1) grw302
theorem gr302 : gR gG 302 = (Option.some Jvm.ClassFile.FieldType.int : Option FieldType) := congrArg (fun r : mRow => r.2.2.2.2.2.1) grw302
theorem lv302 : gL gG 302 = 2 := congrArg (fun r : mRow => r.2.2.2.2.2.2.1) grw302
theorem gh302 : gH gG 302 = [] := congrArg (fun r : mRow => r.2.2.2.2.2.2.2) grw302
theorem gm302 : mmax gP 302 = 5 := congrArg (fun r : mRow => r.2.1) grw302
theorem cw302 : mCw gP gG 302 ∈ lw_all := cw_of gh302 gn302 gb302 gm302 gr302 q2782
theorem tg302 : mTg gP gG 302 2 := tg_of gn302 gm302 cw302 (by decide) ⟨by decide +kernel, by decide +kernel⟩ (by decide +kernel)
theorem grw303 : gRow 303 = w303 := rfl
theorem gn303 : gN gG 303 = yX9_columnOf := congrArg (fun r : mRow => r.2.2.2.1) grw303
theorem gb303 : gB gG 303 = cX9_columnOf := congrArg (fun r : mRow => r.2.2.2.2.1) grw303
theorem gr303 : gR gG 303 = (Option.some Jvm.ClassFile.FieldType.int : Option FieldType) := congrArg (fun r : mRow => r.2.2.2.2.2.1) grw303
theorem lv303 : gL gG 303 = 1 := congrArg (fun r : mRow => r.2.2.2.2.2.2.1) grw303
theorem gh303 : gH gG 303 = [] := congrArg (fun r : mRow => r.2.2.2.2.2.2.2) grw303
theorem gm303 : mmax gP 303 = 2 := congrArg (fun r : mRow => r.2.1) grw303
theorem cw303 : mCw gP gG 303 ∈ lw_all := cw_of gh303 gn303 gb303 gm303 gr303 q2786
theorem tg303 : mTg gP gG 303 1 := tg_of gn303 gm303 cw303 (by decide) ⟨by decide +kernel, by decide +kernel⟩ (by decide +kernel)
theorem grw304 : gRow 304 = w304 := rfl
theorem gn304 : gN gG 304 = yX9_columnStep := congrArg (fun r : mRow => r.2.2.2.1) grw304
theorem gb304 : gB gG 304 = cX9_columnStep := congrArg (fun r : mRow => r.2.2.2.2.1) grw304
theorem gr304 : gR gG 304 = (Option.some Jvm.ClassFile.FieldType.int : Option FieldType) := congrArg (fun r : mRow => r.2.2.2.2.2.1) grw304
theorem lv304 : gL gG 304 = 1 := congrArg (fun r : mRow => r.2.2.2.2.2.2.1) grw304
theorem gh304 : gH gG 304 = [] := congrArg (fun r : mRow => r.2.2.2.2.2.2.2) grw304
theorem gm304 : mmax gP 304 = 1 := congrArg (fun r : mRow => r.2.1) grw304
theorem cw304 : mCw gP gG 304 ∈ lw_all := cw_of gh304 gn304 gb304 gm304 gr304 q2789
theorem tg304 : mTg gP gG 304 1 := tg_of gn304 gm304 cw304 (by decide) ⟨by decide +kernel, by decide +kernel⟩ (by decide +kernel)
theorem grw305 : gRow 305 = w305 := rfl
theorem gn305 : gN gG 305 = yX9_rowOf := congrArg (fun r : mRow => r.2.2.2.1) grw305
theorem gb305 : gB gG 305 = cX9_rowOf := congrArg (fun r : mRow => r.2.2.2.2.1) grw305
theorem gr305 : gR gG 305 = (Option.some Jvm.ClassFile.FieldType.int : Option FieldType) := congrArg (fun r : mRow => r.2.2.2.2.2.1) grw305
theorem lv305 : gL gG 305 = 1 := congrArg (fun r : mRow => r.2.2.2.2.2.2.1) grw305
theorem gh305 : gH gG 305 = [] := congrArg (fun r : mRow => r.2.2.2.2.2.2.2) grw305
theorem gm305 : mmax gP 305 = 2 := congrArg (fun r : mRow => r.2.1) grw305
theorem cw305 : mCw gP gG 305 ∈ lw_all := cw_of gh305 gn305 gb305 gm305 gr305 q2793
theorem tg305 : mTg gP gG 305 1 := tg_of gn305 gm305 cw305 (by decide) ⟨by decide +kernel, by decide +kernel⟩ (by decide +kernel)
theorem grw306 : gRow 306 = w306 := rfl
theorem gn306 : gN gG 306 = yX9_rowStep := congrArg (fun r : mRow => r.2.2.2.1) grw306
theorem gb306 : gB gG 306 = cX9_rowStep := congrArg (fun r : mRow => r.2.2.2.2.1) grw306
theorem gr306 : gR gG 306 = (Option.some Jvm.ClassFile.FieldType.int : Option FieldType) := congrArg (fun r : mRow => r.2.2.2.2.2.1) grw306
theorem lv306 : gL gG 306 = 1 := congrArg (fun r : mRow => r.2.2.2.2.2.2.1) grw306
theorem gh306 : gH gG 306 = [] := congrArg (fun r : mRow => r.2.2.2.2.2.2.2) grw306
theorem gm306 : mmax gP 306 = 1 := congrArg (fun r : mRow => r.2.1) grw306
theorem cw306 : mCw gP gG 306 ∈ lw_all := cw_of gh306 gn306 gb306 gm306 gr306 q2796
theorem tg306 : mTg gP gG 306 1 := tg_of gn306 gm306 cw306 (by decide) ⟨by decide +kernel, by decide +kernel⟩ (by decide +kernel)
theorem grw307 : gRow 307 = w307 := rfl
theorem gn307 : gN gG 307 = yX9_turnAll := congrArg (fun r : mRow => r.2.2.2.1) grw307
theorem gb307 : gB gG 307 = cX9_turnAll := congrArg (fun r : mRow => r.2.2.2.2.1) grw307
theorem gr307 : gR gG 307 = (none : Option FieldType) := congrArg (fun r : mRow => r.2.2.2.2.2.1) grw307
theorem lv307 : gL gG 307 = 2 := congrArg (fun r : mRow => r.2.2.2.2.2.2.1) grw307
theorem gh307 : gH gG 307 = [] := congrArg (fun r : mRow => r.2.2.2.2.2.2.2) grw307
theorem gm307 : mmax gP 307 = 2 := congrArg (fun r : mRow => r.2.1) grw307
theorem cw307 : mCw gP gG 307 ∈ lw_all := cw_of gh307 gn307 gb307 gm307 gr307 q2800
theorem tg307 : mTg gP gG 307 0 := tg_of gn307 gm307 cw307 (by decide) ⟨by decide +kernel, by decide +kernel⟩ (by decide +kernel)
theorem grw308 : gRow 308 = w308 := rfl
theorem gn308 : gN gG 308 = yX9_laySeen := congrArg (fun r : mRow => r.2.2.2.1) grw308
theorem gb308 : gB gG 308 = cX9_laySeen := congrArg (fun r : mRow => r.2.2.2.2.1) grw308
theorem gr308 : gR gG 308 = (none : Option FieldType) := congrArg (fun r : mRow => r.2.2.2.2.2.1) grw308
theorem lv308 : gL gG 308 = 5 := congrArg (fun r : mRow => r.2.2.2.2.2.2.1) grw308
theorem gh308 : gH gG 308 = [] := congrArg (fun r : mRow => r.2.2.2.2.2.2.2) grw308
theorem gm308 : mmax gP 308 = 4 := congrArg (fun r : mRow => r.2.1) grw308
theorem cw308 : mCw gP gG 308 ∈ lw_all := cw_of gh308 gn308 gb308 gm308 gr308 q2804
theorem tg308 : mTg gP gG 308 0 := tg_of gn308 gm308 cw308 (by decide) ⟨by decide +kernel, by decide +kernel⟩ (by decide +kernel)
theorem grw309 : gRow 309 = w309 := rfl
theorem gn309 : gN gG 309 = yX9_gazeAt := congrArg (fun r : mRow => r.2.2.2.1) grw309
theorem gb309 : gB gG 309 = cX9_gazeAt := congrArg (fun r : mRow => r.2.2.2.2.1) grw309
theorem gr309 : gR gG 309 = (Option.some Jvm.ClassFile.FieldType.int : Option FieldType) := congrArg (fun r : mRow => r.2.2.2.2.2.1) grw309
theorem lv309 : gL gG 309 = 3 := congrArg (fun r : mRow => r.2.2.2.2.2.2.1) grw309
theorem gh309 : gH gG 309 = [] := congrArg (fun r : mRow => r.2.2.2.2.2.2.2) grw309
theorem gm309 : mmax gP 309 = 5 := congrArg (fun r : mRow => r.2.1) grw309
theorem cw309 : mCw gP gG 309 ∈ lw_all := cw_of gh309 gn309 gb309 gm309 gr309 q2808
theorem tg309 : mTg gP gG 309 2 := tg_of gn309 gm309 cw309 (by decide) ⟨by decide +kernel, by decide +kernel⟩ (by decide +kernel)
theorem grw310 : gRow 310 = w310 := rfl
theorem gn310 : gN gG 310 = yX9_nextTo := congrArg (fun r : mRow => r.2.2.2.1) grw310
theorem gb310 : gB gG 310 = cX9_nextTo := congrArg (fun r : mRow => r.2.2.2.2.1) grw310
theorem gr310 : gR gG 310 = (Option.some Jvm.ClassFile.FieldType.int : Option FieldType) := congrArg (fun r : mRow => r.2.2.2.2.2.1) grw310
theorem lv310 : gL gG 310 = 2 := congrArg (fun r : mRow => r.2.2.2.2.2.2.1) grw310
theorem gh310 : gH gG 310 = [] := congrArg (fun r : mRow => r.2.2.2.2.2.2.2) grw310
theorem gm310 : mmax gP 310 = 6 := congrArg (fun r : mRow => r.2.1) grw310
theorem cw310 : mCw gP gG 310 ∈ lw_all := cw_of gh310 gn310 gb310 gm310 gr310 q2812
theorem tg310 : mTg gP gG 310 2 := tg_of gn310 gm310 cw310 (by decide) ⟨by decide +kernel, by decide +kernel⟩ (by decide +kernel)
theorem grw311 : gRow 311 = w311 := rfl
theorem gn311 : gN gG 311 = yX9_costOf := congrArg (fun r : mRow => r.2.2.2.1) grw311
theorem gb311 : gB gG 311 = cX9_costOf := congrArg (fun r : mRow => r.2.2.2.2.1) grw311
theorem gr311 : gR gG 311 = (Option.some Jvm.ClassFile.FieldType.int : Option FieldType) := congrArg (fun r : mRow => r.2.2.2.2.2.1) grw311
theorem lv311 : gL gG 311 = 4 := congrArg (fun r : mRow => r.2.2.2.2.2.2.1) grw311
theorem gh311 : gH gG 311 = [] := congrArg (fun r : mRow => r.2.2.2.2.2.2.2) grw311
theorem gm311 : mmax gP 311 = 5 := congrArg (fun r : mRow => r.2.1) grw311
theorem cw311 : mCw gP gG 311 ∈ lw_all := cw_of gh311 gn311 gb311 gm311 gr311 q2816
theorem tg311 : mTg gP gG 311 2 := tg_of gn311 gm311 cw311 (by decide) ⟨by decide +kernel, by decide +kernel⟩ (by decide +kernel)
theorem grw312 : gRow 312 = w312 := rfl
theorem gn312 : gN gG 312 = yX9_mistAt := congrArg (fun r : mRow => r.2.2.2.1) grw312
theorem gb312 : gB gG 312 = cX9_mistAt := congrArg (fun r : mRow => r.2.2.2.2.1) grw312
theorem gr312 : gR gG 312 = (Option.some Jvm.ClassFile.FieldType.int : Option FieldType) := congrArg (fun r : mRow => r.2.2.2.2.2.1) grw312
theorem lv312 : gL gG 312 = 3 := congrArg (fun r : mRow => r.2.2.2.2.2.2.1) grw312
theorem gh312 : gH gG 312 = [] := congrArg (fun r : mRow => r.2.2.2.2.2.2.2) grw312
theorem gm312 : mmax gP 312 = 4 := congrArg (fun r : mRow => r.2.1) grw312
theorem cw312 : mCw gP gG 312 ∈ lw_all := cw_of gh312 gn312 gb312 gm312 gr312 q2820
theorem tg312 : mTg gP gG 312 1 := tg_of gn312 gm312 cw312 (by decide) ⟨by decide +kernel, by decide +kernel⟩ (by decide +kernel)
theorem grw313 : gRow 313 = w313 := rfl
theorem gn313 : gN gG 313 = yX9_away := congrArg (fun r : mRow => r.2.2.2.1) grw313
theorem gb313 : gB gG 313 = cX9_away := congrArg (fun r : mRow => r.2.2.2.2.1) grw313
theorem gr313 : gR gG 313 = (Option.some Jvm.ClassFile.FieldType.int : Option FieldType) := congrArg (fun r : mRow => r.2.2.2.2.2.1) grw313
theorem lv313 : gL gG 313 = 2 := congrArg (fun r : mRow => r.2.2.2.2.2.2.1) grw313
theorem gh313 : gH gG 313 = [] := congrArg (fun r : mRow => r.2.2.2.2.2.2.2) grw313
theorem gm313 : mmax gP 313 = 3 := congrArg (fun r : mRow => r.2.1) grw313
theorem cw313 : mCw gP gG 313 ∈ lw_all := cw_of gh313 gn313 gb313 gm313 gr313 q2824
theorem tg313 : mTg gP gG 313 2 := tg_of gn313 gm313 cw313 (by decide) ⟨by decide +kernel, by decide +kernel⟩ (by decide +kernel)
theorem grw314 : gRow 314 = w314 := rfl
theorem gn314 : gN gG 314 = yX9_catchIt := congrArg (fun r : mRow => r.2.2.2.1) grw314
theorem gb314 : gB gG 314 = cX9_catchIt := congrArg (fun r : mRow => r.2.2.2.2.1) grw314
theorem gr314 : gR gG 314 = (none : Option FieldType) := congrArg (fun r : mRow => r.2.2.2.2.2.1) grw314
theorem lv314 : gL gG 314 = 3 := congrArg (fun r : mRow => r.2.2.2.2.2.2.1) grw314
theorem gh314 : gH gG 314 = [] := congrArg (fun r : mRow => r.2.2.2.2.2.2.2) grw314
theorem gm314 : mmax gP 314 = 3 := congrArg (fun r : mRow => r.2.1) grw314
theorem cw314 : mCw gP gG 314 ∈ lw_all := cw_of gh314 gn314 gb314 gm314 gr314 q2829
theorem tg314 : mTg gP gG 314 1 := tg_of gn314 gm314 cw314 (by decide) ⟨by decide +kernel, by decide +kernel⟩ (by decide +kernel)
theorem grw315 : gRow 315 = w315 := rfl
theorem gn315 : gN gG 315 = yX9_grow := congrArg (fun r : mRow => r.2.2.2.1) grw315
theorem gb315 : gB gG 315 = cX9_grow := congrArg (fun r : mRow => r.2.2.2.2.1) grw315
theorem gr315 : gR gG 315 = (none : Option FieldType) := congrArg (fun r : mRow => r.2.2.2.2.2.1) grw315
theorem lv315 : gL gG 315 = 2 := congrArg (fun r : mRow => r.2.2.2.2.2.2.1) grw315
theorem gh315 : gH gG 315 = [] := congrArg (fun r : mRow => r.2.2.2.2.2.2.2) grw315
theorem gm315 : mmax gP 315 = 3 := congrArg (fun r : mRow => r.2.1) grw315
theorem cw315 : mCw gP gG 315 ∈ lw_all := cw_of gh315 gn315 gb315 gm315 gr315 q2833
theorem tg315 : mTg gP gG 315 2 := tg_of gn315 gm315 cw315 (by decide) ⟨by decide +kernel, by decide +kernel⟩ (by decide +kernel)
theorem grw316 : gRow 316 = w316 := rfl
theorem gn316 : gN gG 316 = yX9_count := congrArg (fun r : mRow => r.2.2.2.1) grw316
theorem gb316 : gB gG 316 = cX9_count := congrArg (fun r : mRow => r.2.2.2.2.1) grw316
theorem gr316 : gR gG 316 = (none : Option FieldType) := congrArg (fun r : mRow => r.2.2.2.2.2.1) grw316
theorem lv316 : gL gG 316 = 1 := congrArg (fun r : mRow => r.2.2.2.2.2.2.1) grw316
theorem gh316 : gH gG 316 = [] := congrArg (fun r : mRow => r.2.2.2.2.2.2.2) grw316
theorem gm316 : mmax gP 316 = 3 := congrArg (fun r : mRow => r.2.1) grw316
theorem cw316 : mCw gP gG 316 ∈ lw_all := cw_of gh316 gn316 gb316 gm316 gr316 q2837
theorem tg316 : mTg gP gG 316 2 := tg_of gn316 gm316 cw316 (by decide) ⟨by decide +kernel, by decide +kernel⟩ (by decide +kernel)
theorem grw317 : gRow 317 = w317 := rfl
theorem gn317 : gN gG 317 = yX9_isCarried := congrArg (fun r : mRow => r.2.2.2.1) grw317
theorem gb317 : gB gG 317 = cX9_isCarried := congrArg (fun r : mRow => r.2.2.2.2.1) grw317
theorem gr317 : gR gG 317 = (Option.some Jvm.ClassFile.FieldType.boolean : Option FieldType) := congrArg (fun r : mRow => r.2.2.2.2.2.1) grw317
theorem lv317 : gL gG 317 = 2 := congrArg (fun r : mRow => r.2.2.2.2.2.2.1) grw317
theorem gh317 : gH gG 317 = [] := congrArg (fun r : mRow => r.2.2.2.2.2.2.2) grw317
theorem gm317 : mmax gP 317 = 3 := congrArg (fun r : mRow => r.2.1) grw317
theorem cw317 : mCw gP gG 317 ∈ lw_all := cw_of gh317 gn317 gb317 gm317 gr317 q2841
theorem tg317 : mTg gP gG 317 2 := tg_of gn317 gm317 cw317 (by decide) ⟨by decide +kernel, by decide +kernel⟩ (by decide +kernel)
theorem grw318 : gRow 318 = w318 := rfl
theorem gn318 : gN gG 318 = yX9_isCourier := congrArg (fun r : mRow => r.2.2.2.1) grw318
theorem gb318 : gB gG 318 = cX9_isCourier := congrArg (fun r : mRow => r.2.2.2.2.1) grw318
theorem gr318 : gR gG 318 = (Option.some Jvm.ClassFile.FieldType.boolean : Option FieldType) := congrArg (fun r : mRow => r.2.2.2.2.2.1) grw318
theorem lv318 : gL gG 318 = 2 := congrArg (fun r : mRow => r.2.2.2.2.2.2.1) grw318
theorem gh318 : gH gG 318 = [] := congrArg (fun r : mRow => r.2.2.2.2.2.2.2) grw318
theorem gm318 : mmax gP 318 = 2 := congrArg (fun r : mRow => r.2.1) grw318
theorem cw318 : mCw gP gG 318 ∈ lw_all := cw_of gh318 gn318 gb318 gm318 gr318 q2845
theorem tg318 : mTg gP gG 318 1 := tg_of gn318 gm318 cw318 (by decide) ⟨by decide +kernel, by decide +kernel⟩ (by decide +kernel)
theorem grw319 : gRow 319 = w319 := rfl
theorem gn319 : gN gG 319 = yX9_stepIt := congrArg (fun r : mRow => r.2.2.2.1) grw319
theorem gb319 : gB gG 319 = cX9_stepIt := congrArg (fun r : mRow => r.2.2.2.2.1) grw319
theorem gr319 : gR gG 319 = (Option.some Jvm.ClassFile.FieldType.int : Option FieldType) := congrArg (fun r : mRow => r.2.2.2.2.2.1) grw319
theorem lv319 : gL gG 319 = 7 := congrArg (fun r : mRow => r.2.2.2.2.2.2.1) grw319
theorem gh319 : gH gG 319 = [] := congrArg (fun r : mRow => r.2.2.2.2.2.2.2) grw319
theorem gm319 : mmax gP 319 = 5 := congrArg (fun r : mRow => r.2.1) grw319
theorem cw319 : mCw gP gG 319 ∈ lw_all := cw_of gh319 gn319 gb319 gm319 gr319 q2849
theorem tg319 : mTg gP gG 319 2 := tg_of gn319 gm319 cw319 (by decide) ⟨by decide +kernel, by decide +kernel⟩ (by decide +kernel)
theorem grw320 : gRow 320 = w320 := rfl
theorem gn320 : gN gG 320 = yX9_whyNotStep := congrArg (fun r : mRow => r.2.2.2.1) grw320
theorem gb320 : gB gG 320 = cX9_whyNotStep := congrArg (fun r : mRow => r.2.2.2.2.1) grw320
theorem gr320 : gR gG 320 = (Option.some Jvm.ClassFile.FieldType.int : Option FieldType) := congrArg (fun r : mRow => r.2.2.2.2.2.1) grw320
theorem lv320 : gL gG 320 = 3 := congrArg (fun r : mRow => r.2.2.2.2.2.2.1) grw320
theorem gh320 : gH gG 320 = [] := congrArg (fun r : mRow => r.2.2.2.2.2.2.2) grw320
theorem gm320 : mmax gP 320 = 4 := congrArg (fun r : mRow => r.2.1) grw320
theorem cw320 : mCw gP gG 320 ∈ lw_all := cw_of gh320 gn320 gb320 gm320 gr320 q2853
theorem tg320 : mTg gP gG 320 2 := tg_of gn320 gm320 cw320 (by decide) ⟨by decide +kernel, by decide +kernel⟩ (by decide +kernel)
theorem grw321 : gRow 321 = w321 := rfl
theorem gn321 : gN gG 321 = yX9_isSeen := congrArg (fun r : mRow => r.2.2.2.1) grw321
theorem gb321 : gB gG 321 = cX9_isSeen := congrArg (fun r : mRow => r.2.2.2.2.1) grw321
theorem gr321 : gR gG 321 = (Option.some Jvm.ClassFile.FieldType.boolean : Option FieldType) := congrArg (fun r : mRow => r.2.2.2.2.2.1) grw321
theorem lv321 : gL gG 321 = 6 := congrArg (fun r : mRow => r.2.2.2.2.2.2.1) grw321
theorem gh321 : gH gG 321 = [] := congrArg (fun r : mRow => r.2.2.2.2.2.2.2) grw321
theorem gm321 : mmax gP 321 = 3 := congrArg (fun r : mRow => r.2.1) grw321
theorem cw321 : mCw gP gG 321 ∈ lw_all := cw_of gh321 gn321 gb321 gm321 gr321 q2857
theorem tg321 : mTg gP gG 321 1 := tg_of gn321 gm321 cw321 (by decide) ⟨by decide +kernel, by decide +kernel⟩ (by decide +kernel)
theorem grw322 : gRow 322 = w322 := rfl
theorem gn322 : gN gG 322 = yX9_sees := congrArg (fun r : mRow => r.2.2.2.1) grw322
theorem gb322 : gB gG 322 = cX9_sees := congrArg (fun r : mRow => r.2.2.2.2.1) grw322
theorem gr322 : gR gG 322 = (Option.some Jvm.ClassFile.FieldType.boolean : Option FieldType) := congrArg (fun r : mRow => r.2.2.2.2.2.1) grw322
theorem lv322 : gL gG 322 = 5 := congrArg (fun r : mRow => r.2.2.2.2.2.2.1) grw322
theorem gh322 : gH gG 322 = [] := congrArg (fun r : mRow => r.2.2.2.2.2.2.2) grw322
theorem gm322 : mmax gP 322 = 4 := congrArg (fun r : mRow => r.2.1) grw322
theorem cw322 : mCw gP gG 322 ∈ lw_all := cw_of gh322 gn322 gb322 gm322 gr322 q2861
theorem tg322 : mTg gP gG 322 2 := tg_of gn322 gm322 cw322 (by decide) ⟨by decide +kernel, by decide +kernel⟩ (by decide +kernel)
theorem grw323 : gRow 323 = w323 := rfl
theorem gn323 : gN gG 323 = yX9_placeIn := congrArg (fun r : mRow => r.2.2.2.1) grw323
theorem gb323 : gB gG 323 = cX9_placeIn := congrArg (fun r : mRow => r.2.2.2.2.1) grw323
theorem gr323 : gR gG 323 = (Option.some Jvm.ClassFile.FieldType.int : Option FieldType) := congrArg (fun r : mRow => r.2.2.2.2.2.1) grw323
theorem lv323 : gL gG 323 = 4 := congrArg (fun r : mRow => r.2.2.2.2.2.2.1) grw323
theorem gh323 : gH gG 323 = [] := congrArg (fun r : mRow => r.2.2.2.2.2.2.2) grw323
theorem gm323 : mmax gP 323 = 4 := congrArg (fun r : mRow => r.2.1) grw323
theorem cw323 : mCw gP gG 323 ∈ lw_all := cw_of gh323 gn323 gb323 gm323 gr323 q2865
theorem tg323 : mTg gP gG 323 2 := tg_of gn323 gm323 cw323 (by decide) ⟨by decide +kernel, by decide +kernel⟩ (by decide +kernel)
theorem grw324 : gRow 324 = w324 := rfl
theorem gn324 : gN gG 324 = yX9_isLetter := congrArg (fun r : mRow => r.2.2.2.1) grw324
theorem gb324 : gB gG 324 = cX9_isLetter := congrArg (fun r : mRow => r.2.2.2.2.1) grw324
theorem gr324 : gR gG 324 = (Option.some Jvm.ClassFile.FieldType.boolean : Option FieldType) := congrArg (fun r : mRow => r.2.2.2.2.2.1) grw324
theorem lv324 : gL gG 324 = 2 := congrArg (fun r : mRow => r.2.2.2.2.2.2.1) grw324
theorem gh324 : gH gG 324 = [] := congrArg (fun r : mRow => r.2.2.2.2.2.2.2) grw324
theorem gm324 : mmax gP 324 = 2 := congrArg (fun r : mRow => r.2.1) grw324
theorem cw324 : mCw gP gG 324 ∈ lw_all := cw_of gh324 gn324 gb324 gm324 gr324 q2869
theorem tg324 : mTg gP gG 324 1 := tg_of gn324 gm324 cw324 (by decide) ⟨by decide +kernel, by decide +kernel⟩ (by decide +kernel)
theorem grw325 : gRow 325 = w325 := rfl
theorem gn325 : gN gG 325 = yX9_pickIt := congrArg (fun r : mRow => r.2.2.2.1) grw325
theorem gb325 : gB gG 325 = cX9_pickIt := congrArg (fun r : mRow => r.2.2.2.2.1) grw325
theorem gr325 : gR gG 325 = (Option.some Jvm.ClassFile.FieldType.int : Option FieldType) := congrArg (fun r : mRow => r.2.2.2.2.2.1) grw325
theorem lv325 : gL gG 325 = 4 := congrArg (fun r : mRow => r.2.2.2.2.2.2.1) grw325
theorem gh325 : gH gG 325 = [] := congrArg (fun r : mRow => r.2.2.2.2.2.2.2) grw325
theorem gm325 : mmax gP 325 = 3 := congrArg (fun r : mRow => r.2.1) grw325
theorem cw325 : mCw gP gG 325 ∈ lw_all := cw_of gh325 gn325 gb325 gm325 gr325 q2873
theorem tg325 : mTg gP gG 325 2 := tg_of gn325 gm325 cw325 (by decide) ⟨by decide +kernel, by decide +kernel⟩ (by decide +kernel)
theorem grw326 : gRow 326 = w326 := rfl
theorem gn326 : gN gG 326 = yX9_liesOn := congrArg (fun r : mRow => r.2.2.2.1) grw326
theorem gb326 : gB gG 326 = cX9_liesOn := congrArg (fun r : mRow => r.2.2.2.2.1) grw326
theorem gr326 : gR gG 326 = (Option.some Jvm.ClassFile.FieldType.boolean : Option FieldType) := congrArg (fun r : mRow => r.2.2.2.2.2.1) grw326
theorem lv326 : gL gG 326 = 2 := congrArg (fun r : mRow => r.2.2.2.2.2.2.1) grw326
theorem gh326 : gH gG 326 = [] := congrArg (fun r : mRow => r.2.2.2.2.2.2.2) grw326
theorem gm326 : mmax gP 326 = 3 := congrArg (fun r : mRow => r.2.1) grw326
theorem cw326 : mCw gP gG 326 ∈ lw_all := cw_of gh326 gn326 gb326 gm326 gr326 q2877
theorem tg326 : mTg gP gG 326 2 := tg_of gn326 gm326 cw326 (by decide) ⟨by decide +kernel, by decide +kernel⟩ (by decide +kernel)
theorem grw327 : gRow 327 = w327 := rfl
theorem gn327 : gN gG 327 = yX9_carriedBy := congrArg (fun r : mRow => r.2.2.2.1) grw327
theorem gb327 : gB gG 327 = cX9_carriedBy := congrArg (fun r : mRow => r.2.2.2.2.1) grw327
theorem gr327 : gR gG 327 = (Option.some Jvm.ClassFile.FieldType.int : Option FieldType) := congrArg (fun r : mRow => r.2.2.2.2.2.1) grw327
theorem lv327 : gL gG 327 = 3 := congrArg (fun r : mRow => r.2.2.2.2.2.2.1) grw327
theorem gh327 : gH gG 327 = [] := congrArg (fun r : mRow => r.2.2.2.2.2.2.2) grw327
theorem gm327 : mmax gP 327 = 4 := congrArg (fun r : mRow => r.2.1) grw327
theorem cw327 : mCw gP gG 327 ∈ lw_all := cw_of gh327 gn327 gb327 gm327 gr327 q2881
theorem tg327 : mTg gP gG 327 1 := tg_of gn327 gm327 cw327 (by decide) ⟨by decide +kernel, by decide +kernel⟩ (by decide +kernel)
theorem grw328 : gRow 328 = w328 := rfl
theorem gn328 : gN gG 328 = yX9_giveIt := congrArg (fun r : mRow => r.2.2.2.1) grw328
theorem gb328 : gB gG 328 = cX9_giveIt := congrArg (fun r : mRow => r.2.2.2.2.1) grw328
theorem gr328 : gR gG 328 = (Option.some Jvm.ClassFile.FieldType.int : Option FieldType) := congrArg (fun r : mRow => r.2.2.2.2.2.1) grw328
theorem lv328 : gL gG 328 = 5 := congrArg (fun r : mRow => r.2.2.2.2.2.2.1) grw328
theorem gh328 : gH gG 328 = [] := congrArg (fun r : mRow => r.2.2.2.2.2.2.2) grw328
theorem gm328 : mmax gP 328 = 5 := congrArg (fun r : mRow => r.2.1) grw328
theorem cw328 : mCw gP gG 328 ∈ lw_all := cw_of gh328 gn328 gb328 gm328 gr328 q2885
theorem tg328 : mTg gP gG 328 3 := tg_of gn328 gm328 cw328 (by decide) ⟨by decide +kernel, by decide +kernel⟩ (by decide +kernel)
theorem grw329 : gRow 329 = w329 := rfl
theorem gn329 : gN gG 329 = yX9_whyNotGive := congrArg (fun r : mRow => r.2.2.2.1) grw329
theorem gb329 : gB gG 329 = cX9_whyNotGive := congrArg (fun r : mRow => r.2.2.2.2.1) grw329
theorem gr329 : gR gG 329 = (Option.some Jvm.ClassFile.FieldType.int : Option FieldType) := congrArg (fun r : mRow => r.2.2.2.2.2.1) grw329
theorem lv329 : gL gG 329 = 4 := congrArg (fun r : mRow => r.2.2.2.2.2.2.1) grw329
theorem gh329 : gH gG 329 = [] := congrArg (fun r : mRow => r.2.2.2.2.2.2.2) grw329
theorem gm329 : mmax gP 329 = 4 := congrArg (fun r : mRow => r.2.1) grw329
theorem cw329 : mCw gP gG 329 ∈ lw_all := cw_of gh329 gn329 gb329 gm329 gr329 q2889
theorem tg329 : mTg gP gG 329 3 := tg_of gn329 gm329 cw329 (by decide) ⟨by decide +kernel, by decide +kernel⟩ (by decide +kernel)
theorem grw330 : gRow 330 = w330 := rfl
theorem gn330 : gN gG 330 = yX9_layIt := congrArg (fun r : mRow => r.2.2.2.1) grw330
theorem gb330 : gB gG 330 = cX9_layIt := congrArg (fun r : mRow => r.2.2.2.2.1) grw330
theorem gr330 : gR gG 330 = (Option.some Jvm.ClassFile.FieldType.int : Option FieldType) := congrArg (fun r : mRow => r.2.2.2.2.2.1) grw330
theorem lv330 : gL gG 330 = 3 := congrArg (fun r : mRow => r.2.2.2.2.2.2.1) grw330
theorem gh330 : gH gG 330 = [] := congrArg (fun r : mRow => r.2.2.2.2.2.2.2) grw330
theorem gm330 : mmax gP 330 = 3 := congrArg (fun r : mRow => r.2.1) grw330
theorem cw330 : mCw gP gG 330 ∈ lw_all := cw_of gh330 gn330 gb330 gm330 gr330 q2893
theorem tg330 : mTg gP gG 330 2 := tg_of gn330 gm330 cw330 (by decide) ⟨by decide +kernel, by decide +kernel⟩ (by decide +kernel)
theorem grw331 : gRow 331 = w331 := rfl
theorem gn331 : gN gG 331 = yX9_errorCode := congrArg (fun r : mRow => r.2.2.2.1) grw331
theorem gb331 : gB gG 331 = cX9_errorCode := congrArg (fun r : mRow => r.2.2.2.2.1) grw331
theorem gr331 : gR gG 331 = (Option.some Jvm.ClassFile.FieldType.int : Option FieldType) := congrArg (fun r : mRow => r.2.2.2.2.2.1) grw331
theorem lv331 : gL gG 331 = 1 := congrArg (fun r : mRow => r.2.2.2.2.2.2.1) grw331
theorem gh331 : gH gG 331 = [] := congrArg (fun r : mRow => r.2.2.2.2.2.2.2) grw331
theorem gm331 : mmax gP 331 = 1 := congrArg (fun r : mRow => r.2.1) grw331
theorem cw331 : mCw gP gG 331 ∈ lw_all := cw_of gh331 gn331 gb331 gm331 gr331 q2897
theorem tg331 : mTg gP gG 331 0 := tg_of gn331 gm331 cw331 (by decide) ⟨by decide +kernel, by decide +kernel⟩ (by decide +kernel)
theorem grw332 : gRow 332 = w332 := rfl
theorem gn332 : gN gG 332 = yX9_errorPosition := congrArg (fun r : mRow => r.2.2.2.1) grw332
theorem gb332 : gB gG 332 = cX9_errorPosition := congrArg (fun r : mRow => r.2.2.2.2.1) grw332
theorem gr332 : gR gG 332 = (Option.some Jvm.ClassFile.FieldType.int : Option FieldType) := congrArg (fun r : mRow => r.2.2.2.2.2.1) grw332
theorem lv332 : gL gG 332 = 1 := congrArg (fun r : mRow => r.2.2.2.2.2.2.1) grw332
theorem gh332 : gH gG 332 = [] := congrArg (fun r : mRow => r.2.2.2.2.2.2.2) grw332
theorem gm332 : mmax gP 332 = 1 := congrArg (fun r : mRow => r.2.1) grw332
theorem cw332 : mCw gP gG 332 ∈ lw_all := cw_of gh332 gn332 gb332 gm332 gr332 q2901
theorem tg332 : mTg gP gG 332 0 := tg_of gn332 gm332 cw332 (by decide) ⟨by decide +kernel, by decide +kernel⟩ (by decide +kernel)
theorem grw333 : gRow 333 = w333 := rfl
theorem gn333 : gN gG 333 = yX9_total := congrArg (fun r : mRow => r.2.2.2.1) grw333
theorem gb333 : gB gG 333 = cX9_total := congrArg (fun r : mRow => r.2.2.2.2.1) grw333
theorem gr333 : gR gG 333 = (Option.some Jvm.ClassFile.FieldType.int : Option FieldType) := congrArg (fun r : mRow => r.2.2.2.2.2.1) grw333
theorem lv333 : gL gG 333 = 7 := congrArg (fun r : mRow => r.2.2.2.2.2.2.1) grw333
theorem gh333 : gH gG 333 = [] := congrArg (fun r : mRow => r.2.2.2.2.2.2.2) grw333
theorem gm333 : mmax gP 333 = 2 := congrArg (fun r : mRow => r.2.1) grw333
theorem cw333 : mCw gP gG 333 ∈ lw_all := cw_of gh333 gn333 gb333 gm333 gr333 q2905
theorem tg333 : mTg gP gG 333 1 := tg_of gn333 gm333 cw333 (by decide) ⟨by decide +kernel, by decide +kernel⟩ (by decide +kernel)
theorem grw334 : gRow 334 = w334 := rfl
theorem gn334 : gN gG 334 = yX9_walls := congrArg (fun r : mRow => r.2.2.2.1) grw334
theorem gb334 : gB gG 334 = cX9_walls := congrArg (fun r : mRow => r.2.2.2.2.1) grw334
theorem gr334 : gR gG 334 = (Option.some Jvm.ClassFile.FieldType.int : Option FieldType) := congrArg (fun r : mRow => r.2.2.2.2.2.1) grw334
theorem lv334 : gL gG 334 = 2 := congrArg (fun r : mRow => r.2.2.2.2.2.2.1) grw334
theorem gh334 : gH gG 334 = [] := congrArg (fun r : mRow => r.2.2.2.2.2.2.2) grw334
theorem gm334 : mmax gP 334 = 3 := congrArg (fun r : mRow => r.2.1) grw334
theorem cw334 : mCw gP gG 334 ∈ lw_all := cw_of gh334 gn334 gb334 gm334 gr334 q2909
theorem tg334 : mTg gP gG 334 0 := tg_of gn334 gm334 cw334 (by decide) ⟨by decide +kernel, by decide +kernel⟩ (by decide +kernel)
theorem grw335 : gRow 335 = w335 := rfl
theorem gn335 : gN gG 335 = yX9_lettersThat := congrArg (fun r : mRow => r.2.2.2.1) grw335
theorem gb335 : gB gG 335 = cX9_lettersThat := congrArg (fun r : mRow => r.2.2.2.2.1) grw335
theorem gr335 : gR gG 335 = (Option.some Jvm.ClassFile.FieldType.int : Option FieldType) := congrArg (fun r : mRow => r.2.2.2.2.2.1) grw335
theorem lv335 : gL gG 335 = 2 := congrArg (fun r : mRow => r.2.2.2.2.2.2.1) grw335
theorem gh335 : gH gG 335 = [] := congrArg (fun r : mRow => r.2.2.2.2.2.2.2) grw335
theorem gm335 : mmax gP 335 = 4 := congrArg (fun r : mRow => r.2.1) grw335
theorem cw335 : mCw gP gG 335 ∈ lw_all := cw_of gh335 gn335 gb335 gm335 gr335 q2913
theorem tg335 : mTg gP gG 335 1 := tg_of gn335 gm335 cw335 (by decide) ⟨by decide +kernel, by decide +kernel⟩ (by decide +kernel)
theorem grw336 : gRow 336 = w336 := rfl
theorem gn336 : gN gG 336 = yX9_seenCells := congrArg (fun r : mRow => r.2.2.2.1) grw336
theorem gb336 : gB gG 336 = cX9_seenCells := congrArg (fun r : mRow => r.2.2.2.2.1) grw336
theorem gr336 : gR gG 336 = (Option.some Jvm.ClassFile.FieldType.int : Option FieldType) := congrArg (fun r : mRow => r.2.2.2.2.2.1) grw336
theorem lv336 : gL gG 336 = 6 := congrArg (fun r : mRow => r.2.2.2.2.2.2.1) grw336
theorem gh336 : gH gG 336 = [] := congrArg (fun r : mRow => r.2.2.2.2.2.2.2) grw336
theorem gm336 : mmax gP 336 = 3 := congrArg (fun r : mRow => r.2.1) grw336
theorem cw336 : mCw gP gG 336 ∈ lw_all := cw_of gh336 gn336 gb336 gm336 gr336 q2917
theorem tg336 : mTg gP gG 336 0 := tg_of gn336 gm336 cw336 (by decide) ⟨by decide +kernel, by decide +kernel⟩ (by decide +kernel)
theorem grw337 : gRow 337 = w337 := rfl
theorem gn337 : gN gG 337 = yX9_tally := congrArg (fun r : mRow => r.2.2.2.1) grw337
theorem gb337 : gB gG 337 = cX9_tally := congrArg (fun r : mRow => r.2.2.2.2.1) grw337
theorem gr337 : gR gG 337 = (Option.some Jvm.ClassFile.FieldType.int : Option FieldType) := congrArg (fun r : mRow => r.2.2.2.2.2.1) grw337
theorem lv337 : gL gG 337 = 2 := congrArg (fun r : mRow => r.2.2.2.2.2.2.1) grw337
theorem gh337 : gH gG 337 = [] := congrArg (fun r : mRow => r.2.2.2.2.2.2.2) grw337
theorem gm337 : mmax gP 337 = 2 := congrArg (fun r : mRow => r.2.1) grw337
theorem cw337 : mCw gP gG 337 ∈ lw_all := cw_of gh337 gn337 gb337 gm337 gr337 q2921
theorem tg337 : mTg gP gG 337 1 := tg_of gn337 gm337 cw337 (by decide) ⟨by decide +kernel, by decide +kernel⟩ (by decide +kernel)
theorem grw338 : gRow 338 = w338 := rfl
theorem gn338 : gN gG 338 = yX9_cell := congrArg (fun r : mRow => r.2.2.2.1) grw338
theorem gb338 : gB gG 338 = cX9_cell := congrArg (fun r : mRow => r.2.2.2.2.1) grw338
theorem gr338 : gR gG 338 = (Option.some Jvm.ClassFile.FieldType.int : Option FieldType) := congrArg (fun r : mRow => r.2.2.2.2.2.1) grw338
theorem lv338 : gL gG 338 = 7 := congrArg (fun r : mRow => r.2.2.2.2.2.2.1) grw338
theorem gh338 : gH gG 338 = [] := congrArg (fun r : mRow => r.2.2.2.2.2.2.2) grw338
theorem gm338 : mmax gP 338 = 3 := congrArg (fun r : mRow => r.2.1) grw338
theorem cw338 : mCw gP gG 338 ∈ lw_all := cw_of gh338 gn338 gb338 gm338 gr338 q2925
theorem tg338 : mTg gP gG 338 2 := tg_of gn338 gm338 cw338 (by decide) ⟨by decide +kernel, by decide +kernel⟩ (by decide +kernel)
theorem grw339 : gRow 339 = w339 := rfl
theorem gn339 : gN gG 339 = yX9_isCell := congrArg (fun r : mRow => r.2.2.2.1) grw339
theorem gb339 : gB gG 339 = cX9_isCell := congrArg (fun r : mRow => r.2.2.2.2.1) grw339
theorem gr339 : gR gG 339 = (Option.some Jvm.ClassFile.FieldType.boolean : Option FieldType) := congrArg (fun r : mRow => r.2.2.2.2.2.1) grw339
theorem lv339 : gL gG 339 = 2 := congrArg (fun r : mRow => r.2.2.2.2.2.2.1) grw339
theorem gh339 : gH gG 339 = [] := congrArg (fun r : mRow => r.2.2.2.2.2.2.2) grw339
theorem gm339 : mmax gP 339 = 2 := congrArg (fun r : mRow => r.2.1) grw339
theorem cw339 : mCw gP gG 339 ∈ lw_all := cw_of gh339 gn339 gb339 gm339 gr339 q2929
theorem tg339 : mTg gP gG 339 1 := tg_of gn339 gm339 cw339 (by decide) ⟨by decide +kernel, by decide +kernel⟩ (by decide +kernel)
theorem grw340 : gRow 340 = w340 := rfl
theorem gn340 : gN gG 340 = yX9_seers := congrArg (fun r : mRow => r.2.2.2.1) grw340
theorem gb340 : gB gG 340 = cX9_seers := congrArg (fun r : mRow => r.2.2.2.2.1) grw340
theorem gr340 : gR gG 340 = (Option.some Jvm.ClassFile.FieldType.int : Option FieldType) := congrArg (fun r : mRow => r.2.2.2.2.2.1) grw340
theorem lv340 : gL gG 340 = 6 := congrArg (fun r : mRow => r.2.2.2.2.2.2.1) grw340
theorem gh340 : gH gG 340 = [] := congrArg (fun r : mRow => r.2.2.2.2.2.2.2) grw340
theorem gm340 : mmax gP 340 = 4 := congrArg (fun r : mRow => r.2.1) grw340
theorem cw340 : mCw gP gG 340 ∈ lw_all := cw_of gh340 gn340 gb340 gm340 gr340 q2933
theorem tg340 : mTg gP gG 340 1 := tg_of gn340 gm340 cw340 (by decide) ⟨by decide +kernel, by decide +kernel⟩ (by decide +kernel)
theorem grw341 : gRow 341 = w341 := rfl
theorem gn341 : gN gG 341 = yX9_couriersOn := congrArg (fun r : mRow => r.2.2.2.1) grw341
theorem gb341 : gB gG 341 = cX9_couriersOn := congrArg (fun r : mRow => r.2.2.2.2.1) grw341
theorem gr341 : gR gG 341 = (Option.some Jvm.ClassFile.FieldType.int : Option FieldType) := congrArg (fun r : mRow => r.2.2.2.2.2.1) grw341
theorem lv341 : gL gG 341 = 2 := congrArg (fun r : mRow => r.2.2.2.2.2.2.1) grw341
theorem gh341 : gH gG 341 = [] := congrArg (fun r : mRow => r.2.2.2.2.2.2.2) grw341
theorem gm341 : mmax gP 341 = 4 := congrArg (fun r : mRow => r.2.1) grw341
theorem cw341 : mCw gP gG 341 ∈ lw_all := cw_of gh341 gn341 gb341 gm341 gr341 q2937
theorem tg341 : mTg gP gG 341 1 := tg_of gn341 gm341 cw341 (by decide) ⟨by decide +kernel, by decide +kernel⟩ (by decide +kernel)
theorem grw342 : gRow 342 = w342 := rfl
theorem gn342 : gN gG 342 = yX9_lettersOn := congrArg (fun r : mRow => r.2.2.2.1) grw342
theorem gb342 : gB gG 342 = cX9_lettersOn := congrArg (fun r : mRow => r.2.2.2.2.1) grw342
theorem gr342 : gR gG 342 = (Option.some Jvm.ClassFile.FieldType.int : Option FieldType) := congrArg (fun r : mRow => r.2.2.2.2.2.1) grw342
theorem lv342 : gL gG 342 = 3 := congrArg (fun r : mRow => r.2.2.2.2.2.2.1) grw342
theorem gh342 : gH gG 342 = [] := congrArg (fun r : mRow => r.2.2.2.2.2.2.2) grw342
theorem gm342 : mmax gP 342 = 4 := congrArg (fun r : mRow => r.2.1) grw342
theorem cw342 : mCw gP gG 342 ∈ lw_all := cw_of gh342 gn342 gb342 gm342 gr342 q2941
theorem tg342 : mTg gP gG 342 1 := tg_of gn342 gm342 cw342 (by decide) ⟨by decide +kernel, by decide +kernel⟩ (by decide +kernel)
theorem grw343 : gRow 343 = w343 := rfl
theorem gn343 : gN gG 343 = yX9_lettersFor := congrArg (fun r : mRow => r.2.2.2.1) grw343
theorem gb343 : gB gG 343 = cX9_lettersFor := congrArg (fun r : mRow => r.2.2.2.2.1) grw343
theorem gr343 : gR gG 343 = (Option.some Jvm.ClassFile.FieldType.int : Option FieldType) := congrArg (fun r : mRow => r.2.2.2.2.2.1) grw343
theorem lv343 : gL gG 343 = 2 := congrArg (fun r : mRow => r.2.2.2.2.2.2.1) grw343
theorem gh343 : gH gG 343 = [] := congrArg (fun r : mRow => r.2.2.2.2.2.2.2) grw343
theorem gm343 : mmax gP 343 = 4 := congrArg (fun r : mRow => r.2.1) grw343
theorem cw343 : mCw gP gG 343 ∈ lw_all := cw_of gh343 gn343 gb343 gm343 gr343 q2945
theorem tg343 : mTg gP gG 343 1 := tg_of gn343 gm343 cw343 (by decide) ⟨by decide +kernel, by decide +kernel⟩ (by decide +kernel)
theorem grw344 : gRow 344 = w344 := rfl
theorem gn344 : gN gG 344 = yX9_bank := congrArg (fun r : mRow => r.2.2.2.1) grw344
theorem gb344 : gB gG 344 = cX9_bank := congrArg (fun r : mRow => r.2.2.2.2.1) grw344
theorem gr344 : gR gG 344 = (Option.some Jvm.ClassFile.FieldType.int : Option FieldType) := congrArg (fun r : mRow => r.2.2.2.2.2.1) grw344
theorem lv344 : gL gG 344 = 2 := congrArg (fun r : mRow => r.2.2.2.2.2.2.1) grw344
theorem gh344 : gH gG 344 = [] := congrArg (fun r : mRow => r.2.2.2.2.2.2.2) grw344
theorem gm344 : mmax gP 344 = 3 := congrArg (fun r : mRow => r.2.1) grw344
theorem cw344 : mCw gP gG 344 ∈ lw_all := cw_of gh344 gn344 gb344 gm344 gr344 q2949
theorem tg344 : mTg gP gG 344 2 := tg_of gn344 gm344 cw344 (by decide) ⟨by decide +kernel, by decide +kernel⟩ (by decide +kernel)
theorem grw345 : gRow 345 = w345 := rfl
theorem gn345 : gN gG 345 = yX9_watcher := congrArg (fun r : mRow => r.2.2.2.1) grw345
theorem gb345 : gB gG 345 = cX9_watcher := congrArg (fun r : mRow => r.2.2.2.2.1) grw345
theorem gr345 : gR gG 345 = (Option.some Jvm.ClassFile.FieldType.int : Option FieldType) := congrArg (fun r : mRow => r.2.2.2.2.2.1) grw345
theorem lv345 : gL gG 345 = 7 := congrArg (fun r : mRow => r.2.2.2.2.2.2.1) grw345
theorem gh345 : gH gG 345 = [] := congrArg (fun r : mRow => r.2.2.2.2.2.2.2) grw345
theorem gm345 : mmax gP 345 = 3 := congrArg (fun r : mRow => r.2.1) grw345
theorem cw345 : mCw gP gG 345 ∈ lw_all := cw_of gh345 gn345 gb345 gm345 gr345 q2953
theorem tg345 : mTg gP gG 345 2 := tg_of gn345 gm345 cw345 (by decide) ⟨by decide +kernel, by decide +kernel⟩ (by decide +kernel)
theorem grw346 : gRow 346 = w346 := rfl
theorem gn346 : gN gG 346 = yX9_isWatcher := congrArg (fun r : mRow => r.2.2.2.1) grw346
theorem gb346 : gB gG 346 = cX9_isWatcher := congrArg (fun r : mRow => r.2.2.2.2.1) grw346
theorem gr346 : gR gG 346 = (Option.some Jvm.ClassFile.FieldType.boolean : Option FieldType) := congrArg (fun r : mRow => r.2.2.2.2.2.1) grw346
theorem lv346 : gL gG 346 = 2 := congrArg (fun r : mRow => r.2.2.2.2.2.2.1) grw346
theorem gh346 : gH gG 346 = [] := congrArg (fun r : mRow => r.2.2.2.2.2.2.2) grw346
theorem gm346 : mmax gP 346 = 2 := congrArg (fun r : mRow => r.2.1) grw346
theorem cw346 : mCw gP gG 346 ∈ lw_all := cw_of gh346 gn346 gb346 gm346 gr346 q2957
theorem tg346 : mTg gP gG 346 1 := tg_of gn346 gm346 cw346 (by decide) ⟨by decide +kernel, by decide +kernel⟩ (by decide +kernel)
theorem grw347 : gRow 347 = w347 := rfl
theorem gn347 : gN gG 347 = yX9_seenBy := congrArg (fun r : mRow => r.2.2.2.1) grw347
theorem gb347 : gB gG 347 = cX9_seenBy := congrArg (fun r : mRow => r.2.2.2.2.1) grw347
theorem gr347 : gR gG 347 = (Option.some Jvm.ClassFile.FieldType.int : Option FieldType) := congrArg (fun r : mRow => r.2.2.2.2.2.1) grw347
theorem lv347 : gL gG 347 = 6 := congrArg (fun r : mRow => r.2.2.2.2.2.2.1) grw347
theorem gh347 : gH gG 347 = [] := congrArg (fun r : mRow => r.2.2.2.2.2.2.2) grw347
theorem gm347 : mmax gP 347 = 4 := congrArg (fun r : mRow => r.2.1) grw347
theorem cw347 : mCw gP gG 347 ∈ lw_all := cw_of gh347 gn347 gb347 gm347 gr347 q2961
theorem tg347 : mTg gP gG 347 1 := tg_of gn347 gm347 cw347 (by decide) ⟨by decide +kernel, by decide +kernel⟩ (by decide +kernel)
theorem grw348 : gRow 348 = w348 := rfl
theorem gn348 : gN gG 348 = yX9_couriersSeenBy := congrArg (fun r : mRow => r.2.2.2.1) grw348
theorem gb348 : gB gG 348 = cX9_couriersSeenBy := congrArg (fun r : mRow => r.2.2.2.2.1) grw348
theorem gr348 : gR gG 348 = (Option.some Jvm.ClassFile.FieldType.int : Option FieldType) := congrArg (fun r : mRow => r.2.2.2.2.2.1) grw348
theorem lv348 : gL gG 348 = 6 := congrArg (fun r : mRow => r.2.2.2.2.2.2.1) grw348
theorem gh348 : gH gG 348 = [] := congrArg (fun r : mRow => r.2.2.2.2.2.2.2) grw348
theorem gm348 : mmax gP 348 = 4 := congrArg (fun r : mRow => r.2.1) grw348
theorem cw348 : mCw gP gG 348 ∈ lw_all := cw_of gh348 gn348 gb348 gm348 gr348 q2965
theorem tg348 : mTg gP gG 348 1 := tg_of gn348 gm348 cw348 (by decide) ⟨by decide +kernel, by decide +kernel⟩ (by decide +kernel)
theorem grw349 : gRow 349 = w349 := rfl
theorem gn349 : gN gG 349 = yX9_courier := congrArg (fun r : mRow => r.2.2.2.1) grw349
theorem gb349 : gB gG 349 = cX9_courier := congrArg (fun r : mRow => r.2.2.2.2.1) grw349
theorem gr349 : gR gG 349 = (Option.some Jvm.ClassFile.FieldType.int : Option FieldType) := congrArg (fun r : mRow => r.2.2.2.2.2.1) grw349
theorem lv349 : gL gG 349 = 7 := congrArg (fun r : mRow => r.2.2.2.2.2.2.1) grw349
theorem gh349 : gH gG 349 = [] := congrArg (fun r : mRow => r.2.2.2.2.2.2.2) grw349
theorem gm349 : mmax gP 349 = 3 := congrArg (fun r : mRow => r.2.1) grw349
theorem cw349 : mCw gP gG 349 ∈ lw_all := cw_of gh349 gn349 gb349 gm349 gr349 q2969
theorem tg349 : mTg gP gG 349 2 := tg_of gn349 gm349 cw349 (by decide) ⟨by decide +kernel, by decide +kernel⟩ (by decide +kernel)
theorem grw350 : gRow 350 = w350 := rfl
theorem gn350 : gN gG 350 = yX9_letter := congrArg (fun r : mRow => r.2.2.2.1) grw350
theorem gb350 : gB gG 350 = cX9_letter := congrArg (fun r : mRow => r.2.2.2.2.1) grw350
theorem gr350 : gR gG 350 = (Option.some Jvm.ClassFile.FieldType.int : Option FieldType) := congrArg (fun r : mRow => r.2.2.2.2.2.1) grw350
theorem lv350 : gL gG 350 = 3 := congrArg (fun r : mRow => r.2.2.2.2.2.2.1) grw350
theorem gh350 : gH gG 350 = [] := congrArg (fun r : mRow => r.2.2.2.2.2.2.2) grw350
theorem gm350 : mmax gP 350 = 3 := congrArg (fun r : mRow => r.2.1) grw350
theorem cw350 : mCw gP gG 350 ∈ lw_all := cw_of gh350 gn350 gb350 gm350 gr350 q2973
theorem tg350 : mTg gP gG 350 2 := tg_of gn350 gm350 cw350 (by decide) ⟨by decide +kernel, by decide +kernel⟩ (by decide +kernel)
theorem grw351 : gRow 351 = w351 := rfl
theorem gn351 : gN gG 351 = yX9_cellOf := congrArg (fun r : mRow => r.2.2.2.1) grw351
theorem gb351 : gB gG 351 = cX9_cellOf := congrArg (fun r : mRow => r.2.2.2.2.1) grw351
theorem gr351 : gR gG 351 = (Option.some Jvm.ClassFile.FieldType.int : Option FieldType) := congrArg (fun r : mRow => r.2.2.2.2.2.1) grw351
theorem lv351 : gL gG 351 = 2 := congrArg (fun r : mRow => r.2.2.2.2.2.2.1) grw351
theorem gh351 : gH gG 351 = [] := congrArg (fun r : mRow => r.2.2.2.2.2.2.2) grw351
theorem gm351 : mmax gP 351 = 2 := congrArg (fun r : mRow => r.2.1) grw351
theorem cw351 : mCw gP gG 351 ∈ lw_all := cw_of gh351 gn351 gb351 gm351 gr351 q2977
theorem tg351 : mTg gP gG 351 1 := tg_of gn351 gm351 cw351 (by decide) ⟨by decide +kernel, by decide +kernel⟩ (by decide +kernel)
theorem grw352 : gRow 352 = w352 := rfl
theorem gn352 : gN gG 352 = yX9_gaze := congrArg (fun r : mRow => r.2.2.2.1) grw352
theorem gb352 : gB gG 352 = cX9_gaze := congrArg (fun r : mRow => r.2.2.2.2.1) grw352
theorem gr352 : gR gG 352 = (Option.some Jvm.ClassFile.FieldType.int : Option FieldType) := congrArg (fun r : mRow => r.2.2.2.2.2.1) grw352
theorem lv352 : gL gG 352 = 4 := congrArg (fun r : mRow => r.2.2.2.2.2.2.1) grw352
theorem gh352 : gH gG 352 = [] := congrArg (fun r : mRow => r.2.2.2.2.2.2.2) grw352
theorem gm352 : mmax gP 352 = 3 := congrArg (fun r : mRow => r.2.1) grw352
theorem cw352 : mCw gP gG 352 ∈ lw_all := cw_of gh352 gn352 gb352 gm352 gr352 q2981
theorem tg352 : mTg gP gG 352 2 := tg_of gn352 gm352 cw352 (by decide) ⟨by decide +kernel, by decide +kernel⟩ (by decide +kernel)
theorem grw353 : gRow 353 = w353 := rfl
theorem gn353 : gN gG 353 = yX9_why := congrArg (fun r : mRow => r.2.2.2.1) grw353
theorem gb353 : gB gG 353 = cX9_why := congrArg (fun r : mRow => r.2.2.2.2.1) grw353
theorem gr353 : gR gG 353 = (Option.some Jvm.ClassFile.FieldType.int : Option FieldType) := congrArg (fun r : mRow => r.2.2.2.2.2.1) grw353
theorem lv353 : gL gG 353 = 8 := congrArg (fun r : mRow => r.2.2.2.2.2.2.1) grw353
theorem gh353 : gH gG 353 = [] := congrArg (fun r : mRow => r.2.2.2.2.2.2.2) grw353
theorem gm353 : mmax gP 353 = 4 := congrArg (fun r : mRow => r.2.1) grw353
theorem cw353 : mCw gP gG 353 ∈ lw_all := cw_of gh353 gn353 gb353 gm353 gr353 q2985
theorem tg353 : mTg gP gG 353 2 := tg_of gn353 gm353 cw353 (by decide) ⟨by decide +kernel, by decide +kernel⟩ (by decide +kernel)
theorem grw354 : gRow 354 = w354 := rfl
theorem gn354 : gN gG 354 = yX9_reasonOf := congrArg (fun r : mRow => r.2.2.2.1) grw354
theorem gb354 : gB gG 354 = cX9_reasonOf := congrArg (fun r : mRow => r.2.2.2.2.1) grw354
theorem gr354 : gR gG 354 = (Option.some Jvm.ClassFile.FieldType.int : Option FieldType) := congrArg (fun r : mRow => r.2.2.2.2.2.1) grw354
theorem lv354 : gL gG 354 = 7 := congrArg (fun r : mRow => r.2.2.2.2.2.2.1) grw354
theorem gh354 : gH gG 354 = [] := congrArg (fun r : mRow => r.2.2.2.2.2.2.2) grw354
theorem gm354 : mmax gP 354 = 2 := congrArg (fun r : mRow => r.2.1) grw354
theorem cw354 : mCw gP gG 354 ∈ lw_all := cw_of gh354 gn354 gb354 gm354 gr354 q2989
theorem tg354 : mTg gP gG 354 1 := tg_of gn354 gm354 cw354 (by decide) ⟨by decide +kernel, by decide +kernel⟩ (by decide +kernel)
theorem grw355 : gRow 355 = w355 := rfl
theorem gn355 : gN gG 355 = yX9_lowestGazer := congrArg (fun r : mRow => r.2.2.2.1) grw355
theorem gb355 : gB gG 355 = cX9_lowestGazer := congrArg (fun r : mRow => r.2.2.2.2.1) grw355
theorem gr355 : gR gG 355 = (Option.some Jvm.ClassFile.FieldType.int : Option FieldType) := congrArg (fun r : mRow => r.2.2.2.2.2.1) grw355
theorem lv355 : gL gG 355 = 5 := congrArg (fun r : mRow => r.2.2.2.2.2.2.1) grw355
theorem gh355 : gH gG 355 = [] := congrArg (fun r : mRow => r.2.2.2.2.2.2.2) grw355
theorem gm355 : mmax gP 355 = 3 := congrArg (fun r : mRow => r.2.1) grw355
theorem cw355 : mCw gP gG 355 ∈ lw_all := cw_of gh355 gn355 gb355 gm355 gr355 q2993
theorem tg355 : mTg gP gG 355 1 := tg_of gn355 gm355 cw355 (by decide) ⟨by decide +kernel, by decide +kernel⟩ (by decide +kernel)
theorem grw356 : gRow 356 = w356 := rfl
theorem gn356 : gN gG 356 = yX9_causeOf := congrArg (fun r : mRow => r.2.2.2.1) grw356
theorem gb356 : gB gG 356 = cX9_causeOf := congrArg (fun r : mRow => r.2.2.2.2.1) grw356
theorem gr356 : gR gG 356 = (Option.some Jvm.ClassFile.FieldType.int : Option FieldType) := congrArg (fun r : mRow => r.2.2.2.2.2.1) grw356
theorem lv356 : gL gG 356 = 7 := congrArg (fun r : mRow => r.2.2.2.2.2.2.1) grw356
theorem gh356 : gH gG 356 = [] := congrArg (fun r : mRow => r.2.2.2.2.2.2.2) grw356
theorem gm356 : mmax gP 356 = 3 := congrArg (fun r : mRow => r.2.1) grw356
theorem cw356 : mCw gP gG 356 ∈ lw_all := cw_of gh356 gn356 gb356 gm356 gr356 q2997
theorem tg356 : mTg gP gG 356 2 := tg_of gn356 gm356 cw356 (by decide) ⟨by decide +kernel, by decide +kernel⟩ (by decide +kernel)
theorem grw357 : gRow 357 = w357 := rfl
theorem gn357 : gN gG 357 = yX9_lowestSeer := congrArg (fun r : mRow => r.2.2.2.1) grw357
theorem gb357 : gB gG 357 = cX9_lowestSeer := congrArg (fun r : mRow => r.2.2.2.2.1) grw357
theorem gr357 : gR gG 357 = (Option.some Jvm.ClassFile.FieldType.int : Option FieldType) := congrArg (fun r : mRow => r.2.2.2.2.2.1) grw357
theorem lv357 : gL gG 357 = 6 := congrArg (fun r : mRow => r.2.2.2.2.2.2.1) grw357
theorem gh357 : gH gG 357 = [] := congrArg (fun r : mRow => r.2.2.2.2.2.2.2) grw357
theorem gm357 : mmax gP 357 = 3 := congrArg (fun r : mRow => r.2.1) grw357
theorem cw357 : mCw gP gG 357 ∈ lw_all := cw_of gh357 gn357 gb357 gm357 gr357 q3001
theorem tg357 : mTg gP gG 357 1 := tg_of gn357 gm357 cw357 (by decide) ⟨by decide +kernel, by decide +kernel⟩ (by decide +kernel)
theorem grw358 : gRow 358 = w358 := rfl
theorem gn358 : gN gG 358 = yX9_furtherOf := congrArg (fun r : mRow => r.2.2.2.1) grw358
theorem gb358 : gB gG 358 = cX9_furtherOf := congrArg (fun r : mRow => r.2.2.2.2.1) grw358
theorem gr358 : gR gG 358 = (Option.some Jvm.ClassFile.FieldType.int : Option FieldType) := congrArg (fun r : mRow => r.2.2.2.2.2.1) grw358
theorem lv358 : gL gG 358 = 7 := congrArg (fun r : mRow => r.2.2.2.2.2.2.1) grw358
theorem gh358 : gH gG 358 = [] := congrArg (fun r : mRow => r.2.2.2.2.2.2.2) grw358
theorem gm358 : mmax gP 358 = 4 := congrArg (fun r : mRow => r.2.1) grw358
theorem cw358 : mCw gP gG 358 ∈ lw_all := cw_of gh358 gn358 gb358 gm358 gr358 q3005
theorem tg358 : mTg gP gG 358 2 := tg_of gn358 gm358 cw358 (by decide) ⟨by decide +kernel, by decide +kernel⟩ (by decide +kernel)
theorem grw359 : gRow 359 = w359 := rfl
theorem gn359 : gN gG 359 = yX9_gap := congrArg (fun r : mRow => r.2.2.2.1) grw359
theorem gb359 : gB gG 359 = cX9_gap := congrArg (fun r : mRow => r.2.2.2.2.1) grw359
theorem gr359 : gR gG 359 = (Option.some Jvm.ClassFile.FieldType.int : Option FieldType) := congrArg (fun r : mRow => r.2.2.2.2.2.1) grw359
theorem lv359 : gL gG 359 = 4 := congrArg (fun r : mRow => r.2.2.2.2.2.2.1) grw359
theorem gh359 : gH gG 359 = [] := congrArg (fun r : mRow => r.2.2.2.2.2.2.2) grw359
theorem gm359 : mmax gP 359 = 4 := congrArg (fun r : mRow => r.2.1) grw359
theorem cw359 : mCw gP gG 359 ∈ lw_all := cw_of gh359 gn359 gb359 gm359 gr359 q3009
theorem tg359 : mTg gP gG 359 0 := tg_of gn359 gm359 cw359 (by decide) ⟨by decide +kernel, by decide +kernel⟩ (by decide +kernel)
theorem grw360 : gRow 360 = w360 := rfl
theorem gn360 : gN gG 360 = yX9_share := congrArg (fun r : mRow => r.2.2.2.1) grw360
theorem gb360 : gB gG 360 = cX9_share := congrArg (fun r : mRow => r.2.2.2.2.1) grw360
theorem gr360 : gR gG 360 = (Option.some Jvm.ClassFile.FieldType.float : Option FieldType) := congrArg (fun r : mRow => r.2.2.2.2.2.1) grw360
theorem lv360 : gL gG 360 = 3 := congrArg (fun r : mRow => r.2.2.2.2.2.2.1) grw360
theorem gh360 : gH gG 360 = [] := congrArg (fun r : mRow => r.2.2.2.2.2.2.2) grw360
theorem gm360 : mmax gP 360 = 1 := congrArg (fun r : mRow => r.2.1) grw360
theorem cw360 : mCw gP gG 360 ∈ lw_all := cw_of gh360 gn360 gb360 gm360 gr360 q3013
theorem tg360 : mTg gP gG 360 0 := tg_of gn360 gm360 cw360 (by decide) ⟨by decide +kernel, by decide +kernel⟩ (by decide +kernel)
theorem grw361 : gRow 361 = w361 := rfl
theorem gn361 : gN gG 361 = yX9_meanMist := congrArg (fun r : mRow => r.2.2.2.1) grw361
theorem gb361 : gB gG 361 = cX9_meanMist := congrArg (fun r : mRow => r.2.2.2.2.1) grw361
theorem gr361 : gR gG 361 = (Option.some Jvm.ClassFile.FieldType.double : Option FieldType) := congrArg (fun r : mRow => r.2.2.2.2.2.1) grw361
theorem lv361 : gL gG 361 = 4 := congrArg (fun r : mRow => r.2.2.2.2.2.2.1) grw361
theorem gh361 : gH gG 361 = [] := congrArg (fun r : mRow => r.2.2.2.2.2.2.2) grw361
theorem gm361 : mmax gP 361 = 3 := congrArg (fun r : mRow => r.2.1) grw361
theorem cw361 : mCw gP gG 361 ∈ lw_all := cw_of gh361 gn361 gb361 gm361 gr361 q3017
theorem tg361 : mTg gP gG 361 0 := tg_of gn361 gm361 cw361 (by decide) ⟨by decide +kernel, by decide +kernel⟩ (by decide +kernel)
theorem grw362 : gRow 362 = w362 := rfl
theorem gn362 : gN gG 362 = yX9_ifSeen := congrArg (fun r : mRow => r.2.2.2.1) grw362
theorem gb362 : gB gG 362 = cX9_ifSeen := congrArg (fun r : mRow => r.2.2.2.2.1) grw362
theorem gr362 : gR gG 362 = (Option.some Jvm.ClassFile.FieldType.boolean : Option FieldType) := congrArg (fun r : mRow => r.2.2.2.2.2.1) grw362
theorem lv362 : gL gG 362 = 8 := congrArg (fun r : mRow => r.2.2.2.2.2.2.1) grw362
theorem gh362 : gH gG 362 = [] := congrArg (fun r : mRow => r.2.2.2.2.2.2.2) grw362
theorem gm362 : mmax gP 362 = 3 := congrArg (fun r : mRow => r.2.1) grw362
theorem cw362 : mCw gP gG 362 ∈ lw_all := cw_of gh362 gn362 gb362 gm362 gr362 q3021
theorem tg362 : mTg gP gG 362 2 := tg_of gn362 gm362 cw362 (by decide) ⟨by decide +kernel, by decide +kernel⟩ (by decide +kernel)
theorem grw363 : gRow 363 = w363 := rfl
theorem gn363 : gN gG 363 = yX9_isAhead := congrArg (fun r : mRow => r.2.2.2.1) grw363
theorem gb363 : gB gG 363 = cX9_isAhead := congrArg (fun r : mRow => r.2.2.2.2.1) grw363
theorem gr363 : gR gG 363 = (Option.some Jvm.ClassFile.FieldType.boolean : Option FieldType) := congrArg (fun r : mRow => r.2.2.2.2.2.1) grw363
theorem lv363 : gL gG 363 = 2 := congrArg (fun r : mRow => r.2.2.2.2.2.2.1) grw363
theorem gh363 : gH gG 363 = [] := congrArg (fun r : mRow => r.2.2.2.2.2.2.2) grw363
theorem gm363 : mmax gP 363 = 1 := congrArg (fun r : mRow => r.2.1) grw363
theorem cw363 : mCw gP gG 363 ∈ lw_all := cw_of gh363 gn363 gb363 gm363 gr363 q3024
theorem tg363 : mTg gP gG 363 1 := tg_of gn363 gm363 cw363 (by decide) ⟨by decide +kernel, by decide +kernel⟩ (by decide +kernel)
theorem grw364 : gRow 364 = w364 := rfl
theorem gn364 : gN gG 364 = yX9_goAside := congrArg (fun r : mRow => r.2.2.2.1) grw364
theorem gb364 : gB gG 364 = cX9_goAside := congrArg (fun r : mRow => r.2.2.2.2.1) grw364
theorem gr364 : gR gG 364 = (none : Option FieldType) := congrArg (fun r : mRow => r.2.2.2.2.2.1) grw364
theorem lv364 : gL gG 364 = 2 := congrArg (fun r : mRow => r.2.2.2.2.2.2.1) grw364
theorem gh364 : gH gG 364 = [] := congrArg (fun r : mRow => r.2.2.2.2.2.2.2) grw364
theorem gm364 : mmax gP 364 = 1 := congrArg (fun r : mRow => r.2.1) grw364
theorem cw364 : mCw gP gG 364 ∈ lw_all := cw_of gh364 gn364 gb364 gm364 gr364 q3028
theorem tg364 : mTg gP gG 364 0 := tg_of gn364 gm364 cw364 (by decide) ⟨by decide +kernel, by decide +kernel⟩ (by decide +kernel)
theorem grw365 : gRow 365 = w365 := rfl
theorem gn365 : gN gG 365 = yX9_seenBehind := congrArg (fun r : mRow => r.2.2.2.1) grw365
theorem gb365 : gB gG 365 = cX9_seenBehind := congrArg (fun r : mRow => r.2.2.2.2.1) grw365
theorem gr365 : gR gG 365 = (Option.some Jvm.ClassFile.FieldType.int : Option FieldType) := congrArg (fun r : mRow => r.2.2.2.2.2.1) grw365
theorem lv365 : gL gG 365 = 7 := congrArg (fun r : mRow => r.2.2.2.2.2.2.1) grw365
theorem gh365 : gH gG 365 = [] := congrArg (fun r : mRow => r.2.2.2.2.2.2.2) grw365
theorem gm365 : mmax gP 365 = 4 := congrArg (fun r : mRow => r.2.1) grw365
theorem cw365 : mCw gP gG 365 ∈ lw_all := cw_of gh365 gn365 gb365 gm365 gr365 q3032
theorem tg365 : mTg gP gG 365 2 := tg_of gn365 gm365 cw365 (by decide) ⟨by decide +kernel, by decide +kernel⟩ (by decide +kernel)
theorem grw366 : gRow 366 = w366 := rfl
theorem gn366 : gN gG 366 = yX9_comeBack := congrArg (fun r : mRow => r.2.2.2.1) grw366
theorem gb366 : gB gG 366 = cX9_comeBack := congrArg (fun r : mRow => r.2.2.2.2.1) grw366
theorem gr366 : gR gG 366 = (Option.some Jvm.ClassFile.FieldType.int : Option FieldType) := congrArg (fun r : mRow => r.2.2.2.2.2.1) grw366
theorem lv366 : gL gG 366 = 2 := congrArg (fun r : mRow => r.2.2.2.2.2.2.1) grw366
theorem gh366 : gH gG 366 = [] := congrArg (fun r : mRow => r.2.2.2.2.2.2.2) grw366
theorem gm366 : mmax gP 366 = 2 := congrArg (fun r : mRow => r.2.1) grw366
theorem cw366 : mCw gP gG 366 ∈ lw_all := cw_of gh366 gn366 gb366 gm366 gr366 q3036
theorem tg366 : mTg gP gG 366 1 := tg_of gn366 gm366 cw366 (by decide) ⟨by decide +kernel, by decide +kernel⟩ (by decide +kernel)
theorem grw367 : gRow 367 = w367 := rfl
theorem gn367 : gN gG 367 = yX9_seenIn := congrArg (fun r : mRow => r.2.2.2.1) grw367
theorem gb367 : gB gG 367 = cX9_seenIn := congrArg (fun r : mRow => r.2.2.2.2.1) grw367
theorem gr367 : gR gG 367 = (Option.some Jvm.ClassFile.FieldType.int : Option FieldType) := congrArg (fun r : mRow => r.2.2.2.2.2.1) grw367
theorem lv367 : gL gG 367 = 8 := congrArg (fun r : mRow => r.2.2.2.2.2.2.1) grw367
theorem gh367 : gH gG 367 = [] := congrArg (fun r : mRow => r.2.2.2.2.2.2.2) grw367
theorem gm367 : mmax gP 367 = 2 := congrArg (fun r : mRow => r.2.1) grw367
theorem cw367 : mCw gP gG 367 ∈ lw_all := cw_of gh367 gn367 gb367 gm367 gr367 q3040
theorem tg367 : mTg gP gG 367 1 := tg_of gn367 gm367 cw367 (by decide) ⟨by decide +kernel, by decide +kernel⟩ (by decide +kernel)
theorem grw368 : gRow 368 = w368 := rfl
theorem gn368 : gN gG 368 = yX9_nextSeen := congrArg (fun r : mRow => r.2.2.2.1) grw368
theorem gb368 : gB gG 368 = cX9_nextSeen := congrArg (fun r : mRow => r.2.2.2.2.1) grw368
theorem gr368 : gR gG 368 = (Option.some Jvm.ClassFile.FieldType.int : Option FieldType) := congrArg (fun r : mRow => r.2.2.2.2.2.1) grw368
theorem lv368 : gL gG 368 = 7 := congrArg (fun r : mRow => r.2.2.2.2.2.2.1) grw368
theorem gh368 : gH gG 368 = [] := congrArg (fun r : mRow => r.2.2.2.2.2.2.2) grw368
theorem gm368 : mmax gP 368 = 3 := congrArg (fun r : mRow => r.2.1) grw368
theorem cw368 : mCw gP gG 368 ∈ lw_all := cw_of gh368 gn368 gb368 gm368 gr368 q3044
theorem tg368 : mTg gP gG 368 1 := tg_of gn368 gm368 cw368 (by decide) ⟨by decide +kernel, by decide +kernel⟩ (by decide +kernel)
theorem grw369 : gRow 369 = w369 := rfl
theorem gn369 : gN gG 369 = yX9_ifPassed := congrArg (fun r : mRow => r.2.2.2.1) grw369
theorem gb369 : gB gG 369 = cX9_ifPassed := congrArg (fun r : mRow => r.2.2.2.2.1) grw369
theorem gr369 : gR gG 369 = (Option.some Jvm.ClassFile.FieldType.int : Option FieldType) := congrArg (fun r : mRow => r.2.2.2.2.2.1) grw369
theorem lv369 : gL gG 369 = 9 := congrArg (fun r : mRow => r.2.2.2.2.2.2.1) grw369
theorem gh369 : gH gG 369 = [] := congrArg (fun r : mRow => r.2.2.2.2.2.2.2) grw369
theorem gm369 : mmax gP 369 = 3 := congrArg (fun r : mRow => r.2.1) grw369
theorem cw369 : mCw gP gG 369 ∈ lw_all := cw_of gh369 gn369 gb369 gm369 gr369 q3048
theorem tg369 : mTg gP gG 369 2 := tg_of gn369 gm369 cw369 (by decide) ⟨by decide +kernel, by decide +kernel⟩ (by decide +kernel)
theorem grw370 : gRow 370 = w370 := rfl
theorem gn370 : gN gG 370 = yX9_toldBehind := congrArg (fun r : mRow => r.2.2.2.1) grw370
theorem gb370 : gB gG 370 = cX9_toldBehind := congrArg (fun r : mRow => r.2.2.2.2.1) grw370
theorem gr370 : gR gG 370 = (Option.some Jvm.ClassFile.FieldType.int : Option FieldType) := congrArg (fun r : mRow => r.2.2.2.2.2.1) grw370
theorem lv370 : gL gG 370 = 8 := congrArg (fun r : mRow => r.2.2.2.2.2.2.1) grw370
theorem gh370 : gH gG 370 = [] := congrArg (fun r : mRow => r.2.2.2.2.2.2.2) grw370
theorem gm370 : mmax gP 370 = 4 := congrArg (fun r : mRow => r.2.1) grw370
theorem cw370 : mCw gP gG 370 ∈ lw_all := cw_of gh370 gn370 gb370 gm370 gr370 q3052
theorem tg370 : mTg gP gG 370 2 := tg_of gn370 gm370 cw370 (by decide) ⟨by decide +kernel, by decide +kernel⟩ (by decide +kernel)
theorem grw371 : gRow 371 = w371 := rfl
theorem gn371 : gN gG 371 = yX9_unseen := congrArg (fun r : mRow => r.2.2.2.1) grw371
theorem gb371 : gB gG 371 = cX9_unseen := congrArg (fun r : mRow => r.2.2.2.2.1) grw371
theorem gr371 : gR gG 371 = (Option.some Jvm.ClassFile.FieldType.int : Option FieldType) := congrArg (fun r : mRow => r.2.2.2.2.2.1) grw371
theorem lv371 : gL gG 371 = 9 := congrArg (fun r : mRow => r.2.2.2.2.2.2.1) grw371
theorem gh371 : gH gG 371 = [] := congrArg (fun r : mRow => r.2.2.2.2.2.2.2) grw371
theorem gm371 : mmax gP 371 = 3 := congrArg (fun r : mRow => r.2.1) grw371
theorem cw371 : mCw gP gG 371 ∈ lw_all := cw_of gh371 gn371 gb371 gm371 gr371 q3056
theorem tg371 : mTg gP gG 371 2 := tg_of gn371 gm371 cw371 (by decide) ⟨by decide +kernel, by decide +kernel⟩ (by decide +kernel)
theorem grw372 : gRow 372 = w372 := rfl
theorem gn372 : gN gG 372 = yX9_unseenTo := congrArg (fun r : mRow => r.2.2.2.1) grw372
theorem gb372 : gB gG 372 = cX9_unseenTo := congrArg (fun r : mRow => r.2.2.2.2.1) grw372
theorem gr372 : gR gG 372 = (Option.some Jvm.ClassFile.FieldType.int : Option FieldType) := congrArg (fun r : mRow => r.2.2.2.2.2.1) grw372
theorem lv372 : gL gG 372 = 8 := congrArg (fun r : mRow => r.2.2.2.2.2.2.1) grw372
theorem gh372 : gH gG 372 = [] := congrArg (fun r : mRow => r.2.2.2.2.2.2.2) grw372
theorem gm372 : mmax gP 372 = 3 := congrArg (fun r : mRow => r.2.1) grw372
theorem cw372 : mCw gP gG 372 ∈ lw_all := cw_of gh372 gn372 gb372 gm372 gr372 q3060
theorem tg372 : mTg gP gG 372 2 := tg_of gn372 gm372 cw372 (by decide) ⟨by decide +kernel, by decide +kernel⟩ (by decide +kernel)
theorem grw373 : gRow 373 = w373 := rfl
theorem gn373 : gN gG 373 = yX9_beginWays := congrArg (fun r : mRow => r.2.2.2.1) grw373
theorem gb373 : gB gG 373 = cX9_beginWays := congrArg (fun r : mRow => r.2.2.2.2.1) grw373
theorem gr373 : gR gG 373 = (none : Option FieldType) := congrArg (fun r : mRow => r.2.2.2.2.2.1) grw373
theorem lv373 : gL gG 373 = 2 := congrArg (fun r : mRow => r.2.2.2.2.2.2.1) grw373
theorem gh373 : gH gG 373 = [] := congrArg (fun r : mRow => r.2.2.2.2.2.2.2) grw373
theorem gm373 : mmax gP 373 = 3 := congrArg (fun r : mRow => r.2.1) grw373
theorem cw373 : mCw gP gG 373 ∈ lw_all := cw_of gh373 gn373 gb373 gm373 gr373 q3064
theorem tg373 : mTg gP gG 373 1 := tg_of gn373 gm373 cw373 (by decide) ⟨by decide +kernel, by decide +kernel⟩ (by decide +kernel)
theorem grw374 : gRow 374 = w374 := rfl
theorem gn374 : gN gG 374 = yX9_ticksTo := congrArg (fun r : mRow => r.2.2.2.1) grw374
theorem gb374 : gB gG 374 = cX9_ticksTo := congrArg (fun r : mRow => r.2.2.2.2.1) grw374
theorem gr374 : gR gG 374 = (Option.some Jvm.ClassFile.FieldType.int : Option FieldType) := congrArg (fun r : mRow => r.2.2.2.2.2.1) grw374
theorem lv374 : gL gG 374 = 7 := congrArg (fun r : mRow => r.2.2.2.2.2.2.1) grw374
theorem gh374 : gH gG 374 = [] := congrArg (fun r : mRow => r.2.2.2.2.2.2.2) grw374
theorem gm374 : mmax gP 374 = 3 := congrArg (fun r : mRow => r.2.1) grw374
theorem cw374 : mCw gP gG 374 ∈ lw_all := cw_of gh374 gn374 gb374 gm374 gr374 q3068
theorem tg374 : mTg gP gG 374 1 := tg_of gn374 gm374 cw374 (by decide) ⟨by decide +kernel, by decide +kernel⟩ (by decide +kernel)
theorem grw375 : gRow 375 = w375 := rfl
theorem gn375 : gN gG 375 = yX9_goFurther := congrArg (fun r : mRow => r.2.2.2.1) grw375
theorem gb375 : gB gG 375 = cX9_goFurther := congrArg (fun r : mRow => r.2.2.2.2.1) grw375
theorem gr375 : gR gG 375 = (none : Option FieldType) := congrArg (fun r : mRow => r.2.2.2.2.2.1) grw375
theorem lv375 : gL gG 375 = 6 := congrArg (fun r : mRow => r.2.2.2.2.2.2.1) grw375
theorem gh375 : gH gG 375 = [] := congrArg (fun r : mRow => r.2.2.2.2.2.2.2) grw375
theorem gm375 : mmax gP 375 = 2 := congrArg (fun r : mRow => r.2.1) grw375
theorem cw375 : mCw gP gG 375 ∈ lw_all := cw_of gh375 gn375 gb375 gm375 gr375 q3072
theorem tg375 : mTg gP gG 375 0 := tg_of gn375 gm375 cw375 (by decide) ⟨by decide +kernel, by decide +kernel⟩ (by decide +kernel)
theorem grw376 : gRow 376 = w376 := rfl
theorem gn376 : gN gG 376 = yX9_isBeside := congrArg (fun r : mRow => r.2.2.2.1) grw376
theorem gb376 : gB gG 376 = cX9_isBeside := congrArg (fun r : mRow => r.2.2.2.2.1) grw376
theorem gr376 : gR gG 376 = (Option.some Jvm.ClassFile.FieldType.boolean : Option FieldType) := congrArg (fun r : mRow => r.2.2.2.2.2.1) grw376
theorem lv376 : gL gG 376 = 3 := congrArg (fun r : mRow => r.2.2.2.2.2.2.1) grw376
theorem gh376 : gH gG 376 = [] := congrArg (fun r : mRow => r.2.2.2.2.2.2.2) grw376
theorem gm376 : mmax gP 376 = 4 := congrArg (fun r : mRow => r.2.1) grw376
theorem cw376 : mCw gP gG 376 ∈ lw_all := cw_of gh376 gn376 gb376 gm376 gr376 q3076
theorem tg376 : mTg gP gG 376 1 := tg_of gn376 gm376 cw376 (by decide) ⟨by decide +kernel, by decide +kernel⟩ (by decide +kernel)
theorem grw377 : gRow 377 = w377 := rfl
theorem gn377 : gN gG 377 = yX9_canBe := congrArg (fun r : mRow => r.2.2.2.1) grw377
theorem gb377 : gB gG 377 = cX9_canBe := congrArg (fun r : mRow => r.2.2.2.2.1) grw377
theorem gr377 : gR gG 377 = (Option.some Jvm.ClassFile.FieldType.int : Option FieldType) := congrArg (fun r : mRow => r.2.2.2.2.2.1) grw377
theorem lv377 : gL gG 377 = 8 := congrArg (fun r : mRow => r.2.2.2.2.2.2.1) grw377
theorem gh377 : gH gG 377 = [] := congrArg (fun r : mRow => r.2.2.2.2.2.2.2) grw377
theorem gm377 : mmax gP 377 = 3 := congrArg (fun r : mRow => r.2.1) grw377
theorem cw377 : mCw gP gG 377 ∈ lw_all := cw_of gh377 gn377 gb377 gm377 gr377 q3080
theorem tg377 : mTg gP gG 377 2 := tg_of gn377 gm377 cw377 (by decide) ⟨by decide +kernel, by decide +kernel⟩ (by decide +kernel)
theorem grw378 : gRow 378 = w378 := rfl
theorem gn378 : gN gG 378 = yX9_reachedIn := congrArg (fun r : mRow => r.2.2.2.1) grw378
theorem gb378 : gB gG 378 = cX9_reachedIn := congrArg (fun r : mRow => r.2.2.2.2.1) grw378
theorem gr378 : gR gG 378 = (Option.some Jvm.ClassFile.FieldType.int : Option FieldType) := congrArg (fun r : mRow => r.2.2.2.2.2.1) grw378
theorem lv378 : gL gG 378 = 7 := congrArg (fun r : mRow => r.2.2.2.2.2.2.1) grw378
theorem gh378 : gH gG 378 = [] := congrArg (fun r : mRow => r.2.2.2.2.2.2.2) grw378
theorem gm378 : mmax gP 378 = 5 := congrArg (fun r : mRow => r.2.1) grw378
theorem cw378 : mCw gP gG 378 ∈ lw_all := cw_of gh378 gn378 gb378 gm378 gr378 q3084
theorem tg378 : mTg gP gG 378 2 := tg_of gn378 gm378 cw378 (by decide) ⟨by decide +kernel, by decide +kernel⟩ (by decide +kernel)
theorem grw379 : gRow 379 = w379 := rfl
theorem gn379 : gN gG 379 = yX9_ifStepped := congrArg (fun r : mRow => r.2.2.2.1) grw379
theorem gb379 : gB gG 379 = cX9_ifStepped := congrArg (fun r : mRow => r.2.2.2.2.1) grw379
theorem gr379 : gR gG 379 = (Option.some Jvm.ClassFile.FieldType.int : Option FieldType) := congrArg (fun r : mRow => r.2.2.2.2.2.1) grw379
theorem lv379 : gL gG 379 = 8 := congrArg (fun r : mRow => r.2.2.2.2.2.2.1) grw379
theorem gh379 : gH gG 379 = [] := congrArg (fun r : mRow => r.2.2.2.2.2.2.2) grw379
theorem gm379 : mmax gP 379 = 4 := congrArg (fun r : mRow => r.2.1) grw379
theorem cw379 : mCw gP gG 379 ∈ lw_all := cw_of gh379 gn379 gb379 gm379 gr379 q3088
theorem tg379 : mTg gP gG 379 2 := tg_of gn379 gm379 cw379 (by decide) ⟨by decide +kernel, by decide +kernel⟩ (by decide +kernel)
theorem grw380 : gRow 380 = w380 := rfl
theorem gn380 : gN gG 380 = yX9_nearest := congrArg (fun r : mRow => r.2.2.2.1) grw380
theorem gb380 : gB gG 380 = cX9_nearest := congrArg (fun r : mRow => r.2.2.2.2.1) grw380
theorem gr380 : gR gG 380 = (Option.some Jvm.ClassFile.FieldType.int : Option FieldType) := congrArg (fun r : mRow => r.2.2.2.2.2.1) grw380
theorem lv380 : gL gG 380 = 9 := congrArg (fun r : mRow => r.2.2.2.2.2.2.1) grw380
theorem gh380 : gH gG 380 = [] := congrArg (fun r : mRow => r.2.2.2.2.2.2.2) grw380
theorem gm380 : mmax gP 380 = 6 := congrArg (fun r : mRow => r.2.1) grw380
theorem cw380 : mCw gP gG 380 ∈ lw_all := cw_of gh380 gn380 gb380 gm380 gr380 q3092
theorem tg380 : mTg gP gG 380 1 := tg_of gn380 gm380 cw380 (by decide) ⟨by decide +kernel, by decide +kernel⟩ (by decide +kernel)
theorem grw381 : gRow 381 = w381 := rfl
theorem gn381 : gN gG 381 = yX9_refusals := congrArg (fun r : mRow => r.2.2.2.1) grw381
theorem gb381 : gB gG 381 = cX9_refusals := congrArg (fun r : mRow => r.2.2.2.2.1) grw381
theorem gr381 : gR gG 381 = (Option.some Jvm.ClassFile.FieldType.int : Option FieldType) := congrArg (fun r : mRow => r.2.2.2.2.2.1) grw381
theorem lv381 : gL gG 381 = 2 := congrArg (fun r : mRow => r.2.2.2.2.2.2.1) grw381
theorem gh381 : gH gG 381 = [] := congrArg (fun r : mRow => r.2.2.2.2.2.2.2) grw381
theorem gm381 : mmax gP 381 = 2 := congrArg (fun r : mRow => r.2.1) grw381
theorem cw381 : mCw gP gG 381 ∈ lw_all := cw_of gh381 gn381 gb381 gm381 gr381 q3096
theorem tg381 : mTg gP gG 381 1 := tg_of gn381 gm381 cw381 (by decide) ⟨by decide +kernel, by decide +kernel⟩ (by decide +kernel)
theorem grw382 : gRow 382 = w382 := rfl
theorem gn382 : gN gG 382 = yX9_step := congrArg (fun r : mRow => r.2.2.2.1) grw382
theorem gb382 : gB gG 382 = cX9_step := congrArg (fun r : mRow => r.2.2.2.2.1) grw382
theorem gr382 : gR gG 382 = (Option.some Jvm.ClassFile.FieldType.int : Option FieldType) := congrArg (fun r : mRow => r.2.2.2.2.2.1) grw382
theorem lv382 : gL gG 382 = 8 := congrArg (fun r : mRow => r.2.2.2.2.2.2.1) grw382
theorem gh382 : gH gG 382 = [] := congrArg (fun r : mRow => r.2.2.2.2.2.2.2) grw382
theorem gm382 : mmax gP 382 = 3 := congrArg (fun r : mRow => r.2.1) grw382
theorem cw382 : mCw gP gG 382 ∈ lw_all := cw_of gh382 gn382 gb382 gm382 gr382 q3100
theorem tg382 : mTg gP gG 382 2 := tg_of gn382 gm382 cw382 (by decide) ⟨by decide +kernel, by decide +kernel⟩ (by decide +kernel)
theorem grw383 : gRow 383 = w383 := rfl
theorem gn383 : gN gG 383 = yX9_pick := congrArg (fun r : mRow => r.2.2.2.1) grw383
theorem gb383 : gB gG 383 = cX9_pick := congrArg (fun r : mRow => r.2.2.2.2.1) grw383
theorem gr383 : gR gG 383 = (Option.some Jvm.ClassFile.FieldType.int : Option FieldType) := congrArg (fun r : mRow => r.2.2.2.2.2.1) grw383
theorem lv383 : gL gG 383 = 5 := congrArg (fun r : mRow => r.2.2.2.2.2.2.1) grw383
theorem gh383 : gH gG 383 = [] := congrArg (fun r : mRow => r.2.2.2.2.2.2.2) grw383
theorem gm383 : mmax gP 383 = 3 := congrArg (fun r : mRow => r.2.1) grw383
theorem cw383 : mCw gP gG 383 ∈ lw_all := cw_of gh383 gn383 gb383 gm383 gr383 q3104
theorem tg383 : mTg gP gG 383 2 := tg_of gn383 gm383 cw383 (by decide) ⟨by decide +kernel, by decide +kernel⟩ (by decide +kernel)
theorem grw384 : gRow 384 = w384 := rfl
theorem gn384 : gN gG 384 = yX9_give := congrArg (fun r : mRow => r.2.2.2.1) grw384
theorem gb384 : gB gG 384 = cX9_give := congrArg (fun r : mRow => r.2.2.2.2.1) grw384
theorem gr384 : gR gG 384 = (Option.some Jvm.ClassFile.FieldType.int : Option FieldType) := congrArg (fun r : mRow => r.2.2.2.2.2.1) grw384
theorem lv384 : gL gG 384 = 6 := congrArg (fun r : mRow => r.2.2.2.2.2.2.1) grw384
theorem gh384 : gH gG 384 = [] := congrArg (fun r : mRow => r.2.2.2.2.2.2.2) grw384
theorem gm384 : mmax gP 384 = 4 := congrArg (fun r : mRow => r.2.1) grw384
theorem cw384 : mCw gP gG 384 ∈ lw_all := cw_of gh384 gn384 gb384 gm384 gr384 q3108
theorem tg384 : mTg gP gG 384 3 := tg_of gn384 gm384 cw384 (by decide) ⟨by decide +kernel, by decide +kernel⟩ (by decide +kernel)
theorem grw385 : gRow 385 = w385 := rfl
theorem gn385 : gN gG 385 = yX9_lay_2 := congrArg (fun r : mRow => r.2.2.2.1) grw385
theorem gb385 : gB gG 385 = cX9_lay_2 := congrArg (fun r : mRow => r.2.2.2.2.1) grw385
theorem gr385 : gR gG 385 = (Option.some Jvm.ClassFile.FieldType.int : Option FieldType) := congrArg (fun r : mRow => r.2.2.2.2.2.1) grw385
theorem lv385 : gL gG 385 = 4 := congrArg (fun r : mRow => r.2.2.2.2.2.2.1) grw385
theorem gh385 : gH gG 385 = [] := congrArg (fun r : mRow => r.2.2.2.2.2.2.2) grw385
theorem gm385 : mmax gP 385 = 3 := congrArg (fun r : mRow => r.2.1) grw385
theorem cw385 : mCw gP gG 385 ∈ lw_all := cw_of gh385 gn385 gb385 gm385 gr385 q3112
theorem tg385 : mTg gP gG 385 2 := tg_of gn385 gm385 cw385 (by decide) ⟨by decide +kernel, by decide +kernel⟩ (by decide +kernel)
theorem grw386 : gRow 386 = w386 := rfl
theorem gn386 : gN gG 386 = yX9_pass := congrArg (fun r : mRow => r.2.2.2.1) grw386
theorem gb386 : gB gG 386 = cX9_pass := congrArg (fun r : mRow => r.2.2.2.2.1) grw386
theorem gr386 : gR gG 386 = (Option.some Jvm.ClassFile.FieldType.int : Option FieldType) := congrArg (fun r : mRow => r.2.2.2.2.2.1) grw386
theorem lv386 : gL gG 386 = 9 := congrArg (fun r : mRow => r.2.2.2.2.2.2.1) grw386
theorem gh386 : gH gG 386 = [] := congrArg (fun r : mRow => r.2.2.2.2.2.2.2) grw386
theorem gm386 : mmax gP 386 = 2 := congrArg (fun r : mRow => r.2.1) grw386
theorem cw386 : mCw gP gG 386 ∈ lw_all := cw_of gh386 gn386 gb386 gm386 gr386 q3116
theorem tg386 : mTg gP gG 386 1 := tg_of gn386 gm386 cw386 (by decide) ⟨by decide +kernel, by decide +kernel⟩ (by decide +kernel)
theorem grw387 : gRow 387 = w387 := rfl
theorem gn387 : gN gG 387 = yX9_write := congrArg (fun r : mRow => r.2.2.2.1) grw387
theorem gb387 : gB gG 387 = cX9_write := congrArg (fun r : mRow => r.2.2.2.2.1) grw387
theorem gr387 : gR gG 387 = (Option.some Jvm.ClassFile.FieldType.int : Option FieldType) := congrArg (fun r : mRow => r.2.2.2.2.2.1) grw387
theorem lv387 : gL gG 387 = 8 := congrArg (fun r : mRow => r.2.2.2.2.2.2.1) grw387
theorem gh387 : gH gG 387 = [] := congrArg (fun r : mRow => r.2.2.2.2.2.2.2) grw387
theorem gm387 : mmax gP 387 = 3 := congrArg (fun r : mRow => r.2.1) grw387
theorem cw387 : mCw gP gG 387 ∈ lw_all := cw_of gh387 gn387 gb387 gm387 gr387 q3120
theorem tg387 : mTg gP gG 387 1 := tg_of gn387 gm387 cw387 (by decide) ⟨by decide +kernel, by decide +kernel⟩ (by decide +kernel)
theorem grw388 : gRow 388 = w388 := rfl
theorem gn388 : gN gG 388 = yX9_signOf := congrArg (fun r : mRow => r.2.2.2.1) grw388
theorem gb388 : gB gG 388 = cX9_signOf := congrArg (fun r : mRow => r.2.2.2.2.1) grw388
theorem gr388 : gR gG 388 = (Option.some Jvm.ClassFile.FieldType.int : Option FieldType) := congrArg (fun r : mRow => r.2.2.2.2.2.1) grw388
theorem lv388 : gL gG 388 = 7 := congrArg (fun r : mRow => r.2.2.2.2.2.2.1) grw388
theorem gh388 : gH gG 388 = [] := congrArg (fun r : mRow => r.2.2.2.2.2.2.2) grw388
theorem gm388 : mmax gP 388 = 2 := congrArg (fun r : mRow => r.2.1) grw388
theorem cw388 : mCw gP gG 388 ∈ lw_all := cw_of gh388 gn388 gb388 gm388 gr388 q3124
theorem tg388 : mTg gP gG 388 1 := tg_of gn388 gm388 cw388 (by decide) ⟨by decide +kernel, by decide +kernel⟩ (by decide +kernel)
theorem grw389 : gRow 389 = w389 := rfl
theorem gn389 : gN gG 389 = yX9_lowestCourierOn := congrArg (fun r : mRow => r.2.2.2.1) grw389
theorem gb389 : gB gG 389 = cX9_lowestCourierOn := congrArg (fun r : mRow => r.2.2.2.2.1) grw389
theorem gr389 : gR gG 389 = (Option.some Jvm.ClassFile.FieldType.int : Option FieldType) := congrArg (fun r : mRow => r.2.2.2.2.2.1) grw389
theorem lv389 : gL gG 389 = 2 := congrArg (fun r : mRow => r.2.2.2.2.2.2.1) grw389
theorem gh389 : gH gG 389 = [] := congrArg (fun r : mRow => r.2.2.2.2.2.2.2) grw389
theorem gm389 : mmax gP 389 = 3 := congrArg (fun r : mRow => r.2.1) grw389
theorem cw389 : mCw gP gG 389 ∈ lw_all := cw_of gh389 gn389 gb389 gm389 gr389 q3128
theorem tg389 : mTg gP gG 389 1 := tg_of gn389 gm389 cw389 (by decide) ⟨by decide +kernel, by decide +kernel⟩ (by decide +kernel)
theorem grw390 : gRow 390 = w390 := rfl
theorem gn390 : gN gG 390 = yX9_lowestWatcherOn := congrArg (fun r : mRow => r.2.2.2.1) grw390
theorem gb390 : gB gG 390 = cX9_lowestWatcherOn := congrArg (fun r : mRow => r.2.2.2.2.1) grw390
theorem gr390 : gR gG 390 = (Option.some Jvm.ClassFile.FieldType.int : Option FieldType) := congrArg (fun r : mRow => r.2.2.2.2.2.1) grw390
theorem lv390 : gL gG 390 = 2 := congrArg (fun r : mRow => r.2.2.2.2.2.2.1) grw390
theorem gh390 : gH gG 390 = [] := congrArg (fun r : mRow => r.2.2.2.2.2.2.2) grw390
theorem gm390 : mmax gP 390 = 3 := congrArg (fun r : mRow => r.2.1) grw390
theorem cw390 : mCw gP gG 390 ∈ lw_all := cw_of gh390 gn390 gb390 gm390 gr390 q3132
theorem tg390 : mTg gP gG 390 1 := tg_of gn390 gm390 cw390 (by decide) ⟨by decide +kernel, by decide +kernel⟩ (by decide +kernel)
theorem grw391 : gRow 391 = w391 := rfl
theorem gn391 : gN gG 391 = yX9_output := congrArg (fun r : mRow => r.2.2.2.1) grw391
theorem gb391 : gB gG 391 = cX9_output := congrArg (fun r : mRow => r.2.2.2.2.1) grw391
theorem gr391 : gR gG 391 = (Option.some Jvm.ClassFile.FieldType.int : Option FieldType) := congrArg (fun r : mRow => r.2.2.2.2.2.1) grw391
theorem lv391 : gL gG 391 = 2 := congrArg (fun r : mRow => r.2.2.2.2.2.2.1) grw391
theorem gh391 : gH gG 391 = [] := congrArg (fun r : mRow => r.2.2.2.2.2.2.2) grw391
theorem gm391 : mmax gP 391 = 2 := congrArg (fun r : mRow => r.2.1) grw391
theorem cw391 : mCw gP gG 391 ∈ lw_all := cw_of gh391 gn391 gb391 gm391 gr391 q3136
theorem tg391 : mTg gP gG 391 1 := tg_of gn391 gm391 cw391 (by decide) ⟨by decide +kernel, by decide +kernel⟩ (by decide +kernel)
theorem grw392 : gRow 392 = w392 := rfl
theorem gn392 : gN gG 392 = yX9_undo := congrArg (fun r : mRow => r.2.2.2.1) grw392
theorem gb392 : gB gG 392 = cX9_undo := congrArg (fun r : mRow => r.2.2.2.2.1) grw392
theorem gr392 : gR gG 392 = (Option.some Jvm.ClassFile.FieldType.int : Option FieldType) := congrArg (fun r : mRow => r.2.2.2.2.2.1) grw392
theorem lv392 : gL gG 392 = 2 := congrArg (fun r : mRow => r.2.2.2.2.2.2.1) grw392
theorem gh392 : gH gG 392 = [] := congrArg (fun r : mRow => r.2.2.2.2.2.2.2) grw392
theorem gm392 : mmax gP 392 = 1 := congrArg (fun r : mRow => r.2.1) grw392
theorem cw392 : mCw gP gG 392 ∈ lw_all := cw_of gh392 gn392 gb392 gm392 gr392 q3140
theorem tg392 : mTg gP gG 392 0 := tg_of gn392 gm392 cw392 (by decide) ⟨by decide +kernel, by decide +kernel⟩ (by decide +kernel)
theorem grw393 : gRow 393 = w393 := rfl
theorem gn393 : gN gG 393 = yX9_save := congrArg (fun r : mRow => r.2.2.2.1) grw393
theorem gb393 : gB gG 393 = cX9_save := congrArg (fun r : mRow => r.2.2.2.2.1) grw393
theorem gr393 : gR gG 393 = (none : Option FieldType) := congrArg (fun r : mRow => r.2.2.2.2.2.1) grw393
theorem lv393 : gL gG 393 = 2 := congrArg (fun r : mRow => r.2.2.2.2.2.2.1) grw393
theorem gh393 : gH gG 393 = [] := congrArg (fun r : mRow => r.2.2.2.2.2.2.2) grw393
theorem gm393 : mmax gP 393 = 2 := congrArg (fun r : mRow => r.2.1) grw393
theorem cw393 : mCw gP gG 393 ∈ lw_all := cw_of gh393 gn393 gb393 gm393 gr393 q3144
theorem tg393 : mTg gP gG 393 1 := tg_of gn393 gm393 cw393 (by decide) ⟨by decide +kernel, by decide +kernel⟩ (by decide +kernel)
theorem grw394 : gRow 394 = w394 := rfl
theorem gn394 : gN gG 394 = yX9_restore := congrArg (fun r : mRow => r.2.2.2.1) grw394
theorem gb394 : gB gG 394 = cX9_restore := congrArg (fun r : mRow => r.2.2.2.2.1) grw394
theorem gr394 : gR gG 394 = (none : Option FieldType) := congrArg (fun r : mRow => r.2.2.2.2.2.1) grw394
theorem lv394 : gL gG 394 = 2 := congrArg (fun r : mRow => r.2.2.2.2.2.2.1) grw394
theorem gh394 : gH gG 394 = [] := congrArg (fun r : mRow => r.2.2.2.2.2.2.2) grw394
theorem gm394 : mmax gP 394 = 2 := congrArg (fun r : mRow => r.2.1) grw394
theorem cw394 : mCw gP gG 394 ∈ lw_all := cw_of gh394 gn394 gb394 gm394 gr394 q3148
theorem tg394 : mTg gP gG 394 1 := tg_of gn394 gm394 cw394 (by decide) ⟨by decide +kernel, by decide +kernel⟩ (by decide +kernel)
theorem grw395 : gRow 395 = w395 := rfl
theorem gn395 : gN gG 395 = yJ16_checkLength := congrArg (fun r : mRow => r.2.2.2.1) grw395
theorem gb395 : gB gG 395 = cJ16_checkLength := congrArg (fun r : mRow => r.2.2.2.2.1) grw395
theorem gr395 : gR gG 395 = (none : Option FieldType) := congrArg (fun r : mRow => r.2.2.2.2.2.1) grw395
theorem lv395 : gL gG 395 = 1 := congrArg (fun r : mRow => r.2.2.2.2.2.2.1) grw395
theorem gh395 : gH gG 395 = [] := congrArg (fun r : mRow => r.2.2.2.2.2.2.2) grw395
theorem gm395 : mmax gP 395 = 2 := congrArg (fun r : mRow => r.2.1) grw395
theorem cw395 : mCw gP gG 395 ∈ lw_all := cw_of gh395 gn395 gb395 gm395 gr395 q564
theorem tg395 : mTg gP gG 395 2 := tg_of gn395 gm395 cw395 (by decide) ⟨by decide +kernel, by decide +kernel⟩ (by decide +kernel)
