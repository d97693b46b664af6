/-! MC: decode rows (of claim/names) -/
set_option maxRecDepth 100000
def RX0 : String := "MistCouriersLaw"
abbrev cX0_appendText : ByteArray := method_3_code
def yX0_appendText : MethodName := ⟨RX0, "appendText", "(LMistCouriers;I[J)I"⟩
def dkwX0_appendText_0 : List UInt8 := [44, 3, 42, 27, 182, 0, 7, 133, 80, 167, 0, 6, 78, 4, 172, 3, 172]
abbrev dktX0_appendText_0 : List UInt8 := dkwX0_appendText_0 ++ []
theorem dksX0_appendText_0 : cX0_appendText.data.toList.drop 0 = dktX0_appendText_0 := by decide +kernel
theorem dX0_appendText_0 : decode cX0_appendText 0 = .ok (.aload_n 2, 1) := dk_44 (dk_at dksX0_appendText_0 0 rfl rfl)
theorem dX0_appendText_1 : decode cX0_appendText 1 = .ok (.iconst 0, 1) := dk_3 (dk_at dksX0_appendText_0 1 rfl rfl)
theorem dX0_appendText_2 : decode cX0_appendText 2 = .ok (.aload_n 0, 1) := dk_42 (dk_at dksX0_appendText_0 2 rfl rfl)
theorem dX0_appendText_3 : decode cX0_appendText 3 = .ok (.iload_n 1, 1) := dk_27 (dk_at dksX0_appendText_0 3 rfl rfl)
theorem dX0_appendText_4 : decode cX0_appendText 4 = .ok (.invokevirtual 7, 3) := dk_182 0 7 (dk_at dksX0_appendText_0 4 rfl rfl)
theorem dX0_appendText_7 : decode cX0_appendText 7 = .ok (.i2l, 1) := dk_133 (dk_at dksX0_appendText_0 7 rfl rfl)
theorem dX0_appendText_8 : decode cX0_appendText 8 = .ok (.lastore, 1) := dk_80 (dk_at dksX0_appendText_0 8 rfl rfl)
theorem dX0_appendText_9 : decode cX0_appendText 9 = .ok (.goto 6, 3) := dk_167 0 6 (dk_at dksX0_appendText_0 9 rfl rfl)
theorem dX0_appendText_12 : decode cX0_appendText 12 = .ok (.astore_n 3, 1) := dk_78 (dk_at dksX0_appendText_0 12 rfl rfl)
theorem dX0_appendText_13 : decode cX0_appendText 13 = .ok (.iconst 1, 1) := dk_4 (dk_at dksX0_appendText_0 13 rfl rfl)
theorem dX0_appendText_14 : decode cX0_appendText 14 = .ok (.ireturn, 1) := dk_172 (dk_at dksX0_appendText_0 14 rfl rfl)
theorem dX0_appendText_15 : decode cX0_appendText 15 = .ok (.iconst 0, 1) := dk_3 (dk_at dksX0_appendText_0 15 rfl rfl)
theorem dX0_appendText_16 : decode cX0_appendText 16 = .ok (.ireturn, 1) := dk_172 (dk_at dksX0_appendText_0 16 rfl rfl)
abbrev cX0_truncateText : ByteArray := method_4_code
def yX0_truncateText : MethodName := ⟨RX0, "truncateText", "(LMistCouriers;I[J)I"⟩
def dkwX0_truncateText_0 : List UInt8 := [44, 3, 42, 27, 182, 0, 15, 133, 80, 167, 0, 6, 78, 4, 172, 3, 172]
abbrev dktX0_truncateText_0 : List UInt8 := dkwX0_truncateText_0 ++ []
theorem dksX0_truncateText_0 : cX0_truncateText.data.toList.drop 0 = dktX0_truncateText_0 := by decide +kernel
theorem dX0_truncateText_0 : decode cX0_truncateText 0 = .ok (.aload_n 2, 1) := dk_44 (dk_at dksX0_truncateText_0 0 rfl rfl)
theorem dX0_truncateText_1 : decode cX0_truncateText 1 = .ok (.iconst 0, 1) := dk_3 (dk_at dksX0_truncateText_0 1 rfl rfl)
theorem dX0_truncateText_2 : decode cX0_truncateText 2 = .ok (.aload_n 0, 1) := dk_42 (dk_at dksX0_truncateText_0 2 rfl rfl)
theorem dX0_truncateText_3 : decode cX0_truncateText 3 = .ok (.iload_n 1, 1) := dk_27 (dk_at dksX0_truncateText_0 3 rfl rfl)
theorem dX0_truncateText_4 : decode cX0_truncateText 4 = .ok (.invokevirtual 15, 3) := dk_182 0 15 (dk_at dksX0_truncateText_0 4 rfl rfl)
theorem dX0_truncateText_7 : decode cX0_truncateText 7 = .ok (.i2l, 1) := dk_133 (dk_at dksX0_truncateText_0 7 rfl rfl)
theorem dX0_truncateText_8 : decode cX0_truncateText 8 = .ok (.lastore, 1) := dk_80 (dk_at dksX0_truncateText_0 8 rfl rfl)
theorem dX0_truncateText_9 : decode cX0_truncateText 9 = .ok (.goto 6, 3) := dk_167 0 6 (dk_at dksX0_truncateText_0 9 rfl rfl)
theorem dX0_truncateText_12 : decode cX0_truncateText 12 = .ok (.astore_n 3, 1) := dk_78 (dk_at dksX0_truncateText_0 12 rfl rfl)
theorem dX0_truncateText_13 : decode cX0_truncateText 13 = .ok (.iconst 1, 1) := dk_4 (dk_at dksX0_truncateText_0 13 rfl rfl)
theorem dX0_truncateText_14 : decode cX0_truncateText 14 = .ok (.ireturn, 1) := dk_172 (dk_at dksX0_truncateText_0 14 rfl rfl)
theorem dX0_truncateText_15 : decode cX0_truncateText 15 = .ok (.iconst 0, 1) := dk_3 (dk_at dksX0_truncateText_0 15 rfl rfl)
theorem dX0_truncateText_16 : decode cX0_truncateText 16 = .ok (.ireturn, 1) := dk_172 (dk_at dksX0_truncateText_0 16 rfl rfl)
abbrev cX0_total : ByteArray := method_5_code
def yX0_total : MethodName := ⟨RX0, "total", "(LMistCouriers;I[J)I"⟩
def dkwX0_total_0 : List UInt8 := [44, 3, 42, 27, 182, 0, 20, 133, 80, 167, 0, 6, 78, 4, 172, 3, 172]
abbrev dktX0_total_0 : List UInt8 := dkwX0_total_0 ++ []
theorem dksX0_total_0 : cX0_total.data.toList.drop 0 = dktX0_total_0 := by decide +kernel
theorem dX0_total_0 : decode cX0_total 0 = .ok (.aload_n 2, 1) := dk_44 (dk_at dksX0_total_0 0 rfl rfl)
theorem dX0_total_1 : decode cX0_total 1 = .ok (.iconst 0, 1) := dk_3 (dk_at dksX0_total_0 1 rfl rfl)
theorem dX0_total_2 : decode cX0_total 2 = .ok (.aload_n 0, 1) := dk_42 (dk_at dksX0_total_0 2 rfl rfl)
theorem dX0_total_3 : decode cX0_total 3 = .ok (.iload_n 1, 1) := dk_27 (dk_at dksX0_total_0 3 rfl rfl)
theorem dX0_total_4 : decode cX0_total 4 = .ok (.invokevirtual 20, 3) := dk_182 0 20 (dk_at dksX0_total_0 4 rfl rfl)
theorem dX0_total_7 : decode cX0_total 7 = .ok (.i2l, 1) := dk_133 (dk_at dksX0_total_0 7 rfl rfl)
theorem dX0_total_8 : decode cX0_total 8 = .ok (.lastore, 1) := dk_80 (dk_at dksX0_total_0 8 rfl rfl)
theorem dX0_total_9 : decode cX0_total 9 = .ok (.goto 6, 3) := dk_167 0 6 (dk_at dksX0_total_0 9 rfl rfl)
theorem dX0_total_12 : decode cX0_total 12 = .ok (.astore_n 3, 1) := dk_78 (dk_at dksX0_total_0 12 rfl rfl)
theorem dX0_total_13 : decode cX0_total 13 = .ok (.iconst 1, 1) := dk_4 (dk_at dksX0_total_0 13 rfl rfl)
theorem dX0_total_14 : decode cX0_total 14 = .ok (.ireturn, 1) := dk_172 (dk_at dksX0_total_0 14 rfl rfl)
theorem dX0_total_15 : decode cX0_total 15 = .ok (.iconst 0, 1) := dk_3 (dk_at dksX0_total_0 15 rfl rfl)
theorem dX0_total_16 : decode cX0_total 16 = .ok (.ireturn, 1) := dk_172 (dk_at dksX0_total_0 16 rfl rfl)
abbrev cX0_tally : ByteArray := method_6_code
def yX0_tally : MethodName := ⟨RX0, "tally", "(LMistCouriers;I[J)I"⟩
def dkwX0_tally_0 : List UInt8 := [44, 3, 42, 27, 182, 0, 23, 133, 80, 167, 0, 6, 78, 4, 172, 3, 172]
abbrev dktX0_tally_0 : List UInt8 := dkwX0_tally_0 ++ []
theorem dksX0_tally_0 : cX0_tally.data.toList.drop 0 = dktX0_tally_0 := by decide +kernel
theorem dX0_tally_0 : decode cX0_tally 0 = .ok (.aload_n 2, 1) := dk_44 (dk_at dksX0_tally_0 0 rfl rfl)
theorem dX0_tally_1 : decode cX0_tally 1 = .ok (.iconst 0, 1) := dk_3 (dk_at dksX0_tally_0 1 rfl rfl)
theorem dX0_tally_2 : decode cX0_tally 2 = .ok (.aload_n 0, 1) := dk_42 (dk_at dksX0_tally_0 2 rfl rfl)
theorem dX0_tally_3 : decode cX0_tally 3 = .ok (.iload_n 1, 1) := dk_27 (dk_at dksX0_tally_0 3 rfl rfl)
theorem dX0_tally_4 : decode cX0_tally 4 = .ok (.invokevirtual 23, 3) := dk_182 0 23 (dk_at dksX0_tally_0 4 rfl rfl)
theorem dX0_tally_7 : decode cX0_tally 7 = .ok (.i2l, 1) := dk_133 (dk_at dksX0_tally_0 7 rfl rfl)
theorem dX0_tally_8 : decode cX0_tally 8 = .ok (.lastore, 1) := dk_80 (dk_at dksX0_tally_0 8 rfl rfl)
theorem dX0_tally_9 : decode cX0_tally 9 = .ok (.goto 6, 3) := dk_167 0 6 (dk_at dksX0_tally_0 9 rfl rfl)
theorem dX0_tally_12 : decode cX0_tally 12 = .ok (.astore_n 3, 1) := dk_78 (dk_at dksX0_tally_0 12 rfl rfl)
theorem dX0_tally_13 : decode cX0_tally 13 = .ok (.iconst 1, 1) := dk_4 (dk_at dksX0_tally_0 13 rfl rfl)
theorem dX0_tally_14 : decode cX0_tally 14 = .ok (.ireturn, 1) := dk_172 (dk_at dksX0_tally_0 14 rfl rfl)
theorem dX0_tally_15 : decode cX0_tally 15 = .ok (.iconst 0, 1) := dk_3 (dk_at dksX0_tally_0 15 rfl rfl)
theorem dX0_tally_16 : decode cX0_tally 16 = .ok (.ireturn, 1) := dk_172 (dk_at dksX0_tally_0 16 rfl rfl)
abbrev cX0_cell : ByteArray := method_7_code
def yX0_cell : MethodName := ⟨RX0, "cell", "(LMistCouriers;II[J)I"⟩
def dkwX0_cell_0 : List UInt8 := [45, 3, 42, 27, 28, 182, 0, 26, 133, 80, 167, 0, 11, 58, 4, 4, 172, 58, 4, 5, 172, 3, 172]
abbrev dktX0_cell_0 : List UInt8 := dkwX0_cell_0 ++ []
theorem dksX0_cell_0 : cX0_cell.data.toList.drop 0 = dktX0_cell_0 := by decide +kernel
theorem dX0_cell_0 : decode cX0_cell 0 = .ok (.aload_n 3, 1) := dk_45 (dk_at dksX0_cell_0 0 rfl rfl)
theorem dX0_cell_1 : decode cX0_cell 1 = .ok (.iconst 0, 1) := dk_3 (dk_at dksX0_cell_0 1 rfl rfl)
theorem dX0_cell_2 : decode cX0_cell 2 = .ok (.aload_n 0, 1) := dk_42 (dk_at dksX0_cell_0 2 rfl rfl)
theorem dX0_cell_3 : decode cX0_cell 3 = .ok (.iload_n 1, 1) := dk_27 (dk_at dksX0_cell_0 3 rfl rfl)
theorem dX0_cell_4 : decode cX0_cell 4 = .ok (.iload_n 2, 1) := dk_28 (dk_at dksX0_cell_0 4 rfl rfl)
theorem dX0_cell_5 : decode cX0_cell 5 = .ok (.invokevirtual 26, 3) := dk_182 0 26 (dk_at dksX0_cell_0 5 rfl rfl)
theorem dX0_cell_8 : decode cX0_cell 8 = .ok (.i2l, 1) := dk_133 (dk_at dksX0_cell_0 8 rfl rfl)
theorem dX0_cell_9 : decode cX0_cell 9 = .ok (.lastore, 1) := dk_80 (dk_at dksX0_cell_0 9 rfl rfl)
theorem dX0_cell_10 : decode cX0_cell 10 = .ok (.goto 11, 3) := dk_167 0 11 (dk_at dksX0_cell_0 10 rfl rfl)
theorem dX0_cell_13 : decode cX0_cell 13 = .ok (.astore 4, 2) := dk_58 4 (dk_at dksX0_cell_0 13 rfl rfl)
theorem dX0_cell_15 : decode cX0_cell 15 = .ok (.iconst 1, 1) := dk_4 (dk_at dksX0_cell_0 15 rfl rfl)
theorem dX0_cell_16 : decode cX0_cell 16 = .ok (.ireturn, 1) := dk_172 (dk_at dksX0_cell_0 16 rfl rfl)
theorem dX0_cell_17 : decode cX0_cell 17 = .ok (.astore 4, 2) := dk_58 4 (dk_at dksX0_cell_0 17 rfl rfl)
theorem dX0_cell_19 : decode cX0_cell 19 = .ok (.iconst 2, 1) := dk_5 (dk_at dksX0_cell_0 19 rfl rfl)
theorem dX0_cell_20 : decode cX0_cell 20 = .ok (.ireturn, 1) := dk_172 (dk_at dksX0_cell_0 20 rfl rfl)
theorem dX0_cell_21 : decode cX0_cell 21 = .ok (.iconst 0, 1) := dk_3 (dk_at dksX0_cell_0 21 rfl rfl)
theorem dX0_cell_22 : decode cX0_cell 22 = .ok (.ireturn, 1) := dk_172 (dk_at dksX0_cell_0 22 rfl rfl)
abbrev cX0_bank : ByteArray := method_8_code
def yX0_bank : MethodName := ⟨RX0, "bank", "(LMistCouriers;II[J)I"⟩
def dkwX0_bank_0 : List UInt8 := [45, 3, 42, 27, 28, 182, 0, 32, 133, 80, 167, 0, 11, 58, 4, 4, 172, 58, 4, 5, 172, 3, 172]
abbrev dktX0_bank_0 : List UInt8 := dkwX0_bank_0 ++ []
theorem dksX0_bank_0 : cX0_bank.data.toList.drop 0 = dktX0_bank_0 := by decide +kernel
theorem dX0_bank_0 : decode cX0_bank 0 = .ok (.aload_n 3, 1) := dk_45 (dk_at dksX0_bank_0 0 rfl rfl)
theorem dX0_bank_1 : decode cX0_bank 1 = .ok (.iconst 0, 1) := dk_3 (dk_at dksX0_bank_0 1 rfl rfl)
theorem dX0_bank_2 : decode cX0_bank 2 = .ok (.aload_n 0, 1) := dk_42 (dk_at dksX0_bank_0 2 rfl rfl)
theorem dX0_bank_3 : decode cX0_bank 3 = .ok (.iload_n 1, 1) := dk_27 (dk_at dksX0_bank_0 3 rfl rfl)
theorem dX0_bank_4 : decode cX0_bank 4 = .ok (.iload_n 2, 1) := dk_28 (dk_at dksX0_bank_0 4 rfl rfl)
theorem dX0_bank_5 : decode cX0_bank 5 = .ok (.invokevirtual 32, 3) := dk_182 0 32 (dk_at dksX0_bank_0 5 rfl rfl)
theorem dX0_bank_8 : decode cX0_bank 8 = .ok (.i2l, 1) := dk_133 (dk_at dksX0_bank_0 8 rfl rfl)
theorem dX0_bank_9 : decode cX0_bank 9 = .ok (.lastore, 1) := dk_80 (dk_at dksX0_bank_0 9 rfl rfl)
theorem dX0_bank_10 : decode cX0_bank 10 = .ok (.goto 11, 3) := dk_167 0 11 (dk_at dksX0_bank_0 10 rfl rfl)
theorem dX0_bank_13 : decode cX0_bank 13 = .ok (.astore 4, 2) := dk_58 4 (dk_at dksX0_bank_0 13 rfl rfl)
theorem dX0_bank_15 : decode cX0_bank 15 = .ok (.iconst 1, 1) := dk_4 (dk_at dksX0_bank_0 15 rfl rfl)
theorem dX0_bank_16 : decode cX0_bank 16 = .ok (.ireturn, 1) := dk_172 (dk_at dksX0_bank_0 16 rfl rfl)
theorem dX0_bank_17 : decode cX0_bank 17 = .ok (.astore 4, 2) := dk_58 4 (dk_at dksX0_bank_0 17 rfl rfl)
theorem dX0_bank_19 : decode cX0_bank 19 = .ok (.iconst 2, 1) := dk_5 (dk_at dksX0_bank_0 19 rfl rfl)
theorem dX0_bank_20 : decode cX0_bank 20 = .ok (.ireturn, 1) := dk_172 (dk_at dksX0_bank_0 20 rfl rfl)
theorem dX0_bank_21 : decode cX0_bank 21 = .ok (.iconst 0, 1) := dk_3 (dk_at dksX0_bank_0 21 rfl rfl)
theorem dX0_bank_22 : decode cX0_bank 22 = .ok (.ireturn, 1) := dk_172 (dk_at dksX0_bank_0 22 rfl rfl)
abbrev cX0_watcher : ByteArray := method_9_code
def yX0_watcher : MethodName := ⟨RX0, "watcher", "(LMistCouriers;II[J)I"⟩
def dkwX0_watcher_0 : List UInt8 := [45, 3, 42, 27, 28, 182, 0, 35, 133, 80, 167, 0, 11, 58, 4, 4, 172, 58, 4, 5, 172, 3, 172]
abbrev dktX0_watcher_0 : List UInt8 := dkwX0_watcher_0 ++ []
theorem dksX0_watcher_0 : cX0_watcher.data.toList.drop 0 = dktX0_watcher_0 := by decide +kernel
theorem dX0_watcher_0 : decode cX0_watcher 0 = .ok (.aload_n 3, 1) := dk_45 (dk_at dksX0_watcher_0 0 rfl rfl)
theorem dX0_watcher_1 : decode cX0_watcher 1 = .ok (.iconst 0, 1) := dk_3 (dk_at dksX0_watcher_0 1 rfl rfl)
theorem dX0_watcher_2 : decode cX0_watcher 2 = .ok (.aload_n 0, 1) := dk_42 (dk_at dksX0_watcher_0 2 rfl rfl)
theorem dX0_watcher_3 : decode cX0_watcher 3 = .ok (.iload_n 1, 1) := dk_27 (dk_at dksX0_watcher_0 3 rfl rfl)
theorem dX0_watcher_4 : decode cX0_watcher 4 = .ok (.iload_n 2, 1) := dk_28 (dk_at dksX0_watcher_0 4 rfl rfl)
theorem dX0_watcher_5 : decode cX0_watcher 5 = .ok (.invokevirtual 35, 3) := dk_182 0 35 (dk_at dksX0_watcher_0 5 rfl rfl)
theorem dX0_watcher_8 : decode cX0_watcher 8 = .ok (.i2l, 1) := dk_133 (dk_at dksX0_watcher_0 8 rfl rfl)
theorem dX0_watcher_9 : decode cX0_watcher 9 = .ok (.lastore, 1) := dk_80 (dk_at dksX0_watcher_0 9 rfl rfl)
theorem dX0_watcher_10 : decode cX0_watcher 10 = .ok (.goto 11, 3) := dk_167 0 11 (dk_at dksX0_watcher_0 10 rfl rfl)
theorem dX0_watcher_13 : decode cX0_watcher 13 = .ok (.astore 4, 2) := dk_58 4 (dk_at dksX0_watcher_0 13 rfl rfl)
theorem dX0_watcher_15 : decode cX0_watcher 15 = .ok (.iconst 1, 1) := dk_4 (dk_at dksX0_watcher_0 15 rfl rfl)
theorem dX0_watcher_16 : decode cX0_watcher 16 = .ok (.ireturn, 1) := dk_172 (dk_at dksX0_watcher_0 16 rfl rfl)
theorem dX0_watcher_17 : decode cX0_watcher 17 = .ok (.astore 4, 2) := dk_58 4 (dk_at dksX0_watcher_0 17 rfl rfl)
theorem dX0_watcher_19 : decode cX0_watcher 19 = .ok (.iconst 2, 1) := dk_5 (dk_at dksX0_watcher_0 19 rfl rfl)
theorem dX0_watcher_20 : decode cX0_watcher 20 = .ok (.ireturn, 1) := dk_172 (dk_at dksX0_watcher_0 20 rfl rfl)
theorem dX0_watcher_21 : decode cX0_watcher 21 = .ok (.iconst 0, 1) := dk_3 (dk_at dksX0_watcher_0 21 rfl rfl)
theorem dX0_watcher_22 : decode cX0_watcher 22 = .ok (.ireturn, 1) := dk_172 (dk_at dksX0_watcher_0 22 rfl rfl)
abbrev cX0_courier : ByteArray := method_10_code
def yX0_courier : MethodName := ⟨RX0, "courier", "(LMistCouriers;II[J)I"⟩
def dkwX0_courier_0 : List UInt8 := [45, 3, 42, 27, 28, 182, 0, 38, 133, 80, 167, 0, 11, 58, 4, 4, 172, 58, 4, 5, 172, 3, 172]
abbrev dktX0_courier_0 : List UInt8 := dkwX0_courier_0 ++ []
theorem dksX0_courier_0 : cX0_courier.data.toList.drop 0 = dktX0_courier_0 := by decide +kernel
theorem dX0_courier_0 : decode cX0_courier 0 = .ok (.aload_n 3, 1) := dk_45 (dk_at dksX0_courier_0 0 rfl rfl)
theorem dX0_courier_1 : decode cX0_courier 1 = .ok (.iconst 0, 1) := dk_3 (dk_at dksX0_courier_0 1 rfl rfl)
theorem dX0_courier_2 : decode cX0_courier 2 = .ok (.aload_n 0, 1) := dk_42 (dk_at dksX0_courier_0 2 rfl rfl)
theorem dX0_courier_3 : decode cX0_courier 3 = .ok (.iload_n 1, 1) := dk_27 (dk_at dksX0_courier_0 3 rfl rfl)
theorem dX0_courier_4 : decode cX0_courier 4 = .ok (.iload_n 2, 1) := dk_28 (dk_at dksX0_courier_0 4 rfl rfl)
theorem dX0_courier_5 : decode cX0_courier 5 = .ok (.invokevirtual 38, 3) := dk_182 0 38 (dk_at dksX0_courier_0 5 rfl rfl)
theorem dX0_courier_8 : decode cX0_courier 8 = .ok (.i2l, 1) := dk_133 (dk_at dksX0_courier_0 8 rfl rfl)
theorem dX0_courier_9 : decode cX0_courier 9 = .ok (.lastore, 1) := dk_80 (dk_at dksX0_courier_0 9 rfl rfl)
theorem dX0_courier_10 : decode cX0_courier 10 = .ok (.goto 11, 3) := dk_167 0 11 (dk_at dksX0_courier_0 10 rfl rfl)
theorem dX0_courier_13 : decode cX0_courier 13 = .ok (.astore 4, 2) := dk_58 4 (dk_at dksX0_courier_0 13 rfl rfl)
theorem dX0_courier_15 : decode cX0_courier 15 = .ok (.iconst 1, 1) := dk_4 (dk_at dksX0_courier_0 15 rfl rfl)
theorem dX0_courier_16 : decode cX0_courier 16 = .ok (.ireturn, 1) := dk_172 (dk_at dksX0_courier_0 16 rfl rfl)
theorem dX0_courier_17 : decode cX0_courier 17 = .ok (.astore 4, 2) := dk_58 4 (dk_at dksX0_courier_0 17 rfl rfl)
theorem dX0_courier_19 : decode cX0_courier 19 = .ok (.iconst 2, 1) := dk_5 (dk_at dksX0_courier_0 19 rfl rfl)
theorem dX0_courier_20 : decode cX0_courier 20 = .ok (.ireturn, 1) := dk_172 (dk_at dksX0_courier_0 20 rfl rfl)
theorem dX0_courier_21 : decode cX0_courier 21 = .ok (.iconst 0, 1) := dk_3 (dk_at dksX0_courier_0 21 rfl rfl)
theorem dX0_courier_22 : decode cX0_courier 22 = .ok (.ireturn, 1) := dk_172 (dk_at dksX0_courier_0 22 rfl rfl)
abbrev cX0_letter : ByteArray := method_11_code
def yX0_letter : MethodName := ⟨RX0, "letter", "(LMistCouriers;II[J)I"⟩
def dkwX0_letter_0 : List UInt8 := [45, 3, 42, 27, 28, 182, 0, 41, 133, 80, 167, 0, 11, 58, 4, 4, 172, 58, 4, 5, 172, 3, 172]
abbrev dktX0_letter_0 : List UInt8 := dkwX0_letter_0 ++ []
theorem dksX0_letter_0 : cX0_letter.data.toList.drop 0 = dktX0_letter_0 := by decide +kernel
theorem dX0_letter_0 : decode cX0_letter 0 = .ok (.aload_n 3, 1) := dk_45 (dk_at dksX0_letter_0 0 rfl rfl)
theorem dX0_letter_1 : decode cX0_letter 1 = .ok (.iconst 0, 1) := dk_3 (dk_at dksX0_letter_0 1 rfl rfl)
theorem dX0_letter_2 : decode cX0_letter 2 = .ok (.aload_n 0, 1) := dk_42 (dk_at dksX0_letter_0 2 rfl rfl)
theorem dX0_letter_3 : decode cX0_letter 3 = .ok (.iload_n 1, 1) := dk_27 (dk_at dksX0_letter_0 3 rfl rfl)
theorem dX0_letter_4 : decode cX0_letter 4 = .ok (.iload_n 2, 1) := dk_28 (dk_at dksX0_letter_0 4 rfl rfl)
theorem dX0_letter_5 : decode cX0_letter 5 = .ok (.invokevirtual 41, 3) := dk_182 0 41 (dk_at dksX0_letter_0 5 rfl rfl)
theorem dX0_letter_8 : decode cX0_letter 8 = .ok (.i2l, 1) := dk_133 (dk_at dksX0_letter_0 8 rfl rfl)
theorem dX0_letter_9 : decode cX0_letter 9 = .ok (.lastore, 1) := dk_80 (dk_at dksX0_letter_0 9 rfl rfl)
theorem dX0_letter_10 : decode cX0_letter 10 = .ok (.goto 11, 3) := dk_167 0 11 (dk_at dksX0_letter_0 10 rfl rfl)
theorem dX0_letter_13 : decode cX0_letter 13 = .ok (.astore 4, 2) := dk_58 4 (dk_at dksX0_letter_0 13 rfl rfl)
theorem dX0_letter_15 : decode cX0_letter 15 = .ok (.iconst 1, 1) := dk_4 (dk_at dksX0_letter_0 15 rfl rfl)
theorem dX0_letter_16 : decode cX0_letter 16 = .ok (.ireturn, 1) := dk_172 (dk_at dksX0_letter_0 16 rfl rfl)
theorem dX0_letter_17 : decode cX0_letter 17 = .ok (.astore 4, 2) := dk_58 4 (dk_at dksX0_letter_0 17 rfl rfl)
theorem dX0_letter_19 : decode cX0_letter 19 = .ok (.iconst 2, 1) := dk_5 (dk_at dksX0_letter_0 19 rfl rfl)
theorem dX0_letter_20 : decode cX0_letter 20 = .ok (.ireturn, 1) := dk_172 (dk_at dksX0_letter_0 20 rfl rfl)
theorem dX0_letter_21 : decode cX0_letter 21 = .ok (.iconst 0, 1) := dk_3 (dk_at dksX0_letter_0 21 rfl rfl)
theorem dX0_letter_22 : decode cX0_letter 22 = .ok (.ireturn, 1) := dk_172 (dk_at dksX0_letter_0 22 rfl rfl)
abbrev cX0_gaze : ByteArray := method_12_code
def yX0_gaze : MethodName := ⟨RX0, "gaze", "(LMistCouriers;II[J)I"⟩
def dkwX0_gaze_0 : List UInt8 := [45, 3, 42, 27, 28, 182, 0, 44, 133, 80, 167, 0, 7, 58, 4, 4, 172, 3, 172]
abbrev dktX0_gaze_0 : List UInt8 := dkwX0_gaze_0 ++ []
theorem dksX0_gaze_0 : cX0_gaze.data.toList.drop 0 = dktX0_gaze_0 := by decide +kernel
theorem dX0_gaze_0 : decode cX0_gaze 0 = .ok (.aload_n 3, 1) := dk_45 (dk_at dksX0_gaze_0 0 rfl rfl)
theorem dX0_gaze_1 : decode cX0_gaze 1 = .ok (.iconst 0, 1) := dk_3 (dk_at dksX0_gaze_0 1 rfl rfl)
theorem dX0_gaze_2 : decode cX0_gaze 2 = .ok (.aload_n 0, 1) := dk_42 (dk_at dksX0_gaze_0 2 rfl rfl)
theorem dX0_gaze_3 : decode cX0_gaze 3 = .ok (.iload_n 1, 1) := dk_27 (dk_at dksX0_gaze_0 3 rfl rfl)
theorem dX0_gaze_4 : decode cX0_gaze 4 = .ok (.iload_n 2, 1) := dk_28 (dk_at dksX0_gaze_0 4 rfl rfl)
theorem dX0_gaze_5 : decode cX0_gaze 5 = .ok (.invokevirtual 44, 3) := dk_182 0 44 (dk_at dksX0_gaze_0 5 rfl rfl)
theorem dX0_gaze_8 : decode cX0_gaze 8 = .ok (.i2l, 1) := dk_133 (dk_at dksX0_gaze_0 8 rfl rfl)
theorem dX0_gaze_9 : decode cX0_gaze 9 = .ok (.lastore, 1) := dk_80 (dk_at dksX0_gaze_0 9 rfl rfl)
theorem dX0_gaze_10 : decode cX0_gaze 10 = .ok (.goto 7, 3) := dk_167 0 7 (dk_at dksX0_gaze_0 10 rfl rfl)
theorem dX0_gaze_13 : decode cX0_gaze 13 = .ok (.astore 4, 2) := dk_58 4 (dk_at dksX0_gaze_0 13 rfl rfl)
theorem dX0_gaze_15 : decode cX0_gaze 15 = .ok (.iconst 1, 1) := dk_4 (dk_at dksX0_gaze_0 15 rfl rfl)
theorem dX0_gaze_16 : decode cX0_gaze 16 = .ok (.ireturn, 1) := dk_172 (dk_at dksX0_gaze_0 16 rfl rfl)
theorem dX0_gaze_17 : decode cX0_gaze 17 = .ok (.iconst 0, 1) := dk_3 (dk_at dksX0_gaze_0 17 rfl rfl)
theorem dX0_gaze_18 : decode cX0_gaze 18 = .ok (.ireturn, 1) := dk_172 (dk_at dksX0_gaze_0 18 rfl rfl)
abbrev cX0_why : ByteArray := method_13_code
def yX0_why : MethodName := ⟨RX0, "why", "(LMistCouriers;II[J)I"⟩
def dkwX0_why_0 : List UInt8 := [45, 3, 42, 27, 28, 182, 0, 47, 133, 80, 167, 0, 11, 58, 4, 4, 172, 58, 4, 5, 172, 3, 172]
abbrev dktX0_why_0 : List UInt8 := dkwX0_why_0 ++ []
theorem dksX0_why_0 : cX0_why.data.toList.drop 0 = dktX0_why_0 := by decide +kernel
theorem dX0_why_0 : decode cX0_why 0 = .ok (.aload_n 3, 1) := dk_45 (dk_at dksX0_why_0 0 rfl rfl)
theorem dX0_why_1 : decode cX0_why 1 = .ok (.iconst 0, 1) := dk_3 (dk_at dksX0_why_0 1 rfl rfl)
theorem dX0_why_2 : decode cX0_why 2 = .ok (.aload_n 0, 1) := dk_42 (dk_at dksX0_why_0 2 rfl rfl)
theorem dX0_why_3 : decode cX0_why 3 = .ok (.iload_n 1, 1) := dk_27 (dk_at dksX0_why_0 3 rfl rfl)
theorem dX0_why_4 : decode cX0_why 4 = .ok (.iload_n 2, 1) := dk_28 (dk_at dksX0_why_0 4 rfl rfl)
theorem dX0_why_5 : decode cX0_why 5 = .ok (.invokevirtual 47, 3) := dk_182 0 47 (dk_at dksX0_why_0 5 rfl rfl)
theorem dX0_why_8 : decode cX0_why 8 = .ok (.i2l, 1) := dk_133 (dk_at dksX0_why_0 8 rfl rfl)
theorem dX0_why_9 : decode cX0_why 9 = .ok (.lastore, 1) := dk_80 (dk_at dksX0_why_0 9 rfl rfl)
theorem dX0_why_10 : decode cX0_why 10 = .ok (.goto 11, 3) := dk_167 0 11 (dk_at dksX0_why_0 10 rfl rfl)
theorem dX0_why_13 : decode cX0_why 13 = .ok (.astore 4, 2) := dk_58 4 (dk_at dksX0_why_0 13 rfl rfl)
theorem dX0_why_15 : decode cX0_why 15 = .ok (.iconst 1, 1) := dk_4 (dk_at dksX0_why_0 15 rfl rfl)
theorem dX0_why_16 : decode cX0_why 16 = .ok (.ireturn, 1) := dk_172 (dk_at dksX0_why_0 16 rfl rfl)
theorem dX0_why_17 : decode cX0_why 17 = .ok (.astore 4, 2) := dk_58 4 (dk_at dksX0_why_0 17 rfl rfl)
theorem dX0_why_19 : decode cX0_why 19 = .ok (.iconst 2, 1) := dk_5 (dk_at dksX0_why_0 19 rfl rfl)
theorem dX0_why_20 : decode cX0_why 20 = .ok (.ireturn, 1) := dk_172 (dk_at dksX0_why_0 20 rfl rfl)
theorem dX0_why_21 : decode cX0_why 21 = .ok (.iconst 0, 1) := dk_3 (dk_at dksX0_why_0 21 rfl rfl)
theorem dX0_why_22 : decode cX0_why 22 = .ok (.ireturn, 1) := dk_172 (dk_at dksX0_why_0 22 rfl rfl)
abbrev cX0_ifSeen : ByteArray := method_14_code
def yX0_ifSeen : MethodName := ⟨RX0, "ifSeen", "(LMistCouriers;II[J)I"⟩
def dkwX0_ifSeen_1 : List UInt8 := [58, 4, 5, 172, 3, 172]
abbrev dktX0_ifSeen_1 : List UInt8 := dkwX0_ifSeen_1 ++ []
def dkwX0_ifSeen_0 : List UInt8 := [45, 3, 42, 27, 28, 182, 0, 50, 153, 0, 7, 10, 167, 0, 4, 9, 80, 167, 0, 11, 58, 4, 4, 172]
abbrev dktX0_ifSeen_0 : List UInt8 := dkwX0_ifSeen_0 ++ dktX0_ifSeen_1
theorem dksX0_ifSeen_0 : cX0_ifSeen.data.toList.drop 0 = dktX0_ifSeen_0 := by decide +kernel
theorem dksX0_ifSeen_1 : cX0_ifSeen.data.toList.drop 24 = dktX0_ifSeen_1 := dk_seg dksX0_ifSeen_0 24 rfl rfl
theorem dX0_ifSeen_0 : decode cX0_ifSeen 0 = .ok (.aload_n 3, 1) := dk_45 (dk_at dksX0_ifSeen_0 0 rfl rfl)
theorem dX0_ifSeen_1 : decode cX0_ifSeen 1 = .ok (.iconst 0, 1) := dk_3 (dk_at dksX0_ifSeen_0 1 rfl rfl)
theorem dX0_ifSeen_2 : decode cX0_ifSeen 2 = .ok (.aload_n 0, 1) := dk_42 (dk_at dksX0_ifSeen_0 2 rfl rfl)
theorem dX0_ifSeen_3 : decode cX0_ifSeen 3 = .ok (.iload_n 1, 1) := dk_27 (dk_at dksX0_ifSeen_0 3 rfl rfl)
theorem dX0_ifSeen_4 : decode cX0_ifSeen 4 = .ok (.iload_n 2, 1) := dk_28 (dk_at dksX0_ifSeen_0 4 rfl rfl)
theorem dX0_ifSeen_5 : decode cX0_ifSeen 5 = .ok (.invokevirtual 50, 3) := dk_182 0 50 (dk_at dksX0_ifSeen_0 5 rfl rfl)
theorem dX0_ifSeen_8 : decode cX0_ifSeen 8 = .ok (.ifCond .eq 7, 3) := dk_153 0 7 (dk_at dksX0_ifSeen_0 8 rfl rfl)
theorem dX0_ifSeen_11 : decode cX0_ifSeen 11 = .ok (.lconst 1, 1) := dk_10 (dk_at dksX0_ifSeen_0 11 rfl rfl)
theorem dX0_ifSeen_12 : decode cX0_ifSeen 12 = .ok (.goto 4, 3) := dk_167 0 4 (dk_at dksX0_ifSeen_0 12 rfl rfl)
theorem dX0_ifSeen_15 : decode cX0_ifSeen 15 = .ok (.lconst 0, 1) := dk_9 (dk_at dksX0_ifSeen_0 15 rfl rfl)
theorem dX0_ifSeen_16 : decode cX0_ifSeen 16 = .ok (.lastore, 1) := dk_80 (dk_at dksX0_ifSeen_0 16 rfl rfl)
theorem dX0_ifSeen_17 : decode cX0_ifSeen 17 = .ok (.goto 11, 3) := dk_167 0 11 (dk_at dksX0_ifSeen_0 17 rfl rfl)
theorem dX0_ifSeen_20 : decode cX0_ifSeen 20 = .ok (.astore 4, 2) := dk_58 4 (dk_at dksX0_ifSeen_0 20 rfl rfl)
theorem dX0_ifSeen_22 : decode cX0_ifSeen 22 = .ok (.iconst 1, 1) := dk_4 (dk_at dksX0_ifSeen_0 22 rfl rfl)
theorem dX0_ifSeen_23 : decode cX0_ifSeen 23 = .ok (.ireturn, 1) := dk_172 (dk_at dksX0_ifSeen_0 23 rfl rfl)
theorem dX0_ifSeen_24 : decode cX0_ifSeen 24 = .ok (.astore 4, 2) := dk_58 4 (dk_at dksX0_ifSeen_1 0 rfl rfl)
theorem dX0_ifSeen_26 : decode cX0_ifSeen 26 = .ok (.iconst 2, 1) := dk_5 (dk_at dksX0_ifSeen_1 2 rfl rfl)
theorem dX0_ifSeen_27 : decode cX0_ifSeen 27 = .ok (.ireturn, 1) := dk_172 (dk_at dksX0_ifSeen_1 3 rfl rfl)
theorem dX0_ifSeen_28 : decode cX0_ifSeen 28 = .ok (.iconst 0, 1) := dk_3 (dk_at dksX0_ifSeen_1 4 rfl rfl)
theorem dX0_ifSeen_29 : decode cX0_ifSeen 29 = .ok (.ireturn, 1) := dk_172 (dk_at dksX0_ifSeen_1 5 rfl rfl)
abbrev cX0_seenIn : ByteArray := method_15_code
def yX0_seenIn : MethodName := ⟨RX0, "seenIn", "(LMistCouriers;I[J)I"⟩
def dkwX0_seenIn_0 : List UInt8 := [44, 3, 42, 27, 182, 0, 54, 133, 80, 167, 0, 6, 78, 4, 172, 3, 172]
abbrev dktX0_seenIn_0 : List UInt8 := dkwX0_seenIn_0 ++ []
theorem dksX0_seenIn_0 : cX0_seenIn.data.toList.drop 0 = dktX0_seenIn_0 := by decide +kernel
theorem dX0_seenIn_0 : decode cX0_seenIn 0 = .ok (.aload_n 2, 1) := dk_44 (dk_at dksX0_seenIn_0 0 rfl rfl)
theorem dX0_seenIn_1 : decode cX0_seenIn 1 = .ok (.iconst 0, 1) := dk_3 (dk_at dksX0_seenIn_0 1 rfl rfl)
theorem dX0_seenIn_2 : decode cX0_seenIn 2 = .ok (.aload_n 0, 1) := dk_42 (dk_at dksX0_seenIn_0 2 rfl rfl)
theorem dX0_seenIn_3 : decode cX0_seenIn 3 = .ok (.iload_n 1, 1) := dk_27 (dk_at dksX0_seenIn_0 3 rfl rfl)
theorem dX0_seenIn_4 : decode cX0_seenIn 4 = .ok (.invokevirtual 54, 3) := dk_182 0 54 (dk_at dksX0_seenIn_0 4 rfl rfl)
theorem dX0_seenIn_7 : decode cX0_seenIn 7 = .ok (.i2l, 1) := dk_133 (dk_at dksX0_seenIn_0 7 rfl rfl)
theorem dX0_seenIn_8 : decode cX0_seenIn 8 = .ok (.lastore, 1) := dk_80 (dk_at dksX0_seenIn_0 8 rfl rfl)
theorem dX0_seenIn_9 : decode cX0_seenIn 9 = .ok (.goto 6, 3) := dk_167 0 6 (dk_at dksX0_seenIn_0 9 rfl rfl)
theorem dX0_seenIn_12 : decode cX0_seenIn 12 = .ok (.astore_n 3, 1) := dk_78 (dk_at dksX0_seenIn_0 12 rfl rfl)
theorem dX0_seenIn_13 : decode cX0_seenIn 13 = .ok (.iconst 1, 1) := dk_4 (dk_at dksX0_seenIn_0 13 rfl rfl)
theorem dX0_seenIn_14 : decode cX0_seenIn 14 = .ok (.ireturn, 1) := dk_172 (dk_at dksX0_seenIn_0 14 rfl rfl)
theorem dX0_seenIn_15 : decode cX0_seenIn 15 = .ok (.iconst 0, 1) := dk_3 (dk_at dksX0_seenIn_0 15 rfl rfl)
theorem dX0_seenIn_16 : decode cX0_seenIn 16 = .ok (.ireturn, 1) := dk_172 (dk_at dksX0_seenIn_0 16 rfl rfl)
abbrev cX0_ifPassed : ByteArray := method_16_code
def yX0_ifPassed : MethodName := ⟨RX0, "ifPassed", "(LMistCouriers;II[J)I"⟩
def dkwX0_ifPassed_0 : List UInt8 := [45, 3, 42, 27, 28, 182, 0, 57, 133, 80, 167, 0, 7, 58, 4, 4, 172, 3, 172]
abbrev dktX0_ifPassed_0 : List UInt8 := dkwX0_ifPassed_0 ++ []
theorem dksX0_ifPassed_0 : cX0_ifPassed.data.toList.drop 0 = dktX0_ifPassed_0 := by decide +kernel
theorem dX0_ifPassed_0 : decode cX0_ifPassed 0 = .ok (.aload_n 3, 1) := dk_45 (dk_at dksX0_ifPassed_0 0 rfl rfl)
theorem dX0_ifPassed_1 : decode cX0_ifPassed 1 = .ok (.iconst 0, 1) := dk_3 (dk_at dksX0_ifPassed_0 1 rfl rfl)
theorem dX0_ifPassed_2 : decode cX0_ifPassed 2 = .ok (.aload_n 0, 1) := dk_42 (dk_at dksX0_ifPassed_0 2 rfl rfl)
theorem dX0_ifPassed_3 : decode cX0_ifPassed 3 = .ok (.iload_n 1, 1) := dk_27 (dk_at dksX0_ifPassed_0 3 rfl rfl)
theorem dX0_ifPassed_4 : decode cX0_ifPassed 4 = .ok (.iload_n 2, 1) := dk_28 (dk_at dksX0_ifPassed_0 4 rfl rfl)
theorem dX0_ifPassed_5 : decode cX0_ifPassed 5 = .ok (.invokevirtual 57, 3) := dk_182 0 57 (dk_at dksX0_ifPassed_0 5 rfl rfl)
theorem dX0_ifPassed_8 : decode cX0_ifPassed 8 = .ok (.i2l, 1) := dk_133 (dk_at dksX0_ifPassed_0 8 rfl rfl)
theorem dX0_ifPassed_9 : decode cX0_ifPassed 9 = .ok (.lastore, 1) := dk_80 (dk_at dksX0_ifPassed_0 9 rfl rfl)
theorem dX0_ifPassed_10 : decode cX0_ifPassed 10 = .ok (.goto 7, 3) := dk_167 0 7 (dk_at dksX0_ifPassed_0 10 rfl rfl)
theorem dX0_ifPassed_13 : decode cX0_ifPassed 13 = .ok (.astore 4, 2) := dk_58 4 (dk_at dksX0_ifPassed_0 13 rfl rfl)
theorem dX0_ifPassed_15 : decode cX0_ifPassed 15 = .ok (.iconst 1, 1) := dk_4 (dk_at dksX0_ifPassed_0 15 rfl rfl)
theorem dX0_ifPassed_16 : decode cX0_ifPassed 16 = .ok (.ireturn, 1) := dk_172 (dk_at dksX0_ifPassed_0 16 rfl rfl)
theorem dX0_ifPassed_17 : decode cX0_ifPassed 17 = .ok (.iconst 0, 1) := dk_3 (dk_at dksX0_ifPassed_0 17 rfl rfl)
theorem dX0_ifPassed_18 : decode cX0_ifPassed 18 = .ok (.ireturn, 1) := dk_172 (dk_at dksX0_ifPassed_0 18 rfl rfl)
abbrev cX0_unseen : ByteArray := method_17_code
def yX0_unseen : MethodName := ⟨RX0, "unseen", "(LMistCouriers;II[J)I"⟩
def dkwX0_unseen_0 : List UInt8 := [45, 3, 42, 27, 28, 182, 0, 60, 133, 80, 167, 0, 7, 58, 4, 4, 172, 3, 172]
abbrev dktX0_unseen_0 : List UInt8 := dkwX0_unseen_0 ++ []
theorem dksX0_unseen_0 : cX0_unseen.data.toList.drop 0 = dktX0_unseen_0 := by decide +kernel
theorem dX0_unseen_0 : decode cX0_unseen 0 = .ok (.aload_n 3, 1) := dk_45 (dk_at dksX0_unseen_0 0 rfl rfl)
theorem dX0_unseen_1 : decode cX0_unseen 1 = .ok (.iconst 0, 1) := dk_3 (dk_at dksX0_unseen_0 1 rfl rfl)
theorem dX0_unseen_2 : decode cX0_unseen 2 = .ok (.aload_n 0, 1) := dk_42 (dk_at dksX0_unseen_0 2 rfl rfl)
theorem dX0_unseen_3 : decode cX0_unseen 3 = .ok (.iload_n 1, 1) := dk_27 (dk_at dksX0_unseen_0 3 rfl rfl)
theorem dX0_unseen_4 : decode cX0_unseen 4 = .ok (.iload_n 2, 1) := dk_28 (dk_at dksX0_unseen_0 4 rfl rfl)
theorem dX0_unseen_5 : decode cX0_unseen 5 = .ok (.invokevirtual 60, 3) := dk_182 0 60 (dk_at dksX0_unseen_0 5 rfl rfl)
theorem dX0_unseen_8 : decode cX0_unseen 8 = .ok (.i2l, 1) := dk_133 (dk_at dksX0_unseen_0 8 rfl rfl)
theorem dX0_unseen_9 : decode cX0_unseen 9 = .ok (.lastore, 1) := dk_80 (dk_at dksX0_unseen_0 9 rfl rfl)
theorem dX0_unseen_10 : decode cX0_unseen 10 = .ok (.goto 7, 3) := dk_167 0 7 (dk_at dksX0_unseen_0 10 rfl rfl)
theorem dX0_unseen_13 : decode cX0_unseen 13 = .ok (.astore 4, 2) := dk_58 4 (dk_at dksX0_unseen_0 13 rfl rfl)
theorem dX0_unseen_15 : decode cX0_unseen 15 = .ok (.iconst 1, 1) := dk_4 (dk_at dksX0_unseen_0 15 rfl rfl)
theorem dX0_unseen_16 : decode cX0_unseen 16 = .ok (.ireturn, 1) := dk_172 (dk_at dksX0_unseen_0 16 rfl rfl)
theorem dX0_unseen_17 : decode cX0_unseen 17 = .ok (.iconst 0, 1) := dk_3 (dk_at dksX0_unseen_0 17 rfl rfl)
theorem dX0_unseen_18 : decode cX0_unseen 18 = .ok (.ireturn, 1) := dk_172 (dk_at dksX0_unseen_0 18 rfl rfl)
abbrev cX0_canBe : ByteArray := method_18_code
def yX0_canBe : MethodName := ⟨RX0, "canBe", "(LMistCouriers;II[J)I"⟩
def dkwX0_canBe_0 : List UInt8 := [45, 3, 42, 27, 28, 182, 0, 63, 133, 80, 167, 0, 11, 58, 4, 4, 172, 58, 4, 5, 172, 3, 172]
abbrev dktX0_canBe_0 : List UInt8 := dkwX0_canBe_0 ++ []
theorem dksX0_canBe_0 : cX0_canBe.data.toList.drop 0 = dktX0_canBe_0 := by decide +kernel
theorem dX0_canBe_0 : decode cX0_canBe 0 = .ok (.aload_n 3, 1) := dk_45 (dk_at dksX0_canBe_0 0 rfl rfl)
theorem dX0_canBe_1 : decode cX0_canBe 1 = .ok (.iconst 0, 1) := dk_3 (dk_at dksX0_canBe_0 1 rfl rfl)
theorem dX0_canBe_2 : decode cX0_canBe 2 = .ok (.aload_n 0, 1) := dk_42 (dk_at dksX0_canBe_0 2 rfl rfl)
theorem dX0_canBe_3 : decode cX0_canBe 3 = .ok (.iload_n 1, 1) := dk_27 (dk_at dksX0_canBe_0 3 rfl rfl)
theorem dX0_canBe_4 : decode cX0_canBe 4 = .ok (.iload_n 2, 1) := dk_28 (dk_at dksX0_canBe_0 4 rfl rfl)
theorem dX0_canBe_5 : decode cX0_canBe 5 = .ok (.invokevirtual 63, 3) := dk_182 0 63 (dk_at dksX0_canBe_0 5 rfl rfl)
theorem dX0_canBe_8 : decode cX0_canBe 8 = .ok (.i2l, 1) := dk_133 (dk_at dksX0_canBe_0 8 rfl rfl)
theorem dX0_canBe_9 : decode cX0_canBe 9 = .ok (.lastore, 1) := dk_80 (dk_at dksX0_canBe_0 9 rfl rfl)
theorem dX0_canBe_10 : decode cX0_canBe 10 = .ok (.goto 11, 3) := dk_167 0 11 (dk_at dksX0_canBe_0 10 rfl rfl)
theorem dX0_canBe_13 : decode cX0_canBe 13 = .ok (.astore 4, 2) := dk_58 4 (dk_at dksX0_canBe_0 13 rfl rfl)
theorem dX0_canBe_15 : decode cX0_canBe 15 = .ok (.iconst 1, 1) := dk_4 (dk_at dksX0_canBe_0 15 rfl rfl)
theorem dX0_canBe_16 : decode cX0_canBe 16 = .ok (.ireturn, 1) := dk_172 (dk_at dksX0_canBe_0 16 rfl rfl)
theorem dX0_canBe_17 : decode cX0_canBe 17 = .ok (.astore 4, 2) := dk_58 4 (dk_at dksX0_canBe_0 17 rfl rfl)
theorem dX0_canBe_19 : decode cX0_canBe 19 = .ok (.iconst 2, 1) := dk_5 (dk_at dksX0_canBe_0 19 rfl rfl)
theorem dX0_canBe_20 : decode cX0_canBe 20 = .ok (.ireturn, 1) := dk_172 (dk_at dksX0_canBe_0 20 rfl rfl)
theorem dX0_canBe_21 : decode cX0_canBe 21 = .ok (.iconst 0, 1) := dk_3 (dk_at dksX0_canBe_0 21 rfl rfl)
theorem dX0_canBe_22 : decode cX0_canBe 22 = .ok (.ireturn, 1) := dk_172 (dk_at dksX0_canBe_0 22 rfl rfl)
abbrev cX0_ifStepped : ByteArray := method_19_code
def yX0_ifStepped : MethodName := ⟨RX0, "ifStepped", "(LMistCouriers;II[J)I"⟩
def dkwX0_ifStepped_0 : List UInt8 := [45, 3, 42, 27, 28, 182, 0, 66, 133, 80, 167, 0, 11, 58, 4, 4, 172, 58, 4, 5, 172, 3, 172]
abbrev dktX0_ifStepped_0 : List UInt8 := dkwX0_ifStepped_0 ++ []
theorem dksX0_ifStepped_0 : cX0_ifStepped.data.toList.drop 0 = dktX0_ifStepped_0 := by decide +kernel
theorem dX0_ifStepped_0 : decode cX0_ifStepped 0 = .ok (.aload_n 3, 1) := dk_45 (dk_at dksX0_ifStepped_0 0 rfl rfl)
theorem dX0_ifStepped_1 : decode cX0_ifStepped 1 = .ok (.iconst 0, 1) := dk_3 (dk_at dksX0_ifStepped_0 1 rfl rfl)
theorem dX0_ifStepped_2 : decode cX0_ifStepped 2 = .ok (.aload_n 0, 1) := dk_42 (dk_at dksX0_ifStepped_0 2 rfl rfl)
theorem dX0_ifStepped_3 : decode cX0_ifStepped 3 = .ok (.iload_n 1, 1) := dk_27 (dk_at dksX0_ifStepped_0 3 rfl rfl)
theorem dX0_ifStepped_4 : decode cX0_ifStepped 4 = .ok (.iload_n 2, 1) := dk_28 (dk_at dksX0_ifStepped_0 4 rfl rfl)
theorem dX0_ifStepped_5 : decode cX0_ifStepped 5 = .ok (.invokevirtual 66, 3) := dk_182 0 66 (dk_at dksX0_ifStepped_0 5 rfl rfl)
theorem dX0_ifStepped_8 : decode cX0_ifStepped 8 = .ok (.i2l, 1) := dk_133 (dk_at dksX0_ifStepped_0 8 rfl rfl)
theorem dX0_ifStepped_9 : decode cX0_ifStepped 9 = .ok (.lastore, 1) := dk_80 (dk_at dksX0_ifStepped_0 9 rfl rfl)
theorem dX0_ifStepped_10 : decode cX0_ifStepped 10 = .ok (.goto 11, 3) := dk_167 0 11 (dk_at dksX0_ifStepped_0 10 rfl rfl)
theorem dX0_ifStepped_13 : decode cX0_ifStepped 13 = .ok (.astore 4, 2) := dk_58 4 (dk_at dksX0_ifStepped_0 13 rfl rfl)
theorem dX0_ifStepped_15 : decode cX0_ifStepped 15 = .ok (.iconst 1, 1) := dk_4 (dk_at dksX0_ifStepped_0 15 rfl rfl)
theorem dX0_ifStepped_16 : decode cX0_ifStepped 16 = .ok (.ireturn, 1) := dk_172 (dk_at dksX0_ifStepped_0 16 rfl rfl)
theorem dX0_ifStepped_17 : decode cX0_ifStepped 17 = .ok (.astore 4, 2) := dk_58 4 (dk_at dksX0_ifStepped_0 17 rfl rfl)
theorem dX0_ifStepped_19 : decode cX0_ifStepped 19 = .ok (.iconst 2, 1) := dk_5 (dk_at dksX0_ifStepped_0 19 rfl rfl)
theorem dX0_ifStepped_20 : decode cX0_ifStepped 20 = .ok (.ireturn, 1) := dk_172 (dk_at dksX0_ifStepped_0 20 rfl rfl)
theorem dX0_ifStepped_21 : decode cX0_ifStepped 21 = .ok (.iconst 0, 1) := dk_3 (dk_at dksX0_ifStepped_0 21 rfl rfl)
theorem dX0_ifStepped_22 : decode cX0_ifStepped 22 = .ok (.ireturn, 1) := dk_172 (dk_at dksX0_ifStepped_0 22 rfl rfl)
abbrev cX0_nearest : ByteArray := method_20_code
def yX0_nearest : MethodName := ⟨RX0, "nearest", "(LMistCouriers;I[J)I"⟩
def dkwX0_nearest_0 : List UInt8 := [44, 3, 42, 27, 182, 0, 69, 133, 80, 167, 0, 6, 78, 4, 172, 3, 172]
abbrev dktX0_nearest_0 : List UInt8 := dkwX0_nearest_0 ++ []
theorem dksX0_nearest_0 : cX0_nearest.data.toList.drop 0 = dktX0_nearest_0 := by decide +kernel
theorem dX0_nearest_0 : decode cX0_nearest 0 = .ok (.aload_n 2, 1) := dk_44 (dk_at dksX0_nearest_0 0 rfl rfl)
theorem dX0_nearest_1 : decode cX0_nearest 1 = .ok (.iconst 0, 1) := dk_3 (dk_at dksX0_nearest_0 1 rfl rfl)
theorem dX0_nearest_2 : decode cX0_nearest 2 = .ok (.aload_n 0, 1) := dk_42 (dk_at dksX0_nearest_0 2 rfl rfl)
theorem dX0_nearest_3 : decode cX0_nearest 3 = .ok (.iload_n 1, 1) := dk_27 (dk_at dksX0_nearest_0 3 rfl rfl)
theorem dX0_nearest_4 : decode cX0_nearest 4 = .ok (.invokevirtual 69, 3) := dk_182 0 69 (dk_at dksX0_nearest_0 4 rfl rfl)
theorem dX0_nearest_7 : decode cX0_nearest 7 = .ok (.i2l, 1) := dk_133 (dk_at dksX0_nearest_0 7 rfl rfl)
theorem dX0_nearest_8 : decode cX0_nearest 8 = .ok (.lastore, 1) := dk_80 (dk_at dksX0_nearest_0 8 rfl rfl)
theorem dX0_nearest_9 : decode cX0_nearest 9 = .ok (.goto 6, 3) := dk_167 0 6 (dk_at dksX0_nearest_0 9 rfl rfl)
theorem dX0_nearest_12 : decode cX0_nearest 12 = .ok (.astore_n 3, 1) := dk_78 (dk_at dksX0_nearest_0 12 rfl rfl)
theorem dX0_nearest_13 : decode cX0_nearest 13 = .ok (.iconst 1, 1) := dk_4 (dk_at dksX0_nearest_0 13 rfl rfl)
theorem dX0_nearest_14 : decode cX0_nearest 14 = .ok (.ireturn, 1) := dk_172 (dk_at dksX0_nearest_0 14 rfl rfl)
theorem dX0_nearest_15 : decode cX0_nearest 15 = .ok (.iconst 0, 1) := dk_3 (dk_at dksX0_nearest_0 15 rfl rfl)
theorem dX0_nearest_16 : decode cX0_nearest 16 = .ok (.ireturn, 1) := dk_172 (dk_at dksX0_nearest_0 16 rfl rfl)
abbrev cX0_refusals : ByteArray := method_21_code
def yX0_refusals : MethodName := ⟨RX0, "refusals", "(LMistCouriers;I[J)I"⟩
def dkwX0_refusals_0 : List UInt8 := [44, 3, 42, 27, 182, 0, 72, 133, 80, 167, 0, 6, 78, 4, 172, 3, 172]
abbrev dktX0_refusals_0 : List UInt8 := dkwX0_refusals_0 ++ []
theorem dksX0_refusals_0 : cX0_refusals.data.toList.drop 0 = dktX0_refusals_0 := by decide +kernel
theorem dX0_refusals_0 : decode cX0_refusals 0 = .ok (.aload_n 2, 1) := dk_44 (dk_at dksX0_refusals_0 0 rfl rfl)
theorem dX0_refusals_1 : decode cX0_refusals 1 = .ok (.iconst 0, 1) := dk_3 (dk_at dksX0_refusals_0 1 rfl rfl)
theorem dX0_refusals_2 : decode cX0_refusals 2 = .ok (.aload_n 0, 1) := dk_42 (dk_at dksX0_refusals_0 2 rfl rfl)
theorem dX0_refusals_3 : decode cX0_refusals 3 = .ok (.iload_n 1, 1) := dk_27 (dk_at dksX0_refusals_0 3 rfl rfl)
theorem dX0_refusals_4 : decode cX0_refusals 4 = .ok (.invokevirtual 72, 3) := dk_182 0 72 (dk_at dksX0_refusals_0 4 rfl rfl)
theorem dX0_refusals_7 : decode cX0_refusals 7 = .ok (.i2l, 1) := dk_133 (dk_at dksX0_refusals_0 7 rfl rfl)
theorem dX0_refusals_8 : decode cX0_refusals 8 = .ok (.lastore, 1) := dk_80 (dk_at dksX0_refusals_0 8 rfl rfl)
theorem dX0_refusals_9 : decode cX0_refusals 9 = .ok (.goto 6, 3) := dk_167 0 6 (dk_at dksX0_refusals_0 9 rfl rfl)
theorem dX0_refusals_12 : decode cX0_refusals 12 = .ok (.astore_n 3, 1) := dk_78 (dk_at dksX0_refusals_0 12 rfl rfl)
theorem dX0_refusals_13 : decode cX0_refusals 13 = .ok (.iconst 1, 1) := dk_4 (dk_at dksX0_refusals_0 13 rfl rfl)
theorem dX0_refusals_14 : decode cX0_refusals 14 = .ok (.ireturn, 1) := dk_172 (dk_at dksX0_refusals_0 14 rfl rfl)
theorem dX0_refusals_15 : decode cX0_refusals 15 = .ok (.iconst 0, 1) := dk_3 (dk_at dksX0_refusals_0 15 rfl rfl)
theorem dX0_refusals_16 : decode cX0_refusals 16 = .ok (.ireturn, 1) := dk_172 (dk_at dksX0_refusals_0 16 rfl rfl)
abbrev cX0_step : ByteArray := method_22_code
def yX0_step : MethodName := ⟨RX0, "step", "(LMistCouriers;II[J)I"⟩
def dkwX0_step_0 : List UInt8 := [45, 3, 42, 27, 28, 182, 0, 75, 133, 80, 167, 0, 11, 58, 4, 4, 172, 58, 4, 5, 172, 3, 172]
abbrev dktX0_step_0 : List UInt8 := dkwX0_step_0 ++ []
theorem dksX0_step_0 : cX0_step.data.toList.drop 0 = dktX0_step_0 := by decide +kernel
theorem dX0_step_0 : decode cX0_step 0 = .ok (.aload_n 3, 1) := dk_45 (dk_at dksX0_step_0 0 rfl rfl)
theorem dX0_step_1 : decode cX0_step 1 = .ok (.iconst 0, 1) := dk_3 (dk_at dksX0_step_0 1 rfl rfl)
theorem dX0_step_2 : decode cX0_step 2 = .ok (.aload_n 0, 1) := dk_42 (dk_at dksX0_step_0 2 rfl rfl)
theorem dX0_step_3 : decode cX0_step 3 = .ok (.iload_n 1, 1) := dk_27 (dk_at dksX0_step_0 3 rfl rfl)
theorem dX0_step_4 : decode cX0_step 4 = .ok (.iload_n 2, 1) := dk_28 (dk_at dksX0_step_0 4 rfl rfl)
theorem dX0_step_5 : decode cX0_step 5 = .ok (.invokevirtual 75, 3) := dk_182 0 75 (dk_at dksX0_step_0 5 rfl rfl)
theorem dX0_step_8 : decode cX0_step 8 = .ok (.i2l, 1) := dk_133 (dk_at dksX0_step_0 8 rfl rfl)
theorem dX0_step_9 : decode cX0_step 9 = .ok (.lastore, 1) := dk_80 (dk_at dksX0_step_0 9 rfl rfl)
theorem dX0_step_10 : decode cX0_step 10 = .ok (.goto 11, 3) := dk_167 0 11 (dk_at dksX0_step_0 10 rfl rfl)
theorem dX0_step_13 : decode cX0_step 13 = .ok (.astore 4, 2) := dk_58 4 (dk_at dksX0_step_0 13 rfl rfl)
theorem dX0_step_15 : decode cX0_step 15 = .ok (.iconst 1, 1) := dk_4 (dk_at dksX0_step_0 15 rfl rfl)
theorem dX0_step_16 : decode cX0_step 16 = .ok (.ireturn, 1) := dk_172 (dk_at dksX0_step_0 16 rfl rfl)
theorem dX0_step_17 : decode cX0_step 17 = .ok (.astore 4, 2) := dk_58 4 (dk_at dksX0_step_0 17 rfl rfl)
theorem dX0_step_19 : decode cX0_step 19 = .ok (.iconst 2, 1) := dk_5 (dk_at dksX0_step_0 19 rfl rfl)
theorem dX0_step_20 : decode cX0_step 20 = .ok (.ireturn, 1) := dk_172 (dk_at dksX0_step_0 20 rfl rfl)
theorem dX0_step_21 : decode cX0_step 21 = .ok (.iconst 0, 1) := dk_3 (dk_at dksX0_step_0 21 rfl rfl)
theorem dX0_step_22 : decode cX0_step 22 = .ok (.ireturn, 1) := dk_172 (dk_at dksX0_step_0 22 rfl rfl)
abbrev cX0_pick : ByteArray := method_23_code
def yX0_pick : MethodName := ⟨RX0, "pick", "(LMistCouriers;II[J)I"⟩
def dkwX0_pick_0 : List UInt8 := [45, 3, 42, 27, 28, 182, 0, 78, 133, 80, 167, 0, 7, 58, 4, 4, 172, 3, 172]
abbrev dktX0_pick_0 : List UInt8 := dkwX0_pick_0 ++ []
theorem dksX0_pick_0 : cX0_pick.data.toList.drop 0 = dktX0_pick_0 := by decide +kernel
theorem dX0_pick_0 : decode cX0_pick 0 = .ok (.aload_n 3, 1) := dk_45 (dk_at dksX0_pick_0 0 rfl rfl)
theorem dX0_pick_1 : decode cX0_pick 1 = .ok (.iconst 0, 1) := dk_3 (dk_at dksX0_pick_0 1 rfl rfl)
theorem dX0_pick_2 : decode cX0_pick 2 = .ok (.aload_n 0, 1) := dk_42 (dk_at dksX0_pick_0 2 rfl rfl)
theorem dX0_pick_3 : decode cX0_pick 3 = .ok (.iload_n 1, 1) := dk_27 (dk_at dksX0_pick_0 3 rfl rfl)
theorem dX0_pick_4 : decode cX0_pick 4 = .ok (.iload_n 2, 1) := dk_28 (dk_at dksX0_pick_0 4 rfl rfl)
theorem dX0_pick_5 : decode cX0_pick 5 = .ok (.invokevirtual 78, 3) := dk_182 0 78 (dk_at dksX0_pick_0 5 rfl rfl)
theorem dX0_pick_8 : decode cX0_pick 8 = .ok (.i2l, 1) := dk_133 (dk_at dksX0_pick_0 8 rfl rfl)
theorem dX0_pick_9 : decode cX0_pick 9 = .ok (.lastore, 1) := dk_80 (dk_at dksX0_pick_0 9 rfl rfl)
theorem dX0_pick_10 : decode cX0_pick 10 = .ok (.goto 7, 3) := dk_167 0 7 (dk_at dksX0_pick_0 10 rfl rfl)
theorem dX0_pick_13 : decode cX0_pick 13 = .ok (.astore 4, 2) := dk_58 4 (dk_at dksX0_pick_0 13 rfl rfl)
theorem dX0_pick_15 : decode cX0_pick 15 = .ok (.iconst 1, 1) := dk_4 (dk_at dksX0_pick_0 15 rfl rfl)
theorem dX0_pick_16 : decode cX0_pick 16 = .ok (.ireturn, 1) := dk_172 (dk_at dksX0_pick_0 16 rfl rfl)
theorem dX0_pick_17 : decode cX0_pick 17 = .ok (.iconst 0, 1) := dk_3 (dk_at dksX0_pick_0 17 rfl rfl)
theorem dX0_pick_18 : decode cX0_pick 18 = .ok (.ireturn, 1) := dk_172 (dk_at dksX0_pick_0 18 rfl rfl)
abbrev cX0_give : ByteArray := method_24_code
def yX0_give : MethodName := ⟨RX0, "give", "(LMistCouriers;III[J)I"⟩
def dkwX0_give_0 : List UInt8 := [25, 4, 3, 42, 27, 28, 29, 182, 0, 81, 133, 80, 167, 0, 7, 58, 5, 4, 172, 3, 172]
abbrev dktX0_give_0 : List UInt8 := dkwX0_give_0 ++ []
theorem dksX0_give_0 : cX0_give.data.toList.drop 0 = dktX0_give_0 := by decide +kernel
theorem dX0_give_0 : decode cX0_give 0 = .ok (.aload 4, 2) := dk_25 4 (dk_at dksX0_give_0 0 rfl rfl)
theorem dX0_give_2 : decode cX0_give 2 = .ok (.iconst 0, 1) := dk_3 (dk_at dksX0_give_0 2 rfl rfl)
theorem dX0_give_3 : decode cX0_give 3 = .ok (.aload_n 0, 1) := dk_42 (dk_at dksX0_give_0 3 rfl rfl)
theorem dX0_give_4 : decode cX0_give 4 = .ok (.iload_n 1, 1) := dk_27 (dk_at dksX0_give_0 4 rfl rfl)
theorem dX0_give_5 : decode cX0_give 5 = .ok (.iload_n 2, 1) := dk_28 (dk_at dksX0_give_0 5 rfl rfl)
theorem dX0_give_6 : decode cX0_give 6 = .ok (.iload_n 3, 1) := dk_29 (dk_at dksX0_give_0 6 rfl rfl)
theorem dX0_give_7 : decode cX0_give 7 = .ok (.invokevirtual 81, 3) := dk_182 0 81 (dk_at dksX0_give_0 7 rfl rfl)
theorem dX0_give_10 : decode cX0_give 10 = .ok (.i2l, 1) := dk_133 (dk_at dksX0_give_0 10 rfl rfl)
theorem dX0_give_11 : decode cX0_give 11 = .ok (.lastore, 1) := dk_80 (dk_at dksX0_give_0 11 rfl rfl)
theorem dX0_give_12 : decode cX0_give 12 = .ok (.goto 7, 3) := dk_167 0 7 (dk_at dksX0_give_0 12 rfl rfl)
theorem dX0_give_15 : decode cX0_give 15 = .ok (.astore 5, 2) := dk_58 5 (dk_at dksX0_give_0 15 rfl rfl)
theorem dX0_give_17 : decode cX0_give 17 = .ok (.iconst 1, 1) := dk_4 (dk_at dksX0_give_0 17 rfl rfl)
theorem dX0_give_18 : decode cX0_give 18 = .ok (.ireturn, 1) := dk_172 (dk_at dksX0_give_0 18 rfl rfl)
theorem dX0_give_19 : decode cX0_give 19 = .ok (.iconst 0, 1) := dk_3 (dk_at dksX0_give_0 19 rfl rfl)
theorem dX0_give_20 : decode cX0_give 20 = .ok (.ireturn, 1) := dk_172 (dk_at dksX0_give_0 20 rfl rfl)
abbrev cX0_lay : ByteArray := method_25_code
def yX0_lay : MethodName := ⟨RX0, "lay", "(LMistCouriers;II[J)I"⟩
def dkwX0_lay_0 : List UInt8 := [45, 3, 42, 27, 28, 182, 0, 85, 133, 80, 167, 0, 7, 58, 4, 4, 172, 3, 172]
abbrev dktX0_lay_0 : List UInt8 := dkwX0_lay_0 ++ []
theorem dksX0_lay_0 : cX0_lay.data.toList.drop 0 = dktX0_lay_0 := by decide +kernel
theorem dX0_lay_0 : decode cX0_lay 0 = .ok (.aload_n 3, 1) := dk_45 (dk_at dksX0_lay_0 0 rfl rfl)
theorem dX0_lay_1 : decode cX0_lay 1 = .ok (.iconst 0, 1) := dk_3 (dk_at dksX0_lay_0 1 rfl rfl)
theorem dX0_lay_2 : decode cX0_lay 2 = .ok (.aload_n 0, 1) := dk_42 (dk_at dksX0_lay_0 2 rfl rfl)
theorem dX0_lay_3 : decode cX0_lay 3 = .ok (.iload_n 1, 1) := dk_27 (dk_at dksX0_lay_0 3 rfl rfl)
theorem dX0_lay_4 : decode cX0_lay 4 = .ok (.iload_n 2, 1) := dk_28 (dk_at dksX0_lay_0 4 rfl rfl)
theorem dX0_lay_5 : decode cX0_lay 5 = .ok (.invokevirtual 85, 3) := dk_182 0 85 (dk_at dksX0_lay_0 5 rfl rfl)
theorem dX0_lay_8 : decode cX0_lay 8 = .ok (.i2l, 1) := dk_133 (dk_at dksX0_lay_0 8 rfl rfl)
theorem dX0_lay_9 : decode cX0_lay 9 = .ok (.lastore, 1) := dk_80 (dk_at dksX0_lay_0 9 rfl rfl)
theorem dX0_lay_10 : decode cX0_lay 10 = .ok (.goto 7, 3) := dk_167 0 7 (dk_at dksX0_lay_0 10 rfl rfl)
theorem dX0_lay_13 : decode cX0_lay 13 = .ok (.astore 4, 2) := dk_58 4 (dk_at dksX0_lay_0 13 rfl rfl)
theorem dX0_lay_15 : decode cX0_lay 15 = .ok (.iconst 1, 1) := dk_4 (dk_at dksX0_lay_0 15 rfl rfl)
theorem dX0_lay_16 : decode cX0_lay 16 = .ok (.ireturn, 1) := dk_172 (dk_at dksX0_lay_0 16 rfl rfl)
theorem dX0_lay_17 : decode cX0_lay 17 = .ok (.iconst 0, 1) := dk_3 (dk_at dksX0_lay_0 17 rfl rfl)
theorem dX0_lay_18 : decode cX0_lay 18 = .ok (.ireturn, 1) := dk_172 (dk_at dksX0_lay_0 18 rfl rfl)
abbrev cX0_pass : ByteArray := method_26_code
def yX0_pass : MethodName := ⟨RX0, "pass", "(LMistCouriers;I[J)I"⟩
def dkwX0_pass_0 : List UInt8 := [44, 3, 42, 27, 182, 0, 88, 133, 80, 167, 0, 6, 78, 4, 172, 3, 172]
abbrev dktX0_pass_0 : List UInt8 := dkwX0_pass_0 ++ []
theorem dksX0_pass_0 : cX0_pass.data.toList.drop 0 = dktX0_pass_0 := by decide +kernel
theorem dX0_pass_0 : decode cX0_pass 0 = .ok (.aload_n 2, 1) := dk_44 (dk_at dksX0_pass_0 0 rfl rfl)
theorem dX0_pass_1 : decode cX0_pass 1 = .ok (.iconst 0, 1) := dk_3 (dk_at dksX0_pass_0 1 rfl rfl)
theorem dX0_pass_2 : decode cX0_pass 2 = .ok (.aload_n 0, 1) := dk_42 (dk_at dksX0_pass_0 2 rfl rfl)
theorem dX0_pass_3 : decode cX0_pass 3 = .ok (.iload_n 1, 1) := dk_27 (dk_at dksX0_pass_0 3 rfl rfl)
theorem dX0_pass_4 : decode cX0_pass 4 = .ok (.invokevirtual 88, 3) := dk_182 0 88 (dk_at dksX0_pass_0 4 rfl rfl)
theorem dX0_pass_7 : decode cX0_pass 7 = .ok (.i2l, 1) := dk_133 (dk_at dksX0_pass_0 7 rfl rfl)
theorem dX0_pass_8 : decode cX0_pass 8 = .ok (.lastore, 1) := dk_80 (dk_at dksX0_pass_0 8 rfl rfl)
theorem dX0_pass_9 : decode cX0_pass 9 = .ok (.goto 6, 3) := dk_167 0 6 (dk_at dksX0_pass_0 9 rfl rfl)
theorem dX0_pass_12 : decode cX0_pass 12 = .ok (.astore_n 3, 1) := dk_78 (dk_at dksX0_pass_0 12 rfl rfl)
theorem dX0_pass_13 : decode cX0_pass 13 = .ok (.iconst 1, 1) := dk_4 (dk_at dksX0_pass_0 13 rfl rfl)
theorem dX0_pass_14 : decode cX0_pass 14 = .ok (.ireturn, 1) := dk_172 (dk_at dksX0_pass_0 14 rfl rfl)
theorem dX0_pass_15 : decode cX0_pass 15 = .ok (.iconst 0, 1) := dk_3 (dk_at dksX0_pass_0 15 rfl rfl)
theorem dX0_pass_16 : decode cX0_pass 16 = .ok (.ireturn, 1) := dk_172 (dk_at dksX0_pass_0 16 rfl rfl)
abbrev cX0_write : ByteArray := method_27_code
def yX0_write : MethodName := ⟨RX0, "write", "(LMistCouriers;I[J)I"⟩
def dkwX0_write_0 : List UInt8 := [44, 3, 42, 27, 182, 0, 91, 133, 80, 167, 0, 6, 78, 4, 172, 3, 172]
abbrev dktX0_write_0 : List UInt8 := dkwX0_write_0 ++ []
theorem dksX0_write_0 : cX0_write.data.toList.drop 0 = dktX0_write_0 := by decide +kernel
theorem dX0_write_0 : decode cX0_write 0 = .ok (.aload_n 2, 1) := dk_44 (dk_at dksX0_write_0 0 rfl rfl)
theorem dX0_write_1 : decode cX0_write 1 = .ok (.iconst 0, 1) := dk_3 (dk_at dksX0_write_0 1 rfl rfl)
theorem dX0_write_2 : decode cX0_write 2 = .ok (.aload_n 0, 1) := dk_42 (dk_at dksX0_write_0 2 rfl rfl)
theorem dX0_write_3 : decode cX0_write 3 = .ok (.iload_n 1, 1) := dk_27 (dk_at dksX0_write_0 3 rfl rfl)
theorem dX0_write_4 : decode cX0_write 4 = .ok (.invokevirtual 91, 3) := dk_182 0 91 (dk_at dksX0_write_0 4 rfl rfl)
theorem dX0_write_7 : decode cX0_write 7 = .ok (.i2l, 1) := dk_133 (dk_at dksX0_write_0 7 rfl rfl)
theorem dX0_write_8 : decode cX0_write 8 = .ok (.lastore, 1) := dk_80 (dk_at dksX0_write_0 8 rfl rfl)
theorem dX0_write_9 : decode cX0_write 9 = .ok (.goto 6, 3) := dk_167 0 6 (dk_at dksX0_write_0 9 rfl rfl)
theorem dX0_write_12 : decode cX0_write 12 = .ok (.astore_n 3, 1) := dk_78 (dk_at dksX0_write_0 12 rfl rfl)
theorem dX0_write_13 : decode cX0_write 13 = .ok (.iconst 1, 1) := dk_4 (dk_at dksX0_write_0 13 rfl rfl)
theorem dX0_write_14 : decode cX0_write 14 = .ok (.ireturn, 1) := dk_172 (dk_at dksX0_write_0 14 rfl rfl)
theorem dX0_write_15 : decode cX0_write 15 = .ok (.iconst 0, 1) := dk_3 (dk_at dksX0_write_0 15 rfl rfl)
theorem dX0_write_16 : decode cX0_write 16 = .ok (.ireturn, 1) := dk_172 (dk_at dksX0_write_0 16 rfl rfl)
abbrev cX0_save : ByteArray := method_28_code
def yX0_save : MethodName := ⟨RX0, "save", "(LMistCouriers;I)I"⟩
def dkwX0_save_0 : List UInt8 := [42, 27, 182, 0, 94, 167, 0, 6, 77, 4, 172, 3, 172]
abbrev dktX0_save_0 : List UInt8 := dkwX0_save_0 ++ []
theorem dksX0_save_0 : cX0_save.data.toList.drop 0 = dktX0_save_0 := by decide +kernel
theorem dX0_save_0 : decode cX0_save 0 = .ok (.aload_n 0, 1) := dk_42 (dk_at dksX0_save_0 0 rfl rfl)
theorem dX0_save_1 : decode cX0_save 1 = .ok (.iload_n 1, 1) := dk_27 (dk_at dksX0_save_0 1 rfl rfl)
theorem dX0_save_2 : decode cX0_save 2 = .ok (.invokevirtual 94, 3) := dk_182 0 94 (dk_at dksX0_save_0 2 rfl rfl)
theorem dX0_save_5 : decode cX0_save 5 = .ok (.goto 6, 3) := dk_167 0 6 (dk_at dksX0_save_0 5 rfl rfl)
theorem dX0_save_8 : decode cX0_save 8 = .ok (.astore_n 2, 1) := dk_77 (dk_at dksX0_save_0 8 rfl rfl)
theorem dX0_save_9 : decode cX0_save 9 = .ok (.iconst 1, 1) := dk_4 (dk_at dksX0_save_0 9 rfl rfl)
theorem dX0_save_10 : decode cX0_save 10 = .ok (.ireturn, 1) := dk_172 (dk_at dksX0_save_0 10 rfl rfl)
theorem dX0_save_11 : decode cX0_save 11 = .ok (.iconst 0, 1) := dk_3 (dk_at dksX0_save_0 11 rfl rfl)
theorem dX0_save_12 : decode cX0_save 12 = .ok (.ireturn, 1) := dk_172 (dk_at dksX0_save_0 12 rfl rfl)
abbrev cX0_restore : ByteArray := method_29_code
def yX0_restore : MethodName := ⟨RX0, "restore", "(LMistCouriers;I)I"⟩
def dkwX0_restore_0 : List UInt8 := [42, 27, 182, 0, 98, 167, 0, 9, 77, 4, 172, 77, 5, 172, 3, 172]
abbrev dktX0_restore_0 : List UInt8 := dkwX0_restore_0 ++ []
theorem dksX0_restore_0 : cX0_restore.data.toList.drop 0 = dktX0_restore_0 := by decide +kernel
theorem dX0_restore_0 : decode cX0_restore 0 = .ok (.aload_n 0, 1) := dk_42 (dk_at dksX0_restore_0 0 rfl rfl)
theorem dX0_restore_1 : decode cX0_restore 1 = .ok (.iload_n 1, 1) := dk_27 (dk_at dksX0_restore_0 1 rfl rfl)
theorem dX0_restore_2 : decode cX0_restore 2 = .ok (.invokevirtual 98, 3) := dk_182 0 98 (dk_at dksX0_restore_0 2 rfl rfl)
theorem dX0_restore_5 : decode cX0_restore 5 = .ok (.goto 9, 3) := dk_167 0 9 (dk_at dksX0_restore_0 5 rfl rfl)
theorem dX0_restore_8 : decode cX0_restore 8 = .ok (.astore_n 2, 1) := dk_77 (dk_at dksX0_restore_0 8 rfl rfl)
theorem dX0_restore_9 : decode cX0_restore 9 = .ok (.iconst 1, 1) := dk_4 (dk_at dksX0_restore_0 9 rfl rfl)
theorem dX0_restore_10 : decode cX0_restore 10 = .ok (.ireturn, 1) := dk_172 (dk_at dksX0_restore_0 10 rfl rfl)
theorem dX0_restore_11 : decode cX0_restore 11 = .ok (.astore_n 2, 1) := dk_77 (dk_at dksX0_restore_0 11 rfl rfl)
theorem dX0_restore_12 : decode cX0_restore 12 = .ok (.iconst 2, 1) := dk_5 (dk_at dksX0_restore_0 12 rfl rfl)
theorem dX0_restore_13 : decode cX0_restore 13 = .ok (.ireturn, 1) := dk_172 (dk_at dksX0_restore_0 13 rfl rfl)
theorem dX0_restore_14 : decode cX0_restore 14 = .ok (.iconst 0, 1) := dk_3 (dk_at dksX0_restore_0 14 rfl rfl)
theorem dX0_restore_15 : decode cX0_restore 15 = .ok (.ireturn, 1) := dk_172 (dk_at dksX0_restore_0 15 rfl rfl)
abbrev cX1_init : ByteArray := prog_1_method_5_code
def yX1_init : MethodName := ⟨RX1, "<init>", "()V"⟩
def dkwX1_init_10 : List UInt8 := [89, 183, 0, 94, 181, 0, 95, 177]
abbrev dktX1_init_10 : List UInt8 := dkwX1_init_10 ++ []
def dkwX1_init_9 : List UInt8 := [132, 1, 2, 167, 255, 215, 42, 17, 1, 244, 188, 8, 181, 0, 84, 42, 2, 181, 0, 88, 42, 187, 0, 92]
abbrev dktX1_init_9 : List UInt8 := dkwX1_init_9 ++ dktX1_init_10
def dkwX1_init_8 : List UInt8 := [187, 0, 79, 89, 178, 0, 73, 27, 46, 178, 0, 73, 27, 4, 96, 46, 183, 0, 81, 182, 0, 53, 87]
abbrev dktX1_init_8 : List UInt8 := dkwX1_init_8 ++ dktX1_init_9
def dkwX1_init_7 : List UInt8 := [87, 132, 3, 1, 167, 255, 223, 3, 60, 27, 178, 0, 73, 190, 162, 0, 39, 42, 180, 0, 40, 180, 0, 76]
abbrev dktX1_init_7 : List UInt8 := dkwX1_init_7 ++ dktX1_init_8
def dkwX1_init_6 : List UInt8 := [43, 29, 46, 54, 4, 42, 180, 0, 40, 180, 0, 65, 187, 0, 68, 89, 21, 4, 183, 0, 70, 182, 0, 53]
abbrev dktX1_init_6 : List UInt8 := dkwX1_init_6 ++ dktX1_init_7
def dkwX1_init_5 : List UInt8 := [180, 0, 40, 7, 6, 8, 4, 182, 0, 59, 178, 0, 62, 76, 43, 190, 61, 3, 62, 29, 28, 162, 0, 34]
abbrev dktX1_init_5 : List UInt8 := dkwX1_init_5 ++ dktX1_init_6
def dkwX1_init_4 : List UInt8 := [3, 16, 9, 7, 183, 0, 50, 182, 0, 53, 87, 42, 180, 0, 40, 16, 10, 4, 7, 3, 182, 0, 59, 42]
abbrev dktX1_init_4 : List UInt8 := dkwX1_init_4 ++ dktX1_init_5
def dkwX1_init_3 : List UInt8 := [16, 12, 4, 5, 4, 183, 0, 50, 182, 0, 53, 87, 42, 180, 0, 40, 180, 0, 44, 187, 0, 48, 89, 6]
abbrev dktX1_init_3 : List UInt8 := dkwX1_init_3 ++ dktX1_init_4
def dkwX1_init_2 : List UInt8 := [16, 7, 79, 183, 0, 34, 5, 183, 0, 37, 181, 0, 40, 42, 180, 0, 40, 180, 0, 44, 187, 0, 48, 89]
abbrev dktX1_init_2 : List UInt8 := dkwX1_init_2 ++ dktX1_init_3
def dkwX1_init_1 : List UInt8 := [16, 9, 188, 10, 181, 0, 28, 42, 187, 0, 22, 89, 187, 0, 32, 89, 8, 7, 4, 188, 10, 89, 3]
abbrev dktX1_init_1 : List UInt8 := dkwX1_init_1 ++ dktX1_init_2
def dkwX1_init_0 : List UInt8 := [42, 183, 0, 10, 42, 187, 0, 13, 89, 183, 0, 15, 181, 0, 16, 42, 5, 189, 0, 22, 181, 0, 24, 42]
abbrev dktX1_init_0 : List UInt8 := dkwX1_init_0 ++ dktX1_init_1
theorem dksX1_init_0 : cX1_init.data.toList.drop 0 = dktX1_init_0 := by decide +kernel
theorem dksX1_init_1 : cX1_init.data.toList.drop 24 = dktX1_init_1 := dk_seg dksX1_init_0 24 rfl rfl
theorem dksX1_init_2 : cX1_init.data.toList.drop 47 = dktX1_init_2 := dk_seg dksX1_init_1 23 rfl rfl
theorem dksX1_init_3 : cX1_init.data.toList.drop 71 = dktX1_init_3 := dk_seg dksX1_init_2 24 rfl rfl
theorem dksX1_init_4 : cX1_init.data.toList.drop 95 = dktX1_init_4 := dk_seg dksX1_init_3 24 rfl rfl
theorem dksX1_init_5 : cX1_init.data.toList.drop 119 = dktX1_init_5 := dk_seg dksX1_init_4 24 rfl rfl
theorem dksX1_init_6 : cX1_init.data.toList.drop 143 = dktX1_init_6 := dk_seg dksX1_init_5 24 rfl rfl
theorem dksX1_init_7 : cX1_init.data.toList.drop 167 = dktX1_init_7 := dk_seg dksX1_init_6 24 rfl rfl
theorem dksX1_init_8 : cX1_init.data.toList.drop 191 = dktX1_init_8 := dk_seg dksX1_init_7 24 rfl rfl
theorem dksX1_init_9 : cX1_init.data.toList.drop 214 = dktX1_init_9 := dk_seg dksX1_init_8 23 rfl rfl
theorem dksX1_init_10 : cX1_init.data.toList.drop 238 = dktX1_init_10 := dk_seg dksX1_init_9 24 rfl rfl
theorem dX1_init_0 : decode cX1_init 0 = .ok (.aload_n 0, 1) := dk_42 (dk_at dksX1_init_0 0 rfl rfl)
theorem dX1_init_1 : decode cX1_init 1 = .ok (.invokespecial 10, 3) := dk_183 0 10 (dk_at dksX1_init_0 1 rfl rfl)
theorem dX1_init_4 : decode cX1_init 4 = .ok (.aload_n 0, 1) := dk_42 (dk_at dksX1_init_0 4 rfl rfl)
theorem dX1_init_5 : decode cX1_init 5 = .ok (.new 13, 3) := dk_187 0 13 (dk_at dksX1_init_0 5 rfl rfl)
theorem dX1_init_8 : decode cX1_init 8 = .ok (.dup, 1) := dk_89 (dk_at dksX1_init_0 8 rfl rfl)
theorem dX1_init_9 : decode cX1_init 9 = .ok (.invokespecial 15, 3) := dk_183 0 15 (dk_at dksX1_init_0 9 rfl rfl)
theorem dX1_init_12 : decode cX1_init 12 = .ok (.putfield 16, 3) := dk_181 0 16 (dk_at dksX1_init_0 12 rfl rfl)
theorem dX1_init_15 : decode cX1_init 15 = .ok (.aload_n 0, 1) := dk_42 (dk_at dksX1_init_0 15 rfl rfl)
theorem dX1_init_16 : decode cX1_init 16 = .ok (.iconst 2, 1) := dk_5 (dk_at dksX1_init_0 16 rfl rfl)
theorem dX1_init_17 : decode cX1_init 17 = .ok (.anewarray 22, 3) := dk_189 0 22 (dk_at dksX1_init_0 17 rfl rfl)
theorem dX1_init_20 : decode cX1_init 20 = .ok (.putfield 24, 3) := dk_181 0 24 (dk_at dksX1_init_0 20 rfl rfl)
theorem dX1_init_23 : decode cX1_init 23 = .ok (.aload_n 0, 1) := dk_42 (dk_at dksX1_init_0 23 rfl rfl)
theorem dX1_init_24 : decode cX1_init 24 = .ok (.bipush 9, 2) := dk_16 9 (dk_at dksX1_init_1 0 rfl rfl)
theorem dX1_init_26 : decode cX1_init 26 = .ok (.newarray .int, 2) := dk_188_10 (dk_at dksX1_init_1 2 rfl rfl)
theorem dX1_init_28 : decode cX1_init 28 = .ok (.putfield 28, 3) := dk_181 0 28 (dk_at dksX1_init_1 4 rfl rfl)
theorem dX1_init_31 : decode cX1_init 31 = .ok (.aload_n 0, 1) := dk_42 (dk_at dksX1_init_1 7 rfl rfl)
theorem dX1_init_32 : decode cX1_init 32 = .ok (.new 22, 3) := dk_187 0 22 (dk_at dksX1_init_1 8 rfl rfl)
theorem dX1_init_35 : decode cX1_init 35 = .ok (.dup, 1) := dk_89 (dk_at dksX1_init_1 11 rfl rfl)
theorem dX1_init_36 : decode cX1_init 36 = .ok (.new 32, 3) := dk_187 0 32 (dk_at dksX1_init_1 12 rfl rfl)
theorem dX1_init_39 : decode cX1_init 39 = .ok (.dup, 1) := dk_89 (dk_at dksX1_init_1 15 rfl rfl)
theorem dX1_init_40 : decode cX1_init 40 = .ok (.iconst 5, 1) := dk_8 (dk_at dksX1_init_1 16 rfl rfl)
theorem dX1_init_41 : decode cX1_init 41 = .ok (.iconst 4, 1) := dk_7 (dk_at dksX1_init_1 17 rfl rfl)
theorem dX1_init_42 : decode cX1_init 42 = .ok (.iconst 1, 1) := dk_4 (dk_at dksX1_init_1 18 rfl rfl)
theorem dX1_init_43 : decode cX1_init 43 = .ok (.newarray .int, 2) := dk_188_10 (dk_at dksX1_init_1 19 rfl rfl)
theorem dX1_init_45 : decode cX1_init 45 = .ok (.dup, 1) := dk_89 (dk_at dksX1_init_1 21 rfl rfl)
theorem dX1_init_46 : decode cX1_init 46 = .ok (.iconst 0, 1) := dk_3 (dk_at dksX1_init_1 22 rfl rfl)
theorem dX1_init_47 : decode cX1_init 47 = .ok (.bipush 7, 2) := dk_16 7 (dk_at dksX1_init_2 0 rfl rfl)
theorem dX1_init_49 : decode cX1_init 49 = .ok (.iastore, 1) := dk_79 (dk_at dksX1_init_2 2 rfl rfl)
theorem dX1_init_50 : decode cX1_init 50 = .ok (.invokespecial 34, 3) := dk_183 0 34 (dk_at dksX1_init_2 3 rfl rfl)
theorem dX1_init_53 : decode cX1_init 53 = .ok (.iconst 2, 1) := dk_5 (dk_at dksX1_init_2 6 rfl rfl)
theorem dX1_init_54 : decode cX1_init 54 = .ok (.invokespecial 37, 3) := dk_183 0 37 (dk_at dksX1_init_2 7 rfl rfl)
theorem dX1_init_57 : decode cX1_init 57 = .ok (.putfield 40, 3) := dk_181 0 40 (dk_at dksX1_init_2 10 rfl rfl)
theorem dX1_init_60 : decode cX1_init 60 = .ok (.aload_n 0, 1) := dk_42 (dk_at dksX1_init_2 13 rfl rfl)
theorem dX1_init_61 : decode cX1_init 61 = .ok (.getfield 40, 3) := dk_180 0 40 (dk_at dksX1_init_2 14 rfl rfl)
theorem dX1_init_64 : decode cX1_init 64 = .ok (.getfield 44, 3) := dk_180 0 44 (dk_at dksX1_init_2 17 rfl rfl)
theorem dX1_init_67 : decode cX1_init 67 = .ok (.new 48, 3) := dk_187 0 48 (dk_at dksX1_init_2 20 rfl rfl)
theorem dX1_init_70 : decode cX1_init 70 = .ok (.dup, 1) := dk_89 (dk_at dksX1_init_2 23 rfl rfl)
theorem dX1_init_71 : decode cX1_init 71 = .ok (.bipush 12, 2) := dk_16 12 (dk_at dksX1_init_3 0 rfl rfl)
theorem dX1_init_73 : decode cX1_init 73 = .ok (.iconst 1, 1) := dk_4 (dk_at dksX1_init_3 2 rfl rfl)
theorem dX1_init_74 : decode cX1_init 74 = .ok (.iconst 2, 1) := dk_5 (dk_at dksX1_init_3 3 rfl rfl)
theorem dX1_init_75 : decode cX1_init 75 = .ok (.iconst 1, 1) := dk_4 (dk_at dksX1_init_3 4 rfl rfl)
theorem dX1_init_76 : decode cX1_init 76 = .ok (.invokespecial 50, 3) := dk_183 0 50 (dk_at dksX1_init_3 5 rfl rfl)
theorem dX1_init_79 : decode cX1_init 79 = .ok (.invokevirtual 53, 3) := dk_182 0 53 (dk_at dksX1_init_3 8 rfl rfl)
theorem dX1_init_82 : decode cX1_init 82 = .ok (.pop, 1) := dk_87 (dk_at dksX1_init_3 11 rfl rfl)
theorem dX1_init_83 : decode cX1_init 83 = .ok (.aload_n 0, 1) := dk_42 (dk_at dksX1_init_3 12 rfl rfl)
theorem dX1_init_84 : decode cX1_init 84 = .ok (.getfield 40, 3) := dk_180 0 40 (dk_at dksX1_init_3 13 rfl rfl)
theorem dX1_init_87 : decode cX1_init 87 = .ok (.getfield 44, 3) := dk_180 0 44 (dk_at dksX1_init_3 16 rfl rfl)
theorem dX1_init_90 : decode cX1_init 90 = .ok (.new 48, 3) := dk_187 0 48 (dk_at dksX1_init_3 19 rfl rfl)
theorem dX1_init_93 : decode cX1_init 93 = .ok (.dup, 1) := dk_89 (dk_at dksX1_init_3 22 rfl rfl)
theorem dX1_init_94 : decode cX1_init 94 = .ok (.iconst 3, 1) := dk_6 (dk_at dksX1_init_3 23 rfl rfl)
theorem dX1_init_95 : decode cX1_init 95 = .ok (.iconst 0, 1) := dk_3 (dk_at dksX1_init_4 0 rfl rfl)
theorem dX1_init_96 : decode cX1_init 96 = .ok (.bipush 9, 2) := dk_16 9 (dk_at dksX1_init_4 1 rfl rfl)
theorem dX1_init_98 : decode cX1_init 98 = .ok (.iconst 4, 1) := dk_7 (dk_at dksX1_init_4 3 rfl rfl)
theorem dX1_init_99 : decode cX1_init 99 = .ok (.invokespecial 50, 3) := dk_183 0 50 (dk_at dksX1_init_4 4 rfl rfl)
theorem dX1_init_102 : decode cX1_init 102 = .ok (.invokevirtual 53, 3) := dk_182 0 53 (dk_at dksX1_init_4 7 rfl rfl)
theorem dX1_init_105 : decode cX1_init 105 = .ok (.pop, 1) := dk_87 (dk_at dksX1_init_4 10 rfl rfl)
theorem dX1_init_106 : decode cX1_init 106 = .ok (.aload_n 0, 1) := dk_42 (dk_at dksX1_init_4 11 rfl rfl)
theorem dX1_init_107 : decode cX1_init 107 = .ok (.getfield 40, 3) := dk_180 0 40 (dk_at dksX1_init_4 12 rfl rfl)
theorem dX1_init_110 : decode cX1_init 110 = .ok (.bipush 10, 2) := dk_16 10 (dk_at dksX1_init_4 15 rfl rfl)
theorem dX1_init_112 : decode cX1_init 112 = .ok (.iconst 1, 1) := dk_4 (dk_at dksX1_init_4 17 rfl rfl)
theorem dX1_init_113 : decode cX1_init 113 = .ok (.iconst 4, 1) := dk_7 (dk_at dksX1_init_4 18 rfl rfl)
theorem dX1_init_114 : decode cX1_init 114 = .ok (.iconst 0, 1) := dk_3 (dk_at dksX1_init_4 19 rfl rfl)
theorem dX1_init_115 : decode cX1_init 115 = .ok (.invokevirtual 59, 3) := dk_182 0 59 (dk_at dksX1_init_4 20 rfl rfl)
theorem dX1_init_118 : decode cX1_init 118 = .ok (.aload_n 0, 1) := dk_42 (dk_at dksX1_init_4 23 rfl rfl)
theorem dX1_init_119 : decode cX1_init 119 = .ok (.getfield 40, 3) := dk_180 0 40 (dk_at dksX1_init_5 0 rfl rfl)
theorem dX1_init_122 : decode cX1_init 122 = .ok (.iconst 4, 1) := dk_7 (dk_at dksX1_init_5 3 rfl rfl)
theorem dX1_init_123 : decode cX1_init 123 = .ok (.iconst 3, 1) := dk_6 (dk_at dksX1_init_5 4 rfl rfl)
theorem dX1_init_124 : decode cX1_init 124 = .ok (.iconst 5, 1) := dk_8 (dk_at dksX1_init_5 5 rfl rfl)
theorem dX1_init_125 : decode cX1_init 125 = .ok (.iconst 1, 1) := dk_4 (dk_at dksX1_init_5 6 rfl rfl)
theorem dX1_init_126 : decode cX1_init 126 = .ok (.invokevirtual 59, 3) := dk_182 0 59 (dk_at dksX1_init_5 7 rfl rfl)
theorem dX1_init_129 : decode cX1_init 129 = .ok (.getstatic 62, 3) := dk_178 0 62 (dk_at dksX1_init_5 10 rfl rfl)
theorem dX1_init_132 : decode cX1_init 132 = .ok (.astore_n 1, 1) := dk_76 (dk_at dksX1_init_5 13 rfl rfl)
theorem dX1_init_133 : decode cX1_init 133 = .ok (.aload_n 1, 1) := dk_43 (dk_at dksX1_init_5 14 rfl rfl)
theorem dX1_init_134 : decode cX1_init 134 = .ok (.arraylength, 1) := dk_190 (dk_at dksX1_init_5 15 rfl rfl)
theorem dX1_init_135 : decode cX1_init 135 = .ok (.istore_n 2, 1) := dk_61 (dk_at dksX1_init_5 16 rfl rfl)
theorem dX1_init_136 : decode cX1_init 136 = .ok (.iconst 0, 1) := dk_3 (dk_at dksX1_init_5 17 rfl rfl)
theorem dX1_init_137 : decode cX1_init 137 = .ok (.istore_n 3, 1) := dk_62 (dk_at dksX1_init_5 18 rfl rfl)
theorem dX1_init_138 : decode cX1_init 138 = .ok (.iload_n 3, 1) := dk_29 (dk_at dksX1_init_5 19 rfl rfl)
theorem dX1_init_139 : decode cX1_init 139 = .ok (.iload_n 2, 1) := dk_28 (dk_at dksX1_init_5 20 rfl rfl)
theorem dX1_init_140 : decode cX1_init 140 = .ok (.if_icmp .ge 34, 3) := dk_162 0 34 (dk_at dksX1_init_5 21 rfl rfl)
theorem dX1_init_143 : decode cX1_init 143 = .ok (.aload_n 1, 1) := dk_43 (dk_at dksX1_init_6 0 rfl rfl)
theorem dX1_init_144 : decode cX1_init 144 = .ok (.iload_n 3, 1) := dk_29 (dk_at dksX1_init_6 1 rfl rfl)
theorem dX1_init_145 : decode cX1_init 145 = .ok (.iaload, 1) := dk_46 (dk_at dksX1_init_6 2 rfl rfl)
theorem dX1_init_146 : decode cX1_init 146 = .ok (.istore 4, 2) := dk_54 4 (dk_at dksX1_init_6 3 rfl rfl)
theorem dX1_init_148 : decode cX1_init 148 = .ok (.aload_n 0, 1) := dk_42 (dk_at dksX1_init_6 5 rfl rfl)
theorem dX1_init_149 : decode cX1_init 149 = .ok (.getfield 40, 3) := dk_180 0 40 (dk_at dksX1_init_6 6 rfl rfl)
theorem dX1_init_152 : decode cX1_init 152 = .ok (.getfield 65, 3) := dk_180 0 65 (dk_at dksX1_init_6 9 rfl rfl)
theorem dX1_init_155 : decode cX1_init 155 = .ok (.new 68, 3) := dk_187 0 68 (dk_at dksX1_init_6 12 rfl rfl)
theorem dX1_init_158 : decode cX1_init 158 = .ok (.dup, 1) := dk_89 (dk_at dksX1_init_6 15 rfl rfl)
theorem dX1_init_159 : decode cX1_init 159 = .ok (.iload 4, 2) := dk_21 4 (dk_at dksX1_init_6 16 rfl rfl)
theorem dX1_init_161 : decode cX1_init 161 = .ok (.invokespecial 70, 3) := dk_183 0 70 (dk_at dksX1_init_6 18 rfl rfl)
theorem dX1_init_164 : decode cX1_init 164 = .ok (.invokevirtual 53, 3) := dk_182 0 53 (dk_at dksX1_init_6 21 rfl rfl)
theorem dX1_init_167 : decode cX1_init 167 = .ok (.pop, 1) := dk_87 (dk_at dksX1_init_7 0 rfl rfl)
theorem dX1_init_168 : decode cX1_init 168 = .ok (.iinc 3 1, 3) := dk_132 3 1 (dk_at dksX1_init_7 1 rfl rfl)
theorem dX1_init_171 : decode cX1_init 171 = .ok (.goto (-33), 3) := dk_167 255 223 (dk_at dksX1_init_7 4 rfl rfl)
theorem dX1_init_174 : decode cX1_init 174 = .ok (.iconst 0, 1) := dk_3 (dk_at dksX1_init_7 7 rfl rfl)
theorem dX1_init_175 : decode cX1_init 175 = .ok (.istore_n 1, 1) := dk_60 (dk_at dksX1_init_7 8 rfl rfl)
theorem dX1_init_176 : decode cX1_init 176 = .ok (.iload_n 1, 1) := dk_27 (dk_at dksX1_init_7 9 rfl rfl)
theorem dX1_init_177 : decode cX1_init 177 = .ok (.getstatic 73, 3) := dk_178 0 73 (dk_at dksX1_init_7 10 rfl rfl)
theorem dX1_init_180 : decode cX1_init 180 = .ok (.arraylength, 1) := dk_190 (dk_at dksX1_init_7 13 rfl rfl)
theorem dX1_init_181 : decode cX1_init 181 = .ok (.if_icmp .ge 39, 3) := dk_162 0 39 (dk_at dksX1_init_7 14 rfl rfl)
theorem dX1_init_184 : decode cX1_init 184 = .ok (.aload_n 0, 1) := dk_42 (dk_at dksX1_init_7 17 rfl rfl)
theorem dX1_init_185 : decode cX1_init 185 = .ok (.getfield 40, 3) := dk_180 0 40 (dk_at dksX1_init_7 18 rfl rfl)
theorem dX1_init_188 : decode cX1_init 188 = .ok (.getfield 76, 3) := dk_180 0 76 (dk_at dksX1_init_7 21 rfl rfl)
theorem dX1_init_191 : decode cX1_init 191 = .ok (.new 79, 3) := dk_187 0 79 (dk_at dksX1_init_8 0 rfl rfl)
theorem dX1_init_194 : decode cX1_init 194 = .ok (.dup, 1) := dk_89 (dk_at dksX1_init_8 3 rfl rfl)
theorem dX1_init_195 : decode cX1_init 195 = .ok (.getstatic 73, 3) := dk_178 0 73 (dk_at dksX1_init_8 4 rfl rfl)
theorem dX1_init_198 : decode cX1_init 198 = .ok (.iload_n 1, 1) := dk_27 (dk_at dksX1_init_8 7 rfl rfl)
theorem dX1_init_199 : decode cX1_init 199 = .ok (.iaload, 1) := dk_46 (dk_at dksX1_init_8 8 rfl rfl)
theorem dX1_init_200 : decode cX1_init 200 = .ok (.getstatic 73, 3) := dk_178 0 73 (dk_at dksX1_init_8 9 rfl rfl)
theorem dX1_init_203 : decode cX1_init 203 = .ok (.iload_n 1, 1) := dk_27 (dk_at dksX1_init_8 12 rfl rfl)
theorem dX1_init_204 : decode cX1_init 204 = .ok (.iconst 1, 1) := dk_4 (dk_at dksX1_init_8 13 rfl rfl)
theorem dX1_init_205 : decode cX1_init 205 = .ok (.iadd, 1) := dk_96 (dk_at dksX1_init_8 14 rfl rfl)
theorem dX1_init_206 : decode cX1_init 206 = .ok (.iaload, 1) := dk_46 (dk_at dksX1_init_8 15 rfl rfl)
theorem dX1_init_207 : decode cX1_init 207 = .ok (.invokespecial 81, 3) := dk_183 0 81 (dk_at dksX1_init_8 16 rfl rfl)
theorem dX1_init_210 : decode cX1_init 210 = .ok (.invokevirtual 53, 3) := dk_182 0 53 (dk_at dksX1_init_8 19 rfl rfl)
theorem dX1_init_213 : decode cX1_init 213 = .ok (.pop, 1) := dk_87 (dk_at dksX1_init_8 22 rfl rfl)
theorem dX1_init_214 : decode cX1_init 214 = .ok (.iinc 1 2, 3) := dk_132 1 2 (dk_at dksX1_init_9 0 rfl rfl)
theorem dX1_init_217 : decode cX1_init 217 = .ok (.goto (-41), 3) := dk_167 255 215 (dk_at dksX1_init_9 3 rfl rfl)
theorem dX1_init_220 : decode cX1_init 220 = .ok (.aload_n 0, 1) := dk_42 (dk_at dksX1_init_9 6 rfl rfl)
theorem dX1_init_221 : decode cX1_init 221 = .ok (.sipush 500, 3) := dk_17 1 244 (dk_at dksX1_init_9 7 rfl rfl)
theorem dX1_init_224 : decode cX1_init 224 = .ok (.newarray .byte, 2) := dk_188_8 (dk_at dksX1_init_9 10 rfl rfl)
theorem dX1_init_226 : decode cX1_init 226 = .ok (.putfield 84, 3) := dk_181 0 84 (dk_at dksX1_init_9 12 rfl rfl)
theorem dX1_init_229 : decode cX1_init 229 = .ok (.aload_n 0, 1) := dk_42 (dk_at dksX1_init_9 15 rfl rfl)
theorem dX1_init_230 : decode cX1_init 230 = .ok (.iconst (-1), 1) := dk_2 (dk_at dksX1_init_9 16 rfl rfl)
theorem dX1_init_231 : decode cX1_init 231 = .ok (.putfield 88, 3) := dk_181 0 88 (dk_at dksX1_init_9 17 rfl rfl)
theorem dX1_init_234 : decode cX1_init 234 = .ok (.aload_n 0, 1) := dk_42 (dk_at dksX1_init_9 20 rfl rfl)
theorem dX1_init_235 : decode cX1_init 235 = .ok (.new 92, 3) := dk_187 0 92 (dk_at dksX1_init_9 21 rfl rfl)
theorem dX1_init_238 : decode cX1_init 238 = .ok (.dup, 1) := dk_89 (dk_at dksX1_init_10 0 rfl rfl)
theorem dX1_init_239 : decode cX1_init 239 = .ok (.invokespecial 94, 3) := dk_183 0 94 (dk_at dksX1_init_10 1 rfl rfl)
theorem dX1_init_242 : decode cX1_init 242 = .ok (.putfield 95, 3) := dk_181 0 95 (dk_at dksX1_init_10 4 rfl rfl)
theorem dX1_init_245 : decode cX1_init 245 = .ok (.return_, 1) := dk_177 (dk_at dksX1_init_10 7 rfl rfl)
abbrev cX1_gap : ByteArray := prog_1_method_28_code
def yX1_gap : MethodName := ⟨RX1, "gap", "()I"⟩
def dkwX1_gap_6 : List UInt8 := [3, 184, 0, 107, 96, 61, 132, 3, 1, 167, 255, 199, 27, 184, 1, 52, 28, 96, 172]
abbrev dktX1_gap_6 : List UInt8 := dkwX1_gap_6 ++ []
def dkwX1_gap_5 : List UInt8 := [60, 28, 42, 180, 0, 40, 29, 182, 0, 244, 42, 180, 0, 40, 180, 0, 138, 164, 0, 7, 4, 167, 0, 4]
abbrev dktX1_gap_5 : List UInt8 := dkwX1_gap_5 ++ dktX1_gap_6
def dkwX1_gap_4 : List UInt8 := [29, 42, 180, 0, 40, 180, 0, 65, 182, 0, 132, 162, 0, 49, 27, 42, 180, 0, 40, 29, 182, 0, 244, 100]
abbrev dktX1_gap_4 : List UInt8 := dkwX1_gap_4 ++ dktX1_gap_5
def dkwX1_gap_3 : List UInt8 := [29, 182, 0, 184, 42, 29, 182, 0, 181, 96, 167, 0, 4, 3, 96, 61, 132, 3, 1, 167, 255, 198, 3, 62]
abbrev dktX1_gap_3 : List UInt8 := dkwX1_gap_3 ++ dktX1_gap_4
def dkwX1_gap_2 : List UInt8 := [42, 29, 182, 0, 184, 100, 60, 28, 42, 180, 0, 40, 180, 0, 99, 180, 0, 103, 29, 51, 153, 0, 17, 42]
abbrev dktX1_gap_2 : List UInt8 := dkwX1_gap_2 ++ dktX1_gap_3
def dkwX1_gap_1 : List UInt8 := [182, 0, 144, 100, 60, 3, 61, 3, 62, 29, 42, 180, 0, 40, 180, 0, 99, 182, 0, 125, 162, 0, 50, 27]
abbrev dktX1_gap_1 : List UInt8 := dkwX1_gap_1 ++ dktX1_gap_2
def dkwX1_gap_0 : List UInt8 := [42, 180, 0, 40, 180, 0, 76, 182, 0, 132, 42, 180, 0, 40, 5, 182, 0, 144, 100, 42, 180, 0, 40, 6]
abbrev dktX1_gap_0 : List UInt8 := dkwX1_gap_0 ++ dktX1_gap_1
theorem dksX1_gap_0 : cX1_gap.data.toList.drop 0 = dktX1_gap_0 := by decide +kernel
theorem dksX1_gap_1 : cX1_gap.data.toList.drop 24 = dktX1_gap_1 := dk_seg dksX1_gap_0 24 rfl rfl
theorem dksX1_gap_2 : cX1_gap.data.toList.drop 48 = dktX1_gap_2 := dk_seg dksX1_gap_1 24 rfl rfl
theorem dksX1_gap_3 : cX1_gap.data.toList.drop 72 = dktX1_gap_3 := dk_seg dksX1_gap_2 24 rfl rfl
theorem dksX1_gap_4 : cX1_gap.data.toList.drop 96 = dktX1_gap_4 := dk_seg dksX1_gap_3 24 rfl rfl
theorem dksX1_gap_5 : cX1_gap.data.toList.drop 120 = dktX1_gap_5 := dk_seg dksX1_gap_4 24 rfl rfl
theorem dksX1_gap_6 : cX1_gap.data.toList.drop 144 = dktX1_gap_6 := dk_seg dksX1_gap_5 24 rfl rfl
theorem dX1_gap_0 : decode cX1_gap 0 = .ok (.aload_n 0, 1) := dk_42 (dk_at dksX1_gap_0 0 rfl rfl)
theorem dX1_gap_1 : decode cX1_gap 1 = .ok (.getfield 40, 3) := dk_180 0 40 (dk_at dksX1_gap_0 1 rfl rfl)
theorem dX1_gap_4 : decode cX1_gap 4 = .ok (.getfield 76, 3) := dk_180 0 76 (dk_at dksX1_gap_0 4 rfl rfl)
theorem dX1_gap_7 : decode cX1_gap 7 = .ok (.invokevirtual 132, 3) := dk_182 0 132 (dk_at dksX1_gap_0 7 rfl rfl)
theorem dX1_gap_10 : decode cX1_gap 10 = .ok (.aload_n 0, 1) := dk_42 (dk_at dksX1_gap_0 10 rfl rfl)
theorem dX1_gap_11 : decode cX1_gap 11 = .ok (.getfield 40, 3) := dk_180 0 40 (dk_at dksX1_gap_0 11 rfl rfl)
theorem dX1_gap_14 : decode cX1_gap 14 = .ok (.iconst 2, 1) := dk_5 (dk_at dksX1_gap_0 14 rfl rfl)
theorem dX1_gap_15 : decode cX1_gap 15 = .ok (.invokevirtual 144, 3) := dk_182 0 144 (dk_at dksX1_gap_0 15 rfl rfl)
theorem dX1_gap_18 : decode cX1_gap 18 = .ok (.isub, 1) := dk_100 (dk_at dksX1_gap_0 18 rfl rfl)
theorem dX1_gap_19 : decode cX1_gap 19 = .ok (.aload_n 0, 1) := dk_42 (dk_at dksX1_gap_0 19 rfl rfl)
theorem dX1_gap_20 : decode cX1_gap 20 = .ok (.getfield 40, 3) := dk_180 0 40 (dk_at dksX1_gap_0 20 rfl rfl)
theorem dX1_gap_23 : decode cX1_gap 23 = .ok (.iconst 3, 1) := dk_6 (dk_at dksX1_gap_0 23 rfl rfl)
theorem dX1_gap_24 : decode cX1_gap 24 = .ok (.invokevirtual 144, 3) := dk_182 0 144 (dk_at dksX1_gap_1 0 rfl rfl)
theorem dX1_gap_27 : decode cX1_gap 27 = .ok (.isub, 1) := dk_100 (dk_at dksX1_gap_1 3 rfl rfl)
theorem dX1_gap_28 : decode cX1_gap 28 = .ok (.istore_n 1, 1) := dk_60 (dk_at dksX1_gap_1 4 rfl rfl)
theorem dX1_gap_29 : decode cX1_gap 29 = .ok (.iconst 0, 1) := dk_3 (dk_at dksX1_gap_1 5 rfl rfl)
theorem dX1_gap_30 : decode cX1_gap 30 = .ok (.istore_n 2, 1) := dk_61 (dk_at dksX1_gap_1 6 rfl rfl)
theorem dX1_gap_31 : decode cX1_gap 31 = .ok (.iconst 0, 1) := dk_3 (dk_at dksX1_gap_1 7 rfl rfl)
theorem dX1_gap_32 : decode cX1_gap 32 = .ok (.istore_n 3, 1) := dk_62 (dk_at dksX1_gap_1 8 rfl rfl)
theorem dX1_gap_33 : decode cX1_gap 33 = .ok (.iload_n 3, 1) := dk_29 (dk_at dksX1_gap_1 9 rfl rfl)
theorem dX1_gap_34 : decode cX1_gap 34 = .ok (.aload_n 0, 1) := dk_42 (dk_at dksX1_gap_1 10 rfl rfl)
theorem dX1_gap_35 : decode cX1_gap 35 = .ok (.getfield 40, 3) := dk_180 0 40 (dk_at dksX1_gap_1 11 rfl rfl)
theorem dX1_gap_38 : decode cX1_gap 38 = .ok (.getfield 99, 3) := dk_180 0 99 (dk_at dksX1_gap_1 14 rfl rfl)
theorem dX1_gap_41 : decode cX1_gap 41 = .ok (.invokevirtual 125, 3) := dk_182 0 125 (dk_at dksX1_gap_1 17 rfl rfl)
theorem dX1_gap_44 : decode cX1_gap 44 = .ok (.if_icmp .ge 50, 3) := dk_162 0 50 (dk_at dksX1_gap_1 20 rfl rfl)
theorem dX1_gap_47 : decode cX1_gap 47 = .ok (.iload_n 1, 1) := dk_27 (dk_at dksX1_gap_1 23 rfl rfl)
theorem dX1_gap_48 : decode cX1_gap 48 = .ok (.aload_n 0, 1) := dk_42 (dk_at dksX1_gap_2 0 rfl rfl)
theorem dX1_gap_49 : decode cX1_gap 49 = .ok (.iload_n 3, 1) := dk_29 (dk_at dksX1_gap_2 1 rfl rfl)
theorem dX1_gap_50 : decode cX1_gap 50 = .ok (.invokevirtual 184, 3) := dk_182 0 184 (dk_at dksX1_gap_2 2 rfl rfl)
theorem dX1_gap_53 : decode cX1_gap 53 = .ok (.isub, 1) := dk_100 (dk_at dksX1_gap_2 5 rfl rfl)
theorem dX1_gap_54 : decode cX1_gap 54 = .ok (.istore_n 1, 1) := dk_60 (dk_at dksX1_gap_2 6 rfl rfl)
theorem dX1_gap_55 : decode cX1_gap 55 = .ok (.iload_n 2, 1) := dk_28 (dk_at dksX1_gap_2 7 rfl rfl)
theorem dX1_gap_56 : decode cX1_gap 56 = .ok (.aload_n 0, 1) := dk_42 (dk_at dksX1_gap_2 8 rfl rfl)
theorem dX1_gap_57 : decode cX1_gap 57 = .ok (.getfield 40, 3) := dk_180 0 40 (dk_at dksX1_gap_2 9 rfl rfl)
theorem dX1_gap_60 : decode cX1_gap 60 = .ok (.getfield 99, 3) := dk_180 0 99 (dk_at dksX1_gap_2 12 rfl rfl)
theorem dX1_gap_63 : decode cX1_gap 63 = .ok (.getfield 103, 3) := dk_180 0 103 (dk_at dksX1_gap_2 15 rfl rfl)
theorem dX1_gap_66 : decode cX1_gap 66 = .ok (.iload_n 3, 1) := dk_29 (dk_at dksX1_gap_2 18 rfl rfl)
theorem dX1_gap_67 : decode cX1_gap 67 = .ok (.baload, 1) := dk_51 (dk_at dksX1_gap_2 19 rfl rfl)
theorem dX1_gap_68 : decode cX1_gap 68 = .ok (.ifCond .eq 17, 3) := dk_153 0 17 (dk_at dksX1_gap_2 20 rfl rfl)
theorem dX1_gap_71 : decode cX1_gap 71 = .ok (.aload_n 0, 1) := dk_42 (dk_at dksX1_gap_2 23 rfl rfl)
theorem dX1_gap_72 : decode cX1_gap 72 = .ok (.iload_n 3, 1) := dk_29 (dk_at dksX1_gap_3 0 rfl rfl)
theorem dX1_gap_73 : decode cX1_gap 73 = .ok (.invokevirtual 184, 3) := dk_182 0 184 (dk_at dksX1_gap_3 1 rfl rfl)
theorem dX1_gap_76 : decode cX1_gap 76 = .ok (.aload_n 0, 1) := dk_42 (dk_at dksX1_gap_3 4 rfl rfl)
theorem dX1_gap_77 : decode cX1_gap 77 = .ok (.iload_n 3, 1) := dk_29 (dk_at dksX1_gap_3 5 rfl rfl)
theorem dX1_gap_78 : decode cX1_gap 78 = .ok (.invokevirtual 181, 3) := dk_182 0 181 (dk_at dksX1_gap_3 6 rfl rfl)
theorem dX1_gap_81 : decode cX1_gap 81 = .ok (.iadd, 1) := dk_96 (dk_at dksX1_gap_3 9 rfl rfl)
theorem dX1_gap_82 : decode cX1_gap 82 = .ok (.goto 4, 3) := dk_167 0 4 (dk_at dksX1_gap_3 10 rfl rfl)
theorem dX1_gap_85 : decode cX1_gap 85 = .ok (.iconst 0, 1) := dk_3 (dk_at dksX1_gap_3 13 rfl rfl)
theorem dX1_gap_86 : decode cX1_gap 86 = .ok (.iadd, 1) := dk_96 (dk_at dksX1_gap_3 14 rfl rfl)
theorem dX1_gap_87 : decode cX1_gap 87 = .ok (.istore_n 2, 1) := dk_61 (dk_at dksX1_gap_3 15 rfl rfl)
theorem dX1_gap_88 : decode cX1_gap 88 = .ok (.iinc 3 1, 3) := dk_132 3 1 (dk_at dksX1_gap_3 16 rfl rfl)
theorem dX1_gap_91 : decode cX1_gap 91 = .ok (.goto (-58), 3) := dk_167 255 198 (dk_at dksX1_gap_3 19 rfl rfl)
theorem dX1_gap_94 : decode cX1_gap 94 = .ok (.iconst 0, 1) := dk_3 (dk_at dksX1_gap_3 22 rfl rfl)
theorem dX1_gap_95 : decode cX1_gap 95 = .ok (.istore_n 3, 1) := dk_62 (dk_at dksX1_gap_3 23 rfl rfl)
theorem dX1_gap_96 : decode cX1_gap 96 = .ok (.iload_n 3, 1) := dk_29 (dk_at dksX1_gap_4 0 rfl rfl)
theorem dX1_gap_97 : decode cX1_gap 97 = .ok (.aload_n 0, 1) := dk_42 (dk_at dksX1_gap_4 1 rfl rfl)
theorem dX1_gap_98 : decode cX1_gap 98 = .ok (.getfield 40, 3) := dk_180 0 40 (dk_at dksX1_gap_4 2 rfl rfl)
theorem dX1_gap_101 : decode cX1_gap 101 = .ok (.getfield 65, 3) := dk_180 0 65 (dk_at dksX1_gap_4 5 rfl rfl)
theorem dX1_gap_104 : decode cX1_gap 104 = .ok (.invokevirtual 132, 3) := dk_182 0 132 (dk_at dksX1_gap_4 8 rfl rfl)
theorem dX1_gap_107 : decode cX1_gap 107 = .ok (.if_icmp .ge 49, 3) := dk_162 0 49 (dk_at dksX1_gap_4 11 rfl rfl)
theorem dX1_gap_110 : decode cX1_gap 110 = .ok (.iload_n 1, 1) := dk_27 (dk_at dksX1_gap_4 14 rfl rfl)
theorem dX1_gap_111 : decode cX1_gap 111 = .ok (.aload_n 0, 1) := dk_42 (dk_at dksX1_gap_4 15 rfl rfl)
theorem dX1_gap_112 : decode cX1_gap 112 = .ok (.getfield 40, 3) := dk_180 0 40 (dk_at dksX1_gap_4 16 rfl rfl)
theorem dX1_gap_115 : decode cX1_gap 115 = .ok (.iload_n 3, 1) := dk_29 (dk_at dksX1_gap_4 19 rfl rfl)
theorem dX1_gap_116 : decode cX1_gap 116 = .ok (.invokevirtual 244, 3) := dk_182 0 244 (dk_at dksX1_gap_4 20 rfl rfl)
theorem dX1_gap_119 : decode cX1_gap 119 = .ok (.isub, 1) := dk_100 (dk_at dksX1_gap_4 23 rfl rfl)
theorem dX1_gap_120 : decode cX1_gap 120 = .ok (.istore_n 1, 1) := dk_60 (dk_at dksX1_gap_5 0 rfl rfl)
theorem dX1_gap_121 : decode cX1_gap 121 = .ok (.iload_n 2, 1) := dk_28 (dk_at dksX1_gap_5 1 rfl rfl)
theorem dX1_gap_122 : decode cX1_gap 122 = .ok (.aload_n 0, 1) := dk_42 (dk_at dksX1_gap_5 2 rfl rfl)
theorem dX1_gap_123 : decode cX1_gap 123 = .ok (.getfield 40, 3) := dk_180 0 40 (dk_at dksX1_gap_5 3 rfl rfl)
theorem dX1_gap_126 : decode cX1_gap 126 = .ok (.iload_n 3, 1) := dk_29 (dk_at dksX1_gap_5 6 rfl rfl)
theorem dX1_gap_127 : decode cX1_gap 127 = .ok (.invokevirtual 244, 3) := dk_182 0 244 (dk_at dksX1_gap_5 7 rfl rfl)
theorem dX1_gap_130 : decode cX1_gap 130 = .ok (.aload_n 0, 1) := dk_42 (dk_at dksX1_gap_5 10 rfl rfl)
theorem dX1_gap_131 : decode cX1_gap 131 = .ok (.getfield 40, 3) := dk_180 0 40 (dk_at dksX1_gap_5 11 rfl rfl)
theorem dX1_gap_134 : decode cX1_gap 134 = .ok (.getfield 138, 3) := dk_180 0 138 (dk_at dksX1_gap_5 14 rfl rfl)
theorem dX1_gap_137 : decode cX1_gap 137 = .ok (.if_icmp .le 7, 3) := dk_164 0 7 (dk_at dksX1_gap_5 17 rfl rfl)
theorem dX1_gap_140 : decode cX1_gap 140 = .ok (.iconst 1, 1) := dk_4 (dk_at dksX1_gap_5 20 rfl rfl)
theorem dX1_gap_141 : decode cX1_gap 141 = .ok (.goto 4, 3) := dk_167 0 4 (dk_at dksX1_gap_5 21 rfl rfl)
theorem dX1_gap_144 : decode cX1_gap 144 = .ok (.iconst 0, 1) := dk_3 (dk_at dksX1_gap_6 0 rfl rfl)
theorem dX1_gap_145 : decode cX1_gap 145 = .ok (.invokestatic 107, 3) := dk_184 0 107 (dk_at dksX1_gap_6 1 rfl rfl)
theorem dX1_gap_148 : decode cX1_gap 148 = .ok (.iadd, 1) := dk_96 (dk_at dksX1_gap_6 4 rfl rfl)
theorem dX1_gap_149 : decode cX1_gap 149 = .ok (.istore_n 2, 1) := dk_61 (dk_at dksX1_gap_6 5 rfl rfl)
theorem dX1_gap_150 : decode cX1_gap 150 = .ok (.iinc 3 1, 3) := dk_132 3 1 (dk_at dksX1_gap_6 6 rfl rfl)
theorem dX1_gap_153 : decode cX1_gap 153 = .ok (.goto (-57), 3) := dk_167 255 199 (dk_at dksX1_gap_6 9 rfl rfl)
theorem dX1_gap_156 : decode cX1_gap 156 = .ok (.iload_n 1, 1) := dk_27 (dk_at dksX1_gap_6 12 rfl rfl)
theorem dX1_gap_157 : decode cX1_gap 157 = .ok (.invokestatic 308, 3) := dk_184 1 52 (dk_at dksX1_gap_6 13 rfl rfl)
theorem dX1_gap_160 : decode cX1_gap 160 = .ok (.iload_n 2, 1) := dk_28 (dk_at dksX1_gap_6 16 rfl rfl)
theorem dX1_gap_161 : decode cX1_gap 161 = .ok (.iadd, 1) := dk_96 (dk_at dksX1_gap_6 17 rfl rfl)
theorem dX1_gap_162 : decode cX1_gap 162 = .ok (.ireturn, 1) := dk_172 (dk_at dksX1_gap_6 18 rfl rfl)
abbrev cX1_one : ByteArray := prog_1_method_2_code
def yX1_one : MethodName := ⟨RX1, "one", "(Z)I"⟩
def dkwX1_one_0 : List UInt8 := [26, 153, 0, 7, 4, 167, 0, 4, 3, 172]
abbrev dktX1_one_0 : List UInt8 := dkwX1_one_0 ++ []
theorem dksX1_one_0 : cX1_one.data.toList.drop 0 = dktX1_one_0 := by decide +kernel
theorem dX1_one_0 : decode cX1_one 0 = .ok (.iload_n 0, 1) := dk_26 (dk_at dksX1_one_0 0 rfl rfl)
theorem dX1_one_1 : decode cX1_one 1 = .ok (.ifCond .eq 7, 3) := dk_153 0 7 (dk_at dksX1_one_0 1 rfl rfl)
theorem dX1_one_4 : decode cX1_one 4 = .ok (.iconst 1, 1) := dk_4 (dk_at dksX1_one_0 4 rfl rfl)
theorem dX1_one_5 : decode cX1_one 5 = .ok (.goto 4, 3) := dk_167 0 4 (dk_at dksX1_one_0 5 rfl rfl)
theorem dX1_one_8 : decode cX1_one 8 = .ok (.iconst 0, 1) := dk_3 (dk_at dksX1_one_0 8 rfl rfl)
theorem dX1_one_9 : decode cX1_one 9 = .ok (.ireturn, 1) := dk_172 (dk_at dksX1_one_0 9 rfl rfl)
abbrev cX1_lettersOn : ByteArray := prog_1_method_10_code
def yX1_lettersOn : MethodName := ⟨RX1, "lettersOn", "(I)I"⟩
def dkwX1_lettersOn_2 : List UInt8 := [167, 255, 215, 28, 172]
abbrev dktX1_lettersOn_2 : List UInt8 := dkwX1_lettersOn_2 ++ []
def dkwX1_lettersOn_1 : List UInt8 := [180, 0, 76, 29, 182, 0, 155, 192, 0, 79, 27, 182, 0, 162, 184, 0, 107, 96, 61, 132, 3, 1]
abbrev dktX1_lettersOn_1 : List UInt8 := dkwX1_lettersOn_1 ++ dktX1_lettersOn_2
def dkwX1_lettersOn_0 : List UInt8 := [3, 61, 3, 62, 29, 42, 180, 0, 40, 180, 0, 76, 182, 0, 132, 162, 0, 33, 28, 42, 180, 0, 40]
abbrev dktX1_lettersOn_0 : List UInt8 := dkwX1_lettersOn_0 ++ dktX1_lettersOn_1
theorem dksX1_lettersOn_0 : cX1_lettersOn.data.toList.drop 0 = dktX1_lettersOn_0 := by decide +kernel
theorem dksX1_lettersOn_1 : cX1_lettersOn.data.toList.drop 23 = dktX1_lettersOn_1 := dk_seg dksX1_lettersOn_0 23 rfl rfl
theorem dksX1_lettersOn_2 : cX1_lettersOn.data.toList.drop 45 = dktX1_lettersOn_2 := dk_seg dksX1_lettersOn_1 22 rfl rfl
theorem dX1_lettersOn_0 : decode cX1_lettersOn 0 = .ok (.iconst 0, 1) := dk_3 (dk_at dksX1_lettersOn_0 0 rfl rfl)
theorem dX1_lettersOn_1 : decode cX1_lettersOn 1 = .ok (.istore_n 2, 1) := dk_61 (dk_at dksX1_lettersOn_0 1 rfl rfl)
theorem dX1_lettersOn_2 : decode cX1_lettersOn 2 = .ok (.iconst 0, 1) := dk_3 (dk_at dksX1_lettersOn_0 2 rfl rfl)
theorem dX1_lettersOn_3 : decode cX1_lettersOn 3 = .ok (.istore_n 3, 1) := dk_62 (dk_at dksX1_lettersOn_0 3 rfl rfl)
theorem dX1_lettersOn_4 : decode cX1_lettersOn 4 = .ok (.iload_n 3, 1) := dk_29 (dk_at dksX1_lettersOn_0 4 rfl rfl)
theorem dX1_lettersOn_5 : decode cX1_lettersOn 5 = .ok (.aload_n 0, 1) := dk_42 (dk_at dksX1_lettersOn_0 5 rfl rfl)
theorem dX1_lettersOn_6 : decode cX1_lettersOn 6 = .ok (.getfield 40, 3) := dk_180 0 40 (dk_at dksX1_lettersOn_0 6 rfl rfl)
theorem dX1_lettersOn_9 : decode cX1_lettersOn 9 = .ok (.getfield 76, 3) := dk_180 0 76 (dk_at dksX1_lettersOn_0 9 rfl rfl)
theorem dX1_lettersOn_12 : decode cX1_lettersOn 12 = .ok (.invokevirtual 132, 3) := dk_182 0 132 (dk_at dksX1_lettersOn_0 12 rfl rfl)
theorem dX1_lettersOn_15 : decode cX1_lettersOn 15 = .ok (.if_icmp .ge 33, 3) := dk_162 0 33 (dk_at dksX1_lettersOn_0 15 rfl rfl)
theorem dX1_lettersOn_18 : decode cX1_lettersOn 18 = .ok (.iload_n 2, 1) := dk_28 (dk_at dksX1_lettersOn_0 18 rfl rfl)
theorem dX1_lettersOn_19 : decode cX1_lettersOn 19 = .ok (.aload_n 0, 1) := dk_42 (dk_at dksX1_lettersOn_0 19 rfl rfl)
theorem dX1_lettersOn_20 : decode cX1_lettersOn 20 = .ok (.getfield 40, 3) := dk_180 0 40 (dk_at dksX1_lettersOn_0 20 rfl rfl)
theorem dX1_lettersOn_23 : decode cX1_lettersOn 23 = .ok (.getfield 76, 3) := dk_180 0 76 (dk_at dksX1_lettersOn_1 0 rfl rfl)
theorem dX1_lettersOn_26 : decode cX1_lettersOn 26 = .ok (.iload_n 3, 1) := dk_29 (dk_at dksX1_lettersOn_1 3 rfl rfl)
theorem dX1_lettersOn_27 : decode cX1_lettersOn 27 = .ok (.invokevirtual 155, 3) := dk_182 0 155 (dk_at dksX1_lettersOn_1 4 rfl rfl)
theorem dX1_lettersOn_30 : decode cX1_lettersOn 30 = .ok (.checkcast 79, 3) := dk_192 0 79 (dk_at dksX1_lettersOn_1 7 rfl rfl)
theorem dX1_lettersOn_33 : decode cX1_lettersOn 33 = .ok (.iload_n 1, 1) := dk_27 (dk_at dksX1_lettersOn_1 10 rfl rfl)
theorem dX1_lettersOn_34 : decode cX1_lettersOn 34 = .ok (.invokevirtual 162, 3) := dk_182 0 162 (dk_at dksX1_lettersOn_1 11 rfl rfl)
theorem dX1_lettersOn_37 : decode cX1_lettersOn 37 = .ok (.invokestatic 107, 3) := dk_184 0 107 (dk_at dksX1_lettersOn_1 14 rfl rfl)
theorem dX1_lettersOn_40 : decode cX1_lettersOn 40 = .ok (.iadd, 1) := dk_96 (dk_at dksX1_lettersOn_1 17 rfl rfl)
theorem dX1_lettersOn_41 : decode cX1_lettersOn 41 = .ok (.istore_n 2, 1) := dk_61 (dk_at dksX1_lettersOn_1 18 rfl rfl)
theorem dX1_lettersOn_42 : decode cX1_lettersOn 42 = .ok (.iinc 3 1, 3) := dk_132 3 1 (dk_at dksX1_lettersOn_1 19 rfl rfl)
theorem dX1_lettersOn_45 : decode cX1_lettersOn 45 = .ok (.goto (-41), 3) := dk_167 255 215 (dk_at dksX1_lettersOn_2 0 rfl rfl)
theorem dX1_lettersOn_48 : decode cX1_lettersOn 48 = .ok (.iload_n 2, 1) := dk_28 (dk_at dksX1_lettersOn_2 3 rfl rfl)
theorem dX1_lettersOn_49 : decode cX1_lettersOn 49 = .ok (.ireturn, 1) := dk_172 (dk_at dksX1_lettersOn_2 4 rfl rfl)
abbrev cX1_couriersOn : ByteArray := prog_1_method_9_code
def yX1_couriersOn : MethodName := ⟨RX1, "couriersOn", "(I)I"⟩
def dkwX1_couriersOn_2 : List UInt8 := [184, 0, 107, 96, 61, 132, 3, 1, 167, 255, 207, 28, 172]
abbrev dktX1_couriersOn_2 : List UInt8 := dkwX1_couriersOn_2 ++ []
def dkwX1_couriersOn_1 : List UInt8 := [180, 0, 65, 29, 182, 0, 155, 192, 0, 68, 180, 0, 159, 27, 160, 0, 7, 4, 167, 0, 4, 3]
abbrev dktX1_couriersOn_1 : List UInt8 := dkwX1_couriersOn_1 ++ dktX1_couriersOn_2
def dkwX1_couriersOn_0 : List UInt8 := [3, 61, 3, 62, 29, 42, 180, 0, 40, 180, 0, 65, 182, 0, 132, 162, 0, 41, 28, 42, 180, 0, 40]
abbrev dktX1_couriersOn_0 : List UInt8 := dkwX1_couriersOn_0 ++ dktX1_couriersOn_1
theorem dksX1_couriersOn_0 : cX1_couriersOn.data.toList.drop 0 = dktX1_couriersOn_0 := by decide +kernel
theorem dksX1_couriersOn_1 : cX1_couriersOn.data.toList.drop 23 = dktX1_couriersOn_1 := dk_seg dksX1_couriersOn_0 23 rfl rfl
theorem dksX1_couriersOn_2 : cX1_couriersOn.data.toList.drop 45 = dktX1_couriersOn_2 := dk_seg dksX1_couriersOn_1 22 rfl rfl
theorem dX1_couriersOn_0 : decode cX1_couriersOn 0 = .ok (.iconst 0, 1) := dk_3 (dk_at dksX1_couriersOn_0 0 rfl rfl)
theorem dX1_couriersOn_1 : decode cX1_couriersOn 1 = .ok (.istore_n 2, 1) := dk_61 (dk_at dksX1_couriersOn_0 1 rfl rfl)
theorem dX1_couriersOn_2 : decode cX1_couriersOn 2 = .ok (.iconst 0, 1) := dk_3 (dk_at dksX1_couriersOn_0 2 rfl rfl)
theorem dX1_couriersOn_3 : decode cX1_couriersOn 3 = .ok (.istore_n 3, 1) := dk_62 (dk_at dksX1_couriersOn_0 3 rfl rfl)
theorem dX1_couriersOn_4 : decode cX1_couriersOn 4 = .ok (.iload_n 3, 1) := dk_29 (dk_at dksX1_couriersOn_0 4 rfl rfl)
theorem dX1_couriersOn_5 : decode cX1_couriersOn 5 = .ok (.aload_n 0, 1) := dk_42 (dk_at dksX1_couriersOn_0 5 rfl rfl)
theorem dX1_couriersOn_6 : decode cX1_couriersOn 6 = .ok (.getfield 40, 3) := dk_180 0 40 (dk_at dksX1_couriersOn_0 6 rfl rfl)
theorem dX1_couriersOn_9 : decode cX1_couriersOn 9 = .ok (.getfield 65, 3) := dk_180 0 65 (dk_at dksX1_couriersOn_0 9 rfl rfl)
theorem dX1_couriersOn_12 : decode cX1_couriersOn 12 = .ok (.invokevirtual 132, 3) := dk_182 0 132 (dk_at dksX1_couriersOn_0 12 rfl rfl)
theorem dX1_couriersOn_15 : decode cX1_couriersOn 15 = .ok (.if_icmp .ge 41, 3) := dk_162 0 41 (dk_at dksX1_couriersOn_0 15 rfl rfl)
theorem dX1_couriersOn_18 : decode cX1_couriersOn 18 = .ok (.iload_n 2, 1) := dk_28 (dk_at dksX1_couriersOn_0 18 rfl rfl)
theorem dX1_couriersOn_19 : decode cX1_couriersOn 19 = .ok (.aload_n 0, 1) := dk_42 (dk_at dksX1_couriersOn_0 19 rfl rfl)
theorem dX1_couriersOn_20 : decode cX1_couriersOn 20 = .ok (.getfield 40, 3) := dk_180 0 40 (dk_at dksX1_couriersOn_0 20 rfl rfl)
theorem dX1_couriersOn_23 : decode cX1_couriersOn 23 = .ok (.getfield 65, 3) := dk_180 0 65 (dk_at dksX1_couriersOn_1 0 rfl rfl)
theorem dX1_couriersOn_26 : decode cX1_couriersOn 26 = .ok (.iload_n 3, 1) := dk_29 (dk_at dksX1_couriersOn_1 3 rfl rfl)
theorem dX1_couriersOn_27 : decode cX1_couriersOn 27 = .ok (.invokevirtual 155, 3) := dk_182 0 155 (dk_at dksX1_couriersOn_1 4 rfl rfl)
theorem dX1_couriersOn_30 : decode cX1_couriersOn 30 = .ok (.checkcast 68, 3) := dk_192 0 68 (dk_at dksX1_couriersOn_1 7 rfl rfl)
theorem dX1_couriersOn_33 : decode cX1_couriersOn 33 = .ok (.getfield 159, 3) := dk_180 0 159 (dk_at dksX1_couriersOn_1 10 rfl rfl)
theorem dX1_couriersOn_36 : decode cX1_couriersOn 36 = .ok (.iload_n 1, 1) := dk_27 (dk_at dksX1_couriersOn_1 13 rfl rfl)
theorem dX1_couriersOn_37 : decode cX1_couriersOn 37 = .ok (.if_icmp .ne 7, 3) := dk_160 0 7 (dk_at dksX1_couriersOn_1 14 rfl rfl)
theorem dX1_couriersOn_40 : decode cX1_couriersOn 40 = .ok (.iconst 1, 1) := dk_4 (dk_at dksX1_couriersOn_1 17 rfl rfl)
theorem dX1_couriersOn_41 : decode cX1_couriersOn 41 = .ok (.goto 4, 3) := dk_167 0 4 (dk_at dksX1_couriersOn_1 18 rfl rfl)
theorem dX1_couriersOn_44 : decode cX1_couriersOn 44 = .ok (.iconst 0, 1) := dk_3 (dk_at dksX1_couriersOn_1 21 rfl rfl)
theorem dX1_couriersOn_45 : decode cX1_couriersOn 45 = .ok (.invokestatic 107, 3) := dk_184 0 107 (dk_at dksX1_couriersOn_2 0 rfl rfl)
theorem dX1_couriersOn_48 : decode cX1_couriersOn 48 = .ok (.iadd, 1) := dk_96 (dk_at dksX1_couriersOn_2 3 rfl rfl)
theorem dX1_couriersOn_49 : decode cX1_couriersOn 49 = .ok (.istore_n 2, 1) := dk_61 (dk_at dksX1_couriersOn_2 4 rfl rfl)
theorem dX1_couriersOn_50 : decode cX1_couriersOn 50 = .ok (.iinc 3 1, 3) := dk_132 3 1 (dk_at dksX1_couriersOn_2 5 rfl rfl)
theorem dX1_couriersOn_53 : decode cX1_couriersOn 53 = .ok (.goto (-49), 3) := dk_167 255 207 (dk_at dksX1_couriersOn_2 8 rfl rfl)
theorem dX1_couriersOn_56 : decode cX1_couriersOn 56 = .ok (.iload_n 2, 1) := dk_28 (dk_at dksX1_couriersOn_2 11 rfl rfl)
theorem dX1_couriersOn_57 : decode cX1_couriersOn 57 = .ok (.ireturn, 1) := dk_172 (dk_at dksX1_couriersOn_2 12 rfl rfl)
abbrev cX1_share : ByteArray := prog_1_method_29_code
def yX1_share : MethodName := ⟨RX1, "share", "()F"⟩
def dkwX1_share_1 : List UInt8 := [182, 0, 144, 134, 42, 180, 0, 40, 180, 0, 76, 182, 0, 132, 134, 110, 174]
abbrev dktX1_share_1 : List UInt8 := dkwX1_share_1 ++ []
def dkwX1_share_0 : List UInt8 := [42, 180, 0, 40, 180, 0, 76, 182, 1, 55, 153, 0, 7, 12, 167, 0, 24, 42, 180, 0, 40, 5]
abbrev dktX1_share_0 : List UInt8 := dkwX1_share_0 ++ dktX1_share_1
theorem dksX1_share_0 : cX1_share.data.toList.drop 0 = dktX1_share_0 := by decide +kernel
theorem dksX1_share_1 : cX1_share.data.toList.drop 22 = dktX1_share_1 := dk_seg dksX1_share_0 22 rfl rfl
theorem dX1_share_0 : decode cX1_share 0 = .ok (.aload_n 0, 1) := dk_42 (dk_at dksX1_share_0 0 rfl rfl)
theorem dX1_share_1 : decode cX1_share 1 = .ok (.getfield 40, 3) := dk_180 0 40 (dk_at dksX1_share_0 1 rfl rfl)
theorem dX1_share_4 : decode cX1_share 4 = .ok (.getfield 76, 3) := dk_180 0 76 (dk_at dksX1_share_0 4 rfl rfl)
theorem dX1_share_7 : decode cX1_share 7 = .ok (.invokevirtual 311, 3) := dk_182 1 55 (dk_at dksX1_share_0 7 rfl rfl)
theorem dX1_share_10 : decode cX1_share 10 = .ok (.ifCond .eq 7, 3) := dk_153 0 7 (dk_at dksX1_share_0 10 rfl rfl)
theorem dX1_share_13 : decode cX1_share 13 = .ok (.fconst 1, 1) := dk_12 (dk_at dksX1_share_0 13 rfl rfl)
theorem dX1_share_14 : decode cX1_share 14 = .ok (.goto 24, 3) := dk_167 0 24 (dk_at dksX1_share_0 14 rfl rfl)
theorem dX1_share_17 : decode cX1_share 17 = .ok (.aload_n 0, 1) := dk_42 (dk_at dksX1_share_0 17 rfl rfl)
theorem dX1_share_18 : decode cX1_share 18 = .ok (.getfield 40, 3) := dk_180 0 40 (dk_at dksX1_share_0 18 rfl rfl)
theorem dX1_share_21 : decode cX1_share 21 = .ok (.iconst 2, 1) := dk_5 (dk_at dksX1_share_0 21 rfl rfl)
theorem dX1_share_22 : decode cX1_share 22 = .ok (.invokevirtual 144, 3) := dk_182 0 144 (dk_at dksX1_share_1 0 rfl rfl)
theorem dX1_share_25 : decode cX1_share 25 = .ok (.i2f, 1) := dk_134 (dk_at dksX1_share_1 3 rfl rfl)
theorem dX1_share_26 : decode cX1_share 26 = .ok (.aload_n 0, 1) := dk_42 (dk_at dksX1_share_1 4 rfl rfl)
theorem dX1_share_27 : decode cX1_share 27 = .ok (.getfield 40, 3) := dk_180 0 40 (dk_at dksX1_share_1 5 rfl rfl)
theorem dX1_share_30 : decode cX1_share 30 = .ok (.getfield 76, 3) := dk_180 0 76 (dk_at dksX1_share_1 8 rfl rfl)
theorem dX1_share_33 : decode cX1_share 33 = .ok (.invokevirtual 132, 3) := dk_182 0 132 (dk_at dksX1_share_1 11 rfl rfl)
theorem dX1_share_36 : decode cX1_share 36 = .ok (.i2f, 1) := dk_134 (dk_at dksX1_share_1 14 rfl rfl)
theorem dX1_share_37 : decode cX1_share 37 = .ok (.fdiv, 1) := dk_110 (dk_at dksX1_share_1 15 rfl rfl)
theorem dX1_share_38 : decode cX1_share 38 = .ok (.freturn, 1) := dk_174 (dk_at dksX1_share_1 16 rfl rfl)
abbrev cX1_meanMist : ByteArray := prog_1_method_30_code
def yX1_meanMist : MethodName := ⟨RX1, "meanMist", "()D"⟩
def dkwX1_meanMist_3 : List UInt8 := [27, 154, 0, 7, 14, 167, 0, 8, 28, 135, 27, 135, 111, 175]
abbrev dktX1_meanMist_3 : List UInt8 := dkwX1_meanMist_3 ++ []
def dkwX1_meanMist_2 : List UInt8 := [51, 153, 0, 7, 3, 167, 0, 11, 42, 180, 0, 40, 29, 182, 0, 175, 96, 61, 132, 3, 1, 167, 255, 209]
abbrev dktX1_meanMist_2 : List UInt8 := dkwX1_meanMist_2 ++ dktX1_meanMist_3
def dkwX1_meanMist_1 : List UInt8 := [180, 0, 40, 180, 0, 99, 182, 0, 125, 162, 0, 39, 28, 42, 180, 0, 40, 180, 0, 99, 180, 0, 103, 29]
abbrev dktX1_meanMist_1 : List UInt8 := dkwX1_meanMist_1 ++ dktX1_meanMist_2
def dkwX1_meanMist_0 : List UInt8 := [42, 180, 0, 40, 180, 0, 99, 182, 0, 125, 42, 182, 0, 129, 100, 60, 3, 61, 3, 62, 29, 42]
abbrev dktX1_meanMist_0 : List UInt8 := dkwX1_meanMist_0 ++ dktX1_meanMist_1
theorem dksX1_meanMist_0 : cX1_meanMist.data.toList.drop 0 = dktX1_meanMist_0 := by decide +kernel
theorem dksX1_meanMist_1 : cX1_meanMist.data.toList.drop 22 = dktX1_meanMist_1 := dk_seg dksX1_meanMist_0 22 rfl rfl
theorem dksX1_meanMist_2 : cX1_meanMist.data.toList.drop 46 = dktX1_meanMist_2 := dk_seg dksX1_meanMist_1 24 rfl rfl
theorem dksX1_meanMist_3 : cX1_meanMist.data.toList.drop 70 = dktX1_meanMist_3 := dk_seg dksX1_meanMist_2 24 rfl rfl
theorem dX1_meanMist_0 : decode cX1_meanMist 0 = .ok (.aload_n 0, 1) := dk_42 (dk_at dksX1_meanMist_0 0 rfl rfl)
theorem dX1_meanMist_1 : decode cX1_meanMist 1 = .ok (.getfield 40, 3) := dk_180 0 40 (dk_at dksX1_meanMist_0 1 rfl rfl)
theorem dX1_meanMist_4 : decode cX1_meanMist 4 = .ok (.getfield 99, 3) := dk_180 0 99 (dk_at dksX1_meanMist_0 4 rfl rfl)
theorem dX1_meanMist_7 : decode cX1_meanMist 7 = .ok (.invokevirtual 125, 3) := dk_182 0 125 (dk_at dksX1_meanMist_0 7 rfl rfl)
theorem dX1_meanMist_10 : decode cX1_meanMist 10 = .ok (.aload_n 0, 1) := dk_42 (dk_at dksX1_meanMist_0 10 rfl rfl)
theorem dX1_meanMist_11 : decode cX1_meanMist 11 = .ok (.invokevirtual 129, 3) := dk_182 0 129 (dk_at dksX1_meanMist_0 11 rfl rfl)
theorem dX1_meanMist_14 : decode cX1_meanMist 14 = .ok (.isub, 1) := dk_100 (dk_at dksX1_meanMist_0 14 rfl rfl)
theorem dX1_meanMist_15 : decode cX1_meanMist 15 = .ok (.istore_n 1, 1) := dk_60 (dk_at dksX1_meanMist_0 15 rfl rfl)
theorem dX1_meanMist_16 : decode cX1_meanMist 16 = .ok (.iconst 0, 1) := dk_3 (dk_at dksX1_meanMist_0 16 rfl rfl)
theorem dX1_meanMist_17 : decode cX1_meanMist 17 = .ok (.istore_n 2, 1) := dk_61 (dk_at dksX1_meanMist_0 17 rfl rfl)
theorem dX1_meanMist_18 : decode cX1_meanMist 18 = .ok (.iconst 0, 1) := dk_3 (dk_at dksX1_meanMist_0 18 rfl rfl)
theorem dX1_meanMist_19 : decode cX1_meanMist 19 = .ok (.istore_n 3, 1) := dk_62 (dk_at dksX1_meanMist_0 19 rfl rfl)
theorem dX1_meanMist_20 : decode cX1_meanMist 20 = .ok (.iload_n 3, 1) := dk_29 (dk_at dksX1_meanMist_0 20 rfl rfl)
theorem dX1_meanMist_21 : decode cX1_meanMist 21 = .ok (.aload_n 0, 1) := dk_42 (dk_at dksX1_meanMist_0 21 rfl rfl)
theorem dX1_meanMist_22 : decode cX1_meanMist 22 = .ok (.getfield 40, 3) := dk_180 0 40 (dk_at dksX1_meanMist_1 0 rfl rfl)
theorem dX1_meanMist_25 : decode cX1_meanMist 25 = .ok (.getfield 99, 3) := dk_180 0 99 (dk_at dksX1_meanMist_1 3 rfl rfl)
theorem dX1_meanMist_28 : decode cX1_meanMist 28 = .ok (.invokevirtual 125, 3) := dk_182 0 125 (dk_at dksX1_meanMist_1 6 rfl rfl)
theorem dX1_meanMist_31 : decode cX1_meanMist 31 = .ok (.if_icmp .ge 39, 3) := dk_162 0 39 (dk_at dksX1_meanMist_1 9 rfl rfl)
theorem dX1_meanMist_34 : decode cX1_meanMist 34 = .ok (.iload_n 2, 1) := dk_28 (dk_at dksX1_meanMist_1 12 rfl rfl)
theorem dX1_meanMist_35 : decode cX1_meanMist 35 = .ok (.aload_n 0, 1) := dk_42 (dk_at dksX1_meanMist_1 13 rfl rfl)
theorem dX1_meanMist_36 : decode cX1_meanMist 36 = .ok (.getfield 40, 3) := dk_180 0 40 (dk_at dksX1_meanMist_1 14 rfl rfl)
theorem dX1_meanMist_39 : decode cX1_meanMist 39 = .ok (.getfield 99, 3) := dk_180 0 99 (dk_at dksX1_meanMist_1 17 rfl rfl)
theorem dX1_meanMist_42 : decode cX1_meanMist 42 = .ok (.getfield 103, 3) := dk_180 0 103 (dk_at dksX1_meanMist_1 20 rfl rfl)
theorem dX1_meanMist_45 : decode cX1_meanMist 45 = .ok (.iload_n 3, 1) := dk_29 (dk_at dksX1_meanMist_1 23 rfl rfl)
theorem dX1_meanMist_46 : decode cX1_meanMist 46 = .ok (.baload, 1) := dk_51 (dk_at dksX1_meanMist_2 0 rfl rfl)
theorem dX1_meanMist_47 : decode cX1_meanMist 47 = .ok (.ifCond .eq 7, 3) := dk_153 0 7 (dk_at dksX1_meanMist_2 1 rfl rfl)
theorem dX1_meanMist_50 : decode cX1_meanMist 50 = .ok (.iconst 0, 1) := dk_3 (dk_at dksX1_meanMist_2 4 rfl rfl)
theorem dX1_meanMist_51 : decode cX1_meanMist 51 = .ok (.goto 11, 3) := dk_167 0 11 (dk_at dksX1_meanMist_2 5 rfl rfl)
theorem dX1_meanMist_54 : decode cX1_meanMist 54 = .ok (.aload_n 0, 1) := dk_42 (dk_at dksX1_meanMist_2 8 rfl rfl)
theorem dX1_meanMist_55 : decode cX1_meanMist 55 = .ok (.getfield 40, 3) := dk_180 0 40 (dk_at dksX1_meanMist_2 9 rfl rfl)
theorem dX1_meanMist_58 : decode cX1_meanMist 58 = .ok (.iload_n 3, 1) := dk_29 (dk_at dksX1_meanMist_2 12 rfl rfl)
theorem dX1_meanMist_59 : decode cX1_meanMist 59 = .ok (.invokevirtual 175, 3) := dk_182 0 175 (dk_at dksX1_meanMist_2 13 rfl rfl)
theorem dX1_meanMist_62 : decode cX1_meanMist 62 = .ok (.iadd, 1) := dk_96 (dk_at dksX1_meanMist_2 16 rfl rfl)
theorem dX1_meanMist_63 : decode cX1_meanMist 63 = .ok (.istore_n 2, 1) := dk_61 (dk_at dksX1_meanMist_2 17 rfl rfl)
theorem dX1_meanMist_64 : decode cX1_meanMist 64 = .ok (.iinc 3 1, 3) := dk_132 3 1 (dk_at dksX1_meanMist_2 18 rfl rfl)
theorem dX1_meanMist_67 : decode cX1_meanMist 67 = .ok (.goto (-47), 3) := dk_167 255 209 (dk_at dksX1_meanMist_2 21 rfl rfl)
theorem dX1_meanMist_70 : decode cX1_meanMist 70 = .ok (.iload_n 1, 1) := dk_27 (dk_at dksX1_meanMist_3 0 rfl rfl)
theorem dX1_meanMist_71 : decode cX1_meanMist 71 = .ok (.ifCond .ne 7, 3) := dk_154 0 7 (dk_at dksX1_meanMist_3 1 rfl rfl)
theorem dX1_meanMist_74 : decode cX1_meanMist 74 = .ok (.dconst 0, 1) := dk_14 (dk_at dksX1_meanMist_3 4 rfl rfl)
theorem dX1_meanMist_75 : decode cX1_meanMist 75 = .ok (.goto 8, 3) := dk_167 0 8 (dk_at dksX1_meanMist_3 5 rfl rfl)
theorem dX1_meanMist_78 : decode cX1_meanMist 78 = .ok (.iload_n 2, 1) := dk_28 (dk_at dksX1_meanMist_3 8 rfl rfl)
theorem dX1_meanMist_79 : decode cX1_meanMist 79 = .ok (.i2d, 1) := dk_135 (dk_at dksX1_meanMist_3 9 rfl rfl)
theorem dX1_meanMist_80 : decode cX1_meanMist 80 = .ok (.iload_n 1, 1) := dk_27 (dk_at dksX1_meanMist_3 10 rfl rfl)
theorem dX1_meanMist_81 : decode cX1_meanMist 81 = .ok (.i2d, 1) := dk_135 (dk_at dksX1_meanMist_3 11 rfl rfl)
theorem dX1_meanMist_82 : decode cX1_meanMist 82 = .ok (.ddiv, 1) := dk_111 (dk_at dksX1_meanMist_3 12 rfl rfl)
theorem dX1_meanMist_83 : decode cX1_meanMist 83 = .ok (.dreturn, 1) := dk_175 (dk_at dksX1_meanMist_3 13 rfl rfl)
abbrev cX1_walls : ByteArray := prog_1_method_6_code
def yX1_walls : MethodName := ⟨RX1, "walls", "()I"⟩
def dkwX1_walls_2 : List UInt8 := [172]
abbrev dktX1_walls_2 : List UInt8 := dkwX1_walls_2 ++ []
def dkwX1_walls_1 : List UInt8 := [162, 0, 23, 44, 21, 4, 51, 54, 5, 27, 21, 5, 184, 0, 107, 96, 60, 132, 4, 1, 167, 255, 233, 27]
abbrev dktX1_walls_1 : List UInt8 := dkwX1_walls_1 ++ dktX1_walls_2
def dkwX1_walls_0 : List UInt8 := [3, 60, 42, 180, 0, 40, 180, 0, 99, 180, 0, 103, 77, 44, 190, 62, 3, 54, 4, 21, 4, 29]
abbrev dktX1_walls_0 : List UInt8 := dkwX1_walls_0 ++ dktX1_walls_1
theorem dksX1_walls_0 : cX1_walls.data.toList.drop 0 = dktX1_walls_0 := by decide +kernel
theorem dksX1_walls_1 : cX1_walls.data.toList.drop 22 = dktX1_walls_1 := dk_seg dksX1_walls_0 22 rfl rfl
theorem dksX1_walls_2 : cX1_walls.data.toList.drop 46 = dktX1_walls_2 := dk_seg dksX1_walls_1 24 rfl rfl
theorem dX1_walls_0 : decode cX1_walls 0 = .ok (.iconst 0, 1) := dk_3 (dk_at dksX1_walls_0 0 rfl rfl)
theorem dX1_walls_1 : decode cX1_walls 1 = .ok (.istore_n 1, 1) := dk_60 (dk_at dksX1_walls_0 1 rfl rfl)
theorem dX1_walls_2 : decode cX1_walls 2 = .ok (.aload_n 0, 1) := dk_42 (dk_at dksX1_walls_0 2 rfl rfl)
theorem dX1_walls_3 : decode cX1_walls 3 = .ok (.getfield 40, 3) := dk_180 0 40 (dk_at dksX1_walls_0 3 rfl rfl)
theorem dX1_walls_6 : decode cX1_walls 6 = .ok (.getfield 99, 3) := dk_180 0 99 (dk_at dksX1_walls_0 6 rfl rfl)
theorem dX1_walls_9 : decode cX1_walls 9 = .ok (.getfield 103, 3) := dk_180 0 103 (dk_at dksX1_walls_0 9 rfl rfl)
theorem dX1_walls_12 : decode cX1_walls 12 = .ok (.astore_n 2, 1) := dk_77 (dk_at dksX1_walls_0 12 rfl rfl)
theorem dX1_walls_13 : decode cX1_walls 13 = .ok (.aload_n 2, 1) := dk_44 (dk_at dksX1_walls_0 13 rfl rfl)
theorem dX1_walls_14 : decode cX1_walls 14 = .ok (.arraylength, 1) := dk_190 (dk_at dksX1_walls_0 14 rfl rfl)
theorem dX1_walls_15 : decode cX1_walls 15 = .ok (.istore_n 3, 1) := dk_62 (dk_at dksX1_walls_0 15 rfl rfl)
theorem dX1_walls_16 : decode cX1_walls 16 = .ok (.iconst 0, 1) := dk_3 (dk_at dksX1_walls_0 16 rfl rfl)
theorem dX1_walls_17 : decode cX1_walls 17 = .ok (.istore 4, 2) := dk_54 4 (dk_at dksX1_walls_0 17 rfl rfl)
theorem dX1_walls_19 : decode cX1_walls 19 = .ok (.iload 4, 2) := dk_21 4 (dk_at dksX1_walls_0 19 rfl rfl)
theorem dX1_walls_21 : decode cX1_walls 21 = .ok (.iload_n 3, 1) := dk_29 (dk_at dksX1_walls_0 21 rfl rfl)
theorem dX1_walls_22 : decode cX1_walls 22 = .ok (.if_icmp .ge 23, 3) := dk_162 0 23 (dk_at dksX1_walls_1 0 rfl rfl)
theorem dX1_walls_25 : decode cX1_walls 25 = .ok (.aload_n 2, 1) := dk_44 (dk_at dksX1_walls_1 3 rfl rfl)
theorem dX1_walls_26 : decode cX1_walls 26 = .ok (.iload 4, 2) := dk_21 4 (dk_at dksX1_walls_1 4 rfl rfl)
theorem dX1_walls_28 : decode cX1_walls 28 = .ok (.baload, 1) := dk_51 (dk_at dksX1_walls_1 6 rfl rfl)
theorem dX1_walls_29 : decode cX1_walls 29 = .ok (.istore 5, 2) := dk_54 5 (dk_at dksX1_walls_1 7 rfl rfl)
theorem dX1_walls_31 : decode cX1_walls 31 = .ok (.iload_n 1, 1) := dk_27 (dk_at dksX1_walls_1 9 rfl rfl)
theorem dX1_walls_32 : decode cX1_walls 32 = .ok (.iload 5, 2) := dk_21 5 (dk_at dksX1_walls_1 10 rfl rfl)
theorem dX1_walls_34 : decode cX1_walls 34 = .ok (.invokestatic 107, 3) := dk_184 0 107 (dk_at dksX1_walls_1 12 rfl rfl)
theorem dX1_walls_37 : decode cX1_walls 37 = .ok (.iadd, 1) := dk_96 (dk_at dksX1_walls_1 15 rfl rfl)
theorem dX1_walls_38 : decode cX1_walls 38 = .ok (.istore_n 1, 1) := dk_60 (dk_at dksX1_walls_1 16 rfl rfl)
theorem dX1_walls_39 : decode cX1_walls 39 = .ok (.iinc 4 1, 3) := dk_132 4 1 (dk_at dksX1_walls_1 17 rfl rfl)
theorem dX1_walls_42 : decode cX1_walls 42 = .ok (.goto (-23), 3) := dk_167 255 233 (dk_at dksX1_walls_1 20 rfl rfl)
theorem dX1_walls_45 : decode cX1_walls 45 = .ok (.iload_n 1, 1) := dk_27 (dk_at dksX1_walls_1 23 rfl rfl)
theorem dX1_walls_46 : decode cX1_walls 46 = .ok (.ireturn, 1) := dk_172 (dk_at dksX1_walls_2 0 rfl rfl)
abbrev cX1_load : ByteArray := prog_1_method_51_code
def yX1_load : MethodName := ⟨RX1, "load", "()I"⟩
def dkwX1_load_3 : List UInt8 := [3, 181, 1, 122, 25, 4, 191]
abbrev dktX1_load_3 : List UInt8 := dkwX1_load_3 ++ []
def dkwX1_load_2 : List UInt8 := [77, 42, 44, 180, 1, 147, 44, 180, 1, 150, 182, 1, 131, 62, 42, 3, 181, 1, 122, 29, 172, 58, 4, 42]
abbrev dktX1_load_2 : List UInt8 := dkwX1_load_2 ++ dktX1_load_3
def dkwX1_load_1 : List UInt8 := [180, 0, 16, 182, 1, 142, 42, 180, 0, 40, 180, 0, 76, 182, 0, 132, 61, 42, 3, 181, 1, 122, 28, 172]
abbrev dktX1_load_1 : List UInt8 := dkwX1_load_1 ++ dktX1_load_2
def dkwX1_load_0 : List UInt8 := [42, 3, 2, 182, 1, 131, 60, 42, 187, 1, 134, 89, 42, 183, 1, 136, 182, 1, 139, 181, 0, 40, 42]
abbrev dktX1_load_0 : List UInt8 := dkwX1_load_0 ++ dktX1_load_1
theorem dksX1_load_0 : cX1_load.data.toList.drop 0 = dktX1_load_0 := by decide +kernel
theorem dksX1_load_1 : cX1_load.data.toList.drop 23 = dktX1_load_1 := dk_seg dksX1_load_0 23 rfl rfl
theorem dksX1_load_2 : cX1_load.data.toList.drop 47 = dktX1_load_2 := dk_seg dksX1_load_1 24 rfl rfl
theorem dksX1_load_3 : cX1_load.data.toList.drop 71 = dktX1_load_3 := dk_seg dksX1_load_2 24 rfl rfl
theorem dX1_load_0 : decode cX1_load 0 = .ok (.aload_n 0, 1) := dk_42 (dk_at dksX1_load_0 0 rfl rfl)
theorem dX1_load_1 : decode cX1_load 1 = .ok (.iconst 0, 1) := dk_3 (dk_at dksX1_load_0 1 rfl rfl)
theorem dX1_load_2 : decode cX1_load 2 = .ok (.iconst (-1), 1) := dk_2 (dk_at dksX1_load_0 2 rfl rfl)
theorem dX1_load_3 : decode cX1_load 3 = .ok (.invokevirtual 387, 3) := dk_182 1 131 (dk_at dksX1_load_0 3 rfl rfl)
theorem dX1_load_6 : decode cX1_load 6 = .ok (.istore_n 1, 1) := dk_60 (dk_at dksX1_load_0 6 rfl rfl)
theorem dX1_load_7 : decode cX1_load 7 = .ok (.aload_n 0, 1) := dk_42 (dk_at dksX1_load_0 7 rfl rfl)
theorem dX1_load_8 : decode cX1_load 8 = .ok (.new 390, 3) := dk_187 1 134 (dk_at dksX1_load_0 8 rfl rfl)
theorem dX1_load_11 : decode cX1_load 11 = .ok (.dup, 1) := dk_89 (dk_at dksX1_load_0 11 rfl rfl)
theorem dX1_load_12 : decode cX1_load 12 = .ok (.aload_n 0, 1) := dk_42 (dk_at dksX1_load_0 12 rfl rfl)
theorem dX1_load_13 : decode cX1_load 13 = .ok (.invokespecial 392, 3) := dk_183 1 136 (dk_at dksX1_load_0 13 rfl rfl)
theorem dX1_load_16 : decode cX1_load 16 = .ok (.invokevirtual 395, 3) := dk_182 1 139 (dk_at dksX1_load_0 16 rfl rfl)
theorem dX1_load_19 : decode cX1_load 19 = .ok (.putfield 40, 3) := dk_181 0 40 (dk_at dksX1_load_0 19 rfl rfl)
theorem dX1_load_22 : decode cX1_load 22 = .ok (.aload_n 0, 1) := dk_42 (dk_at dksX1_load_0 22 rfl rfl)
theorem dX1_load_23 : decode cX1_load 23 = .ok (.getfield 16, 3) := dk_180 0 16 (dk_at dksX1_load_1 0 rfl rfl)
theorem dX1_load_26 : decode cX1_load 26 = .ok (.invokevirtual 398, 3) := dk_182 1 142 (dk_at dksX1_load_1 3 rfl rfl)
theorem dX1_load_29 : decode cX1_load 29 = .ok (.aload_n 0, 1) := dk_42 (dk_at dksX1_load_1 6 rfl rfl)
theorem dX1_load_30 : decode cX1_load 30 = .ok (.getfield 40, 3) := dk_180 0 40 (dk_at dksX1_load_1 7 rfl rfl)
theorem dX1_load_33 : decode cX1_load 33 = .ok (.getfield 76, 3) := dk_180 0 76 (dk_at dksX1_load_1 10 rfl rfl)
theorem dX1_load_36 : decode cX1_load 36 = .ok (.invokevirtual 132, 3) := dk_182 0 132 (dk_at dksX1_load_1 13 rfl rfl)
theorem dX1_load_39 : decode cX1_load 39 = .ok (.istore_n 2, 1) := dk_61 (dk_at dksX1_load_1 16 rfl rfl)
theorem dX1_load_40 : decode cX1_load 40 = .ok (.aload_n 0, 1) := dk_42 (dk_at dksX1_load_1 17 rfl rfl)
theorem dX1_load_41 : decode cX1_load 41 = .ok (.iconst 0, 1) := dk_3 (dk_at dksX1_load_1 18 rfl rfl)
theorem dX1_load_42 : decode cX1_load 42 = .ok (.putfield 378, 3) := dk_181 1 122 (dk_at dksX1_load_1 19 rfl rfl)
theorem dX1_load_45 : decode cX1_load 45 = .ok (.iload_n 2, 1) := dk_28 (dk_at dksX1_load_1 22 rfl rfl)
theorem dX1_load_46 : decode cX1_load 46 = .ok (.ireturn, 1) := dk_172 (dk_at dksX1_load_1 23 rfl rfl)
theorem dX1_load_47 : decode cX1_load 47 = .ok (.astore_n 2, 1) := dk_77 (dk_at dksX1_load_2 0 rfl rfl)
theorem dX1_load_48 : decode cX1_load 48 = .ok (.aload_n 0, 1) := dk_42 (dk_at dksX1_load_2 1 rfl rfl)
theorem dX1_load_49 : decode cX1_load 49 = .ok (.aload_n 2, 1) := dk_44 (dk_at dksX1_load_2 2 rfl rfl)
theorem dX1_load_50 : decode cX1_load 50 = .ok (.getfield 403, 3) := dk_180 1 147 (dk_at dksX1_load_2 3 rfl rfl)
theorem dX1_load_53 : decode cX1_load 53 = .ok (.aload_n 2, 1) := dk_44 (dk_at dksX1_load_2 6 rfl rfl)
theorem dX1_load_54 : decode cX1_load 54 = .ok (.getfield 406, 3) := dk_180 1 150 (dk_at dksX1_load_2 7 rfl rfl)
theorem dX1_load_57 : decode cX1_load 57 = .ok (.invokevirtual 387, 3) := dk_182 1 131 (dk_at dksX1_load_2 10 rfl rfl)
theorem dX1_load_60 : decode cX1_load 60 = .ok (.istore_n 3, 1) := dk_62 (dk_at dksX1_load_2 13 rfl rfl)
theorem dX1_load_61 : decode cX1_load 61 = .ok (.aload_n 0, 1) := dk_42 (dk_at dksX1_load_2 14 rfl rfl)
theorem dX1_load_62 : decode cX1_load 62 = .ok (.iconst 0, 1) := dk_3 (dk_at dksX1_load_2 15 rfl rfl)
theorem dX1_load_63 : decode cX1_load 63 = .ok (.putfield 378, 3) := dk_181 1 122 (dk_at dksX1_load_2 16 rfl rfl)
theorem dX1_load_66 : decode cX1_load 66 = .ok (.iload_n 3, 1) := dk_29 (dk_at dksX1_load_2 19 rfl rfl)
theorem dX1_load_67 : decode cX1_load 67 = .ok (.ireturn, 1) := dk_172 (dk_at dksX1_load_2 20 rfl rfl)
theorem dX1_load_68 : decode cX1_load 68 = .ok (.astore 4, 2) := dk_58 4 (dk_at dksX1_load_2 21 rfl rfl)
theorem dX1_load_70 : decode cX1_load 70 = .ok (.aload_n 0, 1) := dk_42 (dk_at dksX1_load_2 23 rfl rfl)
theorem dX1_load_71 : decode cX1_load 71 = .ok (.iconst 0, 1) := dk_3 (dk_at dksX1_load_3 0 rfl rfl)
theorem dX1_load_72 : decode cX1_load 72 = .ok (.putfield 378, 3) := dk_181 1 122 (dk_at dksX1_load_3 1 rfl rfl)
theorem dX1_load_75 : decode cX1_load 75 = .ok (.aload 4, 2) := dk_25 4 (dk_at dksX1_load_3 4 rfl rfl)
theorem dX1_load_77 : decode cX1_load 77 = .ok (.athrow, 1) := dk_191 (dk_at dksX1_load_3 6 rfl rfl)
abbrev cX1_failed : ByteArray := prog_1_method_50_code
def yX1_failed : MethodName := ⟨RX1, "failed", "(II)I"⟩
def dkwX1_failed_0 : List UInt8 := [42, 27, 181, 1, 128, 42, 28, 181, 0, 88, 2, 172]
abbrev dktX1_failed_0 : List UInt8 := dkwX1_failed_0 ++ []
theorem dksX1_failed_0 : cX1_failed.data.toList.drop 0 = dktX1_failed_0 := by decide +kernel
theorem dX1_failed_0 : decode cX1_failed 0 = .ok (.aload_n 0, 1) := dk_42 (dk_at dksX1_failed_0 0 rfl rfl)
theorem dX1_failed_1 : decode cX1_failed 1 = .ok (.iload_n 1, 1) := dk_27 (dk_at dksX1_failed_0 1 rfl rfl)
theorem dX1_failed_2 : decode cX1_failed 2 = .ok (.putfield 384, 3) := dk_181 1 128 (dk_at dksX1_failed_0 2 rfl rfl)
theorem dX1_failed_5 : decode cX1_failed 5 = .ok (.aload_n 0, 1) := dk_42 (dk_at dksX1_failed_0 5 rfl rfl)
theorem dX1_failed_6 : decode cX1_failed 6 = .ok (.iload_n 2, 1) := dk_28 (dk_at dksX1_failed_0 6 rfl rfl)
theorem dX1_failed_7 : decode cX1_failed 7 = .ok (.putfield 88, 3) := dk_181 0 88 (dk_at dksX1_failed_0 7 rfl rfl)
theorem dX1_failed_10 : decode cX1_failed 10 = .ok (.iconst (-1), 1) := dk_2 (dk_at dksX1_failed_0 10 rfl rfl)
theorem dX1_failed_11 : decode cX1_failed 11 = .ok (.ireturn, 1) := dk_172 (dk_at dksX1_failed_0 11 rfl rfl)
abbrev cX1_in : ByteArray := prog_1_method_1_code
def yX1_in : MethodName := ⟨RX1, "in", "(III)Z"⟩
def dkwX1_in_0 : List UInt8 := [26, 27, 161, 0, 12, 26, 28, 163, 0, 7, 4, 167, 0, 4, 3, 172]
abbrev dktX1_in_0 : List UInt8 := dkwX1_in_0 ++ []
theorem dksX1_in_0 : cX1_in.data.toList.drop 0 = dktX1_in_0 := by decide +kernel
theorem dX1_in_0 : decode cX1_in 0 = .ok (.iload_n 0, 1) := dk_26 (dk_at dksX1_in_0 0 rfl rfl)
theorem dX1_in_1 : decode cX1_in 1 = .ok (.iload_n 1, 1) := dk_27 (dk_at dksX1_in_0 1 rfl rfl)
theorem dX1_in_2 : decode cX1_in 2 = .ok (.if_icmp .lt 12, 3) := dk_161 0 12 (dk_at dksX1_in_0 2 rfl rfl)
theorem dX1_in_5 : decode cX1_in 5 = .ok (.iload_n 0, 1) := dk_26 (dk_at dksX1_in_0 5 rfl rfl)
theorem dX1_in_6 : decode cX1_in 6 = .ok (.iload_n 2, 1) := dk_28 (dk_at dksX1_in_0 6 rfl rfl)
theorem dX1_in_7 : decode cX1_in 7 = .ok (.if_icmp .gt 7, 3) := dk_163 0 7 (dk_at dksX1_in_0 7 rfl rfl)
theorem dX1_in_10 : decode cX1_in 10 = .ok (.iconst 1, 1) := dk_4 (dk_at dksX1_in_0 10 rfl rfl)
theorem dX1_in_11 : decode cX1_in 11 = .ok (.goto 4, 3) := dk_167 0 4 (dk_at dksX1_in_0 11 rfl rfl)
theorem dX1_in_14 : decode cX1_in 14 = .ok (.iconst 0, 1) := dk_3 (dk_at dksX1_in_0 14 rfl rfl)
theorem dX1_in_15 : decode cX1_in 15 = .ok (.ireturn, 1) := dk_172 (dk_at dksX1_in_0 15 rfl rfl)
abbrev cX1_play : ByteArray := prog_1_method_52_code
def yX1_play : MethodName := ⟨RX1, "play", "()I"⟩
def dkwX1_play_3 : List UInt8 := [182, 1, 93, 192, 1, 101, 182, 1, 158, 153, 0, 9, 132, 3, 1, 167, 255, 232, 29, 172]
abbrev dktX1_play_3 : List UInt8 := dkwX1_play_3 ++ []
def dkwX1_play_2 : List UInt8 := [21, 4, 172, 58, 5, 42, 3, 181, 1, 122, 25, 5, 191, 3, 62, 44, 182, 1, 157, 154, 0, 23, 42, 44]
abbrev dktX1_play_2 : List UInt8 := dkwX1_play_2 ++ dktX1_play_3
def dkwX1_play_1 : List UInt8 := [167, 0, 36, 78, 42, 45, 180, 1, 147, 45, 180, 1, 150, 182, 1, 131, 54, 4, 42, 3, 181, 1, 122]
abbrev dktX1_play_1 : List UInt8 := dkwX1_play_1 ++ dktX1_play_2
def dkwX1_play_0 : List UInt8 := [42, 3, 2, 182, 1, 131, 60, 187, 1, 134, 89, 42, 183, 1, 136, 182, 1, 153, 77, 42, 3, 181, 1, 122]
abbrev dktX1_play_0 : List UInt8 := dkwX1_play_0 ++ dktX1_play_1
theorem dksX1_play_0 : cX1_play.data.toList.drop 0 = dktX1_play_0 := by decide +kernel
theorem dksX1_play_1 : cX1_play.data.toList.drop 24 = dktX1_play_1 := dk_seg dksX1_play_0 24 rfl rfl
theorem dksX1_play_2 : cX1_play.data.toList.drop 47 = dktX1_play_2 := dk_seg dksX1_play_1 23 rfl rfl
theorem dksX1_play_3 : cX1_play.data.toList.drop 71 = dktX1_play_3 := dk_seg dksX1_play_2 24 rfl rfl
theorem dX1_play_0 : decode cX1_play 0 = .ok (.aload_n 0, 1) := dk_42 (dk_at dksX1_play_0 0 rfl rfl)
theorem dX1_play_1 : decode cX1_play 1 = .ok (.iconst 0, 1) := dk_3 (dk_at dksX1_play_0 1 rfl rfl)
theorem dX1_play_2 : decode cX1_play 2 = .ok (.iconst (-1), 1) := dk_2 (dk_at dksX1_play_0 2 rfl rfl)
theorem dX1_play_3 : decode cX1_play 3 = .ok (.invokevirtual 387, 3) := dk_182 1 131 (dk_at dksX1_play_0 3 rfl rfl)
theorem dX1_play_6 : decode cX1_play 6 = .ok (.istore_n 1, 1) := dk_60 (dk_at dksX1_play_0 6 rfl rfl)
theorem dX1_play_7 : decode cX1_play 7 = .ok (.new 390, 3) := dk_187 1 134 (dk_at dksX1_play_0 7 rfl rfl)
theorem dX1_play_10 : decode cX1_play 10 = .ok (.dup, 1) := dk_89 (dk_at dksX1_play_0 10 rfl rfl)
theorem dX1_play_11 : decode cX1_play 11 = .ok (.aload_n 0, 1) := dk_42 (dk_at dksX1_play_0 11 rfl rfl)
theorem dX1_play_12 : decode cX1_play 12 = .ok (.invokespecial 392, 3) := dk_183 1 136 (dk_at dksX1_play_0 12 rfl rfl)
theorem dX1_play_15 : decode cX1_play 15 = .ok (.invokevirtual 409, 3) := dk_182 1 153 (dk_at dksX1_play_0 15 rfl rfl)
theorem dX1_play_18 : decode cX1_play 18 = .ok (.astore_n 2, 1) := dk_77 (dk_at dksX1_play_0 18 rfl rfl)
theorem dX1_play_19 : decode cX1_play 19 = .ok (.aload_n 0, 1) := dk_42 (dk_at dksX1_play_0 19 rfl rfl)
theorem dX1_play_20 : decode cX1_play 20 = .ok (.iconst 0, 1) := dk_3 (dk_at dksX1_play_0 20 rfl rfl)
theorem dX1_play_21 : decode cX1_play 21 = .ok (.putfield 378, 3) := dk_181 1 122 (dk_at dksX1_play_0 21 rfl rfl)
theorem dX1_play_24 : decode cX1_play 24 = .ok (.goto 36, 3) := dk_167 0 36 (dk_at dksX1_play_1 0 rfl rfl)
theorem dX1_play_27 : decode cX1_play 27 = .ok (.astore_n 3, 1) := dk_78 (dk_at dksX1_play_1 3 rfl rfl)
theorem dX1_play_28 : decode cX1_play 28 = .ok (.aload_n 0, 1) := dk_42 (dk_at dksX1_play_1 4 rfl rfl)
theorem dX1_play_29 : decode cX1_play 29 = .ok (.aload_n 3, 1) := dk_45 (dk_at dksX1_play_1 5 rfl rfl)
theorem dX1_play_30 : decode cX1_play 30 = .ok (.getfield 403, 3) := dk_180 1 147 (dk_at dksX1_play_1 6 rfl rfl)
theorem dX1_play_33 : decode cX1_play 33 = .ok (.aload_n 3, 1) := dk_45 (dk_at dksX1_play_1 9 rfl rfl)
theorem dX1_play_34 : decode cX1_play 34 = .ok (.getfield 406, 3) := dk_180 1 150 (dk_at dksX1_play_1 10 rfl rfl)
theorem dX1_play_37 : decode cX1_play 37 = .ok (.invokevirtual 387, 3) := dk_182 1 131 (dk_at dksX1_play_1 13 rfl rfl)
theorem dX1_play_40 : decode cX1_play 40 = .ok (.istore 4, 2) := dk_54 4 (dk_at dksX1_play_1 16 rfl rfl)
theorem dX1_play_42 : decode cX1_play 42 = .ok (.aload_n 0, 1) := dk_42 (dk_at dksX1_play_1 18 rfl rfl)
theorem dX1_play_43 : decode cX1_play 43 = .ok (.iconst 0, 1) := dk_3 (dk_at dksX1_play_1 19 rfl rfl)
theorem dX1_play_44 : decode cX1_play 44 = .ok (.putfield 378, 3) := dk_181 1 122 (dk_at dksX1_play_1 20 rfl rfl)
theorem dX1_play_47 : decode cX1_play 47 = .ok (.iload 4, 2) := dk_21 4 (dk_at dksX1_play_2 0 rfl rfl)
theorem dX1_play_49 : decode cX1_play 49 = .ok (.ireturn, 1) := dk_172 (dk_at dksX1_play_2 2 rfl rfl)
theorem dX1_play_50 : decode cX1_play 50 = .ok (.astore 5, 2) := dk_58 5 (dk_at dksX1_play_2 3 rfl rfl)
theorem dX1_play_52 : decode cX1_play 52 = .ok (.aload_n 0, 1) := dk_42 (dk_at dksX1_play_2 5 rfl rfl)
theorem dX1_play_53 : decode cX1_play 53 = .ok (.iconst 0, 1) := dk_3 (dk_at dksX1_play_2 6 rfl rfl)
theorem dX1_play_54 : decode cX1_play 54 = .ok (.putfield 378, 3) := dk_181 1 122 (dk_at dksX1_play_2 7 rfl rfl)
theorem dX1_play_57 : decode cX1_play 57 = .ok (.aload 5, 2) := dk_25 5 (dk_at dksX1_play_2 10 rfl rfl)
theorem dX1_play_59 : decode cX1_play 59 = .ok (.athrow, 1) := dk_191 (dk_at dksX1_play_2 12 rfl rfl)
theorem dX1_play_60 : decode cX1_play 60 = .ok (.iconst 0, 1) := dk_3 (dk_at dksX1_play_2 13 rfl rfl)
theorem dX1_play_61 : decode cX1_play 61 = .ok (.istore_n 3, 1) := dk_62 (dk_at dksX1_play_2 14 rfl rfl)
theorem dX1_play_62 : decode cX1_play 62 = .ok (.aload_n 2, 1) := dk_44 (dk_at dksX1_play_2 15 rfl rfl)
theorem dX1_play_63 : decode cX1_play 63 = .ok (.invokevirtual 413, 3) := dk_182 1 157 (dk_at dksX1_play_2 16 rfl rfl)
theorem dX1_play_66 : decode cX1_play 66 = .ok (.ifCond .ne 23, 3) := dk_154 0 23 (dk_at dksX1_play_2 19 rfl rfl)
theorem dX1_play_69 : decode cX1_play 69 = .ok (.aload_n 0, 1) := dk_42 (dk_at dksX1_play_2 22 rfl rfl)
theorem dX1_play_70 : decode cX1_play 70 = .ok (.aload_n 2, 1) := dk_44 (dk_at dksX1_play_2 23 rfl rfl)
theorem dX1_play_71 : decode cX1_play 71 = .ok (.invokevirtual 349, 3) := dk_182 1 93 (dk_at dksX1_play_3 0 rfl rfl)
theorem dX1_play_74 : decode cX1_play 74 = .ok (.checkcast 357, 3) := dk_192 1 101 (dk_at dksX1_play_3 3 rfl rfl)
theorem dX1_play_77 : decode cX1_play 77 = .ok (.invokevirtual 414, 3) := dk_182 1 158 (dk_at dksX1_play_3 6 rfl rfl)
theorem dX1_play_80 : decode cX1_play 80 = .ok (.ifCond .eq 9, 3) := dk_153 0 9 (dk_at dksX1_play_3 9 rfl rfl)
theorem dX1_play_83 : decode cX1_play 83 = .ok (.iinc 3 1, 3) := dk_132 3 1 (dk_at dksX1_play_3 12 rfl rfl)
theorem dX1_play_86 : decode cX1_play 86 = .ok (.goto (-24), 3) := dk_167 255 232 (dk_at dksX1_play_3 15 rfl rfl)
theorem dX1_play_89 : decode cX1_play 89 = .ok (.iload_n 3, 1) := dk_29 (dk_at dksX1_play_3 18 rfl rfl)
theorem dX1_play_90 : decode cX1_play 90 = .ok (.ireturn, 1) := dk_172 (dk_at dksX1_play_3 19 rfl rfl)
abbrev cX1_isPlayed : ByteArray := prog_1_method_49_code
def yX1_isPlayed : MethodName := ⟨RX1, "isPlayed", "(LMistCouriers$Command;)Z"⟩
def dkwX1_isPlayed_0 : List UInt8 := [42, 43, 182, 1, 106, 155, 0, 7, 4, 167, 0, 4, 3, 172, 77, 3, 172]
abbrev dktX1_isPlayed_0 : List UInt8 := dkwX1_isPlayed_0 ++ []
theorem dksX1_isPlayed_0 : cX1_isPlayed.data.toList.drop 0 = dktX1_isPlayed_0 := by decide +kernel
theorem dX1_isPlayed_0 : decode cX1_isPlayed 0 = .ok (.aload_n 0, 1) := dk_42 (dk_at dksX1_isPlayed_0 0 rfl rfl)
theorem dX1_isPlayed_1 : decode cX1_isPlayed 1 = .ok (.aload_n 1, 1) := dk_43 (dk_at dksX1_isPlayed_0 1 rfl rfl)
theorem dX1_isPlayed_2 : decode cX1_isPlayed 2 = .ok (.invokevirtual 362, 3) := dk_182 1 106 (dk_at dksX1_isPlayed_0 2 rfl rfl)
theorem dX1_isPlayed_5 : decode cX1_isPlayed 5 = .ok (.ifCond .lt 7, 3) := dk_155 0 7 (dk_at dksX1_isPlayed_0 5 rfl rfl)
theorem dX1_isPlayed_8 : decode cX1_isPlayed 8 = .ok (.iconst 1, 1) := dk_4 (dk_at dksX1_isPlayed_0 8 rfl rfl)
theorem dX1_isPlayed_9 : decode cX1_isPlayed 9 = .ok (.goto 4, 3) := dk_167 0 4 (dk_at dksX1_isPlayed_0 9 rfl rfl)
theorem dX1_isPlayed_12 : decode cX1_isPlayed 12 = .ok (.iconst 0, 1) := dk_3 (dk_at dksX1_isPlayed_0 12 rfl rfl)
theorem dX1_isPlayed_13 : decode cX1_isPlayed 13 = .ok (.ireturn, 1) := dk_172 (dk_at dksX1_isPlayed_0 13 rfl rfl)
theorem dX1_isPlayed_14 : decode cX1_isPlayed 14 = .ok (.astore_n 2, 1) := dk_77 (dk_at dksX1_isPlayed_0 14 rfl rfl)
theorem dX1_isPlayed_15 : decode cX1_isPlayed 15 = .ok (.iconst 0, 1) := dk_3 (dk_at dksX1_isPlayed_0 15 rfl rfl)
theorem dX1_isPlayed_16 : decode cX1_isPlayed 16 = .ok (.ireturn, 1) := dk_172 (dk_at dksX1_isPlayed_0 16 rfl rfl)
abbrev cX1_acts : ByteArray := prog_1_method_39_code
def yX1_acts : MethodName := ⟨RX1, "acts", "(LMistCouriers$Command;)I"⟩
def dkwX1_acts_3 : List UInt8 := [29, 172]
abbrev dktX1_acts_3 : List UInt8 := dkwX1_acts_3 ++ []
def dkwX1_acts_2 : List UInt8 := [182, 1, 93, 192, 0, 22, 58, 4, 42, 180, 0, 16, 42, 180, 0, 40, 182, 1, 97, 42, 44, 181, 0, 40]
abbrev dktX1_acts_2 : List UInt8 := dkwX1_acts_2 ++ dktX1_acts_3
def dkwX1_acts_1 : List UInt8 := [92, 46, 4, 96, 79, 29, 172, 42, 180, 0, 16, 182, 0, 151, 16, 6, 160, 0, 15, 42, 180, 0, 16]
abbrev dktX1_acts_1 : List UInt8 := dkwX1_acts_1 ++ dktX1_acts_2
def dkwX1_acts_0 : List UInt8 := [42, 180, 0, 40, 182, 1, 59, 77, 44, 43, 182, 1, 89, 62, 29, 156, 0, 16, 42, 180, 0, 28, 29, 116]
abbrev dktX1_acts_0 : List UInt8 := dkwX1_acts_0 ++ dktX1_acts_1
theorem dksX1_acts_0 : cX1_acts.data.toList.drop 0 = dktX1_acts_0 := by decide +kernel
theorem dksX1_acts_1 : cX1_acts.data.toList.drop 24 = dktX1_acts_1 := dk_seg dksX1_acts_0 24 rfl rfl
theorem dksX1_acts_2 : cX1_acts.data.toList.drop 47 = dktX1_acts_2 := dk_seg dksX1_acts_1 23 rfl rfl
theorem dksX1_acts_3 : cX1_acts.data.toList.drop 71 = dktX1_acts_3 := dk_seg dksX1_acts_2 24 rfl rfl
theorem dX1_acts_0 : decode cX1_acts 0 = .ok (.aload_n 0, 1) := dk_42 (dk_at dksX1_acts_0 0 rfl rfl)
theorem dX1_acts_1 : decode cX1_acts 1 = .ok (.getfield 40, 3) := dk_180 0 40 (dk_at dksX1_acts_0 1 rfl rfl)
theorem dX1_acts_4 : decode cX1_acts 4 = .ok (.invokevirtual 315, 3) := dk_182 1 59 (dk_at dksX1_acts_0 4 rfl rfl)
theorem dX1_acts_7 : decode cX1_acts 7 = .ok (.astore_n 2, 1) := dk_77 (dk_at dksX1_acts_0 7 rfl rfl)
theorem dX1_acts_8 : decode cX1_acts 8 = .ok (.aload_n 2, 1) := dk_44 (dk_at dksX1_acts_0 8 rfl rfl)
theorem dX1_acts_9 : decode cX1_acts 9 = .ok (.aload_n 1, 1) := dk_43 (dk_at dksX1_acts_0 9 rfl rfl)
theorem dX1_acts_10 : decode cX1_acts 10 = .ok (.invokevirtual 345, 3) := dk_182 1 89 (dk_at dksX1_acts_0 10 rfl rfl)
theorem dX1_acts_13 : decode cX1_acts 13 = .ok (.istore_n 3, 1) := dk_62 (dk_at dksX1_acts_0 13 rfl rfl)
theorem dX1_acts_14 : decode cX1_acts 14 = .ok (.iload_n 3, 1) := dk_29 (dk_at dksX1_acts_0 14 rfl rfl)
theorem dX1_acts_15 : decode cX1_acts 15 = .ok (.ifCond .ge 16, 3) := dk_156 0 16 (dk_at dksX1_acts_0 15 rfl rfl)
theorem dX1_acts_18 : decode cX1_acts 18 = .ok (.aload_n 0, 1) := dk_42 (dk_at dksX1_acts_0 18 rfl rfl)
theorem dX1_acts_19 : decode cX1_acts 19 = .ok (.getfield 28, 3) := dk_180 0 28 (dk_at dksX1_acts_0 19 rfl rfl)
theorem dX1_acts_22 : decode cX1_acts 22 = .ok (.iload_n 3, 1) := dk_29 (dk_at dksX1_acts_0 22 rfl rfl)
theorem dX1_acts_23 : decode cX1_acts 23 = .ok (.ineg, 1) := dk_116 (dk_at dksX1_acts_0 23 rfl rfl)
theorem dX1_acts_24 : decode cX1_acts 24 = .ok (.dup2, 1) := dk_92 (dk_at dksX1_acts_1 0 rfl rfl)
theorem dX1_acts_25 : decode cX1_acts 25 = .ok (.iaload, 1) := dk_46 (dk_at dksX1_acts_1 1 rfl rfl)
theorem dX1_acts_26 : decode cX1_acts 26 = .ok (.iconst 1, 1) := dk_4 (dk_at dksX1_acts_1 2 rfl rfl)
theorem dX1_acts_27 : decode cX1_acts 27 = .ok (.iadd, 1) := dk_96 (dk_at dksX1_acts_1 3 rfl rfl)
theorem dX1_acts_28 : decode cX1_acts 28 = .ok (.iastore, 1) := dk_79 (dk_at dksX1_acts_1 4 rfl rfl)
theorem dX1_acts_29 : decode cX1_acts 29 = .ok (.iload_n 3, 1) := dk_29 (dk_at dksX1_acts_1 5 rfl rfl)
theorem dX1_acts_30 : decode cX1_acts 30 = .ok (.ireturn, 1) := dk_172 (dk_at dksX1_acts_1 6 rfl rfl)
theorem dX1_acts_31 : decode cX1_acts 31 = .ok (.aload_n 0, 1) := dk_42 (dk_at dksX1_acts_1 7 rfl rfl)
theorem dX1_acts_32 : decode cX1_acts 32 = .ok (.getfield 16, 3) := dk_180 0 16 (dk_at dksX1_acts_1 8 rfl rfl)
theorem dX1_acts_35 : decode cX1_acts 35 = .ok (.invokevirtual 151, 3) := dk_182 0 151 (dk_at dksX1_acts_1 11 rfl rfl)
theorem dX1_acts_38 : decode cX1_acts 38 = .ok (.bipush 6, 2) := dk_16 6 (dk_at dksX1_acts_1 14 rfl rfl)
theorem dX1_acts_40 : decode cX1_acts 40 = .ok (.if_icmp .ne 15, 3) := dk_160 0 15 (dk_at dksX1_acts_1 16 rfl rfl)
theorem dX1_acts_43 : decode cX1_acts 43 = .ok (.aload_n 0, 1) := dk_42 (dk_at dksX1_acts_1 19 rfl rfl)
theorem dX1_acts_44 : decode cX1_acts 44 = .ok (.getfield 16, 3) := dk_180 0 16 (dk_at dksX1_acts_1 20 rfl rfl)
theorem dX1_acts_47 : decode cX1_acts 47 = .ok (.invokevirtual 349, 3) := dk_182 1 93 (dk_at dksX1_acts_2 0 rfl rfl)
theorem dX1_acts_50 : decode cX1_acts 50 = .ok (.checkcast 22, 3) := dk_192 0 22 (dk_at dksX1_acts_2 3 rfl rfl)
theorem dX1_acts_53 : decode cX1_acts 53 = .ok (.astore 4, 2) := dk_58 4 (dk_at dksX1_acts_2 6 rfl rfl)
theorem dX1_acts_55 : decode cX1_acts 55 = .ok (.aload_n 0, 1) := dk_42 (dk_at dksX1_acts_2 8 rfl rfl)
theorem dX1_acts_56 : decode cX1_acts 56 = .ok (.getfield 16, 3) := dk_180 0 16 (dk_at dksX1_acts_2 9 rfl rfl)
theorem dX1_acts_59 : decode cX1_acts 59 = .ok (.aload_n 0, 1) := dk_42 (dk_at dksX1_acts_2 12 rfl rfl)
theorem dX1_acts_60 : decode cX1_acts 60 = .ok (.getfield 40, 3) := dk_180 0 40 (dk_at dksX1_acts_2 13 rfl rfl)
theorem dX1_acts_63 : decode cX1_acts 63 = .ok (.invokevirtual 353, 3) := dk_182 1 97 (dk_at dksX1_acts_2 16 rfl rfl)
theorem dX1_acts_66 : decode cX1_acts 66 = .ok (.aload_n 0, 1) := dk_42 (dk_at dksX1_acts_2 19 rfl rfl)
theorem dX1_acts_67 : decode cX1_acts 67 = .ok (.aload_n 2, 1) := dk_44 (dk_at dksX1_acts_2 20 rfl rfl)
theorem dX1_acts_68 : decode cX1_acts 68 = .ok (.putfield 40, 3) := dk_181 0 40 (dk_at dksX1_acts_2 21 rfl rfl)
theorem dX1_acts_71 : decode cX1_acts 71 = .ok (.iload_n 3, 1) := dk_29 (dk_at dksX1_acts_3 0 rfl rfl)
theorem dX1_acts_72 : decode cX1_acts 72 = .ok (.ireturn, 1) := dk_172 (dk_at dksX1_acts_3 1 rfl rfl)
abbrev cX1_requireIndex : ByteArray := prog_1_method_4_code
def yX1_requireIndex : MethodName := ⟨RX1, "requireIndex", "(Z)V"⟩
def dkwX1_requireIndex_0 : List UInt8 := [26, 154, 0, 11, 187, 0, 7, 89, 183, 0, 9, 191, 177]
abbrev dktX1_requireIndex_0 : List UInt8 := dkwX1_requireIndex_0 ++ []
theorem dksX1_requireIndex_0 : cX1_requireIndex.data.toList.drop 0 = dktX1_requireIndex_0 := by decide +kernel
theorem dX1_requireIndex_0 : decode cX1_requireIndex 0 = .ok (.iload_n 0, 1) := dk_26 (dk_at dksX1_requireIndex_0 0 rfl rfl)
theorem dX1_requireIndex_1 : decode cX1_requireIndex 1 = .ok (.ifCond .ne 11, 3) := dk_154 0 11 (dk_at dksX1_requireIndex_0 1 rfl rfl)
theorem dX1_requireIndex_4 : decode cX1_requireIndex 4 = .ok (.new 7, 3) := dk_187 0 7 (dk_at dksX1_requireIndex_0 4 rfl rfl)
theorem dX1_requireIndex_7 : decode cX1_requireIndex 7 = .ok (.dup, 1) := dk_89 (dk_at dksX1_requireIndex_0 7 rfl rfl)
theorem dX1_requireIndex_8 : decode cX1_requireIndex 8 = .ok (.invokespecial 9, 3) := dk_183 0 9 (dk_at dksX1_requireIndex_0 8 rfl rfl)
theorem dX1_requireIndex_11 : decode cX1_requireIndex 11 = .ok (.athrow, 1) := dk_191 (dk_at dksX1_requireIndex_0 11 rfl rfl)
theorem dX1_requireIndex_12 : decode cX1_requireIndex 12 = .ok (.return_, 1) := dk_177 (dk_at dksX1_requireIndex_0 12 rfl rfl)
abbrev cX1_requireArgument : ByteArray := prog_1_method_3_code
def yX1_requireArgument : MethodName := ⟨RX1, "requireArgument", "(Z)V"⟩
def dkwX1_requireArgument_0 : List UInt8 := [26, 154, 0, 11, 187, 0, 1, 89, 183, 0, 3, 191, 177]
abbrev dktX1_requireArgument_0 : List UInt8 := dkwX1_requireArgument_0 ++ []
theorem dksX1_requireArgument_0 : cX1_requireArgument.data.toList.drop 0 = dktX1_requireArgument_0 := by decide +kernel
theorem dX1_requireArgument_0 : decode cX1_requireArgument 0 = .ok (.iload_n 0, 1) := dk_26 (dk_at dksX1_requireArgument_0 0 rfl rfl)
theorem dX1_requireArgument_1 : decode cX1_requireArgument 1 = .ok (.ifCond .ne 11, 3) := dk_154 0 11 (dk_at dksX1_requireArgument_0 1 rfl rfl)
theorem dX1_requireArgument_4 : decode cX1_requireArgument 4 = .ok (.new 1, 3) := dk_187 0 1 (dk_at dksX1_requireArgument_0 4 rfl rfl)
theorem dX1_requireArgument_7 : decode cX1_requireArgument 7 = .ok (.dup, 1) := dk_89 (dk_at dksX1_requireArgument_0 7 rfl rfl)
theorem dX1_requireArgument_8 : decode cX1_requireArgument 8 = .ok (.invokespecial 3, 3) := dk_183 0 3 (dk_at dksX1_requireArgument_0 8 rfl rfl)
theorem dX1_requireArgument_11 : decode cX1_requireArgument 11 = .ok (.athrow, 1) := dk_191 (dk_at dksX1_requireArgument_0 11 rfl rfl)
theorem dX1_requireArgument_12 : decode cX1_requireArgument 12 = .ok (.return_, 1) := dk_177 (dk_at dksX1_requireArgument_0 12 rfl rfl)
abbrev cX1_errorCode : ByteArray := prog_1_method_53_code
def yX1_errorCode : MethodName := ⟨RX1, "errorCode", "()I"⟩
theorem dX1_errorCode_0 : decode cX1_errorCode 0 = .ok (.aload_n 0, 1) := by decide +kernel
theorem dX1_errorCode_1 : decode cX1_errorCode 1 = .ok (.getfield 384, 3) := by decide +kernel
theorem dX1_errorCode_4 : decode cX1_errorCode 4 = .ok (.ireturn, 1) := by decide +kernel
abbrev cX1_errorPosition : ByteArray := prog_1_method_54_code
def yX1_errorPosition : MethodName := ⟨RX1, "errorPosition", "()I"⟩
theorem dX1_errorPosition_0 : decode cX1_errorPosition 0 = .ok (.aload_n 0, 1) := by decide +kernel
theorem dX1_errorPosition_1 : decode cX1_errorPosition 1 = .ok (.getfield 88, 3) := by decide +kernel
theorem dX1_errorPosition_4 : decode cX1_errorPosition 4 = .ok (.ireturn, 1) := by decide +kernel
abbrev cX1_output : ByteArray := prog_1_method_58_code
def yX1_output : MethodName := ⟨RX1, "output", "(I)I"⟩
def dkwX1_output_1 : List UInt8 := [182, 1, 181, 167, 0, 4, 2, 172]
abbrev dktX1_output_1 : List UInt8 := dkwX1_output_1 ++ []
def dkwX1_output_0 : List UInt8 := [27, 3, 42, 180, 0, 95, 182, 1, 179, 4, 100, 184, 0, 111, 153, 0, 14, 42, 180, 0, 95, 27]
abbrev dktX1_output_0 : List UInt8 := dkwX1_output_0 ++ dktX1_output_1
theorem dksX1_output_0 : cX1_output.data.toList.drop 0 = dktX1_output_0 := by decide +kernel
theorem dksX1_output_1 : cX1_output.data.toList.drop 22 = dktX1_output_1 := dk_seg dksX1_output_0 22 rfl rfl
theorem dX1_output_0 : decode cX1_output 0 = .ok (.iload_n 1, 1) := dk_27 (dk_at dksX1_output_0 0 rfl rfl)
theorem dX1_output_1 : decode cX1_output 1 = .ok (.iconst 0, 1) := dk_3 (dk_at dksX1_output_0 1 rfl rfl)
theorem dX1_output_2 : decode cX1_output 2 = .ok (.aload_n 0, 1) := dk_42 (dk_at dksX1_output_0 2 rfl rfl)
theorem dX1_output_3 : decode cX1_output 3 = .ok (.getfield 95, 3) := dk_180 0 95 (dk_at dksX1_output_0 3 rfl rfl)
theorem dX1_output_6 : decode cX1_output 6 = .ok (.invokevirtual 435, 3) := dk_182 1 179 (dk_at dksX1_output_0 6 rfl rfl)
theorem dX1_output_9 : decode cX1_output 9 = .ok (.iconst 1, 1) := dk_4 (dk_at dksX1_output_0 9 rfl rfl)
theorem dX1_output_10 : decode cX1_output 10 = .ok (.isub, 1) := dk_100 (dk_at dksX1_output_0 10 rfl rfl)
theorem dX1_output_11 : decode cX1_output 11 = .ok (.invokestatic 111, 3) := dk_184 0 111 (dk_at dksX1_output_0 11 rfl rfl)
theorem dX1_output_14 : decode cX1_output 14 = .ok (.ifCond .eq 14, 3) := dk_153 0 14 (dk_at dksX1_output_0 14 rfl rfl)
theorem dX1_output_17 : decode cX1_output 17 = .ok (.aload_n 0, 1) := dk_42 (dk_at dksX1_output_0 17 rfl rfl)
theorem dX1_output_18 : decode cX1_output 18 = .ok (.getfield 95, 3) := dk_180 0 95 (dk_at dksX1_output_0 18 rfl rfl)
theorem dX1_output_21 : decode cX1_output 21 = .ok (.iload_n 1, 1) := dk_27 (dk_at dksX1_output_0 21 rfl rfl)
theorem dX1_output_22 : decode cX1_output 22 = .ok (.invokevirtual 437, 3) := dk_182 1 181 (dk_at dksX1_output_1 0 rfl rfl)
theorem dX1_output_25 : decode cX1_output 25 = .ok (.goto 4, 3) := dk_167 0 4 (dk_at dksX1_output_1 3 rfl rfl)
theorem dX1_output_28 : decode cX1_output 28 = .ok (.iconst (-1), 1) := dk_2 (dk_at dksX1_output_1 6 rfl rfl)
theorem dX1_output_29 : decode cX1_output 29 = .ok (.ireturn, 1) := dk_172 (dk_at dksX1_output_1 7 rfl rfl)
abbrev cX1_undo : ByteArray := prog_1_method_59_code
def yX1_undo : MethodName := ⟨RX1, "undo", "()I"⟩
def dkwX1_undo_1 : List UInt8 := [181, 0, 40, 42, 180, 0, 16, 182, 0, 151, 172]
abbrev dktX1_undo_1 : List UInt8 := dkwX1_undo_1 ++ []
def dkwX1_undo_0 : List UInt8 := [42, 180, 0, 16, 182, 1, 157, 153, 0, 5, 2, 172, 42, 42, 180, 0, 16, 182, 1, 184, 192, 0, 22]
abbrev dktX1_undo_0 : List UInt8 := dkwX1_undo_0 ++ dktX1_undo_1
theorem dksX1_undo_0 : cX1_undo.data.toList.drop 0 = dktX1_undo_0 := by decide +kernel
theorem dksX1_undo_1 : cX1_undo.data.toList.drop 23 = dktX1_undo_1 := dk_seg dksX1_undo_0 23 rfl rfl
theorem dX1_undo_0 : decode cX1_undo 0 = .ok (.aload_n 0, 1) := dk_42 (dk_at dksX1_undo_0 0 rfl rfl)
theorem dX1_undo_1 : decode cX1_undo 1 = .ok (.getfield 16, 3) := dk_180 0 16 (dk_at dksX1_undo_0 1 rfl rfl)
theorem dX1_undo_4 : decode cX1_undo 4 = .ok (.invokevirtual 413, 3) := dk_182 1 157 (dk_at dksX1_undo_0 4 rfl rfl)
theorem dX1_undo_7 : decode cX1_undo 7 = .ok (.ifCond .eq 5, 3) := dk_153 0 5 (dk_at dksX1_undo_0 7 rfl rfl)
theorem dX1_undo_10 : decode cX1_undo 10 = .ok (.iconst (-1), 1) := dk_2 (dk_at dksX1_undo_0 10 rfl rfl)
theorem dX1_undo_11 : decode cX1_undo 11 = .ok (.ireturn, 1) := dk_172 (dk_at dksX1_undo_0 11 rfl rfl)
theorem dX1_undo_12 : decode cX1_undo 12 = .ok (.aload_n 0, 1) := dk_42 (dk_at dksX1_undo_0 12 rfl rfl)
theorem dX1_undo_13 : decode cX1_undo 13 = .ok (.aload_n 0, 1) := dk_42 (dk_at dksX1_undo_0 13 rfl rfl)
theorem dX1_undo_14 : decode cX1_undo 14 = .ok (.getfield 16, 3) := dk_180 0 16 (dk_at dksX1_undo_0 14 rfl rfl)
theorem dX1_undo_17 : decode cX1_undo 17 = .ok (.invokevirtual 440, 3) := dk_182 1 184 (dk_at dksX1_undo_0 17 rfl rfl)
theorem dX1_undo_20 : decode cX1_undo 20 = .ok (.checkcast 22, 3) := dk_192 0 22 (dk_at dksX1_undo_0 20 rfl rfl)
theorem dX1_undo_23 : decode cX1_undo 23 = .ok (.putfield 40, 3) := dk_181 0 40 (dk_at dksX1_undo_1 0 rfl rfl)
theorem dX1_undo_26 : decode cX1_undo 26 = .ok (.aload_n 0, 1) := dk_42 (dk_at dksX1_undo_1 3 rfl rfl)
theorem dX1_undo_27 : decode cX1_undo 27 = .ok (.getfield 16, 3) := dk_180 0 16 (dk_at dksX1_undo_1 4 rfl rfl)
theorem dX1_undo_30 : decode cX1_undo 30 = .ok (.invokevirtual 151, 3) := dk_182 0 151 (dk_at dksX1_undo_1 7 rfl rfl)
theorem dX1_undo_33 : decode cX1_undo 33 = .ok (.ireturn, 1) := dk_172 (dk_at dksX1_undo_1 10 rfl rfl)
abbrev cX1_appendText : ByteArray := prog_1_method_47_code
def yX1_appendText : MethodName := ⟨RX1, "appendText", "(I)I"⟩
def dkwX1_appendText_2 : List UInt8 := [181, 1, 122, 132, 2, 248, 167, 255, 226, 42, 180, 1, 122, 172]
abbrev dktX1_appendText_2 : List UInt8 := dkwX1_appendText_2 ++ []
def dkwX1_appendText_1 : List UInt8 := [155, 0, 32, 42, 180, 0, 84, 42, 180, 1, 122, 27, 28, 122, 145, 84, 42, 89, 180, 1, 122, 4, 96]
abbrev dktX1_appendText_1 : List UInt8 := dkwX1_appendText_1 ++ dktX1_appendText_2
def dkwX1_appendText_0 : List UInt8 := [42, 180, 1, 122, 7, 96, 17, 1, 244, 164, 0, 11, 187, 1, 125, 89, 183, 1, 127, 191, 16, 24, 61, 28]
abbrev dktX1_appendText_0 : List UInt8 := dkwX1_appendText_0 ++ dktX1_appendText_1
theorem dksX1_appendText_0 : cX1_appendText.data.toList.drop 0 = dktX1_appendText_0 := by decide +kernel
theorem dksX1_appendText_1 : cX1_appendText.data.toList.drop 24 = dktX1_appendText_1 := dk_seg dksX1_appendText_0 24 rfl rfl
theorem dksX1_appendText_2 : cX1_appendText.data.toList.drop 47 = dktX1_appendText_2 := dk_seg dksX1_appendText_1 23 rfl rfl
theorem dX1_appendText_0 : decode cX1_appendText 0 = .ok (.aload_n 0, 1) := dk_42 (dk_at dksX1_appendText_0 0 rfl rfl)
theorem dX1_appendText_1 : decode cX1_appendText 1 = .ok (.getfield 378, 3) := dk_180 1 122 (dk_at dksX1_appendText_0 1 rfl rfl)
theorem dX1_appendText_4 : decode cX1_appendText 4 = .ok (.iconst 4, 1) := dk_7 (dk_at dksX1_appendText_0 4 rfl rfl)
theorem dX1_appendText_5 : decode cX1_appendText 5 = .ok (.iadd, 1) := dk_96 (dk_at dksX1_appendText_0 5 rfl rfl)
theorem dX1_appendText_6 : decode cX1_appendText 6 = .ok (.sipush 500, 3) := dk_17 1 244 (dk_at dksX1_appendText_0 6 rfl rfl)
theorem dX1_appendText_9 : decode cX1_appendText 9 = .ok (.if_icmp .le 11, 3) := dk_164 0 11 (dk_at dksX1_appendText_0 9 rfl rfl)
theorem dX1_appendText_12 : decode cX1_appendText 12 = .ok (.new 381, 3) := dk_187 1 125 (dk_at dksX1_appendText_0 12 rfl rfl)
theorem dX1_appendText_15 : decode cX1_appendText 15 = .ok (.dup, 1) := dk_89 (dk_at dksX1_appendText_0 15 rfl rfl)
theorem dX1_appendText_16 : decode cX1_appendText 16 = .ok (.invokespecial 383, 3) := dk_183 1 127 (dk_at dksX1_appendText_0 16 rfl rfl)
theorem dX1_appendText_19 : decode cX1_appendText 19 = .ok (.athrow, 1) := dk_191 (dk_at dksX1_appendText_0 19 rfl rfl)
theorem dX1_appendText_20 : decode cX1_appendText 20 = .ok (.bipush 24, 2) := dk_16 24 (dk_at dksX1_appendText_0 20 rfl rfl)
theorem dX1_appendText_22 : decode cX1_appendText 22 = .ok (.istore_n 2, 1) := dk_61 (dk_at dksX1_appendText_0 22 rfl rfl)
theorem dX1_appendText_23 : decode cX1_appendText 23 = .ok (.iload_n 2, 1) := dk_28 (dk_at dksX1_appendText_0 23 rfl rfl)
theorem dX1_appendText_24 : decode cX1_appendText 24 = .ok (.ifCond .lt 32, 3) := dk_155 0 32 (dk_at dksX1_appendText_1 0 rfl rfl)
theorem dX1_appendText_27 : decode cX1_appendText 27 = .ok (.aload_n 0, 1) := dk_42 (dk_at dksX1_appendText_1 3 rfl rfl)
theorem dX1_appendText_28 : decode cX1_appendText 28 = .ok (.getfield 84, 3) := dk_180 0 84 (dk_at dksX1_appendText_1 4 rfl rfl)
theorem dX1_appendText_31 : decode cX1_appendText 31 = .ok (.aload_n 0, 1) := dk_42 (dk_at dksX1_appendText_1 7 rfl rfl)
theorem dX1_appendText_32 : decode cX1_appendText 32 = .ok (.getfield 378, 3) := dk_180 1 122 (dk_at dksX1_appendText_1 8 rfl rfl)
theorem dX1_appendText_35 : decode cX1_appendText 35 = .ok (.iload_n 1, 1) := dk_27 (dk_at dksX1_appendText_1 11 rfl rfl)
theorem dX1_appendText_36 : decode cX1_appendText 36 = .ok (.iload_n 2, 1) := dk_28 (dk_at dksX1_appendText_1 12 rfl rfl)
theorem dX1_appendText_37 : decode cX1_appendText 37 = .ok (.ishr, 1) := dk_122 (dk_at dksX1_appendText_1 13 rfl rfl)
theorem dX1_appendText_38 : decode cX1_appendText 38 = .ok (.i2b, 1) := dk_145 (dk_at dksX1_appendText_1 14 rfl rfl)
theorem dX1_appendText_39 : decode cX1_appendText 39 = .ok (.bastore, 1) := dk_84 (dk_at dksX1_appendText_1 15 rfl rfl)
theorem dX1_appendText_40 : decode cX1_appendText 40 = .ok (.aload_n 0, 1) := dk_42 (dk_at dksX1_appendText_1 16 rfl rfl)
theorem dX1_appendText_41 : decode cX1_appendText 41 = .ok (.dup, 1) := dk_89 (dk_at dksX1_appendText_1 17 rfl rfl)
theorem dX1_appendText_42 : decode cX1_appendText 42 = .ok (.getfield 378, 3) := dk_180 1 122 (dk_at dksX1_appendText_1 18 rfl rfl)
theorem dX1_appendText_45 : decode cX1_appendText 45 = .ok (.iconst 1, 1) := dk_4 (dk_at dksX1_appendText_1 21 rfl rfl)
theorem dX1_appendText_46 : decode cX1_appendText 46 = .ok (.iadd, 1) := dk_96 (dk_at dksX1_appendText_1 22 rfl rfl)
theorem dX1_appendText_47 : decode cX1_appendText 47 = .ok (.putfield 378, 3) := dk_181 1 122 (dk_at dksX1_appendText_2 0 rfl rfl)
theorem dX1_appendText_50 : decode cX1_appendText 50 = .ok (.iinc 2 (-8), 3) := dk_132 2 248 (dk_at dksX1_appendText_2 3 rfl rfl)
theorem dX1_appendText_53 : decode cX1_appendText 53 = .ok (.goto (-30), 3) := dk_167 255 226 (dk_at dksX1_appendText_2 6 rfl rfl)
theorem dX1_appendText_56 : decode cX1_appendText 56 = .ok (.aload_n 0, 1) := dk_42 (dk_at dksX1_appendText_2 9 rfl rfl)
theorem dX1_appendText_57 : decode cX1_appendText 57 = .ok (.getfield 378, 3) := dk_180 1 122 (dk_at dksX1_appendText_2 10 rfl rfl)
theorem dX1_appendText_60 : decode cX1_appendText 60 = .ok (.ireturn, 1) := dk_172 (dk_at dksX1_appendText_2 13 rfl rfl)
abbrev cX1_truncateText : ByteArray := prog_1_method_48_code
def yX1_truncateText : MethodName := ⟨RX1, "truncateText", "(I)I"⟩
def dkwX1_truncateText_0 : List UInt8 := [27, 3, 42, 180, 1, 122, 184, 0, 111, 184, 0, 115, 42, 27, 181, 1, 122, 42, 180, 1, 122, 172]
abbrev dktX1_truncateText_0 : List UInt8 := dkwX1_truncateText_0 ++ []
theorem dksX1_truncateText_0 : cX1_truncateText.data.toList.drop 0 = dktX1_truncateText_0 := by decide +kernel
theorem dX1_truncateText_0 : decode cX1_truncateText 0 = .ok (.iload_n 1, 1) := dk_27 (dk_at dksX1_truncateText_0 0 rfl rfl)
theorem dX1_truncateText_1 : decode cX1_truncateText 1 = .ok (.iconst 0, 1) := dk_3 (dk_at dksX1_truncateText_0 1 rfl rfl)
theorem dX1_truncateText_2 : decode cX1_truncateText 2 = .ok (.aload_n 0, 1) := dk_42 (dk_at dksX1_truncateText_0 2 rfl rfl)
theorem dX1_truncateText_3 : decode cX1_truncateText 3 = .ok (.getfield 378, 3) := dk_180 1 122 (dk_at dksX1_truncateText_0 3 rfl rfl)
theorem dX1_truncateText_6 : decode cX1_truncateText 6 = .ok (.invokestatic 111, 3) := dk_184 0 111 (dk_at dksX1_truncateText_0 6 rfl rfl)
theorem dX1_truncateText_9 : decode cX1_truncateText 9 = .ok (.invokestatic 115, 3) := dk_184 0 115 (dk_at dksX1_truncateText_0 9 rfl rfl)
theorem dX1_truncateText_12 : decode cX1_truncateText 12 = .ok (.aload_n 0, 1) := dk_42 (dk_at dksX1_truncateText_0 12 rfl rfl)
theorem dX1_truncateText_13 : decode cX1_truncateText 13 = .ok (.iload_n 1, 1) := dk_27 (dk_at dksX1_truncateText_0 13 rfl rfl)
theorem dX1_truncateText_14 : decode cX1_truncateText 14 = .ok (.putfield 378, 3) := dk_181 1 122 (dk_at dksX1_truncateText_0 14 rfl rfl)
theorem dX1_truncateText_17 : decode cX1_truncateText 17 = .ok (.aload_n 0, 1) := dk_42 (dk_at dksX1_truncateText_0 17 rfl rfl)
theorem dX1_truncateText_18 : decode cX1_truncateText 18 = .ok (.getfield 378, 3) := dk_180 1 122 (dk_at dksX1_truncateText_0 18 rfl rfl)
theorem dX1_truncateText_21 : decode cX1_truncateText 21 = .ok (.ireturn, 1) := dk_172 (dk_at dksX1_truncateText_0 21 rfl rfl)
abbrev cX1_total : ByteArray := prog_1_method_7_code
def yX1_total : MethodName := ⟨RX1, "total", "(I)I"⟩
def dkwX1_total_8 : List UInt8 := [167, 0, 10, 42, 180, 0, 16, 182, 0, 151, 172]
abbrev dktX1_total_8 : List UInt8 := dkwX1_total_8 ++ []
def dkwX1_total_7 : List UInt8 := [167, 0, 34, 42, 180, 0, 40, 27, 16, 10, 100, 182, 0, 144, 167, 0, 20, 42, 180, 0, 40, 182, 0, 148]
abbrev dktX1_total_7 : List UInt8 := dkwX1_total_7 ++ dktX1_total_8
def dkwX1_total_6 : List UInt8 := [182, 0, 132, 167, 0, 54, 42, 180, 0, 40, 180, 0, 138, 167, 0, 44, 42, 180, 0, 40, 180, 0, 141]
abbrev dktX1_total_6 : List UInt8 := dkwX1_total_6 ++ dktX1_total_7
def dkwX1_total_5 : List UInt8 := [167, 0, 80, 42, 180, 0, 40, 180, 0, 65, 182, 0, 132, 167, 0, 67, 42, 180, 0, 40, 180, 0, 76]
abbrev dktX1_total_5 : List UInt8 := dkwX1_total_5 ++ dktX1_total_6
def dkwX1_total_4 : List UInt8 := [180, 0, 40, 180, 0, 44, 182, 0, 132, 167, 0, 93, 42, 180, 0, 40, 180, 0, 135, 182, 0, 132]
abbrev dktX1_total_4 : List UInt8 := dkwX1_total_4 ++ dktX1_total_5
def dkwX1_total_3 : List UInt8 := [167, 0, 126, 42, 180, 0, 40, 180, 0, 99, 182, 0, 125, 167, 0, 113, 42, 182, 0, 129, 167, 0, 106, 42]
abbrev dktX1_total_3 : List UInt8 := dkwX1_total_3 ++ dktX1_total_4
def dkwX1_total_2 : List UInt8 := [42, 180, 0, 40, 180, 0, 99, 180, 0, 119, 167, 0, 139, 42, 180, 0, 40, 180, 0, 99, 180, 0, 122]
abbrev dktX1_total_2 : List UInt8 := dkwX1_total_2 ++ dktX1_total_3
def dkwX1_total_1 : List UInt8 := [170, 0, 0, 0, 215, 0, 0, 0, 0, 0, 0, 0, 14, 0, 0, 0, 73, 0, 0, 0, 86, 0, 0, 0, 99, 0, 0, 0, 112, 0, 0, 0, 119, 0, 0, 0, 132, 0, 0, 0, 145, 0, 0, 0, 158, 0, 0, 0, 171, 0, 0, 0, 181, 0, 0, 0, 191, 0, 0, 0, 191, 0, 0, 0, 191, 0, 0, 0, 191, 0, 0, 0, 205]
abbrev dktX1_total_1 : List UInt8 := dkwX1_total_1 ++ dktX1_total_2
def dkwX1_total_0 : List UInt8 := [27, 3, 16, 15, 184, 0, 111, 184, 0, 115, 27]
abbrev dktX1_total_0 : List UInt8 := dkwX1_total_0 ++ dktX1_total_1
theorem dksX1_total_0 : cX1_total.data.toList.drop 0 = dktX1_total_0 := by decide +kernel
theorem dksX1_total_1 : cX1_total.data.toList.drop 11 = dktX1_total_1 := dk_seg dksX1_total_0 11 rfl rfl
theorem dksX1_total_2 : cX1_total.data.toList.drop 84 = dktX1_total_2 := dk_seg dksX1_total_1 73 rfl rfl
theorem dksX1_total_3 : cX1_total.data.toList.drop 107 = dktX1_total_3 := dk_seg dksX1_total_2 23 rfl rfl
theorem dksX1_total_4 : cX1_total.data.toList.drop 131 = dktX1_total_4 := dk_seg dksX1_total_3 24 rfl rfl
theorem dksX1_total_5 : cX1_total.data.toList.drop 153 = dktX1_total_5 := dk_seg dksX1_total_4 22 rfl rfl
theorem dksX1_total_6 : cX1_total.data.toList.drop 176 = dktX1_total_6 := dk_seg dksX1_total_5 23 rfl rfl
theorem dksX1_total_7 : cX1_total.data.toList.drop 199 = dktX1_total_7 := dk_seg dksX1_total_6 23 rfl rfl
theorem dksX1_total_8 : cX1_total.data.toList.drop 223 = dktX1_total_8 := dk_seg dksX1_total_7 24 rfl rfl
theorem dX1_total_0 : decode cX1_total 0 = .ok (.iload_n 1, 1) := dk_27 (dk_at dksX1_total_0 0 rfl rfl)
theorem dX1_total_1 : decode cX1_total 1 = .ok (.iconst 0, 1) := dk_3 (dk_at dksX1_total_0 1 rfl rfl)
theorem dX1_total_2 : decode cX1_total 2 = .ok (.bipush 15, 2) := dk_16 15 (dk_at dksX1_total_0 2 rfl rfl)
theorem dX1_total_4 : decode cX1_total 4 = .ok (.invokestatic 111, 3) := dk_184 0 111 (dk_at dksX1_total_0 4 rfl rfl)
theorem dX1_total_7 : decode cX1_total 7 = .ok (.invokestatic 115, 3) := dk_184 0 115 (dk_at dksX1_total_0 7 rfl rfl)
theorem dX1_total_10 : decode cX1_total 10 = .ok (.iload_n 1, 1) := dk_27 (dk_at dksX1_total_0 10 rfl rfl)
theorem dX1_total_11 : decode cX1_total 11 = .ok (.tableswitch 215 0 14 #[73, 86, 99, 112, 119, 132, 145, 158, 171, 181, 191, 191, 191, 191, 205], 73) := by decide +kernel
theorem dX1_total_84 : decode cX1_total 84 = .ok (.aload_n 0, 1) := dk_42 (dk_at dksX1_total_2 0 rfl rfl)
theorem dX1_total_85 : decode cX1_total 85 = .ok (.getfield 40, 3) := dk_180 0 40 (dk_at dksX1_total_2 1 rfl rfl)
theorem dX1_total_88 : decode cX1_total 88 = .ok (.getfield 99, 3) := dk_180 0 99 (dk_at dksX1_total_2 4 rfl rfl)
theorem dX1_total_91 : decode cX1_total 91 = .ok (.getfield 119, 3) := dk_180 0 119 (dk_at dksX1_total_2 7 rfl rfl)
theorem dX1_total_94 : decode cX1_total 94 = .ok (.goto 139, 3) := dk_167 0 139 (dk_at dksX1_total_2 10 rfl rfl)
theorem dX1_total_97 : decode cX1_total 97 = .ok (.aload_n 0, 1) := dk_42 (dk_at dksX1_total_2 13 rfl rfl)
theorem dX1_total_98 : decode cX1_total 98 = .ok (.getfield 40, 3) := dk_180 0 40 (dk_at dksX1_total_2 14 rfl rfl)
theorem dX1_total_101 : decode cX1_total 101 = .ok (.getfield 99, 3) := dk_180 0 99 (dk_at dksX1_total_2 17 rfl rfl)
theorem dX1_total_104 : decode cX1_total 104 = .ok (.getfield 122, 3) := dk_180 0 122 (dk_at dksX1_total_2 20 rfl rfl)
theorem dX1_total_107 : decode cX1_total 107 = .ok (.goto 126, 3) := dk_167 0 126 (dk_at dksX1_total_3 0 rfl rfl)
theorem dX1_total_110 : decode cX1_total 110 = .ok (.aload_n 0, 1) := dk_42 (dk_at dksX1_total_3 3 rfl rfl)
theorem dX1_total_111 : decode cX1_total 111 = .ok (.getfield 40, 3) := dk_180 0 40 (dk_at dksX1_total_3 4 rfl rfl)
theorem dX1_total_114 : decode cX1_total 114 = .ok (.getfield 99, 3) := dk_180 0 99 (dk_at dksX1_total_3 7 rfl rfl)
theorem dX1_total_117 : decode cX1_total 117 = .ok (.invokevirtual 125, 3) := dk_182 0 125 (dk_at dksX1_total_3 10 rfl rfl)
theorem dX1_total_120 : decode cX1_total 120 = .ok (.goto 113, 3) := dk_167 0 113 (dk_at dksX1_total_3 13 rfl rfl)
theorem dX1_total_123 : decode cX1_total 123 = .ok (.aload_n 0, 1) := dk_42 (dk_at dksX1_total_3 16 rfl rfl)
theorem dX1_total_124 : decode cX1_total 124 = .ok (.invokevirtual 129, 3) := dk_182 0 129 (dk_at dksX1_total_3 17 rfl rfl)
theorem dX1_total_127 : decode cX1_total 127 = .ok (.goto 106, 3) := dk_167 0 106 (dk_at dksX1_total_3 20 rfl rfl)
theorem dX1_total_130 : decode cX1_total 130 = .ok (.aload_n 0, 1) := dk_42 (dk_at dksX1_total_3 23 rfl rfl)
theorem dX1_total_131 : decode cX1_total 131 = .ok (.getfield 40, 3) := dk_180 0 40 (dk_at dksX1_total_4 0 rfl rfl)
theorem dX1_total_134 : decode cX1_total 134 = .ok (.getfield 44, 3) := dk_180 0 44 (dk_at dksX1_total_4 3 rfl rfl)
theorem dX1_total_137 : decode cX1_total 137 = .ok (.invokevirtual 132, 3) := dk_182 0 132 (dk_at dksX1_total_4 6 rfl rfl)
theorem dX1_total_140 : decode cX1_total 140 = .ok (.goto 93, 3) := dk_167 0 93 (dk_at dksX1_total_4 9 rfl rfl)
theorem dX1_total_143 : decode cX1_total 143 = .ok (.aload_n 0, 1) := dk_42 (dk_at dksX1_total_4 12 rfl rfl)
theorem dX1_total_144 : decode cX1_total 144 = .ok (.getfield 40, 3) := dk_180 0 40 (dk_at dksX1_total_4 13 rfl rfl)
theorem dX1_total_147 : decode cX1_total 147 = .ok (.getfield 135, 3) := dk_180 0 135 (dk_at dksX1_total_4 16 rfl rfl)
theorem dX1_total_150 : decode cX1_total 150 = .ok (.invokevirtual 132, 3) := dk_182 0 132 (dk_at dksX1_total_4 19 rfl rfl)
theorem dX1_total_153 : decode cX1_total 153 = .ok (.goto 80, 3) := dk_167 0 80 (dk_at dksX1_total_5 0 rfl rfl)
theorem dX1_total_156 : decode cX1_total 156 = .ok (.aload_n 0, 1) := dk_42 (dk_at dksX1_total_5 3 rfl rfl)
theorem dX1_total_157 : decode cX1_total 157 = .ok (.getfield 40, 3) := dk_180 0 40 (dk_at dksX1_total_5 4 rfl rfl)
theorem dX1_total_160 : decode cX1_total 160 = .ok (.getfield 65, 3) := dk_180 0 65 (dk_at dksX1_total_5 7 rfl rfl)
theorem dX1_total_163 : decode cX1_total 163 = .ok (.invokevirtual 132, 3) := dk_182 0 132 (dk_at dksX1_total_5 10 rfl rfl)
theorem dX1_total_166 : decode cX1_total 166 = .ok (.goto 67, 3) := dk_167 0 67 (dk_at dksX1_total_5 13 rfl rfl)
theorem dX1_total_169 : decode cX1_total 169 = .ok (.aload_n 0, 1) := dk_42 (dk_at dksX1_total_5 16 rfl rfl)
theorem dX1_total_170 : decode cX1_total 170 = .ok (.getfield 40, 3) := dk_180 0 40 (dk_at dksX1_total_5 17 rfl rfl)
theorem dX1_total_173 : decode cX1_total 173 = .ok (.getfield 76, 3) := dk_180 0 76 (dk_at dksX1_total_5 20 rfl rfl)
theorem dX1_total_176 : decode cX1_total 176 = .ok (.invokevirtual 132, 3) := dk_182 0 132 (dk_at dksX1_total_6 0 rfl rfl)
theorem dX1_total_179 : decode cX1_total 179 = .ok (.goto 54, 3) := dk_167 0 54 (dk_at dksX1_total_6 3 rfl rfl)
theorem dX1_total_182 : decode cX1_total 182 = .ok (.aload_n 0, 1) := dk_42 (dk_at dksX1_total_6 6 rfl rfl)
theorem dX1_total_183 : decode cX1_total 183 = .ok (.getfield 40, 3) := dk_180 0 40 (dk_at dksX1_total_6 7 rfl rfl)
theorem dX1_total_186 : decode cX1_total 186 = .ok (.getfield 138, 3) := dk_180 0 138 (dk_at dksX1_total_6 10 rfl rfl)
theorem dX1_total_189 : decode cX1_total 189 = .ok (.goto 44, 3) := dk_167 0 44 (dk_at dksX1_total_6 13 rfl rfl)
theorem dX1_total_192 : decode cX1_total 192 = .ok (.aload_n 0, 1) := dk_42 (dk_at dksX1_total_6 16 rfl rfl)
theorem dX1_total_193 : decode cX1_total 193 = .ok (.getfield 40, 3) := dk_180 0 40 (dk_at dksX1_total_6 17 rfl rfl)
theorem dX1_total_196 : decode cX1_total 196 = .ok (.getfield 141, 3) := dk_180 0 141 (dk_at dksX1_total_6 20 rfl rfl)
theorem dX1_total_199 : decode cX1_total 199 = .ok (.goto 34, 3) := dk_167 0 34 (dk_at dksX1_total_7 0 rfl rfl)
theorem dX1_total_202 : decode cX1_total 202 = .ok (.aload_n 0, 1) := dk_42 (dk_at dksX1_total_7 3 rfl rfl)
theorem dX1_total_203 : decode cX1_total 203 = .ok (.getfield 40, 3) := dk_180 0 40 (dk_at dksX1_total_7 4 rfl rfl)
theorem dX1_total_206 : decode cX1_total 206 = .ok (.iload_n 1, 1) := dk_27 (dk_at dksX1_total_7 7 rfl rfl)
theorem dX1_total_207 : decode cX1_total 207 = .ok (.bipush 10, 2) := dk_16 10 (dk_at dksX1_total_7 8 rfl rfl)
theorem dX1_total_209 : decode cX1_total 209 = .ok (.isub, 1) := dk_100 (dk_at dksX1_total_7 10 rfl rfl)
theorem dX1_total_210 : decode cX1_total 210 = .ok (.invokevirtual 144, 3) := dk_182 0 144 (dk_at dksX1_total_7 11 rfl rfl)
theorem dX1_total_213 : decode cX1_total 213 = .ok (.goto 20, 3) := dk_167 0 20 (dk_at dksX1_total_7 14 rfl rfl)
theorem dX1_total_216 : decode cX1_total 216 = .ok (.aload_n 0, 1) := dk_42 (dk_at dksX1_total_7 17 rfl rfl)
theorem dX1_total_217 : decode cX1_total 217 = .ok (.getfield 40, 3) := dk_180 0 40 (dk_at dksX1_total_7 18 rfl rfl)
theorem dX1_total_220 : decode cX1_total 220 = .ok (.invokevirtual 148, 3) := dk_182 0 148 (dk_at dksX1_total_7 21 rfl rfl)
theorem dX1_total_223 : decode cX1_total 223 = .ok (.goto 10, 3) := dk_167 0 10 (dk_at dksX1_total_8 0 rfl rfl)
theorem dX1_total_226 : decode cX1_total 226 = .ok (.aload_n 0, 1) := dk_42 (dk_at dksX1_total_8 3 rfl rfl)
theorem dX1_total_227 : decode cX1_total 227 = .ok (.getfield 16, 3) := dk_180 0 16 (dk_at dksX1_total_8 4 rfl rfl)
theorem dX1_total_230 : decode cX1_total 230 = .ok (.invokevirtual 151, 3) := dk_182 0 151 (dk_at dksX1_total_8 7 rfl rfl)
theorem dX1_total_233 : decode cX1_total 233 = .ok (.ireturn, 1) := dk_172 (dk_at dksX1_total_8 10 rfl rfl)
abbrev cX1_tally : ByteArray := prog_1_method_8_code
def yX1_tally : MethodName := ⟨RX1, "tally", "(I)I"⟩
def dkwX1_tally_0 : List UInt8 := [27, 3, 16, 6, 184, 0, 111, 184, 0, 115, 42, 180, 0, 40, 180, 0, 152, 27, 46, 172]
abbrev dktX1_tally_0 : List UInt8 := dkwX1_tally_0 ++ []
theorem dksX1_tally_0 : cX1_tally.data.toList.drop 0 = dktX1_tally_0 := by decide +kernel
theorem dX1_tally_0 : decode cX1_tally 0 = .ok (.iload_n 1, 1) := dk_27 (dk_at dksX1_tally_0 0 rfl rfl)
theorem dX1_tally_1 : decode cX1_tally 1 = .ok (.iconst 0, 1) := dk_3 (dk_at dksX1_tally_0 1 rfl rfl)
theorem dX1_tally_2 : decode cX1_tally 2 = .ok (.bipush 6, 2) := dk_16 6 (dk_at dksX1_tally_0 2 rfl rfl)
theorem dX1_tally_4 : decode cX1_tally 4 = .ok (.invokestatic 111, 3) := dk_184 0 111 (dk_at dksX1_tally_0 4 rfl rfl)
theorem dX1_tally_7 : decode cX1_tally 7 = .ok (.invokestatic 115, 3) := dk_184 0 115 (dk_at dksX1_tally_0 7 rfl rfl)
theorem dX1_tally_10 : decode cX1_tally 10 = .ok (.aload_n 0, 1) := dk_42 (dk_at dksX1_tally_0 10 rfl rfl)
theorem dX1_tally_11 : decode cX1_tally 11 = .ok (.getfield 40, 3) := dk_180 0 40 (dk_at dksX1_tally_0 11 rfl rfl)
theorem dX1_tally_14 : decode cX1_tally 14 = .ok (.getfield 152, 3) := dk_180 0 152 (dk_at dksX1_tally_0 14 rfl rfl)
theorem dX1_tally_17 : decode cX1_tally 17 = .ok (.iload_n 1, 1) := dk_27 (dk_at dksX1_tally_0 17 rfl rfl)
theorem dX1_tally_18 : decode cX1_tally 18 = .ok (.iaload, 1) := dk_46 (dk_at dksX1_tally_0 18 rfl rfl)
theorem dX1_tally_19 : decode cX1_tally 19 = .ok (.ireturn, 1) := dk_172 (dk_at dksX1_tally_0 19 rfl rfl)
abbrev cX1_cell : ByteArray := prog_1_method_12_code
def yX1_cell : MethodName := ⟨RX1, "cell", "(II)I"⟩
def dkwX1_cell_4 : List UInt8 := [167, 0, 16, 42, 27, 182, 0, 184, 167, 0, 8, 42, 27, 182, 0, 187, 172]
abbrev dktX1_cell_4 : List UInt8 := dkwX1_cell_4 ++ []
def dkwX1_cell_3 : List UInt8 := [182, 0, 175, 167, 0, 35, 42, 180, 0, 40, 27, 182, 0, 178, 167, 0, 24, 42, 27, 182, 0, 181]
abbrev dktX1_cell_3 : List UInt8 := dkwX1_cell_3 ++ dktX1_cell_4
def dkwX1_cell_2 : List UInt8 := [42, 180, 0, 40, 180, 0, 99, 180, 0, 103, 27, 51, 184, 0, 107, 167, 0, 46, 42, 180, 0, 40, 27]
abbrev dktX1_cell_2 : List UInt8 := dkwX1_cell_2 ++ dktX1_cell_3
def dkwX1_cell_1 : List UInt8 := [170, 0, 0, 0, 0, 90, 0, 0, 0, 0, 0, 0, 0, 4, 0, 0, 0, 34, 0, 0, 0, 52, 0, 0, 0, 63, 0, 0, 0, 74, 0, 0, 0, 82]
abbrev dktX1_cell_1 : List UInt8 := dkwX1_cell_1 ++ dktX1_cell_2
def dkwX1_cell_0 : List UInt8 := [42, 180, 0, 40, 27, 182, 0, 172, 28, 3, 8, 184, 0, 111, 184, 0, 115, 28]
abbrev dktX1_cell_0 : List UInt8 := dkwX1_cell_0 ++ dktX1_cell_1
theorem dksX1_cell_0 : cX1_cell.data.toList.drop 0 = dktX1_cell_0 := by decide +kernel
theorem dksX1_cell_1 : cX1_cell.data.toList.drop 18 = dktX1_cell_1 := dk_seg dksX1_cell_0 18 rfl rfl
theorem dksX1_cell_2 : cX1_cell.data.toList.drop 52 = dktX1_cell_2 := dk_seg dksX1_cell_1 34 rfl rfl
theorem dksX1_cell_3 : cX1_cell.data.toList.drop 75 = dktX1_cell_3 := dk_seg dksX1_cell_2 23 rfl rfl
theorem dksX1_cell_4 : cX1_cell.data.toList.drop 97 = dktX1_cell_4 := dk_seg dksX1_cell_3 22 rfl rfl
theorem dX1_cell_0 : decode cX1_cell 0 = .ok (.aload_n 0, 1) := dk_42 (dk_at dksX1_cell_0 0 rfl rfl)
theorem dX1_cell_1 : decode cX1_cell 1 = .ok (.getfield 40, 3) := dk_180 0 40 (dk_at dksX1_cell_0 1 rfl rfl)
theorem dX1_cell_4 : decode cX1_cell 4 = .ok (.iload_n 1, 1) := dk_27 (dk_at dksX1_cell_0 4 rfl rfl)
theorem dX1_cell_5 : decode cX1_cell 5 = .ok (.invokevirtual 172, 3) := dk_182 0 172 (dk_at dksX1_cell_0 5 rfl rfl)
theorem dX1_cell_8 : decode cX1_cell 8 = .ok (.iload_n 2, 1) := dk_28 (dk_at dksX1_cell_0 8 rfl rfl)
theorem dX1_cell_9 : decode cX1_cell 9 = .ok (.iconst 0, 1) := dk_3 (dk_at dksX1_cell_0 9 rfl rfl)
theorem dX1_cell_10 : decode cX1_cell 10 = .ok (.iconst 5, 1) := dk_8 (dk_at dksX1_cell_0 10 rfl rfl)
theorem dX1_cell_11 : decode cX1_cell 11 = .ok (.invokestatic 111, 3) := dk_184 0 111 (dk_at dksX1_cell_0 11 rfl rfl)
theorem dX1_cell_14 : decode cX1_cell 14 = .ok (.invokestatic 115, 3) := dk_184 0 115 (dk_at dksX1_cell_0 14 rfl rfl)
theorem dX1_cell_17 : decode cX1_cell 17 = .ok (.iload_n 2, 1) := dk_28 (dk_at dksX1_cell_0 17 rfl rfl)
theorem dX1_cell_18 : decode cX1_cell 18 = .ok (.tableswitch 90 0 4 #[34, 52, 63, 74, 82], 34) := by decide +kernel
theorem dX1_cell_52 : decode cX1_cell 52 = .ok (.aload_n 0, 1) := dk_42 (dk_at dksX1_cell_2 0 rfl rfl)
theorem dX1_cell_53 : decode cX1_cell 53 = .ok (.getfield 40, 3) := dk_180 0 40 (dk_at dksX1_cell_2 1 rfl rfl)
theorem dX1_cell_56 : decode cX1_cell 56 = .ok (.getfield 99, 3) := dk_180 0 99 (dk_at dksX1_cell_2 4 rfl rfl)
theorem dX1_cell_59 : decode cX1_cell 59 = .ok (.getfield 103, 3) := dk_180 0 103 (dk_at dksX1_cell_2 7 rfl rfl)
theorem dX1_cell_62 : decode cX1_cell 62 = .ok (.iload_n 1, 1) := dk_27 (dk_at dksX1_cell_2 10 rfl rfl)
theorem dX1_cell_63 : decode cX1_cell 63 = .ok (.baload, 1) := dk_51 (dk_at dksX1_cell_2 11 rfl rfl)
theorem dX1_cell_64 : decode cX1_cell 64 = .ok (.invokestatic 107, 3) := dk_184 0 107 (dk_at dksX1_cell_2 12 rfl rfl)
theorem dX1_cell_67 : decode cX1_cell 67 = .ok (.goto 46, 3) := dk_167 0 46 (dk_at dksX1_cell_2 15 rfl rfl)
theorem dX1_cell_70 : decode cX1_cell 70 = .ok (.aload_n 0, 1) := dk_42 (dk_at dksX1_cell_2 18 rfl rfl)
theorem dX1_cell_71 : decode cX1_cell 71 = .ok (.getfield 40, 3) := dk_180 0 40 (dk_at dksX1_cell_2 19 rfl rfl)
theorem dX1_cell_74 : decode cX1_cell 74 = .ok (.iload_n 1, 1) := dk_27 (dk_at dksX1_cell_2 22 rfl rfl)
theorem dX1_cell_75 : decode cX1_cell 75 = .ok (.invokevirtual 175, 3) := dk_182 0 175 (dk_at dksX1_cell_3 0 rfl rfl)
theorem dX1_cell_78 : decode cX1_cell 78 = .ok (.goto 35, 3) := dk_167 0 35 (dk_at dksX1_cell_3 3 rfl rfl)
theorem dX1_cell_81 : decode cX1_cell 81 = .ok (.aload_n 0, 1) := dk_42 (dk_at dksX1_cell_3 6 rfl rfl)
theorem dX1_cell_82 : decode cX1_cell 82 = .ok (.getfield 40, 3) := dk_180 0 40 (dk_at dksX1_cell_3 7 rfl rfl)
theorem dX1_cell_85 : decode cX1_cell 85 = .ok (.iload_n 1, 1) := dk_27 (dk_at dksX1_cell_3 10 rfl rfl)
theorem dX1_cell_86 : decode cX1_cell 86 = .ok (.invokevirtual 178, 3) := dk_182 0 178 (dk_at dksX1_cell_3 11 rfl rfl)
theorem dX1_cell_89 : decode cX1_cell 89 = .ok (.goto 24, 3) := dk_167 0 24 (dk_at dksX1_cell_3 14 rfl rfl)
theorem dX1_cell_92 : decode cX1_cell 92 = .ok (.aload_n 0, 1) := dk_42 (dk_at dksX1_cell_3 17 rfl rfl)
theorem dX1_cell_93 : decode cX1_cell 93 = .ok (.iload_n 1, 1) := dk_27 (dk_at dksX1_cell_3 18 rfl rfl)
theorem dX1_cell_94 : decode cX1_cell 94 = .ok (.invokevirtual 181, 3) := dk_182 0 181 (dk_at dksX1_cell_3 19 rfl rfl)
theorem dX1_cell_97 : decode cX1_cell 97 = .ok (.goto 16, 3) := dk_167 0 16 (dk_at dksX1_cell_4 0 rfl rfl)
theorem dX1_cell_100 : decode cX1_cell 100 = .ok (.aload_n 0, 1) := dk_42 (dk_at dksX1_cell_4 3 rfl rfl)
theorem dX1_cell_101 : decode cX1_cell 101 = .ok (.iload_n 1, 1) := dk_27 (dk_at dksX1_cell_4 4 rfl rfl)
theorem dX1_cell_102 : decode cX1_cell 102 = .ok (.invokevirtual 184, 3) := dk_182 0 184 (dk_at dksX1_cell_4 5 rfl rfl)
theorem dX1_cell_105 : decode cX1_cell 105 = .ok (.goto 8, 3) := dk_167 0 8 (dk_at dksX1_cell_4 8 rfl rfl)
theorem dX1_cell_108 : decode cX1_cell 108 = .ok (.aload_n 0, 1) := dk_42 (dk_at dksX1_cell_4 11 rfl rfl)
theorem dX1_cell_109 : decode cX1_cell 109 = .ok (.iload_n 1, 1) := dk_27 (dk_at dksX1_cell_4 12 rfl rfl)
theorem dX1_cell_110 : decode cX1_cell 110 = .ok (.invokevirtual 187, 3) := dk_182 0 187 (dk_at dksX1_cell_4 13 rfl rfl)
theorem dX1_cell_113 : decode cX1_cell 113 = .ok (.ireturn, 1) := dk_172 (dk_at dksX1_cell_4 16 rfl rfl)
abbrev cX1_lettersFor : ByteArray := prog_1_method_11_code
def yX1_lettersFor : MethodName := ⟨RX1, "lettersFor", "(I)I"⟩
def dkwX1_lettersFor_3 : List UInt8 := [132, 3, 1, 167, 255, 186, 28, 172]
abbrev dktX1_lettersFor_3 : List UInt8 := dkwX1_lettersFor_3 ++ []
def dkwX1_lettersFor_2 : List UInt8 := [29, 182, 0, 155, 192, 0, 79, 180, 0, 169, 5, 162, 0, 7, 4, 167, 0, 4, 3, 184, 0, 107, 96, 61]
abbrev dktX1_lettersFor_2 : List UInt8 := dkwX1_lettersFor_2 ++ dktX1_lettersFor_3
def dkwX1_lettersFor_1 : List UInt8 := [180, 0, 76, 29, 182, 0, 155, 192, 0, 79, 180, 0, 166, 27, 160, 0, 28, 42, 180, 0, 40, 180, 0, 76]
abbrev dktX1_lettersFor_1 : List UInt8 := dkwX1_lettersFor_1 ++ dktX1_lettersFor_2
def dkwX1_lettersFor_0 : List UInt8 := [3, 61, 3, 62, 29, 42, 180, 0, 40, 180, 0, 76, 182, 0, 132, 162, 0, 62, 28, 42, 180, 0, 40]
abbrev dktX1_lettersFor_0 : List UInt8 := dkwX1_lettersFor_0 ++ dktX1_lettersFor_1
theorem dksX1_lettersFor_0 : cX1_lettersFor.data.toList.drop 0 = dktX1_lettersFor_0 := by decide +kernel
theorem dksX1_lettersFor_1 : cX1_lettersFor.data.toList.drop 23 = dktX1_lettersFor_1 := dk_seg dksX1_lettersFor_0 23 rfl rfl
theorem dksX1_lettersFor_2 : cX1_lettersFor.data.toList.drop 47 = dktX1_lettersFor_2 := dk_seg dksX1_lettersFor_1 24 rfl rfl
theorem dksX1_lettersFor_3 : cX1_lettersFor.data.toList.drop 71 = dktX1_lettersFor_3 := dk_seg dksX1_lettersFor_2 24 rfl rfl
theorem dX1_lettersFor_0 : decode cX1_lettersFor 0 = .ok (.iconst 0, 1) := dk_3 (dk_at dksX1_lettersFor_0 0 rfl rfl)
theorem dX1_lettersFor_1 : decode cX1_lettersFor 1 = .ok (.istore_n 2, 1) := dk_61 (dk_at dksX1_lettersFor_0 1 rfl rfl)
theorem dX1_lettersFor_2 : decode cX1_lettersFor 2 = .ok (.iconst 0, 1) := dk_3 (dk_at dksX1_lettersFor_0 2 rfl rfl)
theorem dX1_lettersFor_3 : decode cX1_lettersFor 3 = .ok (.istore_n 3, 1) := dk_62 (dk_at dksX1_lettersFor_0 3 rfl rfl)
theorem dX1_lettersFor_4 : decode cX1_lettersFor 4 = .ok (.iload_n 3, 1) := dk_29 (dk_at dksX1_lettersFor_0 4 rfl rfl)
theorem dX1_lettersFor_5 : decode cX1_lettersFor 5 = .ok (.aload_n 0, 1) := dk_42 (dk_at dksX1_lettersFor_0 5 rfl rfl)
theorem dX1_lettersFor_6 : decode cX1_lettersFor 6 = .ok (.getfield 40, 3) := dk_180 0 40 (dk_at dksX1_lettersFor_0 6 rfl rfl)
theorem dX1_lettersFor_9 : decode cX1_lettersFor 9 = .ok (.getfield 76, 3) := dk_180 0 76 (dk_at dksX1_lettersFor_0 9 rfl rfl)
theorem dX1_lettersFor_12 : decode cX1_lettersFor 12 = .ok (.invokevirtual 132, 3) := dk_182 0 132 (dk_at dksX1_lettersFor_0 12 rfl rfl)
theorem dX1_lettersFor_15 : decode cX1_lettersFor 15 = .ok (.if_icmp .ge 62, 3) := dk_162 0 62 (dk_at dksX1_lettersFor_0 15 rfl rfl)
theorem dX1_lettersFor_18 : decode cX1_lettersFor 18 = .ok (.iload_n 2, 1) := dk_28 (dk_at dksX1_lettersFor_0 18 rfl rfl)
theorem dX1_lettersFor_19 : decode cX1_lettersFor 19 = .ok (.aload_n 0, 1) := dk_42 (dk_at dksX1_lettersFor_0 19 rfl rfl)
theorem dX1_lettersFor_20 : decode cX1_lettersFor 20 = .ok (.getfield 40, 3) := dk_180 0 40 (dk_at dksX1_lettersFor_0 20 rfl rfl)
theorem dX1_lettersFor_23 : decode cX1_lettersFor 23 = .ok (.getfield 76, 3) := dk_180 0 76 (dk_at dksX1_lettersFor_1 0 rfl rfl)
theorem dX1_lettersFor_26 : decode cX1_lettersFor 26 = .ok (.iload_n 3, 1) := dk_29 (dk_at dksX1_lettersFor_1 3 rfl rfl)
theorem dX1_lettersFor_27 : decode cX1_lettersFor 27 = .ok (.invokevirtual 155, 3) := dk_182 0 155 (dk_at dksX1_lettersFor_1 4 rfl rfl)
theorem dX1_lettersFor_30 : decode cX1_lettersFor 30 = .ok (.checkcast 79, 3) := dk_192 0 79 (dk_at dksX1_lettersFor_1 7 rfl rfl)
theorem dX1_lettersFor_33 : decode cX1_lettersFor 33 = .ok (.getfield 166, 3) := dk_180 0 166 (dk_at dksX1_lettersFor_1 10 rfl rfl)
theorem dX1_lettersFor_36 : decode cX1_lettersFor 36 = .ok (.iload_n 1, 1) := dk_27 (dk_at dksX1_lettersFor_1 13 rfl rfl)
theorem dX1_lettersFor_37 : decode cX1_lettersFor 37 = .ok (.if_icmp .ne 28, 3) := dk_160 0 28 (dk_at dksX1_lettersFor_1 14 rfl rfl)
theorem dX1_lettersFor_40 : decode cX1_lettersFor 40 = .ok (.aload_n 0, 1) := dk_42 (dk_at dksX1_lettersFor_1 17 rfl rfl)
theorem dX1_lettersFor_41 : decode cX1_lettersFor 41 = .ok (.getfield 40, 3) := dk_180 0 40 (dk_at dksX1_lettersFor_1 18 rfl rfl)
theorem dX1_lettersFor_44 : decode cX1_lettersFor 44 = .ok (.getfield 76, 3) := dk_180 0 76 (dk_at dksX1_lettersFor_1 21 rfl rfl)
theorem dX1_lettersFor_47 : decode cX1_lettersFor 47 = .ok (.iload_n 3, 1) := dk_29 (dk_at dksX1_lettersFor_2 0 rfl rfl)
theorem dX1_lettersFor_48 : decode cX1_lettersFor 48 = .ok (.invokevirtual 155, 3) := dk_182 0 155 (dk_at dksX1_lettersFor_2 1 rfl rfl)
theorem dX1_lettersFor_51 : decode cX1_lettersFor 51 = .ok (.checkcast 79, 3) := dk_192 0 79 (dk_at dksX1_lettersFor_2 4 rfl rfl)
theorem dX1_lettersFor_54 : decode cX1_lettersFor 54 = .ok (.getfield 169, 3) := dk_180 0 169 (dk_at dksX1_lettersFor_2 7 rfl rfl)
theorem dX1_lettersFor_57 : decode cX1_lettersFor 57 = .ok (.iconst 2, 1) := dk_5 (dk_at dksX1_lettersFor_2 10 rfl rfl)
theorem dX1_lettersFor_58 : decode cX1_lettersFor 58 = .ok (.if_icmp .ge 7, 3) := dk_162 0 7 (dk_at dksX1_lettersFor_2 11 rfl rfl)
theorem dX1_lettersFor_61 : decode cX1_lettersFor 61 = .ok (.iconst 1, 1) := dk_4 (dk_at dksX1_lettersFor_2 14 rfl rfl)
theorem dX1_lettersFor_62 : decode cX1_lettersFor 62 = .ok (.goto 4, 3) := dk_167 0 4 (dk_at dksX1_lettersFor_2 15 rfl rfl)
theorem dX1_lettersFor_65 : decode cX1_lettersFor 65 = .ok (.iconst 0, 1) := dk_3 (dk_at dksX1_lettersFor_2 18 rfl rfl)
theorem dX1_lettersFor_66 : decode cX1_lettersFor 66 = .ok (.invokestatic 107, 3) := dk_184 0 107 (dk_at dksX1_lettersFor_2 19 rfl rfl)
theorem dX1_lettersFor_69 : decode cX1_lettersFor 69 = .ok (.iadd, 1) := dk_96 (dk_at dksX1_lettersFor_2 22 rfl rfl)
theorem dX1_lettersFor_70 : decode cX1_lettersFor 70 = .ok (.istore_n 2, 1) := dk_61 (dk_at dksX1_lettersFor_2 23 rfl rfl)
theorem dX1_lettersFor_71 : decode cX1_lettersFor 71 = .ok (.iinc 3 1, 3) := dk_132 3 1 (dk_at dksX1_lettersFor_3 0 rfl rfl)
theorem dX1_lettersFor_74 : decode cX1_lettersFor 74 = .ok (.goto (-70), 3) := dk_167 255 186 (dk_at dksX1_lettersFor_3 3 rfl rfl)
theorem dX1_lettersFor_77 : decode cX1_lettersFor 77 = .ok (.iload_n 2, 1) := dk_28 (dk_at dksX1_lettersFor_3 6 rfl rfl)
theorem dX1_lettersFor_78 : decode cX1_lettersFor 78 = .ok (.ireturn, 1) := dk_172 (dk_at dksX1_lettersFor_3 7 rfl rfl)
abbrev cX1_bank : ByteArray := prog_1_method_13_code
def yX1_bank : MethodName := ⟨RX1, "bank", "(II)I"⟩
def dkwX1_bank_3 : List UInt8 := [160, 0, 10, 45, 180, 0, 197, 167, 0, 7, 45, 180, 0, 200, 172]
abbrev dktX1_bank_3 : List UInt8 := dkwX1_bank_3 ++ []
def dkwX1_bank_2 : List UInt8 := [154, 0, 10, 45, 180, 0, 193, 167, 0, 31, 28, 4, 160, 0, 10, 45, 180, 0, 194, 167, 0, 19, 28, 5]
abbrev dktX1_bank_2 : List UInt8 := dkwX1_bank_2 ++ dktX1_bank_3
def dkwX1_bank_1 : List UInt8 := [184, 0, 111, 184, 0, 115, 42, 180, 0, 40, 180, 0, 44, 27, 182, 0, 155, 192, 0, 48, 78, 28]
abbrev dktX1_bank_1 : List UInt8 := dkwX1_bank_1 ++ dktX1_bank_2
def dkwX1_bank_0 : List UInt8 := [27, 3, 42, 180, 0, 40, 180, 0, 44, 182, 0, 132, 4, 100, 184, 0, 111, 184, 0, 190, 28, 3, 6]
abbrev dktX1_bank_0 : List UInt8 := dkwX1_bank_0 ++ dktX1_bank_1
theorem dksX1_bank_0 : cX1_bank.data.toList.drop 0 = dktX1_bank_0 := by decide +kernel
theorem dksX1_bank_1 : cX1_bank.data.toList.drop 23 = dktX1_bank_1 := dk_seg dksX1_bank_0 23 rfl rfl
theorem dksX1_bank_2 : cX1_bank.data.toList.drop 45 = dktX1_bank_2 := dk_seg dksX1_bank_1 22 rfl rfl
theorem dksX1_bank_3 : cX1_bank.data.toList.drop 69 = dktX1_bank_3 := dk_seg dksX1_bank_2 24 rfl rfl
theorem dX1_bank_0 : decode cX1_bank 0 = .ok (.iload_n 1, 1) := dk_27 (dk_at dksX1_bank_0 0 rfl rfl)
theorem dX1_bank_1 : decode cX1_bank 1 = .ok (.iconst 0, 1) := dk_3 (dk_at dksX1_bank_0 1 rfl rfl)
theorem dX1_bank_2 : decode cX1_bank 2 = .ok (.aload_n 0, 1) := dk_42 (dk_at dksX1_bank_0 2 rfl rfl)
theorem dX1_bank_3 : decode cX1_bank 3 = .ok (.getfield 40, 3) := dk_180 0 40 (dk_at dksX1_bank_0 3 rfl rfl)
theorem dX1_bank_6 : decode cX1_bank 6 = .ok (.getfield 44, 3) := dk_180 0 44 (dk_at dksX1_bank_0 6 rfl rfl)
theorem dX1_bank_9 : decode cX1_bank 9 = .ok (.invokevirtual 132, 3) := dk_182 0 132 (dk_at dksX1_bank_0 9 rfl rfl)
theorem dX1_bank_12 : decode cX1_bank 12 = .ok (.iconst 1, 1) := dk_4 (dk_at dksX1_bank_0 12 rfl rfl)
theorem dX1_bank_13 : decode cX1_bank 13 = .ok (.isub, 1) := dk_100 (dk_at dksX1_bank_0 13 rfl rfl)
theorem dX1_bank_14 : decode cX1_bank 14 = .ok (.invokestatic 111, 3) := dk_184 0 111 (dk_at dksX1_bank_0 14 rfl rfl)
theorem dX1_bank_17 : decode cX1_bank 17 = .ok (.invokestatic 190, 3) := dk_184 0 190 (dk_at dksX1_bank_0 17 rfl rfl)
theorem dX1_bank_20 : decode cX1_bank 20 = .ok (.iload_n 2, 1) := dk_28 (dk_at dksX1_bank_0 20 rfl rfl)
theorem dX1_bank_21 : decode cX1_bank 21 = .ok (.iconst 0, 1) := dk_3 (dk_at dksX1_bank_0 21 rfl rfl)
theorem dX1_bank_22 : decode cX1_bank 22 = .ok (.iconst 3, 1) := dk_6 (dk_at dksX1_bank_0 22 rfl rfl)
theorem dX1_bank_23 : decode cX1_bank 23 = .ok (.invokestatic 111, 3) := dk_184 0 111 (dk_at dksX1_bank_1 0 rfl rfl)
theorem dX1_bank_26 : decode cX1_bank 26 = .ok (.invokestatic 115, 3) := dk_184 0 115 (dk_at dksX1_bank_1 3 rfl rfl)
theorem dX1_bank_29 : decode cX1_bank 29 = .ok (.aload_n 0, 1) := dk_42 (dk_at dksX1_bank_1 6 rfl rfl)
theorem dX1_bank_30 : decode cX1_bank 30 = .ok (.getfield 40, 3) := dk_180 0 40 (dk_at dksX1_bank_1 7 rfl rfl)
theorem dX1_bank_33 : decode cX1_bank 33 = .ok (.getfield 44, 3) := dk_180 0 44 (dk_at dksX1_bank_1 10 rfl rfl)
theorem dX1_bank_36 : decode cX1_bank 36 = .ok (.iload_n 1, 1) := dk_27 (dk_at dksX1_bank_1 13 rfl rfl)
theorem dX1_bank_37 : decode cX1_bank 37 = .ok (.invokevirtual 155, 3) := dk_182 0 155 (dk_at dksX1_bank_1 14 rfl rfl)
theorem dX1_bank_40 : decode cX1_bank 40 = .ok (.checkcast 48, 3) := dk_192 0 48 (dk_at dksX1_bank_1 17 rfl rfl)
theorem dX1_bank_43 : decode cX1_bank 43 = .ok (.astore_n 3, 1) := dk_78 (dk_at dksX1_bank_1 20 rfl rfl)
theorem dX1_bank_44 : decode cX1_bank 44 = .ok (.iload_n 2, 1) := dk_28 (dk_at dksX1_bank_1 21 rfl rfl)
theorem dX1_bank_45 : decode cX1_bank 45 = .ok (.ifCond .ne 10, 3) := dk_154 0 10 (dk_at dksX1_bank_2 0 rfl rfl)
theorem dX1_bank_48 : decode cX1_bank 48 = .ok (.aload_n 3, 1) := dk_45 (dk_at dksX1_bank_2 3 rfl rfl)
theorem dX1_bank_49 : decode cX1_bank 49 = .ok (.getfield 193, 3) := dk_180 0 193 (dk_at dksX1_bank_2 4 rfl rfl)
theorem dX1_bank_52 : decode cX1_bank 52 = .ok (.goto 31, 3) := dk_167 0 31 (dk_at dksX1_bank_2 7 rfl rfl)
theorem dX1_bank_55 : decode cX1_bank 55 = .ok (.iload_n 2, 1) := dk_28 (dk_at dksX1_bank_2 10 rfl rfl)
theorem dX1_bank_56 : decode cX1_bank 56 = .ok (.iconst 1, 1) := dk_4 (dk_at dksX1_bank_2 11 rfl rfl)
theorem dX1_bank_57 : decode cX1_bank 57 = .ok (.if_icmp .ne 10, 3) := dk_160 0 10 (dk_at dksX1_bank_2 12 rfl rfl)
theorem dX1_bank_60 : decode cX1_bank 60 = .ok (.aload_n 3, 1) := dk_45 (dk_at dksX1_bank_2 15 rfl rfl)
theorem dX1_bank_61 : decode cX1_bank 61 = .ok (.getfield 194, 3) := dk_180 0 194 (dk_at dksX1_bank_2 16 rfl rfl)
theorem dX1_bank_64 : decode cX1_bank 64 = .ok (.goto 19, 3) := dk_167 0 19 (dk_at dksX1_bank_2 19 rfl rfl)
theorem dX1_bank_67 : decode cX1_bank 67 = .ok (.iload_n 2, 1) := dk_28 (dk_at dksX1_bank_2 22 rfl rfl)
theorem dX1_bank_68 : decode cX1_bank 68 = .ok (.iconst 2, 1) := dk_5 (dk_at dksX1_bank_2 23 rfl rfl)
theorem dX1_bank_69 : decode cX1_bank 69 = .ok (.if_icmp .ne 10, 3) := dk_160 0 10 (dk_at dksX1_bank_3 0 rfl rfl)
theorem dX1_bank_72 : decode cX1_bank 72 = .ok (.aload_n 3, 1) := dk_45 (dk_at dksX1_bank_3 3 rfl rfl)
theorem dX1_bank_73 : decode cX1_bank 73 = .ok (.getfield 197, 3) := dk_180 0 197 (dk_at dksX1_bank_3 4 rfl rfl)
theorem dX1_bank_76 : decode cX1_bank 76 = .ok (.goto 7, 3) := dk_167 0 7 (dk_at dksX1_bank_3 7 rfl rfl)
theorem dX1_bank_79 : decode cX1_bank 79 = .ok (.aload_n 3, 1) := dk_45 (dk_at dksX1_bank_3 10 rfl rfl)
theorem dX1_bank_80 : decode cX1_bank 80 = .ok (.getfield 200, 3) := dk_180 0 200 (dk_at dksX1_bank_3 11 rfl rfl)
theorem dX1_bank_83 : decode cX1_bank 83 = .ok (.ireturn, 1) := dk_172 (dk_at dksX1_bank_3 14 rfl rfl)
abbrev cX1_watcher : ByteArray := prog_1_method_18_code
def yX1_watcher : MethodName := ⟨RX1, "watcher", "(II)I"⟩
def dkwX1_watcher_4 : List UInt8 := [182, 0, 234, 172]
abbrev dktX1_watcher_4 : List UInt8 := dkwX1_watcher_4 ++ []
def dkwX1_watcher_3 : List UInt8 := [180, 0, 228, 167, 0, 24, 42, 45, 182, 0, 209, 167, 0, 16, 42, 45, 182, 0, 231, 167, 0, 8, 42, 45]
abbrev dktX1_watcher_3 : List UInt8 := dkwX1_watcher_3 ++ dktX1_watcher_4
def dkwX1_watcher_2 : List UInt8 := [45, 180, 0, 221, 167, 0, 45, 45, 180, 0, 222, 167, 0, 38, 45, 180, 0, 225, 167, 0, 31, 45]
abbrev dktX1_watcher_2 : List UInt8 := dkwX1_watcher_2 ++ dktX1_watcher_3
def dkwX1_watcher_1 : List UInt8 := [170, 0, 0, 0, 0, 0, 83, 0, 0, 0, 0, 0, 0, 0, 5, 0, 0, 0, 39, 0, 0, 0, 46, 0, 0, 0, 53, 0, 0, 0, 60, 0, 0, 0, 67, 0, 0, 0, 75]
abbrev dktX1_watcher_1 : List UInt8 := dkwX1_watcher_1 ++ dktX1_watcher_2
def dkwX1_watcher_0 : List UInt8 := [42, 27, 182, 0, 217, 78, 28, 3, 16, 6, 184, 0, 111, 184, 0, 115, 28]
abbrev dktX1_watcher_0 : List UInt8 := dkwX1_watcher_0 ++ dktX1_watcher_1
theorem dksX1_watcher_0 : cX1_watcher.data.toList.drop 0 = dktX1_watcher_0 := by decide +kernel
theorem dksX1_watcher_1 : cX1_watcher.data.toList.drop 17 = dktX1_watcher_1 := dk_seg dksX1_watcher_0 17 rfl rfl
theorem dksX1_watcher_2 : cX1_watcher.data.toList.drop 56 = dktX1_watcher_2 := dk_seg dksX1_watcher_1 39 rfl rfl
theorem dksX1_watcher_3 : cX1_watcher.data.toList.drop 78 = dktX1_watcher_3 := dk_seg dksX1_watcher_2 22 rfl rfl
theorem dksX1_watcher_4 : cX1_watcher.data.toList.drop 102 = dktX1_watcher_4 := dk_seg dksX1_watcher_3 24 rfl rfl
theorem dX1_watcher_0 : decode cX1_watcher 0 = .ok (.aload_n 0, 1) := dk_42 (dk_at dksX1_watcher_0 0 rfl rfl)
theorem dX1_watcher_1 : decode cX1_watcher 1 = .ok (.iload_n 1, 1) := dk_27 (dk_at dksX1_watcher_0 1 rfl rfl)
theorem dX1_watcher_2 : decode cX1_watcher 2 = .ok (.invokevirtual 217, 3) := dk_182 0 217 (dk_at dksX1_watcher_0 2 rfl rfl)
theorem dX1_watcher_5 : decode cX1_watcher 5 = .ok (.astore_n 3, 1) := dk_78 (dk_at dksX1_watcher_0 5 rfl rfl)
theorem dX1_watcher_6 : decode cX1_watcher 6 = .ok (.iload_n 2, 1) := dk_28 (dk_at dksX1_watcher_0 6 rfl rfl)
theorem dX1_watcher_7 : decode cX1_watcher 7 = .ok (.iconst 0, 1) := dk_3 (dk_at dksX1_watcher_0 7 rfl rfl)
theorem dX1_watcher_8 : decode cX1_watcher 8 = .ok (.bipush 6, 2) := dk_16 6 (dk_at dksX1_watcher_0 8 rfl rfl)
theorem dX1_watcher_10 : decode cX1_watcher 10 = .ok (.invokestatic 111, 3) := dk_184 0 111 (dk_at dksX1_watcher_0 10 rfl rfl)
theorem dX1_watcher_13 : decode cX1_watcher 13 = .ok (.invokestatic 115, 3) := dk_184 0 115 (dk_at dksX1_watcher_0 13 rfl rfl)
theorem dX1_watcher_16 : decode cX1_watcher 16 = .ok (.iload_n 2, 1) := dk_28 (dk_at dksX1_watcher_0 16 rfl rfl)
theorem dX1_watcher_17 : decode cX1_watcher 17 = .ok (.tableswitch 83 0 5 #[39, 46, 53, 60, 67, 75], 39) := by decide +kernel
theorem dX1_watcher_56 : decode cX1_watcher 56 = .ok (.aload_n 3, 1) := dk_45 (dk_at dksX1_watcher_2 0 rfl rfl)
theorem dX1_watcher_57 : decode cX1_watcher 57 = .ok (.getfield 221, 3) := dk_180 0 221 (dk_at dksX1_watcher_2 1 rfl rfl)
theorem dX1_watcher_60 : decode cX1_watcher 60 = .ok (.goto 45, 3) := dk_167 0 45 (dk_at dksX1_watcher_2 4 rfl rfl)
theorem dX1_watcher_63 : decode cX1_watcher 63 = .ok (.aload_n 3, 1) := dk_45 (dk_at dksX1_watcher_2 7 rfl rfl)
theorem dX1_watcher_64 : decode cX1_watcher 64 = .ok (.getfield 222, 3) := dk_180 0 222 (dk_at dksX1_watcher_2 8 rfl rfl)
theorem dX1_watcher_67 : decode cX1_watcher 67 = .ok (.goto 38, 3) := dk_167 0 38 (dk_at dksX1_watcher_2 11 rfl rfl)
theorem dX1_watcher_70 : decode cX1_watcher 70 = .ok (.aload_n 3, 1) := dk_45 (dk_at dksX1_watcher_2 14 rfl rfl)
theorem dX1_watcher_71 : decode cX1_watcher 71 = .ok (.getfield 225, 3) := dk_180 0 225 (dk_at dksX1_watcher_2 15 rfl rfl)
theorem dX1_watcher_74 : decode cX1_watcher 74 = .ok (.goto 31, 3) := dk_167 0 31 (dk_at dksX1_watcher_2 18 rfl rfl)
theorem dX1_watcher_77 : decode cX1_watcher 77 = .ok (.aload_n 3, 1) := dk_45 (dk_at dksX1_watcher_2 21 rfl rfl)
theorem dX1_watcher_78 : decode cX1_watcher 78 = .ok (.getfield 228, 3) := dk_180 0 228 (dk_at dksX1_watcher_3 0 rfl rfl)
theorem dX1_watcher_81 : decode cX1_watcher 81 = .ok (.goto 24, 3) := dk_167 0 24 (dk_at dksX1_watcher_3 3 rfl rfl)
theorem dX1_watcher_84 : decode cX1_watcher 84 = .ok (.aload_n 0, 1) := dk_42 (dk_at dksX1_watcher_3 6 rfl rfl)
theorem dX1_watcher_85 : decode cX1_watcher 85 = .ok (.aload_n 3, 1) := dk_45 (dk_at dksX1_watcher_3 7 rfl rfl)
theorem dX1_watcher_86 : decode cX1_watcher 86 = .ok (.invokevirtual 209, 3) := dk_182 0 209 (dk_at dksX1_watcher_3 8 rfl rfl)
theorem dX1_watcher_89 : decode cX1_watcher 89 = .ok (.goto 16, 3) := dk_167 0 16 (dk_at dksX1_watcher_3 11 rfl rfl)
theorem dX1_watcher_92 : decode cX1_watcher 92 = .ok (.aload_n 0, 1) := dk_42 (dk_at dksX1_watcher_3 14 rfl rfl)
theorem dX1_watcher_93 : decode cX1_watcher 93 = .ok (.aload_n 3, 1) := dk_45 (dk_at dksX1_watcher_3 15 rfl rfl)
theorem dX1_watcher_94 : decode cX1_watcher 94 = .ok (.invokevirtual 231, 3) := dk_182 0 231 (dk_at dksX1_watcher_3 16 rfl rfl)
theorem dX1_watcher_97 : decode cX1_watcher 97 = .ok (.goto 8, 3) := dk_167 0 8 (dk_at dksX1_watcher_3 19 rfl rfl)
theorem dX1_watcher_100 : decode cX1_watcher 100 = .ok (.aload_n 0, 1) := dk_42 (dk_at dksX1_watcher_3 22 rfl rfl)
theorem dX1_watcher_101 : decode cX1_watcher 101 = .ok (.aload_n 3, 1) := dk_45 (dk_at dksX1_watcher_3 23 rfl rfl)
theorem dX1_watcher_102 : decode cX1_watcher 102 = .ok (.invokevirtual 234, 3) := dk_182 0 234 (dk_at dksX1_watcher_4 0 rfl rfl)
theorem dX1_watcher_105 : decode cX1_watcher 105 = .ok (.ireturn, 1) := dk_172 (dk_at dksX1_watcher_4 3 rfl rfl)
abbrev cX1_aWatcher : ByteArray := prog_1_method_14_code
def yX1_aWatcher : MethodName := ⟨RX1, "aWatcher", "(I)LMistCouriers$Watcher;"⟩
def dkwX1_aWatcher_1 : List UInt8 := [180, 0, 135, 27, 182, 0, 155, 192, 0, 203, 176]
abbrev dktX1_aWatcher_1 : List UInt8 := dkwX1_aWatcher_1 ++ []
def dkwX1_aWatcher_0 : List UInt8 := [27, 3, 42, 180, 0, 40, 180, 0, 135, 182, 0, 132, 4, 100, 184, 0, 111, 184, 0, 190, 42, 180, 0, 40]
abbrev dktX1_aWatcher_0 : List UInt8 := dkwX1_aWatcher_0 ++ dktX1_aWatcher_1
theorem dksX1_aWatcher_0 : cX1_aWatcher.data.toList.drop 0 = dktX1_aWatcher_0 := by decide +kernel
theorem dksX1_aWatcher_1 : cX1_aWatcher.data.toList.drop 24 = dktX1_aWatcher_1 := dk_seg dksX1_aWatcher_0 24 rfl rfl
theorem dX1_aWatcher_0 : decode cX1_aWatcher 0 = .ok (.iload_n 1, 1) := dk_27 (dk_at dksX1_aWatcher_0 0 rfl rfl)
theorem dX1_aWatcher_1 : decode cX1_aWatcher 1 = .ok (.iconst 0, 1) := dk_3 (dk_at dksX1_aWatcher_0 1 rfl rfl)
theorem dX1_aWatcher_2 : decode cX1_aWatcher 2 = .ok (.aload_n 0, 1) := dk_42 (dk_at dksX1_aWatcher_0 2 rfl rfl)
theorem dX1_aWatcher_3 : decode cX1_aWatcher 3 = .ok (.getfield 40, 3) := dk_180 0 40 (dk_at dksX1_aWatcher_0 3 rfl rfl)
theorem dX1_aWatcher_6 : decode cX1_aWatcher 6 = .ok (.getfield 135, 3) := dk_180 0 135 (dk_at dksX1_aWatcher_0 6 rfl rfl)
theorem dX1_aWatcher_9 : decode cX1_aWatcher 9 = .ok (.invokevirtual 132, 3) := dk_182 0 132 (dk_at dksX1_aWatcher_0 9 rfl rfl)
theorem dX1_aWatcher_12 : decode cX1_aWatcher 12 = .ok (.iconst 1, 1) := dk_4 (dk_at dksX1_aWatcher_0 12 rfl rfl)
theorem dX1_aWatcher_13 : decode cX1_aWatcher 13 = .ok (.isub, 1) := dk_100 (dk_at dksX1_aWatcher_0 13 rfl rfl)
theorem dX1_aWatcher_14 : decode cX1_aWatcher 14 = .ok (.invokestatic 111, 3) := dk_184 0 111 (dk_at dksX1_aWatcher_0 14 rfl rfl)
theorem dX1_aWatcher_17 : decode cX1_aWatcher 17 = .ok (.invokestatic 190, 3) := dk_184 0 190 (dk_at dksX1_aWatcher_0 17 rfl rfl)
theorem dX1_aWatcher_20 : decode cX1_aWatcher 20 = .ok (.aload_n 0, 1) := dk_42 (dk_at dksX1_aWatcher_0 20 rfl rfl)
theorem dX1_aWatcher_21 : decode cX1_aWatcher 21 = .ok (.getfield 40, 3) := dk_180 0 40 (dk_at dksX1_aWatcher_0 21 rfl rfl)
theorem dX1_aWatcher_24 : decode cX1_aWatcher 24 = .ok (.getfield 135, 3) := dk_180 0 135 (dk_at dksX1_aWatcher_1 0 rfl rfl)
theorem dX1_aWatcher_27 : decode cX1_aWatcher 27 = .ok (.iload_n 1, 1) := dk_27 (dk_at dksX1_aWatcher_1 3 rfl rfl)
theorem dX1_aWatcher_28 : decode cX1_aWatcher 28 = .ok (.invokevirtual 155, 3) := dk_182 0 155 (dk_at dksX1_aWatcher_1 4 rfl rfl)
theorem dX1_aWatcher_31 : decode cX1_aWatcher 31 = .ok (.checkcast 203, 3) := dk_192 0 203 (dk_at dksX1_aWatcher_1 7 rfl rfl)
theorem dX1_aWatcher_34 : decode cX1_aWatcher 34 = .ok (.areturn, 1) := dk_176 (dk_at dksX1_aWatcher_1 10 rfl rfl)
abbrev cX1_seenBy : ByteArray := prog_1_method_15_code
def yX1_seenBy : MethodName := ⟨RX1, "seenBy", "(LMistCouriers$Watcher;)I"⟩
def dkwX1_seenBy_1 : List UInt8 := [29, 182, 0, 205, 184, 0, 107, 96, 61, 132, 3, 1, 167, 255, 224, 28, 172]
abbrev dktX1_seenBy_1 : List UInt8 := dkwX1_seenBy_1 ++ []
def dkwX1_seenBy_0 : List UInt8 := [3, 61, 3, 62, 29, 42, 180, 0, 40, 180, 0, 99, 182, 0, 125, 162, 0, 24, 28, 42, 180, 0, 40, 43]
abbrev dktX1_seenBy_0 : List UInt8 := dkwX1_seenBy_0 ++ dktX1_seenBy_1
theorem dksX1_seenBy_0 : cX1_seenBy.data.toList.drop 0 = dktX1_seenBy_0 := by decide +kernel
theorem dksX1_seenBy_1 : cX1_seenBy.data.toList.drop 24 = dktX1_seenBy_1 := dk_seg dksX1_seenBy_0 24 rfl rfl
theorem dX1_seenBy_0 : decode cX1_seenBy 0 = .ok (.iconst 0, 1) := dk_3 (dk_at dksX1_seenBy_0 0 rfl rfl)
theorem dX1_seenBy_1 : decode cX1_seenBy 1 = .ok (.istore_n 2, 1) := dk_61 (dk_at dksX1_seenBy_0 1 rfl rfl)
theorem dX1_seenBy_2 : decode cX1_seenBy 2 = .ok (.iconst 0, 1) := dk_3 (dk_at dksX1_seenBy_0 2 rfl rfl)
theorem dX1_seenBy_3 : decode cX1_seenBy 3 = .ok (.istore_n 3, 1) := dk_62 (dk_at dksX1_seenBy_0 3 rfl rfl)
theorem dX1_seenBy_4 : decode cX1_seenBy 4 = .ok (.iload_n 3, 1) := dk_29 (dk_at dksX1_seenBy_0 4 rfl rfl)
theorem dX1_seenBy_5 : decode cX1_seenBy 5 = .ok (.aload_n 0, 1) := dk_42 (dk_at dksX1_seenBy_0 5 rfl rfl)
theorem dX1_seenBy_6 : decode cX1_seenBy 6 = .ok (.getfield 40, 3) := dk_180 0 40 (dk_at dksX1_seenBy_0 6 rfl rfl)
theorem dX1_seenBy_9 : decode cX1_seenBy 9 = .ok (.getfield 99, 3) := dk_180 0 99 (dk_at dksX1_seenBy_0 9 rfl rfl)
theorem dX1_seenBy_12 : decode cX1_seenBy 12 = .ok (.invokevirtual 125, 3) := dk_182 0 125 (dk_at dksX1_seenBy_0 12 rfl rfl)
theorem dX1_seenBy_15 : decode cX1_seenBy 15 = .ok (.if_icmp .ge 24, 3) := dk_162 0 24 (dk_at dksX1_seenBy_0 15 rfl rfl)
theorem dX1_seenBy_18 : decode cX1_seenBy 18 = .ok (.iload_n 2, 1) := dk_28 (dk_at dksX1_seenBy_0 18 rfl rfl)
theorem dX1_seenBy_19 : decode cX1_seenBy 19 = .ok (.aload_n 0, 1) := dk_42 (dk_at dksX1_seenBy_0 19 rfl rfl)
theorem dX1_seenBy_20 : decode cX1_seenBy 20 = .ok (.getfield 40, 3) := dk_180 0 40 (dk_at dksX1_seenBy_0 20 rfl rfl)
theorem dX1_seenBy_23 : decode cX1_seenBy 23 = .ok (.aload_n 1, 1) := dk_43 (dk_at dksX1_seenBy_0 23 rfl rfl)
theorem dX1_seenBy_24 : decode cX1_seenBy 24 = .ok (.iload_n 3, 1) := dk_29 (dk_at dksX1_seenBy_1 0 rfl rfl)
theorem dX1_seenBy_25 : decode cX1_seenBy 25 = .ok (.invokevirtual 205, 3) := dk_182 0 205 (dk_at dksX1_seenBy_1 1 rfl rfl)
theorem dX1_seenBy_28 : decode cX1_seenBy 28 = .ok (.invokestatic 107, 3) := dk_184 0 107 (dk_at dksX1_seenBy_1 4 rfl rfl)
theorem dX1_seenBy_31 : decode cX1_seenBy 31 = .ok (.iadd, 1) := dk_96 (dk_at dksX1_seenBy_1 7 rfl rfl)
theorem dX1_seenBy_32 : decode cX1_seenBy 32 = .ok (.istore_n 2, 1) := dk_61 (dk_at dksX1_seenBy_1 8 rfl rfl)
theorem dX1_seenBy_33 : decode cX1_seenBy 33 = .ok (.iinc 3 1, 3) := dk_132 3 1 (dk_at dksX1_seenBy_1 9 rfl rfl)
theorem dX1_seenBy_36 : decode cX1_seenBy 36 = .ok (.goto (-32), 3) := dk_167 255 224 (dk_at dksX1_seenBy_1 12 rfl rfl)
theorem dX1_seenBy_39 : decode cX1_seenBy 39 = .ok (.iload_n 2, 1) := dk_28 (dk_at dksX1_seenBy_1 15 rfl rfl)
theorem dX1_seenBy_40 : decode cX1_seenBy 40 = .ok (.ireturn, 1) := dk_172 (dk_at dksX1_seenBy_1 16 rfl rfl)
abbrev cX1_couriersBefore : ByteArray := prog_1_method_16_code
def yX1_couriersBefore : MethodName := ⟨RX1, "couriersBefore", "(LMistCouriers$Watcher;)I"⟩
def dkwX1_couriersBefore_2 : List UInt8 := [61, 132, 3, 1, 167, 255, 208, 28, 172]
abbrev dktX1_couriersBefore_2 : List UInt8 := dkwX1_couriersBefore_2 ++ []
def dkwX1_couriersBefore_1 : List UInt8 := [42, 180, 0, 40, 180, 0, 65, 29, 182, 0, 155, 192, 0, 68, 180, 0, 159, 182, 0, 205, 184, 0, 107, 96]
abbrev dktX1_couriersBefore_1 : List UInt8 := dkwX1_couriersBefore_1 ++ dktX1_couriersBefore_2
def dkwX1_couriersBefore_0 : List UInt8 := [3, 61, 3, 62, 29, 42, 180, 0, 40, 180, 0, 65, 182, 0, 132, 162, 0, 40, 28, 42, 180, 0, 40, 43]
abbrev dktX1_couriersBefore_0 : List UInt8 := dkwX1_couriersBefore_0 ++ dktX1_couriersBefore_1
theorem dksX1_couriersBefore_0 : cX1_couriersBefore.data.toList.drop 0 = dktX1_couriersBefore_0 := by decide +kernel
theorem dksX1_couriersBefore_1 : cX1_couriersBefore.data.toList.drop 24 = dktX1_couriersBefore_1 := dk_seg dksX1_couriersBefore_0 24 rfl rfl
theorem dksX1_couriersBefore_2 : cX1_couriersBefore.data.toList.drop 48 = dktX1_couriersBefore_2 := dk_seg dksX1_couriersBefore_1 24 rfl rfl
theorem dX1_couriersBefore_0 : decode cX1_couriersBefore 0 = .ok (.iconst 0, 1) := dk_3 (dk_at dksX1_couriersBefore_0 0 rfl rfl)
theorem dX1_couriersBefore_1 : decode cX1_couriersBefore 1 = .ok (.istore_n 2, 1) := dk_61 (dk_at dksX1_couriersBefore_0 1 rfl rfl)
theorem dX1_couriersBefore_2 : decode cX1_couriersBefore 2 = .ok (.iconst 0, 1) := dk_3 (dk_at dksX1_couriersBefore_0 2 rfl rfl)
theorem dX1_couriersBefore_3 : decode cX1_couriersBefore 3 = .ok (.istore_n 3, 1) := dk_62 (dk_at dksX1_couriersBefore_0 3 rfl rfl)
theorem dX1_couriersBefore_4 : decode cX1_couriersBefore 4 = .ok (.iload_n 3, 1) := dk_29 (dk_at dksX1_couriersBefore_0 4 rfl rfl)
theorem dX1_couriersBefore_5 : decode cX1_couriersBefore 5 = .ok (.aload_n 0, 1) := dk_42 (dk_at dksX1_couriersBefore_0 5 rfl rfl)
theorem dX1_couriersBefore_6 : decode cX1_couriersBefore 6 = .ok (.getfield 40, 3) := dk_180 0 40 (dk_at dksX1_couriersBefore_0 6 rfl rfl)
theorem dX1_couriersBefore_9 : decode cX1_couriersBefore 9 = .ok (.getfield 65, 3) := dk_180 0 65 (dk_at dksX1_couriersBefore_0 9 rfl rfl)
theorem dX1_couriersBefore_12 : decode cX1_couriersBefore 12 = .ok (.invokevirtual 132, 3) := dk_182 0 132 (dk_at dksX1_couriersBefore_0 12 rfl rfl)
theorem dX1_couriersBefore_15 : decode cX1_couriersBefore 15 = .ok (.if_icmp .ge 40, 3) := dk_162 0 40 (dk_at dksX1_couriersBefore_0 15 rfl rfl)
theorem dX1_couriersBefore_18 : decode cX1_couriersBefore 18 = .ok (.iload_n 2, 1) := dk_28 (dk_at dksX1_couriersBefore_0 18 rfl rfl)
theorem dX1_couriersBefore_19 : decode cX1_couriersBefore 19 = .ok (.aload_n 0, 1) := dk_42 (dk_at dksX1_couriersBefore_0 19 rfl rfl)
theorem dX1_couriersBefore_20 : decode cX1_couriersBefore 20 = .ok (.getfield 40, 3) := dk_180 0 40 (dk_at dksX1_couriersBefore_0 20 rfl rfl)
theorem dX1_couriersBefore_23 : decode cX1_couriersBefore 23 = .ok (.aload_n 1, 1) := dk_43 (dk_at dksX1_couriersBefore_0 23 rfl rfl)
theorem dX1_couriersBefore_24 : decode cX1_couriersBefore 24 = .ok (.aload_n 0, 1) := dk_42 (dk_at dksX1_couriersBefore_1 0 rfl rfl)
theorem dX1_couriersBefore_25 : decode cX1_couriersBefore 25 = .ok (.getfield 40, 3) := dk_180 0 40 (dk_at dksX1_couriersBefore_1 1 rfl rfl)
theorem dX1_couriersBefore_28 : decode cX1_couriersBefore 28 = .ok (.getfield 65, 3) := dk_180 0 65 (dk_at dksX1_couriersBefore_1 4 rfl rfl)
theorem dX1_couriersBefore_31 : decode cX1_couriersBefore 31 = .ok (.iload_n 3, 1) := dk_29 (dk_at dksX1_couriersBefore_1 7 rfl rfl)
theorem dX1_couriersBefore_32 : decode cX1_couriersBefore 32 = .ok (.invokevirtual 155, 3) := dk_182 0 155 (dk_at dksX1_couriersBefore_1 8 rfl rfl)
theorem dX1_couriersBefore_35 : decode cX1_couriersBefore 35 = .ok (.checkcast 68, 3) := dk_192 0 68 (dk_at dksX1_couriersBefore_1 11 rfl rfl)
theorem dX1_couriersBefore_38 : decode cX1_couriersBefore 38 = .ok (.getfield 159, 3) := dk_180 0 159 (dk_at dksX1_couriersBefore_1 14 rfl rfl)
theorem dX1_couriersBefore_41 : decode cX1_couriersBefore 41 = .ok (.invokevirtual 205, 3) := dk_182 0 205 (dk_at dksX1_couriersBefore_1 17 rfl rfl)
theorem dX1_couriersBefore_44 : decode cX1_couriersBefore 44 = .ok (.invokestatic 107, 3) := dk_184 0 107 (dk_at dksX1_couriersBefore_1 20 rfl rfl)
theorem dX1_couriersBefore_47 : decode cX1_couriersBefore 47 = .ok (.iadd, 1) := dk_96 (dk_at dksX1_couriersBefore_1 23 rfl rfl)
theorem dX1_couriersBefore_48 : decode cX1_couriersBefore 48 = .ok (.istore_n 2, 1) := dk_61 (dk_at dksX1_couriersBefore_2 0 rfl rfl)
theorem dX1_couriersBefore_49 : decode cX1_couriersBefore 49 = .ok (.iinc 3 1, 3) := dk_132 3 1 (dk_at dksX1_couriersBefore_2 1 rfl rfl)
theorem dX1_couriersBefore_52 : decode cX1_couriersBefore 52 = .ok (.goto (-48), 3) := dk_167 255 208 (dk_at dksX1_couriersBefore_2 4 rfl rfl)
theorem dX1_couriersBefore_55 : decode cX1_couriersBefore 55 = .ok (.iload_n 2, 1) := dk_28 (dk_at dksX1_couriersBefore_2 7 rfl rfl)
theorem dX1_couriersBefore_56 : decode cX1_couriersBefore 56 = .ok (.ireturn, 1) := dk_172 (dk_at dksX1_couriersBefore_2 8 rfl rfl)
abbrev cX1_farthest : ByteArray := prog_1_method_17_code
def yX1_farthest : MethodName := ⟨RX1, "farthest", "(LMistCouriers$Watcher;)I"⟩
def dkwX1_farthest_0 : List UInt8 := [42, 180, 0, 40, 43, 42, 43, 182, 0, 209, 4, 100, 182, 0, 213, 172]
abbrev dktX1_farthest_0 : List UInt8 := dkwX1_farthest_0 ++ []
theorem dksX1_farthest_0 : cX1_farthest.data.toList.drop 0 = dktX1_farthest_0 := by decide +kernel
theorem dX1_farthest_0 : decode cX1_farthest 0 = .ok (.aload_n 0, 1) := dk_42 (dk_at dksX1_farthest_0 0 rfl rfl)
theorem dX1_farthest_1 : decode cX1_farthest 1 = .ok (.getfield 40, 3) := dk_180 0 40 (dk_at dksX1_farthest_0 1 rfl rfl)
theorem dX1_farthest_4 : decode cX1_farthest 4 = .ok (.aload_n 1, 1) := dk_43 (dk_at dksX1_farthest_0 4 rfl rfl)
theorem dX1_farthest_5 : decode cX1_farthest 5 = .ok (.aload_n 0, 1) := dk_42 (dk_at dksX1_farthest_0 5 rfl rfl)
theorem dX1_farthest_6 : decode cX1_farthest 6 = .ok (.aload_n 1, 1) := dk_43 (dk_at dksX1_farthest_0 6 rfl rfl)
theorem dX1_farthest_7 : decode cX1_farthest 7 = .ok (.invokevirtual 209, 3) := dk_182 0 209 (dk_at dksX1_farthest_0 7 rfl rfl)
theorem dX1_farthest_10 : decode cX1_farthest 10 = .ok (.iconst 1, 1) := dk_4 (dk_at dksX1_farthest_0 10 rfl rfl)
theorem dX1_farthest_11 : decode cX1_farthest 11 = .ok (.isub, 1) := dk_100 (dk_at dksX1_farthest_0 11 rfl rfl)
theorem dX1_farthest_12 : decode cX1_farthest 12 = .ok (.invokevirtual 213, 3) := dk_182 0 213 (dk_at dksX1_farthest_0 12 rfl rfl)
theorem dX1_farthest_15 : decode cX1_farthest 15 = .ok (.ireturn, 1) := dk_172 (dk_at dksX1_farthest_0 15 rfl rfl)
abbrev cX1_courier : ByteArray := prog_1_method_19_code
def yX1_courier : MethodName := ⟨RX1, "courier", "(II)I"⟩
def dkwX1_courier_5 : List UInt8 := [172]
abbrev dktX1_courier_5 : List UInt8 := dkwX1_courier_5 ++ []
def dkwX1_courier_4 : List UInt8 := [184, 0, 107, 167, 0, 21, 45, 180, 0, 254, 167, 0, 14, 45, 180, 1, 1, 167, 0, 7, 45, 180, 1, 4]
abbrev dktX1_courier_4 : List UInt8 := dkwX1_courier_4 ++ dktX1_courier_5
def dkwX1_courier_3 : List UInt8 := [167, 0, 48, 45, 180, 0, 247, 184, 0, 107, 167, 0, 38, 42, 180, 0, 40, 45, 180, 0, 159, 182, 0, 251]
abbrev dktX1_courier_3 : List UInt8 := dkwX1_courier_3 ++ dktX1_courier_4
def dkwX1_courier_2 : List UInt8 := [45, 180, 0, 159, 167, 0, 66, 45, 180, 0, 241, 167, 0, 59, 42, 180, 0, 40, 27, 182, 0, 244]
abbrev dktX1_courier_2 : List UInt8 := dkwX1_courier_2 ++ dktX1_courier_3
def dkwX1_courier_1 : List UInt8 := [170, 0, 0, 0, 0, 0, 0, 110, 0, 0, 0, 0, 0, 0, 0, 6, 0, 0, 0, 44, 0, 0, 0, 51, 0, 0, 0, 58, 0, 0, 0, 69, 0, 0, 0, 79, 0, 0, 0, 96, 0, 0, 0, 103]
abbrev dktX1_courier_1 : List UInt8 := dkwX1_courier_1 ++ dktX1_courier_2
def dkwX1_courier_0 : List UInt8 := [42, 180, 0, 40, 27, 182, 0, 237, 78, 28, 3, 16, 7, 184, 0, 111, 184, 0, 115, 28]
abbrev dktX1_courier_0 : List UInt8 := dkwX1_courier_0 ++ dktX1_courier_1
theorem dksX1_courier_0 : cX1_courier.data.toList.drop 0 = dktX1_courier_0 := by decide +kernel
theorem dksX1_courier_1 : cX1_courier.data.toList.drop 20 = dktX1_courier_1 := dk_seg dksX1_courier_0 20 rfl rfl
theorem dksX1_courier_2 : cX1_courier.data.toList.drop 64 = dktX1_courier_2 := dk_seg dksX1_courier_1 44 rfl rfl
theorem dksX1_courier_3 : cX1_courier.data.toList.drop 86 = dktX1_courier_3 := dk_seg dksX1_courier_2 22 rfl rfl
theorem dksX1_courier_4 : cX1_courier.data.toList.drop 110 = dktX1_courier_4 := dk_seg dksX1_courier_3 24 rfl rfl
theorem dksX1_courier_5 : cX1_courier.data.toList.drop 134 = dktX1_courier_5 := dk_seg dksX1_courier_4 24 rfl rfl
theorem dX1_courier_0 : decode cX1_courier 0 = .ok (.aload_n 0, 1) := dk_42 (dk_at dksX1_courier_0 0 rfl rfl)
theorem dX1_courier_1 : decode cX1_courier 1 = .ok (.getfield 40, 3) := dk_180 0 40 (dk_at dksX1_courier_0 1 rfl rfl)
theorem dX1_courier_4 : decode cX1_courier 4 = .ok (.iload_n 1, 1) := dk_27 (dk_at dksX1_courier_0 4 rfl rfl)
theorem dX1_courier_5 : decode cX1_courier 5 = .ok (.invokevirtual 237, 3) := dk_182 0 237 (dk_at dksX1_courier_0 5 rfl rfl)
theorem dX1_courier_8 : decode cX1_courier 8 = .ok (.astore_n 3, 1) := dk_78 (dk_at dksX1_courier_0 8 rfl rfl)
theorem dX1_courier_9 : decode cX1_courier 9 = .ok (.iload_n 2, 1) := dk_28 (dk_at dksX1_courier_0 9 rfl rfl)
theorem dX1_courier_10 : decode cX1_courier 10 = .ok (.iconst 0, 1) := dk_3 (dk_at dksX1_courier_0 10 rfl rfl)
theorem dX1_courier_11 : decode cX1_courier 11 = .ok (.bipush 7, 2) := dk_16 7 (dk_at dksX1_courier_0 11 rfl rfl)
theorem dX1_courier_13 : decode cX1_courier 13 = .ok (.invokestatic 111, 3) := dk_184 0 111 (dk_at dksX1_courier_0 13 rfl rfl)
theorem dX1_courier_16 : decode cX1_courier 16 = .ok (.invokestatic 115, 3) := dk_184 0 115 (dk_at dksX1_courier_0 16 rfl rfl)
theorem dX1_courier_19 : decode cX1_courier 19 = .ok (.iload_n 2, 1) := dk_28 (dk_at dksX1_courier_0 19 rfl rfl)
theorem dX1_courier_20 : decode cX1_courier 20 = .ok (.tableswitch 110 0 6 #[44, 51, 58, 69, 79, 96, 103], 44) := by decide +kernel
theorem dX1_courier_64 : decode cX1_courier 64 = .ok (.aload_n 3, 1) := dk_45 (dk_at dksX1_courier_2 0 rfl rfl)
theorem dX1_courier_65 : decode cX1_courier 65 = .ok (.getfield 159, 3) := dk_180 0 159 (dk_at dksX1_courier_2 1 rfl rfl)
theorem dX1_courier_68 : decode cX1_courier 68 = .ok (.goto 66, 3) := dk_167 0 66 (dk_at dksX1_courier_2 4 rfl rfl)
theorem dX1_courier_71 : decode cX1_courier 71 = .ok (.aload_n 3, 1) := dk_45 (dk_at dksX1_courier_2 7 rfl rfl)
theorem dX1_courier_72 : decode cX1_courier 72 = .ok (.getfield 241, 3) := dk_180 0 241 (dk_at dksX1_courier_2 8 rfl rfl)
theorem dX1_courier_75 : decode cX1_courier 75 = .ok (.goto 59, 3) := dk_167 0 59 (dk_at dksX1_courier_2 11 rfl rfl)
theorem dX1_courier_78 : decode cX1_courier 78 = .ok (.aload_n 0, 1) := dk_42 (dk_at dksX1_courier_2 14 rfl rfl)
theorem dX1_courier_79 : decode cX1_courier 79 = .ok (.getfield 40, 3) := dk_180 0 40 (dk_at dksX1_courier_2 15 rfl rfl)
theorem dX1_courier_82 : decode cX1_courier 82 = .ok (.iload_n 1, 1) := dk_27 (dk_at dksX1_courier_2 18 rfl rfl)
theorem dX1_courier_83 : decode cX1_courier 83 = .ok (.invokevirtual 244, 3) := dk_182 0 244 (dk_at dksX1_courier_2 19 rfl rfl)
theorem dX1_courier_86 : decode cX1_courier 86 = .ok (.goto 48, 3) := dk_167 0 48 (dk_at dksX1_courier_3 0 rfl rfl)
theorem dX1_courier_89 : decode cX1_courier 89 = .ok (.aload_n 3, 1) := dk_45 (dk_at dksX1_courier_3 3 rfl rfl)
theorem dX1_courier_90 : decode cX1_courier 90 = .ok (.getfield 247, 3) := dk_180 0 247 (dk_at dksX1_courier_3 4 rfl rfl)
theorem dX1_courier_93 : decode cX1_courier 93 = .ok (.invokestatic 107, 3) := dk_184 0 107 (dk_at dksX1_courier_3 7 rfl rfl)
theorem dX1_courier_96 : decode cX1_courier 96 = .ok (.goto 38, 3) := dk_167 0 38 (dk_at dksX1_courier_3 10 rfl rfl)
theorem dX1_courier_99 : decode cX1_courier 99 = .ok (.aload_n 0, 1) := dk_42 (dk_at dksX1_courier_3 13 rfl rfl)
theorem dX1_courier_100 : decode cX1_courier 100 = .ok (.getfield 40, 3) := dk_180 0 40 (dk_at dksX1_courier_3 14 rfl rfl)
theorem dX1_courier_103 : decode cX1_courier 103 = .ok (.aload_n 3, 1) := dk_45 (dk_at dksX1_courier_3 17 rfl rfl)
theorem dX1_courier_104 : decode cX1_courier 104 = .ok (.getfield 159, 3) := dk_180 0 159 (dk_at dksX1_courier_3 18 rfl rfl)
theorem dX1_courier_107 : decode cX1_courier 107 = .ok (.invokevirtual 251, 3) := dk_182 0 251 (dk_at dksX1_courier_3 21 rfl rfl)
theorem dX1_courier_110 : decode cX1_courier 110 = .ok (.invokestatic 107, 3) := dk_184 0 107 (dk_at dksX1_courier_4 0 rfl rfl)
theorem dX1_courier_113 : decode cX1_courier 113 = .ok (.goto 21, 3) := dk_167 0 21 (dk_at dksX1_courier_4 3 rfl rfl)
theorem dX1_courier_116 : decode cX1_courier 116 = .ok (.aload_n 3, 1) := dk_45 (dk_at dksX1_courier_4 6 rfl rfl)
theorem dX1_courier_117 : decode cX1_courier 117 = .ok (.getfield 254, 3) := dk_180 0 254 (dk_at dksX1_courier_4 7 rfl rfl)
theorem dX1_courier_120 : decode cX1_courier 120 = .ok (.goto 14, 3) := dk_167 0 14 (dk_at dksX1_courier_4 10 rfl rfl)
theorem dX1_courier_123 : decode cX1_courier 123 = .ok (.aload_n 3, 1) := dk_45 (dk_at dksX1_courier_4 13 rfl rfl)
theorem dX1_courier_124 : decode cX1_courier 124 = .ok (.getfield 257, 3) := dk_180 1 1 (dk_at dksX1_courier_4 14 rfl rfl)
theorem dX1_courier_127 : decode cX1_courier 127 = .ok (.goto 7, 3) := dk_167 0 7 (dk_at dksX1_courier_4 17 rfl rfl)
theorem dX1_courier_130 : decode cX1_courier 130 = .ok (.aload_n 3, 1) := dk_45 (dk_at dksX1_courier_4 20 rfl rfl)
theorem dX1_courier_131 : decode cX1_courier 131 = .ok (.getfield 260, 3) := dk_180 1 4 (dk_at dksX1_courier_4 21 rfl rfl)
theorem dX1_courier_134 : decode cX1_courier 134 = .ok (.ireturn, 1) := dk_172 (dk_at dksX1_courier_5 0 rfl rfl)
abbrev cX1_letter : ByteArray := prog_1_method_21_code
def yX1_letter : MethodName := ⟨RX1, "letter", "(II)I"⟩
def dkwX1_letter_3 : List UInt8 := [182, 1, 20, 167, 0, 14, 45, 180, 1, 10, 167, 0, 7, 45, 180, 1, 24, 172]
abbrev dktX1_letter_3 : List UInt8 := dkwX1_letter_3 ++ []
def dkwX1_letter_2 : List UInt8 := [45, 180, 1, 17, 167, 0, 36, 45, 180, 0, 166, 167, 0, 29, 45, 180, 0, 169, 167, 0, 22, 42, 45]
abbrev dktX1_letter_2 : List UInt8 := dkwX1_letter_2 ++ dktX1_letter_3
def dkwX1_letter_1 : List UInt8 := [170, 0, 0, 0, 69, 0, 0, 0, 0, 0, 0, 0, 4, 0, 0, 0, 33, 0, 0, 0, 40, 0, 0, 0, 47, 0, 0, 0, 54, 0, 0, 0, 62]
abbrev dktX1_letter_1 : List UInt8 := dkwX1_letter_1 ++ dktX1_letter_2
def dkwX1_letter_0 : List UInt8 := [42, 180, 0, 40, 27, 182, 1, 13, 78, 28, 3, 8, 184, 0, 111, 184, 0, 115, 28]
abbrev dktX1_letter_0 : List UInt8 := dkwX1_letter_0 ++ dktX1_letter_1
theorem dksX1_letter_0 : cX1_letter.data.toList.drop 0 = dktX1_letter_0 := by decide +kernel
theorem dksX1_letter_1 : cX1_letter.data.toList.drop 19 = dktX1_letter_1 := dk_seg dksX1_letter_0 19 rfl rfl
theorem dksX1_letter_2 : cX1_letter.data.toList.drop 52 = dktX1_letter_2 := dk_seg dksX1_letter_1 33 rfl rfl
theorem dksX1_letter_3 : cX1_letter.data.toList.drop 75 = dktX1_letter_3 := dk_seg dksX1_letter_2 23 rfl rfl
theorem dX1_letter_0 : decode cX1_letter 0 = .ok (.aload_n 0, 1) := dk_42 (dk_at dksX1_letter_0 0 rfl rfl)
theorem dX1_letter_1 : decode cX1_letter 1 = .ok (.getfield 40, 3) := dk_180 0 40 (dk_at dksX1_letter_0 1 rfl rfl)
theorem dX1_letter_4 : decode cX1_letter 4 = .ok (.iload_n 1, 1) := dk_27 (dk_at dksX1_letter_0 4 rfl rfl)
theorem dX1_letter_5 : decode cX1_letter 5 = .ok (.invokevirtual 269, 3) := dk_182 1 13 (dk_at dksX1_letter_0 5 rfl rfl)
theorem dX1_letter_8 : decode cX1_letter 8 = .ok (.astore_n 3, 1) := dk_78 (dk_at dksX1_letter_0 8 rfl rfl)
theorem dX1_letter_9 : decode cX1_letter 9 = .ok (.iload_n 2, 1) := dk_28 (dk_at dksX1_letter_0 9 rfl rfl)
theorem dX1_letter_10 : decode cX1_letter 10 = .ok (.iconst 0, 1) := dk_3 (dk_at dksX1_letter_0 10 rfl rfl)
theorem dX1_letter_11 : decode cX1_letter 11 = .ok (.iconst 5, 1) := dk_8 (dk_at dksX1_letter_0 11 rfl rfl)
theorem dX1_letter_12 : decode cX1_letter 12 = .ok (.invokestatic 111, 3) := dk_184 0 111 (dk_at dksX1_letter_0 12 rfl rfl)
theorem dX1_letter_15 : decode cX1_letter 15 = .ok (.invokestatic 115, 3) := dk_184 0 115 (dk_at dksX1_letter_0 15 rfl rfl)
theorem dX1_letter_18 : decode cX1_letter 18 = .ok (.iload_n 2, 1) := dk_28 (dk_at dksX1_letter_0 18 rfl rfl)
theorem dX1_letter_19 : decode cX1_letter 19 = .ok (.tableswitch 69 0 4 #[33, 40, 47, 54, 62], 33) := by decide +kernel
theorem dX1_letter_52 : decode cX1_letter 52 = .ok (.aload_n 3, 1) := dk_45 (dk_at dksX1_letter_2 0 rfl rfl)
theorem dX1_letter_53 : decode cX1_letter 53 = .ok (.getfield 273, 3) := dk_180 1 17 (dk_at dksX1_letter_2 1 rfl rfl)
theorem dX1_letter_56 : decode cX1_letter 56 = .ok (.goto 36, 3) := dk_167 0 36 (dk_at dksX1_letter_2 4 rfl rfl)
theorem dX1_letter_59 : decode cX1_letter 59 = .ok (.aload_n 3, 1) := dk_45 (dk_at dksX1_letter_2 7 rfl rfl)
theorem dX1_letter_60 : decode cX1_letter 60 = .ok (.getfield 166, 3) := dk_180 0 166 (dk_at dksX1_letter_2 8 rfl rfl)
theorem dX1_letter_63 : decode cX1_letter 63 = .ok (.goto 29, 3) := dk_167 0 29 (dk_at dksX1_letter_2 11 rfl rfl)
theorem dX1_letter_66 : decode cX1_letter 66 = .ok (.aload_n 3, 1) := dk_45 (dk_at dksX1_letter_2 14 rfl rfl)
theorem dX1_letter_67 : decode cX1_letter 67 = .ok (.getfield 169, 3) := dk_180 0 169 (dk_at dksX1_letter_2 15 rfl rfl)
theorem dX1_letter_70 : decode cX1_letter 70 = .ok (.goto 22, 3) := dk_167 0 22 (dk_at dksX1_letter_2 18 rfl rfl)
theorem dX1_letter_73 : decode cX1_letter 73 = .ok (.aload_n 0, 1) := dk_42 (dk_at dksX1_letter_2 21 rfl rfl)
theorem dX1_letter_74 : decode cX1_letter 74 = .ok (.aload_n 3, 1) := dk_45 (dk_at dksX1_letter_2 22 rfl rfl)
theorem dX1_letter_75 : decode cX1_letter 75 = .ok (.invokevirtual 276, 3) := dk_182 1 20 (dk_at dksX1_letter_3 0 rfl rfl)
theorem dX1_letter_78 : decode cX1_letter 78 = .ok (.goto 14, 3) := dk_167 0 14 (dk_at dksX1_letter_3 3 rfl rfl)
theorem dX1_letter_81 : decode cX1_letter 81 = .ok (.aload_n 3, 1) := dk_45 (dk_at dksX1_letter_3 6 rfl rfl)
theorem dX1_letter_82 : decode cX1_letter 82 = .ok (.getfield 266, 3) := dk_180 1 10 (dk_at dksX1_letter_3 7 rfl rfl)
theorem dX1_letter_85 : decode cX1_letter 85 = .ok (.goto 7, 3) := dk_167 0 7 (dk_at dksX1_letter_3 10 rfl rfl)
theorem dX1_letter_88 : decode cX1_letter 88 = .ok (.aload_n 3, 1) := dk_45 (dk_at dksX1_letter_3 13 rfl rfl)
theorem dX1_letter_89 : decode cX1_letter 89 = .ok (.getfield 280, 3) := dk_180 1 24 (dk_at dksX1_letter_3 14 rfl rfl)
theorem dX1_letter_92 : decode cX1_letter 92 = .ok (.ireturn, 1) := dk_172 (dk_at dksX1_letter_3 17 rfl rfl)
abbrev cX1_placeOf : ByteArray := prog_1_method_20_code
def yX1_placeOf : MethodName := ⟨RX1, "placeOf", "(LMistCouriers$Letter;)I"⟩
def dkwX1_placeOf_1 : List UInt8 := [180, 0, 40, 180, 0, 65, 43, 180, 1, 10, 182, 0, 155, 192, 0, 68, 180, 0, 159, 167, 0, 4, 2, 172]
abbrev dktX1_placeOf_1 : List UInt8 := dkwX1_placeOf_1 ++ []
def dkwX1_placeOf_0 : List UInt8 := [43, 180, 0, 169, 154, 0, 10, 43, 180, 1, 7, 167, 0, 35, 43, 180, 0, 169, 4, 160, 0, 26, 42]
abbrev dktX1_placeOf_0 : List UInt8 := dkwX1_placeOf_0 ++ dktX1_placeOf_1
theorem dksX1_placeOf_0 : cX1_placeOf.data.toList.drop 0 = dktX1_placeOf_0 := by decide +kernel
theorem dksX1_placeOf_1 : cX1_placeOf.data.toList.drop 23 = dktX1_placeOf_1 := dk_seg dksX1_placeOf_0 23 rfl rfl
theorem dX1_placeOf_0 : decode cX1_placeOf 0 = .ok (.aload_n 1, 1) := dk_43 (dk_at dksX1_placeOf_0 0 rfl rfl)
theorem dX1_placeOf_1 : decode cX1_placeOf 1 = .ok (.getfield 169, 3) := dk_180 0 169 (dk_at dksX1_placeOf_0 1 rfl rfl)
theorem dX1_placeOf_4 : decode cX1_placeOf 4 = .ok (.ifCond .ne 10, 3) := dk_154 0 10 (dk_at dksX1_placeOf_0 4 rfl rfl)
theorem dX1_placeOf_7 : decode cX1_placeOf 7 = .ok (.aload_n 1, 1) := dk_43 (dk_at dksX1_placeOf_0 7 rfl rfl)
theorem dX1_placeOf_8 : decode cX1_placeOf 8 = .ok (.getfield 263, 3) := dk_180 1 7 (dk_at dksX1_placeOf_0 8 rfl rfl)
theorem dX1_placeOf_11 : decode cX1_placeOf 11 = .ok (.goto 35, 3) := dk_167 0 35 (dk_at dksX1_placeOf_0 11 rfl rfl)
theorem dX1_placeOf_14 : decode cX1_placeOf 14 = .ok (.aload_n 1, 1) := dk_43 (dk_at dksX1_placeOf_0 14 rfl rfl)
theorem dX1_placeOf_15 : decode cX1_placeOf 15 = .ok (.getfield 169, 3) := dk_180 0 169 (dk_at dksX1_placeOf_0 15 rfl rfl)
theorem dX1_placeOf_18 : decode cX1_placeOf 18 = .ok (.iconst 1, 1) := dk_4 (dk_at dksX1_placeOf_0 18 rfl rfl)
theorem dX1_placeOf_19 : decode cX1_placeOf 19 = .ok (.if_icmp .ne 26, 3) := dk_160 0 26 (dk_at dksX1_placeOf_0 19 rfl rfl)
theorem dX1_placeOf_22 : decode cX1_placeOf 22 = .ok (.aload_n 0, 1) := dk_42 (dk_at dksX1_placeOf_0 22 rfl rfl)
theorem dX1_placeOf_23 : decode cX1_placeOf 23 = .ok (.getfield 40, 3) := dk_180 0 40 (dk_at dksX1_placeOf_1 0 rfl rfl)
theorem dX1_placeOf_26 : decode cX1_placeOf 26 = .ok (.getfield 65, 3) := dk_180 0 65 (dk_at dksX1_placeOf_1 3 rfl rfl)
theorem dX1_placeOf_29 : decode cX1_placeOf 29 = .ok (.aload_n 1, 1) := dk_43 (dk_at dksX1_placeOf_1 6 rfl rfl)
theorem dX1_placeOf_30 : decode cX1_placeOf 30 = .ok (.getfield 266, 3) := dk_180 1 10 (dk_at dksX1_placeOf_1 7 rfl rfl)
theorem dX1_placeOf_33 : decode cX1_placeOf 33 = .ok (.invokevirtual 155, 3) := dk_182 0 155 (dk_at dksX1_placeOf_1 10 rfl rfl)
theorem dX1_placeOf_36 : decode cX1_placeOf 36 = .ok (.checkcast 68, 3) := dk_192 0 68 (dk_at dksX1_placeOf_1 13 rfl rfl)
theorem dX1_placeOf_39 : decode cX1_placeOf 39 = .ok (.getfield 159, 3) := dk_180 0 159 (dk_at dksX1_placeOf_1 16 rfl rfl)
theorem dX1_placeOf_42 : decode cX1_placeOf 42 = .ok (.goto 4, 3) := dk_167 0 4 (dk_at dksX1_placeOf_1 19 rfl rfl)
theorem dX1_placeOf_45 : decode cX1_placeOf 45 = .ok (.iconst (-1), 1) := dk_2 (dk_at dksX1_placeOf_1 22 rfl rfl)
theorem dX1_placeOf_46 : decode cX1_placeOf 46 = .ok (.ireturn, 1) := dk_172 (dk_at dksX1_placeOf_1 23 rfl rfl)
abbrev cX1_gaze : ByteArray := prog_1_method_22_code
def yX1_gaze : MethodName := ⟨RX1, "gaze", "(II)I"⟩
def dkwX1_gaze_1 : List UInt8 := [184, 1, 27, 182, 0, 213, 172]
abbrev dktX1_gaze_1 : List UInt8 := dkwX1_gaze_1 ++ []
def dkwX1_gaze_0 : List UInt8 := [42, 27, 182, 0, 217, 78, 28, 156, 0, 7, 2, 167, 0, 17, 42, 180, 0, 40, 45, 28, 16, 10]
abbrev dktX1_gaze_0 : List UInt8 := dkwX1_gaze_0 ++ dktX1_gaze_1
theorem dksX1_gaze_0 : cX1_gaze.data.toList.drop 0 = dktX1_gaze_0 := by decide +kernel
theorem dksX1_gaze_1 : cX1_gaze.data.toList.drop 22 = dktX1_gaze_1 := dk_seg dksX1_gaze_0 22 rfl rfl
theorem dX1_gaze_0 : decode cX1_gaze 0 = .ok (.aload_n 0, 1) := dk_42 (dk_at dksX1_gaze_0 0 rfl rfl)
theorem dX1_gaze_1 : decode cX1_gaze 1 = .ok (.iload_n 1, 1) := dk_27 (dk_at dksX1_gaze_0 1 rfl rfl)
theorem dX1_gaze_2 : decode cX1_gaze 2 = .ok (.invokevirtual 217, 3) := dk_182 0 217 (dk_at dksX1_gaze_0 2 rfl rfl)
theorem dX1_gaze_5 : decode cX1_gaze 5 = .ok (.astore_n 3, 1) := dk_78 (dk_at dksX1_gaze_0 5 rfl rfl)
theorem dX1_gaze_6 : decode cX1_gaze 6 = .ok (.iload_n 2, 1) := dk_28 (dk_at dksX1_gaze_0 6 rfl rfl)
theorem dX1_gaze_7 : decode cX1_gaze 7 = .ok (.ifCond .ge 7, 3) := dk_156 0 7 (dk_at dksX1_gaze_0 7 rfl rfl)
theorem dX1_gaze_10 : decode cX1_gaze 10 = .ok (.iconst (-1), 1) := dk_2 (dk_at dksX1_gaze_0 10 rfl rfl)
theorem dX1_gaze_11 : decode cX1_gaze 11 = .ok (.goto 17, 3) := dk_167 0 17 (dk_at dksX1_gaze_0 11 rfl rfl)
theorem dX1_gaze_14 : decode cX1_gaze 14 = .ok (.aload_n 0, 1) := dk_42 (dk_at dksX1_gaze_0 14 rfl rfl)
theorem dX1_gaze_15 : decode cX1_gaze 15 = .ok (.getfield 40, 3) := dk_180 0 40 (dk_at dksX1_gaze_0 15 rfl rfl)
theorem dX1_gaze_18 : decode cX1_gaze 18 = .ok (.aload_n 3, 1) := dk_45 (dk_at dksX1_gaze_0 18 rfl rfl)
theorem dX1_gaze_19 : decode cX1_gaze 19 = .ok (.iload_n 2, 1) := dk_28 (dk_at dksX1_gaze_0 19 rfl rfl)
theorem dX1_gaze_20 : decode cX1_gaze 20 = .ok (.bipush 10, 2) := dk_16 10 (dk_at dksX1_gaze_0 20 rfl rfl)
theorem dX1_gaze_22 : decode cX1_gaze 22 = .ok (.invokestatic 283, 3) := dk_184 1 27 (dk_at dksX1_gaze_1 0 rfl rfl)
theorem dX1_gaze_25 : decode cX1_gaze 25 = .ok (.invokevirtual 213, 3) := dk_182 0 213 (dk_at dksX1_gaze_1 3 rfl rfl)
theorem dX1_gaze_28 : decode cX1_gaze 28 = .ok (.ireturn, 1) := dk_172 (dk_at dksX1_gaze_1 6 rfl rfl)
abbrev cX1_why : ByteArray := prog_1_method_27_code
def yX1_why : MethodName := ⟨RX1, "why", "(II)I"⟩
def dkwX1_why_2 : List UInt8 := [182, 1, 49, 172]
abbrev dktX1_why_2 : List UInt8 := dkwX1_why_2 ++ []
def dkwX1_why_1 : List UInt8 := [154, 0, 7, 29, 167, 0, 23, 28, 4, 160, 0, 12, 42, 27, 29, 182, 1, 46, 167, 0, 9, 42, 27, 29]
abbrev dktX1_why_1 : List UInt8 := dkwX1_why_1 ++ dktX1_why_2
def dkwX1_why_0 : List UInt8 := [42, 180, 0, 40, 27, 182, 0, 172, 28, 3, 5, 184, 0, 111, 184, 0, 115, 42, 27, 182, 1, 43, 62, 28]
abbrev dktX1_why_0 : List UInt8 := dkwX1_why_0 ++ dktX1_why_1
theorem dksX1_why_0 : cX1_why.data.toList.drop 0 = dktX1_why_0 := by decide +kernel
theorem dksX1_why_1 : cX1_why.data.toList.drop 24 = dktX1_why_1 := dk_seg dksX1_why_0 24 rfl rfl
theorem dksX1_why_2 : cX1_why.data.toList.drop 48 = dktX1_why_2 := dk_seg dksX1_why_1 24 rfl rfl
theorem dX1_why_0 : decode cX1_why 0 = .ok (.aload_n 0, 1) := dk_42 (dk_at dksX1_why_0 0 rfl rfl)
theorem dX1_why_1 : decode cX1_why 1 = .ok (.getfield 40, 3) := dk_180 0 40 (dk_at dksX1_why_0 1 rfl rfl)
theorem dX1_why_4 : decode cX1_why 4 = .ok (.iload_n 1, 1) := dk_27 (dk_at dksX1_why_0 4 rfl rfl)
theorem dX1_why_5 : decode cX1_why 5 = .ok (.invokevirtual 172, 3) := dk_182 0 172 (dk_at dksX1_why_0 5 rfl rfl)
theorem dX1_why_8 : decode cX1_why 8 = .ok (.iload_n 2, 1) := dk_28 (dk_at dksX1_why_0 8 rfl rfl)
theorem dX1_why_9 : decode cX1_why 9 = .ok (.iconst 0, 1) := dk_3 (dk_at dksX1_why_0 9 rfl rfl)
theorem dX1_why_10 : decode cX1_why 10 = .ok (.iconst 2, 1) := dk_5 (dk_at dksX1_why_0 10 rfl rfl)
theorem dX1_why_11 : decode cX1_why 11 = .ok (.invokestatic 111, 3) := dk_184 0 111 (dk_at dksX1_why_0 11 rfl rfl)
theorem dX1_why_14 : decode cX1_why 14 = .ok (.invokestatic 115, 3) := dk_184 0 115 (dk_at dksX1_why_0 14 rfl rfl)
theorem dX1_why_17 : decode cX1_why 17 = .ok (.aload_n 0, 1) := dk_42 (dk_at dksX1_why_0 17 rfl rfl)
theorem dX1_why_18 : decode cX1_why 18 = .ok (.iload_n 1, 1) := dk_27 (dk_at dksX1_why_0 18 rfl rfl)
theorem dX1_why_19 : decode cX1_why 19 = .ok (.invokevirtual 299, 3) := dk_182 1 43 (dk_at dksX1_why_0 19 rfl rfl)
theorem dX1_why_22 : decode cX1_why 22 = .ok (.istore_n 3, 1) := dk_62 (dk_at dksX1_why_0 22 rfl rfl)
theorem dX1_why_23 : decode cX1_why 23 = .ok (.iload_n 2, 1) := dk_28 (dk_at dksX1_why_0 23 rfl rfl)
theorem dX1_why_24 : decode cX1_why 24 = .ok (.ifCond .ne 7, 3) := dk_154 0 7 (dk_at dksX1_why_1 0 rfl rfl)
theorem dX1_why_27 : decode cX1_why 27 = .ok (.iload_n 3, 1) := dk_29 (dk_at dksX1_why_1 3 rfl rfl)
theorem dX1_why_28 : decode cX1_why 28 = .ok (.goto 23, 3) := dk_167 0 23 (dk_at dksX1_why_1 4 rfl rfl)
theorem dX1_why_31 : decode cX1_why 31 = .ok (.iload_n 2, 1) := dk_28 (dk_at dksX1_why_1 7 rfl rfl)
theorem dX1_why_32 : decode cX1_why 32 = .ok (.iconst 1, 1) := dk_4 (dk_at dksX1_why_1 8 rfl rfl)
theorem dX1_why_33 : decode cX1_why 33 = .ok (.if_icmp .ne 12, 3) := dk_160 0 12 (dk_at dksX1_why_1 9 rfl rfl)
theorem dX1_why_36 : decode cX1_why 36 = .ok (.aload_n 0, 1) := dk_42 (dk_at dksX1_why_1 12 rfl rfl)
theorem dX1_why_37 : decode cX1_why 37 = .ok (.iload_n 1, 1) := dk_27 (dk_at dksX1_why_1 13 rfl rfl)
theorem dX1_why_38 : decode cX1_why 38 = .ok (.iload_n 3, 1) := dk_29 (dk_at dksX1_why_1 14 rfl rfl)
theorem dX1_why_39 : decode cX1_why 39 = .ok (.invokevirtual 302, 3) := dk_182 1 46 (dk_at dksX1_why_1 15 rfl rfl)
theorem dX1_why_42 : decode cX1_why 42 = .ok (.goto 9, 3) := dk_167 0 9 (dk_at dksX1_why_1 18 rfl rfl)
theorem dX1_why_45 : decode cX1_why 45 = .ok (.aload_n 0, 1) := dk_42 (dk_at dksX1_why_1 21 rfl rfl)
theorem dX1_why_46 : decode cX1_why 46 = .ok (.iload_n 1, 1) := dk_27 (dk_at dksX1_why_1 22 rfl rfl)
theorem dX1_why_47 : decode cX1_why 47 = .ok (.iload_n 3, 1) := dk_29 (dk_at dksX1_why_1 23 rfl rfl)
theorem dX1_why_48 : decode cX1_why 48 = .ok (.invokevirtual 305, 3) := dk_182 1 49 (dk_at dksX1_why_2 0 rfl rfl)
theorem dX1_why_51 : decode cX1_why 51 = .ok (.ireturn, 1) := dk_172 (dk_at dksX1_why_2 3 rfl rfl)
abbrev cX1_reasonOf : ByteArray := prog_1_method_24_code
def yX1_reasonOf : MethodName := ⟨RX1, "reasonOf", "(I)I"⟩
def dkwX1_reasonOf_1 : List UInt8 := [153, 0, 7, 5, 167, 0, 18, 42, 27, 3, 182, 1, 36, 2, 159, 0, 7, 6, 167, 0, 4, 7, 172]
abbrev dktX1_reasonOf_1 : List UInt8 := dkwX1_reasonOf_1 ++ []
def dkwX1_reasonOf_0 : List UInt8 := [42, 27, 4, 182, 1, 36, 2, 159, 0, 5, 4, 172, 42, 180, 0, 40, 180, 0, 99, 180, 0, 103, 27, 51]
abbrev dktX1_reasonOf_0 : List UInt8 := dkwX1_reasonOf_0 ++ dktX1_reasonOf_1
theorem dksX1_reasonOf_0 : cX1_reasonOf.data.toList.drop 0 = dktX1_reasonOf_0 := by decide +kernel
theorem dksX1_reasonOf_1 : cX1_reasonOf.data.toList.drop 24 = dktX1_reasonOf_1 := dk_seg dksX1_reasonOf_0 24 rfl rfl
theorem dX1_reasonOf_0 : decode cX1_reasonOf 0 = .ok (.aload_n 0, 1) := dk_42 (dk_at dksX1_reasonOf_0 0 rfl rfl)
theorem dX1_reasonOf_1 : decode cX1_reasonOf 1 = .ok (.iload_n 1, 1) := dk_27 (dk_at dksX1_reasonOf_0 1 rfl rfl)
theorem dX1_reasonOf_2 : decode cX1_reasonOf 2 = .ok (.iconst 1, 1) := dk_4 (dk_at dksX1_reasonOf_0 2 rfl rfl)
theorem dX1_reasonOf_3 : decode cX1_reasonOf 3 = .ok (.invokevirtual 292, 3) := dk_182 1 36 (dk_at dksX1_reasonOf_0 3 rfl rfl)
theorem dX1_reasonOf_6 : decode cX1_reasonOf 6 = .ok (.iconst (-1), 1) := dk_2 (dk_at dksX1_reasonOf_0 6 rfl rfl)
theorem dX1_reasonOf_7 : decode cX1_reasonOf 7 = .ok (.if_icmp .eq 5, 3) := dk_159 0 5 (dk_at dksX1_reasonOf_0 7 rfl rfl)
theorem dX1_reasonOf_10 : decode cX1_reasonOf 10 = .ok (.iconst 1, 1) := dk_4 (dk_at dksX1_reasonOf_0 10 rfl rfl)
theorem dX1_reasonOf_11 : decode cX1_reasonOf 11 = .ok (.ireturn, 1) := dk_172 (dk_at dksX1_reasonOf_0 11 rfl rfl)
theorem dX1_reasonOf_12 : decode cX1_reasonOf 12 = .ok (.aload_n 0, 1) := dk_42 (dk_at dksX1_reasonOf_0 12 rfl rfl)
theorem dX1_reasonOf_13 : decode cX1_reasonOf 13 = .ok (.getfield 40, 3) := dk_180 0 40 (dk_at dksX1_reasonOf_0 13 rfl rfl)
theorem dX1_reasonOf_16 : decode cX1_reasonOf 16 = .ok (.getfield 99, 3) := dk_180 0 99 (dk_at dksX1_reasonOf_0 16 rfl rfl)
theorem dX1_reasonOf_19 : decode cX1_reasonOf 19 = .ok (.getfield 103, 3) := dk_180 0 103 (dk_at dksX1_reasonOf_0 19 rfl rfl)
theorem dX1_reasonOf_22 : decode cX1_reasonOf 22 = .ok (.iload_n 1, 1) := dk_27 (dk_at dksX1_reasonOf_0 22 rfl rfl)
theorem dX1_reasonOf_23 : decode cX1_reasonOf 23 = .ok (.baload, 1) := dk_51 (dk_at dksX1_reasonOf_0 23 rfl rfl)
theorem dX1_reasonOf_24 : decode cX1_reasonOf 24 = .ok (.ifCond .eq 7, 3) := dk_153 0 7 (dk_at dksX1_reasonOf_1 0 rfl rfl)
theorem dX1_reasonOf_27 : decode cX1_reasonOf 27 = .ok (.iconst 2, 1) := dk_5 (dk_at dksX1_reasonOf_1 3 rfl rfl)
theorem dX1_reasonOf_28 : decode cX1_reasonOf 28 = .ok (.goto 18, 3) := dk_167 0 18 (dk_at dksX1_reasonOf_1 4 rfl rfl)
theorem dX1_reasonOf_31 : decode cX1_reasonOf 31 = .ok (.aload_n 0, 1) := dk_42 (dk_at dksX1_reasonOf_1 7 rfl rfl)
theorem dX1_reasonOf_32 : decode cX1_reasonOf 32 = .ok (.iload_n 1, 1) := dk_27 (dk_at dksX1_reasonOf_1 8 rfl rfl)
theorem dX1_reasonOf_33 : decode cX1_reasonOf 33 = .ok (.iconst 0, 1) := dk_3 (dk_at dksX1_reasonOf_1 9 rfl rfl)
theorem dX1_reasonOf_34 : decode cX1_reasonOf 34 = .ok (.invokevirtual 292, 3) := dk_182 1 36 (dk_at dksX1_reasonOf_1 10 rfl rfl)
theorem dX1_reasonOf_37 : decode cX1_reasonOf 37 = .ok (.iconst (-1), 1) := dk_2 (dk_at dksX1_reasonOf_1 13 rfl rfl)
theorem dX1_reasonOf_38 : decode cX1_reasonOf 38 = .ok (.if_icmp .eq 7, 3) := dk_159 0 7 (dk_at dksX1_reasonOf_1 14 rfl rfl)
theorem dX1_reasonOf_41 : decode cX1_reasonOf 41 = .ok (.iconst 3, 1) := dk_6 (dk_at dksX1_reasonOf_1 17 rfl rfl)
theorem dX1_reasonOf_42 : decode cX1_reasonOf 42 = .ok (.goto 4, 3) := dk_167 0 4 (dk_at dksX1_reasonOf_1 18 rfl rfl)
theorem dX1_reasonOf_45 : decode cX1_reasonOf 45 = .ok (.iconst 4, 1) := dk_7 (dk_at dksX1_reasonOf_1 21 rfl rfl)
theorem dX1_reasonOf_46 : decode cX1_reasonOf 46 = .ok (.ireturn, 1) := dk_172 (dk_at dksX1_reasonOf_1 22 rfl rfl)
abbrev cX1_lowest : ByteArray := prog_1_method_23_code
def yX1_lowest : MethodName := ⟨RX1, "lowest", "(IZ)I"⟩
def dkwX1_lowest_3 : List UInt8 := [163, 0, 5, 29, 172, 132, 3, 1, 167, 255, 181, 2, 172]
abbrev dktX1_lowest_3 : List UInt8 := dkwX1_lowest_3 ++ []
def dkwX1_lowest_2 : List UInt8 := [153, 0, 25, 21, 4, 42, 180, 0, 40, 180, 0, 135, 29, 182, 0, 155, 192, 0, 203, 180, 0, 225]
abbrev dktX1_lowest_2 : List UInt8 := dkwX1_lowest_2 ++ dktX1_lowest_3
def dkwX1_lowest_1 : List UInt8 := [180, 0, 135, 29, 182, 0, 155, 192, 0, 203, 27, 182, 1, 33, 54, 4, 21, 4, 2, 159, 0, 31, 28]
abbrev dktX1_lowest_1 : List UInt8 := dkwX1_lowest_1 ++ dktX1_lowest_2
def dkwX1_lowest_0 : List UInt8 := [3, 62, 29, 42, 180, 0, 40, 180, 0, 135, 182, 0, 132, 162, 0, 67, 42, 180, 0, 40, 42, 180, 0, 40]
abbrev dktX1_lowest_0 : List UInt8 := dkwX1_lowest_0 ++ dktX1_lowest_1
theorem dksX1_lowest_0 : cX1_lowest.data.toList.drop 0 = dktX1_lowest_0 := by decide +kernel
theorem dksX1_lowest_1 : cX1_lowest.data.toList.drop 24 = dktX1_lowest_1 := dk_seg dksX1_lowest_0 24 rfl rfl
theorem dksX1_lowest_2 : cX1_lowest.data.toList.drop 47 = dktX1_lowest_2 := dk_seg dksX1_lowest_1 23 rfl rfl
theorem dksX1_lowest_3 : cX1_lowest.data.toList.drop 69 = dktX1_lowest_3 := dk_seg dksX1_lowest_2 22 rfl rfl
theorem dX1_lowest_0 : decode cX1_lowest 0 = .ok (.iconst 0, 1) := dk_3 (dk_at dksX1_lowest_0 0 rfl rfl)
theorem dX1_lowest_1 : decode cX1_lowest 1 = .ok (.istore_n 3, 1) := dk_62 (dk_at dksX1_lowest_0 1 rfl rfl)
theorem dX1_lowest_2 : decode cX1_lowest 2 = .ok (.iload_n 3, 1) := dk_29 (dk_at dksX1_lowest_0 2 rfl rfl)
theorem dX1_lowest_3 : decode cX1_lowest 3 = .ok (.aload_n 0, 1) := dk_42 (dk_at dksX1_lowest_0 3 rfl rfl)
theorem dX1_lowest_4 : decode cX1_lowest 4 = .ok (.getfield 40, 3) := dk_180 0 40 (dk_at dksX1_lowest_0 4 rfl rfl)
theorem dX1_lowest_7 : decode cX1_lowest 7 = .ok (.getfield 135, 3) := dk_180 0 135 (dk_at dksX1_lowest_0 7 rfl rfl)
theorem dX1_lowest_10 : decode cX1_lowest 10 = .ok (.invokevirtual 132, 3) := dk_182 0 132 (dk_at dksX1_lowest_0 10 rfl rfl)
theorem dX1_lowest_13 : decode cX1_lowest 13 = .ok (.if_icmp .ge 67, 3) := dk_162 0 67 (dk_at dksX1_lowest_0 13 rfl rfl)
theorem dX1_lowest_16 : decode cX1_lowest 16 = .ok (.aload_n 0, 1) := dk_42 (dk_at dksX1_lowest_0 16 rfl rfl)
theorem dX1_lowest_17 : decode cX1_lowest 17 = .ok (.getfield 40, 3) := dk_180 0 40 (dk_at dksX1_lowest_0 17 rfl rfl)
theorem dX1_lowest_20 : decode cX1_lowest 20 = .ok (.aload_n 0, 1) := dk_42 (dk_at dksX1_lowest_0 20 rfl rfl)
theorem dX1_lowest_21 : decode cX1_lowest 21 = .ok (.getfield 40, 3) := dk_180 0 40 (dk_at dksX1_lowest_0 21 rfl rfl)
theorem dX1_lowest_24 : decode cX1_lowest 24 = .ok (.getfield 135, 3) := dk_180 0 135 (dk_at dksX1_lowest_1 0 rfl rfl)
theorem dX1_lowest_27 : decode cX1_lowest 27 = .ok (.iload_n 3, 1) := dk_29 (dk_at dksX1_lowest_1 3 rfl rfl)
theorem dX1_lowest_28 : decode cX1_lowest 28 = .ok (.invokevirtual 155, 3) := dk_182 0 155 (dk_at dksX1_lowest_1 4 rfl rfl)
theorem dX1_lowest_31 : decode cX1_lowest 31 = .ok (.checkcast 203, 3) := dk_192 0 203 (dk_at dksX1_lowest_1 7 rfl rfl)
theorem dX1_lowest_34 : decode cX1_lowest 34 = .ok (.iload_n 1, 1) := dk_27 (dk_at dksX1_lowest_1 10 rfl rfl)
theorem dX1_lowest_35 : decode cX1_lowest 35 = .ok (.invokevirtual 289, 3) := dk_182 1 33 (dk_at dksX1_lowest_1 11 rfl rfl)
theorem dX1_lowest_38 : decode cX1_lowest 38 = .ok (.istore 4, 2) := dk_54 4 (dk_at dksX1_lowest_1 14 rfl rfl)
theorem dX1_lowest_40 : decode cX1_lowest 40 = .ok (.iload 4, 2) := dk_21 4 (dk_at dksX1_lowest_1 16 rfl rfl)
theorem dX1_lowest_42 : decode cX1_lowest 42 = .ok (.iconst (-1), 1) := dk_2 (dk_at dksX1_lowest_1 18 rfl rfl)
theorem dX1_lowest_43 : decode cX1_lowest 43 = .ok (.if_icmp .eq 31, 3) := dk_159 0 31 (dk_at dksX1_lowest_1 19 rfl rfl)
theorem dX1_lowest_46 : decode cX1_lowest 46 = .ok (.iload_n 2, 1) := dk_28 (dk_at dksX1_lowest_1 22 rfl rfl)
theorem dX1_lowest_47 : decode cX1_lowest 47 = .ok (.ifCond .eq 25, 3) := dk_153 0 25 (dk_at dksX1_lowest_2 0 rfl rfl)
theorem dX1_lowest_50 : decode cX1_lowest 50 = .ok (.iload 4, 2) := dk_21 4 (dk_at dksX1_lowest_2 3 rfl rfl)
theorem dX1_lowest_52 : decode cX1_lowest 52 = .ok (.aload_n 0, 1) := dk_42 (dk_at dksX1_lowest_2 5 rfl rfl)
theorem dX1_lowest_53 : decode cX1_lowest 53 = .ok (.getfield 40, 3) := dk_180 0 40 (dk_at dksX1_lowest_2 6 rfl rfl)
theorem dX1_lowest_56 : decode cX1_lowest 56 = .ok (.getfield 135, 3) := dk_180 0 135 (dk_at dksX1_lowest_2 9 rfl rfl)
theorem dX1_lowest_59 : decode cX1_lowest 59 = .ok (.iload_n 3, 1) := dk_29 (dk_at dksX1_lowest_2 12 rfl rfl)
theorem dX1_lowest_60 : decode cX1_lowest 60 = .ok (.invokevirtual 155, 3) := dk_182 0 155 (dk_at dksX1_lowest_2 13 rfl rfl)
theorem dX1_lowest_63 : decode cX1_lowest 63 = .ok (.checkcast 203, 3) := dk_192 0 203 (dk_at dksX1_lowest_2 16 rfl rfl)
theorem dX1_lowest_66 : decode cX1_lowest 66 = .ok (.getfield 225, 3) := dk_180 0 225 (dk_at dksX1_lowest_2 19 rfl rfl)
theorem dX1_lowest_69 : decode cX1_lowest 69 = .ok (.if_icmp .gt 5, 3) := dk_163 0 5 (dk_at dksX1_lowest_3 0 rfl rfl)
theorem dX1_lowest_72 : decode cX1_lowest 72 = .ok (.iload_n 3, 1) := dk_29 (dk_at dksX1_lowest_3 3 rfl rfl)
theorem dX1_lowest_73 : decode cX1_lowest 73 = .ok (.ireturn, 1) := dk_172 (dk_at dksX1_lowest_3 4 rfl rfl)
theorem dX1_lowest_74 : decode cX1_lowest 74 = .ok (.iinc 3 1, 3) := dk_132 3 1 (dk_at dksX1_lowest_3 5 rfl rfl)
theorem dX1_lowest_77 : decode cX1_lowest 77 = .ok (.goto (-75), 3) := dk_167 255 181 (dk_at dksX1_lowest_3 8 rfl rfl)
theorem dX1_lowest_80 : decode cX1_lowest 80 = .ok (.iconst (-1), 1) := dk_2 (dk_at dksX1_lowest_3 11 rfl rfl)
theorem dX1_lowest_81 : decode cX1_lowest 81 = .ok (.ireturn, 1) := dk_172 (dk_at dksX1_lowest_3 12 rfl rfl)
abbrev cX1_causeOf : ByteArray := prog_1_method_25_code
def yX1_causeOf : MethodName := ⟨RX1, "causeOf", "(II)I"⟩
def dkwX1_causeOf_1 : List UInt8 := [17, 0, 200, 42, 27, 3, 182, 1, 36, 96, 167, 0, 4, 3, 172]
abbrev dktX1_causeOf_1 : List UInt8 := dkwX1_causeOf_1 ++ []
def dkwX1_causeOf_0 : List UInt8 := [28, 4, 160, 0, 15, 16, 100, 42, 27, 4, 182, 1, 36, 96, 167, 0, 22, 28, 6, 160, 0, 16]
abbrev dktX1_causeOf_0 : List UInt8 := dkwX1_causeOf_0 ++ dktX1_causeOf_1
theorem dksX1_causeOf_0 : cX1_causeOf.data.toList.drop 0 = dktX1_causeOf_0 := by decide +kernel
theorem dksX1_causeOf_1 : cX1_causeOf.data.toList.drop 22 = dktX1_causeOf_1 := dk_seg dksX1_causeOf_0 22 rfl rfl
theorem dX1_causeOf_0 : decode cX1_causeOf 0 = .ok (.iload_n 2, 1) := dk_28 (dk_at dksX1_causeOf_0 0 rfl rfl)
theorem dX1_causeOf_1 : decode cX1_causeOf 1 = .ok (.iconst 1, 1) := dk_4 (dk_at dksX1_causeOf_0 1 rfl rfl)
theorem dX1_causeOf_2 : decode cX1_causeOf 2 = .ok (.if_icmp .ne 15, 3) := dk_160 0 15 (dk_at dksX1_causeOf_0 2 rfl rfl)
theorem dX1_causeOf_5 : decode cX1_causeOf 5 = .ok (.bipush 100, 2) := dk_16 100 (dk_at dksX1_causeOf_0 5 rfl rfl)
theorem dX1_causeOf_7 : decode cX1_causeOf 7 = .ok (.aload_n 0, 1) := dk_42 (dk_at dksX1_causeOf_0 7 rfl rfl)
theorem dX1_causeOf_8 : decode cX1_causeOf 8 = .ok (.iload_n 1, 1) := dk_27 (dk_at dksX1_causeOf_0 8 rfl rfl)
theorem dX1_causeOf_9 : decode cX1_causeOf 9 = .ok (.iconst 1, 1) := dk_4 (dk_at dksX1_causeOf_0 9 rfl rfl)
theorem dX1_causeOf_10 : decode cX1_causeOf 10 = .ok (.invokevirtual 292, 3) := dk_182 1 36 (dk_at dksX1_causeOf_0 10 rfl rfl)
theorem dX1_causeOf_13 : decode cX1_causeOf 13 = .ok (.iadd, 1) := dk_96 (dk_at dksX1_causeOf_0 13 rfl rfl)
theorem dX1_causeOf_14 : decode cX1_causeOf 14 = .ok (.goto 22, 3) := dk_167 0 22 (dk_at dksX1_causeOf_0 14 rfl rfl)
theorem dX1_causeOf_17 : decode cX1_causeOf 17 = .ok (.iload_n 2, 1) := dk_28 (dk_at dksX1_causeOf_0 17 rfl rfl)
theorem dX1_causeOf_18 : decode cX1_causeOf 18 = .ok (.iconst 3, 1) := dk_6 (dk_at dksX1_causeOf_0 18 rfl rfl)
theorem dX1_causeOf_19 : decode cX1_causeOf 19 = .ok (.if_icmp .ne 16, 3) := dk_160 0 16 (dk_at dksX1_causeOf_0 19 rfl rfl)
theorem dX1_causeOf_22 : decode cX1_causeOf 22 = .ok (.sipush 200, 3) := dk_17 0 200 (dk_at dksX1_causeOf_1 0 rfl rfl)
theorem dX1_causeOf_25 : decode cX1_causeOf 25 = .ok (.aload_n 0, 1) := dk_42 (dk_at dksX1_causeOf_1 3 rfl rfl)
theorem dX1_causeOf_26 : decode cX1_causeOf 26 = .ok (.iload_n 1, 1) := dk_27 (dk_at dksX1_causeOf_1 4 rfl rfl)
theorem dX1_causeOf_27 : decode cX1_causeOf 27 = .ok (.iconst 0, 1) := dk_3 (dk_at dksX1_causeOf_1 5 rfl rfl)
theorem dX1_causeOf_28 : decode cX1_causeOf 28 = .ok (.invokevirtual 292, 3) := dk_182 1 36 (dk_at dksX1_causeOf_1 6 rfl rfl)
theorem dX1_causeOf_31 : decode cX1_causeOf 31 = .ok (.iadd, 1) := dk_96 (dk_at dksX1_causeOf_1 9 rfl rfl)
theorem dX1_causeOf_32 : decode cX1_causeOf 32 = .ok (.goto 4, 3) := dk_167 0 4 (dk_at dksX1_causeOf_1 10 rfl rfl)
theorem dX1_causeOf_35 : decode cX1_causeOf 35 = .ok (.iconst 0, 1) := dk_3 (dk_at dksX1_causeOf_1 13 rfl rfl)
theorem dX1_causeOf_36 : decode cX1_causeOf 36 = .ok (.ireturn, 1) := dk_172 (dk_at dksX1_causeOf_1 14 rfl rfl)
abbrev cX1_secondOf : ByteArray := prog_1_method_26_code
def yX1_secondOf : MethodName := ⟨RX1, "secondOf", "(II)I"⟩
def dkwX1_secondOf_3 : List UInt8 := [17, 1, 144, 42, 180, 0, 40, 45, 27, 182, 1, 33, 96, 45, 180, 0, 225, 100, 172]
abbrev dktX1_secondOf_3 : List UInt8 := dkwX1_secondOf_3 ++ []
def dkwX1_secondOf_2 : List UInt8 := [3, 172, 42, 180, 0, 40, 180, 0, 135, 42, 27, 3, 182, 1, 36, 182, 0, 155, 192, 0, 203, 78]
abbrev dktX1_secondOf_2 : List UInt8 := dkwX1_secondOf_2 ++ dktX1_secondOf_3
def dkwX1_secondOf_1 : List UInt8 := [4, 182, 1, 36, 182, 0, 155, 192, 0, 203, 180, 0, 221, 27, 182, 1, 40, 96, 172, 28, 6, 159, 0, 5]
abbrev dktX1_secondOf_1 : List UInt8 := dkwX1_secondOf_1 ++ dktX1_secondOf_2
def dkwX1_secondOf_0 : List UInt8 := [28, 4, 160, 0, 41, 17, 1, 44, 42, 180, 0, 40, 180, 0, 99, 42, 180, 0, 40, 180, 0, 135, 42, 27]
abbrev dktX1_secondOf_0 : List UInt8 := dkwX1_secondOf_0 ++ dktX1_secondOf_1
theorem dksX1_secondOf_0 : cX1_secondOf.data.toList.drop 0 = dktX1_secondOf_0 := by decide +kernel
theorem dksX1_secondOf_1 : cX1_secondOf.data.toList.drop 24 = dktX1_secondOf_1 := dk_seg dksX1_secondOf_0 24 rfl rfl
theorem dksX1_secondOf_2 : cX1_secondOf.data.toList.drop 48 = dktX1_secondOf_2 := dk_seg dksX1_secondOf_1 24 rfl rfl
theorem dksX1_secondOf_3 : cX1_secondOf.data.toList.drop 70 = dktX1_secondOf_3 := dk_seg dksX1_secondOf_2 22 rfl rfl
theorem dX1_secondOf_0 : decode cX1_secondOf 0 = .ok (.iload_n 2, 1) := dk_28 (dk_at dksX1_secondOf_0 0 rfl rfl)
theorem dX1_secondOf_1 : decode cX1_secondOf 1 = .ok (.iconst 1, 1) := dk_4 (dk_at dksX1_secondOf_0 1 rfl rfl)
theorem dX1_secondOf_2 : decode cX1_secondOf 2 = .ok (.if_icmp .ne 41, 3) := dk_160 0 41 (dk_at dksX1_secondOf_0 2 rfl rfl)
theorem dX1_secondOf_5 : decode cX1_secondOf 5 = .ok (.sipush 300, 3) := dk_17 1 44 (dk_at dksX1_secondOf_0 5 rfl rfl)
theorem dX1_secondOf_8 : decode cX1_secondOf 8 = .ok (.aload_n 0, 1) := dk_42 (dk_at dksX1_secondOf_0 8 rfl rfl)
theorem dX1_secondOf_9 : decode cX1_secondOf 9 = .ok (.getfield 40, 3) := dk_180 0 40 (dk_at dksX1_secondOf_0 9 rfl rfl)
theorem dX1_secondOf_12 : decode cX1_secondOf 12 = .ok (.getfield 99, 3) := dk_180 0 99 (dk_at dksX1_secondOf_0 12 rfl rfl)
theorem dX1_secondOf_15 : decode cX1_secondOf 15 = .ok (.aload_n 0, 1) := dk_42 (dk_at dksX1_secondOf_0 15 rfl rfl)
theorem dX1_secondOf_16 : decode cX1_secondOf 16 = .ok (.getfield 40, 3) := dk_180 0 40 (dk_at dksX1_secondOf_0 16 rfl rfl)
theorem dX1_secondOf_19 : decode cX1_secondOf 19 = .ok (.getfield 135, 3) := dk_180 0 135 (dk_at dksX1_secondOf_0 19 rfl rfl)
theorem dX1_secondOf_22 : decode cX1_secondOf 22 = .ok (.aload_n 0, 1) := dk_42 (dk_at dksX1_secondOf_0 22 rfl rfl)
theorem dX1_secondOf_23 : decode cX1_secondOf 23 = .ok (.iload_n 1, 1) := dk_27 (dk_at dksX1_secondOf_0 23 rfl rfl)
theorem dX1_secondOf_24 : decode cX1_secondOf 24 = .ok (.iconst 1, 1) := dk_4 (dk_at dksX1_secondOf_1 0 rfl rfl)
theorem dX1_secondOf_25 : decode cX1_secondOf 25 = .ok (.invokevirtual 292, 3) := dk_182 1 36 (dk_at dksX1_secondOf_1 1 rfl rfl)
theorem dX1_secondOf_28 : decode cX1_secondOf 28 = .ok (.invokevirtual 155, 3) := dk_182 0 155 (dk_at dksX1_secondOf_1 4 rfl rfl)
theorem dX1_secondOf_31 : decode cX1_secondOf 31 = .ok (.checkcast 203, 3) := dk_192 0 203 (dk_at dksX1_secondOf_1 7 rfl rfl)
theorem dX1_secondOf_34 : decode cX1_secondOf 34 = .ok (.getfield 221, 3) := dk_180 0 221 (dk_at dksX1_secondOf_1 10 rfl rfl)
theorem dX1_secondOf_37 : decode cX1_secondOf 37 = .ok (.iload_n 1, 1) := dk_27 (dk_at dksX1_secondOf_1 13 rfl rfl)
theorem dX1_secondOf_38 : decode cX1_secondOf 38 = .ok (.invokevirtual 296, 3) := dk_182 1 40 (dk_at dksX1_secondOf_1 14 rfl rfl)
theorem dX1_secondOf_41 : decode cX1_secondOf 41 = .ok (.iadd, 1) := dk_96 (dk_at dksX1_secondOf_1 17 rfl rfl)
theorem dX1_secondOf_42 : decode cX1_secondOf 42 = .ok (.ireturn, 1) := dk_172 (dk_at dksX1_secondOf_1 18 rfl rfl)
theorem dX1_secondOf_43 : decode cX1_secondOf 43 = .ok (.iload_n 2, 1) := dk_28 (dk_at dksX1_secondOf_1 19 rfl rfl)
theorem dX1_secondOf_44 : decode cX1_secondOf 44 = .ok (.iconst 3, 1) := dk_6 (dk_at dksX1_secondOf_1 20 rfl rfl)
theorem dX1_secondOf_45 : decode cX1_secondOf 45 = .ok (.if_icmp .eq 5, 3) := dk_159 0 5 (dk_at dksX1_secondOf_1 21 rfl rfl)
theorem dX1_secondOf_48 : decode cX1_secondOf 48 = .ok (.iconst 0, 1) := dk_3 (dk_at dksX1_secondOf_2 0 rfl rfl)
theorem dX1_secondOf_49 : decode cX1_secondOf 49 = .ok (.ireturn, 1) := dk_172 (dk_at dksX1_secondOf_2 1 rfl rfl)
theorem dX1_secondOf_50 : decode cX1_secondOf 50 = .ok (.aload_n 0, 1) := dk_42 (dk_at dksX1_secondOf_2 2 rfl rfl)
theorem dX1_secondOf_51 : decode cX1_secondOf 51 = .ok (.getfield 40, 3) := dk_180 0 40 (dk_at dksX1_secondOf_2 3 rfl rfl)
theorem dX1_secondOf_54 : decode cX1_secondOf 54 = .ok (.getfield 135, 3) := dk_180 0 135 (dk_at dksX1_secondOf_2 6 rfl rfl)
theorem dX1_secondOf_57 : decode cX1_secondOf 57 = .ok (.aload_n 0, 1) := dk_42 (dk_at dksX1_secondOf_2 9 rfl rfl)
theorem dX1_secondOf_58 : decode cX1_secondOf 58 = .ok (.iload_n 1, 1) := dk_27 (dk_at dksX1_secondOf_2 10 rfl rfl)
theorem dX1_secondOf_59 : decode cX1_secondOf 59 = .ok (.iconst 0, 1) := dk_3 (dk_at dksX1_secondOf_2 11 rfl rfl)
theorem dX1_secondOf_60 : decode cX1_secondOf 60 = .ok (.invokevirtual 292, 3) := dk_182 1 36 (dk_at dksX1_secondOf_2 12 rfl rfl)
theorem dX1_secondOf_63 : decode cX1_secondOf 63 = .ok (.invokevirtual 155, 3) := dk_182 0 155 (dk_at dksX1_secondOf_2 15 rfl rfl)
theorem dX1_secondOf_66 : decode cX1_secondOf 66 = .ok (.checkcast 203, 3) := dk_192 0 203 (dk_at dksX1_secondOf_2 18 rfl rfl)
theorem dX1_secondOf_69 : decode cX1_secondOf 69 = .ok (.astore_n 3, 1) := dk_78 (dk_at dksX1_secondOf_2 21 rfl rfl)
theorem dX1_secondOf_70 : decode cX1_secondOf 70 = .ok (.sipush 400, 3) := dk_17 1 144 (dk_at dksX1_secondOf_3 0 rfl rfl)
theorem dX1_secondOf_73 : decode cX1_secondOf 73 = .ok (.aload_n 0, 1) := dk_42 (dk_at dksX1_secondOf_3 3 rfl rfl)
theorem dX1_secondOf_74 : decode cX1_secondOf 74 = .ok (.getfield 40, 3) := dk_180 0 40 (dk_at dksX1_secondOf_3 4 rfl rfl)
theorem dX1_secondOf_77 : decode cX1_secondOf 77 = .ok (.aload_n 3, 1) := dk_45 (dk_at dksX1_secondOf_3 7 rfl rfl)
theorem dX1_secondOf_78 : decode cX1_secondOf 78 = .ok (.iload_n 1, 1) := dk_27 (dk_at dksX1_secondOf_3 8 rfl rfl)
theorem dX1_secondOf_79 : decode cX1_secondOf 79 = .ok (.invokevirtual 289, 3) := dk_182 1 33 (dk_at dksX1_secondOf_3 9 rfl rfl)
theorem dX1_secondOf_82 : decode cX1_secondOf 82 = .ok (.iadd, 1) := dk_96 (dk_at dksX1_secondOf_3 12 rfl rfl)
theorem dX1_secondOf_83 : decode cX1_secondOf 83 = .ok (.aload_n 3, 1) := dk_45 (dk_at dksX1_secondOf_3 13 rfl rfl)
theorem dX1_secondOf_84 : decode cX1_secondOf 84 = .ok (.getfield 225, 3) := dk_180 0 225 (dk_at dksX1_secondOf_3 14 rfl rfl)
theorem dX1_secondOf_87 : decode cX1_secondOf 87 = .ok (.isub, 1) := dk_100 (dk_at dksX1_secondOf_3 17 rfl rfl)
theorem dX1_secondOf_88 : decode cX1_secondOf 88 = .ok (.ireturn, 1) := dk_172 (dk_at dksX1_secondOf_3 18 rfl rfl)
abbrev cX1_ifSeen : ByteArray := prog_1_method_31_code
def yX1_ifSeen : MethodName := ⟨RX1, "ifSeen", "(II)Z"⟩
def dkwX1_ifSeen_2 : List UInt8 := [27, 182, 0, 251, 172]
abbrev dktX1_ifSeen_2 : List UInt8 := dkwX1_ifSeen_2 ++ []
def dkwX1_ifSeen_1 : List UInt8 := [182, 1, 59, 78, 3, 54, 4, 21, 4, 28, 162, 0, 13, 45, 182, 1, 63, 132, 4, 1, 167, 255, 243, 45]
abbrev dktX1_ifSeen_1 : List UInt8 := dkwX1_ifSeen_1 ++ dktX1_ifSeen_2
def dkwX1_ifSeen_0 : List UInt8 := [42, 180, 0, 40, 27, 182, 0, 172, 28, 3, 17, 0, 200, 184, 0, 111, 184, 0, 115, 42, 180, 0, 40]
abbrev dktX1_ifSeen_0 : List UInt8 := dkwX1_ifSeen_0 ++ dktX1_ifSeen_1
theorem dksX1_ifSeen_0 : cX1_ifSeen.data.toList.drop 0 = dktX1_ifSeen_0 := by decide +kernel
theorem dksX1_ifSeen_1 : cX1_ifSeen.data.toList.drop 23 = dktX1_ifSeen_1 := dk_seg dksX1_ifSeen_0 23 rfl rfl
theorem dksX1_ifSeen_2 : cX1_ifSeen.data.toList.drop 47 = dktX1_ifSeen_2 := dk_seg dksX1_ifSeen_1 24 rfl rfl
theorem dX1_ifSeen_0 : decode cX1_ifSeen 0 = .ok (.aload_n 0, 1) := dk_42 (dk_at dksX1_ifSeen_0 0 rfl rfl)
theorem dX1_ifSeen_1 : decode cX1_ifSeen 1 = .ok (.getfield 40, 3) := dk_180 0 40 (dk_at dksX1_ifSeen_0 1 rfl rfl)
theorem dX1_ifSeen_4 : decode cX1_ifSeen 4 = .ok (.iload_n 1, 1) := dk_27 (dk_at dksX1_ifSeen_0 4 rfl rfl)
theorem dX1_ifSeen_5 : decode cX1_ifSeen 5 = .ok (.invokevirtual 172, 3) := dk_182 0 172 (dk_at dksX1_ifSeen_0 5 rfl rfl)
theorem dX1_ifSeen_8 : decode cX1_ifSeen 8 = .ok (.iload_n 2, 1) := dk_28 (dk_at dksX1_ifSeen_0 8 rfl rfl)
theorem dX1_ifSeen_9 : decode cX1_ifSeen 9 = .ok (.iconst 0, 1) := dk_3 (dk_at dksX1_ifSeen_0 9 rfl rfl)
theorem dX1_ifSeen_10 : decode cX1_ifSeen 10 = .ok (.sipush 200, 3) := dk_17 0 200 (dk_at dksX1_ifSeen_0 10 rfl rfl)
theorem dX1_ifSeen_13 : decode cX1_ifSeen 13 = .ok (.invokestatic 111, 3) := dk_184 0 111 (dk_at dksX1_ifSeen_0 13 rfl rfl)
theorem dX1_ifSeen_16 : decode cX1_ifSeen 16 = .ok (.invokestatic 115, 3) := dk_184 0 115 (dk_at dksX1_ifSeen_0 16 rfl rfl)
theorem dX1_ifSeen_19 : decode cX1_ifSeen 19 = .ok (.aload_n 0, 1) := dk_42 (dk_at dksX1_ifSeen_0 19 rfl rfl)
theorem dX1_ifSeen_20 : decode cX1_ifSeen 20 = .ok (.getfield 40, 3) := dk_180 0 40 (dk_at dksX1_ifSeen_0 20 rfl rfl)
theorem dX1_ifSeen_23 : decode cX1_ifSeen 23 = .ok (.invokevirtual 315, 3) := dk_182 1 59 (dk_at dksX1_ifSeen_1 0 rfl rfl)
theorem dX1_ifSeen_26 : decode cX1_ifSeen 26 = .ok (.astore_n 3, 1) := dk_78 (dk_at dksX1_ifSeen_1 3 rfl rfl)
theorem dX1_ifSeen_27 : decode cX1_ifSeen 27 = .ok (.iconst 0, 1) := dk_3 (dk_at dksX1_ifSeen_1 4 rfl rfl)
theorem dX1_ifSeen_28 : decode cX1_ifSeen 28 = .ok (.istore 4, 2) := dk_54 4 (dk_at dksX1_ifSeen_1 5 rfl rfl)
theorem dX1_ifSeen_30 : decode cX1_ifSeen 30 = .ok (.iload 4, 2) := dk_21 4 (dk_at dksX1_ifSeen_1 7 rfl rfl)
theorem dX1_ifSeen_32 : decode cX1_ifSeen 32 = .ok (.iload_n 2, 1) := dk_28 (dk_at dksX1_ifSeen_1 9 rfl rfl)
theorem dX1_ifSeen_33 : decode cX1_ifSeen 33 = .ok (.if_icmp .ge 13, 3) := dk_162 0 13 (dk_at dksX1_ifSeen_1 10 rfl rfl)
theorem dX1_ifSeen_36 : decode cX1_ifSeen 36 = .ok (.aload_n 3, 1) := dk_45 (dk_at dksX1_ifSeen_1 13 rfl rfl)
theorem dX1_ifSeen_37 : decode cX1_ifSeen 37 = .ok (.invokevirtual 319, 3) := dk_182 1 63 (dk_at dksX1_ifSeen_1 14 rfl rfl)
theorem dX1_ifSeen_40 : decode cX1_ifSeen 40 = .ok (.iinc 4 1, 3) := dk_132 4 1 (dk_at dksX1_ifSeen_1 17 rfl rfl)
theorem dX1_ifSeen_43 : decode cX1_ifSeen 43 = .ok (.goto (-13), 3) := dk_167 255 243 (dk_at dksX1_ifSeen_1 20 rfl rfl)
theorem dX1_ifSeen_46 : decode cX1_ifSeen 46 = .ok (.aload_n 3, 1) := dk_45 (dk_at dksX1_ifSeen_1 23 rfl rfl)
theorem dX1_ifSeen_47 : decode cX1_ifSeen 47 = .ok (.iload_n 1, 1) := dk_27 (dk_at dksX1_ifSeen_2 0 rfl rfl)
theorem dX1_ifSeen_48 : decode cX1_ifSeen 48 = .ok (.invokevirtual 251, 3) := dk_182 0 251 (dk_at dksX1_ifSeen_2 1 rfl rfl)
theorem dX1_ifSeen_51 : decode cX1_ifSeen 51 = .ok (.ireturn, 1) := dk_172 (dk_at dksX1_ifSeen_2 4 rfl rfl)
abbrev cX1_seenIn : ByteArray := prog_1_method_32_code
def yX1_seenIn : MethodName := ⟨RX1, "seenIn", "(I)I"⟩
def dkwX1_seenIn_2 : List UInt8 := [172]
abbrev dktX1_seenIn_2 : List UInt8 := dkwX1_seenIn_2 ++ []
def dkwX1_seenIn_1 : List UInt8 := [163, 0, 23, 44, 182, 1, 63, 44, 27, 182, 0, 251, 153, 0, 5, 29, 172, 132, 3, 1, 167, 255, 232, 2]
abbrev dktX1_seenIn_1 : List UInt8 := dkwX1_seenIn_1 ++ dktX1_seenIn_2
def dkwX1_seenIn_0 : List UInt8 := [42, 180, 0, 40, 27, 182, 0, 172, 42, 180, 0, 40, 182, 1, 59, 77, 4, 62, 29, 17, 0, 200]
abbrev dktX1_seenIn_0 : List UInt8 := dkwX1_seenIn_0 ++ dktX1_seenIn_1
theorem dksX1_seenIn_0 : cX1_seenIn.data.toList.drop 0 = dktX1_seenIn_0 := by decide +kernel
theorem dksX1_seenIn_1 : cX1_seenIn.data.toList.drop 22 = dktX1_seenIn_1 := dk_seg dksX1_seenIn_0 22 rfl rfl
theorem dksX1_seenIn_2 : cX1_seenIn.data.toList.drop 46 = dktX1_seenIn_2 := dk_seg dksX1_seenIn_1 24 rfl rfl
theorem dX1_seenIn_0 : decode cX1_seenIn 0 = .ok (.aload_n 0, 1) := dk_42 (dk_at dksX1_seenIn_0 0 rfl rfl)
theorem dX1_seenIn_1 : decode cX1_seenIn 1 = .ok (.getfield 40, 3) := dk_180 0 40 (dk_at dksX1_seenIn_0 1 rfl rfl)
theorem dX1_seenIn_4 : decode cX1_seenIn 4 = .ok (.iload_n 1, 1) := dk_27 (dk_at dksX1_seenIn_0 4 rfl rfl)
theorem dX1_seenIn_5 : decode cX1_seenIn 5 = .ok (.invokevirtual 172, 3) := dk_182 0 172 (dk_at dksX1_seenIn_0 5 rfl rfl)
theorem dX1_seenIn_8 : decode cX1_seenIn 8 = .ok (.aload_n 0, 1) := dk_42 (dk_at dksX1_seenIn_0 8 rfl rfl)
theorem dX1_seenIn_9 : decode cX1_seenIn 9 = .ok (.getfield 40, 3) := dk_180 0 40 (dk_at dksX1_seenIn_0 9 rfl rfl)
theorem dX1_seenIn_12 : decode cX1_seenIn 12 = .ok (.invokevirtual 315, 3) := dk_182 1 59 (dk_at dksX1_seenIn_0 12 rfl rfl)
theorem dX1_seenIn_15 : decode cX1_seenIn 15 = .ok (.astore_n 2, 1) := dk_77 (dk_at dksX1_seenIn_0 15 rfl rfl)
theorem dX1_seenIn_16 : decode cX1_seenIn 16 = .ok (.iconst 1, 1) := dk_4 (dk_at dksX1_seenIn_0 16 rfl rfl)
theorem dX1_seenIn_17 : decode cX1_seenIn 17 = .ok (.istore_n 3, 1) := dk_62 (dk_at dksX1_seenIn_0 17 rfl rfl)
theorem dX1_seenIn_18 : decode cX1_seenIn 18 = .ok (.iload_n 3, 1) := dk_29 (dk_at dksX1_seenIn_0 18 rfl rfl)
theorem dX1_seenIn_19 : decode cX1_seenIn 19 = .ok (.sipush 200, 3) := dk_17 0 200 (dk_at dksX1_seenIn_0 19 rfl rfl)
theorem dX1_seenIn_22 : decode cX1_seenIn 22 = .ok (.if_icmp .gt 23, 3) := dk_163 0 23 (dk_at dksX1_seenIn_1 0 rfl rfl)
theorem dX1_seenIn_25 : decode cX1_seenIn 25 = .ok (.aload_n 2, 1) := dk_44 (dk_at dksX1_seenIn_1 3 rfl rfl)
theorem dX1_seenIn_26 : decode cX1_seenIn 26 = .ok (.invokevirtual 319, 3) := dk_182 1 63 (dk_at dksX1_seenIn_1 4 rfl rfl)
theorem dX1_seenIn_29 : decode cX1_seenIn 29 = .ok (.aload_n 2, 1) := dk_44 (dk_at dksX1_seenIn_1 7 rfl rfl)
theorem dX1_seenIn_30 : decode cX1_seenIn 30 = .ok (.iload_n 1, 1) := dk_27 (dk_at dksX1_seenIn_1 8 rfl rfl)
theorem dX1_seenIn_31 : decode cX1_seenIn 31 = .ok (.invokevirtual 251, 3) := dk_182 0 251 (dk_at dksX1_seenIn_1 9 rfl rfl)
theorem dX1_seenIn_34 : decode cX1_seenIn 34 = .ok (.ifCond .eq 5, 3) := dk_153 0 5 (dk_at dksX1_seenIn_1 12 rfl rfl)
theorem dX1_seenIn_37 : decode cX1_seenIn 37 = .ok (.iload_n 3, 1) := dk_29 (dk_at dksX1_seenIn_1 15 rfl rfl)
theorem dX1_seenIn_38 : decode cX1_seenIn 38 = .ok (.ireturn, 1) := dk_172 (dk_at dksX1_seenIn_1 16 rfl rfl)
theorem dX1_seenIn_39 : decode cX1_seenIn 39 = .ok (.iinc 3 1, 3) := dk_132 3 1 (dk_at dksX1_seenIn_1 17 rfl rfl)
theorem dX1_seenIn_42 : decode cX1_seenIn 42 = .ok (.goto (-24), 3) := dk_167 255 232 (dk_at dksX1_seenIn_1 20 rfl rfl)
theorem dX1_seenIn_45 : decode cX1_seenIn 45 = .ok (.iconst (-1), 1) := dk_2 (dk_at dksX1_seenIn_1 23 rfl rfl)
theorem dX1_seenIn_46 : decode cX1_seenIn 46 = .ok (.ireturn, 1) := dk_172 (dk_at dksX1_seenIn_2 0 rfl rfl)
abbrev cX1_ifPassed : ByteArray := prog_1_method_33_code
def yX1_ifPassed : MethodName := ⟨RX1, "ifPassed", "(II)I"⟩
def dkwX1_ifPassed_4 : List UInt8 := [182, 0, 144, 172]
abbrev dktX1_ifPassed_4 : List UInt8 := dkwX1_ifPassed_4 ++ []
def dkwX1_ifPassed_3 : List UInt8 := [45, 182, 0, 148, 167, 0, 21, 21, 4, 167, 0, 16, 45, 4, 182, 0, 144, 167, 0, 8, 45, 6]
abbrev dktX1_ifPassed_3 : List UInt8 := dkwX1_ifPassed_3 ++ dktX1_ifPassed_4
def dkwX1_ifPassed_2 : List UInt8 := [170, 0, 0, 0, 0, 0, 0, 48, 0, 0, 0, 0, 0, 0, 0, 2, 0, 0, 0, 28, 0, 0, 0, 35, 0, 0, 0, 40]
abbrev dktX1_ifPassed_2 : List UInt8 := dkwX1_ifPassed_2 ++ dktX1_ifPassed_3
def dkwX1_ifPassed_1 : List UInt8 := [3, 184, 0, 115, 42, 180, 0, 40, 182, 1, 59, 78, 45, 27, 182, 1, 66, 54, 4, 28]
abbrev dktX1_ifPassed_1 : List UInt8 := dkwX1_ifPassed_1 ++ dktX1_ifPassed_2
def dkwX1_ifPassed_0 : List UInt8 := [27, 3, 17, 0, 200, 184, 0, 111, 153, 0, 16, 28, 3, 6, 184, 0, 111, 153, 0, 7, 4, 167, 0, 4]
abbrev dktX1_ifPassed_0 : List UInt8 := dkwX1_ifPassed_0 ++ dktX1_ifPassed_1
theorem dksX1_ifPassed_0 : cX1_ifPassed.data.toList.drop 0 = dktX1_ifPassed_0 := by decide +kernel
theorem dksX1_ifPassed_1 : cX1_ifPassed.data.toList.drop 24 = dktX1_ifPassed_1 := dk_seg dksX1_ifPassed_0 24 rfl rfl
theorem dksX1_ifPassed_2 : cX1_ifPassed.data.toList.drop 44 = dktX1_ifPassed_2 := dk_seg dksX1_ifPassed_1 20 rfl rfl
theorem dksX1_ifPassed_3 : cX1_ifPassed.data.toList.drop 72 = dktX1_ifPassed_3 := dk_seg dksX1_ifPassed_2 28 rfl rfl
theorem dksX1_ifPassed_4 : cX1_ifPassed.data.toList.drop 94 = dktX1_ifPassed_4 := dk_seg dksX1_ifPassed_3 22 rfl rfl
theorem dX1_ifPassed_0 : decode cX1_ifPassed 0 = .ok (.iload_n 1, 1) := dk_27 (dk_at dksX1_ifPassed_0 0 rfl rfl)
theorem dX1_ifPassed_1 : decode cX1_ifPassed 1 = .ok (.iconst 0, 1) := dk_3 (dk_at dksX1_ifPassed_0 1 rfl rfl)
theorem dX1_ifPassed_2 : decode cX1_ifPassed 2 = .ok (.sipush 200, 3) := dk_17 0 200 (dk_at dksX1_ifPassed_0 2 rfl rfl)
theorem dX1_ifPassed_5 : decode cX1_ifPassed 5 = .ok (.invokestatic 111, 3) := dk_184 0 111 (dk_at dksX1_ifPassed_0 5 rfl rfl)
theorem dX1_ifPassed_8 : decode cX1_ifPassed 8 = .ok (.ifCond .eq 16, 3) := dk_153 0 16 (dk_at dksX1_ifPassed_0 8 rfl rfl)
theorem dX1_ifPassed_11 : decode cX1_ifPassed 11 = .ok (.iload_n 2, 1) := dk_28 (dk_at dksX1_ifPassed_0 11 rfl rfl)
theorem dX1_ifPassed_12 : decode cX1_ifPassed 12 = .ok (.iconst 0, 1) := dk_3 (dk_at dksX1_ifPassed_0 12 rfl rfl)
theorem dX1_ifPassed_13 : decode cX1_ifPassed 13 = .ok (.iconst 3, 1) := dk_6 (dk_at dksX1_ifPassed_0 13 rfl rfl)
theorem dX1_ifPassed_14 : decode cX1_ifPassed 14 = .ok (.invokestatic 111, 3) := dk_184 0 111 (dk_at dksX1_ifPassed_0 14 rfl rfl)
theorem dX1_ifPassed_17 : decode cX1_ifPassed 17 = .ok (.ifCond .eq 7, 3) := dk_153 0 7 (dk_at dksX1_ifPassed_0 17 rfl rfl)
theorem dX1_ifPassed_20 : decode cX1_ifPassed 20 = .ok (.iconst 1, 1) := dk_4 (dk_at dksX1_ifPassed_0 20 rfl rfl)
theorem dX1_ifPassed_21 : decode cX1_ifPassed 21 = .ok (.goto 4, 3) := dk_167 0 4 (dk_at dksX1_ifPassed_0 21 rfl rfl)
theorem dX1_ifPassed_24 : decode cX1_ifPassed 24 = .ok (.iconst 0, 1) := dk_3 (dk_at dksX1_ifPassed_1 0 rfl rfl)
theorem dX1_ifPassed_25 : decode cX1_ifPassed 25 = .ok (.invokestatic 115, 3) := dk_184 0 115 (dk_at dksX1_ifPassed_1 1 rfl rfl)
theorem dX1_ifPassed_28 : decode cX1_ifPassed 28 = .ok (.aload_n 0, 1) := dk_42 (dk_at dksX1_ifPassed_1 4 rfl rfl)
theorem dX1_ifPassed_29 : decode cX1_ifPassed 29 = .ok (.getfield 40, 3) := dk_180 0 40 (dk_at dksX1_ifPassed_1 5 rfl rfl)
theorem dX1_ifPassed_32 : decode cX1_ifPassed 32 = .ok (.invokevirtual 315, 3) := dk_182 1 59 (dk_at dksX1_ifPassed_1 8 rfl rfl)
theorem dX1_ifPassed_35 : decode cX1_ifPassed 35 = .ok (.astore_n 3, 1) := dk_78 (dk_at dksX1_ifPassed_1 11 rfl rfl)
theorem dX1_ifPassed_36 : decode cX1_ifPassed 36 = .ok (.aload_n 3, 1) := dk_45 (dk_at dksX1_ifPassed_1 12 rfl rfl)
theorem dX1_ifPassed_37 : decode cX1_ifPassed 37 = .ok (.iload_n 1, 1) := dk_27 (dk_at dksX1_ifPassed_1 13 rfl rfl)
theorem dX1_ifPassed_38 : decode cX1_ifPassed 38 = .ok (.invokevirtual 322, 3) := dk_182 1 66 (dk_at dksX1_ifPassed_1 14 rfl rfl)
theorem dX1_ifPassed_41 : decode cX1_ifPassed 41 = .ok (.istore 4, 2) := dk_54 4 (dk_at dksX1_ifPassed_1 17 rfl rfl)
theorem dX1_ifPassed_43 : decode cX1_ifPassed 43 = .ok (.iload_n 2, 1) := dk_28 (dk_at dksX1_ifPassed_1 19 rfl rfl)
theorem dX1_ifPassed_44 : decode cX1_ifPassed 44 = .ok (.tableswitch 48 0 2 #[28, 35, 40], 28) := by decide +kernel
theorem dX1_ifPassed_72 : decode cX1_ifPassed 72 = .ok (.aload_n 3, 1) := dk_45 (dk_at dksX1_ifPassed_3 0 rfl rfl)
theorem dX1_ifPassed_73 : decode cX1_ifPassed 73 = .ok (.invokevirtual 148, 3) := dk_182 0 148 (dk_at dksX1_ifPassed_3 1 rfl rfl)
theorem dX1_ifPassed_76 : decode cX1_ifPassed 76 = .ok (.goto 21, 3) := dk_167 0 21 (dk_at dksX1_ifPassed_3 4 rfl rfl)
theorem dX1_ifPassed_79 : decode cX1_ifPassed 79 = .ok (.iload 4, 2) := dk_21 4 (dk_at dksX1_ifPassed_3 7 rfl rfl)
theorem dX1_ifPassed_81 : decode cX1_ifPassed 81 = .ok (.goto 16, 3) := dk_167 0 16 (dk_at dksX1_ifPassed_3 9 rfl rfl)
theorem dX1_ifPassed_84 : decode cX1_ifPassed 84 = .ok (.aload_n 3, 1) := dk_45 (dk_at dksX1_ifPassed_3 12 rfl rfl)
theorem dX1_ifPassed_85 : decode cX1_ifPassed 85 = .ok (.iconst 1, 1) := dk_4 (dk_at dksX1_ifPassed_3 13 rfl rfl)
theorem dX1_ifPassed_86 : decode cX1_ifPassed 86 = .ok (.invokevirtual 144, 3) := dk_182 0 144 (dk_at dksX1_ifPassed_3 14 rfl rfl)
theorem dX1_ifPassed_89 : decode cX1_ifPassed 89 = .ok (.goto 8, 3) := dk_167 0 8 (dk_at dksX1_ifPassed_3 17 rfl rfl)
theorem dX1_ifPassed_92 : decode cX1_ifPassed 92 = .ok (.aload_n 3, 1) := dk_45 (dk_at dksX1_ifPassed_3 20 rfl rfl)
theorem dX1_ifPassed_93 : decode cX1_ifPassed 93 = .ok (.iconst 3, 1) := dk_6 (dk_at dksX1_ifPassed_3 21 rfl rfl)
theorem dX1_ifPassed_94 : decode cX1_ifPassed 94 = .ok (.invokevirtual 144, 3) := dk_182 0 144 (dk_at dksX1_ifPassed_4 0 rfl rfl)
theorem dX1_ifPassed_97 : decode cX1_ifPassed 97 = .ok (.ireturn, 1) := dk_172 (dk_at dksX1_ifPassed_4 3 rfl rfl)
abbrev cX1_unseen : ByteArray := prog_1_method_35_code
def yX1_unseen : MethodName := ⟨RX1, "unseen", "(II)I"⟩
def dkwX1_unseen_0 : List UInt8 := [42, 180, 0, 40, 27, 182, 0, 237, 78, 42, 180, 0, 40, 28, 182, 0, 172, 42, 27, 28, 182, 1, 80, 172]
abbrev dktX1_unseen_0 : List UInt8 := dkwX1_unseen_0 ++ []
theorem dksX1_unseen_0 : cX1_unseen.data.toList.drop 0 = dktX1_unseen_0 := by decide +kernel
theorem dX1_unseen_0 : decode cX1_unseen 0 = .ok (.aload_n 0, 1) := dk_42 (dk_at dksX1_unseen_0 0 rfl rfl)
theorem dX1_unseen_1 : decode cX1_unseen 1 = .ok (.getfield 40, 3) := dk_180 0 40 (dk_at dksX1_unseen_0 1 rfl rfl)
theorem dX1_unseen_4 : decode cX1_unseen 4 = .ok (.iload_n 1, 1) := dk_27 (dk_at dksX1_unseen_0 4 rfl rfl)
theorem dX1_unseen_5 : decode cX1_unseen 5 = .ok (.invokevirtual 237, 3) := dk_182 0 237 (dk_at dksX1_unseen_0 5 rfl rfl)
theorem dX1_unseen_8 : decode cX1_unseen 8 = .ok (.astore_n 3, 1) := dk_78 (dk_at dksX1_unseen_0 8 rfl rfl)
theorem dX1_unseen_9 : decode cX1_unseen 9 = .ok (.aload_n 0, 1) := dk_42 (dk_at dksX1_unseen_0 9 rfl rfl)
theorem dX1_unseen_10 : decode cX1_unseen 10 = .ok (.getfield 40, 3) := dk_180 0 40 (dk_at dksX1_unseen_0 10 rfl rfl)
theorem dX1_unseen_13 : decode cX1_unseen 13 = .ok (.iload_n 2, 1) := dk_28 (dk_at dksX1_unseen_0 13 rfl rfl)
theorem dX1_unseen_14 : decode cX1_unseen 14 = .ok (.invokevirtual 172, 3) := dk_182 0 172 (dk_at dksX1_unseen_0 14 rfl rfl)
theorem dX1_unseen_17 : decode cX1_unseen 17 = .ok (.aload_n 0, 1) := dk_42 (dk_at dksX1_unseen_0 17 rfl rfl)
theorem dX1_unseen_18 : decode cX1_unseen 18 = .ok (.iload_n 1, 1) := dk_27 (dk_at dksX1_unseen_0 18 rfl rfl)
theorem dX1_unseen_19 : decode cX1_unseen 19 = .ok (.iload_n 2, 1) := dk_28 (dk_at dksX1_unseen_0 19 rfl rfl)
theorem dX1_unseen_20 : decode cX1_unseen 20 = .ok (.invokevirtual 336, 3) := dk_182 1 80 (dk_at dksX1_unseen_0 20 rfl rfl)
theorem dX1_unseen_23 : decode cX1_unseen 23 = .ok (.ireturn, 1) := dk_172 (dk_at dksX1_unseen_0 23 rfl rfl)
abbrev cX1_ticksTo : ByteArray := prog_1_method_34_code
def yX1_ticksTo : MethodName := ⟨RX1, "ticksTo", "(II)I"⟩
def dkwX1_ticksTo_2 : List UInt8 := [153, 0, 6, 21, 4, 172, 45, 182, 1, 77, 132, 4, 1, 167, 255, 230, 2, 172]
abbrev dktX1_ticksTo_2 : List UInt8 := dkwX1_ticksTo_2 ++ []
def dkwX1_ticksTo_1 : List UInt8 := [180, 0, 159, 183, 1, 71, 78, 3, 54, 4, 21, 4, 16, 60, 163, 0, 25, 45, 180, 1, 74, 28, 51]
abbrev dktX1_ticksTo_1 : List UInt8 := dkwX1_ticksTo_1 ++ dktX1_ticksTo_2
def dkwX1_ticksTo_0 : List UInt8 := [187, 1, 69, 89, 42, 180, 0, 40, 42, 180, 0, 40, 180, 0, 65, 27, 182, 0, 155, 192, 0, 68]
abbrev dktX1_ticksTo_0 : List UInt8 := dkwX1_ticksTo_0 ++ dktX1_ticksTo_1
theorem dksX1_ticksTo_0 : cX1_ticksTo.data.toList.drop 0 = dktX1_ticksTo_0 := by decide +kernel
theorem dksX1_ticksTo_1 : cX1_ticksTo.data.toList.drop 22 = dktX1_ticksTo_1 := dk_seg dksX1_ticksTo_0 22 rfl rfl
theorem dksX1_ticksTo_2 : cX1_ticksTo.data.toList.drop 45 = dktX1_ticksTo_2 := dk_seg dksX1_ticksTo_1 23 rfl rfl
theorem dX1_ticksTo_0 : decode cX1_ticksTo 0 = .ok (.new 325, 3) := dk_187 1 69 (dk_at dksX1_ticksTo_0 0 rfl rfl)
theorem dX1_ticksTo_3 : decode cX1_ticksTo 3 = .ok (.dup, 1) := dk_89 (dk_at dksX1_ticksTo_0 3 rfl rfl)
theorem dX1_ticksTo_4 : decode cX1_ticksTo 4 = .ok (.aload_n 0, 1) := dk_42 (dk_at dksX1_ticksTo_0 4 rfl rfl)
theorem dX1_ticksTo_5 : decode cX1_ticksTo 5 = .ok (.getfield 40, 3) := dk_180 0 40 (dk_at dksX1_ticksTo_0 5 rfl rfl)
theorem dX1_ticksTo_8 : decode cX1_ticksTo 8 = .ok (.aload_n 0, 1) := dk_42 (dk_at dksX1_ticksTo_0 8 rfl rfl)
theorem dX1_ticksTo_9 : decode cX1_ticksTo 9 = .ok (.getfield 40, 3) := dk_180 0 40 (dk_at dksX1_ticksTo_0 9 rfl rfl)
theorem dX1_ticksTo_12 : decode cX1_ticksTo 12 = .ok (.getfield 65, 3) := dk_180 0 65 (dk_at dksX1_ticksTo_0 12 rfl rfl)
theorem dX1_ticksTo_15 : decode cX1_ticksTo 15 = .ok (.iload_n 1, 1) := dk_27 (dk_at dksX1_ticksTo_0 15 rfl rfl)
theorem dX1_ticksTo_16 : decode cX1_ticksTo 16 = .ok (.invokevirtual 155, 3) := dk_182 0 155 (dk_at dksX1_ticksTo_0 16 rfl rfl)
theorem dX1_ticksTo_19 : decode cX1_ticksTo 19 = .ok (.checkcast 68, 3) := dk_192 0 68 (dk_at dksX1_ticksTo_0 19 rfl rfl)
theorem dX1_ticksTo_22 : decode cX1_ticksTo 22 = .ok (.getfield 159, 3) := dk_180 0 159 (dk_at dksX1_ticksTo_1 0 rfl rfl)
theorem dX1_ticksTo_25 : decode cX1_ticksTo 25 = .ok (.invokespecial 327, 3) := dk_183 1 71 (dk_at dksX1_ticksTo_1 3 rfl rfl)
theorem dX1_ticksTo_28 : decode cX1_ticksTo 28 = .ok (.astore_n 3, 1) := dk_78 (dk_at dksX1_ticksTo_1 6 rfl rfl)
theorem dX1_ticksTo_29 : decode cX1_ticksTo 29 = .ok (.iconst 0, 1) := dk_3 (dk_at dksX1_ticksTo_1 7 rfl rfl)
theorem dX1_ticksTo_30 : decode cX1_ticksTo 30 = .ok (.istore 4, 2) := dk_54 4 (dk_at dksX1_ticksTo_1 8 rfl rfl)
theorem dX1_ticksTo_32 : decode cX1_ticksTo 32 = .ok (.iload 4, 2) := dk_21 4 (dk_at dksX1_ticksTo_1 10 rfl rfl)
theorem dX1_ticksTo_34 : decode cX1_ticksTo 34 = .ok (.bipush 60, 2) := dk_16 60 (dk_at dksX1_ticksTo_1 12 rfl rfl)
theorem dX1_ticksTo_36 : decode cX1_ticksTo 36 = .ok (.if_icmp .gt 25, 3) := dk_163 0 25 (dk_at dksX1_ticksTo_1 14 rfl rfl)
theorem dX1_ticksTo_39 : decode cX1_ticksTo 39 = .ok (.aload_n 3, 1) := dk_45 (dk_at dksX1_ticksTo_1 17 rfl rfl)
theorem dX1_ticksTo_40 : decode cX1_ticksTo 40 = .ok (.getfield 330, 3) := dk_180 1 74 (dk_at dksX1_ticksTo_1 18 rfl rfl)
theorem dX1_ticksTo_43 : decode cX1_ticksTo 43 = .ok (.iload_n 2, 1) := dk_28 (dk_at dksX1_ticksTo_1 21 rfl rfl)
theorem dX1_ticksTo_44 : decode cX1_ticksTo 44 = .ok (.baload, 1) := dk_51 (dk_at dksX1_ticksTo_1 22 rfl rfl)
theorem dX1_ticksTo_45 : decode cX1_ticksTo 45 = .ok (.ifCond .eq 6, 3) := dk_153 0 6 (dk_at dksX1_ticksTo_2 0 rfl rfl)
theorem dX1_ticksTo_48 : decode cX1_ticksTo 48 = .ok (.iload 4, 2) := dk_21 4 (dk_at dksX1_ticksTo_2 3 rfl rfl)
theorem dX1_ticksTo_50 : decode cX1_ticksTo 50 = .ok (.ireturn, 1) := dk_172 (dk_at dksX1_ticksTo_2 5 rfl rfl)
theorem dX1_ticksTo_51 : decode cX1_ticksTo 51 = .ok (.aload_n 3, 1) := dk_45 (dk_at dksX1_ticksTo_2 6 rfl rfl)
theorem dX1_ticksTo_52 : decode cX1_ticksTo 52 = .ok (.invokevirtual 333, 3) := dk_182 1 77 (dk_at dksX1_ticksTo_2 7 rfl rfl)
theorem dX1_ticksTo_55 : decode cX1_ticksTo 55 = .ok (.iinc 4 1, 3) := dk_132 4 1 (dk_at dksX1_ticksTo_2 10 rfl rfl)
theorem dX1_ticksTo_58 : decode cX1_ticksTo 58 = .ok (.goto (-26), 3) := dk_167 255 230 (dk_at dksX1_ticksTo_2 13 rfl rfl)
theorem dX1_ticksTo_61 : decode cX1_ticksTo 61 = .ok (.iconst (-1), 1) := dk_2 (dk_at dksX1_ticksTo_2 16 rfl rfl)
theorem dX1_ticksTo_62 : decode cX1_ticksTo 62 = .ok (.ireturn, 1) := dk_172 (dk_at dksX1_ticksTo_2 17 rfl rfl)
abbrev cX1_canBe : ByteArray := prog_1_method_36_code
def yX1_canBe : MethodName := ⟨RX1, "canBe", "(II)I"⟩
def dkwX1_canBe_2 : List UInt8 := [182, 1, 77, 132, 5, 1, 167, 255, 242, 25, 4, 182, 1, 83, 172]
abbrev dktX1_canBe_2 : List UInt8 := dkwX1_canBe_2 ++ []
def dkwX1_canBe_1 : List UInt8 := [180, 0, 40, 45, 180, 0, 159, 183, 1, 71, 58, 4, 3, 54, 5, 21, 5, 28, 162, 0, 14, 25, 4]
abbrev dktX1_canBe_1 : List UInt8 := dkwX1_canBe_1 ++ dktX1_canBe_2
def dkwX1_canBe_0 : List UInt8 := [42, 180, 0, 40, 27, 182, 0, 237, 78, 28, 3, 16, 60, 184, 0, 111, 184, 0, 115, 187, 1, 69, 89, 42]
abbrev dktX1_canBe_0 : List UInt8 := dkwX1_canBe_0 ++ dktX1_canBe_1
theorem dksX1_canBe_0 : cX1_canBe.data.toList.drop 0 = dktX1_canBe_0 := by decide +kernel
theorem dksX1_canBe_1 : cX1_canBe.data.toList.drop 24 = dktX1_canBe_1 := dk_seg dksX1_canBe_0 24 rfl rfl
theorem dksX1_canBe_2 : cX1_canBe.data.toList.drop 47 = dktX1_canBe_2 := dk_seg dksX1_canBe_1 23 rfl rfl
theorem dX1_canBe_0 : decode cX1_canBe 0 = .ok (.aload_n 0, 1) := dk_42 (dk_at dksX1_canBe_0 0 rfl rfl)
theorem dX1_canBe_1 : decode cX1_canBe 1 = .ok (.getfield 40, 3) := dk_180 0 40 (dk_at dksX1_canBe_0 1 rfl rfl)
theorem dX1_canBe_4 : decode cX1_canBe 4 = .ok (.iload_n 1, 1) := dk_27 (dk_at dksX1_canBe_0 4 rfl rfl)
theorem dX1_canBe_5 : decode cX1_canBe 5 = .ok (.invokevirtual 237, 3) := dk_182 0 237 (dk_at dksX1_canBe_0 5 rfl rfl)
theorem dX1_canBe_8 : decode cX1_canBe 8 = .ok (.astore_n 3, 1) := dk_78 (dk_at dksX1_canBe_0 8 rfl rfl)
theorem dX1_canBe_9 : decode cX1_canBe 9 = .ok (.iload_n 2, 1) := dk_28 (dk_at dksX1_canBe_0 9 rfl rfl)
theorem dX1_canBe_10 : decode cX1_canBe 10 = .ok (.iconst 0, 1) := dk_3 (dk_at dksX1_canBe_0 10 rfl rfl)
theorem dX1_canBe_11 : decode cX1_canBe 11 = .ok (.bipush 60, 2) := dk_16 60 (dk_at dksX1_canBe_0 11 rfl rfl)
theorem dX1_canBe_13 : decode cX1_canBe 13 = .ok (.invokestatic 111, 3) := dk_184 0 111 (dk_at dksX1_canBe_0 13 rfl rfl)
theorem dX1_canBe_16 : decode cX1_canBe 16 = .ok (.invokestatic 115, 3) := dk_184 0 115 (dk_at dksX1_canBe_0 16 rfl rfl)
theorem dX1_canBe_19 : decode cX1_canBe 19 = .ok (.new 325, 3) := dk_187 1 69 (dk_at dksX1_canBe_0 19 rfl rfl)
theorem dX1_canBe_22 : decode cX1_canBe 22 = .ok (.dup, 1) := dk_89 (dk_at dksX1_canBe_0 22 rfl rfl)
theorem dX1_canBe_23 : decode cX1_canBe 23 = .ok (.aload_n 0, 1) := dk_42 (dk_at dksX1_canBe_0 23 rfl rfl)
theorem dX1_canBe_24 : decode cX1_canBe 24 = .ok (.getfield 40, 3) := dk_180 0 40 (dk_at dksX1_canBe_1 0 rfl rfl)
theorem dX1_canBe_27 : decode cX1_canBe 27 = .ok (.aload_n 3, 1) := dk_45 (dk_at dksX1_canBe_1 3 rfl rfl)
theorem dX1_canBe_28 : decode cX1_canBe 28 = .ok (.getfield 159, 3) := dk_180 0 159 (dk_at dksX1_canBe_1 4 rfl rfl)
theorem dX1_canBe_31 : decode cX1_canBe 31 = .ok (.invokespecial 327, 3) := dk_183 1 71 (dk_at dksX1_canBe_1 7 rfl rfl)
theorem dX1_canBe_34 : decode cX1_canBe 34 = .ok (.astore 4, 2) := dk_58 4 (dk_at dksX1_canBe_1 10 rfl rfl)
theorem dX1_canBe_36 : decode cX1_canBe 36 = .ok (.iconst 0, 1) := dk_3 (dk_at dksX1_canBe_1 12 rfl rfl)
theorem dX1_canBe_37 : decode cX1_canBe 37 = .ok (.istore 5, 2) := dk_54 5 (dk_at dksX1_canBe_1 13 rfl rfl)
theorem dX1_canBe_39 : decode cX1_canBe 39 = .ok (.iload 5, 2) := dk_21 5 (dk_at dksX1_canBe_1 15 rfl rfl)
theorem dX1_canBe_41 : decode cX1_canBe 41 = .ok (.iload_n 2, 1) := dk_28 (dk_at dksX1_canBe_1 17 rfl rfl)
theorem dX1_canBe_42 : decode cX1_canBe 42 = .ok (.if_icmp .ge 14, 3) := dk_162 0 14 (dk_at dksX1_canBe_1 18 rfl rfl)
theorem dX1_canBe_45 : decode cX1_canBe 45 = .ok (.aload 4, 2) := dk_25 4 (dk_at dksX1_canBe_1 21 rfl rfl)
theorem dX1_canBe_47 : decode cX1_canBe 47 = .ok (.invokevirtual 333, 3) := dk_182 1 77 (dk_at dksX1_canBe_2 0 rfl rfl)
theorem dX1_canBe_50 : decode cX1_canBe 50 = .ok (.iinc 5 1, 3) := dk_132 5 1 (dk_at dksX1_canBe_2 3 rfl rfl)
theorem dX1_canBe_53 : decode cX1_canBe 53 = .ok (.goto (-14), 3) := dk_167 255 242 (dk_at dksX1_canBe_2 6 rfl rfl)
theorem dX1_canBe_56 : decode cX1_canBe 56 = .ok (.aload 4, 2) := dk_25 4 (dk_at dksX1_canBe_2 9 rfl rfl)
theorem dX1_canBe_58 : decode cX1_canBe 58 = .ok (.invokevirtual 339, 3) := dk_182 1 83 (dk_at dksX1_canBe_2 11 rfl rfl)
theorem dX1_canBe_61 : decode cX1_canBe 61 = .ok (.ireturn, 1) := dk_172 (dk_at dksX1_canBe_2 14 rfl rfl)
abbrev cX1_ifStepped : ByteArray := prog_1_method_37_code
def yX1_ifStepped : MethodName := ⟨RX1, "ifStepped", "(II)I"⟩
def dkwX1_ifStepped_2 : List UInt8 := [153, 0, 7, 4, 167, 0, 4, 5, 172]
abbrev dktX1_ifStepped_2 : List UInt8 := dkwX1_ifStepped_2 ++ []
def dkwX1_ifStepped_1 : List UInt8 := [182, 1, 86, 54, 5, 21, 5, 156, 0, 5, 3, 172, 25, 4, 182, 1, 63, 25, 4, 21, 5, 182, 0, 251]
abbrev dktX1_ifStepped_1 : List UInt8 := dkwX1_ifStepped_1 ++ dktX1_ifStepped_2
def dkwX1_ifStepped_0 : List UInt8 := [42, 180, 0, 40, 27, 182, 0, 237, 78, 42, 180, 0, 40, 182, 1, 59, 58, 4, 25, 4, 27, 28]
abbrev dktX1_ifStepped_0 : List UInt8 := dkwX1_ifStepped_0 ++ dktX1_ifStepped_1
theorem dksX1_ifStepped_0 : cX1_ifStepped.data.toList.drop 0 = dktX1_ifStepped_0 := by decide +kernel
theorem dksX1_ifStepped_1 : cX1_ifStepped.data.toList.drop 22 = dktX1_ifStepped_1 := dk_seg dksX1_ifStepped_0 22 rfl rfl
theorem dksX1_ifStepped_2 : cX1_ifStepped.data.toList.drop 46 = dktX1_ifStepped_2 := dk_seg dksX1_ifStepped_1 24 rfl rfl
theorem dX1_ifStepped_0 : decode cX1_ifStepped 0 = .ok (.aload_n 0, 1) := dk_42 (dk_at dksX1_ifStepped_0 0 rfl rfl)
theorem dX1_ifStepped_1 : decode cX1_ifStepped 1 = .ok (.getfield 40, 3) := dk_180 0 40 (dk_at dksX1_ifStepped_0 1 rfl rfl)
theorem dX1_ifStepped_4 : decode cX1_ifStepped 4 = .ok (.iload_n 1, 1) := dk_27 (dk_at dksX1_ifStepped_0 4 rfl rfl)
theorem dX1_ifStepped_5 : decode cX1_ifStepped 5 = .ok (.invokevirtual 237, 3) := dk_182 0 237 (dk_at dksX1_ifStepped_0 5 rfl rfl)
theorem dX1_ifStepped_8 : decode cX1_ifStepped 8 = .ok (.astore_n 3, 1) := dk_78 (dk_at dksX1_ifStepped_0 8 rfl rfl)
theorem dX1_ifStepped_9 : decode cX1_ifStepped 9 = .ok (.aload_n 0, 1) := dk_42 (dk_at dksX1_ifStepped_0 9 rfl rfl)
theorem dX1_ifStepped_10 : decode cX1_ifStepped 10 = .ok (.getfield 40, 3) := dk_180 0 40 (dk_at dksX1_ifStepped_0 10 rfl rfl)
theorem dX1_ifStepped_13 : decode cX1_ifStepped 13 = .ok (.invokevirtual 315, 3) := dk_182 1 59 (dk_at dksX1_ifStepped_0 13 rfl rfl)
theorem dX1_ifStepped_16 : decode cX1_ifStepped 16 = .ok (.astore 4, 2) := dk_58 4 (dk_at dksX1_ifStepped_0 16 rfl rfl)
theorem dX1_ifStepped_18 : decode cX1_ifStepped 18 = .ok (.aload 4, 2) := dk_25 4 (dk_at dksX1_ifStepped_0 18 rfl rfl)
theorem dX1_ifStepped_20 : decode cX1_ifStepped 20 = .ok (.iload_n 1, 1) := dk_27 (dk_at dksX1_ifStepped_0 20 rfl rfl)
theorem dX1_ifStepped_21 : decode cX1_ifStepped 21 = .ok (.iload_n 2, 1) := dk_28 (dk_at dksX1_ifStepped_0 21 rfl rfl)
theorem dX1_ifStepped_22 : decode cX1_ifStepped 22 = .ok (.invokevirtual 342, 3) := dk_182 1 86 (dk_at dksX1_ifStepped_1 0 rfl rfl)
theorem dX1_ifStepped_25 : decode cX1_ifStepped 25 = .ok (.istore 5, 2) := dk_54 5 (dk_at dksX1_ifStepped_1 3 rfl rfl)
theorem dX1_ifStepped_27 : decode cX1_ifStepped 27 = .ok (.iload 5, 2) := dk_21 5 (dk_at dksX1_ifStepped_1 5 rfl rfl)
theorem dX1_ifStepped_29 : decode cX1_ifStepped 29 = .ok (.ifCond .ge 5, 3) := dk_156 0 5 (dk_at dksX1_ifStepped_1 7 rfl rfl)
theorem dX1_ifStepped_32 : decode cX1_ifStepped 32 = .ok (.iconst 0, 1) := dk_3 (dk_at dksX1_ifStepped_1 10 rfl rfl)
theorem dX1_ifStepped_33 : decode cX1_ifStepped 33 = .ok (.ireturn, 1) := dk_172 (dk_at dksX1_ifStepped_1 11 rfl rfl)
theorem dX1_ifStepped_34 : decode cX1_ifStepped 34 = .ok (.aload 4, 2) := dk_25 4 (dk_at dksX1_ifStepped_1 12 rfl rfl)
theorem dX1_ifStepped_36 : decode cX1_ifStepped 36 = .ok (.invokevirtual 319, 3) := dk_182 1 63 (dk_at dksX1_ifStepped_1 14 rfl rfl)
theorem dX1_ifStepped_39 : decode cX1_ifStepped 39 = .ok (.aload 4, 2) := dk_25 4 (dk_at dksX1_ifStepped_1 17 rfl rfl)
theorem dX1_ifStepped_41 : decode cX1_ifStepped 41 = .ok (.iload 5, 2) := dk_21 5 (dk_at dksX1_ifStepped_1 19 rfl rfl)
theorem dX1_ifStepped_43 : decode cX1_ifStepped 43 = .ok (.invokevirtual 251, 3) := dk_182 0 251 (dk_at dksX1_ifStepped_1 21 rfl rfl)
theorem dX1_ifStepped_46 : decode cX1_ifStepped 46 = .ok (.ifCond .eq 7, 3) := dk_153 0 7 (dk_at dksX1_ifStepped_2 0 rfl rfl)
theorem dX1_ifStepped_49 : decode cX1_ifStepped 49 = .ok (.iconst 1, 1) := dk_4 (dk_at dksX1_ifStepped_2 3 rfl rfl)
theorem dX1_ifStepped_50 : decode cX1_ifStepped 50 = .ok (.goto 4, 3) := dk_167 0 4 (dk_at dksX1_ifStepped_2 4 rfl rfl)
theorem dX1_ifStepped_53 : decode cX1_ifStepped 53 = .ok (.iconst 2, 1) := dk_5 (dk_at dksX1_ifStepped_2 7 rfl rfl)
theorem dX1_ifStepped_54 : decode cX1_ifStepped 54 = .ok (.ireturn, 1) := dk_172 (dk_at dksX1_ifStepped_2 8 rfl rfl)
abbrev cX1_nearest : ByteArray := prog_1_method_38_code
def yX1_nearest : MethodName := ⟨RX1, "nearest", "(I)I"⟩
def dkwX1_nearest_4 : List UInt8 := [21, 4, 161, 0, 6, 167, 0, 10, 21, 5, 62, 21, 6, 54, 4, 132, 5, 1, 167, 255, 161, 29, 172]
abbrev dktX1_nearest_4 : List UInt8 := dkwX1_nearest_4 ++ []
def dkwX1_nearest_3 : List UInt8 := [192, 0, 79, 180, 1, 7, 182, 1, 80, 54, 6, 21, 6, 2, 159, 0, 25, 29, 2, 159, 0, 13, 21, 6]
abbrev dktX1_nearest_3 : List UInt8 := dkwX1_nearest_3 ++ dktX1_nearest_4
def dkwX1_nearest_2 : List UInt8 := [180, 0, 169, 153, 0, 6, 167, 0, 56, 42, 27, 42, 180, 0, 40, 180, 0, 76, 21, 5, 182, 0, 155]
abbrev dktX1_nearest_2 : List UInt8 := dkwX1_nearest_2 ++ dktX1_nearest_3
def dkwX1_nearest_1 : List UInt8 := [180, 0, 76, 182, 0, 132, 162, 0, 86, 42, 180, 0, 40, 180, 0, 76, 21, 5, 182, 0, 155, 192, 0, 79]
abbrev dktX1_nearest_1 : List UInt8 := dkwX1_nearest_1 ++ dktX1_nearest_2
def dkwX1_nearest_0 : List UInt8 := [42, 180, 0, 40, 27, 182, 0, 237, 77, 2, 62, 3, 54, 4, 3, 54, 5, 21, 5, 42, 180, 0, 40]
abbrev dktX1_nearest_0 : List UInt8 := dkwX1_nearest_0 ++ dktX1_nearest_1
theorem dksX1_nearest_0 : cX1_nearest.data.toList.drop 0 = dktX1_nearest_0 := by decide +kernel
theorem dksX1_nearest_1 : cX1_nearest.data.toList.drop 23 = dktX1_nearest_1 := dk_seg dksX1_nearest_0 23 rfl rfl
theorem dksX1_nearest_2 : cX1_nearest.data.toList.drop 47 = dktX1_nearest_2 := dk_seg dksX1_nearest_1 24 rfl rfl
theorem dksX1_nearest_3 : cX1_nearest.data.toList.drop 70 = dktX1_nearest_3 := dk_seg dksX1_nearest_2 23 rfl rfl
theorem dksX1_nearest_4 : cX1_nearest.data.toList.drop 94 = dktX1_nearest_4 := dk_seg dksX1_nearest_3 24 rfl rfl
theorem dX1_nearest_0 : decode cX1_nearest 0 = .ok (.aload_n 0, 1) := dk_42 (dk_at dksX1_nearest_0 0 rfl rfl)
theorem dX1_nearest_1 : decode cX1_nearest 1 = .ok (.getfield 40, 3) := dk_180 0 40 (dk_at dksX1_nearest_0 1 rfl rfl)
theorem dX1_nearest_4 : decode cX1_nearest 4 = .ok (.iload_n 1, 1) := dk_27 (dk_at dksX1_nearest_0 4 rfl rfl)
theorem dX1_nearest_5 : decode cX1_nearest 5 = .ok (.invokevirtual 237, 3) := dk_182 0 237 (dk_at dksX1_nearest_0 5 rfl rfl)
theorem dX1_nearest_8 : decode cX1_nearest 8 = .ok (.astore_n 2, 1) := dk_77 (dk_at dksX1_nearest_0 8 rfl rfl)
theorem dX1_nearest_9 : decode cX1_nearest 9 = .ok (.iconst (-1), 1) := dk_2 (dk_at dksX1_nearest_0 9 rfl rfl)
theorem dX1_nearest_10 : decode cX1_nearest 10 = .ok (.istore_n 3, 1) := dk_62 (dk_at dksX1_nearest_0 10 rfl rfl)
theorem dX1_nearest_11 : decode cX1_nearest 11 = .ok (.iconst 0, 1) := dk_3 (dk_at dksX1_nearest_0 11 rfl rfl)
theorem dX1_nearest_12 : decode cX1_nearest 12 = .ok (.istore 4, 2) := dk_54 4 (dk_at dksX1_nearest_0 12 rfl rfl)
theorem dX1_nearest_14 : decode cX1_nearest 14 = .ok (.iconst 0, 1) := dk_3 (dk_at dksX1_nearest_0 14 rfl rfl)
theorem dX1_nearest_15 : decode cX1_nearest 15 = .ok (.istore 5, 2) := dk_54 5 (dk_at dksX1_nearest_0 15 rfl rfl)
theorem dX1_nearest_17 : decode cX1_nearest 17 = .ok (.iload 5, 2) := dk_21 5 (dk_at dksX1_nearest_0 17 rfl rfl)
theorem dX1_nearest_19 : decode cX1_nearest 19 = .ok (.aload_n 0, 1) := dk_42 (dk_at dksX1_nearest_0 19 rfl rfl)
theorem dX1_nearest_20 : decode cX1_nearest 20 = .ok (.getfield 40, 3) := dk_180 0 40 (dk_at dksX1_nearest_0 20 rfl rfl)
theorem dX1_nearest_23 : decode cX1_nearest 23 = .ok (.getfield 76, 3) := dk_180 0 76 (dk_at dksX1_nearest_1 0 rfl rfl)
theorem dX1_nearest_26 : decode cX1_nearest 26 = .ok (.invokevirtual 132, 3) := dk_182 0 132 (dk_at dksX1_nearest_1 3 rfl rfl)
theorem dX1_nearest_29 : decode cX1_nearest 29 = .ok (.if_icmp .ge 86, 3) := dk_162 0 86 (dk_at dksX1_nearest_1 6 rfl rfl)
theorem dX1_nearest_32 : decode cX1_nearest 32 = .ok (.aload_n 0, 1) := dk_42 (dk_at dksX1_nearest_1 9 rfl rfl)
theorem dX1_nearest_33 : decode cX1_nearest 33 = .ok (.getfield 40, 3) := dk_180 0 40 (dk_at dksX1_nearest_1 10 rfl rfl)
theorem dX1_nearest_36 : decode cX1_nearest 36 = .ok (.getfield 76, 3) := dk_180 0 76 (dk_at dksX1_nearest_1 13 rfl rfl)
theorem dX1_nearest_39 : decode cX1_nearest 39 = .ok (.iload 5, 2) := dk_21 5 (dk_at dksX1_nearest_1 16 rfl rfl)
theorem dX1_nearest_41 : decode cX1_nearest 41 = .ok (.invokevirtual 155, 3) := dk_182 0 155 (dk_at dksX1_nearest_1 18 rfl rfl)
theorem dX1_nearest_44 : decode cX1_nearest 44 = .ok (.checkcast 79, 3) := dk_192 0 79 (dk_at dksX1_nearest_1 21 rfl rfl)
theorem dX1_nearest_47 : decode cX1_nearest 47 = .ok (.getfield 169, 3) := dk_180 0 169 (dk_at dksX1_nearest_2 0 rfl rfl)
theorem dX1_nearest_50 : decode cX1_nearest 50 = .ok (.ifCond .eq 6, 3) := dk_153 0 6 (dk_at dksX1_nearest_2 3 rfl rfl)
theorem dX1_nearest_53 : decode cX1_nearest 53 = .ok (.goto 56, 3) := dk_167 0 56 (dk_at dksX1_nearest_2 6 rfl rfl)
theorem dX1_nearest_56 : decode cX1_nearest 56 = .ok (.aload_n 0, 1) := dk_42 (dk_at dksX1_nearest_2 9 rfl rfl)
theorem dX1_nearest_57 : decode cX1_nearest 57 = .ok (.iload_n 1, 1) := dk_27 (dk_at dksX1_nearest_2 10 rfl rfl)
theorem dX1_nearest_58 : decode cX1_nearest 58 = .ok (.aload_n 0, 1) := dk_42 (dk_at dksX1_nearest_2 11 rfl rfl)
theorem dX1_nearest_59 : decode cX1_nearest 59 = .ok (.getfield 40, 3) := dk_180 0 40 (dk_at dksX1_nearest_2 12 rfl rfl)
theorem dX1_nearest_62 : decode cX1_nearest 62 = .ok (.getfield 76, 3) := dk_180 0 76 (dk_at dksX1_nearest_2 15 rfl rfl)
theorem dX1_nearest_65 : decode cX1_nearest 65 = .ok (.iload 5, 2) := dk_21 5 (dk_at dksX1_nearest_2 18 rfl rfl)
theorem dX1_nearest_67 : decode cX1_nearest 67 = .ok (.invokevirtual 155, 3) := dk_182 0 155 (dk_at dksX1_nearest_2 20 rfl rfl)
theorem dX1_nearest_70 : decode cX1_nearest 70 = .ok (.checkcast 79, 3) := dk_192 0 79 (dk_at dksX1_nearest_3 0 rfl rfl)
theorem dX1_nearest_73 : decode cX1_nearest 73 = .ok (.getfield 263, 3) := dk_180 1 7 (dk_at dksX1_nearest_3 3 rfl rfl)
theorem dX1_nearest_76 : decode cX1_nearest 76 = .ok (.invokevirtual 336, 3) := dk_182 1 80 (dk_at dksX1_nearest_3 6 rfl rfl)
theorem dX1_nearest_79 : decode cX1_nearest 79 = .ok (.istore 6, 2) := dk_54 6 (dk_at dksX1_nearest_3 9 rfl rfl)
theorem dX1_nearest_81 : decode cX1_nearest 81 = .ok (.iload 6, 2) := dk_21 6 (dk_at dksX1_nearest_3 11 rfl rfl)
theorem dX1_nearest_83 : decode cX1_nearest 83 = .ok (.iconst (-1), 1) := dk_2 (dk_at dksX1_nearest_3 13 rfl rfl)
theorem dX1_nearest_84 : decode cX1_nearest 84 = .ok (.if_icmp .eq 25, 3) := dk_159 0 25 (dk_at dksX1_nearest_3 14 rfl rfl)
theorem dX1_nearest_87 : decode cX1_nearest 87 = .ok (.iload_n 3, 1) := dk_29 (dk_at dksX1_nearest_3 17 rfl rfl)
theorem dX1_nearest_88 : decode cX1_nearest 88 = .ok (.iconst (-1), 1) := dk_2 (dk_at dksX1_nearest_3 18 rfl rfl)
theorem dX1_nearest_89 : decode cX1_nearest 89 = .ok (.if_icmp .eq 13, 3) := dk_159 0 13 (dk_at dksX1_nearest_3 19 rfl rfl)
theorem dX1_nearest_92 : decode cX1_nearest 92 = .ok (.iload 6, 2) := dk_21 6 (dk_at dksX1_nearest_3 22 rfl rfl)
theorem dX1_nearest_94 : decode cX1_nearest 94 = .ok (.iload 4, 2) := dk_21 4 (dk_at dksX1_nearest_4 0 rfl rfl)
theorem dX1_nearest_96 : decode cX1_nearest 96 = .ok (.if_icmp .lt 6, 3) := dk_161 0 6 (dk_at dksX1_nearest_4 2 rfl rfl)
theorem dX1_nearest_99 : decode cX1_nearest 99 = .ok (.goto 10, 3) := dk_167 0 10 (dk_at dksX1_nearest_4 5 rfl rfl)
theorem dX1_nearest_102 : decode cX1_nearest 102 = .ok (.iload 5, 2) := dk_21 5 (dk_at dksX1_nearest_4 8 rfl rfl)
theorem dX1_nearest_104 : decode cX1_nearest 104 = .ok (.istore_n 3, 1) := dk_62 (dk_at dksX1_nearest_4 10 rfl rfl)
theorem dX1_nearest_105 : decode cX1_nearest 105 = .ok (.iload 6, 2) := dk_21 6 (dk_at dksX1_nearest_4 11 rfl rfl)
theorem dX1_nearest_107 : decode cX1_nearest 107 = .ok (.istore 4, 2) := dk_54 4 (dk_at dksX1_nearest_4 13 rfl rfl)
theorem dX1_nearest_109 : decode cX1_nearest 109 = .ok (.iinc 5 1, 3) := dk_132 5 1 (dk_at dksX1_nearest_4 15 rfl rfl)
theorem dX1_nearest_112 : decode cX1_nearest 112 = .ok (.goto (-95), 3) := dk_167 255 161 (dk_at dksX1_nearest_4 18 rfl rfl)
theorem dX1_nearest_115 : decode cX1_nearest 115 = .ok (.iload_n 3, 1) := dk_29 (dk_at dksX1_nearest_4 21 rfl rfl)
theorem dX1_nearest_116 : decode cX1_nearest 116 = .ok (.ireturn, 1) := dk_172 (dk_at dksX1_nearest_4 22 rfl rfl)
abbrev cX1_refusals : ByteArray := prog_1_method_41_code
def yX1_refusals : MethodName := ⟨RX1, "refusals", "(I)I"⟩
def dkwX1_refusals_0 : List UInt8 := [27, 4, 16, 8, 184, 0, 111, 184, 0, 115, 42, 180, 0, 28, 27, 46, 172]
abbrev dktX1_refusals_0 : List UInt8 := dkwX1_refusals_0 ++ []
theorem dksX1_refusals_0 : cX1_refusals.data.toList.drop 0 = dktX1_refusals_0 := by decide +kernel
theorem dX1_refusals_0 : decode cX1_refusals 0 = .ok (.iload_n 1, 1) := dk_27 (dk_at dksX1_refusals_0 0 rfl rfl)
theorem dX1_refusals_1 : decode cX1_refusals 1 = .ok (.iconst 1, 1) := dk_4 (dk_at dksX1_refusals_0 1 rfl rfl)
theorem dX1_refusals_2 : decode cX1_refusals 2 = .ok (.bipush 8, 2) := dk_16 8 (dk_at dksX1_refusals_0 2 rfl rfl)
theorem dX1_refusals_4 : decode cX1_refusals 4 = .ok (.invokestatic 111, 3) := dk_184 0 111 (dk_at dksX1_refusals_0 4 rfl rfl)
theorem dX1_refusals_7 : decode cX1_refusals 7 = .ok (.invokestatic 115, 3) := dk_184 0 115 (dk_at dksX1_refusals_0 7 rfl rfl)
theorem dX1_refusals_10 : decode cX1_refusals 10 = .ok (.aload_n 0, 1) := dk_42 (dk_at dksX1_refusals_0 10 rfl rfl)
theorem dX1_refusals_11 : decode cX1_refusals 11 = .ok (.getfield 28, 3) := dk_180 0 28 (dk_at dksX1_refusals_0 11 rfl rfl)
theorem dX1_refusals_14 : decode cX1_refusals 14 = .ok (.iload_n 1, 1) := dk_27 (dk_at dksX1_refusals_0 14 rfl rfl)
theorem dX1_refusals_15 : decode cX1_refusals 15 = .ok (.iaload, 1) := dk_46 (dk_at dksX1_refusals_0 15 rfl rfl)
theorem dX1_refusals_16 : decode cX1_refusals 16 = .ok (.ireturn, 1) := dk_172 (dk_at dksX1_refusals_0 16 rfl rfl)
abbrev cX1_step : ByteArray := prog_1_method_42_code
def yX1_step : MethodName := ⟨RX1, "step", "(II)I"⟩
def dkwX1_step_0 : List UInt8 := [42, 19, 1, 109, 5, 188, 10, 89, 3, 27, 79, 89, 4, 28, 79, 182, 1, 110, 172]
abbrev dktX1_step_0 : List UInt8 := dkwX1_step_0 ++ []
theorem dksX1_step_0 : cX1_step.data.toList.drop 0 = dktX1_step_0 := by decide +kernel
theorem dX1_step_0 : decode cX1_step 0 = .ok (.aload_n 0, 1) := dk_42 (dk_at dksX1_step_0 0 rfl rfl)
theorem dX1_step_1 : decode cX1_step 1 = .ok (.ldc_w 365, 3) := dk_19 1 109 (dk_at dksX1_step_0 1 rfl rfl)
theorem dX1_step_4 : decode cX1_step 4 = .ok (.iconst 2, 1) := dk_5 (dk_at dksX1_step_0 4 rfl rfl)
theorem dX1_step_5 : decode cX1_step 5 = .ok (.newarray .int, 2) := dk_188_10 (dk_at dksX1_step_0 5 rfl rfl)
theorem dX1_step_7 : decode cX1_step 7 = .ok (.dup, 1) := dk_89 (dk_at dksX1_step_0 7 rfl rfl)
theorem dX1_step_8 : decode cX1_step 8 = .ok (.iconst 0, 1) := dk_3 (dk_at dksX1_step_0 8 rfl rfl)
theorem dX1_step_9 : decode cX1_step 9 = .ok (.iload_n 1, 1) := dk_27 (dk_at dksX1_step_0 9 rfl rfl)
theorem dX1_step_10 : decode cX1_step 10 = .ok (.iastore, 1) := dk_79 (dk_at dksX1_step_0 10 rfl rfl)
theorem dX1_step_11 : decode cX1_step 11 = .ok (.dup, 1) := dk_89 (dk_at dksX1_step_0 11 rfl rfl)
theorem dX1_step_12 : decode cX1_step 12 = .ok (.iconst 1, 1) := dk_4 (dk_at dksX1_step_0 12 rfl rfl)
theorem dX1_step_13 : decode cX1_step 13 = .ok (.iload_n 2, 1) := dk_28 (dk_at dksX1_step_0 13 rfl rfl)
theorem dX1_step_14 : decode cX1_step 14 = .ok (.iastore, 1) := dk_79 (dk_at dksX1_step_0 14 rfl rfl)
theorem dX1_step_15 : decode cX1_step 15 = .ok (.invokevirtual 366, 3) := dk_182 1 110 (dk_at dksX1_step_0 15 rfl rfl)
theorem dX1_step_18 : decode cX1_step 18 = .ok (.ireturn, 1) := dk_172 (dk_at dksX1_step_0 18 rfl rfl)
abbrev cX1_does : ByteArray := prog_1_method_40_code
def yX1_does : MethodName := ⟨RX1, "does", "(Ljava/lang/String;[I)I"⟩
def dkwX1_does_0 : List UInt8 := [42, 187, 1, 101, 89, 43, 44, 183, 1, 103, 182, 1, 106, 172]
abbrev dktX1_does_0 : List UInt8 := dkwX1_does_0 ++ []
theorem dksX1_does_0 : cX1_does.data.toList.drop 0 = dktX1_does_0 := by decide +kernel
theorem dX1_does_0 : decode cX1_does 0 = .ok (.aload_n 0, 1) := dk_42 (dk_at dksX1_does_0 0 rfl rfl)
theorem dX1_does_1 : decode cX1_does 1 = .ok (.new 357, 3) := dk_187 1 101 (dk_at dksX1_does_0 1 rfl rfl)
theorem dX1_does_4 : decode cX1_does 4 = .ok (.dup, 1) := dk_89 (dk_at dksX1_does_0 4 rfl rfl)
theorem dX1_does_5 : decode cX1_does 5 = .ok (.aload_n 1, 1) := dk_43 (dk_at dksX1_does_0 5 rfl rfl)
theorem dX1_does_6 : decode cX1_does 6 = .ok (.aload_n 2, 1) := dk_44 (dk_at dksX1_does_0 6 rfl rfl)
theorem dX1_does_7 : decode cX1_does 7 = .ok (.invokespecial 359, 3) := dk_183 1 103 (dk_at dksX1_does_0 7 rfl rfl)
theorem dX1_does_10 : decode cX1_does 10 = .ok (.invokevirtual 362, 3) := dk_182 1 106 (dk_at dksX1_does_0 10 rfl rfl)
theorem dX1_does_13 : decode cX1_does 13 = .ok (.ireturn, 1) := dk_172 (dk_at dksX1_does_0 13 rfl rfl)
abbrev cX1_pick : ByteArray := prog_1_method_43_code
def yX1_pick : MethodName := ⟨RX1, "pick", "(II)I"⟩
def dkwX1_pick_0 : List UInt8 := [42, 19, 1, 114, 5, 188, 10, 89, 3, 27, 79, 89, 4, 28, 79, 182, 1, 110, 172]
abbrev dktX1_pick_0 : List UInt8 := dkwX1_pick_0 ++ []
theorem dksX1_pick_0 : cX1_pick.data.toList.drop 0 = dktX1_pick_0 := by decide +kernel
theorem dX1_pick_0 : decode cX1_pick 0 = .ok (.aload_n 0, 1) := dk_42 (dk_at dksX1_pick_0 0 rfl rfl)
theorem dX1_pick_1 : decode cX1_pick 1 = .ok (.ldc_w 370, 3) := dk_19 1 114 (dk_at dksX1_pick_0 1 rfl rfl)
theorem dX1_pick_4 : decode cX1_pick 4 = .ok (.iconst 2, 1) := dk_5 (dk_at dksX1_pick_0 4 rfl rfl)
theorem dX1_pick_5 : decode cX1_pick 5 = .ok (.newarray .int, 2) := dk_188_10 (dk_at dksX1_pick_0 5 rfl rfl)
theorem dX1_pick_7 : decode cX1_pick 7 = .ok (.dup, 1) := dk_89 (dk_at dksX1_pick_0 7 rfl rfl)
theorem dX1_pick_8 : decode cX1_pick 8 = .ok (.iconst 0, 1) := dk_3 (dk_at dksX1_pick_0 8 rfl rfl)
theorem dX1_pick_9 : decode cX1_pick 9 = .ok (.iload_n 1, 1) := dk_27 (dk_at dksX1_pick_0 9 rfl rfl)
theorem dX1_pick_10 : decode cX1_pick 10 = .ok (.iastore, 1) := dk_79 (dk_at dksX1_pick_0 10 rfl rfl)
theorem dX1_pick_11 : decode cX1_pick 11 = .ok (.dup, 1) := dk_89 (dk_at dksX1_pick_0 11 rfl rfl)
theorem dX1_pick_12 : decode cX1_pick 12 = .ok (.iconst 1, 1) := dk_4 (dk_at dksX1_pick_0 12 rfl rfl)
theorem dX1_pick_13 : decode cX1_pick 13 = .ok (.iload_n 2, 1) := dk_28 (dk_at dksX1_pick_0 13 rfl rfl)
theorem dX1_pick_14 : decode cX1_pick 14 = .ok (.iastore, 1) := dk_79 (dk_at dksX1_pick_0 14 rfl rfl)
theorem dX1_pick_15 : decode cX1_pick 15 = .ok (.invokevirtual 366, 3) := dk_182 1 110 (dk_at dksX1_pick_0 15 rfl rfl)
theorem dX1_pick_18 : decode cX1_pick 18 = .ok (.ireturn, 1) := dk_172 (dk_at dksX1_pick_0 18 rfl rfl)
abbrev cX1_give : ByteArray := prog_1_method_44_code
def yX1_give : MethodName := ⟨RX1, "give", "(III)I"⟩
def dkwX1_give_0 : List UInt8 := [42, 19, 1, 116, 6, 188, 10, 89, 3, 27, 79, 89, 4, 28, 79, 89, 5, 29, 79, 182, 1, 110, 172]
abbrev dktX1_give_0 : List UInt8 := dkwX1_give_0 ++ []
theorem dksX1_give_0 : cX1_give.data.toList.drop 0 = dktX1_give_0 := by decide +kernel
theorem dX1_give_0 : decode cX1_give 0 = .ok (.aload_n 0, 1) := dk_42 (dk_at dksX1_give_0 0 rfl rfl)
theorem dX1_give_1 : decode cX1_give 1 = .ok (.ldc_w 372, 3) := dk_19 1 116 (dk_at dksX1_give_0 1 rfl rfl)
theorem dX1_give_4 : decode cX1_give 4 = .ok (.iconst 3, 1) := dk_6 (dk_at dksX1_give_0 4 rfl rfl)
theorem dX1_give_5 : decode cX1_give 5 = .ok (.newarray .int, 2) := dk_188_10 (dk_at dksX1_give_0 5 rfl rfl)
theorem dX1_give_7 : decode cX1_give 7 = .ok (.dup, 1) := dk_89 (dk_at dksX1_give_0 7 rfl rfl)
theorem dX1_give_8 : decode cX1_give 8 = .ok (.iconst 0, 1) := dk_3 (dk_at dksX1_give_0 8 rfl rfl)
theorem dX1_give_9 : decode cX1_give 9 = .ok (.iload_n 1, 1) := dk_27 (dk_at dksX1_give_0 9 rfl rfl)
theorem dX1_give_10 : decode cX1_give 10 = .ok (.iastore, 1) := dk_79 (dk_at dksX1_give_0 10 rfl rfl)
theorem dX1_give_11 : decode cX1_give 11 = .ok (.dup, 1) := dk_89 (dk_at dksX1_give_0 11 rfl rfl)
theorem dX1_give_12 : decode cX1_give 12 = .ok (.iconst 1, 1) := dk_4 (dk_at dksX1_give_0 12 rfl rfl)
theorem dX1_give_13 : decode cX1_give 13 = .ok (.iload_n 2, 1) := dk_28 (dk_at dksX1_give_0 13 rfl rfl)
theorem dX1_give_14 : decode cX1_give 14 = .ok (.iastore, 1) := dk_79 (dk_at dksX1_give_0 14 rfl rfl)
theorem dX1_give_15 : decode cX1_give 15 = .ok (.dup, 1) := dk_89 (dk_at dksX1_give_0 15 rfl rfl)
theorem dX1_give_16 : decode cX1_give 16 = .ok (.iconst 2, 1) := dk_5 (dk_at dksX1_give_0 16 rfl rfl)
theorem dX1_give_17 : decode cX1_give 17 = .ok (.iload_n 3, 1) := dk_29 (dk_at dksX1_give_0 17 rfl rfl)
theorem dX1_give_18 : decode cX1_give 18 = .ok (.iastore, 1) := dk_79 (dk_at dksX1_give_0 18 rfl rfl)
theorem dX1_give_19 : decode cX1_give 19 = .ok (.invokevirtual 366, 3) := dk_182 1 110 (dk_at dksX1_give_0 19 rfl rfl)
theorem dX1_give_22 : decode cX1_give 22 = .ok (.ireturn, 1) := dk_172 (dk_at dksX1_give_0 22 rfl rfl)
abbrev cX1_lay : ByteArray := prog_1_method_45_code
def yX1_lay : MethodName := ⟨RX1, "lay", "(II)I"⟩
def dkwX1_lay_0 : List UInt8 := [42, 19, 1, 118, 5, 188, 10, 89, 3, 27, 79, 89, 4, 28, 79, 182, 1, 110, 172]
abbrev dktX1_lay_0 : List UInt8 := dkwX1_lay_0 ++ []
theorem dksX1_lay_0 : cX1_lay.data.toList.drop 0 = dktX1_lay_0 := by decide +kernel
theorem dX1_lay_0 : decode cX1_lay 0 = .ok (.aload_n 0, 1) := dk_42 (dk_at dksX1_lay_0 0 rfl rfl)
theorem dX1_lay_1 : decode cX1_lay 1 = .ok (.ldc_w 374, 3) := dk_19 1 118 (dk_at dksX1_lay_0 1 rfl rfl)
theorem dX1_lay_4 : decode cX1_lay 4 = .ok (.iconst 2, 1) := dk_5 (dk_at dksX1_lay_0 4 rfl rfl)
theorem dX1_lay_5 : decode cX1_lay 5 = .ok (.newarray .int, 2) := dk_188_10 (dk_at dksX1_lay_0 5 rfl rfl)
theorem dX1_lay_7 : decode cX1_lay 7 = .ok (.dup, 1) := dk_89 (dk_at dksX1_lay_0 7 rfl rfl)
theorem dX1_lay_8 : decode cX1_lay 8 = .ok (.iconst 0, 1) := dk_3 (dk_at dksX1_lay_0 8 rfl rfl)
theorem dX1_lay_9 : decode cX1_lay 9 = .ok (.iload_n 1, 1) := dk_27 (dk_at dksX1_lay_0 9 rfl rfl)
theorem dX1_lay_10 : decode cX1_lay 10 = .ok (.iastore, 1) := dk_79 (dk_at dksX1_lay_0 10 rfl rfl)
theorem dX1_lay_11 : decode cX1_lay 11 = .ok (.dup, 1) := dk_89 (dk_at dksX1_lay_0 11 rfl rfl)
theorem dX1_lay_12 : decode cX1_lay 12 = .ok (.iconst 1, 1) := dk_4 (dk_at dksX1_lay_0 12 rfl rfl)
theorem dX1_lay_13 : decode cX1_lay 13 = .ok (.iload_n 2, 1) := dk_28 (dk_at dksX1_lay_0 13 rfl rfl)
theorem dX1_lay_14 : decode cX1_lay 14 = .ok (.iastore, 1) := dk_79 (dk_at dksX1_lay_0 14 rfl rfl)
theorem dX1_lay_15 : decode cX1_lay 15 = .ok (.invokevirtual 366, 3) := dk_182 1 110 (dk_at dksX1_lay_0 15 rfl rfl)
theorem dX1_lay_18 : decode cX1_lay 18 = .ok (.ireturn, 1) := dk_172 (dk_at dksX1_lay_0 18 rfl rfl)
abbrev cX1_pass : ByteArray := prog_1_method_46_code
def yX1_pass : MethodName := ⟨RX1, "pass", "(I)I"⟩
def dkwX1_pass_0 : List UInt8 := [42, 19, 1, 120, 4, 188, 10, 89, 3, 27, 79, 182, 1, 110, 172]
abbrev dktX1_pass_0 : List UInt8 := dkwX1_pass_0 ++ []
theorem dksX1_pass_0 : cX1_pass.data.toList.drop 0 = dktX1_pass_0 := by decide +kernel
theorem dX1_pass_0 : decode cX1_pass 0 = .ok (.aload_n 0, 1) := dk_42 (dk_at dksX1_pass_0 0 rfl rfl)
theorem dX1_pass_1 : decode cX1_pass 1 = .ok (.ldc_w 376, 3) := dk_19 1 120 (dk_at dksX1_pass_0 1 rfl rfl)
theorem dX1_pass_4 : decode cX1_pass 4 = .ok (.iconst 1, 1) := dk_4 (dk_at dksX1_pass_0 4 rfl rfl)
theorem dX1_pass_5 : decode cX1_pass 5 = .ok (.newarray .int, 2) := dk_188_10 (dk_at dksX1_pass_0 5 rfl rfl)
theorem dX1_pass_7 : decode cX1_pass 7 = .ok (.dup, 1) := dk_89 (dk_at dksX1_pass_0 7 rfl rfl)
theorem dX1_pass_8 : decode cX1_pass 8 = .ok (.iconst 0, 1) := dk_3 (dk_at dksX1_pass_0 8 rfl rfl)
theorem dX1_pass_9 : decode cX1_pass 9 = .ok (.iload_n 1, 1) := dk_27 (dk_at dksX1_pass_0 9 rfl rfl)
theorem dX1_pass_10 : decode cX1_pass 10 = .ok (.iastore, 1) := dk_79 (dk_at dksX1_pass_0 10 rfl rfl)
theorem dX1_pass_11 : decode cX1_pass 11 = .ok (.invokevirtual 366, 3) := dk_182 1 110 (dk_at dksX1_pass_0 11 rfl rfl)
theorem dX1_pass_14 : decode cX1_pass 14 = .ok (.ireturn, 1) := dk_172 (dk_at dksX1_pass_0 14 rfl rfl)
abbrev cX1_write : ByteArray := prog_1_method_57_code
def yX1_write : MethodName := ⟨RX1, "write", "(I)I"⟩
def dkwX1_write_3 : List UInt8 := [132, 2, 1, 167, 255, 213, 42, 180, 0, 95, 182, 1, 179, 172]
abbrev dktX1_write_3 : List UInt8 := dkwX1_write_3 ++ []
def dkwX1_write_2 : List UInt8 := [42, 42, 180, 0, 40, 180, 0, 99, 180, 0, 119, 27, 104, 28, 96, 182, 1, 171, 182, 1, 175, 87]
abbrev dktX1_write_2 : List UInt8 := dkwX1_write_2 ++ dktX1_write_3
def dkwX1_write_1 : List UInt8 := [3, 182, 1, 168, 3, 61, 28, 42, 180, 0, 40, 180, 0, 99, 180, 0, 119, 162, 0, 35, 42, 180, 0, 95]
abbrev dktX1_write_1 : List UInt8 := dkwX1_write_1 ++ dktX1_write_2
def dkwX1_write_0 : List UInt8 := [27, 3, 42, 180, 0, 40, 180, 0, 99, 180, 0, 122, 4, 100, 184, 0, 111, 184, 0, 115, 42, 180, 0, 95]
abbrev dktX1_write_0 : List UInt8 := dkwX1_write_0 ++ dktX1_write_1
theorem dksX1_write_0 : cX1_write.data.toList.drop 0 = dktX1_write_0 := by decide +kernel
theorem dksX1_write_1 : cX1_write.data.toList.drop 24 = dktX1_write_1 := dk_seg dksX1_write_0 24 rfl rfl
theorem dksX1_write_2 : cX1_write.data.toList.drop 48 = dktX1_write_2 := dk_seg dksX1_write_1 24 rfl rfl
theorem dksX1_write_3 : cX1_write.data.toList.drop 70 = dktX1_write_3 := dk_seg dksX1_write_2 22 rfl rfl
theorem dX1_write_0 : decode cX1_write 0 = .ok (.iload_n 1, 1) := dk_27 (dk_at dksX1_write_0 0 rfl rfl)
theorem dX1_write_1 : decode cX1_write 1 = .ok (.iconst 0, 1) := dk_3 (dk_at dksX1_write_0 1 rfl rfl)
theorem dX1_write_2 : decode cX1_write 2 = .ok (.aload_n 0, 1) := dk_42 (dk_at dksX1_write_0 2 rfl rfl)
theorem dX1_write_3 : decode cX1_write 3 = .ok (.getfield 40, 3) := dk_180 0 40 (dk_at dksX1_write_0 3 rfl rfl)
theorem dX1_write_6 : decode cX1_write 6 = .ok (.getfield 99, 3) := dk_180 0 99 (dk_at dksX1_write_0 6 rfl rfl)
theorem dX1_write_9 : decode cX1_write 9 = .ok (.getfield 122, 3) := dk_180 0 122 (dk_at dksX1_write_0 9 rfl rfl)
theorem dX1_write_12 : decode cX1_write 12 = .ok (.iconst 1, 1) := dk_4 (dk_at dksX1_write_0 12 rfl rfl)
theorem dX1_write_13 : decode cX1_write 13 = .ok (.isub, 1) := dk_100 (dk_at dksX1_write_0 13 rfl rfl)
theorem dX1_write_14 : decode cX1_write 14 = .ok (.invokestatic 111, 3) := dk_184 0 111 (dk_at dksX1_write_0 14 rfl rfl)
theorem dX1_write_17 : decode cX1_write 17 = .ok (.invokestatic 115, 3) := dk_184 0 115 (dk_at dksX1_write_0 17 rfl rfl)
theorem dX1_write_20 : decode cX1_write 20 = .ok (.aload_n 0, 1) := dk_42 (dk_at dksX1_write_0 20 rfl rfl)
theorem dX1_write_21 : decode cX1_write 21 = .ok (.getfield 95, 3) := dk_180 0 95 (dk_at dksX1_write_0 21 rfl rfl)
theorem dX1_write_24 : decode cX1_write 24 = .ok (.iconst 0, 1) := dk_3 (dk_at dksX1_write_1 0 rfl rfl)
theorem dX1_write_25 : decode cX1_write 25 = .ok (.invokevirtual 424, 3) := dk_182 1 168 (dk_at dksX1_write_1 1 rfl rfl)
theorem dX1_write_28 : decode cX1_write 28 = .ok (.iconst 0, 1) := dk_3 (dk_at dksX1_write_1 4 rfl rfl)
theorem dX1_write_29 : decode cX1_write 29 = .ok (.istore_n 2, 1) := dk_61 (dk_at dksX1_write_1 5 rfl rfl)
theorem dX1_write_30 : decode cX1_write 30 = .ok (.iload_n 2, 1) := dk_28 (dk_at dksX1_write_1 6 rfl rfl)
theorem dX1_write_31 : decode cX1_write 31 = .ok (.aload_n 0, 1) := dk_42 (dk_at dksX1_write_1 7 rfl rfl)
theorem dX1_write_32 : decode cX1_write 32 = .ok (.getfield 40, 3) := dk_180 0 40 (dk_at dksX1_write_1 8 rfl rfl)
theorem dX1_write_35 : decode cX1_write 35 = .ok (.getfield 99, 3) := dk_180 0 99 (dk_at dksX1_write_1 11 rfl rfl)
theorem dX1_write_38 : decode cX1_write 38 = .ok (.getfield 119, 3) := dk_180 0 119 (dk_at dksX1_write_1 14 rfl rfl)
theorem dX1_write_41 : decode cX1_write 41 = .ok (.if_icmp .ge 35, 3) := dk_162 0 35 (dk_at dksX1_write_1 17 rfl rfl)
theorem dX1_write_44 : decode cX1_write 44 = .ok (.aload_n 0, 1) := dk_42 (dk_at dksX1_write_1 20 rfl rfl)
theorem dX1_write_45 : decode cX1_write 45 = .ok (.getfield 95, 3) := dk_180 0 95 (dk_at dksX1_write_1 21 rfl rfl)
theorem dX1_write_48 : decode cX1_write 48 = .ok (.aload_n 0, 1) := dk_42 (dk_at dksX1_write_2 0 rfl rfl)
theorem dX1_write_49 : decode cX1_write 49 = .ok (.aload_n 0, 1) := dk_42 (dk_at dksX1_write_2 1 rfl rfl)
theorem dX1_write_50 : decode cX1_write 50 = .ok (.getfield 40, 3) := dk_180 0 40 (dk_at dksX1_write_2 2 rfl rfl)
theorem dX1_write_53 : decode cX1_write 53 = .ok (.getfield 99, 3) := dk_180 0 99 (dk_at dksX1_write_2 5 rfl rfl)
theorem dX1_write_56 : decode cX1_write 56 = .ok (.getfield 119, 3) := dk_180 0 119 (dk_at dksX1_write_2 8 rfl rfl)
theorem dX1_write_59 : decode cX1_write 59 = .ok (.iload_n 1, 1) := dk_27 (dk_at dksX1_write_2 11 rfl rfl)
theorem dX1_write_60 : decode cX1_write 60 = .ok (.imul, 1) := dk_104 (dk_at dksX1_write_2 12 rfl rfl)
theorem dX1_write_61 : decode cX1_write 61 = .ok (.iload_n 2, 1) := dk_28 (dk_at dksX1_write_2 13 rfl rfl)
theorem dX1_write_62 : decode cX1_write 62 = .ok (.iadd, 1) := dk_96 (dk_at dksX1_write_2 14 rfl rfl)
theorem dX1_write_63 : decode cX1_write 63 = .ok (.invokevirtual 427, 3) := dk_182 1 171 (dk_at dksX1_write_2 15 rfl rfl)
theorem dX1_write_66 : decode cX1_write 66 = .ok (.invokevirtual 431, 3) := dk_182 1 175 (dk_at dksX1_write_2 18 rfl rfl)
theorem dX1_write_69 : decode cX1_write 69 = .ok (.pop, 1) := dk_87 (dk_at dksX1_write_2 21 rfl rfl)
theorem dX1_write_70 : decode cX1_write 70 = .ok (.iinc 2 1, 3) := dk_132 2 1 (dk_at dksX1_write_3 0 rfl rfl)
theorem dX1_write_73 : decode cX1_write 73 = .ok (.goto (-43), 3) := dk_167 255 213 (dk_at dksX1_write_3 3 rfl rfl)
theorem dX1_write_76 : decode cX1_write 76 = .ok (.aload_n 0, 1) := dk_42 (dk_at dksX1_write_3 6 rfl rfl)
theorem dX1_write_77 : decode cX1_write 77 = .ok (.getfield 95, 3) := dk_180 0 95 (dk_at dksX1_write_3 7 rfl rfl)
theorem dX1_write_80 : decode cX1_write 80 = .ok (.invokevirtual 435, 3) := dk_182 1 179 (dk_at dksX1_write_3 10 rfl rfl)
theorem dX1_write_83 : decode cX1_write 83 = .ok (.ireturn, 1) := dk_172 (dk_at dksX1_write_3 13 rfl rfl)
abbrev cX1_sign : ByteArray := prog_1_method_56_code
def yX1_sign : MethodName := ⟨RX1, "sign", "(I)C"⟩
def dkwX1_sign_4 : List UInt8 := [180, 0, 40, 27, 182, 0, 175, 96, 146, 172]
abbrev dktX1_sign_4 : List UInt8 := dkwX1_sign_4 ++ []
def dkwX1_sign_3 : List UInt8 := [167, 0, 31, 42, 180, 0, 40, 27, 182, 0, 251, 153, 0, 8, 16, 33, 167, 0, 15, 16, 48, 42]
abbrev dktX1_sign_3 : List UInt8 := dkwX1_sign_3 ++ dktX1_sign_4
def dkwX1_sign_2 : List UInt8 := [172, 29, 2, 159, 0, 9, 16, 65, 29, 96, 146, 172, 42, 27, 182, 0, 184, 158, 0, 8, 16, 42]
abbrev dktX1_sign_2 : List UInt8 := dkwX1_sign_2 ++ dktX1_sign_3
def dkwX1_sign_1 : List UInt8 := [180, 0, 99, 180, 0, 103, 27, 51, 153, 0, 6, 16, 35, 172, 28, 2, 159, 0, 9, 16, 97, 28, 96, 146]
abbrev dktX1_sign_1 : List UInt8 := dkwX1_sign_1 ++ dktX1_sign_2
def dkwX1_sign_0 : List UInt8 := [42, 27, 182, 1, 162, 61, 42, 180, 0, 40, 180, 0, 99, 27, 182, 1, 165, 62, 42, 180, 0, 40]
abbrev dktX1_sign_0 : List UInt8 := dkwX1_sign_0 ++ dktX1_sign_1
theorem dksX1_sign_0 : cX1_sign.data.toList.drop 0 = dktX1_sign_0 := by decide +kernel
theorem dksX1_sign_1 : cX1_sign.data.toList.drop 22 = dktX1_sign_1 := dk_seg dksX1_sign_0 22 rfl rfl
theorem dksX1_sign_2 : cX1_sign.data.toList.drop 46 = dktX1_sign_2 := dk_seg dksX1_sign_1 24 rfl rfl
theorem dksX1_sign_3 : cX1_sign.data.toList.drop 68 = dktX1_sign_3 := dk_seg dksX1_sign_2 22 rfl rfl
theorem dksX1_sign_4 : cX1_sign.data.toList.drop 90 = dktX1_sign_4 := dk_seg dksX1_sign_3 22 rfl rfl
theorem dX1_sign_0 : decode cX1_sign 0 = .ok (.aload_n 0, 1) := dk_42 (dk_at dksX1_sign_0 0 rfl rfl)
theorem dX1_sign_1 : decode cX1_sign 1 = .ok (.iload_n 1, 1) := dk_27 (dk_at dksX1_sign_0 1 rfl rfl)
theorem dX1_sign_2 : decode cX1_sign 2 = .ok (.invokevirtual 418, 3) := dk_182 1 162 (dk_at dksX1_sign_0 2 rfl rfl)
theorem dX1_sign_5 : decode cX1_sign 5 = .ok (.istore_n 2, 1) := dk_61 (dk_at dksX1_sign_0 5 rfl rfl)
theorem dX1_sign_6 : decode cX1_sign 6 = .ok (.aload_n 0, 1) := dk_42 (dk_at dksX1_sign_0 6 rfl rfl)
theorem dX1_sign_7 : decode cX1_sign 7 = .ok (.getfield 40, 3) := dk_180 0 40 (dk_at dksX1_sign_0 7 rfl rfl)
theorem dX1_sign_10 : decode cX1_sign 10 = .ok (.getfield 99, 3) := dk_180 0 99 (dk_at dksX1_sign_0 10 rfl rfl)
theorem dX1_sign_13 : decode cX1_sign 13 = .ok (.iload_n 1, 1) := dk_27 (dk_at dksX1_sign_0 13 rfl rfl)
theorem dX1_sign_14 : decode cX1_sign 14 = .ok (.invokevirtual 421, 3) := dk_182 1 165 (dk_at dksX1_sign_0 14 rfl rfl)
theorem dX1_sign_17 : decode cX1_sign 17 = .ok (.istore_n 3, 1) := dk_62 (dk_at dksX1_sign_0 17 rfl rfl)
theorem dX1_sign_18 : decode cX1_sign 18 = .ok (.aload_n 0, 1) := dk_42 (dk_at dksX1_sign_0 18 rfl rfl)
theorem dX1_sign_19 : decode cX1_sign 19 = .ok (.getfield 40, 3) := dk_180 0 40 (dk_at dksX1_sign_0 19 rfl rfl)
theorem dX1_sign_22 : decode cX1_sign 22 = .ok (.getfield 99, 3) := dk_180 0 99 (dk_at dksX1_sign_1 0 rfl rfl)
theorem dX1_sign_25 : decode cX1_sign 25 = .ok (.getfield 103, 3) := dk_180 0 103 (dk_at dksX1_sign_1 3 rfl rfl)
theorem dX1_sign_28 : decode cX1_sign 28 = .ok (.iload_n 1, 1) := dk_27 (dk_at dksX1_sign_1 6 rfl rfl)
theorem dX1_sign_29 : decode cX1_sign 29 = .ok (.baload, 1) := dk_51 (dk_at dksX1_sign_1 7 rfl rfl)
theorem dX1_sign_30 : decode cX1_sign 30 = .ok (.ifCond .eq 6, 3) := dk_153 0 6 (dk_at dksX1_sign_1 8 rfl rfl)
theorem dX1_sign_33 : decode cX1_sign 33 = .ok (.bipush 35, 2) := dk_16 35 (dk_at dksX1_sign_1 11 rfl rfl)
theorem dX1_sign_35 : decode cX1_sign 35 = .ok (.ireturn, 1) := dk_172 (dk_at dksX1_sign_1 13 rfl rfl)
theorem dX1_sign_36 : decode cX1_sign 36 = .ok (.iload_n 2, 1) := dk_28 (dk_at dksX1_sign_1 14 rfl rfl)
theorem dX1_sign_37 : decode cX1_sign 37 = .ok (.iconst (-1), 1) := dk_2 (dk_at dksX1_sign_1 15 rfl rfl)
theorem dX1_sign_38 : decode cX1_sign 38 = .ok (.if_icmp .eq 9, 3) := dk_159 0 9 (dk_at dksX1_sign_1 16 rfl rfl)
theorem dX1_sign_41 : decode cX1_sign 41 = .ok (.bipush 97, 2) := dk_16 97 (dk_at dksX1_sign_1 19 rfl rfl)
theorem dX1_sign_43 : decode cX1_sign 43 = .ok (.iload_n 2, 1) := dk_28 (dk_at dksX1_sign_1 21 rfl rfl)
theorem dX1_sign_44 : decode cX1_sign 44 = .ok (.iadd, 1) := dk_96 (dk_at dksX1_sign_1 22 rfl rfl)
theorem dX1_sign_45 : decode cX1_sign 45 = .ok (.i2c, 1) := dk_146 (dk_at dksX1_sign_1 23 rfl rfl)
theorem dX1_sign_46 : decode cX1_sign 46 = .ok (.ireturn, 1) := dk_172 (dk_at dksX1_sign_2 0 rfl rfl)
theorem dX1_sign_47 : decode cX1_sign 47 = .ok (.iload_n 3, 1) := dk_29 (dk_at dksX1_sign_2 1 rfl rfl)
theorem dX1_sign_48 : decode cX1_sign 48 = .ok (.iconst (-1), 1) := dk_2 (dk_at dksX1_sign_2 2 rfl rfl)
theorem dX1_sign_49 : decode cX1_sign 49 = .ok (.if_icmp .eq 9, 3) := dk_159 0 9 (dk_at dksX1_sign_2 3 rfl rfl)
theorem dX1_sign_52 : decode cX1_sign 52 = .ok (.bipush 65, 2) := dk_16 65 (dk_at dksX1_sign_2 6 rfl rfl)
theorem dX1_sign_54 : decode cX1_sign 54 = .ok (.iload_n 3, 1) := dk_29 (dk_at dksX1_sign_2 8 rfl rfl)
theorem dX1_sign_55 : decode cX1_sign 55 = .ok (.iadd, 1) := dk_96 (dk_at dksX1_sign_2 9 rfl rfl)
theorem dX1_sign_56 : decode cX1_sign 56 = .ok (.i2c, 1) := dk_146 (dk_at dksX1_sign_2 10 rfl rfl)
theorem dX1_sign_57 : decode cX1_sign 57 = .ok (.ireturn, 1) := dk_172 (dk_at dksX1_sign_2 11 rfl rfl)
theorem dX1_sign_58 : decode cX1_sign 58 = .ok (.aload_n 0, 1) := dk_42 (dk_at dksX1_sign_2 12 rfl rfl)
theorem dX1_sign_59 : decode cX1_sign 59 = .ok (.iload_n 1, 1) := dk_27 (dk_at dksX1_sign_2 13 rfl rfl)
theorem dX1_sign_60 : decode cX1_sign 60 = .ok (.invokevirtual 184, 3) := dk_182 0 184 (dk_at dksX1_sign_2 14 rfl rfl)
theorem dX1_sign_63 : decode cX1_sign 63 = .ok (.ifCond .le 8, 3) := dk_158 0 8 (dk_at dksX1_sign_2 17 rfl rfl)
theorem dX1_sign_66 : decode cX1_sign 66 = .ok (.bipush 42, 2) := dk_16 42 (dk_at dksX1_sign_2 20 rfl rfl)
theorem dX1_sign_68 : decode cX1_sign 68 = .ok (.goto 31, 3) := dk_167 0 31 (dk_at dksX1_sign_3 0 rfl rfl)
theorem dX1_sign_71 : decode cX1_sign 71 = .ok (.aload_n 0, 1) := dk_42 (dk_at dksX1_sign_3 3 rfl rfl)
theorem dX1_sign_72 : decode cX1_sign 72 = .ok (.getfield 40, 3) := dk_180 0 40 (dk_at dksX1_sign_3 4 rfl rfl)
theorem dX1_sign_75 : decode cX1_sign 75 = .ok (.iload_n 1, 1) := dk_27 (dk_at dksX1_sign_3 7 rfl rfl)
theorem dX1_sign_76 : decode cX1_sign 76 = .ok (.invokevirtual 251, 3) := dk_182 0 251 (dk_at dksX1_sign_3 8 rfl rfl)
theorem dX1_sign_79 : decode cX1_sign 79 = .ok (.ifCond .eq 8, 3) := dk_153 0 8 (dk_at dksX1_sign_3 11 rfl rfl)
theorem dX1_sign_82 : decode cX1_sign 82 = .ok (.bipush 33, 2) := dk_16 33 (dk_at dksX1_sign_3 14 rfl rfl)
theorem dX1_sign_84 : decode cX1_sign 84 = .ok (.goto 15, 3) := dk_167 0 15 (dk_at dksX1_sign_3 16 rfl rfl)
theorem dX1_sign_87 : decode cX1_sign 87 = .ok (.bipush 48, 2) := dk_16 48 (dk_at dksX1_sign_3 19 rfl rfl)
theorem dX1_sign_89 : decode cX1_sign 89 = .ok (.aload_n 0, 1) := dk_42 (dk_at dksX1_sign_3 21 rfl rfl)
theorem dX1_sign_90 : decode cX1_sign 90 = .ok (.getfield 40, 3) := dk_180 0 40 (dk_at dksX1_sign_4 0 rfl rfl)
theorem dX1_sign_93 : decode cX1_sign 93 = .ok (.iload_n 1, 1) := dk_27 (dk_at dksX1_sign_4 3 rfl rfl)
theorem dX1_sign_94 : decode cX1_sign 94 = .ok (.invokevirtual 175, 3) := dk_182 0 175 (dk_at dksX1_sign_4 4 rfl rfl)
theorem dX1_sign_97 : decode cX1_sign 97 = .ok (.iadd, 1) := dk_96 (dk_at dksX1_sign_4 7 rfl rfl)
theorem dX1_sign_98 : decode cX1_sign 98 = .ok (.i2c, 1) := dk_146 (dk_at dksX1_sign_4 8 rfl rfl)
theorem dX1_sign_99 : decode cX1_sign 99 = .ok (.ireturn, 1) := dk_172 (dk_at dksX1_sign_4 9 rfl rfl)
abbrev cX1_courierOn : ByteArray := prog_1_method_55_code
def yX1_courierOn : MethodName := ⟨RX1, "courierOn", "(I)I"⟩
def dkwX1_courierOn_1 : List UInt8 := [182, 0, 155, 192, 0, 68, 180, 0, 159, 27, 160, 0, 5, 28, 172, 132, 2, 1, 167, 255, 216, 2, 172]
abbrev dktX1_courierOn_1 : List UInt8 := dkwX1_courierOn_1 ++ []
def dkwX1_courierOn_0 : List UInt8 := [3, 61, 28, 42, 180, 0, 40, 180, 0, 65, 182, 0, 132, 162, 0, 32, 42, 180, 0, 40, 180, 0, 65, 28]
abbrev dktX1_courierOn_0 : List UInt8 := dkwX1_courierOn_0 ++ dktX1_courierOn_1
theorem dksX1_courierOn_0 : cX1_courierOn.data.toList.drop 0 = dktX1_courierOn_0 := by decide +kernel
theorem dksX1_courierOn_1 : cX1_courierOn.data.toList.drop 24 = dktX1_courierOn_1 := dk_seg dksX1_courierOn_0 24 rfl rfl
theorem dX1_courierOn_0 : decode cX1_courierOn 0 = .ok (.iconst 0, 1) := dk_3 (dk_at dksX1_courierOn_0 0 rfl rfl)
theorem dX1_courierOn_1 : decode cX1_courierOn 1 = .ok (.istore_n 2, 1) := dk_61 (dk_at dksX1_courierOn_0 1 rfl rfl)
theorem dX1_courierOn_2 : decode cX1_courierOn 2 = .ok (.iload_n 2, 1) := dk_28 (dk_at dksX1_courierOn_0 2 rfl rfl)
theorem dX1_courierOn_3 : decode cX1_courierOn 3 = .ok (.aload_n 0, 1) := dk_42 (dk_at dksX1_courierOn_0 3 rfl rfl)
theorem dX1_courierOn_4 : decode cX1_courierOn 4 = .ok (.getfield 40, 3) := dk_180 0 40 (dk_at dksX1_courierOn_0 4 rfl rfl)
theorem dX1_courierOn_7 : decode cX1_courierOn 7 = .ok (.getfield 65, 3) := dk_180 0 65 (dk_at dksX1_courierOn_0 7 rfl rfl)
theorem dX1_courierOn_10 : decode cX1_courierOn 10 = .ok (.invokevirtual 132, 3) := dk_182 0 132 (dk_at dksX1_courierOn_0 10 rfl rfl)
theorem dX1_courierOn_13 : decode cX1_courierOn 13 = .ok (.if_icmp .ge 32, 3) := dk_162 0 32 (dk_at dksX1_courierOn_0 13 rfl rfl)
theorem dX1_courierOn_16 : decode cX1_courierOn 16 = .ok (.aload_n 0, 1) := dk_42 (dk_at dksX1_courierOn_0 16 rfl rfl)
theorem dX1_courierOn_17 : decode cX1_courierOn 17 = .ok (.getfield 40, 3) := dk_180 0 40 (dk_at dksX1_courierOn_0 17 rfl rfl)
theorem dX1_courierOn_20 : decode cX1_courierOn 20 = .ok (.getfield 65, 3) := dk_180 0 65 (dk_at dksX1_courierOn_0 20 rfl rfl)
theorem dX1_courierOn_23 : decode cX1_courierOn 23 = .ok (.iload_n 2, 1) := dk_28 (dk_at dksX1_courierOn_0 23 rfl rfl)
theorem dX1_courierOn_24 : decode cX1_courierOn 24 = .ok (.invokevirtual 155, 3) := dk_182 0 155 (dk_at dksX1_courierOn_1 0 rfl rfl)
theorem dX1_courierOn_27 : decode cX1_courierOn 27 = .ok (.checkcast 68, 3) := dk_192 0 68 (dk_at dksX1_courierOn_1 3 rfl rfl)
theorem dX1_courierOn_30 : decode cX1_courierOn 30 = .ok (.getfield 159, 3) := dk_180 0 159 (dk_at dksX1_courierOn_1 6 rfl rfl)
theorem dX1_courierOn_33 : decode cX1_courierOn 33 = .ok (.iload_n 1, 1) := dk_27 (dk_at dksX1_courierOn_1 9 rfl rfl)
theorem dX1_courierOn_34 : decode cX1_courierOn 34 = .ok (.if_icmp .ne 5, 3) := dk_160 0 5 (dk_at dksX1_courierOn_1 10 rfl rfl)
theorem dX1_courierOn_37 : decode cX1_courierOn 37 = .ok (.iload_n 2, 1) := dk_28 (dk_at dksX1_courierOn_1 13 rfl rfl)
theorem dX1_courierOn_38 : decode cX1_courierOn 38 = .ok (.ireturn, 1) := dk_172 (dk_at dksX1_courierOn_1 14 rfl rfl)
theorem dX1_courierOn_39 : decode cX1_courierOn 39 = .ok (.iinc 2 1, 3) := dk_132 2 1 (dk_at dksX1_courierOn_1 15 rfl rfl)
theorem dX1_courierOn_42 : decode cX1_courierOn 42 = .ok (.goto (-40), 3) := dk_167 255 216 (dk_at dksX1_courierOn_1 18 rfl rfl)
theorem dX1_courierOn_45 : decode cX1_courierOn 45 = .ok (.iconst (-1), 1) := dk_2 (dk_at dksX1_courierOn_1 21 rfl rfl)
theorem dX1_courierOn_46 : decode cX1_courierOn 46 = .ok (.ireturn, 1) := dk_172 (dk_at dksX1_courierOn_1 22 rfl rfl)
abbrev cX1_save : ByteArray := prog_1_method_60_code
def yX1_save : MethodName := ⟨RX1, "save", "(I)V"⟩
def dkwX1_save_0 : List UInt8 := [27, 3, 4, 184, 0, 111, 184, 0, 115, 42, 180, 0, 24, 27, 42, 180, 0, 40, 83, 177]
abbrev dktX1_save_0 : List UInt8 := dkwX1_save_0 ++ []
theorem dksX1_save_0 : cX1_save.data.toList.drop 0 = dktX1_save_0 := by decide +kernel
theorem dX1_save_0 : decode cX1_save 0 = .ok (.iload_n 1, 1) := dk_27 (dk_at dksX1_save_0 0 rfl rfl)
theorem dX1_save_1 : decode cX1_save 1 = .ok (.iconst 0, 1) := dk_3 (dk_at dksX1_save_0 1 rfl rfl)
theorem dX1_save_2 : decode cX1_save 2 = .ok (.iconst 1, 1) := dk_4 (dk_at dksX1_save_0 2 rfl rfl)
theorem dX1_save_3 : decode cX1_save 3 = .ok (.invokestatic 111, 3) := dk_184 0 111 (dk_at dksX1_save_0 3 rfl rfl)
theorem dX1_save_6 : decode cX1_save 6 = .ok (.invokestatic 115, 3) := dk_184 0 115 (dk_at dksX1_save_0 6 rfl rfl)
theorem dX1_save_9 : decode cX1_save 9 = .ok (.aload_n 0, 1) := dk_42 (dk_at dksX1_save_0 9 rfl rfl)
theorem dX1_save_10 : decode cX1_save 10 = .ok (.getfield 24, 3) := dk_180 0 24 (dk_at dksX1_save_0 10 rfl rfl)
theorem dX1_save_13 : decode cX1_save 13 = .ok (.iload_n 1, 1) := dk_27 (dk_at dksX1_save_0 13 rfl rfl)
theorem dX1_save_14 : decode cX1_save 14 = .ok (.aload_n 0, 1) := dk_42 (dk_at dksX1_save_0 14 rfl rfl)
theorem dX1_save_15 : decode cX1_save 15 = .ok (.getfield 40, 3) := dk_180 0 40 (dk_at dksX1_save_0 15 rfl rfl)
theorem dX1_save_18 : decode cX1_save 18 = .ok (.aastore, 1) := dk_83 (dk_at dksX1_save_0 18 rfl rfl)
theorem dX1_save_19 : decode cX1_save 19 = .ok (.return_, 1) := dk_177 (dk_at dksX1_save_0 19 rfl rfl)
abbrev cX1_restore : ByteArray := prog_1_method_61_code
def yX1_restore : MethodName := ⟨RX1, "restore", "(I)V"⟩
def dkwX1_restore_1 : List UInt8 := [183, 1, 127, 191, 42, 42, 180, 0, 24, 27, 50, 181, 0, 40, 42, 180, 0, 16, 182, 1, 142, 177]
abbrev dktX1_restore_1 : List UInt8 := dkwX1_restore_1 ++ []
def dkwX1_restore_0 : List UInt8 := [27, 3, 4, 184, 0, 111, 184, 0, 115, 42, 180, 0, 24, 27, 50, 199, 0, 11, 187, 1, 125, 89]
abbrev dktX1_restore_0 : List UInt8 := dkwX1_restore_0 ++ dktX1_restore_1
theorem dksX1_restore_0 : cX1_restore.data.toList.drop 0 = dktX1_restore_0 := by decide +kernel
theorem dksX1_restore_1 : cX1_restore.data.toList.drop 22 = dktX1_restore_1 := dk_seg dksX1_restore_0 22 rfl rfl
theorem dX1_restore_0 : decode cX1_restore 0 = .ok (.iload_n 1, 1) := dk_27 (dk_at dksX1_restore_0 0 rfl rfl)
theorem dX1_restore_1 : decode cX1_restore 1 = .ok (.iconst 0, 1) := dk_3 (dk_at dksX1_restore_0 1 rfl rfl)
theorem dX1_restore_2 : decode cX1_restore 2 = .ok (.iconst 1, 1) := dk_4 (dk_at dksX1_restore_0 2 rfl rfl)
theorem dX1_restore_3 : decode cX1_restore 3 = .ok (.invokestatic 111, 3) := dk_184 0 111 (dk_at dksX1_restore_0 3 rfl rfl)
theorem dX1_restore_6 : decode cX1_restore 6 = .ok (.invokestatic 115, 3) := dk_184 0 115 (dk_at dksX1_restore_0 6 rfl rfl)
theorem dX1_restore_9 : decode cX1_restore 9 = .ok (.aload_n 0, 1) := dk_42 (dk_at dksX1_restore_0 9 rfl rfl)
theorem dX1_restore_10 : decode cX1_restore 10 = .ok (.getfield 24, 3) := dk_180 0 24 (dk_at dksX1_restore_0 10 rfl rfl)
theorem dX1_restore_13 : decode cX1_restore 13 = .ok (.iload_n 1, 1) := dk_27 (dk_at dksX1_restore_0 13 rfl rfl)
theorem dX1_restore_14 : decode cX1_restore 14 = .ok (.aaload, 1) := dk_50 (dk_at dksX1_restore_0 14 rfl rfl)
theorem dX1_restore_15 : decode cX1_restore 15 = .ok (.ifnonnull 11, 3) := dk_199 0 11 (dk_at dksX1_restore_0 15 rfl rfl)
theorem dX1_restore_18 : decode cX1_restore 18 = .ok (.new 381, 3) := dk_187 1 125 (dk_at dksX1_restore_0 18 rfl rfl)
theorem dX1_restore_21 : decode cX1_restore 21 = .ok (.dup, 1) := dk_89 (dk_at dksX1_restore_0 21 rfl rfl)
theorem dX1_restore_22 : decode cX1_restore 22 = .ok (.invokespecial 383, 3) := dk_183 1 127 (dk_at dksX1_restore_1 0 rfl rfl)
theorem dX1_restore_25 : decode cX1_restore 25 = .ok (.athrow, 1) := dk_191 (dk_at dksX1_restore_1 3 rfl rfl)
theorem dX1_restore_26 : decode cX1_restore 26 = .ok (.aload_n 0, 1) := dk_42 (dk_at dksX1_restore_1 4 rfl rfl)
theorem dX1_restore_27 : decode cX1_restore 27 = .ok (.aload_n 0, 1) := dk_42 (dk_at dksX1_restore_1 5 rfl rfl)
theorem dX1_restore_28 : decode cX1_restore 28 = .ok (.getfield 24, 3) := dk_180 0 24 (dk_at dksX1_restore_1 6 rfl rfl)
theorem dX1_restore_31 : decode cX1_restore 31 = .ok (.iload_n 1, 1) := dk_27 (dk_at dksX1_restore_1 9 rfl rfl)
theorem dX1_restore_32 : decode cX1_restore 32 = .ok (.aaload, 1) := dk_50 (dk_at dksX1_restore_1 10 rfl rfl)
theorem dX1_restore_33 : decode cX1_restore 33 = .ok (.putfield 40, 3) := dk_181 0 40 (dk_at dksX1_restore_1 11 rfl rfl)
theorem dX1_restore_36 : decode cX1_restore 36 = .ok (.aload_n 0, 1) := dk_42 (dk_at dksX1_restore_1 14 rfl rfl)
theorem dX1_restore_37 : decode cX1_restore 37 = .ok (.getfield 16, 3) := dk_180 0 16 (dk_at dksX1_restore_1 15 rfl rfl)
theorem dX1_restore_40 : decode cX1_restore 40 = .ok (.invokevirtual 398, 3) := dk_182 1 142 (dk_at dksX1_restore_1 18 rfl rfl)
theorem dX1_restore_43 : decode cX1_restore 43 = .ok (.return_, 1) := dk_177 (dk_at dksX1_restore_1 21 rfl rfl)
abbrev cX10_init : ByteArray := prog_8_method_1_code
def yX10_init : MethodName := ⟨RX10, "<init>", "(LMistCouriers;)V"⟩
def dkwX10_init_0 : List UInt8 := [42, 43, 181, 0, 3, 42, 183, 0, 9, 42, 18, 15, 181, 0, 17, 42, 3, 188, 4, 181, 0, 21, 177]
abbrev dktX10_init_0 : List UInt8 := dkwX10_init_0 ++ []
theorem dksX10_init_0 : cX10_init.data.toList.drop 0 = dktX10_init_0 := by decide +kernel
theorem dX10_init_0 : decode cX10_init 0 = .ok (.aload_n 0, 1) := dk_42 (dk_at dksX10_init_0 0 rfl rfl)
theorem dX10_init_1 : decode cX10_init 1 = .ok (.aload_n 1, 1) := dk_43 (dk_at dksX10_init_0 1 rfl rfl)
theorem dX10_init_2 : decode cX10_init 2 = .ok (.putfield 3, 3) := dk_181 0 3 (dk_at dksX10_init_0 2 rfl rfl)
theorem dX10_init_5 : decode cX10_init 5 = .ok (.aload_n 0, 1) := dk_42 (dk_at dksX10_init_0 5 rfl rfl)
theorem dX10_init_6 : decode cX10_init 6 = .ok (.invokespecial 9, 3) := dk_183 0 9 (dk_at dksX10_init_0 6 rfl rfl)
theorem dX10_init_9 : decode cX10_init 9 = .ok (.aload_n 0, 1) := dk_42 (dk_at dksX10_init_0 9 rfl rfl)
theorem dX10_init_10 : decode cX10_init 10 = .ok (.ldc 15, 2) := dk_18 15 (dk_at dksX10_init_0 10 rfl rfl)
theorem dX10_init_12 : decode cX10_init 12 = .ok (.putfield 17, 3) := dk_181 0 17 (dk_at dksX10_init_0 12 rfl rfl)
theorem dX10_init_15 : decode cX10_init 15 = .ok (.aload_n 0, 1) := dk_42 (dk_at dksX10_init_0 15 rfl rfl)
theorem dX10_init_16 : decode cX10_init 16 = .ok (.iconst 0, 1) := dk_3 (dk_at dksX10_init_0 16 rfl rfl)
theorem dX10_init_17 : decode cX10_init 17 = .ok (.newarray .boolean, 2) := dk_188_4 (dk_at dksX10_init_0 17 rfl rfl)
theorem dX10_init_19 : decode cX10_init 19 = .ok (.putfield 21, 3) := dk_181 0 21 (dk_at dksX10_init_0 19 rfl rfl)
theorem dX10_init_22 : decode cX10_init 22 = .ok (.return_, 1) := dk_177 (dk_at dksX10_init_0 22 rfl rfl)
abbrev cX10_setup : ByteArray := prog_8_method_18_code
def yX10_setup : MethodName := ⟨RX10, "setup", "()LMistCouriers$State;"⟩
def dkwX10_setup_4 : List UInt8 := [153, 0, 11, 42, 45, 182, 0, 227, 167, 255, 231, 45, 176]
abbrev dktX10_setup_4 : List UInt8 := dkwX10_setup_4 ++ []
def dkwX10_setup_3 : List UInt8 := [181, 0, 21, 42, 182, 0, 213, 42, 180, 0, 53, 178, 0, 47, 166, 0, 13, 45, 180, 0, 181, 182, 0, 224]
abbrev dktX10_setup_3 : List UInt8 := dkwX10_setup_3 ++ dktX10_setup_4
def dkwX10_setup_2 : List UInt8 := [187, 0, 128, 89, 44, 42, 4, 8, 182, 0, 122, 183, 0, 221, 78, 42, 44, 182, 0, 117, 188, 4]
abbrev dktX10_setup_2 : List UInt8 := dkwX10_setup_2 ++ dktX10_setup_3
def dkwX10_setup_1 : List UInt8 := [182, 0, 122, 60, 187, 0, 118, 89, 27, 42, 5, 16, 9, 182, 0, 122, 3, 188, 10, 183, 0, 218, 77]
abbrev dktX10_setup_1 : List UInt8 := dkwX10_setup_1 ++ dktX10_setup_2
def dkwX10_setup_0 : List UInt8 := [42, 182, 0, 114, 42, 42, 18, 216, 182, 0, 186, 4, 182, 0, 110, 42, 182, 0, 114, 42, 5, 16, 9]
abbrev dktX10_setup_0 : List UInt8 := dkwX10_setup_0 ++ dktX10_setup_1
theorem dksX10_setup_0 : cX10_setup.data.toList.drop 0 = dktX10_setup_0 := by decide +kernel
theorem dksX10_setup_1 : cX10_setup.data.toList.drop 23 = dktX10_setup_1 := dk_seg dksX10_setup_0 23 rfl rfl
theorem dksX10_setup_2 : cX10_setup.data.toList.drop 46 = dktX10_setup_2 := dk_seg dksX10_setup_1 23 rfl rfl
theorem dksX10_setup_3 : cX10_setup.data.toList.drop 68 = dktX10_setup_3 := dk_seg dksX10_setup_2 22 rfl rfl
theorem dksX10_setup_4 : cX10_setup.data.toList.drop 92 = dktX10_setup_4 := dk_seg dksX10_setup_3 24 rfl rfl
theorem dX10_setup_0 : decode cX10_setup 0 = .ok (.aload_n 0, 1) := dk_42 (dk_at dksX10_setup_0 0 rfl rfl)
theorem dX10_setup_1 : decode cX10_setup 1 = .ok (.invokevirtual 114, 3) := dk_182 0 114 (dk_at dksX10_setup_0 1 rfl rfl)
theorem dX10_setup_4 : decode cX10_setup 4 = .ok (.aload_n 0, 1) := dk_42 (dk_at dksX10_setup_0 4 rfl rfl)
theorem dX10_setup_5 : decode cX10_setup 5 = .ok (.aload_n 0, 1) := dk_42 (dk_at dksX10_setup_0 5 rfl rfl)
theorem dX10_setup_6 : decode cX10_setup 6 = .ok (.ldc 216, 2) := dk_18 216 (dk_at dksX10_setup_0 6 rfl rfl)
theorem dX10_setup_8 : decode cX10_setup 8 = .ok (.invokevirtual 186, 3) := dk_182 0 186 (dk_at dksX10_setup_0 8 rfl rfl)
theorem dX10_setup_11 : decode cX10_setup 11 = .ok (.iconst 1, 1) := dk_4 (dk_at dksX10_setup_0 11 rfl rfl)
theorem dX10_setup_12 : decode cX10_setup 12 = .ok (.invokevirtual 110, 3) := dk_182 0 110 (dk_at dksX10_setup_0 12 rfl rfl)
theorem dX10_setup_15 : decode cX10_setup 15 = .ok (.aload_n 0, 1) := dk_42 (dk_at dksX10_setup_0 15 rfl rfl)
theorem dX10_setup_16 : decode cX10_setup 16 = .ok (.invokevirtual 114, 3) := dk_182 0 114 (dk_at dksX10_setup_0 16 rfl rfl)
theorem dX10_setup_19 : decode cX10_setup 19 = .ok (.aload_n 0, 1) := dk_42 (dk_at dksX10_setup_0 19 rfl rfl)
theorem dX10_setup_20 : decode cX10_setup 20 = .ok (.iconst 2, 1) := dk_5 (dk_at dksX10_setup_0 20 rfl rfl)
theorem dX10_setup_21 : decode cX10_setup 21 = .ok (.bipush 9, 2) := dk_16 9 (dk_at dksX10_setup_0 21 rfl rfl)
theorem dX10_setup_23 : decode cX10_setup 23 = .ok (.invokevirtual 122, 3) := dk_182 0 122 (dk_at dksX10_setup_1 0 rfl rfl)
theorem dX10_setup_26 : decode cX10_setup 26 = .ok (.istore_n 1, 1) := dk_60 (dk_at dksX10_setup_1 3 rfl rfl)
theorem dX10_setup_27 : decode cX10_setup 27 = .ok (.new 118, 3) := dk_187 0 118 (dk_at dksX10_setup_1 4 rfl rfl)
theorem dX10_setup_30 : decode cX10_setup 30 = .ok (.dup, 1) := dk_89 (dk_at dksX10_setup_1 7 rfl rfl)
theorem dX10_setup_31 : decode cX10_setup 31 = .ok (.iload_n 1, 1) := dk_27 (dk_at dksX10_setup_1 8 rfl rfl)
theorem dX10_setup_32 : decode cX10_setup 32 = .ok (.aload_n 0, 1) := dk_42 (dk_at dksX10_setup_1 9 rfl rfl)
theorem dX10_setup_33 : decode cX10_setup 33 = .ok (.iconst 2, 1) := dk_5 (dk_at dksX10_setup_1 10 rfl rfl)
theorem dX10_setup_34 : decode cX10_setup 34 = .ok (.bipush 9, 2) := dk_16 9 (dk_at dksX10_setup_1 11 rfl rfl)
theorem dX10_setup_36 : decode cX10_setup 36 = .ok (.invokevirtual 122, 3) := dk_182 0 122 (dk_at dksX10_setup_1 13 rfl rfl)
theorem dX10_setup_39 : decode cX10_setup 39 = .ok (.iconst 0, 1) := dk_3 (dk_at dksX10_setup_1 16 rfl rfl)
theorem dX10_setup_40 : decode cX10_setup 40 = .ok (.newarray .int, 2) := dk_188_10 (dk_at dksX10_setup_1 17 rfl rfl)
theorem dX10_setup_42 : decode cX10_setup 42 = .ok (.invokespecial 218, 3) := dk_183 0 218 (dk_at dksX10_setup_1 19 rfl rfl)
theorem dX10_setup_45 : decode cX10_setup 45 = .ok (.astore_n 2, 1) := dk_77 (dk_at dksX10_setup_1 22 rfl rfl)
theorem dX10_setup_46 : decode cX10_setup 46 = .ok (.new 128, 3) := dk_187 0 128 (dk_at dksX10_setup_2 0 rfl rfl)
theorem dX10_setup_49 : decode cX10_setup 49 = .ok (.dup, 1) := dk_89 (dk_at dksX10_setup_2 3 rfl rfl)
theorem dX10_setup_50 : decode cX10_setup 50 = .ok (.aload_n 2, 1) := dk_44 (dk_at dksX10_setup_2 4 rfl rfl)
theorem dX10_setup_51 : decode cX10_setup 51 = .ok (.aload_n 0, 1) := dk_42 (dk_at dksX10_setup_2 5 rfl rfl)
theorem dX10_setup_52 : decode cX10_setup 52 = .ok (.iconst 1, 1) := dk_4 (dk_at dksX10_setup_2 6 rfl rfl)
theorem dX10_setup_53 : decode cX10_setup 53 = .ok (.iconst 5, 1) := dk_8 (dk_at dksX10_setup_2 7 rfl rfl)
theorem dX10_setup_54 : decode cX10_setup 54 = .ok (.invokevirtual 122, 3) := dk_182 0 122 (dk_at dksX10_setup_2 8 rfl rfl)
theorem dX10_setup_57 : decode cX10_setup 57 = .ok (.invokespecial 221, 3) := dk_183 0 221 (dk_at dksX10_setup_2 11 rfl rfl)
theorem dX10_setup_60 : decode cX10_setup 60 = .ok (.astore_n 3, 1) := dk_78 (dk_at dksX10_setup_2 14 rfl rfl)
theorem dX10_setup_61 : decode cX10_setup 61 = .ok (.aload_n 0, 1) := dk_42 (dk_at dksX10_setup_2 15 rfl rfl)
theorem dX10_setup_62 : decode cX10_setup 62 = .ok (.aload_n 2, 1) := dk_44 (dk_at dksX10_setup_2 16 rfl rfl)
theorem dX10_setup_63 : decode cX10_setup 63 = .ok (.invokevirtual 117, 3) := dk_182 0 117 (dk_at dksX10_setup_2 17 rfl rfl)
theorem dX10_setup_66 : decode cX10_setup 66 = .ok (.newarray .boolean, 2) := dk_188_4 (dk_at dksX10_setup_2 20 rfl rfl)
theorem dX10_setup_68 : decode cX10_setup 68 = .ok (.putfield 21, 3) := dk_181 0 21 (dk_at dksX10_setup_3 0 rfl rfl)
theorem dX10_setup_71 : decode cX10_setup 71 = .ok (.aload_n 0, 1) := dk_42 (dk_at dksX10_setup_3 3 rfl rfl)
theorem dX10_setup_72 : decode cX10_setup 72 = .ok (.invokevirtual 213, 3) := dk_182 0 213 (dk_at dksX10_setup_3 4 rfl rfl)
theorem dX10_setup_75 : decode cX10_setup 75 = .ok (.aload_n 0, 1) := dk_42 (dk_at dksX10_setup_3 7 rfl rfl)
theorem dX10_setup_76 : decode cX10_setup 76 = .ok (.getfield 53, 3) := dk_180 0 53 (dk_at dksX10_setup_3 8 rfl rfl)
theorem dX10_setup_79 : decode cX10_setup 79 = .ok (.getstatic 47, 3) := dk_178 0 47 (dk_at dksX10_setup_3 11 rfl rfl)
theorem dX10_setup_82 : decode cX10_setup 82 = .ok (.if_acmp .ne 13, 3) := dk_166 0 13 (dk_at dksX10_setup_3 14 rfl rfl)
theorem dX10_setup_85 : decode cX10_setup 85 = .ok (.aload_n 3, 1) := dk_45 (dk_at dksX10_setup_3 17 rfl rfl)
theorem dX10_setup_86 : decode cX10_setup 86 = .ok (.getfield 181, 3) := dk_180 0 181 (dk_at dksX10_setup_3 18 rfl rfl)
theorem dX10_setup_89 : decode cX10_setup 89 = .ok (.invokevirtual 224, 3) := dk_182 0 224 (dk_at dksX10_setup_3 21 rfl rfl)
theorem dX10_setup_92 : decode cX10_setup 92 = .ok (.ifCond .eq 11, 3) := dk_153 0 11 (dk_at dksX10_setup_4 0 rfl rfl)
theorem dX10_setup_95 : decode cX10_setup 95 = .ok (.aload_n 0, 1) := dk_42 (dk_at dksX10_setup_4 3 rfl rfl)
theorem dX10_setup_96 : decode cX10_setup 96 = .ok (.aload_n 3, 1) := dk_45 (dk_at dksX10_setup_4 4 rfl rfl)
theorem dX10_setup_97 : decode cX10_setup 97 = .ok (.invokevirtual 227, 3) := dk_182 0 227 (dk_at dksX10_setup_4 5 rfl rfl)
theorem dX10_setup_100 : decode cX10_setup 100 = .ok (.goto (-25), 3) := dk_167 255 231 (dk_at dksX10_setup_4 8 rfl rfl)
theorem dX10_setup_103 : decode cX10_setup 103 = .ok (.aload_n 3, 1) := dk_45 (dk_at dksX10_setup_4 11 rfl rfl)
theorem dX10_setup_104 : decode cX10_setup 104 = .ok (.areturn, 1) := dk_176 (dk_at dksX10_setup_4 12 rfl rfl)
abbrev cX10_goOn : ByteArray := prog_8_method_5_code
def yX10_goOn : MethodName := ⟨RX10, "goOn", "()V"⟩
def dkwX10_goOn_11 : List UInt8 := [180, 0, 33, 4, 96, 181, 0, 33, 177]
abbrev dktX10_goOn_11 : List UInt8 := dkwX10_goOn_11 ++ []
def dkwX10_goOn_10 : List UInt8 := [182, 0, 36, 16, 59, 160, 0, 9, 178, 0, 93, 167, 0, 6, 178, 0, 96, 181, 0, 53, 42, 89]
abbrev dktX10_goOn_10 : List UInt8 := dkwX10_goOn_10 ++ dktX10_goOn_11
def dkwX10_goOn_9 : List UInt8 := [181, 0, 33, 167, 255, 211, 42, 178, 0, 90, 181, 0, 53, 167, 0, 39, 42, 42, 42, 180, 0, 33]
abbrev dktX10_goOn_9 : List UInt8 := dkwX10_goOn_9 ++ dktX10_goOn_10
def dkwX10_goOn_8 : List UInt8 := [180, 0, 33, 182, 0, 36, 96, 16, 48, 100, 184, 0, 84, 181, 0, 80, 42, 89, 180, 0, 33, 4, 96]
abbrev dktX10_goOn_8 : List UInt8 := dkwX10_goOn_8 ++ dktX10_goOn_9
def dkwX10_goOn_7 : List UInt8 := [181, 0, 80, 42, 182, 0, 77, 153, 0, 44, 42, 18, 83, 16, 10, 42, 180, 0, 80, 104, 42, 42]
abbrev dktX10_goOn_7 : List UInt8 := dkwX10_goOn_7 ++ dktX10_goOn_8
def dkwX10_goOn_6 : List UInt8 := [181, 0, 17, 42, 178, 0, 74, 181, 0, 53, 167, 0, 109, 42, 182, 0, 77, 153, 0, 66, 42, 3]
abbrev dktX10_goOn_6 : List UInt8 := dkwX10_goOn_6 ++ dktX10_goOn_7
def dkwX10_goOn_5 : List UInt8 := [146, 182, 0, 66, 87, 42, 89, 180, 0, 33, 4, 96, 181, 0, 33, 167, 255, 216, 42, 43, 182, 0, 70]
abbrev dktX10_goOn_5 : List UInt8 := dkwX10_goOn_5 ++ dktX10_goOn_6
def dkwX10_goOn_4 : List UInt8 := [182, 0, 56, 153, 0, 39, 43, 182, 0, 63, 16, 20, 162, 0, 17, 43, 42, 42, 180, 0, 33, 182, 0, 36]
abbrev dktX10_goOn_4 : List UInt8 := dkwX10_goOn_4 ++ dktX10_goOn_5
def dkwX10_goOn_3 : List UInt8 := [181, 0, 53, 167, 0, 185, 42, 182, 0, 56, 153, 0, 72, 187, 0, 60, 89, 183, 0, 62, 76, 42]
abbrev dktX10_goOn_3 : List UInt8 := dkwX10_goOn_3 ++ dktX10_goOn_4
def dkwX10_goOn_2 : List UInt8 := [42, 18, 15, 181, 0, 17, 42, 42, 180, 0, 33, 182, 0, 36, 2, 160, 0, 13, 42, 178, 0, 47]
abbrev dktX10_goOn_2 : List UInt8 := dkwX10_goOn_2 ++ dktX10_goOn_3
def dkwX10_goOn_1 : List UInt8 := [160, 0, 16, 42, 89, 180, 0, 33, 4, 96, 181, 0, 33, 167, 255, 220, 42, 42, 180, 0, 33, 181, 0, 44]
abbrev dktX10_goOn_1 : List UInt8 := dkwX10_goOn_1 ++ dktX10_goOn_2
def dkwX10_goOn_0 : List UInt8 := [42, 42, 180, 0, 33, 182, 0, 36, 16, 32, 159, 0, 16, 42, 42, 180, 0, 33, 182, 0, 36, 16, 10]
abbrev dktX10_goOn_0 : List UInt8 := dkwX10_goOn_0 ++ dktX10_goOn_1
theorem dksX10_goOn_0 : cX10_goOn.data.toList.drop 0 = dktX10_goOn_0 := by decide +kernel
theorem dksX10_goOn_1 : cX10_goOn.data.toList.drop 23 = dktX10_goOn_1 := dk_seg dksX10_goOn_0 23 rfl rfl
theorem dksX10_goOn_2 : cX10_goOn.data.toList.drop 47 = dktX10_goOn_2 := dk_seg dksX10_goOn_1 24 rfl rfl
theorem dksX10_goOn_3 : cX10_goOn.data.toList.drop 69 = dktX10_goOn_3 := dk_seg dksX10_goOn_2 22 rfl rfl
theorem dksX10_goOn_4 : cX10_goOn.data.toList.drop 91 = dktX10_goOn_4 := dk_seg dksX10_goOn_3 22 rfl rfl
theorem dksX10_goOn_5 : cX10_goOn.data.toList.drop 115 = dktX10_goOn_5 := dk_seg dksX10_goOn_4 24 rfl rfl
theorem dksX10_goOn_6 : cX10_goOn.data.toList.drop 138 = dktX10_goOn_6 := dk_seg dksX10_goOn_5 23 rfl rfl
theorem dksX10_goOn_7 : cX10_goOn.data.toList.drop 160 = dktX10_goOn_7 := dk_seg dksX10_goOn_6 22 rfl rfl
theorem dksX10_goOn_8 : cX10_goOn.data.toList.drop 182 = dktX10_goOn_8 := dk_seg dksX10_goOn_7 22 rfl rfl
theorem dksX10_goOn_9 : cX10_goOn.data.toList.drop 205 = dktX10_goOn_9 := dk_seg dksX10_goOn_8 23 rfl rfl
theorem dksX10_goOn_10 : cX10_goOn.data.toList.drop 227 = dktX10_goOn_10 := dk_seg dksX10_goOn_9 22 rfl rfl
theorem dksX10_goOn_11 : cX10_goOn.data.toList.drop 249 = dktX10_goOn_11 := dk_seg dksX10_goOn_10 22 rfl rfl
theorem dX10_goOn_0 : decode cX10_goOn 0 = .ok (.aload_n 0, 1) := dk_42 (dk_at dksX10_goOn_0 0 rfl rfl)
theorem dX10_goOn_1 : decode cX10_goOn 1 = .ok (.aload_n 0, 1) := dk_42 (dk_at dksX10_goOn_0 1 rfl rfl)
theorem dX10_goOn_2 : decode cX10_goOn 2 = .ok (.getfield 33, 3) := dk_180 0 33 (dk_at dksX10_goOn_0 2 rfl rfl)
theorem dX10_goOn_5 : decode cX10_goOn 5 = .ok (.invokevirtual 36, 3) := dk_182 0 36 (dk_at dksX10_goOn_0 5 rfl rfl)
theorem dX10_goOn_8 : decode cX10_goOn 8 = .ok (.bipush 32, 2) := dk_16 32 (dk_at dksX10_goOn_0 8 rfl rfl)
theorem dX10_goOn_10 : decode cX10_goOn 10 = .ok (.if_icmp .eq 16, 3) := dk_159 0 16 (dk_at dksX10_goOn_0 10 rfl rfl)
theorem dX10_goOn_13 : decode cX10_goOn 13 = .ok (.aload_n 0, 1) := dk_42 (dk_at dksX10_goOn_0 13 rfl rfl)
theorem dX10_goOn_14 : decode cX10_goOn 14 = .ok (.aload_n 0, 1) := dk_42 (dk_at dksX10_goOn_0 14 rfl rfl)
theorem dX10_goOn_15 : decode cX10_goOn 15 = .ok (.getfield 33, 3) := dk_180 0 33 (dk_at dksX10_goOn_0 15 rfl rfl)
theorem dX10_goOn_18 : decode cX10_goOn 18 = .ok (.invokevirtual 36, 3) := dk_182 0 36 (dk_at dksX10_goOn_0 18 rfl rfl)
theorem dX10_goOn_21 : decode cX10_goOn 21 = .ok (.bipush 10, 2) := dk_16 10 (dk_at dksX10_goOn_0 21 rfl rfl)
theorem dX10_goOn_23 : decode cX10_goOn 23 = .ok (.if_icmp .ne 16, 3) := dk_160 0 16 (dk_at dksX10_goOn_1 0 rfl rfl)
theorem dX10_goOn_26 : decode cX10_goOn 26 = .ok (.aload_n 0, 1) := dk_42 (dk_at dksX10_goOn_1 3 rfl rfl)
theorem dX10_goOn_27 : decode cX10_goOn 27 = .ok (.dup, 1) := dk_89 (dk_at dksX10_goOn_1 4 rfl rfl)
theorem dX10_goOn_28 : decode cX10_goOn 28 = .ok (.getfield 33, 3) := dk_180 0 33 (dk_at dksX10_goOn_1 5 rfl rfl)
theorem dX10_goOn_31 : decode cX10_goOn 31 = .ok (.iconst 1, 1) := dk_4 (dk_at dksX10_goOn_1 8 rfl rfl)
theorem dX10_goOn_32 : decode cX10_goOn 32 = .ok (.iadd, 1) := dk_96 (dk_at dksX10_goOn_1 9 rfl rfl)
theorem dX10_goOn_33 : decode cX10_goOn 33 = .ok (.putfield 33, 3) := dk_181 0 33 (dk_at dksX10_goOn_1 10 rfl rfl)
theorem dX10_goOn_36 : decode cX10_goOn 36 = .ok (.goto (-36), 3) := dk_167 255 220 (dk_at dksX10_goOn_1 13 rfl rfl)
theorem dX10_goOn_39 : decode cX10_goOn 39 = .ok (.aload_n 0, 1) := dk_42 (dk_at dksX10_goOn_1 16 rfl rfl)
theorem dX10_goOn_40 : decode cX10_goOn 40 = .ok (.aload_n 0, 1) := dk_42 (dk_at dksX10_goOn_1 17 rfl rfl)
theorem dX10_goOn_41 : decode cX10_goOn 41 = .ok (.getfield 33, 3) := dk_180 0 33 (dk_at dksX10_goOn_1 18 rfl rfl)
theorem dX10_goOn_44 : decode cX10_goOn 44 = .ok (.putfield 44, 3) := dk_181 0 44 (dk_at dksX10_goOn_1 21 rfl rfl)
theorem dX10_goOn_47 : decode cX10_goOn 47 = .ok (.aload_n 0, 1) := dk_42 (dk_at dksX10_goOn_2 0 rfl rfl)
theorem dX10_goOn_48 : decode cX10_goOn 48 = .ok (.ldc 15, 2) := dk_18 15 (dk_at dksX10_goOn_2 1 rfl rfl)
theorem dX10_goOn_50 : decode cX10_goOn 50 = .ok (.putfield 17, 3) := dk_181 0 17 (dk_at dksX10_goOn_2 3 rfl rfl)
theorem dX10_goOn_53 : decode cX10_goOn 53 = .ok (.aload_n 0, 1) := dk_42 (dk_at dksX10_goOn_2 6 rfl rfl)
theorem dX10_goOn_54 : decode cX10_goOn 54 = .ok (.aload_n 0, 1) := dk_42 (dk_at dksX10_goOn_2 7 rfl rfl)
theorem dX10_goOn_55 : decode cX10_goOn 55 = .ok (.getfield 33, 3) := dk_180 0 33 (dk_at dksX10_goOn_2 8 rfl rfl)
theorem dX10_goOn_58 : decode cX10_goOn 58 = .ok (.invokevirtual 36, 3) := dk_182 0 36 (dk_at dksX10_goOn_2 11 rfl rfl)
theorem dX10_goOn_61 : decode cX10_goOn 61 = .ok (.iconst (-1), 1) := dk_2 (dk_at dksX10_goOn_2 14 rfl rfl)
theorem dX10_goOn_62 : decode cX10_goOn 62 = .ok (.if_icmp .ne 13, 3) := dk_160 0 13 (dk_at dksX10_goOn_2 15 rfl rfl)
theorem dX10_goOn_65 : decode cX10_goOn 65 = .ok (.aload_n 0, 1) := dk_42 (dk_at dksX10_goOn_2 18 rfl rfl)
theorem dX10_goOn_66 : decode cX10_goOn 66 = .ok (.getstatic 47, 3) := dk_178 0 47 (dk_at dksX10_goOn_2 19 rfl rfl)
theorem dX10_goOn_69 : decode cX10_goOn 69 = .ok (.putfield 53, 3) := dk_181 0 53 (dk_at dksX10_goOn_3 0 rfl rfl)
theorem dX10_goOn_72 : decode cX10_goOn 72 = .ok (.goto 185, 3) := dk_167 0 185 (dk_at dksX10_goOn_3 3 rfl rfl)
theorem dX10_goOn_75 : decode cX10_goOn 75 = .ok (.aload_n 0, 1) := dk_42 (dk_at dksX10_goOn_3 6 rfl rfl)
theorem dX10_goOn_76 : decode cX10_goOn 76 = .ok (.invokevirtual 56, 3) := dk_182 0 56 (dk_at dksX10_goOn_3 7 rfl rfl)
theorem dX10_goOn_79 : decode cX10_goOn 79 = .ok (.ifCond .eq 72, 3) := dk_153 0 72 (dk_at dksX10_goOn_3 10 rfl rfl)
theorem dX10_goOn_82 : decode cX10_goOn 82 = .ok (.new 60, 3) := dk_187 0 60 (dk_at dksX10_goOn_3 13 rfl rfl)
theorem dX10_goOn_85 : decode cX10_goOn 85 = .ok (.dup, 1) := dk_89 (dk_at dksX10_goOn_3 16 rfl rfl)
theorem dX10_goOn_86 : decode cX10_goOn 86 = .ok (.invokespecial 62, 3) := dk_183 0 62 (dk_at dksX10_goOn_3 17 rfl rfl)
theorem dX10_goOn_89 : decode cX10_goOn 89 = .ok (.astore_n 1, 1) := dk_76 (dk_at dksX10_goOn_3 20 rfl rfl)
theorem dX10_goOn_90 : decode cX10_goOn 90 = .ok (.aload_n 0, 1) := dk_42 (dk_at dksX10_goOn_3 21 rfl rfl)
theorem dX10_goOn_91 : decode cX10_goOn 91 = .ok (.invokevirtual 56, 3) := dk_182 0 56 (dk_at dksX10_goOn_4 0 rfl rfl)
theorem dX10_goOn_94 : decode cX10_goOn 94 = .ok (.ifCond .eq 39, 3) := dk_153 0 39 (dk_at dksX10_goOn_4 3 rfl rfl)
theorem dX10_goOn_97 : decode cX10_goOn 97 = .ok (.aload_n 1, 1) := dk_43 (dk_at dksX10_goOn_4 6 rfl rfl)
theorem dX10_goOn_98 : decode cX10_goOn 98 = .ok (.invokevirtual 63, 3) := dk_182 0 63 (dk_at dksX10_goOn_4 7 rfl rfl)
theorem dX10_goOn_101 : decode cX10_goOn 101 = .ok (.bipush 20, 2) := dk_16 20 (dk_at dksX10_goOn_4 10 rfl rfl)
theorem dX10_goOn_103 : decode cX10_goOn 103 = .ok (.if_icmp .ge 17, 3) := dk_162 0 17 (dk_at dksX10_goOn_4 12 rfl rfl)
theorem dX10_goOn_106 : decode cX10_goOn 106 = .ok (.aload_n 1, 1) := dk_43 (dk_at dksX10_goOn_4 15 rfl rfl)
theorem dX10_goOn_107 : decode cX10_goOn 107 = .ok (.aload_n 0, 1) := dk_42 (dk_at dksX10_goOn_4 16 rfl rfl)
theorem dX10_goOn_108 : decode cX10_goOn 108 = .ok (.aload_n 0, 1) := dk_42 (dk_at dksX10_goOn_4 17 rfl rfl)
theorem dX10_goOn_109 : decode cX10_goOn 109 = .ok (.getfield 33, 3) := dk_180 0 33 (dk_at dksX10_goOn_4 18 rfl rfl)
theorem dX10_goOn_112 : decode cX10_goOn 112 = .ok (.invokevirtual 36, 3) := dk_182 0 36 (dk_at dksX10_goOn_4 21 rfl rfl)
theorem dX10_goOn_115 : decode cX10_goOn 115 = .ok (.i2c, 1) := dk_146 (dk_at dksX10_goOn_5 0 rfl rfl)
theorem dX10_goOn_116 : decode cX10_goOn 116 = .ok (.invokevirtual 66, 3) := dk_182 0 66 (dk_at dksX10_goOn_5 1 rfl rfl)
theorem dX10_goOn_119 : decode cX10_goOn 119 = .ok (.pop, 1) := dk_87 (dk_at dksX10_goOn_5 4 rfl rfl)
theorem dX10_goOn_120 : decode cX10_goOn 120 = .ok (.aload_n 0, 1) := dk_42 (dk_at dksX10_goOn_5 5 rfl rfl)
theorem dX10_goOn_121 : decode cX10_goOn 121 = .ok (.dup, 1) := dk_89 (dk_at dksX10_goOn_5 6 rfl rfl)
theorem dX10_goOn_122 : decode cX10_goOn 122 = .ok (.getfield 33, 3) := dk_180 0 33 (dk_at dksX10_goOn_5 7 rfl rfl)
theorem dX10_goOn_125 : decode cX10_goOn 125 = .ok (.iconst 1, 1) := dk_4 (dk_at dksX10_goOn_5 10 rfl rfl)
theorem dX10_goOn_126 : decode cX10_goOn 126 = .ok (.iadd, 1) := dk_96 (dk_at dksX10_goOn_5 11 rfl rfl)
theorem dX10_goOn_127 : decode cX10_goOn 127 = .ok (.putfield 33, 3) := dk_181 0 33 (dk_at dksX10_goOn_5 12 rfl rfl)
theorem dX10_goOn_130 : decode cX10_goOn 130 = .ok (.goto (-40), 3) := dk_167 255 216 (dk_at dksX10_goOn_5 15 rfl rfl)
theorem dX10_goOn_133 : decode cX10_goOn 133 = .ok (.aload_n 0, 1) := dk_42 (dk_at dksX10_goOn_5 18 rfl rfl)
theorem dX10_goOn_134 : decode cX10_goOn 134 = .ok (.aload_n 1, 1) := dk_43 (dk_at dksX10_goOn_5 19 rfl rfl)
theorem dX10_goOn_135 : decode cX10_goOn 135 = .ok (.invokevirtual 70, 3) := dk_182 0 70 (dk_at dksX10_goOn_5 20 rfl rfl)
theorem dX10_goOn_138 : decode cX10_goOn 138 = .ok (.putfield 17, 3) := dk_181 0 17 (dk_at dksX10_goOn_6 0 rfl rfl)
theorem dX10_goOn_141 : decode cX10_goOn 141 = .ok (.aload_n 0, 1) := dk_42 (dk_at dksX10_goOn_6 3 rfl rfl)
theorem dX10_goOn_142 : decode cX10_goOn 142 = .ok (.getstatic 74, 3) := dk_178 0 74 (dk_at dksX10_goOn_6 4 rfl rfl)
theorem dX10_goOn_145 : decode cX10_goOn 145 = .ok (.putfield 53, 3) := dk_181 0 53 (dk_at dksX10_goOn_6 7 rfl rfl)
theorem dX10_goOn_148 : decode cX10_goOn 148 = .ok (.goto 109, 3) := dk_167 0 109 (dk_at dksX10_goOn_6 10 rfl rfl)
theorem dX10_goOn_151 : decode cX10_goOn 151 = .ok (.aload_n 0, 1) := dk_42 (dk_at dksX10_goOn_6 13 rfl rfl)
theorem dX10_goOn_152 : decode cX10_goOn 152 = .ok (.invokevirtual 77, 3) := dk_182 0 77 (dk_at dksX10_goOn_6 14 rfl rfl)
theorem dX10_goOn_155 : decode cX10_goOn 155 = .ok (.ifCond .eq 66, 3) := dk_153 0 66 (dk_at dksX10_goOn_6 17 rfl rfl)
theorem dX10_goOn_158 : decode cX10_goOn 158 = .ok (.aload_n 0, 1) := dk_42 (dk_at dksX10_goOn_6 20 rfl rfl)
theorem dX10_goOn_159 : decode cX10_goOn 159 = .ok (.iconst 0, 1) := dk_3 (dk_at dksX10_goOn_6 21 rfl rfl)
theorem dX10_goOn_160 : decode cX10_goOn 160 = .ok (.putfield 80, 3) := dk_181 0 80 (dk_at dksX10_goOn_7 0 rfl rfl)
theorem dX10_goOn_163 : decode cX10_goOn 163 = .ok (.aload_n 0, 1) := dk_42 (dk_at dksX10_goOn_7 3 rfl rfl)
theorem dX10_goOn_164 : decode cX10_goOn 164 = .ok (.invokevirtual 77, 3) := dk_182 0 77 (dk_at dksX10_goOn_7 4 rfl rfl)
theorem dX10_goOn_167 : decode cX10_goOn 167 = .ok (.ifCond .eq 44, 3) := dk_153 0 44 (dk_at dksX10_goOn_7 7 rfl rfl)
theorem dX10_goOn_170 : decode cX10_goOn 170 = .ok (.aload_n 0, 1) := dk_42 (dk_at dksX10_goOn_7 10 rfl rfl)
theorem dX10_goOn_171 : decode cX10_goOn 171 = .ok (.ldc 83, 2) := dk_18 83 (dk_at dksX10_goOn_7 11 rfl rfl)
theorem dX10_goOn_173 : decode cX10_goOn 173 = .ok (.bipush 10, 2) := dk_16 10 (dk_at dksX10_goOn_7 13 rfl rfl)
theorem dX10_goOn_175 : decode cX10_goOn 175 = .ok (.aload_n 0, 1) := dk_42 (dk_at dksX10_goOn_7 15 rfl rfl)
theorem dX10_goOn_176 : decode cX10_goOn 176 = .ok (.getfield 80, 3) := dk_180 0 80 (dk_at dksX10_goOn_7 16 rfl rfl)
theorem dX10_goOn_179 : decode cX10_goOn 179 = .ok (.imul, 1) := dk_104 (dk_at dksX10_goOn_7 19 rfl rfl)
theorem dX10_goOn_180 : decode cX10_goOn 180 = .ok (.aload_n 0, 1) := dk_42 (dk_at dksX10_goOn_7 20 rfl rfl)
theorem dX10_goOn_181 : decode cX10_goOn 181 = .ok (.aload_n 0, 1) := dk_42 (dk_at dksX10_goOn_7 21 rfl rfl)
theorem dX10_goOn_182 : decode cX10_goOn 182 = .ok (.getfield 33, 3) := dk_180 0 33 (dk_at dksX10_goOn_8 0 rfl rfl)
theorem dX10_goOn_185 : decode cX10_goOn 185 = .ok (.invokevirtual 36, 3) := dk_182 0 36 (dk_at dksX10_goOn_8 3 rfl rfl)
theorem dX10_goOn_188 : decode cX10_goOn 188 = .ok (.iadd, 1) := dk_96 (dk_at dksX10_goOn_8 6 rfl rfl)
theorem dX10_goOn_189 : decode cX10_goOn 189 = .ok (.bipush 48, 2) := dk_16 48 (dk_at dksX10_goOn_8 7 rfl rfl)
theorem dX10_goOn_191 : decode cX10_goOn 191 = .ok (.isub, 1) := dk_100 (dk_at dksX10_goOn_8 9 rfl rfl)
theorem dX10_goOn_192 : decode cX10_goOn 192 = .ok (.invokestatic 84, 3) := dk_184 0 84 (dk_at dksX10_goOn_8 10 rfl rfl)
theorem dX10_goOn_195 : decode cX10_goOn 195 = .ok (.putfield 80, 3) := dk_181 0 80 (dk_at dksX10_goOn_8 13 rfl rfl)
theorem dX10_goOn_198 : decode cX10_goOn 198 = .ok (.aload_n 0, 1) := dk_42 (dk_at dksX10_goOn_8 16 rfl rfl)
theorem dX10_goOn_199 : decode cX10_goOn 199 = .ok (.dup, 1) := dk_89 (dk_at dksX10_goOn_8 17 rfl rfl)
theorem dX10_goOn_200 : decode cX10_goOn 200 = .ok (.getfield 33, 3) := dk_180 0 33 (dk_at dksX10_goOn_8 18 rfl rfl)
theorem dX10_goOn_203 : decode cX10_goOn 203 = .ok (.iconst 1, 1) := dk_4 (dk_at dksX10_goOn_8 21 rfl rfl)
theorem dX10_goOn_204 : decode cX10_goOn 204 = .ok (.iadd, 1) := dk_96 (dk_at dksX10_goOn_8 22 rfl rfl)
theorem dX10_goOn_205 : decode cX10_goOn 205 = .ok (.putfield 33, 3) := dk_181 0 33 (dk_at dksX10_goOn_9 0 rfl rfl)
theorem dX10_goOn_208 : decode cX10_goOn 208 = .ok (.goto (-45), 3) := dk_167 255 211 (dk_at dksX10_goOn_9 3 rfl rfl)
theorem dX10_goOn_211 : decode cX10_goOn 211 = .ok (.aload_n 0, 1) := dk_42 (dk_at dksX10_goOn_9 6 rfl rfl)
theorem dX10_goOn_212 : decode cX10_goOn 212 = .ok (.getstatic 90, 3) := dk_178 0 90 (dk_at dksX10_goOn_9 7 rfl rfl)
theorem dX10_goOn_215 : decode cX10_goOn 215 = .ok (.putfield 53, 3) := dk_181 0 53 (dk_at dksX10_goOn_9 10 rfl rfl)
theorem dX10_goOn_218 : decode cX10_goOn 218 = .ok (.goto 39, 3) := dk_167 0 39 (dk_at dksX10_goOn_9 13 rfl rfl)
theorem dX10_goOn_221 : decode cX10_goOn 221 = .ok (.aload_n 0, 1) := dk_42 (dk_at dksX10_goOn_9 16 rfl rfl)
theorem dX10_goOn_222 : decode cX10_goOn 222 = .ok (.aload_n 0, 1) := dk_42 (dk_at dksX10_goOn_9 17 rfl rfl)
theorem dX10_goOn_223 : decode cX10_goOn 223 = .ok (.aload_n 0, 1) := dk_42 (dk_at dksX10_goOn_9 18 rfl rfl)
theorem dX10_goOn_224 : decode cX10_goOn 224 = .ok (.getfield 33, 3) := dk_180 0 33 (dk_at dksX10_goOn_9 19 rfl rfl)
theorem dX10_goOn_227 : decode cX10_goOn 227 = .ok (.invokevirtual 36, 3) := dk_182 0 36 (dk_at dksX10_goOn_10 0 rfl rfl)
theorem dX10_goOn_230 : decode cX10_goOn 230 = .ok (.bipush 59, 2) := dk_16 59 (dk_at dksX10_goOn_10 3 rfl rfl)
theorem dX10_goOn_232 : decode cX10_goOn 232 = .ok (.if_icmp .ne 9, 3) := dk_160 0 9 (dk_at dksX10_goOn_10 5 rfl rfl)
theorem dX10_goOn_235 : decode cX10_goOn 235 = .ok (.getstatic 93, 3) := dk_178 0 93 (dk_at dksX10_goOn_10 8 rfl rfl)
theorem dX10_goOn_238 : decode cX10_goOn 238 = .ok (.goto 6, 3) := dk_167 0 6 (dk_at dksX10_goOn_10 11 rfl rfl)
theorem dX10_goOn_241 : decode cX10_goOn 241 = .ok (.getstatic 96, 3) := dk_178 0 96 (dk_at dksX10_goOn_10 14 rfl rfl)
theorem dX10_goOn_244 : decode cX10_goOn 244 = .ok (.putfield 53, 3) := dk_181 0 53 (dk_at dksX10_goOn_10 17 rfl rfl)
theorem dX10_goOn_247 : decode cX10_goOn 247 = .ok (.aload_n 0, 1) := dk_42 (dk_at dksX10_goOn_10 20 rfl rfl)
theorem dX10_goOn_248 : decode cX10_goOn 248 = .ok (.dup, 1) := dk_89 (dk_at dksX10_goOn_10 21 rfl rfl)
theorem dX10_goOn_249 : decode cX10_goOn 249 = .ok (.getfield 33, 3) := dk_180 0 33 (dk_at dksX10_goOn_11 0 rfl rfl)
theorem dX10_goOn_252 : decode cX10_goOn 252 = .ok (.iconst 1, 1) := dk_4 (dk_at dksX10_goOn_11 3 rfl rfl)
theorem dX10_goOn_253 : decode cX10_goOn 253 = .ok (.iadd, 1) := dk_96 (dk_at dksX10_goOn_11 4 rfl rfl)
theorem dX10_goOn_254 : decode cX10_goOn 254 = .ok (.putfield 33, 3) := dk_181 0 33 (dk_at dksX10_goOn_11 5 rfl rfl)
theorem dX10_goOn_257 : decode cX10_goOn 257 = .ok (.return_, 1) := dk_177 (dk_at dksX10_goOn_11 8 rfl rfl)
abbrev cX10_byteAt : ByteArray := prog_8_method_2_code
def yX10_byteAt : MethodName := ⟨RX10, "byteAt", "(I)I"⟩
def dkwX10_byteAt_1 : List UInt8 := [167, 0, 4, 2, 172]
abbrev dktX10_byteAt_1 : List UInt8 := dkwX10_byteAt_1 ++ []
def dkwX10_byteAt_0 : List UInt8 := [27, 42, 180, 0, 3, 180, 0, 25, 162, 0, 19, 42, 180, 0, 3, 180, 0, 29, 27, 51, 17, 0, 255, 126]
abbrev dktX10_byteAt_0 : List UInt8 := dkwX10_byteAt_0 ++ dktX10_byteAt_1
theorem dksX10_byteAt_0 : cX10_byteAt.data.toList.drop 0 = dktX10_byteAt_0 := by decide +kernel
theorem dksX10_byteAt_1 : cX10_byteAt.data.toList.drop 24 = dktX10_byteAt_1 := dk_seg dksX10_byteAt_0 24 rfl rfl
theorem dX10_byteAt_0 : decode cX10_byteAt 0 = .ok (.iload_n 1, 1) := dk_27 (dk_at dksX10_byteAt_0 0 rfl rfl)
theorem dX10_byteAt_1 : decode cX10_byteAt 1 = .ok (.aload_n 0, 1) := dk_42 (dk_at dksX10_byteAt_0 1 rfl rfl)
theorem dX10_byteAt_2 : decode cX10_byteAt 2 = .ok (.getfield 3, 3) := dk_180 0 3 (dk_at dksX10_byteAt_0 2 rfl rfl)
theorem dX10_byteAt_5 : decode cX10_byteAt 5 = .ok (.getfield 25, 3) := dk_180 0 25 (dk_at dksX10_byteAt_0 5 rfl rfl)
theorem dX10_byteAt_8 : decode cX10_byteAt 8 = .ok (.if_icmp .ge 19, 3) := dk_162 0 19 (dk_at dksX10_byteAt_0 8 rfl rfl)
theorem dX10_byteAt_11 : decode cX10_byteAt 11 = .ok (.aload_n 0, 1) := dk_42 (dk_at dksX10_byteAt_0 11 rfl rfl)
theorem dX10_byteAt_12 : decode cX10_byteAt 12 = .ok (.getfield 3, 3) := dk_180 0 3 (dk_at dksX10_byteAt_0 12 rfl rfl)
theorem dX10_byteAt_15 : decode cX10_byteAt 15 = .ok (.getfield 29, 3) := dk_180 0 29 (dk_at dksX10_byteAt_0 15 rfl rfl)
theorem dX10_byteAt_18 : decode cX10_byteAt 18 = .ok (.iload_n 1, 1) := dk_27 (dk_at dksX10_byteAt_0 18 rfl rfl)
theorem dX10_byteAt_19 : decode cX10_byteAt 19 = .ok (.baload, 1) := dk_51 (dk_at dksX10_byteAt_0 19 rfl rfl)
theorem dX10_byteAt_20 : decode cX10_byteAt 20 = .ok (.sipush 255, 3) := dk_17 0 255 (dk_at dksX10_byteAt_0 20 rfl rfl)
theorem dX10_byteAt_23 : decode cX10_byteAt 23 = .ok (.iand, 1) := dk_126 (dk_at dksX10_byteAt_0 23 rfl rfl)
theorem dX10_byteAt_24 : decode cX10_byteAt 24 = .ok (.goto 4, 3) := dk_167 0 4 (dk_at dksX10_byteAt_1 0 rfl rfl)
theorem dX10_byteAt_27 : decode cX10_byteAt 27 = .ok (.iconst (-1), 1) := dk_2 (dk_at dksX10_byteAt_1 3 rfl rfl)
theorem dX10_byteAt_28 : decode cX10_byteAt 28 = .ok (.ireturn, 1) := dk_172 (dk_at dksX10_byteAt_1 4 rfl rfl)
abbrev cX10_isSmall : ByteArray := prog_8_method_3_code
def yX10_isSmall : MethodName := ⟨RX10, "isSmall", "()Z"⟩
def dkwX10_isSmall_0 : List UInt8 := [42, 42, 180, 0, 33, 182, 0, 36, 16, 97, 16, 122, 184, 0, 40, 172]
abbrev dktX10_isSmall_0 : List UInt8 := dkwX10_isSmall_0 ++ []
theorem dksX10_isSmall_0 : cX10_isSmall.data.toList.drop 0 = dktX10_isSmall_0 := by decide +kernel
theorem dX10_isSmall_0 : decode cX10_isSmall 0 = .ok (.aload_n 0, 1) := dk_42 (dk_at dksX10_isSmall_0 0 rfl rfl)
theorem dX10_isSmall_1 : decode cX10_isSmall 1 = .ok (.aload_n 0, 1) := dk_42 (dk_at dksX10_isSmall_0 1 rfl rfl)
theorem dX10_isSmall_2 : decode cX10_isSmall 2 = .ok (.getfield 33, 3) := dk_180 0 33 (dk_at dksX10_isSmall_0 2 rfl rfl)
theorem dX10_isSmall_5 : decode cX10_isSmall 5 = .ok (.invokevirtual 36, 3) := dk_182 0 36 (dk_at dksX10_isSmall_0 5 rfl rfl)
theorem dX10_isSmall_8 : decode cX10_isSmall 8 = .ok (.bipush 97, 2) := dk_16 97 (dk_at dksX10_isSmall_0 8 rfl rfl)
theorem dX10_isSmall_10 : decode cX10_isSmall 10 = .ok (.bipush 122, 2) := dk_16 122 (dk_at dksX10_isSmall_0 10 rfl rfl)
theorem dX10_isSmall_12 : decode cX10_isSmall 12 = .ok (.invokestatic 40, 3) := dk_184 0 40 (dk_at dksX10_isSmall_0 12 rfl rfl)
theorem dX10_isSmall_15 : decode cX10_isSmall 15 = .ok (.ireturn, 1) := dk_172 (dk_at dksX10_isSmall_0 15 rfl rfl)
abbrev cX10_isDigit : ByteArray := prog_8_method_4_code
def yX10_isDigit : MethodName := ⟨RX10, "isDigit", "()Z"⟩
def dkwX10_isDigit_0 : List UInt8 := [42, 42, 180, 0, 33, 182, 0, 36, 16, 48, 16, 57, 184, 0, 40, 172]
abbrev dktX10_isDigit_0 : List UInt8 := dkwX10_isDigit_0 ++ []
theorem dksX10_isDigit_0 : cX10_isDigit.data.toList.drop 0 = dktX10_isDigit_0 := by decide +kernel
theorem dX10_isDigit_0 : decode cX10_isDigit 0 = .ok (.aload_n 0, 1) := dk_42 (dk_at dksX10_isDigit_0 0 rfl rfl)
theorem dX10_isDigit_1 : decode cX10_isDigit 1 = .ok (.aload_n 0, 1) := dk_42 (dk_at dksX10_isDigit_0 1 rfl rfl)
theorem dX10_isDigit_2 : decode cX10_isDigit 2 = .ok (.getfield 33, 3) := dk_180 0 33 (dk_at dksX10_isDigit_0 2 rfl rfl)
theorem dX10_isDigit_5 : decode cX10_isDigit 5 = .ok (.invokevirtual 36, 3) := dk_182 0 36 (dk_at dksX10_isDigit_0 5 rfl rfl)
theorem dX10_isDigit_8 : decode cX10_isDigit 8 = .ok (.bipush 48, 2) := dk_16 48 (dk_at dksX10_isDigit_0 8 rfl rfl)
theorem dX10_isDigit_10 : decode cX10_isDigit 10 = .ok (.bipush 57, 2) := dk_16 57 (dk_at dksX10_isDigit_0 10 rfl rfl)
theorem dX10_isDigit_12 : decode cX10_isDigit 12 = .ok (.invokestatic 40, 3) := dk_184 0 40 (dk_at dksX10_isDigit_0 12 rfl rfl)
theorem dX10_isDigit_15 : decode cX10_isDigit 15 = .ok (.ireturn, 1) := dk_172 (dk_at dksX10_isDigit_0 15 rfl rfl)
abbrev cX10_is : ByteArray := prog_8_method_7_code
def yX10_is : MethodName := ⟨RX10, "is", "(Ljava/lang/String;)Z"⟩
def dkwX10_is_1 : List UInt8 := [167, 0, 4, 3, 172]
abbrev dktX10_is_1 : List UInt8 := dkwX10_is_1 ++ []
def dkwX10_is_0 : List UInt8 := [42, 180, 0, 53, 178, 0, 74, 166, 0, 18, 42, 180, 0, 17, 43, 182, 0, 104, 153, 0, 7, 4]
abbrev dktX10_is_0 : List UInt8 := dkwX10_is_0 ++ dktX10_is_1
theorem dksX10_is_0 : cX10_is.data.toList.drop 0 = dktX10_is_0 := by decide +kernel
theorem dksX10_is_1 : cX10_is.data.toList.drop 22 = dktX10_is_1 := dk_seg dksX10_is_0 22 rfl rfl
theorem dX10_is_0 : decode cX10_is 0 = .ok (.aload_n 0, 1) := dk_42 (dk_at dksX10_is_0 0 rfl rfl)
theorem dX10_is_1 : decode cX10_is 1 = .ok (.getfield 53, 3) := dk_180 0 53 (dk_at dksX10_is_0 1 rfl rfl)
theorem dX10_is_4 : decode cX10_is 4 = .ok (.getstatic 74, 3) := dk_178 0 74 (dk_at dksX10_is_0 4 rfl rfl)
theorem dX10_is_7 : decode cX10_is 7 = .ok (.if_acmp .ne 18, 3) := dk_166 0 18 (dk_at dksX10_is_0 7 rfl rfl)
theorem dX10_is_10 : decode cX10_is 10 = .ok (.aload_n 0, 1) := dk_42 (dk_at dksX10_is_0 10 rfl rfl)
theorem dX10_is_11 : decode cX10_is 11 = .ok (.getfield 17, 3) := dk_180 0 17 (dk_at dksX10_is_0 11 rfl rfl)
theorem dX10_is_14 : decode cX10_is 14 = .ok (.aload_n 1, 1) := dk_43 (dk_at dksX10_is_0 14 rfl rfl)
theorem dX10_is_15 : decode cX10_is 15 = .ok (.invokevirtual 104, 3) := dk_182 0 104 (dk_at dksX10_is_0 15 rfl rfl)
theorem dX10_is_18 : decode cX10_is 18 = .ok (.ifCond .eq 7, 3) := dk_153 0 7 (dk_at dksX10_is_0 18 rfl rfl)
theorem dX10_is_21 : decode cX10_is 21 = .ok (.iconst 1, 1) := dk_4 (dk_at dksX10_is_0 21 rfl rfl)
theorem dX10_is_22 : decode cX10_is 22 = .ok (.goto 4, 3) := dk_167 0 4 (dk_at dksX10_is_1 0 rfl rfl)
theorem dX10_is_25 : decode cX10_is 25 = .ok (.iconst 0, 1) := dk_3 (dk_at dksX10_is_1 3 rfl rfl)
theorem dX10_is_26 : decode cX10_is 26 = .ok (.ireturn, 1) := dk_172 (dk_at dksX10_is_1 4 rfl rfl)
abbrev cX10_must : ByteArray := prog_8_method_6_code
def yX10_must : MethodName := ⟨RX10, "must", "(ZI)V"⟩
def dkwX10_must_0 : List UInt8 := [27, 154, 0, 16, 187, 0, 99, 89, 28, 42, 180, 0, 44, 183, 0, 101, 191, 177]
abbrev dktX10_must_0 : List UInt8 := dkwX10_must_0 ++ []
theorem dksX10_must_0 : cX10_must.data.toList.drop 0 = dktX10_must_0 := by decide +kernel
theorem dX10_must_0 : decode cX10_must 0 = .ok (.iload_n 1, 1) := dk_27 (dk_at dksX10_must_0 0 rfl rfl)
theorem dX10_must_1 : decode cX10_must 1 = .ok (.ifCond .ne 16, 3) := dk_154 0 16 (dk_at dksX10_must_0 1 rfl rfl)
theorem dX10_must_4 : decode cX10_must 4 = .ok (.new 99, 3) := dk_187 0 99 (dk_at dksX10_must_0 4 rfl rfl)
theorem dX10_must_7 : decode cX10_must 7 = .ok (.dup, 1) := dk_89 (dk_at dksX10_must_0 7 rfl rfl)
theorem dX10_must_8 : decode cX10_must 8 = .ok (.iload_n 2, 1) := dk_28 (dk_at dksX10_must_0 8 rfl rfl)
theorem dX10_must_9 : decode cX10_must 9 = .ok (.aload_n 0, 1) := dk_42 (dk_at dksX10_must_0 9 rfl rfl)
theorem dX10_must_10 : decode cX10_must 10 = .ok (.getfield 44, 3) := dk_180 0 44 (dk_at dksX10_must_0 10 rfl rfl)
theorem dX10_must_13 : decode cX10_must 13 = .ok (.invokespecial 101, 3) := dk_183 0 101 (dk_at dksX10_must_0 13 rfl rfl)
theorem dX10_must_16 : decode cX10_must 16 = .ok (.athrow, 1) := dk_191 (dk_at dksX10_must_0 16 rfl rfl)
theorem dX10_must_17 : decode cX10_must 17 = .ok (.return_, 1) := dk_177 (dk_at dksX10_must_0 17 rfl rfl)
abbrev cX10_number : ByteArray := prog_8_method_8_code
def yX10_number : MethodName := ⟨RX10, "number", "(II)I"⟩
def dkwX10_number_1 : List UInt8 := [180, 0, 80, 27, 28, 184, 0, 40, 5, 182, 0, 110, 42, 180, 0, 80, 62, 42, 182, 0, 114, 29, 172]
abbrev dktX10_number_1 : List UInt8 := dkwX10_number_1 ++ []
def dkwX10_number_0 : List UInt8 := [42, 42, 180, 0, 53, 178, 0, 90, 166, 0, 7, 4, 167, 0, 4, 3, 4, 182, 0, 110, 42, 42]
abbrev dktX10_number_0 : List UInt8 := dkwX10_number_0 ++ dktX10_number_1
theorem dksX10_number_0 : cX10_number.data.toList.drop 0 = dktX10_number_0 := by decide +kernel
theorem dksX10_number_1 : cX10_number.data.toList.drop 22 = dktX10_number_1 := dk_seg dksX10_number_0 22 rfl rfl
theorem dX10_number_0 : decode cX10_number 0 = .ok (.aload_n 0, 1) := dk_42 (dk_at dksX10_number_0 0 rfl rfl)
theorem dX10_number_1 : decode cX10_number 1 = .ok (.aload_n 0, 1) := dk_42 (dk_at dksX10_number_0 1 rfl rfl)
theorem dX10_number_2 : decode cX10_number 2 = .ok (.getfield 53, 3) := dk_180 0 53 (dk_at dksX10_number_0 2 rfl rfl)
theorem dX10_number_5 : decode cX10_number 5 = .ok (.getstatic 90, 3) := dk_178 0 90 (dk_at dksX10_number_0 5 rfl rfl)
theorem dX10_number_8 : decode cX10_number 8 = .ok (.if_acmp .ne 7, 3) := dk_166 0 7 (dk_at dksX10_number_0 8 rfl rfl)
theorem dX10_number_11 : decode cX10_number 11 = .ok (.iconst 1, 1) := dk_4 (dk_at dksX10_number_0 11 rfl rfl)
theorem dX10_number_12 : decode cX10_number 12 = .ok (.goto 4, 3) := dk_167 0 4 (dk_at dksX10_number_0 12 rfl rfl)
theorem dX10_number_15 : decode cX10_number 15 = .ok (.iconst 0, 1) := dk_3 (dk_at dksX10_number_0 15 rfl rfl)
theorem dX10_number_16 : decode cX10_number 16 = .ok (.iconst 1, 1) := dk_4 (dk_at dksX10_number_0 16 rfl rfl)
theorem dX10_number_17 : decode cX10_number 17 = .ok (.invokevirtual 110, 3) := dk_182 0 110 (dk_at dksX10_number_0 17 rfl rfl)
theorem dX10_number_20 : decode cX10_number 20 = .ok (.aload_n 0, 1) := dk_42 (dk_at dksX10_number_0 20 rfl rfl)
theorem dX10_number_21 : decode cX10_number 21 = .ok (.aload_n 0, 1) := dk_42 (dk_at dksX10_number_0 21 rfl rfl)
theorem dX10_number_22 : decode cX10_number 22 = .ok (.getfield 80, 3) := dk_180 0 80 (dk_at dksX10_number_1 0 rfl rfl)
theorem dX10_number_25 : decode cX10_number 25 = .ok (.iload_n 1, 1) := dk_27 (dk_at dksX10_number_1 3 rfl rfl)
theorem dX10_number_26 : decode cX10_number 26 = .ok (.iload_n 2, 1) := dk_28 (dk_at dksX10_number_1 4 rfl rfl)
theorem dX10_number_27 : decode cX10_number 27 = .ok (.invokestatic 40, 3) := dk_184 0 40 (dk_at dksX10_number_1 5 rfl rfl)
theorem dX10_number_30 : decode cX10_number 30 = .ok (.iconst 2, 1) := dk_5 (dk_at dksX10_number_1 8 rfl rfl)
theorem dX10_number_31 : decode cX10_number 31 = .ok (.invokevirtual 110, 3) := dk_182 0 110 (dk_at dksX10_number_1 9 rfl rfl)
theorem dX10_number_34 : decode cX10_number 34 = .ok (.aload_n 0, 1) := dk_42 (dk_at dksX10_number_1 12 rfl rfl)
theorem dX10_number_35 : decode cX10_number 35 = .ok (.getfield 80, 3) := dk_180 0 80 (dk_at dksX10_number_1 13 rfl rfl)
theorem dX10_number_38 : decode cX10_number 38 = .ok (.istore_n 3, 1) := dk_62 (dk_at dksX10_number_1 16 rfl rfl)
theorem dX10_number_39 : decode cX10_number 39 = .ok (.aload_n 0, 1) := dk_42 (dk_at dksX10_number_1 17 rfl rfl)
theorem dX10_number_40 : decode cX10_number 40 = .ok (.invokevirtual 114, 3) := dk_182 0 114 (dk_at dksX10_number_1 18 rfl rfl)
theorem dX10_number_43 : decode cX10_number 43 = .ok (.iload_n 3, 1) := dk_29 (dk_at dksX10_number_1 21 rfl rfl)
theorem dX10_number_44 : decode cX10_number 44 = .ok (.ireturn, 1) := dk_172 (dk_at dksX10_number_1 22 rfl rfl)
abbrev cX10_ends : ByteArray := prog_8_method_9_code
def yX10_ends : MethodName := ⟨RX10, "ends", "()V"⟩
def dkwX10_ends_1 : List UInt8 := [177]
abbrev dktX10_ends_1 : List UInt8 := dkwX10_ends_1 ++ []
def dkwX10_ends_0 : List UInt8 := [42, 42, 180, 0, 53, 178, 0, 93, 166, 0, 7, 4, 167, 0, 4, 3, 4, 182, 0, 110, 42, 182, 0, 114]
abbrev dktX10_ends_0 : List UInt8 := dkwX10_ends_0 ++ dktX10_ends_1
theorem dksX10_ends_0 : cX10_ends.data.toList.drop 0 = dktX10_ends_0 := by decide +kernel
theorem dksX10_ends_1 : cX10_ends.data.toList.drop 24 = dktX10_ends_1 := dk_seg dksX10_ends_0 24 rfl rfl
theorem dX10_ends_0 : decode cX10_ends 0 = .ok (.aload_n 0, 1) := dk_42 (dk_at dksX10_ends_0 0 rfl rfl)
theorem dX10_ends_1 : decode cX10_ends 1 = .ok (.aload_n 0, 1) := dk_42 (dk_at dksX10_ends_0 1 rfl rfl)
theorem dX10_ends_2 : decode cX10_ends 2 = .ok (.getfield 53, 3) := dk_180 0 53 (dk_at dksX10_ends_0 2 rfl rfl)
theorem dX10_ends_5 : decode cX10_ends 5 = .ok (.getstatic 93, 3) := dk_178 0 93 (dk_at dksX10_ends_0 5 rfl rfl)
theorem dX10_ends_8 : decode cX10_ends 8 = .ok (.if_acmp .ne 7, 3) := dk_166 0 7 (dk_at dksX10_ends_0 8 rfl rfl)
theorem dX10_ends_11 : decode cX10_ends 11 = .ok (.iconst 1, 1) := dk_4 (dk_at dksX10_ends_0 11 rfl rfl)
theorem dX10_ends_12 : decode cX10_ends 12 = .ok (.goto 4, 3) := dk_167 0 4 (dk_at dksX10_ends_0 12 rfl rfl)
theorem dX10_ends_15 : decode cX10_ends 15 = .ok (.iconst 0, 1) := dk_3 (dk_at dksX10_ends_0 15 rfl rfl)
theorem dX10_ends_16 : decode cX10_ends 16 = .ok (.iconst 1, 1) := dk_4 (dk_at dksX10_ends_0 16 rfl rfl)
theorem dX10_ends_17 : decode cX10_ends 17 = .ok (.invokevirtual 110, 3) := dk_182 0 110 (dk_at dksX10_ends_0 17 rfl rfl)
theorem dX10_ends_20 : decode cX10_ends 20 = .ok (.aload_n 0, 1) := dk_42 (dk_at dksX10_ends_0 20 rfl rfl)
theorem dX10_ends_21 : decode cX10_ends 21 = .ok (.invokevirtual 114, 3) := dk_182 0 114 (dk_at dksX10_ends_0 21 rfl rfl)
theorem dX10_ends_24 : decode cX10_ends 24 = .ok (.return_, 1) := dk_177 (dk_at dksX10_ends_1 0 rfl rfl)
abbrev cX10_aThing : ByteArray := prog_8_method_17_code
def yX10_aThing : MethodName := ⟨RX10, "aThing", "(LMistCouriers$State;)V"⟩
def dkwX10_aThing_11 : List UInt8 := [182, 0, 146, 87, 167, 0, 8, 42, 43, 182, 0, 210, 42, 182, 0, 213, 177]
abbrev dktX10_aThing_11 : List UInt8 := dkwX10_aThing_11 ++ []
def dkwX10_aThing_10 : List UInt8 := [167, 0, 35, 43, 180, 0, 181, 187, 0, 205, 89, 42, 43, 180, 0, 127, 2, 182, 0, 151, 183, 0, 207]
abbrev dktX10_aThing_10 : List UInt8 := dkwX10_aThing_10 ++ dktX10_aThing_11
def dkwX10_aThing_9 : List UInt8 := [42, 43, 180, 0, 127, 182, 0, 194, 167, 0, 51, 42, 43, 182, 0, 198, 167, 0, 43, 42, 43, 182, 0, 202]
abbrev dktX10_aThing_9 : List UInt8 := dkwX10_aThing_9 ++ dktX10_aThing_10
def dkwX10_aThing_8 : List UInt8 := [170, 0, 0, 0, 83, 0, 0, 0, 0, 0, 0, 0, 3, 0, 0, 0, 29, 0, 0, 0, 40, 0, 0, 0, 48, 0, 0, 0, 56]
abbrev dktX10_aThing_8 : List UInt8 := dkwX10_aThing_8 ++ dktX10_aThing_9
def dkwX10_aThing_7 : List UInt8 := [182, 0, 104, 153, 0, 6, 6, 54, 4, 21, 4]
abbrev dktX10_aThing_7 : List UInt8 := dkwX10_aThing_7 ++ dktX10_aThing_8
def dkwX10_aThing_6 : List UInt8 := [4, 54, 4, 167, 0, 30, 45, 18, 169, 182, 0, 104, 153, 0, 21, 5, 54, 4, 167, 0, 15, 45, 18, 171]
abbrev dktX10_aThing_6 : List UInt8 := dkwX10_aThing_6 ++ dktX10_aThing_7
def dkwX10_aThing_5 : List UInt8 := [45, 18, 184, 182, 0, 104, 153, 0, 51, 3, 54, 4, 167, 0, 45, 45, 18, 167, 182, 0, 104, 153, 0, 36]
abbrev dktX10_aThing_5 : List UInt8 := dkwX10_aThing_5 ++ dktX10_aThing_6
def dkwX10_aThing_4 : List UInt8 := [171, 0, 0, 0, 98, 0, 0, 0, 4, 0, 46, 6, 60, 0, 0, 0, 56, 0, 55, 145, 202, 0, 0, 0, 41, 57, 24, 254, 45, 0, 0, 0, 86, 67, 28, 217, 188, 0, 0, 0, 71]
abbrev dktX10_aThing_4 : List UInt8 := dkwX10_aThing_4 ++ dktX10_aThing_5
def dkwX10_aThing_3 : List UInt8 := [42, 182, 0, 114, 44, 78, 2, 54, 4, 45, 182, 0, 164]
abbrev dktX10_aThing_3 : List UInt8 := dkwX10_aThing_3 ++ dktX10_aThing_4
def dkwX10_aThing_2 : List UInt8 := [4, 167, 0, 4, 3, 4, 182, 0, 110, 42, 42, 43, 182, 0, 190, 7, 182, 0, 110, 42, 180, 0, 17, 77]
abbrev dktX10_aThing_2 : List UInt8 := dkwX10_aThing_2 ++ dktX10_aThing_3
def dkwX10_aThing_1 : List UInt8 := [182, 0, 186, 154, 0, 21, 42, 18, 171, 182, 0, 186, 154, 0, 12, 42, 18, 173, 182, 0, 186, 153, 0, 7]
abbrev dktX10_aThing_1 : List UInt8 := dkwX10_aThing_1 ++ dktX10_aThing_2
def dkwX10_aThing_0 : List UInt8 := [42, 42, 18, 184, 182, 0, 186, 154, 0, 39, 42, 18, 167, 182, 0, 186, 154, 0, 30, 42, 18, 169]
abbrev dktX10_aThing_0 : List UInt8 := dkwX10_aThing_0 ++ dktX10_aThing_1
theorem dksX10_aThing_0 : cX10_aThing.data.toList.drop 0 = dktX10_aThing_0 := by decide +kernel
theorem dksX10_aThing_1 : cX10_aThing.data.toList.drop 22 = dktX10_aThing_1 := dk_seg dksX10_aThing_0 22 rfl rfl
theorem dksX10_aThing_2 : cX10_aThing.data.toList.drop 46 = dktX10_aThing_2 := dk_seg dksX10_aThing_1 24 rfl rfl
theorem dksX10_aThing_3 : cX10_aThing.data.toList.drop 70 = dktX10_aThing_3 := dk_seg dksX10_aThing_2 24 rfl rfl
theorem dksX10_aThing_4 : cX10_aThing.data.toList.drop 83 = dktX10_aThing_4 := dk_seg dksX10_aThing_3 13 rfl rfl
theorem dksX10_aThing_5 : cX10_aThing.data.toList.drop 124 = dktX10_aThing_5 := dk_seg dksX10_aThing_4 41 rfl rfl
theorem dksX10_aThing_6 : cX10_aThing.data.toList.drop 148 = dktX10_aThing_6 := dk_seg dksX10_aThing_5 24 rfl rfl
theorem dksX10_aThing_7 : cX10_aThing.data.toList.drop 172 = dktX10_aThing_7 := dk_seg dksX10_aThing_6 24 rfl rfl
theorem dksX10_aThing_8 : cX10_aThing.data.toList.drop 183 = dktX10_aThing_8 := dk_seg dksX10_aThing_7 11 rfl rfl
theorem dksX10_aThing_9 : cX10_aThing.data.toList.drop 212 = dktX10_aThing_9 := dk_seg dksX10_aThing_8 29 rfl rfl
theorem dksX10_aThing_10 : cX10_aThing.data.toList.drop 236 = dktX10_aThing_10 := dk_seg dksX10_aThing_9 24 rfl rfl
theorem dksX10_aThing_11 : cX10_aThing.data.toList.drop 259 = dktX10_aThing_11 := dk_seg dksX10_aThing_10 23 rfl rfl
theorem dX10_aThing_0 : decode cX10_aThing 0 = .ok (.aload_n 0, 1) := dk_42 (dk_at dksX10_aThing_0 0 rfl rfl)
theorem dX10_aThing_1 : decode cX10_aThing 1 = .ok (.aload_n 0, 1) := dk_42 (dk_at dksX10_aThing_0 1 rfl rfl)
theorem dX10_aThing_2 : decode cX10_aThing 2 = .ok (.ldc 184, 2) := dk_18 184 (dk_at dksX10_aThing_0 2 rfl rfl)
theorem dX10_aThing_4 : decode cX10_aThing 4 = .ok (.invokevirtual 186, 3) := dk_182 0 186 (dk_at dksX10_aThing_0 4 rfl rfl)
theorem dX10_aThing_7 : decode cX10_aThing 7 = .ok (.ifCond .ne 39, 3) := dk_154 0 39 (dk_at dksX10_aThing_0 7 rfl rfl)
theorem dX10_aThing_10 : decode cX10_aThing 10 = .ok (.aload_n 0, 1) := dk_42 (dk_at dksX10_aThing_0 10 rfl rfl)
theorem dX10_aThing_11 : decode cX10_aThing 11 = .ok (.ldc 167, 2) := dk_18 167 (dk_at dksX10_aThing_0 11 rfl rfl)
theorem dX10_aThing_13 : decode cX10_aThing 13 = .ok (.invokevirtual 186, 3) := dk_182 0 186 (dk_at dksX10_aThing_0 13 rfl rfl)
theorem dX10_aThing_16 : decode cX10_aThing 16 = .ok (.ifCond .ne 30, 3) := dk_154 0 30 (dk_at dksX10_aThing_0 16 rfl rfl)
theorem dX10_aThing_19 : decode cX10_aThing 19 = .ok (.aload_n 0, 1) := dk_42 (dk_at dksX10_aThing_0 19 rfl rfl)
theorem dX10_aThing_20 : decode cX10_aThing 20 = .ok (.ldc 169, 2) := dk_18 169 (dk_at dksX10_aThing_0 20 rfl rfl)
theorem dX10_aThing_22 : decode cX10_aThing 22 = .ok (.invokevirtual 186, 3) := dk_182 0 186 (dk_at dksX10_aThing_1 0 rfl rfl)
theorem dX10_aThing_25 : decode cX10_aThing 25 = .ok (.ifCond .ne 21, 3) := dk_154 0 21 (dk_at dksX10_aThing_1 3 rfl rfl)
theorem dX10_aThing_28 : decode cX10_aThing 28 = .ok (.aload_n 0, 1) := dk_42 (dk_at dksX10_aThing_1 6 rfl rfl)
theorem dX10_aThing_29 : decode cX10_aThing 29 = .ok (.ldc 171, 2) := dk_18 171 (dk_at dksX10_aThing_1 7 rfl rfl)
theorem dX10_aThing_31 : decode cX10_aThing 31 = .ok (.invokevirtual 186, 3) := dk_182 0 186 (dk_at dksX10_aThing_1 9 rfl rfl)
theorem dX10_aThing_34 : decode cX10_aThing 34 = .ok (.ifCond .ne 12, 3) := dk_154 0 12 (dk_at dksX10_aThing_1 12 rfl rfl)
theorem dX10_aThing_37 : decode cX10_aThing 37 = .ok (.aload_n 0, 1) := dk_42 (dk_at dksX10_aThing_1 15 rfl rfl)
theorem dX10_aThing_38 : decode cX10_aThing 38 = .ok (.ldc 173, 2) := dk_18 173 (dk_at dksX10_aThing_1 16 rfl rfl)
theorem dX10_aThing_40 : decode cX10_aThing 40 = .ok (.invokevirtual 186, 3) := dk_182 0 186 (dk_at dksX10_aThing_1 18 rfl rfl)
theorem dX10_aThing_43 : decode cX10_aThing 43 = .ok (.ifCond .eq 7, 3) := dk_153 0 7 (dk_at dksX10_aThing_1 21 rfl rfl)
theorem dX10_aThing_46 : decode cX10_aThing 46 = .ok (.iconst 1, 1) := dk_4 (dk_at dksX10_aThing_2 0 rfl rfl)
theorem dX10_aThing_47 : decode cX10_aThing 47 = .ok (.goto 4, 3) := dk_167 0 4 (dk_at dksX10_aThing_2 1 rfl rfl)
theorem dX10_aThing_50 : decode cX10_aThing 50 = .ok (.iconst 0, 1) := dk_3 (dk_at dksX10_aThing_2 4 rfl rfl)
theorem dX10_aThing_51 : decode cX10_aThing 51 = .ok (.iconst 1, 1) := dk_4 (dk_at dksX10_aThing_2 5 rfl rfl)
theorem dX10_aThing_52 : decode cX10_aThing 52 = .ok (.invokevirtual 110, 3) := dk_182 0 110 (dk_at dksX10_aThing_2 6 rfl rfl)
theorem dX10_aThing_55 : decode cX10_aThing 55 = .ok (.aload_n 0, 1) := dk_42 (dk_at dksX10_aThing_2 9 rfl rfl)
theorem dX10_aThing_56 : decode cX10_aThing 56 = .ok (.aload_n 0, 1) := dk_42 (dk_at dksX10_aThing_2 10 rfl rfl)
theorem dX10_aThing_57 : decode cX10_aThing 57 = .ok (.aload_n 1, 1) := dk_43 (dk_at dksX10_aThing_2 11 rfl rfl)
theorem dX10_aThing_58 : decode cX10_aThing 58 = .ok (.invokevirtual 190, 3) := dk_182 0 190 (dk_at dksX10_aThing_2 12 rfl rfl)
theorem dX10_aThing_61 : decode cX10_aThing 61 = .ok (.iconst 4, 1) := dk_7 (dk_at dksX10_aThing_2 15 rfl rfl)
theorem dX10_aThing_62 : decode cX10_aThing 62 = .ok (.invokevirtual 110, 3) := dk_182 0 110 (dk_at dksX10_aThing_2 16 rfl rfl)
theorem dX10_aThing_65 : decode cX10_aThing 65 = .ok (.aload_n 0, 1) := dk_42 (dk_at dksX10_aThing_2 19 rfl rfl)
theorem dX10_aThing_66 : decode cX10_aThing 66 = .ok (.getfield 17, 3) := dk_180 0 17 (dk_at dksX10_aThing_2 20 rfl rfl)
theorem dX10_aThing_69 : decode cX10_aThing 69 = .ok (.astore_n 2, 1) := dk_77 (dk_at dksX10_aThing_2 23 rfl rfl)
theorem dX10_aThing_70 : decode cX10_aThing 70 = .ok (.aload_n 0, 1) := dk_42 (dk_at dksX10_aThing_3 0 rfl rfl)
theorem dX10_aThing_71 : decode cX10_aThing 71 = .ok (.invokevirtual 114, 3) := dk_182 0 114 (dk_at dksX10_aThing_3 1 rfl rfl)
theorem dX10_aThing_74 : decode cX10_aThing 74 = .ok (.aload_n 2, 1) := dk_44 (dk_at dksX10_aThing_3 4 rfl rfl)
theorem dX10_aThing_75 : decode cX10_aThing 75 = .ok (.astore_n 3, 1) := dk_78 (dk_at dksX10_aThing_3 5 rfl rfl)
theorem dX10_aThing_76 : decode cX10_aThing 76 = .ok (.iconst (-1), 1) := dk_2 (dk_at dksX10_aThing_3 6 rfl rfl)
theorem dX10_aThing_77 : decode cX10_aThing 77 = .ok (.istore 4, 2) := dk_54 4 (dk_at dksX10_aThing_3 7 rfl rfl)
theorem dX10_aThing_79 : decode cX10_aThing 79 = .ok (.aload_n 3, 1) := dk_45 (dk_at dksX10_aThing_3 9 rfl rfl)
theorem dX10_aThing_80 : decode cX10_aThing 80 = .ok (.invokevirtual 164, 3) := dk_182 0 164 (dk_at dksX10_aThing_3 10 rfl rfl)
theorem dX10_aThing_83 : decode cX10_aThing 83 = .ok (.lookupswitch 98 #[(3016252, 56), (3641802, 41), (957939245, 86), (1125964220, 71)], 41) := by decide +kernel
theorem dX10_aThing_124 : decode cX10_aThing 124 = .ok (.aload_n 3, 1) := dk_45 (dk_at dksX10_aThing_5 0 rfl rfl)
theorem dX10_aThing_125 : decode cX10_aThing 125 = .ok (.ldc 184, 2) := dk_18 184 (dk_at dksX10_aThing_5 1 rfl rfl)
theorem dX10_aThing_127 : decode cX10_aThing 127 = .ok (.invokevirtual 104, 3) := dk_182 0 104 (dk_at dksX10_aThing_5 3 rfl rfl)
theorem dX10_aThing_130 : decode cX10_aThing 130 = .ok (.ifCond .eq 51, 3) := dk_153 0 51 (dk_at dksX10_aThing_5 6 rfl rfl)
theorem dX10_aThing_133 : decode cX10_aThing 133 = .ok (.iconst 0, 1) := dk_3 (dk_at dksX10_aThing_5 9 rfl rfl)
theorem dX10_aThing_134 : decode cX10_aThing 134 = .ok (.istore 4, 2) := dk_54 4 (dk_at dksX10_aThing_5 10 rfl rfl)
theorem dX10_aThing_136 : decode cX10_aThing 136 = .ok (.goto 45, 3) := dk_167 0 45 (dk_at dksX10_aThing_5 12 rfl rfl)
theorem dX10_aThing_139 : decode cX10_aThing 139 = .ok (.aload_n 3, 1) := dk_45 (dk_at dksX10_aThing_5 15 rfl rfl)
theorem dX10_aThing_140 : decode cX10_aThing 140 = .ok (.ldc 167, 2) := dk_18 167 (dk_at dksX10_aThing_5 16 rfl rfl)
theorem dX10_aThing_142 : decode cX10_aThing 142 = .ok (.invokevirtual 104, 3) := dk_182 0 104 (dk_at dksX10_aThing_5 18 rfl rfl)
theorem dX10_aThing_145 : decode cX10_aThing 145 = .ok (.ifCond .eq 36, 3) := dk_153 0 36 (dk_at dksX10_aThing_5 21 rfl rfl)
theorem dX10_aThing_148 : decode cX10_aThing 148 = .ok (.iconst 1, 1) := dk_4 (dk_at dksX10_aThing_6 0 rfl rfl)
theorem dX10_aThing_149 : decode cX10_aThing 149 = .ok (.istore 4, 2) := dk_54 4 (dk_at dksX10_aThing_6 1 rfl rfl)
theorem dX10_aThing_151 : decode cX10_aThing 151 = .ok (.goto 30, 3) := dk_167 0 30 (dk_at dksX10_aThing_6 3 rfl rfl)
theorem dX10_aThing_154 : decode cX10_aThing 154 = .ok (.aload_n 3, 1) := dk_45 (dk_at dksX10_aThing_6 6 rfl rfl)
theorem dX10_aThing_155 : decode cX10_aThing 155 = .ok (.ldc 169, 2) := dk_18 169 (dk_at dksX10_aThing_6 7 rfl rfl)
theorem dX10_aThing_157 : decode cX10_aThing 157 = .ok (.invokevirtual 104, 3) := dk_182 0 104 (dk_at dksX10_aThing_6 9 rfl rfl)
theorem dX10_aThing_160 : decode cX10_aThing 160 = .ok (.ifCond .eq 21, 3) := dk_153 0 21 (dk_at dksX10_aThing_6 12 rfl rfl)
theorem dX10_aThing_163 : decode cX10_aThing 163 = .ok (.iconst 2, 1) := dk_5 (dk_at dksX10_aThing_6 15 rfl rfl)
theorem dX10_aThing_164 : decode cX10_aThing 164 = .ok (.istore 4, 2) := dk_54 4 (dk_at dksX10_aThing_6 16 rfl rfl)
theorem dX10_aThing_166 : decode cX10_aThing 166 = .ok (.goto 15, 3) := dk_167 0 15 (dk_at dksX10_aThing_6 18 rfl rfl)
theorem dX10_aThing_169 : decode cX10_aThing 169 = .ok (.aload_n 3, 1) := dk_45 (dk_at dksX10_aThing_6 21 rfl rfl)
theorem dX10_aThing_170 : decode cX10_aThing 170 = .ok (.ldc 171, 2) := dk_18 171 (dk_at dksX10_aThing_6 22 rfl rfl)
theorem dX10_aThing_172 : decode cX10_aThing 172 = .ok (.invokevirtual 104, 3) := dk_182 0 104 (dk_at dksX10_aThing_7 0 rfl rfl)
theorem dX10_aThing_175 : decode cX10_aThing 175 = .ok (.ifCond .eq 6, 3) := dk_153 0 6 (dk_at dksX10_aThing_7 3 rfl rfl)
theorem dX10_aThing_178 : decode cX10_aThing 178 = .ok (.iconst 3, 1) := dk_6 (dk_at dksX10_aThing_7 6 rfl rfl)
theorem dX10_aThing_179 : decode cX10_aThing 179 = .ok (.istore 4, 2) := dk_54 4 (dk_at dksX10_aThing_7 7 rfl rfl)
theorem dX10_aThing_181 : decode cX10_aThing 181 = .ok (.iload 4, 2) := dk_21 4 (dk_at dksX10_aThing_7 9 rfl rfl)
theorem dX10_aThing_183 : decode cX10_aThing 183 = .ok (.tableswitch 83 0 3 #[29, 40, 48, 56], 29) := by decide +kernel
theorem dX10_aThing_212 : decode cX10_aThing 212 = .ok (.aload_n 0, 1) := dk_42 (dk_at dksX10_aThing_9 0 rfl rfl)
theorem dX10_aThing_213 : decode cX10_aThing 213 = .ok (.aload_n 1, 1) := dk_43 (dk_at dksX10_aThing_9 1 rfl rfl)
theorem dX10_aThing_214 : decode cX10_aThing 214 = .ok (.getfield 127, 3) := dk_180 0 127 (dk_at dksX10_aThing_9 2 rfl rfl)
theorem dX10_aThing_217 : decode cX10_aThing 217 = .ok (.invokevirtual 194, 3) := dk_182 0 194 (dk_at dksX10_aThing_9 5 rfl rfl)
theorem dX10_aThing_220 : decode cX10_aThing 220 = .ok (.goto 51, 3) := dk_167 0 51 (dk_at dksX10_aThing_9 8 rfl rfl)
theorem dX10_aThing_223 : decode cX10_aThing 223 = .ok (.aload_n 0, 1) := dk_42 (dk_at dksX10_aThing_9 11 rfl rfl)
theorem dX10_aThing_224 : decode cX10_aThing 224 = .ok (.aload_n 1, 1) := dk_43 (dk_at dksX10_aThing_9 12 rfl rfl)
theorem dX10_aThing_225 : decode cX10_aThing 225 = .ok (.invokevirtual 198, 3) := dk_182 0 198 (dk_at dksX10_aThing_9 13 rfl rfl)
theorem dX10_aThing_228 : decode cX10_aThing 228 = .ok (.goto 43, 3) := dk_167 0 43 (dk_at dksX10_aThing_9 16 rfl rfl)
theorem dX10_aThing_231 : decode cX10_aThing 231 = .ok (.aload_n 0, 1) := dk_42 (dk_at dksX10_aThing_9 19 rfl rfl)
theorem dX10_aThing_232 : decode cX10_aThing 232 = .ok (.aload_n 1, 1) := dk_43 (dk_at dksX10_aThing_9 20 rfl rfl)
theorem dX10_aThing_233 : decode cX10_aThing 233 = .ok (.invokevirtual 202, 3) := dk_182 0 202 (dk_at dksX10_aThing_9 21 rfl rfl)
theorem dX10_aThing_236 : decode cX10_aThing 236 = .ok (.goto 35, 3) := dk_167 0 35 (dk_at dksX10_aThing_10 0 rfl rfl)
theorem dX10_aThing_239 : decode cX10_aThing 239 = .ok (.aload_n 1, 1) := dk_43 (dk_at dksX10_aThing_10 3 rfl rfl)
theorem dX10_aThing_240 : decode cX10_aThing 240 = .ok (.getfield 181, 3) := dk_180 0 181 (dk_at dksX10_aThing_10 4 rfl rfl)
theorem dX10_aThing_243 : decode cX10_aThing 243 = .ok (.new 205, 3) := dk_187 0 205 (dk_at dksX10_aThing_10 7 rfl rfl)
theorem dX10_aThing_246 : decode cX10_aThing 246 = .ok (.dup, 1) := dk_89 (dk_at dksX10_aThing_10 10 rfl rfl)
theorem dX10_aThing_247 : decode cX10_aThing 247 = .ok (.aload_n 0, 1) := dk_42 (dk_at dksX10_aThing_10 11 rfl rfl)
theorem dX10_aThing_248 : decode cX10_aThing 248 = .ok (.aload_n 1, 1) := dk_43 (dk_at dksX10_aThing_10 12 rfl rfl)
theorem dX10_aThing_249 : decode cX10_aThing 249 = .ok (.getfield 127, 3) := dk_180 0 127 (dk_at dksX10_aThing_10 13 rfl rfl)
theorem dX10_aThing_252 : decode cX10_aThing 252 = .ok (.iconst (-1), 1) := dk_2 (dk_at dksX10_aThing_10 16 rfl rfl)
theorem dX10_aThing_253 : decode cX10_aThing 253 = .ok (.invokevirtual 151, 3) := dk_182 0 151 (dk_at dksX10_aThing_10 17 rfl rfl)
theorem dX10_aThing_256 : decode cX10_aThing 256 = .ok (.invokespecial 207, 3) := dk_183 0 207 (dk_at dksX10_aThing_10 20 rfl rfl)
theorem dX10_aThing_259 : decode cX10_aThing 259 = .ok (.invokevirtual 146, 3) := dk_182 0 146 (dk_at dksX10_aThing_11 0 rfl rfl)
theorem dX10_aThing_262 : decode cX10_aThing 262 = .ok (.pop, 1) := dk_87 (dk_at dksX10_aThing_11 3 rfl rfl)
theorem dX10_aThing_263 : decode cX10_aThing 263 = .ok (.goto 8, 3) := dk_167 0 8 (dk_at dksX10_aThing_11 4 rfl rfl)
theorem dX10_aThing_266 : decode cX10_aThing 266 = .ok (.aload_n 0, 1) := dk_42 (dk_at dksX10_aThing_11 7 rfl rfl)
theorem dX10_aThing_267 : decode cX10_aThing 267 = .ok (.aload_n 1, 1) := dk_43 (dk_at dksX10_aThing_11 8 rfl rfl)
theorem dX10_aThing_268 : decode cX10_aThing 268 = .ok (.invokevirtual 210, 3) := dk_182 0 210 (dk_at dksX10_aThing_11 9 rfl rfl)
theorem dX10_aThing_271 : decode cX10_aThing 271 = .ok (.aload_n 0, 1) := dk_42 (dk_at dksX10_aThing_11 12 rfl rfl)
theorem dX10_aThing_272 : decode cX10_aThing 272 = .ok (.invokevirtual 213, 3) := dk_182 0 213 (dk_at dksX10_aThing_11 13 rfl rfl)
theorem dX10_aThing_275 : decode cX10_aThing 275 = .ok (.return_, 1) := dk_177 (dk_at dksX10_aThing_11 16 rfl rfl)
abbrev cX10_isRoom : ByteArray := prog_8_method_16_code
def yX10_isRoom : MethodName := ⟨RX10, "isRoom", "(LMistCouriers$State;)Z"⟩
def dkwX10_isRoom_9 : List UInt8 := [167, 0, 8, 3, 167, 0, 4, 4, 172]
abbrev dktX10_isRoom_9 : List UInt8 := dkwX10_isRoom_9 ++ []
def dkwX10_isRoom_8 : List UInt8 := [162, 0, 7, 4, 167, 0, 28, 3, 167, 0, 24, 43, 180, 0, 158, 182, 0, 175, 16, 10, 162, 0, 7, 4]
abbrev dktX10_isRoom_8 : List UInt8 := dkwX10_isRoom_8 ++ dktX10_isRoom_9
def dkwX10_isRoom_7 : List UInt8 := [182, 0, 175, 7, 162, 0, 7, 4, 167, 0, 47, 3, 167, 0, 43, 43, 180, 0, 181, 182, 0, 175, 7]
abbrev dktX10_isRoom_7 : List UInt8 := dkwX10_isRoom_7 ++ dktX10_isRoom_8
def dkwX10_isRoom_6 : List UInt8 := [43, 180, 0, 137, 182, 0, 175, 8, 162, 0, 7, 4, 167, 0, 66, 3, 167, 0, 62, 43, 180, 0, 178]
abbrev dktX10_isRoom_6 : List UInt8 := dkwX10_isRoom_6 ++ dktX10_isRoom_7
def dkwX10_isRoom_5 : List UInt8 := [170, 0, 0, 0, 0, 107, 0, 0, 0, 0, 0, 0, 0, 3, 0, 0, 0, 30, 0, 0, 0, 49, 0, 0, 0, 68, 0, 0, 0, 87]
abbrev dktX10_isRoom_5 : List UInt8 := dkwX10_isRoom_5 ++ dktX10_isRoom_6
def dkwX10_isRoom_4 : List UInt8 := [153, 0, 5, 6, 62, 29]
abbrev dktX10_isRoom_4 : List UInt8 := dkwX10_isRoom_4 ++ dktX10_isRoom_5
def dkwX10_isRoom_3 : List UInt8 := [62, 167, 0, 28, 44, 18, 171, 182, 0, 104, 153, 0, 19, 5, 62, 167, 0, 14, 44, 18, 173, 182, 0, 104]
abbrev dktX10_isRoom_3 : List UInt8 := dkwX10_isRoom_3 ++ dktX10_isRoom_4
def dkwX10_isRoom_2 : List UInt8 := [44, 18, 167, 182, 0, 104, 153, 0, 47, 3, 62, 167, 0, 42, 44, 18, 169, 182, 0, 104, 153, 0, 33, 4]
abbrev dktX10_isRoom_2 : List UInt8 := dkwX10_isRoom_2 ++ dktX10_isRoom_3
def dkwX10_isRoom_1 : List UInt8 := [171, 0, 0, 0, 94, 0, 0, 0, 4, 190, 17, 36, 38, 0, 0, 0, 83, 0, 46, 6, 60, 0, 0, 0, 41, 57, 24, 254, 45, 0, 0, 0, 69, 67, 28, 217, 188, 0, 0, 0, 55]
abbrev dktX10_isRoom_1 : List UInt8 := dkwX10_isRoom_1 ++ dktX10_isRoom_2
def dkwX10_isRoom_0 : List UInt8 := [42, 180, 0, 17, 77, 2, 62, 44, 182, 0, 164]
abbrev dktX10_isRoom_0 : List UInt8 := dkwX10_isRoom_0 ++ dktX10_isRoom_1
theorem dksX10_isRoom_0 : cX10_isRoom.data.toList.drop 0 = dktX10_isRoom_0 := by decide +kernel
theorem dksX10_isRoom_1 : cX10_isRoom.data.toList.drop 11 = dktX10_isRoom_1 := dk_seg dksX10_isRoom_0 11 rfl rfl
theorem dksX10_isRoom_2 : cX10_isRoom.data.toList.drop 52 = dktX10_isRoom_2 := dk_seg dksX10_isRoom_1 41 rfl rfl
theorem dksX10_isRoom_3 : cX10_isRoom.data.toList.drop 76 = dktX10_isRoom_3 := dk_seg dksX10_isRoom_2 24 rfl rfl
theorem dksX10_isRoom_4 : cX10_isRoom.data.toList.drop 100 = dktX10_isRoom_4 := dk_seg dksX10_isRoom_3 24 rfl rfl
theorem dksX10_isRoom_5 : cX10_isRoom.data.toList.drop 106 = dktX10_isRoom_5 := dk_seg dksX10_isRoom_4 6 rfl rfl
theorem dksX10_isRoom_6 : cX10_isRoom.data.toList.drop 136 = dktX10_isRoom_6 := dk_seg dksX10_isRoom_5 30 rfl rfl
theorem dksX10_isRoom_7 : cX10_isRoom.data.toList.drop 159 = dktX10_isRoom_7 := dk_seg dksX10_isRoom_6 23 rfl rfl
theorem dksX10_isRoom_8 : cX10_isRoom.data.toList.drop 182 = dktX10_isRoom_8 := dk_seg dksX10_isRoom_7 23 rfl rfl
theorem dksX10_isRoom_9 : cX10_isRoom.data.toList.drop 206 = dktX10_isRoom_9 := dk_seg dksX10_isRoom_8 24 rfl rfl
theorem dX10_isRoom_0 : decode cX10_isRoom 0 = .ok (.aload_n 0, 1) := dk_42 (dk_at dksX10_isRoom_0 0 rfl rfl)
theorem dX10_isRoom_1 : decode cX10_isRoom 1 = .ok (.getfield 17, 3) := dk_180 0 17 (dk_at dksX10_isRoom_0 1 rfl rfl)
theorem dX10_isRoom_4 : decode cX10_isRoom 4 = .ok (.astore_n 2, 1) := dk_77 (dk_at dksX10_isRoom_0 4 rfl rfl)
theorem dX10_isRoom_5 : decode cX10_isRoom 5 = .ok (.iconst (-1), 1) := dk_2 (dk_at dksX10_isRoom_0 5 rfl rfl)
theorem dX10_isRoom_6 : decode cX10_isRoom 6 = .ok (.istore_n 3, 1) := dk_62 (dk_at dksX10_isRoom_0 6 rfl rfl)
theorem dX10_isRoom_7 : decode cX10_isRoom 7 = .ok (.aload_n 2, 1) := dk_44 (dk_at dksX10_isRoom_0 7 rfl rfl)
theorem dX10_isRoom_8 : decode cX10_isRoom 8 = .ok (.invokevirtual 164, 3) := dk_182 0 164 (dk_at dksX10_isRoom_0 8 rfl rfl)
theorem dX10_isRoom_11 : decode cX10_isRoom 11 = .ok (.lookupswitch 94 #[(-1106172890, 83), (3016252, 41), (957939245, 69), (1125964220, 55)], 41) := by decide +kernel
theorem dX10_isRoom_52 : decode cX10_isRoom 52 = .ok (.aload_n 2, 1) := dk_44 (dk_at dksX10_isRoom_2 0 rfl rfl)
theorem dX10_isRoom_53 : decode cX10_isRoom 53 = .ok (.ldc 167, 2) := dk_18 167 (dk_at dksX10_isRoom_2 1 rfl rfl)
theorem dX10_isRoom_55 : decode cX10_isRoom 55 = .ok (.invokevirtual 104, 3) := dk_182 0 104 (dk_at dksX10_isRoom_2 3 rfl rfl)
theorem dX10_isRoom_58 : decode cX10_isRoom 58 = .ok (.ifCond .eq 47, 3) := dk_153 0 47 (dk_at dksX10_isRoom_2 6 rfl rfl)
theorem dX10_isRoom_61 : decode cX10_isRoom 61 = .ok (.iconst 0, 1) := dk_3 (dk_at dksX10_isRoom_2 9 rfl rfl)
theorem dX10_isRoom_62 : decode cX10_isRoom 62 = .ok (.istore_n 3, 1) := dk_62 (dk_at dksX10_isRoom_2 10 rfl rfl)
theorem dX10_isRoom_63 : decode cX10_isRoom 63 = .ok (.goto 42, 3) := dk_167 0 42 (dk_at dksX10_isRoom_2 11 rfl rfl)
theorem dX10_isRoom_66 : decode cX10_isRoom 66 = .ok (.aload_n 2, 1) := dk_44 (dk_at dksX10_isRoom_2 14 rfl rfl)
theorem dX10_isRoom_67 : decode cX10_isRoom 67 = .ok (.ldc 169, 2) := dk_18 169 (dk_at dksX10_isRoom_2 15 rfl rfl)
theorem dX10_isRoom_69 : decode cX10_isRoom 69 = .ok (.invokevirtual 104, 3) := dk_182 0 104 (dk_at dksX10_isRoom_2 17 rfl rfl)
theorem dX10_isRoom_72 : decode cX10_isRoom 72 = .ok (.ifCond .eq 33, 3) := dk_153 0 33 (dk_at dksX10_isRoom_2 20 rfl rfl)
theorem dX10_isRoom_75 : decode cX10_isRoom 75 = .ok (.iconst 1, 1) := dk_4 (dk_at dksX10_isRoom_2 23 rfl rfl)
theorem dX10_isRoom_76 : decode cX10_isRoom 76 = .ok (.istore_n 3, 1) := dk_62 (dk_at dksX10_isRoom_3 0 rfl rfl)
theorem dX10_isRoom_77 : decode cX10_isRoom 77 = .ok (.goto 28, 3) := dk_167 0 28 (dk_at dksX10_isRoom_3 1 rfl rfl)
theorem dX10_isRoom_80 : decode cX10_isRoom 80 = .ok (.aload_n 2, 1) := dk_44 (dk_at dksX10_isRoom_3 4 rfl rfl)
theorem dX10_isRoom_81 : decode cX10_isRoom 81 = .ok (.ldc 171, 2) := dk_18 171 (dk_at dksX10_isRoom_3 5 rfl rfl)
theorem dX10_isRoom_83 : decode cX10_isRoom 83 = .ok (.invokevirtual 104, 3) := dk_182 0 104 (dk_at dksX10_isRoom_3 7 rfl rfl)
theorem dX10_isRoom_86 : decode cX10_isRoom 86 = .ok (.ifCond .eq 19, 3) := dk_153 0 19 (dk_at dksX10_isRoom_3 10 rfl rfl)
theorem dX10_isRoom_89 : decode cX10_isRoom 89 = .ok (.iconst 2, 1) := dk_5 (dk_at dksX10_isRoom_3 13 rfl rfl)
theorem dX10_isRoom_90 : decode cX10_isRoom 90 = .ok (.istore_n 3, 1) := dk_62 (dk_at dksX10_isRoom_3 14 rfl rfl)
theorem dX10_isRoom_91 : decode cX10_isRoom 91 = .ok (.goto 14, 3) := dk_167 0 14 (dk_at dksX10_isRoom_3 15 rfl rfl)
theorem dX10_isRoom_94 : decode cX10_isRoom 94 = .ok (.aload_n 2, 1) := dk_44 (dk_at dksX10_isRoom_3 18 rfl rfl)
theorem dX10_isRoom_95 : decode cX10_isRoom 95 = .ok (.ldc 173, 2) := dk_18 173 (dk_at dksX10_isRoom_3 19 rfl rfl)
theorem dX10_isRoom_97 : decode cX10_isRoom 97 = .ok (.invokevirtual 104, 3) := dk_182 0 104 (dk_at dksX10_isRoom_3 21 rfl rfl)
theorem dX10_isRoom_100 : decode cX10_isRoom 100 = .ok (.ifCond .eq 5, 3) := dk_153 0 5 (dk_at dksX10_isRoom_4 0 rfl rfl)
theorem dX10_isRoom_103 : decode cX10_isRoom 103 = .ok (.iconst 3, 1) := dk_6 (dk_at dksX10_isRoom_4 3 rfl rfl)
theorem dX10_isRoom_104 : decode cX10_isRoom 104 = .ok (.istore_n 3, 1) := dk_62 (dk_at dksX10_isRoom_4 4 rfl rfl)
theorem dX10_isRoom_105 : decode cX10_isRoom 105 = .ok (.iload_n 3, 1) := dk_29 (dk_at dksX10_isRoom_4 5 rfl rfl)
theorem dX10_isRoom_106 : decode cX10_isRoom 106 = .ok (.tableswitch 107 0 3 #[30, 49, 68, 87], 30) := by decide +kernel
theorem dX10_isRoom_136 : decode cX10_isRoom 136 = .ok (.aload_n 1, 1) := dk_43 (dk_at dksX10_isRoom_6 0 rfl rfl)
theorem dX10_isRoom_137 : decode cX10_isRoom 137 = .ok (.getfield 137, 3) := dk_180 0 137 (dk_at dksX10_isRoom_6 1 rfl rfl)
theorem dX10_isRoom_140 : decode cX10_isRoom 140 = .ok (.invokevirtual 175, 3) := dk_182 0 175 (dk_at dksX10_isRoom_6 4 rfl rfl)
theorem dX10_isRoom_143 : decode cX10_isRoom 143 = .ok (.iconst 5, 1) := dk_8 (dk_at dksX10_isRoom_6 7 rfl rfl)
theorem dX10_isRoom_144 : decode cX10_isRoom 144 = .ok (.if_icmp .ge 7, 3) := dk_162 0 7 (dk_at dksX10_isRoom_6 8 rfl rfl)
theorem dX10_isRoom_147 : decode cX10_isRoom 147 = .ok (.iconst 1, 1) := dk_4 (dk_at dksX10_isRoom_6 11 rfl rfl)
theorem dX10_isRoom_148 : decode cX10_isRoom 148 = .ok (.goto 66, 3) := dk_167 0 66 (dk_at dksX10_isRoom_6 12 rfl rfl)
theorem dX10_isRoom_151 : decode cX10_isRoom 151 = .ok (.iconst 0, 1) := dk_3 (dk_at dksX10_isRoom_6 15 rfl rfl)
theorem dX10_isRoom_152 : decode cX10_isRoom 152 = .ok (.goto 62, 3) := dk_167 0 62 (dk_at dksX10_isRoom_6 16 rfl rfl)
theorem dX10_isRoom_155 : decode cX10_isRoom 155 = .ok (.aload_n 1, 1) := dk_43 (dk_at dksX10_isRoom_6 19 rfl rfl)
theorem dX10_isRoom_156 : decode cX10_isRoom 156 = .ok (.getfield 178, 3) := dk_180 0 178 (dk_at dksX10_isRoom_6 20 rfl rfl)
theorem dX10_isRoom_159 : decode cX10_isRoom 159 = .ok (.invokevirtual 175, 3) := dk_182 0 175 (dk_at dksX10_isRoom_7 0 rfl rfl)
theorem dX10_isRoom_162 : decode cX10_isRoom 162 = .ok (.iconst 4, 1) := dk_7 (dk_at dksX10_isRoom_7 3 rfl rfl)
theorem dX10_isRoom_163 : decode cX10_isRoom 163 = .ok (.if_icmp .ge 7, 3) := dk_162 0 7 (dk_at dksX10_isRoom_7 4 rfl rfl)
theorem dX10_isRoom_166 : decode cX10_isRoom 166 = .ok (.iconst 1, 1) := dk_4 (dk_at dksX10_isRoom_7 7 rfl rfl)
theorem dX10_isRoom_167 : decode cX10_isRoom 167 = .ok (.goto 47, 3) := dk_167 0 47 (dk_at dksX10_isRoom_7 8 rfl rfl)
theorem dX10_isRoom_170 : decode cX10_isRoom 170 = .ok (.iconst 0, 1) := dk_3 (dk_at dksX10_isRoom_7 11 rfl rfl)
theorem dX10_isRoom_171 : decode cX10_isRoom 171 = .ok (.goto 43, 3) := dk_167 0 43 (dk_at dksX10_isRoom_7 12 rfl rfl)
theorem dX10_isRoom_174 : decode cX10_isRoom 174 = .ok (.aload_n 1, 1) := dk_43 (dk_at dksX10_isRoom_7 15 rfl rfl)
theorem dX10_isRoom_175 : decode cX10_isRoom 175 = .ok (.getfield 181, 3) := dk_180 0 181 (dk_at dksX10_isRoom_7 16 rfl rfl)
theorem dX10_isRoom_178 : decode cX10_isRoom 178 = .ok (.invokevirtual 175, 3) := dk_182 0 175 (dk_at dksX10_isRoom_7 19 rfl rfl)
theorem dX10_isRoom_181 : decode cX10_isRoom 181 = .ok (.iconst 4, 1) := dk_7 (dk_at dksX10_isRoom_7 22 rfl rfl)
theorem dX10_isRoom_182 : decode cX10_isRoom 182 = .ok (.if_icmp .ge 7, 3) := dk_162 0 7 (dk_at dksX10_isRoom_8 0 rfl rfl)
theorem dX10_isRoom_185 : decode cX10_isRoom 185 = .ok (.iconst 1, 1) := dk_4 (dk_at dksX10_isRoom_8 3 rfl rfl)
theorem dX10_isRoom_186 : decode cX10_isRoom 186 = .ok (.goto 28, 3) := dk_167 0 28 (dk_at dksX10_isRoom_8 4 rfl rfl)
theorem dX10_isRoom_189 : decode cX10_isRoom 189 = .ok (.iconst 0, 1) := dk_3 (dk_at dksX10_isRoom_8 7 rfl rfl)
theorem dX10_isRoom_190 : decode cX10_isRoom 190 = .ok (.goto 24, 3) := dk_167 0 24 (dk_at dksX10_isRoom_8 8 rfl rfl)
theorem dX10_isRoom_193 : decode cX10_isRoom 193 = .ok (.aload_n 1, 1) := dk_43 (dk_at dksX10_isRoom_8 11 rfl rfl)
theorem dX10_isRoom_194 : decode cX10_isRoom 194 = .ok (.getfield 158, 3) := dk_180 0 158 (dk_at dksX10_isRoom_8 12 rfl rfl)
theorem dX10_isRoom_197 : decode cX10_isRoom 197 = .ok (.invokevirtual 175, 3) := dk_182 0 175 (dk_at dksX10_isRoom_8 15 rfl rfl)
theorem dX10_isRoom_200 : decode cX10_isRoom 200 = .ok (.bipush 10, 2) := dk_16 10 (dk_at dksX10_isRoom_8 18 rfl rfl)
theorem dX10_isRoom_202 : decode cX10_isRoom 202 = .ok (.if_icmp .ge 7, 3) := dk_162 0 7 (dk_at dksX10_isRoom_8 20 rfl rfl)
theorem dX10_isRoom_205 : decode cX10_isRoom 205 = .ok (.iconst 1, 1) := dk_4 (dk_at dksX10_isRoom_8 23 rfl rfl)
theorem dX10_isRoom_206 : decode cX10_isRoom 206 = .ok (.goto 8, 3) := dk_167 0 8 (dk_at dksX10_isRoom_9 0 rfl rfl)
theorem dX10_isRoom_209 : decode cX10_isRoom 209 = .ok (.iconst 0, 1) := dk_3 (dk_at dksX10_isRoom_9 3 rfl rfl)
theorem dX10_isRoom_210 : decode cX10_isRoom 210 = .ok (.goto 4, 3) := dk_167 0 4 (dk_at dksX10_isRoom_9 4 rfl rfl)
theorem dX10_isRoom_213 : decode cX10_isRoom 213 = .ok (.iconst 1, 1) := dk_4 (dk_at dksX10_isRoom_9 7 rfl rfl)
theorem dX10_isRoom_214 : decode cX10_isRoom 214 = .ok (.ireturn, 1) := dk_172 (dk_at dksX10_isRoom_9 8 rfl rfl)
abbrev cX10_aWall : ByteArray := prog_8_method_12_code
def yX10_aWall : MethodName := ⟨RX10, "aWall", "(LMistCouriers$Square;)V"⟩
def dkwX10_aWall_3 : List UInt8 := [6, 182, 0, 110, 43, 180, 0, 124, 42, 180, 0, 80, 4, 84, 42, 182, 0, 114, 177]
abbrev dktX10_aWall_3 : List UInt8 := dkwX10_aWall_3 ++ []
def dkwX10_aWall_2 : List UInt8 := [180, 0, 80, 51, 154, 0, 19, 42, 180, 0, 21, 42, 180, 0, 80, 51, 154, 0, 7, 4, 167, 0, 4, 3]
abbrev dktX10_aWall_2 : List UInt8 := dkwX10_aWall_2 ++ dktX10_aWall_3
def dkwX10_aWall_1 : List UInt8 := [180, 0, 80, 3, 43, 182, 0, 117, 4, 100, 184, 0, 40, 5, 182, 0, 110, 42, 43, 180, 0, 124, 42]
abbrev dktX10_aWall_1 : List UInt8 := dkwX10_aWall_1 ++ dktX10_aWall_2
def dkwX10_aWall_0 : List UInt8 := [42, 42, 180, 0, 53, 178, 0, 90, 166, 0, 7, 4, 167, 0, 4, 3, 4, 182, 0, 110, 42, 42]
abbrev dktX10_aWall_0 : List UInt8 := dkwX10_aWall_0 ++ dktX10_aWall_1
theorem dksX10_aWall_0 : cX10_aWall.data.toList.drop 0 = dktX10_aWall_0 := by decide +kernel
theorem dksX10_aWall_1 : cX10_aWall.data.toList.drop 22 = dktX10_aWall_1 := dk_seg dksX10_aWall_0 22 rfl rfl
theorem dksX10_aWall_2 : cX10_aWall.data.toList.drop 45 = dktX10_aWall_2 := dk_seg dksX10_aWall_1 23 rfl rfl
theorem dksX10_aWall_3 : cX10_aWall.data.toList.drop 69 = dktX10_aWall_3 := dk_seg dksX10_aWall_2 24 rfl rfl
theorem dX10_aWall_0 : decode cX10_aWall 0 = .ok (.aload_n 0, 1) := dk_42 (dk_at dksX10_aWall_0 0 rfl rfl)
theorem dX10_aWall_1 : decode cX10_aWall 1 = .ok (.aload_n 0, 1) := dk_42 (dk_at dksX10_aWall_0 1 rfl rfl)
theorem dX10_aWall_2 : decode cX10_aWall 2 = .ok (.getfield 53, 3) := dk_180 0 53 (dk_at dksX10_aWall_0 2 rfl rfl)
theorem dX10_aWall_5 : decode cX10_aWall 5 = .ok (.getstatic 90, 3) := dk_178 0 90 (dk_at dksX10_aWall_0 5 rfl rfl)
theorem dX10_aWall_8 : decode cX10_aWall 8 = .ok (.if_acmp .ne 7, 3) := dk_166 0 7 (dk_at dksX10_aWall_0 8 rfl rfl)
theorem dX10_aWall_11 : decode cX10_aWall 11 = .ok (.iconst 1, 1) := dk_4 (dk_at dksX10_aWall_0 11 rfl rfl)
theorem dX10_aWall_12 : decode cX10_aWall 12 = .ok (.goto 4, 3) := dk_167 0 4 (dk_at dksX10_aWall_0 12 rfl rfl)
theorem dX10_aWall_15 : decode cX10_aWall 15 = .ok (.iconst 0, 1) := dk_3 (dk_at dksX10_aWall_0 15 rfl rfl)
theorem dX10_aWall_16 : decode cX10_aWall 16 = .ok (.iconst 1, 1) := dk_4 (dk_at dksX10_aWall_0 16 rfl rfl)
theorem dX10_aWall_17 : decode cX10_aWall 17 = .ok (.invokevirtual 110, 3) := dk_182 0 110 (dk_at dksX10_aWall_0 17 rfl rfl)
theorem dX10_aWall_20 : decode cX10_aWall 20 = .ok (.aload_n 0, 1) := dk_42 (dk_at dksX10_aWall_0 20 rfl rfl)
theorem dX10_aWall_21 : decode cX10_aWall 21 = .ok (.aload_n 0, 1) := dk_42 (dk_at dksX10_aWall_0 21 rfl rfl)
theorem dX10_aWall_22 : decode cX10_aWall 22 = .ok (.getfield 80, 3) := dk_180 0 80 (dk_at dksX10_aWall_1 0 rfl rfl)
theorem dX10_aWall_25 : decode cX10_aWall 25 = .ok (.iconst 0, 1) := dk_3 (dk_at dksX10_aWall_1 3 rfl rfl)
theorem dX10_aWall_26 : decode cX10_aWall 26 = .ok (.aload_n 1, 1) := dk_43 (dk_at dksX10_aWall_1 4 rfl rfl)
theorem dX10_aWall_27 : decode cX10_aWall 27 = .ok (.invokevirtual 117, 3) := dk_182 0 117 (dk_at dksX10_aWall_1 5 rfl rfl)
theorem dX10_aWall_30 : decode cX10_aWall 30 = .ok (.iconst 1, 1) := dk_4 (dk_at dksX10_aWall_1 8 rfl rfl)
theorem dX10_aWall_31 : decode cX10_aWall 31 = .ok (.isub, 1) := dk_100 (dk_at dksX10_aWall_1 9 rfl rfl)
theorem dX10_aWall_32 : decode cX10_aWall 32 = .ok (.invokestatic 40, 3) := dk_184 0 40 (dk_at dksX10_aWall_1 10 rfl rfl)
theorem dX10_aWall_35 : decode cX10_aWall 35 = .ok (.iconst 2, 1) := dk_5 (dk_at dksX10_aWall_1 13 rfl rfl)
theorem dX10_aWall_36 : decode cX10_aWall 36 = .ok (.invokevirtual 110, 3) := dk_182 0 110 (dk_at dksX10_aWall_1 14 rfl rfl)
theorem dX10_aWall_39 : decode cX10_aWall 39 = .ok (.aload_n 0, 1) := dk_42 (dk_at dksX10_aWall_1 17 rfl rfl)
theorem dX10_aWall_40 : decode cX10_aWall 40 = .ok (.aload_n 1, 1) := dk_43 (dk_at dksX10_aWall_1 18 rfl rfl)
theorem dX10_aWall_41 : decode cX10_aWall 41 = .ok (.getfield 124, 3) := dk_180 0 124 (dk_at dksX10_aWall_1 19 rfl rfl)
theorem dX10_aWall_44 : decode cX10_aWall 44 = .ok (.aload_n 0, 1) := dk_42 (dk_at dksX10_aWall_1 22 rfl rfl)
theorem dX10_aWall_45 : decode cX10_aWall 45 = .ok (.getfield 80, 3) := dk_180 0 80 (dk_at dksX10_aWall_2 0 rfl rfl)
theorem dX10_aWall_48 : decode cX10_aWall 48 = .ok (.baload, 1) := dk_51 (dk_at dksX10_aWall_2 3 rfl rfl)
theorem dX10_aWall_49 : decode cX10_aWall 49 = .ok (.ifCond .ne 19, 3) := dk_154 0 19 (dk_at dksX10_aWall_2 4 rfl rfl)
theorem dX10_aWall_52 : decode cX10_aWall 52 = .ok (.aload_n 0, 1) := dk_42 (dk_at dksX10_aWall_2 7 rfl rfl)
theorem dX10_aWall_53 : decode cX10_aWall 53 = .ok (.getfield 21, 3) := dk_180 0 21 (dk_at dksX10_aWall_2 8 rfl rfl)
theorem dX10_aWall_56 : decode cX10_aWall 56 = .ok (.aload_n 0, 1) := dk_42 (dk_at dksX10_aWall_2 11 rfl rfl)
theorem dX10_aWall_57 : decode cX10_aWall 57 = .ok (.getfield 80, 3) := dk_180 0 80 (dk_at dksX10_aWall_2 12 rfl rfl)
theorem dX10_aWall_60 : decode cX10_aWall 60 = .ok (.baload, 1) := dk_51 (dk_at dksX10_aWall_2 15 rfl rfl)
theorem dX10_aWall_61 : decode cX10_aWall 61 = .ok (.ifCond .ne 7, 3) := dk_154 0 7 (dk_at dksX10_aWall_2 16 rfl rfl)
theorem dX10_aWall_64 : decode cX10_aWall 64 = .ok (.iconst 1, 1) := dk_4 (dk_at dksX10_aWall_2 19 rfl rfl)
theorem dX10_aWall_65 : decode cX10_aWall 65 = .ok (.goto 4, 3) := dk_167 0 4 (dk_at dksX10_aWall_2 20 rfl rfl)
theorem dX10_aWall_68 : decode cX10_aWall 68 = .ok (.iconst 0, 1) := dk_3 (dk_at dksX10_aWall_2 23 rfl rfl)
theorem dX10_aWall_69 : decode cX10_aWall 69 = .ok (.iconst 3, 1) := dk_6 (dk_at dksX10_aWall_3 0 rfl rfl)
theorem dX10_aWall_70 : decode cX10_aWall 70 = .ok (.invokevirtual 110, 3) := dk_182 0 110 (dk_at dksX10_aWall_3 1 rfl rfl)
theorem dX10_aWall_73 : decode cX10_aWall 73 = .ok (.aload_n 1, 1) := dk_43 (dk_at dksX10_aWall_3 4 rfl rfl)
theorem dX10_aWall_74 : decode cX10_aWall 74 = .ok (.getfield 124, 3) := dk_180 0 124 (dk_at dksX10_aWall_3 5 rfl rfl)
theorem dX10_aWall_77 : decode cX10_aWall 77 = .ok (.aload_n 0, 1) := dk_42 (dk_at dksX10_aWall_3 8 rfl rfl)
theorem dX10_aWall_78 : decode cX10_aWall 78 = .ok (.getfield 80, 3) := dk_180 0 80 (dk_at dksX10_aWall_3 9 rfl rfl)
theorem dX10_aWall_81 : decode cX10_aWall 81 = .ok (.iconst 1, 1) := dk_4 (dk_at dksX10_aWall_3 12 rfl rfl)
theorem dX10_aWall_82 : decode cX10_aWall 82 = .ok (.bastore, 1) := dk_84 (dk_at dksX10_aWall_3 13 rfl rfl)
theorem dX10_aWall_83 : decode cX10_aWall 83 = .ok (.aload_n 0, 1) := dk_42 (dk_at dksX10_aWall_3 14 rfl rfl)
theorem dX10_aWall_84 : decode cX10_aWall 84 = .ok (.invokevirtual 114, 3) := dk_182 0 114 (dk_at dksX10_aWall_3 15 rfl rfl)
theorem dX10_aWall_87 : decode cX10_aWall 87 = .ok (.return_, 1) := dk_177 (dk_at dksX10_aWall_3 18 rfl rfl)
abbrev cX10_aBank : ByteArray := prog_8_method_13_code
def yX10_aBank : MethodName := ⟨RX10, "aBank", "(LMistCouriers$State;)V"⟩
def dkwX10_aBank_2 : List UInt8 := [182, 0, 146, 87, 177]
abbrev dktX10_aBank_2 : List UInt8 := dkwX10_aBank_2 ++ []
def dkwX10_aBank_1 : List UInt8 := [54, 4, 43, 180, 0, 137, 187, 0, 141, 89, 28, 29, 21, 4, 42, 3, 7, 182, 0, 122, 183, 0, 143]
abbrev dktX10_aBank_1 : List UInt8 := dkwX10_aBank_1 ++ dktX10_aBank_2
def dkwX10_aBank_0 : List UInt8 := [42, 43, 180, 0, 127, 182, 0, 133, 61, 42, 3, 7, 182, 0, 122, 62, 42, 4, 16, 9, 182, 0, 122]
abbrev dktX10_aBank_0 : List UInt8 := dkwX10_aBank_0 ++ dktX10_aBank_1
theorem dksX10_aBank_0 : cX10_aBank.data.toList.drop 0 = dktX10_aBank_0 := by decide +kernel
theorem dksX10_aBank_1 : cX10_aBank.data.toList.drop 23 = dktX10_aBank_1 := dk_seg dksX10_aBank_0 23 rfl rfl
theorem dksX10_aBank_2 : cX10_aBank.data.toList.drop 46 = dktX10_aBank_2 := dk_seg dksX10_aBank_1 23 rfl rfl
theorem dX10_aBank_0 : decode cX10_aBank 0 = .ok (.aload_n 0, 1) := dk_42 (dk_at dksX10_aBank_0 0 rfl rfl)
theorem dX10_aBank_1 : decode cX10_aBank 1 = .ok (.aload_n 1, 1) := dk_43 (dk_at dksX10_aBank_0 1 rfl rfl)
theorem dX10_aBank_2 : decode cX10_aBank 2 = .ok (.getfield 127, 3) := dk_180 0 127 (dk_at dksX10_aBank_0 2 rfl rfl)
theorem dX10_aBank_5 : decode cX10_aBank 5 = .ok (.invokevirtual 133, 3) := dk_182 0 133 (dk_at dksX10_aBank_0 5 rfl rfl)
theorem dX10_aBank_8 : decode cX10_aBank 8 = .ok (.istore_n 2, 1) := dk_61 (dk_at dksX10_aBank_0 8 rfl rfl)
theorem dX10_aBank_9 : decode cX10_aBank 9 = .ok (.aload_n 0, 1) := dk_42 (dk_at dksX10_aBank_0 9 rfl rfl)
theorem dX10_aBank_10 : decode cX10_aBank 10 = .ok (.iconst 0, 1) := dk_3 (dk_at dksX10_aBank_0 10 rfl rfl)
theorem dX10_aBank_11 : decode cX10_aBank 11 = .ok (.iconst 4, 1) := dk_7 (dk_at dksX10_aBank_0 11 rfl rfl)
theorem dX10_aBank_12 : decode cX10_aBank 12 = .ok (.invokevirtual 122, 3) := dk_182 0 122 (dk_at dksX10_aBank_0 12 rfl rfl)
theorem dX10_aBank_15 : decode cX10_aBank 15 = .ok (.istore_n 3, 1) := dk_62 (dk_at dksX10_aBank_0 15 rfl rfl)
theorem dX10_aBank_16 : decode cX10_aBank 16 = .ok (.aload_n 0, 1) := dk_42 (dk_at dksX10_aBank_0 16 rfl rfl)
theorem dX10_aBank_17 : decode cX10_aBank 17 = .ok (.iconst 1, 1) := dk_4 (dk_at dksX10_aBank_0 17 rfl rfl)
theorem dX10_aBank_18 : decode cX10_aBank 18 = .ok (.bipush 9, 2) := dk_16 9 (dk_at dksX10_aBank_0 18 rfl rfl)
theorem dX10_aBank_20 : decode cX10_aBank 20 = .ok (.invokevirtual 122, 3) := dk_182 0 122 (dk_at dksX10_aBank_0 20 rfl rfl)
theorem dX10_aBank_23 : decode cX10_aBank 23 = .ok (.istore 4, 2) := dk_54 4 (dk_at dksX10_aBank_1 0 rfl rfl)
theorem dX10_aBank_25 : decode cX10_aBank 25 = .ok (.aload_n 1, 1) := dk_43 (dk_at dksX10_aBank_1 2 rfl rfl)
theorem dX10_aBank_26 : decode cX10_aBank 26 = .ok (.getfield 137, 3) := dk_180 0 137 (dk_at dksX10_aBank_1 3 rfl rfl)
theorem dX10_aBank_29 : decode cX10_aBank 29 = .ok (.new 141, 3) := dk_187 0 141 (dk_at dksX10_aBank_1 6 rfl rfl)
theorem dX10_aBank_32 : decode cX10_aBank 32 = .ok (.dup, 1) := dk_89 (dk_at dksX10_aBank_1 9 rfl rfl)
theorem dX10_aBank_33 : decode cX10_aBank 33 = .ok (.iload_n 2, 1) := dk_28 (dk_at dksX10_aBank_1 10 rfl rfl)
theorem dX10_aBank_34 : decode cX10_aBank 34 = .ok (.iload_n 3, 1) := dk_29 (dk_at dksX10_aBank_1 11 rfl rfl)
theorem dX10_aBank_35 : decode cX10_aBank 35 = .ok (.iload 4, 2) := dk_21 4 (dk_at dksX10_aBank_1 12 rfl rfl)
theorem dX10_aBank_37 : decode cX10_aBank 37 = .ok (.aload_n 0, 1) := dk_42 (dk_at dksX10_aBank_1 14 rfl rfl)
theorem dX10_aBank_38 : decode cX10_aBank 38 = .ok (.iconst 0, 1) := dk_3 (dk_at dksX10_aBank_1 15 rfl rfl)
theorem dX10_aBank_39 : decode cX10_aBank 39 = .ok (.iconst 4, 1) := dk_7 (dk_at dksX10_aBank_1 16 rfl rfl)
theorem dX10_aBank_40 : decode cX10_aBank 40 = .ok (.invokevirtual 122, 3) := dk_182 0 122 (dk_at dksX10_aBank_1 17 rfl rfl)
theorem dX10_aBank_43 : decode cX10_aBank 43 = .ok (.invokespecial 143, 3) := dk_183 0 143 (dk_at dksX10_aBank_1 20 rfl rfl)
theorem dX10_aBank_46 : decode cX10_aBank 46 = .ok (.invokevirtual 146, 3) := dk_182 0 146 (dk_at dksX10_aBank_2 0 rfl rfl)
theorem dX10_aBank_49 : decode cX10_aBank 49 = .ok (.pop, 1) := dk_87 (dk_at dksX10_aBank_2 3 rfl rfl)
theorem dX10_aBank_50 : decode cX10_aBank 50 = .ok (.return_, 1) := dk_177 (dk_at dksX10_aBank_2 4 rfl rfl)
abbrev cX10_cell : ByteArray := prog_8_method_10_code
def yX10_cell : MethodName := ⟨RX10, "cell", "(LMistCouriers$Square;)I"⟩
def dkwX10_cell_0 : List UInt8 := [42, 3, 43, 182, 0, 117, 4, 100, 182, 0, 122, 172]
abbrev dktX10_cell_0 : List UInt8 := dkwX10_cell_0 ++ []
theorem dksX10_cell_0 : cX10_cell.data.toList.drop 0 = dktX10_cell_0 := by decide +kernel
theorem dX10_cell_0 : decode cX10_cell 0 = .ok (.aload_n 0, 1) := dk_42 (dk_at dksX10_cell_0 0 rfl rfl)
theorem dX10_cell_1 : decode cX10_cell 1 = .ok (.iconst 0, 1) := dk_3 (dk_at dksX10_cell_0 1 rfl rfl)
theorem dX10_cell_2 : decode cX10_cell 2 = .ok (.aload_n 1, 1) := dk_43 (dk_at dksX10_cell_0 2 rfl rfl)
theorem dX10_cell_3 : decode cX10_cell 3 = .ok (.invokevirtual 117, 3) := dk_182 0 117 (dk_at dksX10_cell_0 3 rfl rfl)
theorem dX10_cell_6 : decode cX10_cell 6 = .ok (.iconst 1, 1) := dk_4 (dk_at dksX10_cell_0 6 rfl rfl)
theorem dX10_cell_7 : decode cX10_cell 7 = .ok (.isub, 1) := dk_100 (dk_at dksX10_cell_0 7 rfl rfl)
theorem dX10_cell_8 : decode cX10_cell 8 = .ok (.invokevirtual 122, 3) := dk_182 0 122 (dk_at dksX10_cell_0 8 rfl rfl)
theorem dX10_cell_11 : decode cX10_cell 11 = .ok (.ireturn, 1) := dk_172 (dk_at dksX10_cell_0 11 rfl rfl)
abbrev cX10_aWatcher : ByteArray := prog_8_method_14_code
def yX10_aWatcher : MethodName := ⟨RX10, "aWatcher", "(LMistCouriers$State;)V"⟩
def dkwX10_aWatcher_3 : List UInt8 := [5, 182, 0, 110, 43, 28, 29, 21, 4, 42, 180, 0, 80, 182, 0, 155, 42, 182, 0, 114, 177]
abbrev dktX10_aWatcher_3 : List UInt8 := dkwX10_aWatcher_3 ++ []
def dkwX10_aWatcher_2 : List UInt8 := [180, 0, 80, 3, 6, 184, 0, 40, 153, 0, 15, 42, 180, 0, 80, 5, 159, 0, 7, 4, 167, 0, 4, 3]
abbrev dktX10_aWatcher_2 : List UInt8 := dkwX10_aWatcher_2 ++ dktX10_aWatcher_3
def dkwX10_aWatcher_1 : List UInt8 := [54, 4, 42, 42, 180, 0, 53, 178, 0, 90, 166, 0, 7, 4, 167, 0, 4, 3, 4, 182, 0, 110, 42, 42]
abbrev dktX10_aWatcher_1 : List UInt8 := dkwX10_aWatcher_1 ++ dktX10_aWatcher_2
def dkwX10_aWatcher_0 : List UInt8 := [42, 43, 180, 0, 127, 2, 182, 0, 151, 61, 42, 3, 6, 182, 0, 122, 62, 42, 4, 16, 9, 182, 0, 122]
abbrev dktX10_aWatcher_0 : List UInt8 := dkwX10_aWatcher_0 ++ dktX10_aWatcher_1
theorem dksX10_aWatcher_0 : cX10_aWatcher.data.toList.drop 0 = dktX10_aWatcher_0 := by decide +kernel
theorem dksX10_aWatcher_1 : cX10_aWatcher.data.toList.drop 24 = dktX10_aWatcher_1 := dk_seg dksX10_aWatcher_0 24 rfl rfl
theorem dksX10_aWatcher_2 : cX10_aWatcher.data.toList.drop 48 = dktX10_aWatcher_2 := dk_seg dksX10_aWatcher_1 24 rfl rfl
theorem dksX10_aWatcher_3 : cX10_aWatcher.data.toList.drop 72 = dktX10_aWatcher_3 := dk_seg dksX10_aWatcher_2 24 rfl rfl
theorem dX10_aWatcher_0 : decode cX10_aWatcher 0 = .ok (.aload_n 0, 1) := dk_42 (dk_at dksX10_aWatcher_0 0 rfl rfl)
theorem dX10_aWatcher_1 : decode cX10_aWatcher 1 = .ok (.aload_n 1, 1) := dk_43 (dk_at dksX10_aWatcher_0 1 rfl rfl)
theorem dX10_aWatcher_2 : decode cX10_aWatcher 2 = .ok (.getfield 127, 3) := dk_180 0 127 (dk_at dksX10_aWatcher_0 2 rfl rfl)
theorem dX10_aWatcher_5 : decode cX10_aWatcher 5 = .ok (.iconst (-1), 1) := dk_2 (dk_at dksX10_aWatcher_0 5 rfl rfl)
theorem dX10_aWatcher_6 : decode cX10_aWatcher 6 = .ok (.invokevirtual 151, 3) := dk_182 0 151 (dk_at dksX10_aWatcher_0 6 rfl rfl)
theorem dX10_aWatcher_9 : decode cX10_aWatcher 9 = .ok (.istore_n 2, 1) := dk_61 (dk_at dksX10_aWatcher_0 9 rfl rfl)
theorem dX10_aWatcher_10 : decode cX10_aWatcher 10 = .ok (.aload_n 0, 1) := dk_42 (dk_at dksX10_aWatcher_0 10 rfl rfl)
theorem dX10_aWatcher_11 : decode cX10_aWatcher 11 = .ok (.iconst 0, 1) := dk_3 (dk_at dksX10_aWatcher_0 11 rfl rfl)
theorem dX10_aWatcher_12 : decode cX10_aWatcher 12 = .ok (.iconst 3, 1) := dk_6 (dk_at dksX10_aWatcher_0 12 rfl rfl)
theorem dX10_aWatcher_13 : decode cX10_aWatcher 13 = .ok (.invokevirtual 122, 3) := dk_182 0 122 (dk_at dksX10_aWatcher_0 13 rfl rfl)
theorem dX10_aWatcher_16 : decode cX10_aWatcher 16 = .ok (.istore_n 3, 1) := dk_62 (dk_at dksX10_aWatcher_0 16 rfl rfl)
theorem dX10_aWatcher_17 : decode cX10_aWatcher 17 = .ok (.aload_n 0, 1) := dk_42 (dk_at dksX10_aWatcher_0 17 rfl rfl)
theorem dX10_aWatcher_18 : decode cX10_aWatcher 18 = .ok (.iconst 1, 1) := dk_4 (dk_at dksX10_aWatcher_0 18 rfl rfl)
theorem dX10_aWatcher_19 : decode cX10_aWatcher 19 = .ok (.bipush 9, 2) := dk_16 9 (dk_at dksX10_aWatcher_0 19 rfl rfl)
theorem dX10_aWatcher_21 : decode cX10_aWatcher 21 = .ok (.invokevirtual 122, 3) := dk_182 0 122 (dk_at dksX10_aWatcher_0 21 rfl rfl)
theorem dX10_aWatcher_24 : decode cX10_aWatcher 24 = .ok (.istore 4, 2) := dk_54 4 (dk_at dksX10_aWatcher_1 0 rfl rfl)
theorem dX10_aWatcher_26 : decode cX10_aWatcher 26 = .ok (.aload_n 0, 1) := dk_42 (dk_at dksX10_aWatcher_1 2 rfl rfl)
theorem dX10_aWatcher_27 : decode cX10_aWatcher 27 = .ok (.aload_n 0, 1) := dk_42 (dk_at dksX10_aWatcher_1 3 rfl rfl)
theorem dX10_aWatcher_28 : decode cX10_aWatcher 28 = .ok (.getfield 53, 3) := dk_180 0 53 (dk_at dksX10_aWatcher_1 4 rfl rfl)
theorem dX10_aWatcher_31 : decode cX10_aWatcher 31 = .ok (.getstatic 90, 3) := dk_178 0 90 (dk_at dksX10_aWatcher_1 7 rfl rfl)
theorem dX10_aWatcher_34 : decode cX10_aWatcher 34 = .ok (.if_acmp .ne 7, 3) := dk_166 0 7 (dk_at dksX10_aWatcher_1 10 rfl rfl)
theorem dX10_aWatcher_37 : decode cX10_aWatcher 37 = .ok (.iconst 1, 1) := dk_4 (dk_at dksX10_aWatcher_1 13 rfl rfl)
theorem dX10_aWatcher_38 : decode cX10_aWatcher 38 = .ok (.goto 4, 3) := dk_167 0 4 (dk_at dksX10_aWatcher_1 14 rfl rfl)
theorem dX10_aWatcher_41 : decode cX10_aWatcher 41 = .ok (.iconst 0, 1) := dk_3 (dk_at dksX10_aWatcher_1 17 rfl rfl)
theorem dX10_aWatcher_42 : decode cX10_aWatcher 42 = .ok (.iconst 1, 1) := dk_4 (dk_at dksX10_aWatcher_1 18 rfl rfl)
theorem dX10_aWatcher_43 : decode cX10_aWatcher 43 = .ok (.invokevirtual 110, 3) := dk_182 0 110 (dk_at dksX10_aWatcher_1 19 rfl rfl)
theorem dX10_aWatcher_46 : decode cX10_aWatcher 46 = .ok (.aload_n 0, 1) := dk_42 (dk_at dksX10_aWatcher_1 22 rfl rfl)
theorem dX10_aWatcher_47 : decode cX10_aWatcher 47 = .ok (.aload_n 0, 1) := dk_42 (dk_at dksX10_aWatcher_1 23 rfl rfl)
theorem dX10_aWatcher_48 : decode cX10_aWatcher 48 = .ok (.getfield 80, 3) := dk_180 0 80 (dk_at dksX10_aWatcher_2 0 rfl rfl)
theorem dX10_aWatcher_51 : decode cX10_aWatcher 51 = .ok (.iconst 0, 1) := dk_3 (dk_at dksX10_aWatcher_2 3 rfl rfl)
theorem dX10_aWatcher_52 : decode cX10_aWatcher 52 = .ok (.iconst 3, 1) := dk_6 (dk_at dksX10_aWatcher_2 4 rfl rfl)
theorem dX10_aWatcher_53 : decode cX10_aWatcher 53 = .ok (.invokestatic 40, 3) := dk_184 0 40 (dk_at dksX10_aWatcher_2 5 rfl rfl)
theorem dX10_aWatcher_56 : decode cX10_aWatcher 56 = .ok (.ifCond .eq 15, 3) := dk_153 0 15 (dk_at dksX10_aWatcher_2 8 rfl rfl)
theorem dX10_aWatcher_59 : decode cX10_aWatcher 59 = .ok (.aload_n 0, 1) := dk_42 (dk_at dksX10_aWatcher_2 11 rfl rfl)
theorem dX10_aWatcher_60 : decode cX10_aWatcher 60 = .ok (.getfield 80, 3) := dk_180 0 80 (dk_at dksX10_aWatcher_2 12 rfl rfl)
theorem dX10_aWatcher_63 : decode cX10_aWatcher 63 = .ok (.iconst 2, 1) := dk_5 (dk_at dksX10_aWatcher_2 15 rfl rfl)
theorem dX10_aWatcher_64 : decode cX10_aWatcher 64 = .ok (.if_icmp .eq 7, 3) := dk_159 0 7 (dk_at dksX10_aWatcher_2 16 rfl rfl)
theorem dX10_aWatcher_67 : decode cX10_aWatcher 67 = .ok (.iconst 1, 1) := dk_4 (dk_at dksX10_aWatcher_2 19 rfl rfl)
theorem dX10_aWatcher_68 : decode cX10_aWatcher 68 = .ok (.goto 4, 3) := dk_167 0 4 (dk_at dksX10_aWatcher_2 20 rfl rfl)
theorem dX10_aWatcher_71 : decode cX10_aWatcher 71 = .ok (.iconst 0, 1) := dk_3 (dk_at dksX10_aWatcher_2 23 rfl rfl)
theorem dX10_aWatcher_72 : decode cX10_aWatcher 72 = .ok (.iconst 2, 1) := dk_5 (dk_at dksX10_aWatcher_3 0 rfl rfl)
theorem dX10_aWatcher_73 : decode cX10_aWatcher 73 = .ok (.invokevirtual 110, 3) := dk_182 0 110 (dk_at dksX10_aWatcher_3 1 rfl rfl)
theorem dX10_aWatcher_76 : decode cX10_aWatcher 76 = .ok (.aload_n 1, 1) := dk_43 (dk_at dksX10_aWatcher_3 4 rfl rfl)
theorem dX10_aWatcher_77 : decode cX10_aWatcher 77 = .ok (.iload_n 2, 1) := dk_28 (dk_at dksX10_aWatcher_3 5 rfl rfl)
theorem dX10_aWatcher_78 : decode cX10_aWatcher 78 = .ok (.iload_n 3, 1) := dk_29 (dk_at dksX10_aWatcher_3 6 rfl rfl)
theorem dX10_aWatcher_79 : decode cX10_aWatcher 79 = .ok (.iload 4, 2) := dk_21 4 (dk_at dksX10_aWatcher_3 7 rfl rfl)
theorem dX10_aWatcher_81 : decode cX10_aWatcher 81 = .ok (.aload_n 0, 1) := dk_42 (dk_at dksX10_aWatcher_3 9 rfl rfl)
theorem dX10_aWatcher_82 : decode cX10_aWatcher 82 = .ok (.getfield 80, 3) := dk_180 0 80 (dk_at dksX10_aWatcher_3 10 rfl rfl)
theorem dX10_aWatcher_85 : decode cX10_aWatcher 85 = .ok (.invokevirtual 155, 3) := dk_182 0 155 (dk_at dksX10_aWatcher_3 13 rfl rfl)
theorem dX10_aWatcher_88 : decode cX10_aWatcher 88 = .ok (.aload_n 0, 1) := dk_42 (dk_at dksX10_aWatcher_3 16 rfl rfl)
theorem dX10_aWatcher_89 : decode cX10_aWatcher 89 = .ok (.invokevirtual 114, 3) := dk_182 0 114 (dk_at dksX10_aWatcher_3 17 rfl rfl)
theorem dX10_aWatcher_92 : decode cX10_aWatcher 92 = .ok (.return_, 1) := dk_177 (dk_at dksX10_aWatcher_3 20 rfl rfl)
abbrev cX10_openCell : ByteArray := prog_8_method_11_code
def yX10_openCell : MethodName := ⟨RX10, "openCell", "(LMistCouriers$Square;I)I"⟩
def dkwX10_openCell_3 : List UInt8 := [42, 180, 0, 80, 62, 42, 180, 0, 21, 29, 4, 84, 42, 182, 0, 114, 29, 172]
abbrev dktX10_openCell_3 : List UInt8 := dkwX10_openCell_3 ++ []
def dkwX10_openCell_2 : List UInt8 := [180, 0, 80, 51, 154, 0, 15, 42, 180, 0, 80, 28, 159, 0, 7, 4, 167, 0, 4, 3, 6, 182, 0, 110]
abbrev dktX10_openCell_2 : List UInt8 := dkwX10_openCell_2 ++ dktX10_openCell_3
def dkwX10_openCell_1 : List UInt8 := [180, 0, 80, 3, 43, 182, 0, 117, 4, 100, 184, 0, 40, 5, 182, 0, 110, 42, 43, 180, 0, 124, 42]
abbrev dktX10_openCell_1 : List UInt8 := dkwX10_openCell_1 ++ dktX10_openCell_2
def dkwX10_openCell_0 : List UInt8 := [42, 42, 180, 0, 53, 178, 0, 90, 166, 0, 7, 4, 167, 0, 4, 3, 4, 182, 0, 110, 42, 42]
abbrev dktX10_openCell_0 : List UInt8 := dkwX10_openCell_0 ++ dktX10_openCell_1
theorem dksX10_openCell_0 : cX10_openCell.data.toList.drop 0 = dktX10_openCell_0 := by decide +kernel
theorem dksX10_openCell_1 : cX10_openCell.data.toList.drop 22 = dktX10_openCell_1 := dk_seg dksX10_openCell_0 22 rfl rfl
theorem dksX10_openCell_2 : cX10_openCell.data.toList.drop 45 = dktX10_openCell_2 := dk_seg dksX10_openCell_1 23 rfl rfl
theorem dksX10_openCell_3 : cX10_openCell.data.toList.drop 69 = dktX10_openCell_3 := dk_seg dksX10_openCell_2 24 rfl rfl
theorem dX10_openCell_0 : decode cX10_openCell 0 = .ok (.aload_n 0, 1) := dk_42 (dk_at dksX10_openCell_0 0 rfl rfl)
theorem dX10_openCell_1 : decode cX10_openCell 1 = .ok (.aload_n 0, 1) := dk_42 (dk_at dksX10_openCell_0 1 rfl rfl)
theorem dX10_openCell_2 : decode cX10_openCell 2 = .ok (.getfield 53, 3) := dk_180 0 53 (dk_at dksX10_openCell_0 2 rfl rfl)
theorem dX10_openCell_5 : decode cX10_openCell 5 = .ok (.getstatic 90, 3) := dk_178 0 90 (dk_at dksX10_openCell_0 5 rfl rfl)
theorem dX10_openCell_8 : decode cX10_openCell 8 = .ok (.if_acmp .ne 7, 3) := dk_166 0 7 (dk_at dksX10_openCell_0 8 rfl rfl)
theorem dX10_openCell_11 : decode cX10_openCell 11 = .ok (.iconst 1, 1) := dk_4 (dk_at dksX10_openCell_0 11 rfl rfl)
theorem dX10_openCell_12 : decode cX10_openCell 12 = .ok (.goto 4, 3) := dk_167 0 4 (dk_at dksX10_openCell_0 12 rfl rfl)
theorem dX10_openCell_15 : decode cX10_openCell 15 = .ok (.iconst 0, 1) := dk_3 (dk_at dksX10_openCell_0 15 rfl rfl)
theorem dX10_openCell_16 : decode cX10_openCell 16 = .ok (.iconst 1, 1) := dk_4 (dk_at dksX10_openCell_0 16 rfl rfl)
theorem dX10_openCell_17 : decode cX10_openCell 17 = .ok (.invokevirtual 110, 3) := dk_182 0 110 (dk_at dksX10_openCell_0 17 rfl rfl)
theorem dX10_openCell_20 : decode cX10_openCell 20 = .ok (.aload_n 0, 1) := dk_42 (dk_at dksX10_openCell_0 20 rfl rfl)
theorem dX10_openCell_21 : decode cX10_openCell 21 = .ok (.aload_n 0, 1) := dk_42 (dk_at dksX10_openCell_0 21 rfl rfl)
theorem dX10_openCell_22 : decode cX10_openCell 22 = .ok (.getfield 80, 3) := dk_180 0 80 (dk_at dksX10_openCell_1 0 rfl rfl)
theorem dX10_openCell_25 : decode cX10_openCell 25 = .ok (.iconst 0, 1) := dk_3 (dk_at dksX10_openCell_1 3 rfl rfl)
theorem dX10_openCell_26 : decode cX10_openCell 26 = .ok (.aload_n 1, 1) := dk_43 (dk_at dksX10_openCell_1 4 rfl rfl)
theorem dX10_openCell_27 : decode cX10_openCell 27 = .ok (.invokevirtual 117, 3) := dk_182 0 117 (dk_at dksX10_openCell_1 5 rfl rfl)
theorem dX10_openCell_30 : decode cX10_openCell 30 = .ok (.iconst 1, 1) := dk_4 (dk_at dksX10_openCell_1 8 rfl rfl)
theorem dX10_openCell_31 : decode cX10_openCell 31 = .ok (.isub, 1) := dk_100 (dk_at dksX10_openCell_1 9 rfl rfl)
theorem dX10_openCell_32 : decode cX10_openCell 32 = .ok (.invokestatic 40, 3) := dk_184 0 40 (dk_at dksX10_openCell_1 10 rfl rfl)
theorem dX10_openCell_35 : decode cX10_openCell 35 = .ok (.iconst 2, 1) := dk_5 (dk_at dksX10_openCell_1 13 rfl rfl)
theorem dX10_openCell_36 : decode cX10_openCell 36 = .ok (.invokevirtual 110, 3) := dk_182 0 110 (dk_at dksX10_openCell_1 14 rfl rfl)
theorem dX10_openCell_39 : decode cX10_openCell 39 = .ok (.aload_n 0, 1) := dk_42 (dk_at dksX10_openCell_1 17 rfl rfl)
theorem dX10_openCell_40 : decode cX10_openCell 40 = .ok (.aload_n 1, 1) := dk_43 (dk_at dksX10_openCell_1 18 rfl rfl)
theorem dX10_openCell_41 : decode cX10_openCell 41 = .ok (.getfield 124, 3) := dk_180 0 124 (dk_at dksX10_openCell_1 19 rfl rfl)
theorem dX10_openCell_44 : decode cX10_openCell 44 = .ok (.aload_n 0, 1) := dk_42 (dk_at dksX10_openCell_1 22 rfl rfl)
theorem dX10_openCell_45 : decode cX10_openCell 45 = .ok (.getfield 80, 3) := dk_180 0 80 (dk_at dksX10_openCell_2 0 rfl rfl)
theorem dX10_openCell_48 : decode cX10_openCell 48 = .ok (.baload, 1) := dk_51 (dk_at dksX10_openCell_2 3 rfl rfl)
theorem dX10_openCell_49 : decode cX10_openCell 49 = .ok (.ifCond .ne 15, 3) := dk_154 0 15 (dk_at dksX10_openCell_2 4 rfl rfl)
theorem dX10_openCell_52 : decode cX10_openCell 52 = .ok (.aload_n 0, 1) := dk_42 (dk_at dksX10_openCell_2 7 rfl rfl)
theorem dX10_openCell_53 : decode cX10_openCell 53 = .ok (.getfield 80, 3) := dk_180 0 80 (dk_at dksX10_openCell_2 8 rfl rfl)
theorem dX10_openCell_56 : decode cX10_openCell 56 = .ok (.iload_n 2, 1) := dk_28 (dk_at dksX10_openCell_2 11 rfl rfl)
theorem dX10_openCell_57 : decode cX10_openCell 57 = .ok (.if_icmp .eq 7, 3) := dk_159 0 7 (dk_at dksX10_openCell_2 12 rfl rfl)
theorem dX10_openCell_60 : decode cX10_openCell 60 = .ok (.iconst 1, 1) := dk_4 (dk_at dksX10_openCell_2 15 rfl rfl)
theorem dX10_openCell_61 : decode cX10_openCell 61 = .ok (.goto 4, 3) := dk_167 0 4 (dk_at dksX10_openCell_2 16 rfl rfl)
theorem dX10_openCell_64 : decode cX10_openCell 64 = .ok (.iconst 0, 1) := dk_3 (dk_at dksX10_openCell_2 19 rfl rfl)
theorem dX10_openCell_65 : decode cX10_openCell 65 = .ok (.iconst 3, 1) := dk_6 (dk_at dksX10_openCell_2 20 rfl rfl)
theorem dX10_openCell_66 : decode cX10_openCell 66 = .ok (.invokevirtual 110, 3) := dk_182 0 110 (dk_at dksX10_openCell_2 21 rfl rfl)
theorem dX10_openCell_69 : decode cX10_openCell 69 = .ok (.aload_n 0, 1) := dk_42 (dk_at dksX10_openCell_3 0 rfl rfl)
theorem dX10_openCell_70 : decode cX10_openCell 70 = .ok (.getfield 80, 3) := dk_180 0 80 (dk_at dksX10_openCell_3 1 rfl rfl)
theorem dX10_openCell_73 : decode cX10_openCell 73 = .ok (.istore_n 3, 1) := dk_62 (dk_at dksX10_openCell_3 4 rfl rfl)
theorem dX10_openCell_74 : decode cX10_openCell 74 = .ok (.aload_n 0, 1) := dk_42 (dk_at dksX10_openCell_3 5 rfl rfl)
theorem dX10_openCell_75 : decode cX10_openCell 75 = .ok (.getfield 21, 3) := dk_180 0 21 (dk_at dksX10_openCell_3 6 rfl rfl)
theorem dX10_openCell_78 : decode cX10_openCell 78 = .ok (.iload_n 3, 1) := dk_29 (dk_at dksX10_openCell_3 9 rfl rfl)
theorem dX10_openCell_79 : decode cX10_openCell 79 = .ok (.iconst 1, 1) := dk_4 (dk_at dksX10_openCell_3 10 rfl rfl)
theorem dX10_openCell_80 : decode cX10_openCell 80 = .ok (.bastore, 1) := dk_84 (dk_at dksX10_openCell_3 11 rfl rfl)
theorem dX10_openCell_81 : decode cX10_openCell 81 = .ok (.aload_n 0, 1) := dk_42 (dk_at dksX10_openCell_3 12 rfl rfl)
theorem dX10_openCell_82 : decode cX10_openCell 82 = .ok (.invokevirtual 114, 3) := dk_182 0 114 (dk_at dksX10_openCell_3 13 rfl rfl)
theorem dX10_openCell_85 : decode cX10_openCell 85 = .ok (.iload_n 3, 1) := dk_29 (dk_at dksX10_openCell_3 16 rfl rfl)
theorem dX10_openCell_86 : decode cX10_openCell 86 = .ok (.ireturn, 1) := dk_172 (dk_at dksX10_openCell_3 17 rfl rfl)
abbrev cX10_aLetter : ByteArray := prog_8_method_15_code
def yX10_aLetter : MethodName := ⟨RX10, "aLetter", "(LMistCouriers$State;)V"⟩
def dkwX10_aLetter_1 : List UInt8 := [28, 182, 0, 151, 183, 0, 163, 182, 0, 146, 87, 177]
abbrev dktX10_aLetter_1 : List UInt8 := dkwX10_aLetter_1 ++ []
def dkwX10_aLetter_0 : List UInt8 := [42, 43, 180, 0, 127, 2, 182, 0, 151, 61, 43, 180, 0, 158, 187, 0, 161, 89, 28, 42, 43, 180, 0, 127]
abbrev dktX10_aLetter_0 : List UInt8 := dkwX10_aLetter_0 ++ dktX10_aLetter_1
theorem dksX10_aLetter_0 : cX10_aLetter.data.toList.drop 0 = dktX10_aLetter_0 := by decide +kernel
theorem dksX10_aLetter_1 : cX10_aLetter.data.toList.drop 24 = dktX10_aLetter_1 := dk_seg dksX10_aLetter_0 24 rfl rfl
theorem dX10_aLetter_0 : decode cX10_aLetter 0 = .ok (.aload_n 0, 1) := dk_42 (dk_at dksX10_aLetter_0 0 rfl rfl)
theorem dX10_aLetter_1 : decode cX10_aLetter 1 = .ok (.aload_n 1, 1) := dk_43 (dk_at dksX10_aLetter_0 1 rfl rfl)
theorem dX10_aLetter_2 : decode cX10_aLetter 2 = .ok (.getfield 127, 3) := dk_180 0 127 (dk_at dksX10_aLetter_0 2 rfl rfl)
theorem dX10_aLetter_5 : decode cX10_aLetter 5 = .ok (.iconst (-1), 1) := dk_2 (dk_at dksX10_aLetter_0 5 rfl rfl)
theorem dX10_aLetter_6 : decode cX10_aLetter 6 = .ok (.invokevirtual 151, 3) := dk_182 0 151 (dk_at dksX10_aLetter_0 6 rfl rfl)
theorem dX10_aLetter_9 : decode cX10_aLetter 9 = .ok (.istore_n 2, 1) := dk_61 (dk_at dksX10_aLetter_0 9 rfl rfl)
theorem dX10_aLetter_10 : decode cX10_aLetter 10 = .ok (.aload_n 1, 1) := dk_43 (dk_at dksX10_aLetter_0 10 rfl rfl)
theorem dX10_aLetter_11 : decode cX10_aLetter 11 = .ok (.getfield 158, 3) := dk_180 0 158 (dk_at dksX10_aLetter_0 11 rfl rfl)
theorem dX10_aLetter_14 : decode cX10_aLetter 14 = .ok (.new 161, 3) := dk_187 0 161 (dk_at dksX10_aLetter_0 14 rfl rfl)
theorem dX10_aLetter_17 : decode cX10_aLetter 17 = .ok (.dup, 1) := dk_89 (dk_at dksX10_aLetter_0 17 rfl rfl)
theorem dX10_aLetter_18 : decode cX10_aLetter 18 = .ok (.iload_n 2, 1) := dk_28 (dk_at dksX10_aLetter_0 18 rfl rfl)
theorem dX10_aLetter_19 : decode cX10_aLetter 19 = .ok (.aload_n 0, 1) := dk_42 (dk_at dksX10_aLetter_0 19 rfl rfl)
theorem dX10_aLetter_20 : decode cX10_aLetter 20 = .ok (.aload_n 1, 1) := dk_43 (dk_at dksX10_aLetter_0 20 rfl rfl)
theorem dX10_aLetter_21 : decode cX10_aLetter 21 = .ok (.getfield 127, 3) := dk_180 0 127 (dk_at dksX10_aLetter_0 21 rfl rfl)
theorem dX10_aLetter_24 : decode cX10_aLetter 24 = .ok (.iload_n 2, 1) := dk_28 (dk_at dksX10_aLetter_1 0 rfl rfl)
theorem dX10_aLetter_25 : decode cX10_aLetter 25 = .ok (.invokevirtual 151, 3) := dk_182 0 151 (dk_at dksX10_aLetter_1 1 rfl rfl)
theorem dX10_aLetter_28 : decode cX10_aLetter 28 = .ok (.invokespecial 163, 3) := dk_183 0 163 (dk_at dksX10_aLetter_1 4 rfl rfl)
theorem dX10_aLetter_31 : decode cX10_aLetter 31 = .ok (.invokevirtual 146, 3) := dk_182 0 146 (dk_at dksX10_aLetter_1 7 rfl rfl)
theorem dX10_aLetter_34 : decode cX10_aLetter 34 = .ok (.pop, 1) := dk_87 (dk_at dksX10_aLetter_1 10 rfl rfl)
theorem dX10_aLetter_35 : decode cX10_aLetter 35 = .ok (.return_, 1) := dk_177 (dk_at dksX10_aLetter_1 11 rfl rfl)
abbrev cX10_script : ByteArray := prog_8_method_19_code
def yX10_script : MethodName := ⟨RX10, "script", "()Ljava/util/ArrayDeque;"⟩
def dkwX10_script_2 : List UInt8 := [182, 0, 110, 43, 42, 182, 0, 237, 182, 0, 241, 42, 182, 0, 213, 167, 255, 206, 43, 176]
abbrev dktX10_script_2 : List UInt8 := dkwX10_script_2 ++ []
def dkwX10_script_1 : List UInt8 := [182, 0, 233, 4, 182, 0, 110, 42, 43, 182, 0, 236, 16, 30, 162, 0, 7, 4, 167, 0, 4, 3, 7]
abbrev dktX10_script_1 : List UInt8 := dkwX10_script_1 ++ dktX10_script_2
def dkwX10_script_0 : List UInt8 := [187, 0, 230, 89, 183, 0, 232, 76, 42, 182, 0, 114, 42, 180, 0, 53, 178, 0, 47, 165, 0, 46, 42, 42]
abbrev dktX10_script_0 : List UInt8 := dkwX10_script_0 ++ dktX10_script_1
theorem dksX10_script_0 : cX10_script.data.toList.drop 0 = dktX10_script_0 := by decide +kernel
theorem dksX10_script_1 : cX10_script.data.toList.drop 24 = dktX10_script_1 := dk_seg dksX10_script_0 24 rfl rfl
theorem dksX10_script_2 : cX10_script.data.toList.drop 47 = dktX10_script_2 := dk_seg dksX10_script_1 23 rfl rfl
theorem dX10_script_0 : decode cX10_script 0 = .ok (.new 230, 3) := dk_187 0 230 (dk_at dksX10_script_0 0 rfl rfl)
theorem dX10_script_3 : decode cX10_script 3 = .ok (.dup, 1) := dk_89 (dk_at dksX10_script_0 3 rfl rfl)
theorem dX10_script_4 : decode cX10_script 4 = .ok (.invokespecial 232, 3) := dk_183 0 232 (dk_at dksX10_script_0 4 rfl rfl)
theorem dX10_script_7 : decode cX10_script 7 = .ok (.astore_n 1, 1) := dk_76 (dk_at dksX10_script_0 7 rfl rfl)
theorem dX10_script_8 : decode cX10_script 8 = .ok (.aload_n 0, 1) := dk_42 (dk_at dksX10_script_0 8 rfl rfl)
theorem dX10_script_9 : decode cX10_script 9 = .ok (.invokevirtual 114, 3) := dk_182 0 114 (dk_at dksX10_script_0 9 rfl rfl)
theorem dX10_script_12 : decode cX10_script 12 = .ok (.aload_n 0, 1) := dk_42 (dk_at dksX10_script_0 12 rfl rfl)
theorem dX10_script_13 : decode cX10_script 13 = .ok (.getfield 53, 3) := dk_180 0 53 (dk_at dksX10_script_0 13 rfl rfl)
theorem dX10_script_16 : decode cX10_script 16 = .ok (.getstatic 47, 3) := dk_178 0 47 (dk_at dksX10_script_0 16 rfl rfl)
theorem dX10_script_19 : decode cX10_script 19 = .ok (.if_acmp .eq 46, 3) := dk_165 0 46 (dk_at dksX10_script_0 19 rfl rfl)
theorem dX10_script_22 : decode cX10_script 22 = .ok (.aload_n 0, 1) := dk_42 (dk_at dksX10_script_0 22 rfl rfl)
theorem dX10_script_23 : decode cX10_script 23 = .ok (.aload_n 0, 1) := dk_42 (dk_at dksX10_script_0 23 rfl rfl)
theorem dX10_script_24 : decode cX10_script 24 = .ok (.invokevirtual 233, 3) := dk_182 0 233 (dk_at dksX10_script_1 0 rfl rfl)
theorem dX10_script_27 : decode cX10_script 27 = .ok (.iconst 1, 1) := dk_4 (dk_at dksX10_script_1 3 rfl rfl)
theorem dX10_script_28 : decode cX10_script 28 = .ok (.invokevirtual 110, 3) := dk_182 0 110 (dk_at dksX10_script_1 4 rfl rfl)
theorem dX10_script_31 : decode cX10_script 31 = .ok (.aload_n 0, 1) := dk_42 (dk_at dksX10_script_1 7 rfl rfl)
theorem dX10_script_32 : decode cX10_script 32 = .ok (.aload_n 1, 1) := dk_43 (dk_at dksX10_script_1 8 rfl rfl)
theorem dX10_script_33 : decode cX10_script 33 = .ok (.invokevirtual 236, 3) := dk_182 0 236 (dk_at dksX10_script_1 9 rfl rfl)
theorem dX10_script_36 : decode cX10_script 36 = .ok (.bipush 30, 2) := dk_16 30 (dk_at dksX10_script_1 12 rfl rfl)
theorem dX10_script_38 : decode cX10_script 38 = .ok (.if_icmp .ge 7, 3) := dk_162 0 7 (dk_at dksX10_script_1 14 rfl rfl)
theorem dX10_script_41 : decode cX10_script 41 = .ok (.iconst 1, 1) := dk_4 (dk_at dksX10_script_1 17 rfl rfl)
theorem dX10_script_42 : decode cX10_script 42 = .ok (.goto 4, 3) := dk_167 0 4 (dk_at dksX10_script_1 18 rfl rfl)
theorem dX10_script_45 : decode cX10_script 45 = .ok (.iconst 0, 1) := dk_3 (dk_at dksX10_script_1 21 rfl rfl)
theorem dX10_script_46 : decode cX10_script 46 = .ok (.iconst 4, 1) := dk_7 (dk_at dksX10_script_1 22 rfl rfl)
theorem dX10_script_47 : decode cX10_script 47 = .ok (.invokevirtual 110, 3) := dk_182 0 110 (dk_at dksX10_script_2 0 rfl rfl)
theorem dX10_script_50 : decode cX10_script 50 = .ok (.aload_n 1, 1) := dk_43 (dk_at dksX10_script_2 3 rfl rfl)
theorem dX10_script_51 : decode cX10_script 51 = .ok (.aload_n 0, 1) := dk_42 (dk_at dksX10_script_2 4 rfl rfl)
theorem dX10_script_52 : decode cX10_script 52 = .ok (.invokevirtual 237, 3) := dk_182 0 237 (dk_at dksX10_script_2 5 rfl rfl)
theorem dX10_script_55 : decode cX10_script 55 = .ok (.invokevirtual 241, 3) := dk_182 0 241 (dk_at dksX10_script_2 8 rfl rfl)
theorem dX10_script_58 : decode cX10_script 58 = .ok (.aload_n 0, 1) := dk_42 (dk_at dksX10_script_2 11 rfl rfl)
theorem dX10_script_59 : decode cX10_script 59 = .ok (.invokevirtual 213, 3) := dk_182 0 213 (dk_at dksX10_script_2 12 rfl rfl)
theorem dX10_script_62 : decode cX10_script 62 = .ok (.goto (-50), 3) := dk_167 255 206 (dk_at dksX10_script_2 15 rfl rfl)
theorem dX10_script_65 : decode cX10_script 65 = .ok (.aload_n 1, 1) := dk_43 (dk_at dksX10_script_2 18 rfl rfl)
theorem dX10_script_66 : decode cX10_script 66 = .ok (.areturn, 1) := dk_176 (dk_at dksX10_script_2 19 rfl rfl)
abbrev cX10_isCommand : ByteArray := prog_8_method_20_code
def yX10_isCommand : MethodName := ⟨RX10, "isCommand", "()Z"⟩
def dkwX10_isCommand_6 : List UInt8 := [4, 167, 0, 4, 3, 172]
abbrev dktX10_isCommand_6 : List UInt8 := dkwX10_isCommand_6 ++ []
def dkwX10_isCommand_5 : List UInt8 := [170, 0, 0, 0, 0, 0, 0, 40, 0, 0, 0, 0, 0, 0, 0, 4, 0, 0, 0, 36, 0, 0, 0, 36, 0, 0, 0, 36, 0, 0, 0, 36, 0, 0, 0, 36]
abbrev dktX10_isCommand_5 : List UInt8 := dkwX10_isCommand_5 ++ dktX10_isCommand_6
def dkwX10_isCommand_4 : List UInt8 := [153, 0, 19, 6, 61, 167, 0, 14, 43, 18, 253, 182, 0, 104, 153, 0, 5, 7, 61, 28]
abbrev dktX10_isCommand_4 : List UInt8 := dkwX10_isCommand_4 ++ dktX10_isCommand_5
def dkwX10_isCommand_3 : List UInt8 := [61, 167, 0, 42, 43, 18, 249, 182, 0, 104, 153, 0, 33, 5, 61, 167, 0, 28, 43, 18, 251, 182, 0, 104]
abbrev dktX10_isCommand_3 : List UInt8 := dkwX10_isCommand_3 ++ dktX10_isCommand_4
def dkwX10_isCommand_2 : List UInt8 := [43, 18, 245, 182, 0, 104, 153, 0, 61, 3, 61, 167, 0, 56, 43, 18, 247, 182, 0, 104, 153, 0, 47, 4]
abbrev dktX10_isCommand_2 : List UInt8 := dkwX10_isCommand_2 ++ dktX10_isCommand_3
def dkwX10_isCommand_1 : List UInt8 := [171, 0, 0, 0, 116, 0, 0, 0, 5, 0, 1, 161, 164, 0, 0, 0, 91, 0, 48, 107, 17, 0, 0, 0, 77, 0, 52, 100, 17, 0, 0, 0, 105, 0, 52, 128, 33, 0, 0, 0, 63, 0, 54, 6, 204, 0, 0, 0, 49]
abbrev dktX10_isCommand_1 : List UInt8 := dkwX10_isCommand_1 ++ dktX10_isCommand_2
def dkwX10_isCommand_0 : List UInt8 := [42, 180, 0, 17, 76, 2, 61, 43, 182, 0, 164]
abbrev dktX10_isCommand_0 : List UInt8 := dkwX10_isCommand_0 ++ dktX10_isCommand_1
theorem dksX10_isCommand_0 : cX10_isCommand.data.toList.drop 0 = dktX10_isCommand_0 := by decide +kernel
theorem dksX10_isCommand_1 : cX10_isCommand.data.toList.drop 11 = dktX10_isCommand_1 := dk_seg dksX10_isCommand_0 11 rfl rfl
theorem dksX10_isCommand_2 : cX10_isCommand.data.toList.drop 60 = dktX10_isCommand_2 := dk_seg dksX10_isCommand_1 49 rfl rfl
theorem dksX10_isCommand_3 : cX10_isCommand.data.toList.drop 84 = dktX10_isCommand_3 := dk_seg dksX10_isCommand_2 24 rfl rfl
theorem dksX10_isCommand_4 : cX10_isCommand.data.toList.drop 108 = dktX10_isCommand_4 := dk_seg dksX10_isCommand_3 24 rfl rfl
theorem dksX10_isCommand_5 : cX10_isCommand.data.toList.drop 128 = dktX10_isCommand_5 := dk_seg dksX10_isCommand_4 20 rfl rfl
theorem dksX10_isCommand_6 : cX10_isCommand.data.toList.drop 164 = dktX10_isCommand_6 := dk_seg dksX10_isCommand_5 36 rfl rfl
theorem dX10_isCommand_0 : decode cX10_isCommand 0 = .ok (.aload_n 0, 1) := dk_42 (dk_at dksX10_isCommand_0 0 rfl rfl)
theorem dX10_isCommand_1 : decode cX10_isCommand 1 = .ok (.getfield 17, 3) := dk_180 0 17 (dk_at dksX10_isCommand_0 1 rfl rfl)
theorem dX10_isCommand_4 : decode cX10_isCommand 4 = .ok (.astore_n 1, 1) := dk_76 (dk_at dksX10_isCommand_0 4 rfl rfl)
theorem dX10_isCommand_5 : decode cX10_isCommand 5 = .ok (.iconst (-1), 1) := dk_2 (dk_at dksX10_isCommand_0 5 rfl rfl)
theorem dX10_isCommand_6 : decode cX10_isCommand 6 = .ok (.istore_n 2, 1) := dk_61 (dk_at dksX10_isCommand_0 6 rfl rfl)
theorem dX10_isCommand_7 : decode cX10_isCommand 7 = .ok (.aload_n 1, 1) := dk_43 (dk_at dksX10_isCommand_0 7 rfl rfl)
theorem dX10_isCommand_8 : decode cX10_isCommand 8 = .ok (.invokevirtual 164, 3) := dk_182 0 164 (dk_at dksX10_isCommand_0 8 rfl rfl)
theorem dX10_isCommand_11 : decode cX10_isCommand 11 = .ok (.lookupswitch 116 #[(106916, 91), (3173137, 77), (3433489, 105), (3440673, 63), (3540684, 49)], 49) := by decide +kernel
theorem dX10_isCommand_60 : decode cX10_isCommand 60 = .ok (.aload_n 1, 1) := dk_43 (dk_at dksX10_isCommand_2 0 rfl rfl)
theorem dX10_isCommand_61 : decode cX10_isCommand 61 = .ok (.ldc 245, 2) := dk_18 245 (dk_at dksX10_isCommand_2 1 rfl rfl)
theorem dX10_isCommand_63 : decode cX10_isCommand 63 = .ok (.invokevirtual 104, 3) := dk_182 0 104 (dk_at dksX10_isCommand_2 3 rfl rfl)
theorem dX10_isCommand_66 : decode cX10_isCommand 66 = .ok (.ifCond .eq 61, 3) := dk_153 0 61 (dk_at dksX10_isCommand_2 6 rfl rfl)
theorem dX10_isCommand_69 : decode cX10_isCommand 69 = .ok (.iconst 0, 1) := dk_3 (dk_at dksX10_isCommand_2 9 rfl rfl)
theorem dX10_isCommand_70 : decode cX10_isCommand 70 = .ok (.istore_n 2, 1) := dk_61 (dk_at dksX10_isCommand_2 10 rfl rfl)
theorem dX10_isCommand_71 : decode cX10_isCommand 71 = .ok (.goto 56, 3) := dk_167 0 56 (dk_at dksX10_isCommand_2 11 rfl rfl)
theorem dX10_isCommand_74 : decode cX10_isCommand 74 = .ok (.aload_n 1, 1) := dk_43 (dk_at dksX10_isCommand_2 14 rfl rfl)
theorem dX10_isCommand_75 : decode cX10_isCommand 75 = .ok (.ldc 247, 2) := dk_18 247 (dk_at dksX10_isCommand_2 15 rfl rfl)
theorem dX10_isCommand_77 : decode cX10_isCommand 77 = .ok (.invokevirtual 104, 3) := dk_182 0 104 (dk_at dksX10_isCommand_2 17 rfl rfl)
theorem dX10_isCommand_80 : decode cX10_isCommand 80 = .ok (.ifCond .eq 47, 3) := dk_153 0 47 (dk_at dksX10_isCommand_2 20 rfl rfl)
theorem dX10_isCommand_83 : decode cX10_isCommand 83 = .ok (.iconst 1, 1) := dk_4 (dk_at dksX10_isCommand_2 23 rfl rfl)
theorem dX10_isCommand_84 : decode cX10_isCommand 84 = .ok (.istore_n 2, 1) := dk_61 (dk_at dksX10_isCommand_3 0 rfl rfl)
theorem dX10_isCommand_85 : decode cX10_isCommand 85 = .ok (.goto 42, 3) := dk_167 0 42 (dk_at dksX10_isCommand_3 1 rfl rfl)
theorem dX10_isCommand_88 : decode cX10_isCommand 88 = .ok (.aload_n 1, 1) := dk_43 (dk_at dksX10_isCommand_3 4 rfl rfl)
theorem dX10_isCommand_89 : decode cX10_isCommand 89 = .ok (.ldc 249, 2) := dk_18 249 (dk_at dksX10_isCommand_3 5 rfl rfl)
theorem dX10_isCommand_91 : decode cX10_isCommand 91 = .ok (.invokevirtual 104, 3) := dk_182 0 104 (dk_at dksX10_isCommand_3 7 rfl rfl)
theorem dX10_isCommand_94 : decode cX10_isCommand 94 = .ok (.ifCond .eq 33, 3) := dk_153 0 33 (dk_at dksX10_isCommand_3 10 rfl rfl)
theorem dX10_isCommand_97 : decode cX10_isCommand 97 = .ok (.iconst 2, 1) := dk_5 (dk_at dksX10_isCommand_3 13 rfl rfl)
theorem dX10_isCommand_98 : decode cX10_isCommand 98 = .ok (.istore_n 2, 1) := dk_61 (dk_at dksX10_isCommand_3 14 rfl rfl)
theorem dX10_isCommand_99 : decode cX10_isCommand 99 = .ok (.goto 28, 3) := dk_167 0 28 (dk_at dksX10_isCommand_3 15 rfl rfl)
theorem dX10_isCommand_102 : decode cX10_isCommand 102 = .ok (.aload_n 1, 1) := dk_43 (dk_at dksX10_isCommand_3 18 rfl rfl)
theorem dX10_isCommand_103 : decode cX10_isCommand 103 = .ok (.ldc 251, 2) := dk_18 251 (dk_at dksX10_isCommand_3 19 rfl rfl)
theorem dX10_isCommand_105 : decode cX10_isCommand 105 = .ok (.invokevirtual 104, 3) := dk_182 0 104 (dk_at dksX10_isCommand_3 21 rfl rfl)
theorem dX10_isCommand_108 : decode cX10_isCommand 108 = .ok (.ifCond .eq 19, 3) := dk_153 0 19 (dk_at dksX10_isCommand_4 0 rfl rfl)
theorem dX10_isCommand_111 : decode cX10_isCommand 111 = .ok (.iconst 3, 1) := dk_6 (dk_at dksX10_isCommand_4 3 rfl rfl)
theorem dX10_isCommand_112 : decode cX10_isCommand 112 = .ok (.istore_n 2, 1) := dk_61 (dk_at dksX10_isCommand_4 4 rfl rfl)
theorem dX10_isCommand_113 : decode cX10_isCommand 113 = .ok (.goto 14, 3) := dk_167 0 14 (dk_at dksX10_isCommand_4 5 rfl rfl)
theorem dX10_isCommand_116 : decode cX10_isCommand 116 = .ok (.aload_n 1, 1) := dk_43 (dk_at dksX10_isCommand_4 8 rfl rfl)
theorem dX10_isCommand_117 : decode cX10_isCommand 117 = .ok (.ldc 253, 2) := dk_18 253 (dk_at dksX10_isCommand_4 9 rfl rfl)
theorem dX10_isCommand_119 : decode cX10_isCommand 119 = .ok (.invokevirtual 104, 3) := dk_182 0 104 (dk_at dksX10_isCommand_4 11 rfl rfl)
theorem dX10_isCommand_122 : decode cX10_isCommand 122 = .ok (.ifCond .eq 5, 3) := dk_153 0 5 (dk_at dksX10_isCommand_4 14 rfl rfl)
theorem dX10_isCommand_125 : decode cX10_isCommand 125 = .ok (.iconst 4, 1) := dk_7 (dk_at dksX10_isCommand_4 17 rfl rfl)
theorem dX10_isCommand_126 : decode cX10_isCommand 126 = .ok (.istore_n 2, 1) := dk_61 (dk_at dksX10_isCommand_4 18 rfl rfl)
theorem dX10_isCommand_127 : decode cX10_isCommand 127 = .ok (.iload_n 2, 1) := dk_28 (dk_at dksX10_isCommand_4 19 rfl rfl)
theorem dX10_isCommand_128 : decode cX10_isCommand 128 = .ok (.tableswitch 40 0 4 #[36, 36, 36, 36, 36], 36) := by decide +kernel
theorem dX10_isCommand_164 : decode cX10_isCommand 164 = .ok (.iconst 1, 1) := dk_4 (dk_at dksX10_isCommand_6 0 rfl rfl)
theorem dX10_isCommand_165 : decode cX10_isCommand 165 = .ok (.goto 4, 3) := dk_167 0 4 (dk_at dksX10_isCommand_6 1 rfl rfl)
theorem dX10_isCommand_168 : decode cX10_isCommand 168 = .ok (.iconst 0, 1) := dk_3 (dk_at dksX10_isCommand_6 4 rfl rfl)
theorem dX10_isCommand_169 : decode cX10_isCommand 169 = .ok (.ireturn, 1) := dk_172 (dk_at dksX10_isCommand_6 5 rfl rfl)
abbrev cX10_command : ByteArray := prog_8_method_24_code
def yX10_command : MethodName := ⟨RX10, "command", "()LMistCouriers$Command;"⟩
def dkwX10_command_7 : List UInt8 := [182, 1, 6, 176]
abbrev dktX10_command_7 : List UInt8 := dkwX10_command_7 ++ []
def dkwX10_command_6 : List UInt8 := [188, 10, 89, 3, 42, 4, 16, 20, 182, 0, 122, 79, 183, 1, 3, 167, 0, 10, 42, 43, 16, 9]
abbrev dktX10_command_6 : List UInt8 := dkwX10_command_6 ++ dktX10_command_7
def dkwX10_command_5 : List UInt8 := [42, 43, 6, 182, 1, 6, 167, 0, 42, 42, 43, 182, 1, 10, 167, 0, 34, 187, 1, 1, 89, 43, 4]
abbrev dktX10_command_5 : List UInt8 := dkwX10_command_5 ++ dktX10_command_6
def dkwX10_command_4 : List UInt8 := [170, 0, 0, 0, 0, 0, 0, 69, 0, 0, 0, 0, 0, 0, 0, 2, 0, 0, 0, 28, 0, 0, 0, 37, 0, 0, 0, 45]
abbrev dktX10_command_4 : List UInt8 := dkwX10_command_4 ++ dktX10_command_5
def dkwX10_command_3 : List UInt8 := [62, 167, 0, 14, 44, 18, 253, 182, 0, 104, 153, 0, 5, 5, 62, 29]
abbrev dktX10_command_3 : List UInt8 := dkwX10_command_3 ++ dktX10_command_4
def dkwX10_command_2 : List UInt8 := [44, 18, 245, 182, 0, 104, 153, 0, 33, 3, 62, 167, 0, 28, 44, 18, 249, 182, 0, 104, 153, 0, 19, 4]
abbrev dktX10_command_2 : List UInt8 := dkwX10_command_2 ++ dktX10_command_3
def dkwX10_command_1 : List UInt8 := [171, 0, 0, 0, 0, 0, 74, 0, 0, 0, 3, 0, 48, 107, 17, 0, 0, 0, 49, 0, 52, 100, 17, 0, 0, 0, 63, 0, 54, 6, 204, 0, 0, 0, 35]
abbrev dktX10_command_1 : List UInt8 := dkwX10_command_1 ++ dktX10_command_2
def dkwX10_command_0 : List UInt8 := [42, 180, 0, 17, 76, 42, 182, 0, 114, 43, 77, 2, 62, 44, 182, 0, 164]
abbrev dktX10_command_0 : List UInt8 := dkwX10_command_0 ++ dktX10_command_1
theorem dksX10_command_0 : cX10_command.data.toList.drop 0 = dktX10_command_0 := by decide +kernel
theorem dksX10_command_1 : cX10_command.data.toList.drop 17 = dktX10_command_1 := dk_seg dksX10_command_0 17 rfl rfl
theorem dksX10_command_2 : cX10_command.data.toList.drop 52 = dktX10_command_2 := dk_seg dksX10_command_1 35 rfl rfl
theorem dksX10_command_3 : cX10_command.data.toList.drop 76 = dktX10_command_3 := dk_seg dksX10_command_2 24 rfl rfl
theorem dksX10_command_4 : cX10_command.data.toList.drop 92 = dktX10_command_4 := dk_seg dksX10_command_3 16 rfl rfl
theorem dksX10_command_5 : cX10_command.data.toList.drop 120 = dktX10_command_5 := dk_seg dksX10_command_4 28 rfl rfl
theorem dksX10_command_6 : cX10_command.data.toList.drop 143 = dktX10_command_6 := dk_seg dksX10_command_5 23 rfl rfl
theorem dksX10_command_7 : cX10_command.data.toList.drop 165 = dktX10_command_7 := dk_seg dksX10_command_6 22 rfl rfl
theorem dX10_command_0 : decode cX10_command 0 = .ok (.aload_n 0, 1) := dk_42 (dk_at dksX10_command_0 0 rfl rfl)
theorem dX10_command_1 : decode cX10_command 1 = .ok (.getfield 17, 3) := dk_180 0 17 (dk_at dksX10_command_0 1 rfl rfl)
theorem dX10_command_4 : decode cX10_command 4 = .ok (.astore_n 1, 1) := dk_76 (dk_at dksX10_command_0 4 rfl rfl)
theorem dX10_command_5 : decode cX10_command 5 = .ok (.aload_n 0, 1) := dk_42 (dk_at dksX10_command_0 5 rfl rfl)
theorem dX10_command_6 : decode cX10_command 6 = .ok (.invokevirtual 114, 3) := dk_182 0 114 (dk_at dksX10_command_0 6 rfl rfl)
theorem dX10_command_9 : decode cX10_command 9 = .ok (.aload_n 1, 1) := dk_43 (dk_at dksX10_command_0 9 rfl rfl)
theorem dX10_command_10 : decode cX10_command 10 = .ok (.astore_n 2, 1) := dk_77 (dk_at dksX10_command_0 10 rfl rfl)
theorem dX10_command_11 : decode cX10_command 11 = .ok (.iconst (-1), 1) := dk_2 (dk_at dksX10_command_0 11 rfl rfl)
theorem dX10_command_12 : decode cX10_command 12 = .ok (.istore_n 3, 1) := dk_62 (dk_at dksX10_command_0 12 rfl rfl)
theorem dX10_command_13 : decode cX10_command 13 = .ok (.aload_n 2, 1) := dk_44 (dk_at dksX10_command_0 13 rfl rfl)
theorem dX10_command_14 : decode cX10_command 14 = .ok (.invokevirtual 164, 3) := dk_182 0 164 (dk_at dksX10_command_0 14 rfl rfl)
theorem dX10_command_17 : decode cX10_command 17 = .ok (.lookupswitch 74 #[(3173137, 49), (3433489, 63), (3540684, 35)], 35) := by decide +kernel
theorem dX10_command_52 : decode cX10_command 52 = .ok (.aload_n 2, 1) := dk_44 (dk_at dksX10_command_2 0 rfl rfl)
theorem dX10_command_53 : decode cX10_command 53 = .ok (.ldc 245, 2) := dk_18 245 (dk_at dksX10_command_2 1 rfl rfl)
theorem dX10_command_55 : decode cX10_command 55 = .ok (.invokevirtual 104, 3) := dk_182 0 104 (dk_at dksX10_command_2 3 rfl rfl)
theorem dX10_command_58 : decode cX10_command 58 = .ok (.ifCond .eq 33, 3) := dk_153 0 33 (dk_at dksX10_command_2 6 rfl rfl)
theorem dX10_command_61 : decode cX10_command 61 = .ok (.iconst 0, 1) := dk_3 (dk_at dksX10_command_2 9 rfl rfl)
theorem dX10_command_62 : decode cX10_command 62 = .ok (.istore_n 3, 1) := dk_62 (dk_at dksX10_command_2 10 rfl rfl)
theorem dX10_command_63 : decode cX10_command 63 = .ok (.goto 28, 3) := dk_167 0 28 (dk_at dksX10_command_2 11 rfl rfl)
theorem dX10_command_66 : decode cX10_command 66 = .ok (.aload_n 2, 1) := dk_44 (dk_at dksX10_command_2 14 rfl rfl)
theorem dX10_command_67 : decode cX10_command 67 = .ok (.ldc 249, 2) := dk_18 249 (dk_at dksX10_command_2 15 rfl rfl)
theorem dX10_command_69 : decode cX10_command 69 = .ok (.invokevirtual 104, 3) := dk_182 0 104 (dk_at dksX10_command_2 17 rfl rfl)
theorem dX10_command_72 : decode cX10_command 72 = .ok (.ifCond .eq 19, 3) := dk_153 0 19 (dk_at dksX10_command_2 20 rfl rfl)
theorem dX10_command_75 : decode cX10_command 75 = .ok (.iconst 1, 1) := dk_4 (dk_at dksX10_command_2 23 rfl rfl)
theorem dX10_command_76 : decode cX10_command 76 = .ok (.istore_n 3, 1) := dk_62 (dk_at dksX10_command_3 0 rfl rfl)
theorem dX10_command_77 : decode cX10_command 77 = .ok (.goto 14, 3) := dk_167 0 14 (dk_at dksX10_command_3 1 rfl rfl)
theorem dX10_command_80 : decode cX10_command 80 = .ok (.aload_n 2, 1) := dk_44 (dk_at dksX10_command_3 4 rfl rfl)
theorem dX10_command_81 : decode cX10_command 81 = .ok (.ldc 253, 2) := dk_18 253 (dk_at dksX10_command_3 5 rfl rfl)
theorem dX10_command_83 : decode cX10_command 83 = .ok (.invokevirtual 104, 3) := dk_182 0 104 (dk_at dksX10_command_3 7 rfl rfl)
theorem dX10_command_86 : decode cX10_command 86 = .ok (.ifCond .eq 5, 3) := dk_153 0 5 (dk_at dksX10_command_3 10 rfl rfl)
theorem dX10_command_89 : decode cX10_command 89 = .ok (.iconst 2, 1) := dk_5 (dk_at dksX10_command_3 13 rfl rfl)
theorem dX10_command_90 : decode cX10_command 90 = .ok (.istore_n 3, 1) := dk_62 (dk_at dksX10_command_3 14 rfl rfl)
theorem dX10_command_91 : decode cX10_command 91 = .ok (.iload_n 3, 1) := dk_29 (dk_at dksX10_command_3 15 rfl rfl)
theorem dX10_command_92 : decode cX10_command 92 = .ok (.tableswitch 69 0 2 #[28, 37, 45], 28) := by decide +kernel
theorem dX10_command_120 : decode cX10_command 120 = .ok (.aload_n 0, 1) := dk_42 (dk_at dksX10_command_5 0 rfl rfl)
theorem dX10_command_121 : decode cX10_command 121 = .ok (.aload_n 1, 1) := dk_43 (dk_at dksX10_command_5 1 rfl rfl)
theorem dX10_command_122 : decode cX10_command 122 = .ok (.iconst 3, 1) := dk_6 (dk_at dksX10_command_5 2 rfl rfl)
theorem dX10_command_123 : decode cX10_command 123 = .ok (.invokevirtual 262, 3) := dk_182 1 6 (dk_at dksX10_command_5 3 rfl rfl)
theorem dX10_command_126 : decode cX10_command 126 = .ok (.goto 42, 3) := dk_167 0 42 (dk_at dksX10_command_5 6 rfl rfl)
theorem dX10_command_129 : decode cX10_command 129 = .ok (.aload_n 0, 1) := dk_42 (dk_at dksX10_command_5 9 rfl rfl)
theorem dX10_command_130 : decode cX10_command 130 = .ok (.aload_n 1, 1) := dk_43 (dk_at dksX10_command_5 10 rfl rfl)
theorem dX10_command_131 : decode cX10_command 131 = .ok (.invokevirtual 266, 3) := dk_182 1 10 (dk_at dksX10_command_5 11 rfl rfl)
theorem dX10_command_134 : decode cX10_command 134 = .ok (.goto 34, 3) := dk_167 0 34 (dk_at dksX10_command_5 14 rfl rfl)
theorem dX10_command_137 : decode cX10_command 137 = .ok (.new 257, 3) := dk_187 1 1 (dk_at dksX10_command_5 17 rfl rfl)
theorem dX10_command_140 : decode cX10_command 140 = .ok (.dup, 1) := dk_89 (dk_at dksX10_command_5 20 rfl rfl)
theorem dX10_command_141 : decode cX10_command 141 = .ok (.aload_n 1, 1) := dk_43 (dk_at dksX10_command_5 21 rfl rfl)
theorem dX10_command_142 : decode cX10_command 142 = .ok (.iconst 1, 1) := dk_4 (dk_at dksX10_command_5 22 rfl rfl)
theorem dX10_command_143 : decode cX10_command 143 = .ok (.newarray .int, 2) := dk_188_10 (dk_at dksX10_command_6 0 rfl rfl)
theorem dX10_command_145 : decode cX10_command 145 = .ok (.dup, 1) := dk_89 (dk_at dksX10_command_6 2 rfl rfl)
theorem dX10_command_146 : decode cX10_command 146 = .ok (.iconst 0, 1) := dk_3 (dk_at dksX10_command_6 3 rfl rfl)
theorem dX10_command_147 : decode cX10_command 147 = .ok (.aload_n 0, 1) := dk_42 (dk_at dksX10_command_6 4 rfl rfl)
theorem dX10_command_148 : decode cX10_command 148 = .ok (.iconst 1, 1) := dk_4 (dk_at dksX10_command_6 5 rfl rfl)
theorem dX10_command_149 : decode cX10_command 149 = .ok (.bipush 20, 2) := dk_16 20 (dk_at dksX10_command_6 6 rfl rfl)
theorem dX10_command_151 : decode cX10_command 151 = .ok (.invokevirtual 122, 3) := dk_182 0 122 (dk_at dksX10_command_6 8 rfl rfl)
theorem dX10_command_154 : decode cX10_command 154 = .ok (.iastore, 1) := dk_79 (dk_at dksX10_command_6 11 rfl rfl)
theorem dX10_command_155 : decode cX10_command 155 = .ok (.invokespecial 259, 3) := dk_183 1 3 (dk_at dksX10_command_6 12 rfl rfl)
theorem dX10_command_158 : decode cX10_command 158 = .ok (.goto 10, 3) := dk_167 0 10 (dk_at dksX10_command_6 15 rfl rfl)
theorem dX10_command_161 : decode cX10_command 161 = .ok (.aload_n 0, 1) := dk_42 (dk_at dksX10_command_6 18 rfl rfl)
theorem dX10_command_162 : decode cX10_command 162 = .ok (.aload_n 1, 1) := dk_43 (dk_at dksX10_command_6 19 rfl rfl)
theorem dX10_command_163 : decode cX10_command 163 = .ok (.bipush 9, 2) := dk_16 9 (dk_at dksX10_command_6 20 rfl rfl)
theorem dX10_command_165 : decode cX10_command 165 = .ok (.invokevirtual 262, 3) := dk_182 1 6 (dk_at dksX10_command_7 0 rfl rfl)
theorem dX10_command_168 : decode cX10_command 168 = .ok (.areturn, 1) := dk_176 (dk_at dksX10_command_7 3 rfl rfl)
abbrev cX10_two : ByteArray := prog_8_method_22_code
def yX10_two : MethodName := ⟨RX10, "two", "(Ljava/lang/String;I)LMistCouriers$Command;"⟩
def dkwX10_two_1 : List UInt8 := [182, 0, 122, 79, 183, 1, 3, 176]
abbrev dktX10_two_1 : List UInt8 := dkwX10_two_1 ++ []
def dkwX10_two_0 : List UInt8 := [42, 182, 0, 255, 62, 187, 1, 1, 89, 43, 5, 188, 10, 89, 3, 29, 79, 89, 4, 42, 3, 28]
abbrev dktX10_two_0 : List UInt8 := dkwX10_two_0 ++ dktX10_two_1
theorem dksX10_two_0 : cX10_two.data.toList.drop 0 = dktX10_two_0 := by decide +kernel
theorem dksX10_two_1 : cX10_two.data.toList.drop 22 = dktX10_two_1 := dk_seg dksX10_two_0 22 rfl rfl
theorem dX10_two_0 : decode cX10_two 0 = .ok (.aload_n 0, 1) := dk_42 (dk_at dksX10_two_0 0 rfl rfl)
theorem dX10_two_1 : decode cX10_two 1 = .ok (.invokevirtual 255, 3) := dk_182 0 255 (dk_at dksX10_two_0 1 rfl rfl)
theorem dX10_two_4 : decode cX10_two 4 = .ok (.istore_n 3, 1) := dk_62 (dk_at dksX10_two_0 4 rfl rfl)
theorem dX10_two_5 : decode cX10_two 5 = .ok (.new 257, 3) := dk_187 1 1 (dk_at dksX10_two_0 5 rfl rfl)
theorem dX10_two_8 : decode cX10_two 8 = .ok (.dup, 1) := dk_89 (dk_at dksX10_two_0 8 rfl rfl)
theorem dX10_two_9 : decode cX10_two 9 = .ok (.aload_n 1, 1) := dk_43 (dk_at dksX10_two_0 9 rfl rfl)
theorem dX10_two_10 : decode cX10_two 10 = .ok (.iconst 2, 1) := dk_5 (dk_at dksX10_two_0 10 rfl rfl)
theorem dX10_two_11 : decode cX10_two 11 = .ok (.newarray .int, 2) := dk_188_10 (dk_at dksX10_two_0 11 rfl rfl)
theorem dX10_two_13 : decode cX10_two 13 = .ok (.dup, 1) := dk_89 (dk_at dksX10_two_0 13 rfl rfl)
theorem dX10_two_14 : decode cX10_two 14 = .ok (.iconst 0, 1) := dk_3 (dk_at dksX10_two_0 14 rfl rfl)
theorem dX10_two_15 : decode cX10_two 15 = .ok (.iload_n 3, 1) := dk_29 (dk_at dksX10_two_0 15 rfl rfl)
theorem dX10_two_16 : decode cX10_two 16 = .ok (.iastore, 1) := dk_79 (dk_at dksX10_two_0 16 rfl rfl)
theorem dX10_two_17 : decode cX10_two 17 = .ok (.dup, 1) := dk_89 (dk_at dksX10_two_0 17 rfl rfl)
theorem dX10_two_18 : decode cX10_two 18 = .ok (.iconst 1, 1) := dk_4 (dk_at dksX10_two_0 18 rfl rfl)
theorem dX10_two_19 : decode cX10_two 19 = .ok (.aload_n 0, 1) := dk_42 (dk_at dksX10_two_0 19 rfl rfl)
theorem dX10_two_20 : decode cX10_two 20 = .ok (.iconst 0, 1) := dk_3 (dk_at dksX10_two_0 20 rfl rfl)
theorem dX10_two_21 : decode cX10_two 21 = .ok (.iload_n 2, 1) := dk_28 (dk_at dksX10_two_0 21 rfl rfl)
theorem dX10_two_22 : decode cX10_two 22 = .ok (.invokevirtual 122, 3) := dk_182 0 122 (dk_at dksX10_two_1 0 rfl rfl)
theorem dX10_two_25 : decode cX10_two 25 = .ok (.iastore, 1) := dk_79 (dk_at dksX10_two_1 3 rfl rfl)
theorem dX10_two_26 : decode cX10_two 26 = .ok (.invokespecial 259, 3) := dk_183 1 3 (dk_at dksX10_two_1 4 rfl rfl)
theorem dX10_two_29 : decode cX10_two 29 = .ok (.areturn, 1) := dk_176 (dk_at dksX10_two_1 7 rfl rfl)
abbrev cX10_courier : ByteArray := prog_8_method_21_code
def yX10_courier : MethodName := ⟨RX10, "courier", "()I"⟩
def dkwX10_courier_0 : List UInt8 := [42, 3, 6, 182, 0, 122, 172]
abbrev dktX10_courier_0 : List UInt8 := dkwX10_courier_0 ++ []
theorem dksX10_courier_0 : cX10_courier.data.toList.drop 0 = dktX10_courier_0 := by decide +kernel
theorem dX10_courier_0 : decode cX10_courier 0 = .ok (.aload_n 0, 1) := dk_42 (dk_at dksX10_courier_0 0 rfl rfl)
theorem dX10_courier_1 : decode cX10_courier 1 = .ok (.iconst 0, 1) := dk_3 (dk_at dksX10_courier_0 1 rfl rfl)
theorem dX10_courier_2 : decode cX10_courier 2 = .ok (.iconst 3, 1) := dk_6 (dk_at dksX10_courier_0 2 rfl rfl)
theorem dX10_courier_3 : decode cX10_courier 3 = .ok (.invokevirtual 122, 3) := dk_182 0 122 (dk_at dksX10_courier_0 3 rfl rfl)
theorem dX10_courier_6 : decode cX10_courier 6 = .ok (.ireturn, 1) := dk_172 (dk_at dksX10_courier_0 6 rfl rfl)
abbrev cX10_gives : ByteArray := prog_8_method_23_code
def yX10_gives : MethodName := ⟨RX10, "gives", "(Ljava/lang/String;)LMistCouriers$Command;"⟩
def dkwX10_gives_1 : List UInt8 := [29, 79, 89, 5, 42, 3, 16, 9, 182, 0, 122, 79, 183, 1, 3, 176]
abbrev dktX10_gives_1 : List UInt8 := dkwX10_gives_1 ++ []
def dkwX10_gives_0 : List UInt8 := [42, 182, 0, 255, 61, 42, 182, 0, 255, 62, 187, 1, 1, 89, 43, 6, 188, 10, 89, 3, 28, 79, 89, 4]
abbrev dktX10_gives_0 : List UInt8 := dkwX10_gives_0 ++ dktX10_gives_1
theorem dksX10_gives_0 : cX10_gives.data.toList.drop 0 = dktX10_gives_0 := by decide +kernel
theorem dksX10_gives_1 : cX10_gives.data.toList.drop 24 = dktX10_gives_1 := dk_seg dksX10_gives_0 24 rfl rfl
theorem dX10_gives_0 : decode cX10_gives 0 = .ok (.aload_n 0, 1) := dk_42 (dk_at dksX10_gives_0 0 rfl rfl)
theorem dX10_gives_1 : decode cX10_gives 1 = .ok (.invokevirtual 255, 3) := dk_182 0 255 (dk_at dksX10_gives_0 1 rfl rfl)
theorem dX10_gives_4 : decode cX10_gives 4 = .ok (.istore_n 2, 1) := dk_61 (dk_at dksX10_gives_0 4 rfl rfl)
theorem dX10_gives_5 : decode cX10_gives 5 = .ok (.aload_n 0, 1) := dk_42 (dk_at dksX10_gives_0 5 rfl rfl)
theorem dX10_gives_6 : decode cX10_gives 6 = .ok (.invokevirtual 255, 3) := dk_182 0 255 (dk_at dksX10_gives_0 6 rfl rfl)
theorem dX10_gives_9 : decode cX10_gives 9 = .ok (.istore_n 3, 1) := dk_62 (dk_at dksX10_gives_0 9 rfl rfl)
theorem dX10_gives_10 : decode cX10_gives 10 = .ok (.new 257, 3) := dk_187 1 1 (dk_at dksX10_gives_0 10 rfl rfl)
theorem dX10_gives_13 : decode cX10_gives 13 = .ok (.dup, 1) := dk_89 (dk_at dksX10_gives_0 13 rfl rfl)
theorem dX10_gives_14 : decode cX10_gives 14 = .ok (.aload_n 1, 1) := dk_43 (dk_at dksX10_gives_0 14 rfl rfl)
theorem dX10_gives_15 : decode cX10_gives 15 = .ok (.iconst 3, 1) := dk_6 (dk_at dksX10_gives_0 15 rfl rfl)
theorem dX10_gives_16 : decode cX10_gives 16 = .ok (.newarray .int, 2) := dk_188_10 (dk_at dksX10_gives_0 16 rfl rfl)
theorem dX10_gives_18 : decode cX10_gives 18 = .ok (.dup, 1) := dk_89 (dk_at dksX10_gives_0 18 rfl rfl)
theorem dX10_gives_19 : decode cX10_gives 19 = .ok (.iconst 0, 1) := dk_3 (dk_at dksX10_gives_0 19 rfl rfl)
theorem dX10_gives_20 : decode cX10_gives 20 = .ok (.iload_n 2, 1) := dk_28 (dk_at dksX10_gives_0 20 rfl rfl)
theorem dX10_gives_21 : decode cX10_gives 21 = .ok (.iastore, 1) := dk_79 (dk_at dksX10_gives_0 21 rfl rfl)
theorem dX10_gives_22 : decode cX10_gives 22 = .ok (.dup, 1) := dk_89 (dk_at dksX10_gives_0 22 rfl rfl)
theorem dX10_gives_23 : decode cX10_gives 23 = .ok (.iconst 1, 1) := dk_4 (dk_at dksX10_gives_0 23 rfl rfl)
theorem dX10_gives_24 : decode cX10_gives 24 = .ok (.iload_n 3, 1) := dk_29 (dk_at dksX10_gives_1 0 rfl rfl)
theorem dX10_gives_25 : decode cX10_gives 25 = .ok (.iastore, 1) := dk_79 (dk_at dksX10_gives_1 1 rfl rfl)
theorem dX10_gives_26 : decode cX10_gives 26 = .ok (.dup, 1) := dk_89 (dk_at dksX10_gives_1 2 rfl rfl)
theorem dX10_gives_27 : decode cX10_gives 27 = .ok (.iconst 2, 1) := dk_5 (dk_at dksX10_gives_1 3 rfl rfl)
theorem dX10_gives_28 : decode cX10_gives 28 = .ok (.aload_n 0, 1) := dk_42 (dk_at dksX10_gives_1 4 rfl rfl)
theorem dX10_gives_29 : decode cX10_gives 29 = .ok (.iconst 0, 1) := dk_3 (dk_at dksX10_gives_1 5 rfl rfl)
theorem dX10_gives_30 : decode cX10_gives 30 = .ok (.bipush 9, 2) := dk_16 9 (dk_at dksX10_gives_1 6 rfl rfl)
theorem dX10_gives_32 : decode cX10_gives 32 = .ok (.invokevirtual 122, 3) := dk_182 0 122 (dk_at dksX10_gives_1 8 rfl rfl)
theorem dX10_gives_35 : decode cX10_gives 35 = .ok (.iastore, 1) := dk_79 (dk_at dksX10_gives_1 11 rfl rfl)
theorem dX10_gives_36 : decode cX10_gives 36 = .ok (.invokespecial 259, 3) := dk_183 1 3 (dk_at dksX10_gives_1 12 rfl rfl)
theorem dX10_gives_39 : decode cX10_gives 39 = .ok (.areturn, 1) := dk_176 (dk_at dksX10_gives_1 15 rfl rfl)
abbrev cX11_init : ByteArray := prog_5_method_1_code
def yX11_init : MethodName := ⟨RX11, "<init>", "(II)V"⟩
def dkwX11_init_0 : List UInt8 := [42, 1, 1, 3, 3, 183, 0, 1, 42, 27, 181, 0, 7, 42, 28, 181, 0, 13, 177]
abbrev dktX11_init_0 : List UInt8 := dkwX11_init_0 ++ []
theorem dksX11_init_0 : cX11_init.data.toList.drop 0 = dktX11_init_0 := by decide +kernel
theorem dX11_init_0 : decode cX11_init 0 = .ok (.aload_n 0, 1) := dk_42 (dk_at dksX11_init_0 0 rfl rfl)
theorem dX11_init_1 : decode cX11_init 1 = .ok (.aconst_null, 1) := dk_1 (dk_at dksX11_init_0 1 rfl rfl)
theorem dX11_init_2 : decode cX11_init 2 = .ok (.aconst_null, 1) := dk_1 (dk_at dksX11_init_0 2 rfl rfl)
theorem dX11_init_3 : decode cX11_init 3 = .ok (.iconst 0, 1) := dk_3 (dk_at dksX11_init_0 3 rfl rfl)
theorem dX11_init_4 : decode cX11_init 4 = .ok (.iconst 0, 1) := dk_3 (dk_at dksX11_init_0 4 rfl rfl)
theorem dX11_init_5 : decode cX11_init 5 = .ok (.invokespecial 1, 3) := dk_183 0 1 (dk_at dksX11_init_0 5 rfl rfl)
theorem dX11_init_8 : decode cX11_init 8 = .ok (.aload_n 0, 1) := dk_42 (dk_at dksX11_init_0 8 rfl rfl)
theorem dX11_init_9 : decode cX11_init 9 = .ok (.iload_n 1, 1) := dk_27 (dk_at dksX11_init_0 9 rfl rfl)
theorem dX11_init_10 : decode cX11_init 10 = .ok (.putfield 7, 3) := dk_181 0 7 (dk_at dksX11_init_0 10 rfl rfl)
theorem dX11_init_13 : decode cX11_init 13 = .ok (.aload_n 0, 1) := dk_42 (dk_at dksX11_init_0 13 rfl rfl)
theorem dX11_init_14 : decode cX11_init 14 = .ok (.iload_n 2, 1) := dk_28 (dk_at dksX11_init_0 14 rfl rfl)
theorem dX11_init_15 : decode cX11_init 15 = .ok (.putfield 13, 3) := dk_181 0 13 (dk_at dksX11_init_0 15 rfl rfl)
theorem dX11_init_18 : decode cX11_init 18 = .ok (.return_, 1) := dk_177 (dk_at dksX11_init_0 18 rfl rfl)
abbrev cX12_init : ByteArray := prog_3_method_1_code
def yX12_init : MethodName := ⟨RX12, "<init>", "(Ljava/lang/String;[I)V"⟩
def dkwX12_init_0 : List UInt8 := [42, 183, 0, 1, 42, 43, 181, 0, 7, 42, 44, 181, 0, 13, 177]
abbrev dktX12_init_0 : List UInt8 := dkwX12_init_0 ++ []
theorem dksX12_init_0 : cX12_init.data.toList.drop 0 = dktX12_init_0 := by decide +kernel
theorem dX12_init_0 : decode cX12_init 0 = .ok (.aload_n 0, 1) := dk_42 (dk_at dksX12_init_0 0 rfl rfl)
theorem dX12_init_1 : decode cX12_init 1 = .ok (.invokespecial 1, 3) := dk_183 0 1 (dk_at dksX12_init_0 1 rfl rfl)
theorem dX12_init_4 : decode cX12_init 4 = .ok (.aload_n 0, 1) := dk_42 (dk_at dksX12_init_0 4 rfl rfl)
theorem dX12_init_5 : decode cX12_init 5 = .ok (.aload_n 1, 1) := dk_43 (dk_at dksX12_init_0 5 rfl rfl)
theorem dX12_init_6 : decode cX12_init 6 = .ok (.putfield 7, 3) := dk_181 0 7 (dk_at dksX12_init_0 6 rfl rfl)
theorem dX12_init_9 : decode cX12_init 9 = .ok (.aload_n 0, 1) := dk_42 (dk_at dksX12_init_0 9 rfl rfl)
theorem dX12_init_10 : decode cX12_init 10 = .ok (.aload_n 2, 1) := dk_44 (dk_at dksX12_init_0 10 rfl rfl)
theorem dX12_init_11 : decode cX12_init 11 = .ok (.putfield 13, 3) := dk_181 0 13 (dk_at dksX12_init_0 11 rfl rfl)
theorem dX12_init_14 : decode cX12_init 14 = .ok (.return_, 1) := dk_177 (dk_at dksX12_init_0 14 rfl rfl)
def RX13 : String := "MistCouriers$Grid"
abbrev cX13_cells : ByteArray := prog_6_method_5_code
def yX13_cells : MethodName := ⟨RX13, "cells", "()I"⟩
def dkwX13_cells_0 : List UInt8 := [42, 185, 0, 3, 1, 0, 42, 185, 0, 9, 1, 0, 104, 172]
abbrev dktX13_cells_0 : List UInt8 := dkwX13_cells_0 ++ []
theorem dksX13_cells_0 : cX13_cells.data.toList.drop 0 = dktX13_cells_0 := by decide +kernel
theorem dX13_cells_0 : decode cX13_cells 0 = .ok (.aload_n 0, 1) := dk_42 (dk_at dksX13_cells_0 0 rfl rfl)
theorem dX13_cells_1 : decode cX13_cells 1 = .ok (.invokeinterface 3 1, 5) := by decide +kernel
theorem dX13_cells_6 : decode cX13_cells 6 = .ok (.aload_n 0, 1) := dk_42 (dk_at dksX13_cells_0 6 rfl rfl)
theorem dX13_cells_7 : decode cX13_cells 7 = .ok (.invokeinterface 9 1, 5) := by decide +kernel
theorem dX13_cells_12 : decode cX13_cells 12 = .ok (.imul, 1) := dk_104 (dk_at dksX13_cells_0 12 rfl rfl)
theorem dX13_cells_13 : decode cX13_cells 13 = .ok (.ireturn, 1) := dk_172 (dk_at dksX13_cells_0 13 rfl rfl)
abbrev cX13_far : ByteArray := prog_6_method_10_code
def yX13_far : MethodName := ⟨RX13, "far", "(II)I"⟩
def dkwX13_far_1 : List UInt8 := [185, 0, 19, 2, 0, 42, 28, 185, 0, 19, 2, 0, 100, 184, 0, 29, 96, 172]
abbrev dktX13_far_1 : List UInt8 := dkwX13_far_1 ++ []
def dkwX13_far_0 : List UInt8 := [42, 27, 185, 0, 12, 2, 0, 42, 28, 185, 0, 12, 2, 0, 100, 184, 0, 29, 42, 27]
abbrev dktX13_far_0 : List UInt8 := dkwX13_far_0 ++ dktX13_far_1
theorem dksX13_far_0 : cX13_far.data.toList.drop 0 = dktX13_far_0 := by decide +kernel
theorem dksX13_far_1 : cX13_far.data.toList.drop 20 = dktX13_far_1 := dk_seg dksX13_far_0 20 rfl rfl
theorem dX13_far_0 : decode cX13_far 0 = .ok (.aload_n 0, 1) := dk_42 (dk_at dksX13_far_0 0 rfl rfl)
theorem dX13_far_1 : decode cX13_far 1 = .ok (.iload_n 1, 1) := dk_27 (dk_at dksX13_far_0 1 rfl rfl)
theorem dX13_far_2 : decode cX13_far 2 = .ok (.invokeinterface 12 2, 5) := by decide +kernel
theorem dX13_far_7 : decode cX13_far 7 = .ok (.aload_n 0, 1) := dk_42 (dk_at dksX13_far_0 7 rfl rfl)
theorem dX13_far_8 : decode cX13_far 8 = .ok (.iload_n 2, 1) := dk_28 (dk_at dksX13_far_0 8 rfl rfl)
theorem dX13_far_9 : decode cX13_far 9 = .ok (.invokeinterface 12 2, 5) := by decide +kernel
theorem dX13_far_14 : decode cX13_far 14 = .ok (.isub, 1) := dk_100 (dk_at dksX13_far_0 14 rfl rfl)
theorem dX13_far_15 : decode cX13_far 15 = .ok (.invokestatic 29, 3) := dk_184 0 29 (dk_at dksX13_far_0 15 rfl rfl)
theorem dX13_far_18 : decode cX13_far 18 = .ok (.aload_n 0, 1) := dk_42 (dk_at dksX13_far_0 18 rfl rfl)
theorem dX13_far_19 : decode cX13_far 19 = .ok (.iload_n 1, 1) := dk_27 (dk_at dksX13_far_0 19 rfl rfl)
theorem dX13_far_20 : decode cX13_far 20 = .ok (.invokeinterface 19 2, 5) := by decide +kernel
theorem dX13_far_25 : decode cX13_far 25 = .ok (.aload_n 0, 1) := dk_42 (dk_at dksX13_far_1 5 rfl rfl)
theorem dX13_far_26 : decode cX13_far 26 = .ok (.iload_n 2, 1) := dk_28 (dk_at dksX13_far_1 6 rfl rfl)
theorem dX13_far_27 : decode cX13_far 27 = .ok (.invokeinterface 19 2, 5) := by decide +kernel
theorem dX13_far_32 : decode cX13_far 32 = .ok (.isub, 1) := dk_100 (dk_at dksX13_far_1 12 rfl rfl)
theorem dX13_far_33 : decode cX13_far 33 = .ok (.invokestatic 29, 3) := dk_184 0 29 (dk_at dksX13_far_1 13 rfl rfl)
theorem dX13_far_36 : decode cX13_far 36 = .ok (.iadd, 1) := dk_96 (dk_at dksX13_far_1 16 rfl rfl)
theorem dX13_far_37 : decode cX13_far 37 = .ok (.ireturn, 1) := dk_172 (dk_at dksX13_far_1 17 rfl rfl)
abbrev cX13_columnOf : ByteArray := prog_6_method_6_code
def yX13_columnOf : MethodName := ⟨RX13, "columnOf", "(I)I"⟩
def dkwX13_columnOf_0 : List UInt8 := [27, 42, 185, 0, 3, 1, 0, 112, 172]
abbrev dktX13_columnOf_0 : List UInt8 := dkwX13_columnOf_0 ++ []
theorem dksX13_columnOf_0 : cX13_columnOf.data.toList.drop 0 = dktX13_columnOf_0 := by decide +kernel
theorem dX13_columnOf_0 : decode cX13_columnOf 0 = .ok (.iload_n 1, 1) := dk_27 (dk_at dksX13_columnOf_0 0 rfl rfl)
theorem dX13_columnOf_1 : decode cX13_columnOf 1 = .ok (.aload_n 0, 1) := dk_42 (dk_at dksX13_columnOf_0 1 rfl rfl)
theorem dX13_columnOf_2 : decode cX13_columnOf 2 = .ok (.invokeinterface 3 1, 5) := by decide +kernel
theorem dX13_columnOf_7 : decode cX13_columnOf 7 = .ok (.irem, 1) := dk_112 (dk_at dksX13_columnOf_0 7 rfl rfl)
theorem dX13_columnOf_8 : decode cX13_columnOf 8 = .ok (.ireturn, 1) := dk_172 (dk_at dksX13_columnOf_0 8 rfl rfl)
abbrev cX13_rowOf : ByteArray := prog_6_method_7_code
def yX13_rowOf : MethodName := ⟨RX13, "rowOf", "(I)I"⟩
def dkwX13_rowOf_0 : List UInt8 := [27, 42, 185, 0, 3, 1, 0, 108, 172]
abbrev dktX13_rowOf_0 : List UInt8 := dkwX13_rowOf_0 ++ []
theorem dksX13_rowOf_0 : cX13_rowOf.data.toList.drop 0 = dktX13_rowOf_0 := by decide +kernel
theorem dX13_rowOf_0 : decode cX13_rowOf 0 = .ok (.iload_n 1, 1) := dk_27 (dk_at dksX13_rowOf_0 0 rfl rfl)
theorem dX13_rowOf_1 : decode cX13_rowOf 1 = .ok (.aload_n 0, 1) := dk_42 (dk_at dksX13_rowOf_0 1 rfl rfl)
theorem dX13_rowOf_2 : decode cX13_rowOf 2 = .ok (.invokeinterface 3 1, 5) := by decide +kernel
theorem dX13_rowOf_7 : decode cX13_rowOf 7 = .ok (.idiv, 1) := dk_108 (dk_at dksX13_rowOf_0 7 rfl rfl)
theorem dX13_rowOf_8 : decode cX13_rowOf 8 = .ok (.ireturn, 1) := dk_172 (dk_at dksX13_rowOf_0 8 rfl rfl)
abbrev cX13_next : ByteArray := prog_6_method_8_code
def yX13_next : MethodName := ⟨RX13, "next", "(II)I"⟩
def dkwX13_next_3 : List UInt8 := [167, 0, 4, 2, 172]
abbrev dktX13_next_3 : List UInt8 := dkwX13_next_3 ++ []
def dkwX13_next_2 : List UInt8 := [185, 0, 9, 1, 0, 4, 100, 184, 0, 25, 153, 0, 17, 42, 185, 0, 3, 1, 0, 21, 4, 104, 29, 96]
abbrev dktX13_next_2 : List UInt8 := dkwX13_next_2 ++ dktX13_next_3
def dkwX13_next_1 : List UInt8 := [96, 54, 4, 29, 3, 42, 185, 0, 3, 1, 0, 4, 100, 184, 0, 25, 153, 0, 34, 21, 4, 3, 42]
abbrev dktX13_next_1 : List UInt8 := dkwX13_next_1 ++ dktX13_next_2
def dkwX13_next_0 : List UInt8 := [42, 27, 185, 0, 12, 2, 0, 28, 184, 0, 16, 96, 62, 42, 27, 185, 0, 19, 2, 0, 28, 184, 0, 22]
abbrev dktX13_next_0 : List UInt8 := dkwX13_next_0 ++ dktX13_next_1
theorem dksX13_next_0 : cX13_next.data.toList.drop 0 = dktX13_next_0 := by decide +kernel
theorem dksX13_next_1 : cX13_next.data.toList.drop 24 = dktX13_next_1 := dk_seg dksX13_next_0 24 rfl rfl
theorem dksX13_next_2 : cX13_next.data.toList.drop 47 = dktX13_next_2 := dk_seg dksX13_next_1 23 rfl rfl
theorem dksX13_next_3 : cX13_next.data.toList.drop 71 = dktX13_next_3 := dk_seg dksX13_next_2 24 rfl rfl
theorem dX13_next_0 : decode cX13_next 0 = .ok (.aload_n 0, 1) := dk_42 (dk_at dksX13_next_0 0 rfl rfl)
theorem dX13_next_1 : decode cX13_next 1 = .ok (.iload_n 1, 1) := dk_27 (dk_at dksX13_next_0 1 rfl rfl)
theorem dX13_next_2 : decode cX13_next 2 = .ok (.invokeinterface 12 2, 5) := by decide +kernel
theorem dX13_next_7 : decode cX13_next 7 = .ok (.iload_n 2, 1) := dk_28 (dk_at dksX13_next_0 7 rfl rfl)
theorem dX13_next_8 : decode cX13_next 8 = .ok (.invokestatic 16, 3) := dk_184 0 16 (dk_at dksX13_next_0 8 rfl rfl)
theorem dX13_next_11 : decode cX13_next 11 = .ok (.iadd, 1) := dk_96 (dk_at dksX13_next_0 11 rfl rfl)
theorem dX13_next_12 : decode cX13_next 12 = .ok (.istore_n 3, 1) := dk_62 (dk_at dksX13_next_0 12 rfl rfl)
theorem dX13_next_13 : decode cX13_next 13 = .ok (.aload_n 0, 1) := dk_42 (dk_at dksX13_next_0 13 rfl rfl)
theorem dX13_next_14 : decode cX13_next 14 = .ok (.iload_n 1, 1) := dk_27 (dk_at dksX13_next_0 14 rfl rfl)
theorem dX13_next_15 : decode cX13_next 15 = .ok (.invokeinterface 19 2, 5) := by decide +kernel
theorem dX13_next_20 : decode cX13_next 20 = .ok (.iload_n 2, 1) := dk_28 (dk_at dksX13_next_0 20 rfl rfl)
theorem dX13_next_21 : decode cX13_next 21 = .ok (.invokestatic 22, 3) := dk_184 0 22 (dk_at dksX13_next_0 21 rfl rfl)
theorem dX13_next_24 : decode cX13_next 24 = .ok (.iadd, 1) := dk_96 (dk_at dksX13_next_1 0 rfl rfl)
theorem dX13_next_25 : decode cX13_next 25 = .ok (.istore 4, 2) := dk_54 4 (dk_at dksX13_next_1 1 rfl rfl)
theorem dX13_next_27 : decode cX13_next 27 = .ok (.iload_n 3, 1) := dk_29 (dk_at dksX13_next_1 3 rfl rfl)
theorem dX13_next_28 : decode cX13_next 28 = .ok (.iconst 0, 1) := dk_3 (dk_at dksX13_next_1 4 rfl rfl)
theorem dX13_next_29 : decode cX13_next 29 = .ok (.aload_n 0, 1) := dk_42 (dk_at dksX13_next_1 5 rfl rfl)
theorem dX13_next_30 : decode cX13_next 30 = .ok (.invokeinterface 3 1, 5) := by decide +kernel
theorem dX13_next_35 : decode cX13_next 35 = .ok (.iconst 1, 1) := dk_4 (dk_at dksX13_next_1 11 rfl rfl)
theorem dX13_next_36 : decode cX13_next 36 = .ok (.isub, 1) := dk_100 (dk_at dksX13_next_1 12 rfl rfl)
theorem dX13_next_37 : decode cX13_next 37 = .ok (.invokestatic 25, 3) := dk_184 0 25 (dk_at dksX13_next_1 13 rfl rfl)
theorem dX13_next_40 : decode cX13_next 40 = .ok (.ifCond .eq 34, 3) := dk_153 0 34 (dk_at dksX13_next_1 16 rfl rfl)
theorem dX13_next_43 : decode cX13_next 43 = .ok (.iload 4, 2) := dk_21 4 (dk_at dksX13_next_1 19 rfl rfl)
theorem dX13_next_45 : decode cX13_next 45 = .ok (.iconst 0, 1) := dk_3 (dk_at dksX13_next_1 21 rfl rfl)
theorem dX13_next_46 : decode cX13_next 46 = .ok (.aload_n 0, 1) := dk_42 (dk_at dksX13_next_1 22 rfl rfl)
theorem dX13_next_47 : decode cX13_next 47 = .ok (.invokeinterface 9 1, 5) := by decide +kernel
theorem dX13_next_52 : decode cX13_next 52 = .ok (.iconst 1, 1) := dk_4 (dk_at dksX13_next_2 5 rfl rfl)
theorem dX13_next_53 : decode cX13_next 53 = .ok (.isub, 1) := dk_100 (dk_at dksX13_next_2 6 rfl rfl)
theorem dX13_next_54 : decode cX13_next 54 = .ok (.invokestatic 25, 3) := dk_184 0 25 (dk_at dksX13_next_2 7 rfl rfl)
theorem dX13_next_57 : decode cX13_next 57 = .ok (.ifCond .eq 17, 3) := dk_153 0 17 (dk_at dksX13_next_2 10 rfl rfl)
theorem dX13_next_60 : decode cX13_next 60 = .ok (.aload_n 0, 1) := dk_42 (dk_at dksX13_next_2 13 rfl rfl)
theorem dX13_next_61 : decode cX13_next 61 = .ok (.invokeinterface 3 1, 5) := by decide +kernel
theorem dX13_next_66 : decode cX13_next 66 = .ok (.iload 4, 2) := dk_21 4 (dk_at dksX13_next_2 19 rfl rfl)
theorem dX13_next_68 : decode cX13_next 68 = .ok (.imul, 1) := dk_104 (dk_at dksX13_next_2 21 rfl rfl)
theorem dX13_next_69 : decode cX13_next 69 = .ok (.iload_n 3, 1) := dk_29 (dk_at dksX13_next_2 22 rfl rfl)
theorem dX13_next_70 : decode cX13_next 70 = .ok (.iadd, 1) := dk_96 (dk_at dksX13_next_2 23 rfl rfl)
theorem dX13_next_71 : decode cX13_next 71 = .ok (.goto 4, 3) := dk_167 0 4 (dk_at dksX13_next_3 0 rfl rfl)
theorem dX13_next_74 : decode cX13_next 74 = .ok (.iconst (-1), 1) := dk_2 (dk_at dksX13_next_3 3 rfl rfl)
theorem dX13_next_75 : decode cX13_next 75 = .ok (.ireturn, 1) := dk_172 (dk_at dksX13_next_3 4 rfl rfl)
abbrev cX13_columns : ByteArray := prog_6_method_3_code
def yX13_columns : MethodName := ⟨RX13, "columns", "(I)I"⟩
def dkwX13_columns_0 : List UInt8 := [26, 4, 160, 0, 7, 4, 167, 0, 13, 26, 6, 160, 0, 7, 2, 167, 0, 4, 3, 172]
abbrev dktX13_columns_0 : List UInt8 := dkwX13_columns_0 ++ []
theorem dksX13_columns_0 : cX13_columns.data.toList.drop 0 = dktX13_columns_0 := by decide +kernel
theorem dX13_columns_0 : decode cX13_columns 0 = .ok (.iload_n 0, 1) := dk_26 (dk_at dksX13_columns_0 0 rfl rfl)
theorem dX13_columns_1 : decode cX13_columns 1 = .ok (.iconst 1, 1) := dk_4 (dk_at dksX13_columns_0 1 rfl rfl)
theorem dX13_columns_2 : decode cX13_columns 2 = .ok (.if_icmp .ne 7, 3) := dk_160 0 7 (dk_at dksX13_columns_0 2 rfl rfl)
theorem dX13_columns_5 : decode cX13_columns 5 = .ok (.iconst 1, 1) := dk_4 (dk_at dksX13_columns_0 5 rfl rfl)
theorem dX13_columns_6 : decode cX13_columns 6 = .ok (.goto 13, 3) := dk_167 0 13 (dk_at dksX13_columns_0 6 rfl rfl)
theorem dX13_columns_9 : decode cX13_columns 9 = .ok (.iload_n 0, 1) := dk_26 (dk_at dksX13_columns_0 9 rfl rfl)
theorem dX13_columns_10 : decode cX13_columns 10 = .ok (.iconst 3, 1) := dk_6 (dk_at dksX13_columns_0 10 rfl rfl)
theorem dX13_columns_11 : decode cX13_columns 11 = .ok (.if_icmp .ne 7, 3) := dk_160 0 7 (dk_at dksX13_columns_0 11 rfl rfl)
theorem dX13_columns_14 : decode cX13_columns 14 = .ok (.iconst (-1), 1) := dk_2 (dk_at dksX13_columns_0 14 rfl rfl)
theorem dX13_columns_15 : decode cX13_columns 15 = .ok (.goto 4, 3) := dk_167 0 4 (dk_at dksX13_columns_0 15 rfl rfl)
theorem dX13_columns_18 : decode cX13_columns 18 = .ok (.iconst 0, 1) := dk_3 (dk_at dksX13_columns_0 18 rfl rfl)
theorem dX13_columns_19 : decode cX13_columns 19 = .ok (.ireturn, 1) := dk_172 (dk_at dksX13_columns_0 19 rfl rfl)
abbrev cX13_rows : ByteArray := prog_6_method_4_code
def yX13_rows : MethodName := ⟨RX13, "rows", "(I)I"⟩
def dkwX13_rows_0 : List UInt8 := [26, 5, 160, 0, 7, 4, 167, 0, 12, 26, 154, 0, 7, 2, 167, 0, 4, 3, 172]
abbrev dktX13_rows_0 : List UInt8 := dkwX13_rows_0 ++ []
theorem dksX13_rows_0 : cX13_rows.data.toList.drop 0 = dktX13_rows_0 := by decide +kernel
theorem dX13_rows_0 : decode cX13_rows 0 = .ok (.iload_n 0, 1) := dk_26 (dk_at dksX13_rows_0 0 rfl rfl)
theorem dX13_rows_1 : decode cX13_rows 1 = .ok (.iconst 2, 1) := dk_5 (dk_at dksX13_rows_0 1 rfl rfl)
theorem dX13_rows_2 : decode cX13_rows 2 = .ok (.if_icmp .ne 7, 3) := dk_160 0 7 (dk_at dksX13_rows_0 2 rfl rfl)
theorem dX13_rows_5 : decode cX13_rows 5 = .ok (.iconst 1, 1) := dk_4 (dk_at dksX13_rows_0 5 rfl rfl)
theorem dX13_rows_6 : decode cX13_rows 6 = .ok (.goto 12, 3) := dk_167 0 12 (dk_at dksX13_rows_0 6 rfl rfl)
theorem dX13_rows_9 : decode cX13_rows 9 = .ok (.iload_n 0, 1) := dk_26 (dk_at dksX13_rows_0 9 rfl rfl)
theorem dX13_rows_10 : decode cX13_rows 10 = .ok (.ifCond .ne 7, 3) := dk_154 0 7 (dk_at dksX13_rows_0 10 rfl rfl)
theorem dX13_rows_13 : decode cX13_rows 13 = .ok (.iconst (-1), 1) := dk_2 (dk_at dksX13_rows_0 13 rfl rfl)
theorem dX13_rows_14 : decode cX13_rows 14 = .ok (.goto 4, 3) := dk_167 0 4 (dk_at dksX13_rows_0 14 rfl rfl)
theorem dX13_rows_17 : decode cX13_rows 17 = .ok (.iconst 0, 1) := dk_3 (dk_at dksX13_rows_0 17 rfl rfl)
theorem dX13_rows_18 : decode cX13_rows 18 = .ok (.ireturn, 1) := dk_172 (dk_at dksX13_rows_0 18 rfl rfl)
abbrev cX13_round : ByteArray := prog_6_method_9_code
def yX13_round : MethodName := ⟨RX13, "round", "(II)I"⟩
def dkwX13_round_3 : List UInt8 := [29, 96, 172]
abbrev dktX13_round_3 : List UInt8 := dkwX13_round_3 ++ []
def dkwX13_round_2 : List UInt8 := [185, 0, 9, 1, 0, 96, 42, 185, 0, 9, 1, 0, 112, 54, 4, 42, 185, 0, 3, 1, 0, 21, 4, 104]
abbrev dktX13_round_2 : List UInt8 := dkwX13_round_2 ++ dktX13_round_3
def dkwX13_round_1 : List UInt8 := [185, 0, 3, 1, 0, 112, 62, 42, 27, 185, 0, 19, 2, 0, 28, 184, 0, 22, 96, 42]
abbrev dktX13_round_1 : List UInt8 := dkwX13_round_1 ++ dktX13_round_2
def dkwX13_round_0 : List UInt8 := [42, 27, 185, 0, 12, 2, 0, 28, 184, 0, 16, 96, 42, 185, 0, 3, 1, 0, 96, 42]
abbrev dktX13_round_0 : List UInt8 := dkwX13_round_0 ++ dktX13_round_1
theorem dksX13_round_0 : cX13_round.data.toList.drop 0 = dktX13_round_0 := by decide +kernel
theorem dksX13_round_1 : cX13_round.data.toList.drop 20 = dktX13_round_1 := dk_seg dksX13_round_0 20 rfl rfl
theorem dksX13_round_2 : cX13_round.data.toList.drop 40 = dktX13_round_2 := dk_seg dksX13_round_1 20 rfl rfl
theorem dksX13_round_3 : cX13_round.data.toList.drop 64 = dktX13_round_3 := dk_seg dksX13_round_2 24 rfl rfl
theorem dX13_round_0 : decode cX13_round 0 = .ok (.aload_n 0, 1) := dk_42 (dk_at dksX13_round_0 0 rfl rfl)
theorem dX13_round_1 : decode cX13_round 1 = .ok (.iload_n 1, 1) := dk_27 (dk_at dksX13_round_0 1 rfl rfl)
theorem dX13_round_2 : decode cX13_round 2 = .ok (.invokeinterface 12 2, 5) := by decide +kernel
theorem dX13_round_7 : decode cX13_round 7 = .ok (.iload_n 2, 1) := dk_28 (dk_at dksX13_round_0 7 rfl rfl)
theorem dX13_round_8 : decode cX13_round 8 = .ok (.invokestatic 16, 3) := dk_184 0 16 (dk_at dksX13_round_0 8 rfl rfl)
theorem dX13_round_11 : decode cX13_round 11 = .ok (.iadd, 1) := dk_96 (dk_at dksX13_round_0 11 rfl rfl)
theorem dX13_round_12 : decode cX13_round 12 = .ok (.aload_n 0, 1) := dk_42 (dk_at dksX13_round_0 12 rfl rfl)
theorem dX13_round_13 : decode cX13_round 13 = .ok (.invokeinterface 3 1, 5) := by decide +kernel
theorem dX13_round_18 : decode cX13_round 18 = .ok (.iadd, 1) := dk_96 (dk_at dksX13_round_0 18 rfl rfl)
theorem dX13_round_19 : decode cX13_round 19 = .ok (.aload_n 0, 1) := dk_42 (dk_at dksX13_round_0 19 rfl rfl)
theorem dX13_round_20 : decode cX13_round 20 = .ok (.invokeinterface 3 1, 5) := by decide +kernel
theorem dX13_round_25 : decode cX13_round 25 = .ok (.irem, 1) := dk_112 (dk_at dksX13_round_1 5 rfl rfl)
theorem dX13_round_26 : decode cX13_round 26 = .ok (.istore_n 3, 1) := dk_62 (dk_at dksX13_round_1 6 rfl rfl)
theorem dX13_round_27 : decode cX13_round 27 = .ok (.aload_n 0, 1) := dk_42 (dk_at dksX13_round_1 7 rfl rfl)
theorem dX13_round_28 : decode cX13_round 28 = .ok (.iload_n 1, 1) := dk_27 (dk_at dksX13_round_1 8 rfl rfl)
theorem dX13_round_29 : decode cX13_round 29 = .ok (.invokeinterface 19 2, 5) := by decide +kernel
theorem dX13_round_34 : decode cX13_round 34 = .ok (.iload_n 2, 1) := dk_28 (dk_at dksX13_round_1 14 rfl rfl)
theorem dX13_round_35 : decode cX13_round 35 = .ok (.invokestatic 22, 3) := dk_184 0 22 (dk_at dksX13_round_1 15 rfl rfl)
theorem dX13_round_38 : decode cX13_round 38 = .ok (.iadd, 1) := dk_96 (dk_at dksX13_round_1 18 rfl rfl)
theorem dX13_round_39 : decode cX13_round 39 = .ok (.aload_n 0, 1) := dk_42 (dk_at dksX13_round_1 19 rfl rfl)
theorem dX13_round_40 : decode cX13_round 40 = .ok (.invokeinterface 9 1, 5) := by decide +kernel
theorem dX13_round_45 : decode cX13_round 45 = .ok (.iadd, 1) := dk_96 (dk_at dksX13_round_2 5 rfl rfl)
theorem dX13_round_46 : decode cX13_round 46 = .ok (.aload_n 0, 1) := dk_42 (dk_at dksX13_round_2 6 rfl rfl)
theorem dX13_round_47 : decode cX13_round 47 = .ok (.invokeinterface 9 1, 5) := by decide +kernel
theorem dX13_round_52 : decode cX13_round 52 = .ok (.irem, 1) := dk_112 (dk_at dksX13_round_2 12 rfl rfl)
theorem dX13_round_53 : decode cX13_round 53 = .ok (.istore 4, 2) := dk_54 4 (dk_at dksX13_round_2 13 rfl rfl)
theorem dX13_round_55 : decode cX13_round 55 = .ok (.aload_n 0, 1) := dk_42 (dk_at dksX13_round_2 15 rfl rfl)
theorem dX13_round_56 : decode cX13_round 56 = .ok (.invokeinterface 3 1, 5) := by decide +kernel
theorem dX13_round_61 : decode cX13_round 61 = .ok (.iload 4, 2) := dk_21 4 (dk_at dksX13_round_2 21 rfl rfl)
theorem dX13_round_63 : decode cX13_round 63 = .ok (.imul, 1) := dk_104 (dk_at dksX13_round_2 23 rfl rfl)
theorem dX13_round_64 : decode cX13_round 64 = .ok (.iload_n 3, 1) := dk_29 (dk_at dksX13_round_3 0 rfl rfl)
theorem dX13_round_65 : decode cX13_round 65 = .ok (.iadd, 1) := dk_96 (dk_at dksX13_round_3 1 rfl rfl)
theorem dX13_round_66 : decode cX13_round 66 = .ok (.ireturn, 1) := dk_172 (dk_at dksX13_round_3 2 rfl rfl)
abbrev cX14_init : ByteArray := prog_14_method_1_code
def yX14_init : MethodName := ⟨RX14, "<init>", "(LMistCouriers$State;I)V"⟩
def dkwX14_init_1 : List UInt8 := [181, 0, 31, 42, 180, 0, 31, 28, 4, 84, 177]
abbrev dktX14_init_1 : List UInt8 := dkwX14_init_1 ++ []
def dkwX14_init_0 : List UInt8 := [42, 183, 0, 3, 42, 43, 182, 0, 9, 181, 0, 15, 42, 43, 180, 0, 21, 182, 0, 25, 188, 4]
abbrev dktX14_init_0 : List UInt8 := dkwX14_init_0 ++ dktX14_init_1
theorem dksX14_init_0 : cX14_init.data.toList.drop 0 = dktX14_init_0 := by decide +kernel
theorem dksX14_init_1 : cX14_init.data.toList.drop 22 = dktX14_init_1 := dk_seg dksX14_init_0 22 rfl rfl
theorem dX14_init_0 : decode cX14_init 0 = .ok (.aload_n 0, 1) := dk_42 (dk_at dksX14_init_0 0 rfl rfl)
theorem dX14_init_1 : decode cX14_init 1 = .ok (.invokespecial 3, 3) := dk_183 0 3 (dk_at dksX14_init_0 1 rfl rfl)
theorem dX14_init_4 : decode cX14_init 4 = .ok (.aload_n 0, 1) := dk_42 (dk_at dksX14_init_0 4 rfl rfl)
theorem dX14_init_5 : decode cX14_init 5 = .ok (.aload_n 1, 1) := dk_43 (dk_at dksX14_init_0 5 rfl rfl)
theorem dX14_init_6 : decode cX14_init 6 = .ok (.invokevirtual 9, 3) := dk_182 0 9 (dk_at dksX14_init_0 6 rfl rfl)
theorem dX14_init_9 : decode cX14_init 9 = .ok (.putfield 15, 3) := dk_181 0 15 (dk_at dksX14_init_0 9 rfl rfl)
theorem dX14_init_12 : decode cX14_init 12 = .ok (.aload_n 0, 1) := dk_42 (dk_at dksX14_init_0 12 rfl rfl)
theorem dX14_init_13 : decode cX14_init 13 = .ok (.aload_n 1, 1) := dk_43 (dk_at dksX14_init_0 13 rfl rfl)
theorem dX14_init_14 : decode cX14_init 14 = .ok (.getfield 21, 3) := dk_180 0 21 (dk_at dksX14_init_0 14 rfl rfl)
theorem dX14_init_17 : decode cX14_init 17 = .ok (.invokevirtual 25, 3) := dk_182 0 25 (dk_at dksX14_init_0 17 rfl rfl)
theorem dX14_init_20 : decode cX14_init 20 = .ok (.newarray .boolean, 2) := dk_188_4 (dk_at dksX14_init_0 20 rfl rfl)
theorem dX14_init_22 : decode cX14_init 22 = .ok (.putfield 31, 3) := dk_181 0 31 (dk_at dksX14_init_1 0 rfl rfl)
theorem dX14_init_25 : decode cX14_init 25 = .ok (.aload_n 0, 1) := dk_42 (dk_at dksX14_init_1 3 rfl rfl)
theorem dX14_init_26 : decode cX14_init 26 = .ok (.getfield 31, 3) := dk_180 0 31 (dk_at dksX14_init_1 4 rfl rfl)
theorem dX14_init_29 : decode cX14_init 29 = .ok (.iload_n 2, 1) := dk_28 (dk_at dksX14_init_1 7 rfl rfl)
theorem dX14_init_30 : decode cX14_init 30 = .ok (.iconst 1, 1) := dk_4 (dk_at dksX14_init_1 8 rfl rfl)
theorem dX14_init_31 : decode cX14_init 31 = .ok (.bastore, 1) := dk_84 (dk_at dksX14_init_1 9 rfl rfl)
theorem dX14_init_32 : decode cX14_init 32 = .ok (.return_, 1) := dk_177 (dk_at dksX14_init_1 10 rfl rfl)
abbrev cX14_goesOn : ByteArray := prog_14_method_2_code
def yX14_goesOn : MethodName := ⟨RX14, "goesOn", "()V"⟩
def dkwX14_goesOn_5 : List UInt8 := [84, 132, 2, 1, 167, 255, 219, 42, 43, 181, 0, 31, 177]
abbrev dktX14_goesOn_5 : List UInt8 := dkwX14_goesOn_5 ++ []
def dkwX14_goesOn_4 : List UInt8 := [43, 28, 43, 28, 51, 153, 0, 18, 42, 180, 0, 15, 28, 182, 0, 42, 154, 0, 7, 4, 167, 0, 4, 3]
abbrev dktX14_goesOn_4 : List UInt8 := dkwX14_goesOn_4 ++ dktX14_goesOn_5
def dkwX14_goesOn_3 : List UInt8 := [84, 132, 3, 1, 167, 255, 226, 132, 2, 1, 167, 255, 193, 3, 61, 28, 42, 180, 0, 31, 190, 162, 0, 34]
abbrev dktX14_goesOn_3 : List UInt8 := dkwX14_goesOn_3 ++ dktX14_goesOn_4
def dkwX14_goesOn_2 : List UInt8 := [162, 0, 31, 42, 180, 0, 15, 28, 29, 182, 0, 38, 54, 4, 21, 4, 2, 159, 0, 8, 43, 21, 4, 4]
abbrev dktX14_goesOn_2 : List UInt8 := dkwX14_goesOn_2 ++ dktX14_goesOn_3
def dkwX14_goesOn_1 : List UInt8 := [162, 0, 60, 42, 180, 0, 31, 28, 51, 154, 0, 6, 167, 0, 42, 43, 28, 4, 84, 3, 62, 29, 7]
abbrev dktX14_goesOn_1 : List UInt8 := dkwX14_goesOn_1 ++ dktX14_goesOn_2
def dkwX14_goesOn_0 : List UInt8 := [42, 180, 0, 15, 182, 0, 35, 42, 180, 0, 31, 190, 188, 4, 76, 3, 61, 28, 42, 180, 0, 31, 190]
abbrev dktX14_goesOn_0 : List UInt8 := dkwX14_goesOn_0 ++ dktX14_goesOn_1
theorem dksX14_goesOn_0 : cX14_goesOn.data.toList.drop 0 = dktX14_goesOn_0 := by decide +kernel
theorem dksX14_goesOn_1 : cX14_goesOn.data.toList.drop 23 = dktX14_goesOn_1 := dk_seg dksX14_goesOn_0 23 rfl rfl
theorem dksX14_goesOn_2 : cX14_goesOn.data.toList.drop 46 = dktX14_goesOn_2 := dk_seg dksX14_goesOn_1 23 rfl rfl
theorem dksX14_goesOn_3 : cX14_goesOn.data.toList.drop 70 = dktX14_goesOn_3 := dk_seg dksX14_goesOn_2 24 rfl rfl
theorem dksX14_goesOn_4 : cX14_goesOn.data.toList.drop 94 = dktX14_goesOn_4 := dk_seg dksX14_goesOn_3 24 rfl rfl
theorem dksX14_goesOn_5 : cX14_goesOn.data.toList.drop 118 = dktX14_goesOn_5 := dk_seg dksX14_goesOn_4 24 rfl rfl
theorem dX14_goesOn_0 : decode cX14_goesOn 0 = .ok (.aload_n 0, 1) := dk_42 (dk_at dksX14_goesOn_0 0 rfl rfl)
theorem dX14_goesOn_1 : decode cX14_goesOn 1 = .ok (.getfield 15, 3) := dk_180 0 15 (dk_at dksX14_goesOn_0 1 rfl rfl)
theorem dX14_goesOn_4 : decode cX14_goesOn 4 = .ok (.invokevirtual 35, 3) := dk_182 0 35 (dk_at dksX14_goesOn_0 4 rfl rfl)
theorem dX14_goesOn_7 : decode cX14_goesOn 7 = .ok (.aload_n 0, 1) := dk_42 (dk_at dksX14_goesOn_0 7 rfl rfl)
theorem dX14_goesOn_8 : decode cX14_goesOn 8 = .ok (.getfield 31, 3) := dk_180 0 31 (dk_at dksX14_goesOn_0 8 rfl rfl)
theorem dX14_goesOn_11 : decode cX14_goesOn 11 = .ok (.arraylength, 1) := dk_190 (dk_at dksX14_goesOn_0 11 rfl rfl)
theorem dX14_goesOn_12 : decode cX14_goesOn 12 = .ok (.newarray .boolean, 2) := dk_188_4 (dk_at dksX14_goesOn_0 12 rfl rfl)
theorem dX14_goesOn_14 : decode cX14_goesOn 14 = .ok (.astore_n 1, 1) := dk_76 (dk_at dksX14_goesOn_0 14 rfl rfl)
theorem dX14_goesOn_15 : decode cX14_goesOn 15 = .ok (.iconst 0, 1) := dk_3 (dk_at dksX14_goesOn_0 15 rfl rfl)
theorem dX14_goesOn_16 : decode cX14_goesOn 16 = .ok (.istore_n 2, 1) := dk_61 (dk_at dksX14_goesOn_0 16 rfl rfl)
theorem dX14_goesOn_17 : decode cX14_goesOn 17 = .ok (.iload_n 2, 1) := dk_28 (dk_at dksX14_goesOn_0 17 rfl rfl)
theorem dX14_goesOn_18 : decode cX14_goesOn 18 = .ok (.aload_n 0, 1) := dk_42 (dk_at dksX14_goesOn_0 18 rfl rfl)
theorem dX14_goesOn_19 : decode cX14_goesOn 19 = .ok (.getfield 31, 3) := dk_180 0 31 (dk_at dksX14_goesOn_0 19 rfl rfl)
theorem dX14_goesOn_22 : decode cX14_goesOn 22 = .ok (.arraylength, 1) := dk_190 (dk_at dksX14_goesOn_0 22 rfl rfl)
theorem dX14_goesOn_23 : decode cX14_goesOn 23 = .ok (.if_icmp .ge 60, 3) := dk_162 0 60 (dk_at dksX14_goesOn_1 0 rfl rfl)
theorem dX14_goesOn_26 : decode cX14_goesOn 26 = .ok (.aload_n 0, 1) := dk_42 (dk_at dksX14_goesOn_1 3 rfl rfl)
theorem dX14_goesOn_27 : decode cX14_goesOn 27 = .ok (.getfield 31, 3) := dk_180 0 31 (dk_at dksX14_goesOn_1 4 rfl rfl)
theorem dX14_goesOn_30 : decode cX14_goesOn 30 = .ok (.iload_n 2, 1) := dk_28 (dk_at dksX14_goesOn_1 7 rfl rfl)
theorem dX14_goesOn_31 : decode cX14_goesOn 31 = .ok (.baload, 1) := dk_51 (dk_at dksX14_goesOn_1 8 rfl rfl)
theorem dX14_goesOn_32 : decode cX14_goesOn 32 = .ok (.ifCond .ne 6, 3) := dk_154 0 6 (dk_at dksX14_goesOn_1 9 rfl rfl)
theorem dX14_goesOn_35 : decode cX14_goesOn 35 = .ok (.goto 42, 3) := dk_167 0 42 (dk_at dksX14_goesOn_1 12 rfl rfl)
theorem dX14_goesOn_38 : decode cX14_goesOn 38 = .ok (.aload_n 1, 1) := dk_43 (dk_at dksX14_goesOn_1 15 rfl rfl)
theorem dX14_goesOn_39 : decode cX14_goesOn 39 = .ok (.iload_n 2, 1) := dk_28 (dk_at dksX14_goesOn_1 16 rfl rfl)
theorem dX14_goesOn_40 : decode cX14_goesOn 40 = .ok (.iconst 1, 1) := dk_4 (dk_at dksX14_goesOn_1 17 rfl rfl)
theorem dX14_goesOn_41 : decode cX14_goesOn 41 = .ok (.bastore, 1) := dk_84 (dk_at dksX14_goesOn_1 18 rfl rfl)
theorem dX14_goesOn_42 : decode cX14_goesOn 42 = .ok (.iconst 0, 1) := dk_3 (dk_at dksX14_goesOn_1 19 rfl rfl)
theorem dX14_goesOn_43 : decode cX14_goesOn 43 = .ok (.istore_n 3, 1) := dk_62 (dk_at dksX14_goesOn_1 20 rfl rfl)
theorem dX14_goesOn_44 : decode cX14_goesOn 44 = .ok (.iload_n 3, 1) := dk_29 (dk_at dksX14_goesOn_1 21 rfl rfl)
theorem dX14_goesOn_45 : decode cX14_goesOn 45 = .ok (.iconst 4, 1) := dk_7 (dk_at dksX14_goesOn_1 22 rfl rfl)
theorem dX14_goesOn_46 : decode cX14_goesOn 46 = .ok (.if_icmp .ge 31, 3) := dk_162 0 31 (dk_at dksX14_goesOn_2 0 rfl rfl)
theorem dX14_goesOn_49 : decode cX14_goesOn 49 = .ok (.aload_n 0, 1) := dk_42 (dk_at dksX14_goesOn_2 3 rfl rfl)
theorem dX14_goesOn_50 : decode cX14_goesOn 50 = .ok (.getfield 15, 3) := dk_180 0 15 (dk_at dksX14_goesOn_2 4 rfl rfl)
theorem dX14_goesOn_53 : decode cX14_goesOn 53 = .ok (.iload_n 2, 1) := dk_28 (dk_at dksX14_goesOn_2 7 rfl rfl)
theorem dX14_goesOn_54 : decode cX14_goesOn 54 = .ok (.iload_n 3, 1) := dk_29 (dk_at dksX14_goesOn_2 8 rfl rfl)
theorem dX14_goesOn_55 : decode cX14_goesOn 55 = .ok (.invokevirtual 38, 3) := dk_182 0 38 (dk_at dksX14_goesOn_2 9 rfl rfl)
theorem dX14_goesOn_58 : decode cX14_goesOn 58 = .ok (.istore 4, 2) := dk_54 4 (dk_at dksX14_goesOn_2 12 rfl rfl)
theorem dX14_goesOn_60 : decode cX14_goesOn 60 = .ok (.iload 4, 2) := dk_21 4 (dk_at dksX14_goesOn_2 14 rfl rfl)
theorem dX14_goesOn_62 : decode cX14_goesOn 62 = .ok (.iconst (-1), 1) := dk_2 (dk_at dksX14_goesOn_2 16 rfl rfl)
theorem dX14_goesOn_63 : decode cX14_goesOn 63 = .ok (.if_icmp .eq 8, 3) := dk_159 0 8 (dk_at dksX14_goesOn_2 17 rfl rfl)
theorem dX14_goesOn_66 : decode cX14_goesOn 66 = .ok (.aload_n 1, 1) := dk_43 (dk_at dksX14_goesOn_2 20 rfl rfl)
theorem dX14_goesOn_67 : decode cX14_goesOn 67 = .ok (.iload 4, 2) := dk_21 4 (dk_at dksX14_goesOn_2 21 rfl rfl)
theorem dX14_goesOn_69 : decode cX14_goesOn 69 = .ok (.iconst 1, 1) := dk_4 (dk_at dksX14_goesOn_2 23 rfl rfl)
theorem dX14_goesOn_70 : decode cX14_goesOn 70 = .ok (.bastore, 1) := dk_84 (dk_at dksX14_goesOn_3 0 rfl rfl)
theorem dX14_goesOn_71 : decode cX14_goesOn 71 = .ok (.iinc 3 1, 3) := dk_132 3 1 (dk_at dksX14_goesOn_3 1 rfl rfl)
theorem dX14_goesOn_74 : decode cX14_goesOn 74 = .ok (.goto (-30), 3) := dk_167 255 226 (dk_at dksX14_goesOn_3 4 rfl rfl)
theorem dX14_goesOn_77 : decode cX14_goesOn 77 = .ok (.iinc 2 1, 3) := dk_132 2 1 (dk_at dksX14_goesOn_3 7 rfl rfl)
theorem dX14_goesOn_80 : decode cX14_goesOn 80 = .ok (.goto (-63), 3) := dk_167 255 193 (dk_at dksX14_goesOn_3 10 rfl rfl)
theorem dX14_goesOn_83 : decode cX14_goesOn 83 = .ok (.iconst 0, 1) := dk_3 (dk_at dksX14_goesOn_3 13 rfl rfl)
theorem dX14_goesOn_84 : decode cX14_goesOn 84 = .ok (.istore_n 2, 1) := dk_61 (dk_at dksX14_goesOn_3 14 rfl rfl)
theorem dX14_goesOn_85 : decode cX14_goesOn 85 = .ok (.iload_n 2, 1) := dk_28 (dk_at dksX14_goesOn_3 15 rfl rfl)
theorem dX14_goesOn_86 : decode cX14_goesOn 86 = .ok (.aload_n 0, 1) := dk_42 (dk_at dksX14_goesOn_3 16 rfl rfl)
theorem dX14_goesOn_87 : decode cX14_goesOn 87 = .ok (.getfield 31, 3) := dk_180 0 31 (dk_at dksX14_goesOn_3 17 rfl rfl)
theorem dX14_goesOn_90 : decode cX14_goesOn 90 = .ok (.arraylength, 1) := dk_190 (dk_at dksX14_goesOn_3 20 rfl rfl)
theorem dX14_goesOn_91 : decode cX14_goesOn 91 = .ok (.if_icmp .ge 34, 3) := dk_162 0 34 (dk_at dksX14_goesOn_3 21 rfl rfl)
theorem dX14_goesOn_94 : decode cX14_goesOn 94 = .ok (.aload_n 1, 1) := dk_43 (dk_at dksX14_goesOn_4 0 rfl rfl)
theorem dX14_goesOn_95 : decode cX14_goesOn 95 = .ok (.iload_n 2, 1) := dk_28 (dk_at dksX14_goesOn_4 1 rfl rfl)
theorem dX14_goesOn_96 : decode cX14_goesOn 96 = .ok (.aload_n 1, 1) := dk_43 (dk_at dksX14_goesOn_4 2 rfl rfl)
theorem dX14_goesOn_97 : decode cX14_goesOn 97 = .ok (.iload_n 2, 1) := dk_28 (dk_at dksX14_goesOn_4 3 rfl rfl)
theorem dX14_goesOn_98 : decode cX14_goesOn 98 = .ok (.baload, 1) := dk_51 (dk_at dksX14_goesOn_4 4 rfl rfl)
theorem dX14_goesOn_99 : decode cX14_goesOn 99 = .ok (.ifCond .eq 18, 3) := dk_153 0 18 (dk_at dksX14_goesOn_4 5 rfl rfl)
theorem dX14_goesOn_102 : decode cX14_goesOn 102 = .ok (.aload_n 0, 1) := dk_42 (dk_at dksX14_goesOn_4 8 rfl rfl)
theorem dX14_goesOn_103 : decode cX14_goesOn 103 = .ok (.getfield 15, 3) := dk_180 0 15 (dk_at dksX14_goesOn_4 9 rfl rfl)
theorem dX14_goesOn_106 : decode cX14_goesOn 106 = .ok (.iload_n 2, 1) := dk_28 (dk_at dksX14_goesOn_4 12 rfl rfl)
theorem dX14_goesOn_107 : decode cX14_goesOn 107 = .ok (.invokevirtual 42, 3) := dk_182 0 42 (dk_at dksX14_goesOn_4 13 rfl rfl)
theorem dX14_goesOn_110 : decode cX14_goesOn 110 = .ok (.ifCond .ne 7, 3) := dk_154 0 7 (dk_at dksX14_goesOn_4 16 rfl rfl)
theorem dX14_goesOn_113 : decode cX14_goesOn 113 = .ok (.iconst 1, 1) := dk_4 (dk_at dksX14_goesOn_4 19 rfl rfl)
theorem dX14_goesOn_114 : decode cX14_goesOn 114 = .ok (.goto 4, 3) := dk_167 0 4 (dk_at dksX14_goesOn_4 20 rfl rfl)
theorem dX14_goesOn_117 : decode cX14_goesOn 117 = .ok (.iconst 0, 1) := dk_3 (dk_at dksX14_goesOn_4 23 rfl rfl)
theorem dX14_goesOn_118 : decode cX14_goesOn 118 = .ok (.bastore, 1) := dk_84 (dk_at dksX14_goesOn_5 0 rfl rfl)
theorem dX14_goesOn_119 : decode cX14_goesOn 119 = .ok (.iinc 2 1, 3) := dk_132 2 1 (dk_at dksX14_goesOn_5 1 rfl rfl)
theorem dX14_goesOn_122 : decode cX14_goesOn 122 = .ok (.goto (-37), 3) := dk_167 255 219 (dk_at dksX14_goesOn_5 4 rfl rfl)
theorem dX14_goesOn_125 : decode cX14_goesOn 125 = .ok (.aload_n 0, 1) := dk_42 (dk_at dksX14_goesOn_5 7 rfl rfl)
theorem dX14_goesOn_126 : decode cX14_goesOn 126 = .ok (.aload_n 1, 1) := dk_43 (dk_at dksX14_goesOn_5 8 rfl rfl)
theorem dX14_goesOn_127 : decode cX14_goesOn 127 = .ok (.putfield 31, 3) := dk_181 0 31 (dk_at dksX14_goesOn_5 9 rfl rfl)
theorem dX14_goesOn_130 : decode cX14_goesOn 130 = .ok (.return_, 1) := dk_177 (dk_at dksX14_goesOn_5 12 rfl rfl)
abbrev cX14_many : ByteArray := prog_14_method_3_code
def yX14_many : MethodName := ⟨RX14, "many", "()I"⟩
def dkwX14_many_1 : List UInt8 := [54, 5, 27, 21, 5, 184, 0, 46, 96, 60, 132, 4, 1, 167, 255, 233, 27, 172]
abbrev dktX14_many_1 : List UInt8 := dkwX14_many_1 ++ []
def dkwX14_many_0 : List UInt8 := [3, 60, 42, 180, 0, 31, 77, 44, 190, 62, 3, 54, 4, 21, 4, 29, 162, 0, 23, 44, 21, 4, 51]
abbrev dktX14_many_0 : List UInt8 := dkwX14_many_0 ++ dktX14_many_1
theorem dksX14_many_0 : cX14_many.data.toList.drop 0 = dktX14_many_0 := by decide +kernel
theorem dksX14_many_1 : cX14_many.data.toList.drop 23 = dktX14_many_1 := dk_seg dksX14_many_0 23 rfl rfl
theorem dX14_many_0 : decode cX14_many 0 = .ok (.iconst 0, 1) := dk_3 (dk_at dksX14_many_0 0 rfl rfl)
theorem dX14_many_1 : decode cX14_many 1 = .ok (.istore_n 1, 1) := dk_60 (dk_at dksX14_many_0 1 rfl rfl)
theorem dX14_many_2 : decode cX14_many 2 = .ok (.aload_n 0, 1) := dk_42 (dk_at dksX14_many_0 2 rfl rfl)
theorem dX14_many_3 : decode cX14_many 3 = .ok (.getfield 31, 3) := dk_180 0 31 (dk_at dksX14_many_0 3 rfl rfl)
theorem dX14_many_6 : decode cX14_many 6 = .ok (.astore_n 2, 1) := dk_77 (dk_at dksX14_many_0 6 rfl rfl)
theorem dX14_many_7 : decode cX14_many 7 = .ok (.aload_n 2, 1) := dk_44 (dk_at dksX14_many_0 7 rfl rfl)
theorem dX14_many_8 : decode cX14_many 8 = .ok (.arraylength, 1) := dk_190 (dk_at dksX14_many_0 8 rfl rfl)
theorem dX14_many_9 : decode cX14_many 9 = .ok (.istore_n 3, 1) := dk_62 (dk_at dksX14_many_0 9 rfl rfl)
theorem dX14_many_10 : decode cX14_many 10 = .ok (.iconst 0, 1) := dk_3 (dk_at dksX14_many_0 10 rfl rfl)
theorem dX14_many_11 : decode cX14_many 11 = .ok (.istore 4, 2) := dk_54 4 (dk_at dksX14_many_0 11 rfl rfl)
theorem dX14_many_13 : decode cX14_many 13 = .ok (.iload 4, 2) := dk_21 4 (dk_at dksX14_many_0 13 rfl rfl)
theorem dX14_many_15 : decode cX14_many 15 = .ok (.iload_n 3, 1) := dk_29 (dk_at dksX14_many_0 15 rfl rfl)
theorem dX14_many_16 : decode cX14_many 16 = .ok (.if_icmp .ge 23, 3) := dk_162 0 23 (dk_at dksX14_many_0 16 rfl rfl)
theorem dX14_many_19 : decode cX14_many 19 = .ok (.aload_n 2, 1) := dk_44 (dk_at dksX14_many_0 19 rfl rfl)
theorem dX14_many_20 : decode cX14_many 20 = .ok (.iload 4, 2) := dk_21 4 (dk_at dksX14_many_0 20 rfl rfl)
theorem dX14_many_22 : decode cX14_many 22 = .ok (.baload, 1) := dk_51 (dk_at dksX14_many_0 22 rfl rfl)
theorem dX14_many_23 : decode cX14_many 23 = .ok (.istore 5, 2) := dk_54 5 (dk_at dksX14_many_1 0 rfl rfl)
theorem dX14_many_25 : decode cX14_many 25 = .ok (.iload_n 1, 1) := dk_27 (dk_at dksX14_many_1 2 rfl rfl)
theorem dX14_many_26 : decode cX14_many 26 = .ok (.iload 5, 2) := dk_21 5 (dk_at dksX14_many_1 3 rfl rfl)
theorem dX14_many_28 : decode cX14_many 28 = .ok (.invokestatic 46, 3) := dk_184 0 46 (dk_at dksX14_many_1 5 rfl rfl)
theorem dX14_many_31 : decode cX14_many 31 = .ok (.iadd, 1) := dk_96 (dk_at dksX14_many_1 8 rfl rfl)
theorem dX14_many_32 : decode cX14_many 32 = .ok (.istore_n 1, 1) := dk_60 (dk_at dksX14_many_1 9 rfl rfl)
theorem dX14_many_33 : decode cX14_many 33 = .ok (.iinc 4 1, 3) := dk_132 4 1 (dk_at dksX14_many_1 10 rfl rfl)
theorem dX14_many_36 : decode cX14_many 36 = .ok (.goto (-23), 3) := dk_167 255 233 (dk_at dksX14_many_1 13 rfl rfl)
theorem dX14_many_39 : decode cX14_many 39 = .ok (.iload_n 1, 1) := dk_27 (dk_at dksX14_many_1 16 rfl rfl)
theorem dX14_many_40 : decode cX14_many 40 = .ok (.ireturn, 1) := dk_172 (dk_at dksX14_many_1 17 rfl rfl)
abbrev cX2_init : ByteArray := prog_11_method_1_code
def yX2_init : MethodName := ⟨RX2, "<init>", "(LMistCouriers$Square;I)V"⟩
def dkwX2_init_3 : List UInt8 := [177]
abbrev dktX2_init_3 : List UInt8 := dkwX2_init_3 ++ []
def dkwX2_init_2 : List UInt8 := [183, 0, 11, 181, 0, 26, 42, 16, 7, 188, 10, 181, 0, 29, 42, 43, 181, 0, 33, 42, 28, 181, 0, 37]
abbrev dktX2_init_2 : List UInt8 := dkwX2_init_2 ++ dktX2_init_3
def dkwX2_init_1 : List UInt8 := [183, 0, 11, 181, 0, 20, 42, 187, 0, 9, 89, 5, 183, 0, 11, 181, 0, 23, 42, 187, 0, 9, 89, 5]
abbrev dktX2_init_1 : List UInt8 := dkwX2_init_1 ++ dktX2_init_2
def dkwX2_init_0 : List UInt8 := [42, 183, 0, 3, 42, 187, 0, 9, 89, 5, 183, 0, 11, 181, 0, 14, 42, 187, 0, 9, 89, 5]
abbrev dktX2_init_0 : List UInt8 := dkwX2_init_0 ++ dktX2_init_1
theorem dksX2_init_0 : cX2_init.data.toList.drop 0 = dktX2_init_0 := by decide +kernel
theorem dksX2_init_1 : cX2_init.data.toList.drop 22 = dktX2_init_1 := dk_seg dksX2_init_0 22 rfl rfl
theorem dksX2_init_2 : cX2_init.data.toList.drop 46 = dktX2_init_2 := dk_seg dksX2_init_1 24 rfl rfl
theorem dksX2_init_3 : cX2_init.data.toList.drop 70 = dktX2_init_3 := dk_seg dksX2_init_2 24 rfl rfl
theorem dX2_init_0 : decode cX2_init 0 = .ok (.aload_n 0, 1) := dk_42 (dk_at dksX2_init_0 0 rfl rfl)
theorem dX2_init_1 : decode cX2_init 1 = .ok (.invokespecial 3, 3) := dk_183 0 3 (dk_at dksX2_init_0 1 rfl rfl)
theorem dX2_init_4 : decode cX2_init 4 = .ok (.aload_n 0, 1) := dk_42 (dk_at dksX2_init_0 4 rfl rfl)
theorem dX2_init_5 : decode cX2_init 5 = .ok (.new 9, 3) := dk_187 0 9 (dk_at dksX2_init_0 5 rfl rfl)
theorem dX2_init_8 : decode cX2_init 8 = .ok (.dup, 1) := dk_89 (dk_at dksX2_init_0 8 rfl rfl)
theorem dX2_init_9 : decode cX2_init 9 = .ok (.iconst 2, 1) := dk_5 (dk_at dksX2_init_0 9 rfl rfl)
theorem dX2_init_10 : decode cX2_init 10 = .ok (.invokespecial 11, 3) := dk_183 0 11 (dk_at dksX2_init_0 10 rfl rfl)
theorem dX2_init_13 : decode cX2_init 13 = .ok (.putfield 14, 3) := dk_181 0 14 (dk_at dksX2_init_0 13 rfl rfl)
theorem dX2_init_16 : decode cX2_init 16 = .ok (.aload_n 0, 1) := dk_42 (dk_at dksX2_init_0 16 rfl rfl)
theorem dX2_init_17 : decode cX2_init 17 = .ok (.new 9, 3) := dk_187 0 9 (dk_at dksX2_init_0 17 rfl rfl)
theorem dX2_init_20 : decode cX2_init 20 = .ok (.dup, 1) := dk_89 (dk_at dksX2_init_0 20 rfl rfl)
theorem dX2_init_21 : decode cX2_init 21 = .ok (.iconst 2, 1) := dk_5 (dk_at dksX2_init_0 21 rfl rfl)
theorem dX2_init_22 : decode cX2_init 22 = .ok (.invokespecial 11, 3) := dk_183 0 11 (dk_at dksX2_init_1 0 rfl rfl)
theorem dX2_init_25 : decode cX2_init 25 = .ok (.putfield 20, 3) := dk_181 0 20 (dk_at dksX2_init_1 3 rfl rfl)
theorem dX2_init_28 : decode cX2_init 28 = .ok (.aload_n 0, 1) := dk_42 (dk_at dksX2_init_1 6 rfl rfl)
theorem dX2_init_29 : decode cX2_init 29 = .ok (.new 9, 3) := dk_187 0 9 (dk_at dksX2_init_1 7 rfl rfl)
theorem dX2_init_32 : decode cX2_init 32 = .ok (.dup, 1) := dk_89 (dk_at dksX2_init_1 10 rfl rfl)
theorem dX2_init_33 : decode cX2_init 33 = .ok (.iconst 2, 1) := dk_5 (dk_at dksX2_init_1 11 rfl rfl)
theorem dX2_init_34 : decode cX2_init 34 = .ok (.invokespecial 11, 3) := dk_183 0 11 (dk_at dksX2_init_1 12 rfl rfl)
theorem dX2_init_37 : decode cX2_init 37 = .ok (.putfield 23, 3) := dk_181 0 23 (dk_at dksX2_init_1 15 rfl rfl)
theorem dX2_init_40 : decode cX2_init 40 = .ok (.aload_n 0, 1) := dk_42 (dk_at dksX2_init_1 18 rfl rfl)
theorem dX2_init_41 : decode cX2_init 41 = .ok (.new 9, 3) := dk_187 0 9 (dk_at dksX2_init_1 19 rfl rfl)
theorem dX2_init_44 : decode cX2_init 44 = .ok (.dup, 1) := dk_89 (dk_at dksX2_init_1 22 rfl rfl)
theorem dX2_init_45 : decode cX2_init 45 = .ok (.iconst 2, 1) := dk_5 (dk_at dksX2_init_1 23 rfl rfl)
theorem dX2_init_46 : decode cX2_init 46 = .ok (.invokespecial 11, 3) := dk_183 0 11 (dk_at dksX2_init_2 0 rfl rfl)
theorem dX2_init_49 : decode cX2_init 49 = .ok (.putfield 26, 3) := dk_181 0 26 (dk_at dksX2_init_2 3 rfl rfl)
theorem dX2_init_52 : decode cX2_init 52 = .ok (.aload_n 0, 1) := dk_42 (dk_at dksX2_init_2 6 rfl rfl)
theorem dX2_init_53 : decode cX2_init 53 = .ok (.bipush 7, 2) := dk_16 7 (dk_at dksX2_init_2 7 rfl rfl)
theorem dX2_init_55 : decode cX2_init 55 = .ok (.newarray .int, 2) := dk_188_10 (dk_at dksX2_init_2 9 rfl rfl)
theorem dX2_init_57 : decode cX2_init 57 = .ok (.putfield 29, 3) := dk_181 0 29 (dk_at dksX2_init_2 11 rfl rfl)
theorem dX2_init_60 : decode cX2_init 60 = .ok (.aload_n 0, 1) := dk_42 (dk_at dksX2_init_2 14 rfl rfl)
theorem dX2_init_61 : decode cX2_init 61 = .ok (.aload_n 1, 1) := dk_43 (dk_at dksX2_init_2 15 rfl rfl)
theorem dX2_init_62 : decode cX2_init 62 = .ok (.putfield 33, 3) := dk_181 0 33 (dk_at dksX2_init_2 16 rfl rfl)
theorem dX2_init_65 : decode cX2_init 65 = .ok (.aload_n 0, 1) := dk_42 (dk_at dksX2_init_2 19 rfl rfl)
theorem dX2_init_66 : decode cX2_init 66 = .ok (.iload_n 2, 1) := dk_28 (dk_at dksX2_init_2 20 rfl rfl)
theorem dX2_init_67 : decode cX2_init 67 = .ok (.putfield 37, 3) := dk_181 0 37 (dk_at dksX2_init_2 21 rfl rfl)
theorem dX2_init_70 : decode cX2_init 70 = .ok (.return_, 1) := dk_177 (dk_at dksX2_init_3 0 rfl rfl)
abbrev cX2_posts : ByteArray := prog_11_method_3_code
def yX2_posts : MethodName := ⟨RX2, "posts", "(IIII)V"⟩
def dkwX2_posts_1 : List UInt8 := [180, 0, 20, 25, 5, 182, 0, 58, 87, 42, 180, 0, 33, 25, 5, 182, 0, 88, 177]
abbrev dktX2_posts_1 : List UInt8 := dkwX2_posts_1 ++ []
def dkwX2_posts_0 : List UInt8 := [187, 0, 62, 89, 42, 180, 0, 20, 182, 0, 44, 27, 28, 29, 21, 4, 183, 0, 85, 58, 5, 42]
abbrev dktX2_posts_0 : List UInt8 := dkwX2_posts_0 ++ dktX2_posts_1
theorem dksX2_posts_0 : cX2_posts.data.toList.drop 0 = dktX2_posts_0 := by decide +kernel
theorem dksX2_posts_1 : cX2_posts.data.toList.drop 22 = dktX2_posts_1 := dk_seg dksX2_posts_0 22 rfl rfl
theorem dX2_posts_0 : decode cX2_posts 0 = .ok (.new 62, 3) := dk_187 0 62 (dk_at dksX2_posts_0 0 rfl rfl)
theorem dX2_posts_3 : decode cX2_posts 3 = .ok (.dup, 1) := dk_89 (dk_at dksX2_posts_0 3 rfl rfl)
theorem dX2_posts_4 : decode cX2_posts 4 = .ok (.aload_n 0, 1) := dk_42 (dk_at dksX2_posts_0 4 rfl rfl)
theorem dX2_posts_5 : decode cX2_posts 5 = .ok (.getfield 20, 3) := dk_180 0 20 (dk_at dksX2_posts_0 5 rfl rfl)
theorem dX2_posts_8 : decode cX2_posts 8 = .ok (.invokevirtual 44, 3) := dk_182 0 44 (dk_at dksX2_posts_0 8 rfl rfl)
theorem dX2_posts_11 : decode cX2_posts 11 = .ok (.iload_n 1, 1) := dk_27 (dk_at dksX2_posts_0 11 rfl rfl)
theorem dX2_posts_12 : decode cX2_posts 12 = .ok (.iload_n 2, 1) := dk_28 (dk_at dksX2_posts_0 12 rfl rfl)
theorem dX2_posts_13 : decode cX2_posts 13 = .ok (.iload_n 3, 1) := dk_29 (dk_at dksX2_posts_0 13 rfl rfl)
theorem dX2_posts_14 : decode cX2_posts 14 = .ok (.iload 4, 2) := dk_21 4 (dk_at dksX2_posts_0 14 rfl rfl)
theorem dX2_posts_16 : decode cX2_posts 16 = .ok (.invokespecial 85, 3) := dk_183 0 85 (dk_at dksX2_posts_0 16 rfl rfl)
theorem dX2_posts_19 : decode cX2_posts 19 = .ok (.astore 5, 2) := dk_58 5 (dk_at dksX2_posts_0 19 rfl rfl)
theorem dX2_posts_21 : decode cX2_posts 21 = .ok (.aload_n 0, 1) := dk_42 (dk_at dksX2_posts_0 21 rfl rfl)
theorem dX2_posts_22 : decode cX2_posts 22 = .ok (.getfield 20, 3) := dk_180 0 20 (dk_at dksX2_posts_1 0 rfl rfl)
theorem dX2_posts_25 : decode cX2_posts 25 = .ok (.aload 5, 2) := dk_25 5 (dk_at dksX2_posts_1 3 rfl rfl)
theorem dX2_posts_27 : decode cX2_posts 27 = .ok (.invokevirtual 58, 3) := dk_182 0 58 (dk_at dksX2_posts_1 5 rfl rfl)
theorem dX2_posts_30 : decode cX2_posts 30 = .ok (.pop, 1) := dk_87 (dk_at dksX2_posts_1 8 rfl rfl)
theorem dX2_posts_31 : decode cX2_posts 31 = .ok (.aload_n 0, 1) := dk_42 (dk_at dksX2_posts_1 9 rfl rfl)
theorem dX2_posts_32 : decode cX2_posts 32 = .ok (.getfield 33, 3) := dk_180 0 33 (dk_at dksX2_posts_1 10 rfl rfl)
theorem dX2_posts_35 : decode cX2_posts 35 = .ok (.aload 5, 2) := dk_25 5 (dk_at dksX2_posts_1 13 rfl rfl)
theorem dX2_posts_37 : decode cX2_posts 37 = .ok (.invokevirtual 88, 3) := dk_182 0 88 (dk_at dksX2_posts_1 15 rfl rfl)
theorem dX2_posts_40 : decode cX2_posts 40 = .ok (.return_, 1) := dk_177 (dk_at dksX2_posts_1 18 rfl rfl)
abbrev cX2_lettersThat : ByteArray := prog_11_method_17_code
def yX2_lettersThat : MethodName := ⟨RX2, "lettersThat", "(I)I"⟩
def dkwX2_lettersThat_2 : List UInt8 := [167, 255, 213, 28, 172]
abbrev dktX2_lettersThat_2 : List UInt8 := dkwX2_lettersThat_2 ++ []
def dkwX2_lettersThat_1 : List UInt8 := [192, 0, 72, 180, 0, 163, 27, 160, 0, 7, 4, 167, 0, 4, 3, 184, 0, 146, 96, 61, 132, 3, 1]
abbrev dktX2_lettersThat_1 : List UInt8 := dkwX2_lettersThat_1 ++ dktX2_lettersThat_2
def dkwX2_lettersThat_0 : List UInt8 := [3, 61, 3, 62, 29, 42, 180, 0, 26, 182, 0, 44, 162, 0, 38, 28, 42, 180, 0, 26, 29, 182, 0, 48]
abbrev dktX2_lettersThat_0 : List UInt8 := dkwX2_lettersThat_0 ++ dktX2_lettersThat_1
theorem dksX2_lettersThat_0 : cX2_lettersThat.data.toList.drop 0 = dktX2_lettersThat_0 := by decide +kernel
theorem dksX2_lettersThat_1 : cX2_lettersThat.data.toList.drop 24 = dktX2_lettersThat_1 := dk_seg dksX2_lettersThat_0 24 rfl rfl
theorem dksX2_lettersThat_2 : cX2_lettersThat.data.toList.drop 47 = dktX2_lettersThat_2 := dk_seg dksX2_lettersThat_1 23 rfl rfl
theorem dX2_lettersThat_0 : decode cX2_lettersThat 0 = .ok (.iconst 0, 1) := dk_3 (dk_at dksX2_lettersThat_0 0 rfl rfl)
theorem dX2_lettersThat_1 : decode cX2_lettersThat 1 = .ok (.istore_n 2, 1) := dk_61 (dk_at dksX2_lettersThat_0 1 rfl rfl)
theorem dX2_lettersThat_2 : decode cX2_lettersThat 2 = .ok (.iconst 0, 1) := dk_3 (dk_at dksX2_lettersThat_0 2 rfl rfl)
theorem dX2_lettersThat_3 : decode cX2_lettersThat 3 = .ok (.istore_n 3, 1) := dk_62 (dk_at dksX2_lettersThat_0 3 rfl rfl)
theorem dX2_lettersThat_4 : decode cX2_lettersThat 4 = .ok (.iload_n 3, 1) := dk_29 (dk_at dksX2_lettersThat_0 4 rfl rfl)
theorem dX2_lettersThat_5 : decode cX2_lettersThat 5 = .ok (.aload_n 0, 1) := dk_42 (dk_at dksX2_lettersThat_0 5 rfl rfl)
theorem dX2_lettersThat_6 : decode cX2_lettersThat 6 = .ok (.getfield 26, 3) := dk_180 0 26 (dk_at dksX2_lettersThat_0 6 rfl rfl)
theorem dX2_lettersThat_9 : decode cX2_lettersThat 9 = .ok (.invokevirtual 44, 3) := dk_182 0 44 (dk_at dksX2_lettersThat_0 9 rfl rfl)
theorem dX2_lettersThat_12 : decode cX2_lettersThat 12 = .ok (.if_icmp .ge 38, 3) := dk_162 0 38 (dk_at dksX2_lettersThat_0 12 rfl rfl)
theorem dX2_lettersThat_15 : decode cX2_lettersThat 15 = .ok (.iload_n 2, 1) := dk_28 (dk_at dksX2_lettersThat_0 15 rfl rfl)
theorem dX2_lettersThat_16 : decode cX2_lettersThat 16 = .ok (.aload_n 0, 1) := dk_42 (dk_at dksX2_lettersThat_0 16 rfl rfl)
theorem dX2_lettersThat_17 : decode cX2_lettersThat 17 = .ok (.getfield 26, 3) := dk_180 0 26 (dk_at dksX2_lettersThat_0 17 rfl rfl)
theorem dX2_lettersThat_20 : decode cX2_lettersThat 20 = .ok (.iload_n 3, 1) := dk_29 (dk_at dksX2_lettersThat_0 20 rfl rfl)
theorem dX2_lettersThat_21 : decode cX2_lettersThat 21 = .ok (.invokevirtual 48, 3) := dk_182 0 48 (dk_at dksX2_lettersThat_0 21 rfl rfl)
theorem dX2_lettersThat_24 : decode cX2_lettersThat 24 = .ok (.checkcast 72, 3) := dk_192 0 72 (dk_at dksX2_lettersThat_1 0 rfl rfl)
theorem dX2_lettersThat_27 : decode cX2_lettersThat 27 = .ok (.getfield 163, 3) := dk_180 0 163 (dk_at dksX2_lettersThat_1 3 rfl rfl)
theorem dX2_lettersThat_30 : decode cX2_lettersThat 30 = .ok (.iload_n 1, 1) := dk_27 (dk_at dksX2_lettersThat_1 6 rfl rfl)
theorem dX2_lettersThat_31 : decode cX2_lettersThat 31 = .ok (.if_icmp .ne 7, 3) := dk_160 0 7 (dk_at dksX2_lettersThat_1 7 rfl rfl)
theorem dX2_lettersThat_34 : decode cX2_lettersThat 34 = .ok (.iconst 1, 1) := dk_4 (dk_at dksX2_lettersThat_1 10 rfl rfl)
theorem dX2_lettersThat_35 : decode cX2_lettersThat 35 = .ok (.goto 4, 3) := dk_167 0 4 (dk_at dksX2_lettersThat_1 11 rfl rfl)
theorem dX2_lettersThat_38 : decode cX2_lettersThat 38 = .ok (.iconst 0, 1) := dk_3 (dk_at dksX2_lettersThat_1 14 rfl rfl)
theorem dX2_lettersThat_39 : decode cX2_lettersThat 39 = .ok (.invokestatic 146, 3) := dk_184 0 146 (dk_at dksX2_lettersThat_1 15 rfl rfl)
theorem dX2_lettersThat_42 : decode cX2_lettersThat 42 = .ok (.iadd, 1) := dk_96 (dk_at dksX2_lettersThat_1 18 rfl rfl)
theorem dX2_lettersThat_43 : decode cX2_lettersThat 43 = .ok (.istore_n 2, 1) := dk_61 (dk_at dksX2_lettersThat_1 19 rfl rfl)
theorem dX2_lettersThat_44 : decode cX2_lettersThat 44 = .ok (.iinc 3 1, 3) := dk_132 3 1 (dk_at dksX2_lettersThat_1 20 rfl rfl)
theorem dX2_lettersThat_47 : decode cX2_lettersThat 47 = .ok (.goto (-43), 3) := dk_167 255 213 (dk_at dksX2_lettersThat_2 0 rfl rfl)
theorem dX2_lettersThat_50 : decode cX2_lettersThat 50 = .ok (.iload_n 2, 1) := dk_28 (dk_at dksX2_lettersThat_2 3 rfl rfl)
theorem dX2_lettersThat_51 : decode cX2_lettersThat 51 = .ok (.ireturn, 1) := dk_172 (dk_at dksX2_lettersThat_2 4 rfl rfl)
abbrev cX2_carriedBy : ByteArray := prog_11_method_12_code
def yX2_carriedBy : MethodName := ⟨RX2, "carriedBy", "(I)I"⟩
def dkwX2_carriedBy_1 : List UInt8 := [192, 0, 72, 27, 182, 0, 160, 184, 0, 146, 96, 61, 132, 3, 1, 167, 255, 221, 28, 172]
abbrev dktX2_carriedBy_1 : List UInt8 := dkwX2_carriedBy_1 ++ []
def dkwX2_carriedBy_0 : List UInt8 := [3, 61, 3, 62, 29, 42, 180, 0, 26, 182, 0, 44, 162, 0, 30, 28, 42, 180, 0, 26, 29, 182, 0, 48]
abbrev dktX2_carriedBy_0 : List UInt8 := dkwX2_carriedBy_0 ++ dktX2_carriedBy_1
theorem dksX2_carriedBy_0 : cX2_carriedBy.data.toList.drop 0 = dktX2_carriedBy_0 := by decide +kernel
theorem dksX2_carriedBy_1 : cX2_carriedBy.data.toList.drop 24 = dktX2_carriedBy_1 := dk_seg dksX2_carriedBy_0 24 rfl rfl
theorem dX2_carriedBy_0 : decode cX2_carriedBy 0 = .ok (.iconst 0, 1) := dk_3 (dk_at dksX2_carriedBy_0 0 rfl rfl)
theorem dX2_carriedBy_1 : decode cX2_carriedBy 1 = .ok (.istore_n 2, 1) := dk_61 (dk_at dksX2_carriedBy_0 1 rfl rfl)
theorem dX2_carriedBy_2 : decode cX2_carriedBy 2 = .ok (.iconst 0, 1) := dk_3 (dk_at dksX2_carriedBy_0 2 rfl rfl)
theorem dX2_carriedBy_3 : decode cX2_carriedBy 3 = .ok (.istore_n 3, 1) := dk_62 (dk_at dksX2_carriedBy_0 3 rfl rfl)
theorem dX2_carriedBy_4 : decode cX2_carriedBy 4 = .ok (.iload_n 3, 1) := dk_29 (dk_at dksX2_carriedBy_0 4 rfl rfl)
theorem dX2_carriedBy_5 : decode cX2_carriedBy 5 = .ok (.aload_n 0, 1) := dk_42 (dk_at dksX2_carriedBy_0 5 rfl rfl)
theorem dX2_carriedBy_6 : decode cX2_carriedBy 6 = .ok (.getfield 26, 3) := dk_180 0 26 (dk_at dksX2_carriedBy_0 6 rfl rfl)
theorem dX2_carriedBy_9 : decode cX2_carriedBy 9 = .ok (.invokevirtual 44, 3) := dk_182 0 44 (dk_at dksX2_carriedBy_0 9 rfl rfl)
theorem dX2_carriedBy_12 : decode cX2_carriedBy 12 = .ok (.if_icmp .ge 30, 3) := dk_162 0 30 (dk_at dksX2_carriedBy_0 12 rfl rfl)
theorem dX2_carriedBy_15 : decode cX2_carriedBy 15 = .ok (.iload_n 2, 1) := dk_28 (dk_at dksX2_carriedBy_0 15 rfl rfl)
theorem dX2_carriedBy_16 : decode cX2_carriedBy 16 = .ok (.aload_n 0, 1) := dk_42 (dk_at dksX2_carriedBy_0 16 rfl rfl)
theorem dX2_carriedBy_17 : decode cX2_carriedBy 17 = .ok (.getfield 26, 3) := dk_180 0 26 (dk_at dksX2_carriedBy_0 17 rfl rfl)
theorem dX2_carriedBy_20 : decode cX2_carriedBy 20 = .ok (.iload_n 3, 1) := dk_29 (dk_at dksX2_carriedBy_0 20 rfl rfl)
theorem dX2_carriedBy_21 : decode cX2_carriedBy 21 = .ok (.invokevirtual 48, 3) := dk_182 0 48 (dk_at dksX2_carriedBy_0 21 rfl rfl)
theorem dX2_carriedBy_24 : decode cX2_carriedBy 24 = .ok (.checkcast 72, 3) := dk_192 0 72 (dk_at dksX2_carriedBy_1 0 rfl rfl)
theorem dX2_carriedBy_27 : decode cX2_carriedBy 27 = .ok (.iload_n 1, 1) := dk_27 (dk_at dksX2_carriedBy_1 3 rfl rfl)
theorem dX2_carriedBy_28 : decode cX2_carriedBy 28 = .ok (.invokevirtual 160, 3) := dk_182 0 160 (dk_at dksX2_carriedBy_1 4 rfl rfl)
theorem dX2_carriedBy_31 : decode cX2_carriedBy 31 = .ok (.invokestatic 146, 3) := dk_184 0 146 (dk_at dksX2_carriedBy_1 7 rfl rfl)
theorem dX2_carriedBy_34 : decode cX2_carriedBy 34 = .ok (.iadd, 1) := dk_96 (dk_at dksX2_carriedBy_1 10 rfl rfl)
theorem dX2_carriedBy_35 : decode cX2_carriedBy 35 = .ok (.istore_n 2, 1) := dk_61 (dk_at dksX2_carriedBy_1 11 rfl rfl)
theorem dX2_carriedBy_36 : decode cX2_carriedBy 36 = .ok (.iinc 3 1, 3) := dk_132 3 1 (dk_at dksX2_carriedBy_1 12 rfl rfl)
theorem dX2_carriedBy_39 : decode cX2_carriedBy 39 = .ok (.goto (-35), 3) := dk_167 255 221 (dk_at dksX2_carriedBy_1 15 rfl rfl)
theorem dX2_carriedBy_42 : decode cX2_carriedBy 42 = .ok (.iload_n 2, 1) := dk_28 (dk_at dksX2_carriedBy_1 18 rfl rfl)
theorem dX2_carriedBy_43 : decode cX2_carriedBy 43 = .ok (.ireturn, 1) := dk_172 (dk_at dksX2_carriedBy_1 19 rfl rfl)
abbrev cX2_mist : ByteArray := prog_11_method_4_code
def yX2_mist : MethodName := ⟨RX2, "mist", "(I)I"⟩
def dkwX2_mist_3 : List UInt8 := [184, 0, 107, 172]
abbrev dktX2_mist_3 : List UInt8 := dkwX2_mist_3 ++ []
def dkwX2_mist_2 : List UInt8 := [163, 0, 11, 25, 4, 180, 0, 104, 167, 0, 4, 3, 96, 61, 132, 3, 1, 167, 255, 196, 16, 9, 28]
abbrev dktX2_mist_2 : List UInt8 := dkwX2_mist_2 ++ dktX2_mist_3
def dkwX2_mist_1 : List UInt8 := [192, 0, 52, 58, 4, 28, 42, 180, 0, 33, 25, 4, 180, 0, 94, 27, 182, 0, 97, 25, 4, 180, 0, 101]
abbrev dktX2_mist_1 : List UInt8 := dkwX2_mist_1 ++ dktX2_mist_2
def dkwX2_mist_0 : List UInt8 := [3, 61, 3, 62, 29, 42, 180, 0, 14, 182, 0, 44, 162, 0, 55, 42, 180, 0, 14, 29, 182, 0, 48]
abbrev dktX2_mist_0 : List UInt8 := dkwX2_mist_0 ++ dktX2_mist_1
theorem dksX2_mist_0 : cX2_mist.data.toList.drop 0 = dktX2_mist_0 := by decide +kernel
theorem dksX2_mist_1 : cX2_mist.data.toList.drop 23 = dktX2_mist_1 := dk_seg dksX2_mist_0 23 rfl rfl
theorem dksX2_mist_2 : cX2_mist.data.toList.drop 47 = dktX2_mist_2 := dk_seg dksX2_mist_1 24 rfl rfl
theorem dksX2_mist_3 : cX2_mist.data.toList.drop 70 = dktX2_mist_3 := dk_seg dksX2_mist_2 23 rfl rfl
theorem dX2_mist_0 : decode cX2_mist 0 = .ok (.iconst 0, 1) := dk_3 (dk_at dksX2_mist_0 0 rfl rfl)
theorem dX2_mist_1 : decode cX2_mist 1 = .ok (.istore_n 2, 1) := dk_61 (dk_at dksX2_mist_0 1 rfl rfl)
theorem dX2_mist_2 : decode cX2_mist 2 = .ok (.iconst 0, 1) := dk_3 (dk_at dksX2_mist_0 2 rfl rfl)
theorem dX2_mist_3 : decode cX2_mist 3 = .ok (.istore_n 3, 1) := dk_62 (dk_at dksX2_mist_0 3 rfl rfl)
theorem dX2_mist_4 : decode cX2_mist 4 = .ok (.iload_n 3, 1) := dk_29 (dk_at dksX2_mist_0 4 rfl rfl)
theorem dX2_mist_5 : decode cX2_mist 5 = .ok (.aload_n 0, 1) := dk_42 (dk_at dksX2_mist_0 5 rfl rfl)
theorem dX2_mist_6 : decode cX2_mist 6 = .ok (.getfield 14, 3) := dk_180 0 14 (dk_at dksX2_mist_0 6 rfl rfl)
theorem dX2_mist_9 : decode cX2_mist 9 = .ok (.invokevirtual 44, 3) := dk_182 0 44 (dk_at dksX2_mist_0 9 rfl rfl)
theorem dX2_mist_12 : decode cX2_mist 12 = .ok (.if_icmp .ge 55, 3) := dk_162 0 55 (dk_at dksX2_mist_0 12 rfl rfl)
theorem dX2_mist_15 : decode cX2_mist 15 = .ok (.aload_n 0, 1) := dk_42 (dk_at dksX2_mist_0 15 rfl rfl)
theorem dX2_mist_16 : decode cX2_mist 16 = .ok (.getfield 14, 3) := dk_180 0 14 (dk_at dksX2_mist_0 16 rfl rfl)
theorem dX2_mist_19 : decode cX2_mist 19 = .ok (.iload_n 3, 1) := dk_29 (dk_at dksX2_mist_0 19 rfl rfl)
theorem dX2_mist_20 : decode cX2_mist 20 = .ok (.invokevirtual 48, 3) := dk_182 0 48 (dk_at dksX2_mist_0 20 rfl rfl)
theorem dX2_mist_23 : decode cX2_mist 23 = .ok (.checkcast 52, 3) := dk_192 0 52 (dk_at dksX2_mist_1 0 rfl rfl)
theorem dX2_mist_26 : decode cX2_mist 26 = .ok (.astore 4, 2) := dk_58 4 (dk_at dksX2_mist_1 3 rfl rfl)
theorem dX2_mist_28 : decode cX2_mist 28 = .ok (.iload_n 2, 1) := dk_28 (dk_at dksX2_mist_1 5 rfl rfl)
theorem dX2_mist_29 : decode cX2_mist 29 = .ok (.aload_n 0, 1) := dk_42 (dk_at dksX2_mist_1 6 rfl rfl)
theorem dX2_mist_30 : decode cX2_mist 30 = .ok (.getfield 33, 3) := dk_180 0 33 (dk_at dksX2_mist_1 7 rfl rfl)
theorem dX2_mist_33 : decode cX2_mist 33 = .ok (.aload 4, 2) := dk_25 4 (dk_at dksX2_mist_1 10 rfl rfl)
theorem dX2_mist_35 : decode cX2_mist 35 = .ok (.getfield 94, 3) := dk_180 0 94 (dk_at dksX2_mist_1 12 rfl rfl)
theorem dX2_mist_38 : decode cX2_mist 38 = .ok (.iload_n 1, 1) := dk_27 (dk_at dksX2_mist_1 15 rfl rfl)
theorem dX2_mist_39 : decode cX2_mist 39 = .ok (.invokevirtual 97, 3) := dk_182 0 97 (dk_at dksX2_mist_1 16 rfl rfl)
theorem dX2_mist_42 : decode cX2_mist 42 = .ok (.aload 4, 2) := dk_25 4 (dk_at dksX2_mist_1 19 rfl rfl)
theorem dX2_mist_44 : decode cX2_mist 44 = .ok (.getfield 101, 3) := dk_180 0 101 (dk_at dksX2_mist_1 21 rfl rfl)
theorem dX2_mist_47 : decode cX2_mist 47 = .ok (.if_icmp .gt 11, 3) := dk_163 0 11 (dk_at dksX2_mist_2 0 rfl rfl)
theorem dX2_mist_50 : decode cX2_mist 50 = .ok (.aload 4, 2) := dk_25 4 (dk_at dksX2_mist_2 3 rfl rfl)
theorem dX2_mist_52 : decode cX2_mist 52 = .ok (.getfield 104, 3) := dk_180 0 104 (dk_at dksX2_mist_2 5 rfl rfl)
theorem dX2_mist_55 : decode cX2_mist 55 = .ok (.goto 4, 3) := dk_167 0 4 (dk_at dksX2_mist_2 8 rfl rfl)
theorem dX2_mist_58 : decode cX2_mist 58 = .ok (.iconst 0, 1) := dk_3 (dk_at dksX2_mist_2 11 rfl rfl)
theorem dX2_mist_59 : decode cX2_mist 59 = .ok (.iadd, 1) := dk_96 (dk_at dksX2_mist_2 12 rfl rfl)
theorem dX2_mist_60 : decode cX2_mist 60 = .ok (.istore_n 2, 1) := dk_61 (dk_at dksX2_mist_2 13 rfl rfl)
theorem dX2_mist_61 : decode cX2_mist 61 = .ok (.iinc 3 1, 3) := dk_132 3 1 (dk_at dksX2_mist_2 14 rfl rfl)
theorem dX2_mist_64 : decode cX2_mist 64 = .ok (.goto (-60), 3) := dk_167 255 196 (dk_at dksX2_mist_2 17 rfl rfl)
theorem dX2_mist_67 : decode cX2_mist 67 = .ok (.bipush 9, 2) := dk_16 9 (dk_at dksX2_mist_2 20 rfl rfl)
theorem dX2_mist_69 : decode cX2_mist 69 = .ok (.iload_n 2, 1) := dk_28 (dk_at dksX2_mist_2 22 rfl rfl)
theorem dX2_mist_70 : decode cX2_mist 70 = .ok (.invokestatic 107, 3) := dk_184 0 107 (dk_at dksX2_mist_3 0 rfl rfl)
theorem dX2_mist_73 : decode cX2_mist 73 = .ok (.ireturn, 1) := dk_172 (dk_at dksX2_mist_3 3 rfl rfl)
abbrev cX2_twin : ByteArray := prog_11_method_2_code
def yX2_twin : MethodName := ⟨RX2, "twin", "()LMistCouriers$State;"⟩
def dkwX2_twin_8 : List UInt8 := [181, 0, 29, 43, 42, 180, 0, 82, 181, 0, 82, 43, 176]
abbrev dktX2_twin_8 : List UInt8 := dkwX2_twin_8 ++ []
def dkwX2_twin_7 : List UInt8 := [182, 0, 74, 182, 0, 58, 87, 132, 2, 1, 167, 255, 220, 43, 42, 180, 0, 29, 182, 0, 77, 192, 0, 78]
abbrev dktX2_twin_7 : List UInt8 := dkwX2_twin_7 ++ dktX2_twin_8
def dkwX2_twin_6 : List UInt8 := [180, 0, 26, 182, 0, 44, 162, 0, 31, 43, 180, 0, 26, 42, 180, 0, 26, 28, 182, 0, 48, 192, 0, 72]
abbrev dktX2_twin_6 : List UInt8 := dkwX2_twin_6 ++ dktX2_twin_7
def dkwX2_twin_5 : List UInt8 := [28, 182, 0, 48, 192, 0, 67, 182, 0, 69, 182, 0, 58, 87, 132, 2, 1, 167, 255, 220, 3, 61, 28, 42]
abbrev dktX2_twin_5 : List UInt8 := dkwX2_twin_5 ++ dktX2_twin_6
def dkwX2_twin_4 : List UInt8 := [167, 255, 220, 3, 61, 28, 42, 180, 0, 23, 182, 0, 44, 162, 0, 31, 43, 180, 0, 23, 42, 180, 0, 23]
abbrev dktX2_twin_4 : List UInt8 := dkwX2_twin_4 ++ dktX2_twin_5
def dkwX2_twin_3 : List UInt8 := [180, 0, 20, 42, 180, 0, 20, 28, 182, 0, 48, 192, 0, 62, 182, 0, 64, 182, 0, 58, 87, 132, 2, 1]
abbrev dktX2_twin_3 : List UInt8 := dkwX2_twin_3 ++ dktX2_twin_4
def dkwX2_twin_2 : List UInt8 := [182, 0, 58, 87, 132, 2, 1, 167, 255, 220, 3, 61, 28, 42, 180, 0, 20, 182, 0, 44, 162, 0, 31, 43]
abbrev dktX2_twin_2 : List UInt8 := dkwX2_twin_2 ++ dktX2_twin_3
def dkwX2_twin_1 : List UInt8 := [182, 0, 44, 162, 0, 31, 43, 180, 0, 14, 42, 180, 0, 14, 28, 182, 0, 48, 192, 0, 52, 182, 0, 54]
abbrev dktX2_twin_1 : List UInt8 := dkwX2_twin_1 ++ dktX2_twin_2
def dkwX2_twin_0 : List UInt8 := [187, 0, 15, 89, 42, 180, 0, 33, 42, 180, 0, 37, 183, 0, 41, 76, 3, 61, 28, 42, 180, 0, 14]
abbrev dktX2_twin_0 : List UInt8 := dkwX2_twin_0 ++ dktX2_twin_1
theorem dksX2_twin_0 : cX2_twin.data.toList.drop 0 = dktX2_twin_0 := by decide +kernel
theorem dksX2_twin_1 : cX2_twin.data.toList.drop 23 = dktX2_twin_1 := dk_seg dksX2_twin_0 23 rfl rfl
theorem dksX2_twin_2 : cX2_twin.data.toList.drop 47 = dktX2_twin_2 := dk_seg dksX2_twin_1 24 rfl rfl
theorem dksX2_twin_3 : cX2_twin.data.toList.drop 71 = dktX2_twin_3 := dk_seg dksX2_twin_2 24 rfl rfl
theorem dksX2_twin_4 : cX2_twin.data.toList.drop 95 = dktX2_twin_4 := dk_seg dksX2_twin_3 24 rfl rfl
theorem dksX2_twin_5 : cX2_twin.data.toList.drop 119 = dktX2_twin_5 := dk_seg dksX2_twin_4 24 rfl rfl
theorem dksX2_twin_6 : cX2_twin.data.toList.drop 143 = dktX2_twin_6 := dk_seg dksX2_twin_5 24 rfl rfl
theorem dksX2_twin_7 : cX2_twin.data.toList.drop 167 = dktX2_twin_7 := dk_seg dksX2_twin_6 24 rfl rfl
theorem dksX2_twin_8 : cX2_twin.data.toList.drop 191 = dktX2_twin_8 := dk_seg dksX2_twin_7 24 rfl rfl
theorem dX2_twin_0 : decode cX2_twin 0 = .ok (.new 15, 3) := dk_187 0 15 (dk_at dksX2_twin_0 0 rfl rfl)
theorem dX2_twin_3 : decode cX2_twin 3 = .ok (.dup, 1) := dk_89 (dk_at dksX2_twin_0 3 rfl rfl)
theorem dX2_twin_4 : decode cX2_twin 4 = .ok (.aload_n 0, 1) := dk_42 (dk_at dksX2_twin_0 4 rfl rfl)
theorem dX2_twin_5 : decode cX2_twin 5 = .ok (.getfield 33, 3) := dk_180 0 33 (dk_at dksX2_twin_0 5 rfl rfl)
theorem dX2_twin_8 : decode cX2_twin 8 = .ok (.aload_n 0, 1) := dk_42 (dk_at dksX2_twin_0 8 rfl rfl)
theorem dX2_twin_9 : decode cX2_twin 9 = .ok (.getfield 37, 3) := dk_180 0 37 (dk_at dksX2_twin_0 9 rfl rfl)
theorem dX2_twin_12 : decode cX2_twin 12 = .ok (.invokespecial 41, 3) := dk_183 0 41 (dk_at dksX2_twin_0 12 rfl rfl)
theorem dX2_twin_15 : decode cX2_twin 15 = .ok (.astore_n 1, 1) := dk_76 (dk_at dksX2_twin_0 15 rfl rfl)
theorem dX2_twin_16 : decode cX2_twin 16 = .ok (.iconst 0, 1) := dk_3 (dk_at dksX2_twin_0 16 rfl rfl)
theorem dX2_twin_17 : decode cX2_twin 17 = .ok (.istore_n 2, 1) := dk_61 (dk_at dksX2_twin_0 17 rfl rfl)
theorem dX2_twin_18 : decode cX2_twin 18 = .ok (.iload_n 2, 1) := dk_28 (dk_at dksX2_twin_0 18 rfl rfl)
theorem dX2_twin_19 : decode cX2_twin 19 = .ok (.aload_n 0, 1) := dk_42 (dk_at dksX2_twin_0 19 rfl rfl)
theorem dX2_twin_20 : decode cX2_twin 20 = .ok (.getfield 14, 3) := dk_180 0 14 (dk_at dksX2_twin_0 20 rfl rfl)
theorem dX2_twin_23 : decode cX2_twin 23 = .ok (.invokevirtual 44, 3) := dk_182 0 44 (dk_at dksX2_twin_1 0 rfl rfl)
theorem dX2_twin_26 : decode cX2_twin 26 = .ok (.if_icmp .ge 31, 3) := dk_162 0 31 (dk_at dksX2_twin_1 3 rfl rfl)
theorem dX2_twin_29 : decode cX2_twin 29 = .ok (.aload_n 1, 1) := dk_43 (dk_at dksX2_twin_1 6 rfl rfl)
theorem dX2_twin_30 : decode cX2_twin 30 = .ok (.getfield 14, 3) := dk_180 0 14 (dk_at dksX2_twin_1 7 rfl rfl)
theorem dX2_twin_33 : decode cX2_twin 33 = .ok (.aload_n 0, 1) := dk_42 (dk_at dksX2_twin_1 10 rfl rfl)
theorem dX2_twin_34 : decode cX2_twin 34 = .ok (.getfield 14, 3) := dk_180 0 14 (dk_at dksX2_twin_1 11 rfl rfl)
theorem dX2_twin_37 : decode cX2_twin 37 = .ok (.iload_n 2, 1) := dk_28 (dk_at dksX2_twin_1 14 rfl rfl)
theorem dX2_twin_38 : decode cX2_twin 38 = .ok (.invokevirtual 48, 3) := dk_182 0 48 (dk_at dksX2_twin_1 15 rfl rfl)
theorem dX2_twin_41 : decode cX2_twin 41 = .ok (.checkcast 52, 3) := dk_192 0 52 (dk_at dksX2_twin_1 18 rfl rfl)
theorem dX2_twin_44 : decode cX2_twin 44 = .ok (.invokevirtual 54, 3) := dk_182 0 54 (dk_at dksX2_twin_1 21 rfl rfl)
theorem dX2_twin_47 : decode cX2_twin 47 = .ok (.invokevirtual 58, 3) := dk_182 0 58 (dk_at dksX2_twin_2 0 rfl rfl)
theorem dX2_twin_50 : decode cX2_twin 50 = .ok (.pop, 1) := dk_87 (dk_at dksX2_twin_2 3 rfl rfl)
theorem dX2_twin_51 : decode cX2_twin 51 = .ok (.iinc 2 1, 3) := dk_132 2 1 (dk_at dksX2_twin_2 4 rfl rfl)
theorem dX2_twin_54 : decode cX2_twin 54 = .ok (.goto (-36), 3) := dk_167 255 220 (dk_at dksX2_twin_2 7 rfl rfl)
theorem dX2_twin_57 : decode cX2_twin 57 = .ok (.iconst 0, 1) := dk_3 (dk_at dksX2_twin_2 10 rfl rfl)
theorem dX2_twin_58 : decode cX2_twin 58 = .ok (.istore_n 2, 1) := dk_61 (dk_at dksX2_twin_2 11 rfl rfl)
theorem dX2_twin_59 : decode cX2_twin 59 = .ok (.iload_n 2, 1) := dk_28 (dk_at dksX2_twin_2 12 rfl rfl)
theorem dX2_twin_60 : decode cX2_twin 60 = .ok (.aload_n 0, 1) := dk_42 (dk_at dksX2_twin_2 13 rfl rfl)
theorem dX2_twin_61 : decode cX2_twin 61 = .ok (.getfield 20, 3) := dk_180 0 20 (dk_at dksX2_twin_2 14 rfl rfl)
theorem dX2_twin_64 : decode cX2_twin 64 = .ok (.invokevirtual 44, 3) := dk_182 0 44 (dk_at dksX2_twin_2 17 rfl rfl)
theorem dX2_twin_67 : decode cX2_twin 67 = .ok (.if_icmp .ge 31, 3) := dk_162 0 31 (dk_at dksX2_twin_2 20 rfl rfl)
theorem dX2_twin_70 : decode cX2_twin 70 = .ok (.aload_n 1, 1) := dk_43 (dk_at dksX2_twin_2 23 rfl rfl)
theorem dX2_twin_71 : decode cX2_twin 71 = .ok (.getfield 20, 3) := dk_180 0 20 (dk_at dksX2_twin_3 0 rfl rfl)
theorem dX2_twin_74 : decode cX2_twin 74 = .ok (.aload_n 0, 1) := dk_42 (dk_at dksX2_twin_3 3 rfl rfl)
theorem dX2_twin_75 : decode cX2_twin 75 = .ok (.getfield 20, 3) := dk_180 0 20 (dk_at dksX2_twin_3 4 rfl rfl)
theorem dX2_twin_78 : decode cX2_twin 78 = .ok (.iload_n 2, 1) := dk_28 (dk_at dksX2_twin_3 7 rfl rfl)
theorem dX2_twin_79 : decode cX2_twin 79 = .ok (.invokevirtual 48, 3) := dk_182 0 48 (dk_at dksX2_twin_3 8 rfl rfl)
theorem dX2_twin_82 : decode cX2_twin 82 = .ok (.checkcast 62, 3) := dk_192 0 62 (dk_at dksX2_twin_3 11 rfl rfl)
theorem dX2_twin_85 : decode cX2_twin 85 = .ok (.invokevirtual 64, 3) := dk_182 0 64 (dk_at dksX2_twin_3 14 rfl rfl)
theorem dX2_twin_88 : decode cX2_twin 88 = .ok (.invokevirtual 58, 3) := dk_182 0 58 (dk_at dksX2_twin_3 17 rfl rfl)
theorem dX2_twin_91 : decode cX2_twin 91 = .ok (.pop, 1) := dk_87 (dk_at dksX2_twin_3 20 rfl rfl)
theorem dX2_twin_92 : decode cX2_twin 92 = .ok (.iinc 2 1, 3) := dk_132 2 1 (dk_at dksX2_twin_3 21 rfl rfl)
theorem dX2_twin_95 : decode cX2_twin 95 = .ok (.goto (-36), 3) := dk_167 255 220 (dk_at dksX2_twin_4 0 rfl rfl)
theorem dX2_twin_98 : decode cX2_twin 98 = .ok (.iconst 0, 1) := dk_3 (dk_at dksX2_twin_4 3 rfl rfl)
theorem dX2_twin_99 : decode cX2_twin 99 = .ok (.istore_n 2, 1) := dk_61 (dk_at dksX2_twin_4 4 rfl rfl)
theorem dX2_twin_100 : decode cX2_twin 100 = .ok (.iload_n 2, 1) := dk_28 (dk_at dksX2_twin_4 5 rfl rfl)
theorem dX2_twin_101 : decode cX2_twin 101 = .ok (.aload_n 0, 1) := dk_42 (dk_at dksX2_twin_4 6 rfl rfl)
theorem dX2_twin_102 : decode cX2_twin 102 = .ok (.getfield 23, 3) := dk_180 0 23 (dk_at dksX2_twin_4 7 rfl rfl)
theorem dX2_twin_105 : decode cX2_twin 105 = .ok (.invokevirtual 44, 3) := dk_182 0 44 (dk_at dksX2_twin_4 10 rfl rfl)
theorem dX2_twin_108 : decode cX2_twin 108 = .ok (.if_icmp .ge 31, 3) := dk_162 0 31 (dk_at dksX2_twin_4 13 rfl rfl)
theorem dX2_twin_111 : decode cX2_twin 111 = .ok (.aload_n 1, 1) := dk_43 (dk_at dksX2_twin_4 16 rfl rfl)
theorem dX2_twin_112 : decode cX2_twin 112 = .ok (.getfield 23, 3) := dk_180 0 23 (dk_at dksX2_twin_4 17 rfl rfl)
theorem dX2_twin_115 : decode cX2_twin 115 = .ok (.aload_n 0, 1) := dk_42 (dk_at dksX2_twin_4 20 rfl rfl)
theorem dX2_twin_116 : decode cX2_twin 116 = .ok (.getfield 23, 3) := dk_180 0 23 (dk_at dksX2_twin_4 21 rfl rfl)
theorem dX2_twin_119 : decode cX2_twin 119 = .ok (.iload_n 2, 1) := dk_28 (dk_at dksX2_twin_5 0 rfl rfl)
theorem dX2_twin_120 : decode cX2_twin 120 = .ok (.invokevirtual 48, 3) := dk_182 0 48 (dk_at dksX2_twin_5 1 rfl rfl)
theorem dX2_twin_123 : decode cX2_twin 123 = .ok (.checkcast 67, 3) := dk_192 0 67 (dk_at dksX2_twin_5 4 rfl rfl)
theorem dX2_twin_126 : decode cX2_twin 126 = .ok (.invokevirtual 69, 3) := dk_182 0 69 (dk_at dksX2_twin_5 7 rfl rfl)
theorem dX2_twin_129 : decode cX2_twin 129 = .ok (.invokevirtual 58, 3) := dk_182 0 58 (dk_at dksX2_twin_5 10 rfl rfl)
theorem dX2_twin_132 : decode cX2_twin 132 = .ok (.pop, 1) := dk_87 (dk_at dksX2_twin_5 13 rfl rfl)
theorem dX2_twin_133 : decode cX2_twin 133 = .ok (.iinc 2 1, 3) := dk_132 2 1 (dk_at dksX2_twin_5 14 rfl rfl)
theorem dX2_twin_136 : decode cX2_twin 136 = .ok (.goto (-36), 3) := dk_167 255 220 (dk_at dksX2_twin_5 17 rfl rfl)
theorem dX2_twin_139 : decode cX2_twin 139 = .ok (.iconst 0, 1) := dk_3 (dk_at dksX2_twin_5 20 rfl rfl)
theorem dX2_twin_140 : decode cX2_twin 140 = .ok (.istore_n 2, 1) := dk_61 (dk_at dksX2_twin_5 21 rfl rfl)
theorem dX2_twin_141 : decode cX2_twin 141 = .ok (.iload_n 2, 1) := dk_28 (dk_at dksX2_twin_5 22 rfl rfl)
theorem dX2_twin_142 : decode cX2_twin 142 = .ok (.aload_n 0, 1) := dk_42 (dk_at dksX2_twin_5 23 rfl rfl)
theorem dX2_twin_143 : decode cX2_twin 143 = .ok (.getfield 26, 3) := dk_180 0 26 (dk_at dksX2_twin_6 0 rfl rfl)
theorem dX2_twin_146 : decode cX2_twin 146 = .ok (.invokevirtual 44, 3) := dk_182 0 44 (dk_at dksX2_twin_6 3 rfl rfl)
theorem dX2_twin_149 : decode cX2_twin 149 = .ok (.if_icmp .ge 31, 3) := dk_162 0 31 (dk_at dksX2_twin_6 6 rfl rfl)
theorem dX2_twin_152 : decode cX2_twin 152 = .ok (.aload_n 1, 1) := dk_43 (dk_at dksX2_twin_6 9 rfl rfl)
theorem dX2_twin_153 : decode cX2_twin 153 = .ok (.getfield 26, 3) := dk_180 0 26 (dk_at dksX2_twin_6 10 rfl rfl)
theorem dX2_twin_156 : decode cX2_twin 156 = .ok (.aload_n 0, 1) := dk_42 (dk_at dksX2_twin_6 13 rfl rfl)
theorem dX2_twin_157 : decode cX2_twin 157 = .ok (.getfield 26, 3) := dk_180 0 26 (dk_at dksX2_twin_6 14 rfl rfl)
theorem dX2_twin_160 : decode cX2_twin 160 = .ok (.iload_n 2, 1) := dk_28 (dk_at dksX2_twin_6 17 rfl rfl)
theorem dX2_twin_161 : decode cX2_twin 161 = .ok (.invokevirtual 48, 3) := dk_182 0 48 (dk_at dksX2_twin_6 18 rfl rfl)
theorem dX2_twin_164 : decode cX2_twin 164 = .ok (.checkcast 72, 3) := dk_192 0 72 (dk_at dksX2_twin_6 21 rfl rfl)
theorem dX2_twin_167 : decode cX2_twin 167 = .ok (.invokevirtual 74, 3) := dk_182 0 74 (dk_at dksX2_twin_7 0 rfl rfl)
theorem dX2_twin_170 : decode cX2_twin 170 = .ok (.invokevirtual 58, 3) := dk_182 0 58 (dk_at dksX2_twin_7 3 rfl rfl)
theorem dX2_twin_173 : decode cX2_twin 173 = .ok (.pop, 1) := dk_87 (dk_at dksX2_twin_7 6 rfl rfl)
theorem dX2_twin_174 : decode cX2_twin 174 = .ok (.iinc 2 1, 3) := dk_132 2 1 (dk_at dksX2_twin_7 7 rfl rfl)
theorem dX2_twin_177 : decode cX2_twin 177 = .ok (.goto (-36), 3) := dk_167 255 220 (dk_at dksX2_twin_7 10 rfl rfl)
theorem dX2_twin_180 : decode cX2_twin 180 = .ok (.aload_n 1, 1) := dk_43 (dk_at dksX2_twin_7 13 rfl rfl)
theorem dX2_twin_181 : decode cX2_twin 181 = .ok (.aload_n 0, 1) := dk_42 (dk_at dksX2_twin_7 14 rfl rfl)
theorem dX2_twin_182 : decode cX2_twin 182 = .ok (.getfield 29, 3) := dk_180 0 29 (dk_at dksX2_twin_7 15 rfl rfl)
theorem dX2_twin_185 : decode cX2_twin 185 = .ok (.invokevirtual 77, 3) := dk_182 0 77 (dk_at dksX2_twin_7 18 rfl rfl)
theorem dX2_twin_188 : decode cX2_twin 188 = .ok (.checkcast 78, 3) := dk_192 0 78 (dk_at dksX2_twin_7 21 rfl rfl)
theorem dX2_twin_191 : decode cX2_twin 191 = .ok (.putfield 29, 3) := dk_181 0 29 (dk_at dksX2_twin_8 0 rfl rfl)
theorem dX2_twin_194 : decode cX2_twin 194 = .ok (.aload_n 1, 1) := dk_43 (dk_at dksX2_twin_8 3 rfl rfl)
theorem dX2_twin_195 : decode cX2_twin 195 = .ok (.aload_n 0, 1) := dk_42 (dk_at dksX2_twin_8 4 rfl rfl)
theorem dX2_twin_196 : decode cX2_twin 196 = .ok (.getfield 82, 3) := dk_180 0 82 (dk_at dksX2_twin_8 5 rfl rfl)
theorem dX2_twin_199 : decode cX2_twin 199 = .ok (.putfield 82, 3) := dk_181 0 82 (dk_at dksX2_twin_8 8 rfl rfl)
theorem dX2_twin_202 : decode cX2_twin 202 = .ok (.aload_n 1, 1) := dk_43 (dk_at dksX2_twin_8 11 rfl rfl)
theorem dX2_twin_203 : decode cX2_twin 203 = .ok (.areturn, 1) := dk_176 (dk_at dksX2_twin_8 12 rfl rfl)
abbrev cX2_act : ByteArray := prog_11_method_28_code
def yX2_act : MethodName := ⟨RX2, "act", "(LMistCouriers$Command;)I"⟩
def dkwX2_act_8 : List UInt8 := [4, 46, 182, 1, 22, 167, 0, 10, 42, 44, 3, 46, 182, 1, 24, 172]
abbrev dktX2_act_8 : List UInt8 := dkwX2_act_8 ++ []
def dkwX2_act_7 : List UInt8 := [167, 0, 39, 42, 44, 3, 46, 44, 4, 46, 44, 5, 46, 182, 1, 19, 167, 0, 23, 42, 44, 3, 46, 44]
abbrev dktX2_act_7 : List UInt8 := dkwX2_act_7 ++ dktX2_act_8
def dkwX2_act_6 : List UInt8 := [42, 44, 3, 46, 44, 4, 46, 182, 1, 15, 167, 0, 52, 42, 44, 3, 46, 44, 4, 46, 182, 1, 17]
abbrev dktX2_act_6 : List UInt8 := dkwX2_act_6 ++ dktX2_act_7
def dkwX2_act_5 : List UInt8 := [170, 0, 0, 0, 84, 0, 0, 0, 0, 0, 0, 0, 3, 0, 0, 0, 29, 0, 0, 0, 42, 0, 0, 0, 55, 0, 0, 0, 71]
abbrev dktX2_act_5 : List UInt8 := dkwX2_act_5 ++ dktX2_act_6
def dkwX2_act_4 : List UInt8 := [167, 0, 16, 45, 19, 1, 13, 182, 1, 6, 153, 0, 6, 6, 54, 4, 21, 4]
abbrev dktX2_act_4 : List UInt8 := dkwX2_act_4 ++ dktX2_act_5
def dkwX2_act_3 : List UInt8 := [153, 0, 38, 4, 54, 4, 167, 0, 32, 45, 19, 1, 11, 182, 1, 6, 153, 0, 22, 5, 54, 4]
abbrev dktX2_act_3 : List UInt8 := dkwX2_act_3 ++ dktX2_act_4
def dkwX2_act_2 : List UInt8 := [45, 19, 1, 4, 182, 1, 6, 153, 0, 54, 3, 54, 4, 167, 0, 48, 45, 19, 1, 9, 182, 1, 6]
abbrev dktX2_act_2 : List UInt8 := dkwX2_act_2 ++ dktX2_act_3
def dkwX2_act_1 : List UInt8 := [171, 0, 0, 0, 0, 0, 104, 0, 0, 0, 4, 0, 1, 161, 164, 0, 0, 0, 91, 0, 48, 107, 17, 0, 0, 0, 75, 0, 52, 128, 33, 0, 0, 0, 59, 0, 54, 6, 204, 0, 0, 0, 43]
abbrev dktX2_act_1 : List UInt8 := dkwX2_act_1 ++ dktX2_act_2
def dkwX2_act_0 : List UInt8 := [43, 180, 0, 246, 77, 43, 180, 0, 251, 78, 2, 54, 4, 45, 182, 0, 255]
abbrev dktX2_act_0 : List UInt8 := dkwX2_act_0 ++ dktX2_act_1
theorem dksX2_act_0 : cX2_act.data.toList.drop 0 = dktX2_act_0 := by decide +kernel
theorem dksX2_act_1 : cX2_act.data.toList.drop 17 = dktX2_act_1 := dk_seg dksX2_act_0 17 rfl rfl
theorem dksX2_act_2 : cX2_act.data.toList.drop 60 = dktX2_act_2 := dk_seg dksX2_act_1 43 rfl rfl
theorem dksX2_act_3 : cX2_act.data.toList.drop 83 = dktX2_act_3 := dk_seg dksX2_act_2 23 rfl rfl
theorem dksX2_act_4 : cX2_act.data.toList.drop 105 = dktX2_act_4 := dk_seg dksX2_act_3 22 rfl rfl
theorem dksX2_act_5 : cX2_act.data.toList.drop 123 = dktX2_act_5 := dk_seg dksX2_act_4 18 rfl rfl
theorem dksX2_act_6 : cX2_act.data.toList.drop 152 = dktX2_act_6 := dk_seg dksX2_act_5 29 rfl rfl
theorem dksX2_act_7 : cX2_act.data.toList.drop 175 = dktX2_act_7 := dk_seg dksX2_act_6 23 rfl rfl
theorem dksX2_act_8 : cX2_act.data.toList.drop 199 = dktX2_act_8 := dk_seg dksX2_act_7 24 rfl rfl
theorem dX2_act_0 : decode cX2_act 0 = .ok (.aload_n 1, 1) := dk_43 (dk_at dksX2_act_0 0 rfl rfl)
theorem dX2_act_1 : decode cX2_act 1 = .ok (.getfield 246, 3) := dk_180 0 246 (dk_at dksX2_act_0 1 rfl rfl)
theorem dX2_act_4 : decode cX2_act 4 = .ok (.astore_n 2, 1) := dk_77 (dk_at dksX2_act_0 4 rfl rfl)
theorem dX2_act_5 : decode cX2_act 5 = .ok (.aload_n 1, 1) := dk_43 (dk_at dksX2_act_0 5 rfl rfl)
theorem dX2_act_6 : decode cX2_act 6 = .ok (.getfield 251, 3) := dk_180 0 251 (dk_at dksX2_act_0 6 rfl rfl)
theorem dX2_act_9 : decode cX2_act 9 = .ok (.astore_n 3, 1) := dk_78 (dk_at dksX2_act_0 9 rfl rfl)
theorem dX2_act_10 : decode cX2_act 10 = .ok (.iconst (-1), 1) := dk_2 (dk_at dksX2_act_0 10 rfl rfl)
theorem dX2_act_11 : decode cX2_act 11 = .ok (.istore 4, 2) := dk_54 4 (dk_at dksX2_act_0 11 rfl rfl)
theorem dX2_act_13 : decode cX2_act 13 = .ok (.aload_n 3, 1) := dk_45 (dk_at dksX2_act_0 13 rfl rfl)
theorem dX2_act_14 : decode cX2_act 14 = .ok (.invokevirtual 255, 3) := dk_182 0 255 (dk_at dksX2_act_0 14 rfl rfl)
theorem dX2_act_17 : decode cX2_act 17 = .ok (.lookupswitch 104 #[(106916, 91), (3173137, 75), (3440673, 59), (3540684, 43)], 43) := by decide +kernel
theorem dX2_act_60 : decode cX2_act 60 = .ok (.aload_n 3, 1) := dk_45 (dk_at dksX2_act_2 0 rfl rfl)
theorem dX2_act_61 : decode cX2_act 61 = .ok (.ldc_w 260, 3) := dk_19 1 4 (dk_at dksX2_act_2 1 rfl rfl)
theorem dX2_act_64 : decode cX2_act 64 = .ok (.invokevirtual 262, 3) := dk_182 1 6 (dk_at dksX2_act_2 4 rfl rfl)
theorem dX2_act_67 : decode cX2_act 67 = .ok (.ifCond .eq 54, 3) := dk_153 0 54 (dk_at dksX2_act_2 7 rfl rfl)
theorem dX2_act_70 : decode cX2_act 70 = .ok (.iconst 0, 1) := dk_3 (dk_at dksX2_act_2 10 rfl rfl)
theorem dX2_act_71 : decode cX2_act 71 = .ok (.istore 4, 2) := dk_54 4 (dk_at dksX2_act_2 11 rfl rfl)
theorem dX2_act_73 : decode cX2_act 73 = .ok (.goto 48, 3) := dk_167 0 48 (dk_at dksX2_act_2 13 rfl rfl)
theorem dX2_act_76 : decode cX2_act 76 = .ok (.aload_n 3, 1) := dk_45 (dk_at dksX2_act_2 16 rfl rfl)
theorem dX2_act_77 : decode cX2_act 77 = .ok (.ldc_w 265, 3) := dk_19 1 9 (dk_at dksX2_act_2 17 rfl rfl)
theorem dX2_act_80 : decode cX2_act 80 = .ok (.invokevirtual 262, 3) := dk_182 1 6 (dk_at dksX2_act_2 20 rfl rfl)
theorem dX2_act_83 : decode cX2_act 83 = .ok (.ifCond .eq 38, 3) := dk_153 0 38 (dk_at dksX2_act_3 0 rfl rfl)
theorem dX2_act_86 : decode cX2_act 86 = .ok (.iconst 1, 1) := dk_4 (dk_at dksX2_act_3 3 rfl rfl)
theorem dX2_act_87 : decode cX2_act 87 = .ok (.istore 4, 2) := dk_54 4 (dk_at dksX2_act_3 4 rfl rfl)
theorem dX2_act_89 : decode cX2_act 89 = .ok (.goto 32, 3) := dk_167 0 32 (dk_at dksX2_act_3 6 rfl rfl)
theorem dX2_act_92 : decode cX2_act 92 = .ok (.aload_n 3, 1) := dk_45 (dk_at dksX2_act_3 9 rfl rfl)
theorem dX2_act_93 : decode cX2_act 93 = .ok (.ldc_w 267, 3) := dk_19 1 11 (dk_at dksX2_act_3 10 rfl rfl)
theorem dX2_act_96 : decode cX2_act 96 = .ok (.invokevirtual 262, 3) := dk_182 1 6 (dk_at dksX2_act_3 13 rfl rfl)
theorem dX2_act_99 : decode cX2_act 99 = .ok (.ifCond .eq 22, 3) := dk_153 0 22 (dk_at dksX2_act_3 16 rfl rfl)
theorem dX2_act_102 : decode cX2_act 102 = .ok (.iconst 2, 1) := dk_5 (dk_at dksX2_act_3 19 rfl rfl)
theorem dX2_act_103 : decode cX2_act 103 = .ok (.istore 4, 2) := dk_54 4 (dk_at dksX2_act_3 20 rfl rfl)
theorem dX2_act_105 : decode cX2_act 105 = .ok (.goto 16, 3) := dk_167 0 16 (dk_at dksX2_act_4 0 rfl rfl)
theorem dX2_act_108 : decode cX2_act 108 = .ok (.aload_n 3, 1) := dk_45 (dk_at dksX2_act_4 3 rfl rfl)
theorem dX2_act_109 : decode cX2_act 109 = .ok (.ldc_w 269, 3) := dk_19 1 13 (dk_at dksX2_act_4 4 rfl rfl)
theorem dX2_act_112 : decode cX2_act 112 = .ok (.invokevirtual 262, 3) := dk_182 1 6 (dk_at dksX2_act_4 7 rfl rfl)
theorem dX2_act_115 : decode cX2_act 115 = .ok (.ifCond .eq 6, 3) := dk_153 0 6 (dk_at dksX2_act_4 10 rfl rfl)
theorem dX2_act_118 : decode cX2_act 118 = .ok (.iconst 3, 1) := dk_6 (dk_at dksX2_act_4 13 rfl rfl)
theorem dX2_act_119 : decode cX2_act 119 = .ok (.istore 4, 2) := dk_54 4 (dk_at dksX2_act_4 14 rfl rfl)
theorem dX2_act_121 : decode cX2_act 121 = .ok (.iload 4, 2) := dk_21 4 (dk_at dksX2_act_4 16 rfl rfl)
theorem dX2_act_123 : decode cX2_act 123 = .ok (.tableswitch 84 0 3 #[29, 42, 55, 71], 29) := by decide +kernel
theorem dX2_act_152 : decode cX2_act 152 = .ok (.aload_n 0, 1) := dk_42 (dk_at dksX2_act_6 0 rfl rfl)
theorem dX2_act_153 : decode cX2_act 153 = .ok (.aload_n 2, 1) := dk_44 (dk_at dksX2_act_6 1 rfl rfl)
theorem dX2_act_154 : decode cX2_act 154 = .ok (.iconst 0, 1) := dk_3 (dk_at dksX2_act_6 2 rfl rfl)
theorem dX2_act_155 : decode cX2_act 155 = .ok (.iaload, 1) := dk_46 (dk_at dksX2_act_6 3 rfl rfl)
theorem dX2_act_156 : decode cX2_act 156 = .ok (.aload_n 2, 1) := dk_44 (dk_at dksX2_act_6 4 rfl rfl)
theorem dX2_act_157 : decode cX2_act 157 = .ok (.iconst 1, 1) := dk_4 (dk_at dksX2_act_6 5 rfl rfl)
theorem dX2_act_158 : decode cX2_act 158 = .ok (.iaload, 1) := dk_46 (dk_at dksX2_act_6 6 rfl rfl)
theorem dX2_act_159 : decode cX2_act 159 = .ok (.invokevirtual 271, 3) := dk_182 1 15 (dk_at dksX2_act_6 7 rfl rfl)
theorem dX2_act_162 : decode cX2_act 162 = .ok (.goto 52, 3) := dk_167 0 52 (dk_at dksX2_act_6 10 rfl rfl)
theorem dX2_act_165 : decode cX2_act 165 = .ok (.aload_n 0, 1) := dk_42 (dk_at dksX2_act_6 13 rfl rfl)
theorem dX2_act_166 : decode cX2_act 166 = .ok (.aload_n 2, 1) := dk_44 (dk_at dksX2_act_6 14 rfl rfl)
theorem dX2_act_167 : decode cX2_act 167 = .ok (.iconst 0, 1) := dk_3 (dk_at dksX2_act_6 15 rfl rfl)
theorem dX2_act_168 : decode cX2_act 168 = .ok (.iaload, 1) := dk_46 (dk_at dksX2_act_6 16 rfl rfl)
theorem dX2_act_169 : decode cX2_act 169 = .ok (.aload_n 2, 1) := dk_44 (dk_at dksX2_act_6 17 rfl rfl)
theorem dX2_act_170 : decode cX2_act 170 = .ok (.iconst 1, 1) := dk_4 (dk_at dksX2_act_6 18 rfl rfl)
theorem dX2_act_171 : decode cX2_act 171 = .ok (.iaload, 1) := dk_46 (dk_at dksX2_act_6 19 rfl rfl)
theorem dX2_act_172 : decode cX2_act 172 = .ok (.invokevirtual 273, 3) := dk_182 1 17 (dk_at dksX2_act_6 20 rfl rfl)
theorem dX2_act_175 : decode cX2_act 175 = .ok (.goto 39, 3) := dk_167 0 39 (dk_at dksX2_act_7 0 rfl rfl)
theorem dX2_act_178 : decode cX2_act 178 = .ok (.aload_n 0, 1) := dk_42 (dk_at dksX2_act_7 3 rfl rfl)
theorem dX2_act_179 : decode cX2_act 179 = .ok (.aload_n 2, 1) := dk_44 (dk_at dksX2_act_7 4 rfl rfl)
theorem dX2_act_180 : decode cX2_act 180 = .ok (.iconst 0, 1) := dk_3 (dk_at dksX2_act_7 5 rfl rfl)
theorem dX2_act_181 : decode cX2_act 181 = .ok (.iaload, 1) := dk_46 (dk_at dksX2_act_7 6 rfl rfl)
theorem dX2_act_182 : decode cX2_act 182 = .ok (.aload_n 2, 1) := dk_44 (dk_at dksX2_act_7 7 rfl rfl)
theorem dX2_act_183 : decode cX2_act 183 = .ok (.iconst 1, 1) := dk_4 (dk_at dksX2_act_7 8 rfl rfl)
theorem dX2_act_184 : decode cX2_act 184 = .ok (.iaload, 1) := dk_46 (dk_at dksX2_act_7 9 rfl rfl)
theorem dX2_act_185 : decode cX2_act 185 = .ok (.aload_n 2, 1) := dk_44 (dk_at dksX2_act_7 10 rfl rfl)
theorem dX2_act_186 : decode cX2_act 186 = .ok (.iconst 2, 1) := dk_5 (dk_at dksX2_act_7 11 rfl rfl)
theorem dX2_act_187 : decode cX2_act 187 = .ok (.iaload, 1) := dk_46 (dk_at dksX2_act_7 12 rfl rfl)
theorem dX2_act_188 : decode cX2_act 188 = .ok (.invokevirtual 275, 3) := dk_182 1 19 (dk_at dksX2_act_7 13 rfl rfl)
theorem dX2_act_191 : decode cX2_act 191 = .ok (.goto 23, 3) := dk_167 0 23 (dk_at dksX2_act_7 16 rfl rfl)
theorem dX2_act_194 : decode cX2_act 194 = .ok (.aload_n 0, 1) := dk_42 (dk_at dksX2_act_7 19 rfl rfl)
theorem dX2_act_195 : decode cX2_act 195 = .ok (.aload_n 2, 1) := dk_44 (dk_at dksX2_act_7 20 rfl rfl)
theorem dX2_act_196 : decode cX2_act 196 = .ok (.iconst 0, 1) := dk_3 (dk_at dksX2_act_7 21 rfl rfl)
theorem dX2_act_197 : decode cX2_act 197 = .ok (.iaload, 1) := dk_46 (dk_at dksX2_act_7 22 rfl rfl)
theorem dX2_act_198 : decode cX2_act 198 = .ok (.aload_n 2, 1) := dk_44 (dk_at dksX2_act_7 23 rfl rfl)
theorem dX2_act_199 : decode cX2_act 199 = .ok (.iconst 1, 1) := dk_4 (dk_at dksX2_act_8 0 rfl rfl)
theorem dX2_act_200 : decode cX2_act 200 = .ok (.iaload, 1) := dk_46 (dk_at dksX2_act_8 1 rfl rfl)
theorem dX2_act_201 : decode cX2_act 201 = .ok (.invokevirtual 278, 3) := dk_182 1 22 (dk_at dksX2_act_8 2 rfl rfl)
theorem dX2_act_204 : decode cX2_act 204 = .ok (.goto 10, 3) := dk_167 0 10 (dk_at dksX2_act_8 5 rfl rfl)
theorem dX2_act_207 : decode cX2_act 207 = .ok (.aload_n 0, 1) := dk_42 (dk_at dksX2_act_8 8 rfl rfl)
theorem dX2_act_208 : decode cX2_act 208 = .ok (.aload_n 2, 1) := dk_44 (dk_at dksX2_act_8 9 rfl rfl)
theorem dX2_act_209 : decode cX2_act 209 = .ok (.iconst 0, 1) := dk_3 (dk_at dksX2_act_8 10 rfl rfl)
theorem dX2_act_210 : decode cX2_act 210 = .ok (.iaload, 1) := dk_46 (dk_at dksX2_act_8 11 rfl rfl)
theorem dX2_act_211 : decode cX2_act 211 = .ok (.invokevirtual 280, 3) := dk_182 1 24 (dk_at dksX2_act_8 12 rfl rfl)
theorem dX2_act_214 : decode cX2_act 214 = .ok (.ireturn, 1) := dk_172 (dk_at dksX2_act_8 15 rfl rfl)
abbrev cX2_step : ByteArray := prog_11_method_23_code
def yX2_step : MethodName := ⟨RX2, "step", "(II)I"⟩
def dkwX2_step_3 : List UInt8 := [180, 0, 29, 16, 6, 92, 46, 42, 21, 4, 182, 0, 156, 184, 0, 146, 96, 79, 21, 4, 172]
abbrev dktX2_step_3 : List UInt8 := dkwX2_step_3 ++ []
def dkwX2_step_2 : List UInt8 := [181, 0, 191, 45, 89, 180, 0, 215, 4, 96, 181, 0, 215, 42, 180, 0, 29, 3, 92, 46, 4, 96, 79, 42]
abbrev dktX2_step_2 : List UInt8 := dkwX2_step_2 ++ dktX2_step_3
def dkwX2_step_1 : List UInt8 := [28, 182, 0, 212, 54, 4, 21, 4, 2, 160, 0, 6, 16, 254, 172, 45, 21, 4, 181, 0, 172, 45, 4]
abbrev dktX2_step_1 : List UInt8 := dkwX2_step_1 ++ dktX2_step_2
def dkwX2_step_0 : List UInt8 := [42, 27, 182, 0, 205, 78, 28, 184, 0, 209, 45, 180, 0, 191, 153, 0, 5, 2, 172, 42, 45, 180, 0, 172]
abbrev dktX2_step_0 : List UInt8 := dkwX2_step_0 ++ dktX2_step_1
theorem dksX2_step_0 : cX2_step.data.toList.drop 0 = dktX2_step_0 := by decide +kernel
theorem dksX2_step_1 : cX2_step.data.toList.drop 24 = dktX2_step_1 := dk_seg dksX2_step_0 24 rfl rfl
theorem dksX2_step_2 : cX2_step.data.toList.drop 47 = dktX2_step_2 := dk_seg dksX2_step_1 23 rfl rfl
theorem dksX2_step_3 : cX2_step.data.toList.drop 71 = dktX2_step_3 := dk_seg dksX2_step_2 24 rfl rfl
theorem dX2_step_0 : decode cX2_step 0 = .ok (.aload_n 0, 1) := dk_42 (dk_at dksX2_step_0 0 rfl rfl)
theorem dX2_step_1 : decode cX2_step 1 = .ok (.iload_n 1, 1) := dk_27 (dk_at dksX2_step_0 1 rfl rfl)
theorem dX2_step_2 : decode cX2_step 2 = .ok (.invokevirtual 205, 3) := dk_182 0 205 (dk_at dksX2_step_0 2 rfl rfl)
theorem dX2_step_5 : decode cX2_step 5 = .ok (.astore_n 3, 1) := dk_78 (dk_at dksX2_step_0 5 rfl rfl)
theorem dX2_step_6 : decode cX2_step 6 = .ok (.iload_n 2, 1) := dk_28 (dk_at dksX2_step_0 6 rfl rfl)
theorem dX2_step_7 : decode cX2_step 7 = .ok (.invokestatic 209, 3) := dk_184 0 209 (dk_at dksX2_step_0 7 rfl rfl)
theorem dX2_step_10 : decode cX2_step 10 = .ok (.aload_n 3, 1) := dk_45 (dk_at dksX2_step_0 10 rfl rfl)
theorem dX2_step_11 : decode cX2_step 11 = .ok (.getfield 191, 3) := dk_180 0 191 (dk_at dksX2_step_0 11 rfl rfl)
theorem dX2_step_14 : decode cX2_step 14 = .ok (.ifCond .eq 5, 3) := dk_153 0 5 (dk_at dksX2_step_0 14 rfl rfl)
theorem dX2_step_17 : decode cX2_step 17 = .ok (.iconst (-1), 1) := dk_2 (dk_at dksX2_step_0 17 rfl rfl)
theorem dX2_step_18 : decode cX2_step 18 = .ok (.ireturn, 1) := dk_172 (dk_at dksX2_step_0 18 rfl rfl)
theorem dX2_step_19 : decode cX2_step 19 = .ok (.aload_n 0, 1) := dk_42 (dk_at dksX2_step_0 19 rfl rfl)
theorem dX2_step_20 : decode cX2_step 20 = .ok (.aload_n 3, 1) := dk_45 (dk_at dksX2_step_0 20 rfl rfl)
theorem dX2_step_21 : decode cX2_step 21 = .ok (.getfield 172, 3) := dk_180 0 172 (dk_at dksX2_step_0 21 rfl rfl)
theorem dX2_step_24 : decode cX2_step 24 = .ok (.iload_n 2, 1) := dk_28 (dk_at dksX2_step_1 0 rfl rfl)
theorem dX2_step_25 : decode cX2_step 25 = .ok (.invokevirtual 212, 3) := dk_182 0 212 (dk_at dksX2_step_1 1 rfl rfl)
theorem dX2_step_28 : decode cX2_step 28 = .ok (.istore 4, 2) := dk_54 4 (dk_at dksX2_step_1 4 rfl rfl)
theorem dX2_step_30 : decode cX2_step 30 = .ok (.iload 4, 2) := dk_21 4 (dk_at dksX2_step_1 6 rfl rfl)
theorem dX2_step_32 : decode cX2_step 32 = .ok (.iconst (-1), 1) := dk_2 (dk_at dksX2_step_1 8 rfl rfl)
theorem dX2_step_33 : decode cX2_step 33 = .ok (.if_icmp .ne 6, 3) := dk_160 0 6 (dk_at dksX2_step_1 9 rfl rfl)
theorem dX2_step_36 : decode cX2_step 36 = .ok (.bipush (-2), 2) := dk_16 254 (dk_at dksX2_step_1 12 rfl rfl)
theorem dX2_step_38 : decode cX2_step 38 = .ok (.ireturn, 1) := dk_172 (dk_at dksX2_step_1 14 rfl rfl)
theorem dX2_step_39 : decode cX2_step 39 = .ok (.aload_n 3, 1) := dk_45 (dk_at dksX2_step_1 15 rfl rfl)
theorem dX2_step_40 : decode cX2_step 40 = .ok (.iload 4, 2) := dk_21 4 (dk_at dksX2_step_1 16 rfl rfl)
theorem dX2_step_42 : decode cX2_step 42 = .ok (.putfield 172, 3) := dk_181 0 172 (dk_at dksX2_step_1 18 rfl rfl)
theorem dX2_step_45 : decode cX2_step 45 = .ok (.aload_n 3, 1) := dk_45 (dk_at dksX2_step_1 21 rfl rfl)
theorem dX2_step_46 : decode cX2_step 46 = .ok (.iconst 1, 1) := dk_4 (dk_at dksX2_step_1 22 rfl rfl)
theorem dX2_step_47 : decode cX2_step 47 = .ok (.putfield 191, 3) := dk_181 0 191 (dk_at dksX2_step_2 0 rfl rfl)
theorem dX2_step_50 : decode cX2_step 50 = .ok (.aload_n 3, 1) := dk_45 (dk_at dksX2_step_2 3 rfl rfl)
theorem dX2_step_51 : decode cX2_step 51 = .ok (.dup, 1) := dk_89 (dk_at dksX2_step_2 4 rfl rfl)
theorem dX2_step_52 : decode cX2_step 52 = .ok (.getfield 215, 3) := dk_180 0 215 (dk_at dksX2_step_2 5 rfl rfl)
theorem dX2_step_55 : decode cX2_step 55 = .ok (.iconst 1, 1) := dk_4 (dk_at dksX2_step_2 8 rfl rfl)
theorem dX2_step_56 : decode cX2_step 56 = .ok (.iadd, 1) := dk_96 (dk_at dksX2_step_2 9 rfl rfl)
theorem dX2_step_57 : decode cX2_step 57 = .ok (.putfield 215, 3) := dk_181 0 215 (dk_at dksX2_step_2 10 rfl rfl)
theorem dX2_step_60 : decode cX2_step 60 = .ok (.aload_n 0, 1) := dk_42 (dk_at dksX2_step_2 13 rfl rfl)
theorem dX2_step_61 : decode cX2_step 61 = .ok (.getfield 29, 3) := dk_180 0 29 (dk_at dksX2_step_2 14 rfl rfl)
theorem dX2_step_64 : decode cX2_step 64 = .ok (.iconst 0, 1) := dk_3 (dk_at dksX2_step_2 17 rfl rfl)
theorem dX2_step_65 : decode cX2_step 65 = .ok (.dup2, 1) := dk_92 (dk_at dksX2_step_2 18 rfl rfl)
theorem dX2_step_66 : decode cX2_step 66 = .ok (.iaload, 1) := dk_46 (dk_at dksX2_step_2 19 rfl rfl)
theorem dX2_step_67 : decode cX2_step 67 = .ok (.iconst 1, 1) := dk_4 (dk_at dksX2_step_2 20 rfl rfl)
theorem dX2_step_68 : decode cX2_step 68 = .ok (.iadd, 1) := dk_96 (dk_at dksX2_step_2 21 rfl rfl)
theorem dX2_step_69 : decode cX2_step 69 = .ok (.iastore, 1) := dk_79 (dk_at dksX2_step_2 22 rfl rfl)
theorem dX2_step_70 : decode cX2_step 70 = .ok (.aload_n 0, 1) := dk_42 (dk_at dksX2_step_2 23 rfl rfl)
theorem dX2_step_71 : decode cX2_step 71 = .ok (.getfield 29, 3) := dk_180 0 29 (dk_at dksX2_step_3 0 rfl rfl)
theorem dX2_step_74 : decode cX2_step 74 = .ok (.bipush 6, 2) := dk_16 6 (dk_at dksX2_step_3 3 rfl rfl)
theorem dX2_step_76 : decode cX2_step 76 = .ok (.dup2, 1) := dk_92 (dk_at dksX2_step_3 5 rfl rfl)
theorem dX2_step_77 : decode cX2_step 77 = .ok (.iaload, 1) := dk_46 (dk_at dksX2_step_3 6 rfl rfl)
theorem dX2_step_78 : decode cX2_step 78 = .ok (.aload_n 0, 1) := dk_42 (dk_at dksX2_step_3 7 rfl rfl)
theorem dX2_step_79 : decode cX2_step 79 = .ok (.iload 4, 2) := dk_21 4 (dk_at dksX2_step_3 8 rfl rfl)
theorem dX2_step_81 : decode cX2_step 81 = .ok (.invokevirtual 156, 3) := dk_182 0 156 (dk_at dksX2_step_3 10 rfl rfl)
theorem dX2_step_84 : decode cX2_step 84 = .ok (.invokestatic 146, 3) := dk_184 0 146 (dk_at dksX2_step_3 13 rfl rfl)
theorem dX2_step_87 : decode cX2_step 87 = .ok (.iadd, 1) := dk_96 (dk_at dksX2_step_3 16 rfl rfl)
theorem dX2_step_88 : decode cX2_step 88 = .ok (.iastore, 1) := dk_79 (dk_at dksX2_step_3 17 rfl rfl)
theorem dX2_step_89 : decode cX2_step 89 = .ok (.iload 4, 2) := dk_21 4 (dk_at dksX2_step_3 18 rfl rfl)
theorem dX2_step_91 : decode cX2_step 91 = .ok (.ireturn, 1) := dk_172 (dk_at dksX2_step_3 20 rfl rfl)
abbrev cX2_aCourier : ByteArray := prog_11_method_19_code
def yX2_aCourier : MethodName := ⟨RX2, "aCourier", "(I)LMistCouriers$Courier;"⟩
def dkwX2_aCourier_1 : List UInt8 := [182, 0, 48, 192, 0, 67, 176]
abbrev dktX2_aCourier_1 : List UInt8 := dkwX2_aCourier_1 ++ []
def dkwX2_aCourier_0 : List UInt8 := [27, 3, 42, 180, 0, 23, 182, 0, 44, 4, 100, 184, 0, 138, 184, 0, 198, 42, 180, 0, 23, 27]
abbrev dktX2_aCourier_0 : List UInt8 := dkwX2_aCourier_0 ++ dktX2_aCourier_1
theorem dksX2_aCourier_0 : cX2_aCourier.data.toList.drop 0 = dktX2_aCourier_0 := by decide +kernel
theorem dksX2_aCourier_1 : cX2_aCourier.data.toList.drop 22 = dktX2_aCourier_1 := dk_seg dksX2_aCourier_0 22 rfl rfl
theorem dX2_aCourier_0 : decode cX2_aCourier 0 = .ok (.iload_n 1, 1) := dk_27 (dk_at dksX2_aCourier_0 0 rfl rfl)
theorem dX2_aCourier_1 : decode cX2_aCourier 1 = .ok (.iconst 0, 1) := dk_3 (dk_at dksX2_aCourier_0 1 rfl rfl)
theorem dX2_aCourier_2 : decode cX2_aCourier 2 = .ok (.aload_n 0, 1) := dk_42 (dk_at dksX2_aCourier_0 2 rfl rfl)
theorem dX2_aCourier_3 : decode cX2_aCourier 3 = .ok (.getfield 23, 3) := dk_180 0 23 (dk_at dksX2_aCourier_0 3 rfl rfl)
theorem dX2_aCourier_6 : decode cX2_aCourier 6 = .ok (.invokevirtual 44, 3) := dk_182 0 44 (dk_at dksX2_aCourier_0 6 rfl rfl)
theorem dX2_aCourier_9 : decode cX2_aCourier 9 = .ok (.iconst 1, 1) := dk_4 (dk_at dksX2_aCourier_0 9 rfl rfl)
theorem dX2_aCourier_10 : decode cX2_aCourier 10 = .ok (.isub, 1) := dk_100 (dk_at dksX2_aCourier_0 10 rfl rfl)
theorem dX2_aCourier_11 : decode cX2_aCourier 11 = .ok (.invokestatic 138, 3) := dk_184 0 138 (dk_at dksX2_aCourier_0 11 rfl rfl)
theorem dX2_aCourier_14 : decode cX2_aCourier 14 = .ok (.invokestatic 198, 3) := dk_184 0 198 (dk_at dksX2_aCourier_0 14 rfl rfl)
theorem dX2_aCourier_17 : decode cX2_aCourier 17 = .ok (.aload_n 0, 1) := dk_42 (dk_at dksX2_aCourier_0 17 rfl rfl)
theorem dX2_aCourier_18 : decode cX2_aCourier 18 = .ok (.getfield 23, 3) := dk_180 0 23 (dk_at dksX2_aCourier_0 18 rfl rfl)
theorem dX2_aCourier_21 : decode cX2_aCourier 21 = .ok (.iload_n 1, 1) := dk_27 (dk_at dksX2_aCourier_0 21 rfl rfl)
theorem dX2_aCourier_22 : decode cX2_aCourier 22 = .ok (.invokevirtual 48, 3) := dk_182 0 48 (dk_at dksX2_aCourier_1 0 rfl rfl)
theorem dX2_aCourier_25 : decode cX2_aCourier 25 = .ok (.checkcast 67, 3) := dk_192 0 67 (dk_at dksX2_aCourier_1 3 rfl rfl)
theorem dX2_aCourier_28 : decode cX2_aCourier 28 = .ok (.areturn, 1) := dk_176 (dk_at dksX2_aCourier_1 6 rfl rfl)
abbrev cX2_requireDirection : ByteArray := prog_11_method_22_code
def yX2_requireDirection : MethodName := ⟨RX2, "requireDirection", "(I)V"⟩
def dkwX2_requireDirection_0 : List UInt8 := [26, 3, 6, 184, 0, 138, 184, 0, 202, 177]
abbrev dktX2_requireDirection_0 : List UInt8 := dkwX2_requireDirection_0 ++ []
theorem dksX2_requireDirection_0 : cX2_requireDirection.data.toList.drop 0 = dktX2_requireDirection_0 := by decide +kernel
theorem dX2_requireDirection_0 : decode cX2_requireDirection 0 = .ok (.iload_n 0, 1) := dk_26 (dk_at dksX2_requireDirection_0 0 rfl rfl)
theorem dX2_requireDirection_1 : decode cX2_requireDirection 1 = .ok (.iconst 0, 1) := dk_3 (dk_at dksX2_requireDirection_0 1 rfl rfl)
theorem dX2_requireDirection_2 : decode cX2_requireDirection 2 = .ok (.iconst 3, 1) := dk_6 (dk_at dksX2_requireDirection_0 2 rfl rfl)
theorem dX2_requireDirection_3 : decode cX2_requireDirection 3 = .ok (.invokestatic 138, 3) := dk_184 0 138 (dk_at dksX2_requireDirection_0 3 rfl rfl)
theorem dX2_requireDirection_6 : decode cX2_requireDirection 6 = .ok (.invokestatic 202, 3) := dk_184 0 202 (dk_at dksX2_requireDirection_0 6 rfl rfl)
theorem dX2_requireDirection_9 : decode cX2_requireDirection 9 = .ok (.return_, 1) := dk_177 (dk_at dksX2_requireDirection_0 9 rfl rfl)
abbrev cX2_stepsTo : ByteArray := prog_11_method_21_code
def yX2_stepsTo : MethodName := ⟨RX2, "stepsTo", "(II)I"⟩
def dkwX2_stepsTo_1 : List UInt8 := [153, 0, 7, 2, 167, 0, 4, 29, 172]
abbrev dktX2_stepsTo_1 : List UInt8 := dkwX2_stepsTo_1 ++ []
def dkwX2_stepsTo_0 : List UInt8 := [42, 180, 0, 33, 27, 28, 182, 0, 118, 62, 29, 2, 159, 0, 15, 42, 180, 0, 33, 180, 0, 121, 29, 51]
abbrev dktX2_stepsTo_0 : List UInt8 := dkwX2_stepsTo_0 ++ dktX2_stepsTo_1
theorem dksX2_stepsTo_0 : cX2_stepsTo.data.toList.drop 0 = dktX2_stepsTo_0 := by decide +kernel
theorem dksX2_stepsTo_1 : cX2_stepsTo.data.toList.drop 24 = dktX2_stepsTo_1 := dk_seg dksX2_stepsTo_0 24 rfl rfl
theorem dX2_stepsTo_0 : decode cX2_stepsTo 0 = .ok (.aload_n 0, 1) := dk_42 (dk_at dksX2_stepsTo_0 0 rfl rfl)
theorem dX2_stepsTo_1 : decode cX2_stepsTo 1 = .ok (.getfield 33, 3) := dk_180 0 33 (dk_at dksX2_stepsTo_0 1 rfl rfl)
theorem dX2_stepsTo_4 : decode cX2_stepsTo 4 = .ok (.iload_n 1, 1) := dk_27 (dk_at dksX2_stepsTo_0 4 rfl rfl)
theorem dX2_stepsTo_5 : decode cX2_stepsTo 5 = .ok (.iload_n 2, 1) := dk_28 (dk_at dksX2_stepsTo_0 5 rfl rfl)
theorem dX2_stepsTo_6 : decode cX2_stepsTo 6 = .ok (.invokevirtual 118, 3) := dk_182 0 118 (dk_at dksX2_stepsTo_0 6 rfl rfl)
theorem dX2_stepsTo_9 : decode cX2_stepsTo 9 = .ok (.istore_n 3, 1) := dk_62 (dk_at dksX2_stepsTo_0 9 rfl rfl)
theorem dX2_stepsTo_10 : decode cX2_stepsTo 10 = .ok (.iload_n 3, 1) := dk_29 (dk_at dksX2_stepsTo_0 10 rfl rfl)
theorem dX2_stepsTo_11 : decode cX2_stepsTo 11 = .ok (.iconst (-1), 1) := dk_2 (dk_at dksX2_stepsTo_0 11 rfl rfl)
theorem dX2_stepsTo_12 : decode cX2_stepsTo 12 = .ok (.if_icmp .eq 15, 3) := dk_159 0 15 (dk_at dksX2_stepsTo_0 12 rfl rfl)
theorem dX2_stepsTo_15 : decode cX2_stepsTo 15 = .ok (.aload_n 0, 1) := dk_42 (dk_at dksX2_stepsTo_0 15 rfl rfl)
theorem dX2_stepsTo_16 : decode cX2_stepsTo 16 = .ok (.getfield 33, 3) := dk_180 0 33 (dk_at dksX2_stepsTo_0 16 rfl rfl)
theorem dX2_stepsTo_19 : decode cX2_stepsTo 19 = .ok (.getfield 121, 3) := dk_180 0 121 (dk_at dksX2_stepsTo_0 19 rfl rfl)
theorem dX2_stepsTo_22 : decode cX2_stepsTo 22 = .ok (.iload_n 3, 1) := dk_29 (dk_at dksX2_stepsTo_0 22 rfl rfl)
theorem dX2_stepsTo_23 : decode cX2_stepsTo 23 = .ok (.baload, 1) := dk_51 (dk_at dksX2_stepsTo_0 23 rfl rfl)
theorem dX2_stepsTo_24 : decode cX2_stepsTo 24 = .ok (.ifCond .eq 7, 3) := dk_153 0 7 (dk_at dksX2_stepsTo_1 0 rfl rfl)
theorem dX2_stepsTo_27 : decode cX2_stepsTo 27 = .ok (.iconst (-1), 1) := dk_2 (dk_at dksX2_stepsTo_1 3 rfl rfl)
theorem dX2_stepsTo_28 : decode cX2_stepsTo 28 = .ok (.goto 4, 3) := dk_167 0 4 (dk_at dksX2_stepsTo_1 4 rfl rfl)
theorem dX2_stepsTo_31 : decode cX2_stepsTo 31 = .ok (.iload_n 3, 1) := dk_29 (dk_at dksX2_stepsTo_1 7 rfl rfl)
theorem dX2_stepsTo_32 : decode cX2_stepsTo 32 = .ok (.ireturn, 1) := dk_172 (dk_at dksX2_stepsTo_1 8 rfl rfl)
abbrev cX2_isSeen : ByteArray := prog_11_method_10_code
def yX2_isSeen : MethodName := ⟨RX2, "isSeen", "(I)Z"⟩
def dkwX2_isSeen_0 : List UInt8 := [42, 27, 182, 0, 150, 158, 0, 7, 4, 167, 0, 4, 3, 172]
abbrev dktX2_isSeen_0 : List UInt8 := dkwX2_isSeen_0 ++ []
theorem dksX2_isSeen_0 : cX2_isSeen.data.toList.drop 0 = dktX2_isSeen_0 := by decide +kernel
theorem dX2_isSeen_0 : decode cX2_isSeen 0 = .ok (.aload_n 0, 1) := dk_42 (dk_at dksX2_isSeen_0 0 rfl rfl)
theorem dX2_isSeen_1 : decode cX2_isSeen 1 = .ok (.iload_n 1, 1) := dk_27 (dk_at dksX2_isSeen_0 1 rfl rfl)
theorem dX2_isSeen_2 : decode cX2_isSeen 2 = .ok (.invokevirtual 150, 3) := dk_182 0 150 (dk_at dksX2_isSeen_0 2 rfl rfl)
theorem dX2_isSeen_5 : decode cX2_isSeen 5 = .ok (.ifCond .le 7, 3) := dk_158 0 7 (dk_at dksX2_isSeen_0 5 rfl rfl)
theorem dX2_isSeen_8 : decode cX2_isSeen 8 = .ok (.iconst 1, 1) := dk_4 (dk_at dksX2_isSeen_0 8 rfl rfl)
theorem dX2_isSeen_9 : decode cX2_isSeen 9 = .ok (.goto 4, 3) := dk_167 0 4 (dk_at dksX2_isSeen_0 9 rfl rfl)
theorem dX2_isSeen_12 : decode cX2_isSeen 12 = .ok (.iconst 0, 1) := dk_3 (dk_at dksX2_isSeen_0 12 rfl rfl)
theorem dX2_isSeen_13 : decode cX2_isSeen 13 = .ok (.ireturn, 1) := dk_172 (dk_at dksX2_isSeen_0 13 rfl rfl)
abbrev cX2_seers : ByteArray := prog_11_method_9_code
def yX2_seers : MethodName := ⟨RX2, "seers", "(I)I"⟩
def dkwX2_seers_1 : List UInt8 := [182, 0, 48, 192, 0, 62, 27, 182, 0, 142, 184, 0, 146, 96, 61, 132, 3, 1, 167, 255, 220, 28, 172]
abbrev dktX2_seers_1 : List UInt8 := dkwX2_seers_1 ++ []
def dkwX2_seers_0 : List UInt8 := [3, 61, 3, 62, 29, 42, 180, 0, 20, 182, 0, 44, 162, 0, 31, 28, 42, 42, 180, 0, 20, 29]
abbrev dktX2_seers_0 : List UInt8 := dkwX2_seers_0 ++ dktX2_seers_1
theorem dksX2_seers_0 : cX2_seers.data.toList.drop 0 = dktX2_seers_0 := by decide +kernel
theorem dksX2_seers_1 : cX2_seers.data.toList.drop 22 = dktX2_seers_1 := dk_seg dksX2_seers_0 22 rfl rfl
theorem dX2_seers_0 : decode cX2_seers 0 = .ok (.iconst 0, 1) := dk_3 (dk_at dksX2_seers_0 0 rfl rfl)
theorem dX2_seers_1 : decode cX2_seers 1 = .ok (.istore_n 2, 1) := dk_61 (dk_at dksX2_seers_0 1 rfl rfl)
theorem dX2_seers_2 : decode cX2_seers 2 = .ok (.iconst 0, 1) := dk_3 (dk_at dksX2_seers_0 2 rfl rfl)
theorem dX2_seers_3 : decode cX2_seers 3 = .ok (.istore_n 3, 1) := dk_62 (dk_at dksX2_seers_0 3 rfl rfl)
theorem dX2_seers_4 : decode cX2_seers 4 = .ok (.iload_n 3, 1) := dk_29 (dk_at dksX2_seers_0 4 rfl rfl)
theorem dX2_seers_5 : decode cX2_seers 5 = .ok (.aload_n 0, 1) := dk_42 (dk_at dksX2_seers_0 5 rfl rfl)
theorem dX2_seers_6 : decode cX2_seers 6 = .ok (.getfield 20, 3) := dk_180 0 20 (dk_at dksX2_seers_0 6 rfl rfl)
theorem dX2_seers_9 : decode cX2_seers 9 = .ok (.invokevirtual 44, 3) := dk_182 0 44 (dk_at dksX2_seers_0 9 rfl rfl)
theorem dX2_seers_12 : decode cX2_seers 12 = .ok (.if_icmp .ge 31, 3) := dk_162 0 31 (dk_at dksX2_seers_0 12 rfl rfl)
theorem dX2_seers_15 : decode cX2_seers 15 = .ok (.iload_n 2, 1) := dk_28 (dk_at dksX2_seers_0 15 rfl rfl)
theorem dX2_seers_16 : decode cX2_seers 16 = .ok (.aload_n 0, 1) := dk_42 (dk_at dksX2_seers_0 16 rfl rfl)
theorem dX2_seers_17 : decode cX2_seers 17 = .ok (.aload_n 0, 1) := dk_42 (dk_at dksX2_seers_0 17 rfl rfl)
theorem dX2_seers_18 : decode cX2_seers 18 = .ok (.getfield 20, 3) := dk_180 0 20 (dk_at dksX2_seers_0 18 rfl rfl)
theorem dX2_seers_21 : decode cX2_seers 21 = .ok (.iload_n 3, 1) := dk_29 (dk_at dksX2_seers_0 21 rfl rfl)
theorem dX2_seers_22 : decode cX2_seers 22 = .ok (.invokevirtual 48, 3) := dk_182 0 48 (dk_at dksX2_seers_1 0 rfl rfl)
theorem dX2_seers_25 : decode cX2_seers 25 = .ok (.checkcast 62, 3) := dk_192 0 62 (dk_at dksX2_seers_1 3 rfl rfl)
theorem dX2_seers_28 : decode cX2_seers 28 = .ok (.iload_n 1, 1) := dk_27 (dk_at dksX2_seers_1 6 rfl rfl)
theorem dX2_seers_29 : decode cX2_seers 29 = .ok (.invokevirtual 142, 3) := dk_182 0 142 (dk_at dksX2_seers_1 7 rfl rfl)
theorem dX2_seers_32 : decode cX2_seers 32 = .ok (.invokestatic 146, 3) := dk_184 0 146 (dk_at dksX2_seers_1 10 rfl rfl)
theorem dX2_seers_35 : decode cX2_seers 35 = .ok (.iadd, 1) := dk_96 (dk_at dksX2_seers_1 13 rfl rfl)
theorem dX2_seers_36 : decode cX2_seers 36 = .ok (.istore_n 2, 1) := dk_61 (dk_at dksX2_seers_1 14 rfl rfl)
theorem dX2_seers_37 : decode cX2_seers 37 = .ok (.iinc 3 1, 3) := dk_132 3 1 (dk_at dksX2_seers_1 15 rfl rfl)
theorem dX2_seers_40 : decode cX2_seers 40 = .ok (.goto (-36), 3) := dk_167 255 220 (dk_at dksX2_seers_1 18 rfl rfl)
theorem dX2_seers_43 : decode cX2_seers 43 = .ok (.iload_n 2, 1) := dk_28 (dk_at dksX2_seers_1 21 rfl rfl)
theorem dX2_seers_44 : decode cX2_seers 44 = .ok (.ireturn, 1) := dk_172 (dk_at dksX2_seers_1 22 rfl rfl)
abbrev cX2_sees : ByteArray := prog_11_method_8_code
def yX2_sees : MethodName := ⟨RX2, "sees", "(LMistCouriers$Watcher;I)Z"⟩
def dkwX2_sees_0 : List UInt8 := [42, 43, 28, 182, 0, 134, 3, 43, 180, 0, 112, 184, 0, 138, 172]
abbrev dktX2_sees_0 : List UInt8 := dkwX2_sees_0 ++ []
theorem dksX2_sees_0 : cX2_sees.data.toList.drop 0 = dktX2_sees_0 := by decide +kernel
theorem dX2_sees_0 : decode cX2_sees 0 = .ok (.aload_n 0, 1) := dk_42 (dk_at dksX2_sees_0 0 rfl rfl)
theorem dX2_sees_1 : decode cX2_sees 1 = .ok (.aload_n 1, 1) := dk_43 (dk_at dksX2_sees_0 1 rfl rfl)
theorem dX2_sees_2 : decode cX2_sees 2 = .ok (.iload_n 2, 1) := dk_28 (dk_at dksX2_sees_0 2 rfl rfl)
theorem dX2_sees_3 : decode cX2_sees 3 = .ok (.invokevirtual 134, 3) := dk_182 0 134 (dk_at dksX2_sees_0 3 rfl rfl)
theorem dX2_sees_6 : decode cX2_sees 6 = .ok (.iconst 0, 1) := dk_3 (dk_at dksX2_sees_0 6 rfl rfl)
theorem dX2_sees_7 : decode cX2_sees 7 = .ok (.aload_n 1, 1) := dk_43 (dk_at dksX2_sees_0 7 rfl rfl)
theorem dX2_sees_8 : decode cX2_sees 8 = .ok (.getfield 112, 3) := dk_180 0 112 (dk_at dksX2_sees_0 8 rfl rfl)
theorem dX2_sees_11 : decode cX2_sees 11 = .ok (.invokestatic 138, 3) := dk_184 0 138 (dk_at dksX2_sees_0 11 rfl rfl)
theorem dX2_sees_14 : decode cX2_sees 14 = .ok (.ireturn, 1) := dk_172 (dk_at dksX2_sees_0 14 rfl rfl)
abbrev cX2_veil : ByteArray := prog_11_method_7_code
def yX2_veil : MethodName := ⟨RX2, "veil", "(LMistCouriers$Watcher;I)I"⟩
def dkwX2_veil_3 : List UInt8 := [180, 0, 125, 28, 182, 0, 97, 29, 96, 172]
abbrev dktX2_veil_3 : List UInt8 := dkwX2_veil_3 ++ []
def dkwX2_veil_2 : List UInt8 := [132, 5, 1, 167, 255, 219, 21, 4, 43, 180, 0, 125, 160, 0, 7, 3, 167, 0, 17, 42, 180, 0, 33, 43]
abbrev dktX2_veil_2 : List UInt8 := dkwX2_veil_2 ++ dktX2_veil_3
def dkwX2_veil_1 : List UInt8 := [182, 0, 126, 54, 4, 21, 4, 2, 160, 0, 5, 2, 172, 29, 42, 21, 4, 182, 0, 130, 96, 62]
abbrev dktX2_veil_1 : List UInt8 := dkwX2_veil_1 ++ dktX2_veil_2
def dkwX2_veil_0 : List UInt8 := [3, 62, 43, 180, 0, 125, 54, 4, 4, 54, 5, 21, 4, 28, 159, 0, 37, 42, 43, 21, 4, 21, 5]
abbrev dktX2_veil_0 : List UInt8 := dkwX2_veil_0 ++ dktX2_veil_1
theorem dksX2_veil_0 : cX2_veil.data.toList.drop 0 = dktX2_veil_0 := by decide +kernel
theorem dksX2_veil_1 : cX2_veil.data.toList.drop 23 = dktX2_veil_1 := dk_seg dksX2_veil_0 23 rfl rfl
theorem dksX2_veil_2 : cX2_veil.data.toList.drop 45 = dktX2_veil_2 := dk_seg dksX2_veil_1 22 rfl rfl
theorem dksX2_veil_3 : cX2_veil.data.toList.drop 69 = dktX2_veil_3 := dk_seg dksX2_veil_2 24 rfl rfl
theorem dX2_veil_0 : decode cX2_veil 0 = .ok (.iconst 0, 1) := dk_3 (dk_at dksX2_veil_0 0 rfl rfl)
theorem dX2_veil_1 : decode cX2_veil 1 = .ok (.istore_n 3, 1) := dk_62 (dk_at dksX2_veil_0 1 rfl rfl)
theorem dX2_veil_2 : decode cX2_veil 2 = .ok (.aload_n 1, 1) := dk_43 (dk_at dksX2_veil_0 2 rfl rfl)
theorem dX2_veil_3 : decode cX2_veil 3 = .ok (.getfield 125, 3) := dk_180 0 125 (dk_at dksX2_veil_0 3 rfl rfl)
theorem dX2_veil_6 : decode cX2_veil 6 = .ok (.istore 4, 2) := dk_54 4 (dk_at dksX2_veil_0 6 rfl rfl)
theorem dX2_veil_8 : decode cX2_veil 8 = .ok (.iconst 1, 1) := dk_4 (dk_at dksX2_veil_0 8 rfl rfl)
theorem dX2_veil_9 : decode cX2_veil 9 = .ok (.istore 5, 2) := dk_54 5 (dk_at dksX2_veil_0 9 rfl rfl)
theorem dX2_veil_11 : decode cX2_veil 11 = .ok (.iload 4, 2) := dk_21 4 (dk_at dksX2_veil_0 11 rfl rfl)
theorem dX2_veil_13 : decode cX2_veil 13 = .ok (.iload_n 2, 1) := dk_28 (dk_at dksX2_veil_0 13 rfl rfl)
theorem dX2_veil_14 : decode cX2_veil 14 = .ok (.if_icmp .eq 37, 3) := dk_159 0 37 (dk_at dksX2_veil_0 14 rfl rfl)
theorem dX2_veil_17 : decode cX2_veil 17 = .ok (.aload_n 0, 1) := dk_42 (dk_at dksX2_veil_0 17 rfl rfl)
theorem dX2_veil_18 : decode cX2_veil 18 = .ok (.aload_n 1, 1) := dk_43 (dk_at dksX2_veil_0 18 rfl rfl)
theorem dX2_veil_19 : decode cX2_veil 19 = .ok (.iload 4, 2) := dk_21 4 (dk_at dksX2_veil_0 19 rfl rfl)
theorem dX2_veil_21 : decode cX2_veil 21 = .ok (.iload 5, 2) := dk_21 5 (dk_at dksX2_veil_0 21 rfl rfl)
theorem dX2_veil_23 : decode cX2_veil 23 = .ok (.invokevirtual 126, 3) := dk_182 0 126 (dk_at dksX2_veil_1 0 rfl rfl)
theorem dX2_veil_26 : decode cX2_veil 26 = .ok (.istore 4, 2) := dk_54 4 (dk_at dksX2_veil_1 3 rfl rfl)
theorem dX2_veil_28 : decode cX2_veil 28 = .ok (.iload 4, 2) := dk_21 4 (dk_at dksX2_veil_1 5 rfl rfl)
theorem dX2_veil_30 : decode cX2_veil 30 = .ok (.iconst (-1), 1) := dk_2 (dk_at dksX2_veil_1 7 rfl rfl)
theorem dX2_veil_31 : decode cX2_veil 31 = .ok (.if_icmp .ne 5, 3) := dk_160 0 5 (dk_at dksX2_veil_1 8 rfl rfl)
theorem dX2_veil_34 : decode cX2_veil 34 = .ok (.iconst (-1), 1) := dk_2 (dk_at dksX2_veil_1 11 rfl rfl)
theorem dX2_veil_35 : decode cX2_veil 35 = .ok (.ireturn, 1) := dk_172 (dk_at dksX2_veil_1 12 rfl rfl)
theorem dX2_veil_36 : decode cX2_veil 36 = .ok (.iload_n 3, 1) := dk_29 (dk_at dksX2_veil_1 13 rfl rfl)
theorem dX2_veil_37 : decode cX2_veil 37 = .ok (.aload_n 0, 1) := dk_42 (dk_at dksX2_veil_1 14 rfl rfl)
theorem dX2_veil_38 : decode cX2_veil 38 = .ok (.iload 4, 2) := dk_21 4 (dk_at dksX2_veil_1 15 rfl rfl)
theorem dX2_veil_40 : decode cX2_veil 40 = .ok (.invokevirtual 130, 3) := dk_182 0 130 (dk_at dksX2_veil_1 17 rfl rfl)
theorem dX2_veil_43 : decode cX2_veil 43 = .ok (.iadd, 1) := dk_96 (dk_at dksX2_veil_1 20 rfl rfl)
theorem dX2_veil_44 : decode cX2_veil 44 = .ok (.istore_n 3, 1) := dk_62 (dk_at dksX2_veil_1 21 rfl rfl)
theorem dX2_veil_45 : decode cX2_veil 45 = .ok (.iinc 5 1, 3) := dk_132 5 1 (dk_at dksX2_veil_2 0 rfl rfl)
theorem dX2_veil_48 : decode cX2_veil 48 = .ok (.goto (-37), 3) := dk_167 255 219 (dk_at dksX2_veil_2 3 rfl rfl)
theorem dX2_veil_51 : decode cX2_veil 51 = .ok (.iload 4, 2) := dk_21 4 (dk_at dksX2_veil_2 6 rfl rfl)
theorem dX2_veil_53 : decode cX2_veil 53 = .ok (.aload_n 1, 1) := dk_43 (dk_at dksX2_veil_2 8 rfl rfl)
theorem dX2_veil_54 : decode cX2_veil 54 = .ok (.getfield 125, 3) := dk_180 0 125 (dk_at dksX2_veil_2 9 rfl rfl)
theorem dX2_veil_57 : decode cX2_veil 57 = .ok (.if_icmp .ne 7, 3) := dk_160 0 7 (dk_at dksX2_veil_2 12 rfl rfl)
theorem dX2_veil_60 : decode cX2_veil 60 = .ok (.iconst 0, 1) := dk_3 (dk_at dksX2_veil_2 15 rfl rfl)
theorem dX2_veil_61 : decode cX2_veil 61 = .ok (.goto 17, 3) := dk_167 0 17 (dk_at dksX2_veil_2 16 rfl rfl)
theorem dX2_veil_64 : decode cX2_veil 64 = .ok (.aload_n 0, 1) := dk_42 (dk_at dksX2_veil_2 19 rfl rfl)
theorem dX2_veil_65 : decode cX2_veil 65 = .ok (.getfield 33, 3) := dk_180 0 33 (dk_at dksX2_veil_2 20 rfl rfl)
theorem dX2_veil_68 : decode cX2_veil 68 = .ok (.aload_n 1, 1) := dk_43 (dk_at dksX2_veil_2 23 rfl rfl)
theorem dX2_veil_69 : decode cX2_veil 69 = .ok (.getfield 125, 3) := dk_180 0 125 (dk_at dksX2_veil_3 0 rfl rfl)
theorem dX2_veil_72 : decode cX2_veil 72 = .ok (.iload_n 2, 1) := dk_28 (dk_at dksX2_veil_3 3 rfl rfl)
theorem dX2_veil_73 : decode cX2_veil 73 = .ok (.invokevirtual 97, 3) := dk_182 0 97 (dk_at dksX2_veil_3 4 rfl rfl)
theorem dX2_veil_76 : decode cX2_veil 76 = .ok (.iload_n 3, 1) := dk_29 (dk_at dksX2_veil_3 7 rfl rfl)
theorem dX2_veil_77 : decode cX2_veil 77 = .ok (.iadd, 1) := dk_96 (dk_at dksX2_veil_3 8 rfl rfl)
theorem dX2_veil_78 : decode cX2_veil 78 = .ok (.ireturn, 1) := dk_172 (dk_at dksX2_veil_3 9 rfl rfl)
abbrev cX2_gazesOn : ByteArray := prog_11_method_5_code
def yX2_gazesOn : MethodName := ⟨RX2, "gazesOn", "(LMistCouriers$Watcher;II)I"⟩
def dkwX2_gazesOn_2 : List UInt8 := [21, 4, 172]
abbrev dktX2_gazesOn_2 : List UInt8 := dkwX2_gazesOn_2 ++ []
def dkwX2_gazesOn_1 : List UInt8 := [21, 4, 2, 159, 0, 16, 42, 180, 0, 33, 180, 0, 121, 21, 4, 51, 153, 0, 7, 2, 167, 0, 5]
abbrev dktX2_gazesOn_1 : List UInt8 := dkwX2_gazesOn_1 ++ dktX2_gazesOn_2
def dkwX2_gazesOn_0 : List UInt8 := [29, 43, 180, 0, 112, 164, 0, 5, 2, 172, 42, 180, 0, 33, 28, 43, 180, 0, 115, 182, 0, 118, 54, 4]
abbrev dktX2_gazesOn_0 : List UInt8 := dkwX2_gazesOn_0 ++ dktX2_gazesOn_1
theorem dksX2_gazesOn_0 : cX2_gazesOn.data.toList.drop 0 = dktX2_gazesOn_0 := by decide +kernel
theorem dksX2_gazesOn_1 : cX2_gazesOn.data.toList.drop 24 = dktX2_gazesOn_1 := dk_seg dksX2_gazesOn_0 24 rfl rfl
theorem dksX2_gazesOn_2 : cX2_gazesOn.data.toList.drop 47 = dktX2_gazesOn_2 := dk_seg dksX2_gazesOn_1 23 rfl rfl
theorem dX2_gazesOn_0 : decode cX2_gazesOn 0 = .ok (.iload_n 3, 1) := dk_29 (dk_at dksX2_gazesOn_0 0 rfl rfl)
theorem dX2_gazesOn_1 : decode cX2_gazesOn 1 = .ok (.aload_n 1, 1) := dk_43 (dk_at dksX2_gazesOn_0 1 rfl rfl)
theorem dX2_gazesOn_2 : decode cX2_gazesOn 2 = .ok (.getfield 112, 3) := dk_180 0 112 (dk_at dksX2_gazesOn_0 2 rfl rfl)
theorem dX2_gazesOn_5 : decode cX2_gazesOn 5 = .ok (.if_icmp .le 5, 3) := dk_164 0 5 (dk_at dksX2_gazesOn_0 5 rfl rfl)
theorem dX2_gazesOn_8 : decode cX2_gazesOn 8 = .ok (.iconst (-1), 1) := dk_2 (dk_at dksX2_gazesOn_0 8 rfl rfl)
theorem dX2_gazesOn_9 : decode cX2_gazesOn 9 = .ok (.ireturn, 1) := dk_172 (dk_at dksX2_gazesOn_0 9 rfl rfl)
theorem dX2_gazesOn_10 : decode cX2_gazesOn 10 = .ok (.aload_n 0, 1) := dk_42 (dk_at dksX2_gazesOn_0 10 rfl rfl)
theorem dX2_gazesOn_11 : decode cX2_gazesOn 11 = .ok (.getfield 33, 3) := dk_180 0 33 (dk_at dksX2_gazesOn_0 11 rfl rfl)
theorem dX2_gazesOn_14 : decode cX2_gazesOn 14 = .ok (.iload_n 2, 1) := dk_28 (dk_at dksX2_gazesOn_0 14 rfl rfl)
theorem dX2_gazesOn_15 : decode cX2_gazesOn 15 = .ok (.aload_n 1, 1) := dk_43 (dk_at dksX2_gazesOn_0 15 rfl rfl)
theorem dX2_gazesOn_16 : decode cX2_gazesOn 16 = .ok (.getfield 115, 3) := dk_180 0 115 (dk_at dksX2_gazesOn_0 16 rfl rfl)
theorem dX2_gazesOn_19 : decode cX2_gazesOn 19 = .ok (.invokevirtual 118, 3) := dk_182 0 118 (dk_at dksX2_gazesOn_0 19 rfl rfl)
theorem dX2_gazesOn_22 : decode cX2_gazesOn 22 = .ok (.istore 4, 2) := dk_54 4 (dk_at dksX2_gazesOn_0 22 rfl rfl)
theorem dX2_gazesOn_24 : decode cX2_gazesOn 24 = .ok (.iload 4, 2) := dk_21 4 (dk_at dksX2_gazesOn_1 0 rfl rfl)
theorem dX2_gazesOn_26 : decode cX2_gazesOn 26 = .ok (.iconst (-1), 1) := dk_2 (dk_at dksX2_gazesOn_1 2 rfl rfl)
theorem dX2_gazesOn_27 : decode cX2_gazesOn 27 = .ok (.if_icmp .eq 16, 3) := dk_159 0 16 (dk_at dksX2_gazesOn_1 3 rfl rfl)
theorem dX2_gazesOn_30 : decode cX2_gazesOn 30 = .ok (.aload_n 0, 1) := dk_42 (dk_at dksX2_gazesOn_1 6 rfl rfl)
theorem dX2_gazesOn_31 : decode cX2_gazesOn 31 = .ok (.getfield 33, 3) := dk_180 0 33 (dk_at dksX2_gazesOn_1 7 rfl rfl)
theorem dX2_gazesOn_34 : decode cX2_gazesOn 34 = .ok (.getfield 121, 3) := dk_180 0 121 (dk_at dksX2_gazesOn_1 10 rfl rfl)
theorem dX2_gazesOn_37 : decode cX2_gazesOn 37 = .ok (.iload 4, 2) := dk_21 4 (dk_at dksX2_gazesOn_1 13 rfl rfl)
theorem dX2_gazesOn_39 : decode cX2_gazesOn 39 = .ok (.baload, 1) := dk_51 (dk_at dksX2_gazesOn_1 15 rfl rfl)
theorem dX2_gazesOn_40 : decode cX2_gazesOn 40 = .ok (.ifCond .eq 7, 3) := dk_153 0 7 (dk_at dksX2_gazesOn_1 16 rfl rfl)
theorem dX2_gazesOn_43 : decode cX2_gazesOn 43 = .ok (.iconst (-1), 1) := dk_2 (dk_at dksX2_gazesOn_1 19 rfl rfl)
theorem dX2_gazesOn_44 : decode cX2_gazesOn 44 = .ok (.goto 5, 3) := dk_167 0 5 (dk_at dksX2_gazesOn_1 20 rfl rfl)
theorem dX2_gazesOn_47 : decode cX2_gazesOn 47 = .ok (.iload 4, 2) := dk_21 4 (dk_at dksX2_gazesOn_2 0 rfl rfl)
theorem dX2_gazesOn_49 : decode cX2_gazesOn 49 = .ok (.ireturn, 1) := dk_172 (dk_at dksX2_gazesOn_2 2 rfl rfl)
abbrev cX2_pick : ByteArray := prog_11_method_24_code
def yX2_pick : MethodName := ⟨RX2, "pick", "(II)I"⟩
def dkwX2_pick_2 : List UInt8 := [182, 0, 228, 42, 180, 0, 29, 4, 92, 46, 4, 96, 79, 42, 27, 182, 0, 225, 172]
abbrev dktX2_pick_2 : List UInt8 := dkwX2_pick_2 ++ []
def dkwX2_pick_1 : List UInt8 := [154, 0, 6, 16, 253, 172, 42, 27, 182, 0, 225, 42, 180, 0, 37, 160, 0, 6, 16, 252, 172, 25, 4, 27]
abbrev dktX2_pick_1 : List UInt8 := dkwX2_pick_1 ++ dktX2_pick_2
def dkwX2_pick_0 : List UInt8 := [42, 27, 182, 0, 205, 78, 42, 28, 182, 0, 218, 58, 4, 25, 4, 45, 180, 0, 172, 182, 0, 222]
abbrev dktX2_pick_0 : List UInt8 := dkwX2_pick_0 ++ dktX2_pick_1
theorem dksX2_pick_0 : cX2_pick.data.toList.drop 0 = dktX2_pick_0 := by decide +kernel
theorem dksX2_pick_1 : cX2_pick.data.toList.drop 22 = dktX2_pick_1 := dk_seg dksX2_pick_0 22 rfl rfl
theorem dksX2_pick_2 : cX2_pick.data.toList.drop 46 = dktX2_pick_2 := dk_seg dksX2_pick_1 24 rfl rfl
theorem dX2_pick_0 : decode cX2_pick 0 = .ok (.aload_n 0, 1) := dk_42 (dk_at dksX2_pick_0 0 rfl rfl)
theorem dX2_pick_1 : decode cX2_pick 1 = .ok (.iload_n 1, 1) := dk_27 (dk_at dksX2_pick_0 1 rfl rfl)
theorem dX2_pick_2 : decode cX2_pick 2 = .ok (.invokevirtual 205, 3) := dk_182 0 205 (dk_at dksX2_pick_0 2 rfl rfl)
theorem dX2_pick_5 : decode cX2_pick 5 = .ok (.astore_n 3, 1) := dk_78 (dk_at dksX2_pick_0 5 rfl rfl)
theorem dX2_pick_6 : decode cX2_pick 6 = .ok (.aload_n 0, 1) := dk_42 (dk_at dksX2_pick_0 6 rfl rfl)
theorem dX2_pick_7 : decode cX2_pick 7 = .ok (.iload_n 2, 1) := dk_28 (dk_at dksX2_pick_0 7 rfl rfl)
theorem dX2_pick_8 : decode cX2_pick 8 = .ok (.invokevirtual 218, 3) := dk_182 0 218 (dk_at dksX2_pick_0 8 rfl rfl)
theorem dX2_pick_11 : decode cX2_pick 11 = .ok (.astore 4, 2) := dk_58 4 (dk_at dksX2_pick_0 11 rfl rfl)
theorem dX2_pick_13 : decode cX2_pick 13 = .ok (.aload 4, 2) := dk_25 4 (dk_at dksX2_pick_0 13 rfl rfl)
theorem dX2_pick_15 : decode cX2_pick 15 = .ok (.aload_n 3, 1) := dk_45 (dk_at dksX2_pick_0 15 rfl rfl)
theorem dX2_pick_16 : decode cX2_pick 16 = .ok (.getfield 172, 3) := dk_180 0 172 (dk_at dksX2_pick_0 16 rfl rfl)
theorem dX2_pick_19 : decode cX2_pick 19 = .ok (.invokevirtual 222, 3) := dk_182 0 222 (dk_at dksX2_pick_0 19 rfl rfl)
theorem dX2_pick_22 : decode cX2_pick 22 = .ok (.ifCond .ne 6, 3) := dk_154 0 6 (dk_at dksX2_pick_1 0 rfl rfl)
theorem dX2_pick_25 : decode cX2_pick 25 = .ok (.bipush (-3), 2) := dk_16 253 (dk_at dksX2_pick_1 3 rfl rfl)
theorem dX2_pick_27 : decode cX2_pick 27 = .ok (.ireturn, 1) := dk_172 (dk_at dksX2_pick_1 5 rfl rfl)
theorem dX2_pick_28 : decode cX2_pick 28 = .ok (.aload_n 0, 1) := dk_42 (dk_at dksX2_pick_1 6 rfl rfl)
theorem dX2_pick_29 : decode cX2_pick 29 = .ok (.iload_n 1, 1) := dk_27 (dk_at dksX2_pick_1 7 rfl rfl)
theorem dX2_pick_30 : decode cX2_pick 30 = .ok (.invokevirtual 225, 3) := dk_182 0 225 (dk_at dksX2_pick_1 8 rfl rfl)
theorem dX2_pick_33 : decode cX2_pick 33 = .ok (.aload_n 0, 1) := dk_42 (dk_at dksX2_pick_1 11 rfl rfl)
theorem dX2_pick_34 : decode cX2_pick 34 = .ok (.getfield 37, 3) := dk_180 0 37 (dk_at dksX2_pick_1 12 rfl rfl)
theorem dX2_pick_37 : decode cX2_pick 37 = .ok (.if_icmp .ne 6, 3) := dk_160 0 6 (dk_at dksX2_pick_1 15 rfl rfl)
theorem dX2_pick_40 : decode cX2_pick 40 = .ok (.bipush (-4), 2) := dk_16 252 (dk_at dksX2_pick_1 18 rfl rfl)
theorem dX2_pick_42 : decode cX2_pick 42 = .ok (.ireturn, 1) := dk_172 (dk_at dksX2_pick_1 20 rfl rfl)
theorem dX2_pick_43 : decode cX2_pick 43 = .ok (.aload 4, 2) := dk_25 4 (dk_at dksX2_pick_1 21 rfl rfl)
theorem dX2_pick_45 : decode cX2_pick 45 = .ok (.iload_n 1, 1) := dk_27 (dk_at dksX2_pick_1 23 rfl rfl)
theorem dX2_pick_46 : decode cX2_pick 46 = .ok (.invokevirtual 228, 3) := dk_182 0 228 (dk_at dksX2_pick_2 0 rfl rfl)
theorem dX2_pick_49 : decode cX2_pick 49 = .ok (.aload_n 0, 1) := dk_42 (dk_at dksX2_pick_2 3 rfl rfl)
theorem dX2_pick_50 : decode cX2_pick 50 = .ok (.getfield 29, 3) := dk_180 0 29 (dk_at dksX2_pick_2 4 rfl rfl)
theorem dX2_pick_53 : decode cX2_pick 53 = .ok (.iconst 1, 1) := dk_4 (dk_at dksX2_pick_2 7 rfl rfl)
theorem dX2_pick_54 : decode cX2_pick 54 = .ok (.dup2, 1) := dk_92 (dk_at dksX2_pick_2 8 rfl rfl)
theorem dX2_pick_55 : decode cX2_pick 55 = .ok (.iaload, 1) := dk_46 (dk_at dksX2_pick_2 9 rfl rfl)
theorem dX2_pick_56 : decode cX2_pick 56 = .ok (.iconst 1, 1) := dk_4 (dk_at dksX2_pick_2 10 rfl rfl)
theorem dX2_pick_57 : decode cX2_pick 57 = .ok (.iadd, 1) := dk_96 (dk_at dksX2_pick_2 11 rfl rfl)
theorem dX2_pick_58 : decode cX2_pick 58 = .ok (.iastore, 1) := dk_79 (dk_at dksX2_pick_2 12 rfl rfl)
theorem dX2_pick_59 : decode cX2_pick 59 = .ok (.aload_n 0, 1) := dk_42 (dk_at dksX2_pick_2 13 rfl rfl)
theorem dX2_pick_60 : decode cX2_pick 60 = .ok (.iload_n 1, 1) := dk_27 (dk_at dksX2_pick_2 14 rfl rfl)
theorem dX2_pick_61 : decode cX2_pick 61 = .ok (.invokevirtual 225, 3) := dk_182 0 225 (dk_at dksX2_pick_2 15 rfl rfl)
theorem dX2_pick_64 : decode cX2_pick 64 = .ok (.ireturn, 1) := dk_172 (dk_at dksX2_pick_2 18 rfl rfl)
abbrev cX2_aLetter : ByteArray := prog_11_method_20_code
def yX2_aLetter : MethodName := ⟨RX2, "aLetter", "(I)LMistCouriers$Letter;"⟩
def dkwX2_aLetter_1 : List UInt8 := [182, 0, 48, 192, 0, 72, 176]
abbrev dktX2_aLetter_1 : List UInt8 := dkwX2_aLetter_1 ++ []
def dkwX2_aLetter_0 : List UInt8 := [27, 3, 42, 180, 0, 26, 182, 0, 44, 4, 100, 184, 0, 138, 184, 0, 198, 42, 180, 0, 26, 27]
abbrev dktX2_aLetter_0 : List UInt8 := dkwX2_aLetter_0 ++ dktX2_aLetter_1
theorem dksX2_aLetter_0 : cX2_aLetter.data.toList.drop 0 = dktX2_aLetter_0 := by decide +kernel
theorem dksX2_aLetter_1 : cX2_aLetter.data.toList.drop 22 = dktX2_aLetter_1 := dk_seg dksX2_aLetter_0 22 rfl rfl
theorem dX2_aLetter_0 : decode cX2_aLetter 0 = .ok (.iload_n 1, 1) := dk_27 (dk_at dksX2_aLetter_0 0 rfl rfl)
theorem dX2_aLetter_1 : decode cX2_aLetter 1 = .ok (.iconst 0, 1) := dk_3 (dk_at dksX2_aLetter_0 1 rfl rfl)
theorem dX2_aLetter_2 : decode cX2_aLetter 2 = .ok (.aload_n 0, 1) := dk_42 (dk_at dksX2_aLetter_0 2 rfl rfl)
theorem dX2_aLetter_3 : decode cX2_aLetter 3 = .ok (.getfield 26, 3) := dk_180 0 26 (dk_at dksX2_aLetter_0 3 rfl rfl)
theorem dX2_aLetter_6 : decode cX2_aLetter 6 = .ok (.invokevirtual 44, 3) := dk_182 0 44 (dk_at dksX2_aLetter_0 6 rfl rfl)
theorem dX2_aLetter_9 : decode cX2_aLetter 9 = .ok (.iconst 1, 1) := dk_4 (dk_at dksX2_aLetter_0 9 rfl rfl)
theorem dX2_aLetter_10 : decode cX2_aLetter 10 = .ok (.isub, 1) := dk_100 (dk_at dksX2_aLetter_0 10 rfl rfl)
theorem dX2_aLetter_11 : decode cX2_aLetter 11 = .ok (.invokestatic 138, 3) := dk_184 0 138 (dk_at dksX2_aLetter_0 11 rfl rfl)
theorem dX2_aLetter_14 : decode cX2_aLetter 14 = .ok (.invokestatic 198, 3) := dk_184 0 198 (dk_at dksX2_aLetter_0 14 rfl rfl)
theorem dX2_aLetter_17 : decode cX2_aLetter 17 = .ok (.aload_n 0, 1) := dk_42 (dk_at dksX2_aLetter_0 17 rfl rfl)
theorem dX2_aLetter_18 : decode cX2_aLetter 18 = .ok (.getfield 26, 3) := dk_180 0 26 (dk_at dksX2_aLetter_0 18 rfl rfl)
theorem dX2_aLetter_21 : decode cX2_aLetter 21 = .ok (.iload_n 1, 1) := dk_27 (dk_at dksX2_aLetter_0 21 rfl rfl)
theorem dX2_aLetter_22 : decode cX2_aLetter 22 = .ok (.invokevirtual 48, 3) := dk_182 0 48 (dk_at dksX2_aLetter_1 0 rfl rfl)
theorem dX2_aLetter_25 : decode cX2_aLetter 25 = .ok (.checkcast 72, 3) := dk_192 0 72 (dk_at dksX2_aLetter_1 3 rfl rfl)
theorem dX2_aLetter_28 : decode cX2_aLetter 28 = .ok (.areturn, 1) := dk_176 (dk_at dksX2_aLetter_1 6 rfl rfl)
abbrev cX2_give : ByteArray := prog_11_method_25_code
def yX2_give : MethodName := ⟨RX2, "give", "(III)I"⟩
def dkwX2_give_4 : List UInt8 := [5, 92, 46, 4, 96, 79, 42, 28, 182, 0, 225, 172]
abbrev dktX2_give_4 : List UInt8 := dkwX2_give_4 ++ []
def dkwX2_give_3 : List UInt8 := [16, 252, 172, 25, 6, 28, 182, 0, 228, 25, 6, 89, 180, 0, 231, 4, 96, 181, 0, 231, 42, 180, 0, 29]
abbrev dktX2_give_3 : List UInt8 := dkwX2_give_3 ++ dktX2_give_4
def dkwX2_give_2 : List UInt8 := [25, 5, 180, 0, 172, 159, 0, 6, 16, 250, 172, 42, 28, 182, 0, 225, 42, 180, 0, 37, 160, 0, 6]
abbrev dktX2_give_2 : List UInt8 := dkwX2_give_2 ++ dktX2_give_3
def dkwX2_give_1 : List UInt8 := [160, 0, 6, 16, 249, 172, 25, 6, 27, 182, 0, 160, 154, 0, 6, 16, 251, 172, 25, 4, 180, 0, 172]
abbrev dktX2_give_1 : List UInt8 := dkwX2_give_1 ++ dktX2_give_2
def dkwX2_give_0 : List UInt8 := [42, 27, 182, 0, 205, 58, 4, 42, 28, 182, 0, 205, 58, 5, 42, 29, 182, 0, 218, 58, 6, 27, 28]
abbrev dktX2_give_0 : List UInt8 := dkwX2_give_0 ++ dktX2_give_1
theorem dksX2_give_0 : cX2_give.data.toList.drop 0 = dktX2_give_0 := by decide +kernel
theorem dksX2_give_1 : cX2_give.data.toList.drop 23 = dktX2_give_1 := dk_seg dksX2_give_0 23 rfl rfl
theorem dksX2_give_2 : cX2_give.data.toList.drop 46 = dktX2_give_2 := dk_seg dksX2_give_1 23 rfl rfl
theorem dksX2_give_3 : cX2_give.data.toList.drop 69 = dktX2_give_3 := dk_seg dksX2_give_2 23 rfl rfl
theorem dksX2_give_4 : cX2_give.data.toList.drop 93 = dktX2_give_4 := dk_seg dksX2_give_3 24 rfl rfl
theorem dX2_give_0 : decode cX2_give 0 = .ok (.aload_n 0, 1) := dk_42 (dk_at dksX2_give_0 0 rfl rfl)
theorem dX2_give_1 : decode cX2_give 1 = .ok (.iload_n 1, 1) := dk_27 (dk_at dksX2_give_0 1 rfl rfl)
theorem dX2_give_2 : decode cX2_give 2 = .ok (.invokevirtual 205, 3) := dk_182 0 205 (dk_at dksX2_give_0 2 rfl rfl)
theorem dX2_give_5 : decode cX2_give 5 = .ok (.astore 4, 2) := dk_58 4 (dk_at dksX2_give_0 5 rfl rfl)
theorem dX2_give_7 : decode cX2_give 7 = .ok (.aload_n 0, 1) := dk_42 (dk_at dksX2_give_0 7 rfl rfl)
theorem dX2_give_8 : decode cX2_give 8 = .ok (.iload_n 2, 1) := dk_28 (dk_at dksX2_give_0 8 rfl rfl)
theorem dX2_give_9 : decode cX2_give 9 = .ok (.invokevirtual 205, 3) := dk_182 0 205 (dk_at dksX2_give_0 9 rfl rfl)
theorem dX2_give_12 : decode cX2_give 12 = .ok (.astore 5, 2) := dk_58 5 (dk_at dksX2_give_0 12 rfl rfl)
theorem dX2_give_14 : decode cX2_give 14 = .ok (.aload_n 0, 1) := dk_42 (dk_at dksX2_give_0 14 rfl rfl)
theorem dX2_give_15 : decode cX2_give 15 = .ok (.iload_n 3, 1) := dk_29 (dk_at dksX2_give_0 15 rfl rfl)
theorem dX2_give_16 : decode cX2_give 16 = .ok (.invokevirtual 218, 3) := dk_182 0 218 (dk_at dksX2_give_0 16 rfl rfl)
theorem dX2_give_19 : decode cX2_give 19 = .ok (.astore 6, 2) := dk_58 6 (dk_at dksX2_give_0 19 rfl rfl)
theorem dX2_give_21 : decode cX2_give 21 = .ok (.iload_n 1, 1) := dk_27 (dk_at dksX2_give_0 21 rfl rfl)
theorem dX2_give_22 : decode cX2_give 22 = .ok (.iload_n 2, 1) := dk_28 (dk_at dksX2_give_0 22 rfl rfl)
theorem dX2_give_23 : decode cX2_give 23 = .ok (.if_icmp .ne 6, 3) := dk_160 0 6 (dk_at dksX2_give_1 0 rfl rfl)
theorem dX2_give_26 : decode cX2_give 26 = .ok (.bipush (-7), 2) := dk_16 249 (dk_at dksX2_give_1 3 rfl rfl)
theorem dX2_give_28 : decode cX2_give 28 = .ok (.ireturn, 1) := dk_172 (dk_at dksX2_give_1 5 rfl rfl)
theorem dX2_give_29 : decode cX2_give 29 = .ok (.aload 6, 2) := dk_25 6 (dk_at dksX2_give_1 6 rfl rfl)
theorem dX2_give_31 : decode cX2_give 31 = .ok (.iload_n 1, 1) := dk_27 (dk_at dksX2_give_1 8 rfl rfl)
theorem dX2_give_32 : decode cX2_give 32 = .ok (.invokevirtual 160, 3) := dk_182 0 160 (dk_at dksX2_give_1 9 rfl rfl)
theorem dX2_give_35 : decode cX2_give 35 = .ok (.ifCond .ne 6, 3) := dk_154 0 6 (dk_at dksX2_give_1 12 rfl rfl)
theorem dX2_give_38 : decode cX2_give 38 = .ok (.bipush (-5), 2) := dk_16 251 (dk_at dksX2_give_1 15 rfl rfl)
theorem dX2_give_40 : decode cX2_give 40 = .ok (.ireturn, 1) := dk_172 (dk_at dksX2_give_1 17 rfl rfl)
theorem dX2_give_41 : decode cX2_give 41 = .ok (.aload 4, 2) := dk_25 4 (dk_at dksX2_give_1 18 rfl rfl)
theorem dX2_give_43 : decode cX2_give 43 = .ok (.getfield 172, 3) := dk_180 0 172 (dk_at dksX2_give_1 20 rfl rfl)
theorem dX2_give_46 : decode cX2_give 46 = .ok (.aload 5, 2) := dk_25 5 (dk_at dksX2_give_2 0 rfl rfl)
theorem dX2_give_48 : decode cX2_give 48 = .ok (.getfield 172, 3) := dk_180 0 172 (dk_at dksX2_give_2 2 rfl rfl)
theorem dX2_give_51 : decode cX2_give 51 = .ok (.if_icmp .eq 6, 3) := dk_159 0 6 (dk_at dksX2_give_2 5 rfl rfl)
theorem dX2_give_54 : decode cX2_give 54 = .ok (.bipush (-6), 2) := dk_16 250 (dk_at dksX2_give_2 8 rfl rfl)
theorem dX2_give_56 : decode cX2_give 56 = .ok (.ireturn, 1) := dk_172 (dk_at dksX2_give_2 10 rfl rfl)
theorem dX2_give_57 : decode cX2_give 57 = .ok (.aload_n 0, 1) := dk_42 (dk_at dksX2_give_2 11 rfl rfl)
theorem dX2_give_58 : decode cX2_give 58 = .ok (.iload_n 2, 1) := dk_28 (dk_at dksX2_give_2 12 rfl rfl)
theorem dX2_give_59 : decode cX2_give 59 = .ok (.invokevirtual 225, 3) := dk_182 0 225 (dk_at dksX2_give_2 13 rfl rfl)
theorem dX2_give_62 : decode cX2_give 62 = .ok (.aload_n 0, 1) := dk_42 (dk_at dksX2_give_2 16 rfl rfl)
theorem dX2_give_63 : decode cX2_give 63 = .ok (.getfield 37, 3) := dk_180 0 37 (dk_at dksX2_give_2 17 rfl rfl)
theorem dX2_give_66 : decode cX2_give 66 = .ok (.if_icmp .ne 6, 3) := dk_160 0 6 (dk_at dksX2_give_2 20 rfl rfl)
theorem dX2_give_69 : decode cX2_give 69 = .ok (.bipush (-4), 2) := dk_16 252 (dk_at dksX2_give_3 0 rfl rfl)
theorem dX2_give_71 : decode cX2_give 71 = .ok (.ireturn, 1) := dk_172 (dk_at dksX2_give_3 2 rfl rfl)
theorem dX2_give_72 : decode cX2_give 72 = .ok (.aload 6, 2) := dk_25 6 (dk_at dksX2_give_3 3 rfl rfl)
theorem dX2_give_74 : decode cX2_give 74 = .ok (.iload_n 2, 1) := dk_28 (dk_at dksX2_give_3 5 rfl rfl)
theorem dX2_give_75 : decode cX2_give 75 = .ok (.invokevirtual 228, 3) := dk_182 0 228 (dk_at dksX2_give_3 6 rfl rfl)
theorem dX2_give_78 : decode cX2_give 78 = .ok (.aload 6, 2) := dk_25 6 (dk_at dksX2_give_3 9 rfl rfl)
theorem dX2_give_80 : decode cX2_give 80 = .ok (.dup, 1) := dk_89 (dk_at dksX2_give_3 11 rfl rfl)
theorem dX2_give_81 : decode cX2_give 81 = .ok (.getfield 231, 3) := dk_180 0 231 (dk_at dksX2_give_3 12 rfl rfl)
theorem dX2_give_84 : decode cX2_give 84 = .ok (.iconst 1, 1) := dk_4 (dk_at dksX2_give_3 15 rfl rfl)
theorem dX2_give_85 : decode cX2_give 85 = .ok (.iadd, 1) := dk_96 (dk_at dksX2_give_3 16 rfl rfl)
theorem dX2_give_86 : decode cX2_give 86 = .ok (.putfield 231, 3) := dk_181 0 231 (dk_at dksX2_give_3 17 rfl rfl)
theorem dX2_give_89 : decode cX2_give 89 = .ok (.aload_n 0, 1) := dk_42 (dk_at dksX2_give_3 20 rfl rfl)
theorem dX2_give_90 : decode cX2_give 90 = .ok (.getfield 29, 3) := dk_180 0 29 (dk_at dksX2_give_3 21 rfl rfl)
theorem dX2_give_93 : decode cX2_give 93 = .ok (.iconst 2, 1) := dk_5 (dk_at dksX2_give_4 0 rfl rfl)
theorem dX2_give_94 : decode cX2_give 94 = .ok (.dup2, 1) := dk_92 (dk_at dksX2_give_4 1 rfl rfl)
theorem dX2_give_95 : decode cX2_give 95 = .ok (.iaload, 1) := dk_46 (dk_at dksX2_give_4 2 rfl rfl)
theorem dX2_give_96 : decode cX2_give 96 = .ok (.iconst 1, 1) := dk_4 (dk_at dksX2_give_4 3 rfl rfl)
theorem dX2_give_97 : decode cX2_give 97 = .ok (.iadd, 1) := dk_96 (dk_at dksX2_give_4 4 rfl rfl)
theorem dX2_give_98 : decode cX2_give 98 = .ok (.iastore, 1) := dk_79 (dk_at dksX2_give_4 5 rfl rfl)
theorem dX2_give_99 : decode cX2_give 99 = .ok (.aload_n 0, 1) := dk_42 (dk_at dksX2_give_4 6 rfl rfl)
theorem dX2_give_100 : decode cX2_give 100 = .ok (.iload_n 2, 1) := dk_28 (dk_at dksX2_give_4 7 rfl rfl)
theorem dX2_give_101 : decode cX2_give 101 = .ok (.invokevirtual 225, 3) := dk_182 0 225 (dk_at dksX2_give_4 8 rfl rfl)
theorem dX2_give_104 : decode cX2_give 104 = .ok (.ireturn, 1) := dk_172 (dk_at dksX2_give_4 11 rfl rfl)
abbrev cX2_lay : ByteArray := prog_11_method_26_code
def yX2_lay : MethodName := ⟨RX2, "lay", "(II)I"⟩
def dkwX2_lay_4 : List UInt8 := [79, 3, 172]
abbrev dktX2_lay_4 : List UInt8 := dkwX2_lay_4 ++ []
def dkwX2_lay_3 : List UInt8 := [25, 4, 45, 180, 0, 172, 181, 0, 240, 25, 4, 2, 181, 0, 166, 42, 180, 0, 29, 6, 92, 46, 4, 96]
abbrev dktX2_lay_3 : List UInt8 := dkwX2_lay_3 ++ dktX2_lay_4
def dkwX2_lay_2 : List UInt8 := [4, 96, 181, 0, 237, 42, 180, 0, 29, 7, 92, 46, 4, 96, 79, 4, 172, 25, 4, 3, 181, 0, 163]
abbrev dktX2_lay_2 : List UInt8 := dkwX2_lay_2 ++ dktX2_lay_3
def dkwX2_lay_1 : List UInt8 := [172, 45, 180, 0, 172, 25, 4, 180, 0, 234, 160, 0, 31, 25, 4, 5, 181, 0, 163, 45, 89, 180, 0, 237]
abbrev dktX2_lay_1 : List UInt8 := dkwX2_lay_1 ++ dktX2_lay_2
def dkwX2_lay_0 : List UInt8 := [42, 27, 182, 0, 205, 78, 42, 28, 182, 0, 218, 58, 4, 25, 4, 27, 182, 0, 160, 154, 0, 6, 16, 251]
abbrev dktX2_lay_0 : List UInt8 := dkwX2_lay_0 ++ dktX2_lay_1
theorem dksX2_lay_0 : cX2_lay.data.toList.drop 0 = dktX2_lay_0 := by decide +kernel
theorem dksX2_lay_1 : cX2_lay.data.toList.drop 24 = dktX2_lay_1 := dk_seg dksX2_lay_0 24 rfl rfl
theorem dksX2_lay_2 : cX2_lay.data.toList.drop 48 = dktX2_lay_2 := dk_seg dksX2_lay_1 24 rfl rfl
theorem dksX2_lay_3 : cX2_lay.data.toList.drop 71 = dktX2_lay_3 := dk_seg dksX2_lay_2 23 rfl rfl
theorem dksX2_lay_4 : cX2_lay.data.toList.drop 95 = dktX2_lay_4 := dk_seg dksX2_lay_3 24 rfl rfl
theorem dX2_lay_0 : decode cX2_lay 0 = .ok (.aload_n 0, 1) := dk_42 (dk_at dksX2_lay_0 0 rfl rfl)
theorem dX2_lay_1 : decode cX2_lay 1 = .ok (.iload_n 1, 1) := dk_27 (dk_at dksX2_lay_0 1 rfl rfl)
theorem dX2_lay_2 : decode cX2_lay 2 = .ok (.invokevirtual 205, 3) := dk_182 0 205 (dk_at dksX2_lay_0 2 rfl rfl)
theorem dX2_lay_5 : decode cX2_lay 5 = .ok (.astore_n 3, 1) := dk_78 (dk_at dksX2_lay_0 5 rfl rfl)
theorem dX2_lay_6 : decode cX2_lay 6 = .ok (.aload_n 0, 1) := dk_42 (dk_at dksX2_lay_0 6 rfl rfl)
theorem dX2_lay_7 : decode cX2_lay 7 = .ok (.iload_n 2, 1) := dk_28 (dk_at dksX2_lay_0 7 rfl rfl)
theorem dX2_lay_8 : decode cX2_lay 8 = .ok (.invokevirtual 218, 3) := dk_182 0 218 (dk_at dksX2_lay_0 8 rfl rfl)
theorem dX2_lay_11 : decode cX2_lay 11 = .ok (.astore 4, 2) := dk_58 4 (dk_at dksX2_lay_0 11 rfl rfl)
theorem dX2_lay_13 : decode cX2_lay 13 = .ok (.aload 4, 2) := dk_25 4 (dk_at dksX2_lay_0 13 rfl rfl)
theorem dX2_lay_15 : decode cX2_lay 15 = .ok (.iload_n 1, 1) := dk_27 (dk_at dksX2_lay_0 15 rfl rfl)
theorem dX2_lay_16 : decode cX2_lay 16 = .ok (.invokevirtual 160, 3) := dk_182 0 160 (dk_at dksX2_lay_0 16 rfl rfl)
theorem dX2_lay_19 : decode cX2_lay 19 = .ok (.ifCond .ne 6, 3) := dk_154 0 6 (dk_at dksX2_lay_0 19 rfl rfl)
theorem dX2_lay_22 : decode cX2_lay 22 = .ok (.bipush (-5), 2) := dk_16 251 (dk_at dksX2_lay_0 22 rfl rfl)
theorem dX2_lay_24 : decode cX2_lay 24 = .ok (.ireturn, 1) := dk_172 (dk_at dksX2_lay_1 0 rfl rfl)
theorem dX2_lay_25 : decode cX2_lay 25 = .ok (.aload_n 3, 1) := dk_45 (dk_at dksX2_lay_1 1 rfl rfl)
theorem dX2_lay_26 : decode cX2_lay 26 = .ok (.getfield 172, 3) := dk_180 0 172 (dk_at dksX2_lay_1 2 rfl rfl)
theorem dX2_lay_29 : decode cX2_lay 29 = .ok (.aload 4, 2) := dk_25 4 (dk_at dksX2_lay_1 5 rfl rfl)
theorem dX2_lay_31 : decode cX2_lay 31 = .ok (.getfield 234, 3) := dk_180 0 234 (dk_at dksX2_lay_1 7 rfl rfl)
theorem dX2_lay_34 : decode cX2_lay 34 = .ok (.if_icmp .ne 31, 3) := dk_160 0 31 (dk_at dksX2_lay_1 10 rfl rfl)
theorem dX2_lay_37 : decode cX2_lay 37 = .ok (.aload 4, 2) := dk_25 4 (dk_at dksX2_lay_1 13 rfl rfl)
theorem dX2_lay_39 : decode cX2_lay 39 = .ok (.iconst 2, 1) := dk_5 (dk_at dksX2_lay_1 15 rfl rfl)
theorem dX2_lay_40 : decode cX2_lay 40 = .ok (.putfield 163, 3) := dk_181 0 163 (dk_at dksX2_lay_1 16 rfl rfl)
theorem dX2_lay_43 : decode cX2_lay 43 = .ok (.aload_n 3, 1) := dk_45 (dk_at dksX2_lay_1 19 rfl rfl)
theorem dX2_lay_44 : decode cX2_lay 44 = .ok (.dup, 1) := dk_89 (dk_at dksX2_lay_1 20 rfl rfl)
theorem dX2_lay_45 : decode cX2_lay 45 = .ok (.getfield 237, 3) := dk_180 0 237 (dk_at dksX2_lay_1 21 rfl rfl)
theorem dX2_lay_48 : decode cX2_lay 48 = .ok (.iconst 1, 1) := dk_4 (dk_at dksX2_lay_2 0 rfl rfl)
theorem dX2_lay_49 : decode cX2_lay 49 = .ok (.iadd, 1) := dk_96 (dk_at dksX2_lay_2 1 rfl rfl)
theorem dX2_lay_50 : decode cX2_lay 50 = .ok (.putfield 237, 3) := dk_181 0 237 (dk_at dksX2_lay_2 2 rfl rfl)
theorem dX2_lay_53 : decode cX2_lay 53 = .ok (.aload_n 0, 1) := dk_42 (dk_at dksX2_lay_2 5 rfl rfl)
theorem dX2_lay_54 : decode cX2_lay 54 = .ok (.getfield 29, 3) := dk_180 0 29 (dk_at dksX2_lay_2 6 rfl rfl)
theorem dX2_lay_57 : decode cX2_lay 57 = .ok (.iconst 4, 1) := dk_7 (dk_at dksX2_lay_2 9 rfl rfl)
theorem dX2_lay_58 : decode cX2_lay 58 = .ok (.dup2, 1) := dk_92 (dk_at dksX2_lay_2 10 rfl rfl)
theorem dX2_lay_59 : decode cX2_lay 59 = .ok (.iaload, 1) := dk_46 (dk_at dksX2_lay_2 11 rfl rfl)
theorem dX2_lay_60 : decode cX2_lay 60 = .ok (.iconst 1, 1) := dk_4 (dk_at dksX2_lay_2 12 rfl rfl)
theorem dX2_lay_61 : decode cX2_lay 61 = .ok (.iadd, 1) := dk_96 (dk_at dksX2_lay_2 13 rfl rfl)
theorem dX2_lay_62 : decode cX2_lay 62 = .ok (.iastore, 1) := dk_79 (dk_at dksX2_lay_2 14 rfl rfl)
theorem dX2_lay_63 : decode cX2_lay 63 = .ok (.iconst 1, 1) := dk_4 (dk_at dksX2_lay_2 15 rfl rfl)
theorem dX2_lay_64 : decode cX2_lay 64 = .ok (.ireturn, 1) := dk_172 (dk_at dksX2_lay_2 16 rfl rfl)
theorem dX2_lay_65 : decode cX2_lay 65 = .ok (.aload 4, 2) := dk_25 4 (dk_at dksX2_lay_2 17 rfl rfl)
theorem dX2_lay_67 : decode cX2_lay 67 = .ok (.iconst 0, 1) := dk_3 (dk_at dksX2_lay_2 19 rfl rfl)
theorem dX2_lay_68 : decode cX2_lay 68 = .ok (.putfield 163, 3) := dk_181 0 163 (dk_at dksX2_lay_2 20 rfl rfl)
theorem dX2_lay_71 : decode cX2_lay 71 = .ok (.aload 4, 2) := dk_25 4 (dk_at dksX2_lay_3 0 rfl rfl)
theorem dX2_lay_73 : decode cX2_lay 73 = .ok (.aload_n 3, 1) := dk_45 (dk_at dksX2_lay_3 2 rfl rfl)
theorem dX2_lay_74 : decode cX2_lay 74 = .ok (.getfield 172, 3) := dk_180 0 172 (dk_at dksX2_lay_3 3 rfl rfl)
theorem dX2_lay_77 : decode cX2_lay 77 = .ok (.putfield 240, 3) := dk_181 0 240 (dk_at dksX2_lay_3 6 rfl rfl)
theorem dX2_lay_80 : decode cX2_lay 80 = .ok (.aload 4, 2) := dk_25 4 (dk_at dksX2_lay_3 9 rfl rfl)
theorem dX2_lay_82 : decode cX2_lay 82 = .ok (.iconst (-1), 1) := dk_2 (dk_at dksX2_lay_3 11 rfl rfl)
theorem dX2_lay_83 : decode cX2_lay 83 = .ok (.putfield 166, 3) := dk_181 0 166 (dk_at dksX2_lay_3 12 rfl rfl)
theorem dX2_lay_86 : decode cX2_lay 86 = .ok (.aload_n 0, 1) := dk_42 (dk_at dksX2_lay_3 15 rfl rfl)
theorem dX2_lay_87 : decode cX2_lay 87 = .ok (.getfield 29, 3) := dk_180 0 29 (dk_at dksX2_lay_3 16 rfl rfl)
theorem dX2_lay_90 : decode cX2_lay 90 = .ok (.iconst 3, 1) := dk_6 (dk_at dksX2_lay_3 19 rfl rfl)
theorem dX2_lay_91 : decode cX2_lay 91 = .ok (.dup2, 1) := dk_92 (dk_at dksX2_lay_3 20 rfl rfl)
theorem dX2_lay_92 : decode cX2_lay 92 = .ok (.iaload, 1) := dk_46 (dk_at dksX2_lay_3 21 rfl rfl)
theorem dX2_lay_93 : decode cX2_lay 93 = .ok (.iconst 1, 1) := dk_4 (dk_at dksX2_lay_3 22 rfl rfl)
theorem dX2_lay_94 : decode cX2_lay 94 = .ok (.iadd, 1) := dk_96 (dk_at dksX2_lay_3 23 rfl rfl)
theorem dX2_lay_95 : decode cX2_lay 95 = .ok (.iastore, 1) := dk_79 (dk_at dksX2_lay_4 0 rfl rfl)
theorem dX2_lay_96 : decode cX2_lay 96 = .ok (.iconst 0, 1) := dk_3 (dk_at dksX2_lay_4 1 rfl rfl)
theorem dX2_lay_97 : decode cX2_lay 97 = .ok (.ireturn, 1) := dk_172 (dk_at dksX2_lay_4 2 rfl rfl)
abbrev cX2_pass : ByteArray := prog_11_method_27_code
def yX2_pass : MethodName := ⟨RX2, "pass", "(I)I"⟩
def dkwX2_pass_1 : List UInt8 := [167, 0, 8, 42, 27, 182, 0, 243, 172]
abbrev dktX2_pass_1 : List UInt8 := dkwX2_pass_1 ++ []
def dkwX2_pass_0 : List UInt8 := [27, 4, 16, 20, 184, 0, 138, 184, 0, 202, 42, 180, 0, 82, 27, 96, 17, 39, 15, 164, 0, 8, 16, 248]
abbrev dktX2_pass_0 : List UInt8 := dkwX2_pass_0 ++ dktX2_pass_1
theorem dksX2_pass_0 : cX2_pass.data.toList.drop 0 = dktX2_pass_0 := by decide +kernel
theorem dksX2_pass_1 : cX2_pass.data.toList.drop 24 = dktX2_pass_1 := dk_seg dksX2_pass_0 24 rfl rfl
theorem dX2_pass_0 : decode cX2_pass 0 = .ok (.iload_n 1, 1) := dk_27 (dk_at dksX2_pass_0 0 rfl rfl)
theorem dX2_pass_1 : decode cX2_pass 1 = .ok (.iconst 1, 1) := dk_4 (dk_at dksX2_pass_0 1 rfl rfl)
theorem dX2_pass_2 : decode cX2_pass 2 = .ok (.bipush 20, 2) := dk_16 20 (dk_at dksX2_pass_0 2 rfl rfl)
theorem dX2_pass_4 : decode cX2_pass 4 = .ok (.invokestatic 138, 3) := dk_184 0 138 (dk_at dksX2_pass_0 4 rfl rfl)
theorem dX2_pass_7 : decode cX2_pass 7 = .ok (.invokestatic 202, 3) := dk_184 0 202 (dk_at dksX2_pass_0 7 rfl rfl)
theorem dX2_pass_10 : decode cX2_pass 10 = .ok (.aload_n 0, 1) := dk_42 (dk_at dksX2_pass_0 10 rfl rfl)
theorem dX2_pass_11 : decode cX2_pass 11 = .ok (.getfield 82, 3) := dk_180 0 82 (dk_at dksX2_pass_0 11 rfl rfl)
theorem dX2_pass_14 : decode cX2_pass 14 = .ok (.iload_n 1, 1) := dk_27 (dk_at dksX2_pass_0 14 rfl rfl)
theorem dX2_pass_15 : decode cX2_pass 15 = .ok (.iadd, 1) := dk_96 (dk_at dksX2_pass_0 15 rfl rfl)
theorem dX2_pass_16 : decode cX2_pass 16 = .ok (.sipush 9999, 3) := dk_17 39 15 (dk_at dksX2_pass_0 16 rfl rfl)
theorem dX2_pass_19 : decode cX2_pass 19 = .ok (.if_icmp .le 8, 3) := dk_164 0 8 (dk_at dksX2_pass_0 19 rfl rfl)
theorem dX2_pass_22 : decode cX2_pass 22 = .ok (.bipush (-8), 2) := dk_16 248 (dk_at dksX2_pass_0 22 rfl rfl)
theorem dX2_pass_24 : decode cX2_pass 24 = .ok (.goto 8, 3) := dk_167 0 8 (dk_at dksX2_pass_1 0 rfl rfl)
theorem dX2_pass_27 : decode cX2_pass 27 = .ok (.aload_n 0, 1) := dk_42 (dk_at dksX2_pass_1 3 rfl rfl)
theorem dX2_pass_28 : decode cX2_pass 28 = .ok (.iload_n 1, 1) := dk_27 (dk_at dksX2_pass_1 4 rfl rfl)
theorem dX2_pass_29 : decode cX2_pass 29 = .ok (.invokevirtual 243, 3) := dk_182 0 243 (dk_at dksX2_pass_1 5 rfl rfl)
theorem dX2_pass_32 : decode cX2_pass 32 = .ok (.ireturn, 1) := dk_172 (dk_at dksX2_pass_1 8 rfl rfl)
abbrev cX2_passes : ByteArray := prog_11_method_16_code
def yX2_passes : MethodName := ⟨RX2, "passes", "(I)I"⟩
def dkwX2_passes_1 : List UInt8 := [42, 180, 0, 29, 8, 46, 28, 100, 172]
abbrev dktX2_passes_1 : List UInt8 := dkwX2_passes_1 ++ []
def dkwX2_passes_0 : List UInt8 := [42, 180, 0, 29, 8, 46, 61, 3, 62, 29, 27, 162, 0, 13, 42, 182, 0, 195, 132, 3, 1, 167, 255, 244]
abbrev dktX2_passes_0 : List UInt8 := dkwX2_passes_0 ++ dktX2_passes_1
theorem dksX2_passes_0 : cX2_passes.data.toList.drop 0 = dktX2_passes_0 := by decide +kernel
theorem dksX2_passes_1 : cX2_passes.data.toList.drop 24 = dktX2_passes_1 := dk_seg dksX2_passes_0 24 rfl rfl
theorem dX2_passes_0 : decode cX2_passes 0 = .ok (.aload_n 0, 1) := dk_42 (dk_at dksX2_passes_0 0 rfl rfl)
theorem dX2_passes_1 : decode cX2_passes 1 = .ok (.getfield 29, 3) := dk_180 0 29 (dk_at dksX2_passes_0 1 rfl rfl)
theorem dX2_passes_4 : decode cX2_passes 4 = .ok (.iconst 5, 1) := dk_8 (dk_at dksX2_passes_0 4 rfl rfl)
theorem dX2_passes_5 : decode cX2_passes 5 = .ok (.iaload, 1) := dk_46 (dk_at dksX2_passes_0 5 rfl rfl)
theorem dX2_passes_6 : decode cX2_passes 6 = .ok (.istore_n 2, 1) := dk_61 (dk_at dksX2_passes_0 6 rfl rfl)
theorem dX2_passes_7 : decode cX2_passes 7 = .ok (.iconst 0, 1) := dk_3 (dk_at dksX2_passes_0 7 rfl rfl)
theorem dX2_passes_8 : decode cX2_passes 8 = .ok (.istore_n 3, 1) := dk_62 (dk_at dksX2_passes_0 8 rfl rfl)
theorem dX2_passes_9 : decode cX2_passes 9 = .ok (.iload_n 3, 1) := dk_29 (dk_at dksX2_passes_0 9 rfl rfl)
theorem dX2_passes_10 : decode cX2_passes 10 = .ok (.iload_n 1, 1) := dk_27 (dk_at dksX2_passes_0 10 rfl rfl)
theorem dX2_passes_11 : decode cX2_passes 11 = .ok (.if_icmp .ge 13, 3) := dk_162 0 13 (dk_at dksX2_passes_0 11 rfl rfl)
theorem dX2_passes_14 : decode cX2_passes 14 = .ok (.aload_n 0, 1) := dk_42 (dk_at dksX2_passes_0 14 rfl rfl)
theorem dX2_passes_15 : decode cX2_passes 15 = .ok (.invokevirtual 195, 3) := dk_182 0 195 (dk_at dksX2_passes_0 15 rfl rfl)
theorem dX2_passes_18 : decode cX2_passes 18 = .ok (.iinc 3 1, 3) := dk_132 3 1 (dk_at dksX2_passes_0 18 rfl rfl)
theorem dX2_passes_21 : decode cX2_passes 21 = .ok (.goto (-12), 3) := dk_167 255 244 (dk_at dksX2_passes_0 21 rfl rfl)
theorem dX2_passes_24 : decode cX2_passes 24 = .ok (.aload_n 0, 1) := dk_42 (dk_at dksX2_passes_1 0 rfl rfl)
theorem dX2_passes_25 : decode cX2_passes 25 = .ok (.getfield 29, 3) := dk_180 0 29 (dk_at dksX2_passes_1 1 rfl rfl)
theorem dX2_passes_28 : decode cX2_passes 28 = .ok (.iconst 5, 1) := dk_8 (dk_at dksX2_passes_1 4 rfl rfl)
theorem dX2_passes_29 : decode cX2_passes 29 = .ok (.iaload, 1) := dk_46 (dk_at dksX2_passes_1 5 rfl rfl)
theorem dX2_passes_30 : decode cX2_passes 30 = .ok (.iload_n 2, 1) := dk_28 (dk_at dksX2_passes_1 6 rfl rfl)
theorem dX2_passes_31 : decode cX2_passes 31 = .ok (.isub, 1) := dk_100 (dk_at dksX2_passes_1 7 rfl rfl)
theorem dX2_passes_32 : decode cX2_passes 32 = .ok (.ireturn, 1) := dk_172 (dk_at dksX2_passes_1 8 rfl rfl)
abbrev cX2_tick : ByteArray := prog_11_method_15_code
def yX2_tick : MethodName := ⟨RX2, "tick", "()V"⟩
def dkwX2_tick_2 : List UInt8 := [27, 182, 0, 48, 192, 0, 67, 3, 181, 0, 191, 132, 1, 1, 167, 255, 201, 177]
abbrev dktX2_tick_2 : List UInt8 := dkwX2_tick_2 ++ []
def dkwX2_tick_1 : List UInt8 := [182, 0, 48, 192, 0, 67, 180, 0, 172, 182, 0, 156, 153, 0, 8, 42, 27, 182, 0, 188, 42, 180, 0, 23]
abbrev dktX2_tick_1 : List UInt8 := dkwX2_tick_1 ++ dktX2_tick_2
def dkwX2_tick_0 : List UInt8 := [42, 182, 0, 185, 3, 60, 27, 42, 180, 0, 23, 182, 0, 44, 162, 0, 50, 42, 42, 180, 0, 23, 27]
abbrev dktX2_tick_0 : List UInt8 := dkwX2_tick_0 ++ dktX2_tick_1
theorem dksX2_tick_0 : cX2_tick.data.toList.drop 0 = dktX2_tick_0 := by decide +kernel
theorem dksX2_tick_1 : cX2_tick.data.toList.drop 23 = dktX2_tick_1 := dk_seg dksX2_tick_0 23 rfl rfl
theorem dksX2_tick_2 : cX2_tick.data.toList.drop 47 = dktX2_tick_2 := dk_seg dksX2_tick_1 24 rfl rfl
theorem dX2_tick_0 : decode cX2_tick 0 = .ok (.aload_n 0, 1) := dk_42 (dk_at dksX2_tick_0 0 rfl rfl)
theorem dX2_tick_1 : decode cX2_tick 1 = .ok (.invokevirtual 185, 3) := dk_182 0 185 (dk_at dksX2_tick_0 1 rfl rfl)
theorem dX2_tick_4 : decode cX2_tick 4 = .ok (.iconst 0, 1) := dk_3 (dk_at dksX2_tick_0 4 rfl rfl)
theorem dX2_tick_5 : decode cX2_tick 5 = .ok (.istore_n 1, 1) := dk_60 (dk_at dksX2_tick_0 5 rfl rfl)
theorem dX2_tick_6 : decode cX2_tick 6 = .ok (.iload_n 1, 1) := dk_27 (dk_at dksX2_tick_0 6 rfl rfl)
theorem dX2_tick_7 : decode cX2_tick 7 = .ok (.aload_n 0, 1) := dk_42 (dk_at dksX2_tick_0 7 rfl rfl)
theorem dX2_tick_8 : decode cX2_tick 8 = .ok (.getfield 23, 3) := dk_180 0 23 (dk_at dksX2_tick_0 8 rfl rfl)
theorem dX2_tick_11 : decode cX2_tick 11 = .ok (.invokevirtual 44, 3) := dk_182 0 44 (dk_at dksX2_tick_0 11 rfl rfl)
theorem dX2_tick_14 : decode cX2_tick 14 = .ok (.if_icmp .ge 50, 3) := dk_162 0 50 (dk_at dksX2_tick_0 14 rfl rfl)
theorem dX2_tick_17 : decode cX2_tick 17 = .ok (.aload_n 0, 1) := dk_42 (dk_at dksX2_tick_0 17 rfl rfl)
theorem dX2_tick_18 : decode cX2_tick 18 = .ok (.aload_n 0, 1) := dk_42 (dk_at dksX2_tick_0 18 rfl rfl)
theorem dX2_tick_19 : decode cX2_tick 19 = .ok (.getfield 23, 3) := dk_180 0 23 (dk_at dksX2_tick_0 19 rfl rfl)
theorem dX2_tick_22 : decode cX2_tick 22 = .ok (.iload_n 1, 1) := dk_27 (dk_at dksX2_tick_0 22 rfl rfl)
theorem dX2_tick_23 : decode cX2_tick 23 = .ok (.invokevirtual 48, 3) := dk_182 0 48 (dk_at dksX2_tick_1 0 rfl rfl)
theorem dX2_tick_26 : decode cX2_tick 26 = .ok (.checkcast 67, 3) := dk_192 0 67 (dk_at dksX2_tick_1 3 rfl rfl)
theorem dX2_tick_29 : decode cX2_tick 29 = .ok (.getfield 172, 3) := dk_180 0 172 (dk_at dksX2_tick_1 6 rfl rfl)
theorem dX2_tick_32 : decode cX2_tick 32 = .ok (.invokevirtual 156, 3) := dk_182 0 156 (dk_at dksX2_tick_1 9 rfl rfl)
theorem dX2_tick_35 : decode cX2_tick 35 = .ok (.ifCond .eq 8, 3) := dk_153 0 8 (dk_at dksX2_tick_1 12 rfl rfl)
theorem dX2_tick_38 : decode cX2_tick 38 = .ok (.aload_n 0, 1) := dk_42 (dk_at dksX2_tick_1 15 rfl rfl)
theorem dX2_tick_39 : decode cX2_tick 39 = .ok (.iload_n 1, 1) := dk_27 (dk_at dksX2_tick_1 16 rfl rfl)
theorem dX2_tick_40 : decode cX2_tick 40 = .ok (.invokevirtual 188, 3) := dk_182 0 188 (dk_at dksX2_tick_1 17 rfl rfl)
theorem dX2_tick_43 : decode cX2_tick 43 = .ok (.aload_n 0, 1) := dk_42 (dk_at dksX2_tick_1 20 rfl rfl)
theorem dX2_tick_44 : decode cX2_tick 44 = .ok (.getfield 23, 3) := dk_180 0 23 (dk_at dksX2_tick_1 21 rfl rfl)
theorem dX2_tick_47 : decode cX2_tick 47 = .ok (.iload_n 1, 1) := dk_27 (dk_at dksX2_tick_2 0 rfl rfl)
theorem dX2_tick_48 : decode cX2_tick 48 = .ok (.invokevirtual 48, 3) := dk_182 0 48 (dk_at dksX2_tick_2 1 rfl rfl)
theorem dX2_tick_51 : decode cX2_tick 51 = .ok (.checkcast 67, 3) := dk_192 0 67 (dk_at dksX2_tick_2 4 rfl rfl)
theorem dX2_tick_54 : decode cX2_tick 54 = .ok (.iconst 0, 1) := dk_3 (dk_at dksX2_tick_2 7 rfl rfl)
theorem dX2_tick_55 : decode cX2_tick 55 = .ok (.putfield 191, 3) := dk_181 0 191 (dk_at dksX2_tick_2 8 rfl rfl)
theorem dX2_tick_58 : decode cX2_tick 58 = .ok (.iinc 1 1, 3) := dk_132 1 1 (dk_at dksX2_tick_2 11 rfl rfl)
theorem dX2_tick_61 : decode cX2_tick 61 = .ok (.goto (-55), 3) := dk_167 255 201 (dk_at dksX2_tick_2 14 rfl rfl)
theorem dX2_tick_64 : decode cX2_tick 64 = .ok (.return_, 1) := dk_177 (dk_at dksX2_tick_2 17 rfl rfl)
abbrev cX2_drifts : ByteArray := prog_11_method_14_code
def yX2_drifts : MethodName := ⟨RX2, "drifts", "()V"⟩
def dkwX2_drifts_4 : List UInt8 := [180, 0, 115, 44, 180, 0, 182, 96, 7, 112, 181, 0, 115, 132, 1, 1, 167, 255, 215, 177]
abbrev dktX2_drifts_4 : List UInt8 := dkwX2_drifts_4 ++ []
def dkwX2_drifts_3 : List UInt8 := [180, 0, 20, 182, 0, 44, 162, 0, 36, 42, 180, 0, 20, 27, 182, 0, 48, 192, 0, 62, 77, 44, 44]
abbrev dktX2_drifts_3 : List UInt8 := dkwX2_drifts_3 ++ dktX2_drifts_4
def dkwX2_drifts_2 : List UInt8 := [44, 180, 0, 94, 44, 180, 0, 176, 182, 0, 179, 181, 0, 94, 132, 1, 1, 167, 255, 203, 3, 60, 27, 42]
abbrev dktX2_drifts_2 : List UInt8 := dkwX2_drifts_2 ++ dktX2_drifts_3
def dkwX2_drifts_1 : List UInt8 := [180, 0, 14, 27, 182, 0, 48, 192, 0, 52, 77, 44, 180, 0, 176, 7, 162, 0, 22, 44, 42, 180, 0, 33]
abbrev dktX2_drifts_1 : List UInt8 := dkwX2_drifts_1 ++ dktX2_drifts_2
def dkwX2_drifts_0 : List UInt8 := [42, 89, 180, 0, 82, 4, 96, 181, 0, 82, 3, 60, 27, 42, 180, 0, 14, 182, 0, 44, 162, 0, 48, 42]
abbrev dktX2_drifts_0 : List UInt8 := dkwX2_drifts_0 ++ dktX2_drifts_1
theorem dksX2_drifts_0 : cX2_drifts.data.toList.drop 0 = dktX2_drifts_0 := by decide +kernel
theorem dksX2_drifts_1 : cX2_drifts.data.toList.drop 24 = dktX2_drifts_1 := dk_seg dksX2_drifts_0 24 rfl rfl
theorem dksX2_drifts_2 : cX2_drifts.data.toList.drop 48 = dktX2_drifts_2 := dk_seg dksX2_drifts_1 24 rfl rfl
theorem dksX2_drifts_3 : cX2_drifts.data.toList.drop 72 = dktX2_drifts_3 := dk_seg dksX2_drifts_2 24 rfl rfl
theorem dksX2_drifts_4 : cX2_drifts.data.toList.drop 95 = dktX2_drifts_4 := dk_seg dksX2_drifts_3 23 rfl rfl
theorem dX2_drifts_0 : decode cX2_drifts 0 = .ok (.aload_n 0, 1) := dk_42 (dk_at dksX2_drifts_0 0 rfl rfl)
theorem dX2_drifts_1 : decode cX2_drifts 1 = .ok (.dup, 1) := dk_89 (dk_at dksX2_drifts_0 1 rfl rfl)
theorem dX2_drifts_2 : decode cX2_drifts 2 = .ok (.getfield 82, 3) := dk_180 0 82 (dk_at dksX2_drifts_0 2 rfl rfl)
theorem dX2_drifts_5 : decode cX2_drifts 5 = .ok (.iconst 1, 1) := dk_4 (dk_at dksX2_drifts_0 5 rfl rfl)
theorem dX2_drifts_6 : decode cX2_drifts 6 = .ok (.iadd, 1) := dk_96 (dk_at dksX2_drifts_0 6 rfl rfl)
theorem dX2_drifts_7 : decode cX2_drifts 7 = .ok (.putfield 82, 3) := dk_181 0 82 (dk_at dksX2_drifts_0 7 rfl rfl)
theorem dX2_drifts_10 : decode cX2_drifts 10 = .ok (.iconst 0, 1) := dk_3 (dk_at dksX2_drifts_0 10 rfl rfl)
theorem dX2_drifts_11 : decode cX2_drifts 11 = .ok (.istore_n 1, 1) := dk_60 (dk_at dksX2_drifts_0 11 rfl rfl)
theorem dX2_drifts_12 : decode cX2_drifts 12 = .ok (.iload_n 1, 1) := dk_27 (dk_at dksX2_drifts_0 12 rfl rfl)
theorem dX2_drifts_13 : decode cX2_drifts 13 = .ok (.aload_n 0, 1) := dk_42 (dk_at dksX2_drifts_0 13 rfl rfl)
theorem dX2_drifts_14 : decode cX2_drifts 14 = .ok (.getfield 14, 3) := dk_180 0 14 (dk_at dksX2_drifts_0 14 rfl rfl)
theorem dX2_drifts_17 : decode cX2_drifts 17 = .ok (.invokevirtual 44, 3) := dk_182 0 44 (dk_at dksX2_drifts_0 17 rfl rfl)
theorem dX2_drifts_20 : decode cX2_drifts 20 = .ok (.if_icmp .ge 48, 3) := dk_162 0 48 (dk_at dksX2_drifts_0 20 rfl rfl)
theorem dX2_drifts_23 : decode cX2_drifts 23 = .ok (.aload_n 0, 1) := dk_42 (dk_at dksX2_drifts_0 23 rfl rfl)
theorem dX2_drifts_24 : decode cX2_drifts 24 = .ok (.getfield 14, 3) := dk_180 0 14 (dk_at dksX2_drifts_1 0 rfl rfl)
theorem dX2_drifts_27 : decode cX2_drifts 27 = .ok (.iload_n 1, 1) := dk_27 (dk_at dksX2_drifts_1 3 rfl rfl)
theorem dX2_drifts_28 : decode cX2_drifts 28 = .ok (.invokevirtual 48, 3) := dk_182 0 48 (dk_at dksX2_drifts_1 4 rfl rfl)
theorem dX2_drifts_31 : decode cX2_drifts 31 = .ok (.checkcast 52, 3) := dk_192 0 52 (dk_at dksX2_drifts_1 7 rfl rfl)
theorem dX2_drifts_34 : decode cX2_drifts 34 = .ok (.astore_n 2, 1) := dk_77 (dk_at dksX2_drifts_1 10 rfl rfl)
theorem dX2_drifts_35 : decode cX2_drifts 35 = .ok (.aload_n 2, 1) := dk_44 (dk_at dksX2_drifts_1 11 rfl rfl)
theorem dX2_drifts_36 : decode cX2_drifts 36 = .ok (.getfield 176, 3) := dk_180 0 176 (dk_at dksX2_drifts_1 12 rfl rfl)
theorem dX2_drifts_39 : decode cX2_drifts 39 = .ok (.iconst 4, 1) := dk_7 (dk_at dksX2_drifts_1 15 rfl rfl)
theorem dX2_drifts_40 : decode cX2_drifts 40 = .ok (.if_icmp .ge 22, 3) := dk_162 0 22 (dk_at dksX2_drifts_1 16 rfl rfl)
theorem dX2_drifts_43 : decode cX2_drifts 43 = .ok (.aload_n 2, 1) := dk_44 (dk_at dksX2_drifts_1 19 rfl rfl)
theorem dX2_drifts_44 : decode cX2_drifts 44 = .ok (.aload_n 0, 1) := dk_42 (dk_at dksX2_drifts_1 20 rfl rfl)
theorem dX2_drifts_45 : decode cX2_drifts 45 = .ok (.getfield 33, 3) := dk_180 0 33 (dk_at dksX2_drifts_1 21 rfl rfl)
theorem dX2_drifts_48 : decode cX2_drifts 48 = .ok (.aload_n 2, 1) := dk_44 (dk_at dksX2_drifts_2 0 rfl rfl)
theorem dX2_drifts_49 : decode cX2_drifts 49 = .ok (.getfield 94, 3) := dk_180 0 94 (dk_at dksX2_drifts_2 1 rfl rfl)
theorem dX2_drifts_52 : decode cX2_drifts 52 = .ok (.aload_n 2, 1) := dk_44 (dk_at dksX2_drifts_2 4 rfl rfl)
theorem dX2_drifts_53 : decode cX2_drifts 53 = .ok (.getfield 176, 3) := dk_180 0 176 (dk_at dksX2_drifts_2 5 rfl rfl)
theorem dX2_drifts_56 : decode cX2_drifts 56 = .ok (.invokevirtual 179, 3) := dk_182 0 179 (dk_at dksX2_drifts_2 8 rfl rfl)
theorem dX2_drifts_59 : decode cX2_drifts 59 = .ok (.putfield 94, 3) := dk_181 0 94 (dk_at dksX2_drifts_2 11 rfl rfl)
theorem dX2_drifts_62 : decode cX2_drifts 62 = .ok (.iinc 1 1, 3) := dk_132 1 1 (dk_at dksX2_drifts_2 14 rfl rfl)
theorem dX2_drifts_65 : decode cX2_drifts 65 = .ok (.goto (-53), 3) := dk_167 255 203 (dk_at dksX2_drifts_2 17 rfl rfl)
theorem dX2_drifts_68 : decode cX2_drifts 68 = .ok (.iconst 0, 1) := dk_3 (dk_at dksX2_drifts_2 20 rfl rfl)
theorem dX2_drifts_69 : decode cX2_drifts 69 = .ok (.istore_n 1, 1) := dk_60 (dk_at dksX2_drifts_2 21 rfl rfl)
theorem dX2_drifts_70 : decode cX2_drifts 70 = .ok (.iload_n 1, 1) := dk_27 (dk_at dksX2_drifts_2 22 rfl rfl)
theorem dX2_drifts_71 : decode cX2_drifts 71 = .ok (.aload_n 0, 1) := dk_42 (dk_at dksX2_drifts_2 23 rfl rfl)
theorem dX2_drifts_72 : decode cX2_drifts 72 = .ok (.getfield 20, 3) := dk_180 0 20 (dk_at dksX2_drifts_3 0 rfl rfl)
theorem dX2_drifts_75 : decode cX2_drifts 75 = .ok (.invokevirtual 44, 3) := dk_182 0 44 (dk_at dksX2_drifts_3 3 rfl rfl)
theorem dX2_drifts_78 : decode cX2_drifts 78 = .ok (.if_icmp .ge 36, 3) := dk_162 0 36 (dk_at dksX2_drifts_3 6 rfl rfl)
theorem dX2_drifts_81 : decode cX2_drifts 81 = .ok (.aload_n 0, 1) := dk_42 (dk_at dksX2_drifts_3 9 rfl rfl)
theorem dX2_drifts_82 : decode cX2_drifts 82 = .ok (.getfield 20, 3) := dk_180 0 20 (dk_at dksX2_drifts_3 10 rfl rfl)
theorem dX2_drifts_85 : decode cX2_drifts 85 = .ok (.iload_n 1, 1) := dk_27 (dk_at dksX2_drifts_3 13 rfl rfl)
theorem dX2_drifts_86 : decode cX2_drifts 86 = .ok (.invokevirtual 48, 3) := dk_182 0 48 (dk_at dksX2_drifts_3 14 rfl rfl)
theorem dX2_drifts_89 : decode cX2_drifts 89 = .ok (.checkcast 62, 3) := dk_192 0 62 (dk_at dksX2_drifts_3 17 rfl rfl)
theorem dX2_drifts_92 : decode cX2_drifts 92 = .ok (.astore_n 2, 1) := dk_77 (dk_at dksX2_drifts_3 20 rfl rfl)
theorem dX2_drifts_93 : decode cX2_drifts 93 = .ok (.aload_n 2, 1) := dk_44 (dk_at dksX2_drifts_3 21 rfl rfl)
theorem dX2_drifts_94 : decode cX2_drifts 94 = .ok (.aload_n 2, 1) := dk_44 (dk_at dksX2_drifts_3 22 rfl rfl)
theorem dX2_drifts_95 : decode cX2_drifts 95 = .ok (.getfield 115, 3) := dk_180 0 115 (dk_at dksX2_drifts_4 0 rfl rfl)
theorem dX2_drifts_98 : decode cX2_drifts 98 = .ok (.aload_n 2, 1) := dk_44 (dk_at dksX2_drifts_4 3 rfl rfl)
theorem dX2_drifts_99 : decode cX2_drifts 99 = .ok (.getfield 182, 3) := dk_180 0 182 (dk_at dksX2_drifts_4 4 rfl rfl)
theorem dX2_drifts_102 : decode cX2_drifts 102 = .ok (.iadd, 1) := dk_96 (dk_at dksX2_drifts_4 7 rfl rfl)
theorem dX2_drifts_103 : decode cX2_drifts 103 = .ok (.iconst 4, 1) := dk_7 (dk_at dksX2_drifts_4 8 rfl rfl)
theorem dX2_drifts_104 : decode cX2_drifts 104 = .ok (.irem, 1) := dk_112 (dk_at dksX2_drifts_4 9 rfl rfl)
theorem dX2_drifts_105 : decode cX2_drifts 105 = .ok (.putfield 115, 3) := dk_181 0 115 (dk_at dksX2_drifts_4 10 rfl rfl)
theorem dX2_drifts_108 : decode cX2_drifts 108 = .ok (.iinc 1 1, 3) := dk_132 1 1 (dk_at dksX2_drifts_4 13 rfl rfl)
theorem dX2_drifts_111 : decode cX2_drifts 111 = .ok (.goto (-41), 3) := dk_167 255 215 (dk_at dksX2_drifts_4 16 rfl rfl)
theorem dX2_drifts_114 : decode cX2_drifts 114 = .ok (.return_, 1) := dk_177 (dk_at dksX2_drifts_4 19 rfl rfl)
abbrev cX2_catches : ByteArray := prog_11_method_13_code
def yX2_catches : MethodName := ⟨RX2, "catches", "(I)V"⟩
def dkwX2_catches_4 : List UInt8 := [180, 0, 173, 4, 96, 181, 0, 173, 42, 180, 0, 29, 8, 92, 46, 4, 96, 79, 177]
abbrev dktX2_catches_4 : List UInt8 := dkwX2_catches_4 ++ []
def dkwX2_catches_3 : List UInt8 := [192, 0, 72, 2, 181, 0, 166, 132, 3, 1, 167, 255, 191, 44, 44, 180, 0, 169, 181, 0, 172, 44, 89]
abbrev dktX2_catches_3 : List UInt8 := dkwX2_catches_3 ++ dktX2_catches_4
def dkwX2_catches_2 : List UInt8 := [42, 180, 0, 26, 29, 182, 0, 48, 192, 0, 72, 6, 181, 0, 163, 42, 180, 0, 26, 29, 182, 0, 48]
abbrev dktX2_catches_2 : List UInt8 := dkwX2_catches_2 ++ dktX2_catches_3
def dkwX2_catches_1 : List UInt8 := [162, 0, 60, 42, 180, 0, 26, 29, 182, 0, 48, 192, 0, 72, 27, 182, 0, 160, 154, 0, 6, 167, 0, 33]
abbrev dktX2_catches_1 : List UInt8 := dkwX2_catches_1 ++ dktX2_catches_2
def dkwX2_catches_0 : List UInt8 := [42, 180, 0, 23, 27, 182, 0, 48, 192, 0, 67, 77, 3, 62, 29, 42, 180, 0, 26, 182, 0, 44]
abbrev dktX2_catches_0 : List UInt8 := dkwX2_catches_0 ++ dktX2_catches_1
theorem dksX2_catches_0 : cX2_catches.data.toList.drop 0 = dktX2_catches_0 := by decide +kernel
theorem dksX2_catches_1 : cX2_catches.data.toList.drop 22 = dktX2_catches_1 := dk_seg dksX2_catches_0 22 rfl rfl
theorem dksX2_catches_2 : cX2_catches.data.toList.drop 46 = dktX2_catches_2 := dk_seg dksX2_catches_1 24 rfl rfl
theorem dksX2_catches_3 : cX2_catches.data.toList.drop 69 = dktX2_catches_3 := dk_seg dksX2_catches_2 23 rfl rfl
theorem dksX2_catches_4 : cX2_catches.data.toList.drop 92 = dktX2_catches_4 := dk_seg dksX2_catches_3 23 rfl rfl
theorem dX2_catches_0 : decode cX2_catches 0 = .ok (.aload_n 0, 1) := dk_42 (dk_at dksX2_catches_0 0 rfl rfl)
theorem dX2_catches_1 : decode cX2_catches 1 = .ok (.getfield 23, 3) := dk_180 0 23 (dk_at dksX2_catches_0 1 rfl rfl)
theorem dX2_catches_4 : decode cX2_catches 4 = .ok (.iload_n 1, 1) := dk_27 (dk_at dksX2_catches_0 4 rfl rfl)
theorem dX2_catches_5 : decode cX2_catches 5 = .ok (.invokevirtual 48, 3) := dk_182 0 48 (dk_at dksX2_catches_0 5 rfl rfl)
theorem dX2_catches_8 : decode cX2_catches 8 = .ok (.checkcast 67, 3) := dk_192 0 67 (dk_at dksX2_catches_0 8 rfl rfl)
theorem dX2_catches_11 : decode cX2_catches 11 = .ok (.astore_n 2, 1) := dk_77 (dk_at dksX2_catches_0 11 rfl rfl)
theorem dX2_catches_12 : decode cX2_catches 12 = .ok (.iconst 0, 1) := dk_3 (dk_at dksX2_catches_0 12 rfl rfl)
theorem dX2_catches_13 : decode cX2_catches 13 = .ok (.istore_n 3, 1) := dk_62 (dk_at dksX2_catches_0 13 rfl rfl)
theorem dX2_catches_14 : decode cX2_catches 14 = .ok (.iload_n 3, 1) := dk_29 (dk_at dksX2_catches_0 14 rfl rfl)
theorem dX2_catches_15 : decode cX2_catches 15 = .ok (.aload_n 0, 1) := dk_42 (dk_at dksX2_catches_0 15 rfl rfl)
theorem dX2_catches_16 : decode cX2_catches 16 = .ok (.getfield 26, 3) := dk_180 0 26 (dk_at dksX2_catches_0 16 rfl rfl)
theorem dX2_catches_19 : decode cX2_catches 19 = .ok (.invokevirtual 44, 3) := dk_182 0 44 (dk_at dksX2_catches_0 19 rfl rfl)
theorem dX2_catches_22 : decode cX2_catches 22 = .ok (.if_icmp .ge 60, 3) := dk_162 0 60 (dk_at dksX2_catches_1 0 rfl rfl)
theorem dX2_catches_25 : decode cX2_catches 25 = .ok (.aload_n 0, 1) := dk_42 (dk_at dksX2_catches_1 3 rfl rfl)
theorem dX2_catches_26 : decode cX2_catches 26 = .ok (.getfield 26, 3) := dk_180 0 26 (dk_at dksX2_catches_1 4 rfl rfl)
theorem dX2_catches_29 : decode cX2_catches 29 = .ok (.iload_n 3, 1) := dk_29 (dk_at dksX2_catches_1 7 rfl rfl)
theorem dX2_catches_30 : decode cX2_catches 30 = .ok (.invokevirtual 48, 3) := dk_182 0 48 (dk_at dksX2_catches_1 8 rfl rfl)
theorem dX2_catches_33 : decode cX2_catches 33 = .ok (.checkcast 72, 3) := dk_192 0 72 (dk_at dksX2_catches_1 11 rfl rfl)
theorem dX2_catches_36 : decode cX2_catches 36 = .ok (.iload_n 1, 1) := dk_27 (dk_at dksX2_catches_1 14 rfl rfl)
theorem dX2_catches_37 : decode cX2_catches 37 = .ok (.invokevirtual 160, 3) := dk_182 0 160 (dk_at dksX2_catches_1 15 rfl rfl)
theorem dX2_catches_40 : decode cX2_catches 40 = .ok (.ifCond .ne 6, 3) := dk_154 0 6 (dk_at dksX2_catches_1 18 rfl rfl)
theorem dX2_catches_43 : decode cX2_catches 43 = .ok (.goto 33, 3) := dk_167 0 33 (dk_at dksX2_catches_1 21 rfl rfl)
theorem dX2_catches_46 : decode cX2_catches 46 = .ok (.aload_n 0, 1) := dk_42 (dk_at dksX2_catches_2 0 rfl rfl)
theorem dX2_catches_47 : decode cX2_catches 47 = .ok (.getfield 26, 3) := dk_180 0 26 (dk_at dksX2_catches_2 1 rfl rfl)
theorem dX2_catches_50 : decode cX2_catches 50 = .ok (.iload_n 3, 1) := dk_29 (dk_at dksX2_catches_2 4 rfl rfl)
theorem dX2_catches_51 : decode cX2_catches 51 = .ok (.invokevirtual 48, 3) := dk_182 0 48 (dk_at dksX2_catches_2 5 rfl rfl)
theorem dX2_catches_54 : decode cX2_catches 54 = .ok (.checkcast 72, 3) := dk_192 0 72 (dk_at dksX2_catches_2 8 rfl rfl)
theorem dX2_catches_57 : decode cX2_catches 57 = .ok (.iconst 3, 1) := dk_6 (dk_at dksX2_catches_2 11 rfl rfl)
theorem dX2_catches_58 : decode cX2_catches 58 = .ok (.putfield 163, 3) := dk_181 0 163 (dk_at dksX2_catches_2 12 rfl rfl)
theorem dX2_catches_61 : decode cX2_catches 61 = .ok (.aload_n 0, 1) := dk_42 (dk_at dksX2_catches_2 15 rfl rfl)
theorem dX2_catches_62 : decode cX2_catches 62 = .ok (.getfield 26, 3) := dk_180 0 26 (dk_at dksX2_catches_2 16 rfl rfl)
theorem dX2_catches_65 : decode cX2_catches 65 = .ok (.iload_n 3, 1) := dk_29 (dk_at dksX2_catches_2 19 rfl rfl)
theorem dX2_catches_66 : decode cX2_catches 66 = .ok (.invokevirtual 48, 3) := dk_182 0 48 (dk_at dksX2_catches_2 20 rfl rfl)
theorem dX2_catches_69 : decode cX2_catches 69 = .ok (.checkcast 72, 3) := dk_192 0 72 (dk_at dksX2_catches_3 0 rfl rfl)
theorem dX2_catches_72 : decode cX2_catches 72 = .ok (.iconst (-1), 1) := dk_2 (dk_at dksX2_catches_3 3 rfl rfl)
theorem dX2_catches_73 : decode cX2_catches 73 = .ok (.putfield 166, 3) := dk_181 0 166 (dk_at dksX2_catches_3 4 rfl rfl)
theorem dX2_catches_76 : decode cX2_catches 76 = .ok (.iinc 3 1, 3) := dk_132 3 1 (dk_at dksX2_catches_3 7 rfl rfl)
theorem dX2_catches_79 : decode cX2_catches 79 = .ok (.goto (-65), 3) := dk_167 255 191 (dk_at dksX2_catches_3 10 rfl rfl)
theorem dX2_catches_82 : decode cX2_catches 82 = .ok (.aload_n 2, 1) := dk_44 (dk_at dksX2_catches_3 13 rfl rfl)
theorem dX2_catches_83 : decode cX2_catches 83 = .ok (.aload_n 2, 1) := dk_44 (dk_at dksX2_catches_3 14 rfl rfl)
theorem dX2_catches_84 : decode cX2_catches 84 = .ok (.getfield 169, 3) := dk_180 0 169 (dk_at dksX2_catches_3 15 rfl rfl)
theorem dX2_catches_87 : decode cX2_catches 87 = .ok (.putfield 172, 3) := dk_181 0 172 (dk_at dksX2_catches_3 18 rfl rfl)
theorem dX2_catches_90 : decode cX2_catches 90 = .ok (.aload_n 2, 1) := dk_44 (dk_at dksX2_catches_3 21 rfl rfl)
theorem dX2_catches_91 : decode cX2_catches 91 = .ok (.dup, 1) := dk_89 (dk_at dksX2_catches_3 22 rfl rfl)
theorem dX2_catches_92 : decode cX2_catches 92 = .ok (.getfield 173, 3) := dk_180 0 173 (dk_at dksX2_catches_4 0 rfl rfl)
theorem dX2_catches_95 : decode cX2_catches 95 = .ok (.iconst 1, 1) := dk_4 (dk_at dksX2_catches_4 3 rfl rfl)
theorem dX2_catches_96 : decode cX2_catches 96 = .ok (.iadd, 1) := dk_96 (dk_at dksX2_catches_4 4 rfl rfl)
theorem dX2_catches_97 : decode cX2_catches 97 = .ok (.putfield 173, 3) := dk_181 0 173 (dk_at dksX2_catches_4 5 rfl rfl)
theorem dX2_catches_100 : decode cX2_catches 100 = .ok (.aload_n 0, 1) := dk_42 (dk_at dksX2_catches_4 8 rfl rfl)
theorem dX2_catches_101 : decode cX2_catches 101 = .ok (.getfield 29, 3) := dk_180 0 29 (dk_at dksX2_catches_4 9 rfl rfl)
theorem dX2_catches_104 : decode cX2_catches 104 = .ok (.iconst 5, 1) := dk_8 (dk_at dksX2_catches_4 12 rfl rfl)
theorem dX2_catches_105 : decode cX2_catches 105 = .ok (.dup2, 1) := dk_92 (dk_at dksX2_catches_4 13 rfl rfl)
theorem dX2_catches_106 : decode cX2_catches 106 = .ok (.iaload, 1) := dk_46 (dk_at dksX2_catches_4 14 rfl rfl)
theorem dX2_catches_107 : decode cX2_catches 107 = .ok (.iconst 1, 1) := dk_4 (dk_at dksX2_catches_4 15 rfl rfl)
theorem dX2_catches_108 : decode cX2_catches 108 = .ok (.iadd, 1) := dk_96 (dk_at dksX2_catches_4 16 rfl rfl)
theorem dX2_catches_109 : decode cX2_catches 109 = .ok (.iastore, 1) := dk_79 (dk_at dksX2_catches_4 17 rfl rfl)
theorem dX2_catches_110 : decode cX2_catches 110 = .ok (.return_, 1) := dk_177 (dk_at dksX2_catches_4 18 rfl rfl)
abbrev cX2_allSeen : ByteArray := prog_11_method_11_code
def yX2_allSeen : MethodName := ⟨RX2, "allSeen", "()I"⟩
def dkwX2_allSeen_1 : List UInt8 := [96, 60, 132, 2, 1, 167, 255, 231, 27, 172]
abbrev dktX2_allSeen_1 : List UInt8 := dkwX2_allSeen_1 ++ []
def dkwX2_allSeen_0 : List UInt8 := [3, 60, 3, 61, 28, 42, 180, 0, 33, 182, 0, 153, 162, 0, 20, 27, 42, 28, 182, 0, 156, 184, 0, 146]
abbrev dktX2_allSeen_0 : List UInt8 := dkwX2_allSeen_0 ++ dktX2_allSeen_1
theorem dksX2_allSeen_0 : cX2_allSeen.data.toList.drop 0 = dktX2_allSeen_0 := by decide +kernel
theorem dksX2_allSeen_1 : cX2_allSeen.data.toList.drop 24 = dktX2_allSeen_1 := dk_seg dksX2_allSeen_0 24 rfl rfl
theorem dX2_allSeen_0 : decode cX2_allSeen 0 = .ok (.iconst 0, 1) := dk_3 (dk_at dksX2_allSeen_0 0 rfl rfl)
theorem dX2_allSeen_1 : decode cX2_allSeen 1 = .ok (.istore_n 1, 1) := dk_60 (dk_at dksX2_allSeen_0 1 rfl rfl)
theorem dX2_allSeen_2 : decode cX2_allSeen 2 = .ok (.iconst 0, 1) := dk_3 (dk_at dksX2_allSeen_0 2 rfl rfl)
theorem dX2_allSeen_3 : decode cX2_allSeen 3 = .ok (.istore_n 2, 1) := dk_61 (dk_at dksX2_allSeen_0 3 rfl rfl)
theorem dX2_allSeen_4 : decode cX2_allSeen 4 = .ok (.iload_n 2, 1) := dk_28 (dk_at dksX2_allSeen_0 4 rfl rfl)
theorem dX2_allSeen_5 : decode cX2_allSeen 5 = .ok (.aload_n 0, 1) := dk_42 (dk_at dksX2_allSeen_0 5 rfl rfl)
theorem dX2_allSeen_6 : decode cX2_allSeen 6 = .ok (.getfield 33, 3) := dk_180 0 33 (dk_at dksX2_allSeen_0 6 rfl rfl)
theorem dX2_allSeen_9 : decode cX2_allSeen 9 = .ok (.invokevirtual 153, 3) := dk_182 0 153 (dk_at dksX2_allSeen_0 9 rfl rfl)
theorem dX2_allSeen_12 : decode cX2_allSeen 12 = .ok (.if_icmp .ge 20, 3) := dk_162 0 20 (dk_at dksX2_allSeen_0 12 rfl rfl)
theorem dX2_allSeen_15 : decode cX2_allSeen 15 = .ok (.iload_n 1, 1) := dk_27 (dk_at dksX2_allSeen_0 15 rfl rfl)
theorem dX2_allSeen_16 : decode cX2_allSeen 16 = .ok (.aload_n 0, 1) := dk_42 (dk_at dksX2_allSeen_0 16 rfl rfl)
theorem dX2_allSeen_17 : decode cX2_allSeen 17 = .ok (.iload_n 2, 1) := dk_28 (dk_at dksX2_allSeen_0 17 rfl rfl)
theorem dX2_allSeen_18 : decode cX2_allSeen 18 = .ok (.invokevirtual 156, 3) := dk_182 0 156 (dk_at dksX2_allSeen_0 18 rfl rfl)
theorem dX2_allSeen_21 : decode cX2_allSeen 21 = .ok (.invokestatic 146, 3) := dk_184 0 146 (dk_at dksX2_allSeen_0 21 rfl rfl)
theorem dX2_allSeen_24 : decode cX2_allSeen 24 = .ok (.iadd, 1) := dk_96 (dk_at dksX2_allSeen_1 0 rfl rfl)
theorem dX2_allSeen_25 : decode cX2_allSeen 25 = .ok (.istore_n 1, 1) := dk_60 (dk_at dksX2_allSeen_1 1 rfl rfl)
theorem dX2_allSeen_26 : decode cX2_allSeen 26 = .ok (.iinc 2 1, 3) := dk_132 2 1 (dk_at dksX2_allSeen_1 2 rfl rfl)
theorem dX2_allSeen_29 : decode cX2_allSeen 29 = .ok (.goto (-25), 3) := dk_167 255 231 (dk_at dksX2_allSeen_1 5 rfl rfl)
theorem dX2_allSeen_32 : decode cX2_allSeen 32 = .ok (.iload_n 1, 1) := dk_27 (dk_at dksX2_allSeen_1 8 rfl rfl)
theorem dX2_allSeen_33 : decode cX2_allSeen 33 = .ok (.ireturn, 1) := dk_172 (dk_at dksX2_allSeen_1 9 rfl rfl)
abbrev cX2_requireCell : ByteArray := prog_11_method_18_code
def yX2_requireCell : MethodName := ⟨RX2, "requireCell", "(I)V"⟩
def dkwX2_requireCell_0 : List UInt8 := [27, 3, 42, 180, 0, 33, 182, 0, 153, 4, 100, 184, 0, 138, 184, 0, 198, 177]
abbrev dktX2_requireCell_0 : List UInt8 := dkwX2_requireCell_0 ++ []
theorem dksX2_requireCell_0 : cX2_requireCell.data.toList.drop 0 = dktX2_requireCell_0 := by decide +kernel
theorem dX2_requireCell_0 : decode cX2_requireCell 0 = .ok (.iload_n 1, 1) := dk_27 (dk_at dksX2_requireCell_0 0 rfl rfl)
theorem dX2_requireCell_1 : decode cX2_requireCell 1 = .ok (.iconst 0, 1) := dk_3 (dk_at dksX2_requireCell_0 1 rfl rfl)
theorem dX2_requireCell_2 : decode cX2_requireCell 2 = .ok (.aload_n 0, 1) := dk_42 (dk_at dksX2_requireCell_0 2 rfl rfl)
theorem dX2_requireCell_3 : decode cX2_requireCell 3 = .ok (.getfield 33, 3) := dk_180 0 33 (dk_at dksX2_requireCell_0 3 rfl rfl)
theorem dX2_requireCell_6 : decode cX2_requireCell 6 = .ok (.invokevirtual 153, 3) := dk_182 0 153 (dk_at dksX2_requireCell_0 6 rfl rfl)
theorem dX2_requireCell_9 : decode cX2_requireCell 9 = .ok (.iconst 1, 1) := dk_4 (dk_at dksX2_requireCell_0 9 rfl rfl)
theorem dX2_requireCell_10 : decode cX2_requireCell 10 = .ok (.isub, 1) := dk_100 (dk_at dksX2_requireCell_0 10 rfl rfl)
theorem dX2_requireCell_11 : decode cX2_requireCell 11 = .ok (.invokestatic 138, 3) := dk_184 0 138 (dk_at dksX2_requireCell_0 11 rfl rfl)
theorem dX2_requireCell_14 : decode cX2_requireCell 14 = .ok (.invokestatic 198, 3) := dk_184 0 198 (dk_at dksX2_requireCell_0 14 rfl rfl)
theorem dX2_requireCell_17 : decode cX2_requireCell 17 = .ok (.return_, 1) := dk_177 (dk_at dksX2_requireCell_0 17 rfl rfl)
abbrev cX2_gaze : ByteArray := prog_11_method_6_code
def yX2_gaze : MethodName := ⟨RX2, "gaze", "(LMistCouriers$Watcher;I)I"⟩
def dkwX2_gaze_1 : List UInt8 := [182, 0, 126, 62, 132, 4, 1, 167, 255, 233, 29, 172]
abbrev dktX2_gaze_1 : List UInt8 := dkwX2_gaze_1 ++ []
def dkwX2_gaze_0 : List UInt8 := [43, 180, 0, 125, 62, 4, 54, 4, 21, 4, 28, 163, 0, 23, 29, 2, 159, 0, 18, 42, 43, 29, 21, 4]
abbrev dktX2_gaze_0 : List UInt8 := dkwX2_gaze_0 ++ dktX2_gaze_1
theorem dksX2_gaze_0 : cX2_gaze.data.toList.drop 0 = dktX2_gaze_0 := by decide +kernel
theorem dksX2_gaze_1 : cX2_gaze.data.toList.drop 24 = dktX2_gaze_1 := dk_seg dksX2_gaze_0 24 rfl rfl
theorem dX2_gaze_0 : decode cX2_gaze 0 = .ok (.aload_n 1, 1) := dk_43 (dk_at dksX2_gaze_0 0 rfl rfl)
theorem dX2_gaze_1 : decode cX2_gaze 1 = .ok (.getfield 125, 3) := dk_180 0 125 (dk_at dksX2_gaze_0 1 rfl rfl)
theorem dX2_gaze_4 : decode cX2_gaze 4 = .ok (.istore_n 3, 1) := dk_62 (dk_at dksX2_gaze_0 4 rfl rfl)
theorem dX2_gaze_5 : decode cX2_gaze 5 = .ok (.iconst 1, 1) := dk_4 (dk_at dksX2_gaze_0 5 rfl rfl)
theorem dX2_gaze_6 : decode cX2_gaze 6 = .ok (.istore 4, 2) := dk_54 4 (dk_at dksX2_gaze_0 6 rfl rfl)
theorem dX2_gaze_8 : decode cX2_gaze 8 = .ok (.iload 4, 2) := dk_21 4 (dk_at dksX2_gaze_0 8 rfl rfl)
theorem dX2_gaze_10 : decode cX2_gaze 10 = .ok (.iload_n 2, 1) := dk_28 (dk_at dksX2_gaze_0 10 rfl rfl)
theorem dX2_gaze_11 : decode cX2_gaze 11 = .ok (.if_icmp .gt 23, 3) := dk_163 0 23 (dk_at dksX2_gaze_0 11 rfl rfl)
theorem dX2_gaze_14 : decode cX2_gaze 14 = .ok (.iload_n 3, 1) := dk_29 (dk_at dksX2_gaze_0 14 rfl rfl)
theorem dX2_gaze_15 : decode cX2_gaze 15 = .ok (.iconst (-1), 1) := dk_2 (dk_at dksX2_gaze_0 15 rfl rfl)
theorem dX2_gaze_16 : decode cX2_gaze 16 = .ok (.if_icmp .eq 18, 3) := dk_159 0 18 (dk_at dksX2_gaze_0 16 rfl rfl)
theorem dX2_gaze_19 : decode cX2_gaze 19 = .ok (.aload_n 0, 1) := dk_42 (dk_at dksX2_gaze_0 19 rfl rfl)
theorem dX2_gaze_20 : decode cX2_gaze 20 = .ok (.aload_n 1, 1) := dk_43 (dk_at dksX2_gaze_0 20 rfl rfl)
theorem dX2_gaze_21 : decode cX2_gaze 21 = .ok (.iload_n 3, 1) := dk_29 (dk_at dksX2_gaze_0 21 rfl rfl)
theorem dX2_gaze_22 : decode cX2_gaze 22 = .ok (.iload 4, 2) := dk_21 4 (dk_at dksX2_gaze_0 22 rfl rfl)
theorem dX2_gaze_24 : decode cX2_gaze 24 = .ok (.invokevirtual 126, 3) := dk_182 0 126 (dk_at dksX2_gaze_1 0 rfl rfl)
theorem dX2_gaze_27 : decode cX2_gaze 27 = .ok (.istore_n 3, 1) := dk_62 (dk_at dksX2_gaze_1 3 rfl rfl)
theorem dX2_gaze_28 : decode cX2_gaze 28 = .ok (.iinc 4 1, 3) := dk_132 4 1 (dk_at dksX2_gaze_1 4 rfl rfl)
theorem dX2_gaze_31 : decode cX2_gaze 31 = .ok (.goto (-23), 3) := dk_167 255 233 (dk_at dksX2_gaze_1 7 rfl rfl)
theorem dX2_gaze_34 : decode cX2_gaze 34 = .ok (.iload_n 3, 1) := dk_29 (dk_at dksX2_gaze_1 10 rfl rfl)
theorem dX2_gaze_35 : decode cX2_gaze 35 = .ok (.ireturn, 1) := dk_172 (dk_at dksX2_gaze_1 11 rfl rfl)
abbrev cX3_init : ByteArray := prog_10_method_1_code
def yX3_init : MethodName := ⟨RX3, "<init>", "(II[I)V"⟩
def dkwX3_init_3 : List UInt8 := [132, 6, 1, 167, 255, 231, 177]
abbrev dktX3_init_3 : List UInt8 := dkwX3_init_3 ++ []
def dkwX3_init_2 : List UInt8 := [21, 6, 21, 5, 162, 0, 24, 25, 4, 21, 6, 46, 54, 7, 42, 180, 0, 25, 21, 7, 4, 84]
abbrev dktX3_init_2 : List UInt8 := dkwX3_init_2 ++ dktX3_init_3
def dkwX3_init_1 : List UInt8 := [181, 0, 22, 42, 27, 28, 104, 188, 4, 181, 0, 25, 45, 58, 4, 25, 4, 190, 54, 5, 3, 54, 6]
abbrev dktX3_init_1 : List UInt8 := dkwX3_init_1 ++ dktX3_init_2
def dkwX3_init_0 : List UInt8 := [42, 183, 0, 3, 42, 187, 0, 9, 89, 183, 0, 11, 181, 0, 12, 42, 27, 181, 0, 18, 42, 28]
abbrev dktX3_init_0 : List UInt8 := dkwX3_init_0 ++ dktX3_init_1
theorem dksX3_init_0 : cX3_init.data.toList.drop 0 = dktX3_init_0 := by decide +kernel
theorem dksX3_init_1 : cX3_init.data.toList.drop 22 = dktX3_init_1 := dk_seg dksX3_init_0 22 rfl rfl
theorem dksX3_init_2 : cX3_init.data.toList.drop 45 = dktX3_init_2 := dk_seg dksX3_init_1 23 rfl rfl
theorem dksX3_init_3 : cX3_init.data.toList.drop 67 = dktX3_init_3 := dk_seg dksX3_init_2 22 rfl rfl
theorem dX3_init_0 : decode cX3_init 0 = .ok (.aload_n 0, 1) := dk_42 (dk_at dksX3_init_0 0 rfl rfl)
theorem dX3_init_1 : decode cX3_init 1 = .ok (.invokespecial 3, 3) := dk_183 0 3 (dk_at dksX3_init_0 1 rfl rfl)
theorem dX3_init_4 : decode cX3_init 4 = .ok (.aload_n 0, 1) := dk_42 (dk_at dksX3_init_0 4 rfl rfl)
theorem dX3_init_5 : decode cX3_init 5 = .ok (.new 9, 3) := dk_187 0 9 (dk_at dksX3_init_0 5 rfl rfl)
theorem dX3_init_8 : decode cX3_init 8 = .ok (.dup, 1) := dk_89 (dk_at dksX3_init_0 8 rfl rfl)
theorem dX3_init_9 : decode cX3_init 9 = .ok (.invokespecial 11, 3) := dk_183 0 11 (dk_at dksX3_init_0 9 rfl rfl)
theorem dX3_init_12 : decode cX3_init 12 = .ok (.putfield 12, 3) := dk_181 0 12 (dk_at dksX3_init_0 12 rfl rfl)
theorem dX3_init_15 : decode cX3_init 15 = .ok (.aload_n 0, 1) := dk_42 (dk_at dksX3_init_0 15 rfl rfl)
theorem dX3_init_16 : decode cX3_init 16 = .ok (.iload_n 1, 1) := dk_27 (dk_at dksX3_init_0 16 rfl rfl)
theorem dX3_init_17 : decode cX3_init 17 = .ok (.putfield 18, 3) := dk_181 0 18 (dk_at dksX3_init_0 17 rfl rfl)
theorem dX3_init_20 : decode cX3_init 20 = .ok (.aload_n 0, 1) := dk_42 (dk_at dksX3_init_0 20 rfl rfl)
theorem dX3_init_21 : decode cX3_init 21 = .ok (.iload_n 2, 1) := dk_28 (dk_at dksX3_init_0 21 rfl rfl)
theorem dX3_init_22 : decode cX3_init 22 = .ok (.putfield 22, 3) := dk_181 0 22 (dk_at dksX3_init_1 0 rfl rfl)
theorem dX3_init_25 : decode cX3_init 25 = .ok (.aload_n 0, 1) := dk_42 (dk_at dksX3_init_1 3 rfl rfl)
theorem dX3_init_26 : decode cX3_init 26 = .ok (.iload_n 1, 1) := dk_27 (dk_at dksX3_init_1 4 rfl rfl)
theorem dX3_init_27 : decode cX3_init 27 = .ok (.iload_n 2, 1) := dk_28 (dk_at dksX3_init_1 5 rfl rfl)
theorem dX3_init_28 : decode cX3_init 28 = .ok (.imul, 1) := dk_104 (dk_at dksX3_init_1 6 rfl rfl)
theorem dX3_init_29 : decode cX3_init 29 = .ok (.newarray .boolean, 2) := dk_188_4 (dk_at dksX3_init_1 7 rfl rfl)
theorem dX3_init_31 : decode cX3_init 31 = .ok (.putfield 25, 3) := dk_181 0 25 (dk_at dksX3_init_1 9 rfl rfl)
theorem dX3_init_34 : decode cX3_init 34 = .ok (.aload_n 3, 1) := dk_45 (dk_at dksX3_init_1 12 rfl rfl)
theorem dX3_init_35 : decode cX3_init 35 = .ok (.astore 4, 2) := dk_58 4 (dk_at dksX3_init_1 13 rfl rfl)
theorem dX3_init_37 : decode cX3_init 37 = .ok (.aload 4, 2) := dk_25 4 (dk_at dksX3_init_1 15 rfl rfl)
theorem dX3_init_39 : decode cX3_init 39 = .ok (.arraylength, 1) := dk_190 (dk_at dksX3_init_1 17 rfl rfl)
theorem dX3_init_40 : decode cX3_init 40 = .ok (.istore 5, 2) := dk_54 5 (dk_at dksX3_init_1 18 rfl rfl)
theorem dX3_init_42 : decode cX3_init 42 = .ok (.iconst 0, 1) := dk_3 (dk_at dksX3_init_1 20 rfl rfl)
theorem dX3_init_43 : decode cX3_init 43 = .ok (.istore 6, 2) := dk_54 6 (dk_at dksX3_init_1 21 rfl rfl)
theorem dX3_init_45 : decode cX3_init 45 = .ok (.iload 6, 2) := dk_21 6 (dk_at dksX3_init_2 0 rfl rfl)
theorem dX3_init_47 : decode cX3_init 47 = .ok (.iload 5, 2) := dk_21 5 (dk_at dksX3_init_2 2 rfl rfl)
theorem dX3_init_49 : decode cX3_init 49 = .ok (.if_icmp .ge 24, 3) := dk_162 0 24 (dk_at dksX3_init_2 4 rfl rfl)
theorem dX3_init_52 : decode cX3_init 52 = .ok (.aload 4, 2) := dk_25 4 (dk_at dksX3_init_2 7 rfl rfl)
theorem dX3_init_54 : decode cX3_init 54 = .ok (.iload 6, 2) := dk_21 6 (dk_at dksX3_init_2 9 rfl rfl)
theorem dX3_init_56 : decode cX3_init 56 = .ok (.iaload, 1) := dk_46 (dk_at dksX3_init_2 11 rfl rfl)
theorem dX3_init_57 : decode cX3_init 57 = .ok (.istore 7, 2) := dk_54 7 (dk_at dksX3_init_2 12 rfl rfl)
theorem dX3_init_59 : decode cX3_init 59 = .ok (.aload_n 0, 1) := dk_42 (dk_at dksX3_init_2 14 rfl rfl)
theorem dX3_init_60 : decode cX3_init 60 = .ok (.getfield 25, 3) := dk_180 0 25 (dk_at dksX3_init_2 15 rfl rfl)
theorem dX3_init_63 : decode cX3_init 63 = .ok (.iload 7, 2) := dk_21 7 (dk_at dksX3_init_2 18 rfl rfl)
theorem dX3_init_65 : decode cX3_init 65 = .ok (.iconst 1, 1) := dk_4 (dk_at dksX3_init_2 20 rfl rfl)
theorem dX3_init_66 : decode cX3_init 66 = .ok (.bastore, 1) := dk_84 (dk_at dksX3_init_2 21 rfl rfl)
theorem dX3_init_67 : decode cX3_init 67 = .ok (.iinc 6 1, 3) := dk_132 6 1 (dk_at dksX3_init_3 0 rfl rfl)
theorem dX3_init_70 : decode cX3_init 70 = .ok (.goto (-25), 3) := dk_167 255 231 (dk_at dksX3_init_3 3 rfl rfl)
theorem dX3_init_73 : decode cX3_init 73 = .ok (.return_, 1) := dk_177 (dk_at dksX3_init_3 6 rfl rfl)
abbrev cX3_posts : ByteArray := prog_10_method_4_code
def yX3_posts : MethodName := ⟨RX3, "posts", "(LMistCouriers$Watcher;)V"⟩
def dkwX3_posts_1 : List UInt8 := [42, 180, 0, 12, 44, 43, 182, 0, 43, 192, 0, 32, 78, 177]
abbrev dktX3_posts_1 : List UInt8 := dkwX3_posts_1 ++ []
def dkwX3_posts_0 : List UInt8 := [187, 0, 29, 89, 43, 180, 0, 31, 183, 0, 36, 77, 42, 180, 0, 12, 44, 182, 0, 39, 153, 0, 4, 177]
abbrev dktX3_posts_0 : List UInt8 := dkwX3_posts_0 ++ dktX3_posts_1
theorem dksX3_posts_0 : cX3_posts.data.toList.drop 0 = dktX3_posts_0 := by decide +kernel
theorem dksX3_posts_1 : cX3_posts.data.toList.drop 24 = dktX3_posts_1 := dk_seg dksX3_posts_0 24 rfl rfl
theorem dX3_posts_0 : decode cX3_posts 0 = .ok (.new 29, 3) := dk_187 0 29 (dk_at dksX3_posts_0 0 rfl rfl)
theorem dX3_posts_3 : decode cX3_posts 3 = .ok (.dup, 1) := dk_89 (dk_at dksX3_posts_0 3 rfl rfl)
theorem dX3_posts_4 : decode cX3_posts 4 = .ok (.aload_n 1, 1) := dk_43 (dk_at dksX3_posts_0 4 rfl rfl)
theorem dX3_posts_5 : decode cX3_posts 5 = .ok (.getfield 31, 3) := dk_180 0 31 (dk_at dksX3_posts_0 5 rfl rfl)
theorem dX3_posts_8 : decode cX3_posts 8 = .ok (.invokespecial 36, 3) := dk_183 0 36 (dk_at dksX3_posts_0 8 rfl rfl)
theorem dX3_posts_11 : decode cX3_posts 11 = .ok (.astore_n 2, 1) := dk_77 (dk_at dksX3_posts_0 11 rfl rfl)
theorem dX3_posts_12 : decode cX3_posts 12 = .ok (.aload_n 0, 1) := dk_42 (dk_at dksX3_posts_0 12 rfl rfl)
theorem dX3_posts_13 : decode cX3_posts 13 = .ok (.getfield 12, 3) := dk_180 0 12 (dk_at dksX3_posts_0 13 rfl rfl)
theorem dX3_posts_16 : decode cX3_posts 16 = .ok (.aload_n 2, 1) := dk_44 (dk_at dksX3_posts_0 16 rfl rfl)
theorem dX3_posts_17 : decode cX3_posts 17 = .ok (.invokevirtual 39, 3) := dk_182 0 39 (dk_at dksX3_posts_0 17 rfl rfl)
theorem dX3_posts_20 : decode cX3_posts 20 = .ok (.ifCond .eq 4, 3) := dk_153 0 4 (dk_at dksX3_posts_0 20 rfl rfl)
theorem dX3_posts_23 : decode cX3_posts 23 = .ok (.return_, 1) := dk_177 (dk_at dksX3_posts_0 23 rfl rfl)
theorem dX3_posts_24 : decode cX3_posts 24 = .ok (.aload_n 0, 1) := dk_42 (dk_at dksX3_posts_1 0 rfl rfl)
theorem dX3_posts_25 : decode cX3_posts 25 = .ok (.getfield 12, 3) := dk_180 0 12 (dk_at dksX3_posts_1 1 rfl rfl)
theorem dX3_posts_28 : decode cX3_posts 28 = .ok (.aload_n 2, 1) := dk_44 (dk_at dksX3_posts_1 4 rfl rfl)
theorem dX3_posts_29 : decode cX3_posts 29 = .ok (.aload_n 1, 1) := dk_43 (dk_at dksX3_posts_1 5 rfl rfl)
theorem dX3_posts_30 : decode cX3_posts 30 = .ok (.invokevirtual 43, 3) := dk_182 0 43 (dk_at dksX3_posts_1 6 rfl rfl)
theorem dX3_posts_33 : decode cX3_posts 33 = .ok (.checkcast 32, 3) := dk_192 0 32 (dk_at dksX3_posts_1 9 rfl rfl)
theorem dX3_posts_36 : decode cX3_posts 36 = .ok (.astore_n 3, 1) := dk_78 (dk_at dksX3_posts_1 12 rfl rfl)
theorem dX3_posts_37 : decode cX3_posts 37 = .ok (.return_, 1) := dk_177 (dk_at dksX3_posts_1 13 rfl rfl)
abbrev cX3_width : ByteArray := prog_10_method_2_code
def yX3_width : MethodName := ⟨RX3, "width", "()I"⟩
theorem dX3_width_0 : decode cX3_width 0 = .ok (.aload_n 0, 1) := by decide +kernel
theorem dX3_width_1 : decode cX3_width 1 = .ok (.getfield 18, 3) := by decide +kernel
theorem dX3_width_4 : decode cX3_width 4 = .ok (.ireturn, 1) := by decide +kernel
abbrev cX3_height : ByteArray := prog_10_method_3_code
def yX3_height : MethodName := ⟨RX3, "height", "()I"⟩
theorem dX3_height_0 : decode cX3_height 0 = .ok (.aload_n 0, 1) := by decide +kernel
theorem dX3_height_1 : decode cX3_height 1 = .ok (.getfield 22, 3) := by decide +kernel
theorem dX3_height_4 : decode cX3_height 4 = .ok (.ireturn, 1) := by decide +kernel
abbrev cX3_postAt : ByteArray := prog_10_method_5_code
def yX3_postAt : MethodName := ⟨RX3, "postAt", "(I)I"⟩
def dkwX3_postAt_1 : List UInt8 := [167, 0, 7, 44, 180, 0, 51, 172]
abbrev dktX3_postAt_1 : List UInt8 := dkwX3_postAt_1 ++ []
def dkwX3_postAt_0 : List UInt8 := [42, 180, 0, 12, 187, 0, 29, 89, 27, 183, 0, 36, 182, 0, 47, 192, 0, 32, 77, 44, 199, 0, 7, 2]
abbrev dktX3_postAt_0 : List UInt8 := dkwX3_postAt_0 ++ dktX3_postAt_1
theorem dksX3_postAt_0 : cX3_postAt.data.toList.drop 0 = dktX3_postAt_0 := by decide +kernel
theorem dksX3_postAt_1 : cX3_postAt.data.toList.drop 24 = dktX3_postAt_1 := dk_seg dksX3_postAt_0 24 rfl rfl
theorem dX3_postAt_0 : decode cX3_postAt 0 = .ok (.aload_n 0, 1) := dk_42 (dk_at dksX3_postAt_0 0 rfl rfl)
theorem dX3_postAt_1 : decode cX3_postAt 1 = .ok (.getfield 12, 3) := dk_180 0 12 (dk_at dksX3_postAt_0 1 rfl rfl)
theorem dX3_postAt_4 : decode cX3_postAt 4 = .ok (.new 29, 3) := dk_187 0 29 (dk_at dksX3_postAt_0 4 rfl rfl)
theorem dX3_postAt_7 : decode cX3_postAt 7 = .ok (.dup, 1) := dk_89 (dk_at dksX3_postAt_0 7 rfl rfl)
theorem dX3_postAt_8 : decode cX3_postAt 8 = .ok (.iload_n 1, 1) := dk_27 (dk_at dksX3_postAt_0 8 rfl rfl)
theorem dX3_postAt_9 : decode cX3_postAt 9 = .ok (.invokespecial 36, 3) := dk_183 0 36 (dk_at dksX3_postAt_0 9 rfl rfl)
theorem dX3_postAt_12 : decode cX3_postAt 12 = .ok (.invokevirtual 47, 3) := dk_182 0 47 (dk_at dksX3_postAt_0 12 rfl rfl)
theorem dX3_postAt_15 : decode cX3_postAt 15 = .ok (.checkcast 32, 3) := dk_192 0 32 (dk_at dksX3_postAt_0 15 rfl rfl)
theorem dX3_postAt_18 : decode cX3_postAt 18 = .ok (.astore_n 2, 1) := dk_77 (dk_at dksX3_postAt_0 18 rfl rfl)
theorem dX3_postAt_19 : decode cX3_postAt 19 = .ok (.aload_n 2, 1) := dk_44 (dk_at dksX3_postAt_0 19 rfl rfl)
theorem dX3_postAt_20 : decode cX3_postAt 20 = .ok (.ifnonnull 7, 3) := dk_199 0 7 (dk_at dksX3_postAt_0 20 rfl rfl)
theorem dX3_postAt_23 : decode cX3_postAt 23 = .ok (.iconst (-1), 1) := dk_2 (dk_at dksX3_postAt_0 23 rfl rfl)
theorem dX3_postAt_24 : decode cX3_postAt 24 = .ok (.goto 7, 3) := dk_167 0 7 (dk_at dksX3_postAt_1 0 rfl rfl)
theorem dX3_postAt_27 : decode cX3_postAt 27 = .ok (.aload_n 2, 1) := dk_44 (dk_at dksX3_postAt_1 3 rfl rfl)
theorem dX3_postAt_28 : decode cX3_postAt 28 = .ok (.getfield 51, 3) := dk_180 0 51 (dk_at dksX3_postAt_1 4 rfl rfl)
theorem dX3_postAt_31 : decode cX3_postAt 31 = .ok (.ireturn, 1) := dk_172 (dk_at dksX3_postAt_1 7 rfl rfl)
abbrev cX4_init : ByteArray := prog_2_method_1_code
def yX4_init : MethodName := ⟨RX4, "<init>", "(IIII)V"⟩
def dkwX4_init_1 : List UInt8 := [181, 0, 19, 177]
abbrev dktX4_init_1 : List UInt8 := dkwX4_init_1 ++ []
def dkwX4_init_0 : List UInt8 := [42, 183, 0, 1, 42, 27, 181, 0, 7, 42, 28, 181, 0, 13, 42, 29, 181, 0, 16, 42, 21, 4]
abbrev dktX4_init_0 : List UInt8 := dkwX4_init_0 ++ dktX4_init_1
theorem dksX4_init_0 : cX4_init.data.toList.drop 0 = dktX4_init_0 := by decide +kernel
theorem dksX4_init_1 : cX4_init.data.toList.drop 22 = dktX4_init_1 := dk_seg dksX4_init_0 22 rfl rfl
theorem dX4_init_0 : decode cX4_init 0 = .ok (.aload_n 0, 1) := dk_42 (dk_at dksX4_init_0 0 rfl rfl)
theorem dX4_init_1 : decode cX4_init 1 = .ok (.invokespecial 1, 3) := dk_183 0 1 (dk_at dksX4_init_0 1 rfl rfl)
theorem dX4_init_4 : decode cX4_init 4 = .ok (.aload_n 0, 1) := dk_42 (dk_at dksX4_init_0 4 rfl rfl)
theorem dX4_init_5 : decode cX4_init 5 = .ok (.iload_n 1, 1) := dk_27 (dk_at dksX4_init_0 5 rfl rfl)
theorem dX4_init_6 : decode cX4_init 6 = .ok (.putfield 7, 3) := dk_181 0 7 (dk_at dksX4_init_0 6 rfl rfl)
theorem dX4_init_9 : decode cX4_init 9 = .ok (.aload_n 0, 1) := dk_42 (dk_at dksX4_init_0 9 rfl rfl)
theorem dX4_init_10 : decode cX4_init 10 = .ok (.iload_n 2, 1) := dk_28 (dk_at dksX4_init_0 10 rfl rfl)
theorem dX4_init_11 : decode cX4_init 11 = .ok (.putfield 13, 3) := dk_181 0 13 (dk_at dksX4_init_0 11 rfl rfl)
theorem dX4_init_14 : decode cX4_init 14 = .ok (.aload_n 0, 1) := dk_42 (dk_at dksX4_init_0 14 rfl rfl)
theorem dX4_init_15 : decode cX4_init 15 = .ok (.iload_n 3, 1) := dk_29 (dk_at dksX4_init_0 15 rfl rfl)
theorem dX4_init_16 : decode cX4_init 16 = .ok (.putfield 16, 3) := dk_181 0 16 (dk_at dksX4_init_0 16 rfl rfl)
theorem dX4_init_19 : decode cX4_init 19 = .ok (.aload_n 0, 1) := dk_42 (dk_at dksX4_init_0 19 rfl rfl)
theorem dX4_init_20 : decode cX4_init 20 = .ok (.iload 4, 2) := dk_21 4 (dk_at dksX4_init_0 20 rfl rfl)
theorem dX4_init_22 : decode cX4_init 22 = .ok (.putfield 19, 3) := dk_181 0 19 (dk_at dksX4_init_1 0 rfl rfl)
theorem dX4_init_25 : decode cX4_init 25 = .ok (.return_, 1) := dk_177 (dk_at dksX4_init_1 3 rfl rfl)
abbrev cX4_twin : ByteArray := prog_2_method_2_code
def yX4_twin : MethodName := ⟨RX4, "twin", "()LMistCouriers$Bank;"⟩
def dkwX4_twin_0 : List UInt8 := [187, 0, 8, 89, 42, 180, 0, 7, 42, 180, 0, 13, 42, 180, 0, 16, 42, 180, 0, 19, 183, 0, 22, 176]
abbrev dktX4_twin_0 : List UInt8 := dkwX4_twin_0 ++ []
theorem dksX4_twin_0 : cX4_twin.data.toList.drop 0 = dktX4_twin_0 := by decide +kernel
theorem dX4_twin_0 : decode cX4_twin 0 = .ok (.new 8, 3) := dk_187 0 8 (dk_at dksX4_twin_0 0 rfl rfl)
theorem dX4_twin_3 : decode cX4_twin 3 = .ok (.dup, 1) := dk_89 (dk_at dksX4_twin_0 3 rfl rfl)
theorem dX4_twin_4 : decode cX4_twin 4 = .ok (.aload_n 0, 1) := dk_42 (dk_at dksX4_twin_0 4 rfl rfl)
theorem dX4_twin_5 : decode cX4_twin 5 = .ok (.getfield 7, 3) := dk_180 0 7 (dk_at dksX4_twin_0 5 rfl rfl)
theorem dX4_twin_8 : decode cX4_twin 8 = .ok (.aload_n 0, 1) := dk_42 (dk_at dksX4_twin_0 8 rfl rfl)
theorem dX4_twin_9 : decode cX4_twin 9 = .ok (.getfield 13, 3) := dk_180 0 13 (dk_at dksX4_twin_0 9 rfl rfl)
theorem dX4_twin_12 : decode cX4_twin 12 = .ok (.aload_n 0, 1) := dk_42 (dk_at dksX4_twin_0 12 rfl rfl)
theorem dX4_twin_13 : decode cX4_twin 13 = .ok (.getfield 16, 3) := dk_180 0 16 (dk_at dksX4_twin_0 13 rfl rfl)
theorem dX4_twin_16 : decode cX4_twin 16 = .ok (.aload_n 0, 1) := dk_42 (dk_at dksX4_twin_0 16 rfl rfl)
theorem dX4_twin_17 : decode cX4_twin 17 = .ok (.getfield 19, 3) := dk_180 0 19 (dk_at dksX4_twin_0 17 rfl rfl)
theorem dX4_twin_20 : decode cX4_twin 20 = .ok (.invokespecial 22, 3) := dk_183 0 22 (dk_at dksX4_twin_0 20 rfl rfl)
theorem dX4_twin_23 : decode cX4_twin 23 = .ok (.areturn, 1) := dk_176 (dk_at dksX4_twin_0 23 rfl rfl)
abbrev cX5_init : ByteArray := prog_13_method_1_code
def yX5_init : MethodName := ⟨RX5, "<init>", "(IIIII)V"⟩
def dkwX5_init_1 : List UInt8 := [181, 0, 19, 42, 21, 5, 181, 0, 22, 177]
abbrev dktX5_init_1 : List UInt8 := dkwX5_init_1 ++ []
def dkwX5_init_0 : List UInt8 := [42, 183, 0, 1, 42, 27, 181, 0, 7, 42, 28, 181, 0, 13, 42, 29, 181, 0, 16, 42, 21, 4]
abbrev dktX5_init_0 : List UInt8 := dkwX5_init_0 ++ dktX5_init_1
theorem dksX5_init_0 : cX5_init.data.toList.drop 0 = dktX5_init_0 := by decide +kernel
theorem dksX5_init_1 : cX5_init.data.toList.drop 22 = dktX5_init_1 := dk_seg dksX5_init_0 22 rfl rfl
theorem dX5_init_0 : decode cX5_init 0 = .ok (.aload_n 0, 1) := dk_42 (dk_at dksX5_init_0 0 rfl rfl)
theorem dX5_init_1 : decode cX5_init 1 = .ok (.invokespecial 1, 3) := dk_183 0 1 (dk_at dksX5_init_0 1 rfl rfl)
theorem dX5_init_4 : decode cX5_init 4 = .ok (.aload_n 0, 1) := dk_42 (dk_at dksX5_init_0 4 rfl rfl)
theorem dX5_init_5 : decode cX5_init 5 = .ok (.iload_n 1, 1) := dk_27 (dk_at dksX5_init_0 5 rfl rfl)
theorem dX5_init_6 : decode cX5_init 6 = .ok (.putfield 7, 3) := dk_181 0 7 (dk_at dksX5_init_0 6 rfl rfl)
theorem dX5_init_9 : decode cX5_init 9 = .ok (.aload_n 0, 1) := dk_42 (dk_at dksX5_init_0 9 rfl rfl)
theorem dX5_init_10 : decode cX5_init 10 = .ok (.iload_n 2, 1) := dk_28 (dk_at dksX5_init_0 10 rfl rfl)
theorem dX5_init_11 : decode cX5_init 11 = .ok (.putfield 13, 3) := dk_181 0 13 (dk_at dksX5_init_0 11 rfl rfl)
theorem dX5_init_14 : decode cX5_init 14 = .ok (.aload_n 0, 1) := dk_42 (dk_at dksX5_init_0 14 rfl rfl)
theorem dX5_init_15 : decode cX5_init 15 = .ok (.iload_n 3, 1) := dk_29 (dk_at dksX5_init_0 15 rfl rfl)
theorem dX5_init_16 : decode cX5_init 16 = .ok (.putfield 16, 3) := dk_181 0 16 (dk_at dksX5_init_0 16 rfl rfl)
theorem dX5_init_19 : decode cX5_init 19 = .ok (.aload_n 0, 1) := dk_42 (dk_at dksX5_init_0 19 rfl rfl)
theorem dX5_init_20 : decode cX5_init 20 = .ok (.iload 4, 2) := dk_21 4 (dk_at dksX5_init_0 20 rfl rfl)
theorem dX5_init_22 : decode cX5_init 22 = .ok (.putfield 19, 3) := dk_181 0 19 (dk_at dksX5_init_1 0 rfl rfl)
theorem dX5_init_25 : decode cX5_init 25 = .ok (.aload_n 0, 1) := dk_42 (dk_at dksX5_init_1 3 rfl rfl)
theorem dX5_init_26 : decode cX5_init 26 = .ok (.iload 5, 2) := dk_21 5 (dk_at dksX5_init_1 4 rfl rfl)
theorem dX5_init_28 : decode cX5_init 28 = .ok (.putfield 22, 3) := dk_181 0 22 (dk_at dksX5_init_1 6 rfl rfl)
theorem dX5_init_31 : decode cX5_init 31 = .ok (.return_, 1) := dk_177 (dk_at dksX5_init_1 9 rfl rfl)
abbrev cX5_twin : ByteArray := prog_13_method_2_code
def yX5_twin : MethodName := ⟨RX5, "twin", "()LMistCouriers$Watcher;"⟩
def dkwX5_twin_1 : List UInt8 := [183, 0, 25, 176]
abbrev dktX5_twin_1 : List UInt8 := dkwX5_twin_1 ++ []
def dkwX5_twin_0 : List UInt8 := [187, 0, 8, 89, 42, 180, 0, 7, 42, 180, 0, 13, 42, 180, 0, 16, 42, 180, 0, 19, 42, 180, 0, 22]
abbrev dktX5_twin_0 : List UInt8 := dkwX5_twin_0 ++ dktX5_twin_1
theorem dksX5_twin_0 : cX5_twin.data.toList.drop 0 = dktX5_twin_0 := by decide +kernel
theorem dksX5_twin_1 : cX5_twin.data.toList.drop 24 = dktX5_twin_1 := dk_seg dksX5_twin_0 24 rfl rfl
theorem dX5_twin_0 : decode cX5_twin 0 = .ok (.new 8, 3) := dk_187 0 8 (dk_at dksX5_twin_0 0 rfl rfl)
theorem dX5_twin_3 : decode cX5_twin 3 = .ok (.dup, 1) := dk_89 (dk_at dksX5_twin_0 3 rfl rfl)
theorem dX5_twin_4 : decode cX5_twin 4 = .ok (.aload_n 0, 1) := dk_42 (dk_at dksX5_twin_0 4 rfl rfl)
theorem dX5_twin_5 : decode cX5_twin 5 = .ok (.getfield 7, 3) := dk_180 0 7 (dk_at dksX5_twin_0 5 rfl rfl)
theorem dX5_twin_8 : decode cX5_twin 8 = .ok (.aload_n 0, 1) := dk_42 (dk_at dksX5_twin_0 8 rfl rfl)
theorem dX5_twin_9 : decode cX5_twin 9 = .ok (.getfield 13, 3) := dk_180 0 13 (dk_at dksX5_twin_0 9 rfl rfl)
theorem dX5_twin_12 : decode cX5_twin 12 = .ok (.aload_n 0, 1) := dk_42 (dk_at dksX5_twin_0 12 rfl rfl)
theorem dX5_twin_13 : decode cX5_twin 13 = .ok (.getfield 16, 3) := dk_180 0 16 (dk_at dksX5_twin_0 13 rfl rfl)
theorem dX5_twin_16 : decode cX5_twin 16 = .ok (.aload_n 0, 1) := dk_42 (dk_at dksX5_twin_0 16 rfl rfl)
theorem dX5_twin_17 : decode cX5_twin 17 = .ok (.getfield 19, 3) := dk_180 0 19 (dk_at dksX5_twin_0 17 rfl rfl)
theorem dX5_twin_20 : decode cX5_twin 20 = .ok (.aload_n 0, 1) := dk_42 (dk_at dksX5_twin_0 20 rfl rfl)
theorem dX5_twin_21 : decode cX5_twin 21 = .ok (.getfield 22, 3) := dk_180 0 22 (dk_at dksX5_twin_0 21 rfl rfl)
theorem dX5_twin_24 : decode cX5_twin 24 = .ok (.invokespecial 25, 3) := dk_183 0 25 (dk_at dksX5_twin_1 0 rfl rfl)
theorem dX5_twin_27 : decode cX5_twin 27 = .ok (.areturn, 1) := dk_176 (dk_at dksX5_twin_1 3 rfl rfl)
abbrev cX6_init : ByteArray := prog_9_method_1_code
def yX6_init : MethodName := ⟨RX6, "<init>", "(I)V"⟩
def dkwX6_init_0 : List UInt8 := [42, 183, 0, 1, 42, 27, 181, 0, 7, 177]
abbrev dktX6_init_0 : List UInt8 := dkwX6_init_0 ++ []
theorem dksX6_init_0 : cX6_init.data.toList.drop 0 = dktX6_init_0 := by decide +kernel
theorem dX6_init_0 : decode cX6_init 0 = .ok (.aload_n 0, 1) := dk_42 (dk_at dksX6_init_0 0 rfl rfl)
theorem dX6_init_1 : decode cX6_init 1 = .ok (.invokespecial 1, 3) := dk_183 0 1 (dk_at dksX6_init_0 1 rfl rfl)
theorem dX6_init_4 : decode cX6_init 4 = .ok (.aload_n 0, 1) := dk_42 (dk_at dksX6_init_0 4 rfl rfl)
theorem dX6_init_5 : decode cX6_init 5 = .ok (.iload_n 1, 1) := dk_27 (dk_at dksX6_init_0 5 rfl rfl)
theorem dX6_init_6 : decode cX6_init 6 = .ok (.putfield 7, 3) := dk_181 0 7 (dk_at dksX6_init_0 6 rfl rfl)
theorem dX6_init_9 : decode cX6_init 9 = .ok (.return_, 1) := dk_177 (dk_at dksX6_init_0 9 rfl rfl)
abbrev cX6_hashCode : ByteArray := prog_9_method_3_code
def yX6_hashCode : MethodName := ⟨RX6, "hashCode", "()I"⟩
theorem dX6_hashCode_0 : decode cX6_hashCode 0 = .ok (.aload_n 0, 1) := by decide +kernel
theorem dX6_hashCode_1 : decode cX6_hashCode 1 = .ok (.getfield 7, 3) := by decide +kernel
theorem dX6_hashCode_4 : decode cX6_hashCode 4 = .ok (.ireturn, 1) := by decide +kernel
abbrev cX6_equals : ByteArray := prog_9_method_2_code
def yX6_equals : MethodName := ⟨RX6, "equals", "(Ljava/lang/Object;)Z"⟩
def dkwX6_equals_1 : List UInt8 := [167, 0, 4, 3, 172]
abbrev dktX6_equals_1 : List UInt8 := dkwX6_equals_1 ++ []
def dkwX6_equals_0 : List UInt8 := [43, 193, 0, 8, 153, 0, 23, 43, 192, 0, 8, 77, 44, 180, 0, 7, 42, 180, 0, 7, 160, 0, 7, 4]
abbrev dktX6_equals_0 : List UInt8 := dkwX6_equals_0 ++ dktX6_equals_1
theorem dksX6_equals_0 : cX6_equals.data.toList.drop 0 = dktX6_equals_0 := by decide +kernel
theorem dksX6_equals_1 : cX6_equals.data.toList.drop 24 = dktX6_equals_1 := dk_seg dksX6_equals_0 24 rfl rfl
theorem dX6_equals_0 : decode cX6_equals 0 = .ok (.aload_n 1, 1) := dk_43 (dk_at dksX6_equals_0 0 rfl rfl)
theorem dX6_equals_1 : decode cX6_equals 1 = .ok (.instanceof 8, 3) := dk_193 0 8 (dk_at dksX6_equals_0 1 rfl rfl)
theorem dX6_equals_4 : decode cX6_equals 4 = .ok (.ifCond .eq 23, 3) := dk_153 0 23 (dk_at dksX6_equals_0 4 rfl rfl)
theorem dX6_equals_7 : decode cX6_equals 7 = .ok (.aload_n 1, 1) := dk_43 (dk_at dksX6_equals_0 7 rfl rfl)
theorem dX6_equals_8 : decode cX6_equals 8 = .ok (.checkcast 8, 3) := dk_192 0 8 (dk_at dksX6_equals_0 8 rfl rfl)
theorem dX6_equals_11 : decode cX6_equals 11 = .ok (.astore_n 2, 1) := dk_77 (dk_at dksX6_equals_0 11 rfl rfl)
theorem dX6_equals_12 : decode cX6_equals 12 = .ok (.aload_n 2, 1) := dk_44 (dk_at dksX6_equals_0 12 rfl rfl)
theorem dX6_equals_13 : decode cX6_equals 13 = .ok (.getfield 7, 3) := dk_180 0 7 (dk_at dksX6_equals_0 13 rfl rfl)
theorem dX6_equals_16 : decode cX6_equals 16 = .ok (.aload_n 0, 1) := dk_42 (dk_at dksX6_equals_0 16 rfl rfl)
theorem dX6_equals_17 : decode cX6_equals 17 = .ok (.getfield 7, 3) := dk_180 0 7 (dk_at dksX6_equals_0 17 rfl rfl)
theorem dX6_equals_20 : decode cX6_equals 20 = .ok (.if_icmp .ne 7, 3) := dk_160 0 7 (dk_at dksX6_equals_0 20 rfl rfl)
theorem dX6_equals_23 : decode cX6_equals 23 = .ok (.iconst 1, 1) := dk_4 (dk_at dksX6_equals_0 23 rfl rfl)
theorem dX6_equals_24 : decode cX6_equals 24 = .ok (.goto 4, 3) := dk_167 0 4 (dk_at dksX6_equals_1 0 rfl rfl)
theorem dX6_equals_27 : decode cX6_equals 27 = .ok (.iconst 0, 1) := dk_3 (dk_at dksX6_equals_1 3 rfl rfl)
theorem dX6_equals_28 : decode cX6_equals 28 = .ok (.ireturn, 1) := dk_172 (dk_at dksX6_equals_1 4 rfl rfl)
abbrev cX7_init : ByteArray := prog_4_method_1_code
def yX7_init : MethodName := ⟨RX7, "<init>", "(I)V"⟩
def dkwX7_init_0 : List UInt8 := [42, 27, 27, 183, 0, 1, 177]
abbrev dktX7_init_0 : List UInt8 := dkwX7_init_0 ++ []
theorem dksX7_init_0 : cX7_init.data.toList.drop 0 = dktX7_init_0 := by decide +kernel
theorem dX7_init_0 : decode cX7_init 0 = .ok (.aload_n 0, 1) := dk_42 (dk_at dksX7_init_0 0 rfl rfl)
theorem dX7_init_1 : decode cX7_init 1 = .ok (.iload_n 1, 1) := dk_27 (dk_at dksX7_init_0 1 rfl rfl)
theorem dX7_init_2 : decode cX7_init 2 = .ok (.iload_n 1, 1) := dk_27 (dk_at dksX7_init_0 2 rfl rfl)
theorem dX7_init_3 : decode cX7_init 3 = .ok (.invokespecial 1, 3) := dk_183 0 1 (dk_at dksX7_init_0 3 rfl rfl)
theorem dX7_init_6 : decode cX7_init 6 = .ok (.return_, 1) := dk_177 (dk_at dksX7_init_0 6 rfl rfl)
abbrev cX7_init_2 : ByteArray := prog_4_method_2_code
def yX7_init_2 : MethodName := ⟨RX7, "<init>", "(II)V"⟩
def dkwX7_init_2_0 : List UInt8 := [42, 183, 0, 7, 42, 27, 181, 0, 12, 42, 28, 181, 0, 16, 177]
abbrev dktX7_init_2_0 : List UInt8 := dkwX7_init_2_0 ++ []
theorem dksX7_init_2_0 : cX7_init_2.data.toList.drop 0 = dktX7_init_2_0 := by decide +kernel
theorem dX7_init_2_0 : decode cX7_init_2 0 = .ok (.aload_n 0, 1) := dk_42 (dk_at dksX7_init_2_0 0 rfl rfl)
theorem dX7_init_2_1 : decode cX7_init_2 1 = .ok (.invokespecial 7, 3) := dk_183 0 7 (dk_at dksX7_init_2_0 1 rfl rfl)
theorem dX7_init_2_4 : decode cX7_init_2 4 = .ok (.aload_n 0, 1) := dk_42 (dk_at dksX7_init_2_0 4 rfl rfl)
theorem dX7_init_2_5 : decode cX7_init_2 5 = .ok (.iload_n 1, 1) := dk_27 (dk_at dksX7_init_2_0 5 rfl rfl)
theorem dX7_init_2_6 : decode cX7_init_2 6 = .ok (.putfield 12, 3) := dk_181 0 12 (dk_at dksX7_init_2_0 6 rfl rfl)
theorem dX7_init_2_9 : decode cX7_init_2 9 = .ok (.aload_n 0, 1) := dk_42 (dk_at dksX7_init_2_0 9 rfl rfl)
theorem dX7_init_2_10 : decode cX7_init_2 10 = .ok (.iload_n 2, 1) := dk_28 (dk_at dksX7_init_2_0 10 rfl rfl)
theorem dX7_init_2_11 : decode cX7_init_2 11 = .ok (.putfield 16, 3) := dk_181 0 16 (dk_at dksX7_init_2_0 11 rfl rfl)
theorem dX7_init_2_14 : decode cX7_init_2 14 = .ok (.return_, 1) := dk_177 (dk_at dksX7_init_2_0 14 rfl rfl)
abbrev cX7_twin : ByteArray := prog_4_method_3_code
def yX7_twin : MethodName := ⟨RX7, "twin", "()LMistCouriers$Courier;"⟩
def dkwX7_twin_2 : List UInt8 := [43, 176]
abbrev dktX7_twin_2 : List UInt8 := dkwX7_twin_2 ++ []
def dkwX7_twin_1 : List UInt8 := [43, 42, 180, 0, 22, 181, 0, 22, 43, 42, 180, 0, 25, 181, 0, 25, 43, 42, 180, 0, 28, 181, 0, 28]
abbrev dktX7_twin_1 : List UInt8 := dkwX7_twin_1 ++ dktX7_twin_2
def dkwX7_twin_0 : List UInt8 := [187, 0, 2, 89, 42, 180, 0, 12, 42, 180, 0, 16, 183, 0, 1, 76, 43, 42, 180, 0, 19, 181, 0, 19]
abbrev dktX7_twin_0 : List UInt8 := dkwX7_twin_0 ++ dktX7_twin_1
theorem dksX7_twin_0 : cX7_twin.data.toList.drop 0 = dktX7_twin_0 := by decide +kernel
theorem dksX7_twin_1 : cX7_twin.data.toList.drop 24 = dktX7_twin_1 := dk_seg dksX7_twin_0 24 rfl rfl
theorem dksX7_twin_2 : cX7_twin.data.toList.drop 48 = dktX7_twin_2 := dk_seg dksX7_twin_1 24 rfl rfl
theorem dX7_twin_0 : decode cX7_twin 0 = .ok (.new 2, 3) := dk_187 0 2 (dk_at dksX7_twin_0 0 rfl rfl)
theorem dX7_twin_3 : decode cX7_twin 3 = .ok (.dup, 1) := dk_89 (dk_at dksX7_twin_0 3 rfl rfl)
theorem dX7_twin_4 : decode cX7_twin 4 = .ok (.aload_n 0, 1) := dk_42 (dk_at dksX7_twin_0 4 rfl rfl)
theorem dX7_twin_5 : decode cX7_twin 5 = .ok (.getfield 12, 3) := dk_180 0 12 (dk_at dksX7_twin_0 5 rfl rfl)
theorem dX7_twin_8 : decode cX7_twin 8 = .ok (.aload_n 0, 1) := dk_42 (dk_at dksX7_twin_0 8 rfl rfl)
theorem dX7_twin_9 : decode cX7_twin 9 = .ok (.getfield 16, 3) := dk_180 0 16 (dk_at dksX7_twin_0 9 rfl rfl)
theorem dX7_twin_12 : decode cX7_twin 12 = .ok (.invokespecial 1, 3) := dk_183 0 1 (dk_at dksX7_twin_0 12 rfl rfl)
theorem dX7_twin_15 : decode cX7_twin 15 = .ok (.astore_n 1, 1) := dk_76 (dk_at dksX7_twin_0 15 rfl rfl)
theorem dX7_twin_16 : decode cX7_twin 16 = .ok (.aload_n 1, 1) := dk_43 (dk_at dksX7_twin_0 16 rfl rfl)
theorem dX7_twin_17 : decode cX7_twin 17 = .ok (.aload_n 0, 1) := dk_42 (dk_at dksX7_twin_0 17 rfl rfl)
theorem dX7_twin_18 : decode cX7_twin 18 = .ok (.getfield 19, 3) := dk_180 0 19 (dk_at dksX7_twin_0 18 rfl rfl)
theorem dX7_twin_21 : decode cX7_twin 21 = .ok (.putfield 19, 3) := dk_181 0 19 (dk_at dksX7_twin_0 21 rfl rfl)
theorem dX7_twin_24 : decode cX7_twin 24 = .ok (.aload_n 1, 1) := dk_43 (dk_at dksX7_twin_1 0 rfl rfl)
theorem dX7_twin_25 : decode cX7_twin 25 = .ok (.aload_n 0, 1) := dk_42 (dk_at dksX7_twin_1 1 rfl rfl)
theorem dX7_twin_26 : decode cX7_twin 26 = .ok (.getfield 22, 3) := dk_180 0 22 (dk_at dksX7_twin_1 2 rfl rfl)
theorem dX7_twin_29 : decode cX7_twin 29 = .ok (.putfield 22, 3) := dk_181 0 22 (dk_at dksX7_twin_1 5 rfl rfl)
theorem dX7_twin_32 : decode cX7_twin 32 = .ok (.aload_n 1, 1) := dk_43 (dk_at dksX7_twin_1 8 rfl rfl)
theorem dX7_twin_33 : decode cX7_twin 33 = .ok (.aload_n 0, 1) := dk_42 (dk_at dksX7_twin_1 9 rfl rfl)
theorem dX7_twin_34 : decode cX7_twin 34 = .ok (.getfield 25, 3) := dk_180 0 25 (dk_at dksX7_twin_1 10 rfl rfl)
theorem dX7_twin_37 : decode cX7_twin 37 = .ok (.putfield 25, 3) := dk_181 0 25 (dk_at dksX7_twin_1 13 rfl rfl)
theorem dX7_twin_40 : decode cX7_twin 40 = .ok (.aload_n 1, 1) := dk_43 (dk_at dksX7_twin_1 16 rfl rfl)
theorem dX7_twin_41 : decode cX7_twin 41 = .ok (.aload_n 0, 1) := dk_42 (dk_at dksX7_twin_1 17 rfl rfl)
theorem dX7_twin_42 : decode cX7_twin 42 = .ok (.getfield 28, 3) := dk_180 0 28 (dk_at dksX7_twin_1 18 rfl rfl)
theorem dX7_twin_45 : decode cX7_twin 45 = .ok (.putfield 28, 3) := dk_181 0 28 (dk_at dksX7_twin_1 21 rfl rfl)
theorem dX7_twin_48 : decode cX7_twin 48 = .ok (.aload_n 1, 1) := dk_43 (dk_at dksX7_twin_2 0 rfl rfl)
theorem dX7_twin_49 : decode cX7_twin 49 = .ok (.areturn, 1) := dk_176 (dk_at dksX7_twin_2 1 rfl rfl)
abbrev cX8_init : ByteArray := prog_7_method_1_code
def yX8_init : MethodName := ⟨RX8, "<init>", "(II)V"⟩
def dkwX8_init_1 : List UInt8 := [42, 27, 181, 0, 24, 177]
abbrev dktX8_init_1 : List UInt8 := dkwX8_init_1 ++ []
def dkwX8_init_0 : List UInt8 := [42, 183, 0, 3, 42, 3, 181, 0, 9, 42, 2, 181, 0, 15, 42, 27, 181, 0, 18, 42, 28, 181, 0, 21]
abbrev dktX8_init_0 : List UInt8 := dkwX8_init_0 ++ dktX8_init_1
theorem dksX8_init_0 : cX8_init.data.toList.drop 0 = dktX8_init_0 := by decide +kernel
theorem dksX8_init_1 : cX8_init.data.toList.drop 24 = dktX8_init_1 := dk_seg dksX8_init_0 24 rfl rfl
theorem dX8_init_0 : decode cX8_init 0 = .ok (.aload_n 0, 1) := dk_42 (dk_at dksX8_init_0 0 rfl rfl)
theorem dX8_init_1 : decode cX8_init 1 = .ok (.invokespecial 3, 3) := dk_183 0 3 (dk_at dksX8_init_0 1 rfl rfl)
theorem dX8_init_4 : decode cX8_init 4 = .ok (.aload_n 0, 1) := dk_42 (dk_at dksX8_init_0 4 rfl rfl)
theorem dX8_init_5 : decode cX8_init 5 = .ok (.iconst 0, 1) := dk_3 (dk_at dksX8_init_0 5 rfl rfl)
theorem dX8_init_6 : decode cX8_init 6 = .ok (.putfield 9, 3) := dk_181 0 9 (dk_at dksX8_init_0 6 rfl rfl)
theorem dX8_init_9 : decode cX8_init 9 = .ok (.aload_n 0, 1) := dk_42 (dk_at dksX8_init_0 9 rfl rfl)
theorem dX8_init_10 : decode cX8_init 10 = .ok (.iconst (-1), 1) := dk_2 (dk_at dksX8_init_0 10 rfl rfl)
theorem dX8_init_11 : decode cX8_init 11 = .ok (.putfield 15, 3) := dk_181 0 15 (dk_at dksX8_init_0 11 rfl rfl)
theorem dX8_init_14 : decode cX8_init 14 = .ok (.aload_n 0, 1) := dk_42 (dk_at dksX8_init_0 14 rfl rfl)
theorem dX8_init_15 : decode cX8_init 15 = .ok (.iload_n 1, 1) := dk_27 (dk_at dksX8_init_0 15 rfl rfl)
theorem dX8_init_16 : decode cX8_init 16 = .ok (.putfield 18, 3) := dk_181 0 18 (dk_at dksX8_init_0 16 rfl rfl)
theorem dX8_init_19 : decode cX8_init 19 = .ok (.aload_n 0, 1) := dk_42 (dk_at dksX8_init_0 19 rfl rfl)
theorem dX8_init_20 : decode cX8_init 20 = .ok (.iload_n 2, 1) := dk_28 (dk_at dksX8_init_0 20 rfl rfl)
theorem dX8_init_21 : decode cX8_init 21 = .ok (.putfield 21, 3) := dk_181 0 21 (dk_at dksX8_init_0 21 rfl rfl)
theorem dX8_init_24 : decode cX8_init 24 = .ok (.aload_n 0, 1) := dk_42 (dk_at dksX8_init_1 0 rfl rfl)
theorem dX8_init_25 : decode cX8_init 25 = .ok (.iload_n 1, 1) := dk_27 (dk_at dksX8_init_1 1 rfl rfl)
theorem dX8_init_26 : decode cX8_init 26 = .ok (.putfield 24, 3) := dk_181 0 24 (dk_at dksX8_init_1 2 rfl rfl)
theorem dX8_init_29 : decode cX8_init 29 = .ok (.return_, 1) := dk_177 (dk_at dksX8_init_1 5 rfl rfl)
abbrev cX8_liesOn : ByteArray := prog_7_method_3_code
def yX8_liesOn : MethodName := ⟨RX8, "liesOn", "(I)Z"⟩
def dkwX8_liesOn_0 : List UInt8 := [42, 180, 0, 9, 154, 0, 15, 42, 180, 0, 24, 27, 160, 0, 7, 4, 167, 0, 4, 3, 172]
abbrev dktX8_liesOn_0 : List UInt8 := dkwX8_liesOn_0 ++ []
theorem dksX8_liesOn_0 : cX8_liesOn.data.toList.drop 0 = dktX8_liesOn_0 := by decide +kernel
theorem dX8_liesOn_0 : decode cX8_liesOn 0 = .ok (.aload_n 0, 1) := dk_42 (dk_at dksX8_liesOn_0 0 rfl rfl)
theorem dX8_liesOn_1 : decode cX8_liesOn 1 = .ok (.getfield 9, 3) := dk_180 0 9 (dk_at dksX8_liesOn_0 1 rfl rfl)
theorem dX8_liesOn_4 : decode cX8_liesOn 4 = .ok (.ifCond .ne 15, 3) := dk_154 0 15 (dk_at dksX8_liesOn_0 4 rfl rfl)
theorem dX8_liesOn_7 : decode cX8_liesOn 7 = .ok (.aload_n 0, 1) := dk_42 (dk_at dksX8_liesOn_0 7 rfl rfl)
theorem dX8_liesOn_8 : decode cX8_liesOn 8 = .ok (.getfield 24, 3) := dk_180 0 24 (dk_at dksX8_liesOn_0 8 rfl rfl)
theorem dX8_liesOn_11 : decode cX8_liesOn 11 = .ok (.iload_n 1, 1) := dk_27 (dk_at dksX8_liesOn_0 11 rfl rfl)
theorem dX8_liesOn_12 : decode cX8_liesOn 12 = .ok (.if_icmp .ne 7, 3) := dk_160 0 7 (dk_at dksX8_liesOn_0 12 rfl rfl)
theorem dX8_liesOn_15 : decode cX8_liesOn 15 = .ok (.iconst 1, 1) := dk_4 (dk_at dksX8_liesOn_0 15 rfl rfl)
theorem dX8_liesOn_16 : decode cX8_liesOn 16 = .ok (.goto 4, 3) := dk_167 0 4 (dk_at dksX8_liesOn_0 16 rfl rfl)
theorem dX8_liesOn_19 : decode cX8_liesOn 19 = .ok (.iconst 0, 1) := dk_3 (dk_at dksX8_liesOn_0 19 rfl rfl)
theorem dX8_liesOn_20 : decode cX8_liesOn 20 = .ok (.ireturn, 1) := dk_172 (dk_at dksX8_liesOn_0 20 rfl rfl)
abbrev cX8_isWith : ByteArray := prog_7_method_4_code
def yX8_isWith : MethodName := ⟨RX8, "isWith", "(I)Z"⟩
def dkwX8_isWith_0 : List UInt8 := [42, 180, 0, 9, 4, 160, 0, 15, 42, 180, 0, 15, 27, 160, 0, 7, 4, 167, 0, 4, 3, 172]
abbrev dktX8_isWith_0 : List UInt8 := dkwX8_isWith_0 ++ []
theorem dksX8_isWith_0 : cX8_isWith.data.toList.drop 0 = dktX8_isWith_0 := by decide +kernel
theorem dX8_isWith_0 : decode cX8_isWith 0 = .ok (.aload_n 0, 1) := dk_42 (dk_at dksX8_isWith_0 0 rfl rfl)
theorem dX8_isWith_1 : decode cX8_isWith 1 = .ok (.getfield 9, 3) := dk_180 0 9 (dk_at dksX8_isWith_0 1 rfl rfl)
theorem dX8_isWith_4 : decode cX8_isWith 4 = .ok (.iconst 1, 1) := dk_4 (dk_at dksX8_isWith_0 4 rfl rfl)
theorem dX8_isWith_5 : decode cX8_isWith 5 = .ok (.if_icmp .ne 15, 3) := dk_160 0 15 (dk_at dksX8_isWith_0 5 rfl rfl)
theorem dX8_isWith_8 : decode cX8_isWith 8 = .ok (.aload_n 0, 1) := dk_42 (dk_at dksX8_isWith_0 8 rfl rfl)
theorem dX8_isWith_9 : decode cX8_isWith 9 = .ok (.getfield 15, 3) := dk_180 0 15 (dk_at dksX8_isWith_0 9 rfl rfl)
theorem dX8_isWith_12 : decode cX8_isWith 12 = .ok (.iload_n 1, 1) := dk_27 (dk_at dksX8_isWith_0 12 rfl rfl)
theorem dX8_isWith_13 : decode cX8_isWith 13 = .ok (.if_icmp .ne 7, 3) := dk_160 0 7 (dk_at dksX8_isWith_0 13 rfl rfl)
theorem dX8_isWith_16 : decode cX8_isWith 16 = .ok (.iconst 1, 1) := dk_4 (dk_at dksX8_isWith_0 16 rfl rfl)
theorem dX8_isWith_17 : decode cX8_isWith 17 = .ok (.goto 4, 3) := dk_167 0 4 (dk_at dksX8_isWith_0 17 rfl rfl)
theorem dX8_isWith_20 : decode cX8_isWith 20 = .ok (.iconst 0, 1) := dk_3 (dk_at dksX8_isWith_0 20 rfl rfl)
theorem dX8_isWith_21 : decode cX8_isWith 21 = .ok (.ireturn, 1) := dk_172 (dk_at dksX8_isWith_0 21 rfl rfl)
abbrev cX8_twin : ByteArray := prog_7_method_2_code
def yX8_twin : MethodName := ⟨RX8, "twin", "()LMistCouriers$Letter;"⟩
def dkwX8_twin_2 : List UInt8 := [43, 176]
abbrev dktX8_twin_2 : List UInt8 := dkwX8_twin_2 ++ []
def dkwX8_twin_1 : List UInt8 := [43, 42, 180, 0, 24, 181, 0, 24, 43, 42, 180, 0, 15, 181, 0, 15, 43, 42, 180, 0, 30, 181, 0, 30]
abbrev dktX8_twin_1 : List UInt8 := dkwX8_twin_1 ++ dktX8_twin_2
def dkwX8_twin_0 : List UInt8 := [187, 0, 10, 89, 42, 180, 0, 18, 42, 180, 0, 21, 183, 0, 27, 76, 43, 42, 180, 0, 9, 181, 0, 9]
abbrev dktX8_twin_0 : List UInt8 := dkwX8_twin_0 ++ dktX8_twin_1
theorem dksX8_twin_0 : cX8_twin.data.toList.drop 0 = dktX8_twin_0 := by decide +kernel
theorem dksX8_twin_1 : cX8_twin.data.toList.drop 24 = dktX8_twin_1 := dk_seg dksX8_twin_0 24 rfl rfl
theorem dksX8_twin_2 : cX8_twin.data.toList.drop 48 = dktX8_twin_2 := dk_seg dksX8_twin_1 24 rfl rfl
theorem dX8_twin_0 : decode cX8_twin 0 = .ok (.new 10, 3) := dk_187 0 10 (dk_at dksX8_twin_0 0 rfl rfl)
theorem dX8_twin_3 : decode cX8_twin 3 = .ok (.dup, 1) := dk_89 (dk_at dksX8_twin_0 3 rfl rfl)
theorem dX8_twin_4 : decode cX8_twin 4 = .ok (.aload_n 0, 1) := dk_42 (dk_at dksX8_twin_0 4 rfl rfl)
theorem dX8_twin_5 : decode cX8_twin 5 = .ok (.getfield 18, 3) := dk_180 0 18 (dk_at dksX8_twin_0 5 rfl rfl)
theorem dX8_twin_8 : decode cX8_twin 8 = .ok (.aload_n 0, 1) := dk_42 (dk_at dksX8_twin_0 8 rfl rfl)
theorem dX8_twin_9 : decode cX8_twin 9 = .ok (.getfield 21, 3) := dk_180 0 21 (dk_at dksX8_twin_0 9 rfl rfl)
theorem dX8_twin_12 : decode cX8_twin 12 = .ok (.invokespecial 27, 3) := dk_183 0 27 (dk_at dksX8_twin_0 12 rfl rfl)
theorem dX8_twin_15 : decode cX8_twin 15 = .ok (.astore_n 1, 1) := dk_76 (dk_at dksX8_twin_0 15 rfl rfl)
theorem dX8_twin_16 : decode cX8_twin 16 = .ok (.aload_n 1, 1) := dk_43 (dk_at dksX8_twin_0 16 rfl rfl)
theorem dX8_twin_17 : decode cX8_twin 17 = .ok (.aload_n 0, 1) := dk_42 (dk_at dksX8_twin_0 17 rfl rfl)
theorem dX8_twin_18 : decode cX8_twin 18 = .ok (.getfield 9, 3) := dk_180 0 9 (dk_at dksX8_twin_0 18 rfl rfl)
theorem dX8_twin_21 : decode cX8_twin 21 = .ok (.putfield 9, 3) := dk_181 0 9 (dk_at dksX8_twin_0 21 rfl rfl)
theorem dX8_twin_24 : decode cX8_twin 24 = .ok (.aload_n 1, 1) := dk_43 (dk_at dksX8_twin_1 0 rfl rfl)
theorem dX8_twin_25 : decode cX8_twin 25 = .ok (.aload_n 0, 1) := dk_42 (dk_at dksX8_twin_1 1 rfl rfl)
theorem dX8_twin_26 : decode cX8_twin 26 = .ok (.getfield 24, 3) := dk_180 0 24 (dk_at dksX8_twin_1 2 rfl rfl)
theorem dX8_twin_29 : decode cX8_twin 29 = .ok (.putfield 24, 3) := dk_181 0 24 (dk_at dksX8_twin_1 5 rfl rfl)
theorem dX8_twin_32 : decode cX8_twin 32 = .ok (.aload_n 1, 1) := dk_43 (dk_at dksX8_twin_1 8 rfl rfl)
theorem dX8_twin_33 : decode cX8_twin 33 = .ok (.aload_n 0, 1) := dk_42 (dk_at dksX8_twin_1 9 rfl rfl)
theorem dX8_twin_34 : decode cX8_twin 34 = .ok (.getfield 15, 3) := dk_180 0 15 (dk_at dksX8_twin_1 10 rfl rfl)
theorem dX8_twin_37 : decode cX8_twin 37 = .ok (.putfield 15, 3) := dk_181 0 15 (dk_at dksX8_twin_1 13 rfl rfl)
theorem dX8_twin_40 : decode cX8_twin 40 = .ok (.aload_n 1, 1) := dk_43 (dk_at dksX8_twin_1 16 rfl rfl)
theorem dX8_twin_41 : decode cX8_twin 41 = .ok (.aload_n 0, 1) := dk_42 (dk_at dksX8_twin_1 17 rfl rfl)
theorem dX8_twin_42 : decode cX8_twin 42 = .ok (.getfield 30, 3) := dk_180 0 30 (dk_at dksX8_twin_1 18 rfl rfl)
theorem dX8_twin_45 : decode cX8_twin 45 = .ok (.putfield 30, 3) := dk_181 0 30 (dk_at dksX8_twin_1 21 rfl rfl)
theorem dX8_twin_48 : decode cX8_twin 48 = .ok (.aload_n 1, 1) := dk_43 (dk_at dksX8_twin_2 0 rfl rfl)
theorem dX8_twin_49 : decode cX8_twin 49 = .ok (.areturn, 1) := dk_176 (dk_at dksX8_twin_2 1 rfl rfl)
abbrev cX8_comesTo : ByteArray := prog_7_method_5_code
def yX8_comesTo : MethodName := ⟨RX8, "comesTo", "(I)V"⟩
def dkwX8_comesTo_0 : List UInt8 := [42, 4, 181, 0, 9, 42, 27, 181, 0, 15, 177]
abbrev dktX8_comesTo_0 : List UInt8 := dkwX8_comesTo_0 ++ []
theorem dksX8_comesTo_0 : cX8_comesTo.data.toList.drop 0 = dktX8_comesTo_0 := by decide +kernel
theorem dX8_comesTo_0 : decode cX8_comesTo 0 = .ok (.aload_n 0, 1) := dk_42 (dk_at dksX8_comesTo_0 0 rfl rfl)
theorem dX8_comesTo_1 : decode cX8_comesTo 1 = .ok (.iconst 1, 1) := dk_4 (dk_at dksX8_comesTo_0 1 rfl rfl)
theorem dX8_comesTo_2 : decode cX8_comesTo 2 = .ok (.putfield 9, 3) := dk_181 0 9 (dk_at dksX8_comesTo_0 2 rfl rfl)
theorem dX8_comesTo_5 : decode cX8_comesTo 5 = .ok (.aload_n 0, 1) := dk_42 (dk_at dksX8_comesTo_0 5 rfl rfl)
theorem dX8_comesTo_6 : decode cX8_comesTo 6 = .ok (.iload_n 1, 1) := dk_27 (dk_at dksX8_comesTo_0 6 rfl rfl)
theorem dX8_comesTo_7 : decode cX8_comesTo 7 = .ok (.putfield 15, 3) := dk_181 0 15 (dk_at dksX8_comesTo_0 7 rfl rfl)
theorem dX8_comesTo_10 : decode cX8_comesTo 10 = .ok (.return_, 1) := dk_177 (dk_at dksX8_comesTo_0 10 rfl rfl)
