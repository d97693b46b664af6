/-! MC tables 6: entries and labels (printed by gen/genrow.py) -/
set_option maxRecDepth 100000
theorem mcode_row {i t : Nat} {w : mRow} {b : List mI} (h : gRow i = w) (hb : mlk w.1 t = b) : mcode gP i t = b := by
  show mlk (gRow i).1 t = b
  rw [h]; exact hb
theorem lab_row {E : mE} {i t : Nat} {b : List mI} (hc : mcode gP i t = b) (ls : mL) (st : List Value) (h : mH) : mV E gP (i, t, ls, st, h) = mX E gP (mV E gP) i b ls st h := by
  rw [mV_eq, hc]
theorem ent_row {E : mE} {i m : Nat} {b : List mI} (hc : mcode gP i 0 = b) (hm : mmax gP i = m) (as : List Value) (h : mH) : mRun E gP i as h = mX E gP (mV E gP) i b (as.map some ++ List.replicate (m - as.length) none) [] h := by
  unfold mRun mEnt
  rw [mV_eq, hc, hm]
theorem lb0_0 {E : mE} (ls : mL) (st : List Value) (h : mH) : mV E gP (0, 0, ls, st, h) = mX E gP (mV E gP) 0 b0_0 ls st h := lab_row (mcode_row grw0 rfl) ls st h
theorem lb0_19 {E : mE} (ls : mL) (st : List Value) (h : mH) : mV E gP (0, 19, ls, st, h) = mX E gP (mV E gP) 0 b0_19 ls st h := lab_row (mcode_row grw0 rfl) ls st h
theorem lb0_33 {E : mE} (ls : mL) (st : List Value) (h : mH) : mV E gP (0, 33, ls, st, h) = mX E gP (mV E gP) 0 b0_33 ls st h := lab_row (mcode_row grw0 rfl) ls st h
theorem lb0_60 {E : mE} (ls : mL) (st : List Value) (h : mH) : mV E gP (0, 60, ls, st, h) = mX E gP (mV E gP) 0 b0_60 ls st h := lab_row (mcode_row grw0 rfl) ls st h
theorem en0 {E : mE} (v0 v1 : Value) (h : mH) : mRun E gP 0 [v0, v1] h = mX E gP (mV E gP) 0 b0_0 [some v0, some v1] [] h := ent_row (mcode_row grw0 rfl) gm0 _ h
theorem lb1_0 {E : mE} (ls : mL) (st : List Value) (h : mH) : mV E gP (1, 0, ls, st, h) = mX E gP (mV E gP) 1 b1_0 ls st h := lab_row (mcode_row grw1 rfl) ls st h
theorem en1 {E : mE} (v0 v1 : Value) (h : mH) : mRun E gP 1 [v0, v1] h = mX E gP (mV E gP) 1 b1_0 [some v0, some v1] [] h := ent_row (mcode_row grw1 rfl) gm1 _ h
theorem lb2_0 {E : mE} (ls : mL) (st : List Value) (h : mH) : mV E gP (2, 0, ls, st, h) = mX E gP (mV E gP) 2 b2_0 ls st h := lab_row (mcode_row grw2 rfl) ls st h
theorem en2 {E : mE} (v0 v1 : Value) (h : mH) : mRun E gP 2 [v0, v1] h = mX E gP (mV E gP) 2 b2_0 [some v0, some v1] [] h := ent_row (mcode_row grw2 rfl) gm2 _ h
theorem lb3_0 {E : mE} (ls : mL) (st : List Value) (h : mH) : mV E gP (3, 0, ls, st, h) = mX E gP (mV E gP) 3 b3_0 ls st h := lab_row (mcode_row grw3 rfl) ls st h
theorem en3 {E : mE} (v0 : Value) (h : mH) : mRun E gP 3 [v0] h = mX E gP (mV E gP) 3 b3_0 [some v0] [] h := ent_row (mcode_row grw3 rfl) gm3 _ h
theorem lb4_0 {E : mE} (ls : mL) (st : List Value) (h : mH) : mV E gP (4, 0, ls, st, h) = mX E gP (mV E gP) 4 b4_0 ls st h := lab_row (mcode_row grw4 rfl) ls st h
theorem lb4_11 {E : mE} (ls : mL) (st : List Value) (h : mH) : mV E gP (4, 11, ls, st, h) = mX E gP (mV E gP) 4 b4_11 ls st h := lab_row (mcode_row grw4 rfl) ls st h
theorem lb4_12 {E : mE} (ls : mL) (st : List Value) (h : mH) : mV E gP (4, 12, ls, st, h) = mX E gP (mV E gP) 4 b4_12 ls st h := lab_row (mcode_row grw4 rfl) ls st h
theorem en4 {E : mE} (v0 : Value) (h : mH) : mRun E gP 4 [v0] h = mX E gP (mV E gP) 4 b4_0 [some v0] [] h := ent_row (mcode_row grw4 rfl) gm4 _ h
theorem lb5_0 {E : mE} (ls : mL) (st : List Value) (h : mH) : mV E gP (5, 0, ls, st, h) = mX E gP (mV E gP) 5 b5_0 ls st h := lab_row (mcode_row grw5 rfl) ls st h
theorem lb5_11 {E : mE} (ls : mL) (st : List Value) (h : mH) : mV E gP (5, 11, ls, st, h) = mX E gP (mV E gP) 5 b5_11 ls st h := lab_row (mcode_row grw5 rfl) ls st h
theorem en5 {E : mE} (v0 v1 v2 v3 : Value) (h : mH) : mRun E gP 5 [v0, v1, v2, v3] h = mX E gP (mV E gP) 5 b5_0 [some v0, some v1, some v2, some v3] [] h := ent_row (mcode_row grw5 rfl) gm5 _ h
theorem lb6_0 {E : mE} (ls : mL) (st : List Value) (h : mH) : mV E gP (6, 0, ls, st, h) = mX E gP (mV E gP) 6 b6_0 ls st h := lab_row (mcode_row grw6 rfl) ls st h
theorem en6 {E : mE} (v0 v1 : Value) (h : mH) : mRun E gP 6 [v0, v1] h = mX E gP (mV E gP) 6 b6_0 [some v0, some v1] [] h := ent_row (mcode_row grw6 rfl) gm6 _ h
theorem lb7_0 {E : mE} (ls : mL) (st : List Value) (h : mH) : mV E gP (7, 0, ls, st, h) = mX E gP (mV E gP) 7 b7_0 ls st h := lab_row (mcode_row grw7 rfl) ls st h
theorem en7 {E : mE} (v0 : Value) (h : mH) : mRun E gP 7 [v0] h = mX E gP (mV E gP) 7 b7_0 [some v0] [] h := ent_row (mcode_row grw7 rfl) gm7 _ h
theorem lb8_0 {E : mE} (ls : mL) (st : List Value) (h : mH) : mV E gP (8, 0, ls, st, h) = mX E gP (mV E gP) 8 b8_0 ls st h := lab_row (mcode_row grw8 rfl) ls st h
theorem lb8_20 {E : mE} (ls : mL) (st : List Value) (h : mH) : mV E gP (8, 20, ls, st, h) = mX E gP (mV E gP) 8 b8_20 ls st h := lab_row (mcode_row grw8 rfl) ls st h
theorem lb8_45 {E : mE} (ls : mL) (st : List Value) (h : mH) : mV E gP (8, 45, ls, st, h) = mX E gP (mV E gP) 8 b8_45 ls st h := lab_row (mcode_row grw8 rfl) ls st h
theorem en8 {E : mE} (v0 v1 : Value) (h : mH) : mRun E gP 8 [v0, v1] h = mX E gP (mV E gP) 8 b8_0 [some v0, some v1, none, none] [] h := ent_row (mcode_row grw8 rfl) gm8 _ h
theorem lb9_0 {E : mE} (ls : mL) (st : List Value) (h : mH) : mV E gP (9, 0, ls, st, h) = mX E gP (mV E gP) 9 b9_0 ls st h := lab_row (mcode_row grw9 rfl) ls st h
theorem en9 {E : mE} (v0 : Value) (h : mH) : mRun E gP 9 [v0] h = mX E gP (mV E gP) 9 b9_0 [some v0] [] h := ent_row (mcode_row grw9 rfl) gm9 _ h
theorem lb10_0 {E : mE} (ls : mL) (st : List Value) (h : mH) : mV E gP (10, 0, ls, st, h) = mX E gP (mV E gP) 10 b10_0 ls st h := lab_row (mcode_row grw10 rfl) ls st h
theorem en10 {E : mE} (v0 : Value) (h : mH) : mRun E gP 10 [v0] h = mX E gP (mV E gP) 10 b10_0 [some v0] [] h := ent_row (mcode_row grw10 rfl) gm10 _ h
theorem lb11_0 {E : mE} (ls : mL) (st : List Value) (h : mH) : mV E gP (11, 0, ls, st, h) = mX E gP (mV E gP) 11 b11_0 ls st h := lab_row (mcode_row grw11 rfl) ls st h
theorem en11 {E : mE} (v0 v1 : Value) (h : mH) : mRun E gP 11 [v0, v1] h = mX E gP (mV E gP) 11 b11_0 [some v0, some v1] [] h := ent_row (mcode_row grw11 rfl) gm11 _ h
theorem lb12_0 {E : mE} (ls : mL) (st : List Value) (h : mH) : mV E gP (12, 0, ls, st, h) = mX E gP (mV E gP) 12 b12_0 ls st h := lab_row (mcode_row grw12 rfl) ls st h
theorem lb12_9 {E : mE} (ls : mL) (st : List Value) (h : mH) : mV E gP (12, 9, ls, st, h) = mX E gP (mV E gP) 12 b12_9 ls st h := lab_row (mcode_row grw12 rfl) ls st h
theorem lb12_16 {E : mE} (ls : mL) (st : List Value) (h : mH) : mV E gP (12, 16, ls, st, h) = mX E gP (mV E gP) 12 b12_16 ls st h := lab_row (mcode_row grw12 rfl) ls st h
theorem en12 {E : mE} (v0 v1 v2 : Value) (h : mH) : mRun E gP 12 [v0, v1, v2] h = mX E gP (mV E gP) 12 b12_0 [some v0, some v1, some v2] [] h := ent_row (mcode_row grw12 rfl) gm12 _ h
theorem lb13_0 {E : mE} (ls : mL) (st : List Value) (h : mH) : mV E gP (13, 0, ls, st, h) = mX E gP (mV E gP) 13 b13_0 ls st h := lab_row (mcode_row grw13 rfl) ls st h
theorem lb13_14 {E : mE} (ls : mL) (st : List Value) (h : mH) : mV E gP (13, 14, ls, st, h) = mX E gP (mV E gP) 13 b13_14 ls st h := lab_row (mcode_row grw13 rfl) ls st h
theorem en13 {E : mE} (v0 v1 : Value) (h : mH) : mRun E gP 13 [v0, v1] h = mX E gP (mV E gP) 13 b13_0 [some v0, some v1, none] [] h := ent_row (mcode_row grw13 rfl) gm13 _ h
theorem lb14_0 {E : mE} (ls : mL) (st : List Value) (h : mH) : mV E gP (14, 0, ls, st, h) = mX E gP (mV E gP) 14 b14_0 ls st h := lab_row (mcode_row grw14 rfl) ls st h
theorem en14 {E : mE} (v0 v1 : Value) (h : mH) : mRun E gP 14 [v0, v1] h = mX E gP (mV E gP) 14 b14_0 [some v0, some v1] [] h := ent_row (mcode_row grw14 rfl) gm14 _ h
theorem lb15_0 {E : mE} (ls : mL) (st : List Value) (h : mH) : mV E gP (15, 0, ls, st, h) = mX E gP (mV E gP) 15 b15_0 ls st h := lab_row (mcode_row grw15 rfl) ls st h
theorem lb15_13 {E : mE} (ls : mL) (st : List Value) (h : mH) : mV E gP (15, 13, ls, st, h) = mX E gP (mV E gP) 15 b15_13 ls st h := lab_row (mcode_row grw15 rfl) ls st h
theorem lb15_24 {E : mE} (ls : mL) (st : List Value) (h : mH) : mV E gP (15, 24, ls, st, h) = mX E gP (mV E gP) 15 b15_24 ls st h := lab_row (mcode_row grw15 rfl) ls st h
theorem en15 {E : mE} (v0 v1 v2 : Value) (h : mH) : mRun E gP 15 [v0, v1, v2] h = mX E gP (mV E gP) 15 b15_0 [some v0, some v1, some v2, none] [] h := ent_row (mcode_row grw15 rfl) gm15 _ h
theorem lb16_0 {E : mE} (ls : mL) (st : List Value) (h : mH) : mV E gP (16, 0, ls, st, h) = mX E gP (mV E gP) 16 b16_0 ls st h := lab_row (mcode_row grw16 rfl) ls st h
theorem lb16_10 {E : mE} (ls : mL) (st : List Value) (h : mH) : mV E gP (16, 10, ls, st, h) = mX E gP (mV E gP) 16 b16_10 ls st h := lab_row (mcode_row grw16 rfl) ls st h
theorem lb16_17 {E : mE} (ls : mL) (st : List Value) (h : mH) : mV E gP (16, 17, ls, st, h) = mX E gP (mV E gP) 16 b16_17 ls st h := lab_row (mcode_row grw16 rfl) ls st h
theorem en16 {E : mE} (v0 v1 v2 : Value) (h : mH) : mRun E gP 16 [v0, v1, v2] h = mX E gP (mV E gP) 16 b16_0 [some v0, some v1, some v2] [] h := ent_row (mcode_row grw16 rfl) gm16 _ h
theorem lb17_0 {E : mE} (ls : mL) (st : List Value) (h : mH) : mV E gP (17, 0, ls, st, h) = mX E gP (mV E gP) 17 b17_0 ls st h := lab_row (mcode_row grw17 rfl) ls st h
theorem en17 {E : mE} (v0 v1 v2 : Value) (h : mH) : mRun E gP 17 [v0, v1, v2] h = mX E gP (mV E gP) 17 b17_0 [some v0, some v1, some v2, none, none] [] h := ent_row (mcode_row grw17 rfl) gm17 _ h
theorem lb18_0 {E : mE} (ls : mL) (st : List Value) (h : mH) : mV E gP (18, 0, ls, st, h) = mX E gP (mV E gP) 18 b18_0 ls st h := lab_row (mcode_row grw18 rfl) ls st h
theorem lb18_21 {E : mE} (ls : mL) (st : List Value) (h : mH) : mV E gP (18, 21, ls, st, h) = mX E gP (mV E gP) 18 b18_21 ls st h := lab_row (mcode_row grw18 rfl) ls st h
theorem en18 {E : mE} (v0 v1 v2 : Value) (h : mH) : mRun E gP 18 [v0, v1, v2] h = mX E gP (mV E gP) 18 b18_0 [some v0, some v1, some v2, none] [] h := ent_row (mcode_row grw18 rfl) gm18 _ h
theorem lb19_0 {E : mE} (ls : mL) (st : List Value) (h : mH) : mV E gP (19, 0, ls, st, h) = mX E gP (mV E gP) 19 b19_0 ls st h := lab_row (mcode_row grw19 rfl) ls st h
theorem lb19_44 {E : mE} (ls : mL) (st : List Value) (h : mH) : mV E gP (19, 44, ls, st, h) = mX E gP (mV E gP) 19 b19_44 ls st h := lab_row (mcode_row grw19 rfl) ls st h
theorem lb19_57 {E : mE} (ls : mL) (st : List Value) (h : mH) : mV E gP (19, 57, ls, st, h) = mX E gP (mV E gP) 19 b19_57 ls st h := lab_row (mcode_row grw19 rfl) ls st h
theorem lb19_77 {E : mE} (ls : mL) (st : List Value) (h : mH) : mV E gP (19, 77, ls, st, h) = mX E gP (mV E gP) 19 b19_77 ls st h := lab_row (mcode_row grw19 rfl) ls st h
theorem lb19_90 {E : mE} (ls : mL) (st : List Value) (h : mH) : mV E gP (19, 90, ls, st, h) = mX E gP (mV E gP) 19 b19_90 ls st h := lab_row (mcode_row grw19 rfl) ls st h
theorem lb19_103 {E : mE} (ls : mL) (st : List Value) (h : mH) : mV E gP (19, 103, ls, st, h) = mX E gP (mV E gP) 19 b19_103 ls st h := lab_row (mcode_row grw19 rfl) ls st h
theorem lb19_116 {E : mE} (ls : mL) (st : List Value) (h : mH) : mV E gP (19, 116, ls, st, h) = mX E gP (mV E gP) 19 b19_116 ls st h := lab_row (mcode_row grw19 rfl) ls st h
theorem lb19_129 {E : mE} (ls : mL) (st : List Value) (h : mH) : mV E gP (19, 129, ls, st, h) = mX E gP (mV E gP) 19 b19_129 ls st h := lab_row (mcode_row grw19 rfl) ls st h
theorem lb19_157 {E : mE} (ls : mL) (st : List Value) (h : mH) : mV E gP (19, 157, ls, st, h) = mX E gP (mV E gP) 19 b19_157 ls st h := lab_row (mcode_row grw19 rfl) ls st h
theorem en19 {E : mE} (v0 v1 v2 v3 v4 : Value) (h : mH) : mRun E gP 19 [v0, v1, v2, v3, v4] h = mX E gP (mV E gP) 19 b19_0 [some v0, some v1, some v2, some v3, some v4] [] h := ent_row (mcode_row grw19 rfl) gm19 _ h
theorem lb20_0 {E : mE} (ls : mL) (st : List Value) (h : mH) : mV E gP (20, 0, ls, st, h) = mX E gP (mV E gP) 20 b20_0 ls st h := lab_row (mcode_row grw20 rfl) ls st h
theorem lb20_8 {E : mE} (ls : mL) (st : List Value) (h : mH) : mV E gP (20, 8, ls, st, h) = mX E gP (mV E gP) 20 b20_8 ls st h := lab_row (mcode_row grw20 rfl) ls st h
theorem lb20_35 {E : mE} (ls : mL) (st : List Value) (h : mH) : mV E gP (20, 35, ls, st, h) = mX E gP (mV E gP) 20 b20_35 ls st h := lab_row (mcode_row grw20 rfl) ls st h
theorem en20 {E : mE} (v0 v1 v2 v3 : Value) (h : mH) : mRun E gP 20 [v0, v1, v2, v3] h = mX E gP (mV E gP) 20 b20_0 [some v0, some v1, some v2, some v3, none, none] [] h := ent_row (mcode_row grw20 rfl) gm20 _ h
theorem lb21_0 {E : mE} (ls : mL) (st : List Value) (h : mH) : mV E gP (21, 0, ls, st, h) = mX E gP (mV E gP) 21 b21_0 ls st h := lab_row (mcode_row grw21 rfl) ls st h
theorem en21 {E : mE} (v0 : Value) (h : mH) : mRun E gP 21 [v0] h = mX E gP (mV E gP) 21 b21_0 [some v0] [] h := ent_row (mcode_row grw21 rfl) gm21 _ h
theorem lb22_0 {E : mE} (ls : mL) (st : List Value) (h : mH) : mV E gP (22, 0, ls, st, h) = mX E gP (mV E gP) 22 b22_0 ls st h := lab_row (mcode_row grw22 rfl) ls st h
theorem lb22_12 {E : mE} (ls : mL) (st : List Value) (h : mH) : mV E gP (22, 12, ls, st, h) = mX E gP (mV E gP) 22 b22_12 ls st h := lab_row (mcode_row grw22 rfl) ls st h
theorem lb22_50 {E : mE} (ls : mL) (st : List Value) (h : mH) : mV E gP (22, 50, ls, st, h) = mX E gP (mV E gP) 22 b22_50 ls st h := lab_row (mcode_row grw22 rfl) ls st h
theorem en22 {E : mE} (v0 v1 : Value) (h : mH) : mRun E gP 22 [v0, v1] h = mX E gP (mV E gP) 22 b22_0 [some v0, some v1, none] [] h := ent_row (mcode_row grw22 rfl) gm22 _ h
theorem lb23_0 {E : mE} (ls : mL) (st : List Value) (h : mH) : mV E gP (23, 0, ls, st, h) = mX E gP (mV E gP) 23 b23_0 ls st h := lab_row (mcode_row grw23 rfl) ls st h
theorem en23 {E : mE} (v0 : Value) (h : mH) : mRun E gP 23 [v0] h = mX E gP (mV E gP) 23 b23_0 [some v0] [] h := ent_row (mcode_row grw23 rfl) gm23 _ h
theorem lb24_0 {E : mE} (ls : mL) (st : List Value) (h : mH) : mV E gP (24, 0, ls, st, h) = mX E gP (mV E gP) 24 b24_0 ls st h := lab_row (mcode_row grw24 rfl) ls st h
theorem lb24_15 {E : mE} (ls : mL) (st : List Value) (h : mH) : mV E gP (24, 15, ls, st, h) = mX E gP (mV E gP) 24 b24_15 ls st h := lab_row (mcode_row grw24 rfl) ls st h
theorem lb24_16 {E : mE} (ls : mL) (st : List Value) (h : mH) : mV E gP (24, 16, ls, st, h) = mX E gP (mV E gP) 24 b24_16 ls st h := lab_row (mcode_row grw24 rfl) ls st h
theorem en24 {E : mE} (v0 : Value) (h : mH) : mRun E gP 24 [v0] h = mX E gP (mV E gP) 24 b24_0 [some v0] [] h := ent_row (mcode_row grw24 rfl) gm24 _ h
theorem lb25_0 {E : mE} (ls : mL) (st : List Value) (h : mH) : mV E gP (25, 0, ls, st, h) = mX E gP (mV E gP) 25 b25_0 ls st h := lab_row (mcode_row grw25 rfl) ls st h
theorem lb25_34 {E : mE} (ls : mL) (st : List Value) (h : mH) : mV E gP (25, 34, ls, st, h) = mX E gP (mV E gP) 25 b25_34 ls st h := lab_row (mcode_row grw25 rfl) ls st h
theorem en25 {E : mE} (v0 : Value) (h : mH) : mRun E gP 25 [v0] h = mX E gP (mV E gP) 25 b25_0 [some v0, none, none, none] [] h := ent_row (mcode_row grw25 rfl) gm25 _ h
theorem lb26_0 {E : mE} (ls : mL) (st : List Value) (h : mH) : mV E gP (26, 0, ls, st, h) = mX E gP (mV E gP) 26 b26_0 ls st h := lab_row (mcode_row grw26 rfl) ls st h
theorem lb26_34 {E : mE} (ls : mL) (st : List Value) (h : mH) : mV E gP (26, 34, ls, st, h) = mX E gP (mV E gP) 26 b26_34 ls st h := lab_row (mcode_row grw26 rfl) ls st h
theorem en26 {E : mE} (v0 : Value) (h : mH) : mRun E gP 26 [v0] h = mX E gP (mV E gP) 26 b26_0 [some v0, none, none, none] [] h := ent_row (mcode_row grw26 rfl) gm26 _ h
theorem lb27_0 {E : mE} (ls : mL) (st : List Value) (h : mH) : mV E gP (27, 0, ls, st, h) = mX E gP (mV E gP) 27 b27_0 ls st h := lab_row (mcode_row grw27 rfl) ls st h
theorem en27 {E : mE} (v0 : Value) (h : mH) : mRun E gP 27 [v0] h = mX E gP (mV E gP) 27 b27_0 [some v0] [] h := ent_row (mcode_row grw27 rfl) gm27 _ h
theorem lb28_0 {E : mE} (ls : mL) (st : List Value) (h : mH) : mV E gP (28, 0, ls, st, h) = mX E gP (mV E gP) 28 b28_0 ls st h := lab_row (mcode_row grw28 rfl) ls st h
theorem lb28_10 {E : mE} (ls : mL) (st : List Value) (h : mH) : mV E gP (28, 10, ls, st, h) = mX E gP (mV E gP) 28 b28_10 ls st h := lab_row (mcode_row grw28 rfl) ls st h
theorem en28 {E : mE} (v0 v1 : Value) (h : mH) : mRun E gP 28 [v0, v1] h = mX E gP (mV E gP) 28 b28_0 [some v0, some v1] [] h := ent_row (mcode_row grw28 rfl) gm28 _ h
theorem lb29_0 {E : mE} (ls : mL) (st : List Value) (h : mH) : mV E gP (29, 0, ls, st, h) = mX E gP (mV E gP) 29 b29_0 ls st h := lab_row (mcode_row grw29 rfl) ls st h
theorem lb29_9 {E : mE} (ls : mL) (st : List Value) (h : mH) : mV E gP (29, 9, ls, st, h) = mX E gP (mV E gP) 29 b29_9 ls st h := lab_row (mcode_row grw29 rfl) ls st h
theorem lb29_11 {E : mE} (ls : mL) (st : List Value) (h : mH) : mV E gP (29, 11, ls, st, h) = mX E gP (mV E gP) 29 b29_11 ls st h := lab_row (mcode_row grw29 rfl) ls st h
theorem lb29_12 {E : mE} (ls : mL) (st : List Value) (h : mH) : mV E gP (29, 12, ls, st, h) = mX E gP (mV E gP) 29 b29_12 ls st h := lab_row (mcode_row grw29 rfl) ls st h
theorem lb29_27 {E : mE} (ls : mL) (st : List Value) (h : mH) : mV E gP (29, 27, ls, st, h) = mX E gP (mV E gP) 29 b29_27 ls st h := lab_row (mcode_row grw29 rfl) ls st h
theorem lb29_35 {E : mE} (ls : mL) (st : List Value) (h : mH) : mV E gP (29, 35, ls, st, h) = mX E gP (mV E gP) 29 b29_35 ls st h := lab_row (mcode_row grw29 rfl) ls st h
theorem lb29_42 {E : mE} (ls : mL) (st : List Value) (h : mH) : mV E gP (29, 42, ls, st, h) = mX E gP (mV E gP) 29 b29_42 ls st h := lab_row (mcode_row grw29 rfl) ls st h
theorem en29 {E : mE} (v0 v1 v2 : Value) (h : mH) : mRun E gP 29 [v0, v1, v2] h = mX E gP (mV E gP) 29 b29_0 [some v0, some v1, some v2, none] [] h := ent_row (mcode_row grw29 rfl) gm29 _ h
theorem lb30_0 {E : mE} (ls : mL) (st : List Value) (h : mH) : mV E gP (30, 0, ls, st, h) = mX E gP (mV E gP) 30 b30_0 ls st h := lab_row (mcode_row grw30 rfl) ls st h
theorem en30 {E : mE} (v0 v1 : Value) (h : mH) : mRun E gP 30 [v0, v1] h = mX E gP (mV E gP) 30 b30_0 [some v0, some v1] [] h := ent_row (mcode_row grw30 rfl) gm30 _ h
theorem lb31_0 {E : mE} (ls : mL) (st : List Value) (h : mH) : mV E gP (31, 0, ls, st, h) = mX E gP (mV E gP) 31 b31_0 ls st h := lab_row (mcode_row grw31 rfl) ls st h
theorem lb31_11 {E : mE} (ls : mL) (st : List Value) (h : mH) : mV E gP (31, 11, ls, st, h) = mX E gP (mV E gP) 31 b31_11 ls st h := lab_row (mcode_row grw31 rfl) ls st h
theorem en31 {E : mE} (v0 v1 : Value) (h : mH) : mRun E gP 31 [v0, v1] h = mX E gP (mV E gP) 31 b31_0 [some v0, some v1] [] h := ent_row (mcode_row grw31 rfl) gm31 _ h
theorem lb32_0 {E : mE} (ls : mL) (st : List Value) (h : mH) : mV E gP (32, 0, ls, st, h) = mX E gP (mV E gP) 32 b32_0 ls st h := lab_row (mcode_row grw32 rfl) ls st h
theorem lb32_12 {E : mE} (ls : mL) (st : List Value) (h : mH) : mV E gP (32, 12, ls, st, h) = mX E gP (mV E gP) 32 b32_12 ls st h := lab_row (mcode_row grw32 rfl) ls st h
theorem en32 {E : mE} (v0 v1 v2 : Value) (h : mH) : mRun E gP 32 [v0, v1, v2] h = mX E gP (mV E gP) 32 b32_0 [some v0, some v1, some v2] [] h := ent_row (mcode_row grw32 rfl) gm32 _ h
theorem lb33_0 {E : mE} (ls : mL) (st : List Value) (h : mH) : mV E gP (33, 0, ls, st, h) = mX E gP (mV E gP) 33 b33_0 ls st h := lab_row (mcode_row grw33 rfl) ls st h
theorem en33 {E : mE} (v0 : Value) (h : mH) : mRun E gP 33 [v0] h = mX E gP (mV E gP) 33 b33_0 [some v0] [] h := ent_row (mcode_row grw33 rfl) gm33 _ h
theorem lb34_0 {E : mE} (ls : mL) (st : List Value) (h : mH) : mV E gP (34, 0, ls, st, h) = mX E gP (mV E gP) 34 b34_0 ls st h := lab_row (mcode_row grw34 rfl) ls st h
theorem lb34_12 {E : mE} (ls : mL) (st : List Value) (h : mH) : mV E gP (34, 12, ls, st, h) = mX E gP (mV E gP) 34 b34_12 ls st h := lab_row (mcode_row grw34 rfl) ls st h
theorem lb34_13 {E : mE} (ls : mL) (st : List Value) (h : mH) : mV E gP (34, 13, ls, st, h) = mX E gP (mV E gP) 34 b34_13 ls st h := lab_row (mcode_row grw34 rfl) ls st h
theorem en34 {E : mE} (v0 v1 : Value) (h : mH) : mRun E gP 34 [v0, v1] h = mX E gP (mV E gP) 34 b34_0 [some v0, some v1] [] h := ent_row (mcode_row grw34 rfl) gm34 _ h
theorem lb35_0 {E : mE} (ls : mL) (st : List Value) (h : mH) : mV E gP (35, 0, ls, st, h) = mX E gP (mV E gP) 35 b35_0 ls st h := lab_row (mcode_row grw35 rfl) ls st h
theorem lb35_14 {E : mE} (ls : mL) (st : List Value) (h : mH) : mV E gP (35, 14, ls, st, h) = mX E gP (mV E gP) 35 b35_14 ls st h := lab_row (mcode_row grw35 rfl) ls st h
theorem lb35_18 {E : mE} (ls : mL) (st : List Value) (h : mH) : mV E gP (35, 18, ls, st, h) = mX E gP (mV E gP) 35 b35_18 ls st h := lab_row (mcode_row grw35 rfl) ls st h
theorem en35 {E : mE} (v0 v1 : Value) (h : mH) : mRun E gP 35 [v0, v1] h = mX E gP (mV E gP) 35 b35_0 [some v0, some v1, none] [] h := ent_row (mcode_row grw35 rfl) gm35 _ h
theorem lb36_0 {E : mE} (ls : mL) (st : List Value) (h : mH) : mV E gP (36, 0, ls, st, h) = mX E gP (mV E gP) 36 b36_0 ls st h := lab_row (mcode_row grw36 rfl) ls st h
theorem en36 {E : mE} (v0 v1 v2 : Value) (h : mH) : mRun E gP 36 [v0, v1, v2] h = mX E gP (mV E gP) 36 b36_0 [some v0, some v1, some v2] [] h := ent_row (mcode_row grw36 rfl) gm36 _ h
theorem lb37_0 {E : mE} (ls : mL) (st : List Value) (h : mH) : mV E gP (37, 0, ls, st, h) = mX E gP (mV E gP) 37 b37_0 ls st h := lab_row (mcode_row grw37 rfl) ls st h
theorem lb37_69 {E : mE} (ls : mL) (st : List Value) (h : mH) : mV E gP (37, 69, ls, st, h) = mX E gP (mV E gP) 37 b37_69 ls st h := lab_row (mcode_row grw37 rfl) ls st h
theorem lb37_71 {E : mE} (ls : mL) (st : List Value) (h : mH) : mV E gP (37, 71, ls, st, h) = mX E gP (mV E gP) 37 b37_71 ls st h := lab_row (mcode_row grw37 rfl) ls st h
theorem lb37_99 {E : mE} (ls : mL) (st : List Value) (h : mH) : mV E gP (37, 99, ls, st, h) = mX E gP (mV E gP) 37 b37_99 ls st h := lab_row (mcode_row grw37 rfl) ls st h
theorem lb37_134 {E : mE} (ls : mL) (st : List Value) (h : mH) : mV E gP (37, 134, ls, st, h) = mX E gP (mV E gP) 37 b37_134 ls st h := lab_row (mcode_row grw37 rfl) ls st h
theorem lb37_137 {E : mE} (ls : mL) (st : List Value) (h : mH) : mV E gP (37, 137, ls, st, h) = mX E gP (mV E gP) 37 b37_137 ls st h := lab_row (mcode_row grw37 rfl) ls st h
theorem lb37_148 {E : mE} (ls : mL) (st : List Value) (h : mH) : mV E gP (37, 148, ls, st, h) = mX E gP (mV E gP) 37 b37_148 ls st h := lab_row (mcode_row grw37 rfl) ls st h
theorem en37 {E : mE} (v0 v1 : Value) (h : mH) : mRun E gP 37 [v0, v1] h = mX E gP (mV E gP) 37 b37_0 [some v0, some v1, none, none, none, none, none, none] [] h := ent_row (mcode_row grw37 rfl) gm37 _ h
theorem lb38_0 {E : mE} (ls : mL) (st : List Value) (h : mH) : mV E gP (38, 0, ls, st, h) = mX E gP (mV E gP) 38 b38_0 ls st h := lab_row (mcode_row grw38 rfl) ls st h
theorem lb38_8 {E : mE} (ls : mL) (st : List Value) (h : mH) : mV E gP (38, 8, ls, st, h) = mX E gP (mV E gP) 38 b38_8 ls st h := lab_row (mcode_row grw38 rfl) ls st h
theorem lb38_19 {E : mE} (ls : mL) (st : List Value) (h : mH) : mV E gP (38, 19, ls, st, h) = mX E gP (mV E gP) 38 b38_19 ls st h := lab_row (mcode_row grw38 rfl) ls st h
theorem en38 {E : mE} (v0 : Value) (h : mH) : mRun E gP 38 [v0] h = mX E gP (mV E gP) 38 b38_0 [some v0, none] [] h := ent_row (mcode_row grw38 rfl) gm38 _ h
theorem lb39_0 {E : mE} (ls : mL) (st : List Value) (h : mH) : mV E gP (39, 0, ls, st, h) = mX E gP (mV E gP) 39 b39_0 ls st h := lab_row (mcode_row grw39 rfl) ls st h
theorem lb39_19 {E : mE} (ls : mL) (st : List Value) (h : mH) : mV E gP (39, 19, ls, st, h) = mX E gP (mV E gP) 39 b39_19 ls st h := lab_row (mcode_row grw39 rfl) ls st h
theorem lb39_29 {E : mE} (ls : mL) (st : List Value) (h : mH) : mV E gP (39, 29, ls, st, h) = mX E gP (mV E gP) 39 b39_29 ls st h := lab_row (mcode_row grw39 rfl) ls st h
theorem lb39_63 {E : mE} (ls : mL) (st : List Value) (h : mH) : mV E gP (39, 63, ls, st, h) = mX E gP (mV E gP) 39 b39_63 ls st h := lab_row (mcode_row grw39 rfl) ls st h
theorem lb39_97 {E : mE} (ls : mL) (st : List Value) (h : mH) : mV E gP (39, 97, ls, st, h) = mX E gP (mV E gP) 39 b39_97 ls st h := lab_row (mcode_row grw39 rfl) ls st h
theorem lb39_104 {E : mE} (ls : mL) (st : List Value) (h : mH) : mV E gP (39, 104, ls, st, h) = mX E gP (mV E gP) 39 b39_104 ls st h := lab_row (mcode_row grw39 rfl) ls st h
theorem lb39_131 {E : mE} (ls : mL) (st : List Value) (h : mH) : mV E gP (39, 131, ls, st, h) = mX E gP (mV E gP) 39 b39_131 ls st h := lab_row (mcode_row grw39 rfl) ls st h
theorem lb39_134 {E : mE} (ls : mL) (st : List Value) (h : mH) : mV E gP (39, 134, ls, st, h) = mX E gP (mV E gP) 39 b39_134 ls st h := lab_row (mcode_row grw39 rfl) ls st h
theorem lb39_175 {E : mE} (ls : mL) (st : List Value) (h : mH) : mV E gP (39, 175, ls, st, h) = mX E gP (mV E gP) 39 b39_175 ls st h := lab_row (mcode_row grw39 rfl) ls st h
theorem lb39_212 {E : mE} (ls : mL) (st : List Value) (h : mH) : mV E gP (39, 212, ls, st, h) = mX E gP (mV E gP) 39 b39_212 ls st h := lab_row (mcode_row grw39 rfl) ls st h
theorem lb39_222 {E : mE} (ls : mL) (st : List Value) (h : mH) : mV E gP (39, 222, ls, st, h) = mX E gP (mV E gP) 39 b39_222 ls st h := lab_row (mcode_row grw39 rfl) ls st h
theorem lb39_244 {E : mE} (ls : mL) (st : List Value) (h : mH) : mV E gP (39, 244, ls, st, h) = mX E gP (mV E gP) 39 b39_244 ls st h := lab_row (mcode_row grw39 rfl) ls st h
theorem lb39_250 {E : mE} (ls : mL) (st : List Value) (h : mH) : mV E gP (39, 250, ls, st, h) = mX E gP (mV E gP) 39 b39_250 ls st h := lab_row (mcode_row grw39 rfl) ls st h
theorem lb39_259 {E : mE} (ls : mL) (st : List Value) (h : mH) : mV E gP (39, 259, ls, st, h) = mX E gP (mV E gP) 39 b39_259 ls st h := lab_row (mcode_row grw39 rfl) ls st h
theorem lb39_292 {E : mE} (ls : mL) (st : List Value) (h : mH) : mV E gP (39, 292, ls, st, h) = mX E gP (mV E gP) 39 b39_292 ls st h := lab_row (mcode_row grw39 rfl) ls st h
theorem en39 {E : mE} (v0 v1 v2 v3 v4 v5 : Value) (h : mH) : mRun E gP 39 [v0, v1, v2, v3, v4, v5] h = mX E gP (mV E gP) 39 b39_0 [some v0, some v1, some v2, some v3, some v4, some v5, none, none, none, none, none, none, none] [] h := ent_row (mcode_row grw39 rfl) gm39 _ h
theorem lb40_0 {E : mE} (ls : mL) (st : List Value) (h : mH) : mV E gP (40, 0, ls, st, h) = mX E gP (mV E gP) 40 b40_0 ls st h := lab_row (mcode_row grw40 rfl) ls st h
theorem lb40_13 {E : mE} (ls : mL) (st : List Value) (h : mH) : mV E gP (40, 13, ls, st, h) = mX E gP (mV E gP) 40 b40_13 ls st h := lab_row (mcode_row grw40 rfl) ls st h
theorem lb40_15 {E : mE} (ls : mL) (st : List Value) (h : mH) : mV E gP (40, 15, ls, st, h) = mX E gP (mV E gP) 40 b40_15 ls st h := lab_row (mcode_row grw40 rfl) ls st h
theorem lb40_42 {E : mE} (ls : mL) (st : List Value) (h : mH) : mV E gP (40, 42, ls, st, h) = mX E gP (mV E gP) 40 b40_42 ls st h := lab_row (mcode_row grw40 rfl) ls st h
theorem lb40_67 {E : mE} (ls : mL) (st : List Value) (h : mH) : mV E gP (40, 67, ls, st, h) = mX E gP (mV E gP) 40 b40_67 ls st h := lab_row (mcode_row grw40 rfl) ls st h
theorem lb40_77 {E : mE} (ls : mL) (st : List Value) (h : mH) : mV E gP (40, 77, ls, st, h) = mX E gP (mV E gP) 40 b40_77 ls st h := lab_row (mcode_row grw40 rfl) ls st h
theorem lb40_85 {E : mE} (ls : mL) (st : List Value) (h : mH) : mV E gP (40, 85, ls, st, h) = mX E gP (mV E gP) 40 b40_85 ls st h := lab_row (mcode_row grw40 rfl) ls st h
theorem lb40_121 {E : mE} (ls : mL) (st : List Value) (h : mH) : mV E gP (40, 121, ls, st, h) = mX E gP (mV E gP) 40 b40_121 ls st h := lab_row (mcode_row grw40 rfl) ls st h
theorem lb40_123 {E : mE} (ls : mL) (st : List Value) (h : mH) : mV E gP (40, 123, ls, st, h) = mX E gP (mV E gP) 40 b40_123 ls st h := lab_row (mcode_row grw40 rfl) ls st h
theorem lb40_125 {E : mE} (ls : mL) (st : List Value) (h : mH) : mV E gP (40, 125, ls, st, h) = mX E gP (mV E gP) 40 b40_125 ls st h := lab_row (mcode_row grw40 rfl) ls st h
theorem lb40_151 {E : mE} (ls : mL) (st : List Value) (h : mH) : mV E gP (40, 151, ls, st, h) = mX E gP (mV E gP) 40 b40_151 ls st h := lab_row (mcode_row grw40 rfl) ls st h
theorem lb40_198 {E : mE} (ls : mL) (st : List Value) (h : mH) : mV E gP (40, 198, ls, st, h) = mX E gP (mV E gP) 40 b40_198 ls st h := lab_row (mcode_row grw40 rfl) ls st h
theorem lb40_223 {E : mE} (ls : mL) (st : List Value) (h : mH) : mV E gP (40, 223, ls, st, h) = mX E gP (mV E gP) 40 b40_223 ls st h := lab_row (mcode_row grw40 rfl) ls st h
theorem lb40_235 {E : mE} (ls : mL) (st : List Value) (h : mH) : mV E gP (40, 235, ls, st, h) = mX E gP (mV E gP) 40 b40_235 ls st h := lab_row (mcode_row grw40 rfl) ls st h
theorem lb40_264 {E : mE} (ls : mL) (st : List Value) (h : mH) : mV E gP (40, 264, ls, st, h) = mX E gP (mV E gP) 40 b40_264 ls st h := lab_row (mcode_row grw40 rfl) ls st h
theorem lb40_271 {E : mE} (ls : mL) (st : List Value) (h : mH) : mV E gP (40, 271, ls, st, h) = mX E gP (mV E gP) 40 b40_271 ls st h := lab_row (mcode_row grw40 rfl) ls st h
theorem lb40_278 {E : mE} (ls : mL) (st : List Value) (h : mH) : mV E gP (40, 278, ls, st, h) = mX E gP (mV E gP) 40 b40_278 ls st h := lab_row (mcode_row grw40 rfl) ls st h
theorem lb40_290 {E : mE} (ls : mL) (st : List Value) (h : mH) : mV E gP (40, 290, ls, st, h) = mX E gP (mV E gP) 40 b40_290 ls st h := lab_row (mcode_row grw40 rfl) ls st h
theorem lb40_297 {E : mE} (ls : mL) (st : List Value) (h : mH) : mV E gP (40, 297, ls, st, h) = mX E gP (mV E gP) 40 b40_297 ls st h := lab_row (mcode_row grw40 rfl) ls st h
theorem lb40_301 {E : mE} (ls : mL) (st : List Value) (h : mH) : mV E gP (40, 301, ls, st, h) = mX E gP (mV E gP) 40 b40_301 ls st h := lab_row (mcode_row grw40 rfl) ls st h
theorem lb40_327 {E : mE} (ls : mL) (st : List Value) (h : mH) : mV E gP (40, 327, ls, st, h) = mX E gP (mV E gP) 40 b40_327 ls st h := lab_row (mcode_row grw40 rfl) ls st h
theorem lb40_347 {E : mE} (ls : mL) (st : List Value) (h : mH) : mV E gP (40, 347, ls, st, h) = mX E gP (mV E gP) 40 b40_347 ls st h := lab_row (mcode_row grw40 rfl) ls st h
theorem lb40_353 {E : mE} (ls : mL) (st : List Value) (h : mH) : mV E gP (40, 353, ls, st, h) = mX E gP (mV E gP) 40 b40_353 ls st h := lab_row (mcode_row grw40 rfl) ls st h
theorem en40 {E : mE} (v0 : Value) (h : mH) : mRun E gP 40 [v0] h = mX E gP (mV E gP) 40 b40_0 [some v0, none, none, none, none, none, none, none, none, none, none, none, none, none] [] h := ent_row (mcode_row grw40 rfl) gm40 _ h
theorem lb41_0 {E : mE} (ls : mL) (st : List Value) (h : mH) : mV E gP (41, 0, ls, st, h) = mX E gP (mV E gP) 41 b41_0 ls st h := lab_row (mcode_row grw41 rfl) ls st h
theorem en41 {E : mE} (v0 v1 v2 v3 v4 : Value) (h : mH) : mRun E gP 41 [v0, v1, v2, v3, v4] h = mX E gP (mV E gP) 41 b41_0 [some v0, some v1, some v2, some v3, some v4] [] h := ent_row (mcode_row grw41 rfl) gm41 _ h
theorem lb42_0 {E : mE} (ls : mL) (st : List Value) (h : mH) : mV E gP (42, 0, ls, st, h) = mX E gP (mV E gP) 42 b42_0 ls st h := lab_row (mcode_row grw42 rfl) ls st h
theorem en42 {E : mE} (v0 v1 : Value) (h : mH) : mRun E gP 42 [v0, v1] h = mX E gP (mV E gP) 42 b42_0 [some v0, some v1] [] h := ent_row (mcode_row grw42 rfl) gm42 _ h
theorem lb43_0 {E : mE} (ls : mL) (st : List Value) (h : mH) : mV E gP (43, 0, ls, st, h) = mX E gP (mV E gP) 43 b43_0 ls st h := lab_row (mcode_row grw43 rfl) ls st h
theorem en43 {E : mE} (v0 : Value) (h : mH) : mRun E gP 43 [v0] h = mX E gP (mV E gP) 43 b43_0 [some v0] [] h := ent_row (mcode_row grw43 rfl) gm43 _ h
theorem lb44_0 {E : mE} (ls : mL) (st : List Value) (h : mH) : mV E gP (44, 0, ls, st, h) = mX E gP (mV E gP) 44 b44_0 ls st h := lab_row (mcode_row grw44 rfl) ls st h
theorem en44 {E : mE} (v0 v1 v2 v3 v4 : Value) (h : mH) : mRun E gP 44 [v0, v1, v2, v3, v4] h = mX E gP (mV E gP) 44 b44_0 [some v0, some v1, some v2, some v3, some v4] [] h := ent_row (mcode_row grw44 rfl) gm44 _ h
theorem lb45_0 {E : mE} (ls : mL) (st : List Value) (h : mH) : mV E gP (45, 0, ls, st, h) = mX E gP (mV E gP) 45 b45_0 ls st h := lab_row (mcode_row grw45 rfl) ls st h
theorem en45 {E : mE} (v0 : Value) (h : mH) : mRun E gP 45 [v0] h = mX E gP (mV E gP) 45 b45_0 [some v0] [] h := ent_row (mcode_row grw45 rfl) gm45 _ h
theorem lb46_0 {E : mE} (ls : mL) (st : List Value) (h : mH) : mV E gP (46, 0, ls, st, h) = mX E gP (mV E gP) 46 b46_0 ls st h := lab_row (mcode_row grw46 rfl) ls st h
theorem en46 {E : mE} (v0 v1 : Value) (h : mH) : mRun E gP 46 [v0, v1] h = mX E gP (mV E gP) 46 b46_0 [some v0, some v1] [] h := ent_row (mcode_row grw46 rfl) gm46 _ h
theorem lb47_0 {E : mE} (ls : mL) (st : List Value) (h : mH) : mV E gP (47, 0, ls, st, h) = mX E gP (mV E gP) 47 b47_0 ls st h := lab_row (mcode_row grw47 rfl) ls st h
theorem en47 {E : mE} (v0 v1 : Value) (h : mH) : mRun E gP 47 [v0, v1] h = mX E gP (mV E gP) 47 b47_0 [some v0, some v1] [] h := ent_row (mcode_row grw47 rfl) gm47 _ h
theorem lb48_0 {E : mE} (ls : mL) (st : List Value) (h : mH) : mV E gP (48, 0, ls, st, h) = mX E gP (mV E gP) 48 b48_0 ls st h := lab_row (mcode_row grw48 rfl) ls st h
theorem en48 {E : mE} (v0 : Value) (h : mH) : mRun E gP 48 [v0] h = mX E gP (mV E gP) 48 b48_0 [some v0] [] h := ent_row (mcode_row grw48 rfl) gm48 _ h
theorem lb49_0 {E : mE} (ls : mL) (st : List Value) (h : mH) : mV E gP (49, 0, ls, st, h) = mX E gP (mV E gP) 49 b49_0 ls st h := lab_row (mcode_row grw49 rfl) ls st h
theorem en49 {E : mE} (v0 v1 : Value) (h : mH) : mRun E gP 49 [v0, v1] h = mX E gP (mV E gP) 49 b49_0 [some v0, some v1] [] h := ent_row (mcode_row grw49 rfl) gm49 _ h
theorem lb50_0 {E : mE} (ls : mL) (st : List Value) (h : mH) : mV E gP (50, 0, ls, st, h) = mX E gP (mV E gP) 50 b50_0 ls st h := lab_row (mcode_row grw50 rfl) ls st h
theorem en50 {E : mE} (v0 : Value) (h : mH) : mRun E gP 50 [v0] h = mX E gP (mV E gP) 50 b50_0 [some v0] [] h := ent_row (mcode_row grw50 rfl) gm50 _ h
theorem lb51_0 {E : mE} (ls : mL) (st : List Value) (h : mH) : mV E gP (51, 0, ls, st, h) = mX E gP (mV E gP) 51 b51_0 ls st h := lab_row (mcode_row grw51 rfl) ls st h
theorem lb51_25 {E : mE} (ls : mL) (st : List Value) (h : mH) : mV E gP (51, 25, ls, st, h) = mX E gP (mV E gP) 51 b51_25 ls st h := lab_row (mcode_row grw51 rfl) ls st h
theorem lb51_38 {E : mE} (ls : mL) (st : List Value) (h : mH) : mV E gP (51, 38, ls, st, h) = mX E gP (mV E gP) 51 b51_38 ls st h := lab_row (mcode_row grw51 rfl) ls st h
theorem en51 {E : mE} (v0 v1 : Value) (h : mH) : mRun E gP 51 [v0, v1] h = mX E gP (mV E gP) 51 b51_0 [some v0, some v1] [] h := ent_row (mcode_row grw51 rfl) gm51 _ h
theorem lb52_0 {E : mE} (ls : mL) (st : List Value) (h : mH) : mV E gP (52, 0, ls, st, h) = mX E gP (mV E gP) 52 b52_0 ls st h := lab_row (mcode_row grw52 rfl) ls st h
theorem lb52_45 {E : mE} (ls : mL) (st : List Value) (h : mH) : mV E gP (52, 45, ls, st, h) = mX E gP (mV E gP) 52 b52_45 ls st h := lab_row (mcode_row grw52 rfl) ls st h
theorem lb52_56 {E : mE} (ls : mL) (st : List Value) (h : mH) : mV E gP (52, 56, ls, st, h) = mX E gP (mV E gP) 52 b52_56 ls st h := lab_row (mcode_row grw52 rfl) ls st h
theorem lb52_75 {E : mE} (ls : mL) (st : List Value) (h : mH) : mV E gP (52, 75, ls, st, h) = mX E gP (mV E gP) 52 b52_75 ls st h := lab_row (mcode_row grw52 rfl) ls st h
theorem en52 {E : mE} (v0 v1 : Value) (h : mH) : mRun E gP 52 [v0, v1] h = mX E gP (mV E gP) 52 b52_0 [some v0, some v1] [] h := ent_row (mcode_row grw52 rfl) gm52 _ h
theorem lb53_0 {E : mE} (ls : mL) (st : List Value) (h : mH) : mV E gP (53, 0, ls, st, h) = mX E gP (mV E gP) 53 b53_0 ls st h := lab_row (mcode_row grw53 rfl) ls st h
theorem lb53_42 {E : mE} (ls : mL) (st : List Value) (h : mH) : mV E gP (53, 42, ls, st, h) = mX E gP (mV E gP) 53 b53_42 ls st h := lab_row (mcode_row grw53 rfl) ls st h
theorem en53 {E : mE} (v0 v1 : Value) (h : mH) : mRun E gP 53 [v0, v1] h = mX E gP (mV E gP) 53 b53_0 [some v0, some v1, none, none, none] [] h := ent_row (mcode_row grw53 rfl) gm53 _ h
theorem lb54_0 {E : mE} (ls : mL) (st : List Value) (h : mH) : mV E gP (54, 0, ls, st, h) = mX E gP (mV E gP) 54 b54_0 ls st h := lab_row (mcode_row grw54 rfl) ls st h
theorem en54 {E : mE} (v0 : Value) (h : mH) : mRun E gP 54 [v0] h = mX E gP (mV E gP) 54 b54_0 [some v0] [] h := ent_row (mcode_row grw54 rfl) gm54 _ h
theorem lb55_0 {E : mE} (ls : mL) (st : List Value) (h : mH) : mV E gP (55, 0, ls, st, h) = mX E gP (mV E gP) 55 b55_0 ls st h := lab_row (mcode_row grw55 rfl) ls st h
theorem lb55_13 {E : mE} (ls : mL) (st : List Value) (h : mH) : mV E gP (55, 13, ls, st, h) = mX E gP (mV E gP) 55 b55_13 ls st h := lab_row (mcode_row grw55 rfl) ls st h
theorem lb55_48 {E : mE} (ls : mL) (st : List Value) (h : mH) : mV E gP (55, 48, ls, st, h) = mX E gP (mV E gP) 55 b55_48 ls st h := lab_row (mcode_row grw55 rfl) ls st h
theorem lb55_63 {E : mE} (ls : mL) (st : List Value) (h : mH) : mV E gP (55, 63, ls, st, h) = mX E gP (mV E gP) 55 b55_63 ls st h := lab_row (mcode_row grw55 rfl) ls st h
theorem lb55_76 {E : mE} (ls : mL) (st : List Value) (h : mH) : mV E gP (55, 76, ls, st, h) = mX E gP (mV E gP) 55 b55_76 ls st h := lab_row (mcode_row grw55 rfl) ls st h
theorem en55 {E : mE} (v0 v1 : Value) (h : mH) : mRun E gP 55 [v0, v1] h = mX E gP (mV E gP) 55 b55_0 [some v0, some v1] [] h := ent_row (mcode_row grw55 rfl) gm55 _ h
theorem lb56_0 {E : mE} (ls : mL) (st : List Value) (h : mH) : mV E gP (56, 0, ls, st, h) = mX E gP (mV E gP) 56 b56_0 ls st h := lab_row (mcode_row grw56 rfl) ls st h
theorem lb56_38 {E : mE} (ls : mL) (st : List Value) (h : mH) : mV E gP (56, 38, ls, st, h) = mX E gP (mV E gP) 56 b56_38 ls st h := lab_row (mcode_row grw56 rfl) ls st h
theorem en56 {E : mE} (v0 v1 : Value) (h : mH) : mRun E gP 56 [v0, v1] h = mX E gP (mV E gP) 56 b56_0 [some v0, some v1, none] [] h := ent_row (mcode_row grw56 rfl) gm56 _ h
theorem lb57_0 {E : mE} (ls : mL) (st : List Value) (h : mH) : mV E gP (57, 0, ls, st, h) = mX E gP (mV E gP) 57 b57_0 ls st h := lab_row (mcode_row grw57 rfl) ls st h
theorem lb57_51 {E : mE} (ls : mL) (st : List Value) (h : mH) : mV E gP (57, 51, ls, st, h) = mX E gP (mV E gP) 57 b57_51 ls st h := lab_row (mcode_row grw57 rfl) ls st h
theorem en57 {E : mE} (v0 v1 : Value) (h : mH) : mRun E gP 57 [v0, v1] h = mX E gP (mV E gP) 57 b57_0 [some v0, some v1, none, none, none, none] [] h := ent_row (mcode_row grw57 rfl) gm57 _ h
theorem lb58_0 {E : mE} (ls : mL) (st : List Value) (h : mH) : mV E gP (58, 0, ls, st, h) = mX E gP (mV E gP) 58 b58_0 ls st h := lab_row (mcode_row grw58 rfl) ls st h
theorem lb58_17 {E : mE} (ls : mL) (st : List Value) (h : mH) : mV E gP (58, 17, ls, st, h) = mX E gP (mV E gP) 58 b58_17 ls st h := lab_row (mcode_row grw58 rfl) ls st h
theorem lb58_18 {E : mE} (ls : mL) (st : List Value) (h : mH) : mV E gP (58, 18, ls, st, h) = mX E gP (mV E gP) 58 b58_18 ls st h := lab_row (mcode_row grw58 rfl) ls st h
theorem en58 {E : mE} (v0 : Value) (h : mH) : mRun E gP 58 [v0] h = mX E gP (mV E gP) 58 b58_0 [some v0] [] h := ent_row (mcode_row grw58 rfl) gm58 _ h
theorem lb59_0 {E : mE} (ls : mL) (st : List Value) (h : mH) : mV E gP (59, 0, ls, st, h) = mX E gP (mV E gP) 59 b59_0 ls st h := lab_row (mcode_row grw59 rfl) ls st h
theorem en59 {E : mE} (v0 : Value) (h : mH) : mRun E gP 59 [v0] h = mX E gP (mV E gP) 59 b59_0 [some v0] [] h := ent_row (mcode_row grw59 rfl) gm59 _ h
theorem lb60_0 {E : mE} (ls : mL) (st : List Value) (h : mH) : mV E gP (60, 0, ls, st, h) = mX E gP (mV E gP) 60 b60_0 ls st h := lab_row (mcode_row grw60 rfl) ls st h
theorem lb60_16 {E : mE} (ls : mL) (st : List Value) (h : mH) : mV E gP (60, 16, ls, st, h) = mX E gP (mV E gP) 60 b60_16 ls st h := lab_row (mcode_row grw60 rfl) ls st h
theorem en60 {E : mE} (v0 v1 : Value) (h : mH) : mRun E gP 60 [v0, v1] h = mX E gP (mV E gP) 60 b60_0 [some v0, some v1] [] h := ent_row (mcode_row grw60 rfl) gm60 _ h
theorem lb61_0 {E : mE} (ls : mL) (st : List Value) (h : mH) : mV E gP (61, 0, ls, st, h) = mX E gP (mV E gP) 61 b61_0 ls st h := lab_row (mcode_row grw61 rfl) ls st h
theorem lb61_7 {E : mE} (ls : mL) (st : List Value) (h : mH) : mV E gP (61, 7, ls, st, h) = mX E gP (mV E gP) 61 b61_7 ls st h := lab_row (mcode_row grw61 rfl) ls st h
theorem lb61_36 {E : mE} (ls : mL) (st : List Value) (h : mH) : mV E gP (61, 36, ls, st, h) = mX E gP (mV E gP) 61 b61_36 ls st h := lab_row (mcode_row grw61 rfl) ls st h
theorem lb61_54 {E : mE} (ls : mL) (st : List Value) (h : mH) : mV E gP (61, 54, ls, st, h) = mX E gP (mV E gP) 61 b61_54 ls st h := lab_row (mcode_row grw61 rfl) ls st h
theorem lb61_55 {E : mE} (ls : mL) (st : List Value) (h : mH) : mV E gP (61, 55, ls, st, h) = mX E gP (mV E gP) 61 b61_55 ls st h := lab_row (mcode_row grw61 rfl) ls st h
theorem en61 {E : mE} (v0 v1 : Value) (h : mH) : mRun E gP 61 [v0, v1] h = mX E gP (mV E gP) 61 b61_0 [some v0, some v1, none] [] h := ent_row (mcode_row grw61 rfl) gm61 _ h
theorem lb62_0 {E : mE} (ls : mL) (st : List Value) (h : mH) : mV E gP (62, 0, ls, st, h) = mX E gP (mV E gP) 62 b62_0 ls st h := lab_row (mcode_row grw62 rfl) ls st h
theorem lb62_33 {E : mE} (ls : mL) (st : List Value) (h : mH) : mV E gP (62, 33, ls, st, h) = mX E gP (mV E gP) 62 b62_33 ls st h := lab_row (mcode_row grw62 rfl) ls st h
theorem lb62_40 {E : mE} (ls : mL) (st : List Value) (h : mH) : mV E gP (62, 40, ls, st, h) = mX E gP (mV E gP) 62 b62_40 ls st h := lab_row (mcode_row grw62 rfl) ls st h
theorem lb62_53 {E : mE} (ls : mL) (st : List Value) (h : mH) : mV E gP (62, 53, ls, st, h) = mX E gP (mV E gP) 62 b62_53 ls st h := lab_row (mcode_row grw62 rfl) ls st h
theorem lb62_58 {E : mE} (ls : mL) (st : List Value) (h : mH) : mV E gP (62, 58, ls, st, h) = mX E gP (mV E gP) 62 b62_58 ls st h := lab_row (mcode_row grw62 rfl) ls st h
theorem en62 {E : mE} (v0 : Value) (h : mH) : mRun E gP 62 [v0] h = mX E gP (mV E gP) 62 b62_0 [some v0, none] [] h := ent_row (mcode_row grw62 rfl) gm62 _ h
theorem lb63_0 {E : mE} (ls : mL) (st : List Value) (h : mH) : mV E gP (63, 0, ls, st, h) = mX E gP (mV E gP) 63 b63_0 ls st h := lab_row (mcode_row grw63 rfl) ls st h
theorem en63 {E : mE} (v0 : Value) (h : mH) : mRun E gP 63 [v0] h = mX E gP (mV E gP) 63 b63_0 [some v0] [] h := ent_row (mcode_row grw63 rfl) gm63 _ h
theorem lb64_0 {E : mE} (ls : mL) (st : List Value) (h : mH) : mV E gP (64, 0, ls, st, h) = mX E gP (mV E gP) 64 b64_0 ls st h := lab_row (mcode_row grw64 rfl) ls st h
theorem en64 {E : mE} (v0 v1 : Value) (h : mH) : mRun E gP 64 [v0, v1] h = mX E gP (mV E gP) 64 b64_0 [some v0, some v1] [] h := ent_row (mcode_row grw64 rfl) gm64 _ h
theorem lb65_0 {E : mE} (ls : mL) (st : List Value) (h : mH) : mV E gP (65, 0, ls, st, h) = mX E gP (mV E gP) 65 b65_0 ls st h := lab_row (mcode_row grw65 rfl) ls st h
theorem lb65_41 {E : mE} (ls : mL) (st : List Value) (h : mH) : mV E gP (65, 41, ls, st, h) = mX E gP (mV E gP) 65 b65_41 ls st h := lab_row (mcode_row grw65 rfl) ls st h
theorem lb65_79 {E : mE} (ls : mL) (st : List Value) (h : mH) : mV E gP (65, 79, ls, st, h) = mX E gP (mV E gP) 65 b65_79 ls st h := lab_row (mcode_row grw65 rfl) ls st h
theorem lb65_97 {E : mE} (ls : mL) (st : List Value) (h : mH) : mV E gP (65, 97, ls, st, h) = mX E gP (mV E gP) 65 b65_97 ls st h := lab_row (mcode_row grw65 rfl) ls st h
theorem en65 {E : mE} (v0 v1 v2 : Value) (h : mH) : mRun E gP 65 [v0, v1, v2] h = mX E gP (mV E gP) 65 b65_0 [some v0, some v1, some v2, none, none] [] h := ent_row (mcode_row grw65 rfl) gm65 _ h
theorem lb66_0 {E : mE} (ls : mL) (st : List Value) (h : mH) : mV E gP (66, 0, ls, st, h) = mX E gP (mV E gP) 66 b66_0 ls st h := lab_row (mcode_row grw66 rfl) ls st h
theorem lb66_17 {E : mE} (ls : mL) (st : List Value) (h : mH) : mV E gP (66, 17, ls, st, h) = mX E gP (mV E gP) 66 b66_17 ls st h := lab_row (mcode_row grw66 rfl) ls st h
theorem lb66_18 {E : mE} (ls : mL) (st : List Value) (h : mH) : mV E gP (66, 18, ls, st, h) = mX E gP (mV E gP) 66 b66_18 ls st h := lab_row (mcode_row grw66 rfl) ls st h
theorem en66 {E : mE} (v0 : Value) (h : mH) : mRun E gP 66 [v0] h = mX E gP (mV E gP) 66 b66_0 [some v0] [] h := ent_row (mcode_row grw66 rfl) gm66 _ h
theorem lb67_0 {E : mE} (ls : mL) (st : List Value) (h : mH) : mV E gP (67, 0, ls, st, h) = mX E gP (mV E gP) 67 b67_0 ls st h := lab_row (mcode_row grw67 rfl) ls st h
theorem lb67_13 {E : mE} (ls : mL) (st : List Value) (h : mH) : mV E gP (67, 13, ls, st, h) = mX E gP (mV E gP) 67 b67_13 ls st h := lab_row (mcode_row grw67 rfl) ls st h
theorem lb67_14 {E : mE} (ls : mL) (st : List Value) (h : mH) : mV E gP (67, 14, ls, st, h) = mX E gP (mV E gP) 67 b67_14 ls st h := lab_row (mcode_row grw67 rfl) ls st h
theorem en67 {E : mE} (v0 : Value) (h : mH) : mRun E gP 67 [v0] h = mX E gP (mV E gP) 67 b67_0 [some v0] [] h := ent_row (mcode_row grw67 rfl) gm67 _ h
theorem lb68_0 {E : mE} (ls : mL) (st : List Value) (h : mH) : mV E gP (68, 0, ls, st, h) = mX E gP (mV E gP) 68 b68_0 ls st h := lab_row (mcode_row grw68 rfl) ls st h
theorem en68 {E : mE} (v0 v1 : Value) (h : mH) : mRun E gP 68 [v0, v1] h = mX E gP (mV E gP) 68 b68_0 [some v0, some v1] [] h := ent_row (mcode_row grw68 rfl) gm68 _ h
theorem lb69_0 {E : mE} (ls : mL) (st : List Value) (h : mH) : mV E gP (69, 0, ls, st, h) = mX E gP (mV E gP) 69 b69_0 ls st h := lab_row (mcode_row grw69 rfl) ls st h
theorem en69 {E : mE} (v0 v1 : Value) (h : mH) : mRun E gP 69 [v0, v1] h = mX E gP (mV E gP) 69 b69_0 [some v0, some v1] [] h := ent_row (mcode_row grw69 rfl) gm69 _ h
theorem lb70_0 {E : mE} (ls : mL) (st : List Value) (h : mH) : mV E gP (70, 0, ls, st, h) = mX E gP (mV E gP) 70 b70_0 ls st h := lab_row (mcode_row grw70 rfl) ls st h
theorem lb70_9 {E : mE} (ls : mL) (st : List Value) (h : mH) : mV E gP (70, 9, ls, st, h) = mX E gP (mV E gP) 70 b70_9 ls st h := lab_row (mcode_row grw70 rfl) ls st h
theorem lb70_26 {E : mE} (ls : mL) (st : List Value) (h : mH) : mV E gP (70, 26, ls, st, h) = mX E gP (mV E gP) 70 b70_26 ls st h := lab_row (mcode_row grw70 rfl) ls st h
theorem lb70_32 {E : mE} (ls : mL) (st : List Value) (h : mH) : mV E gP (70, 32, ls, st, h) = mX E gP (mV E gP) 70 b70_32 ls st h := lab_row (mcode_row grw70 rfl) ls st h
theorem lb70_34 {E : mE} (ls : mL) (st : List Value) (h : mH) : mV E gP (70, 34, ls, st, h) = mX E gP (mV E gP) 70 b70_34 ls st h := lab_row (mcode_row grw70 rfl) ls st h
theorem en70 {E : mE} (v0 v1 : Value) (h : mH) : mRun E gP 70 [v0, v1] h = mX E gP (mV E gP) 70 b70_0 [some v0, some v1, none] [] h := ent_row (mcode_row grw70 rfl) gm70 _ h
theorem lb71_0 {E : mE} (ls : mL) (st : List Value) (h : mH) : mV E gP (71, 0, ls, st, h) = mX E gP (mV E gP) 71 b71_0 ls st h := lab_row (mcode_row grw71 rfl) ls st h
theorem lb71_28 {E : mE} (ls : mL) (st : List Value) (h : mH) : mV E gP (71, 28, ls, st, h) = mX E gP (mV E gP) 71 b71_28 ls st h := lab_row (mcode_row grw71 rfl) ls st h
theorem lb71_32 {E : mE} (ls : mL) (st : List Value) (h : mH) : mV E gP (71, 32, ls, st, h) = mX E gP (mV E gP) 71 b71_32 ls st h := lab_row (mcode_row grw71 rfl) ls st h
theorem lb71_42 {E : mE} (ls : mL) (st : List Value) (h : mH) : mV E gP (71, 42, ls, st, h) = mX E gP (mV E gP) 71 b71_42 ls st h := lab_row (mcode_row grw71 rfl) ls st h
theorem lb71_51 {E : mE} (ls : mL) (st : List Value) (h : mH) : mV E gP (71, 51, ls, st, h) = mX E gP (mV E gP) 71 b71_51 ls st h := lab_row (mcode_row grw71 rfl) ls st h
theorem en71 {E : mE} (v0 : Value) (h : mH) : mRun E gP 71 [v0] h = mX E gP (mV E gP) 71 b71_0 [some v0] [] h := ent_row (mcode_row grw71 rfl) gm71 _ h
theorem lb72_0 {E : mE} (ls : mL) (st : List Value) (h : mH) : mV E gP (72, 0, ls, st, h) = mX E gP (mV E gP) 72 b72_0 ls st h := lab_row (mcode_row grw72 rfl) ls st h
theorem lb72_11 {E : mE} (ls : mL) (st : List Value) (h : mH) : mV E gP (72, 11, ls, st, h) = mX E gP (mV E gP) 72 b72_11 ls st h := lab_row (mcode_row grw72 rfl) ls st h
theorem lb72_12 {E : mE} (ls : mL) (st : List Value) (h : mH) : mV E gP (72, 12, ls, st, h) = mX E gP (mV E gP) 72 b72_12 ls st h := lab_row (mcode_row grw72 rfl) ls st h
theorem en72 {E : mE} (v0 : Value) (h : mH) : mRun E gP 72 [v0] h = mX E gP (mV E gP) 72 b72_0 [some v0] [] h := ent_row (mcode_row grw72 rfl) gm72 _ h
theorem lb73_0 {E : mE} (ls : mL) (st : List Value) (h : mH) : mV E gP (73, 0, ls, st, h) = mX E gP (mV E gP) 73 b73_0 ls st h := lab_row (mcode_row grw73 rfl) ls st h
theorem en73 {E : mE} (v0 v1 v2 v3 v4 : Value) (h : mH) : mRun E gP 73 [v0, v1, v2, v3, v4] h = mX E gP (mV E gP) 73 b73_0 [some v0, some v1, some v2, some v3, some v4] [] h := ent_row (mcode_row grw73 rfl) gm73 _ h
theorem lb74_0 {E : mE} (ls : mL) (st : List Value) (h : mH) : mV E gP (74, 0, ls, st, h) = mX E gP (mV E gP) 74 b74_0 ls st h := lab_row (mcode_row grw74 rfl) ls st h
theorem lb74_36 {E : mE} (ls : mL) (st : List Value) (h : mH) : mV E gP (74, 36, ls, st, h) = mX E gP (mV E gP) 74 b74_36 ls st h := lab_row (mcode_row grw74 rfl) ls st h
theorem lb74_41 {E : mE} (ls : mL) (st : List Value) (h : mH) : mV E gP (74, 41, ls, st, h) = mX E gP (mV E gP) 74 b74_41 ls st h := lab_row (mcode_row grw74 rfl) ls st h
theorem lb74_60 {E : mE} (ls : mL) (st : List Value) (h : mH) : mV E gP (74, 60, ls, st, h) = mX E gP (mV E gP) 74 b74_60 ls st h := lab_row (mcode_row grw74 rfl) ls st h
theorem en74 {E : mE} (v0 v1 v2 v3 v4 : Value) (h : mH) : mRun E gP 74 [v0, v1, v2, v3, v4] h = mX E gP (mV E gP) 74 b74_0 [some v0, some v1, some v2, some v3, some v4] [] h := ent_row (mcode_row grw74 rfl) gm74 _ h
theorem lb75_0 {E : mE} (ls : mL) (st : List Value) (h : mH) : mV E gP (75, 0, ls, st, h) = mX E gP (mV E gP) 75 b75_0 ls st h := lab_row (mcode_row grw75 rfl) ls st h
theorem lb75_23 {E : mE} (ls : mL) (st : List Value) (h : mH) : mV E gP (75, 23, ls, st, h) = mX E gP (mV E gP) 75 b75_23 ls st h := lab_row (mcode_row grw75 rfl) ls st h
theorem lb75_196 {E : mE} (ls : mL) (st : List Value) (h : mH) : mV E gP (75, 196, ls, st, h) = mX E gP (mV E gP) 75 b75_196 ls st h := lab_row (mcode_row grw75 rfl) ls st h
theorem lb75_232 {E : mE} (ls : mL) (st : List Value) (h : mH) : mV E gP (75, 232, ls, st, h) = mX E gP (mV E gP) 75 b75_232 ls st h := lab_row (mcode_row grw75 rfl) ls st h
theorem lb75_249 {E : mE} (ls : mL) (st : List Value) (h : mH) : mV E gP (75, 249, ls, st, h) = mX E gP (mV E gP) 75 b75_249 ls st h := lab_row (mcode_row grw75 rfl) ls st h
theorem lb75_252 {E : mE} (ls : mL) (st : List Value) (h : mH) : mV E gP (75, 252, ls, st, h) = mX E gP (mV E gP) 75 b75_252 ls st h := lab_row (mcode_row grw75 rfl) ls st h
theorem lb75_288 {E : mE} (ls : mL) (st : List Value) (h : mH) : mV E gP (75, 288, ls, st, h) = mX E gP (mV E gP) 75 b75_288 ls st h := lab_row (mcode_row grw75 rfl) ls st h
theorem lb75_305 {E : mE} (ls : mL) (st : List Value) (h : mH) : mV E gP (75, 305, ls, st, h) = mX E gP (mV E gP) 75 b75_305 ls st h := lab_row (mcode_row grw75 rfl) ls st h
theorem lb75_308 {E : mE} (ls : mL) (st : List Value) (h : mH) : mV E gP (75, 308, ls, st, h) = mX E gP (mV E gP) 75 b75_308 ls st h := lab_row (mcode_row grw75 rfl) ls st h
theorem lb75_321 {E : mE} (ls : mL) (st : List Value) (h : mH) : mV E gP (75, 321, ls, st, h) = mX E gP (mV E gP) 75 b75_321 ls st h := lab_row (mcode_row grw75 rfl) ls st h
theorem lb75_334 {E : mE} (ls : mL) (st : List Value) (h : mH) : mV E gP (75, 334, ls, st, h) = mX E gP (mV E gP) 75 b75_334 ls st h := lab_row (mcode_row grw75 rfl) ls st h
theorem lb75_347 {E : mE} (ls : mL) (st : List Value) (h : mH) : mV E gP (75, 347, ls, st, h) = mX E gP (mV E gP) 75 b75_347 ls st h := lab_row (mcode_row grw75 rfl) ls st h
theorem lb75_360 {E : mE} (ls : mL) (st : List Value) (h : mH) : mV E gP (75, 360, ls, st, h) = mX E gP (mV E gP) 75 b75_360 ls st h := lab_row (mcode_row grw75 rfl) ls st h
theorem lb75_396 {E : mE} (ls : mL) (st : List Value) (h : mH) : mV E gP (75, 396, ls, st, h) = mX E gP (mV E gP) 75 b75_396 ls st h := lab_row (mcode_row grw75 rfl) ls st h
theorem lb75_413 {E : mE} (ls : mL) (st : List Value) (h : mH) : mV E gP (75, 413, ls, st, h) = mX E gP (mV E gP) 75 b75_413 ls st h := lab_row (mcode_row grw75 rfl) ls st h
theorem lb75_416 {E : mE} (ls : mL) (st : List Value) (h : mH) : mV E gP (75, 416, ls, st, h) = mX E gP (mV E gP) 75 b75_416 ls st h := lab_row (mcode_row grw75 rfl) ls st h
theorem lb75_452 {E : mE} (ls : mL) (st : List Value) (h : mH) : mV E gP (75, 452, ls, st, h) = mX E gP (mV E gP) 75 b75_452 ls st h := lab_row (mcode_row grw75 rfl) ls st h
theorem lb75_469 {E : mE} (ls : mL) (st : List Value) (h : mH) : mV E gP (75, 469, ls, st, h) = mX E gP (mV E gP) 75 b75_469 ls st h := lab_row (mcode_row grw75 rfl) ls st h
theorem lb75_472 {E : mE} (ls : mL) (st : List Value) (h : mH) : mV E gP (75, 472, ls, st, h) = mX E gP (mV E gP) 75 b75_472 ls st h := lab_row (mcode_row grw75 rfl) ls st h
theorem lb75_520 {E : mE} (ls : mL) (st : List Value) (h : mH) : mV E gP (75, 520, ls, st, h) = mX E gP (mV E gP) 75 b75_520 ls st h := lab_row (mcode_row grw75 rfl) ls st h
theorem lb75_537 {E : mE} (ls : mL) (st : List Value) (h : mH) : mV E gP (75, 537, ls, st, h) = mX E gP (mV E gP) 75 b75_537 ls st h := lab_row (mcode_row grw75 rfl) ls st h
theorem lb75_540 {E : mE} (ls : mL) (st : List Value) (h : mH) : mV E gP (75, 540, ls, st, h) = mX E gP (mV E gP) 75 b75_540 ls st h := lab_row (mcode_row grw75 rfl) ls st h
theorem lb75_588 {E : mE} (ls : mL) (st : List Value) (h : mH) : mV E gP (75, 588, ls, st, h) = mX E gP (mV E gP) 75 b75_588 ls st h := lab_row (mcode_row grw75 rfl) ls st h
theorem lb75_605 {E : mE} (ls : mL) (st : List Value) (h : mH) : mV E gP (75, 605, ls, st, h) = mX E gP (mV E gP) 75 b75_605 ls st h := lab_row (mcode_row grw75 rfl) ls st h
theorem lb75_608 {E : mE} (ls : mL) (st : List Value) (h : mH) : mV E gP (75, 608, ls, st, h) = mX E gP (mV E gP) 75 b75_608 ls st h := lab_row (mcode_row grw75 rfl) ls st h
theorem lb75_656 {E : mE} (ls : mL) (st : List Value) (h : mH) : mV E gP (75, 656, ls, st, h) = mX E gP (mV E gP) 75 b75_656 ls st h := lab_row (mcode_row grw75 rfl) ls st h
theorem lb75_673 {E : mE} (ls : mL) (st : List Value) (h : mH) : mV E gP (75, 673, ls, st, h) = mX E gP (mV E gP) 75 b75_673 ls st h := lab_row (mcode_row grw75 rfl) ls st h
theorem lb75_676 {E : mE} (ls : mL) (st : List Value) (h : mH) : mV E gP (75, 676, ls, st, h) = mX E gP (mV E gP) 75 b75_676 ls st h := lab_row (mcode_row grw75 rfl) ls st h
theorem lb75_724 {E : mE} (ls : mL) (st : List Value) (h : mH) : mV E gP (75, 724, ls, st, h) = mX E gP (mV E gP) 75 b75_724 ls st h := lab_row (mcode_row grw75 rfl) ls st h
theorem lb75_741 {E : mE} (ls : mL) (st : List Value) (h : mH) : mV E gP (75, 741, ls, st, h) = mX E gP (mV E gP) 75 b75_741 ls st h := lab_row (mcode_row grw75 rfl) ls st h
theorem lb75_744 {E : mE} (ls : mL) (st : List Value) (h : mH) : mV E gP (75, 744, ls, st, h) = mX E gP (mV E gP) 75 b75_744 ls st h := lab_row (mcode_row grw75 rfl) ls st h
theorem lb75_792 {E : mE} (ls : mL) (st : List Value) (h : mH) : mV E gP (75, 792, ls, st, h) = mX E gP (mV E gP) 75 b75_792 ls st h := lab_row (mcode_row grw75 rfl) ls st h
theorem lb75_809 {E : mE} (ls : mL) (st : List Value) (h : mH) : mV E gP (75, 809, ls, st, h) = mX E gP (mV E gP) 75 b75_809 ls st h := lab_row (mcode_row grw75 rfl) ls st h
theorem lb75_812 {E : mE} (ls : mL) (st : List Value) (h : mH) : mV E gP (75, 812, ls, st, h) = mX E gP (mV E gP) 75 b75_812 ls st h := lab_row (mcode_row grw75 rfl) ls st h
theorem lb75_860 {E : mE} (ls : mL) (st : List Value) (h : mH) : mV E gP (75, 860, ls, st, h) = mX E gP (mV E gP) 75 b75_860 ls st h := lab_row (mcode_row grw75 rfl) ls st h
theorem lb75_877 {E : mE} (ls : mL) (st : List Value) (h : mH) : mV E gP (75, 877, ls, st, h) = mX E gP (mV E gP) 75 b75_877 ls st h := lab_row (mcode_row grw75 rfl) ls st h
theorem lb75_880 {E : mE} (ls : mL) (st : List Value) (h : mH) : mV E gP (75, 880, ls, st, h) = mX E gP (mV E gP) 75 b75_880 ls st h := lab_row (mcode_row grw75 rfl) ls st h
theorem lb75_928 {E : mE} (ls : mL) (st : List Value) (h : mH) : mV E gP (75, 928, ls, st, h) = mX E gP (mV E gP) 75 b75_928 ls st h := lab_row (mcode_row grw75 rfl) ls st h
theorem lb75_945 {E : mE} (ls : mL) (st : List Value) (h : mH) : mV E gP (75, 945, ls, st, h) = mX E gP (mV E gP) 75 b75_945 ls st h := lab_row (mcode_row grw75 rfl) ls st h
theorem lb75_948 {E : mE} (ls : mL) (st : List Value) (h : mH) : mV E gP (75, 948, ls, st, h) = mX E gP (mV E gP) 75 b75_948 ls st h := lab_row (mcode_row grw75 rfl) ls st h
theorem lb75_961 {E : mE} (ls : mL) (st : List Value) (h : mH) : mV E gP (75, 961, ls, st, h) = mX E gP (mV E gP) 75 b75_961 ls st h := lab_row (mcode_row grw75 rfl) ls st h
theorem lb75_999 {E : mE} (ls : mL) (st : List Value) (h : mH) : mV E gP (75, 999, ls, st, h) = mX E gP (mV E gP) 75 b75_999 ls st h := lab_row (mcode_row grw75 rfl) ls st h
theorem lb75_1001 {E : mE} (ls : mL) (st : List Value) (h : mH) : mV E gP (75, 1001, ls, st, h) = mX E gP (mV E gP) 75 b75_1001 ls st h := lab_row (mcode_row grw75 rfl) ls st h
theorem lb75_1004 {E : mE} (ls : mL) (st : List Value) (h : mH) : mV E gP (75, 1004, ls, st, h) = mX E gP (mV E gP) 75 b75_1004 ls st h := lab_row (mcode_row grw75 rfl) ls st h
theorem lb75_1040 {E : mE} (ls : mL) (st : List Value) (h : mH) : mV E gP (75, 1040, ls, st, h) = mX E gP (mV E gP) 75 b75_1040 ls st h := lab_row (mcode_row grw75 rfl) ls st h
theorem lb75_1042 {E : mE} (ls : mL) (st : List Value) (h : mH) : mV E gP (75, 1042, ls, st, h) = mX E gP (mV E gP) 75 b75_1042 ls st h := lab_row (mcode_row grw75 rfl) ls st h
theorem lb75_1045 {E : mE} (ls : mL) (st : List Value) (h : mH) : mV E gP (75, 1045, ls, st, h) = mX E gP (mV E gP) 75 b75_1045 ls st h := lab_row (mcode_row grw75 rfl) ls st h
theorem lb75_1093 {E : mE} (ls : mL) (st : List Value) (h : mH) : mV E gP (75, 1093, ls, st, h) = mX E gP (mV E gP) 75 b75_1093 ls st h := lab_row (mcode_row grw75 rfl) ls st h
theorem lb75_1110 {E : mE} (ls : mL) (st : List Value) (h : mH) : mV E gP (75, 1110, ls, st, h) = mX E gP (mV E gP) 75 b75_1110 ls st h := lab_row (mcode_row grw75 rfl) ls st h
theorem lb75_1111 {E : mE} (ls : mL) (st : List Value) (h : mH) : mV E gP (75, 1111, ls, st, h) = mX E gP (mV E gP) 75 b75_1111 ls st h := lab_row (mcode_row grw75 rfl) ls st h
theorem lb75_1117 {E : mE} (ls : mL) (st : List Value) (h : mH) : mV E gP (75, 1117, ls, st, h) = mX E gP (mV E gP) 75 b75_1117 ls st h := lab_row (mcode_row grw75 rfl) ls st h
theorem lb75_1120 {E : mE} (ls : mL) (st : List Value) (h : mH) : mV E gP (75, 1120, ls, st, h) = mX E gP (mV E gP) 75 b75_1120 ls st h := lab_row (mcode_row grw75 rfl) ls st h
theorem lb75_1156 {E : mE} (ls : mL) (st : List Value) (h : mH) : mV E gP (75, 1156, ls, st, h) = mX E gP (mV E gP) 75 b75_1156 ls st h := lab_row (mcode_row grw75 rfl) ls st h
theorem lb75_1173 {E : mE} (ls : mL) (st : List Value) (h : mH) : mV E gP (75, 1173, ls, st, h) = mX E gP (mV E gP) 75 b75_1173 ls st h := lab_row (mcode_row grw75 rfl) ls st h
theorem lb75_1176 {E : mE} (ls : mL) (st : List Value) (h : mH) : mV E gP (75, 1176, ls, st, h) = mX E gP (mV E gP) 75 b75_1176 ls st h := lab_row (mcode_row grw75 rfl) ls st h
theorem lb75_1224 {E : mE} (ls : mL) (st : List Value) (h : mH) : mV E gP (75, 1224, ls, st, h) = mX E gP (mV E gP) 75 b75_1224 ls st h := lab_row (mcode_row grw75 rfl) ls st h
theorem lb75_1241 {E : mE} (ls : mL) (st : List Value) (h : mH) : mV E gP (75, 1241, ls, st, h) = mX E gP (mV E gP) 75 b75_1241 ls st h := lab_row (mcode_row grw75 rfl) ls st h
theorem lb75_1244 {E : mE} (ls : mL) (st : List Value) (h : mH) : mV E gP (75, 1244, ls, st, h) = mX E gP (mV E gP) 75 b75_1244 ls st h := lab_row (mcode_row grw75 rfl) ls st h
theorem lb75_1292 {E : mE} (ls : mL) (st : List Value) (h : mH) : mV E gP (75, 1292, ls, st, h) = mX E gP (mV E gP) 75 b75_1292 ls st h := lab_row (mcode_row grw75 rfl) ls st h
theorem lb75_1309 {E : mE} (ls : mL) (st : List Value) (h : mH) : mV E gP (75, 1309, ls, st, h) = mX E gP (mV E gP) 75 b75_1309 ls st h := lab_row (mcode_row grw75 rfl) ls st h
theorem lb75_1312 {E : mE} (ls : mL) (st : List Value) (h : mH) : mV E gP (75, 1312, ls, st, h) = mX E gP (mV E gP) 75 b75_1312 ls st h := lab_row (mcode_row grw75 rfl) ls st h
theorem lb75_1360 {E : mE} (ls : mL) (st : List Value) (h : mH) : mV E gP (75, 1360, ls, st, h) = mX E gP (mV E gP) 75 b75_1360 ls st h := lab_row (mcode_row grw75 rfl) ls st h
theorem lb75_1377 {E : mE} (ls : mL) (st : List Value) (h : mH) : mV E gP (75, 1377, ls, st, h) = mX E gP (mV E gP) 75 b75_1377 ls st h := lab_row (mcode_row grw75 rfl) ls st h
theorem lb75_1380 {E : mE} (ls : mL) (st : List Value) (h : mH) : mV E gP (75, 1380, ls, st, h) = mX E gP (mV E gP) 75 b75_1380 ls st h := lab_row (mcode_row grw75 rfl) ls st h
theorem lb75_1428 {E : mE} (ls : mL) (st : List Value) (h : mH) : mV E gP (75, 1428, ls, st, h) = mX E gP (mV E gP) 75 b75_1428 ls st h := lab_row (mcode_row grw75 rfl) ls st h
theorem lb75_1445 {E : mE} (ls : mL) (st : List Value) (h : mH) : mV E gP (75, 1445, ls, st, h) = mX E gP (mV E gP) 75 b75_1445 ls st h := lab_row (mcode_row grw75 rfl) ls st h
theorem lb75_1448 {E : mE} (ls : mL) (st : List Value) (h : mH) : mV E gP (75, 1448, ls, st, h) = mX E gP (mV E gP) 75 b75_1448 ls st h := lab_row (mcode_row grw75 rfl) ls st h
theorem lb75_1484 {E : mE} (ls : mL) (st : List Value) (h : mH) : mV E gP (75, 1484, ls, st, h) = mX E gP (mV E gP) 75 b75_1484 ls st h := lab_row (mcode_row grw75 rfl) ls st h
theorem lb75_1501 {E : mE} (ls : mL) (st : List Value) (h : mH) : mV E gP (75, 1501, ls, st, h) = mX E gP (mV E gP) 75 b75_1501 ls st h := lab_row (mcode_row grw75 rfl) ls st h
theorem lb75_1504 {E : mE} (ls : mL) (st : List Value) (h : mH) : mV E gP (75, 1504, ls, st, h) = mX E gP (mV E gP) 75 b75_1504 ls st h := lab_row (mcode_row grw75 rfl) ls st h
theorem lb75_1540 {E : mE} (ls : mL) (st : List Value) (h : mH) : mV E gP (75, 1540, ls, st, h) = mX E gP (mV E gP) 75 b75_1540 ls st h := lab_row (mcode_row grw75 rfl) ls st h
theorem lb75_1557 {E : mE} (ls : mL) (st : List Value) (h : mH) : mV E gP (75, 1557, ls, st, h) = mX E gP (mV E gP) 75 b75_1557 ls st h := lab_row (mcode_row grw75 rfl) ls st h
theorem lb75_1560 {E : mE} (ls : mL) (st : List Value) (h : mH) : mV E gP (75, 1560, ls, st, h) = mX E gP (mV E gP) 75 b75_1560 ls st h := lab_row (mcode_row grw75 rfl) ls st h
theorem lb75_1608 {E : mE} (ls : mL) (st : List Value) (h : mH) : mV E gP (75, 1608, ls, st, h) = mX E gP (mV E gP) 75 b75_1608 ls st h := lab_row (mcode_row grw75 rfl) ls st h
theorem lb75_1625 {E : mE} (ls : mL) (st : List Value) (h : mH) : mV E gP (75, 1625, ls, st, h) = mX E gP (mV E gP) 75 b75_1625 ls st h := lab_row (mcode_row grw75 rfl) ls st h
theorem lb75_1628 {E : mE} (ls : mL) (st : List Value) (h : mH) : mV E gP (75, 1628, ls, st, h) = mX E gP (mV E gP) 75 b75_1628 ls st h := lab_row (mcode_row grw75 rfl) ls st h
theorem lb75_1676 {E : mE} (ls : mL) (st : List Value) (h : mH) : mV E gP (75, 1676, ls, st, h) = mX E gP (mV E gP) 75 b75_1676 ls st h := lab_row (mcode_row grw75 rfl) ls st h
theorem lb75_1693 {E : mE} (ls : mL) (st : List Value) (h : mH) : mV E gP (75, 1693, ls, st, h) = mX E gP (mV E gP) 75 b75_1693 ls st h := lab_row (mcode_row grw75 rfl) ls st h
theorem lb75_1696 {E : mE} (ls : mL) (st : List Value) (h : mH) : mV E gP (75, 1696, ls, st, h) = mX E gP (mV E gP) 75 b75_1696 ls st h := lab_row (mcode_row grw75 rfl) ls st h
theorem lb75_1756 {E : mE} (ls : mL) (st : List Value) (h : mH) : mV E gP (75, 1756, ls, st, h) = mX E gP (mV E gP) 75 b75_1756 ls st h := lab_row (mcode_row grw75 rfl) ls st h
theorem lb75_1773 {E : mE} (ls : mL) (st : List Value) (h : mH) : mV E gP (75, 1773, ls, st, h) = mX E gP (mV E gP) 75 b75_1773 ls st h := lab_row (mcode_row grw75 rfl) ls st h
theorem lb75_1776 {E : mE} (ls : mL) (st : List Value) (h : mH) : mV E gP (75, 1776, ls, st, h) = mX E gP (mV E gP) 75 b75_1776 ls st h := lab_row (mcode_row grw75 rfl) ls st h
theorem lb75_1824 {E : mE} (ls : mL) (st : List Value) (h : mH) : mV E gP (75, 1824, ls, st, h) = mX E gP (mV E gP) 75 b75_1824 ls st h := lab_row (mcode_row grw75 rfl) ls st h
theorem lb75_1841 {E : mE} (ls : mL) (st : List Value) (h : mH) : mV E gP (75, 1841, ls, st, h) = mX E gP (mV E gP) 75 b75_1841 ls st h := lab_row (mcode_row grw75 rfl) ls st h
theorem lb75_1844 {E : mE} (ls : mL) (st : List Value) (h : mH) : mV E gP (75, 1844, ls, st, h) = mX E gP (mV E gP) 75 b75_1844 ls st h := lab_row (mcode_row grw75 rfl) ls st h
theorem lb75_1880 {E : mE} (ls : mL) (st : List Value) (h : mH) : mV E gP (75, 1880, ls, st, h) = mX E gP (mV E gP) 75 b75_1880 ls st h := lab_row (mcode_row grw75 rfl) ls st h
theorem lb75_1897 {E : mE} (ls : mL) (st : List Value) (h : mH) : mV E gP (75, 1897, ls, st, h) = mX E gP (mV E gP) 75 b75_1897 ls st h := lab_row (mcode_row grw75 rfl) ls st h
theorem lb75_1900 {E : mE} (ls : mL) (st : List Value) (h : mH) : mV E gP (75, 1900, ls, st, h) = mX E gP (mV E gP) 75 b75_1900 ls st h := lab_row (mcode_row grw75 rfl) ls st h
theorem lb75_1936 {E : mE} (ls : mL) (st : List Value) (h : mH) : mV E gP (75, 1936, ls, st, h) = mX E gP (mV E gP) 75 b75_1936 ls st h := lab_row (mcode_row grw75 rfl) ls st h
theorem lb75_1953 {E : mE} (ls : mL) (st : List Value) (h : mH) : mV E gP (75, 1953, ls, st, h) = mX E gP (mV E gP) 75 b75_1953 ls st h := lab_row (mcode_row grw75 rfl) ls st h
theorem lb75_1956 {E : mE} (ls : mL) (st : List Value) (h : mH) : mV E gP (75, 1956, ls, st, h) = mX E gP (mV E gP) 75 b75_1956 ls st h := lab_row (mcode_row grw75 rfl) ls st h
theorem lb75_1981 {E : mE} (ls : mL) (st : List Value) (h : mH) : mV E gP (75, 1981, ls, st, h) = mX E gP (mV E gP) 75 b75_1981 ls st h := lab_row (mcode_row grw75 rfl) ls st h
theorem lb75_1994 {E : mE} (ls : mL) (st : List Value) (h : mH) : mV E gP (75, 1994, ls, st, h) = mX E gP (mV E gP) 75 b75_1994 ls st h := lab_row (mcode_row grw75 rfl) ls st h
theorem lb75_2027 {E : mE} (ls : mL) (st : List Value) (h : mH) : mV E gP (75, 2027, ls, st, h) = mX E gP (mV E gP) 75 b75_2027 ls st h := lab_row (mcode_row grw75 rfl) ls st h
theorem lb75_2030 {E : mE} (ls : mL) (st : List Value) (h : mH) : mV E gP (75, 2030, ls, st, h) = mX E gP (mV E gP) 75 b75_2030 ls st h := lab_row (mcode_row grw75 rfl) ls st h
theorem lb75_2063 {E : mE} (ls : mL) (st : List Value) (h : mH) : mV E gP (75, 2063, ls, st, h) = mX E gP (mV E gP) 75 b75_2063 ls st h := lab_row (mcode_row grw75 rfl) ls st h
theorem lb75_2066 {E : mE} (ls : mL) (st : List Value) (h : mH) : mV E gP (75, 2066, ls, st, h) = mX E gP (mV E gP) 75 b75_2066 ls st h := lab_row (mcode_row grw75 rfl) ls st h
theorem lb75_2072 {E : mE} (ls : mL) (st : List Value) (h : mH) : mV E gP (75, 2072, ls, st, h) = mX E gP (mV E gP) 75 b75_2072 ls st h := lab_row (mcode_row grw75 rfl) ls st h
theorem en75 {E : mE} (v0 : Value) (h : mH) : mRun E gP 75 [v0] h = mX E gP (mV E gP) 75 b75_0 [some v0, none, none, none, none, none, none, none, none] [] h := ent_row (mcode_row grw75 rfl) gm75 _ h
theorem lb76_0 {E : mE} (ls : mL) (st : List Value) (h : mH) : mV E gP (76, 0, ls, st, h) = mX E gP (mV E gP) 76 b76_0 ls st h := lab_row (mcode_row grw76 rfl) ls st h
theorem lb76_12 {E : mE} (ls : mL) (st : List Value) (h : mH) : mV E gP (76, 12, ls, st, h) = mX E gP (mV E gP) 76 b76_12 ls st h := lab_row (mcode_row grw76 rfl) ls st h
theorem lb76_15 {E : mE} (ls : mL) (st : List Value) (h : mH) : mV E gP (76, 15, ls, st, h) = mX E gP (mV E gP) 76 b76_15 ls st h := lab_row (mcode_row grw76 rfl) ls st h
theorem en76 {E : mE} (v0 v1 v2 : Value) (h : mH) : mRun E gP 76 [v0, v1, v2] h = mX E gP (mV E gP) 76 b76_0 [some v0, some v1, some v2, none] [] h := ent_row (mcode_row grw76 rfl) gm76 _ h
theorem lb77_0 {E : mE} (ls : mL) (st : List Value) (h : mH) : mV E gP (77, 0, ls, st, h) = mX E gP (mV E gP) 77 b77_0 ls st h := lab_row (mcode_row grw77 rfl) ls st h
theorem lb77_12 {E : mE} (ls : mL) (st : List Value) (h : mH) : mV E gP (77, 12, ls, st, h) = mX E gP (mV E gP) 77 b77_12 ls st h := lab_row (mcode_row grw77 rfl) ls st h
theorem lb77_15 {E : mE} (ls : mL) (st : List Value) (h : mH) : mV E gP (77, 15, ls, st, h) = mX E gP (mV E gP) 77 b77_15 ls st h := lab_row (mcode_row grw77 rfl) ls st h
theorem en77 {E : mE} (v0 v1 v2 : Value) (h : mH) : mRun E gP 77 [v0, v1, v2] h = mX E gP (mV E gP) 77 b77_0 [some v0, some v1, some v2, none] [] h := ent_row (mcode_row grw77 rfl) gm77 _ h
theorem lb78_0 {E : mE} (ls : mL) (st : List Value) (h : mH) : mV E gP (78, 0, ls, st, h) = mX E gP (mV E gP) 78 b78_0 ls st h := lab_row (mcode_row grw78 rfl) ls st h
theorem lb78_12 {E : mE} (ls : mL) (st : List Value) (h : mH) : mV E gP (78, 12, ls, st, h) = mX E gP (mV E gP) 78 b78_12 ls st h := lab_row (mcode_row grw78 rfl) ls st h
theorem lb78_15 {E : mE} (ls : mL) (st : List Value) (h : mH) : mV E gP (78, 15, ls, st, h) = mX E gP (mV E gP) 78 b78_15 ls st h := lab_row (mcode_row grw78 rfl) ls st h
theorem en78 {E : mE} (v0 v1 v2 : Value) (h : mH) : mRun E gP 78 [v0, v1, v2] h = mX E gP (mV E gP) 78 b78_0 [some v0, some v1, some v2, none] [] h := ent_row (mcode_row grw78 rfl) gm78 _ h
theorem lb79_0 {E : mE} (ls : mL) (st : List Value) (h : mH) : mV E gP (79, 0, ls, st, h) = mX E gP (mV E gP) 79 b79_0 ls st h := lab_row (mcode_row grw79 rfl) ls st h
theorem lb79_12 {E : mE} (ls : mL) (st : List Value) (h : mH) : mV E gP (79, 12, ls, st, h) = mX E gP (mV E gP) 79 b79_12 ls st h := lab_row (mcode_row grw79 rfl) ls st h
theorem lb79_15 {E : mE} (ls : mL) (st : List Value) (h : mH) : mV E gP (79, 15, ls, st, h) = mX E gP (mV E gP) 79 b79_15 ls st h := lab_row (mcode_row grw79 rfl) ls st h
theorem en79 {E : mE} (v0 v1 v2 : Value) (h : mH) : mRun E gP 79 [v0, v1, v2] h = mX E gP (mV E gP) 79 b79_0 [some v0, some v1, some v2, none] [] h := ent_row (mcode_row grw79 rfl) gm79 _ h
theorem lb80_0 {E : mE} (ls : mL) (st : List Value) (h : mH) : mV E gP (80, 0, ls, st, h) = mX E gP (mV E gP) 80 b80_0 ls st h := lab_row (mcode_row grw80 rfl) ls st h
theorem lb80_13 {E : mE} (ls : mL) (st : List Value) (h : mH) : mV E gP (80, 13, ls, st, h) = mX E gP (mV E gP) 80 b80_13 ls st h := lab_row (mcode_row grw80 rfl) ls st h
theorem lb80_17 {E : mE} (ls : mL) (st : List Value) (h : mH) : mV E gP (80, 17, ls, st, h) = mX E gP (mV E gP) 80 b80_17 ls st h := lab_row (mcode_row grw80 rfl) ls st h
theorem lb80_21 {E : mE} (ls : mL) (st : List Value) (h : mH) : mV E gP (80, 21, ls, st, h) = mX E gP (mV E gP) 80 b80_21 ls st h := lab_row (mcode_row grw80 rfl) ls st h
theorem en80 {E : mE} (v0 v1 v2 v3 : Value) (h : mH) : mRun E gP 80 [v0, v1, v2, v3] h = mX E gP (mV E gP) 80 b80_0 [some v0, some v1, some v2, some v3, none] [] h := ent_row (mcode_row grw80 rfl) gm80 _ h
theorem lb81_0 {E : mE} (ls : mL) (st : List Value) (h : mH) : mV E gP (81, 0, ls, st, h) = mX E gP (mV E gP) 81 b81_0 ls st h := lab_row (mcode_row grw81 rfl) ls st h
theorem lb81_13 {E : mE} (ls : mL) (st : List Value) (h : mH) : mV E gP (81, 13, ls, st, h) = mX E gP (mV E gP) 81 b81_13 ls st h := lab_row (mcode_row grw81 rfl) ls st h
theorem lb81_17 {E : mE} (ls : mL) (st : List Value) (h : mH) : mV E gP (81, 17, ls, st, h) = mX E gP (mV E gP) 81 b81_17 ls st h := lab_row (mcode_row grw81 rfl) ls st h
theorem lb81_21 {E : mE} (ls : mL) (st : List Value) (h : mH) : mV E gP (81, 21, ls, st, h) = mX E gP (mV E gP) 81 b81_21 ls st h := lab_row (mcode_row grw81 rfl) ls st h
theorem en81 {E : mE} (v0 v1 v2 v3 : Value) (h : mH) : mRun E gP 81 [v0, v1, v2, v3] h = mX E gP (mV E gP) 81 b81_0 [some v0, some v1, some v2, some v3, none] [] h := ent_row (mcode_row grw81 rfl) gm81 _ h
theorem lb82_0 {E : mE} (ls : mL) (st : List Value) (h : mH) : mV E gP (82, 0, ls, st, h) = mX E gP (mV E gP) 82 b82_0 ls st h := lab_row (mcode_row grw82 rfl) ls st h
theorem lb82_13 {E : mE} (ls : mL) (st : List Value) (h : mH) : mV E gP (82, 13, ls, st, h) = mX E gP (mV E gP) 82 b82_13 ls st h := lab_row (mcode_row grw82 rfl) ls st h
theorem lb82_17 {E : mE} (ls : mL) (st : List Value) (h : mH) : mV E gP (82, 17, ls, st, h) = mX E gP (mV E gP) 82 b82_17 ls st h := lab_row (mcode_row grw82 rfl) ls st h
theorem lb82_21 {E : mE} (ls : mL) (st : List Value) (h : mH) : mV E gP (82, 21, ls, st, h) = mX E gP (mV E gP) 82 b82_21 ls st h := lab_row (mcode_row grw82 rfl) ls st h
theorem en82 {E : mE} (v0 v1 v2 v3 : Value) (h : mH) : mRun E gP 82 [v0, v1, v2, v3] h = mX E gP (mV E gP) 82 b82_0 [some v0, some v1, some v2, some v3, none] [] h := ent_row (mcode_row grw82 rfl) gm82 _ h
theorem lb83_0 {E : mE} (ls : mL) (st : List Value) (h : mH) : mV E gP (83, 0, ls, st, h) = mX E gP (mV E gP) 83 b83_0 ls st h := lab_row (mcode_row grw83 rfl) ls st h
theorem lb83_13 {E : mE} (ls : mL) (st : List Value) (h : mH) : mV E gP (83, 13, ls, st, h) = mX E gP (mV E gP) 83 b83_13 ls st h := lab_row (mcode_row grw83 rfl) ls st h
theorem lb83_17 {E : mE} (ls : mL) (st : List Value) (h : mH) : mV E gP (83, 17, ls, st, h) = mX E gP (mV E gP) 83 b83_17 ls st h := lab_row (mcode_row grw83 rfl) ls st h
theorem lb83_21 {E : mE} (ls : mL) (st : List Value) (h : mH) : mV E gP (83, 21, ls, st, h) = mX E gP (mV E gP) 83 b83_21 ls st h := lab_row (mcode_row grw83 rfl) ls st h
theorem en83 {E : mE} (v0 v1 v2 v3 : Value) (h : mH) : mRun E gP 83 [v0, v1, v2, v3] h = mX E gP (mV E gP) 83 b83_0 [some v0, some v1, some v2, some v3, none] [] h := ent_row (mcode_row grw83 rfl) gm83 _ h
theorem lb84_0 {E : mE} (ls : mL) (st : List Value) (h : mH) : mV E gP (84, 0, ls, st, h) = mX E gP (mV E gP) 84 b84_0 ls st h := lab_row (mcode_row grw84 rfl) ls st h
theorem lb84_13 {E : mE} (ls : mL) (st : List Value) (h : mH) : mV E gP (84, 13, ls, st, h) = mX E gP (mV E gP) 84 b84_13 ls st h := lab_row (mcode_row grw84 rfl) ls st h
theorem lb84_17 {E : mE} (ls : mL) (st : List Value) (h : mH) : mV E gP (84, 17, ls, st, h) = mX E gP (mV E gP) 84 b84_17 ls st h := lab_row (mcode_row grw84 rfl) ls st h
theorem lb84_21 {E : mE} (ls : mL) (st : List Value) (h : mH) : mV E gP (84, 21, ls, st, h) = mX E gP (mV E gP) 84 b84_21 ls st h := lab_row (mcode_row grw84 rfl) ls st h
theorem en84 {E : mE} (v0 v1 v2 v3 : Value) (h : mH) : mRun E gP 84 [v0, v1, v2, v3] h = mX E gP (mV E gP) 84 b84_0 [some v0, some v1, some v2, some v3, none] [] h := ent_row (mcode_row grw84 rfl) gm84 _ h
theorem lb85_0 {E : mE} (ls : mL) (st : List Value) (h : mH) : mV E gP (85, 0, ls, st, h) = mX E gP (mV E gP) 85 b85_0 ls st h := lab_row (mcode_row grw85 rfl) ls st h
theorem lb85_13 {E : mE} (ls : mL) (st : List Value) (h : mH) : mV E gP (85, 13, ls, st, h) = mX E gP (mV E gP) 85 b85_13 ls st h := lab_row (mcode_row grw85 rfl) ls st h
theorem lb85_17 {E : mE} (ls : mL) (st : List Value) (h : mH) : mV E gP (85, 17, ls, st, h) = mX E gP (mV E gP) 85 b85_17 ls st h := lab_row (mcode_row grw85 rfl) ls st h
theorem en85 {E : mE} (v0 v1 v2 v3 : Value) (h : mH) : mRun E gP 85 [v0, v1, v2, v3] h = mX E gP (mV E gP) 85 b85_0 [some v0, some v1, some v2, some v3, none] [] h := ent_row (mcode_row grw85 rfl) gm85 _ h
theorem lb86_0 {E : mE} (ls : mL) (st : List Value) (h : mH) : mV E gP (86, 0, ls, st, h) = mX E gP (mV E gP) 86 b86_0 ls st h := lab_row (mcode_row grw86 rfl) ls st h
theorem lb86_13 {E : mE} (ls : mL) (st : List Value) (h : mH) : mV E gP (86, 13, ls, st, h) = mX E gP (mV E gP) 86 b86_13 ls st h := lab_row (mcode_row grw86 rfl) ls st h
theorem lb86_17 {E : mE} (ls : mL) (st : List Value) (h : mH) : mV E gP (86, 17, ls, st, h) = mX E gP (mV E gP) 86 b86_17 ls st h := lab_row (mcode_row grw86 rfl) ls st h
theorem lb86_21 {E : mE} (ls : mL) (st : List Value) (h : mH) : mV E gP (86, 21, ls, st, h) = mX E gP (mV E gP) 86 b86_21 ls st h := lab_row (mcode_row grw86 rfl) ls st h
theorem en86 {E : mE} (v0 v1 v2 v3 : Value) (h : mH) : mRun E gP 86 [v0, v1, v2, v3] h = mX E gP (mV E gP) 86 b86_0 [some v0, some v1, some v2, some v3, none] [] h := ent_row (mcode_row grw86 rfl) gm86 _ h
theorem lb87_0 {E : mE} (ls : mL) (st : List Value) (h : mH) : mV E gP (87, 0, ls, st, h) = mX E gP (mV E gP) 87 b87_0 ls st h := lab_row (mcode_row grw87 rfl) ls st h
theorem lb87_15 {E : mE} (ls : mL) (st : List Value) (h : mH) : mV E gP (87, 15, ls, st, h) = mX E gP (mV E gP) 87 b87_15 ls st h := lab_row (mcode_row grw87 rfl) ls st h
theorem lb87_16 {E : mE} (ls : mL) (st : List Value) (h : mH) : mV E gP (87, 16, ls, st, h) = mX E gP (mV E gP) 87 b87_16 ls st h := lab_row (mcode_row grw87 rfl) ls st h
theorem lb87_20 {E : mE} (ls : mL) (st : List Value) (h : mH) : mV E gP (87, 20, ls, st, h) = mX E gP (mV E gP) 87 b87_20 ls st h := lab_row (mcode_row grw87 rfl) ls st h
theorem lb87_24 {E : mE} (ls : mL) (st : List Value) (h : mH) : mV E gP (87, 24, ls, st, h) = mX E gP (mV E gP) 87 b87_24 ls st h := lab_row (mcode_row grw87 rfl) ls st h
theorem lb87_28 {E : mE} (ls : mL) (st : List Value) (h : mH) : mV E gP (87, 28, ls, st, h) = mX E gP (mV E gP) 87 b87_28 ls st h := lab_row (mcode_row grw87 rfl) ls st h
theorem en87 {E : mE} (v0 v1 v2 v3 : Value) (h : mH) : mRun E gP 87 [v0, v1, v2, v3] h = mX E gP (mV E gP) 87 b87_0 [some v0, some v1, some v2, some v3, none] [] h := ent_row (mcode_row grw87 rfl) gm87 _ h
theorem lb88_0 {E : mE} (ls : mL) (st : List Value) (h : mH) : mV E gP (88, 0, ls, st, h) = mX E gP (mV E gP) 88 b88_0 ls st h := lab_row (mcode_row grw88 rfl) ls st h
theorem lb88_12 {E : mE} (ls : mL) (st : List Value) (h : mH) : mV E gP (88, 12, ls, st, h) = mX E gP (mV E gP) 88 b88_12 ls st h := lab_row (mcode_row grw88 rfl) ls st h
theorem lb88_15 {E : mE} (ls : mL) (st : List Value) (h : mH) : mV E gP (88, 15, ls, st, h) = mX E gP (mV E gP) 88 b88_15 ls st h := lab_row (mcode_row grw88 rfl) ls st h
theorem en88 {E : mE} (v0 v1 v2 : Value) (h : mH) : mRun E gP 88 [v0, v1, v2] h = mX E gP (mV E gP) 88 b88_0 [some v0, some v1, some v2, none] [] h := ent_row (mcode_row grw88 rfl) gm88 _ h
theorem lb89_0 {E : mE} (ls : mL) (st : List Value) (h : mH) : mV E gP (89, 0, ls, st, h) = mX E gP (mV E gP) 89 b89_0 ls st h := lab_row (mcode_row grw89 rfl) ls st h
theorem lb89_13 {E : mE} (ls : mL) (st : List Value) (h : mH) : mV E gP (89, 13, ls, st, h) = mX E gP (mV E gP) 89 b89_13 ls st h := lab_row (mcode_row grw89 rfl) ls st h
theorem lb89_17 {E : mE} (ls : mL) (st : List Value) (h : mH) : mV E gP (89, 17, ls, st, h) = mX E gP (mV E gP) 89 b89_17 ls st h := lab_row (mcode_row grw89 rfl) ls st h
theorem en89 {E : mE} (v0 v1 v2 v3 : Value) (h : mH) : mRun E gP 89 [v0, v1, v2, v3] h = mX E gP (mV E gP) 89 b89_0 [some v0, some v1, some v2, some v3, none] [] h := ent_row (mcode_row grw89 rfl) gm89 _ h
theorem lb90_0 {E : mE} (ls : mL) (st : List Value) (h : mH) : mV E gP (90, 0, ls, st, h) = mX E gP (mV E gP) 90 b90_0 ls st h := lab_row (mcode_row grw90 rfl) ls st h
theorem lb90_13 {E : mE} (ls : mL) (st : List Value) (h : mH) : mV E gP (90, 13, ls, st, h) = mX E gP (mV E gP) 90 b90_13 ls st h := lab_row (mcode_row grw90 rfl) ls st h
theorem lb90_17 {E : mE} (ls : mL) (st : List Value) (h : mH) : mV E gP (90, 17, ls, st, h) = mX E gP (mV E gP) 90 b90_17 ls st h := lab_row (mcode_row grw90 rfl) ls st h
theorem en90 {E : mE} (v0 v1 v2 v3 : Value) (h : mH) : mRun E gP 90 [v0, v1, v2, v3] h = mX E gP (mV E gP) 90 b90_0 [some v0, some v1, some v2, some v3, none] [] h := ent_row (mcode_row grw90 rfl) gm90 _ h
theorem lb91_0 {E : mE} (ls : mL) (st : List Value) (h : mH) : mV E gP (91, 0, ls, st, h) = mX E gP (mV E gP) 91 b91_0 ls st h := lab_row (mcode_row grw91 rfl) ls st h
theorem lb91_13 {E : mE} (ls : mL) (st : List Value) (h : mH) : mV E gP (91, 13, ls, st, h) = mX E gP (mV E gP) 91 b91_13 ls st h := lab_row (mcode_row grw91 rfl) ls st h
theorem lb91_17 {E : mE} (ls : mL) (st : List Value) (h : mH) : mV E gP (91, 17, ls, st, h) = mX E gP (mV E gP) 91 b91_17 ls st h := lab_row (mcode_row grw91 rfl) ls st h
theorem lb91_21 {E : mE} (ls : mL) (st : List Value) (h : mH) : mV E gP (91, 21, ls, st, h) = mX E gP (mV E gP) 91 b91_21 ls st h := lab_row (mcode_row grw91 rfl) ls st h
theorem en91 {E : mE} (v0 v1 v2 v3 : Value) (h : mH) : mRun E gP 91 [v0, v1, v2, v3] h = mX E gP (mV E gP) 91 b91_0 [some v0, some v1, some v2, some v3, none] [] h := ent_row (mcode_row grw91 rfl) gm91 _ h
theorem lb92_0 {E : mE} (ls : mL) (st : List Value) (h : mH) : mV E gP (92, 0, ls, st, h) = mX E gP (mV E gP) 92 b92_0 ls st h := lab_row (mcode_row grw92 rfl) ls st h
theorem lb92_13 {E : mE} (ls : mL) (st : List Value) (h : mH) : mV E gP (92, 13, ls, st, h) = mX E gP (mV E gP) 92 b92_13 ls st h := lab_row (mcode_row grw92 rfl) ls st h
theorem lb92_17 {E : mE} (ls : mL) (st : List Value) (h : mH) : mV E gP (92, 17, ls, st, h) = mX E gP (mV E gP) 92 b92_17 ls st h := lab_row (mcode_row grw92 rfl) ls st h
theorem lb92_21 {E : mE} (ls : mL) (st : List Value) (h : mH) : mV E gP (92, 21, ls, st, h) = mX E gP (mV E gP) 92 b92_21 ls st h := lab_row (mcode_row grw92 rfl) ls st h
theorem en92 {E : mE} (v0 v1 v2 v3 : Value) (h : mH) : mRun E gP 92 [v0, v1, v2, v3] h = mX E gP (mV E gP) 92 b92_0 [some v0, some v1, some v2, some v3, none] [] h := ent_row (mcode_row grw92 rfl) gm92 _ h
theorem lb93_0 {E : mE} (ls : mL) (st : List Value) (h : mH) : mV E gP (93, 0, ls, st, h) = mX E gP (mV E gP) 93 b93_0 ls st h := lab_row (mcode_row grw93 rfl) ls st h
theorem lb93_12 {E : mE} (ls : mL) (st : List Value) (h : mH) : mV E gP (93, 12, ls, st, h) = mX E gP (mV E gP) 93 b93_12 ls st h := lab_row (mcode_row grw93 rfl) ls st h
theorem lb93_15 {E : mE} (ls : mL) (st : List Value) (h : mH) : mV E gP (93, 15, ls, st, h) = mX E gP (mV E gP) 93 b93_15 ls st h := lab_row (mcode_row grw93 rfl) ls st h
theorem en93 {E : mE} (v0 v1 v2 : Value) (h : mH) : mRun E gP 93 [v0, v1, v2] h = mX E gP (mV E gP) 93 b93_0 [some v0, some v1, some v2, none] [] h := ent_row (mcode_row grw93 rfl) gm93 _ h
theorem lb94_0 {E : mE} (ls : mL) (st : List Value) (h : mH) : mV E gP (94, 0, ls, st, h) = mX E gP (mV E gP) 94 b94_0 ls st h := lab_row (mcode_row grw94 rfl) ls st h
theorem lb94_12 {E : mE} (ls : mL) (st : List Value) (h : mH) : mV E gP (94, 12, ls, st, h) = mX E gP (mV E gP) 94 b94_12 ls st h := lab_row (mcode_row grw94 rfl) ls st h
theorem lb94_15 {E : mE} (ls : mL) (st : List Value) (h : mH) : mV E gP (94, 15, ls, st, h) = mX E gP (mV E gP) 94 b94_15 ls st h := lab_row (mcode_row grw94 rfl) ls st h
theorem en94 {E : mE} (v0 v1 v2 : Value) (h : mH) : mRun E gP 94 [v0, v1, v2] h = mX E gP (mV E gP) 94 b94_0 [some v0, some v1, some v2, none] [] h := ent_row (mcode_row grw94 rfl) gm94 _ h
theorem lb95_0 {E : mE} (ls : mL) (st : List Value) (h : mH) : mV E gP (95, 0, ls, st, h) = mX E gP (mV E gP) 95 b95_0 ls st h := lab_row (mcode_row grw95 rfl) ls st h
theorem lb95_13 {E : mE} (ls : mL) (st : List Value) (h : mH) : mV E gP (95, 13, ls, st, h) = mX E gP (mV E gP) 95 b95_13 ls st h := lab_row (mcode_row grw95 rfl) ls st h
theorem lb95_17 {E : mE} (ls : mL) (st : List Value) (h : mH) : mV E gP (95, 17, ls, st, h) = mX E gP (mV E gP) 95 b95_17 ls st h := lab_row (mcode_row grw95 rfl) ls st h
theorem lb95_21 {E : mE} (ls : mL) (st : List Value) (h : mH) : mV E gP (95, 21, ls, st, h) = mX E gP (mV E gP) 95 b95_21 ls st h := lab_row (mcode_row grw95 rfl) ls st h
theorem en95 {E : mE} (v0 v1 v2 v3 : Value) (h : mH) : mRun E gP 95 [v0, v1, v2, v3] h = mX E gP (mV E gP) 95 b95_0 [some v0, some v1, some v2, some v3, none] [] h := ent_row (mcode_row grw95 rfl) gm95 _ h
theorem lb96_0 {E : mE} (ls : mL) (st : List Value) (h : mH) : mV E gP (96, 0, ls, st, h) = mX E gP (mV E gP) 96 b96_0 ls st h := lab_row (mcode_row grw96 rfl) ls st h
theorem lb96_13 {E : mE} (ls : mL) (st : List Value) (h : mH) : mV E gP (96, 13, ls, st, h) = mX E gP (mV E gP) 96 b96_13 ls st h := lab_row (mcode_row grw96 rfl) ls st h
theorem lb96_17 {E : mE} (ls : mL) (st : List Value) (h : mH) : mV E gP (96, 17, ls, st, h) = mX E gP (mV E gP) 96 b96_17 ls st h := lab_row (mcode_row grw96 rfl) ls st h
theorem en96 {E : mE} (v0 v1 v2 v3 : Value) (h : mH) : mRun E gP 96 [v0, v1, v2, v3] h = mX E gP (mV E gP) 96 b96_0 [some v0, some v1, some v2, some v3, none] [] h := ent_row (mcode_row grw96 rfl) gm96 _ h
theorem lb97_0 {E : mE} (ls : mL) (st : List Value) (h : mH) : mV E gP (97, 0, ls, st, h) = mX E gP (mV E gP) 97 b97_0 ls st h := lab_row (mcode_row grw97 rfl) ls st h
theorem lb97_15 {E : mE} (ls : mL) (st : List Value) (h : mH) : mV E gP (97, 15, ls, st, h) = mX E gP (mV E gP) 97 b97_15 ls st h := lab_row (mcode_row grw97 rfl) ls st h
theorem lb97_19 {E : mE} (ls : mL) (st : List Value) (h : mH) : mV E gP (97, 19, ls, st, h) = mX E gP (mV E gP) 97 b97_19 ls st h := lab_row (mcode_row grw97 rfl) ls st h
theorem en97 {E : mE} (v0 v1 v2 v3 v4 : Value) (h : mH) : mRun E gP 97 [v0, v1, v2, v3, v4] h = mX E gP (mV E gP) 97 b97_0 [some v0, some v1, some v2, some v3, some v4, none] [] h := ent_row (mcode_row grw97 rfl) gm97 _ h
theorem lb98_0 {E : mE} (ls : mL) (st : List Value) (h : mH) : mV E gP (98, 0, ls, st, h) = mX E gP (mV E gP) 98 b98_0 ls st h := lab_row (mcode_row grw98 rfl) ls st h
theorem lb98_13 {E : mE} (ls : mL) (st : List Value) (h : mH) : mV E gP (98, 13, ls, st, h) = mX E gP (mV E gP) 98 b98_13 ls st h := lab_row (mcode_row grw98 rfl) ls st h
theorem lb98_17 {E : mE} (ls : mL) (st : List Value) (h : mH) : mV E gP (98, 17, ls, st, h) = mX E gP (mV E gP) 98 b98_17 ls st h := lab_row (mcode_row grw98 rfl) ls st h
theorem en98 {E : mE} (v0 v1 v2 v3 : Value) (h : mH) : mRun E gP 98 [v0, v1, v2, v3] h = mX E gP (mV E gP) 98 b98_0 [some v0, some v1, some v2, some v3, none] [] h := ent_row (mcode_row grw98 rfl) gm98 _ h
theorem lb99_0 {E : mE} (ls : mL) (st : List Value) (h : mH) : mV E gP (99, 0, ls, st, h) = mX E gP (mV E gP) 99 b99_0 ls st h := lab_row (mcode_row grw99 rfl) ls st h
theorem lb99_12 {E : mE} (ls : mL) (st : List Value) (h : mH) : mV E gP (99, 12, ls, st, h) = mX E gP (mV E gP) 99 b99_12 ls st h := lab_row (mcode_row grw99 rfl) ls st h
theorem lb99_15 {E : mE} (ls : mL) (st : List Value) (h : mH) : mV E gP (99, 15, ls, st, h) = mX E gP (mV E gP) 99 b99_15 ls st h := lab_row (mcode_row grw99 rfl) ls st h
theorem en99 {E : mE} (v0 v1 v2 : Value) (h : mH) : mRun E gP 99 [v0, v1, v2] h = mX E gP (mV E gP) 99 b99_0 [some v0, some v1, some v2, none] [] h := ent_row (mcode_row grw99 rfl) gm99 _ h
theorem lb100_0 {E : mE} (ls : mL) (st : List Value) (h : mH) : mV E gP (100, 0, ls, st, h) = mX E gP (mV E gP) 100 b100_0 ls st h := lab_row (mcode_row grw100 rfl) ls st h
theorem lb100_12 {E : mE} (ls : mL) (st : List Value) (h : mH) : mV E gP (100, 12, ls, st, h) = mX E gP (mV E gP) 100 b100_12 ls st h := lab_row (mcode_row grw100 rfl) ls st h
theorem lb100_15 {E : mE} (ls : mL) (st : List Value) (h : mH) : mV E gP (100, 15, ls, st, h) = mX E gP (mV E gP) 100 b100_15 ls st h := lab_row (mcode_row grw100 rfl) ls st h
theorem en100 {E : mE} (v0 v1 v2 : Value) (h : mH) : mRun E gP 100 [v0, v1, v2] h = mX E gP (mV E gP) 100 b100_0 [some v0, some v1, some v2, none] [] h := ent_row (mcode_row grw100 rfl) gm100 _ h
theorem lb101_0 {E : mE} (ls : mL) (st : List Value) (h : mH) : mV E gP (101, 0, ls, st, h) = mX E gP (mV E gP) 101 b101_0 ls st h := lab_row (mcode_row grw101 rfl) ls st h
theorem lb101_8 {E : mE} (ls : mL) (st : List Value) (h : mH) : mV E gP (101, 8, ls, st, h) = mX E gP (mV E gP) 101 b101_8 ls st h := lab_row (mcode_row grw101 rfl) ls st h
theorem lb101_11 {E : mE} (ls : mL) (st : List Value) (h : mH) : mV E gP (101, 11, ls, st, h) = mX E gP (mV E gP) 101 b101_11 ls st h := lab_row (mcode_row grw101 rfl) ls st h
theorem en101 {E : mE} (v0 v1 : Value) (h : mH) : mRun E gP 101 [v0, v1] h = mX E gP (mV E gP) 101 b101_0 [some v0, some v1, none] [] h := ent_row (mcode_row grw101 rfl) gm101 _ h
theorem lb102_0 {E : mE} (ls : mL) (st : List Value) (h : mH) : mV E gP (102, 0, ls, st, h) = mX E gP (mV E gP) 102 b102_0 ls st h := lab_row (mcode_row grw102 rfl) ls st h
theorem lb102_8 {E : mE} (ls : mL) (st : List Value) (h : mH) : mV E gP (102, 8, ls, st, h) = mX E gP (mV E gP) 102 b102_8 ls st h := lab_row (mcode_row grw102 rfl) ls st h
theorem lb102_11 {E : mE} (ls : mL) (st : List Value) (h : mH) : mV E gP (102, 11, ls, st, h) = mX E gP (mV E gP) 102 b102_11 ls st h := lab_row (mcode_row grw102 rfl) ls st h
theorem lb102_14 {E : mE} (ls : mL) (st : List Value) (h : mH) : mV E gP (102, 14, ls, st, h) = mX E gP (mV E gP) 102 b102_14 ls st h := lab_row (mcode_row grw102 rfl) ls st h
theorem en102 {E : mE} (v0 v1 : Value) (h : mH) : mRun E gP 102 [v0, v1] h = mX E gP (mV E gP) 102 b102_0 [some v0, some v1, none] [] h := ent_row (mcode_row grw102 rfl) gm102 _ h
theorem lb103_0 {E : mE} (ls : mL) (st : List Value) (h : mH) : mV E gP (103, 0, ls, st, h) = mX E gP (mV E gP) 103 b103_0 ls st h := lab_row (mcode_row grw103 rfl) ls st h
theorem lb103_138 {E : mE} (ls : mL) (st : List Value) (h : mH) : mV E gP (103, 138, ls, st, h) = mX E gP (mV E gP) 103 b103_138 ls st h := lab_row (mcode_row grw103 rfl) ls st h
theorem lb103_174 {E : mE} (ls : mL) (st : List Value) (h : mH) : mV E gP (103, 174, ls, st, h) = mX E gP (mV E gP) 103 b103_174 ls st h := lab_row (mcode_row grw103 rfl) ls st h
theorem lb103_176 {E : mE} (ls : mL) (st : List Value) (h : mH) : mV E gP (103, 176, ls, st, h) = mX E gP (mV E gP) 103 b103_176 ls st h := lab_row (mcode_row grw103 rfl) ls st h
theorem lb103_220 {E : mE} (ls : mL) (st : List Value) (h : mH) : mV E gP (103, 220, ls, st, h) = mX E gP (mV E gP) 103 b103_220 ls st h := lab_row (mcode_row grw103 rfl) ls st h
theorem en103 {E : mE} (v0 : Value) (h : mH) : mRun E gP 103 [v0] h = mX E gP (mV E gP) 103 b103_0 [some v0, none, none, none, none] [] h := ent_row (mcode_row grw103 rfl) gm103 _ h
theorem lb104_0 {E : mE} (ls : mL) (st : List Value) (h : mH) : mV E gP (104, 0, ls, st, h) = mX E gP (mV E gP) 104 b104_0 ls st h := lab_row (mcode_row grw104 rfl) ls st h
theorem lb104_33 {E : mE} (ls : mL) (st : List Value) (h : mH) : mV E gP (104, 33, ls, st, h) = mX E gP (mV E gP) 104 b104_33 ls st h := lab_row (mcode_row grw104 rfl) ls st h
theorem lb104_85 {E : mE} (ls : mL) (st : List Value) (h : mH) : mV E gP (104, 85, ls, st, h) = mX E gP (mV E gP) 104 b104_85 ls st h := lab_row (mcode_row grw104 rfl) ls st h
theorem lb104_86 {E : mE} (ls : mL) (st : List Value) (h : mH) : mV E gP (104, 86, ls, st, h) = mX E gP (mV E gP) 104 b104_86 ls st h := lab_row (mcode_row grw104 rfl) ls st h
theorem lb104_94 {E : mE} (ls : mL) (st : List Value) (h : mH) : mV E gP (104, 94, ls, st, h) = mX E gP (mV E gP) 104 b104_94 ls st h := lab_row (mcode_row grw104 rfl) ls st h
theorem lb104_96 {E : mE} (ls : mL) (st : List Value) (h : mH) : mV E gP (104, 96, ls, st, h) = mX E gP (mV E gP) 104 b104_96 ls st h := lab_row (mcode_row grw104 rfl) ls st h
theorem lb104_144 {E : mE} (ls : mL) (st : List Value) (h : mH) : mV E gP (104, 144, ls, st, h) = mX E gP (mV E gP) 104 b104_144 ls st h := lab_row (mcode_row grw104 rfl) ls st h
theorem lb104_145 {E : mE} (ls : mL) (st : List Value) (h : mH) : mV E gP (104, 145, ls, st, h) = mX E gP (mV E gP) 104 b104_145 ls st h := lab_row (mcode_row grw104 rfl) ls st h
theorem lb104_156 {E : mE} (ls : mL) (st : List Value) (h : mH) : mV E gP (104, 156, ls, st, h) = mX E gP (mV E gP) 104 b104_156 ls st h := lab_row (mcode_row grw104 rfl) ls st h
theorem en104 {E : mE} (v0 : Value) (h : mH) : mRun E gP 104 [v0] h = mX E gP (mV E gP) 104 b104_0 [some v0, none, none, none] [] h := ent_row (mcode_row grw104 rfl) gm104 _ h
theorem lb105_0 {E : mE} (ls : mL) (st : List Value) (h : mH) : mV E gP (105, 0, ls, st, h) = mX E gP (mV E gP) 105 b105_0 ls st h := lab_row (mcode_row grw105 rfl) ls st h
theorem lb105_8 {E : mE} (ls : mL) (st : List Value) (h : mH) : mV E gP (105, 8, ls, st, h) = mX E gP (mV E gP) 105 b105_8 ls st h := lab_row (mcode_row grw105 rfl) ls st h
theorem lb105_9 {E : mE} (ls : mL) (st : List Value) (h : mH) : mV E gP (105, 9, ls, st, h) = mX E gP (mV E gP) 105 b105_9 ls st h := lab_row (mcode_row grw105 rfl) ls st h
theorem en105 {E : mE} (v0 : Value) (h : mH) : mRun E gP 105 [v0] h = mX E gP (mV E gP) 105 b105_0 [some v0] [] h := ent_row (mcode_row grw105 rfl) gm105 _ h
theorem lb106_0 {E : mE} (ls : mL) (st : List Value) (h : mH) : mV E gP (106, 0, ls, st, h) = mX E gP (mV E gP) 106 b106_0 ls st h := lab_row (mcode_row grw106 rfl) ls st h
theorem lb106_4 {E : mE} (ls : mL) (st : List Value) (h : mH) : mV E gP (106, 4, ls, st, h) = mX E gP (mV E gP) 106 b106_4 ls st h := lab_row (mcode_row grw106 rfl) ls st h
theorem lb106_48 {E : mE} (ls : mL) (st : List Value) (h : mH) : mV E gP (106, 48, ls, st, h) = mX E gP (mV E gP) 106 b106_48 ls st h := lab_row (mcode_row grw106 rfl) ls st h
theorem en106 {E : mE} (v0 v1 : Value) (h : mH) : mRun E gP 106 [v0, v1] h = mX E gP (mV E gP) 106 b106_0 [some v0, some v1, none, none] [] h := ent_row (mcode_row grw106 rfl) gm106 _ h
theorem lb107_0 {E : mE} (ls : mL) (st : List Value) (h : mH) : mV E gP (107, 0, ls, st, h) = mX E gP (mV E gP) 107 b107_0 ls st h := lab_row (mcode_row grw107 rfl) ls st h
theorem lb107_4 {E : mE} (ls : mL) (st : List Value) (h : mH) : mV E gP (107, 4, ls, st, h) = mX E gP (mV E gP) 107 b107_4 ls st h := lab_row (mcode_row grw107 rfl) ls st h
theorem lb107_44 {E : mE} (ls : mL) (st : List Value) (h : mH) : mV E gP (107, 44, ls, st, h) = mX E gP (mV E gP) 107 b107_44 ls st h := lab_row (mcode_row grw107 rfl) ls st h
theorem lb107_45 {E : mE} (ls : mL) (st : List Value) (h : mH) : mV E gP (107, 45, ls, st, h) = mX E gP (mV E gP) 107 b107_45 ls st h := lab_row (mcode_row grw107 rfl) ls st h
theorem lb107_56 {E : mE} (ls : mL) (st : List Value) (h : mH) : mV E gP (107, 56, ls, st, h) = mX E gP (mV E gP) 107 b107_56 ls st h := lab_row (mcode_row grw107 rfl) ls st h
theorem en107 {E : mE} (v0 v1 : Value) (h : mH) : mRun E gP 107 [v0, v1] h = mX E gP (mV E gP) 107 b107_0 [some v0, some v1, none, none] [] h := ent_row (mcode_row grw107 rfl) gm107 _ h
theorem lb108_0 {E : mE} (ls : mL) (st : List Value) (h : mH) : mV E gP (108, 0, ls, st, h) = mX E gP (mV E gP) 108 b108_0 ls st h := lab_row (mcode_row grw108 rfl) ls st h
theorem lb108_17 {E : mE} (ls : mL) (st : List Value) (h : mH) : mV E gP (108, 17, ls, st, h) = mX E gP (mV E gP) 108 b108_17 ls st h := lab_row (mcode_row grw108 rfl) ls st h
theorem lb108_38 {E : mE} (ls : mL) (st : List Value) (h : mH) : mV E gP (108, 38, ls, st, h) = mX E gP (mV E gP) 108 b108_38 ls st h := lab_row (mcode_row grw108 rfl) ls st h
theorem en108 {E : mE} (v0 : Value) (h : mH) : mRun E gP 108 [v0] h = mX E gP (mV E gP) 108 b108_0 [some v0] [] h := ent_row (mcode_row grw108 rfl) gm108 _ h
theorem lb109_0 {E : mE} (ls : mL) (st : List Value) (h : mH) : mV E gP (109, 0, ls, st, h) = mX E gP (mV E gP) 109 b109_0 ls st h := lab_row (mcode_row grw109 rfl) ls st h
theorem lb109_20 {E : mE} (ls : mL) (st : List Value) (h : mH) : mV E gP (109, 20, ls, st, h) = mX E gP (mV E gP) 109 b109_20 ls st h := lab_row (mcode_row grw109 rfl) ls st h
theorem lb109_54 {E : mE} (ls : mL) (st : List Value) (h : mH) : mV E gP (109, 54, ls, st, h) = mX E gP (mV E gP) 109 b109_54 ls st h := lab_row (mcode_row grw109 rfl) ls st h
theorem lb109_62 {E : mE} (ls : mL) (st : List Value) (h : mH) : mV E gP (109, 62, ls, st, h) = mX E gP (mV E gP) 109 b109_62 ls st h := lab_row (mcode_row grw109 rfl) ls st h
theorem lb109_70 {E : mE} (ls : mL) (st : List Value) (h : mH) : mV E gP (109, 70, ls, st, h) = mX E gP (mV E gP) 109 b109_70 ls st h := lab_row (mcode_row grw109 rfl) ls st h
theorem lb109_78 {E : mE} (ls : mL) (st : List Value) (h : mH) : mV E gP (109, 78, ls, st, h) = mX E gP (mV E gP) 109 b109_78 ls st h := lab_row (mcode_row grw109 rfl) ls st h
theorem lb109_83 {E : mE} (ls : mL) (st : List Value) (h : mH) : mV E gP (109, 83, ls, st, h) = mX E gP (mV E gP) 109 b109_83 ls st h := lab_row (mcode_row grw109 rfl) ls st h
theorem en109 {E : mE} (v0 : Value) (h : mH) : mRun E gP 109 [v0] h = mX E gP (mV E gP) 109 b109_0 [some v0, none, none, none] [] h := ent_row (mcode_row grw109 rfl) gm109 _ h
theorem lb110_0 {E : mE} (ls : mL) (st : List Value) (h : mH) : mV E gP (110, 0, ls, st, h) = mX E gP (mV E gP) 110 b110_0 ls st h := lab_row (mcode_row grw110 rfl) ls st h
theorem lb110_19 {E : mE} (ls : mL) (st : List Value) (h : mH) : mV E gP (110, 19, ls, st, h) = mX E gP (mV E gP) 110 b110_19 ls st h := lab_row (mcode_row grw110 rfl) ls st h
theorem lb110_45 {E : mE} (ls : mL) (st : List Value) (h : mH) : mV E gP (110, 45, ls, st, h) = mX E gP (mV E gP) 110 b110_45 ls st h := lab_row (mcode_row grw110 rfl) ls st h
theorem en110 {E : mE} (v0 : Value) (h : mH) : mRun E gP 110 [v0] h = mX E gP (mV E gP) 110 b110_0 [some v0, none, none, none, none, none] [] h := ent_row (mcode_row grw110 rfl) gm110 _ h
theorem lb111_0 {E : mE} (ls : mL) (st : List Value) (h : mH) : mV E gP (111, 0, ls, st, h) = mX E gP (mV E gP) 111 b111_0 ls st h := lab_row (mcode_row grw111 rfl) ls st h
theorem lb111_47 {E : mE} (ls : mL) (st : List Value) (h : mH) : mV E gP (111, 47, ls, st, h) = mX E gP (mV E gP) 111 b111_47 ls st h := lab_row (mcode_row grw111 rfl) ls st h
theorem lb111_68 {E : mE} (ls : mL) (st : List Value) (h : mH) : mV E gP (111, 68, ls, st, h) = mX E gP (mV E gP) 111 b111_68 ls st h := lab_row (mcode_row grw111 rfl) ls st h
theorem en111 {E : mE} (v0 : Value) (h : mH) : mRun E gP 111 [v0] h = mX E gP (mV E gP) 111 b111_0 [some v0, none, none, none, none] [] h := ent_row (mcode_row grw111 rfl) gm111 _ h
theorem lb112_0 {E : mE} (ls : mL) (st : List Value) (h : mH) : mV E gP (112, 0, ls, st, h) = mX E gP (mV E gP) 112 b112_0 ls st h := lab_row (mcode_row grw112 rfl) ls st h
theorem en112 {E : mE} (v0 v1 v2 : Value) (h : mH) : mRun E gP 112 [v0, v1, v2] h = mX E gP (mV E gP) 112 b112_0 [some v0, some v1, some v2] [] h := ent_row (mcode_row grw112 rfl) gm112 _ h
theorem lb113_0 {E : mE} (ls : mL) (st : List Value) (h : mH) : mV E gP (113, 0, ls, st, h) = mX E gP (mV E gP) 113 b113_0 ls st h := lab_row (mcode_row grw113 rfl) ls st h
theorem lb113_14 {E : mE} (ls : mL) (st : List Value) (h : mH) : mV E gP (113, 14, ls, st, h) = mX E gP (mV E gP) 113 b113_14 ls st h := lab_row (mcode_row grw113 rfl) ls st h
theorem lb113_15 {E : mE} (ls : mL) (st : List Value) (h : mH) : mV E gP (113, 15, ls, st, h) = mX E gP (mV E gP) 113 b113_15 ls st h := lab_row (mcode_row grw113 rfl) ls st h
theorem en113 {E : mE} (v0 v1 v2 : Value) (h : mH) : mRun E gP 113 [v0, v1, v2] h = mX E gP (mV E gP) 113 b113_0 [some v0, some v1, some v2] [] h := ent_row (mcode_row grw113 rfl) gm113 _ h
theorem lb114_0 {E : mE} (ls : mL) (st : List Value) (h : mH) : mV E gP (114, 0, ls, st, h) = mX E gP (mV E gP) 114 b114_0 ls st h := lab_row (mcode_row grw114 rfl) ls st h
theorem lb114_27 {E : mE} (ls : mL) (st : List Value) (h : mH) : mV E gP (114, 27, ls, st, h) = mX E gP (mV E gP) 114 b114_27 ls st h := lab_row (mcode_row grw114 rfl) ls st h
theorem lb114_50 {E : mE} (ls : mL) (st : List Value) (h : mH) : mV E gP (114, 50, ls, st, h) = mX E gP (mV E gP) 114 b114_50 ls st h := lab_row (mcode_row grw114 rfl) ls st h
theorem lb114_60 {E : mE} (ls : mL) (st : List Value) (h : mH) : mV E gP (114, 60, ls, st, h) = mX E gP (mV E gP) 114 b114_60 ls st h := lab_row (mcode_row grw114 rfl) ls st h
theorem lb114_62 {E : mE} (ls : mL) (st : List Value) (h : mH) : mV E gP (114, 62, ls, st, h) = mX E gP (mV E gP) 114 b114_62 ls st h := lab_row (mcode_row grw114 rfl) ls st h
theorem lb114_89 {E : mE} (ls : mL) (st : List Value) (h : mH) : mV E gP (114, 89, ls, st, h) = mX E gP (mV E gP) 114 b114_89 ls st h := lab_row (mcode_row grw114 rfl) ls st h
theorem en114 {E : mE} (v0 : Value) (h : mH) : mRun E gP 114 [v0] h = mX E gP (mV E gP) 114 b114_0 [some v0, none, none, none, none, none] [] h := ent_row (mcode_row grw114 rfl) gm114 _ h
theorem lb115_0 {E : mE} (ls : mL) (st : List Value) (h : mH) : mV E gP (115, 0, ls, st, h) = mX E gP (mV E gP) 115 b115_0 ls st h := lab_row (mcode_row grw115 rfl) ls st h
theorem lb115_12 {E : mE} (ls : mL) (st : List Value) (h : mH) : mV E gP (115, 12, ls, st, h) = mX E gP (mV E gP) 115 b115_12 ls st h := lab_row (mcode_row grw115 rfl) ls st h
theorem lb115_13 {E : mE} (ls : mL) (st : List Value) (h : mH) : mV E gP (115, 13, ls, st, h) = mX E gP (mV E gP) 115 b115_13 ls st h := lab_row (mcode_row grw115 rfl) ls st h
theorem lb115_14 {E : mE} (ls : mL) (st : List Value) (h : mH) : mV E gP (115, 14, ls, st, h) = mX E gP (mV E gP) 115 b115_14 ls st h := lab_row (mcode_row grw115 rfl) ls st h
theorem en115 {E : mE} (v0 v1 : Value) (h : mH) : mRun E gP 115 [v0, v1] h = mX E gP (mV E gP) 115 b115_0 [some v0, some v1, none] [] h := ent_row (mcode_row grw115 rfl) gm115 _ h
theorem lb116_0 {E : mE} (ls : mL) (st : List Value) (h : mH) : mV E gP (116, 0, ls, st, h) = mX E gP (mV E gP) 116 b116_0 ls st h := lab_row (mcode_row grw116 rfl) ls st h
theorem lb116_31 {E : mE} (ls : mL) (st : List Value) (h : mH) : mV E gP (116, 31, ls, st, h) = mX E gP (mV E gP) 116 b116_31 ls st h := lab_row (mcode_row grw116 rfl) ls st h
theorem lb116_55 {E : mE} (ls : mL) (st : List Value) (h : mH) : mV E gP (116, 55, ls, st, h) = mX E gP (mV E gP) 116 b116_55 ls st h := lab_row (mcode_row grw116 rfl) ls st h
theorem en116 {E : mE} (v0 v1 : Value) (h : mH) : mRun E gP 116 [v0, v1] h = mX E gP (mV E gP) 116 b116_0 [some v0, some v1, none, none, none] [] h := ent_row (mcode_row grw116 rfl) gm116 _ h
theorem lb117_0 {E : mE} (ls : mL) (st : List Value) (h : mH) : mV E gP (117, 0, ls, st, h) = mX E gP (mV E gP) 117 b117_0 ls st h := lab_row (mcode_row grw117 rfl) ls st h
theorem lb117_12 {E : mE} (ls : mL) (st : List Value) (h : mH) : mV E gP (117, 12, ls, st, h) = mX E gP (mV E gP) 117 b117_12 ls st h := lab_row (mcode_row grw117 rfl) ls st h
theorem en117 {E : mE} (v0 : Value) (h : mH) : mRun E gP 117 [v0] h = mX E gP (mV E gP) 117 b117_0 [some v0] [] h := ent_row (mcode_row grw117 rfl) gm117 _ h
theorem lb118_0 {E : mE} (ls : mL) (st : List Value) (h : mH) : mV E gP (118, 0, ls, st, h) = mX E gP (mV E gP) 118 b118_0 ls st h := lab_row (mcode_row grw118 rfl) ls st h
theorem lb118_12 {E : mE} (ls : mL) (st : List Value) (h : mH) : mV E gP (118, 12, ls, st, h) = mX E gP (mV E gP) 118 b118_12 ls st h := lab_row (mcode_row grw118 rfl) ls st h
theorem en118 {E : mE} (v0 : Value) (h : mH) : mRun E gP 118 [v0] h = mX E gP (mV E gP) 118 b118_0 [some v0] [] h := ent_row (mcode_row grw118 rfl) gm118 _ h
theorem lb119_0 {E : mE} (ls : mL) (st : List Value) (h : mH) : mV E gP (119, 0, ls, st, h) = mX E gP (mV E gP) 119 b119_0 ls st h := lab_row (mcode_row grw119 rfl) ls st h
theorem en119 {E : mE} (v0 : Value) (h : mH) : mRun E gP 119 [v0] h = mX E gP (mV E gP) 119 b119_0 [some v0] [] h := ent_row (mcode_row grw119 rfl) gm119 _ h
theorem lb120_0 {E : mE} (ls : mL) (st : List Value) (h : mH) : mV E gP (120, 0, ls, st, h) = mX E gP (mV E gP) 120 b120_0 ls st h := lab_row (mcode_row grw120 rfl) ls st h
theorem en120 {E : mE} (v0 : Value) (h : mH) : mRun E gP 120 [v0] h = mX E gP (mV E gP) 120 b120_0 [some v0] [] h := ent_row (mcode_row grw120 rfl) gm120 _ h
theorem lb121_0 {E : mE} (ls : mL) (st : List Value) (h : mH) : mV E gP (121, 0, ls, st, h) = mX E gP (mV E gP) 121 b121_0 ls st h := lab_row (mcode_row grw121 rfl) ls st h
theorem lb121_28 {E : mE} (ls : mL) (st : List Value) (h : mH) : mV E gP (121, 28, ls, st, h) = mX E gP (mV E gP) 121 b121_28 ls st h := lab_row (mcode_row grw121 rfl) ls st h
theorem lb121_29 {E : mE} (ls : mL) (st : List Value) (h : mH) : mV E gP (121, 29, ls, st, h) = mX E gP (mV E gP) 121 b121_29 ls st h := lab_row (mcode_row grw121 rfl) ls st h
theorem en121 {E : mE} (v0 v1 : Value) (h : mH) : mRun E gP 121 [v0, v1] h = mX E gP (mV E gP) 121 b121_0 [some v0, some v1] [] h := ent_row (mcode_row grw121 rfl) gm121 _ h
theorem lb122_0 {E : mE} (ls : mL) (st : List Value) (h : mH) : mV E gP (122, 0, ls, st, h) = mX E gP (mV E gP) 122 b122_0 ls st h := lab_row (mcode_row grw122 rfl) ls st h
theorem lb122_12 {E : mE} (ls : mL) (st : List Value) (h : mH) : mV E gP (122, 12, ls, st, h) = mX E gP (mV E gP) 122 b122_12 ls st h := lab_row (mcode_row grw122 rfl) ls st h
theorem en122 {E : mE} (v0 : Value) (h : mH) : mRun E gP 122 [v0] h = mX E gP (mV E gP) 122 b122_0 [some v0] [] h := ent_row (mcode_row grw122 rfl) gm122 _ h
theorem lb123_0 {E : mE} (ls : mL) (st : List Value) (h : mH) : mV E gP (123, 0, ls, st, h) = mX E gP (mV E gP) 123 b123_0 ls st h := lab_row (mcode_row grw123 rfl) ls st h
theorem lb123_20 {E : mE} (ls : mL) (st : List Value) (h : mH) : mV E gP (123, 20, ls, st, h) = mX E gP (mV E gP) 123 b123_20 ls st h := lab_row (mcode_row grw123 rfl) ls st h
theorem lb123_23 {E : mE} (ls : mL) (st : List Value) (h : mH) : mV E gP (123, 23, ls, st, h) = mX E gP (mV E gP) 123 b123_23 ls st h := lab_row (mcode_row grw123 rfl) ls st h
theorem lb123_56 {E : mE} (ls : mL) (st : List Value) (h : mH) : mV E gP (123, 56, ls, st, h) = mX E gP (mV E gP) 123 b123_56 ls st h := lab_row (mcode_row grw123 rfl) ls st h
theorem en123 {E : mE} (v0 v1 : Value) (h : mH) : mRun E gP 123 [v0, v1] h = mX E gP (mV E gP) 123 b123_0 [some v0, some v1, none] [] h := ent_row (mcode_row grw123 rfl) gm123 _ h
theorem lb124_0 {E : mE} (ls : mL) (st : List Value) (h : mH) : mV E gP (124, 0, ls, st, h) = mX E gP (mV E gP) 124 b124_0 ls st h := lab_row (mcode_row grw124 rfl) ls st h
theorem en124 {E : mE} (v0 v1 : Value) (h : mH) : mRun E gP 124 [v0, v1] h = mX E gP (mV E gP) 124 b124_0 [some v0, some v1] [] h := ent_row (mcode_row grw124 rfl) gm124 _ h
theorem lb125_0 {E : mE} (ls : mL) (st : List Value) (h : mH) : mV E gP (125, 0, ls, st, h) = mX E gP (mV E gP) 125 b125_0 ls st h := lab_row (mcode_row grw125 rfl) ls st h
theorem lb125_84 {E : mE} (ls : mL) (st : List Value) (h : mH) : mV E gP (125, 84, ls, st, h) = mX E gP (mV E gP) 125 b125_84 ls st h := lab_row (mcode_row grw125 rfl) ls st h
theorem lb125_97 {E : mE} (ls : mL) (st : List Value) (h : mH) : mV E gP (125, 97, ls, st, h) = mX E gP (mV E gP) 125 b125_97 ls st h := lab_row (mcode_row grw125 rfl) ls st h
theorem lb125_110 {E : mE} (ls : mL) (st : List Value) (h : mH) : mV E gP (125, 110, ls, st, h) = mX E gP (mV E gP) 125 b125_110 ls st h := lab_row (mcode_row grw125 rfl) ls st h
theorem lb125_123 {E : mE} (ls : mL) (st : List Value) (h : mH) : mV E gP (125, 123, ls, st, h) = mX E gP (mV E gP) 125 b125_123 ls st h := lab_row (mcode_row grw125 rfl) ls st h
theorem lb125_130 {E : mE} (ls : mL) (st : List Value) (h : mH) : mV E gP (125, 130, ls, st, h) = mX E gP (mV E gP) 125 b125_130 ls st h := lab_row (mcode_row grw125 rfl) ls st h
theorem lb125_143 {E : mE} (ls : mL) (st : List Value) (h : mH) : mV E gP (125, 143, ls, st, h) = mX E gP (mV E gP) 125 b125_143 ls st h := lab_row (mcode_row grw125 rfl) ls st h
theorem lb125_156 {E : mE} (ls : mL) (st : List Value) (h : mH) : mV E gP (125, 156, ls, st, h) = mX E gP (mV E gP) 125 b125_156 ls st h := lab_row (mcode_row grw125 rfl) ls st h
theorem lb125_169 {E : mE} (ls : mL) (st : List Value) (h : mH) : mV E gP (125, 169, ls, st, h) = mX E gP (mV E gP) 125 b125_169 ls st h := lab_row (mcode_row grw125 rfl) ls st h
theorem lb125_182 {E : mE} (ls : mL) (st : List Value) (h : mH) : mV E gP (125, 182, ls, st, h) = mX E gP (mV E gP) 125 b125_182 ls st h := lab_row (mcode_row grw125 rfl) ls st h
theorem lb125_192 {E : mE} (ls : mL) (st : List Value) (h : mH) : mV E gP (125, 192, ls, st, h) = mX E gP (mV E gP) 125 b125_192 ls st h := lab_row (mcode_row grw125 rfl) ls st h
theorem lb125_202 {E : mE} (ls : mL) (st : List Value) (h : mH) : mV E gP (125, 202, ls, st, h) = mX E gP (mV E gP) 125 b125_202 ls st h := lab_row (mcode_row grw125 rfl) ls st h
theorem lb125_216 {E : mE} (ls : mL) (st : List Value) (h : mH) : mV E gP (125, 216, ls, st, h) = mX E gP (mV E gP) 125 b125_216 ls st h := lab_row (mcode_row grw125 rfl) ls st h
theorem lb125_226 {E : mE} (ls : mL) (st : List Value) (h : mH) : mV E gP (125, 226, ls, st, h) = mX E gP (mV E gP) 125 b125_226 ls st h := lab_row (mcode_row grw125 rfl) ls st h
theorem lb125_233 {E : mE} (ls : mL) (st : List Value) (h : mH) : mV E gP (125, 233, ls, st, h) = mX E gP (mV E gP) 125 b125_233 ls st h := lab_row (mcode_row grw125 rfl) ls st h
theorem en125 {E : mE} (v0 v1 : Value) (h : mH) : mRun E gP 125 [v0, v1] h = mX E gP (mV E gP) 125 b125_0 [some v0, some v1] [] h := ent_row (mcode_row grw125 rfl) gm125 _ h
theorem lb126_0 {E : mE} (ls : mL) (st : List Value) (h : mH) : mV E gP (126, 0, ls, st, h) = mX E gP (mV E gP) 126 b126_0 ls st h := lab_row (mcode_row grw126 rfl) ls st h
theorem en126 {E : mE} (v0 v1 : Value) (h : mH) : mRun E gP 126 [v0, v1] h = mX E gP (mV E gP) 126 b126_0 [some v0, some v1] [] h := ent_row (mcode_row grw126 rfl) gm126 _ h
theorem lb127_0 {E : mE} (ls : mL) (st : List Value) (h : mH) : mV E gP (127, 0, ls, st, h) = mX E gP (mV E gP) 127 b127_0 ls st h := lab_row (mcode_row grw127 rfl) ls st h
theorem lb127_52 {E : mE} (ls : mL) (st : List Value) (h : mH) : mV E gP (127, 52, ls, st, h) = mX E gP (mV E gP) 127 b127_52 ls st h := lab_row (mcode_row grw127 rfl) ls st h
theorem lb127_70 {E : mE} (ls : mL) (st : List Value) (h : mH) : mV E gP (127, 70, ls, st, h) = mX E gP (mV E gP) 127 b127_70 ls st h := lab_row (mcode_row grw127 rfl) ls st h
theorem lb127_81 {E : mE} (ls : mL) (st : List Value) (h : mH) : mV E gP (127, 81, ls, st, h) = mX E gP (mV E gP) 127 b127_81 ls st h := lab_row (mcode_row grw127 rfl) ls st h
theorem lb127_92 {E : mE} (ls : mL) (st : List Value) (h : mH) : mV E gP (127, 92, ls, st, h) = mX E gP (mV E gP) 127 b127_92 ls st h := lab_row (mcode_row grw127 rfl) ls st h
theorem lb127_100 {E : mE} (ls : mL) (st : List Value) (h : mH) : mV E gP (127, 100, ls, st, h) = mX E gP (mV E gP) 127 b127_100 ls st h := lab_row (mcode_row grw127 rfl) ls st h
theorem lb127_108 {E : mE} (ls : mL) (st : List Value) (h : mH) : mV E gP (127, 108, ls, st, h) = mX E gP (mV E gP) 127 b127_108 ls st h := lab_row (mcode_row grw127 rfl) ls st h
theorem lb127_113 {E : mE} (ls : mL) (st : List Value) (h : mH) : mV E gP (127, 113, ls, st, h) = mX E gP (mV E gP) 127 b127_113 ls st h := lab_row (mcode_row grw127 rfl) ls st h
theorem en127 {E : mE} (v0 v1 v2 : Value) (h : mH) : mRun E gP 127 [v0, v1, v2] h = mX E gP (mV E gP) 127 b127_0 [some v0, some v1, some v2] [] h := ent_row (mcode_row grw127 rfl) gm127 _ h
theorem lb128_0 {E : mE} (ls : mL) (st : List Value) (h : mH) : mV E gP (128, 0, ls, st, h) = mX E gP (mV E gP) 128 b128_0 ls st h := lab_row (mcode_row grw128 rfl) ls st h
theorem lb128_4 {E : mE} (ls : mL) (st : List Value) (h : mH) : mV E gP (128, 4, ls, st, h) = mX E gP (mV E gP) 128 b128_4 ls st h := lab_row (mcode_row grw128 rfl) ls st h
theorem lb128_65 {E : mE} (ls : mL) (st : List Value) (h : mH) : mV E gP (128, 65, ls, st, h) = mX E gP (mV E gP) 128 b128_65 ls st h := lab_row (mcode_row grw128 rfl) ls st h
theorem lb128_66 {E : mE} (ls : mL) (st : List Value) (h : mH) : mV E gP (128, 66, ls, st, h) = mX E gP (mV E gP) 128 b128_66 ls st h := lab_row (mcode_row grw128 rfl) ls st h
theorem lb128_77 {E : mE} (ls : mL) (st : List Value) (h : mH) : mV E gP (128, 77, ls, st, h) = mX E gP (mV E gP) 128 b128_77 ls st h := lab_row (mcode_row grw128 rfl) ls st h
theorem en128 {E : mE} (v0 v1 : Value) (h : mH) : mRun E gP 128 [v0, v1] h = mX E gP (mV E gP) 128 b128_0 [some v0, some v1, none, none] [] h := ent_row (mcode_row grw128 rfl) gm128 _ h
theorem lb129_0 {E : mE} (ls : mL) (st : List Value) (h : mH) : mV E gP (129, 0, ls, st, h) = mX E gP (mV E gP) 129 b129_0 ls st h := lab_row (mcode_row grw129 rfl) ls st h
theorem lb129_55 {E : mE} (ls : mL) (st : List Value) (h : mH) : mV E gP (129, 55, ls, st, h) = mX E gP (mV E gP) 129 b129_55 ls st h := lab_row (mcode_row grw129 rfl) ls st h
theorem lb129_67 {E : mE} (ls : mL) (st : List Value) (h : mH) : mV E gP (129, 67, ls, st, h) = mX E gP (mV E gP) 129 b129_67 ls st h := lab_row (mcode_row grw129 rfl) ls st h
theorem lb129_79 {E : mE} (ls : mL) (st : List Value) (h : mH) : mV E gP (129, 79, ls, st, h) = mX E gP (mV E gP) 129 b129_79 ls st h := lab_row (mcode_row grw129 rfl) ls st h
theorem lb129_83 {E : mE} (ls : mL) (st : List Value) (h : mH) : mV E gP (129, 83, ls, st, h) = mX E gP (mV E gP) 129 b129_83 ls st h := lab_row (mcode_row grw129 rfl) ls st h
theorem en129 {E : mE} (v0 v1 v2 : Value) (h : mH) : mRun E gP 129 [v0, v1, v2] h = mX E gP (mV E gP) 129 b129_0 [some v0, some v1, some v2, none] [] h := ent_row (mcode_row grw129 rfl) gm129 _ h
theorem lb130_0 {E : mE} (ls : mL) (st : List Value) (h : mH) : mV E gP (130, 0, ls, st, h) = mX E gP (mV E gP) 130 b130_0 ls st h := lab_row (mcode_row grw130 rfl) ls st h
theorem lb130_56 {E : mE} (ls : mL) (st : List Value) (h : mH) : mV E gP (130, 56, ls, st, h) = mX E gP (mV E gP) 130 b130_56 ls st h := lab_row (mcode_row grw130 rfl) ls st h
theorem lb130_63 {E : mE} (ls : mL) (st : List Value) (h : mH) : mV E gP (130, 63, ls, st, h) = mX E gP (mV E gP) 130 b130_63 ls st h := lab_row (mcode_row grw130 rfl) ls st h
theorem lb130_70 {E : mE} (ls : mL) (st : List Value) (h : mH) : mV E gP (130, 70, ls, st, h) = mX E gP (mV E gP) 130 b130_70 ls st h := lab_row (mcode_row grw130 rfl) ls st h
theorem lb130_77 {E : mE} (ls : mL) (st : List Value) (h : mH) : mV E gP (130, 77, ls, st, h) = mX E gP (mV E gP) 130 b130_77 ls st h := lab_row (mcode_row grw130 rfl) ls st h
theorem lb130_84 {E : mE} (ls : mL) (st : List Value) (h : mH) : mV E gP (130, 84, ls, st, h) = mX E gP (mV E gP) 130 b130_84 ls st h := lab_row (mcode_row grw130 rfl) ls st h
theorem lb130_92 {E : mE} (ls : mL) (st : List Value) (h : mH) : mV E gP (130, 92, ls, st, h) = mX E gP (mV E gP) 130 b130_92 ls st h := lab_row (mcode_row grw130 rfl) ls st h
theorem lb130_100 {E : mE} (ls : mL) (st : List Value) (h : mH) : mV E gP (130, 100, ls, st, h) = mX E gP (mV E gP) 130 b130_100 ls st h := lab_row (mcode_row grw130 rfl) ls st h
theorem lb130_105 {E : mE} (ls : mL) (st : List Value) (h : mH) : mV E gP (130, 105, ls, st, h) = mX E gP (mV E gP) 130 b130_105 ls st h := lab_row (mcode_row grw130 rfl) ls st h
theorem en130 {E : mE} (v0 v1 v2 : Value) (h : mH) : mRun E gP 130 [v0, v1, v2] h = mX E gP (mV E gP) 130 b130_0 [some v0, some v1, some v2, none] [] h := ent_row (mcode_row grw130 rfl) gm130 _ h
theorem lb131_0 {E : mE} (ls : mL) (st : List Value) (h : mH) : mV E gP (131, 0, ls, st, h) = mX E gP (mV E gP) 131 b131_0 ls st h := lab_row (mcode_row grw131 rfl) ls st h
theorem en131 {E : mE} (v0 v1 : Value) (h : mH) : mRun E gP 131 [v0, v1] h = mX E gP (mV E gP) 131 b131_0 [some v0, some v1] [] h := ent_row (mcode_row grw131 rfl) gm131 _ h
theorem lb132_0 {E : mE} (ls : mL) (st : List Value) (h : mH) : mV E gP (132, 0, ls, st, h) = mX E gP (mV E gP) 132 b132_0 ls st h := lab_row (mcode_row grw132 rfl) ls st h
theorem lb132_4 {E : mE} (ls : mL) (st : List Value) (h : mH) : mV E gP (132, 4, ls, st, h) = mX E gP (mV E gP) 132 b132_4 ls st h := lab_row (mcode_row grw132 rfl) ls st h
theorem lb132_39 {E : mE} (ls : mL) (st : List Value) (h : mH) : mV E gP (132, 39, ls, st, h) = mX E gP (mV E gP) 132 b132_39 ls st h := lab_row (mcode_row grw132 rfl) ls st h
theorem en132 {E : mE} (v0 v1 : Value) (h : mH) : mRun E gP 132 [v0, v1] h = mX E gP (mV E gP) 132 b132_0 [some v0, some v1, none, none] [] h := ent_row (mcode_row grw132 rfl) gm132 _ h
theorem lb133_0 {E : mE} (ls : mL) (st : List Value) (h : mH) : mV E gP (133, 0, ls, st, h) = mX E gP (mV E gP) 133 b133_0 ls st h := lab_row (mcode_row grw133 rfl) ls st h
theorem lb133_4 {E : mE} (ls : mL) (st : List Value) (h : mH) : mV E gP (133, 4, ls, st, h) = mX E gP (mV E gP) 133 b133_4 ls st h := lab_row (mcode_row grw133 rfl) ls st h
theorem lb133_55 {E : mE} (ls : mL) (st : List Value) (h : mH) : mV E gP (133, 55, ls, st, h) = mX E gP (mV E gP) 133 b133_55 ls st h := lab_row (mcode_row grw133 rfl) ls st h
theorem en133 {E : mE} (v0 v1 : Value) (h : mH) : mRun E gP 133 [v0, v1] h = mX E gP (mV E gP) 133 b133_0 [some v0, some v1, none, none] [] h := ent_row (mcode_row grw133 rfl) gm133 _ h
theorem lb134_0 {E : mE} (ls : mL) (st : List Value) (h : mH) : mV E gP (134, 0, ls, st, h) = mX E gP (mV E gP) 134 b134_0 ls st h := lab_row (mcode_row grw134 rfl) ls st h
theorem en134 {E : mE} (v0 v1 : Value) (h : mH) : mRun E gP 134 [v0, v1] h = mX E gP (mV E gP) 134 b134_0 [some v0, some v1] [] h := ent_row (mcode_row grw134 rfl) gm134 _ h
theorem lb135_0 {E : mE} (ls : mL) (st : List Value) (h : mH) : mV E gP (135, 0, ls, st, h) = mX E gP (mV E gP) 135 b135_0 ls st h := lab_row (mcode_row grw135 rfl) ls st h
theorem lb135_64 {E : mE} (ls : mL) (st : List Value) (h : mH) : mV E gP (135, 64, ls, st, h) = mX E gP (mV E gP) 135 b135_64 ls st h := lab_row (mcode_row grw135 rfl) ls st h
theorem lb135_71 {E : mE} (ls : mL) (st : List Value) (h : mH) : mV E gP (135, 71, ls, st, h) = mX E gP (mV E gP) 135 b135_71 ls st h := lab_row (mcode_row grw135 rfl) ls st h
theorem lb135_78 {E : mE} (ls : mL) (st : List Value) (h : mH) : mV E gP (135, 78, ls, st, h) = mX E gP (mV E gP) 135 b135_78 ls st h := lab_row (mcode_row grw135 rfl) ls st h
theorem lb135_89 {E : mE} (ls : mL) (st : List Value) (h : mH) : mV E gP (135, 89, ls, st, h) = mX E gP (mV E gP) 135 b135_89 ls st h := lab_row (mcode_row grw135 rfl) ls st h
theorem lb135_99 {E : mE} (ls : mL) (st : List Value) (h : mH) : mV E gP (135, 99, ls, st, h) = mX E gP (mV E gP) 135 b135_99 ls st h := lab_row (mcode_row grw135 rfl) ls st h
theorem lb135_116 {E : mE} (ls : mL) (st : List Value) (h : mH) : mV E gP (135, 116, ls, st, h) = mX E gP (mV E gP) 135 b135_116 ls st h := lab_row (mcode_row grw135 rfl) ls st h
theorem lb135_123 {E : mE} (ls : mL) (st : List Value) (h : mH) : mV E gP (135, 123, ls, st, h) = mX E gP (mV E gP) 135 b135_123 ls st h := lab_row (mcode_row grw135 rfl) ls st h
theorem lb135_130 {E : mE} (ls : mL) (st : List Value) (h : mH) : mV E gP (135, 130, ls, st, h) = mX E gP (mV E gP) 135 b135_130 ls st h := lab_row (mcode_row grw135 rfl) ls st h
theorem lb135_134 {E : mE} (ls : mL) (st : List Value) (h : mH) : mV E gP (135, 134, ls, st, h) = mX E gP (mV E gP) 135 b135_134 ls st h := lab_row (mcode_row grw135 rfl) ls st h
theorem en135 {E : mE} (v0 v1 v2 : Value) (h : mH) : mRun E gP 135 [v0, v1, v2] h = mX E gP (mV E gP) 135 b135_0 [some v0, some v1, some v2, none] [] h := ent_row (mcode_row grw135 rfl) gm135 _ h
theorem lb136_0 {E : mE} (ls : mL) (st : List Value) (h : mH) : mV E gP (136, 0, ls, st, h) = mX E gP (mV E gP) 136 b136_0 ls st h := lab_row (mcode_row grw136 rfl) ls st h
theorem lb136_52 {E : mE} (ls : mL) (st : List Value) (h : mH) : mV E gP (136, 52, ls, st, h) = mX E gP (mV E gP) 136 b136_52 ls st h := lab_row (mcode_row grw136 rfl) ls st h
theorem lb136_59 {E : mE} (ls : mL) (st : List Value) (h : mH) : mV E gP (136, 59, ls, st, h) = mX E gP (mV E gP) 136 b136_59 ls st h := lab_row (mcode_row grw136 rfl) ls st h
theorem lb136_66 {E : mE} (ls : mL) (st : List Value) (h : mH) : mV E gP (136, 66, ls, st, h) = mX E gP (mV E gP) 136 b136_66 ls st h := lab_row (mcode_row grw136 rfl) ls st h
theorem lb136_73 {E : mE} (ls : mL) (st : List Value) (h : mH) : mV E gP (136, 73, ls, st, h) = mX E gP (mV E gP) 136 b136_73 ls st h := lab_row (mcode_row grw136 rfl) ls st h
theorem lb136_81 {E : mE} (ls : mL) (st : List Value) (h : mH) : mV E gP (136, 81, ls, st, h) = mX E gP (mV E gP) 136 b136_81 ls st h := lab_row (mcode_row grw136 rfl) ls st h
theorem lb136_88 {E : mE} (ls : mL) (st : List Value) (h : mH) : mV E gP (136, 88, ls, st, h) = mX E gP (mV E gP) 136 b136_88 ls st h := lab_row (mcode_row grw136 rfl) ls st h
theorem lb136_92 {E : mE} (ls : mL) (st : List Value) (h : mH) : mV E gP (136, 92, ls, st, h) = mX E gP (mV E gP) 136 b136_92 ls st h := lab_row (mcode_row grw136 rfl) ls st h
theorem en136 {E : mE} (v0 v1 v2 : Value) (h : mH) : mRun E gP 136 [v0, v1, v2] h = mX E gP (mV E gP) 136 b136_0 [some v0, some v1, some v2, none] [] h := ent_row (mcode_row grw136 rfl) gm136 _ h
theorem lb137_0 {E : mE} (ls : mL) (st : List Value) (h : mH) : mV E gP (137, 0, ls, st, h) = mX E gP (mV E gP) 137 b137_0 ls st h := lab_row (mcode_row grw137 rfl) ls st h
theorem lb137_14 {E : mE} (ls : mL) (st : List Value) (h : mH) : mV E gP (137, 14, ls, st, h) = mX E gP (mV E gP) 137 b137_14 ls st h := lab_row (mcode_row grw137 rfl) ls st h
theorem lb137_45 {E : mE} (ls : mL) (st : List Value) (h : mH) : mV E gP (137, 45, ls, st, h) = mX E gP (mV E gP) 137 b137_45 ls st h := lab_row (mcode_row grw137 rfl) ls st h
theorem lb137_46 {E : mE} (ls : mL) (st : List Value) (h : mH) : mV E gP (137, 46, ls, st, h) = mX E gP (mV E gP) 137 b137_46 ls st h := lab_row (mcode_row grw137 rfl) ls st h
theorem en137 {E : mE} (v0 v1 : Value) (h : mH) : mRun E gP 137 [v0, v1] h = mX E gP (mV E gP) 137 b137_0 [some v0, some v1] [] h := ent_row (mcode_row grw137 rfl) gm137 _ h
theorem lb138_0 {E : mE} (ls : mL) (st : List Value) (h : mH) : mV E gP (138, 0, ls, st, h) = mX E gP (mV E gP) 138 b138_0 ls st h := lab_row (mcode_row grw138 rfl) ls st h
theorem lb138_14 {E : mE} (ls : mL) (st : List Value) (h : mH) : mV E gP (138, 14, ls, st, h) = mX E gP (mV E gP) 138 b138_14 ls st h := lab_row (mcode_row grw138 rfl) ls st h
theorem lb138_28 {E : mE} (ls : mL) (st : List Value) (h : mH) : mV E gP (138, 28, ls, st, h) = mX E gP (mV E gP) 138 b138_28 ls st h := lab_row (mcode_row grw138 rfl) ls st h
theorem en138 {E : mE} (v0 v1 v2 : Value) (h : mH) : mRun E gP 138 [v0, v1, v2] h = mX E gP (mV E gP) 138 b138_0 [some v0, some v1, some v2, none] [] h := ent_row (mcode_row grw138 rfl) gm138 _ h
theorem lb139_0 {E : mE} (ls : mL) (st : List Value) (h : mH) : mV E gP (139, 0, ls, st, h) = mX E gP (mV E gP) 139 b139_0 ls st h := lab_row (mcode_row grw139 rfl) ls st h
theorem lb139_31 {E : mE} (ls : mL) (st : List Value) (h : mH) : mV E gP (139, 31, ls, st, h) = mX E gP (mV E gP) 139 b139_31 ls st h := lab_row (mcode_row grw139 rfl) ls st h
theorem lb139_45 {E : mE} (ls : mL) (st : List Value) (h : mH) : mV E gP (139, 45, ls, st, h) = mX E gP (mV E gP) 139 b139_45 ls st h := lab_row (mcode_row grw139 rfl) ls st h
theorem lb139_51 {E : mE} (ls : mL) (st : List Value) (h : mH) : mV E gP (139, 51, ls, st, h) = mX E gP (mV E gP) 139 b139_51 ls st h := lab_row (mcode_row grw139 rfl) ls st h
theorem en139 {E : mE} (v0 v1 v2 : Value) (h : mH) : mRun E gP 139 [v0, v1, v2] h = mX E gP (mV E gP) 139 b139_0 [some v0, some v1, some v2, none] [] h := ent_row (mcode_row grw139 rfl) gm139 _ h
theorem lb140_0 {E : mE} (ls : mL) (st : List Value) (h : mH) : mV E gP (140, 0, ls, st, h) = mX E gP (mV E gP) 140 b140_0 ls st h := lab_row (mcode_row grw140 rfl) ls st h
theorem lb140_12 {E : mE} (ls : mL) (st : List Value) (h : mH) : mV E gP (140, 12, ls, st, h) = mX E gP (mV E gP) 140 b140_12 ls st h := lab_row (mcode_row grw140 rfl) ls st h
theorem lb140_31 {E : mE} (ls : mL) (st : List Value) (h : mH) : mV E gP (140, 31, ls, st, h) = mX E gP (mV E gP) 140 b140_31 ls st h := lab_row (mcode_row grw140 rfl) ls st h
theorem lb140_45 {E : mE} (ls : mL) (st : List Value) (h : mH) : mV E gP (140, 45, ls, st, h) = mX E gP (mV E gP) 140 b140_45 ls st h := lab_row (mcode_row grw140 rfl) ls st h
theorem lb140_46 {E : mE} (ls : mL) (st : List Value) (h : mH) : mV E gP (140, 46, ls, st, h) = mX E gP (mV E gP) 140 b140_46 ls st h := lab_row (mcode_row grw140 rfl) ls st h
theorem en140 {E : mE} (v0 v1 : Value) (h : mH) : mRun E gP 140 [v0, v1] h = mX E gP (mV E gP) 140 b140_0 [some v0, some v1] [] h := ent_row (mcode_row grw140 rfl) gm140 _ h
theorem lb141_0 {E : mE} (ls : mL) (st : List Value) (h : mH) : mV E gP (141, 0, ls, st, h) = mX E gP (mV E gP) 141 b141_0 ls st h := lab_row (mcode_row grw141 rfl) ls st h
theorem lb141_2 {E : mE} (ls : mL) (st : List Value) (h : mH) : mV E gP (141, 2, ls, st, h) = mX E gP (mV E gP) 141 b141_2 ls st h := lab_row (mcode_row grw141 rfl) ls st h
theorem lb141_72 {E : mE} (ls : mL) (st : List Value) (h : mH) : mV E gP (141, 72, ls, st, h) = mX E gP (mV E gP) 141 b141_72 ls st h := lab_row (mcode_row grw141 rfl) ls st h
theorem lb141_74 {E : mE} (ls : mL) (st : List Value) (h : mH) : mV E gP (141, 74, ls, st, h) = mX E gP (mV E gP) 141 b141_74 ls st h := lab_row (mcode_row grw141 rfl) ls st h
theorem lb141_80 {E : mE} (ls : mL) (st : List Value) (h : mH) : mV E gP (141, 80, ls, st, h) = mX E gP (mV E gP) 141 b141_80 ls st h := lab_row (mcode_row grw141 rfl) ls st h
theorem en141 {E : mE} (v0 v1 v2 : Value) (h : mH) : mRun E gP 141 [v0, v1, v2] h = mX E gP (mV E gP) 141 b141_0 [some v0, some v1, some v2, none, none] [] h := ent_row (mcode_row grw141 rfl) gm141 _ h
theorem lb142_0 {E : mE} (ls : mL) (st : List Value) (h : mH) : mV E gP (142, 0, ls, st, h) = mX E gP (mV E gP) 142 b142_0 ls st h := lab_row (mcode_row grw142 rfl) ls st h
theorem lb142_17 {E : mE} (ls : mL) (st : List Value) (h : mH) : mV E gP (142, 17, ls, st, h) = mX E gP (mV E gP) 142 b142_17 ls st h := lab_row (mcode_row grw142 rfl) ls st h
theorem lb142_35 {E : mE} (ls : mL) (st : List Value) (h : mH) : mV E gP (142, 35, ls, st, h) = mX E gP (mV E gP) 142 b142_35 ls st h := lab_row (mcode_row grw142 rfl) ls st h
theorem lb142_36 {E : mE} (ls : mL) (st : List Value) (h : mH) : mV E gP (142, 36, ls, st, h) = mX E gP (mV E gP) 142 b142_36 ls st h := lab_row (mcode_row grw142 rfl) ls st h
theorem en142 {E : mE} (v0 v1 v2 : Value) (h : mH) : mRun E gP 142 [v0, v1, v2] h = mX E gP (mV E gP) 142 b142_0 [some v0, some v1, some v2] [] h := ent_row (mcode_row grw142 rfl) gm142 _ h
theorem lb143_0 {E : mE} (ls : mL) (st : List Value) (h : mH) : mV E gP (143, 0, ls, st, h) = mX E gP (mV E gP) 143 b143_0 ls st h := lab_row (mcode_row grw143 rfl) ls st h
theorem lb143_43 {E : mE} (ls : mL) (st : List Value) (h : mH) : mV E gP (143, 43, ls, st, h) = mX E gP (mV E gP) 143 b143_43 ls st h := lab_row (mcode_row grw143 rfl) ls st h
theorem lb143_50 {E : mE} (ls : mL) (st : List Value) (h : mH) : mV E gP (143, 50, ls, st, h) = mX E gP (mV E gP) 143 b143_50 ls st h := lab_row (mcode_row grw143 rfl) ls st h
theorem en143 {E : mE} (v0 v1 v2 : Value) (h : mH) : mRun E gP 143 [v0, v1, v2] h = mX E gP (mV E gP) 143 b143_0 [some v0, some v1, some v2, none] [] h := ent_row (mcode_row grw143 rfl) gm143 _ h
theorem lb144_0 {E : mE} (ls : mL) (st : List Value) (h : mH) : mV E gP (144, 0, ls, st, h) = mX E gP (mV E gP) 144 b144_0 ls st h := lab_row (mcode_row grw144 rfl) ls st h
theorem lb144_30 {E : mE} (ls : mL) (st : List Value) (h : mH) : mV E gP (144, 30, ls, st, h) = mX E gP (mV E gP) 144 b144_30 ls st h := lab_row (mcode_row grw144 rfl) ls st h
theorem lb144_46 {E : mE} (ls : mL) (st : List Value) (h : mH) : mV E gP (144, 46, ls, st, h) = mX E gP (mV E gP) 144 b144_46 ls st h := lab_row (mcode_row grw144 rfl) ls st h
theorem en144 {E : mE} (v0 v1 v2 : Value) (h : mH) : mRun E gP 144 [v0, v1, v2] h = mX E gP (mV E gP) 144 b144_0 [some v0, some v1, some v2, none, none] [] h := ent_row (mcode_row grw144 rfl) gm144 _ h
theorem lb145_0 {E : mE} (ls : mL) (st : List Value) (h : mH) : mV E gP (145, 0, ls, st, h) = mX E gP (mV E gP) 145 b145_0 ls st h := lab_row (mcode_row grw145 rfl) ls st h
theorem lb145_18 {E : mE} (ls : mL) (st : List Value) (h : mH) : mV E gP (145, 18, ls, st, h) = mX E gP (mV E gP) 145 b145_18 ls st h := lab_row (mcode_row grw145 rfl) ls st h
theorem lb145_39 {E : mE} (ls : mL) (st : List Value) (h : mH) : mV E gP (145, 39, ls, st, h) = mX E gP (mV E gP) 145 b145_39 ls st h := lab_row (mcode_row grw145 rfl) ls st h
theorem lb145_45 {E : mE} (ls : mL) (st : List Value) (h : mH) : mV E gP (145, 45, ls, st, h) = mX E gP (mV E gP) 145 b145_45 ls st h := lab_row (mcode_row grw145 rfl) ls st h
theorem en145 {E : mE} (v0 v1 : Value) (h : mH) : mRun E gP 145 [v0, v1] h = mX E gP (mV E gP) 145 b145_0 [some v0, some v1, none, none] [] h := ent_row (mcode_row grw145 rfl) gm145 _ h
theorem lb146_0 {E : mE} (ls : mL) (st : List Value) (h : mH) : mV E gP (146, 0, ls, st, h) = mX E gP (mV E gP) 146 b146_0 ls st h := lab_row (mcode_row grw146 rfl) ls st h
theorem lb146_24 {E : mE} (ls : mL) (st : List Value) (h : mH) : mV E gP (146, 24, ls, st, h) = mX E gP (mV E gP) 146 b146_24 ls st h := lab_row (mcode_row grw146 rfl) ls st h
theorem lb146_25 {E : mE} (ls : mL) (st : List Value) (h : mH) : mV E gP (146, 25, ls, st, h) = mX E gP (mV E gP) 146 b146_25 ls st h := lab_row (mcode_row grw146 rfl) ls st h
theorem lb146_72 {E : mE} (ls : mL) (st : List Value) (h : mH) : mV E gP (146, 72, ls, st, h) = mX E gP (mV E gP) 146 b146_72 ls st h := lab_row (mcode_row grw146 rfl) ls st h
theorem lb146_79 {E : mE} (ls : mL) (st : List Value) (h : mH) : mV E gP (146, 79, ls, st, h) = mX E gP (mV E gP) 146 b146_79 ls st h := lab_row (mcode_row grw146 rfl) ls st h
theorem lb146_84 {E : mE} (ls : mL) (st : List Value) (h : mH) : mV E gP (146, 84, ls, st, h) = mX E gP (mV E gP) 146 b146_84 ls st h := lab_row (mcode_row grw146 rfl) ls st h
theorem lb146_92 {E : mE} (ls : mL) (st : List Value) (h : mH) : mV E gP (146, 92, ls, st, h) = mX E gP (mV E gP) 146 b146_92 ls st h := lab_row (mcode_row grw146 rfl) ls st h
theorem lb146_97 {E : mE} (ls : mL) (st : List Value) (h : mH) : mV E gP (146, 97, ls, st, h) = mX E gP (mV E gP) 146 b146_97 ls st h := lab_row (mcode_row grw146 rfl) ls st h
theorem en146 {E : mE} (v0 v1 v2 : Value) (h : mH) : mRun E gP 146 [v0, v1, v2] h = mX E gP (mV E gP) 146 b146_0 [some v0, some v1, some v2, none, none] [] h := ent_row (mcode_row grw146 rfl) gm146 _ h
theorem lb147_0 {E : mE} (ls : mL) (st : List Value) (h : mH) : mV E gP (147, 0, ls, st, h) = mX E gP (mV E gP) 147 b147_0 ls st h := lab_row (mcode_row grw147 rfl) ls st h
theorem en147 {E : mE} (v0 v1 v2 : Value) (h : mH) : mRun E gP 147 [v0, v1, v2] h = mX E gP (mV E gP) 147 b147_0 [some v0, some v1, some v2, none] [] h := ent_row (mcode_row grw147 rfl) gm147 _ h
theorem lb148_0 {E : mE} (ls : mL) (st : List Value) (h : mH) : mV E gP (148, 0, ls, st, h) = mX E gP (mV E gP) 148 b148_0 ls st h := lab_row (mcode_row grw148 rfl) ls st h
theorem lb148_32 {E : mE} (ls : mL) (st : List Value) (h : mH) : mV E gP (148, 32, ls, st, h) = mX E gP (mV E gP) 148 b148_32 ls st h := lab_row (mcode_row grw148 rfl) ls st h
theorem lb148_51 {E : mE} (ls : mL) (st : List Value) (h : mH) : mV E gP (148, 51, ls, st, h) = mX E gP (mV E gP) 148 b148_51 ls st h := lab_row (mcode_row grw148 rfl) ls st h
theorem lb148_61 {E : mE} (ls : mL) (st : List Value) (h : mH) : mV E gP (148, 61, ls, st, h) = mX E gP (mV E gP) 148 b148_61 ls st h := lab_row (mcode_row grw148 rfl) ls st h
theorem en148 {E : mE} (v0 v1 v2 : Value) (h : mH) : mRun E gP 148 [v0, v1, v2] h = mX E gP (mV E gP) 148 b148_0 [some v0, some v1, some v2, none, none] [] h := ent_row (mcode_row grw148 rfl) gm148 _ h
theorem lb149_0 {E : mE} (ls : mL) (st : List Value) (h : mH) : mV E gP (149, 0, ls, st, h) = mX E gP (mV E gP) 149 b149_0 ls st h := lab_row (mcode_row grw149 rfl) ls st h
theorem lb149_39 {E : mE} (ls : mL) (st : List Value) (h : mH) : mV E gP (149, 39, ls, st, h) = mX E gP (mV E gP) 149 b149_39 ls st h := lab_row (mcode_row grw149 rfl) ls st h
theorem lb149_56 {E : mE} (ls : mL) (st : List Value) (h : mH) : mV E gP (149, 56, ls, st, h) = mX E gP (mV E gP) 149 b149_56 ls st h := lab_row (mcode_row grw149 rfl) ls st h
theorem en149 {E : mE} (v0 v1 v2 : Value) (h : mH) : mRun E gP 149 [v0, v1, v2] h = mX E gP (mV E gP) 149 b149_0 [some v0, some v1, some v2, none, none, none] [] h := ent_row (mcode_row grw149 rfl) gm149 _ h
theorem lb150_0 {E : mE} (ls : mL) (st : List Value) (h : mH) : mV E gP (150, 0, ls, st, h) = mX E gP (mV E gP) 150 b150_0 ls st h := lab_row (mcode_row grw150 rfl) ls st h
theorem lb150_34 {E : mE} (ls : mL) (st : List Value) (h : mH) : mV E gP (150, 34, ls, st, h) = mX E gP (mV E gP) 150 b150_34 ls st h := lab_row (mcode_row grw150 rfl) ls st h
theorem lb150_53 {E : mE} (ls : mL) (st : List Value) (h : mH) : mV E gP (150, 53, ls, st, h) = mX E gP (mV E gP) 150 b150_53 ls st h := lab_row (mcode_row grw150 rfl) ls st h
theorem lb150_54 {E : mE} (ls : mL) (st : List Value) (h : mH) : mV E gP (150, 54, ls, st, h) = mX E gP (mV E gP) 150 b150_54 ls st h := lab_row (mcode_row grw150 rfl) ls st h
theorem en150 {E : mE} (v0 v1 v2 : Value) (h : mH) : mRun E gP 150 [v0, v1, v2] h = mX E gP (mV E gP) 150 b150_0 [some v0, some v1, some v2, none, none, none] [] h := ent_row (mcode_row grw150 rfl) gm150 _ h
theorem lb151_0 {E : mE} (ls : mL) (st : List Value) (h : mH) : mV E gP (151, 0, ls, st, h) = mX E gP (mV E gP) 151 b151_0 ls st h := lab_row (mcode_row grw151 rfl) ls st h
theorem lb151_17 {E : mE} (ls : mL) (st : List Value) (h : mH) : mV E gP (151, 17, ls, st, h) = mX E gP (mV E gP) 151 b151_17 ls st h := lab_row (mcode_row grw151 rfl) ls st h
theorem lb151_56 {E : mE} (ls : mL) (st : List Value) (h : mH) : mV E gP (151, 56, ls, st, h) = mX E gP (mV E gP) 151 b151_56 ls st h := lab_row (mcode_row grw151 rfl) ls st h
theorem lb151_102 {E : mE} (ls : mL) (st : List Value) (h : mH) : mV E gP (151, 102, ls, st, h) = mX E gP (mV E gP) 151 b151_102 ls st h := lab_row (mcode_row grw151 rfl) ls st h
theorem lb151_109 {E : mE} (ls : mL) (st : List Value) (h : mH) : mV E gP (151, 109, ls, st, h) = mX E gP (mV E gP) 151 b151_109 ls st h := lab_row (mcode_row grw151 rfl) ls st h
theorem lb151_115 {E : mE} (ls : mL) (st : List Value) (h : mH) : mV E gP (151, 115, ls, st, h) = mX E gP (mV E gP) 151 b151_115 ls st h := lab_row (mcode_row grw151 rfl) ls st h
theorem en151 {E : mE} (v0 v1 : Value) (h : mH) : mRun E gP 151 [v0, v1] h = mX E gP (mV E gP) 151 b151_0 [some v0, some v1, none, none, none, none, none] [] h := ent_row (mcode_row grw151 rfl) gm151 _ h
theorem lb152_0 {E : mE} (ls : mL) (st : List Value) (h : mH) : mV E gP (152, 0, ls, st, h) = mX E gP (mV E gP) 152 b152_0 ls st h := lab_row (mcode_row grw152 rfl) ls st h
theorem en152 {E : mE} (v0 v1 : Value) (h : mH) : mRun E gP 152 [v0, v1] h = mX E gP (mV E gP) 152 b152_0 [some v0, some v1] [] h := ent_row (mcode_row grw152 rfl) gm152 _ h
theorem lb153_0 {E : mE} (ls : mL) (st : List Value) (h : mH) : mV E gP (153, 0, ls, st, h) = mX E gP (mV E gP) 153 b153_0 ls st h := lab_row (mcode_row grw153 rfl) ls st h
theorem en153 {E : mE} (v0 v1 v2 : Value) (h : mH) : mRun E gP 153 [v0, v1, v2] h = mX E gP (mV E gP) 153 b153_0 [some v0, some v1, some v2] [] h := ent_row (mcode_row grw153 rfl) gm153 _ h
theorem lb154_0 {E : mE} (ls : mL) (st : List Value) (h : mH) : mV E gP (154, 0, ls, st, h) = mX E gP (mV E gP) 154 b154_0 ls st h := lab_row (mcode_row grw154 rfl) ls st h
theorem en154 {E : mE} (v0 v1 v2 : Value) (h : mH) : mRun E gP 154 [v0, v1, v2] h = mX E gP (mV E gP) 154 b154_0 [some v0, some v1, some v2] [] h := ent_row (mcode_row grw154 rfl) gm154 _ h
theorem lb155_0 {E : mE} (ls : mL) (st : List Value) (h : mH) : mV E gP (155, 0, ls, st, h) = mX E gP (mV E gP) 155 b155_0 ls st h := lab_row (mcode_row grw155 rfl) ls st h
theorem en155 {E : mE} (v0 v1 v2 : Value) (h : mH) : mRun E gP 155 [v0, v1, v2] h = mX E gP (mV E gP) 155 b155_0 [some v0, some v1, some v2] [] h := ent_row (mcode_row grw155 rfl) gm155 _ h
theorem lb156_0 {E : mE} (ls : mL) (st : List Value) (h : mH) : mV E gP (156, 0, ls, st, h) = mX E gP (mV E gP) 156 b156_0 ls st h := lab_row (mcode_row grw156 rfl) ls st h
theorem en156 {E : mE} (v0 v1 v2 v3 : Value) (h : mH) : mRun E gP 156 [v0, v1, v2, v3] h = mX E gP (mV E gP) 156 b156_0 [some v0, some v1, some v2, some v3] [] h := ent_row (mcode_row grw156 rfl) gm156 _ h
theorem lb157_0 {E : mE} (ls : mL) (st : List Value) (h : mH) : mV E gP (157, 0, ls, st, h) = mX E gP (mV E gP) 157 b157_0 ls st h := lab_row (mcode_row grw157 rfl) ls st h
theorem en157 {E : mE} (v0 v1 v2 : Value) (h : mH) : mRun E gP 157 [v0, v1, v2] h = mX E gP (mV E gP) 157 b157_0 [some v0, some v1, some v2] [] h := ent_row (mcode_row grw157 rfl) gm157 _ h
theorem lb158_0 {E : mE} (ls : mL) (st : List Value) (h : mH) : mV E gP (158, 0, ls, st, h) = mX E gP (mV E gP) 158 b158_0 ls st h := lab_row (mcode_row grw158 rfl) ls st h
theorem en158 {E : mE} (v0 v1 : Value) (h : mH) : mRun E gP 158 [v0, v1] h = mX E gP (mV E gP) 158 b158_0 [some v0, some v1] [] h := ent_row (mcode_row grw158 rfl) gm158 _ h
theorem lb159_0 {E : mE} (ls : mL) (st : List Value) (h : mH) : mV E gP (159, 0, ls, st, h) = mX E gP (mV E gP) 159 b159_0 ls st h := lab_row (mcode_row grw159 rfl) ls st h
theorem lb159_30 {E : mE} (ls : mL) (st : List Value) (h : mH) : mV E gP (159, 30, ls, st, h) = mX E gP (mV E gP) 159 b159_30 ls st h := lab_row (mcode_row grw159 rfl) ls st h
theorem lb159_76 {E : mE} (ls : mL) (st : List Value) (h : mH) : mV E gP (159, 76, ls, st, h) = mX E gP (mV E gP) 159 b159_76 ls st h := lab_row (mcode_row grw159 rfl) ls st h
theorem en159 {E : mE} (v0 v1 : Value) (h : mH) : mRun E gP 159 [v0, v1] h = mX E gP (mV E gP) 159 b159_0 [some v0, some v1, none] [] h := ent_row (mcode_row grw159 rfl) gm159 _ h
theorem lb160_0 {E : mE} (ls : mL) (st : List Value) (h : mH) : mV E gP (160, 0, ls, st, h) = mX E gP (mV E gP) 160 b160_0 ls st h := lab_row (mcode_row grw160 rfl) ls st h
theorem lb160_36 {E : mE} (ls : mL) (st : List Value) (h : mH) : mV E gP (160, 36, ls, st, h) = mX E gP (mV E gP) 160 b160_36 ls st h := lab_row (mcode_row grw160 rfl) ls st h
theorem lb160_47 {E : mE} (ls : mL) (st : List Value) (h : mH) : mV E gP (160, 47, ls, st, h) = mX E gP (mV E gP) 160 b160_47 ls st h := lab_row (mcode_row grw160 rfl) ls st h
theorem lb160_58 {E : mE} (ls : mL) (st : List Value) (h : mH) : mV E gP (160, 58, ls, st, h) = mX E gP (mV E gP) 160 b160_58 ls st h := lab_row (mcode_row grw160 rfl) ls st h
theorem lb160_71 {E : mE} (ls : mL) (st : List Value) (h : mH) : mV E gP (160, 71, ls, st, h) = mX E gP (mV E gP) 160 b160_71 ls st h := lab_row (mcode_row grw160 rfl) ls st h
theorem lb160_87 {E : mE} (ls : mL) (st : List Value) (h : mH) : mV E gP (160, 87, ls, st, h) = mX E gP (mV E gP) 160 b160_87 ls st h := lab_row (mcode_row grw160 rfl) ls st h
theorem lb160_99 {E : mE} (ls : mL) (st : List Value) (h : mH) : mV E gP (160, 99, ls, st, h) = mX E gP (mV E gP) 160 b160_99 ls st h := lab_row (mcode_row grw160 rfl) ls st h
theorem en160 {E : mE} (v0 v1 : Value) (h : mH) : mRun E gP 160 [v0, v1] h = mX E gP (mV E gP) 160 b160_0 [some v0, some v1, none, none] [] h := ent_row (mcode_row grw160 rfl) gm160 _ h
theorem lb161_0 {E : mE} (ls : mL) (st : List Value) (h : mH) : mV E gP (161, 0, ls, st, h) = mX E gP (mV E gP) 161 b161_0 ls st h := lab_row (mcode_row grw161 rfl) ls st h
theorem lb161_2 {E : mE} (ls : mL) (st : List Value) (h : mH) : mV E gP (161, 2, ls, st, h) = mX E gP (mV E gP) 161 b161_2 ls st h := lab_row (mcode_row grw161 rfl) ls st h
theorem lb161_39 {E : mE} (ls : mL) (st : List Value) (h : mH) : mV E gP (161, 39, ls, st, h) = mX E gP (mV E gP) 161 b161_39 ls st h := lab_row (mcode_row grw161 rfl) ls st h
theorem lb161_45 {E : mE} (ls : mL) (st : List Value) (h : mH) : mV E gP (161, 45, ls, st, h) = mX E gP (mV E gP) 161 b161_45 ls st h := lab_row (mcode_row grw161 rfl) ls st h
theorem en161 {E : mE} (v0 v1 : Value) (h : mH) : mRun E gP 161 [v0, v1] h = mX E gP (mV E gP) 161 b161_0 [some v0, some v1, none] [] h := ent_row (mcode_row grw161 rfl) gm161 _ h
theorem lb162_0 {E : mE} (ls : mL) (st : List Value) (h : mH) : mV E gP (162, 0, ls, st, h) = mX E gP (mV E gP) 162 b162_0 ls st h := lab_row (mcode_row grw162 rfl) ls st h
theorem en162 {E : mE} (v0 v1 : Value) (h : mH) : mRun E gP 162 [v0, v1] h = mX E gP (mV E gP) 162 b162_0 [some v0, some v1] [] h := ent_row (mcode_row grw162 rfl) gm162 _ h
theorem lb163_0 {E : mE} (ls : mL) (st : List Value) (h : mH) : mV E gP (163, 0, ls, st, h) = mX E gP (mV E gP) 163 b163_0 ls st h := lab_row (mcode_row grw163 rfl) ls st h
theorem lb163_26 {E : mE} (ls : mL) (st : List Value) (h : mH) : mV E gP (163, 26, ls, st, h) = mX E gP (mV E gP) 163 b163_26 ls st h := lab_row (mcode_row grw163 rfl) ls st h
theorem en163 {E : mE} (v0 v1 : Value) (h : mH) : mRun E gP 163 [v0, v1] h = mX E gP (mV E gP) 163 b163_0 [some v0, some v1] [] h := ent_row (mcode_row grw163 rfl) gm163 _ h
theorem lb164_0 {E : mE} (ls : mL) (st : List Value) (h : mH) : mV E gP (164, 0, ls, st, h) = mX E gP (mV E gP) 164 b164_0 ls st h := lab_row (mcode_row grw164 rfl) ls st h
theorem en164 {E : mE} (v0 v1 : Value) (h : mH) : mRun E gP 164 [v0, v1] h = mX E gP (mV E gP) 164 b164_0 [some v0, some v1] [] h := ent_row (mcode_row grw164 rfl) gm164 _ h
theorem lb165_0 {E : mE} (ls : mL) (st : List Value) (h : mH) : mV E gP (165, 0, ls, st, h) = mX E gP (mV E gP) 165 b165_0 ls st h := lab_row (mcode_row grw165 rfl) ls st h
theorem lb165_75 {E : mE} (ls : mL) (st : List Value) (h : mH) : mV E gP (165, 75, ls, st, h) = mX E gP (mV E gP) 165 b165_75 ls st h := lab_row (mcode_row grw165 rfl) ls st h
theorem lb165_95 {E : mE} (ls : mL) (st : List Value) (h : mH) : mV E gP (165, 95, ls, st, h) = mX E gP (mV E gP) 165 b165_95 ls st h := lab_row (mcode_row grw165 rfl) ls st h
theorem lb165_103 {E : mE} (ls : mL) (st : List Value) (h : mH) : mV E gP (165, 103, ls, st, h) = mX E gP (mV E gP) 165 b165_103 ls st h := lab_row (mcode_row grw165 rfl) ls st h
theorem en165 {E : mE} (v0 : Value) (h : mH) : mRun E gP 165 [v0] h = mX E gP (mV E gP) 165 b165_0 [some v0, none, none, none] [] h := ent_row (mcode_row grw165 rfl) gm165 _ h
theorem lb166_0 {E : mE} (ls : mL) (st : List Value) (h : mH) : mV E gP (166, 0, ls, st, h) = mX E gP (mV E gP) 166 b166_0 ls st h := lab_row (mcode_row grw166 rfl) ls st h
theorem lb166_26 {E : mE} (ls : mL) (st : List Value) (h : mH) : mV E gP (166, 26, ls, st, h) = mX E gP (mV E gP) 166 b166_26 ls st h := lab_row (mcode_row grw166 rfl) ls st h
theorem lb166_39 {E : mE} (ls : mL) (st : List Value) (h : mH) : mV E gP (166, 39, ls, st, h) = mX E gP (mV E gP) 166 b166_39 ls st h := lab_row (mcode_row grw166 rfl) ls st h
theorem lb166_75 {E : mE} (ls : mL) (st : List Value) (h : mH) : mV E gP (166, 75, ls, st, h) = mX E gP (mV E gP) 166 b166_75 ls st h := lab_row (mcode_row grw166 rfl) ls st h
theorem lb166_90 {E : mE} (ls : mL) (st : List Value) (h : mH) : mV E gP (166, 90, ls, st, h) = mX E gP (mV E gP) 166 b166_90 ls st h := lab_row (mcode_row grw166 rfl) ls st h
theorem lb166_120 {E : mE} (ls : mL) (st : List Value) (h : mH) : mV E gP (166, 120, ls, st, h) = mX E gP (mV E gP) 166 b166_120 ls st h := lab_row (mcode_row grw166 rfl) ls st h
theorem lb166_133 {E : mE} (ls : mL) (st : List Value) (h : mH) : mV E gP (166, 133, ls, st, h) = mX E gP (mV E gP) 166 b166_133 ls st h := lab_row (mcode_row grw166 rfl) ls st h
theorem lb166_151 {E : mE} (ls : mL) (st : List Value) (h : mH) : mV E gP (166, 151, ls, st, h) = mX E gP (mV E gP) 166 b166_151 ls st h := lab_row (mcode_row grw166 rfl) ls st h
theorem lb166_163 {E : mE} (ls : mL) (st : List Value) (h : mH) : mV E gP (166, 163, ls, st, h) = mX E gP (mV E gP) 166 b166_163 ls st h := lab_row (mcode_row grw166 rfl) ls st h
theorem lb166_211 {E : mE} (ls : mL) (st : List Value) (h : mH) : mV E gP (166, 211, ls, st, h) = mX E gP (mV E gP) 166 b166_211 ls st h := lab_row (mcode_row grw166 rfl) ls st h
theorem lb166_221 {E : mE} (ls : mL) (st : List Value) (h : mH) : mV E gP (166, 221, ls, st, h) = mX E gP (mV E gP) 166 b166_221 ls st h := lab_row (mcode_row grw166 rfl) ls st h
theorem lb166_241 {E : mE} (ls : mL) (st : List Value) (h : mH) : mV E gP (166, 241, ls, st, h) = mX E gP (mV E gP) 166 b166_241 ls st h := lab_row (mcode_row grw166 rfl) ls st h
theorem lb166_244 {E : mE} (ls : mL) (st : List Value) (h : mH) : mV E gP (166, 244, ls, st, h) = mX E gP (mV E gP) 166 b166_244 ls st h := lab_row (mcode_row grw166 rfl) ls st h
theorem lb166_257 {E : mE} (ls : mL) (st : List Value) (h : mH) : mV E gP (166, 257, ls, st, h) = mX E gP (mV E gP) 166 b166_257 ls st h := lab_row (mcode_row grw166 rfl) ls st h
theorem en166 {E : mE} (v0 : Value) (h : mH) : mRun E gP 166 [v0] h = mX E gP (mV E gP) 166 b166_0 [some v0, none] [] h := ent_row (mcode_row grw166 rfl) gm166 _ h
theorem lb167_0 {E : mE} (ls : mL) (st : List Value) (h : mH) : mV E gP (167, 0, ls, st, h) = mX E gP (mV E gP) 167 b167_0 ls st h := lab_row (mcode_row grw167 rfl) ls st h
theorem lb167_27 {E : mE} (ls : mL) (st : List Value) (h : mH) : mV E gP (167, 27, ls, st, h) = mX E gP (mV E gP) 167 b167_27 ls st h := lab_row (mcode_row grw167 rfl) ls st h
theorem lb167_28 {E : mE} (ls : mL) (st : List Value) (h : mH) : mV E gP (167, 28, ls, st, h) = mX E gP (mV E gP) 167 b167_28 ls st h := lab_row (mcode_row grw167 rfl) ls st h
theorem en167 {E : mE} (v0 v1 : Value) (h : mH) : mRun E gP 167 [v0, v1] h = mX E gP (mV E gP) 167 b167_0 [some v0, some v1] [] h := ent_row (mcode_row grw167 rfl) gm167 _ h
theorem lb168_0 {E : mE} (ls : mL) (st : List Value) (h : mH) : mV E gP (168, 0, ls, st, h) = mX E gP (mV E gP) 168 b168_0 ls st h := lab_row (mcode_row grw168 rfl) ls st h
theorem en168 {E : mE} (v0 : Value) (h : mH) : mRun E gP 168 [v0] h = mX E gP (mV E gP) 168 b168_0 [some v0] [] h := ent_row (mcode_row grw168 rfl) gm168 _ h
theorem lb169_0 {E : mE} (ls : mL) (st : List Value) (h : mH) : mV E gP (169, 0, ls, st, h) = mX E gP (mV E gP) 169 b169_0 ls st h := lab_row (mcode_row grw169 rfl) ls st h
theorem en169 {E : mE} (v0 : Value) (h : mH) : mRun E gP 169 [v0] h = mX E gP (mV E gP) 169 b169_0 [some v0] [] h := ent_row (mcode_row grw169 rfl) gm169 _ h
theorem lb170_0 {E : mE} (ls : mL) (st : List Value) (h : mH) : mV E gP (170, 0, ls, st, h) = mX E gP (mV E gP) 170 b170_0 ls st h := lab_row (mcode_row grw170 rfl) ls st h
theorem lb170_25 {E : mE} (ls : mL) (st : List Value) (h : mH) : mV E gP (170, 25, ls, st, h) = mX E gP (mV E gP) 170 b170_25 ls st h := lab_row (mcode_row grw170 rfl) ls st h
theorem lb170_26 {E : mE} (ls : mL) (st : List Value) (h : mH) : mV E gP (170, 26, ls, st, h) = mX E gP (mV E gP) 170 b170_26 ls st h := lab_row (mcode_row grw170 rfl) ls st h
theorem en170 {E : mE} (v0 v1 : Value) (h : mH) : mRun E gP 170 [v0, v1] h = mX E gP (mV E gP) 170 b170_0 [some v0, some v1] [] h := ent_row (mcode_row grw170 rfl) gm170 _ h
theorem lb171_0 {E : mE} (ls : mL) (st : List Value) (h : mH) : mV E gP (171, 0, ls, st, h) = mX E gP (mV E gP) 171 b171_0 ls st h := lab_row (mcode_row grw171 rfl) ls st h
theorem lb171_17 {E : mE} (ls : mL) (st : List Value) (h : mH) : mV E gP (171, 17, ls, st, h) = mX E gP (mV E gP) 171 b171_17 ls st h := lab_row (mcode_row grw171 rfl) ls st h
theorem en171 {E : mE} (v0 v1 v2 : Value) (h : mH) : mRun E gP 171 [v0, v1, v2] h = mX E gP (mV E gP) 171 b171_0 [some v0, some v1, some v2] [] h := ent_row (mcode_row grw171 rfl) gm171 _ h
theorem lb172_0 {E : mE} (ls : mL) (st : List Value) (h : mH) : mV E gP (172, 0, ls, st, h) = mX E gP (mV E gP) 172 b172_0 ls st h := lab_row (mcode_row grw172 rfl) ls st h
theorem lb172_15 {E : mE} (ls : mL) (st : List Value) (h : mH) : mV E gP (172, 15, ls, st, h) = mX E gP (mV E gP) 172 b172_15 ls st h := lab_row (mcode_row grw172 rfl) ls st h
theorem lb172_16 {E : mE} (ls : mL) (st : List Value) (h : mH) : mV E gP (172, 16, ls, st, h) = mX E gP (mV E gP) 172 b172_16 ls st h := lab_row (mcode_row grw172 rfl) ls st h
theorem en172 {E : mE} (v0 v1 v2 : Value) (h : mH) : mRun E gP 172 [v0, v1, v2] h = mX E gP (mV E gP) 172 b172_0 [some v0, some v1, some v2, none] [] h := ent_row (mcode_row grw172 rfl) gm172 _ h
theorem lb173_0 {E : mE} (ls : mL) (st : List Value) (h : mH) : mV E gP (173, 0, ls, st, h) = mX E gP (mV E gP) 173 b173_0 ls st h := lab_row (mcode_row grw173 rfl) ls st h
theorem lb173_15 {E : mE} (ls : mL) (st : List Value) (h : mH) : mV E gP (173, 15, ls, st, h) = mX E gP (mV E gP) 173 b173_15 ls st h := lab_row (mcode_row grw173 rfl) ls st h
theorem lb173_16 {E : mE} (ls : mL) (st : List Value) (h : mH) : mV E gP (173, 16, ls, st, h) = mX E gP (mV E gP) 173 b173_16 ls st h := lab_row (mcode_row grw173 rfl) ls st h
theorem en173 {E : mE} (v0 : Value) (h : mH) : mRun E gP 173 [v0] h = mX E gP (mV E gP) 173 b173_0 [some v0] [] h := ent_row (mcode_row grw173 rfl) gm173 _ h
theorem lb174_0 {E : mE} (ls : mL) (st : List Value) (h : mH) : mV E gP (174, 0, ls, st, h) = mX E gP (mV E gP) 174 b174_0 ls st h := lab_row (mcode_row grw174 rfl) ls st h
theorem lb174_46 {E : mE} (ls : mL) (st : List Value) (h : mH) : mV E gP (174, 46, ls, st, h) = mX E gP (mV E gP) 174 b174_46 ls st h := lab_row (mcode_row grw174 rfl) ls st h
theorem lb174_50 {E : mE} (ls : mL) (st : List Value) (h : mH) : mV E gP (174, 50, ls, st, h) = mX E gP (mV E gP) 174 b174_50 ls st h := lab_row (mcode_row grw174 rfl) ls st h
theorem lb174_51 {E : mE} (ls : mL) (st : List Value) (h : mH) : mV E gP (174, 51, ls, st, h) = mX E gP (mV E gP) 174 b174_51 ls st h := lab_row (mcode_row grw174 rfl) ls st h
theorem lb174_124 {E : mE} (ls : mL) (st : List Value) (h : mH) : mV E gP (174, 124, ls, st, h) = mX E gP (mV E gP) 174 b174_124 ls st h := lab_row (mcode_row grw174 rfl) ls st h
theorem lb174_139 {E : mE} (ls : mL) (st : List Value) (h : mH) : mV E gP (174, 139, ls, st, h) = mX E gP (mV E gP) 174 b174_139 ls st h := lab_row (mcode_row grw174 rfl) ls st h
theorem lb174_154 {E : mE} (ls : mL) (st : List Value) (h : mH) : mV E gP (174, 154, ls, st, h) = mX E gP (mV E gP) 174 b174_154 ls st h := lab_row (mcode_row grw174 rfl) ls st h
theorem lb174_169 {E : mE} (ls : mL) (st : List Value) (h : mH) : mV E gP (174, 169, ls, st, h) = mX E gP (mV E gP) 174 b174_169 ls st h := lab_row (mcode_row grw174 rfl) ls st h
theorem lb174_181 {E : mE} (ls : mL) (st : List Value) (h : mH) : mV E gP (174, 181, ls, st, h) = mX E gP (mV E gP) 174 b174_181 ls st h := lab_row (mcode_row grw174 rfl) ls st h
theorem lb174_212 {E : mE} (ls : mL) (st : List Value) (h : mH) : mV E gP (174, 212, ls, st, h) = mX E gP (mV E gP) 174 b174_212 ls st h := lab_row (mcode_row grw174 rfl) ls st h
theorem lb174_223 {E : mE} (ls : mL) (st : List Value) (h : mH) : mV E gP (174, 223, ls, st, h) = mX E gP (mV E gP) 174 b174_223 ls st h := lab_row (mcode_row grw174 rfl) ls st h
theorem lb174_231 {E : mE} (ls : mL) (st : List Value) (h : mH) : mV E gP (174, 231, ls, st, h) = mX E gP (mV E gP) 174 b174_231 ls st h := lab_row (mcode_row grw174 rfl) ls st h
theorem lb174_239 {E : mE} (ls : mL) (st : List Value) (h : mH) : mV E gP (174, 239, ls, st, h) = mX E gP (mV E gP) 174 b174_239 ls st h := lab_row (mcode_row grw174 rfl) ls st h
theorem lb174_266 {E : mE} (ls : mL) (st : List Value) (h : mH) : mV E gP (174, 266, ls, st, h) = mX E gP (mV E gP) 174 b174_266 ls st h := lab_row (mcode_row grw174 rfl) ls st h
theorem lb174_271 {E : mE} (ls : mL) (st : List Value) (h : mH) : mV E gP (174, 271, ls, st, h) = mX E gP (mV E gP) 174 b174_271 ls st h := lab_row (mcode_row grw174 rfl) ls st h
theorem en174 {E : mE} (v0 v1 : Value) (h : mH) : mRun E gP 174 [v0, v1] h = mX E gP (mV E gP) 174 b174_0 [some v0, some v1, none, none, none] [] h := ent_row (mcode_row grw174 rfl) gm174 _ h
theorem lb175_0 {E : mE} (ls : mL) (st : List Value) (h : mH) : mV E gP (175, 0, ls, st, h) = mX E gP (mV E gP) 175 b175_0 ls st h := lab_row (mcode_row grw175 rfl) ls st h
theorem lb175_52 {E : mE} (ls : mL) (st : List Value) (h : mH) : mV E gP (175, 52, ls, st, h) = mX E gP (mV E gP) 175 b175_52 ls st h := lab_row (mcode_row grw175 rfl) ls st h
theorem lb175_66 {E : mE} (ls : mL) (st : List Value) (h : mH) : mV E gP (175, 66, ls, st, h) = mX E gP (mV E gP) 175 b175_66 ls st h := lab_row (mcode_row grw175 rfl) ls st h
theorem lb175_80 {E : mE} (ls : mL) (st : List Value) (h : mH) : mV E gP (175, 80, ls, st, h) = mX E gP (mV E gP) 175 b175_80 ls st h := lab_row (mcode_row grw175 rfl) ls st h
theorem lb175_94 {E : mE} (ls : mL) (st : List Value) (h : mH) : mV E gP (175, 94, ls, st, h) = mX E gP (mV E gP) 175 b175_94 ls st h := lab_row (mcode_row grw175 rfl) ls st h
theorem lb175_105 {E : mE} (ls : mL) (st : List Value) (h : mH) : mV E gP (175, 105, ls, st, h) = mX E gP (mV E gP) 175 b175_105 ls st h := lab_row (mcode_row grw175 rfl) ls st h
theorem lb175_136 {E : mE} (ls : mL) (st : List Value) (h : mH) : mV E gP (175, 136, ls, st, h) = mX E gP (mV E gP) 175 b175_136 ls st h := lab_row (mcode_row grw175 rfl) ls st h
theorem lb175_151 {E : mE} (ls : mL) (st : List Value) (h : mH) : mV E gP (175, 151, ls, st, h) = mX E gP (mV E gP) 175 b175_151 ls st h := lab_row (mcode_row grw175 rfl) ls st h
theorem lb175_155 {E : mE} (ls : mL) (st : List Value) (h : mH) : mV E gP (175, 155, ls, st, h) = mX E gP (mV E gP) 175 b175_155 ls st h := lab_row (mcode_row grw175 rfl) ls st h
theorem lb175_170 {E : mE} (ls : mL) (st : List Value) (h : mH) : mV E gP (175, 170, ls, st, h) = mX E gP (mV E gP) 175 b175_170 ls st h := lab_row (mcode_row grw175 rfl) ls st h
theorem lb175_174 {E : mE} (ls : mL) (st : List Value) (h : mH) : mV E gP (175, 174, ls, st, h) = mX E gP (mV E gP) 175 b175_174 ls st h := lab_row (mcode_row grw175 rfl) ls st h
theorem lb175_189 {E : mE} (ls : mL) (st : List Value) (h : mH) : mV E gP (175, 189, ls, st, h) = mX E gP (mV E gP) 175 b175_189 ls st h := lab_row (mcode_row grw175 rfl) ls st h
theorem lb175_193 {E : mE} (ls : mL) (st : List Value) (h : mH) : mV E gP (175, 193, ls, st, h) = mX E gP (mV E gP) 175 b175_193 ls st h := lab_row (mcode_row grw175 rfl) ls st h
theorem lb175_209 {E : mE} (ls : mL) (st : List Value) (h : mH) : mV E gP (175, 209, ls, st, h) = mX E gP (mV E gP) 175 b175_209 ls st h := lab_row (mcode_row grw175 rfl) ls st h
theorem lb175_213 {E : mE} (ls : mL) (st : List Value) (h : mH) : mV E gP (175, 213, ls, st, h) = mX E gP (mV E gP) 175 b175_213 ls st h := lab_row (mcode_row grw175 rfl) ls st h
theorem lb175_214 {E : mE} (ls : mL) (st : List Value) (h : mH) : mV E gP (175, 214, ls, st, h) = mX E gP (mV E gP) 175 b175_214 ls st h := lab_row (mcode_row grw175 rfl) ls st h
theorem en175 {E : mE} (v0 v1 : Value) (h : mH) : mRun E gP 175 [v0, v1] h = mX E gP (mV E gP) 175 b175_0 [some v0, some v1, none, none] [] h := ent_row (mcode_row grw175 rfl) gm175 _ h
theorem lb176_0 {E : mE} (ls : mL) (st : List Value) (h : mH) : mV E gP (176, 0, ls, st, h) = mX E gP (mV E gP) 176 b176_0 ls st h := lab_row (mcode_row grw176 rfl) ls st h
theorem lb176_15 {E : mE} (ls : mL) (st : List Value) (h : mH) : mV E gP (176, 15, ls, st, h) = mX E gP (mV E gP) 176 b176_15 ls st h := lab_row (mcode_row grw176 rfl) ls st h
theorem lb176_16 {E : mE} (ls : mL) (st : List Value) (h : mH) : mV E gP (176, 16, ls, st, h) = mX E gP (mV E gP) 176 b176_16 ls st h := lab_row (mcode_row grw176 rfl) ls st h
theorem lb176_68 {E : mE} (ls : mL) (st : List Value) (h : mH) : mV E gP (176, 68, ls, st, h) = mX E gP (mV E gP) 176 b176_68 ls st h := lab_row (mcode_row grw176 rfl) ls st h
theorem lb176_69 {E : mE} (ls : mL) (st : List Value) (h : mH) : mV E gP (176, 69, ls, st, h) = mX E gP (mV E gP) 176 b176_69 ls st h := lab_row (mcode_row grw176 rfl) ls st h
theorem en176 {E : mE} (v0 v1 : Value) (h : mH) : mRun E gP 176 [v0, v1] h = mX E gP (mV E gP) 176 b176_0 [some v0, some v1] [] h := ent_row (mcode_row grw176 rfl) gm176 _ h
theorem lb177_0 {E : mE} (ls : mL) (st : List Value) (h : mH) : mV E gP (177, 0, ls, st, h) = mX E gP (mV E gP) 177 b177_0 ls st h := lab_row (mcode_row grw177 rfl) ls st h
theorem en177 {E : mE} (v0 v1 : Value) (h : mH) : mRun E gP 177 [v0, v1] h = mX E gP (mV E gP) 177 b177_0 [some v0, some v1, none, none, none] [] h := ent_row (mcode_row grw177 rfl) gm177 _ h
theorem lb178_0 {E : mE} (ls : mL) (st : List Value) (h : mH) : mV E gP (178, 0, ls, st, h) = mX E gP (mV E gP) 178 b178_0 ls st h := lab_row (mcode_row grw178 rfl) ls st h
theorem en178 {E : mE} (v0 v1 : Value) (h : mH) : mRun E gP 178 [v0, v1] h = mX E gP (mV E gP) 178 b178_0 [some v0, some v1] [] h := ent_row (mcode_row grw178 rfl) gm178 _ h
theorem lb179_0 {E : mE} (ls : mL) (st : List Value) (h : mH) : mV E gP (179, 0, ls, st, h) = mX E gP (mV E gP) 179 b179_0 ls st h := lab_row (mcode_row grw179 rfl) ls st h
theorem lb179_41 {E : mE} (ls : mL) (st : List Value) (h : mH) : mV E gP (179, 41, ls, st, h) = mX E gP (mV E gP) 179 b179_41 ls st h := lab_row (mcode_row grw179 rfl) ls st h
theorem lb179_42 {E : mE} (ls : mL) (st : List Value) (h : mH) : mV E gP (179, 42, ls, st, h) = mX E gP (mV E gP) 179 b179_42 ls st h := lab_row (mcode_row grw179 rfl) ls st h
theorem lb179_71 {E : mE} (ls : mL) (st : List Value) (h : mH) : mV E gP (179, 71, ls, st, h) = mX E gP (mV E gP) 179 b179_71 ls st h := lab_row (mcode_row grw179 rfl) ls st h
theorem lb179_72 {E : mE} (ls : mL) (st : List Value) (h : mH) : mV E gP (179, 72, ls, st, h) = mX E gP (mV E gP) 179 b179_72 ls st h := lab_row (mcode_row grw179 rfl) ls st h
theorem en179 {E : mE} (v0 v1 : Value) (h : mH) : mRun E gP 179 [v0, v1] h = mX E gP (mV E gP) 179 b179_0 [some v0, some v1, none, none, none] [] h := ent_row (mcode_row grw179 rfl) gm179 _ h
theorem lb180_0 {E : mE} (ls : mL) (st : List Value) (h : mH) : mV E gP (180, 0, ls, st, h) = mX E gP (mV E gP) 180 b180_0 ls st h := lab_row (mcode_row grw180 rfl) ls st h
theorem lb180_15 {E : mE} (ls : mL) (st : List Value) (h : mH) : mV E gP (180, 15, ls, st, h) = mX E gP (mV E gP) 180 b180_15 ls st h := lab_row (mcode_row grw180 rfl) ls st h
theorem lb180_16 {E : mE} (ls : mL) (st : List Value) (h : mH) : mV E gP (180, 16, ls, st, h) = mX E gP (mV E gP) 180 b180_16 ls st h := lab_row (mcode_row grw180 rfl) ls st h
theorem lb180_64 {E : mE} (ls : mL) (st : List Value) (h : mH) : mV E gP (180, 64, ls, st, h) = mX E gP (mV E gP) 180 b180_64 ls st h := lab_row (mcode_row grw180 rfl) ls st h
theorem lb180_65 {E : mE} (ls : mL) (st : List Value) (h : mH) : mV E gP (180, 65, ls, st, h) = mX E gP (mV E gP) 180 b180_65 ls st h := lab_row (mcode_row grw180 rfl) ls st h
theorem en180 {E : mE} (v0 v1 v2 : Value) (h : mH) : mRun E gP 180 [v0, v1, v2] h = mX E gP (mV E gP) 180 b180_0 [some v0, some v1, some v2, none] [] h := ent_row (mcode_row grw180 rfl) gm180 _ h
theorem lb181_0 {E : mE} (ls : mL) (st : List Value) (h : mH) : mV E gP (181, 0, ls, st, h) = mX E gP (mV E gP) 181 b181_0 ls st h := lab_row (mcode_row grw181 rfl) ls st h
theorem en181 {E : mE} (v0 v1 : Value) (h : mH) : mRun E gP 181 [v0, v1] h = mX E gP (mV E gP) 181 b181_0 [some v0, some v1, none] [] h := ent_row (mcode_row grw181 rfl) gm181 _ h
theorem lb182_0 {E : mE} (ls : mL) (st : List Value) (h : mH) : mV E gP (182, 0, ls, st, h) = mX E gP (mV E gP) 182 b182_0 ls st h := lab_row (mcode_row grw182 rfl) ls st h
theorem lb182_12 {E : mE} (ls : mL) (st : List Value) (h : mH) : mV E gP (182, 12, ls, st, h) = mX E gP (mV E gP) 182 b182_12 ls st h := lab_row (mcode_row grw182 rfl) ls st h
theorem lb182_45 {E : mE} (ls : mL) (st : List Value) (h : mH) : mV E gP (182, 45, ls, st, h) = mX E gP (mV E gP) 182 b182_45 ls st h := lab_row (mcode_row grw182 rfl) ls st h
theorem lb182_46 {E : mE} (ls : mL) (st : List Value) (h : mH) : mV E gP (182, 46, ls, st, h) = mX E gP (mV E gP) 182 b182_46 ls st h := lab_row (mcode_row grw182 rfl) ls st h
theorem lb182_65 {E : mE} (ls : mL) (st : List Value) (h : mH) : mV E gP (182, 65, ls, st, h) = mX E gP (mV E gP) 182 b182_65 ls st h := lab_row (mcode_row grw182 rfl) ls st h
theorem en182 {E : mE} (v0 : Value) (h : mH) : mRun E gP 182 [v0] h = mX E gP (mV E gP) 182 b182_0 [some v0, none] [] h := ent_row (mcode_row grw182 rfl) gm182 _ h
theorem lb183_0 {E : mE} (ls : mL) (st : List Value) (h : mH) : mV E gP (183, 0, ls, st, h) = mX E gP (mV E gP) 183 b183_0 ls st h := lab_row (mcode_row grw183 rfl) ls st h
theorem lb183_60 {E : mE} (ls : mL) (st : List Value) (h : mH) : mV E gP (183, 60, ls, st, h) = mX E gP (mV E gP) 183 b183_60 ls st h := lab_row (mcode_row grw183 rfl) ls st h
theorem lb183_74 {E : mE} (ls : mL) (st : List Value) (h : mH) : mV E gP (183, 74, ls, st, h) = mX E gP (mV E gP) 183 b183_74 ls st h := lab_row (mcode_row grw183 rfl) ls st h
theorem lb183_88 {E : mE} (ls : mL) (st : List Value) (h : mH) : mV E gP (183, 88, ls, st, h) = mX E gP (mV E gP) 183 b183_88 ls st h := lab_row (mcode_row grw183 rfl) ls st h
theorem lb183_102 {E : mE} (ls : mL) (st : List Value) (h : mH) : mV E gP (183, 102, ls, st, h) = mX E gP (mV E gP) 183 b183_102 ls st h := lab_row (mcode_row grw183 rfl) ls st h
theorem lb183_116 {E : mE} (ls : mL) (st : List Value) (h : mH) : mV E gP (183, 116, ls, st, h) = mX E gP (mV E gP) 183 b183_116 ls st h := lab_row (mcode_row grw183 rfl) ls st h
theorem lb183_127 {E : mE} (ls : mL) (st : List Value) (h : mH) : mV E gP (183, 127, ls, st, h) = mX E gP (mV E gP) 183 b183_127 ls st h := lab_row (mcode_row grw183 rfl) ls st h
theorem lb183_164 {E : mE} (ls : mL) (st : List Value) (h : mH) : mV E gP (183, 164, ls, st, h) = mX E gP (mV E gP) 183 b183_164 ls st h := lab_row (mcode_row grw183 rfl) ls st h
theorem lb183_168 {E : mE} (ls : mL) (st : List Value) (h : mH) : mV E gP (183, 168, ls, st, h) = mX E gP (mV E gP) 183 b183_168 ls st h := lab_row (mcode_row grw183 rfl) ls st h
theorem lb183_169 {E : mE} (ls : mL) (st : List Value) (h : mH) : mV E gP (183, 169, ls, st, h) = mX E gP (mV E gP) 183 b183_169 ls st h := lab_row (mcode_row grw183 rfl) ls st h
theorem en183 {E : mE} (v0 : Value) (h : mH) : mRun E gP 183 [v0] h = mX E gP (mV E gP) 183 b183_0 [some v0, none, none] [] h := ent_row (mcode_row grw183 rfl) gm183 _ h
theorem lb184_0 {E : mE} (ls : mL) (st : List Value) (h : mH) : mV E gP (184, 0, ls, st, h) = mX E gP (mV E gP) 184 b184_0 ls st h := lab_row (mcode_row grw184 rfl) ls st h
theorem lb184_52 {E : mE} (ls : mL) (st : List Value) (h : mH) : mV E gP (184, 52, ls, st, h) = mX E gP (mV E gP) 184 b184_52 ls st h := lab_row (mcode_row grw184 rfl) ls st h
theorem lb184_66 {E : mE} (ls : mL) (st : List Value) (h : mH) : mV E gP (184, 66, ls, st, h) = mX E gP (mV E gP) 184 b184_66 ls st h := lab_row (mcode_row grw184 rfl) ls st h
theorem lb184_80 {E : mE} (ls : mL) (st : List Value) (h : mH) : mV E gP (184, 80, ls, st, h) = mX E gP (mV E gP) 184 b184_80 ls st h := lab_row (mcode_row grw184 rfl) ls st h
theorem lb184_91 {E : mE} (ls : mL) (st : List Value) (h : mH) : mV E gP (184, 91, ls, st, h) = mX E gP (mV E gP) 184 b184_91 ls st h := lab_row (mcode_row grw184 rfl) ls st h
theorem lb184_120 {E : mE} (ls : mL) (st : List Value) (h : mH) : mV E gP (184, 120, ls, st, h) = mX E gP (mV E gP) 184 b184_120 ls st h := lab_row (mcode_row grw184 rfl) ls st h
theorem lb184_129 {E : mE} (ls : mL) (st : List Value) (h : mH) : mV E gP (184, 129, ls, st, h) = mX E gP (mV E gP) 184 b184_129 ls st h := lab_row (mcode_row grw184 rfl) ls st h
theorem lb184_137 {E : mE} (ls : mL) (st : List Value) (h : mH) : mV E gP (184, 137, ls, st, h) = mX E gP (mV E gP) 184 b184_137 ls st h := lab_row (mcode_row grw184 rfl) ls st h
theorem lb184_161 {E : mE} (ls : mL) (st : List Value) (h : mH) : mV E gP (184, 161, ls, st, h) = mX E gP (mV E gP) 184 b184_161 ls st h := lab_row (mcode_row grw184 rfl) ls st h
theorem lb184_168 {E : mE} (ls : mL) (st : List Value) (h : mH) : mV E gP (184, 168, ls, st, h) = mX E gP (mV E gP) 184 b184_168 ls st h := lab_row (mcode_row grw184 rfl) ls st h
theorem en184 {E : mE} (v0 : Value) (h : mH) : mRun E gP 184 [v0] h = mX E gP (mV E gP) 184 b184_0 [some v0, none, none, none] [] h := ent_row (mcode_row grw184 rfl) gm184 _ h
theorem lb185_0 {E : mE} (ls : mL) (st : List Value) (h : mH) : mV E gP (185, 0, ls, st, h) = mX E gP (mV E gP) 185 b185_0 ls st h := lab_row (mcode_row grw185 rfl) ls st h
theorem en185 {E : mE} (v0 v1 v2 : Value) (h : mH) : mRun E gP 185 [v0, v1, v2] h = mX E gP (mV E gP) 185 b185_0 [some v0, some v1, some v2, none] [] h := ent_row (mcode_row grw185 rfl) gm185 _ h
theorem lb186_0 {E : mE} (ls : mL) (st : List Value) (h : mH) : mV E gP (186, 0, ls, st, h) = mX E gP (mV E gP) 186 b186_0 ls st h := lab_row (mcode_row grw186 rfl) ls st h
theorem en186 {E : mE} (v0 : Value) (h : mH) : mRun E gP 186 [v0] h = mX E gP (mV E gP) 186 b186_0 [some v0] [] h := ent_row (mcode_row grw186 rfl) gm186 _ h
theorem lb187_0 {E : mE} (ls : mL) (st : List Value) (h : mH) : mV E gP (187, 0, ls, st, h) = mX E gP (mV E gP) 187 b187_0 ls st h := lab_row (mcode_row grw187 rfl) ls st h
theorem en187 {E : mE} (v0 v1 : Value) (h : mH) : mRun E gP 187 [v0, v1] h = mX E gP (mV E gP) 187 b187_0 [some v0, some v1, none, none] [] h := ent_row (mcode_row grw187 rfl) gm187 _ h
theorem lb188_0 {E : mE} (ls : mL) (st : List Value) (h : mH) : mV E gP (188, 0, ls, st, h) = mX E gP (mV E gP) 188 b188_0 ls st h := lab_row (mcode_row grw188 rfl) ls st h
theorem en188 {E : mE} (v0 v1 v2 : Value) (h : mH) : mRun E gP 188 [v0, v1, v2] h = mX E gP (mV E gP) 188 b188_0 [some v0, some v1, some v2] [] h := ent_row (mcode_row grw188 rfl) gm188 _ h
theorem lb189_0 {E : mE} (ls : mL) (st : List Value) (h : mH) : mV E gP (189, 0, ls, st, h) = mX E gP (mV E gP) 189 b189_0 ls st h := lab_row (mcode_row grw189 rfl) ls st h
theorem en189 {E : mE} (v0 v1 v2 : Value) (h : mH) : mRun E gP 189 [v0, v1, v2] h = mX E gP (mV E gP) 189 b189_0 [some v0, some v1, some v2] [] h := ent_row (mcode_row grw189 rfl) gm189 _ h
theorem lb190_0 {E : mE} (ls : mL) (st : List Value) (h : mH) : mV E gP (190, 0, ls, st, h) = mX E gP (mV E gP) 190 b190_0 ls st h := lab_row (mcode_row grw190 rfl) ls st h
theorem en190 {E : mE} (v0 : Value) (h : mH) : mRun E gP 190 [v0] h = mX E gP (mV E gP) 190 b190_0 [some v0] [] h := ent_row (mcode_row grw190 rfl) gm190 _ h
theorem lb191_0 {E : mE} (ls : mL) (st : List Value) (h : mH) : mV E gP (191, 0, ls, st, h) = mX E gP (mV E gP) 191 b191_0 ls st h := lab_row (mcode_row grw191 rfl) ls st h
theorem en191 {E : mE} (v0 v1 v2 : Value) (h : mH) : mRun E gP 191 [v0, v1, v2] h = mX E gP (mV E gP) 191 b191_0 [some v0, some v1, some v2] [] h := ent_row (mcode_row grw191 rfl) gm191 _ h
theorem lb192_0 {E : mE} (ls : mL) (st : List Value) (h : mH) : mV E gP (192, 0, ls, st, h) = mX E gP (mV E gP) 192 b192_0 ls st h := lab_row (mcode_row grw192 rfl) ls st h
theorem en192 {E : mE} (v0 v1 : Value) (h : mH) : mRun E gP 192 [v0, v1] h = mX E gP (mV E gP) 192 b192_0 [some v0, some v1] [] h := ent_row (mcode_row grw192 rfl) gm192 _ h
theorem lb193_0 {E : mE} (ls : mL) (st : List Value) (h : mH) : mV E gP (193, 0, ls, st, h) = mX E gP (mV E gP) 193 b193_0 ls st h := lab_row (mcode_row grw193 rfl) ls st h
theorem en193 {E : mE} (v0 v1 : Value) (h : mH) : mRun E gP 193 [v0, v1] h = mX E gP (mV E gP) 193 b193_0 [some v0, some v1] [] h := ent_row (mcode_row grw193 rfl) gm193 _ h
theorem lb194_0 {E : mE} (ls : mL) (st : List Value) (h : mH) : mV E gP (194, 0, ls, st, h) = mX E gP (mV E gP) 194 b194_0 ls st h := lab_row (mcode_row grw194 rfl) ls st h
theorem lb194_74 {E : mE} (ls : mL) (st : List Value) (h : mH) : mV E gP (194, 74, ls, st, h) = mX E gP (mV E gP) 194 b194_74 ls st h := lab_row (mcode_row grw194 rfl) ls st h
theorem lb194_75 {E : mE} (ls : mL) (st : List Value) (h : mH) : mV E gP (194, 75, ls, st, h) = mX E gP (mV E gP) 194 b194_75 ls st h := lab_row (mcode_row grw194 rfl) ls st h
theorem en194 {E : mE} (v0 v1 v2 : Value) (h : mH) : mRun E gP 194 [v0, v1, v2] h = mX E gP (mV E gP) 194 b194_0 [some v0, some v1, some v2, none, none] [] h := ent_row (mcode_row grw194 rfl) gm194 _ h
theorem lb195_0 {E : mE} (ls : mL) (st : List Value) (h : mH) : mV E gP (195, 0, ls, st, h) = mX E gP (mV E gP) 195 b195_0 ls st h := lab_row (mcode_row grw195 rfl) ls st h
theorem lb195_9 {E : mE} (ls : mL) (st : List Value) (h : mH) : mV E gP (195, 9, ls, st, h) = mX E gP (mV E gP) 195 b195_9 ls st h := lab_row (mcode_row grw195 rfl) ls st h
theorem lb195_18 {E : mE} (ls : mL) (st : List Value) (h : mH) : mV E gP (195, 18, ls, st, h) = mX E gP (mV E gP) 195 b195_18 ls st h := lab_row (mcode_row grw195 rfl) ls st h
theorem lb195_19 {E : mE} (ls : mL) (st : List Value) (h : mH) : mV E gP (195, 19, ls, st, h) = mX E gP (mV E gP) 195 b195_19 ls st h := lab_row (mcode_row grw195 rfl) ls st h
theorem en195 {E : mE} (v0 : Value) (h : mH) : mRun E gP 195 [v0] h = mX E gP (mV E gP) 195 b195_0 [some v0] [] h := ent_row (mcode_row grw195 rfl) gm195 _ h
theorem lb196_0 {E : mE} (ls : mL) (st : List Value) (h : mH) : mV E gP (196, 0, ls, st, h) = mX E gP (mV E gP) 196 b196_0 ls st h := lab_row (mcode_row grw196 rfl) ls st h
theorem lb196_9 {E : mE} (ls : mL) (st : List Value) (h : mH) : mV E gP (196, 9, ls, st, h) = mX E gP (mV E gP) 196 b196_9 ls st h := lab_row (mcode_row grw196 rfl) ls st h
theorem lb196_17 {E : mE} (ls : mL) (st : List Value) (h : mH) : mV E gP (196, 17, ls, st, h) = mX E gP (mV E gP) 196 b196_17 ls st h := lab_row (mcode_row grw196 rfl) ls st h
theorem lb196_18 {E : mE} (ls : mL) (st : List Value) (h : mH) : mV E gP (196, 18, ls, st, h) = mX E gP (mV E gP) 196 b196_18 ls st h := lab_row (mcode_row grw196 rfl) ls st h
theorem en196 {E : mE} (v0 : Value) (h : mH) : mRun E gP 196 [v0] h = mX E gP (mV E gP) 196 b196_0 [some v0] [] h := ent_row (mcode_row grw196 rfl) gm196 _ h
theorem lb197_0 {E : mE} (ls : mL) (st : List Value) (h : mH) : mV E gP (197, 0, ls, st, h) = mX E gP (mV E gP) 197 b197_0 ls st h := lab_row (mcode_row grw197 rfl) ls st h
theorem en197 {E : mE} (v0 v1 v2 : Value) (h : mH) : mRun E gP 197 [v0, v1, v2] h = mX E gP (mV E gP) 197 b197_0 [some v0, some v1, some v2, none, none] [] h := ent_row (mcode_row grw197 rfl) gm197 _ h
theorem lb198_0 {E : mE} (ls : mL) (st : List Value) (h : mH) : mV E gP (198, 0, ls, st, h) = mX E gP (mV E gP) 198 b198_0 ls st h := lab_row (mcode_row grw198 rfl) ls st h
theorem en198 {E : mE} (v0 v1 v2 : Value) (h : mH) : mRun E gP 198 [v0, v1, v2] h = mX E gP (mV E gP) 198 b198_0 [some v0, some v1, some v2] [] h := ent_row (mcode_row grw198 rfl) gm198 _ h
theorem lb199_0 {E : mE} (ls : mL) (st : List Value) (h : mH) : mV E gP (199, 0, ls, st, h) = mX E gP (mV E gP) 199 b199_0 ls st h := lab_row (mcode_row grw199 rfl) ls st h
theorem lb199_17 {E : mE} (ls : mL) (st : List Value) (h : mH) : mV E gP (199, 17, ls, st, h) = mX E gP (mV E gP) 199 b199_17 ls st h := lab_row (mcode_row grw199 rfl) ls st h
theorem lb199_38 {E : mE} (ls : mL) (st : List Value) (h : mH) : mV E gP (199, 38, ls, st, h) = mX E gP (mV E gP) 199 b199_38 ls st h := lab_row (mcode_row grw199 rfl) ls st h
theorem lb199_44 {E : mE} (ls : mL) (st : List Value) (h : mH) : mV E gP (199, 44, ls, st, h) = mX E gP (mV E gP) 199 b199_44 ls st h := lab_row (mcode_row grw199 rfl) ls st h
theorem lb199_71 {E : mE} (ls : mL) (st : List Value) (h : mH) : mV E gP (199, 71, ls, st, h) = mX E gP (mV E gP) 199 b199_71 ls st h := lab_row (mcode_row grw199 rfl) ls st h
theorem lb199_77 {E : mE} (ls : mL) (st : List Value) (h : mH) : mV E gP (199, 77, ls, st, h) = mX E gP (mV E gP) 199 b199_77 ls st h := lab_row (mcode_row grw199 rfl) ls st h
theorem lb199_83 {E : mE} (ls : mL) (st : List Value) (h : mH) : mV E gP (199, 83, ls, st, h) = mX E gP (mV E gP) 199 b199_83 ls st h := lab_row (mcode_row grw199 rfl) ls st h
theorem lb199_85 {E : mE} (ls : mL) (st : List Value) (h : mH) : mV E gP (199, 85, ls, st, h) = mX E gP (mV E gP) 199 b199_85 ls st h := lab_row (mcode_row grw199 rfl) ls st h
theorem lb199_117 {E : mE} (ls : mL) (st : List Value) (h : mH) : mV E gP (199, 117, ls, st, h) = mX E gP (mV E gP) 199 b199_117 ls st h := lab_row (mcode_row grw199 rfl) ls st h
theorem lb199_118 {E : mE} (ls : mL) (st : List Value) (h : mH) : mV E gP (199, 118, ls, st, h) = mX E gP (mV E gP) 199 b199_118 ls st h := lab_row (mcode_row grw199 rfl) ls st h
theorem lb199_125 {E : mE} (ls : mL) (st : List Value) (h : mH) : mV E gP (199, 125, ls, st, h) = mX E gP (mV E gP) 199 b199_125 ls st h := lab_row (mcode_row grw199 rfl) ls st h
theorem en199 {E : mE} (v0 : Value) (h : mH) : mRun E gP 199 [v0] h = mX E gP (mV E gP) 199 b199_0 [some v0, none, none, none, none] [] h := ent_row (mcode_row grw199 rfl) gm199 _ h
theorem lb200_0 {E : mE} (ls : mL) (st : List Value) (h : mH) : mV E gP (200, 0, ls, st, h) = mX E gP (mV E gP) 200 b200_0 ls st h := lab_row (mcode_row grw200 rfl) ls st h
theorem lb200_13 {E : mE} (ls : mL) (st : List Value) (h : mH) : mV E gP (200, 13, ls, st, h) = mX E gP (mV E gP) 200 b200_13 ls st h := lab_row (mcode_row grw200 rfl) ls st h
theorem lb200_39 {E : mE} (ls : mL) (st : List Value) (h : mH) : mV E gP (200, 39, ls, st, h) = mX E gP (mV E gP) 200 b200_39 ls st h := lab_row (mcode_row grw200 rfl) ls st h
theorem en200 {E : mE} (v0 : Value) (h : mH) : mRun E gP 200 [v0] h = mX E gP (mV E gP) 200 b200_0 [some v0, none, none, none, none, none] [] h := ent_row (mcode_row grw200 rfl) gm200 _ h
theorem lb201_0 {E : mE} (ls : mL) (st : List Value) (h : mH) : mV E gP (201, 0, ls, st, h) = mX E gP (mV E gP) 201 b201_0 ls st h := lab_row (mcode_row grw201 rfl) ls st h
theorem en201 {E : mE} (v0 v1 v2 : Value) (h : mH) : mRun E gP 201 [v0, v1, v2] h = mX E gP (mV E gP) 201 b201_0 [some v0, some v1, some v2] [] h := ent_row (mcode_row grw201 rfl) gm201 _ h
theorem lb202_0 {E : mE} (ls : mL) (st : List Value) (h : mH) : mV E gP (202, 0, ls, st, h) = mX E gP (mV E gP) 202 b202_0 ls st h := lab_row (mcode_row grw202 rfl) ls st h
theorem en202 {E : mE} (v0 v1 v2 v3 v4 : Value) (h : mH) : mRun E gP 202 [v0, v1, v2, v3, v4] h = mX E gP (mV E gP) 202 b202_0 [some v0, some v1, some v2, some v3, some v4, none] [] h := ent_row (mcode_row grw202 rfl) gm202 _ h
theorem lb203_0 {E : mE} (ls : mL) (st : List Value) (h : mH) : mV E gP (203, 0, ls, st, h) = mX E gP (mV E gP) 203 b203_0 ls st h := lab_row (mcode_row grw203 rfl) ls st h
theorem lb203_4 {E : mE} (ls : mL) (st : List Value) (h : mH) : mV E gP (203, 4, ls, st, h) = mX E gP (mV E gP) 203 b203_4 ls st h := lab_row (mcode_row grw203 rfl) ls st h
theorem lb203_38 {E : mE} (ls : mL) (st : List Value) (h : mH) : mV E gP (203, 38, ls, st, h) = mX E gP (mV E gP) 203 b203_38 ls st h := lab_row (mcode_row grw203 rfl) ls st h
theorem lb203_39 {E : mE} (ls : mL) (st : List Value) (h : mH) : mV E gP (203, 39, ls, st, h) = mX E gP (mV E gP) 203 b203_39 ls st h := lab_row (mcode_row grw203 rfl) ls st h
theorem lb203_50 {E : mE} (ls : mL) (st : List Value) (h : mH) : mV E gP (203, 50, ls, st, h) = mX E gP (mV E gP) 203 b203_50 ls st h := lab_row (mcode_row grw203 rfl) ls st h
theorem en203 {E : mE} (v0 v1 : Value) (h : mH) : mRun E gP 203 [v0, v1] h = mX E gP (mV E gP) 203 b203_0 [some v0, some v1, none, none] [] h := ent_row (mcode_row grw203 rfl) gm203 _ h
theorem lb204_0 {E : mE} (ls : mL) (st : List Value) (h : mH) : mV E gP (204, 0, ls, st, h) = mX E gP (mV E gP) 204 b204_0 ls st h := lab_row (mcode_row grw204 rfl) ls st h
theorem lb204_4 {E : mE} (ls : mL) (st : List Value) (h : mH) : mV E gP (204, 4, ls, st, h) = mX E gP (mV E gP) 204 b204_4 ls st h := lab_row (mcode_row grw204 rfl) ls st h
theorem lb204_42 {E : mE} (ls : mL) (st : List Value) (h : mH) : mV E gP (204, 42, ls, st, h) = mX E gP (mV E gP) 204 b204_42 ls st h := lab_row (mcode_row grw204 rfl) ls st h
theorem en204 {E : mE} (v0 v1 : Value) (h : mH) : mRun E gP 204 [v0, v1] h = mX E gP (mV E gP) 204 b204_0 [some v0, some v1, none, none] [] h := ent_row (mcode_row grw204 rfl) gm204 _ h
theorem lb205_0 {E : mE} (ls : mL) (st : List Value) (h : mH) : mV E gP (205, 0, ls, st, h) = mX E gP (mV E gP) 205 b205_0 ls st h := lab_row (mcode_row grw205 rfl) ls st h
theorem lb205_4 {E : mE} (ls : mL) (st : List Value) (h : mH) : mV E gP (205, 4, ls, st, h) = mX E gP (mV E gP) 205 b205_4 ls st h := lab_row (mcode_row grw205 rfl) ls st h
theorem lb205_58 {E : mE} (ls : mL) (st : List Value) (h : mH) : mV E gP (205, 58, ls, st, h) = mX E gP (mV E gP) 205 b205_58 ls st h := lab_row (mcode_row grw205 rfl) ls st h
theorem lb205_59 {E : mE} (ls : mL) (st : List Value) (h : mH) : mV E gP (205, 59, ls, st, h) = mX E gP (mV E gP) 205 b205_59 ls st h := lab_row (mcode_row grw205 rfl) ls st h
theorem lb205_67 {E : mE} (ls : mL) (st : List Value) (h : mH) : mV E gP (205, 67, ls, st, h) = mX E gP (mV E gP) 205 b205_67 ls st h := lab_row (mcode_row grw205 rfl) ls st h
theorem en205 {E : mE} (v0 v1 : Value) (h : mH) : mRun E gP 205 [v0, v1] h = mX E gP (mV E gP) 205 b205_0 [some v0, some v1, none, none, none] [] h := ent_row (mcode_row grw205 rfl) gm205 _ h
theorem lb206_0 {E : mE} (ls : mL) (st : List Value) (h : mH) : mV E gP (206, 0, ls, st, h) = mX E gP (mV E gP) 206 b206_0 ls st h := lab_row (mcode_row grw206 rfl) ls st h
theorem lb206_18 {E : mE} (ls : mL) (st : List Value) (h : mH) : mV E gP (206, 18, ls, st, h) = mX E gP (mV E gP) 206 b206_18 ls st h := lab_row (mcode_row grw206 rfl) ls st h
theorem lb206_57 {E : mE} (ls : mL) (st : List Value) (h : mH) : mV E gP (206, 57, ls, st, h) = mX E gP (mV E gP) 206 b206_57 ls st h := lab_row (mcode_row grw206 rfl) ls st h
theorem lb206_59 {E : mE} (ls : mL) (st : List Value) (h : mH) : mV E gP (206, 59, ls, st, h) = mX E gP (mV E gP) 206 b206_59 ls st h := lab_row (mcode_row grw206 rfl) ls st h
theorem lb206_98 {E : mE} (ls : mL) (st : List Value) (h : mH) : mV E gP (206, 98, ls, st, h) = mX E gP (mV E gP) 206 b206_98 ls st h := lab_row (mcode_row grw206 rfl) ls st h
theorem lb206_100 {E : mE} (ls : mL) (st : List Value) (h : mH) : mV E gP (206, 100, ls, st, h) = mX E gP (mV E gP) 206 b206_100 ls st h := lab_row (mcode_row grw206 rfl) ls st h
theorem lb206_139 {E : mE} (ls : mL) (st : List Value) (h : mH) : mV E gP (206, 139, ls, st, h) = mX E gP (mV E gP) 206 b206_139 ls st h := lab_row (mcode_row grw206 rfl) ls st h
theorem lb206_141 {E : mE} (ls : mL) (st : List Value) (h : mH) : mV E gP (206, 141, ls, st, h) = mX E gP (mV E gP) 206 b206_141 ls st h := lab_row (mcode_row grw206 rfl) ls st h
theorem lb206_180 {E : mE} (ls : mL) (st : List Value) (h : mH) : mV E gP (206, 180, ls, st, h) = mX E gP (mV E gP) 206 b206_180 ls st h := lab_row (mcode_row grw206 rfl) ls st h
theorem en206 {E : mE} (v0 : Value) (h : mH) : mRun E gP 206 [v0] h = mX E gP (mV E gP) 206 b206_0 [some v0, none, none] [] h := ent_row (mcode_row grw206 rfl) gm206 _ h
theorem lb207_0 {E : mE} (ls : mL) (st : List Value) (h : mH) : mV E gP (207, 0, ls, st, h) = mX E gP (mV E gP) 207 b207_0 ls st h := lab_row (mcode_row grw207 rfl) ls st h
theorem lb207_60 {E : mE} (ls : mL) (st : List Value) (h : mH) : mV E gP (207, 60, ls, st, h) = mX E gP (mV E gP) 207 b207_60 ls st h := lab_row (mcode_row grw207 rfl) ls st h
theorem lb207_76 {E : mE} (ls : mL) (st : List Value) (h : mH) : mV E gP (207, 76, ls, st, h) = mX E gP (mV E gP) 207 b207_76 ls st h := lab_row (mcode_row grw207 rfl) ls st h
theorem lb207_92 {E : mE} (ls : mL) (st : List Value) (h : mH) : mV E gP (207, 92, ls, st, h) = mX E gP (mV E gP) 207 b207_92 ls st h := lab_row (mcode_row grw207 rfl) ls st h
theorem lb207_108 {E : mE} (ls : mL) (st : List Value) (h : mH) : mV E gP (207, 108, ls, st, h) = mX E gP (mV E gP) 207 b207_108 ls st h := lab_row (mcode_row grw207 rfl) ls st h
theorem lb207_121 {E : mE} (ls : mL) (st : List Value) (h : mH) : mV E gP (207, 121, ls, st, h) = mX E gP (mV E gP) 207 b207_121 ls st h := lab_row (mcode_row grw207 rfl) ls st h
theorem lb207_152 {E : mE} (ls : mL) (st : List Value) (h : mH) : mV E gP (207, 152, ls, st, h) = mX E gP (mV E gP) 207 b207_152 ls st h := lab_row (mcode_row grw207 rfl) ls st h
theorem lb207_165 {E : mE} (ls : mL) (st : List Value) (h : mH) : mV E gP (207, 165, ls, st, h) = mX E gP (mV E gP) 207 b207_165 ls st h := lab_row (mcode_row grw207 rfl) ls st h
theorem lb207_178 {E : mE} (ls : mL) (st : List Value) (h : mH) : mV E gP (207, 178, ls, st, h) = mX E gP (mV E gP) 207 b207_178 ls st h := lab_row (mcode_row grw207 rfl) ls st h
theorem lb207_194 {E : mE} (ls : mL) (st : List Value) (h : mH) : mV E gP (207, 194, ls, st, h) = mX E gP (mV E gP) 207 b207_194 ls st h := lab_row (mcode_row grw207 rfl) ls st h
theorem lb207_207 {E : mE} (ls : mL) (st : List Value) (h : mH) : mV E gP (207, 207, ls, st, h) = mX E gP (mV E gP) 207 b207_207 ls st h := lab_row (mcode_row grw207 rfl) ls st h
theorem lb207_214 {E : mE} (ls : mL) (st : List Value) (h : mH) : mV E gP (207, 214, ls, st, h) = mX E gP (mV E gP) 207 b207_214 ls st h := lab_row (mcode_row grw207 rfl) ls st h
theorem en207 {E : mE} (v0 v1 : Value) (h : mH) : mRun E gP 207 [v0, v1] h = mX E gP (mV E gP) 207 b207_0 [some v0, some v1, none, none, none] [] h := ent_row (mcode_row grw207 rfl) gm207 _ h
theorem lb208_0 {E : mE} (ls : mL) (st : List Value) (h : mH) : mV E gP (208, 0, ls, st, h) = mX E gP (mV E gP) 208 b208_0 ls st h := lab_row (mcode_row grw208 rfl) ls st h
theorem lb208_19 {E : mE} (ls : mL) (st : List Value) (h : mH) : mV E gP (208, 19, ls, st, h) = mX E gP (mV E gP) 208 b208_19 ls st h := lab_row (mcode_row grw208 rfl) ls st h
theorem lb208_39 {E : mE} (ls : mL) (st : List Value) (h : mH) : mV E gP (208, 39, ls, st, h) = mX E gP (mV E gP) 208 b208_39 ls st h := lab_row (mcode_row grw208 rfl) ls st h
theorem en208 {E : mE} (v0 v1 v2 : Value) (h : mH) : mRun E gP 208 [v0, v1, v2] h = mX E gP (mV E gP) 208 b208_0 [some v0, some v1, some v2, none, none] [] h := ent_row (mcode_row grw208 rfl) gm208 _ h
theorem lb209_0 {E : mE} (ls : mL) (st : List Value) (h : mH) : mV E gP (209, 0, ls, st, h) = mX E gP (mV E gP) 209 b209_0 ls st h := lab_row (mcode_row grw209 rfl) ls st h
theorem en209 {E : mE} (v0 v1 : Value) (h : mH) : mRun E gP 209 [v0, v1] h = mX E gP (mV E gP) 209 b209_0 [some v0, some v1] [] h := ent_row (mcode_row grw209 rfl) gm209 _ h
theorem lb210_0 {E : mE} (ls : mL) (st : List Value) (h : mH) : mV E gP (210, 0, ls, st, h) = mX E gP (mV E gP) 210 b210_0 ls st h := lab_row (mcode_row grw210 rfl) ls st h
theorem en210 {E : mE} (v0 : Value) (h : mH) : mRun E gP 210 [v0] h = mX E gP (mV E gP) 210 b210_0 [some v0] [] h := ent_row (mcode_row grw210 rfl) gm210 _ h
theorem lb211_0 {E : mE} (ls : mL) (st : List Value) (h : mH) : mV E gP (211, 0, ls, st, h) = mX E gP (mV E gP) 211 b211_0 ls st h := lab_row (mcode_row grw211 rfl) ls st h
theorem lb211_27 {E : mE} (ls : mL) (st : List Value) (h : mH) : mV E gP (211, 27, ls, st, h) = mX E gP (mV E gP) 211 b211_27 ls st h := lab_row (mcode_row grw211 rfl) ls st h
theorem lb211_31 {E : mE} (ls : mL) (st : List Value) (h : mH) : mV E gP (211, 31, ls, st, h) = mX E gP (mV E gP) 211 b211_31 ls st h := lab_row (mcode_row grw211 rfl) ls st h
theorem lb211_32 {E : mE} (ls : mL) (st : List Value) (h : mH) : mV E gP (211, 32, ls, st, h) = mX E gP (mV E gP) 211 b211_32 ls st h := lab_row (mcode_row grw211 rfl) ls st h
theorem en211 {E : mE} (v0 v1 v2 : Value) (h : mH) : mRun E gP 211 [v0, v1, v2] h = mX E gP (mV E gP) 211 b211_0 [some v0, some v1, some v2, none] [] h := ent_row (mcode_row grw211 rfl) gm211 _ h
theorem lb212_0 {E : mE} (ls : mL) (st : List Value) (h : mH) : mV E gP (212, 0, ls, st, h) = mX E gP (mV E gP) 212 b212_0 ls st h := lab_row (mcode_row grw212 rfl) ls st h
theorem lb212_12 {E : mE} (ls : mL) (st : List Value) (h : mH) : mV E gP (212, 12, ls, st, h) = mX E gP (mV E gP) 212 b212_12 ls st h := lab_row (mcode_row grw212 rfl) ls st h
theorem lb212_13 {E : mE} (ls : mL) (st : List Value) (h : mH) : mV E gP (212, 13, ls, st, h) = mX E gP (mV E gP) 212 b212_13 ls st h := lab_row (mcode_row grw212 rfl) ls st h
theorem en212 {E : mE} (v0 v1 : Value) (h : mH) : mRun E gP 212 [v0, v1] h = mX E gP (mV E gP) 212 b212_0 [some v0, some v1] [] h := ent_row (mcode_row grw212 rfl) gm212 _ h
theorem lb213_0 {E : mE} (ls : mL) (st : List Value) (h : mH) : mV E gP (213, 0, ls, st, h) = mX E gP (mV E gP) 213 b213_0 ls st h := lab_row (mcode_row grw213 rfl) ls st h
theorem lb213_4 {E : mE} (ls : mL) (st : List Value) (h : mH) : mV E gP (213, 4, ls, st, h) = mX E gP (mV E gP) 213 b213_4 ls st h := lab_row (mcode_row grw213 rfl) ls st h
theorem lb213_43 {E : mE} (ls : mL) (st : List Value) (h : mH) : mV E gP (213, 43, ls, st, h) = mX E gP (mV E gP) 213 b213_43 ls st h := lab_row (mcode_row grw213 rfl) ls st h
theorem en213 {E : mE} (v0 v1 : Value) (h : mH) : mRun E gP 213 [v0, v1] h = mX E gP (mV E gP) 213 b213_0 [some v0, some v1, none, none] [] h := ent_row (mcode_row grw213 rfl) gm213 _ h
theorem lb214_0 {E : mE} (ls : mL) (st : List Value) (h : mH) : mV E gP (214, 0, ls, st, h) = mX E gP (mV E gP) 214 b214_0 ls st h := lab_row (mcode_row grw214 rfl) ls st h
theorem en214 {E : mE} (v0 v1 v2 : Value) (h : mH) : mRun E gP 214 [v0, v1, v2] h = mX E gP (mV E gP) 214 b214_0 [some v0, some v1, some v2] [] h := ent_row (mcode_row grw214 rfl) gm214 _ h
theorem lb215_0 {E : mE} (ls : mL) (st : List Value) (h : mH) : mV E gP (215, 0, ls, st, h) = mX E gP (mV E gP) 215 b215_0 ls st h := lab_row (mcode_row grw215 rfl) ls st h
theorem lb215_11 {E : mE} (ls : mL) (st : List Value) (h : mH) : mV E gP (215, 11, ls, st, h) = mX E gP (mV E gP) 215 b215_11 ls st h := lab_row (mcode_row grw215 rfl) ls st h
theorem lb215_36 {E : mE} (ls : mL) (st : List Value) (h : mH) : mV E gP (215, 36, ls, st, h) = mX E gP (mV E gP) 215 b215_36 ls st h := lab_row (mcode_row grw215 rfl) ls st h
theorem lb215_51 {E : mE} (ls : mL) (st : List Value) (h : mH) : mV E gP (215, 51, ls, st, h) = mX E gP (mV E gP) 215 b215_51 ls st h := lab_row (mcode_row grw215 rfl) ls st h
theorem lb215_64 {E : mE} (ls : mL) (st : List Value) (h : mH) : mV E gP (215, 64, ls, st, h) = mX E gP (mV E gP) 215 b215_64 ls st h := lab_row (mcode_row grw215 rfl) ls st h
theorem lb215_78 {E : mE} (ls : mL) (st : List Value) (h : mH) : mV E gP (215, 78, ls, st, h) = mX E gP (mV E gP) 215 b215_78 ls st h := lab_row (mcode_row grw215 rfl) ls st h
theorem en215 {E : mE} (v0 v1 v2 : Value) (h : mH) : mRun E gP 215 [v0, v1, v2] h = mX E gP (mV E gP) 215 b215_0 [some v0, some v1, some v2, none, none, none] [] h := ent_row (mcode_row grw215 rfl) gm215 _ h
theorem lb216_0 {E : mE} (ls : mL) (st : List Value) (h : mH) : mV E gP (216, 0, ls, st, h) = mX E gP (mV E gP) 216 b216_0 ls st h := lab_row (mcode_row grw216 rfl) ls st h
theorem lb216_10 {E : mE} (ls : mL) (st : List Value) (h : mH) : mV E gP (216, 10, ls, st, h) = mX E gP (mV E gP) 216 b216_10 ls st h := lab_row (mcode_row grw216 rfl) ls st h
theorem lb216_43 {E : mE} (ls : mL) (st : List Value) (h : mH) : mV E gP (216, 43, ls, st, h) = mX E gP (mV E gP) 216 b216_43 ls st h := lab_row (mcode_row grw216 rfl) ls st h
theorem lb216_47 {E : mE} (ls : mL) (st : List Value) (h : mH) : mV E gP (216, 47, ls, st, h) = mX E gP (mV E gP) 216 b216_47 ls st h := lab_row (mcode_row grw216 rfl) ls st h
theorem lb216_49 {E : mE} (ls : mL) (st : List Value) (h : mH) : mV E gP (216, 49, ls, st, h) = mX E gP (mV E gP) 216 b216_49 ls st h := lab_row (mcode_row grw216 rfl) ls st h
theorem en216 {E : mE} (v0 v1 v2 v3 : Value) (h : mH) : mRun E gP 216 [v0, v1, v2, v3] h = mX E gP (mV E gP) 216 b216_0 [some v0, some v1, some v2, some v3, none] [] h := ent_row (mcode_row grw216 rfl) gm216 _ h
theorem lb217_0 {E : mE} (ls : mL) (st : List Value) (h : mH) : mV E gP (217, 0, ls, st, h) = mX E gP (mV E gP) 217 b217_0 ls st h := lab_row (mcode_row grw217 rfl) ls st h
theorem lb217_28 {E : mE} (ls : mL) (st : List Value) (h : mH) : mV E gP (217, 28, ls, st, h) = mX E gP (mV E gP) 217 b217_28 ls st h := lab_row (mcode_row grw217 rfl) ls st h
theorem lb217_43 {E : mE} (ls : mL) (st : List Value) (h : mH) : mV E gP (217, 43, ls, st, h) = mX E gP (mV E gP) 217 b217_43 ls st h := lab_row (mcode_row grw217 rfl) ls st h
theorem en217 {E : mE} (v0 v1 v2 : Value) (h : mH) : mRun E gP 217 [v0, v1, v2] h = mX E gP (mV E gP) 217 b217_0 [some v0, some v1, some v2, none, none] [] h := ent_row (mcode_row grw217 rfl) gm217 _ h
theorem lb218_0 {E : mE} (ls : mL) (st : List Value) (h : mH) : mV E gP (218, 0, ls, st, h) = mX E gP (mV E gP) 218 b218_0 ls st h := lab_row (mcode_row grw218 rfl) ls st h
theorem en218 {E : mE} (v0 v1 : Value) (h : mH) : mRun E gP 218 [v0, v1] h = mX E gP (mV E gP) 218 b218_0 [some v0, some v1] [] h := ent_row (mcode_row grw218 rfl) gm218 _ h
theorem lb219_0 {E : mE} (ls : mL) (st : List Value) (h : mH) : mV E gP (219, 0, ls, st, h) = mX E gP (mV E gP) 219 b219_0 ls st h := lab_row (mcode_row grw219 rfl) ls st h
theorem lb219_29 {E : mE} (ls : mL) (st : List Value) (h : mH) : mV E gP (219, 29, ls, st, h) = mX E gP (mV E gP) 219 b219_29 ls st h := lab_row (mcode_row grw219 rfl) ls st h
theorem lb219_41 {E : mE} (ls : mL) (st : List Value) (h : mH) : mV E gP (219, 41, ls, st, h) = mX E gP (mV E gP) 219 b219_41 ls st h := lab_row (mcode_row grw219 rfl) ls st h
theorem lb219_57 {E : mE} (ls : mL) (st : List Value) (h : mH) : mV E gP (219, 57, ls, st, h) = mX E gP (mV E gP) 219 b219_57 ls st h := lab_row (mcode_row grw219 rfl) ls st h
theorem lb219_72 {E : mE} (ls : mL) (st : List Value) (h : mH) : mV E gP (219, 72, ls, st, h) = mX E gP (mV E gP) 219 b219_72 ls st h := lab_row (mcode_row grw219 rfl) ls st h
theorem en219 {E : mE} (v0 v1 v2 v3 : Value) (h : mH) : mRun E gP 219 [v0, v1, v2, v3] h = mX E gP (mV E gP) 219 b219_0 [some v0, some v1, some v2, some v3, none, none, none] [] h := ent_row (mcode_row grw219 rfl) gm219 _ h
theorem lb220_0 {E : mE} (ls : mL) (st : List Value) (h : mH) : mV E gP (220, 0, ls, st, h) = mX E gP (mV E gP) 220 b220_0 ls st h := lab_row (mcode_row grw220 rfl) ls st h
theorem lb220_25 {E : mE} (ls : mL) (st : List Value) (h : mH) : mV E gP (220, 25, ls, st, h) = mX E gP (mV E gP) 220 b220_25 ls st h := lab_row (mcode_row grw220 rfl) ls st h
theorem lb220_65 {E : mE} (ls : mL) (st : List Value) (h : mH) : mV E gP (220, 65, ls, st, h) = mX E gP (mV E gP) 220 b220_65 ls st h := lab_row (mcode_row grw220 rfl) ls st h
theorem en220 {E : mE} (v0 v1 v2 : Value) (h : mH) : mRun E gP 220 [v0, v1, v2] h = mX E gP (mV E gP) 220 b220_0 [some v0, some v1, some v2, none, none] [] h := ent_row (mcode_row grw220 rfl) gm220 _ h
theorem lb221_0 {E : mE} (ls : mL) (st : List Value) (h : mH) : mV E gP (221, 0, ls, st, h) = mX E gP (mV E gP) 221 b221_0 ls st h := lab_row (mcode_row grw221 rfl) ls st h
theorem lb221_27 {E : mE} (ls : mL) (st : List Value) (h : mH) : mV E gP (221, 27, ls, st, h) = mX E gP (mV E gP) 221 b221_27 ls st h := lab_row (mcode_row grw221 rfl) ls st h
theorem lb221_32 {E : mE} (ls : mL) (st : List Value) (h : mH) : mV E gP (221, 32, ls, st, h) = mX E gP (mV E gP) 221 b221_32 ls st h := lab_row (mcode_row grw221 rfl) ls st h
theorem en221 {E : mE} (v0 v1 : Value) (h : mH) : mRun E gP 221 [v0, v1] h = mX E gP (mV E gP) 221 b221_0 [some v0, some v1] [] h := ent_row (mcode_row grw221 rfl) gm221 _ h
theorem lb222_0 {E : mE} (ls : mL) (st : List Value) (h : mH) : mV E gP (222, 0, ls, st, h) = mX E gP (mV E gP) 222 b222_0 ls st h := lab_row (mcode_row grw222 rfl) ls st h
theorem lb222_9 {E : mE} (ls : mL) (st : List Value) (h : mH) : mV E gP (222, 9, ls, st, h) = mX E gP (mV E gP) 222 b222_9 ls st h := lab_row (mcode_row grw222 rfl) ls st h
theorem lb222_24 {E : mE} (ls : mL) (st : List Value) (h : mH) : mV E gP (222, 24, ls, st, h) = mX E gP (mV E gP) 222 b222_24 ls st h := lab_row (mcode_row grw222 rfl) ls st h
theorem en222 {E : mE} (v0 v1 : Value) (h : mH) : mRun E gP 222 [v0, v1] h = mX E gP (mV E gP) 222 b222_0 [some v0, some v1, none, none] [] h := ent_row (mcode_row grw222 rfl) gm222 _ h
theorem lb223_0 {E : mE} (ls : mL) (st : List Value) (h : mH) : mV E gP (223, 0, ls, st, h) = mX E gP (mV E gP) 223 b223_0 ls st h := lab_row (mcode_row grw223 rfl) ls st h
theorem lb223_6 {E : mE} (ls : mL) (st : List Value) (h : mH) : mV E gP (223, 6, ls, st, h) = mX E gP (mV E gP) 223 b223_6 ls st h := lab_row (mcode_row grw223 rfl) ls st h
theorem lb223_43 {E : mE} (ls : mL) (st : List Value) (h : mH) : mV E gP (223, 43, ls, st, h) = mX E gP (mV E gP) 223 b223_43 ls st h := lab_row (mcode_row grw223 rfl) ls st h
theorem lb223_64 {E : mE} (ls : mL) (st : List Value) (h : mH) : mV E gP (223, 64, ls, st, h) = mX E gP (mV E gP) 223 b223_64 ls st h := lab_row (mcode_row grw223 rfl) ls st h
theorem en223 {E : mE} (v0 : Value) (h : mH) : mRun E gP 223 [v0] h = mX E gP (mV E gP) 223 b223_0 [some v0, none] [] h := ent_row (mcode_row grw223 rfl) gm223 _ h
theorem lb224_0 {E : mE} (ls : mL) (st : List Value) (h : mH) : mV E gP (224, 0, ls, st, h) = mX E gP (mV E gP) 224 b224_0 ls st h := lab_row (mcode_row grw224 rfl) ls st h
theorem lb224_12 {E : mE} (ls : mL) (st : List Value) (h : mH) : mV E gP (224, 12, ls, st, h) = mX E gP (mV E gP) 224 b224_12 ls st h := lab_row (mcode_row grw224 rfl) ls st h
theorem lb224_62 {E : mE} (ls : mL) (st : List Value) (h : mH) : mV E gP (224, 62, ls, st, h) = mX E gP (mV E gP) 224 b224_62 ls st h := lab_row (mcode_row grw224 rfl) ls st h
theorem lb224_68 {E : mE} (ls : mL) (st : List Value) (h : mH) : mV E gP (224, 68, ls, st, h) = mX E gP (mV E gP) 224 b224_68 ls st h := lab_row (mcode_row grw224 rfl) ls st h
theorem lb224_70 {E : mE} (ls : mL) (st : List Value) (h : mH) : mV E gP (224, 70, ls, st, h) = mX E gP (mV E gP) 224 b224_70 ls st h := lab_row (mcode_row grw224 rfl) ls st h
theorem lb224_114 {E : mE} (ls : mL) (st : List Value) (h : mH) : mV E gP (224, 114, ls, st, h) = mX E gP (mV E gP) 224 b224_114 ls st h := lab_row (mcode_row grw224 rfl) ls st h
theorem en224 {E : mE} (v0 : Value) (h : mH) : mRun E gP 224 [v0] h = mX E gP (mV E gP) 224 b224_0 [some v0, none, none] [] h := ent_row (mcode_row grw224 rfl) gm224 _ h
theorem lb225_0 {E : mE} (ls : mL) (st : List Value) (h : mH) : mV E gP (225, 0, ls, st, h) = mX E gP (mV E gP) 225 b225_0 ls st h := lab_row (mcode_row grw225 rfl) ls st h
theorem lb225_14 {E : mE} (ls : mL) (st : List Value) (h : mH) : mV E gP (225, 14, ls, st, h) = mX E gP (mV E gP) 225 b225_14 ls st h := lab_row (mcode_row grw225 rfl) ls st h
theorem lb225_46 {E : mE} (ls : mL) (st : List Value) (h : mH) : mV E gP (225, 46, ls, st, h) = mX E gP (mV E gP) 225 b225_46 ls st h := lab_row (mcode_row grw225 rfl) ls st h
theorem lb225_76 {E : mE} (ls : mL) (st : List Value) (h : mH) : mV E gP (225, 76, ls, st, h) = mX E gP (mV E gP) 225 b225_76 ls st h := lab_row (mcode_row grw225 rfl) ls st h
theorem lb225_82 {E : mE} (ls : mL) (st : List Value) (h : mH) : mV E gP (225, 82, ls, st, h) = mX E gP (mV E gP) 225 b225_82 ls st h := lab_row (mcode_row grw225 rfl) ls st h
theorem en225 {E : mE} (v0 v1 : Value) (h : mH) : mRun E gP 225 [v0, v1] h = mX E gP (mV E gP) 225 b225_0 [some v0, some v1, none, none] [] h := ent_row (mcode_row grw225 rfl) gm225 _ h
theorem lb226_0 {E : mE} (ls : mL) (st : List Value) (h : mH) : mV E gP (226, 0, ls, st, h) = mX E gP (mV E gP) 226 b226_0 ls st h := lab_row (mcode_row grw226 rfl) ls st h
theorem lb226_4 {E : mE} (ls : mL) (st : List Value) (h : mH) : mV E gP (226, 4, ls, st, h) = mX E gP (mV E gP) 226 b226_4 ls st h := lab_row (mcode_row grw226 rfl) ls st h
theorem lb226_32 {E : mE} (ls : mL) (st : List Value) (h : mH) : mV E gP (226, 32, ls, st, h) = mX E gP (mV E gP) 226 b226_32 ls st h := lab_row (mcode_row grw226 rfl) ls st h
theorem en226 {E : mE} (v0 : Value) (h : mH) : mRun E gP 226 [v0] h = mX E gP (mV E gP) 226 b226_0 [some v0, none, none] [] h := ent_row (mcode_row grw226 rfl) gm226 _ h
theorem lb227_0 {E : mE} (ls : mL) (st : List Value) (h : mH) : mV E gP (227, 0, ls, st, h) = mX E gP (mV E gP) 227 b227_0 ls st h := lab_row (mcode_row grw227 rfl) ls st h
theorem en227 {E : mE} (v0 v1 : Value) (h : mH) : mRun E gP 227 [v0, v1] h = mX E gP (mV E gP) 227 b227_0 [some v0, some v1] [] h := ent_row (mcode_row grw227 rfl) gm227 _ h
theorem lb228_0 {E : mE} (ls : mL) (st : List Value) (h : mH) : mV E gP (228, 0, ls, st, h) = mX E gP (mV E gP) 228 b228_0 ls st h := lab_row (mcode_row grw228 rfl) ls st h
theorem lb228_8 {E : mE} (ls : mL) (st : List Value) (h : mH) : mV E gP (228, 8, ls, st, h) = mX E gP (mV E gP) 228 b228_8 ls st h := lab_row (mcode_row grw228 rfl) ls st h
theorem lb228_34 {E : mE} (ls : mL) (st : List Value) (h : mH) : mV E gP (228, 34, ls, st, h) = mX E gP (mV E gP) 228 b228_34 ls st h := lab_row (mcode_row grw228 rfl) ls st h
theorem en228 {E : mE} (v0 v1 v2 : Value) (h : mH) : mRun E gP 228 [v0, v1, v2] h = mX E gP (mV E gP) 228 b228_0 [some v0, some v1, some v2, none, none] [] h := ent_row (mcode_row grw228 rfl) gm228 _ h
theorem lb229_0 {E : mE} (ls : mL) (st : List Value) (h : mH) : mV E gP (229, 0, ls, st, h) = mX E gP (mV E gP) 229 b229_0 ls st h := lab_row (mcode_row grw229 rfl) ls st h
theorem lb229_45 {E : mE} (ls : mL) (st : List Value) (h : mH) : mV E gP (229, 45, ls, st, h) = mX E gP (mV E gP) 229 b229_45 ls st h := lab_row (mcode_row grw229 rfl) ls st h
theorem lb229_73 {E : mE} (ls : mL) (st : List Value) (h : mH) : mV E gP (229, 73, ls, st, h) = mX E gP (mV E gP) 229 b229_73 ls st h := lab_row (mcode_row grw229 rfl) ls st h
theorem en229 {E : mE} (v0 v1 v2 v3 : Value) (h : mH) : mRun E gP 229 [v0, v1, v2, v3] h = mX E gP (mV E gP) 229 b229_0 [some v0, some v1, some v2, some v3, none, none, none, none] [] h := ent_row (mcode_row grw229 rfl) gm229 _ h
theorem lb230_0 {E : mE} (ls : mL) (st : List Value) (h : mH) : mV E gP (230, 0, ls, st, h) = mX E gP (mV E gP) 230 b230_0 ls st h := lab_row (mcode_row grw230 rfl) ls st h
theorem lb230_24 {E : mE} (ls : mL) (st : List Value) (h : mH) : mV E gP (230, 24, ls, st, h) = mX E gP (mV E gP) 230 b230_24 ls st h := lab_row (mcode_row grw230 rfl) ls st h
theorem en230 {E : mE} (v0 v1 : Value) (h : mH) : mRun E gP 230 [v0, v1] h = mX E gP (mV E gP) 230 b230_0 [some v0, some v1, none, none] [] h := ent_row (mcode_row grw230 rfl) gm230 _ h
theorem lb231_0 {E : mE} (ls : mL) (st : List Value) (h : mH) : mV E gP (231, 0, ls, st, h) = mX E gP (mV E gP) 231 b231_0 ls st h := lab_row (mcode_row grw231 rfl) ls st h
theorem en231 {E : mE} (v0 : Value) (h : mH) : mRun E gP 231 [v0] h = mX E gP (mV E gP) 231 b231_0 [some v0] [] h := ent_row (mcode_row grw231 rfl) gm231 _ h
theorem lb232_0 {E : mE} (ls : mL) (st : List Value) (h : mH) : mV E gP (232, 0, ls, st, h) = mX E gP (mV E gP) 232 b232_0 ls st h := lab_row (mcode_row grw232 rfl) ls st h
theorem en232 {E : mE} (v0 : Value) (h : mH) : mRun E gP 232 [v0] h = mX E gP (mV E gP) 232 b232_0 [some v0] [] h := ent_row (mcode_row grw232 rfl) gm232 _ h
theorem lb233_0 {E : mE} (ls : mL) (st : List Value) (h : mH) : mV E gP (233, 0, ls, st, h) = mX E gP (mV E gP) 233 b233_0 ls st h := lab_row (mcode_row grw233 rfl) ls st h
theorem lb233_27 {E : mE} (ls : mL) (st : List Value) (h : mH) : mV E gP (233, 27, ls, st, h) = mX E gP (mV E gP) 233 b233_27 ls st h := lab_row (mcode_row grw233 rfl) ls st h
theorem lb233_31 {E : mE} (ls : mL) (st : List Value) (h : mH) : mV E gP (233, 31, ls, st, h) = mX E gP (mV E gP) 233 b233_31 ls st h := lab_row (mcode_row grw233 rfl) ls st h
theorem en233 {E : mE} (v0 v1 : Value) (h : mH) : mRun E gP 233 [v0, v1] h = mX E gP (mV E gP) 233 b233_0 [some v0, some v1, none] [] h := ent_row (mcode_row grw233 rfl) gm233 _ h
theorem lb234_0 {E : mE} (ls : mL) (st : List Value) (h : mH) : mV E gP (234, 0, ls, st, h) = mX E gP (mV E gP) 234 b234_0 ls st h := lab_row (mcode_row grw234 rfl) ls st h
theorem en234 {E : mE} (v0 v1 v2 v3 v4 : Value) (h : mH) : mRun E gP 234 [v0, v1, v2, v3, v4] h = mX E gP (mV E gP) 234 b234_0 [some v0, some v1, some v2, some v3, some v4] [] h := ent_row (mcode_row grw234 rfl) gm234 _ h
theorem lb235_0 {E : mE} (ls : mL) (st : List Value) (h : mH) : mV E gP (235, 0, ls, st, h) = mX E gP (mV E gP) 235 b235_0 ls st h := lab_row (mcode_row grw235 rfl) ls st h
theorem en235 {E : mE} (v0 : Value) (h : mH) : mRun E gP 235 [v0] h = mX E gP (mV E gP) 235 b235_0 [some v0] [] h := ent_row (mcode_row grw235 rfl) gm235 _ h
theorem lb236_0 {E : mE} (ls : mL) (st : List Value) (h : mH) : mV E gP (236, 0, ls, st, h) = mX E gP (mV E gP) 236 b236_0 ls st h := lab_row (mcode_row grw236 rfl) ls st h
theorem en236 {E : mE} (v0 v1 v2 v3 v4 v5 : Value) (h : mH) : mRun E gP 236 [v0, v1, v2, v3, v4, v5] h = mX E gP (mV E gP) 236 b236_0 [some v0, some v1, some v2, some v3, some v4, some v5] [] h := ent_row (mcode_row grw236 rfl) gm236 _ h
theorem lb237_0 {E : mE} (ls : mL) (st : List Value) (h : mH) : mV E gP (237, 0, ls, st, h) = mX E gP (mV E gP) 237 b237_0 ls st h := lab_row (mcode_row grw237 rfl) ls st h
theorem en237 {E : mE} (v0 : Value) (h : mH) : mRun E gP 237 [v0] h = mX E gP (mV E gP) 237 b237_0 [some v0] [] h := ent_row (mcode_row grw237 rfl) gm237 _ h
theorem lb238_0 {E : mE} (ls : mL) (st : List Value) (h : mH) : mV E gP (238, 0, ls, st, h) = mX E gP (mV E gP) 238 b238_0 ls st h := lab_row (mcode_row grw238 rfl) ls st h
theorem en238 {E : mE} (v0 v1 : Value) (h : mH) : mRun E gP 238 [v0, v1] h = mX E gP (mV E gP) 238 b238_0 [some v0, some v1] [] h := ent_row (mcode_row grw238 rfl) gm238 _ h
theorem lb239_0 {E : mE} (ls : mL) (st : List Value) (h : mH) : mV E gP (239, 0, ls, st, h) = mX E gP (mV E gP) 239 b239_0 ls st h := lab_row (mcode_row grw239 rfl) ls st h
theorem en239 {E : mE} (v0 : Value) (h : mH) : mRun E gP 239 [v0] h = mX E gP (mV E gP) 239 b239_0 [some v0] [] h := ent_row (mcode_row grw239 rfl) gm239 _ h
theorem lb240_0 {E : mE} (ls : mL) (st : List Value) (h : mH) : mV E gP (240, 0, ls, st, h) = mX E gP (mV E gP) 240 b240_0 ls st h := lab_row (mcode_row grw240 rfl) ls st h
theorem lb240_27 {E : mE} (ls : mL) (st : List Value) (h : mH) : mV E gP (240, 27, ls, st, h) = mX E gP (mV E gP) 240 b240_27 ls st h := lab_row (mcode_row grw240 rfl) ls st h
theorem lb240_28 {E : mE} (ls : mL) (st : List Value) (h : mH) : mV E gP (240, 28, ls, st, h) = mX E gP (mV E gP) 240 b240_28 ls st h := lab_row (mcode_row grw240 rfl) ls st h
theorem en240 {E : mE} (v0 v1 : Value) (h : mH) : mRun E gP 240 [v0, v1] h = mX E gP (mV E gP) 240 b240_0 [some v0, some v1, none] [] h := ent_row (mcode_row grw240 rfl) gm240 _ h
theorem lb241_0 {E : mE} (ls : mL) (st : List Value) (h : mH) : mV E gP (241, 0, ls, st, h) = mX E gP (mV E gP) 241 b241_0 ls st h := lab_row (mcode_row grw241 rfl) ls st h
theorem en241 {E : mE} (v0 v1 : Value) (h : mH) : mRun E gP 241 [v0, v1] h = mX E gP (mV E gP) 241 b241_0 [some v0, some v1] [] h := ent_row (mcode_row grw241 rfl) gm241 _ h
theorem lb242_0 {E : mE} (ls : mL) (st : List Value) (h : mH) : mV E gP (242, 0, ls, st, h) = mX E gP (mV E gP) 242 b242_0 ls st h := lab_row (mcode_row grw242 rfl) ls st h
theorem en242 {E : mE} (v0 v1 v2 : Value) (h : mH) : mRun E gP 242 [v0, v1, v2] h = mX E gP (mV E gP) 242 b242_0 [some v0, some v1, some v2] [] h := ent_row (mcode_row grw242 rfl) gm242 _ h
theorem lb243_0 {E : mE} (ls : mL) (st : List Value) (h : mH) : mV E gP (243, 0, ls, st, h) = mX E gP (mV E gP) 243 b243_0 ls st h := lab_row (mcode_row grw243 rfl) ls st h
theorem en243 {E : mE} (v0 : Value) (h : mH) : mRun E gP 243 [v0] h = mX E gP (mV E gP) 243 b243_0 [some v0, none] [] h := ent_row (mcode_row grw243 rfl) gm243 _ h
theorem lb244_0 {E : mE} (ls : mL) (st : List Value) (h : mH) : mV E gP (244, 0, ls, st, h) = mX E gP (mV E gP) 244 b244_0 ls st h := lab_row (mcode_row grw244 rfl) ls st h
theorem en244 {E : mE} (v0 v1 v2 : Value) (h : mH) : mRun E gP 244 [v0, v1, v2] h = mX E gP (mV E gP) 244 b244_0 [some v0, some v1, some v2] [] h := ent_row (mcode_row grw244 rfl) gm244 _ h
theorem lb245_0 {E : mE} (ls : mL) (st : List Value) (h : mH) : mV E gP (245, 0, ls, st, h) = mX E gP (mV E gP) 245 b245_0 ls st h := lab_row (mcode_row grw245 rfl) ls st h
theorem lb245_19 {E : mE} (ls : mL) (st : List Value) (h : mH) : mV E gP (245, 19, ls, st, h) = mX E gP (mV E gP) 245 b245_19 ls st h := lab_row (mcode_row grw245 rfl) ls st h
theorem lb245_20 {E : mE} (ls : mL) (st : List Value) (h : mH) : mV E gP (245, 20, ls, st, h) = mX E gP (mV E gP) 245 b245_20 ls st h := lab_row (mcode_row grw245 rfl) ls st h
theorem en245 {E : mE} (v0 v1 : Value) (h : mH) : mRun E gP 245 [v0, v1] h = mX E gP (mV E gP) 245 b245_0 [some v0, some v1] [] h := ent_row (mcode_row grw245 rfl) gm245 _ h
theorem lb246_0 {E : mE} (ls : mL) (st : List Value) (h : mH) : mV E gP (246, 0, ls, st, h) = mX E gP (mV E gP) 246 b246_0 ls st h := lab_row (mcode_row grw246 rfl) ls st h
theorem lb246_20 {E : mE} (ls : mL) (st : List Value) (h : mH) : mV E gP (246, 20, ls, st, h) = mX E gP (mV E gP) 246 b246_20 ls st h := lab_row (mcode_row grw246 rfl) ls st h
theorem lb246_21 {E : mE} (ls : mL) (st : List Value) (h : mH) : mV E gP (246, 21, ls, st, h) = mX E gP (mV E gP) 246 b246_21 ls st h := lab_row (mcode_row grw246 rfl) ls st h
theorem en246 {E : mE} (v0 v1 : Value) (h : mH) : mRun E gP 246 [v0, v1] h = mX E gP (mV E gP) 246 b246_0 [some v0, some v1] [] h := ent_row (mcode_row grw246 rfl) gm246 _ h
theorem lb247_0 {E : mE} (ls : mL) (st : List Value) (h : mH) : mV E gP (247, 0, ls, st, h) = mX E gP (mV E gP) 247 b247_0 ls st h := lab_row (mcode_row grw247 rfl) ls st h
theorem en247 {E : mE} (v0 : Value) (h : mH) : mRun E gP 247 [v0] h = mX E gP (mV E gP) 247 b247_0 [some v0, none] [] h := ent_row (mcode_row grw247 rfl) gm247 _ h
theorem lb248_0 {E : mE} (ls : mL) (st : List Value) (h : mH) : mV E gP (248, 0, ls, st, h) = mX E gP (mV E gP) 248 b248_0 ls st h := lab_row (mcode_row grw248 rfl) ls st h
theorem en248 {E : mE} (v0 v1 : Value) (h : mH) : mRun E gP 248 [v0, v1] h = mX E gP (mV E gP) 248 b248_0 [some v0, some v1] [] h := ent_row (mcode_row grw248 rfl) gm248 _ h
theorem lb249_0 {E : mE} (ls : mL) (st : List Value) (h : mH) : mV E gP (249, 0, ls, st, h) = mX E gP (mV E gP) 249 b249_0 ls st h := lab_row (mcode_row grw249 rfl) ls st h
theorem en249 {E : mE} (v0 : Value) (h : mH) : mRun E gP 249 [v0] h = mX E gP (mV E gP) 249 b249_0 [some v0] [] h := ent_row (mcode_row grw249 rfl) gm249 _ h
theorem lb250_0 {E : mE} (ls : mL) (st : List Value) (h : mH) : mV E gP (250, 0, ls, st, h) = mX E gP (mV E gP) 250 b250_0 ls st h := lab_row (mcode_row grw250 rfl) ls st h
theorem en250 {E : mE} (v0 v1 v2 v3 v4 : Value) (h : mH) : mRun E gP 250 [v0, v1, v2, v3, v4] h = mX E gP (mV E gP) 250 b250_0 [some v0, some v1, some v2, some v3, some v4, none] [] h := ent_row (mcode_row grw250 rfl) gm250 _ h
theorem lb251_0 {E : mE} (ls : mL) (st : List Value) (h : mH) : mV E gP (251, 0, ls, st, h) = mX E gP (mV E gP) 251 b251_0 ls st h := lab_row (mcode_row grw251 rfl) ls st h
theorem en251 {E : mE} (v0 v1 v2 v3 v4 : Value) (h : mH) : mRun E gP 251 [v0, v1, v2, v3, v4] h = mX E gP (mV E gP) 251 b251_0 [some v0, some v1, some v2, some v3, some v4, none] [] h := ent_row (mcode_row grw251 rfl) gm251 _ h
theorem lb252_0 {E : mE} (ls : mL) (st : List Value) (h : mH) : mV E gP (252, 0, ls, st, h) = mX E gP (mV E gP) 252 b252_0 ls st h := lab_row (mcode_row grw252 rfl) ls st h
theorem en252 {E : mE} (v0 v1 : Value) (h : mH) : mRun E gP 252 [v0, v1] h = mX E gP (mV E gP) 252 b252_0 [some v0, some v1] [] h := ent_row (mcode_row grw252 rfl) gm252 _ h
theorem lb253_0 {E : mE} (ls : mL) (st : List Value) (h : mH) : mV E gP (253, 0, ls, st, h) = mX E gP (mV E gP) 253 b253_0 ls st h := lab_row (mcode_row grw253 rfl) ls st h
theorem en253 {E : mE} (v0 v1 v2 v3 : Value) (h : mH) : mRun E gP 253 [v0, v1, v2, v3] h = mX E gP (mV E gP) 253 b253_0 [some v0, some v1, some v2, some v3] [] h := ent_row (mcode_row grw253 rfl) gm253 _ h
theorem lb254_0 {E : mE} (ls : mL) (st : List Value) (h : mH) : mV E gP (254, 0, ls, st, h) = mX E gP (mV E gP) 254 b254_0 ls st h := lab_row (mcode_row grw254 rfl) ls st h
theorem en254 {E : mE} (v0 v1 v2 : Value) (h : mH) : mRun E gP 254 [v0, v1, v2] h = mX E gP (mV E gP) 254 b254_0 [some v0, some v1, some v2, none] [] h := ent_row (mcode_row grw254 rfl) gm254 _ h
theorem lb255_0 {E : mE} (ls : mL) (st : List Value) (h : mH) : mV E gP (255, 0, ls, st, h) = mX E gP (mV E gP) 255 b255_0 ls st h := lab_row (mcode_row grw255 rfl) ls st h
theorem en255 {E : mE} (v0 v1 v2 v3 : Value) (h : mH) : mRun E gP 255 [v0, v1, v2, v3] h = mX E gP (mV E gP) 255 b255_0 [some v0, some v1, some v2, some v3] [] h := ent_row (mcode_row grw255 rfl) gm255 _ h
theorem lb256_0 {E : mE} (ls : mL) (st : List Value) (h : mH) : mV E gP (256, 0, ls, st, h) = mX E gP (mV E gP) 256 b256_0 ls st h := lab_row (mcode_row grw256 rfl) ls st h
theorem en256 {E : mE} (v0 : Value) (h : mH) : mRun E gP 256 [v0] h = mX E gP (mV E gP) 256 b256_0 [some v0] [] h := ent_row (mcode_row grw256 rfl) gm256 _ h
theorem lb257_0 {E : mE} (ls : mL) (st : List Value) (h : mH) : mV E gP (257, 0, ls, st, h) = mX E gP (mV E gP) 257 b257_0 ls st h := lab_row (mcode_row grw257 rfl) ls st h
theorem lb257_23 {E : mE} (ls : mL) (st : List Value) (h : mH) : mV E gP (257, 23, ls, st, h) = mX E gP (mV E gP) 257 b257_23 ls st h := lab_row (mcode_row grw257 rfl) ls st h
theorem lb257_25 {E : mE} (ls : mL) (st : List Value) (h : mH) : mV E gP (257, 25, ls, st, h) = mX E gP (mV E gP) 257 b257_25 ls st h := lab_row (mcode_row grw257 rfl) ls st h
theorem lb257_57 {E : mE} (ls : mL) (st : List Value) (h : mH) : mV E gP (257, 57, ls, st, h) = mX E gP (mV E gP) 257 b257_57 ls st h := lab_row (mcode_row grw257 rfl) ls st h
theorem en257 {E : mE} (v0 v1 : Value) (h : mH) : mRun E gP 257 [v0, v1] h = mX E gP (mV E gP) 257 b257_0 [some v0, some v1, none] [] h := ent_row (mcode_row grw257 rfl) gm257 _ h
theorem lb258_0 {E : mE} (ls : mL) (st : List Value) (h : mH) : mV E gP (258, 0, ls, st, h) = mX E gP (mV E gP) 258 b258_0 ls st h := lab_row (mcode_row grw258 rfl) ls st h
theorem en258 {E : mE} (v0 v1 : Value) (h : mH) : mRun E gP 258 [v0, v1] h = mX E gP (mV E gP) 258 b258_0 [some v0, some v1] [] h := ent_row (mcode_row grw258 rfl) gm258 _ h
theorem lb259_0 {E : mE} (ls : mL) (st : List Value) (h : mH) : mV E gP (259, 0, ls, st, h) = mX E gP (mV E gP) 259 b259_0 ls st h := lab_row (mcode_row grw259 rfl) ls st h
theorem lb259_23 {E : mE} (ls : mL) (st : List Value) (h : mH) : mV E gP (259, 23, ls, st, h) = mX E gP (mV E gP) 259 b259_23 ls st h := lab_row (mcode_row grw259 rfl) ls st h
theorem en259 {E : mE} (v0 v1 : Value) (h : mH) : mRun E gP 259 [v0, v1] h = mX E gP (mV E gP) 259 b259_0 [some v0, some v1] [] h := ent_row (mcode_row grw259 rfl) gm259 _ h
theorem lb260_0 {E : mE} (ls : mL) (st : List Value) (h : mH) : mV E gP (260, 0, ls, st, h) = mX E gP (mV E gP) 260 b260_0 ls st h := lab_row (mcode_row grw260 rfl) ls st h
theorem lb260_14 {E : mE} (ls : mL) (st : List Value) (h : mH) : mV E gP (260, 14, ls, st, h) = mX E gP (mV E gP) 260 b260_14 ls st h := lab_row (mcode_row grw260 rfl) ls st h
theorem lb260_15 {E : mE} (ls : mL) (st : List Value) (h : mH) : mV E gP (260, 15, ls, st, h) = mX E gP (mV E gP) 260 b260_15 ls st h := lab_row (mcode_row grw260 rfl) ls st h
theorem en260 {E : mE} (v0 v1 v2 : Value) (h : mH) : mRun E gP 260 [v0, v1, v2] h = mX E gP (mV E gP) 260 b260_0 [some v0, some v1, some v2] [] h := ent_row (mcode_row grw260 rfl) gm260 _ h
theorem lb261_0 {E : mE} (ls : mL) (st : List Value) (h : mH) : mV E gP (261, 0, ls, st, h) = mX E gP (mV E gP) 261 b261_0 ls st h := lab_row (mcode_row grw261 rfl) ls st h
theorem lb261_24 {E : mE} (ls : mL) (st : List Value) (h : mH) : mV E gP (261, 24, ls, st, h) = mX E gP (mV E gP) 261 b261_24 ls st h := lab_row (mcode_row grw261 rfl) ls st h
theorem lb261_44 {E : mE} (ls : mL) (st : List Value) (h : mH) : mV E gP (261, 44, ls, st, h) = mX E gP (mV E gP) 261 b261_44 ls st h := lab_row (mcode_row grw261 rfl) ls st h
theorem lb261_75 {E : mE} (ls : mL) (st : List Value) (h : mH) : mV E gP (261, 75, ls, st, h) = mX E gP (mV E gP) 261 b261_75 ls st h := lab_row (mcode_row grw261 rfl) ls st h
theorem en261 {E : mE} (v0 : Value) (h : mH) : mRun E gP 261 [v0] h = mX E gP (mV E gP) 261 b261_0 [some v0, none] [] h := ent_row (mcode_row grw261 rfl) gm261 _ h
theorem lb262_0 {E : mE} (ls : mL) (st : List Value) (h : mH) : mV E gP (262, 0, ls, st, h) = mX E gP (mV E gP) 262 b262_0 ls st h := lab_row (mcode_row grw262 rfl) ls st h
theorem lb262_3 {E : mE} (ls : mL) (st : List Value) (h : mH) : mV E gP (262, 3, ls, st, h) = mX E gP (mV E gP) 262 b262_3 ls st h := lab_row (mcode_row grw262 rfl) ls st h
theorem lb262_29 {E : mE} (ls : mL) (st : List Value) (h : mH) : mV E gP (262, 29, ls, st, h) = mX E gP (mV E gP) 262 b262_29 ls st h := lab_row (mcode_row grw262 rfl) ls st h
theorem en262 {E : mE} (v0 v1 v2 v3 : Value) (h : mH) : mRun E gP 262 [v0, v1, v2, v3] h = mX E gP (mV E gP) 262 b262_0 [some v0, some v1, some v2, some v3, none] [] h := ent_row (mcode_row grw262 rfl) gm262 _ h
theorem lb263_0 {E : mE} (ls : mL) (st : List Value) (h : mH) : mV E gP (263, 0, ls, st, h) = mX E gP (mV E gP) 263 b263_0 ls st h := lab_row (mcode_row grw263 rfl) ls st h
theorem en263 {E : mE} (v0 : Value) (h : mH) : mRun E gP 263 [v0] h = mX E gP (mV E gP) 263 b263_0 [some v0] [] h := ent_row (mcode_row grw263 rfl) gm263 _ h
theorem lb264_0 {E : mE} (ls : mL) (st : List Value) (h : mH) : mV E gP (264, 0, ls, st, h) = mX E gP (mV E gP) 264 b264_0 ls st h := lab_row (mcode_row grw264 rfl) ls st h
theorem lb264_8 {E : mE} (ls : mL) (st : List Value) (h : mH) : mV E gP (264, 8, ls, st, h) = mX E gP (mV E gP) 264 b264_8 ls st h := lab_row (mcode_row grw264 rfl) ls st h
theorem lb264_34 {E : mE} (ls : mL) (st : List Value) (h : mH) : mV E gP (264, 34, ls, st, h) = mX E gP (mV E gP) 264 b264_34 ls st h := lab_row (mcode_row grw264 rfl) ls st h
theorem lb264_47 {E : mE} (ls : mL) (st : List Value) (h : mH) : mV E gP (264, 47, ls, st, h) = mX E gP (mV E gP) 264 b264_47 ls st h := lab_row (mcode_row grw264 rfl) ls st h
theorem lb264_75 {E : mE} (ls : mL) (st : List Value) (h : mH) : mV E gP (264, 75, ls, st, h) = mX E gP (mV E gP) 264 b264_75 ls st h := lab_row (mcode_row grw264 rfl) ls st h
theorem lb264_97 {E : mE} (ls : mL) (st : List Value) (h : mH) : mV E gP (264, 97, ls, st, h) = mX E gP (mV E gP) 264 b264_97 ls st h := lab_row (mcode_row grw264 rfl) ls st h
theorem lb264_124 {E : mE} (ls : mL) (st : List Value) (h : mH) : mV E gP (264, 124, ls, st, h) = mX E gP (mV E gP) 264 b264_124 ls st h := lab_row (mcode_row grw264 rfl) ls st h
theorem lb264_144 {E : mE} (ls : mL) (st : List Value) (h : mH) : mV E gP (264, 144, ls, st, h) = mX E gP (mV E gP) 264 b264_144 ls st h := lab_row (mcode_row grw264 rfl) ls st h
theorem lb264_199 {E : mE} (ls : mL) (st : List Value) (h : mH) : mV E gP (264, 199, ls, st, h) = mX E gP (mV E gP) 264 b264_199 ls st h := lab_row (mcode_row grw264 rfl) ls st h
theorem lb264_210 {E : mE} (ls : mL) (st : List Value) (h : mH) : mV E gP (264, 210, ls, st, h) = mX E gP (mV E gP) 264 b264_210 ls st h := lab_row (mcode_row grw264 rfl) ls st h
theorem lb264_211 {E : mE} (ls : mL) (st : List Value) (h : mH) : mV E gP (264, 211, ls, st, h) = mX E gP (mV E gP) 264 b264_211 ls st h := lab_row (mcode_row grw264 rfl) ls st h
theorem lb264_214 {E : mE} (ls : mL) (st : List Value) (h : mH) : mV E gP (264, 214, ls, st, h) = mX E gP (mV E gP) 264 b264_214 ls st h := lab_row (mcode_row grw264 rfl) ls st h
theorem en264 {E : mE} (v0 : Value) (h : mH) : mRun E gP 264 [v0] h = mX E gP (mV E gP) 264 b264_0 [some v0, none] [] h := ent_row (mcode_row grw264 rfl) gm264 _ h
theorem lb265_0 {E : mE} (ls : mL) (st : List Value) (h : mH) : mV E gP (265, 0, ls, st, h) = mX E gP (mV E gP) 265 b265_0 ls st h := lab_row (mcode_row grw265 rfl) ls st h
theorem lb265_11 {E : mE} (ls : mL) (st : List Value) (h : mH) : mV E gP (265, 11, ls, st, h) = mX E gP (mV E gP) 265 b265_11 ls st h := lab_row (mcode_row grw265 rfl) ls st h
theorem lb265_12 {E : mE} (ls : mL) (st : List Value) (h : mH) : mV E gP (265, 12, ls, st, h) = mX E gP (mV E gP) 265 b265_12 ls st h := lab_row (mcode_row grw265 rfl) ls st h
theorem en265 {E : mE} (v0 : Value) (h : mH) : mRun E gP 265 [v0] h = mX E gP (mV E gP) 265 b265_0 [some v0] [] h := ent_row (mcode_row grw265 rfl) gm265 _ h
theorem lb266_0 {E : mE} (ls : mL) (st : List Value) (h : mH) : mV E gP (266, 0, ls, st, h) = mX E gP (mV E gP) 266 b266_0 ls st h := lab_row (mcode_row grw266 rfl) ls st h
theorem lb266_21 {E : mE} (ls : mL) (st : List Value) (h : mH) : mV E gP (266, 21, ls, st, h) = mX E gP (mV E gP) 266 b266_21 ls st h := lab_row (mcode_row grw266 rfl) ls st h
theorem lb266_22 {E : mE} (ls : mL) (st : List Value) (h : mH) : mV E gP (266, 22, ls, st, h) = mX E gP (mV E gP) 266 b266_22 ls st h := lab_row (mcode_row grw266 rfl) ls st h
theorem en266 {E : mE} (v0 v1 : Value) (h : mH) : mRun E gP 266 [v0, v1] h = mX E gP (mV E gP) 266 b266_0 [some v0, some v1] [] h := ent_row (mcode_row grw266 rfl) gm266 _ h
theorem lb267_0 {E : mE} (ls : mL) (st : List Value) (h : mH) : mV E gP (267, 0, ls, st, h) = mX E gP (mV E gP) 267 b267_0 ls st h := lab_row (mcode_row grw267 rfl) ls st h
theorem en267 {E : mE} (v0 : Value) (h : mH) : mRun E gP 267 [v0] h = mX E gP (mV E gP) 267 b267_0 [some v0] [] h := ent_row (mcode_row grw267 rfl) gm267 _ h
theorem lb268_0 {E : mE} (ls : mL) (st : List Value) (h : mH) : mV E gP (268, 0, ls, st, h) = mX E gP (mV E gP) 268 b268_0 ls st h := lab_row (mcode_row grw268 rfl) ls st h
theorem en268 {E : mE} (v0 : Value) (h : mH) : mRun E gP 268 [v0] h = mX E gP (mV E gP) 268 b268_0 [some v0] [] h := ent_row (mcode_row grw268 rfl) gm268 _ h
theorem lb269_0 {E : mE} (ls : mL) (st : List Value) (h : mH) : mV E gP (269, 0, ls, st, h) = mX E gP (mV E gP) 269 b269_0 ls st h := lab_row (mcode_row grw269 rfl) ls st h
theorem lb269_58 {E : mE} (ls : mL) (st : List Value) (h : mH) : mV E gP (269, 58, ls, st, h) = mX E gP (mV E gP) 269 b269_58 ls st h := lab_row (mcode_row grw269 rfl) ls st h
theorem lb269_79 {E : mE} (ls : mL) (st : List Value) (h : mH) : mV E gP (269, 79, ls, st, h) = mX E gP (mV E gP) 269 b269_79 ls st h := lab_row (mcode_row grw269 rfl) ls st h
theorem lb269_96 {E : mE} (ls : mL) (st : List Value) (h : mH) : mV E gP (269, 96, ls, st, h) = mX E gP (mV E gP) 269 b269_96 ls st h := lab_row (mcode_row grw269 rfl) ls st h
theorem lb269_100 {E : mE} (ls : mL) (st : List Value) (h : mH) : mV E gP (269, 100, ls, st, h) = mX E gP (mV E gP) 269 b269_100 ls st h := lab_row (mcode_row grw269 rfl) ls st h
theorem lb269_101 {E : mE} (ls : mL) (st : List Value) (h : mH) : mV E gP (269, 101, ls, st, h) = mX E gP (mV E gP) 269 b269_101 ls st h := lab_row (mcode_row grw269 rfl) ls st h
theorem en269 {E : mE} (v0 : Value) (h : mH) : mRun E gP 269 [v0] h = mX E gP (mV E gP) 269 b269_0 [some v0] [] h := ent_row (mcode_row grw269 rfl) gm269 _ h
theorem lb270_0 {E : mE} (ls : mL) (st : List Value) (h : mH) : mV E gP (270, 0, ls, st, h) = mX E gP (mV E gP) 270 b270_0 ls st h := lab_row (mcode_row grw270 rfl) ls st h
theorem lb270_24 {E : mE} (ls : mL) (st : List Value) (h : mH) : mV E gP (270, 24, ls, st, h) = mX E gP (mV E gP) 270 b270_24 ls st h := lab_row (mcode_row grw270 rfl) ls st h
theorem lb270_26 {E : mE} (ls : mL) (st : List Value) (h : mH) : mV E gP (270, 26, ls, st, h) = mX E gP (mV E gP) 270 b270_26 ls st h := lab_row (mcode_row grw270 rfl) ls st h
theorem lb270_28 {E : mE} (ls : mL) (st : List Value) (h : mH) : mV E gP (270, 28, ls, st, h) = mX E gP (mV E gP) 270 b270_28 ls st h := lab_row (mcode_row grw270 rfl) ls st h
theorem lb270_56 {E : mE} (ls : mL) (st : List Value) (h : mH) : mV E gP (270, 56, ls, st, h) = mX E gP (mV E gP) 270 b270_56 ls st h := lab_row (mcode_row grw270 rfl) ls st h
theorem lb270_62 {E : mE} (ls : mL) (st : List Value) (h : mH) : mV E gP (270, 62, ls, st, h) = mX E gP (mV E gP) 270 b270_62 ls st h := lab_row (mcode_row grw270 rfl) ls st h
theorem en270 {E : mE} (v0 v1 : Value) (h : mH) : mRun E gP 270 [v0, v1] h = mX E gP (mV E gP) 270 b270_0 [some v0, some v1, none] [] h := ent_row (mcode_row grw270 rfl) gm270 _ h
theorem lb271_0 {E : mE} (ls : mL) (st : List Value) (h : mH) : mV E gP (271, 0, ls, st, h) = mX E gP (mV E gP) 271 b271_0 ls st h := lab_row (mcode_row grw271 rfl) ls st h
theorem lb271_24 {E : mE} (ls : mL) (st : List Value) (h : mH) : mV E gP (271, 24, ls, st, h) = mX E gP (mV E gP) 271 b271_24 ls st h := lab_row (mcode_row grw271 rfl) ls st h
theorem en271 {E : mE} (v0 v1 v2 : Value) (h : mH) : mRun E gP 271 [v0, v1, v2] h = mX E gP (mV E gP) 271 b271_0 [some v0, some v1, some v2] [] h := ent_row (mcode_row grw271 rfl) gm271 _ h
theorem lb272_0 {E : mE} (ls : mL) (st : List Value) (h : mH) : mV E gP (272, 0, ls, st, h) = mX E gP (mV E gP) 272 b272_0 ls st h := lab_row (mcode_row grw272 rfl) ls st h
theorem lb272_16 {E : mE} (ls : mL) (st : List Value) (h : mH) : mV E gP (272, 16, ls, st, h) = mX E gP (mV E gP) 272 b272_16 ls st h := lab_row (mcode_row grw272 rfl) ls st h
theorem lb272_17 {E : mE} (ls : mL) (st : List Value) (h : mH) : mV E gP (272, 17, ls, st, h) = mX E gP (mV E gP) 272 b272_17 ls st h := lab_row (mcode_row grw272 rfl) ls st h
theorem en272 {E : mE} (v0 v1 v2 : Value) (h : mH) : mRun E gP 272 [v0, v1, v2] h = mX E gP (mV E gP) 272 b272_0 [some v0, some v1, some v2] [] h := ent_row (mcode_row grw272 rfl) gm272 _ h
theorem lb273_0 {E : mE} (ls : mL) (st : List Value) (h : mH) : mV E gP (273, 0, ls, st, h) = mX E gP (mV E gP) 273 b273_0 ls st h := lab_row (mcode_row grw273 rfl) ls st h
theorem lb273_13 {E : mE} (ls : mL) (st : List Value) (h : mH) : mV E gP (273, 13, ls, st, h) = mX E gP (mV E gP) 273 b273_13 ls st h := lab_row (mcode_row grw273 rfl) ls st h
theorem lb273_14 {E : mE} (ls : mL) (st : List Value) (h : mH) : mV E gP (273, 14, ls, st, h) = mX E gP (mV E gP) 273 b273_14 ls st h := lab_row (mcode_row grw273 rfl) ls st h
theorem lb273_39 {E : mE} (ls : mL) (st : List Value) (h : mH) : mV E gP (273, 39, ls, st, h) = mX E gP (mV E gP) 273 b273_39 ls st h := lab_row (mcode_row grw273 rfl) ls st h
theorem lb273_43 {E : mE} (ls : mL) (st : List Value) (h : mH) : mV E gP (273, 43, ls, st, h) = mX E gP (mV E gP) 273 b273_43 ls st h := lab_row (mcode_row grw273 rfl) ls st h
theorem lb273_44 {E : mE} (ls : mL) (st : List Value) (h : mH) : mV E gP (273, 44, ls, st, h) = mX E gP (mV E gP) 273 b273_44 ls st h := lab_row (mcode_row grw273 rfl) ls st h
theorem lb273_62 {E : mE} (ls : mL) (st : List Value) (h : mH) : mV E gP (273, 62, ls, st, h) = mX E gP (mV E gP) 273 b273_62 ls st h := lab_row (mcode_row grw273 rfl) ls st h
theorem lb273_63 {E : mE} (ls : mL) (st : List Value) (h : mH) : mV E gP (273, 63, ls, st, h) = mX E gP (mV E gP) 273 b273_63 ls st h := lab_row (mcode_row grw273 rfl) ls st h
theorem en273 {E : mE} (v0 v1 v2 : Value) (h : mH) : mRun E gP 273 [v0, v1, v2] h = mX E gP (mV E gP) 273 b273_0 [some v0, some v1, some v2, none] [] h := ent_row (mcode_row grw273 rfl) gm273 _ h
theorem lb274_0 {E : mE} (ls : mL) (st : List Value) (h : mH) : mV E gP (274, 0, ls, st, h) = mX E gP (mV E gP) 274 b274_0 ls st h := lab_row (mcode_row grw274 rfl) ls st h
theorem lb274_13 {E : mE} (ls : mL) (st : List Value) (h : mH) : mV E gP (274, 13, ls, st, h) = mX E gP (mV E gP) 274 b274_13 ls st h := lab_row (mcode_row grw274 rfl) ls st h
theorem lb274_14 {E : mE} (ls : mL) (st : List Value) (h : mH) : mV E gP (274, 14, ls, st, h) = mX E gP (mV E gP) 274 b274_14 ls st h := lab_row (mcode_row grw274 rfl) ls st h
theorem en274 {E : mE} (v0 : Value) (h : mH) : mRun E gP 274 [v0] h = mX E gP (mV E gP) 274 b274_0 [some v0] [] h := ent_row (mcode_row grw274 rfl) gm274 _ h
theorem lb275_0 {E : mE} (ls : mL) (st : List Value) (h : mH) : mV E gP (275, 0, ls, st, h) = mX E gP (mV E gP) 275 b275_0 ls st h := lab_row (mcode_row grw275 rfl) ls st h
theorem lb275_16 {E : mE} (ls : mL) (st : List Value) (h : mH) : mV E gP (275, 16, ls, st, h) = mX E gP (mV E gP) 275 b275_16 ls st h := lab_row (mcode_row grw275 rfl) ls st h
theorem lb275_33 {E : mE} (ls : mL) (st : List Value) (h : mH) : mV E gP (275, 33, ls, st, h) = mX E gP (mV E gP) 275 b275_33 ls st h := lab_row (mcode_row grw275 rfl) ls st h
theorem lb275_50 {E : mE} (ls : mL) (st : List Value) (h : mH) : mV E gP (275, 50, ls, st, h) = mX E gP (mV E gP) 275 b275_50 ls st h := lab_row (mcode_row grw275 rfl) ls st h
theorem lb275_67 {E : mE} (ls : mL) (st : List Value) (h : mH) : mV E gP (275, 67, ls, st, h) = mX E gP (mV E gP) 275 b275_67 ls st h := lab_row (mcode_row grw275 rfl) ls st h
theorem lb275_71 {E : mE} (ls : mL) (st : List Value) (h : mH) : mV E gP (275, 71, ls, st, h) = mX E gP (mV E gP) 275 b275_71 ls st h := lab_row (mcode_row grw275 rfl) ls st h
theorem en275 {E : mE} (v0 : Value) (h : mH) : mRun E gP 275 [v0] h = mX E gP (mV E gP) 275 b275_0 [some v0] [] h := ent_row (mcode_row grw275 rfl) gm275 _ h
theorem lb276_0 {E : mE} (ls : mL) (st : List Value) (h : mH) : mV E gP (276, 0, ls, st, h) = mX E gP (mV E gP) 276 b276_0 ls st h := lab_row (mcode_row grw276 rfl) ls st h
theorem lb276_28 {E : mE} (ls : mL) (st : List Value) (h : mH) : mV E gP (276, 28, ls, st, h) = mX E gP (mV E gP) 276 b276_28 ls st h := lab_row (mcode_row grw276 rfl) ls st h
theorem en276 {E : mE} (v0 : Value) (h : mH) : mRun E gP 276 [v0] h = mX E gP (mV E gP) 276 b276_0 [some v0, none] [] h := ent_row (mcode_row grw276 rfl) gm276 _ h
theorem lb277_0 {E : mE} (ls : mL) (st : List Value) (h : mH) : mV E gP (277, 0, ls, st, h) = mX E gP (mV E gP) 277 b277_0 ls st h := lab_row (mcode_row grw277 rfl) ls st h
theorem lb277_13 {E : mE} (ls : mL) (st : List Value) (h : mH) : mV E gP (277, 13, ls, st, h) = mX E gP (mV E gP) 277 b277_13 ls st h := lab_row (mcode_row grw277 rfl) ls st h
theorem lb277_14 {E : mE} (ls : mL) (st : List Value) (h : mH) : mV E gP (277, 14, ls, st, h) = mX E gP (mV E gP) 277 b277_14 ls st h := lab_row (mcode_row grw277 rfl) ls st h
theorem lb277_79 {E : mE} (ls : mL) (st : List Value) (h : mH) : mV E gP (277, 79, ls, st, h) = mX E gP (mV E gP) 277 b277_79 ls st h := lab_row (mcode_row grw277 rfl) ls st h
theorem lb277_83 {E : mE} (ls : mL) (st : List Value) (h : mH) : mV E gP (277, 83, ls, st, h) = mX E gP (mV E gP) 277 b277_83 ls st h := lab_row (mcode_row grw277 rfl) ls st h
theorem lb277_84 {E : mE} (ls : mL) (st : List Value) (h : mH) : mV E gP (277, 84, ls, st, h) = mX E gP (mV E gP) 277 b277_84 ls st h := lab_row (mcode_row grw277 rfl) ls st h
theorem lb277_102 {E : mE} (ls : mL) (st : List Value) (h : mH) : mV E gP (277, 102, ls, st, h) = mX E gP (mV E gP) 277 b277_102 ls st h := lab_row (mcode_row grw277 rfl) ls st h
theorem lb277_103 {E : mE} (ls : mL) (st : List Value) (h : mH) : mV E gP (277, 103, ls, st, h) = mX E gP (mV E gP) 277 b277_103 ls st h := lab_row (mcode_row grw277 rfl) ls st h
theorem en277 {E : mE} (v0 v1 v2 : Value) (h : mH) : mRun E gP 277 [v0, v1, v2] h = mX E gP (mV E gP) 277 b277_0 [some v0, some v1, some v2, none] [] h := ent_row (mcode_row grw277 rfl) gm277 _ h
theorem lb278_0 {E : mE} (ls : mL) (st : List Value) (h : mH) : mV E gP (278, 0, ls, st, h) = mX E gP (mV E gP) 278 b278_0 ls st h := lab_row (mcode_row grw278 rfl) ls st h
theorem en278 {E : mE} (v0 : Value) (h : mH) : mRun E gP 278 [v0] h = mX E gP (mV E gP) 278 b278_0 [some v0] [] h := ent_row (mcode_row grw278 rfl) gm278 _ h
theorem lb279_0 {E : mE} (ls : mL) (st : List Value) (h : mH) : mV E gP (279, 0, ls, st, h) = mX E gP (mV E gP) 279 b279_0 ls st h := lab_row (mcode_row grw279 rfl) ls st h
theorem lb279_17 {E : mE} (ls : mL) (st : List Value) (h : mH) : mV E gP (279, 17, ls, st, h) = mX E gP (mV E gP) 279 b279_17 ls st h := lab_row (mcode_row grw279 rfl) ls st h
theorem lb279_18 {E : mE} (ls : mL) (st : List Value) (h : mH) : mV E gP (279, 18, ls, st, h) = mX E gP (mV E gP) 279 b279_18 ls st h := lab_row (mcode_row grw279 rfl) ls st h
theorem en279 {E : mE} (v0 v1 : Value) (h : mH) : mRun E gP 279 [v0, v1] h = mX E gP (mV E gP) 279 b279_0 [some v0, some v1] [] h := ent_row (mcode_row grw279 rfl) gm279 _ h
theorem lb280_0 {E : mE} (ls : mL) (st : List Value) (h : mH) : mV E gP (280, 0, ls, st, h) = mX E gP (mV E gP) 280 b280_0 ls st h := lab_row (mcode_row grw280 rfl) ls st h
theorem lb280_2 {E : mE} (ls : mL) (st : List Value) (h : mH) : mV E gP (280, 2, ls, st, h) = mX E gP (mV E gP) 280 b280_2 ls st h := lab_row (mcode_row grw280 rfl) ls st h
theorem lb280_24 {E : mE} (ls : mL) (st : List Value) (h : mH) : mV E gP (280, 24, ls, st, h) = mX E gP (mV E gP) 280 b280_24 ls st h := lab_row (mcode_row grw280 rfl) ls st h
theorem lb280_30 {E : mE} (ls : mL) (st : List Value) (h : mH) : mV E gP (280, 30, ls, st, h) = mX E gP (mV E gP) 280 b280_30 ls st h := lab_row (mcode_row grw280 rfl) ls st h
theorem lb280_32 {E : mE} (ls : mL) (st : List Value) (h : mH) : mV E gP (280, 32, ls, st, h) = mX E gP (mV E gP) 280 b280_32 ls st h := lab_row (mcode_row grw280 rfl) ls st h
theorem lb280_54 {E : mE} (ls : mL) (st : List Value) (h : mH) : mV E gP (280, 54, ls, st, h) = mX E gP (mV E gP) 280 b280_54 ls st h := lab_row (mcode_row grw280 rfl) ls st h
theorem lb280_60 {E : mE} (ls : mL) (st : List Value) (h : mH) : mV E gP (280, 60, ls, st, h) = mX E gP (mV E gP) 280 b280_60 ls st h := lab_row (mcode_row grw280 rfl) ls st h
theorem lb280_62 {E : mE} (ls : mL) (st : List Value) (h : mH) : mV E gP (280, 62, ls, st, h) = mX E gP (mV E gP) 280 b280_62 ls st h := lab_row (mcode_row grw280 rfl) ls st h
theorem lb280_93 {E : mE} (ls : mL) (st : List Value) (h : mH) : mV E gP (280, 93, ls, st, h) = mX E gP (mV E gP) 280 b280_93 ls st h := lab_row (mcode_row grw280 rfl) ls st h
theorem lb280_95 {E : mE} (ls : mL) (st : List Value) (h : mH) : mV E gP (280, 95, ls, st, h) = mX E gP (mV E gP) 280 b280_95 ls st h := lab_row (mcode_row grw280 rfl) ls st h
theorem lb280_101 {E : mE} (ls : mL) (st : List Value) (h : mH) : mV E gP (280, 101, ls, st, h) = mX E gP (mV E gP) 280 b280_101 ls st h := lab_row (mcode_row grw280 rfl) ls st h
theorem en280 {E : mE} (v0 v1 : Value) (h : mH) : mRun E gP 280 [v0, v1] h = mX E gP (mV E gP) 280 b280_0 [some v0, some v1, none] [] h := ent_row (mcode_row grw280 rfl) gm280 _ h
theorem lb281_0 {E : mE} (ls : mL) (st : List Value) (h : mH) : mV E gP (281, 0, ls, st, h) = mX E gP (mV E gP) 281 b281_0 ls st h := lab_row (mcode_row grw281 rfl) ls st h
theorem en281 {E : mE} (v0 v1 v2 : Value) (h : mH) : mRun E gP 281 [v0, v1, v2] h = mX E gP (mV E gP) 281 b281_0 [some v0, some v1, some v2] [] h := ent_row (mcode_row grw281 rfl) gm281 _ h
theorem lb282_0 {E : mE} (ls : mL) (st : List Value) (h : mH) : mV E gP (282, 0, ls, st, h) = mX E gP (mV E gP) 282 b282_0 ls st h := lab_row (mcode_row grw282 rfl) ls st h
theorem en282 {E : mE} (v0 v1 v2 : Value) (h : mH) : mRun E gP 282 [v0, v1, v2] h = mX E gP (mV E gP) 282 b282_0 [some v0, some v1, some v2] [] h := ent_row (mcode_row grw282 rfl) gm282 _ h
theorem lb283_0 {E : mE} (ls : mL) (st : List Value) (h : mH) : mV E gP (283, 0, ls, st, h) = mX E gP (mV E gP) 283 b283_0 ls st h := lab_row (mcode_row grw283 rfl) ls st h
theorem en283 {E : mE} (v0 v1 v2 : Value) (h : mH) : mRun E gP 283 [v0, v1, v2] h = mX E gP (mV E gP) 283 b283_0 [some v0, some v1, some v2] [] h := ent_row (mcode_row grw283 rfl) gm283 _ h
theorem lb284_0 {E : mE} (ls : mL) (st : List Value) (h : mH) : mV E gP (284, 0, ls, st, h) = mX E gP (mV E gP) 284 b284_0 ls st h := lab_row (mcode_row grw284 rfl) ls st h
theorem lb284_15 {E : mE} (ls : mL) (st : List Value) (h : mH) : mV E gP (284, 15, ls, st, h) = mX E gP (mV E gP) 284 b284_15 ls st h := lab_row (mcode_row grw284 rfl) ls st h
theorem lb284_16 {E : mE} (ls : mL) (st : List Value) (h : mH) : mV E gP (284, 16, ls, st, h) = mX E gP (mV E gP) 284 b284_16 ls st h := lab_row (mcode_row grw284 rfl) ls st h
theorem lb284_75 {E : mE} (ls : mL) (st : List Value) (h : mH) : mV E gP (284, 75, ls, st, h) = mX E gP (mV E gP) 284 b284_75 ls st h := lab_row (mcode_row grw284 rfl) ls st h
theorem en284 {E : mE} (v0 : Value) (h : mH) : mRun E gP 284 [v0] h = mX E gP (mV E gP) 284 b284_0 [some v0, none, none, none, none] [] h := ent_row (mcode_row grw284 rfl) gm284 _ h
theorem lb285_0 {E : mE} (ls : mL) (st : List Value) (h : mH) : mV E gP (285, 0, ls, st, h) = mX E gP (mV E gP) 285 b285_0 ls st h := lab_row (mcode_row grw285 rfl) ls st h
theorem lb285_15 {E : mE} (ls : mL) (st : List Value) (h : mH) : mV E gP (285, 15, ls, st, h) = mX E gP (mV E gP) 285 b285_15 ls st h := lab_row (mcode_row grw285 rfl) ls st h
theorem lb285_16 {E : mE} (ls : mL) (st : List Value) (h : mH) : mV E gP (285, 16, ls, st, h) = mX E gP (mV E gP) 285 b285_16 ls st h := lab_row (mcode_row grw285 rfl) ls st h
theorem lb285_70 {E : mE} (ls : mL) (st : List Value) (h : mH) : mV E gP (285, 70, ls, st, h) = mX E gP (mV E gP) 285 b285_70 ls st h := lab_row (mcode_row grw285 rfl) ls st h
theorem lb285_74 {E : mE} (ls : mL) (st : List Value) (h : mH) : mV E gP (285, 74, ls, st, h) = mX E gP (mV E gP) 285 b285_74 ls st h := lab_row (mcode_row grw285 rfl) ls st h
theorem lb285_75 {E : mE} (ls : mL) (st : List Value) (h : mH) : mV E gP (285, 75, ls, st, h) = mX E gP (mV E gP) 285 b285_75 ls st h := lab_row (mcode_row grw285 rfl) ls st h
theorem lb285_103 {E : mE} (ls : mL) (st : List Value) (h : mH) : mV E gP (285, 103, ls, st, h) = mX E gP (mV E gP) 285 b285_103 ls st h := lab_row (mcode_row grw285 rfl) ls st h
theorem en285 {E : mE} (v0 : Value) (h : mH) : mRun E gP 285 [v0] h = mX E gP (mV E gP) 285 b285_0 [some v0, none, none, none, none] [] h := ent_row (mcode_row grw285 rfl) gm285 _ h
theorem lb286_0 {E : mE} (ls : mL) (st : List Value) (h : mH) : mV E gP (286, 0, ls, st, h) = mX E gP (mV E gP) 286 b286_0 ls st h := lab_row (mcode_row grw286 rfl) ls st h
theorem lb286_15 {E : mE} (ls : mL) (st : List Value) (h : mH) : mV E gP (286, 15, ls, st, h) = mX E gP (mV E gP) 286 b286_15 ls st h := lab_row (mcode_row grw286 rfl) ls st h
theorem lb286_16 {E : mE} (ls : mL) (st : List Value) (h : mH) : mV E gP (286, 16, ls, st, h) = mX E gP (mV E gP) 286 b286_16 ls st h := lab_row (mcode_row grw286 rfl) ls st h
theorem lb286_43 {E : mE} (ls : mL) (st : List Value) (h : mH) : mV E gP (286, 43, ls, st, h) = mX E gP (mV E gP) 286 b286_43 ls st h := lab_row (mcode_row grw286 rfl) ls st h
theorem en286 {E : mE} (v0 : Value) (h : mH) : mRun E gP 286 [v0] h = mX E gP (mV E gP) 286 b286_0 [some v0, none] [] h := ent_row (mcode_row grw286 rfl) gm286 _ h
theorem lb287_0 {E : mE} (ls : mL) (st : List Value) (h : mH) : mV E gP (287, 0, ls, st, h) = mX E gP (mV E gP) 287 b287_0 ls st h := lab_row (mcode_row grw287 rfl) ls st h
theorem lb287_28 {E : mE} (ls : mL) (st : List Value) (h : mH) : mV E gP (287, 28, ls, st, h) = mX E gP (mV E gP) 287 b287_28 ls st h := lab_row (mcode_row grw287 rfl) ls st h
theorem lb287_29 {E : mE} (ls : mL) (st : List Value) (h : mH) : mV E gP (287, 29, ls, st, h) = mX E gP (mV E gP) 287 b287_29 ls st h := lab_row (mcode_row grw287 rfl) ls st h
theorem lb287_64 {E : mE} (ls : mL) (st : List Value) (h : mH) : mV E gP (287, 64, ls, st, h) = mX E gP (mV E gP) 287 b287_64 ls st h := lab_row (mcode_row grw287 rfl) ls st h
theorem en287 {E : mE} (v0 : Value) (h : mH) : mRun E gP 287 [v0] h = mX E gP (mV E gP) 287 b287_0 [some v0, none, none] [] h := ent_row (mcode_row grw287 rfl) gm287 _ h
theorem lb288_0 {E : mE} (ls : mL) (st : List Value) (h : mH) : mV E gP (288, 0, ls, st, h) = mX E gP (mV E gP) 288 b288_0 ls st h := lab_row (mcode_row grw288 rfl) ls st h
theorem lb288_9 {E : mE} (ls : mL) (st : List Value) (h : mH) : mV E gP (288, 9, ls, st, h) = mX E gP (mV E gP) 288 b288_9 ls st h := lab_row (mcode_row grw288 rfl) ls st h
theorem lb288_30 {E : mE} (ls : mL) (st : List Value) (h : mH) : mV E gP (288, 30, ls, st, h) = mX E gP (mV E gP) 288 b288_30 ls st h := lab_row (mcode_row grw288 rfl) ls st h
theorem lb288_44 {E : mE} (ls : mL) (st : List Value) (h : mH) : mV E gP (288, 44, ls, st, h) = mX E gP (mV E gP) 288 b288_44 ls st h := lab_row (mcode_row grw288 rfl) ls st h
theorem lb288_46 {E : mE} (ls : mL) (st : List Value) (h : mH) : mV E gP (288, 46, ls, st, h) = mX E gP (mV E gP) 288 b288_46 ls st h := lab_row (mcode_row grw288 rfl) ls st h
theorem lb288_70 {E : mE} (ls : mL) (st : List Value) (h : mH) : mV E gP (288, 70, ls, st, h) = mX E gP (mV E gP) 288 b288_70 ls st h := lab_row (mcode_row grw288 rfl) ls st h
theorem en288 {E : mE} (v0 : Value) (h : mH) : mRun E gP 288 [v0] h = mX E gP (mV E gP) 288 b288_0 [some v0, none] [] h := ent_row (mcode_row grw288 rfl) gm288 _ h
theorem lb289_0 {E : mE} (ls : mL) (st : List Value) (h : mH) : mV E gP (289, 0, ls, st, h) = mX E gP (mV E gP) 289 b289_0 ls st h := lab_row (mcode_row grw289 rfl) ls st h
theorem lb289_15 {E : mE} (ls : mL) (st : List Value) (h : mH) : mV E gP (289, 15, ls, st, h) = mX E gP (mV E gP) 289 b289_15 ls st h := lab_row (mcode_row grw289 rfl) ls st h
theorem lb289_16 {E : mE} (ls : mL) (st : List Value) (h : mH) : mV E gP (289, 16, ls, st, h) = mX E gP (mV E gP) 289 b289_16 ls st h := lab_row (mcode_row grw289 rfl) ls st h
theorem lb289_34 {E : mE} (ls : mL) (st : List Value) (h : mH) : mV E gP (289, 34, ls, st, h) = mX E gP (mV E gP) 289 b289_34 ls st h := lab_row (mcode_row grw289 rfl) ls st h
theorem lb289_35 {E : mE} (ls : mL) (st : List Value) (h : mH) : mV E gP (289, 35, ls, st, h) = mX E gP (mV E gP) 289 b289_35 ls st h := lab_row (mcode_row grw289 rfl) ls st h
theorem lb289_55 {E : mE} (ls : mL) (st : List Value) (h : mH) : mV E gP (289, 55, ls, st, h) = mX E gP (mV E gP) 289 b289_55 ls st h := lab_row (mcode_row grw289 rfl) ls st h
theorem lb289_82 {E : mE} (ls : mL) (st : List Value) (h : mH) : mV E gP (289, 82, ls, st, h) = mX E gP (mV E gP) 289 b289_82 ls st h := lab_row (mcode_row grw289 rfl) ls st h
theorem lb289_109 {E : mE} (ls : mL) (st : List Value) (h : mH) : mV E gP (289, 109, ls, st, h) = mX E gP (mV E gP) 289 b289_109 ls st h := lab_row (mcode_row grw289 rfl) ls st h
theorem lb289_119 {E : mE} (ls : mL) (st : List Value) (h : mH) : mV E gP (289, 119, ls, st, h) = mX E gP (mV E gP) 289 b289_119 ls st h := lab_row (mcode_row grw289 rfl) ls st h
theorem en289 {E : mE} (v0 : Value) (h : mH) : mRun E gP 289 [v0] h = mX E gP (mV E gP) 289 b289_0 [some v0, none, none, none] [] h := ent_row (mcode_row grw289 rfl) gm289 _ h
theorem lb290_0 {E : mE} (ls : mL) (st : List Value) (h : mH) : mV E gP (290, 0, ls, st, h) = mX E gP (mV E gP) 290 b290_0 ls st h := lab_row (mcode_row grw290 rfl) ls st h
theorem lb290_12 {E : mE} (ls : mL) (st : List Value) (h : mH) : mV E gP (290, 12, ls, st, h) = mX E gP (mV E gP) 290 b290_12 ls st h := lab_row (mcode_row grw290 rfl) ls st h
theorem lb290_24 {E : mE} (ls : mL) (st : List Value) (h : mH) : mV E gP (290, 24, ls, st, h) = mX E gP (mV E gP) 290 b290_24 ls st h := lab_row (mcode_row grw290 rfl) ls st h
theorem lb290_36 {E : mE} (ls : mL) (st : List Value) (h : mH) : mV E gP (290, 36, ls, st, h) = mX E gP (mV E gP) 290 b290_36 ls st h := lab_row (mcode_row grw290 rfl) ls st h
theorem lb290_48 {E : mE} (ls : mL) (st : List Value) (h : mH) : mV E gP (290, 48, ls, st, h) = mX E gP (mV E gP) 290 b290_48 ls st h := lab_row (mcode_row grw290 rfl) ls st h
theorem lb290_62 {E : mE} (ls : mL) (st : List Value) (h : mH) : mV E gP (290, 62, ls, st, h) = mX E gP (mV E gP) 290 b290_62 ls st h := lab_row (mcode_row grw290 rfl) ls st h
theorem lb290_63 {E : mE} (ls : mL) (st : List Value) (h : mH) : mV E gP (290, 63, ls, st, h) = mX E gP (mV E gP) 290 b290_63 ls st h := lab_row (mcode_row grw290 rfl) ls st h
theorem en290 {E : mE} (v0 : Value) (h : mH) : mRun E gP 290 [v0] h = mX E gP (mV E gP) 290 b290_0 [some v0] [] h := ent_row (mcode_row grw290 rfl) gm290 _ h
theorem lb291_0 {E : mE} (ls : mL) (st : List Value) (h : mH) : mV E gP (291, 0, ls, st, h) = mX E gP (mV E gP) 291 b291_0 ls st h := lab_row (mcode_row grw291 rfl) ls st h
theorem lb291_19 {E : mE} (ls : mL) (st : List Value) (h : mH) : mV E gP (291, 19, ls, st, h) = mX E gP (mV E gP) 291 b291_19 ls st h := lab_row (mcode_row grw291 rfl) ls st h
theorem lb291_36 {E : mE} (ls : mL) (st : List Value) (h : mH) : mV E gP (291, 36, ls, st, h) = mX E gP (mV E gP) 291 b291_36 ls st h := lab_row (mcode_row grw291 rfl) ls st h
theorem lb291_46 {E : mE} (ls : mL) (st : List Value) (h : mH) : mV E gP (291, 46, ls, st, h) = mX E gP (mV E gP) 291 b291_46 ls st h := lab_row (mcode_row grw291 rfl) ls st h
theorem lb291_48 {E : mE} (ls : mL) (st : List Value) (h : mH) : mV E gP (291, 48, ls, st, h) = mX E gP (mV E gP) 291 b291_48 ls st h := lab_row (mcode_row grw291 rfl) ls st h
theorem en291 {E : mE} (v0 v1 : Value) (h : mH) : mRun E gP 291 [v0, v1] h = mX E gP (mV E gP) 291 b291_0 [some v0, some v1] [] h := ent_row (mcode_row grw291 rfl) gm291 _ h
theorem lb292_0 {E : mE} (ls : mL) (st : List Value) (h : mH) : mV E gP (292, 0, ls, st, h) = mX E gP (mV E gP) 292 b292_0 ls st h := lab_row (mcode_row grw292 rfl) ls st h
theorem en292 {E : mE} (v0 v1 v2 : Value) (h : mH) : mRun E gP 292 [v0, v1, v2] h = mX E gP (mV E gP) 292 b292_0 [some v0, some v1, some v2] [] h := ent_row (mcode_row grw292 rfl) gm292 _ h
theorem lb293_0 {E : mE} (ls : mL) (st : List Value) (h : mH) : mV E gP (293, 0, ls, st, h) = mX E gP (mV E gP) 293 b293_0 ls st h := lab_row (mcode_row grw293 rfl) ls st h
theorem lb293_44 {E : mE} (ls : mL) (st : List Value) (h : mH) : mV E gP (293, 44, ls, st, h) = mX E gP (mV E gP) 293 b293_44 ls st h := lab_row (mcode_row grw293 rfl) ls st h
theorem lb293_54 {E : mE} (ls : mL) (st : List Value) (h : mH) : mV E gP (293, 54, ls, st, h) = mX E gP (mV E gP) 293 b293_54 ls st h := lab_row (mcode_row grw293 rfl) ls st h
theorem lb293_88 {E : mE} (ls : mL) (st : List Value) (h : mH) : mV E gP (293, 88, ls, st, h) = mX E gP (mV E gP) 293 b293_88 ls st h := lab_row (mcode_row grw293 rfl) ls st h
theorem lb293_95 {E : mE} (ls : mL) (st : List Value) (h : mH) : mV E gP (293, 95, ls, st, h) = mX E gP (mV E gP) 293 b293_95 ls st h := lab_row (mcode_row grw293 rfl) ls st h
theorem lb293_112 {E : mE} (ls : mL) (st : List Value) (h : mH) : mV E gP (293, 112, ls, st, h) = mX E gP (mV E gP) 293 b293_112 ls st h := lab_row (mcode_row grw293 rfl) ls st h
theorem lb293_113 {E : mE} (ls : mL) (st : List Value) (h : mH) : mV E gP (293, 113, ls, st, h) = mX E gP (mV E gP) 293 b293_113 ls st h := lab_row (mcode_row grw293 rfl) ls st h
theorem lb293_114 {E : mE} (ls : mL) (st : List Value) (h : mH) : mV E gP (293, 114, ls, st, h) = mX E gP (mV E gP) 293 b293_114 ls st h := lab_row (mcode_row grw293 rfl) ls st h
theorem lb293_142 {E : mE} (ls : mL) (st : List Value) (h : mH) : mV E gP (293, 142, ls, st, h) = mX E gP (mV E gP) 293 b293_142 ls st h := lab_row (mcode_row grw293 rfl) ls st h
theorem lb293_143 {E : mE} (ls : mL) (st : List Value) (h : mH) : mV E gP (293, 143, ls, st, h) = mX E gP (mV E gP) 293 b293_143 ls st h := lab_row (mcode_row grw293 rfl) ls st h
theorem lb293_144 {E : mE} (ls : mL) (st : List Value) (h : mH) : mV E gP (293, 144, ls, st, h) = mX E gP (mV E gP) 293 b293_144 ls st h := lab_row (mcode_row grw293 rfl) ls st h
theorem lb293_161 {E : mE} (ls : mL) (st : List Value) (h : mH) : mV E gP (293, 161, ls, st, h) = mX E gP (mV E gP) 293 b293_161 ls st h := lab_row (mcode_row grw293 rfl) ls st h
theorem lb293_162 {E : mE} (ls : mL) (st : List Value) (h : mH) : mV E gP (293, 162, ls, st, h) = mX E gP (mV E gP) 293 b293_162 ls st h := lab_row (mcode_row grw293 rfl) ls st h
theorem en293 {E : mE} (v0 v1 : Value) (h : mH) : mRun E gP 293 [v0, v1] h = mX E gP (mV E gP) 293 b293_0 [some v0, some v1, none, none, none] [] h := ent_row (mcode_row grw293 rfl) gm293 _ h
theorem lb294_0 {E : mE} (ls : mL) (st : List Value) (h : mH) : mV E gP (294, 0, ls, st, h) = mX E gP (mV E gP) 294 b294_0 ls st h := lab_row (mcode_row grw294 rfl) ls st h
theorem lb294_22 {E : mE} (ls : mL) (st : List Value) (h : mH) : mV E gP (294, 22, ls, st, h) = mX E gP (mV E gP) 294 b294_22 ls st h := lab_row (mcode_row grw294 rfl) ls st h
theorem en294 {E : mE} (v0 v1 : Value) (h : mH) : mRun E gP 294 [v0, v1] h = mX E gP (mV E gP) 294 b294_0 [some v0, some v1] [] h := ent_row (mcode_row grw294 rfl) gm294 _ h
theorem lb295_0 {E : mE} (ls : mL) (st : List Value) (h : mH) : mV E gP (295, 0, ls, st, h) = mX E gP (mV E gP) 295 b295_0 ls st h := lab_row (mcode_row grw295 rfl) ls st h
theorem en295 {E : mE} (v0 v1 : Value) (h : mH) : mRun E gP 295 [v0, v1] h = mX E gP (mV E gP) 295 b295_0 [some v0, some v1] [] h := ent_row (mcode_row grw295 rfl) gm295 _ h
theorem lb296_0 {E : mE} (ls : mL) (st : List Value) (h : mH) : mV E gP (296, 0, ls, st, h) = mX E gP (mV E gP) 296 b296_0 ls st h := lab_row (mcode_row grw296 rfl) ls st h
theorem lb296_13 {E : mE} (ls : mL) (st : List Value) (h : mH) : mV E gP (296, 13, ls, st, h) = mX E gP (mV E gP) 296 b296_13 ls st h := lab_row (mcode_row grw296 rfl) ls st h
theorem lb296_42 {E : mE} (ls : mL) (st : List Value) (h : mH) : mV E gP (296, 42, ls, st, h) = mX E gP (mV E gP) 296 b296_42 ls st h := lab_row (mcode_row grw296 rfl) ls st h
theorem lb296_52 {E : mE} (ls : mL) (st : List Value) (h : mH) : mV E gP (296, 52, ls, st, h) = mX E gP (mV E gP) 296 b296_52 ls st h := lab_row (mcode_row grw296 rfl) ls st h
theorem en296 {E : mE} (v0 : Value) (h : mH) : mRun E gP 296 [v0] h = mX E gP (mV E gP) 296 b296_0 [some v0, none] [] h := ent_row (mcode_row grw296 rfl) gm296 _ h
theorem lb297_0 {E : mE} (ls : mL) (st : List Value) (h : mH) : mV E gP (297, 0, ls, st, h) = mX E gP (mV E gP) 297 b297_0 ls st h := lab_row (mcode_row grw297 rfl) ls st h
theorem lb297_10 {E : mE} (ls : mL) (st : List Value) (h : mH) : mV E gP (297, 10, ls, st, h) = mX E gP (mV E gP) 297 b297_10 ls st h := lab_row (mcode_row grw297 rfl) ls st h
theorem lb297_25 {E : mE} (ls : mL) (st : List Value) (h : mH) : mV E gP (297, 25, ls, st, h) = mX E gP (mV E gP) 297 b297_25 ls st h := lab_row (mcode_row grw297 rfl) ls st h
theorem en297 {E : mE} (v0 v1 : Value) (h : mH) : mRun E gP 297 [v0, v1] h = mX E gP (mV E gP) 297 b297_0 [some v0, some v1, none, none] [] h := ent_row (mcode_row grw297 rfl) gm297 _ h
theorem lb298_0 {E : mE} (ls : mL) (st : List Value) (h : mH) : mV E gP (298, 0, ls, st, h) = mX E gP (mV E gP) 298 b298_0 ls st h := lab_row (mcode_row grw298 rfl) ls st h
theorem lb298_10 {E : mE} (ls : mL) (st : List Value) (h : mH) : mV E gP (298, 10, ls, st, h) = mX E gP (mV E gP) 298 b298_10 ls st h := lab_row (mcode_row grw298 rfl) ls st h
theorem lb298_46 {E : mE} (ls : mL) (st : List Value) (h : mH) : mV E gP (298, 46, ls, st, h) = mX E gP (mV E gP) 298 b298_46 ls st h := lab_row (mcode_row grw298 rfl) ls st h
theorem lb298_52 {E : mE} (ls : mL) (st : List Value) (h : mH) : mV E gP (298, 52, ls, st, h) = mX E gP (mV E gP) 298 b298_52 ls st h := lab_row (mcode_row grw298 rfl) ls st h
theorem en298 {E : mE} (v0 : Value) (h : mH) : mRun E gP 298 [v0] h = mX E gP (mV E gP) 298 b298_0 [some v0, none] [] h := ent_row (mcode_row grw298 rfl) gm298 _ h
theorem lb299_0 {E : mE} (ls : mL) (st : List Value) (h : mH) : mV E gP (299, 0, ls, st, h) = mX E gP (mV E gP) 299 b299_0 ls st h := lab_row (mcode_row grw299 rfl) ls st h
theorem en299 {E : mE} (v0 : Value) (h : mH) : mRun E gP 299 [v0] h = mX E gP (mV E gP) 299 b299_0 [some v0] [] h := ent_row (mcode_row grw299 rfl) gm299 _ h
theorem lb300_0 {E : mE} (ls : mL) (st : List Value) (h : mH) : mV E gP (300, 0, ls, st, h) = mX E gP (mV E gP) 300 b300_0 ls st h := lab_row (mcode_row grw300 rfl) ls st h
theorem lb300_2 {E : mE} (ls : mL) (st : List Value) (h : mH) : mV E gP (300, 2, ls, st, h) = mX E gP (mV E gP) 300 b300_2 ls st h := lab_row (mcode_row grw300 rfl) ls st h
theorem lb300_48 {E : mE} (ls : mL) (st : List Value) (h : mH) : mV E gP (300, 48, ls, st, h) = mX E gP (mV E gP) 300 b300_48 ls st h := lab_row (mcode_row grw300 rfl) ls st h
theorem lb300_54 {E : mE} (ls : mL) (st : List Value) (h : mH) : mV E gP (300, 54, ls, st, h) = mX E gP (mV E gP) 300 b300_54 ls st h := lab_row (mcode_row grw300 rfl) ls st h
theorem en300 {E : mE} (v0 : Value) (h : mH) : mRun E gP 300 [v0] h = mX E gP (mV E gP) 300 b300_0 [some v0, none, none] [] h := ent_row (mcode_row grw300 rfl) gm300 _ h
theorem lb301_0 {E : mE} (ls : mL) (st : List Value) (h : mH) : mV E gP (301, 0, ls, st, h) = mX E gP (mV E gP) 301 b301_0 ls st h := lab_row (mcode_row grw301 rfl) ls st h
theorem en301 {E : mE} (v0 v1 v2 : Value) (h : mH) : mRun E gP 301 [v0, v1, v2] h = mX E gP (mV E gP) 301 b301_0 [some v0, some v1, some v2] [] h := ent_row (mcode_row grw301 rfl) gm301 _ h
theorem lb302_0 {E : mE} (ls : mL) (st : List Value) (h : mH) : mV E gP (302, 0, ls, st, h) = mX E gP (mV E gP) 302 b302_0 ls st h := lab_row (mcode_row grw302 rfl) ls st h
theorem en302 {E : mE} (v0 v1 v2 : Value) (h : mH) : mRun E gP 302 [v0, v1, v2] h = mX E gP (mV E gP) 302 b302_0 [some v0, some v1, some v2, none, none] [] h := ent_row (mcode_row grw302 rfl) gm302 _ h
theorem lb303_0 {E : mE} (ls : mL) (st : List Value) (h : mH) : mV E gP (303, 0, ls, st, h) = mX E gP (mV E gP) 303 b303_0 ls st h := lab_row (mcode_row grw303 rfl) ls st h
theorem en303 {E : mE} (v0 v1 : Value) (h : mH) : mRun E gP 303 [v0, v1] h = mX E gP (mV E gP) 303 b303_0 [some v0, some v1] [] h := ent_row (mcode_row grw303 rfl) gm303 _ h
theorem lb304_0 {E : mE} (ls : mL) (st : List Value) (h : mH) : mV E gP (304, 0, ls, st, h) = mX E gP (mV E gP) 304 b304_0 ls st h := lab_row (mcode_row grw304 rfl) ls st h
theorem lb304_9 {E : mE} (ls : mL) (st : List Value) (h : mH) : mV E gP (304, 9, ls, st, h) = mX E gP (mV E gP) 304 b304_9 ls st h := lab_row (mcode_row grw304 rfl) ls st h
theorem lb304_18 {E : mE} (ls : mL) (st : List Value) (h : mH) : mV E gP (304, 18, ls, st, h) = mX E gP (mV E gP) 304 b304_18 ls st h := lab_row (mcode_row grw304 rfl) ls st h
theorem lb304_19 {E : mE} (ls : mL) (st : List Value) (h : mH) : mV E gP (304, 19, ls, st, h) = mX E gP (mV E gP) 304 b304_19 ls st h := lab_row (mcode_row grw304 rfl) ls st h
theorem en304 {E : mE} (v0 : Value) (h : mH) : mRun E gP 304 [v0] h = mX E gP (mV E gP) 304 b304_0 [some v0] [] h := ent_row (mcode_row grw304 rfl) gm304 _ h
theorem lb305_0 {E : mE} (ls : mL) (st : List Value) (h : mH) : mV E gP (305, 0, ls, st, h) = mX E gP (mV E gP) 305 b305_0 ls st h := lab_row (mcode_row grw305 rfl) ls st h
theorem en305 {E : mE} (v0 v1 : Value) (h : mH) : mRun E gP 305 [v0, v1] h = mX E gP (mV E gP) 305 b305_0 [some v0, some v1] [] h := ent_row (mcode_row grw305 rfl) gm305 _ h
theorem lb306_0 {E : mE} (ls : mL) (st : List Value) (h : mH) : mV E gP (306, 0, ls, st, h) = mX E gP (mV E gP) 306 b306_0 ls st h := lab_row (mcode_row grw306 rfl) ls st h
theorem lb306_9 {E : mE} (ls : mL) (st : List Value) (h : mH) : mV E gP (306, 9, ls, st, h) = mX E gP (mV E gP) 306 b306_9 ls st h := lab_row (mcode_row grw306 rfl) ls st h
theorem lb306_17 {E : mE} (ls : mL) (st : List Value) (h : mH) : mV E gP (306, 17, ls, st, h) = mX E gP (mV E gP) 306 b306_17 ls st h := lab_row (mcode_row grw306 rfl) ls st h
theorem lb306_18 {E : mE} (ls : mL) (st : List Value) (h : mH) : mV E gP (306, 18, ls, st, h) = mX E gP (mV E gP) 306 b306_18 ls st h := lab_row (mcode_row grw306 rfl) ls st h
theorem en306 {E : mE} (v0 : Value) (h : mH) : mRun E gP 306 [v0] h = mX E gP (mV E gP) 306 b306_0 [some v0] [] h := ent_row (mcode_row grw306 rfl) gm306 _ h
theorem lb307_0 {E : mE} (ls : mL) (st : List Value) (h : mH) : mV E gP (307, 0, ls, st, h) = mX E gP (mV E gP) 307 b307_0 ls st h := lab_row (mcode_row grw307 rfl) ls st h
theorem lb307_2 {E : mE} (ls : mL) (st : List Value) (h : mH) : mV E gP (307, 2, ls, st, h) = mX E gP (mV E gP) 307 b307_2 ls st h := lab_row (mcode_row grw307 rfl) ls st h
theorem lb307_46 {E : mE} (ls : mL) (st : List Value) (h : mH) : mV E gP (307, 46, ls, st, h) = mX E gP (mV E gP) 307 b307_46 ls st h := lab_row (mcode_row grw307 rfl) ls st h
theorem en307 {E : mE} (v0 : Value) (h : mH) : mRun E gP 307 [v0] h = mX E gP (mV E gP) 307 b307_0 [some v0, none] [] h := ent_row (mcode_row grw307 rfl) gm307 _ h
theorem lb308_0 {E : mE} (ls : mL) (st : List Value) (h : mH) : mV E gP (308, 0, ls, st, h) = mX E gP (mV E gP) 308 b308_0 ls st h := lab_row (mcode_row grw308 rfl) ls st h
theorem lb308_2 {E : mE} (ls : mL) (st : List Value) (h : mH) : mV E gP (308, 2, ls, st, h) = mX E gP (mV E gP) 308 b308_2 ls st h := lab_row (mcode_row grw308 rfl) ls st h
theorem lb308_23 {E : mE} (ls : mL) (st : List Value) (h : mH) : mV E gP (308, 23, ls, st, h) = mX E gP (mV E gP) 308 b308_23 ls st h := lab_row (mcode_row grw308 rfl) ls st h
theorem lb308_25 {E : mE} (ls : mL) (st : List Value) (h : mH) : mV E gP (308, 25, ls, st, h) = mX E gP (mV E gP) 308 b308_25 ls st h := lab_row (mcode_row grw308 rfl) ls st h
theorem lb308_44 {E : mE} (ls : mL) (st : List Value) (h : mH) : mV E gP (308, 44, ls, st, h) = mX E gP (mV E gP) 308 b308_44 ls st h := lab_row (mcode_row grw308 rfl) ls st h
theorem lb308_84 {E : mE} (ls : mL) (st : List Value) (h : mH) : mV E gP (308, 84, ls, st, h) = mX E gP (mV E gP) 308 b308_84 ls st h := lab_row (mcode_row grw308 rfl) ls st h
theorem lb308_90 {E : mE} (ls : mL) (st : List Value) (h : mH) : mV E gP (308, 90, ls, st, h) = mX E gP (mV E gP) 308 b308_90 ls st h := lab_row (mcode_row grw308 rfl) ls st h
theorem en308 {E : mE} (v0 : Value) (h : mH) : mRun E gP 308 [v0] h = mX E gP (mV E gP) 308 b308_0 [some v0, none, none, none] [] h := ent_row (mcode_row grw308 rfl) gm308 _ h
theorem lb309_0 {E : mE} (ls : mL) (st : List Value) (h : mH) : mV E gP (309, 0, ls, st, h) = mX E gP (mV E gP) 309 b309_0 ls st h := lab_row (mcode_row grw309 rfl) ls st h
theorem lb309_10 {E : mE} (ls : mL) (st : List Value) (h : mH) : mV E gP (309, 10, ls, st, h) = mX E gP (mV E gP) 309 b309_10 ls st h := lab_row (mcode_row grw309 rfl) ls st h
theorem lb309_41 {E : mE} (ls : mL) (st : List Value) (h : mH) : mV E gP (309, 41, ls, st, h) = mX E gP (mV E gP) 309 b309_41 ls st h := lab_row (mcode_row grw309 rfl) ls st h
theorem lb309_43 {E : mE} (ls : mL) (st : List Value) (h : mH) : mV E gP (309, 43, ls, st, h) = mX E gP (mV E gP) 309 b309_43 ls st h := lab_row (mcode_row grw309 rfl) ls st h
theorem lb309_49 {E : mE} (ls : mL) (st : List Value) (h : mH) : mV E gP (309, 49, ls, st, h) = mX E gP (mV E gP) 309 b309_49 ls st h := lab_row (mcode_row grw309 rfl) ls st h
theorem lb309_63 {E : mE} (ls : mL) (st : List Value) (h : mH) : mV E gP (309, 63, ls, st, h) = mX E gP (mV E gP) 309 b309_63 ls st h := lab_row (mcode_row grw309 rfl) ls st h
theorem lb309_64 {E : mE} (ls : mL) (st : List Value) (h : mH) : mV E gP (309, 64, ls, st, h) = mX E gP (mV E gP) 309 b309_64 ls st h := lab_row (mcode_row grw309 rfl) ls st h
theorem en309 {E : mE} (v0 v1 v2 : Value) (h : mH) : mRun E gP 309 [v0, v1, v2] h = mX E gP (mV E gP) 309 b309_0 [some v0, some v1, some v2, none, none] [] h := ent_row (mcode_row grw309 rfl) gm309 _ h
theorem lb310_0 {E : mE} (ls : mL) (st : List Value) (h : mH) : mV E gP (310, 0, ls, st, h) = mX E gP (mV E gP) 310 b310_0 ls st h := lab_row (mcode_row grw310 rfl) ls st h
theorem lb310_60 {E : mE} (ls : mL) (st : List Value) (h : mH) : mV E gP (310, 60, ls, st, h) = mX E gP (mV E gP) 310 b310_60 ls st h := lab_row (mcode_row grw310 rfl) ls st h
theorem lb310_61 {E : mE} (ls : mL) (st : List Value) (h : mH) : mV E gP (310, 61, ls, st, h) = mX E gP (mV E gP) 310 b310_61 ls st h := lab_row (mcode_row grw310 rfl) ls st h
theorem lb310_82 {E : mE} (ls : mL) (st : List Value) (h : mH) : mV E gP (310, 82, ls, st, h) = mX E gP (mV E gP) 310 b310_82 ls st h := lab_row (mcode_row grw310 rfl) ls st h
theorem lb310_83 {E : mE} (ls : mL) (st : List Value) (h : mH) : mV E gP (310, 83, ls, st, h) = mX E gP (mV E gP) 310 b310_83 ls st h := lab_row (mcode_row grw310 rfl) ls st h
theorem en310 {E : mE} (v0 v1 v2 : Value) (h : mH) : mRun E gP 310 [v0, v1, v2] h = mX E gP (mV E gP) 310 b310_0 [some v0, some v1, some v2, none, none, none] [] h := ent_row (mcode_row grw310 rfl) gm310 _ h
theorem lb311_0 {E : mE} (ls : mL) (st : List Value) (h : mH) : mV E gP (311, 0, ls, st, h) = mX E gP (mV E gP) 311 b311_0 ls st h := lab_row (mcode_row grw311 rfl) ls st h
theorem lb311_5 {E : mE} (ls : mL) (st : List Value) (h : mH) : mV E gP (311, 5, ls, st, h) = mX E gP (mV E gP) 311 b311_5 ls st h := lab_row (mcode_row grw311 rfl) ls st h
theorem lb311_31 {E : mE} (ls : mL) (st : List Value) (h : mH) : mV E gP (311, 31, ls, st, h) = mX E gP (mV E gP) 311 b311_31 ls st h := lab_row (mcode_row grw311 rfl) ls st h
theorem en311 {E : mE} (v0 v1 v2 : Value) (h : mH) : mRun E gP 311 [v0, v1, v2] h = mX E gP (mV E gP) 311 b311_0 [some v0, some v1, some v2, none, none] [] h := ent_row (mcode_row grw311 rfl) gm311 _ h
theorem lb312_0 {E : mE} (ls : mL) (st : List Value) (h : mH) : mV E gP (312, 0, ls, st, h) = mX E gP (mV E gP) 312 b312_0 ls st h := lab_row (mcode_row grw312 rfl) ls st h
theorem lb312_4 {E : mE} (ls : mL) (st : List Value) (h : mH) : mV E gP (312, 4, ls, st, h) = mX E gP (mV E gP) 312 b312_4 ls st h := lab_row (mcode_row grw312 rfl) ls st h
theorem lb312_44 {E : mE} (ls : mL) (st : List Value) (h : mH) : mV E gP (312, 44, ls, st, h) = mX E gP (mV E gP) 312 b312_44 ls st h := lab_row (mcode_row grw312 rfl) ls st h
theorem lb312_45 {E : mE} (ls : mL) (st : List Value) (h : mH) : mV E gP (312, 45, ls, st, h) = mX E gP (mV E gP) 312 b312_45 ls st h := lab_row (mcode_row grw312 rfl) ls st h
theorem lb312_53 {E : mE} (ls : mL) (st : List Value) (h : mH) : mV E gP (312, 53, ls, st, h) = mX E gP (mV E gP) 312 b312_53 ls st h := lab_row (mcode_row grw312 rfl) ls st h
theorem en312 {E : mE} (v0 v1 : Value) (h : mH) : mRun E gP 312 [v0, v1] h = mX E gP (mV E gP) 312 b312_0 [some v0, some v1, none, none] [] h := ent_row (mcode_row grw312 rfl) gm312 _ h
theorem lb313_0 {E : mE} (ls : mL) (st : List Value) (h : mH) : mV E gP (313, 0, ls, st, h) = mX E gP (mV E gP) 313 b313_0 ls st h := lab_row (mcode_row grw313 rfl) ls st h
theorem en313 {E : mE} (v0 v1 v2 : Value) (h : mH) : mRun E gP 313 [v0, v1, v2] h = mX E gP (mV E gP) 313 b313_0 [some v0, some v1, some v2] [] h := ent_row (mcode_row grw313 rfl) gm313 _ h
theorem lb314_0 {E : mE} (ls : mL) (st : List Value) (h : mH) : mV E gP (314, 0, ls, st, h) = mX E gP (mV E gP) 314 b314_0 ls st h := lab_row (mcode_row grw314 rfl) ls st h
theorem lb314_26 {E : mE} (ls : mL) (st : List Value) (h : mH) : mV E gP (314, 26, ls, st, h) = mX E gP (mV E gP) 314 b314_26 ls st h := lab_row (mcode_row grw314 rfl) ls st h
theorem lb314_60 {E : mE} (ls : mL) (st : List Value) (h : mH) : mV E gP (314, 60, ls, st, h) = mX E gP (mV E gP) 314 b314_60 ls st h := lab_row (mcode_row grw314 rfl) ls st h
theorem lb314_66 {E : mE} (ls : mL) (st : List Value) (h : mH) : mV E gP (314, 66, ls, st, h) = mX E gP (mV E gP) 314 b314_66 ls st h := lab_row (mcode_row grw314 rfl) ls st h
theorem en314 {E : mE} (v0 v1 : Value) (h : mH) : mRun E gP 314 [v0, v1] h = mX E gP (mV E gP) 314 b314_0 [some v0, some v1, none] [] h := ent_row (mcode_row grw314 rfl) gm314 _ h
theorem lb315_0 {E : mE} (ls : mL) (st : List Value) (h : mH) : mV E gP (315, 0, ls, st, h) = mX E gP (mV E gP) 315 b315_0 ls st h := lab_row (mcode_row grw315 rfl) ls st h
theorem en315 {E : mE} (v0 v1 v2 : Value) (h : mH) : mRun E gP 315 [v0, v1, v2] h = mX E gP (mV E gP) 315 b315_0 [some v0, some v1, some v2] [] h := ent_row (mcode_row grw315 rfl) gm315 _ h
theorem lb316_0 {E : mE} (ls : mL) (st : List Value) (h : mH) : mV E gP (316, 0, ls, st, h) = mX E gP (mV E gP) 316 b316_0 ls st h := lab_row (mcode_row grw316 rfl) ls st h
theorem en316 {E : mE} (v0 v1 v2 : Value) (h : mH) : mRun E gP 316 [v0, v1, v2] h = mX E gP (mV E gP) 316 b316_0 [some v0, some v1, some v2] [] h := ent_row (mcode_row grw316 rfl) gm316 _ h
theorem lb317_0 {E : mE} (ls : mL) (st : List Value) (h : mH) : mV E gP (317, 0, ls, st, h) = mX E gP (mV E gP) 317 b317_0 ls st h := lab_row (mcode_row grw317 rfl) ls st h
theorem lb317_24 {E : mE} (ls : mL) (st : List Value) (h : mH) : mV E gP (317, 24, ls, st, h) = mX E gP (mV E gP) 317 b317_24 ls st h := lab_row (mcode_row grw317 rfl) ls st h
theorem lb317_25 {E : mE} (ls : mL) (st : List Value) (h : mH) : mV E gP (317, 25, ls, st, h) = mX E gP (mV E gP) 317 b317_25 ls st h := lab_row (mcode_row grw317 rfl) ls st h
theorem en317 {E : mE} (v0 v1 v2 : Value) (h : mH) : mRun E gP 317 [v0, v1, v2] h = mX E gP (mV E gP) 317 b317_0 [some v0, some v1, some v2] [] h := ent_row (mcode_row grw317 rfl) gm317 _ h
theorem lb318_0 {E : mE} (ls : mL) (st : List Value) (h : mH) : mV E gP (318, 0, ls, st, h) = mX E gP (mV E gP) 318 b318_0 ls st h := lab_row (mcode_row grw318 rfl) ls st h
theorem en318 {E : mE} (v0 v1 : Value) (h : mH) : mRun E gP 318 [v0, v1] h = mX E gP (mV E gP) 318 b318_0 [some v0, some v1] [] h := ent_row (mcode_row grw318 rfl) gm318 _ h
theorem lb319_0 {E : mE} (ls : mL) (st : List Value) (h : mH) : mV E gP (319, 0, ls, st, h) = mX E gP (mV E gP) 319 b319_0 ls st h := lab_row (mcode_row grw319 rfl) ls st h
theorem lb319_17 {E : mE} (ls : mL) (st : List Value) (h : mH) : mV E gP (319, 17, ls, st, h) = mX E gP (mV E gP) 319 b319_17 ls st h := lab_row (mcode_row grw319 rfl) ls st h
theorem lb319_77 {E : mE} (ls : mL) (st : List Value) (h : mH) : mV E gP (319, 77, ls, st, h) = mX E gP (mV E gP) 319 b319_77 ls st h := lab_row (mcode_row grw319 rfl) ls st h
theorem lb319_78 {E : mE} (ls : mL) (st : List Value) (h : mH) : mV E gP (319, 78, ls, st, h) = mX E gP (mV E gP) 319 b319_78 ls st h := lab_row (mcode_row grw319 rfl) ls st h
theorem en319 {E : mE} (v0 v1 v2 : Value) (h : mH) : mRun E gP 319 [v0, v1, v2] h = mX E gP (mV E gP) 319 b319_0 [some v0, some v1, some v2, none, none] [] h := ent_row (mcode_row grw319 rfl) gm319 _ h
theorem lb320_0 {E : mE} (ls : mL) (st : List Value) (h : mH) : mV E gP (320, 0, ls, st, h) = mX E gP (mV E gP) 320 b320_0 ls st h := lab_row (mcode_row grw320 rfl) ls st h
theorem lb320_12 {E : mE} (ls : mL) (st : List Value) (h : mH) : mV E gP (320, 12, ls, st, h) = mX E gP (mV E gP) 320 b320_12 ls st h := lab_row (mcode_row grw320 rfl) ls st h
theorem lb320_37 {E : mE} (ls : mL) (st : List Value) (h : mH) : mV E gP (320, 37, ls, st, h) = mX E gP (mV E gP) 320 b320_37 ls st h := lab_row (mcode_row grw320 rfl) ls st h
theorem lb320_41 {E : mE} (ls : mL) (st : List Value) (h : mH) : mV E gP (320, 41, ls, st, h) = mX E gP (mV E gP) 320 b320_41 ls st h := lab_row (mcode_row grw320 rfl) ls st h
theorem lb320_42 {E : mE} (ls : mL) (st : List Value) (h : mH) : mV E gP (320, 42, ls, st, h) = mX E gP (mV E gP) 320 b320_42 ls st h := lab_row (mcode_row grw320 rfl) ls st h
theorem en320 {E : mE} (v0 v1 v2 : Value) (h : mH) : mRun E gP 320 [v0, v1, v2] h = mX E gP (mV E gP) 320 b320_0 [some v0, some v1, some v2, none] [] h := ent_row (mcode_row grw320 rfl) gm320 _ h
theorem lb321_0 {E : mE} (ls : mL) (st : List Value) (h : mH) : mV E gP (321, 0, ls, st, h) = mX E gP (mV E gP) 321 b321_0 ls st h := lab_row (mcode_row grw321 rfl) ls st h
theorem lb321_2 {E : mE} (ls : mL) (st : List Value) (h : mH) : mV E gP (321, 2, ls, st, h) = mX E gP (mV E gP) 321 b321_2 ls st h := lab_row (mcode_row grw321 rfl) ls st h
theorem lb321_23 {E : mE} (ls : mL) (st : List Value) (h : mH) : mV E gP (321, 23, ls, st, h) = mX E gP (mV E gP) 321 b321_23 ls st h := lab_row (mcode_row grw321 rfl) ls st h
theorem lb321_29 {E : mE} (ls : mL) (st : List Value) (h : mH) : mV E gP (321, 29, ls, st, h) = mX E gP (mV E gP) 321 b321_29 ls st h := lab_row (mcode_row grw321 rfl) ls st h
theorem en321 {E : mE} (v0 v1 : Value) (h : mH) : mRun E gP 321 [v0, v1] h = mX E gP (mV E gP) 321 b321_0 [some v0, some v1, none] [] h := ent_row (mcode_row grw321 rfl) gm321 _ h
theorem lb322_0 {E : mE} (ls : mL) (st : List Value) (h : mH) : mV E gP (322, 0, ls, st, h) = mX E gP (mV E gP) 322 b322_0 ls st h := lab_row (mcode_row grw322 rfl) ls st h
theorem lb322_31 {E : mE} (ls : mL) (st : List Value) (h : mH) : mV E gP (322, 31, ls, st, h) = mX E gP (mV E gP) 322 b322_31 ls st h := lab_row (mcode_row grw322 rfl) ls st h
theorem lb322_35 {E : mE} (ls : mL) (st : List Value) (h : mH) : mV E gP (322, 35, ls, st, h) = mX E gP (mV E gP) 322 b322_35 ls st h := lab_row (mcode_row grw322 rfl) ls st h
theorem lb322_36 {E : mE} (ls : mL) (st : List Value) (h : mH) : mV E gP (322, 36, ls, st, h) = mX E gP (mV E gP) 322 b322_36 ls st h := lab_row (mcode_row grw322 rfl) ls st h
theorem en322 {E : mE} (v0 v1 v2 : Value) (h : mH) : mRun E gP 322 [v0, v1, v2] h = mX E gP (mV E gP) 322 b322_0 [some v0, some v1, some v2, none] [] h := ent_row (mcode_row grw322 rfl) gm322 _ h
theorem lb323_0 {E : mE} (ls : mL) (st : List Value) (h : mH) : mV E gP (323, 0, ls, st, h) = mX E gP (mV E gP) 323 b323_0 ls st h := lab_row (mcode_row grw323 rfl) ls st h
theorem lb323_2 {E : mE} (ls : mL) (st : List Value) (h : mH) : mV E gP (323, 2, ls, st, h) = mX E gP (mV E gP) 323 b323_2 ls st h := lab_row (mcode_row grw323 rfl) ls st h
theorem lb323_24 {E : mE} (ls : mL) (st : List Value) (h : mH) : mV E gP (323, 24, ls, st, h) = mX E gP (mV E gP) 323 b323_24 ls st h := lab_row (mcode_row grw323 rfl) ls st h
theorem lb323_30 {E : mE} (ls : mL) (st : List Value) (h : mH) : mV E gP (323, 30, ls, st, h) = mX E gP (mV E gP) 323 b323_30 ls st h := lab_row (mcode_row grw323 rfl) ls st h
theorem en323 {E : mE} (v0 v1 v2 : Value) (h : mH) : mRun E gP 323 [v0, v1, v2] h = mX E gP (mV E gP) 323 b323_0 [some v0, some v1, some v2, none] [] h := ent_row (mcode_row grw323 rfl) gm323 _ h
theorem lb324_0 {E : mE} (ls : mL) (st : List Value) (h : mH) : mV E gP (324, 0, ls, st, h) = mX E gP (mV E gP) 324 b324_0 ls st h := lab_row (mcode_row grw324 rfl) ls st h
theorem en324 {E : mE} (v0 v1 : Value) (h : mH) : mRun E gP 324 [v0, v1] h = mX E gP (mV E gP) 324 b324_0 [some v0, some v1] [] h := ent_row (mcode_row grw324 rfl) gm324 _ h
theorem lb325_0 {E : mE} (ls : mL) (st : List Value) (h : mH) : mV E gP (325, 0, ls, st, h) = mX E gP (mV E gP) 325 b325_0 ls st h := lab_row (mcode_row grw325 rfl) ls st h
theorem lb325_20 {E : mE} (ls : mL) (st : List Value) (h : mH) : mV E gP (325, 20, ls, st, h) = mX E gP (mV E gP) 325 b325_20 ls st h := lab_row (mcode_row grw325 rfl) ls st h
theorem lb325_40 {E : mE} (ls : mL) (st : List Value) (h : mH) : mV E gP (325, 40, ls, st, h) = mX E gP (mV E gP) 325 b325_40 ls st h := lab_row (mcode_row grw325 rfl) ls st h
theorem en325 {E : mE} (v0 v1 v2 : Value) (h : mH) : mRun E gP 325 [v0, v1, v2] h = mX E gP (mV E gP) 325 b325_0 [some v0, some v1, some v2] [] h := ent_row (mcode_row grw325 rfl) gm325 _ h
theorem lb326_0 {E : mE} (ls : mL) (st : List Value) (h : mH) : mV E gP (326, 0, ls, st, h) = mX E gP (mV E gP) 326 b326_0 ls st h := lab_row (mcode_row grw326 rfl) ls st h
theorem lb326_23 {E : mE} (ls : mL) (st : List Value) (h : mH) : mV E gP (326, 23, ls, st, h) = mX E gP (mV E gP) 326 b326_23 ls st h := lab_row (mcode_row grw326 rfl) ls st h
theorem lb326_24 {E : mE} (ls : mL) (st : List Value) (h : mH) : mV E gP (326, 24, ls, st, h) = mX E gP (mV E gP) 326 b326_24 ls st h := lab_row (mcode_row grw326 rfl) ls st h
theorem en326 {E : mE} (v0 v1 v2 : Value) (h : mH) : mRun E gP 326 [v0, v1, v2] h = mX E gP (mV E gP) 326 b326_0 [some v0, some v1, some v2] [] h := ent_row (mcode_row grw326 rfl) gm326 _ h
theorem lb327_0 {E : mE} (ls : mL) (st : List Value) (h : mH) : mV E gP (327, 0, ls, st, h) = mX E gP (mV E gP) 327 b327_0 ls st h := lab_row (mcode_row grw327 rfl) ls st h
theorem lb327_4 {E : mE} (ls : mL) (st : List Value) (h : mH) : mV E gP (327, 4, ls, st, h) = mX E gP (mV E gP) 327 b327_4 ls st h := lab_row (mcode_row grw327 rfl) ls st h
theorem lb327_29 {E : mE} (ls : mL) (st : List Value) (h : mH) : mV E gP (327, 29, ls, st, h) = mX E gP (mV E gP) 327 b327_29 ls st h := lab_row (mcode_row grw327 rfl) ls st h
theorem lb327_30 {E : mE} (ls : mL) (st : List Value) (h : mH) : mV E gP (327, 30, ls, st, h) = mX E gP (mV E gP) 327 b327_30 ls st h := lab_row (mcode_row grw327 rfl) ls st h
theorem lb327_38 {E : mE} (ls : mL) (st : List Value) (h : mH) : mV E gP (327, 38, ls, st, h) = mX E gP (mV E gP) 327 b327_38 ls st h := lab_row (mcode_row grw327 rfl) ls st h
theorem en327 {E : mE} (v0 v1 : Value) (h : mH) : mRun E gP 327 [v0, v1] h = mX E gP (mV E gP) 327 b327_0 [some v0, some v1, none, none] [] h := ent_row (mcode_row grw327 rfl) gm327 _ h
theorem lb328_0 {E : mE} (ls : mL) (st : List Value) (h : mH) : mV E gP (328, 0, ls, st, h) = mX E gP (mV E gP) 328 b328_0 ls st h := lab_row (mcode_row grw328 rfl) ls st h
theorem lb328_21 {E : mE} (ls : mL) (st : List Value) (h : mH) : mV E gP (328, 21, ls, st, h) = mX E gP (mV E gP) 328 b328_21 ls st h := lab_row (mcode_row grw328 rfl) ls st h
theorem en328 {E : mE} (v0 v1 v2 v3 : Value) (h : mH) : mRun E gP 328 [v0, v1, v2, v3] h = mX E gP (mV E gP) 328 b328_0 [some v0, some v1, some v2, some v3, none] [] h := ent_row (mcode_row grw328 rfl) gm328 _ h
theorem lb329_0 {E : mE} (ls : mL) (st : List Value) (h : mH) : mV E gP (329, 0, ls, st, h) = mX E gP (mV E gP) 329 b329_0 ls st h := lab_row (mcode_row grw329 rfl) ls st h
theorem lb329_8 {E : mE} (ls : mL) (st : List Value) (h : mH) : mV E gP (329, 8, ls, st, h) = mX E gP (mV E gP) 329 b329_8 ls st h := lab_row (mcode_row grw329 rfl) ls st h
theorem lb329_19 {E : mE} (ls : mL) (st : List Value) (h : mH) : mV E gP (329, 19, ls, st, h) = mX E gP (mV E gP) 329 b329_19 ls st h := lab_row (mcode_row grw329 rfl) ls st h
theorem lb329_39 {E : mE} (ls : mL) (st : List Value) (h : mH) : mV E gP (329, 39, ls, st, h) = mX E gP (mV E gP) 329 b329_39 ls st h := lab_row (mcode_row grw329 rfl) ls st h
theorem lb329_57 {E : mE} (ls : mL) (st : List Value) (h : mH) : mV E gP (329, 57, ls, st, h) = mX E gP (mV E gP) 329 b329_57 ls st h := lab_row (mcode_row grw329 rfl) ls st h
theorem lb329_58 {E : mE} (ls : mL) (st : List Value) (h : mH) : mV E gP (329, 58, ls, st, h) = mX E gP (mV E gP) 329 b329_58 ls st h := lab_row (mcode_row grw329 rfl) ls st h
theorem en329 {E : mE} (v0 v1 v2 v3 : Value) (h : mH) : mRun E gP 329 [v0, v1, v2, v3] h = mX E gP (mV E gP) 329 b329_0 [some v0, some v1, some v2, some v3] [] h := ent_row (mcode_row grw329 rfl) gm329 _ h
theorem lb330_0 {E : mE} (ls : mL) (st : List Value) (h : mH) : mV E gP (330, 0, ls, st, h) = mX E gP (mV E gP) 330 b330_0 ls st h := lab_row (mcode_row grw330 rfl) ls st h
theorem lb330_15 {E : mE} (ls : mL) (st : List Value) (h : mH) : mV E gP (330, 15, ls, st, h) = mX E gP (mV E gP) 330 b330_15 ls st h := lab_row (mcode_row grw330 rfl) ls st h
theorem lb330_55 {E : mE} (ls : mL) (st : List Value) (h : mH) : mV E gP (330, 55, ls, st, h) = mX E gP (mV E gP) 330 b330_55 ls st h := lab_row (mcode_row grw330 rfl) ls st h
theorem en330 {E : mE} (v0 v1 v2 : Value) (h : mH) : mRun E gP 330 [v0, v1, v2] h = mX E gP (mV E gP) 330 b330_0 [some v0, some v1, some v2] [] h := ent_row (mcode_row grw330 rfl) gm330 _ h
theorem lb331_0 {E : mE} (ls : mL) (st : List Value) (h : mH) : mV E gP (331, 0, ls, st, h) = mX E gP (mV E gP) 331 b331_0 ls st h := lab_row (mcode_row grw331 rfl) ls st h
theorem en331 {E : mE} (v0 : Value) (h : mH) : mRun E gP 331 [v0] h = mX E gP (mV E gP) 331 b331_0 [some v0] [] h := ent_row (mcode_row grw331 rfl) gm331 _ h
theorem lb332_0 {E : mE} (ls : mL) (st : List Value) (h : mH) : mV E gP (332, 0, ls, st, h) = mX E gP (mV E gP) 332 b332_0 ls st h := lab_row (mcode_row grw332 rfl) ls st h
theorem en332 {E : mE} (v0 : Value) (h : mH) : mRun E gP 332 [v0] h = mX E gP (mV E gP) 332 b332_0 [some v0] [] h := ent_row (mcode_row grw332 rfl) gm332 _ h
theorem lb333_0 {E : mE} (ls : mL) (st : List Value) (h : mH) : mV E gP (333, 0, ls, st, h) = mX E gP (mV E gP) 333 b333_0 ls st h := lab_row (mcode_row grw333 rfl) ls st h
theorem lb333_84 {E : mE} (ls : mL) (st : List Value) (h : mH) : mV E gP (333, 84, ls, st, h) = mX E gP (mV E gP) 333 b333_84 ls st h := lab_row (mcode_row grw333 rfl) ls st h
theorem lb333_91 {E : mE} (ls : mL) (st : List Value) (h : mH) : mV E gP (333, 91, ls, st, h) = mX E gP (mV E gP) 333 b333_91 ls st h := lab_row (mcode_row grw333 rfl) ls st h
theorem lb333_96 {E : mE} (ls : mL) (st : List Value) (h : mH) : mV E gP (333, 96, ls, st, h) = mX E gP (mV E gP) 333 b333_96 ls st h := lab_row (mcode_row grw333 rfl) ls st h
theorem lb333_101 {E : mE} (ls : mL) (st : List Value) (h : mH) : mV E gP (333, 101, ls, st, h) = mX E gP (mV E gP) 333 b333_101 ls st h := lab_row (mcode_row grw333 rfl) ls st h
theorem lb333_110 {E : mE} (ls : mL) (st : List Value) (h : mH) : mV E gP (333, 110, ls, st, h) = mX E gP (mV E gP) 333 b333_110 ls st h := lab_row (mcode_row grw333 rfl) ls st h
theorem lb333_117 {E : mE} (ls : mL) (st : List Value) (h : mH) : mV E gP (333, 117, ls, st, h) = mX E gP (mV E gP) 333 b333_117 ls st h := lab_row (mcode_row grw333 rfl) ls st h
theorem lb333_125 {E : mE} (ls : mL) (st : List Value) (h : mH) : mV E gP (333, 125, ls, st, h) = mX E gP (mV E gP) 333 b333_125 ls st h := lab_row (mcode_row grw333 rfl) ls st h
theorem lb333_134 {E : mE} (ls : mL) (st : List Value) (h : mH) : mV E gP (333, 134, ls, st, h) = mX E gP (mV E gP) 333 b333_134 ls st h := lab_row (mcode_row grw333 rfl) ls st h
theorem lb333_139 {E : mE} (ls : mL) (st : List Value) (h : mH) : mV E gP (333, 139, ls, st, h) = mX E gP (mV E gP) 333 b333_139 ls st h := lab_row (mcode_row grw333 rfl) ls st h
theorem lb333_144 {E : mE} (ls : mL) (st : List Value) (h : mH) : mV E gP (333, 144, ls, st, h) = mX E gP (mV E gP) 333 b333_144 ls st h := lab_row (mcode_row grw333 rfl) ls st h
theorem en333 {E : mE} (v0 v1 : Value) (h : mH) : mRun E gP 333 [v0, v1] h = mX E gP (mV E gP) 333 b333_0 [some v0, some v1] [] h := ent_row (mcode_row grw333 rfl) gm333 _ h
theorem lb334_0 {E : mE} (ls : mL) (st : List Value) (h : mH) : mV E gP (334, 0, ls, st, h) = mX E gP (mV E gP) 334 b334_0 ls st h := lab_row (mcode_row grw334 rfl) ls st h
theorem lb334_4 {E : mE} (ls : mL) (st : List Value) (h : mH) : mV E gP (334, 4, ls, st, h) = mX E gP (mV E gP) 334 b334_4 ls st h := lab_row (mcode_row grw334 rfl) ls st h
theorem lb334_30 {E : mE} (ls : mL) (st : List Value) (h : mH) : mV E gP (334, 30, ls, st, h) = mX E gP (mV E gP) 334 b334_30 ls st h := lab_row (mcode_row grw334 rfl) ls st h
theorem en334 {E : mE} (v0 : Value) (h : mH) : mRun E gP 334 [v0] h = mX E gP (mV E gP) 334 b334_0 [some v0, none, none] [] h := ent_row (mcode_row grw334 rfl) gm334 _ h
theorem lb335_0 {E : mE} (ls : mL) (st : List Value) (h : mH) : mV E gP (335, 0, ls, st, h) = mX E gP (mV E gP) 335 b335_0 ls st h := lab_row (mcode_row grw335 rfl) ls st h
theorem lb335_4 {E : mE} (ls : mL) (st : List Value) (h : mH) : mV E gP (335, 4, ls, st, h) = mX E gP (mV E gP) 335 b335_4 ls st h := lab_row (mcode_row grw335 rfl) ls st h
theorem lb335_30 {E : mE} (ls : mL) (st : List Value) (h : mH) : mV E gP (335, 30, ls, st, h) = mX E gP (mV E gP) 335 b335_30 ls st h := lab_row (mcode_row grw335 rfl) ls st h
theorem lb335_31 {E : mE} (ls : mL) (st : List Value) (h : mH) : mV E gP (335, 31, ls, st, h) = mX E gP (mV E gP) 335 b335_31 ls st h := lab_row (mcode_row grw335 rfl) ls st h
theorem lb335_39 {E : mE} (ls : mL) (st : List Value) (h : mH) : mV E gP (335, 39, ls, st, h) = mX E gP (mV E gP) 335 b335_39 ls st h := lab_row (mcode_row grw335 rfl) ls st h
theorem en335 {E : mE} (v0 v1 : Value) (h : mH) : mRun E gP 335 [v0, v1] h = mX E gP (mV E gP) 335 b335_0 [some v0, some v1, none, none] [] h := ent_row (mcode_row grw335 rfl) gm335 _ h
theorem lb336_0 {E : mE} (ls : mL) (st : List Value) (h : mH) : mV E gP (336, 0, ls, st, h) = mX E gP (mV E gP) 336 b336_0 ls st h := lab_row (mcode_row grw336 rfl) ls st h
theorem lb336_8 {E : mE} (ls : mL) (st : List Value) (h : mH) : mV E gP (336, 8, ls, st, h) = mX E gP (mV E gP) 336 b336_8 ls st h := lab_row (mcode_row grw336 rfl) ls st h
theorem lb336_30 {E : mE} (ls : mL) (st : List Value) (h : mH) : mV E gP (336, 30, ls, st, h) = mX E gP (mV E gP) 336 b336_30 ls st h := lab_row (mcode_row grw336 rfl) ls st h
theorem lb336_31 {E : mE} (ls : mL) (st : List Value) (h : mH) : mV E gP (336, 31, ls, st, h) = mX E gP (mV E gP) 336 b336_31 ls st h := lab_row (mcode_row grw336 rfl) ls st h
theorem lb336_39 {E : mE} (ls : mL) (st : List Value) (h : mH) : mV E gP (336, 39, ls, st, h) = mX E gP (mV E gP) 336 b336_39 ls st h := lab_row (mcode_row grw336 rfl) ls st h
theorem en336 {E : mE} (v0 : Value) (h : mH) : mRun E gP 336 [v0] h = mX E gP (mV E gP) 336 b336_0 [some v0, none, none] [] h := ent_row (mcode_row grw336 rfl) gm336 _ h
theorem lb337_0 {E : mE} (ls : mL) (st : List Value) (h : mH) : mV E gP (337, 0, ls, st, h) = mX E gP (mV E gP) 337 b337_0 ls st h := lab_row (mcode_row grw337 rfl) ls st h
theorem lb337_27 {E : mE} (ls : mL) (st : List Value) (h : mH) : mV E gP (337, 27, ls, st, h) = mX E gP (mV E gP) 337 b337_27 ls st h := lab_row (mcode_row grw337 rfl) ls st h
theorem lb337_32 {E : mE} (ls : mL) (st : List Value) (h : mH) : mV E gP (337, 32, ls, st, h) = mX E gP (mV E gP) 337 b337_32 ls st h := lab_row (mcode_row grw337 rfl) ls st h
theorem en337 {E : mE} (v0 v1 : Value) (h : mH) : mRun E gP 337 [v0, v1] h = mX E gP (mV E gP) 337 b337_0 [some v0, some v1] [] h := ent_row (mcode_row grw337 rfl) gm337 _ h
theorem lb338_0 {E : mE} (ls : mL) (st : List Value) (h : mH) : mV E gP (338, 0, ls, st, h) = mX E gP (mV E gP) 338 b338_0 ls st h := lab_row (mcode_row grw338 rfl) ls st h
theorem lb338_19 {E : mE} (ls : mL) (st : List Value) (h : mH) : mV E gP (338, 19, ls, st, h) = mX E gP (mV E gP) 338 b338_19 ls st h := lab_row (mcode_row grw338 rfl) ls st h
theorem lb338_60 {E : mE} (ls : mL) (st : List Value) (h : mH) : mV E gP (338, 60, ls, st, h) = mX E gP (mV E gP) 338 b338_60 ls st h := lab_row (mcode_row grw338 rfl) ls st h
theorem lb338_70 {E : mE} (ls : mL) (st : List Value) (h : mH) : mV E gP (338, 70, ls, st, h) = mX E gP (mV E gP) 338 b338_70 ls st h := lab_row (mcode_row grw338 rfl) ls st h
theorem lb338_76 {E : mE} (ls : mL) (st : List Value) (h : mH) : mV E gP (338, 76, ls, st, h) = mX E gP (mV E gP) 338 b338_76 ls st h := lab_row (mcode_row grw338 rfl) ls st h
theorem lb338_82 {E : mE} (ls : mL) (st : List Value) (h : mH) : mV E gP (338, 82, ls, st, h) = mX E gP (mV E gP) 338 b338_82 ls st h := lab_row (mcode_row grw338 rfl) ls st h
theorem lb338_88 {E : mE} (ls : mL) (st : List Value) (h : mH) : mV E gP (338, 88, ls, st, h) = mX E gP (mV E gP) 338 b338_88 ls st h := lab_row (mcode_row grw338 rfl) ls st h
theorem lb338_94 {E : mE} (ls : mL) (st : List Value) (h : mH) : mV E gP (338, 94, ls, st, h) = mX E gP (mV E gP) 338 b338_94 ls st h := lab_row (mcode_row grw338 rfl) ls st h
theorem lb338_100 {E : mE} (ls : mL) (st : List Value) (h : mH) : mV E gP (338, 100, ls, st, h) = mX E gP (mV E gP) 338 b338_100 ls st h := lab_row (mcode_row grw338 rfl) ls st h
theorem en338 {E : mE} (v0 v1 v2 : Value) (h : mH) : mRun E gP 338 [v0, v1, v2] h = mX E gP (mV E gP) 338 b338_0 [some v0, some v1, some v2] [] h := ent_row (mcode_row grw338 rfl) gm338 _ h
theorem lb339_0 {E : mE} (ls : mL) (st : List Value) (h : mH) : mV E gP (339, 0, ls, st, h) = mX E gP (mV E gP) 339 b339_0 ls st h := lab_row (mcode_row grw339 rfl) ls st h
theorem en339 {E : mE} (v0 v1 : Value) (h : mH) : mRun E gP 339 [v0, v1] h = mX E gP (mV E gP) 339 b339_0 [some v0, some v1] [] h := ent_row (mcode_row grw339 rfl) gm339 _ h
theorem lb340_0 {E : mE} (ls : mL) (st : List Value) (h : mH) : mV E gP (340, 0, ls, st, h) = mX E gP (mV E gP) 340 b340_0 ls st h := lab_row (mcode_row grw340 rfl) ls st h
theorem lb340_4 {E : mE} (ls : mL) (st : List Value) (h : mH) : mV E gP (340, 4, ls, st, h) = mX E gP (mV E gP) 340 b340_4 ls st h := lab_row (mcode_row grw340 rfl) ls st h
theorem lb340_28 {E : mE} (ls : mL) (st : List Value) (h : mH) : mV E gP (340, 28, ls, st, h) = mX E gP (mV E gP) 340 b340_28 ls st h := lab_row (mcode_row grw340 rfl) ls st h
theorem lb340_29 {E : mE} (ls : mL) (st : List Value) (h : mH) : mV E gP (340, 29, ls, st, h) = mX E gP (mV E gP) 340 b340_29 ls st h := lab_row (mcode_row grw340 rfl) ls st h
theorem lb340_37 {E : mE} (ls : mL) (st : List Value) (h : mH) : mV E gP (340, 37, ls, st, h) = mX E gP (mV E gP) 340 b340_37 ls st h := lab_row (mcode_row grw340 rfl) ls st h
theorem en340 {E : mE} (v0 v1 : Value) (h : mH) : mRun E gP 340 [v0, v1] h = mX E gP (mV E gP) 340 b340_0 [some v0, some v1, none, none] [] h := ent_row (mcode_row grw340 rfl) gm340 _ h
theorem lb341_0 {E : mE} (ls : mL) (st : List Value) (h : mH) : mV E gP (341, 0, ls, st, h) = mX E gP (mV E gP) 341 b341_0 ls st h := lab_row (mcode_row grw341 rfl) ls st h
theorem lb341_4 {E : mE} (ls : mL) (st : List Value) (h : mH) : mV E gP (341, 4, ls, st, h) = mX E gP (mV E gP) 341 b341_4 ls st h := lab_row (mcode_row grw341 rfl) ls st h
theorem lb341_29 {E : mE} (ls : mL) (st : List Value) (h : mH) : mV E gP (341, 29, ls, st, h) = mX E gP (mV E gP) 341 b341_29 ls st h := lab_row (mcode_row grw341 rfl) ls st h
theorem lb341_30 {E : mE} (ls : mL) (st : List Value) (h : mH) : mV E gP (341, 30, ls, st, h) = mX E gP (mV E gP) 341 b341_30 ls st h := lab_row (mcode_row grw341 rfl) ls st h
theorem lb341_38 {E : mE} (ls : mL) (st : List Value) (h : mH) : mV E gP (341, 38, ls, st, h) = mX E gP (mV E gP) 341 b341_38 ls st h := lab_row (mcode_row grw341 rfl) ls st h
theorem en341 {E : mE} (v0 v1 : Value) (h : mH) : mRun E gP 341 [v0, v1] h = mX E gP (mV E gP) 341 b341_0 [some v0, some v1, none, none] [] h := ent_row (mcode_row grw341 rfl) gm341 _ h
theorem lb342_0 {E : mE} (ls : mL) (st : List Value) (h : mH) : mV E gP (342, 0, ls, st, h) = mX E gP (mV E gP) 342 b342_0 ls st h := lab_row (mcode_row grw342 rfl) ls st h
theorem lb342_4 {E : mE} (ls : mL) (st : List Value) (h : mH) : mV E gP (342, 4, ls, st, h) = mX E gP (mV E gP) 342 b342_4 ls st h := lab_row (mcode_row grw342 rfl) ls st h
theorem lb342_29 {E : mE} (ls : mL) (st : List Value) (h : mH) : mV E gP (342, 29, ls, st, h) = mX E gP (mV E gP) 342 b342_29 ls st h := lab_row (mcode_row grw342 rfl) ls st h
theorem lb342_30 {E : mE} (ls : mL) (st : List Value) (h : mH) : mV E gP (342, 30, ls, st, h) = mX E gP (mV E gP) 342 b342_30 ls st h := lab_row (mcode_row grw342 rfl) ls st h
theorem lb342_38 {E : mE} (ls : mL) (st : List Value) (h : mH) : mV E gP (342, 38, ls, st, h) = mX E gP (mV E gP) 342 b342_38 ls st h := lab_row (mcode_row grw342 rfl) ls st h
theorem en342 {E : mE} (v0 v1 : Value) (h : mH) : mRun E gP 342 [v0, v1] h = mX E gP (mV E gP) 342 b342_0 [some v0, some v1, none, none] [] h := ent_row (mcode_row grw342 rfl) gm342 _ h
theorem lb343_0 {E : mE} (ls : mL) (st : List Value) (h : mH) : mV E gP (343, 0, ls, st, h) = mX E gP (mV E gP) 343 b343_0 ls st h := lab_row (mcode_row grw343 rfl) ls st h
theorem lb343_4 {E : mE} (ls : mL) (st : List Value) (h : mH) : mV E gP (343, 4, ls, st, h) = mX E gP (mV E gP) 343 b343_4 ls st h := lab_row (mcode_row grw343 rfl) ls st h
theorem lb343_40 {E : mE} (ls : mL) (st : List Value) (h : mH) : mV E gP (343, 40, ls, st, h) = mX E gP (mV E gP) 343 b343_40 ls st h := lab_row (mcode_row grw343 rfl) ls st h
theorem lb343_41 {E : mE} (ls : mL) (st : List Value) (h : mH) : mV E gP (343, 41, ls, st, h) = mX E gP (mV E gP) 343 b343_41 ls st h := lab_row (mcode_row grw343 rfl) ls st h
theorem lb343_49 {E : mE} (ls : mL) (st : List Value) (h : mH) : mV E gP (343, 49, ls, st, h) = mX E gP (mV E gP) 343 b343_49 ls st h := lab_row (mcode_row grw343 rfl) ls st h
theorem en343 {E : mE} (v0 v1 : Value) (h : mH) : mRun E gP 343 [v0, v1] h = mX E gP (mV E gP) 343 b343_0 [some v0, some v1, none, none] [] h := ent_row (mcode_row grw343 rfl) gm343 _ h
theorem lb344_0 {E : mE} (ls : mL) (st : List Value) (h : mH) : mV E gP (344, 0, ls, st, h) = mX E gP (mV E gP) 344 b344_0 ls st h := lab_row (mcode_row grw344 rfl) ls st h
theorem lb344_27 {E : mE} (ls : mL) (st : List Value) (h : mH) : mV E gP (344, 27, ls, st, h) = mX E gP (mV E gP) 344 b344_27 ls st h := lab_row (mcode_row grw344 rfl) ls st h
theorem lb344_45 {E : mE} (ls : mL) (st : List Value) (h : mH) : mV E gP (344, 45, ls, st, h) = mX E gP (mV E gP) 344 b344_45 ls st h := lab_row (mcode_row grw344 rfl) ls st h
theorem lb344_50 {E : mE} (ls : mL) (st : List Value) (h : mH) : mV E gP (344, 50, ls, st, h) = mX E gP (mV E gP) 344 b344_50 ls st h := lab_row (mcode_row grw344 rfl) ls st h
theorem en344 {E : mE} (v0 v1 v2 : Value) (h : mH) : mRun E gP 344 [v0, v1, v2] h = mX E gP (mV E gP) 344 b344_0 [some v0, some v1, some v2] [] h := ent_row (mcode_row grw344 rfl) gm344 _ h
theorem lb345_0 {E : mE} (ls : mL) (st : List Value) (h : mH) : mV E gP (345, 0, ls, st, h) = mX E gP (mV E gP) 345 b345_0 ls st h := lab_row (mcode_row grw345 rfl) ls st h
theorem lb345_19 {E : mE} (ls : mL) (st : List Value) (h : mH) : mV E gP (345, 19, ls, st, h) = mX E gP (mV E gP) 345 b345_19 ls st h := lab_row (mcode_row grw345 rfl) ls st h
theorem lb345_64 {E : mE} (ls : mL) (st : List Value) (h : mH) : mV E gP (345, 64, ls, st, h) = mX E gP (mV E gP) 345 b345_64 ls st h := lab_row (mcode_row grw345 rfl) ls st h
theorem lb345_71 {E : mE} (ls : mL) (st : List Value) (h : mH) : mV E gP (345, 71, ls, st, h) = mX E gP (mV E gP) 345 b345_71 ls st h := lab_row (mcode_row grw345 rfl) ls st h
theorem lb345_77 {E : mE} (ls : mL) (st : List Value) (h : mH) : mV E gP (345, 77, ls, st, h) = mX E gP (mV E gP) 345 b345_77 ls st h := lab_row (mcode_row grw345 rfl) ls st h
theorem lb345_83 {E : mE} (ls : mL) (st : List Value) (h : mH) : mV E gP (345, 83, ls, st, h) = mX E gP (mV E gP) 345 b345_83 ls st h := lab_row (mcode_row grw345 rfl) ls st h
theorem lb345_96 {E : mE} (ls : mL) (st : List Value) (h : mH) : mV E gP (345, 96, ls, st, h) = mX E gP (mV E gP) 345 b345_96 ls st h := lab_row (mcode_row grw345 rfl) ls st h
theorem en345 {E : mE} (v0 v1 v2 : Value) (h : mH) : mRun E gP 345 [v0, v1, v2] h = mX E gP (mV E gP) 345 b345_0 [some v0, some v1, some v2] [] h := ent_row (mcode_row grw345 rfl) gm345 _ h
theorem lb346_0 {E : mE} (ls : mL) (st : List Value) (h : mH) : mV E gP (346, 0, ls, st, h) = mX E gP (mV E gP) 346 b346_0 ls st h := lab_row (mcode_row grw346 rfl) ls st h
theorem en346 {E : mE} (v0 v1 : Value) (h : mH) : mRun E gP 346 [v0, v1] h = mX E gP (mV E gP) 346 b346_0 [some v0, some v1] [] h := ent_row (mcode_row grw346 rfl) gm346 _ h
theorem lb347_0 {E : mE} (ls : mL) (st : List Value) (h : mH) : mV E gP (347, 0, ls, st, h) = mX E gP (mV E gP) 347 b347_0 ls st h := lab_row (mcode_row grw347 rfl) ls st h
theorem lb347_4 {E : mE} (ls : mL) (st : List Value) (h : mH) : mV E gP (347, 4, ls, st, h) = mX E gP (mV E gP) 347 b347_4 ls st h := lab_row (mcode_row grw347 rfl) ls st h
theorem lb347_26 {E : mE} (ls : mL) (st : List Value) (h : mH) : mV E gP (347, 26, ls, st, h) = mX E gP (mV E gP) 347 b347_26 ls st h := lab_row (mcode_row grw347 rfl) ls st h
theorem lb347_27 {E : mE} (ls : mL) (st : List Value) (h : mH) : mV E gP (347, 27, ls, st, h) = mX E gP (mV E gP) 347 b347_27 ls st h := lab_row (mcode_row grw347 rfl) ls st h
theorem lb347_35 {E : mE} (ls : mL) (st : List Value) (h : mH) : mV E gP (347, 35, ls, st, h) = mX E gP (mV E gP) 347 b347_35 ls st h := lab_row (mcode_row grw347 rfl) ls st h
theorem en347 {E : mE} (v0 v1 : Value) (h : mH) : mRun E gP 347 [v0, v1] h = mX E gP (mV E gP) 347 b347_0 [some v0, some v1, none, none] [] h := ent_row (mcode_row grw347 rfl) gm347 _ h
theorem lb348_0 {E : mE} (ls : mL) (st : List Value) (h : mH) : mV E gP (348, 0, ls, st, h) = mX E gP (mV E gP) 348 b348_0 ls st h := lab_row (mcode_row grw348 rfl) ls st h
theorem lb348_4 {E : mE} (ls : mL) (st : List Value) (h : mH) : mV E gP (348, 4, ls, st, h) = mX E gP (mV E gP) 348 b348_4 ls st h := lab_row (mcode_row grw348 rfl) ls st h
theorem lb348_33 {E : mE} (ls : mL) (st : List Value) (h : mH) : mV E gP (348, 33, ls, st, h) = mX E gP (mV E gP) 348 b348_33 ls st h := lab_row (mcode_row grw348 rfl) ls st h
theorem lb348_34 {E : mE} (ls : mL) (st : List Value) (h : mH) : mV E gP (348, 34, ls, st, h) = mX E gP (mV E gP) 348 b348_34 ls st h := lab_row (mcode_row grw348 rfl) ls st h
theorem lb348_42 {E : mE} (ls : mL) (st : List Value) (h : mH) : mV E gP (348, 42, ls, st, h) = mX E gP (mV E gP) 348 b348_42 ls st h := lab_row (mcode_row grw348 rfl) ls st h
theorem en348 {E : mE} (v0 v1 : Value) (h : mH) : mRun E gP 348 [v0, v1] h = mX E gP (mV E gP) 348 b348_0 [some v0, some v1, none, none] [] h := ent_row (mcode_row grw348 rfl) gm348 _ h
theorem lb349_0 {E : mE} (ls : mL) (st : List Value) (h : mH) : mV E gP (349, 0, ls, st, h) = mX E gP (mV E gP) 349 b349_0 ls st h := lab_row (mcode_row grw349 rfl) ls st h
theorem lb349_19 {E : mE} (ls : mL) (st : List Value) (h : mH) : mV E gP (349, 19, ls, st, h) = mX E gP (mV E gP) 349 b349_19 ls st h := lab_row (mcode_row grw349 rfl) ls st h
theorem lb349_68 {E : mE} (ls : mL) (st : List Value) (h : mH) : mV E gP (349, 68, ls, st, h) = mX E gP (mV E gP) 349 b349_68 ls st h := lab_row (mcode_row grw349 rfl) ls st h
theorem lb349_75 {E : mE} (ls : mL) (st : List Value) (h : mH) : mV E gP (349, 75, ls, st, h) = mX E gP (mV E gP) 349 b349_75 ls st h := lab_row (mcode_row grw349 rfl) ls st h
theorem lb349_81 {E : mE} (ls : mL) (st : List Value) (h : mH) : mV E gP (349, 81, ls, st, h) = mX E gP (mV E gP) 349 b349_81 ls st h := lab_row (mcode_row grw349 rfl) ls st h
theorem lb349_88 {E : mE} (ls : mL) (st : List Value) (h : mH) : mV E gP (349, 88, ls, st, h) = mX E gP (mV E gP) 349 b349_88 ls st h := lab_row (mcode_row grw349 rfl) ls st h
theorem lb349_105 {E : mE} (ls : mL) (st : List Value) (h : mH) : mV E gP (349, 105, ls, st, h) = mX E gP (mV E gP) 349 b349_105 ls st h := lab_row (mcode_row grw349 rfl) ls st h
theorem lb349_106 {E : mE} (ls : mL) (st : List Value) (h : mH) : mV E gP (349, 106, ls, st, h) = mX E gP (mV E gP) 349 b349_106 ls st h := lab_row (mcode_row grw349 rfl) ls st h
theorem lb349_107 {E : mE} (ls : mL) (st : List Value) (h : mH) : mV E gP (349, 107, ls, st, h) = mX E gP (mV E gP) 349 b349_107 ls st h := lab_row (mcode_row grw349 rfl) ls st h
theorem lb349_116 {E : mE} (ls : mL) (st : List Value) (h : mH) : mV E gP (349, 116, ls, st, h) = mX E gP (mV E gP) 349 b349_116 ls st h := lab_row (mcode_row grw349 rfl) ls st h
theorem en349 {E : mE} (v0 v1 v2 : Value) (h : mH) : mRun E gP 349 [v0, v1, v2] h = mX E gP (mV E gP) 349 b349_0 [some v0, some v1, some v2] [] h := ent_row (mcode_row grw349 rfl) gm349 _ h
theorem lb350_0 {E : mE} (ls : mL) (st : List Value) (h : mH) : mV E gP (350, 0, ls, st, h) = mX E gP (mV E gP) 350 b350_0 ls st h := lab_row (mcode_row grw350 rfl) ls st h
theorem lb350_19 {E : mE} (ls : mL) (st : List Value) (h : mH) : mV E gP (350, 19, ls, st, h) = mX E gP (mV E gP) 350 b350_19 ls st h := lab_row (mcode_row grw350 rfl) ls st h
theorem lb350_60 {E : mE} (ls : mL) (st : List Value) (h : mH) : mV E gP (350, 60, ls, st, h) = mX E gP (mV E gP) 350 b350_60 ls st h := lab_row (mcode_row grw350 rfl) ls st h
theorem lb350_67 {E : mE} (ls : mL) (st : List Value) (h : mH) : mV E gP (350, 67, ls, st, h) = mX E gP (mV E gP) 350 b350_67 ls st h := lab_row (mcode_row grw350 rfl) ls st h
theorem lb350_73 {E : mE} (ls : mL) (st : List Value) (h : mH) : mV E gP (350, 73, ls, st, h) = mX E gP (mV E gP) 350 b350_73 ls st h := lab_row (mcode_row grw350 rfl) ls st h
theorem lb350_80 {E : mE} (ls : mL) (st : List Value) (h : mH) : mV E gP (350, 80, ls, st, h) = mX E gP (mV E gP) 350 b350_80 ls st h := lab_row (mcode_row grw350 rfl) ls st h
theorem lb350_87 {E : mE} (ls : mL) (st : List Value) (h : mH) : mV E gP (350, 87, ls, st, h) = mX E gP (mV E gP) 350 b350_87 ls st h := lab_row (mcode_row grw350 rfl) ls st h
theorem en350 {E : mE} (v0 v1 v2 : Value) (h : mH) : mRun E gP 350 [v0, v1, v2] h = mX E gP (mV E gP) 350 b350_0 [some v0, some v1, some v2] [] h := ent_row (mcode_row grw350 rfl) gm350 _ h
theorem lb351_0 {E : mE} (ls : mL) (st : List Value) (h : mH) : mV E gP (351, 0, ls, st, h) = mX E gP (mV E gP) 351 b351_0 ls st h := lab_row (mcode_row grw351 rfl) ls st h
theorem lb351_32 {E : mE} (ls : mL) (st : List Value) (h : mH) : mV E gP (351, 32, ls, st, h) = mX E gP (mV E gP) 351 b351_32 ls st h := lab_row (mcode_row grw351 rfl) ls st h
theorem lb351_39 {E : mE} (ls : mL) (st : List Value) (h : mH) : mV E gP (351, 39, ls, st, h) = mX E gP (mV E gP) 351 b351_39 ls st h := lab_row (mcode_row grw351 rfl) ls st h
theorem lb351_51 {E : mE} (ls : mL) (st : List Value) (h : mH) : mV E gP (351, 51, ls, st, h) = mX E gP (mV E gP) 351 b351_51 ls st h := lab_row (mcode_row grw351 rfl) ls st h
theorem en351 {E : mE} (v0 v1 : Value) (h : mH) : mRun E gP 351 [v0, v1] h = mX E gP (mV E gP) 351 b351_0 [some v0, some v1] [] h := ent_row (mcode_row grw351 rfl) gm351 _ h
theorem lb352_0 {E : mE} (ls : mL) (st : List Value) (h : mH) : mV E gP (352, 0, ls, st, h) = mX E gP (mV E gP) 352 b352_0 ls st h := lab_row (mcode_row grw352 rfl) ls st h
theorem lb352_19 {E : mE} (ls : mL) (st : List Value) (h : mH) : mV E gP (352, 19, ls, st, h) = mX E gP (mV E gP) 352 b352_19 ls st h := lab_row (mcode_row grw352 rfl) ls st h
theorem lb352_42 {E : mE} (ls : mL) (st : List Value) (h : mH) : mV E gP (352, 42, ls, st, h) = mX E gP (mV E gP) 352 b352_42 ls st h := lab_row (mcode_row grw352 rfl) ls st h
theorem lb352_43 {E : mE} (ls : mL) (st : List Value) (h : mH) : mV E gP (352, 43, ls, st, h) = mX E gP (mV E gP) 352 b352_43 ls st h := lab_row (mcode_row grw352 rfl) ls st h
theorem en352 {E : mE} (v0 v1 v2 : Value) (h : mH) : mRun E gP 352 [v0, v1, v2] h = mX E gP (mV E gP) 352 b352_0 [some v0, some v1, some v2] [] h := ent_row (mcode_row grw352 rfl) gm352 _ h
theorem lb353_0 {E : mE} (ls : mL) (st : List Value) (h : mH) : mV E gP (353, 0, ls, st, h) = mX E gP (mV E gP) 353 b353_0 ls st h := lab_row (mcode_row grw353 rfl) ls st h
theorem lb353_19 {E : mE} (ls : mL) (st : List Value) (h : mH) : mV E gP (353, 19, ls, st, h) = mX E gP (mV E gP) 353 b353_19 ls st h := lab_row (mcode_row grw353 rfl) ls st h
theorem lb353_34 {E : mE} (ls : mL) (st : List Value) (h : mH) : mV E gP (353, 34, ls, st, h) = mX E gP (mV E gP) 353 b353_34 ls st h := lab_row (mcode_row grw353 rfl) ls st h
theorem lb353_48 {E : mE} (ls : mL) (st : List Value) (h : mH) : mV E gP (353, 48, ls, st, h) = mX E gP (mV E gP) 353 b353_48 ls st h := lab_row (mcode_row grw353 rfl) ls st h
theorem lb353_62 {E : mE} (ls : mL) (st : List Value) (h : mH) : mV E gP (353, 62, ls, st, h) = mX E gP (mV E gP) 353 b353_62 ls st h := lab_row (mcode_row grw353 rfl) ls st h
theorem lb353_68 {E : mE} (ls : mL) (st : List Value) (h : mH) : mV E gP (353, 68, ls, st, h) = mX E gP (mV E gP) 353 b353_68 ls st h := lab_row (mcode_row grw353 rfl) ls st h
theorem en353 {E : mE} (v0 v1 v2 : Value) (h : mH) : mRun E gP 353 [v0, v1, v2] h = mX E gP (mV E gP) 353 b353_0 [some v0, some v1, some v2, none] [] h := ent_row (mcode_row grw353 rfl) gm353 _ h
theorem lb354_0 {E : mE} (ls : mL) (st : List Value) (h : mH) : mV E gP (354, 0, ls, st, h) = mX E gP (mV E gP) 354 b354_0 ls st h := lab_row (mcode_row grw354 rfl) ls st h
theorem lb354_10 {E : mE} (ls : mL) (st : List Value) (h : mH) : mV E gP (354, 10, ls, st, h) = mX E gP (mV E gP) 354 b354_10 ls st h := lab_row (mcode_row grw354 rfl) ls st h
theorem lb354_22 {E : mE} (ls : mL) (st : List Value) (h : mH) : mV E gP (354, 22, ls, st, h) = mX E gP (mV E gP) 354 b354_22 ls st h := lab_row (mcode_row grw354 rfl) ls st h
theorem lb354_35 {E : mE} (ls : mL) (st : List Value) (h : mH) : mV E gP (354, 35, ls, st, h) = mX E gP (mV E gP) 354 b354_35 ls st h := lab_row (mcode_row grw354 rfl) ls st h
theorem lb354_36 {E : mE} (ls : mL) (st : List Value) (h : mH) : mV E gP (354, 36, ls, st, h) = mX E gP (mV E gP) 354 b354_36 ls st h := lab_row (mcode_row grw354 rfl) ls st h
theorem en354 {E : mE} (v0 v1 : Value) (h : mH) : mRun E gP 354 [v0, v1] h = mX E gP (mV E gP) 354 b354_0 [some v0, some v1] [] h := ent_row (mcode_row grw354 rfl) gm354 _ h
theorem lb355_0 {E : mE} (ls : mL) (st : List Value) (h : mH) : mV E gP (355, 0, ls, st, h) = mX E gP (mV E gP) 355 b355_0 ls st h := lab_row (mcode_row grw355 rfl) ls st h
theorem lb355_2 {E : mE} (ls : mL) (st : List Value) (h : mH) : mV E gP (355, 2, ls, st, h) = mX E gP (mV E gP) 355 b355_2 ls st h := lab_row (mcode_row grw355 rfl) ls st h
theorem lb355_24 {E : mE} (ls : mL) (st : List Value) (h : mH) : mV E gP (355, 24, ls, st, h) = mX E gP (mV E gP) 355 b355_24 ls st h := lab_row (mcode_row grw355 rfl) ls st h
theorem lb355_30 {E : mE} (ls : mL) (st : List Value) (h : mH) : mV E gP (355, 30, ls, st, h) = mX E gP (mV E gP) 355 b355_30 ls st h := lab_row (mcode_row grw355 rfl) ls st h
theorem en355 {E : mE} (v0 v1 : Value) (h : mH) : mRun E gP 355 [v0, v1] h = mX E gP (mV E gP) 355 b355_0 [some v0, some v1, none] [] h := ent_row (mcode_row grw355 rfl) gm355 _ h
theorem lb356_0 {E : mE} (ls : mL) (st : List Value) (h : mH) : mV E gP (356, 0, ls, st, h) = mX E gP (mV E gP) 356 b356_0 ls st h := lab_row (mcode_row grw356 rfl) ls st h
theorem lb356_16 {E : mE} (ls : mL) (st : List Value) (h : mH) : mV E gP (356, 16, ls, st, h) = mX E gP (mV E gP) 356 b356_16 ls st h := lab_row (mcode_row grw356 rfl) ls st h
theorem lb356_33 {E : mE} (ls : mL) (st : List Value) (h : mH) : mV E gP (356, 33, ls, st, h) = mX E gP (mV E gP) 356 b356_33 ls st h := lab_row (mcode_row grw356 rfl) ls st h
theorem lb356_34 {E : mE} (ls : mL) (st : List Value) (h : mH) : mV E gP (356, 34, ls, st, h) = mX E gP (mV E gP) 356 b356_34 ls st h := lab_row (mcode_row grw356 rfl) ls st h
theorem en356 {E : mE} (v0 v1 v2 : Value) (h : mH) : mRun E gP 356 [v0, v1, v2] h = mX E gP (mV E gP) 356 b356_0 [some v0, some v1, some v2] [] h := ent_row (mcode_row grw356 rfl) gm356 _ h
theorem lb357_0 {E : mE} (ls : mL) (st : List Value) (h : mH) : mV E gP (357, 0, ls, st, h) = mX E gP (mV E gP) 357 b357_0 ls st h := lab_row (mcode_row grw357 rfl) ls st h
theorem lb357_2 {E : mE} (ls : mL) (st : List Value) (h : mH) : mV E gP (357, 2, ls, st, h) = mX E gP (mV E gP) 357 b357_2 ls st h := lab_row (mcode_row grw357 rfl) ls st h
theorem lb357_17 {E : mE} (ls : mL) (st : List Value) (h : mH) : mV E gP (357, 17, ls, st, h) = mX E gP (mV E gP) 357 b357_17 ls st h := lab_row (mcode_row grw357 rfl) ls st h
theorem en357 {E : mE} (v0 v1 : Value) (h : mH) : mRun E gP 357 [v0, v1] h = mX E gP (mV E gP) 357 b357_0 [some v0, some v1, none] [] h := ent_row (mcode_row grw357 rfl) gm357 _ h
theorem lb358_0 {E : mE} (ls : mL) (st : List Value) (h : mH) : mV E gP (358, 0, ls, st, h) = mX E gP (mV E gP) 358 b358_0 ls st h := lab_row (mcode_row grw358 rfl) ls st h
theorem lb358_20 {E : mE} (ls : mL) (st : List Value) (h : mH) : mV E gP (358, 20, ls, st, h) = mX E gP (mV E gP) 358 b358_20 ls st h := lab_row (mcode_row grw358 rfl) ls st h
theorem lb358_27 {E : mE} (ls : mL) (st : List Value) (h : mH) : mV E gP (358, 27, ls, st, h) = mX E gP (mV E gP) 358 b358_27 ls st h := lab_row (mcode_row grw358 rfl) ls st h
theorem en358 {E : mE} (v0 v1 v2 : Value) (h : mH) : mRun E gP 358 [v0, v1, v2] h = mX E gP (mV E gP) 358 b358_0 [some v0, some v1, some v2, none] [] h := ent_row (mcode_row grw358 rfl) gm358 _ h
theorem lb359_0 {E : mE} (ls : mL) (st : List Value) (h : mH) : mV E gP (359, 0, ls, st, h) = mX E gP (mV E gP) 359 b359_0 ls st h := lab_row (mcode_row grw359 rfl) ls st h
theorem lb359_27 {E : mE} (ls : mL) (st : List Value) (h : mH) : mV E gP (359, 27, ls, st, h) = mX E gP (mV E gP) 359 b359_27 ls st h := lab_row (mcode_row grw359 rfl) ls st h
theorem lb359_51 {E : mE} (ls : mL) (st : List Value) (h : mH) : mV E gP (359, 51, ls, st, h) = mX E gP (mV E gP) 359 b359_51 ls st h := lab_row (mcode_row grw359 rfl) ls st h
theorem lb359_55 {E : mE} (ls : mL) (st : List Value) (h : mH) : mV E gP (359, 55, ls, st, h) = mX E gP (mV E gP) 359 b359_55 ls st h := lab_row (mcode_row grw359 rfl) ls st h
theorem lb359_94 {E : mE} (ls : mL) (st : List Value) (h : mH) : mV E gP (359, 94, ls, st, h) = mX E gP (mV E gP) 359 b359_94 ls st h := lab_row (mcode_row grw359 rfl) ls st h
theorem lb359_95 {E : mE} (ls : mL) (st : List Value) (h : mH) : mV E gP (359, 95, ls, st, h) = mX E gP (mV E gP) 359 b359_95 ls st h := lab_row (mcode_row grw359 rfl) ls st h
theorem lb359_103 {E : mE} (ls : mL) (st : List Value) (h : mH) : mV E gP (359, 103, ls, st, h) = mX E gP (mV E gP) 359 b359_103 ls st h := lab_row (mcode_row grw359 rfl) ls st h
theorem lb359_105 {E : mE} (ls : mL) (st : List Value) (h : mH) : mV E gP (359, 105, ls, st, h) = mX E gP (mV E gP) 359 b359_105 ls st h := lab_row (mcode_row grw359 rfl) ls st h
theorem lb359_134 {E : mE} (ls : mL) (st : List Value) (h : mH) : mV E gP (359, 134, ls, st, h) = mX E gP (mV E gP) 359 b359_134 ls st h := lab_row (mcode_row grw359 rfl) ls st h
theorem lb359_135 {E : mE} (ls : mL) (st : List Value) (h : mH) : mV E gP (359, 135, ls, st, h) = mX E gP (mV E gP) 359 b359_135 ls st h := lab_row (mcode_row grw359 rfl) ls st h
theorem lb359_143 {E : mE} (ls : mL) (st : List Value) (h : mH) : mV E gP (359, 143, ls, st, h) = mX E gP (mV E gP) 359 b359_143 ls st h := lab_row (mcode_row grw359 rfl) ls st h
theorem en359 {E : mE} (v0 : Value) (h : mH) : mRun E gP 359 [v0] h = mX E gP (mV E gP) 359 b359_0 [some v0, none, none, none] [] h := ent_row (mcode_row grw359 rfl) gm359 _ h
theorem lb360_0 {E : mE} (ls : mL) (st : List Value) (h : mH) : mV E gP (360, 0, ls, st, h) = mX E gP (mV E gP) 360 b360_0 ls st h := lab_row (mcode_row grw360 rfl) ls st h
theorem lb360_19 {E : mE} (ls : mL) (st : List Value) (h : mH) : mV E gP (360, 19, ls, st, h) = mX E gP (mV E gP) 360 b360_19 ls st h := lab_row (mcode_row grw360 rfl) ls st h
theorem lb360_34 {E : mE} (ls : mL) (st : List Value) (h : mH) : mV E gP (360, 34, ls, st, h) = mX E gP (mV E gP) 360 b360_34 ls st h := lab_row (mcode_row grw360 rfl) ls st h
theorem en360 {E : mE} (v0 : Value) (h : mH) : mRun E gP 360 [v0] h = mX E gP (mV E gP) 360 b360_0 [some v0] [] h := ent_row (mcode_row grw360 rfl) gm360 _ h
theorem lb361_0 {E : mE} (ls : mL) (st : List Value) (h : mH) : mV E gP (361, 0, ls, st, h) = mX E gP (mV E gP) 361 b361_0 ls st h := lab_row (mcode_row grw361 rfl) ls st h
theorem lb361_9 {E : mE} (ls : mL) (st : List Value) (h : mH) : mV E gP (361, 9, ls, st, h) = mX E gP (mV E gP) 361 b361_9 ls st h := lab_row (mcode_row grw361 rfl) ls st h
theorem lb361_30 {E : mE} (ls : mL) (st : List Value) (h : mH) : mV E gP (361, 30, ls, st, h) = mX E gP (mV E gP) 361 b361_30 ls st h := lab_row (mcode_row grw361 rfl) ls st h
theorem lb361_35 {E : mE} (ls : mL) (st : List Value) (h : mH) : mV E gP (361, 35, ls, st, h) = mX E gP (mV E gP) 361 b361_35 ls st h := lab_row (mcode_row grw361 rfl) ls st h
theorem lb361_43 {E : mE} (ls : mL) (st : List Value) (h : mH) : mV E gP (361, 43, ls, st, h) = mX E gP (mV E gP) 361 b361_43 ls st h := lab_row (mcode_row grw361 rfl) ls st h
theorem lb361_61 {E : mE} (ls : mL) (st : List Value) (h : mH) : mV E gP (361, 61, ls, st, h) = mX E gP (mV E gP) 361 b361_61 ls st h := lab_row (mcode_row grw361 rfl) ls st h
theorem lb361_66 {E : mE} (ls : mL) (st : List Value) (h : mH) : mV E gP (361, 66, ls, st, h) = mX E gP (mV E gP) 361 b361_66 ls st h := lab_row (mcode_row grw361 rfl) ls st h
theorem en361 {E : mE} (v0 : Value) (h : mH) : mRun E gP 361 [v0] h = mX E gP (mV E gP) 361 b361_0 [some v0, none, none] [] h := ent_row (mcode_row grw361 rfl) gm361 _ h
theorem lb362_0 {E : mE} (ls : mL) (st : List Value) (h : mH) : mV E gP (362, 0, ls, st, h) = mX E gP (mV E gP) 362 b362_0 ls st h := lab_row (mcode_row grw362 rfl) ls st h
theorem lb362_20 {E : mE} (ls : mL) (st : List Value) (h : mH) : mV E gP (362, 20, ls, st, h) = mX E gP (mV E gP) 362 b362_20 ls st h := lab_row (mcode_row grw362 rfl) ls st h
theorem lb362_34 {E : mE} (ls : mL) (st : List Value) (h : mH) : mV E gP (362, 34, ls, st, h) = mX E gP (mV E gP) 362 b362_34 ls st h := lab_row (mcode_row grw362 rfl) ls st h
theorem lb362_56 {E : mE} (ls : mL) (st : List Value) (h : mH) : mV E gP (362, 56, ls, st, h) = mX E gP (mV E gP) 362 b362_56 ls st h := lab_row (mcode_row grw362 rfl) ls st h
theorem lb362_57 {E : mE} (ls : mL) (st : List Value) (h : mH) : mV E gP (362, 57, ls, st, h) = mX E gP (mV E gP) 362 b362_57 ls st h := lab_row (mcode_row grw362 rfl) ls st h
theorem en362 {E : mE} (v0 v1 v2 : Value) (h : mH) : mRun E gP 362 [v0, v1, v2] h = mX E gP (mV E gP) 362 b362_0 [some v0, some v1, some v2] [] h := ent_row (mcode_row grw362 rfl) gm362 _ h
theorem lb363_0 {E : mE} (ls : mL) (st : List Value) (h : mH) : mV E gP (363, 0, ls, st, h) = mX E gP (mV E gP) 363 b363_0 ls st h := lab_row (mcode_row grw363 rfl) ls st h
theorem en363 {E : mE} (v0 : Value) (h : mH) : mRun E gP 363 [v0] h = mX E gP (mV E gP) 363 b363_0 [some v0] [] h := ent_row (mcode_row grw363 rfl) gm363 _ h
theorem lb364_0 {E : mE} (ls : mL) (st : List Value) (h : mH) : mV E gP (364, 0, ls, st, h) = mX E gP (mV E gP) 364 b364_0 ls st h := lab_row (mcode_row grw364 rfl) ls st h
theorem en364 {E : mE} (v0 : Value) (h : mH) : mRun E gP 364 [v0] h = mX E gP (mV E gP) 364 b364_0 [some v0] [] h := ent_row (mcode_row grw364 rfl) gm364 _ h
theorem lb365_0 {E : mE} (ls : mL) (st : List Value) (h : mH) : mV E gP (365, 0, ls, st, h) = mX E gP (mV E gP) 365 b365_0 ls st h := lab_row (mcode_row grw365 rfl) ls st h
theorem lb365_2 {E : mE} (ls : mL) (st : List Value) (h : mH) : mV E gP (365, 2, ls, st, h) = mX E gP (mV E gP) 365 b365_2 ls st h := lab_row (mcode_row grw365 rfl) ls st h
theorem lb365_17 {E : mE} (ls : mL) (st : List Value) (h : mH) : mV E gP (365, 17, ls, st, h) = mX E gP (mV E gP) 365 b365_17 ls st h := lab_row (mcode_row grw365 rfl) ls st h
theorem lb365_29 {E : mE} (ls : mL) (st : List Value) (h : mH) : mV E gP (365, 29, ls, st, h) = mX E gP (mV E gP) 365 b365_29 ls st h := lab_row (mcode_row grw365 rfl) ls st h
theorem lb365_30 {E : mE} (ls : mL) (st : List Value) (h : mH) : mV E gP (365, 30, ls, st, h) = mX E gP (mV E gP) 365 b365_30 ls st h := lab_row (mcode_row grw365 rfl) ls st h
theorem en365 {E : mE} (v0 v1 v2 : Value) (h : mH) : mRun E gP 365 [v0, v1, v2] h = mX E gP (mV E gP) 365 b365_0 [some v0, some v1, some v2, none] [] h := ent_row (mcode_row grw365 rfl) gm365 _ h
theorem lb366_0 {E : mE} (ls : mL) (st : List Value) (h : mH) : mV E gP (366, 0, ls, st, h) = mX E gP (mV E gP) 366 b366_0 ls st h := lab_row (mcode_row grw366 rfl) ls st h
theorem en366 {E : mE} (v0 v1 : Value) (h : mH) : mRun E gP 366 [v0, v1] h = mX E gP (mV E gP) 366 b366_0 [some v0, some v1] [] h := ent_row (mcode_row grw366 rfl) gm366 _ h
theorem lb367_0 {E : mE} (ls : mL) (st : List Value) (h : mH) : mV E gP (367, 0, ls, st, h) = mX E gP (mV E gP) 367 b367_0 ls st h := lab_row (mcode_row grw367 rfl) ls st h
theorem lb367_19 {E : mE} (ls : mL) (st : List Value) (h : mH) : mV E gP (367, 19, ls, st, h) = mX E gP (mV E gP) 367 b367_19 ls st h := lab_row (mcode_row grw367 rfl) ls st h
theorem en367 {E : mE} (v0 v1 : Value) (h : mH) : mRun E gP 367 [v0, v1] h = mX E gP (mV E gP) 367 b367_0 [some v0, some v1] [] h := ent_row (mcode_row grw367 rfl) gm367 _ h
theorem lb368_0 {E : mE} (ls : mL) (st : List Value) (h : mH) : mV E gP (368, 0, ls, st, h) = mX E gP (mV E gP) 368 b368_0 ls st h := lab_row (mcode_row grw368 rfl) ls st h
theorem lb368_2 {E : mE} (ls : mL) (st : List Value) (h : mH) : mV E gP (368, 2, ls, st, h) = mX E gP (mV E gP) 368 b368_2 ls st h := lab_row (mcode_row grw368 rfl) ls st h
theorem lb368_23 {E : mE} (ls : mL) (st : List Value) (h : mH) : mV E gP (368, 23, ls, st, h) = mX E gP (mV E gP) 368 b368_23 ls st h := lab_row (mcode_row grw368 rfl) ls st h
theorem lb368_29 {E : mE} (ls : mL) (st : List Value) (h : mH) : mV E gP (368, 29, ls, st, h) = mX E gP (mV E gP) 368 b368_29 ls st h := lab_row (mcode_row grw368 rfl) ls st h
theorem en368 {E : mE} (v0 v1 : Value) (h : mH) : mRun E gP 368 [v0, v1] h = mX E gP (mV E gP) 368 b368_0 [some v0, some v1, none] [] h := ent_row (mcode_row grw368 rfl) gm368 _ h
theorem lb369_0 {E : mE} (ls : mL) (st : List Value) (h : mH) : mV E gP (369, 0, ls, st, h) = mX E gP (mV E gP) 369 b369_0 ls st h := lab_row (mcode_row grw369 rfl) ls st h
theorem lb369_21 {E : mE} (ls : mL) (st : List Value) (h : mH) : mV E gP (369, 21, ls, st, h) = mX E gP (mV E gP) 369 b369_21 ls st h := lab_row (mcode_row grw369 rfl) ls st h
theorem lb369_27 {E : mE} (ls : mL) (st : List Value) (h : mH) : mV E gP (369, 27, ls, st, h) = mX E gP (mV E gP) 369 b369_27 ls st h := lab_row (mcode_row grw369 rfl) ls st h
theorem en369 {E : mE} (v0 v1 v2 : Value) (h : mH) : mRun E gP 369 [v0, v1, v2] h = mX E gP (mV E gP) 369 b369_0 [some v0, some v1, some v2] [] h := ent_row (mcode_row grw369 rfl) gm369 _ h
theorem lb370_0 {E : mE} (ls : mL) (st : List Value) (h : mH) : mV E gP (370, 0, ls, st, h) = mX E gP (mV E gP) 370 b370_0 ls st h := lab_row (mcode_row grw370 rfl) ls st h
theorem lb370_32 {E : mE} (ls : mL) (st : List Value) (h : mH) : mV E gP (370, 32, ls, st, h) = mX E gP (mV E gP) 370 b370_32 ls st h := lab_row (mcode_row grw370 rfl) ls st h
theorem lb370_37 {E : mE} (ls : mL) (st : List Value) (h : mH) : mV E gP (370, 37, ls, st, h) = mX E gP (mV E gP) 370 b370_37 ls st h := lab_row (mcode_row grw370 rfl) ls st h
theorem lb370_39 {E : mE} (ls : mL) (st : List Value) (h : mH) : mV E gP (370, 39, ls, st, h) = mX E gP (mV E gP) 370 b370_39 ls st h := lab_row (mcode_row grw370 rfl) ls st h
theorem lb370_49 {E : mE} (ls : mL) (st : List Value) (h : mH) : mV E gP (370, 49, ls, st, h) = mX E gP (mV E gP) 370 b370_49 ls st h := lab_row (mcode_row grw370 rfl) ls st h
theorem lb370_50 {E : mE} (ls : mL) (st : List Value) (h : mH) : mV E gP (370, 50, ls, st, h) = mX E gP (mV E gP) 370 b370_50 ls st h := lab_row (mcode_row grw370 rfl) ls st h
theorem en370 {E : mE} (v0 v1 v2 : Value) (h : mH) : mRun E gP 370 [v0, v1, v2] h = mX E gP (mV E gP) 370 b370_0 [some v0, some v1, some v2, none] [] h := ent_row (mcode_row grw370 rfl) gm370 _ h
theorem lb371_0 {E : mE} (ls : mL) (st : List Value) (h : mH) : mV E gP (371, 0, ls, st, h) = mX E gP (mV E gP) 371 b371_0 ls st h := lab_row (mcode_row grw371 rfl) ls st h
theorem lb371_30 {E : mE} (ls : mL) (st : List Value) (h : mH) : mV E gP (371, 30, ls, st, h) = mX E gP (mV E gP) 371 b371_30 ls st h := lab_row (mcode_row grw371 rfl) ls st h
theorem lb371_35 {E : mE} (ls : mL) (st : List Value) (h : mH) : mV E gP (371, 35, ls, st, h) = mX E gP (mV E gP) 371 b371_35 ls st h := lab_row (mcode_row grw371 rfl) ls st h
theorem en371 {E : mE} (v0 v1 v2 : Value) (h : mH) : mRun E gP 371 [v0, v1, v2] h = mX E gP (mV E gP) 371 b371_0 [some v0, some v1, some v2] [] h := ent_row (mcode_row grw371 rfl) gm371 _ h
theorem lb372_0 {E : mE} (ls : mL) (st : List Value) (h : mH) : mV E gP (372, 0, ls, st, h) = mX E gP (mV E gP) 372 b372_0 ls st h := lab_row (mcode_row grw372 rfl) ls st h
theorem en372 {E : mE} (v0 v1 v2 : Value) (h : mH) : mRun E gP 372 [v0, v1, v2] h = mX E gP (mV E gP) 372 b372_0 [some v0, some v1, some v2] [] h := ent_row (mcode_row grw372 rfl) gm372 _ h
theorem lb373_0 {E : mE} (ls : mL) (st : List Value) (h : mH) : mV E gP (373, 0, ls, st, h) = mX E gP (mV E gP) 373 b373_0 ls st h := lab_row (mcode_row grw373 rfl) ls st h
theorem lb373_2 {E : mE} (ls : mL) (st : List Value) (h : mH) : mV E gP (373, 2, ls, st, h) = mX E gP (mV E gP) 373 b373_2 ls st h := lab_row (mcode_row grw373 rfl) ls st h
theorem lb373_29 {E : mE} (ls : mL) (st : List Value) (h : mH) : mV E gP (373, 29, ls, st, h) = mX E gP (mV E gP) 373 b373_29 ls st h := lab_row (mcode_row grw373 rfl) ls st h
theorem lb373_30 {E : mE} (ls : mL) (st : List Value) (h : mH) : mV E gP (373, 30, ls, st, h) = mX E gP (mV E gP) 373 b373_30 ls st h := lab_row (mcode_row grw373 rfl) ls st h
theorem lb373_37 {E : mE} (ls : mL) (st : List Value) (h : mH) : mV E gP (373, 37, ls, st, h) = mX E gP (mV E gP) 373 b373_37 ls st h := lab_row (mcode_row grw373 rfl) ls st h
theorem en373 {E : mE} (v0 v1 : Value) (h : mH) : mRun E gP 373 [v0, v1] h = mX E gP (mV E gP) 373 b373_0 [some v0, some v1, none] [] h := ent_row (mcode_row grw373 rfl) gm373 _ h
theorem lb374_0 {E : mE} (ls : mL) (st : List Value) (h : mH) : mV E gP (374, 0, ls, st, h) = mX E gP (mV E gP) 374 b374_0 ls st h := lab_row (mcode_row grw374 rfl) ls st h
theorem lb374_2 {E : mE} (ls : mL) (st : List Value) (h : mH) : mV E gP (374, 2, ls, st, h) = mX E gP (mV E gP) 374 b374_2 ls st h := lab_row (mcode_row grw374 rfl) ls st h
theorem lb374_19 {E : mE} (ls : mL) (st : List Value) (h : mH) : mV E gP (374, 19, ls, st, h) = mX E gP (mV E gP) 374 b374_19 ls st h := lab_row (mcode_row grw374 rfl) ls st h
theorem lb374_29 {E : mE} (ls : mL) (st : List Value) (h : mH) : mV E gP (374, 29, ls, st, h) = mX E gP (mV E gP) 374 b374_29 ls st h := lab_row (mcode_row grw374 rfl) ls st h
theorem en374 {E : mE} (v0 v1 : Value) (h : mH) : mRun E gP 374 [v0, v1] h = mX E gP (mV E gP) 374 b374_0 [some v0, some v1, none] [] h := ent_row (mcode_row grw374 rfl) gm374 _ h
theorem lb375_0 {E : mE} (ls : mL) (st : List Value) (h : mH) : mV E gP (375, 0, ls, st, h) = mX E gP (mV E gP) 375 b375_0 ls st h := lab_row (mcode_row grw375 rfl) ls st h
theorem lb375_10 {E : mE} (ls : mL) (st : List Value) (h : mH) : mV E gP (375, 10, ls, st, h) = mX E gP (mV E gP) 375 b375_10 ls st h := lab_row (mcode_row grw375 rfl) ls st h
theorem lb375_40 {E : mE} (ls : mL) (st : List Value) (h : mH) : mV E gP (375, 40, ls, st, h) = mX E gP (mV E gP) 375 b375_40 ls st h := lab_row (mcode_row grw375 rfl) ls st h
theorem lb375_61 {E : mE} (ls : mL) (st : List Value) (h : mH) : mV E gP (375, 61, ls, st, h) = mX E gP (mV E gP) 375 b375_61 ls st h := lab_row (mcode_row grw375 rfl) ls st h
theorem lb375_62 {E : mE} (ls : mL) (st : List Value) (h : mH) : mV E gP (375, 62, ls, st, h) = mX E gP (mV E gP) 375 b375_62 ls st h := lab_row (mcode_row grw375 rfl) ls st h
theorem lb375_69 {E : mE} (ls : mL) (st : List Value) (h : mH) : mV E gP (375, 69, ls, st, h) = mX E gP (mV E gP) 375 b375_69 ls st h := lab_row (mcode_row grw375 rfl) ls st h
theorem lb375_71 {E : mE} (ls : mL) (st : List Value) (h : mH) : mV E gP (375, 71, ls, st, h) = mX E gP (mV E gP) 375 b375_71 ls st h := lab_row (mcode_row grw375 rfl) ls st h
theorem lb375_97 {E : mE} (ls : mL) (st : List Value) (h : mH) : mV E gP (375, 97, ls, st, h) = mX E gP (mV E gP) 375 b375_97 ls st h := lab_row (mcode_row grw375 rfl) ls st h
theorem en375 {E : mE} (v0 : Value) (h : mH) : mRun E gP 375 [v0] h = mX E gP (mV E gP) 375 b375_0 [some v0, none] [] h := ent_row (mcode_row grw375 rfl) gm375 _ h
theorem lb376_0 {E : mE} (ls : mL) (st : List Value) (h : mH) : mV E gP (376, 0, ls, st, h) = mX E gP (mV E gP) 376 b376_0 ls st h := lab_row (mcode_row grw376 rfl) ls st h
theorem lb376_2 {E : mE} (ls : mL) (st : List Value) (h : mH) : mV E gP (376, 2, ls, st, h) = mX E gP (mV E gP) 376 b376_2 ls st h := lab_row (mcode_row grw376 rfl) ls st h
theorem lb376_30 {E : mE} (ls : mL) (st : List Value) (h : mH) : mV E gP (376, 30, ls, st, h) = mX E gP (mV E gP) 376 b376_30 ls st h := lab_row (mcode_row grw376 rfl) ls st h
theorem lb376_36 {E : mE} (ls : mL) (st : List Value) (h : mH) : mV E gP (376, 36, ls, st, h) = mX E gP (mV E gP) 376 b376_36 ls st h := lab_row (mcode_row grw376 rfl) ls st h
theorem en376 {E : mE} (v0 v1 : Value) (h : mH) : mRun E gP 376 [v0, v1] h = mX E gP (mV E gP) 376 b376_0 [some v0, some v1, none, none] [] h := ent_row (mcode_row grw376 rfl) gm376 _ h
theorem lb377_0 {E : mE} (ls : mL) (st : List Value) (h : mH) : mV E gP (377, 0, ls, st, h) = mX E gP (mV E gP) 377 b377_0 ls st h := lab_row (mcode_row grw377 rfl) ls st h
theorem lb377_19 {E : mE} (ls : mL) (st : List Value) (h : mH) : mV E gP (377, 19, ls, st, h) = mX E gP (mV E gP) 377 b377_19 ls st h := lab_row (mcode_row grw377 rfl) ls st h
theorem lb377_35 {E : mE} (ls : mL) (st : List Value) (h : mH) : mV E gP (377, 35, ls, st, h) = mX E gP (mV E gP) 377 b377_35 ls st h := lab_row (mcode_row grw377 rfl) ls st h
theorem en377 {E : mE} (v0 v1 v2 : Value) (h : mH) : mRun E gP 377 [v0, v1, v2] h = mX E gP (mV E gP) 377 b377_0 [some v0, some v1, some v2] [] h := ent_row (mcode_row grw377 rfl) gm377 _ h
theorem lb378_0 {E : mE} (ls : mL) (st : List Value) (h : mH) : mV E gP (378, 0, ls, st, h) = mX E gP (mV E gP) 378 b378_0 ls st h := lab_row (mcode_row grw378 rfl) ls st h
theorem lb378_7 {E : mE} (ls : mL) (st : List Value) (h : mH) : mV E gP (378, 7, ls, st, h) = mX E gP (mV E gP) 378 b378_7 ls st h := lab_row (mcode_row grw378 rfl) ls st h
theorem lb378_22 {E : mE} (ls : mL) (st : List Value) (h : mH) : mV E gP (378, 22, ls, st, h) = mX E gP (mV E gP) 378 b378_22 ls st h := lab_row (mcode_row grw378 rfl) ls st h
theorem lb378_27 {E : mE} (ls : mL) (st : List Value) (h : mH) : mV E gP (378, 27, ls, st, h) = mX E gP (mV E gP) 378 b378_27 ls st h := lab_row (mcode_row grw378 rfl) ls st h
theorem lb378_51 {E : mE} (ls : mL) (st : List Value) (h : mH) : mV E gP (378, 51, ls, st, h) = mX E gP (mV E gP) 378 b378_51 ls st h := lab_row (mcode_row grw378 rfl) ls st h
theorem lb378_52 {E : mE} (ls : mL) (st : List Value) (h : mH) : mV E gP (378, 52, ls, st, h) = mX E gP (mV E gP) 378 b378_52 ls st h := lab_row (mcode_row grw378 rfl) ls st h
theorem lb378_60 {E : mE} (ls : mL) (st : List Value) (h : mH) : mV E gP (378, 60, ls, st, h) = mX E gP (mV E gP) 378 b378_60 ls st h := lab_row (mcode_row grw378 rfl) ls st h
theorem en378 {E : mE} (v0 v1 v2 : Value) (h : mH) : mRun E gP 378 [v0, v1, v2] h = mX E gP (mV E gP) 378 b378_0 [some v0, some v1, some v2, none, none] [] h := ent_row (mcode_row grw378 rfl) gm378 _ h
theorem lb379_0 {E : mE} (ls : mL) (st : List Value) (h : mH) : mV E gP (379, 0, ls, st, h) = mX E gP (mV E gP) 379 b379_0 ls st h := lab_row (mcode_row grw379 rfl) ls st h
theorem lb379_19 {E : mE} (ls : mL) (st : List Value) (h : mH) : mV E gP (379, 19, ls, st, h) = mX E gP (mV E gP) 379 b379_19 ls st h := lab_row (mcode_row grw379 rfl) ls st h
theorem lb379_34 {E : mE} (ls : mL) (st : List Value) (h : mH) : mV E gP (379, 34, ls, st, h) = mX E gP (mV E gP) 379 b379_34 ls st h := lab_row (mcode_row grw379 rfl) ls st h
theorem lb379_45 {E : mE} (ls : mL) (st : List Value) (h : mH) : mV E gP (379, 45, ls, st, h) = mX E gP (mV E gP) 379 b379_45 ls st h := lab_row (mcode_row grw379 rfl) ls st h
theorem lb379_76 {E : mE} (ls : mL) (st : List Value) (h : mH) : mV E gP (379, 76, ls, st, h) = mX E gP (mV E gP) 379 b379_76 ls st h := lab_row (mcode_row grw379 rfl) ls st h
theorem lb379_77 {E : mE} (ls : mL) (st : List Value) (h : mH) : mV E gP (379, 77, ls, st, h) = mX E gP (mV E gP) 379 b379_77 ls st h := lab_row (mcode_row grw379 rfl) ls st h
theorem en379 {E : mE} (v0 v1 v2 : Value) (h : mH) : mRun E gP 379 [v0, v1, v2] h = mX E gP (mV E gP) 379 b379_0 [some v0, some v1, some v2, none] [] h := ent_row (mcode_row grw379 rfl) gm379 _ h
theorem lb380_0 {E : mE} (ls : mL) (st : List Value) (h : mH) : mV E gP (380, 0, ls, st, h) = mX E gP (mV E gP) 380 b380_0 ls st h := lab_row (mcode_row grw380 rfl) ls st h
theorem lb380_19 {E : mE} (ls : mL) (st : List Value) (h : mH) : mV E gP (380, 19, ls, st, h) = mX E gP (mV E gP) 380 b380_19 ls st h := lab_row (mcode_row grw380 rfl) ls st h
theorem lb380_27 {E : mE} (ls : mL) (st : List Value) (h : mH) : mV E gP (380, 27, ls, st, h) = mX E gP (mV E gP) 380 b380_27 ls st h := lab_row (mcode_row grw380 rfl) ls st h
theorem lb380_64 {E : mE} (ls : mL) (st : List Value) (h : mH) : mV E gP (380, 64, ls, st, h) = mX E gP (mV E gP) 380 b380_64 ls st h := lab_row (mcode_row grw380 rfl) ls st h
theorem lb380_65 {E : mE} (ls : mL) (st : List Value) (h : mH) : mV E gP (380, 65, ls, st, h) = mX E gP (mV E gP) 380 b380_65 ls st h := lab_row (mcode_row grw380 rfl) ls st h
theorem lb380_85 {E : mE} (ls : mL) (st : List Value) (h : mH) : mV E gP (380, 85, ls, st, h) = mX E gP (mV E gP) 380 b380_85 ls st h := lab_row (mcode_row grw380 rfl) ls st h
theorem lb380_91 {E : mE} (ls : mL) (st : List Value) (h : mH) : mV E gP (380, 91, ls, st, h) = mX E gP (mV E gP) 380 b380_91 ls st h := lab_row (mcode_row grw380 rfl) ls st h
theorem en380 {E : mE} (v0 v1 : Value) (h : mH) : mRun E gP 380 [v0, v1] h = mX E gP (mV E gP) 380 b380_0 [some v0, some v1, none, none, none, none] [] h := ent_row (mcode_row grw380 rfl) gm380 _ h
theorem lb381_0 {E : mE} (ls : mL) (st : List Value) (h : mH) : mV E gP (381, 0, ls, st, h) = mX E gP (mV E gP) 381 b381_0 ls st h := lab_row (mcode_row grw381 rfl) ls st h
theorem lb381_24 {E : mE} (ls : mL) (st : List Value) (h : mH) : mV E gP (381, 24, ls, st, h) = mX E gP (mV E gP) 381 b381_24 ls st h := lab_row (mcode_row grw381 rfl) ls st h
theorem lb381_29 {E : mE} (ls : mL) (st : List Value) (h : mH) : mV E gP (381, 29, ls, st, h) = mX E gP (mV E gP) 381 b381_29 ls st h := lab_row (mcode_row grw381 rfl) ls st h
theorem en381 {E : mE} (v0 v1 : Value) (h : mH) : mRun E gP 381 [v0, v1] h = mX E gP (mV E gP) 381 b381_0 [some v0, some v1] [] h := ent_row (mcode_row grw381 rfl) gm381 _ h
theorem lb382_0 {E : mE} (ls : mL) (st : List Value) (h : mH) : mV E gP (382, 0, ls, st, h) = mX E gP (mV E gP) 382 b382_0 ls st h := lab_row (mcode_row grw382 rfl) ls st h
theorem lb382_19 {E : mE} (ls : mL) (st : List Value) (h : mH) : mV E gP (382, 19, ls, st, h) = mX E gP (mV E gP) 382 b382_19 ls st h := lab_row (mcode_row grw382 rfl) ls st h
theorem lb382_37 {E : mE} (ls : mL) (st : List Value) (h : mH) : mV E gP (382, 37, ls, st, h) = mX E gP (mV E gP) 382 b382_37 ls st h := lab_row (mcode_row grw382 rfl) ls st h
theorem lb382_42 {E : mE} (ls : mL) (st : List Value) (h : mH) : mV E gP (382, 42, ls, st, h) = mX E gP (mV E gP) 382 b382_42 ls st h := lab_row (mcode_row grw382 rfl) ls st h
theorem en382 {E : mE} (v0 v1 v2 : Value) (h : mH) : mRun E gP 382 [v0, v1, v2] h = mX E gP (mV E gP) 382 b382_0 [some v0, some v1, some v2] [] h := ent_row (mcode_row grw382 rfl) gm382 _ h
theorem lb383_0 {E : mE} (ls : mL) (st : List Value) (h : mH) : mV E gP (383, 0, ls, st, h) = mX E gP (mV E gP) 383 b383_0 ls st h := lab_row (mcode_row grw383 rfl) ls st h
theorem lb383_30 {E : mE} (ls : mL) (st : List Value) (h : mH) : mV E gP (383, 30, ls, st, h) = mX E gP (mV E gP) 383 b383_30 ls st h := lab_row (mcode_row grw383 rfl) ls st h
theorem lb383_35 {E : mE} (ls : mL) (st : List Value) (h : mH) : mV E gP (383, 35, ls, st, h) = mX E gP (mV E gP) 383 b383_35 ls st h := lab_row (mcode_row grw383 rfl) ls st h
theorem en383 {E : mE} (v0 v1 v2 : Value) (h : mH) : mRun E gP 383 [v0, v1, v2] h = mX E gP (mV E gP) 383 b383_0 [some v0, some v1, some v2] [] h := ent_row (mcode_row grw383 rfl) gm383 _ h
theorem lb384_0 {E : mE} (ls : mL) (st : List Value) (h : mH) : mV E gP (384, 0, ls, st, h) = mX E gP (mV E gP) 384 b384_0 ls st h := lab_row (mcode_row grw384 rfl) ls st h
theorem lb384_39 {E : mE} (ls : mL) (st : List Value) (h : mH) : mV E gP (384, 39, ls, st, h) = mX E gP (mV E gP) 384 b384_39 ls st h := lab_row (mcode_row grw384 rfl) ls st h
theorem lb384_44 {E : mE} (ls : mL) (st : List Value) (h : mH) : mV E gP (384, 44, ls, st, h) = mX E gP (mV E gP) 384 b384_44 ls st h := lab_row (mcode_row grw384 rfl) ls st h
theorem en384 {E : mE} (v0 v1 v2 v3 : Value) (h : mH) : mRun E gP 384 [v0, v1, v2, v3] h = mX E gP (mV E gP) 384 b384_0 [some v0, some v1, some v2, some v3] [] h := ent_row (mcode_row grw384 rfl) gm384 _ h
theorem lb385_0 {E : mE} (ls : mL) (st : List Value) (h : mH) : mV E gP (385, 0, ls, st, h) = mX E gP (mV E gP) 385 b385_0 ls st h := lab_row (mcode_row grw385 rfl) ls st h
theorem lb385_30 {E : mE} (ls : mL) (st : List Value) (h : mH) : mV E gP (385, 30, ls, st, h) = mX E gP (mV E gP) 385 b385_30 ls st h := lab_row (mcode_row grw385 rfl) ls st h
theorem lb385_35 {E : mE} (ls : mL) (st : List Value) (h : mH) : mV E gP (385, 35, ls, st, h) = mX E gP (mV E gP) 385 b385_35 ls st h := lab_row (mcode_row grw385 rfl) ls st h
theorem en385 {E : mE} (v0 v1 v2 : Value) (h : mH) : mRun E gP 385 [v0, v1, v2] h = mX E gP (mV E gP) 385 b385_0 [some v0, some v1, some v2] [] h := ent_row (mcode_row grw385 rfl) gm385 _ h
theorem lb386_0 {E : mE} (ls : mL) (st : List Value) (h : mH) : mV E gP (386, 0, ls, st, h) = mX E gP (mV E gP) 386 b386_0 ls st h := lab_row (mcode_row grw386 rfl) ls st h
theorem lb386_23 {E : mE} (ls : mL) (st : List Value) (h : mH) : mV E gP (386, 23, ls, st, h) = mX E gP (mV E gP) 386 b386_23 ls st h := lab_row (mcode_row grw386 rfl) ls st h
theorem lb386_28 {E : mE} (ls : mL) (st : List Value) (h : mH) : mV E gP (386, 28, ls, st, h) = mX E gP (mV E gP) 386 b386_28 ls st h := lab_row (mcode_row grw386 rfl) ls st h
theorem en386 {E : mE} (v0 v1 : Value) (h : mH) : mRun E gP 386 [v0, v1] h = mX E gP (mV E gP) 386 b386_0 [some v0, some v1] [] h := ent_row (mcode_row grw386 rfl) gm386 _ h
theorem lb387_0 {E : mE} (ls : mL) (st : List Value) (h : mH) : mV E gP (387, 0, ls, st, h) = mX E gP (mV E gP) 387 b387_0 ls st h := lab_row (mcode_row grw387 rfl) ls st h
theorem lb387_27 {E : mE} (ls : mL) (st : List Value) (h : mH) : mV E gP (387, 27, ls, st, h) = mX E gP (mV E gP) 387 b387_27 ls st h := lab_row (mcode_row grw387 rfl) ls st h
theorem lb387_34 {E : mE} (ls : mL) (st : List Value) (h : mH) : mV E gP (387, 34, ls, st, h) = mX E gP (mV E gP) 387 b387_34 ls st h := lab_row (mcode_row grw387 rfl) ls st h
theorem lb387_84 {E : mE} (ls : mL) (st : List Value) (h : mH) : mV E gP (387, 84, ls, st, h) = mX E gP (mV E gP) 387 b387_84 ls st h := lab_row (mcode_row grw387 rfl) ls st h
theorem en387 {E : mE} (v0 v1 : Value) (h : mH) : mRun E gP 387 [v0, v1] h = mX E gP (mV E gP) 387 b387_0 [some v0, some v1, none] [] h := ent_row (mcode_row grw387 rfl) gm387 _ h
theorem lb388_0 {E : mE} (ls : mL) (st : List Value) (h : mH) : mV E gP (388, 0, ls, st, h) = mX E gP (mV E gP) 388 b388_0 ls st h := lab_row (mcode_row grw388 rfl) ls st h
theorem lb388_11 {E : mE} (ls : mL) (st : List Value) (h : mH) : mV E gP (388, 11, ls, st, h) = mX E gP (mV E gP) 388 b388_11 ls st h := lab_row (mcode_row grw388 rfl) ls st h
theorem lb388_29 {E : mE} (ls : mL) (st : List Value) (h : mH) : mV E gP (388, 29, ls, st, h) = mX E gP (mV E gP) 388 b388_29 ls st h := lab_row (mcode_row grw388 rfl) ls st h
theorem lb388_47 {E : mE} (ls : mL) (st : List Value) (h : mH) : mV E gP (388, 47, ls, st, h) = mX E gP (mV E gP) 388 b388_47 ls st h := lab_row (mcode_row grw388 rfl) ls st h
theorem lb388_60 {E : mE} (ls : mL) (st : List Value) (h : mH) : mV E gP (388, 60, ls, st, h) = mX E gP (mV E gP) 388 b388_60 ls st h := lab_row (mcode_row grw388 rfl) ls st h
theorem lb388_73 {E : mE} (ls : mL) (st : List Value) (h : mH) : mV E gP (388, 73, ls, st, h) = mX E gP (mV E gP) 388 b388_73 ls st h := lab_row (mcode_row grw388 rfl) ls st h
theorem lb388_81 {E : mE} (ls : mL) (st : List Value) (h : mH) : mV E gP (388, 81, ls, st, h) = mX E gP (mV E gP) 388 b388_81 ls st h := lab_row (mcode_row grw388 rfl) ls st h
theorem en388 {E : mE} (v0 v1 : Value) (h : mH) : mRun E gP 388 [v0, v1] h = mX E gP (mV E gP) 388 b388_0 [some v0, some v1] [] h := ent_row (mcode_row grw388 rfl) gm388 _ h
theorem lb389_0 {E : mE} (ls : mL) (st : List Value) (h : mH) : mV E gP (389, 0, ls, st, h) = mX E gP (mV E gP) 389 b389_0 ls st h := lab_row (mcode_row grw389 rfl) ls st h
theorem lb389_2 {E : mE} (ls : mL) (st : List Value) (h : mH) : mV E gP (389, 2, ls, st, h) = mX E gP (mV E gP) 389 b389_2 ls st h := lab_row (mcode_row grw389 rfl) ls st h
theorem lb389_24 {E : mE} (ls : mL) (st : List Value) (h : mH) : mV E gP (389, 24, ls, st, h) = mX E gP (mV E gP) 389 b389_24 ls st h := lab_row (mcode_row grw389 rfl) ls st h
theorem lb389_30 {E : mE} (ls : mL) (st : List Value) (h : mH) : mV E gP (389, 30, ls, st, h) = mX E gP (mV E gP) 389 b389_30 ls st h := lab_row (mcode_row grw389 rfl) ls st h
theorem en389 {E : mE} (v0 v1 : Value) (h : mH) : mRun E gP 389 [v0, v1] h = mX E gP (mV E gP) 389 b389_0 [some v0, some v1, none] [] h := ent_row (mcode_row grw389 rfl) gm389 _ h
theorem lb390_0 {E : mE} (ls : mL) (st : List Value) (h : mH) : mV E gP (390, 0, ls, st, h) = mX E gP (mV E gP) 390 b390_0 ls st h := lab_row (mcode_row grw390 rfl) ls st h
theorem lb390_2 {E : mE} (ls : mL) (st : List Value) (h : mH) : mV E gP (390, 2, ls, st, h) = mX E gP (mV E gP) 390 b390_2 ls st h := lab_row (mcode_row grw390 rfl) ls st h
theorem lb390_24 {E : mE} (ls : mL) (st : List Value) (h : mH) : mV E gP (390, 24, ls, st, h) = mX E gP (mV E gP) 390 b390_24 ls st h := lab_row (mcode_row grw390 rfl) ls st h
theorem lb390_30 {E : mE} (ls : mL) (st : List Value) (h : mH) : mV E gP (390, 30, ls, st, h) = mX E gP (mV E gP) 390 b390_30 ls st h := lab_row (mcode_row grw390 rfl) ls st h
theorem en390 {E : mE} (v0 v1 : Value) (h : mH) : mRun E gP 390 [v0, v1] h = mX E gP (mV E gP) 390 b390_0 [some v0, some v1, none] [] h := ent_row (mcode_row grw390 rfl) gm390 _ h
theorem lb391_0 {E : mE} (ls : mL) (st : List Value) (h : mH) : mV E gP (391, 0, ls, st, h) = mX E gP (mV E gP) 391 b391_0 ls st h := lab_row (mcode_row grw391 rfl) ls st h
theorem lb391_32 {E : mE} (ls : mL) (st : List Value) (h : mH) : mV E gP (391, 32, ls, st, h) = mX E gP (mV E gP) 391 b391_32 ls st h := lab_row (mcode_row grw391 rfl) ls st h
theorem lb391_33 {E : mE} (ls : mL) (st : List Value) (h : mH) : mV E gP (391, 33, ls, st, h) = mX E gP (mV E gP) 391 b391_33 ls st h := lab_row (mcode_row grw391 rfl) ls st h
theorem en391 {E : mE} (v0 v1 : Value) (h : mH) : mRun E gP 391 [v0, v1] h = mX E gP (mV E gP) 391 b391_0 [some v0, some v1] [] h := ent_row (mcode_row grw391 rfl) gm391 _ h
theorem lb392_0 {E : mE} (ls : mL) (st : List Value) (h : mH) : mV E gP (392, 0, ls, st, h) = mX E gP (mV E gP) 392 b392_0 ls st h := lab_row (mcode_row grw392 rfl) ls st h
theorem lb392_14 {E : mE} (ls : mL) (st : List Value) (h : mH) : mV E gP (392, 14, ls, st, h) = mX E gP (mV E gP) 392 b392_14 ls st h := lab_row (mcode_row grw392 rfl) ls st h
theorem en392 {E : mE} (v0 : Value) (h : mH) : mRun E gP 392 [v0] h = mX E gP (mV E gP) 392 b392_0 [some v0] [] h := ent_row (mcode_row grw392 rfl) gm392 _ h
theorem lb393_0 {E : mE} (ls : mL) (st : List Value) (h : mH) : mV E gP (393, 0, ls, st, h) = mX E gP (mV E gP) 393 b393_0 ls st h := lab_row (mcode_row grw393 rfl) ls st h
theorem lb393_20 {E : mE} (ls : mL) (st : List Value) (h : mH) : mV E gP (393, 20, ls, st, h) = mX E gP (mV E gP) 393 b393_20 ls st h := lab_row (mcode_row grw393 rfl) ls st h
theorem en393 {E : mE} (v0 v1 : Value) (h : mH) : mRun E gP 393 [v0, v1] h = mX E gP (mV E gP) 393 b393_0 [some v0, some v1] [] h := ent_row (mcode_row grw393 rfl) gm393 _ h
theorem lb394_0 {E : mE} (ls : mL) (st : List Value) (h : mH) : mV E gP (394, 0, ls, st, h) = mX E gP (mV E gP) 394 b394_0 ls st h := lab_row (mcode_row grw394 rfl) ls st h
theorem lb394_20 {E : mE} (ls : mL) (st : List Value) (h : mH) : mV E gP (394, 20, ls, st, h) = mX E gP (mV E gP) 394 b394_20 ls st h := lab_row (mcode_row grw394 rfl) ls st h
theorem lb394_35 {E : mE} (ls : mL) (st : List Value) (h : mH) : mV E gP (394, 35, ls, st, h) = mX E gP (mV E gP) 394 b394_35 ls st h := lab_row (mcode_row grw394 rfl) ls st h
theorem en394 {E : mE} (v0 v1 : Value) (h : mH) : mRun E gP 394 [v0, v1] h = mX E gP (mV E gP) 394 b394_0 [some v0, some v1] [] h := ent_row (mcode_row grw394 rfl) gm394 _ h
theorem lb395_0 {E : mE} (ls : mL) (st : List Value) (h : mH) : mV E gP (395, 0, ls, st, h) = mX E gP (mV E gP) 395 b395_0 ls st h := lab_row (mcode_row grw395 rfl) ls st h
theorem lb395_37 {E : mE} (ls : mL) (st : List Value) (h : mH) : mV E gP (395, 37, ls, st, h) = mX E gP (mV E gP) 395 b395_37 ls st h := lab_row (mcode_row grw395 rfl) ls st h
theorem en395 {E : mE} (v0 v1 : Value) (h : mH) : mRun E gP 395 [v0, v1] h = mX E gP (mV E gP) 395 b395_0 [some v0, some v1] [] h := ent_row (mcode_row grw395 rfl) gm395 _ h
