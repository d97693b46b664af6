/-! MC: the tables words by their places (rows of claim/names) -/
set_option maxRecDepth 100000
theorem q152 : (Jvm.Cond.initialized "java/util/AbstractCollection") ∈ lw_all := lw_g (lw_at lw_m1 2 rfl) rfl
theorem q214 : (Jvm.Cond.instanceMethod ({ cls := "java/util/AbstractCollection", name := "<init>", desc := "()V" } : Jvm.MethodName)) ∈ lw_all := lw_g (lw_at lw_m1 64 rfl) rfl
theorem q215 : (Jvm.Cond.code ({ cls := "java/util/AbstractCollection", name := "<init>", desc := "()V" } : Jvm.MethodName) prog_45_method_1_code (1 : Nat) (Option.none : Option Jvm.ClassFile.FieldType)) ∈ lw_all := lw_g (lw_at lw_m1 65 rfl) rfl
theorem q216 : (Jvm.Cond.methodLink "java/util/AbstractCollection" (1 : Nat) ({ cls := "java/lang/Object", name := "<init>", desc := "()V" } : Jvm.MethodName)) ∈ lw_all := lw_g (lw_at lw_m1 66 rfl) rfl
theorem q153 : (Jvm.Cond.initialized "java/util/ArrayDeque") ∈ lw_all := lw_g (lw_at lw_m1 3 rfl) rfl
theorem q209 : (Jvm.Cond.instantiable "java/util/ArrayDeque" (3 : Nat)) ∈ lw_all := lw_g (lw_at lw_m1 59 rfl) rfl
theorem q211 : (Jvm.Cond.instanceMethod ({ cls := "java/util/ArrayDeque", name := "<init>", desc := "()V" } : Jvm.MethodName)) ∈ lw_all := lw_g (lw_at lw_m1 61 rfl) rfl
theorem q212 : (Jvm.Cond.code ({ cls := "java/util/ArrayDeque", name := "<init>", desc := "()V" } : Jvm.MethodName) prog_48_method_3_code (1 : Nat) (Option.none : Option Jvm.ClassFile.FieldType)) ∈ lw_all := lw_g (lw_at lw_m1 62 rfl) rfl
theorem q213 : (Jvm.Cond.methodLink "java/util/ArrayDeque" (42 : Nat) ({ cls := "java/util/AbstractCollection", name := "<init>", desc := "()V" } : Jvm.MethodName)) ∈ lw_all := lw_g (lw_at lw_m1 63 rfl) rfl
theorem q217 : (Jvm.Cond.classLink "java/util/ArrayDeque" (47 : Nat) "java/lang/Object") ∈ lw_all := lw_g (lw_at lw_m1 67 rfl) rfl
theorem q219 : (Jvm.Cond.fieldLink "java/util/ArrayDeque" (3 : Nat) "java/util/ArrayDeque" "elements" "[Ljava/lang/Object;") ∈ lw_all := lw_g (lw_at lw_m1 69 rfl) rfl
theorem q220 : (Jvm.Cond.fieldLink "java/util/ArrayDeque" (24 : Nat) "java/util/ArrayDeque" "head" "I") ∈ lw_all := lw_g (lw_at lw_m1 70 rfl) rfl
theorem q221 : (Jvm.Cond.fieldLink "java/util/ArrayDeque" (20 : Nat) "java/util/ArrayDeque" "tail" "I") ∈ lw_all := lw_g (lw_at lw_m1 71 rfl) rfl
theorem q222 : (Jvm.Cond.lays "java/util/ArrayDeque" "java/util/ArrayDeque" "elements" "[Ljava/lang/Object;") ∈ lw_all := lw_g (lw_at lw_m1 72 rfl) rfl
theorem q223 : (Jvm.Cond.soleField "java/util/ArrayDeque" "elements") ∈ lw_all := lw_g (lw_at lw_m1 73 rfl) rfl
theorem q224 : (Jvm.Cond.lays "java/util/ArrayDeque" "java/util/ArrayDeque" "head" "I") ∈ lw_all := lw_g (lw_at lw_m1 74 rfl) rfl
theorem q225 : (Jvm.Cond.soleField "java/util/ArrayDeque" "head") ∈ lw_all := lw_g (lw_at lw_m1 75 rfl) rfl
theorem q226 : (Jvm.Cond.lays "java/util/ArrayDeque" "java/util/ArrayDeque" "tail" "I") ∈ lw_all := lw_g (lw_at lw_m1 76 rfl) rfl
theorem q227 : (Jvm.Cond.soleField "java/util/ArrayDeque" "tail") ∈ lw_all := lw_g (lw_at lw_m1 77 rfl) rfl
theorem q228 : (Jvm.Cond.superclass "java/util/ArrayDeque" "java/util/AbstractCollection") ∈ lw_all := lw_g (lw_at lw_m1 78 rfl) rfl
theorem q749 : (Jvm.Cond.selects "java/util/ArrayDeque" ({ cls := "java/lang/Object", name := "getClass", desc := "()Ljava/lang/Class;" } : Jvm.MethodName) ({ cls := "java/lang/Object", name := "getClass", desc := "()Ljava/lang/Class;" } : Jvm.MethodName)) ∈ lw_all := lw_g (lw_at lw_m3 119 rfl) rfl
theorem q1753 : (Jvm.Cond.instanceMethod ({ cls := "java/util/ArrayDeque", name := "clear", desc := "()V" } : Jvm.MethodName)) ∈ lw_all := lw_g (lw_at lw_m7 163 rfl) rfl
theorem q1754 : (Jvm.Cond.selects "java/util/ArrayDeque" ({ cls := "java/util/ArrayDeque", name := "clear", desc := "()V" } : Jvm.MethodName) ({ cls := "java/util/ArrayDeque", name := "clear", desc := "()V" } : Jvm.MethodName)) ∈ lw_all := lw_g (lw_at lw_m7 164 rfl) rfl
theorem q1755 : (Jvm.Cond.code ({ cls := "java/util/ArrayDeque", name := "clear", desc := "()V" } : Jvm.MethodName) prog_48_method_53_code (1 : Nat) (Option.none : Option Jvm.ClassFile.FieldType)) ∈ lw_all := lw_g (lw_at lw_m7 165 rfl) rfl
theorem q1756 : (Jvm.Cond.methodLink "java/util/ArrayDeque" (181 : Nat) ({ cls := "java/util/ArrayDeque", name := "circularClear", desc := "([Ljava/lang/Object;II)V" } : Jvm.MethodName)) ∈ lw_all := lw_g (lw_at lw_m7 166 rfl) rfl
theorem q1757 : (Jvm.Cond.static ({ cls := "java/util/ArrayDeque", name := "circularClear", desc := "([Ljava/lang/Object;II)V" } : Jvm.MethodName)) ∈ lw_all := lw_g (lw_at lw_m7 167 rfl) rfl
theorem q1758 : (Jvm.Cond.code ({ cls := "java/util/ArrayDeque", name := "circularClear", desc := "([Ljava/lang/Object;II)V" } : Jvm.MethodName) prog_48_method_54_code (4 : Nat) (Option.none : Option Jvm.ClassFile.FieldType)) ∈ lw_all := lw_g (lw_at lw_m7 168 rfl) rfl
theorem q1779 : (Jvm.Cond.instanceMethod ({ cls := "java/util/ArrayDeque", name := "size", desc := "()I" } : Jvm.MethodName)) ∈ lw_all := lw_g (lw_at lw_m7 189 rfl) rfl
theorem q1780 : (Jvm.Cond.selects "java/util/ArrayDeque" ({ cls := "java/util/ArrayDeque", name := "size", desc := "()I" } : Jvm.MethodName) ({ cls := "java/util/ArrayDeque", name := "size", desc := "()I" } : Jvm.MethodName)) ∈ lw_all := lw_g (lw_at lw_m7 190 rfl) rfl
theorem q1781 : (Jvm.Cond.code ({ cls := "java/util/ArrayDeque", name := "size", desc := "()I" } : Jvm.MethodName) prog_48_method_37_code (1 : Nat) (Option.some Jvm.ClassFile.FieldType.int)) ∈ lw_all := lw_g (lw_at lw_m7 191 rfl) rfl
theorem q1782 : (Jvm.Cond.methodLink "java/util/ArrayDeque" (127 : Nat) ({ cls := "java/util/ArrayDeque", name := "sub", desc := "(III)I" } : Jvm.MethodName)) ∈ lw_all := lw_g (lw_at lw_m7 192 rfl) rfl
theorem q1783 : (Jvm.Cond.static ({ cls := "java/util/ArrayDeque", name := "sub", desc := "(III)I" } : Jvm.MethodName)) ∈ lw_all := lw_g (lw_at lw_m7 193 rfl) rfl
theorem q1784 : (Jvm.Cond.code ({ cls := "java/util/ArrayDeque", name := "sub", desc := "(III)I" } : Jvm.MethodName) prog_48_method_9_code (3 : Nat) (Option.some Jvm.ClassFile.FieldType.int)) ∈ lw_all := lw_g (lw_at lw_m7 194 rfl) rfl
theorem q1817 : (Jvm.Cond.instanceMethod ({ cls := "java/util/ArrayDeque", name := "addLast", desc := "(Ljava/lang/Object;)V" } : Jvm.MethodName)) ∈ lw_all := lw_g (lw_at lw_m7 227 rfl) rfl
theorem q1818 : (Jvm.Cond.selects "java/util/ArrayDeque" ({ cls := "java/util/ArrayDeque", name := "addLast", desc := "(Ljava/lang/Object;)V" } : Jvm.MethodName) ({ cls := "java/util/ArrayDeque", name := "addLast", desc := "(Ljava/lang/Object;)V" } : Jvm.MethodName)) ∈ lw_all := lw_g (lw_at lw_m7 228 rfl) rfl
theorem q1819 : (Jvm.Cond.code ({ cls := "java/util/ArrayDeque", name := "addLast", desc := "(Ljava/lang/Object;)V" } : Jvm.MethodName) prog_48_method_13_code (3 : Nat) (Option.none : Option Jvm.ClassFile.FieldType)) ∈ lw_all := lw_g (lw_at lw_m7 229 rfl) rfl
theorem q1820 : (Jvm.Cond.methodLink "java/util/ArrayDeque" (74 : Nat) ({ cls := "java/util/ArrayDeque", name := "inc", desc := "(II)I" } : Jvm.MethodName)) ∈ lw_all := lw_g (lw_at lw_m7 230 rfl) rfl
theorem q1821 : (Jvm.Cond.static ({ cls := "java/util/ArrayDeque", name := "inc", desc := "(II)I" } : Jvm.MethodName)) ∈ lw_all := lw_g (lw_at lw_m7 231 rfl) rfl
theorem q1822 : (Jvm.Cond.code ({ cls := "java/util/ArrayDeque", name := "inc", desc := "(II)I" } : Jvm.MethodName) prog_48_method_6_code (2 : Nat) (Option.some Jvm.ClassFile.FieldType.int)) ∈ lw_all := lw_g (lw_at lw_m7 232 rfl) rfl
theorem q1823 : (Jvm.Cond.methodLink "java/util/ArrayDeque" (71 : Nat) ({ cls := "java/util/ArrayDeque", name := "grow", desc := "(I)V" } : Jvm.MethodName)) ∈ lw_all := lw_g (lw_at lw_m7 233 rfl) rfl
theorem q1824 : (Jvm.Cond.privateMethod ({ cls := "java/util/ArrayDeque", name := "grow", desc := "(I)V" } : Jvm.MethodName)) ∈ lw_tbl := lw_at lw_m7 234 rfl
theorem q1825 : (Jvm.Cond.instanceMethod ({ cls := "java/util/ArrayDeque", name := "grow", desc := "(I)V" } : Jvm.MethodName)) ∈ lw_all := lw_g (lw_at lw_m7 235 rfl) rfl
theorem q1826 : (Jvm.Cond.code ({ cls := "java/util/ArrayDeque", name := "grow", desc := "(I)V" } : Jvm.MethodName) prog_48_method_1_code (9 : Nat) (Option.none : Option Jvm.ClassFile.FieldType)) ∈ lw_all := lw_g (lw_at lw_m7 236 rfl) rfl
theorem q1827 : (Jvm.Cond.constant "java/util/ArrayDeque" (9 : Nat) (2147483639 : Int32)) ∈ lw_all := lw_g (lw_at lw_m7 237 rfl) rfl
theorem q1828 : (Jvm.Cond.methodLink "java/util/ArrayDeque" (10 : Nat) ({ cls := "java/util/ArrayDeque", name := "newCapacity", desc := "(II)I" } : Jvm.MethodName)) ∈ lw_all := lw_g (lw_at lw_m7 238 rfl) rfl
theorem q1829 : (Jvm.Cond.privateMethod ({ cls := "java/util/ArrayDeque", name := "newCapacity", desc := "(II)I" } : Jvm.MethodName)) ∈ lw_tbl := lw_at lw_m7 239 rfl
theorem q1830 : (Jvm.Cond.instanceMethod ({ cls := "java/util/ArrayDeque", name := "newCapacity", desc := "(II)I" } : Jvm.MethodName)) ∈ lw_all := lw_g (lw_at lw_m8 0 rfl) rfl
theorem q1831 : (Jvm.Cond.code ({ cls := "java/util/ArrayDeque", name := "newCapacity", desc := "(II)I" } : Jvm.MethodName) prog_48_method_2_code (5 : Nat) (Option.some Jvm.ClassFile.FieldType.int)) ∈ lw_all := lw_g (lw_at lw_m8 1 rfl) rfl
theorem q1832 : (Jvm.Cond.classLink "java/util/ArrayDeque" (33 : Nat) "java/lang/IllegalStateException") ∈ lw_all := lw_g (lw_at lw_m8 2 rfl) rfl
theorem q1841 : (Jvm.Cond.stringRef "java/util/ArrayDeque" (35 : Nat) "Sorry, deque too big") ∈ lw_tbl := lw_at lw_m8 11 rfl
theorem q1842 : (Jvm.Cond.methodLink "java/util/ArrayDeque" (37 : Nat) ({ cls := "java/lang/IllegalStateException", name := "<init>", desc := "(Ljava/lang/String;)V" } : Jvm.MethodName)) ∈ lw_all := lw_g (lw_at lw_m8 12 rfl) rfl
theorem q1848 : (Jvm.Cond.constant "java/util/ArrayDeque" (41 : Nat) (2147483647 : Int32)) ∈ lw_all := lw_g (lw_at lw_m8 18 rfl) rfl
theorem q1849 : (Jvm.Cond.methodLink "java/util/ArrayDeque" (14 : Nat) ({ cls := "java/util/Arrays", name := "copyOf", desc := "([Ljava/lang/Object;I)[Ljava/lang/Object;" } : Jvm.MethodName)) ∈ lw_all := lw_g (lw_at lw_m8 19 rfl) rfl
theorem q1850 : (Jvm.Cond.methodLink "java/util/ArrayDeque" (27 : Nat) ({ cls := "java/lang/System", name := "arraycopy", desc := "(Ljava/lang/Object;ILjava/lang/Object;II)V" } : Jvm.MethodName)) ∈ lw_all := lw_g (lw_at lw_m8 20 rfl) rfl
theorem q1852 : (Jvm.Cond.instanceMethod ({ cls := "java/util/ArrayDeque", name := "isEmpty", desc := "()Z" } : Jvm.MethodName)) ∈ lw_all := lw_g (lw_at lw_m8 22 rfl) rfl
theorem q1853 : (Jvm.Cond.selects "java/util/ArrayDeque" ({ cls := "java/util/ArrayDeque", name := "isEmpty", desc := "()Z" } : Jvm.MethodName) ({ cls := "java/util/ArrayDeque", name := "isEmpty", desc := "()Z" } : Jvm.MethodName)) ∈ lw_all := lw_g (lw_at lw_m8 23 rfl) rfl
theorem q1854 : (Jvm.Cond.code ({ cls := "java/util/ArrayDeque", name := "isEmpty", desc := "()Z" } : Jvm.MethodName) prog_48_method_38_code (1 : Nat) (Option.some Jvm.ClassFile.FieldType.boolean)) ∈ lw_all := lw_g (lw_at lw_m8 24 rfl) rfl
theorem q1856 : (Jvm.Cond.instanceMethod ({ cls := "java/util/ArrayDeque", name := "pollFirst", desc := "()Ljava/lang/Object;" } : Jvm.MethodName)) ∈ lw_all := lw_g (lw_at lw_m8 26 rfl) rfl
theorem q1857 : (Jvm.Cond.selects "java/util/ArrayDeque" ({ cls := "java/util/ArrayDeque", name := "pollFirst", desc := "()Ljava/lang/Object;" } : Jvm.MethodName) ({ cls := "java/util/ArrayDeque", name := "pollFirst", desc := "()Ljava/lang/Object;" } : Jvm.MethodName)) ∈ lw_all := lw_g (lw_at lw_m8 27 rfl) rfl
theorem q1858 : (Jvm.Cond.code ({ cls := "java/util/ArrayDeque", name := "pollFirst", desc := "()Ljava/lang/Object;" } : Jvm.MethodName) prog_48_method_20_code (4 : Nat) (Option.some (Jvm.ClassFile.FieldType.object "java/lang/Object"))) ∈ lw_all := lw_g (lw_at lw_m8 28 rfl) rfl
theorem q1859 : (Jvm.Cond.methodLink "java/util/ArrayDeque" (103 : Nat) ({ cls := "java/util/ArrayDeque", name := "elementAt", desc := "([Ljava/lang/Object;I)Ljava/lang/Object;" } : Jvm.MethodName)) ∈ lw_all := lw_g (lw_at lw_m8 29 rfl) rfl
theorem q1860 : (Jvm.Cond.static ({ cls := "java/util/ArrayDeque", name := "elementAt", desc := "([Ljava/lang/Object;I)Ljava/lang/Object;" } : Jvm.MethodName)) ∈ lw_all := lw_g (lw_at lw_m8 30 rfl) rfl
theorem q1861 : (Jvm.Cond.code ({ cls := "java/util/ArrayDeque", name := "elementAt", desc := "([Ljava/lang/Object;I)Ljava/lang/Object;" } : Jvm.MethodName) prog_48_method_10_code (2 : Nat) (Option.some (Jvm.ClassFile.FieldType.object "java/lang/Object"))) ∈ lw_all := lw_g (lw_at lw_m8 31 rfl) rfl
theorem q2093 : (Jvm.Cond.instanceMethod ({ cls := "java/util/ArrayDeque", name := "pollLast", desc := "()Ljava/lang/Object;" } : Jvm.MethodName)) ∈ lw_all := lw_g (lw_at lw_m9 23 rfl) rfl
theorem q2094 : (Jvm.Cond.selects "java/util/ArrayDeque" ({ cls := "java/util/ArrayDeque", name := "pollLast", desc := "()Ljava/lang/Object;" } : Jvm.MethodName) ({ cls := "java/util/ArrayDeque", name := "pollLast", desc := "()Ljava/lang/Object;" } : Jvm.MethodName)) ∈ lw_all := lw_g (lw_at lw_m9 24 rfl) rfl
theorem q2095 : (Jvm.Cond.code ({ cls := "java/util/ArrayDeque", name := "pollLast", desc := "()Ljava/lang/Object;" } : Jvm.MethodName) prog_48_method_21_code (4 : Nat) (Option.some (Jvm.ClassFile.FieldType.object "java/lang/Object"))) ∈ lw_all := lw_g (lw_at lw_m9 25 rfl) rfl
theorem q2096 : (Jvm.Cond.methodLink "java/util/ArrayDeque" (68 : Nat) ({ cls := "java/util/ArrayDeque", name := "dec", desc := "(II)I" } : Jvm.MethodName)) ∈ lw_all := lw_g (lw_at lw_m9 26 rfl) rfl
theorem q2097 : (Jvm.Cond.static ({ cls := "java/util/ArrayDeque", name := "dec", desc := "(II)I" } : Jvm.MethodName)) ∈ lw_all := lw_g (lw_at lw_m9 27 rfl) rfl
theorem q2098 : (Jvm.Cond.code ({ cls := "java/util/ArrayDeque", name := "dec", desc := "(II)I" } : Jvm.MethodName) prog_48_method_7_code (2 : Nat) (Option.some Jvm.ClassFile.FieldType.int)) ∈ lw_all := lw_g (lw_at lw_m9 28 rfl) rfl
theorem q3173 : (Jvm.Cond.castable "java/util/ArrayDeque" "java/lang/Object") ∈ lw_tbl := lw_at lw_m13 143 rfl
theorem q164 : (Jvm.Cond.initialized "java/lang/AbstractStringBuilder") ∈ lw_all := lw_g (lw_at lw_m1 14 rfl) rfl
theorem q356 : (Jvm.Cond.instanceMethod ({ cls := "java/lang/AbstractStringBuilder", name := "<init>", desc := "(I)V" } : Jvm.MethodName)) ∈ lw_all := lw_g (lw_at lw_m1 206 rfl) rfl
theorem q357 : (Jvm.Cond.code ({ cls := "java/lang/AbstractStringBuilder", name := "<init>", desc := "(I)V" } : Jvm.MethodName) prog_18_method_2_code (2 : Nat) (Option.none : Option Jvm.ClassFile.FieldType)) ∈ lw_all := lw_g (lw_at lw_m1 207 rfl) rfl
theorem q358 : (Jvm.Cond.methodLink "java/lang/AbstractStringBuilder" (3 : Nat) ({ cls := "java/lang/Object", name := "<init>", desc := "()V" } : Jvm.MethodName)) ∈ lw_all := lw_g (lw_at lw_m1 208 rfl) rfl
theorem q359 : (Jvm.Cond.fieldLink "java/lang/AbstractStringBuilder" (18 : Nat) "java/lang/String" "COMPACT_STRINGS" "Z") ∈ lw_all := lw_g (lw_at lw_m1 209 rfl) rfl
theorem q361 : (Jvm.Cond.methodLink "java/lang/AbstractStringBuilder" (26 : Nat) ({ cls := "java/lang/StringUTF16", name := "newBytesFor", desc := "(I)[B" } : Jvm.MethodName)) ∈ lw_all := lw_g (lw_at lw_m1 211 rfl) rfl
theorem q368 : (Jvm.Cond.fieldLink "java/lang/AbstractStringBuilder" (15 : Nat) "java/lang/AbstractStringBuilder" "value" "[B") ∈ lw_all := lw_g (lw_at lw_m1 218 rfl) rfl
theorem q369 : (Jvm.Cond.fieldLink "java/lang/AbstractStringBuilder" (22 : Nat) "java/lang/AbstractStringBuilder" "coder" "B") ∈ lw_all := lw_g (lw_at lw_m1 219 rfl) rfl
theorem q370 : (Jvm.Cond.fieldLink "java/lang/AbstractStringBuilder" (73 : Nat) "java/lang/AbstractStringBuilder" "maybeLatin1" "Z") ∈ lw_all := lw_g (lw_at lw_m1 220 rfl) rfl
theorem q372 : (Jvm.Cond.fieldLink "java/lang/AbstractStringBuilder" (79 : Nat) "java/lang/AbstractStringBuilder" "count" "I") ∈ lw_all := lw_g (lw_at lw_m1 222 rfl) rfl
theorem q374 : (Jvm.Cond.soleField "java/lang/AbstractStringBuilder" "value") ∈ lw_all := lw_g (lw_at lw_m1 224 rfl) rfl
theorem q376 : (Jvm.Cond.soleField "java/lang/AbstractStringBuilder" "coder") ∈ lw_all := lw_g (lw_at lw_m1 226 rfl) rfl
theorem q378 : (Jvm.Cond.soleField "java/lang/AbstractStringBuilder" "maybeLatin1") ∈ lw_all := lw_g (lw_at lw_m1 228 rfl) rfl
theorem q380 : (Jvm.Cond.soleField "java/lang/AbstractStringBuilder" "count") ∈ lw_all := lw_g (lw_at lw_m1 230 rfl) rfl
theorem q389 : (Jvm.Cond.instanceMethod ({ cls := "java/lang/AbstractStringBuilder", name := "append", desc := "(Ljava/lang/String;)Ljava/lang/AbstractStringBuilder;" } : Jvm.MethodName)) ∈ lw_all := lw_g (lw_at lw_m1 239 rfl) rfl
theorem q390 : (Jvm.Cond.code ({ cls := "java/lang/AbstractStringBuilder", name := "append", desc := "(Ljava/lang/String;)Ljava/lang/AbstractStringBuilder;" } : Jvm.MethodName) prog_18_method_22_code (3 : Nat) (Option.some (Jvm.ClassFile.FieldType.object "java/lang/AbstractStringBuilder"))) ∈ lw_all := lw_g (lw_at lw_m2 0 rfl) rfl
theorem q391 : (Jvm.Cond.methodLink "java/lang/AbstractStringBuilder" (204 : Nat) ({ cls := "java/lang/AbstractStringBuilder", name := "appendNull", desc := "()Ljava/lang/AbstractStringBuilder;" } : Jvm.MethodName)) ∈ lw_all := lw_g (lw_at lw_m2 1 rfl) rfl
theorem q392 : (Jvm.Cond.privateMethod ({ cls := "java/lang/AbstractStringBuilder", name := "appendNull", desc := "()Ljava/lang/AbstractStringBuilder;" } : Jvm.MethodName)) ∈ lw_tbl := lw_at lw_m2 2 rfl
theorem q393 : (Jvm.Cond.instanceMethod ({ cls := "java/lang/AbstractStringBuilder", name := "appendNull", desc := "()Ljava/lang/AbstractStringBuilder;" } : Jvm.MethodName)) ∈ lw_all := lw_g (lw_at lw_m2 3 rfl) rfl
theorem q394 : (Jvm.Cond.code ({ cls := "java/lang/AbstractStringBuilder", name := "appendNull", desc := "()Ljava/lang/AbstractStringBuilder;" } : Jvm.MethodName) prog_18_method_26_code (3 : Nat) (Option.some (Jvm.ClassFile.FieldType.object "java/lang/AbstractStringBuilder"))) ∈ lw_all := lw_g (lw_at lw_m2 4 rfl) rfl
theorem q395 : (Jvm.Cond.methodLink "java/lang/AbstractStringBuilder" (100 : Nat) ({ cls := "java/lang/AbstractStringBuilder", name := "ensureCapacityInternal", desc := "(I)V" } : Jvm.MethodName)) ∈ lw_all := lw_g (lw_at lw_m2 5 rfl) rfl
theorem q396 : (Jvm.Cond.privateMethod ({ cls := "java/lang/AbstractStringBuilder", name := "ensureCapacityInternal", desc := "(I)V" } : Jvm.MethodName)) ∈ lw_tbl := lw_at lw_m2 6 rfl
theorem q397 : (Jvm.Cond.instanceMethod ({ cls := "java/lang/AbstractStringBuilder", name := "ensureCapacityInternal", desc := "(I)V" } : Jvm.MethodName)) ∈ lw_all := lw_g (lw_at lw_m2 7 rfl) rfl
theorem q398 : (Jvm.Cond.code ({ cls := "java/lang/AbstractStringBuilder", name := "ensureCapacityInternal", desc := "(I)V" } : Jvm.MethodName) prog_18_method_9_code (3 : Nat) (Option.none : Option Jvm.ClassFile.FieldType)) ∈ lw_all := lw_g (lw_at lw_m2 8 rfl) rfl
theorem q399 : (Jvm.Cond.methodLink "java/lang/AbstractStringBuilder" (104 : Nat) ({ cls := "java/lang/AbstractStringBuilder", name := "newCapacity", desc := "(I)I" } : Jvm.MethodName)) ∈ lw_all := lw_g (lw_at lw_m2 9 rfl) rfl
theorem q400 : (Jvm.Cond.privateMethod ({ cls := "java/lang/AbstractStringBuilder", name := "newCapacity", desc := "(I)I" } : Jvm.MethodName)) ∈ lw_tbl := lw_at lw_m2 10 rfl
theorem q401 : (Jvm.Cond.instanceMethod ({ cls := "java/lang/AbstractStringBuilder", name := "newCapacity", desc := "(I)I" } : Jvm.MethodName)) ∈ lw_all := lw_g (lw_at lw_m2 11 rfl) rfl
theorem q402 : (Jvm.Cond.code ({ cls := "java/lang/AbstractStringBuilder", name := "newCapacity", desc := "(I)I" } : Jvm.MethodName) prog_18_method_10_code (6 : Nat) (Option.some Jvm.ClassFile.FieldType.int)) ∈ lw_all := lw_g (lw_at lw_m2 12 rfl) rfl
theorem q403 : (Jvm.Cond.methodLink "java/lang/AbstractStringBuilder" (114 : Nat) ({ cls := "jdk/internal/util/ArraysSupport", name := "newLength", desc := "(III)I" } : Jvm.MethodName)) ∈ lw_all := lw_g (lw_at lw_m2 13 rfl) rfl
theorem q413 : (Jvm.Cond.constant "java/lang/AbstractStringBuilder" (39 : Nat) (2147483647 : Int32)) ∈ lw_all := lw_g (lw_at lw_m2 23 rfl) rfl
theorem q414 : (Jvm.Cond.methodLink "java/lang/AbstractStringBuilder" (108 : Nat) ({ cls := "java/util/Arrays", name := "copyOf", desc := "([BI)[B" } : Jvm.MethodName)) ∈ lw_all := lw_g (lw_at lw_m2 24 rfl) rfl
theorem q430 : (Jvm.Cond.methodLink "java/lang/AbstractStringBuilder" (83 : Nat) ({ cls := "java/lang/AbstractStringBuilder", name := "isLatin1", desc := "()Z" } : Jvm.MethodName)) ∈ lw_all := lw_g (lw_at lw_m2 40 rfl) rfl
theorem q431 : (Jvm.Cond.instanceMethod ({ cls := "java/lang/AbstractStringBuilder", name := "isLatin1", desc := "()Z" } : Jvm.MethodName)) ∈ lw_all := lw_g (lw_at lw_m2 41 rfl) rfl
theorem q432 : (Jvm.Cond.sameMethod "java/lang/AbstractStringBuilder" "java/lang/AbstractStringBuilder" "isLatin1" "()Z") ∈ lw_all := lw_g (lw_at lw_m2 42 rfl) rfl
theorem q434 : (Jvm.Cond.code ({ cls := "java/lang/AbstractStringBuilder", name := "isLatin1", desc := "()Z" } : Jvm.MethodName) prog_18_method_68_code (1 : Nat) (Option.some Jvm.ClassFile.FieldType.boolean)) ∈ lw_all := lw_g (lw_at lw_m2 44 rfl) rfl
theorem q435 : (Jvm.Cond.methodLink "java/lang/AbstractStringBuilder" (226 : Nat) ({ cls := "java/lang/StringUTF16", name := "putCharsAt", desc := "([BICCCC)I" } : Jvm.MethodName)) ∈ lw_all := lw_g (lw_at lw_m2 45 rfl) rfl
theorem q461 : (Jvm.Cond.methodLink "java/lang/AbstractStringBuilder" (32 : Nat) ({ cls := "java/lang/String", name := "length", desc := "()I" } : Jvm.MethodName)) ∈ lw_all := lw_g (lw_at lw_m2 71 rfl) rfl
theorem q470 : (Jvm.Cond.methodLink "java/lang/AbstractStringBuilder" (208 : Nat) ({ cls := "java/lang/AbstractStringBuilder", name := "putStringAt", desc := "(ILjava/lang/String;)V" } : Jvm.MethodName)) ∈ lw_all := lw_g (lw_at lw_m2 80 rfl) rfl
theorem q471 : (Jvm.Cond.privateMethod ({ cls := "java/lang/AbstractStringBuilder", name := "putStringAt", desc := "(ILjava/lang/String;)V" } : Jvm.MethodName)) ∈ lw_tbl := lw_at lw_m2 81 rfl
theorem q472 : (Jvm.Cond.instanceMethod ({ cls := "java/lang/AbstractStringBuilder", name := "putStringAt", desc := "(ILjava/lang/String;)V" } : Jvm.MethodName)) ∈ lw_all := lw_g (lw_at lw_m2 82 rfl) rfl
theorem q473 : (Jvm.Cond.code ({ cls := "java/lang/AbstractStringBuilder", name := "putStringAt", desc := "(ILjava/lang/String;)V" } : Jvm.MethodName) prog_18_method_73_code (3 : Nat) (Option.none : Option Jvm.ClassFile.FieldType)) ∈ lw_all := lw_g (lw_at lw_m2 83 rfl) rfl
theorem q474 : (Jvm.Cond.methodLink "java/lang/AbstractStringBuilder" (397 : Nat) ({ cls := "java/lang/AbstractStringBuilder", name := "inflateIfNeededFor", desc := "(Ljava/lang/String;)V" } : Jvm.MethodName)) ∈ lw_all := lw_g (lw_at lw_m2 84 rfl) rfl
theorem q475 : (Jvm.Cond.privateMethod ({ cls := "java/lang/AbstractStringBuilder", name := "inflateIfNeededFor", desc := "(Ljava/lang/String;)V" } : Jvm.MethodName)) ∈ lw_tbl := lw_at lw_m2 85 rfl
theorem q476 : (Jvm.Cond.instanceMethod ({ cls := "java/lang/AbstractStringBuilder", name := "inflateIfNeededFor", desc := "(Ljava/lang/String;)V" } : Jvm.MethodName)) ∈ lw_all := lw_g (lw_at lw_m2 86 rfl) rfl
theorem q477 : (Jvm.Cond.code ({ cls := "java/lang/AbstractStringBuilder", name := "inflateIfNeededFor", desc := "(Ljava/lang/String;)V" } : Jvm.MethodName) prog_18_method_71_code (2 : Nat) (Option.none : Option Jvm.ClassFile.FieldType)) ∈ lw_all := lw_g (lw_at lw_m2 87 rfl) rfl
theorem q478 : (Jvm.Cond.methodLink "java/lang/AbstractStringBuilder" (40 : Nat) ({ cls := "java/lang/String", name := "coder", desc := "()B" } : Jvm.MethodName)) ∈ lw_all := lw_g (lw_at lw_m2 88 rfl) rfl
theorem q479 : (Jvm.Cond.methodLink "java/lang/AbstractStringBuilder" (195 : Nat) ({ cls := "java/lang/AbstractStringBuilder", name := "inflate", desc := "()V" } : Jvm.MethodName)) ∈ lw_all := lw_g (lw_at lw_m2 89 rfl) rfl
theorem q480 : (Jvm.Cond.privateMethod ({ cls := "java/lang/AbstractStringBuilder", name := "inflate", desc := "()V" } : Jvm.MethodName)) ∈ lw_tbl := lw_at lw_m2 90 rfl
theorem q481 : (Jvm.Cond.instanceMethod ({ cls := "java/lang/AbstractStringBuilder", name := "inflate", desc := "()V" } : Jvm.MethodName)) ∈ lw_all := lw_g (lw_at lw_m2 91 rfl) rfl
theorem q482 : (Jvm.Cond.code ({ cls := "java/lang/AbstractStringBuilder", name := "inflate", desc := "()V" } : Jvm.MethodName) prog_18_method_11_code (2 : Nat) (Option.none : Option Jvm.ClassFile.FieldType)) ∈ lw_all := lw_g (lw_at lw_m2 92 rfl) rfl
theorem q483 : (Jvm.Cond.methodLink "java/lang/AbstractStringBuilder" (125 : Nat) ({ cls := "java/lang/StringLatin1", name := "inflate", desc := "([BI[BII)V" } : Jvm.MethodName)) ∈ lw_all := lw_g (lw_at lw_m2 93 rfl) rfl
theorem q498 : (Jvm.Cond.methodLink "java/lang/AbstractStringBuilder" (399 : Nat) ({ cls := "java/lang/String", name := "getBytes", desc := "([BIB)V" } : Jvm.MethodName)) ∈ lw_all := lw_g (lw_at lw_m2 108 rfl) rfl
theorem q509 : (Jvm.Cond.instanceMethod ({ cls := "java/lang/AbstractStringBuilder", name := "append", desc := "(I)Ljava/lang/AbstractStringBuilder;" } : Jvm.MethodName)) ∈ lw_all := lw_g (lw_at lw_m2 119 rfl) rfl
theorem q510 : (Jvm.Cond.code ({ cls := "java/lang/AbstractStringBuilder", name := "append", desc := "(I)Ljava/lang/AbstractStringBuilder;" } : Jvm.MethodName) prog_18_method_32_code (4 : Nat) (Option.some (Jvm.ClassFile.FieldType.object "java/lang/AbstractStringBuilder"))) ∈ lw_all := lw_g (lw_at lw_m2 120 rfl) rfl
theorem q511 : (Jvm.Cond.methodLink "java/lang/AbstractStringBuilder" (245 : Nat) ({ cls := "java/lang/Integer", name := "stringSize", desc := "(I)I" } : Jvm.MethodName)) ∈ lw_all := lw_g (lw_at lw_m2 121 rfl) rfl
theorem q514 : (Jvm.Cond.methodLink "java/lang/AbstractStringBuilder" (248 : Nat) ({ cls := "java/lang/Integer", name := "getChars", desc := "(II[B)I" } : Jvm.MethodName)) ∈ lw_all := lw_g (lw_at lw_m2 124 rfl) rfl
theorem q521 : (Jvm.Cond.methodLink "java/lang/AbstractStringBuilder" (251 : Nat) ({ cls := "java/lang/StringUTF16", name := "getChars", desc := "(III[B)I" } : Jvm.MethodName)) ∈ lw_all := lw_g (lw_at lw_m2 131 rfl) rfl
theorem q543 : (Jvm.Cond.instanceMethod ({ cls := "java/lang/AbstractStringBuilder", name := "getValue", desc := "()[B" } : Jvm.MethodName)) ∈ lw_all := lw_g (lw_at lw_m2 153 rfl) rfl
theorem q544 : (Jvm.Cond.sameMethod "java/lang/AbstractStringBuilder" "java/lang/AbstractStringBuilder" "getValue" "()[B") ∈ lw_all := lw_g (lw_at lw_m2 154 rfl) rfl
theorem q546 : (Jvm.Cond.code ({ cls := "java/lang/AbstractStringBuilder", name := "getValue", desc := "()[B" } : Jvm.MethodName) prog_18_method_64_code (1 : Nat) (Option.some (Jvm.ClassFile.FieldType.array Jvm.ClassFile.FieldType.byte))) ∈ lw_all := lw_g (lw_at lw_m2 156 rfl) rfl
theorem q548 : (Jvm.Cond.instanceMethod ({ cls := "java/lang/AbstractStringBuilder", name := "length", desc := "()I" } : Jvm.MethodName)) ∈ lw_all := lw_g (lw_at lw_m2 158 rfl) rfl
theorem q549 : (Jvm.Cond.sameMethod "java/lang/AbstractStringBuilder" "java/lang/AbstractStringBuilder" "length" "()I") ∈ lw_all := lw_g (lw_at lw_m2 159 rfl) rfl
theorem q554 : (Jvm.Cond.code ({ cls := "java/lang/AbstractStringBuilder", name := "length", desc := "()I" } : Jvm.MethodName) prog_18_method_6_code (1 : Nat) (Option.some Jvm.ClassFile.FieldType.int)) ∈ lw_all := lw_g (lw_at lw_m2 164 rfl) rfl
theorem q1164 : (Jvm.Cond.instanceMethod ({ cls := "java/lang/AbstractStringBuilder", name := "compareTo", desc := "(Ljava/lang/AbstractStringBuilder;)I" } : Jvm.MethodName)) ∈ lw_all := lw_g (lw_at lw_m5 54 rfl) rfl
theorem q1165 : (Jvm.Cond.code ({ cls := "java/lang/AbstractStringBuilder", name := "compareTo", desc := "(Ljava/lang/AbstractStringBuilder;)I" } : Jvm.MethodName) prog_18_method_5_code (6 : Nat) (Option.some Jvm.ClassFile.FieldType.int)) ∈ lw_all := lw_g (lw_at lw_m5 55 rfl) rfl
theorem q1166 : (Jvm.Cond.methodLink "java/lang/AbstractStringBuilder" (87 : Nat) ({ cls := "java/lang/StringLatin1", name := "compareTo", desc := "([B[BII)I" } : Jvm.MethodName)) ∈ lw_all := lw_g (lw_at lw_m5 56 rfl) rfl
theorem q1167 : (Jvm.Cond.methodLink "java/lang/AbstractStringBuilder" (93 : Nat) ({ cls := "java/lang/StringUTF16", name := "compareTo", desc := "([B[BII)I" } : Jvm.MethodName)) ∈ lw_all := lw_g (lw_at lw_m5 57 rfl) rfl
theorem q1176 : (Jvm.Cond.methodLink "java/lang/AbstractStringBuilder" (94 : Nat) ({ cls := "java/lang/StringLatin1", name := "compareToUTF16", desc := "([B[BII)I" } : Jvm.MethodName)) ∈ lw_all := lw_g (lw_at lw_m5 66 rfl) rfl
theorem q1180 : (Jvm.Cond.methodLink "java/lang/AbstractStringBuilder" (97 : Nat) ({ cls := "java/lang/StringUTF16", name := "compareToLatin1", desc := "([B[BII)I" } : Jvm.MethodName)) ∈ lw_all := lw_g (lw_at lw_m5 70 rfl) rfl
theorem q1624 : (Jvm.Cond.instanceMethod ({ cls := "java/lang/AbstractStringBuilder", name := "append", desc := "(C)Ljava/lang/AbstractStringBuilder;" } : Jvm.MethodName)) ∈ lw_all := lw_g (lw_at lw_m7 34 rfl) rfl
theorem q1625 : (Jvm.Cond.code ({ cls := "java/lang/AbstractStringBuilder", name := "append", desc := "(C)Ljava/lang/AbstractStringBuilder;" } : Jvm.MethodName) prog_18_method_31_code (2 : Nat) (Option.some (Jvm.ClassFile.FieldType.object "java/lang/AbstractStringBuilder"))) ∈ lw_all := lw_g (lw_at lw_m7 35 rfl) rfl
theorem q1626 : (Jvm.Cond.methodLink "java/lang/AbstractStringBuilder" (191 : Nat) ({ cls := "java/lang/StringLatin1", name := "canEncode", desc := "(C)Z" } : Jvm.MethodName)) ∈ lw_all := lw_g (lw_at lw_m7 36 rfl) rfl
theorem q1629 : (Jvm.Cond.methodLink "java/lang/AbstractStringBuilder" (197 : Nat) ({ cls := "java/lang/StringUTF16", name := "putCharSB", desc := "([BII)V" } : Jvm.MethodName)) ∈ lw_all := lw_g (lw_at lw_m7 39 rfl) rfl
theorem q2083 : (Jvm.Cond.instanceMethod ({ cls := "java/lang/AbstractStringBuilder", name := "charAt", desc := "(I)C" } : Jvm.MethodName)) ∈ lw_all := lw_g (lw_at lw_m9 13 rfl) rfl
theorem q2084 : (Jvm.Cond.code ({ cls := "java/lang/AbstractStringBuilder", name := "charAt", desc := "(I)C" } : Jvm.MethodName) prog_18_method_14_code (5 : Nat) (Option.some Jvm.ClassFile.FieldType.char)) ∈ lw_all := lw_g (lw_at lw_m9 14 rfl) rfl
theorem q2085 : (Jvm.Cond.methodLink "java/lang/AbstractStringBuilder" (138 : Nat) ({ cls := "java/lang/Math", name := "min", desc := "(II)I" } : Jvm.MethodName)) ∈ lw_all := lw_g (lw_at lw_m9 15 rfl) rfl
theorem q2086 : (Jvm.Cond.methodLink "java/lang/AbstractStringBuilder" (144 : Nat) ({ cls := "java/lang/String", name := "checkIndex", desc := "(II)V" } : Jvm.MethodName)) ∈ lw_all := lw_g (lw_at lw_m9 16 rfl) rfl
theorem q2087 : (Jvm.Cond.methodLink "java/lang/AbstractStringBuilder" (148 : Nat) ({ cls := "java/lang/StringUTF16", name := "getChar", desc := "([BI)C" } : Jvm.MethodName)) ∈ lw_all := lw_g (lw_at lw_m9 17 rfl) rfl
theorem q2393 : (Jvm.Cond.instanceMethod ({ cls := "java/lang/AbstractStringBuilder", name := "setLength", desc := "(I)V" } : Jvm.MethodName)) ∈ lw_all := lw_g (lw_at lw_m10 83 rfl) rfl
theorem q2394 : (Jvm.Cond.code ({ cls := "java/lang/AbstractStringBuilder", name := "setLength", desc := "(I)V" } : Jvm.MethodName) prog_18_method_13_code (2 : Nat) (Option.none : Option Jvm.ClassFile.FieldType)) ∈ lw_all := lw_g (lw_at lw_m10 84 rfl) rfl
theorem q2395 : (Jvm.Cond.classLink "java/lang/AbstractStringBuilder" (129 : Nat) "java/lang/StringIndexOutOfBoundsException") ∈ lw_all := lw_g (lw_at lw_m10 85 rfl) rfl
theorem q2397 : (Jvm.Cond.methodLink "java/lang/AbstractStringBuilder" (131 : Nat) ({ cls := "java/lang/StringIndexOutOfBoundsException", name := "<init>", desc := "(I)V" } : Jvm.MethodName)) ∈ lw_all := lw_g (lw_at lw_m10 87 rfl) rfl
theorem q2414 : (Jvm.Cond.methodLink "java/lang/AbstractStringBuilder" (133 : Nat) ({ cls := "java/lang/StringLatin1", name := "fillNull", desc := "([BII)V" } : Jvm.MethodName)) ∈ lw_all := lw_g (lw_at lw_m10 104 rfl) rfl
theorem q2436 : (Jvm.Cond.methodLink "java/lang/AbstractStringBuilder" (137 : Nat) ({ cls := "java/lang/StringUTF16", name := "fillNull", desc := "([BII)V" } : Jvm.MethodName)) ∈ lw_all := lw_g (lw_at lw_m10 126 rfl) rfl
theorem q3151 : (Jvm.Cond.sameMethod "java/lang/AbstractStringBuilder" "java/lang/AbstractStringBuilder" "append" "(Ljava/lang/String;)Ljava/lang/AbstractStringBuilder;") ∈ lw_all := lw_g (lw_at lw_m13 121 rfl) rfl
theorem q3152 : (Jvm.Cond.sameMethod "java/lang/AbstractStringBuilder" "java/lang/AbstractStringBuilder" "appendNull" "()Ljava/lang/AbstractStringBuilder;") ∈ lw_all := lw_g (lw_at lw_m13 122 rfl) rfl
theorem q3153 : (Jvm.Cond.sameMethod "java/lang/AbstractStringBuilder" "java/lang/AbstractStringBuilder" "ensureCapacityInternal" "(I)V") ∈ lw_all := lw_g (lw_at lw_m13 123 rfl) rfl
theorem q3154 : (Jvm.Cond.sameMethod "java/lang/AbstractStringBuilder" "java/lang/AbstractStringBuilder" "newCapacity" "(I)I") ∈ lw_all := lw_g (lw_at lw_m13 124 rfl) rfl
theorem q3155 : (Jvm.Cond.sameMethod "java/lang/AbstractStringBuilder" "java/lang/AbstractStringBuilder" "putStringAt" "(ILjava/lang/String;)V") ∈ lw_all := lw_g (lw_at lw_m13 125 rfl) rfl
theorem q3156 : (Jvm.Cond.sameMethod "java/lang/AbstractStringBuilder" "java/lang/AbstractStringBuilder" "inflateIfNeededFor" "(Ljava/lang/String;)V") ∈ lw_all := lw_g (lw_at lw_m13 126 rfl) rfl
theorem q3157 : (Jvm.Cond.sameMethod "java/lang/AbstractStringBuilder" "java/lang/AbstractStringBuilder" "inflate" "()V") ∈ lw_all := lw_g (lw_at lw_m13 127 rfl) rfl
theorem q3158 : (Jvm.Cond.sameMethod "java/lang/AbstractStringBuilder" "java/lang/AbstractStringBuilder" "append" "(I)Ljava/lang/AbstractStringBuilder;") ∈ lw_all := lw_g (lw_at lw_m13 128 rfl) rfl
theorem q3159 : (Jvm.Cond.sameMethod "java/lang/AbstractStringBuilder" "java/lang/AbstractStringBuilder" "compareTo" "(Ljava/lang/AbstractStringBuilder;)I") ∈ lw_all := lw_g (lw_at lw_m13 129 rfl) rfl
theorem q3161 : (Jvm.Cond.sameMethod "java/lang/AbstractStringBuilder" "java/lang/AbstractStringBuilder" "append" "(C)Ljava/lang/AbstractStringBuilder;") ∈ lw_all := lw_g (lw_at lw_m13 131 rfl) rfl
theorem q3164 : (Jvm.Cond.sameMethod "java/lang/AbstractStringBuilder" "java/lang/AbstractStringBuilder" "charAt" "(I)C") ∈ lw_all := lw_g (lw_at lw_m13 134 rfl) rfl
theorem q3165 : (Jvm.Cond.sameMethod "java/lang/AbstractStringBuilder" "java/lang/AbstractStringBuilder" "setLength" "(I)V") ∈ lw_all := lw_g (lw_at lw_m13 135 rfl) rfl
theorem q165 : (Jvm.Cond.initialized "java/lang/StringBuilder") ∈ lw_all := lw_g (lw_at lw_m1 15 rfl) rfl
theorem q351 : (Jvm.Cond.instantiable "java/lang/StringBuilder" (4 : Nat)) ∈ lw_all := lw_g (lw_at lw_m1 201 rfl) rfl
theorem q353 : (Jvm.Cond.instanceMethod ({ cls := "java/lang/StringBuilder", name := "<init>", desc := "()V" } : Jvm.MethodName)) ∈ lw_all := lw_g (lw_at lw_m1 203 rfl) rfl
theorem q354 : (Jvm.Cond.code ({ cls := "java/lang/StringBuilder", name := "<init>", desc := "()V" } : Jvm.MethodName) prog_36_method_1_code (1 : Nat) (Option.none : Option Jvm.ClassFile.FieldType)) ∈ lw_all := lw_g (lw_at lw_m1 204 rfl) rfl
theorem q355 : (Jvm.Cond.methodLink "java/lang/StringBuilder" (1 : Nat) ({ cls := "java/lang/AbstractStringBuilder", name := "<init>", desc := "(I)V" } : Jvm.MethodName)) ∈ lw_all := lw_g (lw_at lw_m1 205 rfl) rfl
theorem q373 : (Jvm.Cond.lays "java/lang/StringBuilder" "java/lang/AbstractStringBuilder" "value" "[B") ∈ lw_all := lw_g (lw_at lw_m1 223 rfl) rfl
theorem q375 : (Jvm.Cond.lays "java/lang/StringBuilder" "java/lang/AbstractStringBuilder" "coder" "B") ∈ lw_all := lw_g (lw_at lw_m1 225 rfl) rfl
theorem q377 : (Jvm.Cond.lays "java/lang/StringBuilder" "java/lang/AbstractStringBuilder" "maybeLatin1" "Z") ∈ lw_all := lw_g (lw_at lw_m1 227 rfl) rfl
theorem q379 : (Jvm.Cond.lays "java/lang/StringBuilder" "java/lang/AbstractStringBuilder" "count" "I") ∈ lw_all := lw_g (lw_at lw_m1 229 rfl) rfl
theorem q381 : (Jvm.Cond.superclass "java/lang/StringBuilder" "java/lang/AbstractStringBuilder") ∈ lw_all := lw_g (lw_at lw_m1 231 rfl) rfl
theorem q385 : (Jvm.Cond.instanceMethod ({ cls := "java/lang/StringBuilder", name := "append", desc := "(Ljava/lang/String;)Ljava/lang/StringBuilder;" } : Jvm.MethodName)) ∈ lw_all := lw_g (lw_at lw_m1 235 rfl) rfl
theorem q386 : (Jvm.Cond.selects "java/lang/StringBuilder" ({ cls := "java/lang/StringBuilder", name := "append", desc := "(Ljava/lang/String;)Ljava/lang/StringBuilder;" } : Jvm.MethodName) ({ cls := "java/lang/StringBuilder", name := "append", desc := "(Ljava/lang/String;)Ljava/lang/StringBuilder;" } : Jvm.MethodName)) ∈ lw_all := lw_g (lw_at lw_m1 236 rfl) rfl
theorem q387 : (Jvm.Cond.code ({ cls := "java/lang/StringBuilder", name := "append", desc := "(Ljava/lang/String;)Ljava/lang/StringBuilder;" } : Jvm.MethodName) prog_36_method_7_code (2 : Nat) (Option.some (Jvm.ClassFile.FieldType.object "java/lang/StringBuilder"))) ∈ lw_all := lw_g (lw_at lw_m1 237 rfl) rfl
theorem q388 : (Jvm.Cond.methodLink "java/lang/StringBuilder" (29 : Nat) ({ cls := "java/lang/AbstractStringBuilder", name := "append", desc := "(Ljava/lang/String;)Ljava/lang/AbstractStringBuilder;" } : Jvm.MethodName)) ∈ lw_all := lw_g (lw_at lw_m1 238 rfl) rfl
theorem q433 : (Jvm.Cond.selects "java/lang/StringBuilder" ({ cls := "java/lang/AbstractStringBuilder", name := "isLatin1", desc := "()Z" } : Jvm.MethodName) ({ cls := "java/lang/AbstractStringBuilder", name := "isLatin1", desc := "()Z" } : Jvm.MethodName)) ∈ lw_all := lw_g (lw_at lw_m2 43 rfl) rfl
theorem q505 : (Jvm.Cond.instanceMethod ({ cls := "java/lang/StringBuilder", name := "append", desc := "(I)Ljava/lang/StringBuilder;" } : Jvm.MethodName)) ∈ lw_all := lw_g (lw_at lw_m2 115 rfl) rfl
theorem q506 : (Jvm.Cond.selects "java/lang/StringBuilder" ({ cls := "java/lang/StringBuilder", name := "append", desc := "(I)Ljava/lang/StringBuilder;" } : Jvm.MethodName) ({ cls := "java/lang/StringBuilder", name := "append", desc := "(I)Ljava/lang/StringBuilder;" } : Jvm.MethodName)) ∈ lw_all := lw_g (lw_at lw_m2 116 rfl) rfl
theorem q507 : (Jvm.Cond.code ({ cls := "java/lang/StringBuilder", name := "append", desc := "(I)Ljava/lang/StringBuilder;" } : Jvm.MethodName) prog_36_method_15_code (2 : Nat) (Option.some (Jvm.ClassFile.FieldType.object "java/lang/StringBuilder"))) ∈ lw_all := lw_g (lw_at lw_m2 117 rfl) rfl
theorem q508 : (Jvm.Cond.methodLink "java/lang/StringBuilder" (53 : Nat) ({ cls := "java/lang/AbstractStringBuilder", name := "append", desc := "(I)Ljava/lang/AbstractStringBuilder;" } : Jvm.MethodName)) ∈ lw_all := lw_g (lw_at lw_m2 118 rfl) rfl
theorem q530 : (Jvm.Cond.instanceMethod ({ cls := "java/lang/StringBuilder", name := "toString", desc := "()Ljava/lang/String;" } : Jvm.MethodName)) ∈ lw_all := lw_g (lw_at lw_m2 140 rfl) rfl
theorem q531 : (Jvm.Cond.selects "java/lang/StringBuilder" ({ cls := "java/lang/StringBuilder", name := "toString", desc := "()Ljava/lang/String;" } : Jvm.MethodName) ({ cls := "java/lang/StringBuilder", name := "toString", desc := "()Ljava/lang/String;" } : Jvm.MethodName)) ∈ lw_all := lw_g (lw_at lw_m2 141 rfl) rfl
theorem q532 : (Jvm.Cond.code ({ cls := "java/lang/StringBuilder", name := "toString", desc := "()Ljava/lang/String;" } : Jvm.MethodName) prog_36_method_42_code (1 : Nat) (Option.some (Jvm.ClassFile.FieldType.object "java/lang/String"))) ∈ lw_all := lw_g (lw_at lw_m2 142 rfl) rfl
theorem q533 : (Jvm.Cond.classLink "java/lang/StringBuilder" (18 : Nat) "java/lang/String") ∈ lw_all := lw_g (lw_at lw_m2 143 rfl) rfl
theorem q535 : (Jvm.Cond.methodLink "java/lang/StringBuilder" (137 : Nat) ({ cls := "java/lang/String", name := "<init>", desc := "(Ljava/lang/StringBuilder;)V" } : Jvm.MethodName)) ∈ lw_all := lw_g (lw_at lw_m2 145 rfl) rfl
theorem q545 : (Jvm.Cond.selects "java/lang/StringBuilder" ({ cls := "java/lang/AbstractStringBuilder", name := "getValue", desc := "()[B" } : Jvm.MethodName) ({ cls := "java/lang/AbstractStringBuilder", name := "getValue", desc := "()[B" } : Jvm.MethodName)) ∈ lw_all := lw_g (lw_at lw_m2 155 rfl) rfl
theorem q550 : (Jvm.Cond.selects "java/lang/StringBuilder" ({ cls := "java/lang/AbstractStringBuilder", name := "length", desc := "()I" } : Jvm.MethodName) ({ cls := "java/lang/StringBuilder", name := "length", desc := "()I" } : Jvm.MethodName)) ∈ lw_all := lw_g (lw_at lw_m2 160 rfl) rfl
theorem q551 : (Jvm.Cond.instanceMethod ({ cls := "java/lang/StringBuilder", name := "length", desc := "()I" } : Jvm.MethodName)) ∈ lw_all := lw_g (lw_at lw_m2 161 rfl) rfl
theorem q552 : (Jvm.Cond.code ({ cls := "java/lang/StringBuilder", name := "length", desc := "()I" } : Jvm.MethodName) prog_36_method_93_code (1 : Nat) (Option.some Jvm.ClassFile.FieldType.int)) ∈ lw_all := lw_g (lw_at lw_m2 162 rfl) rfl
theorem q553 : (Jvm.Cond.methodLink "java/lang/StringBuilder" (343 : Nat) ({ cls := "java/lang/AbstractStringBuilder", name := "length", desc := "()I" } : Jvm.MethodName)) ∈ lw_all := lw_g (lw_at lw_m2 163 rfl) rfl
theorem q746 : (Jvm.Cond.selects "java/lang/StringBuilder" ({ cls := "java/lang/Object", name := "getClass", desc := "()Ljava/lang/Class;" } : Jvm.MethodName) ({ cls := "java/lang/Object", name := "getClass", desc := "()Ljava/lang/Class;" } : Jvm.MethodName)) ∈ lw_all := lw_g (lw_at lw_m3 116 rfl) rfl
theorem q917 : (Jvm.Cond.selects "java/lang/StringBuilder" ({ cls := "java/lang/Object", name := "hashCode", desc := "()I" } : Jvm.MethodName) ({ cls := "java/lang/Object", name := "hashCode", desc := "()I" } : Jvm.MethodName)) ∈ lw_all := lw_g (lw_at lw_m4 47 rfl) rfl
theorem q956 : (Jvm.Cond.selects "java/lang/StringBuilder" ({ cls := "java/lang/Object", name := "equals", desc := "(Ljava/lang/Object;)Z" } : Jvm.MethodName) ({ cls := "java/lang/Object", name := "equals", desc := "(Ljava/lang/Object;)Z" } : Jvm.MethodName)) ∈ lw_all := lw_g (lw_at lw_m4 86 rfl) rfl
theorem q1152 : (Jvm.Cond.castable "java/lang/StringBuilder" "java/lang/Comparable") ∈ lw_tbl := lw_at lw_m5 42 rfl
theorem q1153 : (Jvm.Cond.selects "java/lang/StringBuilder" ({ cls := "java/lang/Comparable", name := "compareTo", desc := "(Ljava/lang/Object;)I" } : Jvm.MethodName) ({ cls := "java/lang/StringBuilder", name := "compareTo", desc := "(Ljava/lang/Object;)I" } : Jvm.MethodName)) ∈ lw_all := lw_g (lw_at lw_m5 43 rfl) rfl
theorem q1154 : (Jvm.Cond.unhidden "java/lang/StringBuilder" "compareTo" "(Ljava/lang/Object;)I") ∈ lw_tbl := lw_at lw_m5 44 rfl
theorem q1155 : (Jvm.Cond.instanceMethod ({ cls := "java/lang/StringBuilder", name := "compareTo", desc := "(Ljava/lang/Object;)I" } : Jvm.MethodName)) ∈ lw_all := lw_g (lw_at lw_m5 45 rfl) rfl
theorem q1156 : (Jvm.Cond.publicMethod ({ cls := "java/lang/StringBuilder", name := "compareTo", desc := "(Ljava/lang/Object;)I" } : Jvm.MethodName)) ∈ lw_tbl := lw_at lw_m5 46 rfl
theorem q1157 : (Jvm.Cond.code ({ cls := "java/lang/StringBuilder", name := "compareTo", desc := "(Ljava/lang/Object;)I" } : Jvm.MethodName) prog_36_method_97_code (2 : Nat) (Option.some Jvm.ClassFile.FieldType.int)) ∈ lw_all := lw_g (lw_at lw_m5 47 rfl) rfl
theorem q1158 : (Jvm.Cond.classLink "java/lang/StringBuilder" (24 : Nat) "java/lang/StringBuilder") ∈ lw_all := lw_g (lw_at lw_m5 48 rfl) rfl
theorem q1159 : (Jvm.Cond.methodLink "java/lang/StringBuilder" (346 : Nat) ({ cls := "java/lang/StringBuilder", name := "compareTo", desc := "(Ljava/lang/StringBuilder;)I" } : Jvm.MethodName)) ∈ lw_all := lw_g (lw_at lw_m5 49 rfl) rfl
theorem q1160 : (Jvm.Cond.instanceMethod ({ cls := "java/lang/StringBuilder", name := "compareTo", desc := "(Ljava/lang/StringBuilder;)I" } : Jvm.MethodName)) ∈ lw_all := lw_g (lw_at lw_m5 50 rfl) rfl
theorem q1161 : (Jvm.Cond.selects "java/lang/StringBuilder" ({ cls := "java/lang/StringBuilder", name := "compareTo", desc := "(Ljava/lang/StringBuilder;)I" } : Jvm.MethodName) ({ cls := "java/lang/StringBuilder", name := "compareTo", desc := "(Ljava/lang/StringBuilder;)I" } : Jvm.MethodName)) ∈ lw_all := lw_g (lw_at lw_m5 51 rfl) rfl
theorem q1162 : (Jvm.Cond.code ({ cls := "java/lang/StringBuilder", name := "compareTo", desc := "(Ljava/lang/StringBuilder;)I" } : Jvm.MethodName) prog_36_method_5_code (2 : Nat) (Option.some Jvm.ClassFile.FieldType.int)) ∈ lw_all := lw_g (lw_at lw_m5 52 rfl) rfl
theorem q1163 : (Jvm.Cond.methodLink "java/lang/StringBuilder" (13 : Nat) ({ cls := "java/lang/AbstractStringBuilder", name := "compareTo", desc := "(Ljava/lang/AbstractStringBuilder;)I" } : Jvm.MethodName)) ∈ lw_all := lw_g (lw_at lw_m5 53 rfl) rfl
theorem q1620 : (Jvm.Cond.instanceMethod ({ cls := "java/lang/StringBuilder", name := "append", desc := "(C)Ljava/lang/StringBuilder;" } : Jvm.MethodName)) ∈ lw_all := lw_g (lw_at lw_m7 30 rfl) rfl
theorem q1621 : (Jvm.Cond.selects "java/lang/StringBuilder" ({ cls := "java/lang/StringBuilder", name := "append", desc := "(C)Ljava/lang/StringBuilder;" } : Jvm.MethodName) ({ cls := "java/lang/StringBuilder", name := "append", desc := "(C)Ljava/lang/StringBuilder;" } : Jvm.MethodName)) ∈ lw_all := lw_g (lw_at lw_m7 31 rfl) rfl
theorem q1622 : (Jvm.Cond.code ({ cls := "java/lang/StringBuilder", name := "append", desc := "(C)Ljava/lang/StringBuilder;" } : Jvm.MethodName) prog_36_method_14_code (2 : Nat) (Option.some (Jvm.ClassFile.FieldType.object "java/lang/StringBuilder"))) ∈ lw_all := lw_g (lw_at lw_m7 32 rfl) rfl
theorem q1623 : (Jvm.Cond.methodLink "java/lang/StringBuilder" (50 : Nat) ({ cls := "java/lang/AbstractStringBuilder", name := "append", desc := "(C)Ljava/lang/AbstractStringBuilder;" } : Jvm.MethodName)) ∈ lw_all := lw_g (lw_at lw_m7 33 rfl) rfl
theorem q2079 : (Jvm.Cond.instanceMethod ({ cls := "java/lang/StringBuilder", name := "charAt", desc := "(I)C" } : Jvm.MethodName)) ∈ lw_all := lw_g (lw_at lw_m9 9 rfl) rfl
theorem q2080 : (Jvm.Cond.selects "java/lang/StringBuilder" ({ cls := "java/lang/StringBuilder", name := "charAt", desc := "(I)C" } : Jvm.MethodName) ({ cls := "java/lang/StringBuilder", name := "charAt", desc := "(I)C" } : Jvm.MethodName)) ∈ lw_all := lw_g (lw_at lw_m9 10 rfl) rfl
theorem q2081 : (Jvm.Cond.code ({ cls := "java/lang/StringBuilder", name := "charAt", desc := "(I)C" } : Jvm.MethodName) prog_36_method_88_code (2 : Nat) (Option.some Jvm.ClassFile.FieldType.char)) ∈ lw_all := lw_g (lw_at lw_m9 11 rfl) rfl
theorem q2082 : (Jvm.Cond.methodLink "java/lang/StringBuilder" (329 : Nat) ({ cls := "java/lang/AbstractStringBuilder", name := "charAt", desc := "(I)C" } : Jvm.MethodName)) ∈ lw_all := lw_g (lw_at lw_m9 12 rfl) rfl
theorem q2389 : (Jvm.Cond.instanceMethod ({ cls := "java/lang/StringBuilder", name := "setLength", desc := "(I)V" } : Jvm.MethodName)) ∈ lw_all := lw_g (lw_at lw_m10 79 rfl) rfl
theorem q2390 : (Jvm.Cond.selects "java/lang/StringBuilder" ({ cls := "java/lang/StringBuilder", name := "setLength", desc := "(I)V" } : Jvm.MethodName) ({ cls := "java/lang/StringBuilder", name := "setLength", desc := "(I)V" } : Jvm.MethodName)) ∈ lw_all := lw_g (lw_at lw_m10 80 rfl) rfl
theorem q2391 : (Jvm.Cond.code ({ cls := "java/lang/StringBuilder", name := "setLength", desc := "(I)V" } : Jvm.MethodName) prog_36_method_89_code (2 : Nat) (Option.none : Option Jvm.ClassFile.FieldType)) ∈ lw_all := lw_g (lw_at lw_m10 81 rfl) rfl
theorem q2392 : (Jvm.Cond.methodLink "java/lang/StringBuilder" (333 : Nat) ({ cls := "java/lang/AbstractStringBuilder", name := "setLength", desc := "(I)V" } : Jvm.MethodName)) ∈ lw_all := lw_g (lw_at lw_m10 82 rfl) rfl
theorem q3160 : (Jvm.Cond.selects "java/lang/StringBuilder" ({ cls := "java/lang/StringBuilder", name := "length", desc := "()I" } : Jvm.MethodName) ({ cls := "java/lang/StringBuilder", name := "length", desc := "()I" } : Jvm.MethodName)) ∈ lw_all := lw_g (lw_at lw_m13 130 rfl) rfl
theorem q3178 : (Jvm.Cond.castable "java/lang/StringBuilder" "java/lang/Object") ∈ lw_tbl := lw_at lw_m13 148 rfl
theorem q166 : (Jvm.Cond.initialized "java/lang/String") ∈ lw_all := lw_g (lw_at lw_m1 16 rfl) rfl
theorem q360 : (Jvm.Cond.laysStatic "java/lang/String" "COMPACT_STRINGS" "Z") ∈ lw_tbl := lw_at lw_m1 210 rfl
theorem q371 : (Jvm.Cond.fieldLink "java/lang/String" (1048 : Nat) "java/lang/AbstractStringBuilder" "maybeLatin1" "Z") ∈ lw_all := lw_g (lw_at lw_m1 221 rfl) rfl
theorem q445 : (Jvm.Cond.static ({ cls := "java/lang/String", name := "checkBoundsBeginEnd", desc := "(III)V" } : Jvm.MethodName)) ∈ lw_all := lw_g (lw_at lw_m2 55 rfl) rfl
theorem q446 : (Jvm.Cond.code ({ cls := "java/lang/String", name := "checkBoundsBeginEnd", desc := "(III)V" } : Jvm.MethodName) prog_35_method_158_code (3 : Nat) (Option.none : Option Jvm.ClassFile.FieldType)) ∈ lw_all := lw_g (lw_at lw_m2 56 rfl) rfl
theorem q447 : (Jvm.Cond.fieldLink "java/lang/String" (1053 : Nat) "jdk/internal/util/Preconditions" "SIOOBE_FORMATTER" "Ljava/util/function/BiFunction;") ∈ lw_all := lw_g (lw_at lw_m2 57 rfl) rfl
theorem q449 : (Jvm.Cond.methodLink "java/lang/String" (1062 : Nat) ({ cls := "jdk/internal/util/Preconditions", name := "checkFromToIndex", desc := "(IIILjava/util/function/BiFunction;)I" } : Jvm.MethodName)) ∈ lw_all := lw_g (lw_at lw_m2 59 rfl) rfl
theorem q462 : (Jvm.Cond.instanceMethod ({ cls := "java/lang/String", name := "length", desc := "()I" } : Jvm.MethodName)) ∈ lw_all := lw_g (lw_at lw_m2 72 rfl) rfl
theorem q463 : (Jvm.Cond.selects "java/lang/String" ({ cls := "java/lang/String", name := "length", desc := "()I" } : Jvm.MethodName) ({ cls := "java/lang/String", name := "length", desc := "()I" } : Jvm.MethodName)) ∈ lw_all := lw_g (lw_at lw_m2 73 rfl) rfl
theorem q464 : (Jvm.Cond.code ({ cls := "java/lang/String", name := "length", desc := "()I" } : Jvm.MethodName) prog_35_method_54_code (1 : Nat) (Option.some Jvm.ClassFile.FieldType.int)) ∈ lw_all := lw_g (lw_at lw_m2 74 rfl) rfl
theorem q465 : (Jvm.Cond.methodLink "java/lang/String" (335 : Nat) ({ cls := "java/lang/String", name := "coder", desc := "()B" } : Jvm.MethodName)) ∈ lw_all := lw_g (lw_at lw_m2 75 rfl) rfl
theorem q466 : (Jvm.Cond.instanceMethod ({ cls := "java/lang/String", name := "coder", desc := "()B" } : Jvm.MethodName)) ∈ lw_all := lw_g (lw_at lw_m2 76 rfl) rfl
theorem q467 : (Jvm.Cond.selects "java/lang/String" ({ cls := "java/lang/String", name := "coder", desc := "()B" } : Jvm.MethodName) ({ cls := "java/lang/String", name := "coder", desc := "()B" } : Jvm.MethodName)) ∈ lw_all := lw_g (lw_at lw_m2 77 rfl) rfl
theorem q468 : (Jvm.Cond.code ({ cls := "java/lang/String", name := "coder", desc := "()B" } : Jvm.MethodName) prog_35_method_152_code (1 : Nat) (Option.some Jvm.ClassFile.FieldType.byte)) ∈ lw_all := lw_g (lw_at lw_m2 78 rfl) rfl
theorem q469 : (Jvm.Cond.fieldLink "java/lang/String" (38 : Nat) "java/lang/String" "COMPACT_STRINGS" "Z") ∈ lw_all := lw_g (lw_at lw_m2 79 rfl) rfl
theorem q493 : (Jvm.Cond.static ({ cls := "java/lang/String", name := "checkBoundsOffCount", desc := "(III)I" } : Jvm.MethodName)) ∈ lw_all := lw_g (lw_at lw_m2 103 rfl) rfl
theorem q494 : (Jvm.Cond.code ({ cls := "java/lang/String", name := "checkBoundsOffCount", desc := "(III)I" } : Jvm.MethodName) prog_35_method_157_code (3 : Nat) (Option.some Jvm.ClassFile.FieldType.int)) ∈ lw_all := lw_g (lw_at lw_m2 104 rfl) rfl
theorem q495 : (Jvm.Cond.methodLink "java/lang/String" (1065 : Nat) ({ cls := "jdk/internal/util/Preconditions", name := "checkFromIndexSize", desc := "(IIILjava/util/function/BiFunction;)I" } : Jvm.MethodName)) ∈ lw_all := lw_g (lw_at lw_m2 105 rfl) rfl
theorem q499 : (Jvm.Cond.instanceMethod ({ cls := "java/lang/String", name := "getBytes", desc := "([BIB)V" } : Jvm.MethodName)) ∈ lw_all := lw_g (lw_at lw_m2 109 rfl) rfl
theorem q500 : (Jvm.Cond.selects "java/lang/String" ({ cls := "java/lang/String", name := "getBytes", desc := "([BIB)V" } : Jvm.MethodName) ({ cls := "java/lang/String", name := "getBytes", desc := "([BIB)V" } : Jvm.MethodName)) ∈ lw_all := lw_g (lw_at lw_m2 110 rfl) rfl
theorem q501 : (Jvm.Cond.code ({ cls := "java/lang/String", name := "getBytes", desc := "([BIB)V" } : Jvm.MethodName) prog_35_method_147_code (4 : Nat) (Option.none : Option Jvm.ClassFile.FieldType)) ∈ lw_all := lw_g (lw_at lw_m2 111 rfl) rfl
theorem q502 : (Jvm.Cond.methodLink "java/lang/String" (212 : Nat) ({ cls := "java/lang/System", name := "arraycopy", desc := "(Ljava/lang/Object;ILjava/lang/Object;II)V" } : Jvm.MethodName)) ∈ lw_all := lw_g (lw_at lw_m2 112 rfl) rfl
theorem q503 : (Jvm.Cond.methodLink "java/lang/String" (106 : Nat) ({ cls := "java/lang/StringLatin1", name := "inflate", desc := "([BI[BII)V" } : Jvm.MethodName)) ∈ lw_all := lw_g (lw_at lw_m2 113 rfl) rfl
theorem q534 : (Jvm.Cond.instantiable "java/lang/String" (4 : Nat)) ∈ lw_all := lw_g (lw_at lw_m2 144 rfl) rfl
theorem q536 : (Jvm.Cond.instanceMethod ({ cls := "java/lang/String", name := "<init>", desc := "(Ljava/lang/StringBuilder;)V" } : Jvm.MethodName)) ∈ lw_all := lw_g (lw_at lw_m2 146 rfl) rfl
theorem q537 : (Jvm.Cond.code ({ cls := "java/lang/String", name := "<init>", desc := "(Ljava/lang/StringBuilder;)V" } : Jvm.MethodName) prog_35_method_53_code (2 : Nat) (Option.none : Option Jvm.ClassFile.FieldType)) ∈ lw_all := lw_g (lw_at lw_m2 147 rfl) rfl
theorem q538 : (Jvm.Cond.methodLink "java/lang/String" (489 : Nat) ({ cls := "java/lang/String", name := "<init>", desc := "(Ljava/lang/AbstractStringBuilder;Ljava/lang/Void;)V" } : Jvm.MethodName)) ∈ lw_all := lw_g (lw_at lw_m2 148 rfl) rfl
theorem q539 : (Jvm.Cond.instanceMethod ({ cls := "java/lang/String", name := "<init>", desc := "(Ljava/lang/AbstractStringBuilder;Ljava/lang/Void;)V" } : Jvm.MethodName)) ∈ lw_all := lw_g (lw_at lw_m2 149 rfl) rfl
theorem q540 : (Jvm.Cond.code ({ cls := "java/lang/String", name := "<init>", desc := "(Ljava/lang/AbstractStringBuilder;Ljava/lang/Void;)V" } : Jvm.MethodName) prog_35_method_150_code (5 : Nat) (Option.none : Option Jvm.ClassFile.FieldType)) ∈ lw_all := lw_g (lw_at lw_m2 150 rfl) rfl
theorem q541 : (Jvm.Cond.methodLink "java/lang/String" (1 : Nat) ({ cls := "java/lang/Object", name := "<init>", desc := "()V" } : Jvm.MethodName)) ∈ lw_all := lw_g (lw_at lw_m2 151 rfl) rfl
theorem q542 : (Jvm.Cond.methodLink "java/lang/String" (552 : Nat) ({ cls := "java/lang/AbstractStringBuilder", name := "getValue", desc := "()[B" } : Jvm.MethodName)) ∈ lw_all := lw_g (lw_at lw_m2 152 rfl) rfl
theorem q547 : (Jvm.Cond.methodLink "java/lang/String" (549 : Nat) ({ cls := "java/lang/AbstractStringBuilder", name := "length", desc := "()I" } : Jvm.MethodName)) ∈ lw_all := lw_g (lw_at lw_m2 157 rfl) rfl
theorem q555 : (Jvm.Cond.methodLink "java/lang/String" (1047 : Nat) ({ cls := "java/lang/AbstractStringBuilder", name := "isLatin1", desc := "()Z" } : Jvm.MethodName)) ∈ lw_all := lw_g (lw_at lw_m2 165 rfl) rfl
theorem q556 : (Jvm.Cond.methodLink "java/lang/String" (54 : Nat) ({ cls := "java/util/Arrays", name := "copyOfRange", desc := "([BII)[B" } : Jvm.MethodName)) ∈ lw_all := lw_g (lw_at lw_m2 166 rfl) rfl
theorem q597 : (Jvm.Cond.methodLink "java/lang/String" (1051 : Nat) ({ cls := "java/lang/StringUTF16", name := "compress", desc := "([BII)[B" } : Jvm.MethodName)) ∈ lw_all := lw_g (lw_at lw_m2 207 rfl) rfl
theorem q607 : (Jvm.Cond.methodLink "java/lang/String" (47 : Nat) ({ cls := "java/lang/StringUTF16", name := "coderFromArrayLen", desc := "([BI)B" } : Jvm.MethodName)) ∈ lw_all := lw_g (lw_at lw_m2 217 rfl) rfl
theorem q610 : (Jvm.Cond.fieldLink "java/lang/String" (9 : Nat) "java/lang/String" "value" "[B") ∈ lw_all := lw_g (lw_at lw_m2 220 rfl) rfl
theorem q611 : (Jvm.Cond.fieldLink "java/lang/String" (15 : Nat) "java/lang/String" "coder" "B") ∈ lw_all := lw_g (lw_at lw_m2 221 rfl) rfl
theorem q612 : (Jvm.Cond.fieldLink "java/lang/String" (19 : Nat) "java/lang/String" "hash" "I") ∈ lw_all := lw_g (lw_at lw_m2 222 rfl) rfl
theorem q613 : (Jvm.Cond.fieldLink "java/lang/String" (23 : Nat) "java/lang/String" "hashIsZero" "Z") ∈ lw_all := lw_g (lw_at lw_m2 223 rfl) rfl
theorem q614 : (Jvm.Cond.laysFinal "java/lang/String" "java/lang/String" "value" "[B") ∈ lw_all := lw_g (lw_at lw_m2 224 rfl) rfl
theorem q615 : (Jvm.Cond.soleField "java/lang/String" "value") ∈ lw_all := lw_g (lw_at lw_m2 225 rfl) rfl
theorem q616 : (Jvm.Cond.laysFinal "java/lang/String" "java/lang/String" "coder" "B") ∈ lw_all := lw_g (lw_at lw_m2 226 rfl) rfl
theorem q617 : (Jvm.Cond.soleField "java/lang/String" "coder") ∈ lw_all := lw_g (lw_at lw_m2 227 rfl) rfl
theorem q618 : (Jvm.Cond.lays "java/lang/String" "java/lang/String" "hash" "I") ∈ lw_all := lw_g (lw_at lw_m2 228 rfl) rfl
theorem q619 : (Jvm.Cond.soleField "java/lang/String" "hash") ∈ lw_all := lw_g (lw_at lw_m2 229 rfl) rfl
theorem q620 : (Jvm.Cond.lays "java/lang/String" "java/lang/String" "hashIsZero" "Z") ∈ lw_all := lw_g (lw_at lw_m2 230 rfl) rfl
theorem q621 : (Jvm.Cond.soleField "java/lang/String" "hashIsZero") ∈ lw_all := lw_g (lw_at lw_m2 231 rfl) rfl
theorem q622 : (Jvm.Cond.superclass "java/lang/String" "java/lang/Object") ∈ lw_all := lw_g (lw_at lw_m2 232 rfl) rfl
theorem q745 : (Jvm.Cond.selects "java/lang/String" ({ cls := "java/lang/Object", name := "getClass", desc := "()Ljava/lang/Class;" } : Jvm.MethodName) ({ cls := "java/lang/Object", name := "getClass", desc := "()Ljava/lang/Class;" } : Jvm.MethodName)) ∈ lw_all := lw_g (lw_at lw_m3 115 rfl) rfl
theorem q857 : (Jvm.Cond.selects "java/lang/String" ({ cls := "java/lang/Object", name := "hashCode", desc := "()I" } : Jvm.MethodName) ({ cls := "java/lang/String", name := "hashCode", desc := "()I" } : Jvm.MethodName)) ∈ lw_all := lw_g (lw_at lw_m3 227 rfl) rfl
theorem q858 : (Jvm.Cond.instanceMethod ({ cls := "java/lang/String", name := "hashCode", desc := "()I" } : Jvm.MethodName)) ∈ lw_all := lw_g (lw_at lw_m3 228 rfl) rfl
theorem q859 : (Jvm.Cond.code ({ cls := "java/lang/String", name := "hashCode", desc := "()I" } : Jvm.MethodName) prog_35_method_78_code (2 : Nat) (Option.some Jvm.ClassFile.FieldType.int)) ∈ lw_all := lw_g (lw_at lw_m3 229 rfl) rfl
theorem q860 : (Jvm.Cond.methodLink "java/lang/String" (492 : Nat) ({ cls := "java/lang/String", name := "isLatin1", desc := "()Z" } : Jvm.MethodName)) ∈ lw_all := lw_g (lw_at lw_m3 230 rfl) rfl
theorem q861 : (Jvm.Cond.instanceMethod ({ cls := "java/lang/String", name := "isLatin1", desc := "()Z" } : Jvm.MethodName)) ∈ lw_all := lw_g (lw_at lw_m3 231 rfl) rfl
theorem q862 : (Jvm.Cond.selects "java/lang/String" ({ cls := "java/lang/String", name := "isLatin1", desc := "()Z" } : Jvm.MethodName) ({ cls := "java/lang/String", name := "isLatin1", desc := "()Z" } : Jvm.MethodName)) ∈ lw_all := lw_g (lw_at lw_m3 232 rfl) rfl
theorem q863 : (Jvm.Cond.code ({ cls := "java/lang/String", name := "isLatin1", desc := "()Z" } : Jvm.MethodName) prog_35_method_154_code (1 : Nat) (Option.some Jvm.ClassFile.FieldType.boolean)) ∈ lw_all := lw_g (lw_at lw_m3 233 rfl) rfl
theorem q864 : (Jvm.Cond.methodLink "java/lang/String" (628 : Nat) ({ cls := "java/lang/StringLatin1", name := "hashCode", desc := "([B)I" } : Jvm.MethodName)) ∈ lw_all := lw_g (lw_at lw_m3 234 rfl) rfl
theorem q913 : (Jvm.Cond.methodLink "java/lang/String" (632 : Nat) ({ cls := "java/lang/StringUTF16", name := "hashCode", desc := "([B)I" } : Jvm.MethodName)) ∈ lw_all := lw_g (lw_at lw_m4 43 rfl) rfl
theorem q949 : (Jvm.Cond.selects "java/lang/String" ({ cls := "java/lang/Object", name := "equals", desc := "(Ljava/lang/Object;)Z" } : Jvm.MethodName) ({ cls := "java/lang/String", name := "equals", desc := "(Ljava/lang/Object;)Z" } : Jvm.MethodName)) ∈ lw_all := lw_g (lw_at lw_m4 79 rfl) rfl
theorem q950 : (Jvm.Cond.instanceMethod ({ cls := "java/lang/String", name := "equals", desc := "(Ljava/lang/Object;)Z" } : Jvm.MethodName)) ∈ lw_all := lw_g (lw_at lw_m4 80 rfl) rfl
theorem q951 : (Jvm.Cond.code ({ cls := "java/lang/String", name := "equals", desc := "(Ljava/lang/Object;)Z" } : Jvm.MethodName) prog_35_method_66_code (3 : Nat) (Option.some Jvm.ClassFile.FieldType.boolean)) ∈ lw_all := lw_g (lw_at lw_m4 81 rfl) rfl
theorem q952 : (Jvm.Cond.classLink "java/lang/String" (10 : Nat) "java/lang/String") ∈ lw_all := lw_g (lw_at lw_m4 82 rfl) rfl
theorem q953 : (Jvm.Cond.methodLink "java/lang/String" (541 : Nat) ({ cls := "java/lang/StringLatin1", name := "equals", desc := "([B[B)Z" } : Jvm.MethodName)) ∈ lw_all := lw_g (lw_at lw_m4 83 rfl) rfl
theorem q1006 : (Jvm.Cond.castable "java/lang/String" "java/lang/Comparable") ∈ lw_tbl := lw_at lw_m4 136 rfl
theorem q1007 : (Jvm.Cond.selects "java/lang/String" ({ cls := "java/lang/Comparable", name := "compareTo", desc := "(Ljava/lang/Object;)I" } : Jvm.MethodName) ({ cls := "java/lang/String", name := "compareTo", desc := "(Ljava/lang/Object;)I" } : Jvm.MethodName)) ∈ lw_all := lw_g (lw_at lw_m4 137 rfl) rfl
theorem q1008 : (Jvm.Cond.unhidden "java/lang/String" "compareTo" "(Ljava/lang/Object;)I") ∈ lw_tbl := lw_at lw_m4 138 rfl
theorem q1009 : (Jvm.Cond.instanceMethod ({ cls := "java/lang/String", name := "compareTo", desc := "(Ljava/lang/Object;)I" } : Jvm.MethodName)) ∈ lw_all := lw_g (lw_at lw_m4 139 rfl) rfl
theorem q1010 : (Jvm.Cond.publicMethod ({ cls := "java/lang/String", name := "compareTo", desc := "(Ljava/lang/Object;)I" } : Jvm.MethodName)) ∈ lw_tbl := lw_at lw_m4 140 rfl
theorem q1011 : (Jvm.Cond.code ({ cls := "java/lang/String", name := "compareTo", desc := "(Ljava/lang/Object;)I" } : Jvm.MethodName) prog_35_method_162_code (2 : Nat) (Option.some Jvm.ClassFile.FieldType.int)) ∈ lw_all := lw_g (lw_at lw_m4 141 rfl) rfl
theorem q1012 : (Jvm.Cond.methodLink "java/lang/String" (1084 : Nat) ({ cls := "java/lang/String", name := "compareTo", desc := "(Ljava/lang/String;)I" } : Jvm.MethodName)) ∈ lw_all := lw_g (lw_at lw_m4 142 rfl) rfl
theorem q1013 : (Jvm.Cond.instanceMethod ({ cls := "java/lang/String", name := "compareTo", desc := "(Ljava/lang/String;)I" } : Jvm.MethodName)) ∈ lw_all := lw_g (lw_at lw_m4 143 rfl) rfl
theorem q1014 : (Jvm.Cond.selects "java/lang/String" ({ cls := "java/lang/String", name := "compareTo", desc := "(Ljava/lang/String;)I" } : Jvm.MethodName) ({ cls := "java/lang/String", name := "compareTo", desc := "(Ljava/lang/String;)I" } : Jvm.MethodName)) ∈ lw_all := lw_g (lw_at lw_m4 144 rfl) rfl
theorem q1015 : (Jvm.Cond.code ({ cls := "java/lang/String", name := "compareTo", desc := "(Ljava/lang/String;)I" } : Jvm.MethodName) prog_35_method_71_code (5 : Nat) (Option.some Jvm.ClassFile.FieldType.int)) ∈ lw_all := lw_g (lw_at lw_m4 145 rfl) rfl
theorem q1016 : (Jvm.Cond.methodLink "java/lang/String" (586 : Nat) ({ cls := "java/lang/StringLatin1", name := "compareTo", desc := "([B[B)I" } : Jvm.MethodName)) ∈ lw_all := lw_g (lw_at lw_m4 146 rfl) rfl
theorem q1130 : (Jvm.Cond.methodLink "java/lang/String" (590 : Nat) ({ cls := "java/lang/StringUTF16", name := "compareTo", desc := "([B[B)I" } : Jvm.MethodName)) ∈ lw_all := lw_g (lw_at lw_m5 20 rfl) rfl
theorem q1137 : (Jvm.Cond.methodLink "java/lang/String" (591 : Nat) ({ cls := "java/lang/StringLatin1", name := "compareToUTF16", desc := "([B[B)I" } : Jvm.MethodName)) ∈ lw_all := lw_g (lw_at lw_m5 27 rfl) rfl
theorem q1148 : (Jvm.Cond.methodLink "java/lang/String" (594 : Nat) ({ cls := "java/lang/StringUTF16", name := "compareToLatin1", desc := "([B[B)I" } : Jvm.MethodName)) ∈ lw_all := lw_g (lw_at lw_m5 38 rfl) rfl
theorem q1174 : (Jvm.Cond.static ({ cls := "java/lang/String", name := "checkOffset", desc := "(II)V" } : Jvm.MethodName)) ∈ lw_all := lw_g (lw_at lw_m5 64 rfl) rfl
theorem q1175 : (Jvm.Cond.code ({ cls := "java/lang/String", name := "checkOffset", desc := "(II)V" } : Jvm.MethodName) prog_35_method_156_code (2 : Nat) (Option.none : Option Jvm.ClassFile.FieldType)) ∈ lw_all := lw_g (lw_at lw_m5 65 rfl) rfl
theorem q1636 : (Jvm.Cond.static ({ cls := "java/lang/String", name := "checkIndex", desc := "(II)V" } : Jvm.MethodName)) ∈ lw_all := lw_g (lw_at lw_m7 46 rfl) rfl
theorem q1637 : (Jvm.Cond.code ({ cls := "java/lang/String", name := "checkIndex", desc := "(II)V" } : Jvm.MethodName) prog_35_method_155_code (2 : Nat) (Option.none : Option Jvm.ClassFile.FieldType)) ∈ lw_all := lw_g (lw_at lw_m7 47 rfl) rfl
theorem q1638 : (Jvm.Cond.methodLink "java/lang/String" (1059 : Nat) ({ cls := "jdk/internal/util/Preconditions", name := "checkIndex", desc := "(IILjava/util/function/BiFunction;)I" } : Jvm.MethodName)) ∈ lw_all := lw_g (lw_at lw_m7 48 rfl) rfl
theorem q2635 : (Jvm.Cond.instanceMethod ({ cls := "java/lang/String", name := "charAt", desc := "(I)C" } : Jvm.MethodName)) ∈ lw_all := lw_g (lw_at lw_m11 85 rfl) rfl
theorem q2636 : (Jvm.Cond.selects "java/lang/String" ({ cls := "java/lang/String", name := "charAt", desc := "(I)C" } : Jvm.MethodName) ({ cls := "java/lang/String", name := "charAt", desc := "(I)C" } : Jvm.MethodName)) ∈ lw_all := lw_g (lw_at lw_m11 86 rfl) rfl
theorem q2637 : (Jvm.Cond.code ({ cls := "java/lang/String", name := "charAt", desc := "(I)C" } : Jvm.MethodName) prog_35_method_56_code (2 : Nat) (Option.some Jvm.ClassFile.FieldType.char)) ∈ lw_all := lw_g (lw_at lw_m11 87 rfl) rfl
theorem q2638 : (Jvm.Cond.methodLink "java/lang/String" (495 : Nat) ({ cls := "java/lang/StringLatin1", name := "charAt", desc := "([BI)C" } : Jvm.MethodName)) ∈ lw_all := lw_g (lw_at lw_m11 88 rfl) rfl
theorem q2642 : (Jvm.Cond.methodLink "java/lang/String" (498 : Nat) ({ cls := "java/lang/StringUTF16", name := "charAt", desc := "([BI)C" } : Jvm.MethodName)) ∈ lw_all := lw_g (lw_at lw_m11 92 rfl) rfl
theorem q3162 : (Jvm.Cond.selects "java/lang/String" ({ cls := "java/lang/String", name := "equals", desc := "(Ljava/lang/Object;)Z" } : Jvm.MethodName) ({ cls := "java/lang/String", name := "equals", desc := "(Ljava/lang/Object;)Z" } : Jvm.MethodName)) ∈ lw_all := lw_g (lw_at lw_m13 132 rfl) rfl
theorem q3163 : (Jvm.Cond.selects "java/lang/String" ({ cls := "java/lang/String", name := "hashCode", desc := "()I" } : Jvm.MethodName) ({ cls := "java/lang/String", name := "hashCode", desc := "()I" } : Jvm.MethodName)) ∈ lw_all := lw_g (lw_at lw_m13 133 rfl) rfl
theorem q3179 : (Jvm.Cond.castable "java/lang/String" "java/lang/Object") ∈ lw_tbl := lw_at lw_m13 149 rfl
theorem q167 : (Jvm.Cond.initialized "java/lang/StringUTF16") ∈ lw_all := lw_g (lw_at lw_m1 17 rfl) rfl
theorem q362 : (Jvm.Cond.static ({ cls := "java/lang/StringUTF16", name := "newBytesFor", desc := "(I)[B" } : Jvm.MethodName)) ∈ lw_all := lw_g (lw_at lw_m1 212 rfl) rfl
theorem q363 : (Jvm.Cond.code ({ cls := "java/lang/StringUTF16", name := "newBytesFor", desc := "(I)[B" } : Jvm.MethodName) prog_39_method_2_code (1 : Nat) (Option.some (Jvm.ClassFile.FieldType.array Jvm.ClassFile.FieldType.byte))) ∈ lw_all := lw_g (lw_at lw_m1 213 rfl) rfl
theorem q364 : (Jvm.Cond.methodLink "java/lang/StringUTF16" (11 : Nat) ({ cls := "java/lang/StringUTF16", name := "newBytesLength", desc := "(I)I" } : Jvm.MethodName)) ∈ lw_all := lw_g (lw_at lw_m1 214 rfl) rfl
theorem q365 : (Jvm.Cond.static ({ cls := "java/lang/StringUTF16", name := "newBytesLength", desc := "(I)I" } : Jvm.MethodName)) ∈ lw_all := lw_g (lw_at lw_m1 215 rfl) rfl
theorem q366 : (Jvm.Cond.code ({ cls := "java/lang/StringUTF16", name := "newBytesLength", desc := "(I)I" } : Jvm.MethodName) prog_39_method_3_code (1 : Nat) (Option.some Jvm.ClassFile.FieldType.int)) ∈ lw_all := lw_g (lw_at lw_m1 216 rfl) rfl
theorem q367 : (Jvm.Cond.constant "java/lang/StringUTF16" (20 : Nat) (1073741823 : Int32)) ∈ lw_all := lw_g (lw_at lw_m1 217 rfl) rfl
theorem q436 : (Jvm.Cond.static ({ cls := "java/lang/StringUTF16", name := "putCharsAt", desc := "([BICCCC)I" } : Jvm.MethodName)) ∈ lw_all := lw_g (lw_at lw_m2 46 rfl) rfl
theorem q437 : (Jvm.Cond.code ({ cls := "java/lang/StringUTF16", name := "putCharsAt", desc := "([BICCCC)I" } : Jvm.MethodName) prog_39_method_81_code (7 : Nat) (Option.some Jvm.ClassFile.FieldType.int)) ∈ lw_all := lw_g (lw_at lw_m2 47 rfl) rfl
theorem q438 : (Jvm.Cond.methodLink "java/lang/StringUTF16" (96 : Nat) ({ cls := "java/lang/StringUTF16", name := "checkBoundsBeginEnd", desc := "(II[B)V" } : Jvm.MethodName)) ∈ lw_all := lw_g (lw_at lw_m2 48 rfl) rfl
theorem q439 : (Jvm.Cond.static ({ cls := "java/lang/StringUTF16", name := "checkBoundsBeginEnd", desc := "(II[B)V" } : Jvm.MethodName)) ∈ lw_all := lw_g (lw_at lw_m2 49 rfl) rfl
theorem q440 : (Jvm.Cond.code ({ cls := "java/lang/StringUTF16", name := "checkBoundsBeginEnd", desc := "(II[B)V" } : Jvm.MethodName) prog_39_method_93_code (3 : Nat) (Option.none : Option Jvm.ClassFile.FieldType)) ∈ lw_all := lw_g (lw_at lw_m2 50 rfl) rfl
theorem q441 : (Jvm.Cond.methodLink "java/lang/StringUTF16" (48 : Nat) ({ cls := "java/lang/StringUTF16", name := "length", desc := "([B)I" } : Jvm.MethodName)) ∈ lw_all := lw_g (lw_at lw_m2 51 rfl) rfl
theorem q442 : (Jvm.Cond.static ({ cls := "java/lang/StringUTF16", name := "length", desc := "([B)I" } : Jvm.MethodName)) ∈ lw_all := lw_g (lw_at lw_m2 52 rfl) rfl
theorem q443 : (Jvm.Cond.code ({ cls := "java/lang/StringUTF16", name := "length", desc := "([B)I" } : Jvm.MethodName) prog_39_method_6_code (1 : Nat) (Option.some Jvm.ClassFile.FieldType.int)) ∈ lw_all := lw_g (lw_at lw_m2 53 rfl) rfl
theorem q444 : (Jvm.Cond.methodLink "java/lang/StringUTF16" (241 : Nat) ({ cls := "java/lang/String", name := "checkBoundsBeginEnd", desc := "(III)V" } : Jvm.MethodName)) ∈ lw_all := lw_g (lw_at lw_m2 54 rfl) rfl
theorem q452 : (Jvm.Cond.methodLink "java/lang/StringUTF16" (111 : Nat) ({ cls := "java/lang/StringUTF16", name := "putChar", desc := "([BII)V" } : Jvm.MethodName)) ∈ lw_all := lw_g (lw_at lw_m2 62 rfl) rfl
theorem q453 : (Jvm.Cond.static ({ cls := "java/lang/StringUTF16", name := "putChar", desc := "([BII)V" } : Jvm.MethodName)) ∈ lw_all := lw_g (lw_at lw_m2 63 rfl) rfl
theorem q454 : (Jvm.Cond.code ({ cls := "java/lang/StringUTF16", name := "putChar", desc := "([BII)V" } : Jvm.MethodName) prog_39_method_4_code (3 : Nat) (Option.none : Option Jvm.ClassFile.FieldType)) ∈ lw_all := lw_g (lw_at lw_m2 64 rfl) rfl
theorem q455 : (Jvm.Cond.fieldLink "java/lang/StringUTF16" (44 : Nat) "java/lang/StringUTF16" "$assertionsDisabled" "Z") ∈ lw_all := lw_g (lw_at lw_m2 65 rfl) rfl
theorem q456 : (Jvm.Cond.laysStatic "java/lang/StringUTF16" "$assertionsDisabled" "Z") ∈ lw_tbl := lw_at lw_m2 66 rfl
theorem q457 : (Jvm.Cond.fieldLink "java/lang/StringUTF16" (59 : Nat) "java/lang/StringUTF16" "HI_BYTE_SHIFT" "I") ∈ lw_all := lw_g (lw_at lw_m2 67 rfl) rfl
theorem q458 : (Jvm.Cond.laysStatic "java/lang/StringUTF16" "HI_BYTE_SHIFT" "I") ∈ lw_tbl := lw_at lw_m2 68 rfl
theorem q459 : (Jvm.Cond.fieldLink "java/lang/StringUTF16" (63 : Nat) "java/lang/StringUTF16" "LO_BYTE_SHIFT" "I") ∈ lw_all := lw_g (lw_at lw_m2 69 rfl) rfl
theorem q460 : (Jvm.Cond.laysStatic "java/lang/StringUTF16" "LO_BYTE_SHIFT" "I") ∈ lw_tbl := lw_at lw_m2 70 rfl
theorem q487 : (Jvm.Cond.static ({ cls := "java/lang/StringUTF16", name := "inflate", desc := "([BI[BII)V" } : Jvm.MethodName)) ∈ lw_all := lw_g (lw_at lw_m2 97 rfl) rfl
theorem q488 : (Jvm.Cond.code ({ cls := "java/lang/StringUTF16", name := "inflate", desc := "([BI[BII)V" } : Jvm.MethodName) prog_39_method_86_code (6 : Nat) (Option.none : Option Jvm.ClassFile.FieldType)) ∈ lw_all := lw_g (lw_at lw_m2 98 rfl) rfl
theorem q489 : (Jvm.Cond.methodLink "java/lang/StringUTF16" (173 : Nat) ({ cls := "java/lang/StringUTF16", name := "checkBoundsOffCount", desc := "(II[B)V" } : Jvm.MethodName)) ∈ lw_all := lw_g (lw_at lw_m2 99 rfl) rfl
theorem q490 : (Jvm.Cond.static ({ cls := "java/lang/StringUTF16", name := "checkBoundsOffCount", desc := "(II[B)V" } : Jvm.MethodName)) ∈ lw_all := lw_g (lw_at lw_m2 100 rfl) rfl
theorem q491 : (Jvm.Cond.code ({ cls := "java/lang/StringUTF16", name := "checkBoundsOffCount", desc := "(II[B)V" } : Jvm.MethodName) prog_39_method_94_code (3 : Nat) (Option.none : Option Jvm.ClassFile.FieldType)) ∈ lw_all := lw_g (lw_at lw_m2 101 rfl) rfl
theorem q492 : (Jvm.Cond.methodLink "java/lang/StringUTF16" (419 : Nat) ({ cls := "java/lang/String", name := "checkBoundsOffCount", desc := "(III)I" } : Jvm.MethodName)) ∈ lw_all := lw_g (lw_at lw_m2 102 rfl) rfl
theorem q522 : (Jvm.Cond.static ({ cls := "java/lang/StringUTF16", name := "getChars", desc := "(III[B)I" } : Jvm.MethodName)) ∈ lw_all := lw_g (lw_at lw_m2 132 rfl) rfl
theorem q523 : (Jvm.Cond.code ({ cls := "java/lang/StringUTF16", name := "getChars", desc := "(III[B)I" } : Jvm.MethodName) prog_39_method_77_code (5 : Nat) (Option.some Jvm.ClassFile.FieldType.int)) ∈ lw_all := lw_g (lw_at lw_m2 133 rfl) rfl
theorem q524 : (Jvm.Cond.methodLink "java/lang/StringUTF16" (393 : Nat) ({ cls := "java/lang/StringUTF16", name := "getChars", desc := "(II[B)I" } : Jvm.MethodName)) ∈ lw_all := lw_g (lw_at lw_m2 134 rfl) rfl
theorem q525 : (Jvm.Cond.static ({ cls := "java/lang/StringUTF16", name := "getChars", desc := "(II[B)I" } : Jvm.MethodName)) ∈ lw_all := lw_g (lw_at lw_m2 135 rfl) rfl
theorem q526 : (Jvm.Cond.code ({ cls := "java/lang/StringUTF16", name := "getChars", desc := "(II[B)I" } : Jvm.MethodName) prog_39_method_89_code (7 : Nat) (Option.some Jvm.ClassFile.FieldType.int)) ∈ lw_all := lw_g (lw_at lw_m2 136 rfl) rfl
theorem q527 : (Jvm.Cond.fieldLink "java/lang/StringUTF16" (403 : Nat) "java/lang/Integer" "DigitOnes" "[B") ∈ lw_all := lw_g (lw_at lw_m2 137 rfl) rfl
theorem q528 : (Jvm.Cond.fieldLink "java/lang/StringUTF16" (407 : Nat) "java/lang/Integer" "DigitTens" "[B") ∈ lw_all := lw_g (lw_at lw_m2 138 rfl) rfl
theorem q598 : (Jvm.Cond.static ({ cls := "java/lang/StringUTF16", name := "compress", desc := "([BII)[B" } : Jvm.MethodName)) ∈ lw_all := lw_g (lw_at lw_m2 208 rfl) rfl
theorem q599 : (Jvm.Cond.code ({ cls := "java/lang/StringUTF16", name := "compress", desc := "([BII)[B" } : Jvm.MethodName) prog_39_method_17_code (6 : Nat) (Option.some (Jvm.ClassFile.FieldType.array Jvm.ClassFile.FieldType.byte))) ∈ lw_all := lw_g (lw_at lw_m2 209 rfl) rfl
theorem q600 : (Jvm.Cond.methodLink "java/lang/StringUTF16" (123 : Nat) ({ cls := "java/lang/StringUTF16", name := "compress", desc := "([BI[BII)I" } : Jvm.MethodName)) ∈ lw_all := lw_g (lw_at lw_m2 210 rfl) rfl
theorem q601 : (Jvm.Cond.static ({ cls := "java/lang/StringUTF16", name := "compress", desc := "([BI[BII)I" } : Jvm.MethodName)) ∈ lw_all := lw_g (lw_at lw_m2 211 rfl) rfl
theorem q602 : (Jvm.Cond.code ({ cls := "java/lang/StringUTF16", name := "compress", desc := "([BI[BII)I" } : Jvm.MethodName) prog_39_method_22_code (7 : Nat) (Option.some Jvm.ClassFile.FieldType.int)) ∈ lw_all := lw_g (lw_at lw_m2 212 rfl) rfl
theorem q603 : (Jvm.Cond.methodLink "java/lang/StringUTF16" (71 : Nat) ({ cls := "java/lang/StringUTF16", name := "getChar", desc := "([BI)C" } : Jvm.MethodName)) ∈ lw_all := lw_g (lw_at lw_m2 213 rfl) rfl
theorem q604 : (Jvm.Cond.static ({ cls := "java/lang/StringUTF16", name := "getChar", desc := "([BI)C" } : Jvm.MethodName)) ∈ lw_all := lw_g (lw_at lw_m2 214 rfl) rfl
theorem q605 : (Jvm.Cond.code ({ cls := "java/lang/StringUTF16", name := "getChar", desc := "([BI)C" } : Jvm.MethodName) prog_39_method_5_code (2 : Nat) (Option.some Jvm.ClassFile.FieldType.char)) ∈ lw_all := lw_g (lw_at lw_m2 215 rfl) rfl
theorem q606 : (Jvm.Cond.methodLink "java/lang/StringUTF16" (126 : Nat) ({ cls := "java/util/Arrays", name := "copyOfRange", desc := "([BII)[B" } : Jvm.MethodName)) ∈ lw_all := lw_g (lw_at lw_m2 216 rfl) rfl
theorem q608 : (Jvm.Cond.static ({ cls := "java/lang/StringUTF16", name := "coderFromArrayLen", desc := "([BI)B" } : Jvm.MethodName)) ∈ lw_all := lw_g (lw_at lw_m2 218 rfl) rfl
theorem q609 : (Jvm.Cond.code ({ cls := "java/lang/StringUTF16", name := "coderFromArrayLen", desc := "([BI)B" } : Jvm.MethodName) prog_39_method_15_code (2 : Nat) (Option.some Jvm.ClassFile.FieldType.byte)) ∈ lw_all := lw_g (lw_at lw_m2 219 rfl) rfl
theorem q914 : (Jvm.Cond.static ({ cls := "java/lang/StringUTF16", name := "hashCode", desc := "([B)I" } : Jvm.MethodName)) ∈ lw_all := lw_g (lw_at lw_m4 44 rfl) rfl
theorem q915 : (Jvm.Cond.code ({ cls := "java/lang/StringUTF16", name := "hashCode", desc := "([B)I" } : Jvm.MethodName) prog_39_method_39_code (1 : Nat) (Option.some Jvm.ClassFile.FieldType.int)) ∈ lw_all := lw_g (lw_at lw_m4 45 rfl) rfl
theorem q916 : (Jvm.Cond.methodLink "java/lang/StringUTF16" (220 : Nat) ({ cls := "jdk/internal/util/ArraysSupport", name := "vectorizedHashCode", desc := "(Ljava/lang/Object;IIII)I" } : Jvm.MethodName)) ∈ lw_all := lw_g (lw_at lw_m4 46 rfl) rfl
theorem q1131 : (Jvm.Cond.static ({ cls := "java/lang/StringUTF16", name := "compareTo", desc := "([B[B)I" } : Jvm.MethodName)) ∈ lw_all := lw_g (lw_at lw_m5 21 rfl) rfl
theorem q1132 : (Jvm.Cond.code ({ cls := "java/lang/StringUTF16", name := "compareTo", desc := "([B[B)I" } : Jvm.MethodName) prog_39_method_29_code (4 : Nat) (Option.some Jvm.ClassFile.FieldType.int)) ∈ lw_all := lw_g (lw_at lw_m5 22 rfl) rfl
theorem q1133 : (Jvm.Cond.methodLink "java/lang/StringUTF16" (176 : Nat) ({ cls := "java/lang/StringUTF16", name := "compareValues", desc := "([B[BII)I" } : Jvm.MethodName)) ∈ lw_all := lw_g (lw_at lw_m5 23 rfl) rfl
theorem q1134 : (Jvm.Cond.static ({ cls := "java/lang/StringUTF16", name := "compareValues", desc := "([B[BII)I" } : Jvm.MethodName)) ∈ lw_all := lw_g (lw_at lw_m5 24 rfl) rfl
theorem q1135 : (Jvm.Cond.code ({ cls := "java/lang/StringUTF16", name := "compareValues", desc := "([B[BII)I" } : Jvm.MethodName) prog_39_method_31_code (8 : Nat) (Option.some Jvm.ClassFile.FieldType.int)) ∈ lw_all := lw_g (lw_at lw_m5 25 rfl) rfl
theorem q1136 : (Jvm.Cond.methodLink "java/lang/StringUTF16" (183 : Nat) ({ cls := "java/lang/Math", name := "min", desc := "(II)I" } : Jvm.MethodName)) ∈ lw_all := lw_g (lw_at lw_m5 26 rfl) rfl
theorem q1149 : (Jvm.Cond.static ({ cls := "java/lang/StringUTF16", name := "compareToLatin1", desc := "([B[B)I" } : Jvm.MethodName)) ∈ lw_all := lw_g (lw_at lw_m5 39 rfl) rfl
theorem q1150 : (Jvm.Cond.code ({ cls := "java/lang/StringUTF16", name := "compareToLatin1", desc := "([B[B)I" } : Jvm.MethodName) prog_39_method_32_code (2 : Nat) (Option.some Jvm.ClassFile.FieldType.int)) ∈ lw_all := lw_g (lw_at lw_m5 40 rfl) rfl
theorem q1151 : (Jvm.Cond.methodLink "java/lang/StringUTF16" (189 : Nat) ({ cls := "java/lang/StringLatin1", name := "compareToUTF16", desc := "([B[B)I" } : Jvm.MethodName)) ∈ lw_all := lw_g (lw_at lw_m5 41 rfl) rfl
theorem q1168 : (Jvm.Cond.static ({ cls := "java/lang/StringUTF16", name := "compareTo", desc := "([B[BII)I" } : Jvm.MethodName)) ∈ lw_all := lw_g (lw_at lw_m5 58 rfl) rfl
theorem q1169 : (Jvm.Cond.code ({ cls := "java/lang/StringUTF16", name := "compareTo", desc := "([B[BII)I" } : Jvm.MethodName) prog_39_method_30_code (4 : Nat) (Option.some Jvm.ClassFile.FieldType.int)) ∈ lw_all := lw_g (lw_at lw_m5 59 rfl) rfl
theorem q1170 : (Jvm.Cond.methodLink "java/lang/StringUTF16" (180 : Nat) ({ cls := "java/lang/StringUTF16", name := "checkOffset", desc := "(I[B)V" } : Jvm.MethodName)) ∈ lw_all := lw_g (lw_at lw_m5 60 rfl) rfl
theorem q1171 : (Jvm.Cond.static ({ cls := "java/lang/StringUTF16", name := "checkOffset", desc := "(I[B)V" } : Jvm.MethodName)) ∈ lw_all := lw_g (lw_at lw_m5 61 rfl) rfl
theorem q1172 : (Jvm.Cond.code ({ cls := "java/lang/StringUTF16", name := "checkOffset", desc := "(I[B)V" } : Jvm.MethodName) prog_39_method_92_code (2 : Nat) (Option.none : Option Jvm.ClassFile.FieldType)) ∈ lw_all := lw_g (lw_at lw_m5 62 rfl) rfl
theorem q1173 : (Jvm.Cond.methodLink "java/lang/StringUTF16" (417 : Nat) ({ cls := "java/lang/String", name := "checkOffset", desc := "(II)V" } : Jvm.MethodName)) ∈ lw_all := lw_g (lw_at lw_m5 63 rfl) rfl
theorem q1181 : (Jvm.Cond.static ({ cls := "java/lang/StringUTF16", name := "compareToLatin1", desc := "([B[BII)I" } : Jvm.MethodName)) ∈ lw_all := lw_g (lw_at lw_m5 71 rfl) rfl
theorem q1182 : (Jvm.Cond.code ({ cls := "java/lang/StringUTF16", name := "compareToLatin1", desc := "([B[BII)I" } : Jvm.MethodName) prog_39_method_33_code (4 : Nat) (Option.some Jvm.ClassFile.FieldType.int)) ∈ lw_all := lw_g (lw_at lw_m5 72 rfl) rfl
theorem q1183 : (Jvm.Cond.methodLink "java/lang/StringUTF16" (193 : Nat) ({ cls := "java/lang/StringLatin1", name := "compareToUTF16", desc := "([B[BII)I" } : Jvm.MethodName)) ∈ lw_all := lw_g (lw_at lw_m5 73 rfl) rfl
theorem q1630 : (Jvm.Cond.static ({ cls := "java/lang/StringUTF16", name := "putCharSB", desc := "([BII)V" } : Jvm.MethodName)) ∈ lw_all := lw_g (lw_at lw_m7 40 rfl) rfl
theorem q1631 : (Jvm.Cond.code ({ cls := "java/lang/StringUTF16", name := "putCharSB", desc := "([BII)V" } : Jvm.MethodName) prog_39_method_71_code (3 : Nat) (Option.none : Option Jvm.ClassFile.FieldType)) ∈ lw_all := lw_g (lw_at lw_m7 41 rfl) rfl
theorem q1632 : (Jvm.Cond.methodLink "java/lang/StringUTF16" (67 : Nat) ({ cls := "java/lang/StringUTF16", name := "checkIndex", desc := "(I[B)V" } : Jvm.MethodName)) ∈ lw_all := lw_g (lw_at lw_m7 42 rfl) rfl
theorem q1633 : (Jvm.Cond.static ({ cls := "java/lang/StringUTF16", name := "checkIndex", desc := "(I[B)V" } : Jvm.MethodName)) ∈ lw_all := lw_g (lw_at lw_m7 43 rfl) rfl
theorem q1634 : (Jvm.Cond.code ({ cls := "java/lang/StringUTF16", name := "checkIndex", desc := "(I[B)V" } : Jvm.MethodName) prog_39_method_91_code (2 : Nat) (Option.none : Option Jvm.ClassFile.FieldType)) ∈ lw_all := lw_g (lw_at lw_m7 44 rfl) rfl
theorem q1635 : (Jvm.Cond.methodLink "java/lang/StringUTF16" (414 : Nat) ({ cls := "java/lang/String", name := "checkIndex", desc := "(II)V" } : Jvm.MethodName)) ∈ lw_all := lw_g (lw_at lw_m7 45 rfl) rfl
theorem q2437 : (Jvm.Cond.static ({ cls := "java/lang/StringUTF16", name := "fillNull", desc := "([BII)V" } : Jvm.MethodName)) ∈ lw_all := lw_g (lw_at lw_m10 127 rfl) rfl
theorem q2438 : (Jvm.Cond.code ({ cls := "java/lang/StringUTF16", name := "fillNull", desc := "([BII)V" } : Jvm.MethodName) prog_39_method_70_code (3 : Nat) (Option.none : Option Jvm.ClassFile.FieldType)) ∈ lw_all := lw_g (lw_at lw_m10 128 rfl) rfl
theorem q2439 : (Jvm.Cond.methodLink "java/lang/StringUTF16" (380 : Nat) ({ cls := "java/util/Arrays", name := "fill", desc := "([BIIB)V" } : Jvm.MethodName)) ∈ lw_all := lw_g (lw_at lw_m10 129 rfl) rfl
theorem q2643 : (Jvm.Cond.static ({ cls := "java/lang/StringUTF16", name := "charAt", desc := "([BI)C" } : Jvm.MethodName)) ∈ lw_all := lw_g (lw_at lw_m11 93 rfl) rfl
theorem q2644 : (Jvm.Cond.code ({ cls := "java/lang/StringUTF16", name := "charAt", desc := "([BI)C" } : Jvm.MethodName) prog_39_method_83_code (2 : Nat) (Option.some Jvm.ClassFile.FieldType.char)) ∈ lw_all := lw_g (lw_at lw_m11 94 rfl) rfl
theorem q168 : (Jvm.Cond.initialized "jdk/internal/util/ArraysSupport") ∈ lw_all := lw_g (lw_at lw_m1 18 rfl) rfl
theorem q404 : (Jvm.Cond.static ({ cls := "jdk/internal/util/ArraysSupport", name := "newLength", desc := "(III)I" } : Jvm.MethodName)) ∈ lw_all := lw_g (lw_at lw_m2 14 rfl) rfl
theorem q405 : (Jvm.Cond.code ({ cls := "jdk/internal/util/ArraysSupport", name := "newLength", desc := "(III)I" } : Jvm.MethodName) prog_67_method_27_code (4 : Nat) (Option.some Jvm.ClassFile.FieldType.int)) ∈ lw_all := lw_g (lw_at lw_m2 15 rfl) rfl
theorem q406 : (Jvm.Cond.methodLink "jdk/internal/util/ArraysSupport" (194 : Nat) ({ cls := "java/lang/Math", name := "max", desc := "(II)I" } : Jvm.MethodName)) ∈ lw_all := lw_g (lw_at lw_m2 16 rfl) rfl
theorem q409 : (Jvm.Cond.constant "jdk/internal/util/ArraysSupport" (200 : Nat) (2147483639 : Int32)) ∈ lw_all := lw_g (lw_at lw_m2 19 rfl) rfl
theorem q410 : (Jvm.Cond.methodLink "jdk/internal/util/ArraysSupport" (201 : Nat) ({ cls := "jdk/internal/util/ArraysSupport", name := "hugeLength", desc := "(II)I" } : Jvm.MethodName)) ∈ lw_all := lw_g (lw_at lw_m2 20 rfl) rfl
theorem q411 : (Jvm.Cond.static ({ cls := "jdk/internal/util/ArraysSupport", name := "hugeLength", desc := "(II)I" } : Jvm.MethodName)) ∈ lw_all := lw_g (lw_at lw_m2 21 rfl) rfl
theorem q412 : (Jvm.Cond.code ({ cls := "jdk/internal/util/ArraysSupport", name := "hugeLength", desc := "(II)I" } : Jvm.MethodName) prog_67_method_28_code (3 : Nat) (Option.some Jvm.ClassFile.FieldType.int)) ∈ lw_all := lw_g (lw_at lw_m2 22 rfl) rfl
theorem q868 : (Jvm.Cond.static ({ cls := "jdk/internal/util/ArraysSupport", name := "vectorizedHashCode", desc := "(Ljava/lang/Object;IIII)I" } : Jvm.MethodName)) ∈ lw_all := lw_g (lw_at lw_m3 238 rfl) rfl
theorem q869 : (Jvm.Cond.code ({ cls := "jdk/internal/util/ArraysSupport", name := "vectorizedHashCode", desc := "(Ljava/lang/Object;IIII)I" } : Jvm.MethodName) prog_67_method_4_code (5 : Nat) (Option.some Jvm.ClassFile.FieldType.int)) ∈ lw_all := lw_g (lw_at lw_m3 239 rfl) rfl
theorem q870 : (Jvm.Cond.classLink "jdk/internal/util/ArraysSupport" (60 : Nat) "[B") ∈ lw_all := lw_g (lw_at lw_m4 0 rfl) rfl
theorem q871 : (Jvm.Cond.methodLink "jdk/internal/util/ArraysSupport" (62 : Nat) ({ cls := "jdk/internal/util/ArraysSupport", name := "signedHashCode", desc := "(I[BII)I" } : Jvm.MethodName)) ∈ lw_all := lw_g (lw_at lw_m4 1 rfl) rfl
theorem q872 : (Jvm.Cond.static ({ cls := "jdk/internal/util/ArraysSupport", name := "signedHashCode", desc := "(I[BII)I" } : Jvm.MethodName)) ∈ lw_all := lw_g (lw_at lw_m4 2 rfl) rfl
theorem q873 : (Jvm.Cond.code ({ cls := "jdk/internal/util/ArraysSupport", name := "signedHashCode", desc := "(I[BII)I" } : Jvm.MethodName) prog_67_method_5_code (6 : Nat) (Option.some Jvm.ClassFile.FieldType.int)) ∈ lw_all := lw_g (lw_at lw_m4 3 rfl) rfl
theorem q874 : (Jvm.Cond.methodLink "jdk/internal/util/ArraysSupport" (66 : Nat) ({ cls := "jdk/internal/util/ArraysSupport", name := "utf16hashCode", desc := "(I[BII)I" } : Jvm.MethodName)) ∈ lw_all := lw_g (lw_at lw_m4 4 rfl) rfl
theorem q875 : (Jvm.Cond.static ({ cls := "jdk/internal/util/ArraysSupport", name := "utf16hashCode", desc := "(I[BII)I" } : Jvm.MethodName)) ∈ lw_all := lw_g (lw_at lw_m4 5 rfl) rfl
theorem q876 : (Jvm.Cond.code ({ cls := "jdk/internal/util/ArraysSupport", name := "utf16hashCode", desc := "(I[BII)I" } : Jvm.MethodName) prog_67_method_10_code (6 : Nat) (Option.some Jvm.ClassFile.FieldType.int)) ∈ lw_all := lw_g (lw_at lw_m4 6 rfl) rfl
theorem q877 : (Jvm.Cond.fieldLink "jdk/internal/util/ArraysSupport" (106 : Nat) "jdk/internal/util/ArraysSupport" "JLA" "Ljdk/internal/access/JavaLangAccess;") ∈ lw_all := lw_g (lw_at lw_m4 7 rfl) rfl
theorem q878 : (Jvm.Cond.laysStatic "jdk/internal/util/ArraysSupport" "JLA" "Ljdk/internal/access/JavaLangAccess;") ∈ lw_tbl := lw_at lw_m4 8 rfl
theorem q879 : (Jvm.Cond.interfaceEntry "jdk/internal/util/ArraysSupport" (110 : Nat)) ∈ lw_tbl := lw_at lw_m4 9 rfl
theorem q880 : (Jvm.Cond.methodLink "jdk/internal/util/ArraysSupport" (110 : Nat) ({ cls := "jdk/internal/access/JavaLangAccess", name := "getUTF16Char", desc := "([BI)C" } : Jvm.MethodName)) ∈ lw_all := lw_g (lw_at lw_m4 10 rfl) rfl
theorem q890 : (Jvm.Cond.classLink "jdk/internal/util/ArraysSupport" (69 : Nat) "[C") ∈ lw_all := lw_g (lw_at lw_m4 20 rfl) rfl
theorem q891 : (Jvm.Cond.methodLink "jdk/internal/util/ArraysSupport" (71 : Nat) ({ cls := "jdk/internal/util/ArraysSupport", name := "hashCode", desc := "(I[CII)I" } : Jvm.MethodName)) ∈ lw_all := lw_g (lw_at lw_m4 21 rfl) rfl
theorem q892 : (Jvm.Cond.static ({ cls := "jdk/internal/util/ArraysSupport", name := "hashCode", desc := "(I[CII)I" } : Jvm.MethodName)) ∈ lw_all := lw_g (lw_at lw_m4 22 rfl) rfl
theorem q893 : (Jvm.Cond.code ({ cls := "jdk/internal/util/ArraysSupport", name := "hashCode", desc := "(I[CII)I" } : Jvm.MethodName) prog_67_method_7_code (6 : Nat) (Option.some Jvm.ClassFile.FieldType.int)) ∈ lw_all := lw_g (lw_at lw_m4 23 rfl) rfl
theorem q894 : (Jvm.Cond.methodLink "jdk/internal/util/ArraysSupport" (75 : Nat) ({ cls := "jdk/internal/util/ArraysSupport", name := "hashCode", desc := "(I[BII)I" } : Jvm.MethodName)) ∈ lw_all := lw_g (lw_at lw_m4 24 rfl) rfl
theorem q895 : (Jvm.Cond.static ({ cls := "jdk/internal/util/ArraysSupport", name := "hashCode", desc := "(I[BII)I" } : Jvm.MethodName)) ∈ lw_all := lw_g (lw_at lw_m4 25 rfl) rfl
theorem q896 : (Jvm.Cond.code ({ cls := "jdk/internal/util/ArraysSupport", name := "hashCode", desc := "(I[BII)I" } : Jvm.MethodName) prog_67_method_6_code (6 : Nat) (Option.some Jvm.ClassFile.FieldType.int)) ∈ lw_all := lw_g (lw_at lw_m4 26 rfl) rfl
theorem q897 : (Jvm.Cond.classLink "jdk/internal/util/ArraysSupport" (77 : Nat) "[S") ∈ lw_all := lw_g (lw_at lw_m4 27 rfl) rfl
theorem q898 : (Jvm.Cond.methodLink "jdk/internal/util/ArraysSupport" (79 : Nat) ({ cls := "jdk/internal/util/ArraysSupport", name := "hashCode", desc := "(I[SII)I" } : Jvm.MethodName)) ∈ lw_all := lw_g (lw_at lw_m4 28 rfl) rfl
theorem q899 : (Jvm.Cond.static ({ cls := "jdk/internal/util/ArraysSupport", name := "hashCode", desc := "(I[SII)I" } : Jvm.MethodName)) ∈ lw_all := lw_g (lw_at lw_m4 29 rfl) rfl
theorem q900 : (Jvm.Cond.code ({ cls := "jdk/internal/util/ArraysSupport", name := "hashCode", desc := "(I[SII)I" } : Jvm.MethodName) prog_67_method_8_code (6 : Nat) (Option.some Jvm.ClassFile.FieldType.int)) ∈ lw_all := lw_g (lw_at lw_m4 30 rfl) rfl
theorem q901 : (Jvm.Cond.classLink "jdk/internal/util/ArraysSupport" (82 : Nat) "[I") ∈ lw_all := lw_g (lw_at lw_m4 31 rfl) rfl
theorem q902 : (Jvm.Cond.methodLink "jdk/internal/util/ArraysSupport" (84 : Nat) ({ cls := "jdk/internal/util/ArraysSupport", name := "hashCode", desc := "(I[III)I" } : Jvm.MethodName)) ∈ lw_all := lw_g (lw_at lw_m4 32 rfl) rfl
theorem q903 : (Jvm.Cond.static ({ cls := "jdk/internal/util/ArraysSupport", name := "hashCode", desc := "(I[III)I" } : Jvm.MethodName)) ∈ lw_all := lw_g (lw_at lw_m4 33 rfl) rfl
theorem q904 : (Jvm.Cond.code ({ cls := "jdk/internal/util/ArraysSupport", name := "hashCode", desc := "(I[III)I" } : Jvm.MethodName) prog_67_method_9_code (6 : Nat) (Option.some Jvm.ClassFile.FieldType.int)) ∈ lw_all := lw_g (lw_at lw_m4 34 rfl) rfl
theorem q905 : (Jvm.Cond.classLink "jdk/internal/util/ArraysSupport" (87 : Nat) "java/lang/IllegalArgumentException") ∈ lw_all := lw_g (lw_at lw_m4 35 rfl) rfl
theorem q906 : (Jvm.Cond.classLink "jdk/internal/util/ArraysSupport" (89 : Nat) "java/lang/StringBuilder") ∈ lw_all := lw_g (lw_at lw_m4 36 rfl) rfl
theorem q907 : (Jvm.Cond.methodLink "jdk/internal/util/ArraysSupport" (91 : Nat) ({ cls := "java/lang/StringBuilder", name := "<init>", desc := "()V" } : Jvm.MethodName)) ∈ lw_all := lw_g (lw_at lw_m4 37 rfl) rfl
theorem q908 : (Jvm.Cond.stringRef "jdk/internal/util/ArraysSupport" (92 : Nat) "unrecognized basic type: ") ∈ lw_tbl := lw_at lw_m4 38 rfl
theorem q909 : (Jvm.Cond.methodLink "jdk/internal/util/ArraysSupport" (94 : Nat) ({ cls := "java/lang/StringBuilder", name := "append", desc := "(Ljava/lang/String;)Ljava/lang/StringBuilder;" } : Jvm.MethodName)) ∈ lw_all := lw_g (lw_at lw_m4 39 rfl) rfl
theorem q910 : (Jvm.Cond.methodLink "jdk/internal/util/ArraysSupport" (98 : Nat) ({ cls := "java/lang/StringBuilder", name := "append", desc := "(I)Ljava/lang/StringBuilder;" } : Jvm.MethodName)) ∈ lw_all := lw_g (lw_at lw_m4 40 rfl) rfl
theorem q911 : (Jvm.Cond.methodLink "jdk/internal/util/ArraysSupport" (101 : Nat) ({ cls := "java/lang/StringBuilder", name := "toString", desc := "()Ljava/lang/String;" } : Jvm.MethodName)) ∈ lw_all := lw_g (lw_at lw_m4 41 rfl) rfl
theorem q912 : (Jvm.Cond.methodLink "jdk/internal/util/ArraysSupport" (105 : Nat) ({ cls := "java/lang/IllegalArgumentException", name := "<init>", desc := "(Ljava/lang/String;)V" } : Jvm.MethodName)) ∈ lw_all := lw_g (lw_at lw_m4 42 rfl) rfl
theorem q1024 : (Jvm.Cond.static ({ cls := "jdk/internal/util/ArraysSupport", name := "mismatch", desc := "([B[BI)I" } : Jvm.MethodName)) ∈ lw_all := lw_g (lw_at lw_m4 154 rfl) rfl
theorem q1025 : (Jvm.Cond.code ({ cls := "jdk/internal/util/ArraysSupport", name := "mismatch", desc := "([B[BI)I" } : Jvm.MethodName) prog_67_method_13_code (4 : Nat) (Option.some Jvm.ClassFile.FieldType.int)) ∈ lw_all := lw_g (lw_at lw_m4 155 rfl) rfl
theorem q1026 : (Jvm.Cond.fieldLink "jdk/internal/util/ArraysSupport" (126 : Nat) "jdk/internal/misc/Unsafe" "ARRAY_BYTE_BASE_OFFSET" "I") ∈ lw_all := lw_g (lw_at lw_m4 156 rfl) rfl
theorem q1028 : (Jvm.Cond.fieldLink "jdk/internal/util/ArraysSupport" (129 : Nat) "jdk/internal/util/ArraysSupport" "LOG2_ARRAY_BYTE_INDEX_SCALE" "I") ∈ lw_all := lw_g (lw_at lw_m4 158 rfl) rfl
theorem q1029 : (Jvm.Cond.laysStatic "jdk/internal/util/ArraysSupport" "LOG2_ARRAY_BYTE_INDEX_SCALE" "I") ∈ lw_tbl := lw_at lw_m4 159 rfl
theorem q1030 : (Jvm.Cond.methodLink "jdk/internal/util/ArraysSupport" (122 : Nat) ({ cls := "jdk/internal/util/ArraysSupport", name := "vectorizedMismatch", desc := "(Ljava/lang/Object;JLjava/lang/Object;JII)I" } : Jvm.MethodName)) ∈ lw_all := lw_g (lw_at lw_m4 160 rfl) rfl
theorem q1031 : (Jvm.Cond.static ({ cls := "jdk/internal/util/ArraysSupport", name := "vectorizedMismatch", desc := "(Ljava/lang/Object;JLjava/lang/Object;JII)I" } : Jvm.MethodName)) ∈ lw_all := lw_g (lw_at lw_m4 161 rfl) rfl
theorem q1032 : (Jvm.Cond.code ({ cls := "jdk/internal/util/ArraysSupport", name := "vectorizedMismatch", desc := "(Ljava/lang/Object;JLjava/lang/Object;JII)I" } : Jvm.MethodName) prog_67_method_3_code (19 : Nat) (Option.some Jvm.ClassFile.FieldType.int)) ∈ lw_all := lw_g (lw_at lw_m4 162 rfl) rfl
theorem q1033 : (Jvm.Cond.fieldLink "jdk/internal/util/ArraysSupport" (20 : Nat) "jdk/internal/util/ArraysSupport" "LOG2_ARRAY_LONG_INDEX_SCALE" "I") ∈ lw_all := lw_g (lw_at lw_m4 163 rfl) rfl
theorem q1034 : (Jvm.Cond.laysStatic "jdk/internal/util/ArraysSupport" "LOG2_ARRAY_LONG_INDEX_SCALE" "I") ∈ lw_tbl := lw_at lw_m4 164 rfl
theorem q1035 : (Jvm.Cond.fieldLink "jdk/internal/util/ArraysSupport" (26 : Nat) "jdk/internal/util/ArraysSupport" "U" "Ljdk/internal/misc/Unsafe;") ∈ lw_all := lw_g (lw_at lw_m4 165 rfl) rfl
theorem q1036 : (Jvm.Cond.laysStatic "jdk/internal/util/ArraysSupport" "U" "Ljdk/internal/misc/Unsafe;") ∈ lw_tbl := lw_at lw_m4 166 rfl
theorem q1037 : (Jvm.Cond.methodLink "jdk/internal/util/ArraysSupport" (30 : Nat) ({ cls := "jdk/internal/misc/Unsafe", name := "getLongUnaligned", desc := "(Ljava/lang/Object;J)J" } : Jvm.MethodName)) ∈ lw_all := lw_g (lw_at lw_m4 167 rfl) rfl
theorem q1089 : (Jvm.Cond.fieldLink "jdk/internal/util/ArraysSupport" (36 : Nat) "jdk/internal/util/ArraysSupport" "BIG_ENDIAN" "Z") ∈ lw_all := lw_g (lw_at lw_m4 219 rfl) rfl
theorem q1090 : (Jvm.Cond.laysStatic "jdk/internal/util/ArraysSupport" "BIG_ENDIAN" "Z") ∈ lw_tbl := lw_at lw_m4 220 rfl
theorem q1091 : (Jvm.Cond.methodLink "jdk/internal/util/ArraysSupport" (40 : Nat) ({ cls := "java/lang/Long", name := "numberOfLeadingZeros", desc := "(J)I" } : Jvm.MethodName)) ∈ lw_all := lw_g (lw_at lw_m4 221 rfl) rfl
theorem q1098 : (Jvm.Cond.fieldLink "jdk/internal/util/ArraysSupport" (46 : Nat) "jdk/internal/util/ArraysSupport" "LOG2_BYTE_BIT_SIZE" "I") ∈ lw_all := lw_g (lw_at lw_m4 228 rfl) rfl
theorem q1099 : (Jvm.Cond.laysStatic "jdk/internal/util/ArraysSupport" "LOG2_BYTE_BIT_SIZE" "I") ∈ lw_tbl := lw_at lw_m4 229 rfl
theorem q1100 : (Jvm.Cond.methodLink "jdk/internal/util/ArraysSupport" (49 : Nat) ({ cls := "java/lang/Long", name := "numberOfTrailingZeros", desc := "(J)I" } : Jvm.MethodName)) ∈ lw_all := lw_g (lw_at lw_m4 230 rfl) rfl
theorem q1106 : (Jvm.Cond.fieldLink "jdk/internal/util/ArraysSupport" (51 : Nat) "jdk/internal/util/ArraysSupport" "LOG2_ARRAY_INT_INDEX_SCALE" "I") ∈ lw_all := lw_g (lw_at lw_m4 236 rfl) rfl
theorem q1107 : (Jvm.Cond.laysStatic "jdk/internal/util/ArraysSupport" "LOG2_ARRAY_INT_INDEX_SCALE" "I") ∈ lw_tbl := lw_at lw_m4 237 rfl
theorem q1108 : (Jvm.Cond.methodLink "jdk/internal/util/ArraysSupport" (54 : Nat) ({ cls := "jdk/internal/misc/Unsafe", name := "getIntUnaligned", desc := "(Ljava/lang/Object;J)I" } : Jvm.MethodName)) ∈ lw_all := lw_g (lw_at lw_m4 238 rfl) rfl
theorem q1125 : (Jvm.Cond.methodLink "jdk/internal/util/ArraysSupport" (58 : Nat) ({ cls := "java/lang/Integer", name := "numberOfLeadingZeros", desc := "(I)I" } : Jvm.MethodName)) ∈ lw_all := lw_g (lw_at lw_m5 15 rfl) rfl
theorem q1126 : (Jvm.Cond.methodLink "jdk/internal/util/ArraysSupport" (11 : Nat) ({ cls := "java/lang/Integer", name := "numberOfTrailingZeros", desc := "(I)I" } : Jvm.MethodName)) ∈ lw_all := lw_g (lw_at lw_m5 16 rfl) rfl
theorem q169 : (Jvm.Cond.initialized "java/lang/Math") ∈ lw_all := lw_g (lw_at lw_m1 19 rfl) rfl
theorem q407 : (Jvm.Cond.static ({ cls := "java/lang/Math", name := "max", desc := "(II)I" } : Jvm.MethodName)) ∈ lw_all := lw_g (lw_at lw_m2 17 rfl) rfl
theorem q408 : (Jvm.Cond.code ({ cls := "java/lang/Math", name := "max", desc := "(II)I" } : Jvm.MethodName) prog_32_method_65_code (2 : Nat) (Option.some Jvm.ClassFile.FieldType.int)) ∈ lw_all := lw_g (lw_at lw_m2 18 rfl) rfl
theorem q425 : (Jvm.Cond.static ({ cls := "java/lang/Math", name := "min", desc := "(II)I" } : Jvm.MethodName)) ∈ lw_all := lw_g (lw_at lw_m2 35 rfl) rfl
theorem q426 : (Jvm.Cond.code ({ cls := "java/lang/Math", name := "min", desc := "(II)I" } : Jvm.MethodName) prog_32_method_69_code (2 : Nat) (Option.some Jvm.ClassFile.FieldType.int)) ∈ lw_all := lw_g (lw_at lw_m2 36 rfl) rfl
theorem q1511 : (Jvm.Cond.static ({ cls := "java/lang/Math", name := "abs", desc := "(I)I" } : Jvm.MethodName)) ∈ lw_all := lw_g (lw_at lw_m6 161 rfl) rfl
theorem q1512 : (Jvm.Cond.code ({ cls := "java/lang/Math", name := "abs", desc := "(I)I" } : Jvm.MethodName) prog_32_method_59_code (1 : Nat) (Option.some Jvm.ClassFile.FieldType.int)) ∈ lw_all := lw_g (lw_at lw_m6 162 rfl) rfl
theorem q170 : (Jvm.Cond.initialized "java/util/Arrays") ∈ lw_all := lw_g (lw_at lw_m1 20 rfl) rfl
theorem q415 : (Jvm.Cond.static ({ cls := "java/util/Arrays", name := "copyOf", desc := "([BI)[B" } : Jvm.MethodName)) ∈ lw_all := lw_g (lw_at lw_m2 25 rfl) rfl
theorem q416 : (Jvm.Cond.code ({ cls := "java/util/Arrays", name := "copyOf", desc := "([BI)[B" } : Jvm.MethodName) prog_50_method_121_code (3 : Nat) (Option.some (Jvm.ClassFile.FieldType.array Jvm.ClassFile.FieldType.byte))) ∈ lw_all := lw_g (lw_at lw_m2 26 rfl) rfl
theorem q417 : (Jvm.Cond.methodLink "java/util/Arrays" (310 : Nat) ({ cls := "[B", name := "clone", desc := "()Ljava/lang/Object;" } : Jvm.MethodName)) ∈ lw_all := lw_g (lw_at lw_m2 27 rfl) rfl
theorem q423 : (Jvm.Cond.classLink "java/util/Arrays" (311 : Nat) "[B") ∈ lw_all := lw_g (lw_at lw_m2 33 rfl) rfl
theorem q424 : (Jvm.Cond.methodLink "java/util/Arrays" (304 : Nat) ({ cls := "java/lang/Math", name := "min", desc := "(II)I" } : Jvm.MethodName)) ∈ lw_all := lw_g (lw_at lw_m2 34 rfl) rfl
theorem q427 : (Jvm.Cond.methodLink "java/util/Arrays" (150 : Nat) ({ cls := "java/lang/System", name := "arraycopy", desc := "(Ljava/lang/Object;ILjava/lang/Object;II)V" } : Jvm.MethodName)) ∈ lw_all := lw_g (lw_at lw_m2 37 rfl) rfl
theorem q557 : (Jvm.Cond.static ({ cls := "java/util/Arrays", name := "copyOfRange", desc := "([BII)[B" } : Jvm.MethodName)) ∈ lw_all := lw_g (lw_at lw_m2 167 rfl) rfl
theorem q558 : (Jvm.Cond.code ({ cls := "java/util/Arrays", name := "copyOfRange", desc := "([BII)[B" } : Jvm.MethodName) prog_50_method_132_code (3 : Nat) (Option.some (Jvm.ClassFile.FieldType.array Jvm.ClassFile.FieldType.byte))) ∈ lw_all := lw_g (lw_at lw_m2 168 rfl) rfl
theorem q559 : (Jvm.Cond.methodLink "java/util/Arrays" (339 : Nat) ({ cls := "java/util/Arrays", name := "copyOfRangeByte", desc := "([BII)[B" } : Jvm.MethodName)) ∈ lw_all := lw_g (lw_at lw_m2 169 rfl) rfl
theorem q560 : (Jvm.Cond.static ({ cls := "java/util/Arrays", name := "copyOfRangeByte", desc := "([BII)[B" } : Jvm.MethodName)) ∈ lw_all := lw_g (lw_at lw_m2 170 rfl) rfl
theorem q561 : (Jvm.Cond.code ({ cls := "java/util/Arrays", name := "copyOfRangeByte", desc := "([BII)[B" } : Jvm.MethodName) prog_50_method_133_code (5 : Nat) (Option.some (Jvm.ClassFile.FieldType.array Jvm.ClassFile.FieldType.byte))) ∈ lw_all := lw_g (lw_at lw_m2 171 rfl) rfl
theorem q562 : (Jvm.Cond.methodLink "java/util/Arrays" (343 : Nat) ({ cls := "java/util/Arrays", name := "checkLength", desc := "(II)V" } : Jvm.MethodName)) ∈ lw_all := lw_g (lw_at lw_m2 172 rfl) rfl
theorem q563 : (Jvm.Cond.static ({ cls := "java/util/Arrays", name := "checkLength", desc := "(II)V" } : Jvm.MethodName)) ∈ lw_all := lw_g (lw_at lw_m2 173 rfl) rfl
theorem q564 : (Jvm.Cond.code ({ cls := "java/util/Arrays", name := "checkLength", desc := "(II)V" } : Jvm.MethodName) prog_50_method_131_code (2 : Nat) (Option.none : Option Jvm.ClassFile.FieldType)) ∈ lw_all := lw_g (lw_at lw_m2 174 rfl) rfl
theorem q565 : (Jvm.Cond.classLink "java/util/Arrays" (43 : Nat) "java/lang/IllegalArgumentException") ∈ lw_all := lw_g (lw_at lw_m2 175 rfl) rfl
theorem q566 : (Jvm.Cond.classLink "java/util/Arrays" (45 : Nat) "java/lang/StringBuilder") ∈ lw_all := lw_g (lw_at lw_m2 176 rfl) rfl
theorem q567 : (Jvm.Cond.methodLink "java/util/Arrays" (47 : Nat) ({ cls := "java/lang/StringBuilder", name := "<init>", desc := "()V" } : Jvm.MethodName)) ∈ lw_all := lw_g (lw_at lw_m2 177 rfl) rfl
theorem q568 : (Jvm.Cond.methodLink "java/util/Arrays" (54 : Nat) ({ cls := "java/lang/StringBuilder", name := "append", desc := "(I)Ljava/lang/StringBuilder;" } : Jvm.MethodName)) ∈ lw_all := lw_g (lw_at lw_m2 178 rfl) rfl
theorem q569 : (Jvm.Cond.stringRef "java/util/Arrays" (337 : Nat) " > ") ∈ lw_tbl := lw_at lw_m2 179 rfl
theorem q570 : (Jvm.Cond.methodLink "java/util/Arrays" (50 : Nat) ({ cls := "java/lang/StringBuilder", name := "append", desc := "(Ljava/lang/String;)Ljava/lang/StringBuilder;" } : Jvm.MethodName)) ∈ lw_all := lw_g (lw_at lw_m2 180 rfl) rfl
theorem q571 : (Jvm.Cond.methodLink "java/util/Arrays" (61 : Nat) ({ cls := "java/lang/StringBuilder", name := "toString", desc := "()Ljava/lang/String;" } : Jvm.MethodName)) ∈ lw_all := lw_g (lw_at lw_m2 181 rfl) rfl
theorem q572 : (Jvm.Cond.methodLink "java/util/Arrays" (65 : Nat) ({ cls := "java/lang/IllegalArgumentException", name := "<init>", desc := "(Ljava/lang/String;)V" } : Jvm.MethodName)) ∈ lw_all := lw_g (lw_at lw_m2 182 rfl) rfl
theorem q722 : (Jvm.Cond.static ({ cls := "java/util/Arrays", name := "copyOf", desc := "([Ljava/lang/Object;I)[Ljava/lang/Object;" } : Jvm.MethodName)) ∈ lw_all := lw_g (lw_at lw_m3 92 rfl) rfl
theorem q723 : (Jvm.Cond.code ({ cls := "java/util/Arrays", name := "copyOf", desc := "([Ljava/lang/Object;I)[Ljava/lang/Object;" } : Jvm.MethodName) prog_50_method_119_code (2 : Nat) (Option.some (Jvm.ClassFile.FieldType.array (Jvm.ClassFile.FieldType.object "java/lang/Object")))) ∈ lw_all := lw_g (lw_at lw_m3 93 rfl) rfl
theorem q724 : (Jvm.Cond.methodLink "java/util/Arrays" (86 : Nat) ({ cls := "java/lang/Object", name := "getClass", desc := "()Ljava/lang/Class;" } : Jvm.MethodName)) ∈ lw_all := lw_g (lw_at lw_m3 94 rfl) rfl
theorem q756 : (Jvm.Cond.methodLink "java/util/Arrays" (300 : Nat) ({ cls := "java/util/Arrays", name := "copyOf", desc := "([Ljava/lang/Object;ILjava/lang/Class;)[Ljava/lang/Object;" } : Jvm.MethodName)) ∈ lw_all := lw_g (lw_at lw_m3 126 rfl) rfl
theorem q757 : (Jvm.Cond.static ({ cls := "java/util/Arrays", name := "copyOf", desc := "([Ljava/lang/Object;ILjava/lang/Class;)[Ljava/lang/Object;" } : Jvm.MethodName)) ∈ lw_all := lw_g (lw_at lw_m3 127 rfl) rfl
theorem q758 : (Jvm.Cond.code ({ cls := "java/util/Arrays", name := "copyOf", desc := "([Ljava/lang/Object;ILjava/lang/Class;)[Ljava/lang/Object;" } : Jvm.MethodName) prog_50_method_120_code (4 : Nat) (Option.some (Jvm.ClassFile.FieldType.array (Jvm.ClassFile.FieldType.object "java/lang/Object")))) ∈ lw_all := lw_g (lw_at lw_m3 128 rfl) rfl
theorem q759 : (Jvm.Cond.classLink "java/util/Arrays" (110 : Nat) "[Ljava/lang/Object;") ∈ lw_all := lw_g (lw_at lw_m3 129 rfl) rfl
theorem q760 : (Jvm.Cond.classLink "java/util/Arrays" (2 : Nat) "java/lang/Object") ∈ lw_all := lw_g (lw_at lw_m3 130 rfl) rfl
theorem q2418 : (Jvm.Cond.static ({ cls := "java/util/Arrays", name := "fill", desc := "([BIIB)V" } : Jvm.MethodName)) ∈ lw_all := lw_g (lw_at lw_m10 108 rfl) rfl
theorem q2419 : (Jvm.Cond.code ({ cls := "java/util/Arrays", name := "fill", desc := "([BIIB)V" } : Jvm.MethodName) prog_50_method_110_code (5 : Nat) (Option.none : Option Jvm.ClassFile.FieldType)) ∈ lw_all := lw_g (lw_at lw_m10 109 rfl) rfl
theorem q2420 : (Jvm.Cond.methodLink "java/util/Arrays" (13 : Nat) ({ cls := "java/util/Arrays", name := "rangeCheck", desc := "(III)V" } : Jvm.MethodName)) ∈ lw_all := lw_g (lw_at lw_m10 110 rfl) rfl
theorem q2421 : (Jvm.Cond.static ({ cls := "java/util/Arrays", name := "rangeCheck", desc := "(III)V" } : Jvm.MethodName)) ∈ lw_all := lw_g (lw_at lw_m10 111 rfl) rfl
theorem q2422 : (Jvm.Cond.code ({ cls := "java/util/Arrays", name := "rangeCheck", desc := "(III)V" } : Jvm.MethodName) prog_50_method_30_code (3 : Nat) (Option.none : Option Jvm.ClassFile.FieldType)) ∈ lw_all := lw_g (lw_at lw_m10 112 rfl) rfl
theorem q2423 : (Jvm.Cond.stringRef "java/util/Arrays" (48 : Nat) "fromIndex(") ∈ lw_tbl := lw_at lw_m10 113 rfl
theorem q2424 : (Jvm.Cond.stringRef "java/util/Arrays" (57 : Nat) ") > toIndex(") ∈ lw_tbl := lw_at lw_m10 114 rfl
theorem q2425 : (Jvm.Cond.stringRef "java/util/Arrays" (59 : Nat) ")") ∈ lw_tbl := lw_at lw_m10 115 rfl
theorem q2426 : (Jvm.Cond.classLink "java/util/Arrays" (68 : Nat) "java/lang/ArrayIndexOutOfBoundsException") ∈ lw_all := lw_g (lw_at lw_m10 116 rfl) rfl
theorem q2427 : (Jvm.Cond.methodLink "java/util/Arrays" (70 : Nat) ({ cls := "java/lang/ArrayIndexOutOfBoundsException", name := "<init>", desc := "(I)V" } : Jvm.MethodName)) ∈ lw_all := lw_g (lw_at lw_m10 117 rfl) rfl
theorem q172 : (Jvm.Cond.initialized "jdk/internal/util/Preconditions") ∈ lw_all := lw_g (lw_at lw_m1 22 rfl) rfl
theorem q448 : (Jvm.Cond.laysStatic "jdk/internal/util/Preconditions" "SIOOBE_FORMATTER" "Ljava/util/function/BiFunction;") ∈ lw_tbl := lw_at lw_m2 58 rfl
theorem q450 : (Jvm.Cond.static ({ cls := "jdk/internal/util/Preconditions", name := "checkFromToIndex", desc := "(IIILjava/util/function/BiFunction;)I" } : Jvm.MethodName)) ∈ lw_all := lw_g (lw_at lw_m2 60 rfl) rfl
theorem q451 : (Jvm.Cond.code ({ cls := "jdk/internal/util/Preconditions", name := "checkFromToIndex", desc := "(IIILjava/util/function/BiFunction;)I" } : Jvm.MethodName) prog_68_method_12_code (4 : Nat) (Option.some Jvm.ClassFile.FieldType.int)) ∈ lw_all := lw_g (lw_at lw_m2 61 rfl) rfl
theorem q496 : (Jvm.Cond.static ({ cls := "jdk/internal/util/Preconditions", name := "checkFromIndexSize", desc := "(IIILjava/util/function/BiFunction;)I" } : Jvm.MethodName)) ∈ lw_all := lw_g (lw_at lw_m2 106 rfl) rfl
theorem q497 : (Jvm.Cond.code ({ cls := "jdk/internal/util/Preconditions", name := "checkFromIndexSize", desc := "(IIILjava/util/function/BiFunction;)I" } : Jvm.MethodName) prog_68_method_13_code (4 : Nat) (Option.some Jvm.ClassFile.FieldType.int)) ∈ lw_all := lw_g (lw_at lw_m2 107 rfl) rfl
theorem q1454 : (Jvm.Cond.static ({ cls := "jdk/internal/util/Preconditions", name := "checkIndex", desc := "(IILjava/util/function/BiFunction;)I" } : Jvm.MethodName)) ∈ lw_all := lw_g (lw_at lw_m6 104 rfl) rfl
theorem q1455 : (Jvm.Cond.code ({ cls := "jdk/internal/util/Preconditions", name := "checkIndex", desc := "(IILjava/util/function/BiFunction;)I" } : Jvm.MethodName) prog_68_method_11_code (3 : Nat) (Option.some Jvm.ClassFile.FieldType.int)) ∈ lw_all := lw_g (lw_at lw_m6 105 rfl) rfl
theorem q173 : (Jvm.Cond.initialized "java/lang/StringLatin1") ∈ lw_all := lw_g (lw_at lw_m1 23 rfl) rfl
theorem q484 : (Jvm.Cond.static ({ cls := "java/lang/StringLatin1", name := "inflate", desc := "([BI[BII)V" } : Jvm.MethodName)) ∈ lw_all := lw_g (lw_at lw_m2 94 rfl) rfl
theorem q485 : (Jvm.Cond.code ({ cls := "java/lang/StringLatin1", name := "inflate", desc := "([BI[BII)V" } : Jvm.MethodName) prog_38_method_50_code (5 : Nat) (Option.none : Option Jvm.ClassFile.FieldType)) ∈ lw_all := lw_g (lw_at lw_m2 95 rfl) rfl
theorem q486 : (Jvm.Cond.methodLink "java/lang/StringLatin1" (240 : Nat) ({ cls := "java/lang/StringUTF16", name := "inflate", desc := "([BI[BII)V" } : Jvm.MethodName)) ∈ lw_all := lw_g (lw_at lw_m2 96 rfl) rfl
theorem q865 : (Jvm.Cond.static ({ cls := "java/lang/StringLatin1", name := "hashCode", desc := "([B)I" } : Jvm.MethodName)) ∈ lw_all := lw_g (lw_at lw_m3 235 rfl) rfl
theorem q866 : (Jvm.Cond.code ({ cls := "java/lang/StringLatin1", name := "hashCode", desc := "([B)I" } : Jvm.MethodName) prog_38_method_21_code (1 : Nat) (Option.some Jvm.ClassFile.FieldType.int)) ∈ lw_all := lw_g (lw_at lw_m3 236 rfl) rfl
theorem q867 : (Jvm.Cond.methodLink "java/lang/StringLatin1" (84 : Nat) ({ cls := "jdk/internal/util/ArraysSupport", name := "vectorizedHashCode", desc := "(Ljava/lang/Object;IIII)I" } : Jvm.MethodName)) ∈ lw_all := lw_g (lw_at lw_m3 237 rfl) rfl
theorem q954 : (Jvm.Cond.static ({ cls := "java/lang/StringLatin1", name := "equals", desc := "([B[B)Z" } : Jvm.MethodName)) ∈ lw_all := lw_g (lw_at lw_m4 84 rfl) rfl
theorem q955 : (Jvm.Cond.code ({ cls := "java/lang/StringLatin1", name := "equals", desc := "([B[B)Z" } : Jvm.MethodName) prog_38_method_13_code (3 : Nat) (Option.some Jvm.ClassFile.FieldType.boolean)) ∈ lw_all := lw_g (lw_at lw_m4 85 rfl) rfl
theorem q1017 : (Jvm.Cond.static ({ cls := "java/lang/StringLatin1", name := "compareTo", desc := "([B[B)I" } : Jvm.MethodName)) ∈ lw_all := lw_g (lw_at lw_m4 147 rfl) rfl
theorem q1018 : (Jvm.Cond.code ({ cls := "java/lang/StringLatin1", name := "compareTo", desc := "([B[B)I" } : Jvm.MethodName) prog_38_method_14_code (4 : Nat) (Option.some Jvm.ClassFile.FieldType.int)) ∈ lw_all := lw_g (lw_at lw_m4 148 rfl) rfl
theorem q1019 : (Jvm.Cond.methodLink "java/lang/StringLatin1" (34 : Nat) ({ cls := "java/lang/StringLatin1", name := "compareTo", desc := "([B[BII)I" } : Jvm.MethodName)) ∈ lw_all := lw_g (lw_at lw_m4 149 rfl) rfl
theorem q1020 : (Jvm.Cond.static ({ cls := "java/lang/StringLatin1", name := "compareTo", desc := "([B[BII)I" } : Jvm.MethodName)) ∈ lw_all := lw_g (lw_at lw_m4 150 rfl) rfl
theorem q1021 : (Jvm.Cond.code ({ cls := "java/lang/StringLatin1", name := "compareTo", desc := "([B[BII)I" } : Jvm.MethodName) prog_38_method_15_code (6 : Nat) (Option.some Jvm.ClassFile.FieldType.int)) ∈ lw_all := lw_g (lw_at lw_m4 151 rfl) rfl
theorem q1022 : (Jvm.Cond.methodLink "java/lang/StringLatin1" (38 : Nat) ({ cls := "java/lang/Math", name := "min", desc := "(II)I" } : Jvm.MethodName)) ∈ lw_all := lw_g (lw_at lw_m4 152 rfl) rfl
theorem q1023 : (Jvm.Cond.methodLink "java/lang/StringLatin1" (44 : Nat) ({ cls := "jdk/internal/util/ArraysSupport", name := "mismatch", desc := "([B[BI)I" } : Jvm.MethodName)) ∈ lw_all := lw_g (lw_at lw_m4 153 rfl) rfl
theorem q1127 : (Jvm.Cond.methodLink "java/lang/StringLatin1" (50 : Nat) ({ cls := "java/lang/StringLatin1", name := "getChar", desc := "([BI)C" } : Jvm.MethodName)) ∈ lw_all := lw_g (lw_at lw_m5 17 rfl) rfl
theorem q1128 : (Jvm.Cond.static ({ cls := "java/lang/StringLatin1", name := "getChar", desc := "([BI)C" } : Jvm.MethodName)) ∈ lw_all := lw_g (lw_at lw_m5 18 rfl) rfl
theorem q1129 : (Jvm.Cond.code ({ cls := "java/lang/StringLatin1", name := "getChar", desc := "([BI)C" } : Jvm.MethodName) prog_38_method_44_code (2 : Nat) (Option.some Jvm.ClassFile.FieldType.char)) ∈ lw_all := lw_g (lw_at lw_m5 19 rfl) rfl
theorem q1138 : (Jvm.Cond.static ({ cls := "java/lang/StringLatin1", name := "compareToUTF16", desc := "([B[B)I" } : Jvm.MethodName)) ∈ lw_all := lw_g (lw_at lw_m5 28 rfl) rfl
theorem q1139 : (Jvm.Cond.code ({ cls := "java/lang/StringLatin1", name := "compareToUTF16", desc := "([B[B)I" } : Jvm.MethodName) prog_38_method_16_code (4 : Nat) (Option.some Jvm.ClassFile.FieldType.int)) ∈ lw_all := lw_g (lw_at lw_m5 29 rfl) rfl
theorem q1140 : (Jvm.Cond.methodLink "java/lang/StringLatin1" (54 : Nat) ({ cls := "java/lang/StringLatin1", name := "length", desc := "([B)I" } : Jvm.MethodName)) ∈ lw_all := lw_g (lw_at lw_m5 30 rfl) rfl
theorem q1141 : (Jvm.Cond.static ({ cls := "java/lang/StringLatin1", name := "length", desc := "([B)I" } : Jvm.MethodName)) ∈ lw_all := lw_g (lw_at lw_m5 31 rfl) rfl
theorem q1142 : (Jvm.Cond.code ({ cls := "java/lang/StringLatin1", name := "length", desc := "([B)I" } : Jvm.MethodName) prog_38_method_5_code (1 : Nat) (Option.some Jvm.ClassFile.FieldType.int)) ∈ lw_all := lw_g (lw_at lw_m5 32 rfl) rfl
theorem q1143 : (Jvm.Cond.methodLink "java/lang/StringLatin1" (58 : Nat) ({ cls := "java/lang/StringUTF16", name := "length", desc := "([B)I" } : Jvm.MethodName)) ∈ lw_all := lw_g (lw_at lw_m5 33 rfl) rfl
theorem q1144 : (Jvm.Cond.methodLink "java/lang/StringLatin1" (59 : Nat) ({ cls := "java/lang/StringLatin1", name := "compareToUTF16Values", desc := "([B[BII)I" } : Jvm.MethodName)) ∈ lw_all := lw_g (lw_at lw_m5 34 rfl) rfl
theorem q1145 : (Jvm.Cond.static ({ cls := "java/lang/StringLatin1", name := "compareToUTF16Values", desc := "([B[BII)I" } : Jvm.MethodName)) ∈ lw_all := lw_g (lw_at lw_m5 35 rfl) rfl
theorem q1146 : (Jvm.Cond.code ({ cls := "java/lang/StringLatin1", name := "compareToUTF16Values", desc := "([B[BII)I" } : Jvm.MethodName) prog_38_method_18_code (8 : Nat) (Option.some Jvm.ClassFile.FieldType.int)) ∈ lw_all := lw_g (lw_at lw_m5 36 rfl) rfl
theorem q1147 : (Jvm.Cond.methodLink "java/lang/StringLatin1" (65 : Nat) ({ cls := "java/lang/StringUTF16", name := "getChar", desc := "([BI)C" } : Jvm.MethodName)) ∈ lw_all := lw_g (lw_at lw_m5 37 rfl) rfl
theorem q1177 : (Jvm.Cond.static ({ cls := "java/lang/StringLatin1", name := "compareToUTF16", desc := "([B[BII)I" } : Jvm.MethodName)) ∈ lw_all := lw_g (lw_at lw_m5 67 rfl) rfl
theorem q1178 : (Jvm.Cond.code ({ cls := "java/lang/StringLatin1", name := "compareToUTF16", desc := "([B[BII)I" } : Jvm.MethodName) prog_38_method_17_code (4 : Nat) (Option.some Jvm.ClassFile.FieldType.int)) ∈ lw_all := lw_g (lw_at lw_m5 68 rfl) rfl
theorem q1179 : (Jvm.Cond.methodLink "java/lang/StringLatin1" (62 : Nat) ({ cls := "java/lang/String", name := "checkOffset", desc := "(II)V" } : Jvm.MethodName)) ∈ lw_all := lw_g (lw_at lw_m5 69 rfl) rfl
theorem q1627 : (Jvm.Cond.static ({ cls := "java/lang/StringLatin1", name := "canEncode", desc := "(C)Z" } : Jvm.MethodName)) ∈ lw_all := lw_g (lw_at lw_m7 37 rfl) rfl
theorem q1628 : (Jvm.Cond.code ({ cls := "java/lang/StringLatin1", name := "canEncode", desc := "(C)Z" } : Jvm.MethodName) prog_38_method_3_code (1 : Nat) (Option.some Jvm.ClassFile.FieldType.boolean)) ∈ lw_all := lw_g (lw_at lw_m7 38 rfl) rfl
theorem q2415 : (Jvm.Cond.static ({ cls := "java/lang/StringLatin1", name := "fillNull", desc := "([BII)V" } : Jvm.MethodName)) ∈ lw_all := lw_g (lw_at lw_m10 105 rfl) rfl
theorem q2416 : (Jvm.Cond.code ({ cls := "java/lang/StringLatin1", name := "fillNull", desc := "([BII)V" } : Jvm.MethodName) prog_38_method_48_code (3 : Nat) (Option.none : Option Jvm.ClassFile.FieldType)) ∈ lw_all := lw_g (lw_at lw_m10 106 rfl) rfl
theorem q2417 : (Jvm.Cond.methodLink "java/lang/StringLatin1" (236 : Nat) ({ cls := "java/util/Arrays", name := "fill", desc := "([BIIB)V" } : Jvm.MethodName)) ∈ lw_all := lw_g (lw_at lw_m10 107 rfl) rfl
theorem q2639 : (Jvm.Cond.static ({ cls := "java/lang/StringLatin1", name := "charAt", desc := "([BI)C" } : Jvm.MethodName)) ∈ lw_all := lw_g (lw_at lw_m11 89 rfl) rfl
theorem q2640 : (Jvm.Cond.code ({ cls := "java/lang/StringLatin1", name := "charAt", desc := "([BI)C" } : Jvm.MethodName) prog_38_method_2_code (2 : Nat) (Option.some Jvm.ClassFile.FieldType.char)) ∈ lw_all := lw_g (lw_at lw_m11 90 rfl) rfl
theorem q2641 : (Jvm.Cond.methodLink "java/lang/StringLatin1" (9 : Nat) ({ cls := "java/lang/String", name := "checkIndex", desc := "(II)V" } : Jvm.MethodName)) ∈ lw_all := lw_g (lw_at lw_m11 91 rfl) rfl
theorem q175 : (Jvm.Cond.initialized "java/lang/Integer") ∈ lw_all := lw_g (lw_at lw_m1 25 rfl) rfl
theorem q512 : (Jvm.Cond.static ({ cls := "java/lang/Integer", name := "stringSize", desc := "(I)I" } : Jvm.MethodName)) ∈ lw_all := lw_g (lw_at lw_m2 122 rfl) rfl
theorem q513 : (Jvm.Cond.code ({ cls := "java/lang/Integer", name := "stringSize", desc := "(I)I" } : Jvm.MethodName) prog_29_method_13_code (4 : Nat) (Option.some Jvm.ClassFile.FieldType.int)) ∈ lw_all := lw_g (lw_at lw_m2 123 rfl) rfl
theorem q515 : (Jvm.Cond.static ({ cls := "java/lang/Integer", name := "getChars", desc := "(II[B)I" } : Jvm.MethodName)) ∈ lw_all := lw_g (lw_at lw_m2 125 rfl) rfl
theorem q516 : (Jvm.Cond.code ({ cls := "java/lang/Integer", name := "getChars", desc := "(II[B)I" } : Jvm.MethodName) prog_29_method_12_code (7 : Nat) (Option.some Jvm.ClassFile.FieldType.int)) ∈ lw_all := lw_g (lw_at lw_m2 126 rfl) rfl
theorem q517 : (Jvm.Cond.fieldLink "java/lang/Integer" (83 : Nat) "java/lang/Integer" "DigitOnes" "[B") ∈ lw_all := lw_g (lw_at lw_m2 127 rfl) rfl
theorem q518 : (Jvm.Cond.laysStatic "java/lang/Integer" "DigitOnes" "[B") ∈ lw_tbl := lw_at lw_m2 128 rfl
theorem q519 : (Jvm.Cond.fieldLink "java/lang/Integer" (87 : Nat) "java/lang/Integer" "DigitTens" "[B") ∈ lw_all := lw_g (lw_at lw_m2 129 rfl) rfl
theorem q520 : (Jvm.Cond.laysStatic "java/lang/Integer" "DigitTens" "[B") ∈ lw_tbl := lw_at lw_m2 130 rfl
theorem q1095 : (Jvm.Cond.static ({ cls := "java/lang/Integer", name := "numberOfLeadingZeros", desc := "(I)I" } : Jvm.MethodName)) ∈ lw_all := lw_g (lw_at lw_m4 225 rfl) rfl
theorem q1096 : (Jvm.Cond.code ({ cls := "java/lang/Integer", name := "numberOfLeadingZeros", desc := "(I)I" } : Jvm.MethodName) prog_29_method_47_code (2 : Nat) (Option.some Jvm.ClassFile.FieldType.int)) ∈ lw_all := lw_g (lw_at lw_m4 226 rfl) rfl
theorem q1097 : (Jvm.Cond.constant "java/lang/Integer" (264 : Nat) (65536 : Int32)) ∈ lw_all := lw_g (lw_at lw_m4 227 rfl) rfl
theorem q1104 : (Jvm.Cond.static ({ cls := "java/lang/Integer", name := "numberOfTrailingZeros", desc := "(I)I" } : Jvm.MethodName)) ∈ lw_all := lw_g (lw_at lw_m4 234 rfl) rfl
theorem q1105 : (Jvm.Cond.code ({ cls := "java/lang/Integer", name := "numberOfTrailingZeros", desc := "(I)I" } : Jvm.MethodName) prog_29_method_48_code (2 : Nat) (Option.some Jvm.ClassFile.FieldType.int)) ∈ lw_all := lw_g (lw_at lw_m4 235 rfl) rfl
theorem q156 : (Jvm.Cond.initialized "java/util/AbstractMap") ∈ lw_all := lw_g (lw_at lw_m1 6 rfl) rfl
theorem q244 : (Jvm.Cond.instanceMethod ({ cls := "java/util/AbstractMap", name := "<init>", desc := "()V" } : Jvm.MethodName)) ∈ lw_all := lw_g (lw_at lw_m1 94 rfl) rfl
theorem q245 : (Jvm.Cond.code ({ cls := "java/util/AbstractMap", name := "<init>", desc := "()V" } : Jvm.MethodName) prog_47_method_1_code (1 : Nat) (Option.none : Option Jvm.ClassFile.FieldType)) ∈ lw_all := lw_g (lw_at lw_m1 95 rfl) rfl
theorem q246 : (Jvm.Cond.methodLink "java/util/AbstractMap" (1 : Nat) ({ cls := "java/lang/Object", name := "<init>", desc := "()V" } : Jvm.MethodName)) ∈ lw_all := lw_g (lw_at lw_m1 96 rfl) rfl
theorem q266 : (Jvm.Cond.soleField "java/util/AbstractMap" "keySet") ∈ lw_all := lw_g (lw_at lw_m1 116 rfl) rfl
theorem q268 : (Jvm.Cond.soleField "java/util/AbstractMap" "values") ∈ lw_all := lw_g (lw_at lw_m1 118 rfl) rfl
theorem q179 : (Jvm.Cond.initialized "jdk/internal/misc/Unsafe") ∈ lw_all := lw_g (lw_at lw_m1 29 rfl) rfl
theorem q754 : (Jvm.Cond.selects "jdk/internal/misc/Unsafe" ({ cls := "java/lang/Object", name := "getClass", desc := "()Ljava/lang/Class;" } : Jvm.MethodName) ({ cls := "java/lang/Object", name := "getClass", desc := "()Ljava/lang/Class;" } : Jvm.MethodName)) ∈ lw_all := lw_g (lw_at lw_m3 124 rfl) rfl
theorem q920 : (Jvm.Cond.selects "jdk/internal/misc/Unsafe" ({ cls := "java/lang/Object", name := "hashCode", desc := "()I" } : Jvm.MethodName) ({ cls := "java/lang/Object", name := "hashCode", desc := "()I" } : Jvm.MethodName)) ∈ lw_all := lw_g (lw_at lw_m4 50 rfl) rfl
theorem q959 : (Jvm.Cond.selects "jdk/internal/misc/Unsafe" ({ cls := "java/lang/Object", name := "equals", desc := "(Ljava/lang/Object;)Z" } : Jvm.MethodName) ({ cls := "java/lang/Object", name := "equals", desc := "(Ljava/lang/Object;)Z" } : Jvm.MethodName)) ∈ lw_all := lw_g (lw_at lw_m4 89 rfl) rfl
theorem q1027 : (Jvm.Cond.laysStatic "jdk/internal/misc/Unsafe" "ARRAY_BYTE_BASE_OFFSET" "I") ∈ lw_tbl := lw_at lw_m4 157 rfl
theorem q1038 : (Jvm.Cond.instanceMethod ({ cls := "jdk/internal/misc/Unsafe", name := "getLongUnaligned", desc := "(Ljava/lang/Object;J)J" } : Jvm.MethodName)) ∈ lw_all := lw_g (lw_at lw_m4 168 rfl) rfl
theorem q1039 : (Jvm.Cond.selects "jdk/internal/misc/Unsafe" ({ cls := "jdk/internal/misc/Unsafe", name := "getLongUnaligned", desc := "(Ljava/lang/Object;J)J" } : Jvm.MethodName) ({ cls := "jdk/internal/misc/Unsafe", name := "getLongUnaligned", desc := "(Ljava/lang/Object;J)J" } : Jvm.MethodName)) ∈ lw_all := lw_g (lw_at lw_m4 169 rfl) rfl
theorem q1040 : (Jvm.Cond.code ({ cls := "jdk/internal/misc/Unsafe", name := "getLongUnaligned", desc := "(Ljava/lang/Object;J)J" } : Jvm.MethodName) prog_65_method_334_code (4 : Nat) (Option.some Jvm.ClassFile.FieldType.long)) ∈ lw_all := lw_g (lw_at lw_m4 170 rfl) rfl
theorem q1041 : (Jvm.Cond.constantLong "jdk/internal/misc/Unsafe" (696 : Nat) (7 : Int64)) ∈ lw_all := lw_g (lw_at lw_m4 171 rfl) rfl
theorem q1042 : (Jvm.Cond.methodLink "jdk/internal/misc/Unsafe" (27 : Nat) ({ cls := "jdk/internal/misc/Unsafe", name := "getLong", desc := "(Ljava/lang/Object;J)J" } : Jvm.MethodName)) ∈ lw_all := lw_g (lw_at lw_m4 172 rfl) rfl
theorem q1043 : (Jvm.Cond.instanceMethod ({ cls := "jdk/internal/misc/Unsafe", name := "getLong", desc := "(Ljava/lang/Object;J)J" } : Jvm.MethodName)) ∈ lw_all := lw_g (lw_at lw_m4 173 rfl) rfl
theorem q1044 : (Jvm.Cond.selects "jdk/internal/misc/Unsafe" ({ cls := "jdk/internal/misc/Unsafe", name := "getLong", desc := "(Ljava/lang/Object;J)J" } : Jvm.MethodName) ({ cls := "jdk/internal/misc/Unsafe", name := "getLong", desc := "(Ljava/lang/Object;J)J" } : Jvm.MethodName)) ∈ lw_all := lw_g (lw_at lw_m4 174 rfl) rfl
theorem q1045 : (Jvm.Cond.native ({ cls := "jdk/internal/misc/Unsafe", name := "getLong", desc := "(Ljava/lang/Object;J)J" } : Jvm.MethodName)) ∈ lw_all := lw_g (lw_at lw_m4 175 rfl) rfl
theorem q1046 : (Jvm.Cond.constantLong "jdk/internal/misc/Unsafe" (349 : Nat) (3 : Int64)) ∈ lw_all := lw_g (lw_at lw_m4 176 rfl) rfl
theorem q1047 : (Jvm.Cond.methodLink "jdk/internal/misc/Unsafe" (17 : Nat) ({ cls := "jdk/internal/misc/Unsafe", name := "getInt", desc := "(Ljava/lang/Object;J)I" } : Jvm.MethodName)) ∈ lw_all := lw_g (lw_at lw_m4 177 rfl) rfl
theorem q1048 : (Jvm.Cond.instanceMethod ({ cls := "jdk/internal/misc/Unsafe", name := "getInt", desc := "(Ljava/lang/Object;J)I" } : Jvm.MethodName)) ∈ lw_all := lw_g (lw_at lw_m4 178 rfl) rfl
theorem q1049 : (Jvm.Cond.selects "jdk/internal/misc/Unsafe" ({ cls := "jdk/internal/misc/Unsafe", name := "getInt", desc := "(Ljava/lang/Object;J)I" } : Jvm.MethodName) ({ cls := "jdk/internal/misc/Unsafe", name := "getInt", desc := "(Ljava/lang/Object;J)I" } : Jvm.MethodName)) ∈ lw_all := lw_g (lw_at lw_m4 179 rfl) rfl
theorem q1050 : (Jvm.Cond.native ({ cls := "jdk/internal/misc/Unsafe", name := "getInt", desc := "(Ljava/lang/Object;J)I" } : Jvm.MethodName)) ∈ lw_all := lw_g (lw_at lw_m4 180 rfl) rfl
theorem q1051 : (Jvm.Cond.constantLong "jdk/internal/misc/Unsafe" (205 : Nat) (4 : Int64)) ∈ lw_all := lw_g (lw_at lw_m4 181 rfl) rfl
theorem q1052 : (Jvm.Cond.methodLink "jdk/internal/misc/Unsafe" (698 : Nat) ({ cls := "jdk/internal/misc/Unsafe", name := "makeLong", desc := "(II)J" } : Jvm.MethodName)) ∈ lw_all := lw_g (lw_at lw_m4 182 rfl) rfl
theorem q1053 : (Jvm.Cond.static ({ cls := "jdk/internal/misc/Unsafe", name := "makeLong", desc := "(II)J" } : Jvm.MethodName)) ∈ lw_all := lw_g (lw_at lw_m4 183 rfl) rfl
theorem q1054 : (Jvm.Cond.code ({ cls := "jdk/internal/misc/Unsafe", name := "makeLong", desc := "(II)J" } : Jvm.MethodName) prog_65_method_353_code (2 : Nat) (Option.some Jvm.ClassFile.FieldType.long)) ∈ lw_all := lw_g (lw_at lw_m4 184 rfl) rfl
theorem q1055 : (Jvm.Cond.methodLink "jdk/internal/misc/Unsafe" (791 : Nat) ({ cls := "jdk/internal/misc/Unsafe", name := "toUnsignedLong", desc := "(I)J" } : Jvm.MethodName)) ∈ lw_all := lw_g (lw_at lw_m4 185 rfl) rfl
theorem q1056 : (Jvm.Cond.static ({ cls := "jdk/internal/misc/Unsafe", name := "toUnsignedLong", desc := "(I)J" } : Jvm.MethodName)) ∈ lw_all := lw_g (lw_at lw_m4 186 rfl) rfl
theorem q1057 : (Jvm.Cond.code ({ cls := "jdk/internal/misc/Unsafe", name := "toUnsignedLong", desc := "(I)J" } : Jvm.MethodName) prog_65_method_370_code (1 : Nat) (Option.some Jvm.ClassFile.FieldType.long)) ∈ lw_all := lw_g (lw_at lw_m4 187 rfl) rfl
theorem q1058 : (Jvm.Cond.constantLong "jdk/internal/misc/Unsafe" (812 : Nat) (4294967295 : Int64)) ∈ lw_all := lw_g (lw_at lw_m4 188 rfl) rfl
theorem q1059 : (Jvm.Cond.methodLink "jdk/internal/misc/Unsafe" (784 : Nat) ({ cls := "jdk/internal/misc/Unsafe", name := "pickPos", desc := "(II)I" } : Jvm.MethodName)) ∈ lw_all := lw_g (lw_at lw_m4 189 rfl) rfl
theorem q1060 : (Jvm.Cond.static ({ cls := "jdk/internal/misc/Unsafe", name := "pickPos", desc := "(II)I" } : Jvm.MethodName)) ∈ lw_all := lw_g (lw_at lw_m4 190 rfl) rfl
theorem q1061 : (Jvm.Cond.code ({ cls := "jdk/internal/misc/Unsafe", name := "pickPos", desc := "(II)I" } : Jvm.MethodName) prog_65_method_350_code (2 : Nat) (Option.some Jvm.ClassFile.FieldType.int)) ∈ lw_all := lw_g (lw_at lw_m4 191 rfl) rfl
theorem q1062 : (Jvm.Cond.fieldLink "jdk/internal/misc/Unsafe" (351 : Nat) "jdk/internal/misc/UnsafeConstants" "BIG_ENDIAN" "Z") ∈ lw_all := lw_g (lw_at lw_m4 192 rfl) rfl
theorem q1064 : (Jvm.Cond.methodLink "jdk/internal/misc/Unsafe" (47 : Nat) ({ cls := "jdk/internal/misc/Unsafe", name := "getShort", desc := "(Ljava/lang/Object;J)S" } : Jvm.MethodName)) ∈ lw_all := lw_g (lw_at lw_m4 194 rfl) rfl
theorem q1065 : (Jvm.Cond.instanceMethod ({ cls := "jdk/internal/misc/Unsafe", name := "getShort", desc := "(Ljava/lang/Object;J)S" } : Jvm.MethodName)) ∈ lw_all := lw_g (lw_at lw_m4 195 rfl) rfl
theorem q1066 : (Jvm.Cond.selects "jdk/internal/misc/Unsafe" ({ cls := "jdk/internal/misc/Unsafe", name := "getShort", desc := "(Ljava/lang/Object;J)S" } : Jvm.MethodName) ({ cls := "jdk/internal/misc/Unsafe", name := "getShort", desc := "(Ljava/lang/Object;J)S" } : Jvm.MethodName)) ∈ lw_all := lw_g (lw_at lw_m4 196 rfl) rfl
theorem q1067 : (Jvm.Cond.native ({ cls := "jdk/internal/misc/Unsafe", name := "getShort", desc := "(Ljava/lang/Object;J)S" } : Jvm.MethodName)) ∈ lw_all := lw_g (lw_at lw_m4 197 rfl) rfl
theorem q1068 : (Jvm.Cond.constantLong "jdk/internal/misc/Unsafe" (203 : Nat) (2 : Int64)) ∈ lw_all := lw_g (lw_at lw_m4 198 rfl) rfl
theorem q1069 : (Jvm.Cond.constantLong "jdk/internal/misc/Unsafe" (702 : Nat) (6 : Int64)) ∈ lw_all := lw_g (lw_at lw_m4 199 rfl) rfl
theorem q1070 : (Jvm.Cond.methodLink "jdk/internal/misc/Unsafe" (704 : Nat) ({ cls := "jdk/internal/misc/Unsafe", name := "makeLong", desc := "(SSSS)J" } : Jvm.MethodName)) ∈ lw_all := lw_g (lw_at lw_m4 200 rfl) rfl
theorem q1071 : (Jvm.Cond.static ({ cls := "jdk/internal/misc/Unsafe", name := "makeLong", desc := "(SSSS)J" } : Jvm.MethodName)) ∈ lw_all := lw_g (lw_at lw_m4 201 rfl) rfl
theorem q1072 : (Jvm.Cond.code ({ cls := "jdk/internal/misc/Unsafe", name := "makeLong", desc := "(SSSS)J" } : Jvm.MethodName) prog_65_method_352_code (4 : Nat) (Option.some Jvm.ClassFile.FieldType.long)) ∈ lw_all := lw_g (lw_at lw_m4 202 rfl) rfl
theorem q1073 : (Jvm.Cond.methodLink "jdk/internal/misc/Unsafe" (788 : Nat) ({ cls := "jdk/internal/misc/Unsafe", name := "toUnsignedLong", desc := "(S)J" } : Jvm.MethodName)) ∈ lw_all := lw_g (lw_at lw_m4 203 rfl) rfl
theorem q1074 : (Jvm.Cond.static ({ cls := "jdk/internal/misc/Unsafe", name := "toUnsignedLong", desc := "(S)J" } : Jvm.MethodName)) ∈ lw_all := lw_g (lw_at lw_m4 204 rfl) rfl
theorem q1075 : (Jvm.Cond.code ({ cls := "jdk/internal/misc/Unsafe", name := "toUnsignedLong", desc := "(S)J" } : Jvm.MethodName) prog_65_method_369_code (1 : Nat) (Option.some Jvm.ClassFile.FieldType.long)) ∈ lw_all := lw_g (lw_at lw_m4 205 rfl) rfl
theorem q1076 : (Jvm.Cond.constantLong "jdk/internal/misc/Unsafe" (810 : Nat) (65535 : Int64)) ∈ lw_all := lw_g (lw_at lw_m4 206 rfl) rfl
theorem q1077 : (Jvm.Cond.methodLink "jdk/internal/misc/Unsafe" (39 : Nat) ({ cls := "jdk/internal/misc/Unsafe", name := "getByte", desc := "(Ljava/lang/Object;J)B" } : Jvm.MethodName)) ∈ lw_all := lw_g (lw_at lw_m4 207 rfl) rfl
theorem q1078 : (Jvm.Cond.instanceMethod ({ cls := "jdk/internal/misc/Unsafe", name := "getByte", desc := "(Ljava/lang/Object;J)B" } : Jvm.MethodName)) ∈ lw_all := lw_g (lw_at lw_m4 208 rfl) rfl
theorem q1079 : (Jvm.Cond.selects "jdk/internal/misc/Unsafe" ({ cls := "jdk/internal/misc/Unsafe", name := "getByte", desc := "(Ljava/lang/Object;J)B" } : Jvm.MethodName) ({ cls := "jdk/internal/misc/Unsafe", name := "getByte", desc := "(Ljava/lang/Object;J)B" } : Jvm.MethodName)) ∈ lw_all := lw_g (lw_at lw_m4 209 rfl) rfl
theorem q1080 : (Jvm.Cond.native ({ cls := "jdk/internal/misc/Unsafe", name := "getByte", desc := "(Ljava/lang/Object;J)B" } : Jvm.MethodName)) ∈ lw_all := lw_g (lw_at lw_m4 210 rfl) rfl
theorem q1081 : (Jvm.Cond.constantLong "jdk/internal/misc/Unsafe" (707 : Nat) (5 : Int64)) ∈ lw_all := lw_g (lw_at lw_m4 211 rfl) rfl
theorem q1082 : (Jvm.Cond.methodLink "jdk/internal/misc/Unsafe" (709 : Nat) ({ cls := "jdk/internal/misc/Unsafe", name := "makeLong", desc := "(BBBBBBBB)J" } : Jvm.MethodName)) ∈ lw_all := lw_g (lw_at lw_m4 212 rfl) rfl
theorem q1083 : (Jvm.Cond.static ({ cls := "jdk/internal/misc/Unsafe", name := "makeLong", desc := "(BBBBBBBB)J" } : Jvm.MethodName)) ∈ lw_all := lw_g (lw_at lw_m4 213 rfl) rfl
theorem q1084 : (Jvm.Cond.code ({ cls := "jdk/internal/misc/Unsafe", name := "makeLong", desc := "(BBBBBBBB)J" } : Jvm.MethodName) prog_65_method_351_code (8 : Nat) (Option.some Jvm.ClassFile.FieldType.long)) ∈ lw_all := lw_g (lw_at lw_m4 214 rfl) rfl
theorem q1085 : (Jvm.Cond.methodLink "jdk/internal/misc/Unsafe" (781 : Nat) ({ cls := "jdk/internal/misc/Unsafe", name := "toUnsignedLong", desc := "(B)J" } : Jvm.MethodName)) ∈ lw_all := lw_g (lw_at lw_m4 215 rfl) rfl
theorem q1086 : (Jvm.Cond.static ({ cls := "jdk/internal/misc/Unsafe", name := "toUnsignedLong", desc := "(B)J" } : Jvm.MethodName)) ∈ lw_all := lw_g (lw_at lw_m4 216 rfl) rfl
theorem q1087 : (Jvm.Cond.code ({ cls := "jdk/internal/misc/Unsafe", name := "toUnsignedLong", desc := "(B)J" } : Jvm.MethodName) prog_65_method_368_code (1 : Nat) (Option.some Jvm.ClassFile.FieldType.long)) ∈ lw_all := lw_g (lw_at lw_m4 217 rfl) rfl
theorem q1088 : (Jvm.Cond.constantLong "jdk/internal/misc/Unsafe" (808 : Nat) (255 : Int64)) ∈ lw_all := lw_g (lw_at lw_m4 218 rfl) rfl
theorem q1109 : (Jvm.Cond.instanceMethod ({ cls := "jdk/internal/misc/Unsafe", name := "getIntUnaligned", desc := "(Ljava/lang/Object;J)I" } : Jvm.MethodName)) ∈ lw_all := lw_g (lw_at lw_m4 239 rfl) rfl
theorem q1110 : (Jvm.Cond.selects "jdk/internal/misc/Unsafe" ({ cls := "jdk/internal/misc/Unsafe", name := "getIntUnaligned", desc := "(Ljava/lang/Object;J)I" } : Jvm.MethodName) ({ cls := "jdk/internal/misc/Unsafe", name := "getIntUnaligned", desc := "(Ljava/lang/Object;J)I" } : Jvm.MethodName)) ∈ lw_all := lw_g (lw_at lw_m5 0 rfl) rfl
theorem q1111 : (Jvm.Cond.code ({ cls := "jdk/internal/misc/Unsafe", name := "getIntUnaligned", desc := "(Ljava/lang/Object;J)I" } : Jvm.MethodName) prog_65_method_336_code (4 : Nat) (Option.some Jvm.ClassFile.FieldType.int)) ∈ lw_all := lw_g (lw_at lw_m5 1 rfl) rfl
theorem q1112 : (Jvm.Cond.methodLink "jdk/internal/misc/Unsafe" (719 : Nat) ({ cls := "jdk/internal/misc/Unsafe", name := "makeInt", desc := "(SS)I" } : Jvm.MethodName)) ∈ lw_all := lw_g (lw_at lw_m5 2 rfl) rfl
theorem q1113 : (Jvm.Cond.static ({ cls := "jdk/internal/misc/Unsafe", name := "makeInt", desc := "(SS)I" } : Jvm.MethodName)) ∈ lw_all := lw_g (lw_at lw_m5 3 rfl) rfl
theorem q1114 : (Jvm.Cond.code ({ cls := "jdk/internal/misc/Unsafe", name := "makeInt", desc := "(SS)I" } : Jvm.MethodName) prog_65_method_354_code (2 : Nat) (Option.some Jvm.ClassFile.FieldType.int)) ∈ lw_all := lw_g (lw_at lw_m5 4 rfl) rfl
theorem q1115 : (Jvm.Cond.methodLink "jdk/internal/misc/Unsafe" (792 : Nat) ({ cls := "jdk/internal/misc/Unsafe", name := "toUnsignedInt", desc := "(S)I" } : Jvm.MethodName)) ∈ lw_all := lw_g (lw_at lw_m5 5 rfl) rfl
theorem q1116 : (Jvm.Cond.static ({ cls := "jdk/internal/misc/Unsafe", name := "toUnsignedInt", desc := "(S)I" } : Jvm.MethodName)) ∈ lw_all := lw_g (lw_at lw_m5 6 rfl) rfl
theorem q1117 : (Jvm.Cond.code ({ cls := "jdk/internal/misc/Unsafe", name := "toUnsignedInt", desc := "(S)I" } : Jvm.MethodName) prog_65_method_367_code (1 : Nat) (Option.some Jvm.ClassFile.FieldType.int)) ∈ lw_all := lw_g (lw_at lw_m5 7 rfl) rfl
theorem q1118 : (Jvm.Cond.constant "jdk/internal/misc/Unsafe" (374 : Nat) (65535 : Int32)) ∈ lw_all := lw_g (lw_at lw_m5 8 rfl) rfl
theorem q1119 : (Jvm.Cond.methodLink "jdk/internal/misc/Unsafe" (723 : Nat) ({ cls := "jdk/internal/misc/Unsafe", name := "makeInt", desc := "(BBBB)I" } : Jvm.MethodName)) ∈ lw_all := lw_g (lw_at lw_m5 9 rfl) rfl
theorem q1120 : (Jvm.Cond.static ({ cls := "jdk/internal/misc/Unsafe", name := "makeInt", desc := "(BBBB)I" } : Jvm.MethodName)) ∈ lw_all := lw_g (lw_at lw_m5 10 rfl) rfl
theorem q1121 : (Jvm.Cond.code ({ cls := "jdk/internal/misc/Unsafe", name := "makeInt", desc := "(BBBB)I" } : Jvm.MethodName) prog_65_method_355_code (4 : Nat) (Option.some Jvm.ClassFile.FieldType.int)) ∈ lw_all := lw_g (lw_at lw_m5 11 rfl) rfl
theorem q1122 : (Jvm.Cond.methodLink "jdk/internal/misc/Unsafe" (796 : Nat) ({ cls := "jdk/internal/misc/Unsafe", name := "toUnsignedInt", desc := "(B)I" } : Jvm.MethodName)) ∈ lw_all := lw_g (lw_at lw_m5 12 rfl) rfl
theorem q1123 : (Jvm.Cond.static ({ cls := "jdk/internal/misc/Unsafe", name := "toUnsignedInt", desc := "(B)I" } : Jvm.MethodName)) ∈ lw_all := lw_g (lw_at lw_m5 13 rfl) rfl
theorem q1124 : (Jvm.Cond.code ({ cls := "jdk/internal/misc/Unsafe", name := "toUnsignedInt", desc := "(B)I" } : Jvm.MethodName) prog_65_method_366_code (1 : Nat) (Option.some Jvm.ClassFile.FieldType.int)) ∈ lw_all := lw_g (lw_at lw_m5 14 rfl) rfl
theorem q3184 : (Jvm.Cond.castable "jdk/internal/misc/Unsafe" "java/lang/Object") ∈ lw_tbl := lw_at lw_m13 154 rfl
theorem q181 : (Jvm.Cond.initialized "java/lang/Long") ∈ lw_all := lw_g (lw_at lw_m1 31 rfl) rfl
theorem q1092 : (Jvm.Cond.static ({ cls := "java/lang/Long", name := "numberOfLeadingZeros", desc := "(J)I" } : Jvm.MethodName)) ∈ lw_all := lw_g (lw_at lw_m4 222 rfl) rfl
theorem q1093 : (Jvm.Cond.code ({ cls := "java/lang/Long", name := "numberOfLeadingZeros", desc := "(J)I" } : Jvm.MethodName) prog_31_method_48_code (3 : Nat) (Option.some Jvm.ClassFile.FieldType.int)) ∈ lw_all := lw_g (lw_at lw_m4 223 rfl) rfl
theorem q1094 : (Jvm.Cond.methodLink "java/lang/Long" (308 : Nat) ({ cls := "java/lang/Integer", name := "numberOfLeadingZeros", desc := "(I)I" } : Jvm.MethodName)) ∈ lw_all := lw_g (lw_at lw_m4 224 rfl) rfl
theorem q1101 : (Jvm.Cond.static ({ cls := "java/lang/Long", name := "numberOfTrailingZeros", desc := "(J)I" } : Jvm.MethodName)) ∈ lw_all := lw_g (lw_at lw_m4 231 rfl) rfl
theorem q1102 : (Jvm.Cond.code ({ cls := "java/lang/Long", name := "numberOfTrailingZeros", desc := "(J)I" } : Jvm.MethodName) prog_31_method_49_code (3 : Nat) (Option.some Jvm.ClassFile.FieldType.int)) ∈ lw_all := lw_g (lw_at lw_m4 232 rfl) rfl
theorem q1103 : (Jvm.Cond.methodLink "java/lang/Long" (311 : Nat) ({ cls := "java/lang/Integer", name := "numberOfTrailingZeros", desc := "(I)I" } : Jvm.MethodName)) ∈ lw_all := lw_g (lw_at lw_m4 233 rfl) rfl
theorem q182 : (Jvm.Cond.initialized "java/util/HashMap$Node") ∈ lw_all := lw_g (lw_at lw_m1 32 rfl) rfl
theorem q752 : (Jvm.Cond.selects "java/util/HashMap$Node" ({ cls := "java/lang/Object", name := "getClass", desc := "()Ljava/lang/Class;" } : Jvm.MethodName) ({ cls := "java/lang/Object", name := "getClass", desc := "()Ljava/lang/Class;" } : Jvm.MethodName)) ∈ lw_all := lw_g (lw_at lw_m3 122 rfl) rfl
theorem q1214 : (Jvm.Cond.instantiable "java/util/HashMap$Node" (4 : Nat)) ∈ lw_all := lw_g (lw_at lw_m5 104 rfl) rfl
theorem q1216 : (Jvm.Cond.instanceMethod ({ cls := "java/util/HashMap$Node", name := "<init>", desc := "(ILjava/lang/Object;Ljava/lang/Object;Ljava/util/HashMap$Node;)V" } : Jvm.MethodName)) ∈ lw_all := lw_g (lw_at lw_m5 106 rfl) rfl
theorem q1217 : (Jvm.Cond.code ({ cls := "java/util/HashMap$Node", name := "<init>", desc := "(ILjava/lang/Object;Ljava/lang/Object;Ljava/util/HashMap$Node;)V" } : Jvm.MethodName) prog_54_method_1_code (5 : Nat) (Option.none : Option Jvm.ClassFile.FieldType)) ∈ lw_all := lw_g (lw_at lw_m5 107 rfl) rfl
theorem q1218 : (Jvm.Cond.methodLink "java/util/HashMap$Node" (1 : Nat) ({ cls := "java/lang/Object", name := "<init>", desc := "()V" } : Jvm.MethodName)) ∈ lw_all := lw_g (lw_at lw_m5 108 rfl) rfl
theorem q1219 : (Jvm.Cond.fieldLink "java/util/HashMap$Node" (7 : Nat) "java/util/HashMap$Node" "hash" "I") ∈ lw_all := lw_g (lw_at lw_m5 109 rfl) rfl
theorem q1223 : (Jvm.Cond.fieldLink "java/util/HashMap$Node" (13 : Nat) "java/util/HashMap$Node" "key" "Ljava/lang/Object;") ∈ lw_all := lw_g (lw_at lw_m5 113 rfl) rfl
theorem q1227 : (Jvm.Cond.fieldLink "java/util/HashMap$Node" (17 : Nat) "java/util/HashMap$Node" "value" "Ljava/lang/Object;") ∈ lw_all := lw_g (lw_at lw_m5 117 rfl) rfl
theorem q1229 : (Jvm.Cond.fieldLink "java/util/HashMap$Node" (20 : Nat) "java/util/HashMap$Node" "next" "Ljava/util/HashMap$Node;") ∈ lw_all := lw_g (lw_at lw_m5 119 rfl) rfl
theorem q1235 : (Jvm.Cond.laysFinal "java/util/HashMap$Node" "java/util/HashMap$Node" "hash" "I") ∈ lw_all := lw_g (lw_at lw_m5 125 rfl) rfl
theorem q1236 : (Jvm.Cond.soleField "java/util/HashMap$Node" "hash") ∈ lw_all := lw_g (lw_at lw_m5 126 rfl) rfl
theorem q1237 : (Jvm.Cond.laysFinal "java/util/HashMap$Node" "java/util/HashMap$Node" "key" "Ljava/lang/Object;") ∈ lw_all := lw_g (lw_at lw_m5 127 rfl) rfl
theorem q1238 : (Jvm.Cond.soleField "java/util/HashMap$Node" "key") ∈ lw_all := lw_g (lw_at lw_m5 128 rfl) rfl
theorem q1239 : (Jvm.Cond.lays "java/util/HashMap$Node" "java/util/HashMap$Node" "value" "Ljava/lang/Object;") ∈ lw_all := lw_g (lw_at lw_m5 129 rfl) rfl
theorem q1240 : (Jvm.Cond.soleField "java/util/HashMap$Node" "value") ∈ lw_all := lw_g (lw_at lw_m5 130 rfl) rfl
theorem q1241 : (Jvm.Cond.lays "java/util/HashMap$Node" "java/util/HashMap$Node" "next" "Ljava/util/HashMap$Node;") ∈ lw_all := lw_g (lw_at lw_m5 131 rfl) rfl
theorem q1242 : (Jvm.Cond.soleField "java/util/HashMap$Node" "next") ∈ lw_all := lw_g (lw_at lw_m5 132 rfl) rfl
theorem q1243 : (Jvm.Cond.superclass "java/util/HashMap$Node" "java/lang/Object") ∈ lw_all := lw_g (lw_at lw_m5 133 rfl) rfl
theorem q3171 : (Jvm.Cond.castable "java/util/HashMap$Node" "java/lang/Object") ∈ lw_tbl := lw_at lw_m13 141 rfl
theorem q183 : (Jvm.Cond.initialized "java/util/LinkedHashMap$Entry") ∈ lw_all := lw_g (lw_at lw_m1 33 rfl) rfl
theorem q1279 : (Jvm.Cond.instanceMethod ({ cls := "java/util/LinkedHashMap$Entry", name := "<init>", desc := "(ILjava/lang/Object;Ljava/lang/Object;Ljava/util/HashMap$Node;)V" } : Jvm.MethodName)) ∈ lw_all := lw_g (lw_at lw_m5 169 rfl) rfl
theorem q1280 : (Jvm.Cond.code ({ cls := "java/util/LinkedHashMap$Entry", name := "<init>", desc := "(ILjava/lang/Object;Ljava/lang/Object;Ljava/util/HashMap$Node;)V" } : Jvm.MethodName) prog_56_method_1_code (5 : Nat) (Option.none : Option Jvm.ClassFile.FieldType)) ∈ lw_all := lw_g (lw_at lw_m5 170 rfl) rfl
theorem q1281 : (Jvm.Cond.methodLink "java/util/LinkedHashMap$Entry" (1 : Nat) ({ cls := "java/util/HashMap$Node", name := "<init>", desc := "(ILjava/lang/Object;Ljava/lang/Object;Ljava/util/HashMap$Node;)V" } : Jvm.MethodName)) ∈ lw_all := lw_g (lw_at lw_m5 171 rfl) rfl
theorem q1299 : (Jvm.Cond.soleField "java/util/LinkedHashMap$Entry" "before") ∈ lw_all := lw_g (lw_at lw_m5 189 rfl) rfl
theorem q1301 : (Jvm.Cond.soleField "java/util/LinkedHashMap$Entry" "after") ∈ lw_all := lw_g (lw_at lw_m5 191 rfl) rfl
theorem q184 : (Jvm.Cond.initialized "java/util/HashMap$TreeNode") ∈ lw_all := lw_g (lw_at lw_m1 34 rfl) rfl
theorem q753 : (Jvm.Cond.selects "java/util/HashMap$TreeNode" ({ cls := "java/lang/Object", name := "getClass", desc := "()Ljava/lang/Class;" } : Jvm.MethodName) ({ cls := "java/lang/Object", name := "getClass", desc := "()Ljava/lang/Class;" } : Jvm.MethodName)) ∈ lw_all := lw_g (lw_at lw_m3 123 rfl) rfl
theorem q963 : (Jvm.Cond.instanceMethod ({ cls := "java/util/HashMap$TreeNode", name := "getTreeNode", desc := "(ILjava/lang/Object;)Ljava/util/HashMap$TreeNode;" } : Jvm.MethodName)) ∈ lw_all := lw_g (lw_at lw_m4 93 rfl) rfl
theorem q964 : (Jvm.Cond.selects "java/util/HashMap$TreeNode" ({ cls := "java/util/HashMap$TreeNode", name := "getTreeNode", desc := "(ILjava/lang/Object;)Ljava/util/HashMap$TreeNode;" } : Jvm.MethodName) ({ cls := "java/util/HashMap$TreeNode", name := "getTreeNode", desc := "(ILjava/lang/Object;)Ljava/util/HashMap$TreeNode;" } : Jvm.MethodName)) ∈ lw_all := lw_g (lw_at lw_m4 94 rfl) rfl
theorem q965 : (Jvm.Cond.code ({ cls := "java/util/HashMap$TreeNode", name := "getTreeNode", desc := "(ILjava/lang/Object;)Ljava/util/HashMap$TreeNode;" } : Jvm.MethodName) prog_55_method_5_code (3 : Nat) (Option.some (Jvm.ClassFile.FieldType.object "java/util/HashMap$TreeNode"))) ∈ lw_all := lw_g (lw_at lw_m4 95 rfl) rfl
theorem q966 : (Jvm.Cond.methodLink "java/util/HashMap$TreeNode" (67 : Nat) ({ cls := "java/util/HashMap$TreeNode", name := "root", desc := "()Ljava/util/HashMap$TreeNode;" } : Jvm.MethodName)) ∈ lw_all := lw_g (lw_at lw_m4 96 rfl) rfl
theorem q967 : (Jvm.Cond.instanceMethod ({ cls := "java/util/HashMap$TreeNode", name := "root", desc := "()Ljava/util/HashMap$TreeNode;" } : Jvm.MethodName)) ∈ lw_all := lw_g (lw_at lw_m4 97 rfl) rfl
theorem q968 : (Jvm.Cond.selects "java/util/HashMap$TreeNode" ({ cls := "java/util/HashMap$TreeNode", name := "root", desc := "()Ljava/util/HashMap$TreeNode;" } : Jvm.MethodName) ({ cls := "java/util/HashMap$TreeNode", name := "root", desc := "()Ljava/util/HashMap$TreeNode;" } : Jvm.MethodName)) ∈ lw_all := lw_g (lw_at lw_m4 98 rfl) rfl
theorem q969 : (Jvm.Cond.code ({ cls := "java/util/HashMap$TreeNode", name := "root", desc := "()Ljava/util/HashMap$TreeNode;" } : Jvm.MethodName) prog_55_method_2_code (3 : Nat) (Option.some (Jvm.ClassFile.FieldType.object "java/util/HashMap$TreeNode"))) ∈ lw_all := lw_g (lw_at lw_m4 99 rfl) rfl
theorem q970 : (Jvm.Cond.methodLink "java/util/HashMap$TreeNode" (63 : Nat) ({ cls := "java/util/HashMap$TreeNode", name := "find", desc := "(ILjava/lang/Object;Ljava/lang/Class;)Ljava/util/HashMap$TreeNode;" } : Jvm.MethodName)) ∈ lw_all := lw_g (lw_at lw_m4 100 rfl) rfl
theorem q971 : (Jvm.Cond.instanceMethod ({ cls := "java/util/HashMap$TreeNode", name := "find", desc := "(ILjava/lang/Object;Ljava/lang/Class;)Ljava/util/HashMap$TreeNode;" } : Jvm.MethodName)) ∈ lw_all := lw_g (lw_at lw_m4 101 rfl) rfl
theorem q972 : (Jvm.Cond.selects "java/util/HashMap$TreeNode" ({ cls := "java/util/HashMap$TreeNode", name := "find", desc := "(ILjava/lang/Object;Ljava/lang/Class;)Ljava/util/HashMap$TreeNode;" } : Jvm.MethodName) ({ cls := "java/util/HashMap$TreeNode", name := "find", desc := "(ILjava/lang/Object;Ljava/lang/Class;)Ljava/util/HashMap$TreeNode;" } : Jvm.MethodName)) ∈ lw_all := lw_g (lw_at lw_m4 102 rfl) rfl
theorem q973 : (Jvm.Cond.code ({ cls := "java/util/HashMap$TreeNode", name := "find", desc := "(ILjava/lang/Object;Ljava/lang/Class;)Ljava/util/HashMap$TreeNode;" } : Jvm.MethodName) prog_55_method_4_code (11 : Nat) (Option.some (Jvm.ClassFile.FieldType.object "java/util/HashMap$TreeNode"))) ∈ lw_all := lw_g (lw_at lw_m4 103 rfl) rfl
theorem q974 : (Jvm.Cond.methodLink "java/util/HashMap$TreeNode" (49 : Nat) ({ cls := "java/lang/Object", name := "equals", desc := "(Ljava/lang/Object;)Z" } : Jvm.MethodName)) ∈ lw_all := lw_g (lw_at lw_m4 104 rfl) rfl
theorem q975 : (Jvm.Cond.methodLink "java/util/HashMap$TreeNode" (55 : Nat) ({ cls := "java/util/HashMap", name := "comparableClassFor", desc := "(Ljava/lang/Object;)Ljava/lang/Class;" } : Jvm.MethodName)) ∈ lw_all := lw_g (lw_at lw_m4 105 rfl) rfl
theorem q981 : (Jvm.Cond.methodLink "java/util/HashMap$TreeNode" (59 : Nat) ({ cls := "java/util/HashMap", name := "compareComparables", desc := "(Ljava/lang/Class;Ljava/lang/Object;Ljava/lang/Object;)I" } : Jvm.MethodName)) ∈ lw_all := lw_g (lw_at lw_m4 111 rfl) rfl
theorem q1202 : (Jvm.Cond.instanceMethod ({ cls := "java/util/HashMap$TreeNode", name := "split", desc := "(Ljava/util/HashMap;[Ljava/util/HashMap$Node;II)V" } : Jvm.MethodName)) ∈ lw_all := lw_g (lw_at lw_m5 92 rfl) rfl
theorem q1203 : (Jvm.Cond.selects "java/util/HashMap$TreeNode" ({ cls := "java/util/HashMap$TreeNode", name := "split", desc := "(Ljava/util/HashMap;[Ljava/util/HashMap$Node;II)V" } : Jvm.MethodName) ({ cls := "java/util/HashMap$TreeNode", name := "split", desc := "(Ljava/util/HashMap;[Ljava/util/HashMap$Node;II)V" } : Jvm.MethodName)) ∈ lw_all := lw_g (lw_at lw_m5 93 rfl) rfl
theorem q1204 : (Jvm.Cond.code ({ cls := "java/util/HashMap$TreeNode", name := "split", desc := "(Ljava/util/HashMap;[Ljava/util/HashMap$Node;II)V" } : Jvm.MethodName) prog_55_method_11_code (14 : Nat) (Option.none : Option Jvm.ClassFile.FieldType)) ∈ lw_all := lw_g (lw_at lw_m5 94 rfl) rfl
theorem q1205 : (Jvm.Cond.classLink "java/util/HashMap$TreeNode" (10 : Nat) "java/util/HashMap$TreeNode") ∈ lw_all := lw_g (lw_at lw_m5 95 rfl) rfl
theorem q1206 : (Jvm.Cond.methodLink "java/util/HashMap$TreeNode" (119 : Nat) ({ cls := "java/util/HashMap$TreeNode", name := "untreeify", desc := "(Ljava/util/HashMap;)Ljava/util/HashMap$Node;" } : Jvm.MethodName)) ∈ lw_all := lw_g (lw_at lw_m5 96 rfl) rfl
theorem q1207 : (Jvm.Cond.instanceMethod ({ cls := "java/util/HashMap$TreeNode", name := "untreeify", desc := "(Ljava/util/HashMap;)Ljava/util/HashMap$Node;" } : Jvm.MethodName)) ∈ lw_all := lw_g (lw_at lw_m5 97 rfl) rfl
theorem q1208 : (Jvm.Cond.selects "java/util/HashMap$TreeNode" ({ cls := "java/util/HashMap$TreeNode", name := "untreeify", desc := "(Ljava/util/HashMap;)Ljava/util/HashMap$Node;" } : Jvm.MethodName) ({ cls := "java/util/HashMap$TreeNode", name := "untreeify", desc := "(Ljava/util/HashMap;)Ljava/util/HashMap$Node;" } : Jvm.MethodName)) ∈ lw_all := lw_g (lw_at lw_m5 98 rfl) rfl
theorem q1209 : (Jvm.Cond.code ({ cls := "java/util/HashMap$TreeNode", name := "untreeify", desc := "(Ljava/util/HashMap;)Ljava/util/HashMap$Node;" } : Jvm.MethodName) prog_55_method_8_code (6 : Nat) (Option.some (Jvm.ClassFile.FieldType.object "java/util/HashMap$Node"))) ∈ lw_all := lw_g (lw_at lw_m5 99 rfl) rfl
theorem q1210 : (Jvm.Cond.methodLink "java/util/HashMap$TreeNode" (108 : Nat) ({ cls := "java/util/HashMap", name := "replacementNode", desc := "(Ljava/util/HashMap$Node;Ljava/util/HashMap$Node;)Ljava/util/HashMap$Node;" } : Jvm.MethodName)) ∈ lw_all := lw_g (lw_at lw_m5 100 rfl) rfl
theorem q1220 : (Jvm.Cond.fieldLink "java/util/HashMap$TreeNode" (15 : Nat) "java/util/HashMap$TreeNode" "hash" "I") ∈ lw_all := lw_g (lw_at lw_m5 110 rfl) rfl
theorem q1221 : (Jvm.Cond.sameField "java/util/HashMap$TreeNode" "java/util/HashMap$Node" "hash" "I") ∈ lw_all := lw_g (lw_at lw_m5 111 rfl) rfl
theorem q1224 : (Jvm.Cond.fieldLink "java/util/HashMap$TreeNode" (45 : Nat) "java/util/HashMap$TreeNode" "key" "Ljava/lang/Object;") ∈ lw_all := lw_g (lw_at lw_m5 114 rfl) rfl
theorem q1225 : (Jvm.Cond.sameField "java/util/HashMap$TreeNode" "java/util/HashMap$Node" "key" "Ljava/lang/Object;") ∈ lw_all := lw_g (lw_at lw_m5 115 rfl) rfl
theorem q1230 : (Jvm.Cond.fieldLink "java/util/HashMap$TreeNode" (22 : Nat) "java/util/HashMap$TreeNode" "next" "Ljava/util/HashMap$Node;") ∈ lw_all := lw_g (lw_at lw_m5 120 rfl) rfl
theorem q1231 : (Jvm.Cond.sameField "java/util/HashMap$TreeNode" "java/util/HashMap$Node" "next" "Ljava/util/HashMap$Node;") ∈ lw_all := lw_g (lw_at lw_m5 121 rfl) rfl
theorem q1232 : (Jvm.Cond.fieldLink "java/util/HashMap$TreeNode" (112 : Nat) "java/util/HashMap$Node" "next" "Ljava/util/HashMap$Node;") ∈ lw_all := lw_g (lw_at lw_m5 122 rfl) rfl
theorem q1244 : (Jvm.Cond.methodLink "java/util/HashMap$TreeNode" (126 : Nat) ({ cls := "java/util/HashMap$TreeNode", name := "treeify", desc := "([Ljava/util/HashMap$Node;)V" } : Jvm.MethodName)) ∈ lw_all := lw_g (lw_at lw_m5 134 rfl) rfl
theorem q1245 : (Jvm.Cond.instanceMethod ({ cls := "java/util/HashMap$TreeNode", name := "treeify", desc := "([Ljava/util/HashMap$Node;)V" } : Jvm.MethodName)) ∈ lw_all := lw_g (lw_at lw_m5 135 rfl) rfl
theorem q1246 : (Jvm.Cond.selects "java/util/HashMap$TreeNode" ({ cls := "java/util/HashMap$TreeNode", name := "treeify", desc := "([Ljava/util/HashMap$Node;)V" } : Jvm.MethodName) ({ cls := "java/util/HashMap$TreeNode", name := "treeify", desc := "([Ljava/util/HashMap$Node;)V" } : Jvm.MethodName)) ∈ lw_all := lw_g (lw_at lw_m5 136 rfl) rfl
theorem q1247 : (Jvm.Cond.code ({ cls := "java/util/HashMap$TreeNode", name := "treeify", desc := "([Ljava/util/HashMap$Node;)V" } : Jvm.MethodName) prog_55_method_7_code (13 : Nat) (Option.none : Option Jvm.ClassFile.FieldType)) ∈ lw_all := lw_g (lw_at lw_m5 137 rfl) rfl
theorem q1248 : (Jvm.Cond.methodLink "java/util/HashMap$TreeNode" (100 : Nat) ({ cls := "java/util/HashMap$TreeNode", name := "balanceInsertion", desc := "(Ljava/util/HashMap$TreeNode;Ljava/util/HashMap$TreeNode;)Ljava/util/HashMap$TreeNode;" } : Jvm.MethodName)) ∈ lw_all := lw_g (lw_at lw_m5 138 rfl) rfl
theorem q1249 : (Jvm.Cond.static ({ cls := "java/util/HashMap$TreeNode", name := "balanceInsertion", desc := "(Ljava/util/HashMap$TreeNode;Ljava/util/HashMap$TreeNode;)Ljava/util/HashMap$TreeNode;" } : Jvm.MethodName)) ∈ lw_all := lw_g (lw_at lw_m5 139 rfl) rfl
theorem q1250 : (Jvm.Cond.code ({ cls := "java/util/HashMap$TreeNode", name := "balanceInsertion", desc := "(Ljava/util/HashMap$TreeNode;Ljava/util/HashMap$TreeNode;)Ljava/util/HashMap$TreeNode;" } : Jvm.MethodName) prog_55_method_14_code (6 : Nat) (Option.some (Jvm.ClassFile.FieldType.object "java/util/HashMap$TreeNode"))) ∈ lw_all := lw_g (lw_at lw_m5 140 rfl) rfl
theorem q1251 : (Jvm.Cond.methodLink "java/util/HashMap$TreeNode" (130 : Nat) ({ cls := "java/util/HashMap$TreeNode", name := "rotateLeft", desc := "(Ljava/util/HashMap$TreeNode;Ljava/util/HashMap$TreeNode;)Ljava/util/HashMap$TreeNode;" } : Jvm.MethodName)) ∈ lw_all := lw_g (lw_at lw_m5 141 rfl) rfl
theorem q1252 : (Jvm.Cond.static ({ cls := "java/util/HashMap$TreeNode", name := "rotateLeft", desc := "(Ljava/util/HashMap$TreeNode;Ljava/util/HashMap$TreeNode;)Ljava/util/HashMap$TreeNode;" } : Jvm.MethodName)) ∈ lw_all := lw_g (lw_at lw_m5 142 rfl) rfl
theorem q1253 : (Jvm.Cond.code ({ cls := "java/util/HashMap$TreeNode", name := "rotateLeft", desc := "(Ljava/util/HashMap$TreeNode;Ljava/util/HashMap$TreeNode;)Ljava/util/HashMap$TreeNode;" } : Jvm.MethodName) prog_55_method_12_code (5 : Nat) (Option.some (Jvm.ClassFile.FieldType.object "java/util/HashMap$TreeNode"))) ∈ lw_all := lw_g (lw_at lw_m5 143 rfl) rfl
theorem q1254 : (Jvm.Cond.methodLink "java/util/HashMap$TreeNode" (133 : Nat) ({ cls := "java/util/HashMap$TreeNode", name := "rotateRight", desc := "(Ljava/util/HashMap$TreeNode;Ljava/util/HashMap$TreeNode;)Ljava/util/HashMap$TreeNode;" } : Jvm.MethodName)) ∈ lw_all := lw_g (lw_at lw_m5 144 rfl) rfl
theorem q1255 : (Jvm.Cond.static ({ cls := "java/util/HashMap$TreeNode", name := "rotateRight", desc := "(Ljava/util/HashMap$TreeNode;Ljava/util/HashMap$TreeNode;)Ljava/util/HashMap$TreeNode;" } : Jvm.MethodName)) ∈ lw_all := lw_g (lw_at lw_m5 145 rfl) rfl
theorem q1256 : (Jvm.Cond.code ({ cls := "java/util/HashMap$TreeNode", name := "rotateRight", desc := "(Ljava/util/HashMap$TreeNode;Ljava/util/HashMap$TreeNode;)Ljava/util/HashMap$TreeNode;" } : Jvm.MethodName) prog_55_method_13_code (5 : Nat) (Option.some (Jvm.ClassFile.FieldType.object "java/util/HashMap$TreeNode"))) ∈ lw_all := lw_g (lw_at lw_m5 146 rfl) rfl
theorem q1257 : (Jvm.Cond.methodLink "java/util/HashMap$TreeNode" (104 : Nat) ({ cls := "java/util/HashMap$TreeNode", name := "moveRootToFront", desc := "([Ljava/util/HashMap$Node;Ljava/util/HashMap$TreeNode;)V" } : Jvm.MethodName)) ∈ lw_all := lw_g (lw_at lw_m5 147 rfl) rfl
theorem q1258 : (Jvm.Cond.static ({ cls := "java/util/HashMap$TreeNode", name := "moveRootToFront", desc := "([Ljava/util/HashMap$Node;Ljava/util/HashMap$TreeNode;)V" } : Jvm.MethodName)) ∈ lw_all := lw_g (lw_at lw_m5 148 rfl) rfl
theorem q1259 : (Jvm.Cond.code ({ cls := "java/util/HashMap$TreeNode", name := "moveRootToFront", desc := "([Ljava/util/HashMap$Node;Ljava/util/HashMap$TreeNode;)V" } : Jvm.MethodName) prog_55_method_3_code (7 : Nat) (Option.none : Option Jvm.ClassFile.FieldType)) ∈ lw_all := lw_g (lw_at lw_m5 149 rfl) rfl
theorem q1260 : (Jvm.Cond.fieldLink "java/util/HashMap$TreeNode" (26 : Nat) "java/util/HashMap$TreeNode" "$assertionsDisabled" "Z") ∈ lw_all := lw_g (lw_at lw_m5 150 rfl) rfl
theorem q1261 : (Jvm.Cond.laysStatic "java/util/HashMap$TreeNode" "$assertionsDisabled" "Z") ∈ lw_tbl := lw_at lw_m5 151 rfl
theorem q1267 : (Jvm.Cond.instanceMethod ({ cls := "java/util/HashMap$TreeNode", name := "putTreeVal", desc := "(Ljava/util/HashMap;[Ljava/util/HashMap$Node;ILjava/lang/Object;Ljava/lang/Object;)Ljava/util/HashMap$TreeNode;" } : Jvm.MethodName)) ∈ lw_all := lw_g (lw_at lw_m5 157 rfl) rfl
theorem q1268 : (Jvm.Cond.selects "java/util/HashMap$TreeNode" ({ cls := "java/util/HashMap$TreeNode", name := "putTreeVal", desc := "(Ljava/util/HashMap;[Ljava/util/HashMap$Node;ILjava/lang/Object;Ljava/lang/Object;)Ljava/util/HashMap$TreeNode;" } : Jvm.MethodName) ({ cls := "java/util/HashMap$TreeNode", name := "putTreeVal", desc := "(Ljava/util/HashMap;[Ljava/util/HashMap$Node;ILjava/lang/Object;Ljava/lang/Object;)Ljava/util/HashMap$TreeNode;" } : Jvm.MethodName)) ∈ lw_all := lw_g (lw_at lw_m5 158 rfl) rfl
theorem q1269 : (Jvm.Cond.code ({ cls := "java/util/HashMap$TreeNode", name := "putTreeVal", desc := "(Ljava/util/HashMap;[Ljava/util/HashMap$Node;ILjava/lang/Object;Ljava/lang/Object;)Ljava/util/HashMap$TreeNode;" } : Jvm.MethodName) prog_55_method_9_code (16 : Nat) (Option.some (Jvm.ClassFile.FieldType.object "java/util/HashMap$TreeNode"))) ∈ lw_all := lw_g (lw_at lw_m5 159 rfl) rfl
theorem q1270 : (Jvm.Cond.methodLink "java/util/HashMap$TreeNode" (115 : Nat) ({ cls := "java/util/HashMap", name := "newTreeNode", desc := "(ILjava/lang/Object;Ljava/lang/Object;Ljava/util/HashMap$Node;)Ljava/util/HashMap$TreeNode;" } : Jvm.MethodName)) ∈ lw_all := lw_g (lw_at lw_m5 160 rfl) rfl
theorem q1274 : (Jvm.Cond.instantiable "java/util/HashMap$TreeNode" (11 : Nat)) ∈ lw_all := lw_g (lw_at lw_m5 164 rfl) rfl
theorem q1276 : (Jvm.Cond.instanceMethod ({ cls := "java/util/HashMap$TreeNode", name := "<init>", desc := "(ILjava/lang/Object;Ljava/lang/Object;Ljava/util/HashMap$Node;)V" } : Jvm.MethodName)) ∈ lw_all := lw_g (lw_at lw_m5 166 rfl) rfl
theorem q1277 : (Jvm.Cond.code ({ cls := "java/util/HashMap$TreeNode", name := "<init>", desc := "(ILjava/lang/Object;Ljava/lang/Object;Ljava/util/HashMap$Node;)V" } : Jvm.MethodName) prog_55_method_1_code (5 : Nat) (Option.none : Option Jvm.ClassFile.FieldType)) ∈ lw_all := lw_g (lw_at lw_m5 167 rfl) rfl
theorem q1278 : (Jvm.Cond.methodLink "java/util/HashMap$TreeNode" (3 : Nat) ({ cls := "java/util/LinkedHashMap$Entry", name := "<init>", desc := "(ILjava/lang/Object;Ljava/lang/Object;Ljava/util/HashMap$Node;)V" } : Jvm.MethodName)) ∈ lw_all := lw_g (lw_at lw_m5 168 rfl) rfl
theorem q1282 : (Jvm.Cond.fieldLink "java/util/HashMap$TreeNode" (9 : Nat) "java/util/HashMap$TreeNode" "parent" "Ljava/util/HashMap$TreeNode;") ∈ lw_all := lw_g (lw_at lw_m5 172 rfl) rfl
theorem q1283 : (Jvm.Cond.fieldLink "java/util/HashMap$TreeNode" (39 : Nat) "java/util/HashMap$TreeNode" "left" "Ljava/util/HashMap$TreeNode;") ∈ lw_all := lw_g (lw_at lw_m5 173 rfl) rfl
theorem q1284 : (Jvm.Cond.fieldLink "java/util/HashMap$TreeNode" (42 : Nat) "java/util/HashMap$TreeNode" "right" "Ljava/util/HashMap$TreeNode;") ∈ lw_all := lw_g (lw_at lw_m5 174 rfl) rfl
theorem q1285 : (Jvm.Cond.fieldLink "java/util/HashMap$TreeNode" (19 : Nat) "java/util/HashMap$TreeNode" "prev" "Ljava/util/HashMap$TreeNode;") ∈ lw_all := lw_g (lw_at lw_m5 175 rfl) rfl
theorem q1287 : (Jvm.Cond.fieldLink "java/util/HashMap$TreeNode" (93 : Nat) "java/util/HashMap$TreeNode" "red" "Z") ∈ lw_all := lw_g (lw_at lw_m5 177 rfl) rfl
theorem q1288 : (Jvm.Cond.lays "java/util/HashMap$TreeNode" "java/util/HashMap$TreeNode" "parent" "Ljava/util/HashMap$TreeNode;") ∈ lw_all := lw_g (lw_at lw_m5 178 rfl) rfl
theorem q1289 : (Jvm.Cond.soleField "java/util/HashMap$TreeNode" "parent") ∈ lw_all := lw_g (lw_at lw_m5 179 rfl) rfl
theorem q1290 : (Jvm.Cond.lays "java/util/HashMap$TreeNode" "java/util/HashMap$TreeNode" "left" "Ljava/util/HashMap$TreeNode;") ∈ lw_all := lw_g (lw_at lw_m5 180 rfl) rfl
theorem q1291 : (Jvm.Cond.soleField "java/util/HashMap$TreeNode" "left") ∈ lw_all := lw_g (lw_at lw_m5 181 rfl) rfl
theorem q1292 : (Jvm.Cond.lays "java/util/HashMap$TreeNode" "java/util/HashMap$TreeNode" "right" "Ljava/util/HashMap$TreeNode;") ∈ lw_all := lw_g (lw_at lw_m5 182 rfl) rfl
theorem q1293 : (Jvm.Cond.soleField "java/util/HashMap$TreeNode" "right") ∈ lw_all := lw_g (lw_at lw_m5 183 rfl) rfl
theorem q1294 : (Jvm.Cond.lays "java/util/HashMap$TreeNode" "java/util/HashMap$TreeNode" "prev" "Ljava/util/HashMap$TreeNode;") ∈ lw_all := lw_g (lw_at lw_m5 184 rfl) rfl
theorem q1295 : (Jvm.Cond.soleField "java/util/HashMap$TreeNode" "prev") ∈ lw_all := lw_g (lw_at lw_m5 185 rfl) rfl
theorem q1296 : (Jvm.Cond.lays "java/util/HashMap$TreeNode" "java/util/HashMap$TreeNode" "red" "Z") ∈ lw_all := lw_g (lw_at lw_m5 186 rfl) rfl
theorem q1297 : (Jvm.Cond.soleField "java/util/HashMap$TreeNode" "red") ∈ lw_all := lw_g (lw_at lw_m5 187 rfl) rfl
theorem q1298 : (Jvm.Cond.lays "java/util/HashMap$TreeNode" "java/util/LinkedHashMap$Entry" "before" "Ljava/util/LinkedHashMap$Entry;") ∈ lw_all := lw_g (lw_at lw_m5 188 rfl) rfl
theorem q1300 : (Jvm.Cond.lays "java/util/HashMap$TreeNode" "java/util/LinkedHashMap$Entry" "after" "Ljava/util/LinkedHashMap$Entry;") ∈ lw_all := lw_g (lw_at lw_m5 190 rfl) rfl
theorem q1302 : (Jvm.Cond.laysFinal "java/util/HashMap$TreeNode" "java/util/HashMap$Node" "hash" "I") ∈ lw_all := lw_g (lw_at lw_m5 192 rfl) rfl
theorem q1303 : (Jvm.Cond.laysFinal "java/util/HashMap$TreeNode" "java/util/HashMap$Node" "key" "Ljava/lang/Object;") ∈ lw_all := lw_g (lw_at lw_m5 193 rfl) rfl
theorem q1304 : (Jvm.Cond.lays "java/util/HashMap$TreeNode" "java/util/HashMap$Node" "value" "Ljava/lang/Object;") ∈ lw_all := lw_g (lw_at lw_m5 194 rfl) rfl
theorem q1305 : (Jvm.Cond.lays "java/util/HashMap$TreeNode" "java/util/HashMap$Node" "next" "Ljava/util/HashMap$Node;") ∈ lw_all := lw_g (lw_at lw_m5 195 rfl) rfl
theorem q1306 : (Jvm.Cond.superclass "java/util/HashMap$TreeNode" "java/util/LinkedHashMap$Entry") ∈ lw_all := lw_g (lw_at lw_m5 196 rfl) rfl
theorem q3185 : (Jvm.Cond.castable "java/util/HashMap$TreeNode" "java/lang/Object") ∈ lw_tbl := lw_at lw_m13 155 rfl
theorem q3199 : (Jvm.Cond.castable "java/util/HashMap$TreeNode" "java/util/HashMap$Node") ∈ lw_tbl := lw_at lw_m13 169 rfl
theorem q188 : (Jvm.Cond.initialized "java/lang/IllegalStateException") ∈ lw_all := lw_g (lw_at lw_m1 38 rfl) rfl
theorem q341 : (Jvm.Cond.selects "java/lang/IllegalStateException" ({ cls := "java/lang/Throwable", name := "fillInStackTrace", desc := "()Ljava/lang/Throwable;" } : Jvm.MethodName) ({ cls := "java/lang/Throwable", name := "fillInStackTrace", desc := "()Ljava/lang/Throwable;" } : Jvm.MethodName)) ∈ lw_all := lw_g (lw_at lw_m1 191 rfl) rfl
theorem q743 : (Jvm.Cond.selects "java/lang/IllegalStateException" ({ cls := "java/lang/Object", name := "getClass", desc := "()Ljava/lang/Class;" } : Jvm.MethodName) ({ cls := "java/lang/Object", name := "getClass", desc := "()Ljava/lang/Class;" } : Jvm.MethodName)) ∈ lw_all := lw_g (lw_at lw_m3 113 rfl) rfl
theorem q855 : (Jvm.Cond.selects "java/lang/IllegalStateException" ({ cls := "java/lang/Object", name := "hashCode", desc := "()I" } : Jvm.MethodName) ({ cls := "java/lang/Object", name := "hashCode", desc := "()I" } : Jvm.MethodName)) ∈ lw_all := lw_g (lw_at lw_m3 225 rfl) rfl
theorem q947 : (Jvm.Cond.selects "java/lang/IllegalStateException" ({ cls := "java/lang/Object", name := "equals", desc := "(Ljava/lang/Object;)Z" } : Jvm.MethodName) ({ cls := "java/lang/Object", name := "equals", desc := "(Ljava/lang/Object;)Z" } : Jvm.MethodName)) ∈ lw_all := lw_g (lw_at lw_m4 77 rfl) rfl
theorem q1833 : (Jvm.Cond.instantiable "java/lang/IllegalStateException" (6 : Nat)) ∈ lw_all := lw_g (lw_at lw_m8 3 rfl) rfl
theorem q1834 : (Jvm.Cond.castable "java/lang/IllegalStateException" "java/lang/IllegalStateException") ∈ lw_tbl := lw_at lw_m8 4 rfl
theorem q1835 : (Jvm.Cond.selects "java/lang/IllegalStateException" ({ cls := "java/lang/Throwable", name := "fillInStackTrace", desc := "(I)Ljava/lang/Throwable;" } : Jvm.MethodName) ({ cls := "java/lang/Throwable", name := "fillInStackTrace", desc := "(I)Ljava/lang/Throwable;" } : Jvm.MethodName)) ∈ lw_all := lw_g (lw_at lw_m8 5 rfl) rfl
theorem q1836 : (Jvm.Cond.lays "java/lang/IllegalStateException" "java/lang/Throwable" "cause" "Ljava/lang/Throwable;") ∈ lw_all := lw_g (lw_at lw_m8 6 rfl) rfl
theorem q1837 : (Jvm.Cond.lays "java/lang/IllegalStateException" "java/lang/Throwable" "stackTrace" "[Ljava/lang/StackTraceElement;") ∈ lw_all := lw_g (lw_at lw_m8 7 rfl) rfl
theorem q1838 : (Jvm.Cond.lays "java/lang/IllegalStateException" "java/lang/Throwable" "suppressedExceptions" "Ljava/util/List;") ∈ lw_all := lw_g (lw_at lw_m8 8 rfl) rfl
theorem q1839 : (Jvm.Cond.lays "java/lang/IllegalStateException" "java/lang/Throwable" "detailMessage" "Ljava/lang/String;") ∈ lw_all := lw_g (lw_at lw_m8 9 rfl) rfl
theorem q1840 : (Jvm.Cond.lays "java/lang/IllegalStateException" "java/lang/Throwable" "backtrace" "Ljava/lang/Object;") ∈ lw_all := lw_g (lw_at lw_m8 10 rfl) rfl
theorem q1843 : (Jvm.Cond.instanceMethod ({ cls := "java/lang/IllegalStateException", name := "<init>", desc := "(Ljava/lang/String;)V" } : Jvm.MethodName)) ∈ lw_all := lw_g (lw_at lw_m8 13 rfl) rfl
theorem q1844 : (Jvm.Cond.code ({ cls := "java/lang/IllegalStateException", name := "<init>", desc := "(Ljava/lang/String;)V" } : Jvm.MethodName) prog_27_method_2_code (2 : Nat) (Option.none : Option Jvm.ClassFile.FieldType)) ∈ lw_all := lw_g (lw_at lw_m8 14 rfl) rfl
theorem q1845 : (Jvm.Cond.methodLink "java/lang/IllegalStateException" (7 : Nat) ({ cls := "java/lang/RuntimeException", name := "<init>", desc := "(Ljava/lang/String;)V" } : Jvm.MethodName)) ∈ lw_all := lw_g (lw_at lw_m8 15 rfl) rfl
theorem q1846 : (Jvm.Cond.lays "java/lang/IllegalStateException" "java/lang/Throwable" "depth" "I") ∈ lw_all := lw_g (lw_at lw_m8 16 rfl) rfl
theorem q1847 : (Jvm.Cond.superclass "java/lang/IllegalStateException" "java/lang/RuntimeException") ∈ lw_all := lw_g (lw_at lw_m8 17 rfl) rfl
theorem q2109 : (Jvm.Cond.instanceMethod ({ cls := "java/lang/IllegalStateException", name := "<init>", desc := "()V" } : Jvm.MethodName)) ∈ lw_all := lw_g (lw_at lw_m9 39 rfl) rfl
theorem q2110 : (Jvm.Cond.code ({ cls := "java/lang/IllegalStateException", name := "<init>", desc := "()V" } : Jvm.MethodName) prog_27_method_1_code (1 : Nat) (Option.none : Option Jvm.ClassFile.FieldType)) ∈ lw_all := lw_g (lw_at lw_m9 40 rfl) rfl
theorem q2111 : (Jvm.Cond.methodLink "java/lang/IllegalStateException" (1 : Nat) ({ cls := "java/lang/RuntimeException", name := "<init>", desc := "()V" } : Jvm.MethodName)) ∈ lw_all := lw_g (lw_at lw_m9 41 rfl) rfl
theorem q3189 : (Jvm.Cond.castable "java/lang/IllegalStateException" "java/lang/Object") ∈ lw_tbl := lw_at lw_m13 159 rfl
theorem q190 : (Jvm.Cond.initialized "java/lang/Enum") ∈ lw_all := lw_g (lw_at lw_m1 40 rfl) rfl
theorem q845 : (Jvm.Cond.instanceMethod ({ cls := "java/lang/Enum", name := "hashCode", desc := "()I" } : Jvm.MethodName)) ∈ lw_all := lw_g (lw_at lw_m3 215 rfl) rfl
theorem q846 : (Jvm.Cond.code ({ cls := "java/lang/Enum", name := "hashCode", desc := "()I" } : Jvm.MethodName) prog_24_method_6_code (2 : Nat) (Option.some Jvm.ClassFile.FieldType.int)) ∈ lw_all := lw_g (lw_at lw_m3 216 rfl) rfl
theorem q847 : (Jvm.Cond.methodLink "java/lang/Enum" (20 : Nat) ({ cls := "java/lang/System", name := "identityHashCode", desc := "(Ljava/lang/Object;)I" } : Jvm.MethodName)) ∈ lw_all := lw_g (lw_at lw_m3 217 rfl) rfl
theorem q940 : (Jvm.Cond.instanceMethod ({ cls := "java/lang/Enum", name := "equals", desc := "(Ljava/lang/Object;)Z" } : Jvm.MethodName)) ∈ lw_all := lw_g (lw_at lw_m4 70 rfl) rfl
theorem q941 : (Jvm.Cond.code ({ cls := "java/lang/Enum", name := "equals", desc := "(Ljava/lang/Object;)Z" } : Jvm.MethodName) prog_24_method_5_code (2 : Nat) (Option.some Jvm.ClassFile.FieldType.boolean)) ∈ lw_all := lw_g (lw_at lw_m4 71 rfl) rfl
theorem q991 : (Jvm.Cond.instanceMethod ({ cls := "java/lang/Enum", name := "compareTo", desc := "(Ljava/lang/Object;)I" } : Jvm.MethodName)) ∈ lw_all := lw_g (lw_at lw_m4 121 rfl) rfl
theorem q992 : (Jvm.Cond.publicMethod ({ cls := "java/lang/Enum", name := "compareTo", desc := "(Ljava/lang/Object;)I" } : Jvm.MethodName)) ∈ lw_tbl := lw_at lw_m4 122 rfl
theorem q993 : (Jvm.Cond.code ({ cls := "java/lang/Enum", name := "compareTo", desc := "(Ljava/lang/Object;)I" } : Jvm.MethodName) prog_24_method_15_code (2 : Nat) (Option.some Jvm.ClassFile.FieldType.int)) ∈ lw_all := lw_g (lw_at lw_m4 123 rfl) rfl
theorem q994 : (Jvm.Cond.classLink "java/lang/Enum" (2 : Nat) "java/lang/Enum") ∈ lw_all := lw_g (lw_at lw_m4 124 rfl) rfl
theorem q995 : (Jvm.Cond.methodLink "java/lang/Enum" (101 : Nat) ({ cls := "java/lang/Enum", name := "compareTo", desc := "(Ljava/lang/Enum;)I" } : Jvm.MethodName)) ∈ lw_all := lw_g (lw_at lw_m4 125 rfl) rfl
theorem q996 : (Jvm.Cond.instanceMethod ({ cls := "java/lang/Enum", name := "compareTo", desc := "(Ljava/lang/Enum;)I" } : Jvm.MethodName)) ∈ lw_all := lw_g (lw_at lw_m4 126 rfl) rfl
theorem q997 : (Jvm.Cond.sameMethod "java/lang/Enum" "java/lang/Enum" "compareTo" "(Ljava/lang/Enum;)I") ∈ lw_all := lw_g (lw_at lw_m4 127 rfl) rfl
theorem q999 : (Jvm.Cond.code ({ cls := "java/lang/Enum", name := "compareTo", desc := "(Ljava/lang/Enum;)I" } : Jvm.MethodName) prog_24_method_8_code (4 : Nat) (Option.some Jvm.ClassFile.FieldType.int)) ∈ lw_all := lw_g (lw_at lw_m4 129 rfl) rfl
theorem q1000 : (Jvm.Cond.methodLink "java/lang/Enum" (29 : Nat) ({ cls := "java/lang/Object", name := "getClass", desc := "()Ljava/lang/Class;" } : Jvm.MethodName)) ∈ lw_all := lw_g (lw_at lw_m4 130 rfl) rfl
theorem q1001 : (Jvm.Cond.methodLink "java/lang/Enum" (33 : Nat) ({ cls := "java/lang/Enum", name := "getDeclaringClass", desc := "()Ljava/lang/Class;" } : Jvm.MethodName)) ∈ lw_all := lw_g (lw_at lw_m4 131 rfl) rfl
theorem q1002 : (Jvm.Cond.instanceMethod ({ cls := "java/lang/Enum", name := "getDeclaringClass", desc := "()Ljava/lang/Class;" } : Jvm.MethodName)) ∈ lw_all := lw_g (lw_at lw_m4 132 rfl) rfl
theorem q1003 : (Jvm.Cond.sameMethod "java/lang/Enum" "java/lang/Enum" "getDeclaringClass" "()Ljava/lang/Class;") ∈ lw_all := lw_g (lw_at lw_m4 133 rfl) rfl
theorem q1005 : (Jvm.Cond.code ({ cls := "java/lang/Enum", name := "getDeclaringClass", desc := "()Ljava/lang/Class;" } : Jvm.MethodName) prog_24_method_9_code (3 : Nat) (Option.some (Jvm.ClassFile.FieldType.object "java/lang/Class"))) ∈ lw_all := lw_g (lw_at lw_m4 135 rfl) rfl
theorem q3212 : (Jvm.Cond.fieldLink "java/lang/Enum" (17 : Nat) "java/lang/Enum" "hash" "I") ∈ lw_all := lw_g (lw_at lw_m13 182 rfl) rfl
theorem q3213 : (Jvm.Cond.fieldLink "java/lang/Enum" (7 : Nat) "java/lang/Enum" "ordinal" "I") ∈ lw_all := lw_g (lw_at lw_m13 183 rfl) rfl
theorem q194 : (Jvm.Cond.initialized "java/lang/IndexOutOfBoundsException") ∈ lw_all := lw_g (lw_at lw_m1 44 rfl) rfl
theorem q342 : (Jvm.Cond.selects "java/lang/IndexOutOfBoundsException" ({ cls := "java/lang/Throwable", name := "fillInStackTrace", desc := "()Ljava/lang/Throwable;" } : Jvm.MethodName) ({ cls := "java/lang/Throwable", name := "fillInStackTrace", desc := "()Ljava/lang/Throwable;" } : Jvm.MethodName)) ∈ lw_all := lw_g (lw_at lw_m1 192 rfl) rfl
theorem q744 : (Jvm.Cond.selects "java/lang/IndexOutOfBoundsException" ({ cls := "java/lang/Object", name := "getClass", desc := "()Ljava/lang/Class;" } : Jvm.MethodName) ({ cls := "java/lang/Object", name := "getClass", desc := "()Ljava/lang/Class;" } : Jvm.MethodName)) ∈ lw_all := lw_g (lw_at lw_m3 114 rfl) rfl
theorem q856 : (Jvm.Cond.selects "java/lang/IndexOutOfBoundsException" ({ cls := "java/lang/Object", name := "hashCode", desc := "()I" } : Jvm.MethodName) ({ cls := "java/lang/Object", name := "hashCode", desc := "()I" } : Jvm.MethodName)) ∈ lw_all := lw_g (lw_at lw_m3 226 rfl) rfl
theorem q948 : (Jvm.Cond.selects "java/lang/IndexOutOfBoundsException" ({ cls := "java/lang/Object", name := "equals", desc := "(Ljava/lang/Object;)Z" } : Jvm.MethodName) ({ cls := "java/lang/Object", name := "equals", desc := "(Ljava/lang/Object;)Z" } : Jvm.MethodName)) ∈ lw_all := lw_g (lw_at lw_m4 78 rfl) rfl
theorem q1872 : (Jvm.Cond.instanceMethod ({ cls := "java/lang/IndexOutOfBoundsException", name := "<init>", desc := "(Ljava/lang/String;)V" } : Jvm.MethodName)) ∈ lw_all := lw_g (lw_at lw_m8 42 rfl) rfl
theorem q1873 : (Jvm.Cond.code ({ cls := "java/lang/IndexOutOfBoundsException", name := "<init>", desc := "(Ljava/lang/String;)V" } : Jvm.MethodName) prog_28_method_2_code (2 : Nat) (Option.none : Option Jvm.ClassFile.FieldType)) ∈ lw_all := lw_g (lw_at lw_m8 43 rfl) rfl
theorem q1874 : (Jvm.Cond.methodLink "java/lang/IndexOutOfBoundsException" (7 : Nat) ({ cls := "java/lang/RuntimeException", name := "<init>", desc := "(Ljava/lang/String;)V" } : Jvm.MethodName)) ∈ lw_all := lw_g (lw_at lw_m8 44 rfl) rfl
theorem q1883 : (Jvm.Cond.declares ({ cls := "java/lang/IndexOutOfBoundsException", name := "<init>", desc := "()V" } : Jvm.MethodName)) ∈ lw_tbl := lw_at lw_m8 53 rfl
theorem q1884 : (Jvm.Cond.declares ({ cls := "java/lang/IndexOutOfBoundsException", name := "<init>", desc := "(Ljava/lang/String;)V" } : Jvm.MethodName)) ∈ lw_tbl := lw_at lw_m8 54 rfl
theorem q1948 : (Jvm.Cond.instantiable "java/lang/IndexOutOfBoundsException" (6 : Nat)) ∈ lw_all := lw_g (lw_at lw_m8 118 rfl) rfl
theorem q1949 : (Jvm.Cond.castable "java/lang/IndexOutOfBoundsException" "java/lang/IndexOutOfBoundsException") ∈ lw_tbl := lw_at lw_m8 119 rfl
theorem q1950 : (Jvm.Cond.selects "java/lang/IndexOutOfBoundsException" ({ cls := "java/lang/Throwable", name := "fillInStackTrace", desc := "(I)Ljava/lang/Throwable;" } : Jvm.MethodName) ({ cls := "java/lang/Throwable", name := "fillInStackTrace", desc := "(I)Ljava/lang/Throwable;" } : Jvm.MethodName)) ∈ lw_all := lw_g (lw_at lw_m8 120 rfl) rfl
theorem q1951 : (Jvm.Cond.lays "java/lang/IndexOutOfBoundsException" "java/lang/Throwable" "cause" "Ljava/lang/Throwable;") ∈ lw_all := lw_g (lw_at lw_m8 121 rfl) rfl
theorem q1952 : (Jvm.Cond.lays "java/lang/IndexOutOfBoundsException" "java/lang/Throwable" "stackTrace" "[Ljava/lang/StackTraceElement;") ∈ lw_all := lw_g (lw_at lw_m8 122 rfl) rfl
theorem q1953 : (Jvm.Cond.lays "java/lang/IndexOutOfBoundsException" "java/lang/Throwable" "suppressedExceptions" "Ljava/util/List;") ∈ lw_all := lw_g (lw_at lw_m8 123 rfl) rfl
theorem q1954 : (Jvm.Cond.lays "java/lang/IndexOutOfBoundsException" "java/lang/Throwable" "detailMessage" "Ljava/lang/String;") ∈ lw_all := lw_g (lw_at lw_m8 124 rfl) rfl
theorem q1955 : (Jvm.Cond.lays "java/lang/IndexOutOfBoundsException" "java/lang/Throwable" "backtrace" "Ljava/lang/Object;") ∈ lw_all := lw_g (lw_at lw_m8 125 rfl) rfl
theorem q1957 : (Jvm.Cond.instanceMethod ({ cls := "java/lang/IndexOutOfBoundsException", name := "<init>", desc := "()V" } : Jvm.MethodName)) ∈ lw_all := lw_g (lw_at lw_m8 127 rfl) rfl
theorem q1958 : (Jvm.Cond.code ({ cls := "java/lang/IndexOutOfBoundsException", name := "<init>", desc := "()V" } : Jvm.MethodName) prog_28_method_1_code (1 : Nat) (Option.none : Option Jvm.ClassFile.FieldType)) ∈ lw_all := lw_g (lw_at lw_m8 128 rfl) rfl
theorem q1959 : (Jvm.Cond.methodLink "java/lang/IndexOutOfBoundsException" (1 : Nat) ({ cls := "java/lang/RuntimeException", name := "<init>", desc := "()V" } : Jvm.MethodName)) ∈ lw_all := lw_g (lw_at lw_m8 129 rfl) rfl
theorem q1966 : (Jvm.Cond.lays "java/lang/IndexOutOfBoundsException" "java/lang/Throwable" "depth" "I") ∈ lw_all := lw_g (lw_at lw_m8 136 rfl) rfl
theorem q1967 : (Jvm.Cond.superclass "java/lang/IndexOutOfBoundsException" "java/lang/RuntimeException") ∈ lw_all := lw_g (lw_at lw_m8 137 rfl) rfl
theorem q3195 : (Jvm.Cond.castable "java/lang/IndexOutOfBoundsException" "java/lang/Object") ∈ lw_tbl := lw_at lw_m13 165 rfl
theorem q195 : (Jvm.Cond.initialized "java/lang/ArrayIndexOutOfBoundsException") ∈ lw_all := lw_g (lw_at lw_m1 45 rfl) rfl
theorem q340 : (Jvm.Cond.selects "java/lang/ArrayIndexOutOfBoundsException" ({ cls := "java/lang/Throwable", name := "fillInStackTrace", desc := "()Ljava/lang/Throwable;" } : Jvm.MethodName) ({ cls := "java/lang/Throwable", name := "fillInStackTrace", desc := "()Ljava/lang/Throwable;" } : Jvm.MethodName)) ∈ lw_all := lw_g (lw_at lw_m1 190 rfl) rfl
theorem q741 : (Jvm.Cond.selects "java/lang/ArrayIndexOutOfBoundsException" ({ cls := "java/lang/Object", name := "getClass", desc := "()Ljava/lang/Class;" } : Jvm.MethodName) ({ cls := "java/lang/Object", name := "getClass", desc := "()Ljava/lang/Class;" } : Jvm.MethodName)) ∈ lw_all := lw_g (lw_at lw_m3 111 rfl) rfl
theorem q853 : (Jvm.Cond.selects "java/lang/ArrayIndexOutOfBoundsException" ({ cls := "java/lang/Object", name := "hashCode", desc := "()I" } : Jvm.MethodName) ({ cls := "java/lang/Object", name := "hashCode", desc := "()I" } : Jvm.MethodName)) ∈ lw_all := lw_g (lw_at lw_m3 223 rfl) rfl
theorem q945 : (Jvm.Cond.selects "java/lang/ArrayIndexOutOfBoundsException" ({ cls := "java/lang/Object", name := "equals", desc := "(Ljava/lang/Object;)Z" } : Jvm.MethodName) ({ cls := "java/lang/Object", name := "equals", desc := "(Ljava/lang/Object;)Z" } : Jvm.MethodName)) ∈ lw_all := lw_g (lw_at lw_m4 75 rfl) rfl
theorem q1868 : (Jvm.Cond.instantiable "java/lang/ArrayIndexOutOfBoundsException" (6 : Nat)) ∈ lw_all := lw_g (lw_at lw_m8 38 rfl) rfl
theorem q1869 : (Jvm.Cond.instanceMethod ({ cls := "java/lang/ArrayIndexOutOfBoundsException", name := "<init>", desc := "(Ljava/lang/String;)V" } : Jvm.MethodName)) ∈ lw_all := lw_g (lw_at lw_m8 39 rfl) rfl
theorem q1870 : (Jvm.Cond.code ({ cls := "java/lang/ArrayIndexOutOfBoundsException", name := "<init>", desc := "(Ljava/lang/String;)V" } : Jvm.MethodName) prog_20_method_2_code (2 : Nat) (Option.none : Option Jvm.ClassFile.FieldType)) ∈ lw_all := lw_g (lw_at lw_m8 40 rfl) rfl
theorem q1871 : (Jvm.Cond.methodLink "java/lang/ArrayIndexOutOfBoundsException" (7 : Nat) ({ cls := "java/lang/IndexOutOfBoundsException", name := "<init>", desc := "(Ljava/lang/String;)V" } : Jvm.MethodName)) ∈ lw_all := lw_g (lw_at lw_m8 41 rfl) rfl
theorem q1875 : (Jvm.Cond.lays "java/lang/ArrayIndexOutOfBoundsException" "java/lang/Throwable" "backtrace" "Ljava/lang/Object;") ∈ lw_all := lw_g (lw_at lw_m8 45 rfl) rfl
theorem q1876 : (Jvm.Cond.lays "java/lang/ArrayIndexOutOfBoundsException" "java/lang/Throwable" "detailMessage" "Ljava/lang/String;") ∈ lw_all := lw_g (lw_at lw_m8 46 rfl) rfl
theorem q1877 : (Jvm.Cond.lays "java/lang/ArrayIndexOutOfBoundsException" "java/lang/Throwable" "cause" "Ljava/lang/Throwable;") ∈ lw_all := lw_g (lw_at lw_m8 47 rfl) rfl
theorem q1878 : (Jvm.Cond.lays "java/lang/ArrayIndexOutOfBoundsException" "java/lang/Throwable" "stackTrace" "[Ljava/lang/StackTraceElement;") ∈ lw_all := lw_g (lw_at lw_m8 48 rfl) rfl
theorem q1879 : (Jvm.Cond.lays "java/lang/ArrayIndexOutOfBoundsException" "java/lang/Throwable" "depth" "I") ∈ lw_all := lw_g (lw_at lw_m8 49 rfl) rfl
theorem q1880 : (Jvm.Cond.lays "java/lang/ArrayIndexOutOfBoundsException" "java/lang/Throwable" "suppressedExceptions" "Ljava/util/List;") ∈ lw_all := lw_g (lw_at lw_m8 50 rfl) rfl
theorem q1881 : (Jvm.Cond.superclass "java/lang/ArrayIndexOutOfBoundsException" "java/lang/IndexOutOfBoundsException") ∈ lw_all := lw_g (lw_at lw_m8 51 rfl) rfl
theorem q1882 : (Jvm.Cond.castable "java/lang/ArrayIndexOutOfBoundsException" "java/lang/ArrayIndexOutOfBoundsException") ∈ lw_tbl := lw_at lw_m8 52 rfl
theorem q1885 : (Jvm.Cond.selects "java/lang/ArrayIndexOutOfBoundsException" ({ cls := "java/lang/Throwable", name := "fillInStackTrace", desc := "(I)Ljava/lang/Throwable;" } : Jvm.MethodName) ({ cls := "java/lang/Throwable", name := "fillInStackTrace", desc := "(I)Ljava/lang/Throwable;" } : Jvm.MethodName)) ∈ lw_all := lw_g (lw_at lw_m8 55 rfl) rfl
theorem q2428 : (Jvm.Cond.instanceMethod ({ cls := "java/lang/ArrayIndexOutOfBoundsException", name := "<init>", desc := "(I)V" } : Jvm.MethodName)) ∈ lw_all := lw_g (lw_at lw_m10 118 rfl) rfl
theorem q2429 : (Jvm.Cond.code ({ cls := "java/lang/ArrayIndexOutOfBoundsException", name := "<init>", desc := "(I)V" } : Jvm.MethodName) prog_20_method_3_code (2 : Nat) (Option.none : Option Jvm.ClassFile.FieldType)) ∈ lw_all := lw_g (lw_at lw_m10 119 rfl) rfl
theorem q2430 : (Jvm.Cond.classLink "java/lang/ArrayIndexOutOfBoundsException" (10 : Nat) "java/lang/StringBuilder") ∈ lw_all := lw_g (lw_at lw_m10 120 rfl) rfl
theorem q2431 : (Jvm.Cond.methodLink "java/lang/ArrayIndexOutOfBoundsException" (12 : Nat) ({ cls := "java/lang/StringBuilder", name := "<init>", desc := "()V" } : Jvm.MethodName)) ∈ lw_all := lw_g (lw_at lw_m10 121 rfl) rfl
theorem q2432 : (Jvm.Cond.stringRef "java/lang/ArrayIndexOutOfBoundsException" (13 : Nat) "Array index out of range: ") ∈ lw_tbl := lw_at lw_m10 122 rfl
theorem q2433 : (Jvm.Cond.methodLink "java/lang/ArrayIndexOutOfBoundsException" (15 : Nat) ({ cls := "java/lang/StringBuilder", name := "append", desc := "(Ljava/lang/String;)Ljava/lang/StringBuilder;" } : Jvm.MethodName)) ∈ lw_all := lw_g (lw_at lw_m10 123 rfl) rfl
theorem q2434 : (Jvm.Cond.methodLink "java/lang/ArrayIndexOutOfBoundsException" (19 : Nat) ({ cls := "java/lang/StringBuilder", name := "append", desc := "(I)Ljava/lang/StringBuilder;" } : Jvm.MethodName)) ∈ lw_all := lw_g (lw_at lw_m10 124 rfl) rfl
theorem q2435 : (Jvm.Cond.methodLink "java/lang/ArrayIndexOutOfBoundsException" (22 : Nat) ({ cls := "java/lang/StringBuilder", name := "toString", desc := "()Ljava/lang/String;" } : Jvm.MethodName)) ∈ lw_all := lw_g (lw_at lw_m10 125 rfl) rfl
theorem q3167 : (Jvm.Cond.castable "java/lang/ArrayIndexOutOfBoundsException" "java/lang/IndexOutOfBoundsException") ∈ lw_tbl := lw_at lw_m13 137 rfl
theorem q3194 : (Jvm.Cond.castable "java/lang/ArrayIndexOutOfBoundsException" "java/lang/Object") ∈ lw_tbl := lw_at lw_m13 164 rfl
theorem q196 : (Jvm.Cond.initialized "java/util/Objects") ∈ lw_all := lw_g (lw_at lw_m1 46 rfl) rfl
theorem q1451 : (Jvm.Cond.static ({ cls := "java/util/Objects", name := "checkIndex", desc := "(II)I" } : Jvm.MethodName)) ∈ lw_all := lw_g (lw_at lw_m6 101 rfl) rfl
theorem q1452 : (Jvm.Cond.code ({ cls := "java/util/Objects", name := "checkIndex", desc := "(II)I" } : Jvm.MethodName) prog_60_method_17_code (2 : Nat) (Option.some Jvm.ClassFile.FieldType.int)) ∈ lw_all := lw_g (lw_at lw_m6 102 rfl) rfl
theorem q1453 : (Jvm.Cond.methodLink "java/util/Objects" (105 : Nat) ({ cls := "jdk/internal/util/Preconditions", name := "checkIndex", desc := "(IILjava/util/function/BiFunction;)I" } : Jvm.MethodName)) ∈ lw_all := lw_g (lw_at lw_m6 103 rfl) rfl
theorem q157 : (Jvm.Cond.initialized "java/util/HashMap") ∈ lw_all := lw_g (lw_at lw_m1 7 rfl) rfl
theorem q239 : (Jvm.Cond.instantiable "java/util/HashMap" (8 : Nat)) ∈ lw_all := lw_g (lw_at lw_m1 89 rfl) rfl
theorem q241 : (Jvm.Cond.instanceMethod ({ cls := "java/util/HashMap", name := "<init>", desc := "()V" } : Jvm.MethodName)) ∈ lw_all := lw_g (lw_at lw_m1 91 rfl) rfl
theorem q242 : (Jvm.Cond.code ({ cls := "java/util/HashMap", name := "<init>", desc := "()V" } : Jvm.MethodName) prog_53_method_7_code (1 : Nat) (Option.none : Option Jvm.ClassFile.FieldType)) ∈ lw_all := lw_g (lw_at lw_m1 92 rfl) rfl
theorem q243 : (Jvm.Cond.methodLink "java/util/HashMap" (43 : Nat) ({ cls := "java/util/AbstractMap", name := "<init>", desc := "()V" } : Jvm.MethodName)) ∈ lw_all := lw_g (lw_at lw_m1 93 rfl) rfl
theorem q247 : (Jvm.Cond.constantFloat "java/util/HashMap" (92 : Nat) (1061158912 : UInt32)) ∈ lw_all := lw_g (lw_at lw_m1 97 rfl) rfl
theorem q248 : (Jvm.Cond.fieldLink "java/util/HashMap" (105 : Nat) "java/util/HashMap" "table" "[Ljava/util/HashMap$Node;") ∈ lw_all := lw_g (lw_at lw_m1 98 rfl) rfl
theorem q249 : (Jvm.Cond.fieldLink "java/util/HashMap" (156 : Nat) "java/util/HashMap" "size" "I") ∈ lw_all := lw_g (lw_at lw_m1 99 rfl) rfl
theorem q250 : (Jvm.Cond.fieldLink "java/util/HashMap" (202 : Nat) "java/util/HashMap" "modCount" "I") ∈ lw_all := lw_g (lw_at lw_m1 100 rfl) rfl
theorem q251 : (Jvm.Cond.fieldLink "java/util/HashMap" (88 : Nat) "java/util/HashMap" "threshold" "I") ∈ lw_all := lw_g (lw_at lw_m1 101 rfl) rfl
theorem q252 : (Jvm.Cond.fieldLink "java/util/HashMap" (81 : Nat) "java/util/HashMap" "loadFactor" "F") ∈ lw_all := lw_g (lw_at lw_m1 102 rfl) rfl
theorem q253 : (Jvm.Cond.lays "java/util/HashMap" "java/util/HashMap" "table" "[Ljava/util/HashMap$Node;") ∈ lw_all := lw_g (lw_at lw_m1 103 rfl) rfl
theorem q254 : (Jvm.Cond.soleField "java/util/HashMap" "table") ∈ lw_all := lw_g (lw_at lw_m1 104 rfl) rfl
theorem q255 : (Jvm.Cond.lays "java/util/HashMap" "java/util/HashMap" "entrySet" "Ljava/util/Set;") ∈ lw_all := lw_g (lw_at lw_m1 105 rfl) rfl
theorem q256 : (Jvm.Cond.soleField "java/util/HashMap" "entrySet") ∈ lw_all := lw_g (lw_at lw_m1 106 rfl) rfl
theorem q257 : (Jvm.Cond.lays "java/util/HashMap" "java/util/HashMap" "size" "I") ∈ lw_all := lw_g (lw_at lw_m1 107 rfl) rfl
theorem q258 : (Jvm.Cond.soleField "java/util/HashMap" "size") ∈ lw_all := lw_g (lw_at lw_m1 108 rfl) rfl
theorem q259 : (Jvm.Cond.lays "java/util/HashMap" "java/util/HashMap" "modCount" "I") ∈ lw_all := lw_g (lw_at lw_m1 109 rfl) rfl
theorem q260 : (Jvm.Cond.soleField "java/util/HashMap" "modCount") ∈ lw_all := lw_g (lw_at lw_m1 110 rfl) rfl
theorem q261 : (Jvm.Cond.lays "java/util/HashMap" "java/util/HashMap" "threshold" "I") ∈ lw_all := lw_g (lw_at lw_m1 111 rfl) rfl
theorem q262 : (Jvm.Cond.soleField "java/util/HashMap" "threshold") ∈ lw_all := lw_g (lw_at lw_m1 112 rfl) rfl
theorem q263 : (Jvm.Cond.laysFinal "java/util/HashMap" "java/util/HashMap" "loadFactor" "F") ∈ lw_all := lw_g (lw_at lw_m1 113 rfl) rfl
theorem q264 : (Jvm.Cond.soleField "java/util/HashMap" "loadFactor") ∈ lw_all := lw_g (lw_at lw_m1 114 rfl) rfl
theorem q265 : (Jvm.Cond.lays "java/util/HashMap" "java/util/AbstractMap" "keySet" "Ljava/util/Set;") ∈ lw_all := lw_g (lw_at lw_m1 115 rfl) rfl
theorem q267 : (Jvm.Cond.lays "java/util/HashMap" "java/util/AbstractMap" "values" "Ljava/util/Collection;") ∈ lw_all := lw_g (lw_at lw_m1 117 rfl) rfl
theorem q269 : (Jvm.Cond.superclass "java/util/HashMap" "java/util/AbstractMap") ∈ lw_all := lw_g (lw_at lw_m1 119 rfl) rfl
theorem q751 : (Jvm.Cond.selects "java/util/HashMap" ({ cls := "java/lang/Object", name := "getClass", desc := "()Ljava/lang/Class;" } : Jvm.MethodName) ({ cls := "java/lang/Object", name := "getClass", desc := "()Ljava/lang/Class;" } : Jvm.MethodName)) ∈ lw_all := lw_g (lw_at lw_m3 121 rfl) rfl
theorem q818 : (Jvm.Cond.instanceMethod ({ cls := "java/util/HashMap", name := "containsKey", desc := "(Ljava/lang/Object;)Z" } : Jvm.MethodName)) ∈ lw_all := lw_g (lw_at lw_m3 188 rfl) rfl
theorem q819 : (Jvm.Cond.selects "java/util/HashMap" ({ cls := "java/util/HashMap", name := "containsKey", desc := "(Ljava/lang/Object;)Z" } : Jvm.MethodName) ({ cls := "java/util/HashMap", name := "containsKey", desc := "(Ljava/lang/Object;)Z" } : Jvm.MethodName)) ∈ lw_all := lw_g (lw_at lw_m3 189 rfl) rfl
theorem q820 : (Jvm.Cond.code ({ cls := "java/util/HashMap", name := "containsKey", desc := "(Ljava/lang/Object;)Z" } : Jvm.MethodName) prog_53_method_14_code (2 : Nat) (Option.some Jvm.ClassFile.FieldType.boolean)) ∈ lw_all := lw_g (lw_at lw_m3 190 rfl) rfl
theorem q821 : (Jvm.Cond.methodLink "java/util/HashMap" (158 : Nat) ({ cls := "java/util/HashMap", name := "getNode", desc := "(Ljava/lang/Object;)Ljava/util/HashMap$Node;" } : Jvm.MethodName)) ∈ lw_all := lw_g (lw_at lw_m3 191 rfl) rfl
theorem q822 : (Jvm.Cond.instanceMethod ({ cls := "java/util/HashMap", name := "getNode", desc := "(Ljava/lang/Object;)Ljava/util/HashMap$Node;" } : Jvm.MethodName)) ∈ lw_all := lw_g (lw_at lw_m3 192 rfl) rfl
theorem q823 : (Jvm.Cond.selects "java/util/HashMap" ({ cls := "java/util/HashMap", name := "getNode", desc := "(Ljava/lang/Object;)Ljava/util/HashMap$Node;" } : Jvm.MethodName) ({ cls := "java/util/HashMap", name := "getNode", desc := "(Ljava/lang/Object;)Ljava/util/HashMap$Node;" } : Jvm.MethodName)) ∈ lw_all := lw_g (lw_at lw_m3 193 rfl) rfl
theorem q824 : (Jvm.Cond.code ({ cls := "java/util/HashMap", name := "getNode", desc := "(Ljava/lang/Object;)Ljava/util/HashMap$Node;" } : Jvm.MethodName) prog_53_method_13_code (8 : Nat) (Option.some (Jvm.ClassFile.FieldType.object "java/util/HashMap$Node"))) ∈ lw_all := lw_g (lw_at lw_m3 194 rfl) rfl
theorem q825 : (Jvm.Cond.methodLink "java/util/HashMap" (149 : Nat) ({ cls := "java/util/HashMap", name := "hash", desc := "(Ljava/lang/Object;)I" } : Jvm.MethodName)) ∈ lw_all := lw_g (lw_at lw_m3 195 rfl) rfl
theorem q826 : (Jvm.Cond.static ({ cls := "java/util/HashMap", name := "hash", desc := "(Ljava/lang/Object;)I" } : Jvm.MethodName)) ∈ lw_all := lw_g (lw_at lw_m3 196 rfl) rfl
theorem q827 : (Jvm.Cond.code ({ cls := "java/util/HashMap", name := "hash", desc := "(Ljava/lang/Object;)I" } : Jvm.MethodName) prog_53_method_1_code (2 : Nat) (Option.some Jvm.ClassFile.FieldType.int)) ∈ lw_all := lw_g (lw_at lw_m3 197 rfl) rfl
theorem q829 : (Jvm.Cond.methodLink "java/util/HashMap" (1 : Nat) ({ cls := "java/lang/Object", name := "hashCode", desc := "()I" } : Jvm.MethodName)) ∈ lw_all := lw_g (lw_at lw_m3 199 rfl) rfl
theorem q923 : (Jvm.Cond.methodLink "java/util/HashMap" (173 : Nat) ({ cls := "java/lang/Object", name := "equals", desc := "(Ljava/lang/Object;)Z" } : Jvm.MethodName)) ∈ lw_all := lw_g (lw_at lw_m4 53 rfl) rfl
theorem q961 : (Jvm.Cond.classLink "java/util/HashMap" (180 : Nat) "java/util/HashMap$TreeNode") ∈ lw_all := lw_g (lw_at lw_m4 91 rfl) rfl
theorem q962 : (Jvm.Cond.methodLink "java/util/HashMap" (182 : Nat) ({ cls := "java/util/HashMap$TreeNode", name := "getTreeNode", desc := "(ILjava/lang/Object;)Ljava/util/HashMap$TreeNode;" } : Jvm.MethodName)) ∈ lw_all := lw_g (lw_at lw_m4 92 rfl) rfl
theorem q976 : (Jvm.Cond.static ({ cls := "java/util/HashMap", name := "comparableClassFor", desc := "(Ljava/lang/Object;)Ljava/lang/Class;" } : Jvm.MethodName)) ∈ lw_all := lw_g (lw_at lw_m4 106 rfl) rfl
theorem q977 : (Jvm.Cond.code ({ cls := "java/util/HashMap", name := "comparableClassFor", desc := "(Ljava/lang/Object;)Ljava/lang/Class;" } : Jvm.MethodName) prog_53_method_2_code (9 : Nat) (Option.some (Jvm.ClassFile.FieldType.object "java/lang/Class"))) ∈ lw_all := lw_g (lw_at lw_m4 107 rfl) rfl
theorem q978 : (Jvm.Cond.classLink "java/util/HashMap" (7 : Nat) "java/lang/Comparable") ∈ lw_all := lw_g (lw_at lw_m4 108 rfl) rfl
theorem q979 : (Jvm.Cond.methodLink "java/util/HashMap" (9 : Nat) ({ cls := "java/lang/Object", name := "getClass", desc := "()Ljava/lang/Class;" } : Jvm.MethodName)) ∈ lw_all := lw_g (lw_at lw_m4 109 rfl) rfl
theorem q980 : (Jvm.Cond.classLink "java/util/HashMap" (13 : Nat) "java/lang/String") ∈ lw_all := lw_g (lw_at lw_m4 110 rfl) rfl
theorem q982 : (Jvm.Cond.static ({ cls := "java/util/HashMap", name := "compareComparables", desc := "(Ljava/lang/Class;Ljava/lang/Object;Ljava/lang/Object;)I" } : Jvm.MethodName)) ∈ lw_all := lw_g (lw_at lw_m4 112 rfl) rfl
theorem q983 : (Jvm.Cond.code ({ cls := "java/util/HashMap", name := "compareComparables", desc := "(Ljava/lang/Class;Ljava/lang/Object;Ljava/lang/Object;)I" } : Jvm.MethodName) prog_53_method_3_code (3 : Nat) (Option.some Jvm.ClassFile.FieldType.int)) ∈ lw_all := lw_g (lw_at lw_m4 113 rfl) rfl
theorem q984 : (Jvm.Cond.interfaceEntry "java/util/HashMap" (30 : Nat)) ∈ lw_tbl := lw_at lw_m4 114 rfl
theorem q985 : (Jvm.Cond.methodLink "java/util/HashMap" (30 : Nat) ({ cls := "java/lang/Comparable", name := "compareTo", desc := "(Ljava/lang/Object;)I" } : Jvm.MethodName)) ∈ lw_all := lw_g (lw_at lw_m4 115 rfl) rfl
theorem q1185 : (Jvm.Cond.instanceMethod ({ cls := "java/util/HashMap", name := "put", desc := "(Ljava/lang/Object;Ljava/lang/Object;)Ljava/lang/Object;" } : Jvm.MethodName)) ∈ lw_all := lw_g (lw_at lw_m5 75 rfl) rfl
theorem q1186 : (Jvm.Cond.selects "java/util/HashMap" ({ cls := "java/util/HashMap", name := "put", desc := "(Ljava/lang/Object;Ljava/lang/Object;)Ljava/lang/Object;" } : Jvm.MethodName) ({ cls := "java/util/HashMap", name := "put", desc := "(Ljava/lang/Object;Ljava/lang/Object;)Ljava/lang/Object;" } : Jvm.MethodName)) ∈ lw_all := lw_g (lw_at lw_m5 76 rfl) rfl
theorem q1187 : (Jvm.Cond.code ({ cls := "java/util/HashMap", name := "put", desc := "(Ljava/lang/Object;Ljava/lang/Object;)Ljava/lang/Object;" } : Jvm.MethodName) prog_53_method_15_code (3 : Nat) (Option.some (Jvm.ClassFile.FieldType.object "java/lang/Object"))) ∈ lw_all := lw_g (lw_at lw_m5 77 rfl) rfl
theorem q1188 : (Jvm.Cond.methodLink "java/util/HashMap" (152 : Nat) ({ cls := "java/util/HashMap", name := "putVal", desc := "(ILjava/lang/Object;Ljava/lang/Object;ZZ)Ljava/lang/Object;" } : Jvm.MethodName)) ∈ lw_all := lw_g (lw_at lw_m5 78 rfl) rfl
theorem q1189 : (Jvm.Cond.instanceMethod ({ cls := "java/util/HashMap", name := "putVal", desc := "(ILjava/lang/Object;Ljava/lang/Object;ZZ)Ljava/lang/Object;" } : Jvm.MethodName)) ∈ lw_all := lw_g (lw_at lw_m5 79 rfl) rfl
theorem q1190 : (Jvm.Cond.selects "java/util/HashMap" ({ cls := "java/util/HashMap", name := "putVal", desc := "(ILjava/lang/Object;Ljava/lang/Object;ZZ)Ljava/lang/Object;" } : Jvm.MethodName) ({ cls := "java/util/HashMap", name := "putVal", desc := "(ILjava/lang/Object;Ljava/lang/Object;ZZ)Ljava/lang/Object;" } : Jvm.MethodName)) ∈ lw_all := lw_g (lw_at lw_m5 80 rfl) rfl
theorem q1191 : (Jvm.Cond.code ({ cls := "java/util/HashMap", name := "putVal", desc := "(ILjava/lang/Object;Ljava/lang/Object;ZZ)Ljava/lang/Object;" } : Jvm.MethodName) prog_53_method_16_code (13 : Nat) (Option.some (Jvm.ClassFile.FieldType.object "java/lang/Object"))) ∈ lw_all := lw_g (lw_at lw_m5 81 rfl) rfl
theorem q1192 : (Jvm.Cond.methodLink "java/util/HashMap" (117 : Nat) ({ cls := "java/util/HashMap", name := "resize", desc := "()[Ljava/util/HashMap$Node;" } : Jvm.MethodName)) ∈ lw_all := lw_g (lw_at lw_m5 82 rfl) rfl
theorem q1193 : (Jvm.Cond.instanceMethod ({ cls := "java/util/HashMap", name := "resize", desc := "()[Ljava/util/HashMap$Node;" } : Jvm.MethodName)) ∈ lw_all := lw_g (lw_at lw_m5 83 rfl) rfl
theorem q1194 : (Jvm.Cond.selects "java/util/HashMap" ({ cls := "java/util/HashMap", name := "resize", desc := "()[Ljava/util/HashMap$Node;" } : Jvm.MethodName) ({ cls := "java/util/HashMap", name := "resize", desc := "()[Ljava/util/HashMap$Node;" } : Jvm.MethodName)) ∈ lw_all := lw_g (lw_at lw_m5 84 rfl) rfl
theorem q1195 : (Jvm.Cond.code ({ cls := "java/util/HashMap", name := "resize", desc := "()[Ljava/util/HashMap$Node;" } : Jvm.MethodName) prog_53_method_17_code (14 : Nat) (Option.some (Jvm.ClassFile.FieldType.array (Jvm.ClassFile.FieldType.object "java/util/HashMap$Node")))) ∈ lw_all := lw_g (lw_at lw_m5 85 rfl) rfl
theorem q1196 : (Jvm.Cond.constant "java/util/HashMap" (42 : Nat) (1073741824 : Int32)) ∈ lw_all := lw_g (lw_at lw_m5 86 rfl) rfl
theorem q1197 : (Jvm.Cond.constant "java/util/HashMap" (209 : Nat) (2147483647 : Int32)) ∈ lw_all := lw_g (lw_at lw_m5 87 rfl) rfl
theorem q1198 : (Jvm.Cond.constantFloat "java/util/HashMap" (210 : Nat) (1317011456 : UInt32)) ∈ lw_all := lw_g (lw_at lw_m5 88 rfl) rfl
theorem q1199 : (Jvm.Cond.classLink "java/util/HashMap" (163 : Nat) "java/util/HashMap$Node") ∈ lw_all := lw_g (lw_at lw_m5 89 rfl) rfl
theorem q1201 : (Jvm.Cond.methodLink "java/util/HashMap" (211 : Nat) ({ cls := "java/util/HashMap$TreeNode", name := "split", desc := "(Ljava/util/HashMap;[Ljava/util/HashMap$Node;II)V" } : Jvm.MethodName)) ∈ lw_all := lw_g (lw_at lw_m5 91 rfl) rfl
theorem q1211 : (Jvm.Cond.instanceMethod ({ cls := "java/util/HashMap", name := "replacementNode", desc := "(Ljava/util/HashMap$Node;Ljava/util/HashMap$Node;)Ljava/util/HashMap$Node;" } : Jvm.MethodName)) ∈ lw_all := lw_g (lw_at lw_m5 101 rfl) rfl
theorem q1212 : (Jvm.Cond.selects "java/util/HashMap" ({ cls := "java/util/HashMap", name := "replacementNode", desc := "(Ljava/util/HashMap$Node;Ljava/util/HashMap$Node;)Ljava/util/HashMap$Node;" } : Jvm.MethodName) ({ cls := "java/util/HashMap", name := "replacementNode", desc := "(Ljava/util/HashMap$Node;Ljava/util/HashMap$Node;)Ljava/util/HashMap$Node;" } : Jvm.MethodName)) ∈ lw_all := lw_g (lw_at lw_m5 102 rfl) rfl
theorem q1213 : (Jvm.Cond.code ({ cls := "java/util/HashMap", name := "replacementNode", desc := "(Ljava/util/HashMap$Node;Ljava/util/HashMap$Node;)Ljava/util/HashMap$Node;" } : Jvm.MethodName) prog_53_method_47_code (3 : Nat) (Option.some (Jvm.ClassFile.FieldType.object "java/util/HashMap$Node"))) ∈ lw_all := lw_g (lw_at lw_m5 103 rfl) rfl
theorem q1215 : (Jvm.Cond.methodLink "java/util/HashMap" (375 : Nat) ({ cls := "java/util/HashMap$Node", name := "<init>", desc := "(ILjava/lang/Object;Ljava/lang/Object;Ljava/util/HashMap$Node;)V" } : Jvm.MethodName)) ∈ lw_all := lw_g (lw_at lw_m5 105 rfl) rfl
theorem q1222 : (Jvm.Cond.fieldLink "java/util/HashMap" (168 : Nat) "java/util/HashMap$Node" "hash" "I") ∈ lw_all := lw_g (lw_at lw_m5 112 rfl) rfl
theorem q1226 : (Jvm.Cond.fieldLink "java/util/HashMap" (170 : Nat) "java/util/HashMap$Node" "key" "Ljava/lang/Object;") ∈ lw_all := lw_g (lw_at lw_m5 116 rfl) rfl
theorem q1228 : (Jvm.Cond.fieldLink "java/util/HashMap" (162 : Nat) "java/util/HashMap$Node" "value" "Ljava/lang/Object;") ∈ lw_all := lw_g (lw_at lw_m5 118 rfl) rfl
theorem q1233 : (Jvm.Cond.fieldLink "java/util/HashMap" (177 : Nat) "java/util/HashMap$Node" "next" "Ljava/util/HashMap$Node;") ∈ lw_all := lw_g (lw_at lw_m5 123 rfl) rfl
theorem q1234 : (Jvm.Cond.fieldLink "java/util/HashMap" (223 : Nat) "java/util/HashMap$TreeNode" "next" "Ljava/util/HashMap$Node;") ∈ lw_all := lw_g (lw_at lw_m5 124 rfl) rfl
theorem q1262 : (Jvm.Cond.methodLink "java/util/HashMap" (186 : Nat) ({ cls := "java/util/HashMap", name := "newNode", desc := "(ILjava/lang/Object;Ljava/lang/Object;Ljava/util/HashMap$Node;)Ljava/util/HashMap$Node;" } : Jvm.MethodName)) ∈ lw_all := lw_g (lw_at lw_m5 152 rfl) rfl
theorem q1263 : (Jvm.Cond.instanceMethod ({ cls := "java/util/HashMap", name := "newNode", desc := "(ILjava/lang/Object;Ljava/lang/Object;Ljava/util/HashMap$Node;)Ljava/util/HashMap$Node;" } : Jvm.MethodName)) ∈ lw_all := lw_g (lw_at lw_m5 153 rfl) rfl
theorem q1264 : (Jvm.Cond.selects "java/util/HashMap" ({ cls := "java/util/HashMap", name := "newNode", desc := "(ILjava/lang/Object;Ljava/lang/Object;Ljava/util/HashMap$Node;)Ljava/util/HashMap$Node;" } : Jvm.MethodName) ({ cls := "java/util/HashMap", name := "newNode", desc := "(ILjava/lang/Object;Ljava/lang/Object;Ljava/util/HashMap$Node;)Ljava/util/HashMap$Node;" } : Jvm.MethodName)) ∈ lw_all := lw_g (lw_at lw_m5 154 rfl) rfl
theorem q1265 : (Jvm.Cond.code ({ cls := "java/util/HashMap", name := "newNode", desc := "(ILjava/lang/Object;Ljava/lang/Object;Ljava/util/HashMap$Node;)Ljava/util/HashMap$Node;" } : Jvm.MethodName) prog_53_method_46_code (5 : Nat) (Option.some (Jvm.ClassFile.FieldType.object "java/util/HashMap$Node"))) ∈ lw_all := lw_g (lw_at lw_m5 155 rfl) rfl
theorem q1266 : (Jvm.Cond.methodLink "java/util/HashMap" (190 : Nat) ({ cls := "java/util/HashMap$TreeNode", name := "putTreeVal", desc := "(Ljava/util/HashMap;[Ljava/util/HashMap$Node;ILjava/lang/Object;Ljava/lang/Object;)Ljava/util/HashMap$TreeNode;" } : Jvm.MethodName)) ∈ lw_all := lw_g (lw_at lw_m5 156 rfl) rfl
theorem q1271 : (Jvm.Cond.instanceMethod ({ cls := "java/util/HashMap", name := "newTreeNode", desc := "(ILjava/lang/Object;Ljava/lang/Object;Ljava/util/HashMap$Node;)Ljava/util/HashMap$TreeNode;" } : Jvm.MethodName)) ∈ lw_all := lw_g (lw_at lw_m5 161 rfl) rfl
theorem q1272 : (Jvm.Cond.selects "java/util/HashMap" ({ cls := "java/util/HashMap", name := "newTreeNode", desc := "(ILjava/lang/Object;Ljava/lang/Object;Ljava/util/HashMap$Node;)Ljava/util/HashMap$TreeNode;" } : Jvm.MethodName) ({ cls := "java/util/HashMap", name := "newTreeNode", desc := "(ILjava/lang/Object;Ljava/lang/Object;Ljava/util/HashMap$Node;)Ljava/util/HashMap$TreeNode;" } : Jvm.MethodName)) ∈ lw_all := lw_g (lw_at lw_m5 162 rfl) rfl
theorem q1273 : (Jvm.Cond.code ({ cls := "java/util/HashMap", name := "newTreeNode", desc := "(ILjava/lang/Object;Ljava/lang/Object;Ljava/util/HashMap$Node;)Ljava/util/HashMap$TreeNode;" } : Jvm.MethodName) prog_53_method_48_code (5 : Nat) (Option.some (Jvm.ClassFile.FieldType.object "java/util/HashMap$TreeNode"))) ∈ lw_all := lw_g (lw_at lw_m5 163 rfl) rfl
theorem q1275 : (Jvm.Cond.methodLink "java/util/HashMap" (378 : Nat) ({ cls := "java/util/HashMap$TreeNode", name := "<init>", desc := "(ILjava/lang/Object;Ljava/lang/Object;Ljava/util/HashMap$Node;)V" } : Jvm.MethodName)) ∈ lw_all := lw_g (lw_at lw_m5 165 rfl) rfl
theorem q1286 : (Jvm.Cond.fieldLink "java/util/HashMap" (219 : Nat) "java/util/HashMap$TreeNode" "prev" "Ljava/util/HashMap$TreeNode;") ∈ lw_all := lw_g (lw_at lw_m5 176 rfl) rfl
theorem q1307 : (Jvm.Cond.methodLink "java/util/HashMap" (194 : Nat) ({ cls := "java/util/HashMap", name := "treeifyBin", desc := "([Ljava/util/HashMap$Node;I)V" } : Jvm.MethodName)) ∈ lw_all := lw_g (lw_at lw_m5 197 rfl) rfl
theorem q1308 : (Jvm.Cond.instanceMethod ({ cls := "java/util/HashMap", name := "treeifyBin", desc := "([Ljava/util/HashMap$Node;I)V" } : Jvm.MethodName)) ∈ lw_all := lw_g (lw_at lw_m5 198 rfl) rfl
theorem q1309 : (Jvm.Cond.selects "java/util/HashMap" ({ cls := "java/util/HashMap", name := "treeifyBin", desc := "([Ljava/util/HashMap$Node;I)V" } : Jvm.MethodName) ({ cls := "java/util/HashMap", name := "treeifyBin", desc := "([Ljava/util/HashMap$Node;I)V" } : Jvm.MethodName)) ∈ lw_all := lw_g (lw_at lw_m5 199 rfl) rfl
theorem q1310 : (Jvm.Cond.code ({ cls := "java/util/HashMap", name := "treeifyBin", desc := "([Ljava/util/HashMap$Node;I)V" } : Jvm.MethodName) prog_53_method_18_code (9 : Nat) (Option.none : Option Jvm.ClassFile.FieldType)) ∈ lw_all := lw_g (lw_at lw_m5 200 rfl) rfl
theorem q1311 : (Jvm.Cond.methodLink "java/util/HashMap" (215 : Nat) ({ cls := "java/util/HashMap", name := "replacementTreeNode", desc := "(Ljava/util/HashMap$Node;Ljava/util/HashMap$Node;)Ljava/util/HashMap$TreeNode;" } : Jvm.MethodName)) ∈ lw_all := lw_g (lw_at lw_m5 201 rfl) rfl
theorem q1312 : (Jvm.Cond.instanceMethod ({ cls := "java/util/HashMap", name := "replacementTreeNode", desc := "(Ljava/util/HashMap$Node;Ljava/util/HashMap$Node;)Ljava/util/HashMap$TreeNode;" } : Jvm.MethodName)) ∈ lw_all := lw_g (lw_at lw_m5 202 rfl) rfl
theorem q1313 : (Jvm.Cond.selects "java/util/HashMap" ({ cls := "java/util/HashMap", name := "replacementTreeNode", desc := "(Ljava/util/HashMap$Node;Ljava/util/HashMap$Node;)Ljava/util/HashMap$TreeNode;" } : Jvm.MethodName) ({ cls := "java/util/HashMap", name := "replacementTreeNode", desc := "(Ljava/util/HashMap$Node;Ljava/util/HashMap$Node;)Ljava/util/HashMap$TreeNode;" } : Jvm.MethodName)) ∈ lw_all := lw_g (lw_at lw_m5 203 rfl) rfl
theorem q1314 : (Jvm.Cond.code ({ cls := "java/util/HashMap", name := "replacementTreeNode", desc := "(Ljava/util/HashMap$Node;Ljava/util/HashMap$Node;)Ljava/util/HashMap$TreeNode;" } : Jvm.MethodName) prog_53_method_49_code (3 : Nat) (Option.some (Jvm.ClassFile.FieldType.object "java/util/HashMap$TreeNode"))) ∈ lw_all := lw_g (lw_at lw_m5 204 rfl) rfl
theorem q1315 : (Jvm.Cond.methodLink "java/util/HashMap" (224 : Nat) ({ cls := "java/util/HashMap$TreeNode", name := "treeify", desc := "([Ljava/util/HashMap$Node;)V" } : Jvm.MethodName)) ∈ lw_all := lw_g (lw_at lw_m5 205 rfl) rfl
theorem q1316 : (Jvm.Cond.methodLink "java/util/HashMap" (198 : Nat) ({ cls := "java/util/HashMap", name := "afterNodeAccess", desc := "(Ljava/util/HashMap$Node;)V" } : Jvm.MethodName)) ∈ lw_all := lw_g (lw_at lw_m5 206 rfl) rfl
theorem q1317 : (Jvm.Cond.instanceMethod ({ cls := "java/util/HashMap", name := "afterNodeAccess", desc := "(Ljava/util/HashMap$Node;)V" } : Jvm.MethodName)) ∈ lw_all := lw_g (lw_at lw_m5 207 rfl) rfl
theorem q1318 : (Jvm.Cond.selects "java/util/HashMap" ({ cls := "java/util/HashMap", name := "afterNodeAccess", desc := "(Ljava/util/HashMap$Node;)V" } : Jvm.MethodName) ({ cls := "java/util/HashMap", name := "afterNodeAccess", desc := "(Ljava/util/HashMap$Node;)V" } : Jvm.MethodName)) ∈ lw_all := lw_g (lw_at lw_m5 208 rfl) rfl
theorem q1319 : (Jvm.Cond.code ({ cls := "java/util/HashMap", name := "afterNodeAccess", desc := "(Ljava/util/HashMap$Node;)V" } : Jvm.MethodName) prog_53_method_51_code (2 : Nat) (Option.none : Option Jvm.ClassFile.FieldType)) ∈ lw_all := lw_g (lw_at lw_m5 209 rfl) rfl
theorem q1320 : (Jvm.Cond.methodLink "java/util/HashMap" (205 : Nat) ({ cls := "java/util/HashMap", name := "afterNodeInsertion", desc := "(Z)V" } : Jvm.MethodName)) ∈ lw_all := lw_g (lw_at lw_m5 210 rfl) rfl
theorem q1321 : (Jvm.Cond.instanceMethod ({ cls := "java/util/HashMap", name := "afterNodeInsertion", desc := "(Z)V" } : Jvm.MethodName)) ∈ lw_all := lw_g (lw_at lw_m5 211 rfl) rfl
theorem q1322 : (Jvm.Cond.selects "java/util/HashMap" ({ cls := "java/util/HashMap", name := "afterNodeInsertion", desc := "(Z)V" } : Jvm.MethodName) ({ cls := "java/util/HashMap", name := "afterNodeInsertion", desc := "(Z)V" } : Jvm.MethodName)) ∈ lw_all := lw_g (lw_at lw_m5 212 rfl) rfl
theorem q1323 : (Jvm.Cond.code ({ cls := "java/util/HashMap", name := "afterNodeInsertion", desc := "(Z)V" } : Jvm.MethodName) prog_53_method_52_code (2 : Nat) (Option.none : Option Jvm.ClassFile.FieldType)) ∈ lw_all := lw_g (lw_at lw_m5 213 rfl) rfl
theorem q2453 : (Jvm.Cond.instanceMethod ({ cls := "java/util/HashMap", name := "get", desc := "(Ljava/lang/Object;)Ljava/lang/Object;" } : Jvm.MethodName)) ∈ lw_all := lw_g (lw_at lw_m10 143 rfl) rfl
theorem q2454 : (Jvm.Cond.selects "java/util/HashMap" ({ cls := "java/util/HashMap", name := "get", desc := "(Ljava/lang/Object;)Ljava/lang/Object;" } : Jvm.MethodName) ({ cls := "java/util/HashMap", name := "get", desc := "(Ljava/lang/Object;)Ljava/lang/Object;" } : Jvm.MethodName)) ∈ lw_all := lw_g (lw_at lw_m10 144 rfl) rfl
theorem q2455 : (Jvm.Cond.code ({ cls := "java/util/HashMap", name := "get", desc := "(Ljava/lang/Object;)Ljava/lang/Object;" } : Jvm.MethodName) prog_53_method_12_code (3 : Nat) (Option.some (Jvm.ClassFile.FieldType.object "java/lang/Object"))) ∈ lw_all := lw_g (lw_at lw_m10 145 rfl) rfl
theorem q3175 : (Jvm.Cond.castable "java/util/HashMap" "java/lang/Object") ∈ lw_tbl := lw_at lw_m13 145 rfl
theorem q199 : (Jvm.Cond.initialized "java/lang/StringIndexOutOfBoundsException") ∈ lw_all := lw_g (lw_at lw_m1 49 rfl) rfl
theorem q343 : (Jvm.Cond.selects "java/lang/StringIndexOutOfBoundsException" ({ cls := "java/lang/Throwable", name := "fillInStackTrace", desc := "()Ljava/lang/Throwable;" } : Jvm.MethodName) ({ cls := "java/lang/Throwable", name := "fillInStackTrace", desc := "()Ljava/lang/Throwable;" } : Jvm.MethodName)) ∈ lw_all := lw_g (lw_at lw_m1 193 rfl) rfl
theorem q747 : (Jvm.Cond.selects "java/lang/StringIndexOutOfBoundsException" ({ cls := "java/lang/Object", name := "getClass", desc := "()Ljava/lang/Class;" } : Jvm.MethodName) ({ cls := "java/lang/Object", name := "getClass", desc := "()Ljava/lang/Class;" } : Jvm.MethodName)) ∈ lw_all := lw_g (lw_at lw_m3 117 rfl) rfl
theorem q918 : (Jvm.Cond.selects "java/lang/StringIndexOutOfBoundsException" ({ cls := "java/lang/Object", name := "hashCode", desc := "()I" } : Jvm.MethodName) ({ cls := "java/lang/Object", name := "hashCode", desc := "()I" } : Jvm.MethodName)) ∈ lw_all := lw_g (lw_at lw_m4 48 rfl) rfl
theorem q957 : (Jvm.Cond.selects "java/lang/StringIndexOutOfBoundsException" ({ cls := "java/lang/Object", name := "equals", desc := "(Ljava/lang/Object;)Z" } : Jvm.MethodName) ({ cls := "java/lang/Object", name := "equals", desc := "(Ljava/lang/Object;)Z" } : Jvm.MethodName)) ∈ lw_all := lw_g (lw_at lw_m4 87 rfl) rfl
theorem q2396 : (Jvm.Cond.instantiable "java/lang/StringIndexOutOfBoundsException" (6 : Nat)) ∈ lw_all := lw_g (lw_at lw_m10 86 rfl) rfl
theorem q2398 : (Jvm.Cond.instanceMethod ({ cls := "java/lang/StringIndexOutOfBoundsException", name := "<init>", desc := "(I)V" } : Jvm.MethodName)) ∈ lw_all := lw_g (lw_at lw_m10 88 rfl) rfl
theorem q2399 : (Jvm.Cond.code ({ cls := "java/lang/StringIndexOutOfBoundsException", name := "<init>", desc := "(I)V" } : Jvm.MethodName) prog_37_method_3_code (2 : Nat) (Option.none : Option Jvm.ClassFile.FieldType)) ∈ lw_all := lw_g (lw_at lw_m10 89 rfl) rfl
theorem q2400 : (Jvm.Cond.classLink "java/lang/StringIndexOutOfBoundsException" (10 : Nat) "java/lang/StringBuilder") ∈ lw_all := lw_g (lw_at lw_m10 90 rfl) rfl
theorem q2401 : (Jvm.Cond.methodLink "java/lang/StringIndexOutOfBoundsException" (12 : Nat) ({ cls := "java/lang/StringBuilder", name := "<init>", desc := "()V" } : Jvm.MethodName)) ∈ lw_all := lw_g (lw_at lw_m10 91 rfl) rfl
theorem q2402 : (Jvm.Cond.stringRef "java/lang/StringIndexOutOfBoundsException" (13 : Nat) "String index out of range: ") ∈ lw_tbl := lw_at lw_m10 92 rfl
theorem q2403 : (Jvm.Cond.methodLink "java/lang/StringIndexOutOfBoundsException" (15 : Nat) ({ cls := "java/lang/StringBuilder", name := "append", desc := "(Ljava/lang/String;)Ljava/lang/StringBuilder;" } : Jvm.MethodName)) ∈ lw_all := lw_g (lw_at lw_m10 93 rfl) rfl
theorem q2404 : (Jvm.Cond.methodLink "java/lang/StringIndexOutOfBoundsException" (19 : Nat) ({ cls := "java/lang/StringBuilder", name := "append", desc := "(I)Ljava/lang/StringBuilder;" } : Jvm.MethodName)) ∈ lw_all := lw_g (lw_at lw_m10 94 rfl) rfl
theorem q2405 : (Jvm.Cond.methodLink "java/lang/StringIndexOutOfBoundsException" (22 : Nat) ({ cls := "java/lang/StringBuilder", name := "toString", desc := "()Ljava/lang/String;" } : Jvm.MethodName)) ∈ lw_all := lw_g (lw_at lw_m10 95 rfl) rfl
theorem q2406 : (Jvm.Cond.methodLink "java/lang/StringIndexOutOfBoundsException" (7 : Nat) ({ cls := "java/lang/IndexOutOfBoundsException", name := "<init>", desc := "(Ljava/lang/String;)V" } : Jvm.MethodName)) ∈ lw_all := lw_g (lw_at lw_m10 96 rfl) rfl
theorem q2407 : (Jvm.Cond.lays "java/lang/StringIndexOutOfBoundsException" "java/lang/Throwable" "backtrace" "Ljava/lang/Object;") ∈ lw_all := lw_g (lw_at lw_m10 97 rfl) rfl
theorem q2408 : (Jvm.Cond.lays "java/lang/StringIndexOutOfBoundsException" "java/lang/Throwable" "detailMessage" "Ljava/lang/String;") ∈ lw_all := lw_g (lw_at lw_m10 98 rfl) rfl
theorem q2409 : (Jvm.Cond.lays "java/lang/StringIndexOutOfBoundsException" "java/lang/Throwable" "cause" "Ljava/lang/Throwable;") ∈ lw_all := lw_g (lw_at lw_m10 99 rfl) rfl
theorem q2410 : (Jvm.Cond.lays "java/lang/StringIndexOutOfBoundsException" "java/lang/Throwable" "stackTrace" "[Ljava/lang/StackTraceElement;") ∈ lw_all := lw_g (lw_at lw_m10 100 rfl) rfl
theorem q2411 : (Jvm.Cond.lays "java/lang/StringIndexOutOfBoundsException" "java/lang/Throwable" "depth" "I") ∈ lw_all := lw_g (lw_at lw_m10 101 rfl) rfl
theorem q2412 : (Jvm.Cond.lays "java/lang/StringIndexOutOfBoundsException" "java/lang/Throwable" "suppressedExceptions" "Ljava/util/List;") ∈ lw_all := lw_g (lw_at lw_m10 102 rfl) rfl
theorem q2413 : (Jvm.Cond.superclass "java/lang/StringIndexOutOfBoundsException" "java/lang/IndexOutOfBoundsException") ∈ lw_all := lw_g (lw_at lw_m10 103 rfl) rfl
theorem q3168 : (Jvm.Cond.castable "java/lang/StringIndexOutOfBoundsException" "java/lang/IndexOutOfBoundsException") ∈ lw_tbl := lw_at lw_m13 138 rfl
theorem q3197 : (Jvm.Cond.castable "java/lang/StringIndexOutOfBoundsException" "java/lang/Object") ∈ lw_tbl := lw_at lw_m13 167 rfl
theorem q206 : (Jvm.Cond.instanceMethod ({ cls := "java/lang/Object", name := "<init>", desc := "()V" } : Jvm.MethodName)) ∈ lw_all := lw_g (lw_at lw_m1 56 rfl) rfl
theorem q207 : (Jvm.Cond.code ({ cls := "java/lang/Object", name := "<init>", desc := "()V" } : Jvm.MethodName) object_method_1_code (1 : Nat) (Option.none : Option Jvm.ClassFile.FieldType)) ∈ lw_all := lw_g (lw_at lw_m1 57 rfl) rfl
theorem q419 : (Jvm.Cond.native ({ cls := "java/lang/Object", name := "clone", desc := "()Ljava/lang/Object;" } : Jvm.MethodName)) ∈ lw_all := lw_g (lw_at lw_m2 29 rfl) rfl
theorem q420 : (Jvm.Cond.instanceMethod ({ cls := "java/lang/Object", name := "clone", desc := "()Ljava/lang/Object;" } : Jvm.MethodName)) ∈ lw_all := lw_g (lw_at lw_m2 30 rfl) rfl
theorem q725 : (Jvm.Cond.instanceMethod ({ cls := "java/lang/Object", name := "getClass", desc := "()Ljava/lang/Class;" } : Jvm.MethodName)) ∈ lw_all := lw_g (lw_at lw_m3 95 rfl) rfl
theorem q726 : (Jvm.Cond.sameMethod "java/lang/Object" "java/lang/Object" "getClass" "()Ljava/lang/Class;") ∈ lw_all := lw_g (lw_at lw_m3 96 rfl) rfl
theorem q755 : (Jvm.Cond.native ({ cls := "java/lang/Object", name := "getClass", desc := "()Ljava/lang/Class;" } : Jvm.MethodName)) ∈ lw_all := lw_g (lw_at lw_m3 125 rfl) rfl
theorem q828 : (Jvm.Cond.declares ({ cls := "java/lang/Object", name := "hashCode", desc := "()I" } : Jvm.MethodName)) ∈ lw_tbl := lw_at lw_m3 198 rfl
theorem q830 : (Jvm.Cond.instanceMethod ({ cls := "java/lang/Object", name := "hashCode", desc := "()I" } : Jvm.MethodName)) ∈ lw_all := lw_g (lw_at lw_m3 200 rfl) rfl
theorem q831 : (Jvm.Cond.sameMethod "java/lang/Object" "java/lang/Object" "hashCode" "()I") ∈ lw_all := lw_g (lw_at lw_m3 201 rfl) rfl
theorem q921 : (Jvm.Cond.native ({ cls := "java/lang/Object", name := "hashCode", desc := "()I" } : Jvm.MethodName)) ∈ lw_all := lw_g (lw_at lw_m4 51 rfl) rfl
theorem q922 : (Jvm.Cond.declares ({ cls := "java/lang/Object", name := "equals", desc := "(Ljava/lang/Object;)Z" } : Jvm.MethodName)) ∈ lw_tbl := lw_at lw_m4 52 rfl
theorem q924 : (Jvm.Cond.instanceMethod ({ cls := "java/lang/Object", name := "equals", desc := "(Ljava/lang/Object;)Z" } : Jvm.MethodName)) ∈ lw_all := lw_g (lw_at lw_m4 54 rfl) rfl
theorem q925 : (Jvm.Cond.sameMethod "java/lang/Object" "java/lang/Object" "equals" "(Ljava/lang/Object;)Z") ∈ lw_all := lw_g (lw_at lw_m4 55 rfl) rfl
theorem q960 : (Jvm.Cond.code ({ cls := "java/lang/Object", name := "equals", desc := "(Ljava/lang/Object;)Z" } : Jvm.MethodName) object_method_4_code (2 : Nat) (Option.some Jvm.ClassFile.FieldType.boolean)) ∈ lw_all := lw_g (lw_at lw_m4 90 rfl) rfl
theorem q3166 : (Jvm.Cond.initialized "java/lang/Object") ∈ lw_all := lw_g (lw_at lw_m13 136 rfl) rfl
theorem q3202 : (Jvm.Cond.declares ({ cls := "java/lang/Object", name := "getClass", desc := "()Ljava/lang/Class;" } : Jvm.MethodName)) ∈ lw_tbl := lw_at lw_m13 172 rfl
theorem q748 : (Jvm.Cond.selects "java/lang/System$2" ({ cls := "java/lang/Object", name := "getClass", desc := "()Ljava/lang/Class;" } : Jvm.MethodName) ({ cls := "java/lang/Object", name := "getClass", desc := "()Ljava/lang/Class;" } : Jvm.MethodName)) ∈ lw_all := lw_g (lw_at lw_m3 118 rfl) rfl
theorem q883 : (Jvm.Cond.castable "java/lang/System$2" "jdk/internal/access/JavaLangAccess") ∈ lw_tbl := lw_at lw_m4 13 rfl
theorem q884 : (Jvm.Cond.selects "java/lang/System$2" ({ cls := "jdk/internal/access/JavaLangAccess", name := "getUTF16Char", desc := "([BI)C" } : Jvm.MethodName) ({ cls := "java/lang/System$2", name := "getUTF16Char", desc := "([BI)C" } : Jvm.MethodName)) ∈ lw_all := lw_g (lw_at lw_m4 14 rfl) rfl
theorem q885 : (Jvm.Cond.unhidden "java/lang/System$2" "getUTF16Char" "([BI)C") ∈ lw_tbl := lw_at lw_m4 15 rfl
theorem q886 : (Jvm.Cond.instanceMethod ({ cls := "java/lang/System$2", name := "getUTF16Char", desc := "([BI)C" } : Jvm.MethodName)) ∈ lw_all := lw_g (lw_at lw_m4 16 rfl) rfl
theorem q887 : (Jvm.Cond.publicMethod ({ cls := "java/lang/System$2", name := "getUTF16Char", desc := "([BI)C" } : Jvm.MethodName)) ∈ lw_tbl := lw_at lw_m4 17 rfl
theorem q888 : (Jvm.Cond.code ({ cls := "java/lang/System$2", name := "getUTF16Char", desc := "([BI)C" } : Jvm.MethodName) prog_41_method_45_code (3 : Nat) (Option.some Jvm.ClassFile.FieldType.char)) ∈ lw_all := lw_g (lw_at lw_m4 18 rfl) rfl
theorem q889 : (Jvm.Cond.methodLink "java/lang/System$2" (185 : Nat) ({ cls := "java/lang/StringUTF16", name := "getChar", desc := "([BI)C" } : Jvm.MethodName)) ∈ lw_all := lw_g (lw_at lw_m4 19 rfl) rfl
theorem q919 : (Jvm.Cond.selects "java/lang/System$2" ({ cls := "java/lang/Object", name := "hashCode", desc := "()I" } : Jvm.MethodName) ({ cls := "java/lang/Object", name := "hashCode", desc := "()I" } : Jvm.MethodName)) ∈ lw_all := lw_g (lw_at lw_m4 49 rfl) rfl
theorem q958 : (Jvm.Cond.selects "java/lang/System$2" ({ cls := "java/lang/Object", name := "equals", desc := "(Ljava/lang/Object;)Z" } : Jvm.MethodName) ({ cls := "java/lang/Object", name := "equals", desc := "(Ljava/lang/Object;)Z" } : Jvm.MethodName)) ∈ lw_all := lw_g (lw_at lw_m4 88 rfl) rfl
theorem q3183 : (Jvm.Cond.castable "java/lang/System$2" "java/lang/Object") ∈ lw_tbl := lw_at lw_m13 153 rfl
theorem q158 : (Jvm.Cond.initialized "java/util/AbstractList") ∈ lw_all := lw_g (lw_at lw_m1 8 rfl) rfl
theorem q300 : (Jvm.Cond.instanceMethod ({ cls := "java/util/AbstractList", name := "<init>", desc := "()V" } : Jvm.MethodName)) ∈ lw_all := lw_g (lw_at lw_m1 150 rfl) rfl
theorem q301 : (Jvm.Cond.code ({ cls := "java/util/AbstractList", name := "<init>", desc := "()V" } : Jvm.MethodName) prog_46_method_1_code (1 : Nat) (Option.none : Option Jvm.ClassFile.FieldType)) ∈ lw_all := lw_g (lw_at lw_m1 151 rfl) rfl
theorem q302 : (Jvm.Cond.methodLink "java/util/AbstractList" (1 : Nat) ({ cls := "java/util/AbstractCollection", name := "<init>", desc := "()V" } : Jvm.MethodName)) ∈ lw_all := lw_g (lw_at lw_m1 152 rfl) rfl
theorem q626 : (Jvm.Cond.fieldLink "java/util/AbstractList" (7 : Nat) "java/util/AbstractList" "modCount" "I") ∈ lw_all := lw_g (lw_at lw_m2 236 rfl) rfl
theorem q634 : (Jvm.Cond.soleField "java/util/AbstractList" "modCount") ∈ lw_all := lw_g (lw_at lw_m3 4 rfl) rfl
theorem q159 : (Jvm.Cond.initialized "java/util/ArrayList") ∈ lw_all := lw_g (lw_at lw_m1 9 rfl) rfl
theorem q295 : (Jvm.Cond.instantiable "java/util/ArrayList" (3 : Nat)) ∈ lw_all := lw_g (lw_at lw_m1 145 rfl) rfl
theorem q297 : (Jvm.Cond.instanceMethod ({ cls := "java/util/ArrayList", name := "<init>", desc := "(I)V" } : Jvm.MethodName)) ∈ lw_all := lw_g (lw_at lw_m1 147 rfl) rfl
theorem q298 : (Jvm.Cond.code ({ cls := "java/util/ArrayList", name := "<init>", desc := "(I)V" } : Jvm.MethodName) prog_49_method_1_code (2 : Nat) (Option.none : Option Jvm.ClassFile.FieldType)) ∈ lw_all := lw_g (lw_at lw_m1 148 rfl) rfl
theorem q299 : (Jvm.Cond.methodLink "java/util/ArrayList" (1 : Nat) ({ cls := "java/util/AbstractList", name := "<init>", desc := "()V" } : Jvm.MethodName)) ∈ lw_all := lw_g (lw_at lw_m1 149 rfl) rfl
theorem q303 : (Jvm.Cond.classLink "java/util/ArrayList" (7 : Nat) "java/lang/Object") ∈ lw_all := lw_g (lw_at lw_m1 153 rfl) rfl
theorem q304 : (Jvm.Cond.fieldLink "java/util/ArrayList" (15 : Nat) "java/util/ArrayList" "EMPTY_ELEMENTDATA" "[Ljava/lang/Object;") ∈ lw_all := lw_g (lw_at lw_m1 154 rfl) rfl
theorem q305 : (Jvm.Cond.laysStatic "java/util/ArrayList" "EMPTY_ELEMENTDATA" "[Ljava/lang/Object;") ∈ lw_tbl := lw_at lw_m1 155 rfl
theorem q306 : (Jvm.Cond.classLink "java/util/ArrayList" (18 : Nat) "java/lang/IllegalArgumentException") ∈ lw_all := lw_g (lw_at lw_m1 156 rfl) rfl
theorem q350 : (Jvm.Cond.classLink "java/util/ArrayList" (20 : Nat) "java/lang/StringBuilder") ∈ lw_all := lw_g (lw_at lw_m1 200 rfl) rfl
theorem q352 : (Jvm.Cond.methodLink "java/util/ArrayList" (22 : Nat) ({ cls := "java/lang/StringBuilder", name := "<init>", desc := "()V" } : Jvm.MethodName)) ∈ lw_all := lw_g (lw_at lw_m1 202 rfl) rfl
theorem q383 : (Jvm.Cond.stringRef "java/util/ArrayList" (23 : Nat) "Illegal Capacity: ") ∈ lw_tbl := lw_at lw_m1 233 rfl
theorem q384 : (Jvm.Cond.methodLink "java/util/ArrayList" (25 : Nat) ({ cls := "java/lang/StringBuilder", name := "append", desc := "(Ljava/lang/String;)Ljava/lang/StringBuilder;" } : Jvm.MethodName)) ∈ lw_all := lw_g (lw_at lw_m1 234 rfl) rfl
theorem q504 : (Jvm.Cond.methodLink "java/util/ArrayList" (29 : Nat) ({ cls := "java/lang/StringBuilder", name := "append", desc := "(I)Ljava/lang/StringBuilder;" } : Jvm.MethodName)) ∈ lw_all := lw_g (lw_at lw_m2 114 rfl) rfl
theorem q529 : (Jvm.Cond.methodLink "java/util/ArrayList" (32 : Nat) ({ cls := "java/lang/StringBuilder", name := "toString", desc := "()Ljava/lang/String;" } : Jvm.MethodName)) ∈ lw_all := lw_g (lw_at lw_m2 139 rfl) rfl
theorem q623 : (Jvm.Cond.methodLink "java/util/ArrayList" (36 : Nat) ({ cls := "java/lang/IllegalArgumentException", name := "<init>", desc := "(Ljava/lang/String;)V" } : Jvm.MethodName)) ∈ lw_all := lw_g (lw_at lw_m2 233 rfl) rfl
theorem q624 : (Jvm.Cond.fieldLink "java/util/ArrayList" (9 : Nat) "java/util/ArrayList" "elementData" "[Ljava/lang/Object;") ∈ lw_all := lw_g (lw_at lw_m2 234 rfl) rfl
theorem q625 : (Jvm.Cond.fieldLink "java/util/ArrayList" (48 : Nat) "java/util/ArrayList" "size" "I") ∈ lw_all := lw_g (lw_at lw_m2 235 rfl) rfl
theorem q627 : (Jvm.Cond.fieldLink "java/util/ArrayList" (63 : Nat) "java/util/ArrayList" "modCount" "I") ∈ lw_all := lw_g (lw_at lw_m2 237 rfl) rfl
theorem q628 : (Jvm.Cond.sameField "java/util/ArrayList" "java/util/AbstractList" "modCount" "I") ∈ lw_all := lw_g (lw_at lw_m2 238 rfl) rfl
theorem q629 : (Jvm.Cond.lays "java/util/ArrayList" "java/util/ArrayList" "elementData" "[Ljava/lang/Object;") ∈ lw_all := lw_g (lw_at lw_m2 239 rfl) rfl
theorem q630 : (Jvm.Cond.soleField "java/util/ArrayList" "elementData") ∈ lw_all := lw_g (lw_at lw_m3 0 rfl) rfl
theorem q631 : (Jvm.Cond.lays "java/util/ArrayList" "java/util/ArrayList" "size" "I") ∈ lw_all := lw_g (lw_at lw_m3 1 rfl) rfl
theorem q632 : (Jvm.Cond.soleField "java/util/ArrayList" "size") ∈ lw_all := lw_g (lw_at lw_m3 2 rfl) rfl
theorem q633 : (Jvm.Cond.lays "java/util/ArrayList" "java/util/AbstractList" "modCount" "I") ∈ lw_all := lw_g (lw_at lw_m3 3 rfl) rfl
theorem q635 : (Jvm.Cond.superclass "java/util/ArrayList" "java/util/AbstractList") ∈ lw_all := lw_g (lw_at lw_m3 5 rfl) rfl
theorem q703 : (Jvm.Cond.instanceMethod ({ cls := "java/util/ArrayList", name := "add", desc := "(Ljava/lang/Object;)Z" } : Jvm.MethodName)) ∈ lw_all := lw_g (lw_at lw_m3 73 rfl) rfl
theorem q704 : (Jvm.Cond.selects "java/util/ArrayList" ({ cls := "java/util/ArrayList", name := "add", desc := "(Ljava/lang/Object;)Z" } : Jvm.MethodName) ({ cls := "java/util/ArrayList", name := "add", desc := "(Ljava/lang/Object;)Z" } : Jvm.MethodName)) ∈ lw_all := lw_g (lw_at lw_m3 74 rfl) rfl
theorem q705 : (Jvm.Cond.code ({ cls := "java/util/ArrayList", name := "add", desc := "(Ljava/lang/Object;)Z" } : Jvm.MethodName) prog_49_method_25_code (2 : Nat) (Option.some Jvm.ClassFile.FieldType.boolean)) ∈ lw_all := lw_g (lw_at lw_m3 75 rfl) rfl
theorem q706 : (Jvm.Cond.methodLink "java/util/ArrayList" (131 : Nat) ({ cls := "java/util/ArrayList", name := "add", desc := "(Ljava/lang/Object;[Ljava/lang/Object;I)V" } : Jvm.MethodName)) ∈ lw_all := lw_g (lw_at lw_m3 76 rfl) rfl
theorem q707 : (Jvm.Cond.privateMethod ({ cls := "java/util/ArrayList", name := "add", desc := "(Ljava/lang/Object;[Ljava/lang/Object;I)V" } : Jvm.MethodName)) ∈ lw_tbl := lw_at lw_m3 77 rfl
theorem q708 : (Jvm.Cond.instanceMethod ({ cls := "java/util/ArrayList", name := "add", desc := "(Ljava/lang/Object;[Ljava/lang/Object;I)V" } : Jvm.MethodName)) ∈ lw_all := lw_g (lw_at lw_m3 78 rfl) rfl
theorem q709 : (Jvm.Cond.code ({ cls := "java/util/ArrayList", name := "add", desc := "(Ljava/lang/Object;[Ljava/lang/Object;I)V" } : Jvm.MethodName) prog_49_method_24_code (4 : Nat) (Option.none : Option Jvm.ClassFile.FieldType)) ∈ lw_all := lw_g (lw_at lw_m3 79 rfl) rfl
theorem q710 : (Jvm.Cond.methodLink "java/util/ArrayList" (129 : Nat) ({ cls := "java/util/ArrayList", name := "grow", desc := "()[Ljava/lang/Object;" } : Jvm.MethodName)) ∈ lw_all := lw_g (lw_at lw_m3 80 rfl) rfl
theorem q711 : (Jvm.Cond.privateMethod ({ cls := "java/util/ArrayList", name := "grow", desc := "()[Ljava/lang/Object;" } : Jvm.MethodName)) ∈ lw_tbl := lw_at lw_m3 81 rfl
theorem q712 : (Jvm.Cond.instanceMethod ({ cls := "java/util/ArrayList", name := "grow", desc := "()[Ljava/lang/Object;" } : Jvm.MethodName)) ∈ lw_all := lw_g (lw_at lw_m3 82 rfl) rfl
theorem q713 : (Jvm.Cond.code ({ cls := "java/util/ArrayList", name := "grow", desc := "()[Ljava/lang/Object;" } : Jvm.MethodName) prog_49_method_7_code (1 : Nat) (Option.some (Jvm.ClassFile.FieldType.array (Jvm.ClassFile.FieldType.object "java/lang/Object")))) ∈ lw_all := lw_g (lw_at lw_m3 83 rfl) rfl
theorem q714 : (Jvm.Cond.methodLink "java/util/ArrayList" (69 : Nat) ({ cls := "java/util/ArrayList", name := "grow", desc := "(I)[Ljava/lang/Object;" } : Jvm.MethodName)) ∈ lw_all := lw_g (lw_at lw_m3 84 rfl) rfl
theorem q715 : (Jvm.Cond.privateMethod ({ cls := "java/util/ArrayList", name := "grow", desc := "(I)[Ljava/lang/Object;" } : Jvm.MethodName)) ∈ lw_tbl := lw_at lw_m3 85 rfl
theorem q716 : (Jvm.Cond.instanceMethod ({ cls := "java/util/ArrayList", name := "grow", desc := "(I)[Ljava/lang/Object;" } : Jvm.MethodName)) ∈ lw_all := lw_g (lw_at lw_m3 86 rfl) rfl
theorem q717 : (Jvm.Cond.code ({ cls := "java/util/ArrayList", name := "grow", desc := "(I)[Ljava/lang/Object;" } : Jvm.MethodName) prog_49_method_6_code (4 : Nat) (Option.some (Jvm.ClassFile.FieldType.array (Jvm.ClassFile.FieldType.object "java/lang/Object")))) ∈ lw_all := lw_g (lw_at lw_m3 87 rfl) rfl
theorem q718 : (Jvm.Cond.fieldLink "java/util/ArrayList" (39 : Nat) "java/util/ArrayList" "DEFAULTCAPACITY_EMPTY_ELEMENTDATA" "[Ljava/lang/Object;") ∈ lw_all := lw_g (lw_at lw_m3 88 rfl) rfl
theorem q719 : (Jvm.Cond.laysStatic "java/util/ArrayList" "DEFAULTCAPACITY_EMPTY_ELEMENTDATA" "[Ljava/lang/Object;") ∈ lw_tbl := lw_at lw_m3 89 rfl
theorem q720 : (Jvm.Cond.methodLink "java/util/ArrayList" (73 : Nat) ({ cls := "jdk/internal/util/ArraysSupport", name := "newLength", desc := "(III)I" } : Jvm.MethodName)) ∈ lw_all := lw_g (lw_at lw_m3 90 rfl) rfl
theorem q721 : (Jvm.Cond.methodLink "java/util/ArrayList" (66 : Nat) ({ cls := "java/util/Arrays", name := "copyOf", desc := "([Ljava/lang/Object;I)[Ljava/lang/Object;" } : Jvm.MethodName)) ∈ lw_all := lw_g (lw_at lw_m3 91 rfl) rfl
theorem q750 : (Jvm.Cond.selects "java/util/ArrayList" ({ cls := "java/lang/Object", name := "getClass", desc := "()Ljava/lang/Class;" } : Jvm.MethodName) ({ cls := "java/lang/Object", name := "getClass", desc := "()Ljava/lang/Class;" } : Jvm.MethodName)) ∈ lw_all := lw_g (lw_at lw_m3 120 rfl) rfl
theorem q761 : (Jvm.Cond.methodLink "java/util/ArrayList" (79 : Nat) ({ cls := "java/lang/Math", name := "max", desc := "(II)I" } : Jvm.MethodName)) ∈ lw_all := lw_g (lw_at lw_m3 131 rfl) rfl
theorem q769 : (Jvm.Cond.instanceMethod ({ cls := "java/util/ArrayList", name := "size", desc := "()I" } : Jvm.MethodName)) ∈ lw_all := lw_g (lw_at lw_m3 139 rfl) rfl
theorem q770 : (Jvm.Cond.selects "java/util/ArrayList" ({ cls := "java/util/ArrayList", name := "size", desc := "()I" } : Jvm.MethodName) ({ cls := "java/util/ArrayList", name := "size", desc := "()I" } : Jvm.MethodName)) ∈ lw_all := lw_g (lw_at lw_m3 140 rfl) rfl
theorem q771 : (Jvm.Cond.code ({ cls := "java/util/ArrayList", name := "size", desc := "()I" } : Jvm.MethodName) prog_49_method_8_code (1 : Nat) (Option.some Jvm.ClassFile.FieldType.int)) ∈ lw_all := lw_g (lw_at lw_m3 141 rfl) rfl
theorem q1447 : (Jvm.Cond.instanceMethod ({ cls := "java/util/ArrayList", name := "get", desc := "(I)Ljava/lang/Object;" } : Jvm.MethodName)) ∈ lw_all := lw_g (lw_at lw_m6 97 rfl) rfl
theorem q1448 : (Jvm.Cond.selects "java/util/ArrayList" ({ cls := "java/util/ArrayList", name := "get", desc := "(I)Ljava/lang/Object;" } : Jvm.MethodName) ({ cls := "java/util/ArrayList", name := "get", desc := "(I)Ljava/lang/Object;" } : Jvm.MethodName)) ∈ lw_all := lw_g (lw_at lw_m6 98 rfl) rfl
theorem q1449 : (Jvm.Cond.code ({ cls := "java/util/ArrayList", name := "get", desc := "(I)Ljava/lang/Object;" } : Jvm.MethodName) prog_49_method_20_code (2 : Nat) (Option.some (Jvm.ClassFile.FieldType.object "java/lang/Object"))) ∈ lw_all := lw_g (lw_at lw_m6 99 rfl) rfl
theorem q1450 : (Jvm.Cond.methodLink "java/util/ArrayList" (118 : Nat) ({ cls := "java/util/Objects", name := "checkIndex", desc := "(II)I" } : Jvm.MethodName)) ∈ lw_all := lw_g (lw_at lw_m6 100 rfl) rfl
theorem q1456 : (Jvm.Cond.methodLink "java/util/ArrayList" (123 : Nat) ({ cls := "java/util/ArrayList", name := "elementData", desc := "(I)Ljava/lang/Object;" } : Jvm.MethodName)) ∈ lw_all := lw_g (lw_at lw_m6 106 rfl) rfl
theorem q1457 : (Jvm.Cond.instanceMethod ({ cls := "java/util/ArrayList", name := "elementData", desc := "(I)Ljava/lang/Object;" } : Jvm.MethodName)) ∈ lw_all := lw_g (lw_at lw_m6 107 rfl) rfl
theorem q1458 : (Jvm.Cond.selects "java/util/ArrayList" ({ cls := "java/util/ArrayList", name := "elementData", desc := "(I)Ljava/lang/Object;" } : Jvm.MethodName) ({ cls := "java/util/ArrayList", name := "elementData", desc := "(I)Ljava/lang/Object;" } : Jvm.MethodName)) ∈ lw_all := lw_g (lw_at lw_m6 108 rfl) rfl
theorem q1459 : (Jvm.Cond.code ({ cls := "java/util/ArrayList", name := "elementData", desc := "(I)Ljava/lang/Object;" } : Jvm.MethodName) prog_49_method_18_code (2 : Nat) (Option.some (Jvm.ClassFile.FieldType.object "java/lang/Object"))) ∈ lw_all := lw_g (lw_at lw_m6 109 rfl) rfl
theorem q1518 : (Jvm.Cond.instanceMethod ({ cls := "java/util/ArrayList", name := "isEmpty", desc := "()Z" } : Jvm.MethodName)) ∈ lw_all := lw_g (lw_at lw_m6 168 rfl) rfl
theorem q1519 : (Jvm.Cond.selects "java/util/ArrayList" ({ cls := "java/util/ArrayList", name := "isEmpty", desc := "()Z" } : Jvm.MethodName) ({ cls := "java/util/ArrayList", name := "isEmpty", desc := "()Z" } : Jvm.MethodName)) ∈ lw_all := lw_g (lw_at lw_m6 169 rfl) rfl
theorem q1520 : (Jvm.Cond.code ({ cls := "java/util/ArrayList", name := "isEmpty", desc := "()Z" } : Jvm.MethodName) prog_49_method_9_code (1 : Nat) (Option.some Jvm.ClassFile.FieldType.boolean)) ∈ lw_all := lw_g (lw_at lw_m6 170 rfl) rfl
theorem q3176 : (Jvm.Cond.castable "java/util/ArrayList" "java/lang/Object") ∈ lw_tbl := lw_at lw_m13 146 rfl
theorem q160 : (Jvm.Cond.initialized "java/lang/Throwable") ∈ lw_all := lw_g (lw_at lw_m1 10 rfl) rfl
theorem q313 : (Jvm.Cond.declares ({ cls := "java/lang/Throwable", name := "<init>", desc := "()V" } : Jvm.MethodName)) ∈ lw_tbl := lw_at lw_m1 163 rfl
theorem q314 : (Jvm.Cond.declares ({ cls := "java/lang/Throwable", name := "<init>", desc := "(Ljava/lang/String;)V" } : Jvm.MethodName)) ∈ lw_tbl := lw_at lw_m1 164 rfl
theorem q318 : (Jvm.Cond.lays "java/lang/Throwable" "java/lang/Throwable" "cause" "Ljava/lang/Throwable;") ∈ lw_all := lw_g (lw_at lw_m1 168 rfl) rfl
theorem q320 : (Jvm.Cond.lays "java/lang/Throwable" "java/lang/Throwable" "stackTrace" "[Ljava/lang/StackTraceElement;") ∈ lw_all := lw_g (lw_at lw_m1 170 rfl) rfl
theorem q322 : (Jvm.Cond.lays "java/lang/Throwable" "java/lang/Throwable" "suppressedExceptions" "Ljava/util/List;") ∈ lw_all := lw_g (lw_at lw_m1 172 rfl) rfl
theorem q324 : (Jvm.Cond.lays "java/lang/Throwable" "java/lang/Throwable" "detailMessage" "Ljava/lang/String;") ∈ lw_all := lw_g (lw_at lw_m1 174 rfl) rfl
theorem q326 : (Jvm.Cond.lays "java/lang/Throwable" "java/lang/Throwable" "backtrace" "Ljava/lang/Object;") ∈ lw_all := lw_g (lw_at lw_m1 176 rfl) rfl
theorem q327 : (Jvm.Cond.fieldLink "java/lang/Throwable" (198 : Nat) "java/lang/Throwable" "backtrace" "Ljava/lang/Object;") ∈ lw_all := lw_g (lw_at lw_m1 177 rfl) rfl
theorem q328 : (Jvm.Cond.superclass "java/lang/Throwable" "java/lang/Object") ∈ lw_all := lw_g (lw_at lw_m1 178 rfl) rfl
theorem q329 : (Jvm.Cond.instanceMethod ({ cls := "java/lang/Throwable", name := "<init>", desc := "()V" } : Jvm.MethodName)) ∈ lw_all := lw_g (lw_at lw_m1 179 rfl) rfl
theorem q330 : (Jvm.Cond.code ({ cls := "java/lang/Throwable", name := "<init>", desc := "()V" } : Jvm.MethodName) prog_42_method_1_code (1 : Nat) (Option.none : Option Jvm.ClassFile.FieldType)) ∈ lw_all := lw_g (lw_at lw_m1 180 rfl) rfl
theorem q331 : (Jvm.Cond.methodLink "java/lang/Throwable" (1 : Nat) ({ cls := "java/lang/Object", name := "<init>", desc := "()V" } : Jvm.MethodName)) ∈ lw_all := lw_g (lw_at lw_m1 181 rfl) rfl
theorem q332 : (Jvm.Cond.fieldLink "java/lang/Throwable" (13 : Nat) "java/lang/Throwable" "UNASSIGNED_STACK" "[Ljava/lang/StackTraceElement;") ∈ lw_all := lw_g (lw_at lw_m1 182 rfl) rfl
theorem q333 : (Jvm.Cond.laysStatic "java/lang/Throwable" "UNASSIGNED_STACK" "[Ljava/lang/StackTraceElement;") ∈ lw_tbl := lw_at lw_m1 183 rfl
theorem q334 : (Jvm.Cond.fieldLink "java/lang/Throwable" (20 : Nat) "java/lang/Throwable" "SUPPRESSED_SENTINEL" "Ljava/util/List;") ∈ lw_all := lw_g (lw_at lw_m1 184 rfl) rfl
theorem q335 : (Jvm.Cond.laysStatic "java/lang/Throwable" "SUPPRESSED_SENTINEL" "Ljava/util/List;") ∈ lw_tbl := lw_at lw_m1 185 rfl
theorem q336 : (Jvm.Cond.methodLink "java/lang/Throwable" (27 : Nat) ({ cls := "java/lang/Throwable", name := "fillInStackTrace", desc := "()Ljava/lang/Throwable;" } : Jvm.MethodName)) ∈ lw_all := lw_g (lw_at lw_m1 186 rfl) rfl
theorem q337 : (Jvm.Cond.instanceMethod ({ cls := "java/lang/Throwable", name := "fillInStackTrace", desc := "()Ljava/lang/Throwable;" } : Jvm.MethodName)) ∈ lw_all := lw_g (lw_at lw_m1 187 rfl) rfl
theorem q338 : (Jvm.Cond.sameMethod "java/lang/Throwable" "java/lang/Throwable" "fillInStackTrace" "()Ljava/lang/Throwable;") ∈ lw_all := lw_g (lw_at lw_m1 188 rfl) rfl
theorem q344 : (Jvm.Cond.codeSync ({ cls := "java/lang/Throwable", name := "fillInStackTrace", desc := "()Ljava/lang/Throwable;" } : Jvm.MethodName) prog_42_method_18_code (1 : Nat) (Option.some (Jvm.ClassFile.FieldType.object "java/lang/Throwable"))) ∈ lw_all := lw_g (lw_at lw_m1 194 rfl) rfl
theorem q345 : (Jvm.Cond.methodLink "java/lang/Throwable" (202 : Nat) ({ cls := "java/lang/Throwable", name := "fillInStackTrace", desc := "(I)Ljava/lang/Throwable;" } : Jvm.MethodName)) ∈ lw_all := lw_g (lw_at lw_m1 195 rfl) rfl
theorem q346 : (Jvm.Cond.privateMethod ({ cls := "java/lang/Throwable", name := "fillInStackTrace", desc := "(I)Ljava/lang/Throwable;" } : Jvm.MethodName)) ∈ lw_tbl := lw_at lw_m1 196 rfl
theorem q347 : (Jvm.Cond.instanceMethod ({ cls := "java/lang/Throwable", name := "fillInStackTrace", desc := "(I)Ljava/lang/Throwable;" } : Jvm.MethodName)) ∈ lw_all := lw_g (lw_at lw_m1 197 rfl) rfl
theorem q348 : (Jvm.Cond.instantiable "java/lang/Throwable" (6 : Nat)) ∈ lw_all := lw_g (lw_at lw_m1 198 rfl) rfl
theorem q349 : (Jvm.Cond.native ({ cls := "java/lang/Throwable", name := "fillInStackTrace", desc := "(I)Ljava/lang/Throwable;" } : Jvm.MethodName)) ∈ lw_all := lw_g (lw_at lw_m1 199 rfl) rfl
theorem q582 : (Jvm.Cond.instanceMethod ({ cls := "java/lang/Throwable", name := "<init>", desc := "(Ljava/lang/String;)V" } : Jvm.MethodName)) ∈ lw_all := lw_g (lw_at lw_m2 192 rfl) rfl
theorem q583 : (Jvm.Cond.code ({ cls := "java/lang/Throwable", name := "<init>", desc := "(Ljava/lang/String;)V" } : Jvm.MethodName) prog_42_method_2_code (2 : Nat) (Option.none : Option Jvm.ClassFile.FieldType)) ∈ lw_all := lw_g (lw_at lw_m2 193 rfl) rfl
theorem q584 : (Jvm.Cond.fieldLink "java/lang/Throwable" (198 : Nat) "java/lang/Throwable" "backtrace" "Ljava/lang/Object;") ∈ lw_all := lw_g (lw_at lw_m2 194 rfl) rfl
theorem q585 : (Jvm.Cond.fieldLink "java/lang/Throwable" (31 : Nat) "java/lang/Throwable" "detailMessage" "Ljava/lang/String;") ∈ lw_all := lw_g (lw_at lw_m2 195 rfl) rfl
theorem q586 : (Jvm.Cond.fieldLink "java/lang/Throwable" (7 : Nat) "java/lang/Throwable" "cause" "Ljava/lang/Throwable;") ∈ lw_all := lw_g (lw_at lw_m2 196 rfl) rfl
theorem q587 : (Jvm.Cond.fieldLink "java/lang/Throwable" (17 : Nat) "java/lang/Throwable" "stackTrace" "[Ljava/lang/StackTraceElement;") ∈ lw_all := lw_g (lw_at lw_m2 197 rfl) rfl
theorem q588 : (Jvm.Cond.fieldLink "java/lang/Throwable" (24 : Nat) "java/lang/Throwable" "suppressedExceptions" "Ljava/util/List;") ∈ lw_all := lw_g (lw_at lw_m2 198 rfl) rfl
theorem q589 : (Jvm.Cond.soleField "java/lang/Throwable" "backtrace") ∈ lw_all := lw_g (lw_at lw_m2 199 rfl) rfl
theorem q590 : (Jvm.Cond.soleField "java/lang/Throwable" "detailMessage") ∈ lw_all := lw_g (lw_at lw_m2 200 rfl) rfl
theorem q591 : (Jvm.Cond.soleField "java/lang/Throwable" "cause") ∈ lw_all := lw_g (lw_at lw_m2 201 rfl) rfl
theorem q592 : (Jvm.Cond.soleField "java/lang/Throwable" "stackTrace") ∈ lw_all := lw_g (lw_at lw_m2 202 rfl) rfl
theorem q594 : (Jvm.Cond.soleField "java/lang/Throwable" "depth") ∈ lw_all := lw_g (lw_at lw_m2 204 rfl) rfl
theorem q595 : (Jvm.Cond.soleField "java/lang/Throwable" "suppressedExceptions") ∈ lw_all := lw_g (lw_at lw_m2 205 rfl) rfl
theorem q1680 : (Jvm.Cond.instanceMethod ({ cls := "java/lang/Throwable", name := "<init>", desc := "(Ljava/lang/String;Ljava/lang/Throwable;ZZ)V" } : Jvm.MethodName)) ∈ lw_all := lw_g (lw_at lw_m7 90 rfl) rfl
theorem q1681 : (Jvm.Cond.code ({ cls := "java/lang/Throwable", name := "<init>", desc := "(Ljava/lang/String;Ljava/lang/Throwable;ZZ)V" } : Jvm.MethodName) prog_42_method_5_code (5 : Nat) (Option.none : Option Jvm.ClassFile.FieldType)) ∈ lw_all := lw_g (lw_at lw_m7 91 rfl) rfl
theorem q3150 : (Jvm.Cond.sameMethod "java/lang/Throwable" "java/lang/Throwable" "fillInStackTrace" "(I)Ljava/lang/Throwable;") ∈ lw_all := lw_g (lw_at lw_m13 120 rfl) rfl
theorem q3198 : (Jvm.Cond.castable "java/lang/Throwable" "java/lang/Object") ∈ lw_tbl := lw_at lw_m13 168 rfl
theorem q161 : (Jvm.Cond.initialized "java/lang/Exception") ∈ lw_all := lw_g (lw_at lw_m1 11 rfl) rfl
theorem q311 : (Jvm.Cond.declares ({ cls := "java/lang/Exception", name := "<init>", desc := "()V" } : Jvm.MethodName)) ∈ lw_tbl := lw_at lw_m1 161 rfl
theorem q312 : (Jvm.Cond.declares ({ cls := "java/lang/Exception", name := "<init>", desc := "(Ljava/lang/String;)V" } : Jvm.MethodName)) ∈ lw_tbl := lw_at lw_m1 162 rfl
theorem q579 : (Jvm.Cond.instanceMethod ({ cls := "java/lang/Exception", name := "<init>", desc := "(Ljava/lang/String;)V" } : Jvm.MethodName)) ∈ lw_all := lw_g (lw_at lw_m2 189 rfl) rfl
theorem q580 : (Jvm.Cond.code ({ cls := "java/lang/Exception", name := "<init>", desc := "(Ljava/lang/String;)V" } : Jvm.MethodName) prog_25_method_2_code (2 : Nat) (Option.none : Option Jvm.ClassFile.FieldType)) ∈ lw_all := lw_g (lw_at lw_m2 190 rfl) rfl
theorem q581 : (Jvm.Cond.methodLink "java/lang/Exception" (7 : Nat) ({ cls := "java/lang/Throwable", name := "<init>", desc := "(Ljava/lang/String;)V" } : Jvm.MethodName)) ∈ lw_all := lw_g (lw_at lw_m2 191 rfl) rfl
theorem q1677 : (Jvm.Cond.instanceMethod ({ cls := "java/lang/Exception", name := "<init>", desc := "(Ljava/lang/String;Ljava/lang/Throwable;ZZ)V" } : Jvm.MethodName)) ∈ lw_all := lw_g (lw_at lw_m7 87 rfl) rfl
theorem q1678 : (Jvm.Cond.code ({ cls := "java/lang/Exception", name := "<init>", desc := "(Ljava/lang/String;Ljava/lang/Throwable;ZZ)V" } : Jvm.MethodName) prog_25_method_5_code (5 : Nat) (Option.none : Option Jvm.ClassFile.FieldType)) ∈ lw_all := lw_g (lw_at lw_m7 88 rfl) rfl
theorem q1679 : (Jvm.Cond.methodLink "java/lang/Exception" (16 : Nat) ({ cls := "java/lang/Throwable", name := "<init>", desc := "(Ljava/lang/String;Ljava/lang/Throwable;ZZ)V" } : Jvm.MethodName)) ∈ lw_all := lw_g (lw_at lw_m7 89 rfl) rfl
theorem q1963 : (Jvm.Cond.instanceMethod ({ cls := "java/lang/Exception", name := "<init>", desc := "()V" } : Jvm.MethodName)) ∈ lw_all := lw_g (lw_at lw_m8 133 rfl) rfl
theorem q1964 : (Jvm.Cond.code ({ cls := "java/lang/Exception", name := "<init>", desc := "()V" } : Jvm.MethodName) prog_25_method_1_code (1 : Nat) (Option.none : Option Jvm.ClassFile.FieldType)) ∈ lw_all := lw_g (lw_at lw_m8 134 rfl) rfl
theorem q1965 : (Jvm.Cond.methodLink "java/lang/Exception" (1 : Nat) ({ cls := "java/lang/Throwable", name := "<init>", desc := "()V" } : Jvm.MethodName)) ∈ lw_all := lw_g (lw_at lw_m8 135 rfl) rfl
theorem q162 : (Jvm.Cond.initialized "java/lang/RuntimeException") ∈ lw_all := lw_g (lw_at lw_m1 12 rfl) rfl
theorem q309 : (Jvm.Cond.declares ({ cls := "java/lang/RuntimeException", name := "<init>", desc := "()V" } : Jvm.MethodName)) ∈ lw_tbl := lw_at lw_m1 159 rfl
theorem q310 : (Jvm.Cond.declares ({ cls := "java/lang/RuntimeException", name := "<init>", desc := "(Ljava/lang/String;)V" } : Jvm.MethodName)) ∈ lw_tbl := lw_at lw_m1 160 rfl
theorem q576 : (Jvm.Cond.instanceMethod ({ cls := "java/lang/RuntimeException", name := "<init>", desc := "(Ljava/lang/String;)V" } : Jvm.MethodName)) ∈ lw_all := lw_g (lw_at lw_m2 186 rfl) rfl
theorem q577 : (Jvm.Cond.code ({ cls := "java/lang/RuntimeException", name := "<init>", desc := "(Ljava/lang/String;)V" } : Jvm.MethodName) prog_34_method_2_code (2 : Nat) (Option.none : Option Jvm.ClassFile.FieldType)) ∈ lw_all := lw_g (lw_at lw_m2 187 rfl) rfl
theorem q578 : (Jvm.Cond.methodLink "java/lang/RuntimeException" (7 : Nat) ({ cls := "java/lang/Exception", name := "<init>", desc := "(Ljava/lang/String;)V" } : Jvm.MethodName)) ∈ lw_all := lw_g (lw_at lw_m2 188 rfl) rfl
theorem q1960 : (Jvm.Cond.instanceMethod ({ cls := "java/lang/RuntimeException", name := "<init>", desc := "()V" } : Jvm.MethodName)) ∈ lw_all := lw_g (lw_at lw_m8 130 rfl) rfl
theorem q1961 : (Jvm.Cond.code ({ cls := "java/lang/RuntimeException", name := "<init>", desc := "()V" } : Jvm.MethodName) prog_34_method_1_code (1 : Nat) (Option.none : Option Jvm.ClassFile.FieldType)) ∈ lw_all := lw_g (lw_at lw_m8 131 rfl) rfl
theorem q1962 : (Jvm.Cond.methodLink "java/lang/RuntimeException" (1 : Nat) ({ cls := "java/lang/Exception", name := "<init>", desc := "()V" } : Jvm.MethodName)) ∈ lw_all := lw_g (lw_at lw_m8 132 rfl) rfl
theorem q163 : (Jvm.Cond.initialized "java/lang/IllegalArgumentException") ∈ lw_all := lw_g (lw_at lw_m1 13 rfl) rfl
theorem q307 : (Jvm.Cond.instantiable "java/lang/IllegalArgumentException" (6 : Nat)) ∈ lw_all := lw_g (lw_at lw_m1 157 rfl) rfl
theorem q308 : (Jvm.Cond.castable "java/lang/IllegalArgumentException" "java/lang/IllegalArgumentException") ∈ lw_tbl := lw_at lw_m1 158 rfl
theorem q315 : (Jvm.Cond.selects "java/lang/IllegalArgumentException" ({ cls := "java/lang/Throwable", name := "fillInStackTrace", desc := "(I)Ljava/lang/Throwable;" } : Jvm.MethodName) ({ cls := "java/lang/Throwable", name := "fillInStackTrace", desc := "(I)Ljava/lang/Throwable;" } : Jvm.MethodName)) ∈ lw_all := lw_g (lw_at lw_m1 165 rfl) rfl
theorem q316 : (Jvm.Cond.selects "java/lang/IllegalArgumentException" ({ cls := "java/lang/Throwable", name := "fillInStackTrace", desc := "()Ljava/lang/Throwable;" } : Jvm.MethodName) ({ cls := "java/lang/Throwable", name := "fillInStackTrace", desc := "()Ljava/lang/Throwable;" } : Jvm.MethodName)) ∈ lw_all := lw_g (lw_at lw_m1 166 rfl) rfl
theorem q317 : (Jvm.Cond.lays "java/lang/IllegalArgumentException" "java/lang/Throwable" "cause" "Ljava/lang/Throwable;") ∈ lw_all := lw_g (lw_at lw_m1 167 rfl) rfl
theorem q319 : (Jvm.Cond.lays "java/lang/IllegalArgumentException" "java/lang/Throwable" "stackTrace" "[Ljava/lang/StackTraceElement;") ∈ lw_all := lw_g (lw_at lw_m1 169 rfl) rfl
theorem q321 : (Jvm.Cond.lays "java/lang/IllegalArgumentException" "java/lang/Throwable" "suppressedExceptions" "Ljava/util/List;") ∈ lw_all := lw_g (lw_at lw_m1 171 rfl) rfl
theorem q323 : (Jvm.Cond.lays "java/lang/IllegalArgumentException" "java/lang/Throwable" "detailMessage" "Ljava/lang/String;") ∈ lw_all := lw_g (lw_at lw_m1 173 rfl) rfl
theorem q325 : (Jvm.Cond.lays "java/lang/IllegalArgumentException" "java/lang/Throwable" "backtrace" "Ljava/lang/Object;") ∈ lw_all := lw_g (lw_at lw_m1 175 rfl) rfl
theorem q573 : (Jvm.Cond.instanceMethod ({ cls := "java/lang/IllegalArgumentException", name := "<init>", desc := "(Ljava/lang/String;)V" } : Jvm.MethodName)) ∈ lw_all := lw_g (lw_at lw_m2 183 rfl) rfl
theorem q574 : (Jvm.Cond.code ({ cls := "java/lang/IllegalArgumentException", name := "<init>", desc := "(Ljava/lang/String;)V" } : Jvm.MethodName) prog_26_method_2_code (2 : Nat) (Option.none : Option Jvm.ClassFile.FieldType)) ∈ lw_all := lw_g (lw_at lw_m2 184 rfl) rfl
theorem q575 : (Jvm.Cond.methodLink "java/lang/IllegalArgumentException" (7 : Nat) ({ cls := "java/lang/RuntimeException", name := "<init>", desc := "(Ljava/lang/String;)V" } : Jvm.MethodName)) ∈ lw_all := lw_g (lw_at lw_m2 185 rfl) rfl
theorem q593 : (Jvm.Cond.lays "java/lang/IllegalArgumentException" "java/lang/Throwable" "depth" "I") ∈ lw_all := lw_g (lw_at lw_m2 203 rfl) rfl
theorem q596 : (Jvm.Cond.superclass "java/lang/IllegalArgumentException" "java/lang/RuntimeException") ∈ lw_all := lw_g (lw_at lw_m2 206 rfl) rfl
theorem q742 : (Jvm.Cond.selects "java/lang/IllegalArgumentException" ({ cls := "java/lang/Object", name := "getClass", desc := "()Ljava/lang/Class;" } : Jvm.MethodName) ({ cls := "java/lang/Object", name := "getClass", desc := "()Ljava/lang/Class;" } : Jvm.MethodName)) ∈ lw_all := lw_g (lw_at lw_m3 112 rfl) rfl
theorem q854 : (Jvm.Cond.selects "java/lang/IllegalArgumentException" ({ cls := "java/lang/Object", name := "hashCode", desc := "()I" } : Jvm.MethodName) ({ cls := "java/lang/Object", name := "hashCode", desc := "()I" } : Jvm.MethodName)) ∈ lw_all := lw_g (lw_at lw_m3 224 rfl) rfl
theorem q946 : (Jvm.Cond.selects "java/lang/IllegalArgumentException" ({ cls := "java/lang/Object", name := "equals", desc := "(Ljava/lang/Object;)Z" } : Jvm.MethodName) ({ cls := "java/lang/Object", name := "equals", desc := "(Ljava/lang/Object;)Z" } : Jvm.MethodName)) ∈ lw_all := lw_g (lw_at lw_m4 76 rfl) rfl
theorem q1975 : (Jvm.Cond.instanceMethod ({ cls := "java/lang/IllegalArgumentException", name := "<init>", desc := "()V" } : Jvm.MethodName)) ∈ lw_all := lw_g (lw_at lw_m8 145 rfl) rfl
theorem q1976 : (Jvm.Cond.code ({ cls := "java/lang/IllegalArgumentException", name := "<init>", desc := "()V" } : Jvm.MethodName) prog_26_method_1_code (1 : Nat) (Option.none : Option Jvm.ClassFile.FieldType)) ∈ lw_all := lw_g (lw_at lw_m8 146 rfl) rfl
theorem q1977 : (Jvm.Cond.methodLink "java/lang/IllegalArgumentException" (1 : Nat) ({ cls := "java/lang/RuntimeException", name := "<init>", desc := "()V" } : Jvm.MethodName)) ∈ lw_all := lw_g (lw_at lw_m8 147 rfl) rfl
theorem q3177 : (Jvm.Cond.castable "java/lang/IllegalArgumentException" "java/lang/Object") ∈ lw_tbl := lw_at lw_m13 147 rfl
theorem q150 : (Jvm.Cond.initialized "MistCouriersLaw") ∈ lw_all := lw_g (lw_at lw_m1 0 rfl) rfl
theorem q200 : (Jvm.Cond.classLink "MistCouriersLaw" (8 : Nat) "MistCouriers") ∈ lw_all := lw_g (lw_at lw_m1 50 rfl) rfl
theorem q202 : (Jvm.Cond.methodLink "MistCouriersLaw" (101 : Nat) ({ cls := "MistCouriers", name := "<init>", desc := "()V" } : Jvm.MethodName)) ∈ lw_all := lw_g (lw_at lw_m1 52 rfl) rfl
theorem q1437 : (Jvm.Cond.methodLink "MistCouriersLaw" (162 : Nat) ({ cls := "MistCouriers", name := "gap", desc := "()I" } : Jvm.MethodName)) ∈ lw_all := lw_g (lw_at lw_m6 87 rfl) rfl
theorem q1513 : (Jvm.Cond.methodLink "MistCouriersLaw" (166 : Nat) ({ cls := "MistCouriers", name := "share", desc := "()F" } : Jvm.MethodName)) ∈ lw_all := lw_g (lw_at lw_m6 163 rfl) rfl
theorem q1521 : (Jvm.Cond.methodLink "MistCouriersLaw" (171 : Nat) ({ cls := "MistCouriers", name := "meanMist", desc := "()D" } : Jvm.MethodName)) ∈ lw_all := lw_g (lw_at lw_m6 171 rfl) rfl
theorem q1557 : (Jvm.Cond.methodLink "MistCouriersLaw" (118 : Nat) ({ cls := "MistCouriers", name := "load", desc := "()I" } : Jvm.MethodName)) ∈ lw_all := lw_g (lw_at lw_m6 207 rfl) rfl
theorem q1759 : (Jvm.Cond.methodLink "MistCouriersLaw" (122 : Nat) ({ cls := "MistCouriers", name := "play", desc := "()I" } : Jvm.MethodName)) ∈ lw_all := lw_g (lw_at lw_m7 169 rfl) rfl
theorem q2064 : (Jvm.Cond.methodLink "MistCouriersLaw" (126 : Nat) ({ cls := "MistCouriers", name := "errorCode", desc := "()I" } : Jvm.MethodName)) ∈ lw_all := lw_g (lw_at lw_m8 234 rfl) rfl
theorem q2068 : (Jvm.Cond.methodLink "MistCouriersLaw" (130 : Nat) ({ cls := "MistCouriers", name := "errorPosition", desc := "()I" } : Jvm.MethodName)) ∈ lw_all := lw_g (lw_at lw_m8 238 rfl) rfl
theorem q2072 : (Jvm.Cond.methodLink "MistCouriersLaw" (219 : Nat) ({ cls := "MistCouriers", name := "output", desc := "(I)I" } : Jvm.MethodName)) ∈ lw_all := lw_g (lw_at lw_m9 2 rfl) rfl
theorem q2088 : (Jvm.Cond.methodLink "MistCouriersLaw" (223 : Nat) ({ cls := "MistCouriers", name := "undo", desc := "()I" } : Jvm.MethodName)) ∈ lw_all := lw_g (lw_at lw_m9 18 rfl) rfl
theorem q2099 : (Jvm.Cond.methodLink "MistCouriersLaw" (105 : Nat) ({ cls := "MistCouriersLaw", name := "appendText", desc := "(LMistCouriers;I[J)I" } : Jvm.MethodName)) ∈ lw_all := lw_g (lw_at lw_m9 29 rfl) rfl
theorem q2100 : (Jvm.Cond.static ({ cls := "MistCouriersLaw", name := "appendText", desc := "(LMistCouriers;I[J)I" } : Jvm.MethodName)) ∈ lw_all := lw_g (lw_at lw_m9 30 rfl) rfl
theorem q2101 : (Jvm.Cond.codeWith ({ cls := "MistCouriersLaw", name := "appendText", desc := "(LMistCouriers;I[J)I" } : Jvm.MethodName) method_3_code (4 : Nat) (Option.some Jvm.ClassFile.FieldType.int) [((0 : Nat), (9 : Nat), (12 : Nat), (13 : Nat))]) ∈ lw_all := lw_g (lw_at lw_m9 31 rfl) rfl
theorem q2102 : (Jvm.Cond.classLink "MistCouriersLaw" (13 : Nat) "java/lang/IllegalStateException") ∈ lw_all := lw_g (lw_at lw_m9 32 rfl) rfl
theorem q2103 : (Jvm.Cond.methodLink "MistCouriersLaw" (7 : Nat) ({ cls := "MistCouriers", name := "appendText", desc := "(I)I" } : Jvm.MethodName)) ∈ lw_all := lw_g (lw_at lw_m9 33 rfl) rfl
theorem q2112 : (Jvm.Cond.methodLink "MistCouriersLaw" (115 : Nat) ({ cls := "MistCouriersLaw", name := "truncateText", desc := "(LMistCouriers;I[J)I" } : Jvm.MethodName)) ∈ lw_all := lw_g (lw_at lw_m9 42 rfl) rfl
theorem q2113 : (Jvm.Cond.static ({ cls := "MistCouriersLaw", name := "truncateText", desc := "(LMistCouriers;I[J)I" } : Jvm.MethodName)) ∈ lw_all := lw_g (lw_at lw_m9 43 rfl) rfl
theorem q2114 : (Jvm.Cond.codeWith ({ cls := "MistCouriersLaw", name := "truncateText", desc := "(LMistCouriers;I[J)I" } : Jvm.MethodName) method_4_code (4 : Nat) (Option.some Jvm.ClassFile.FieldType.int) [((0 : Nat), (9 : Nat), (12 : Nat), (18 : Nat))]) ∈ lw_all := lw_g (lw_at lw_m9 44 rfl) rfl
theorem q2115 : (Jvm.Cond.classLink "MistCouriersLaw" (18 : Nat) "java/lang/IllegalArgumentException") ∈ lw_all := lw_g (lw_at lw_m9 45 rfl) rfl
theorem q2116 : (Jvm.Cond.methodLink "MistCouriersLaw" (15 : Nat) ({ cls := "MistCouriers", name := "truncateText", desc := "(I)I" } : Jvm.MethodName)) ∈ lw_all := lw_g (lw_at lw_m9 46 rfl) rfl
theorem q2121 : (Jvm.Cond.methodLink "MistCouriersLaw" (134 : Nat) ({ cls := "MistCouriersLaw", name := "total", desc := "(LMistCouriers;I[J)I" } : Jvm.MethodName)) ∈ lw_all := lw_g (lw_at lw_m9 51 rfl) rfl
theorem q2122 : (Jvm.Cond.static ({ cls := "MistCouriersLaw", name := "total", desc := "(LMistCouriers;I[J)I" } : Jvm.MethodName)) ∈ lw_all := lw_g (lw_at lw_m9 52 rfl) rfl
theorem q2123 : (Jvm.Cond.codeWith ({ cls := "MistCouriersLaw", name := "total", desc := "(LMistCouriers;I[J)I" } : Jvm.MethodName) method_5_code (4 : Nat) (Option.some Jvm.ClassFile.FieldType.int) [((0 : Nat), (9 : Nat), (12 : Nat), (18 : Nat))]) ∈ lw_all := lw_g (lw_at lw_m9 53 rfl) rfl
theorem q2124 : (Jvm.Cond.methodLink "MistCouriersLaw" (20 : Nat) ({ cls := "MistCouriers", name := "total", desc := "(I)I" } : Jvm.MethodName)) ∈ lw_all := lw_g (lw_at lw_m9 54 rfl) rfl
theorem q2132 : (Jvm.Cond.methodLink "MistCouriersLaw" (137 : Nat) ({ cls := "MistCouriersLaw", name := "tally", desc := "(LMistCouriers;I[J)I" } : Jvm.MethodName)) ∈ lw_all := lw_g (lw_at lw_m9 62 rfl) rfl
theorem q2133 : (Jvm.Cond.static ({ cls := "MistCouriersLaw", name := "tally", desc := "(LMistCouriers;I[J)I" } : Jvm.MethodName)) ∈ lw_all := lw_g (lw_at lw_m9 63 rfl) rfl
theorem q2134 : (Jvm.Cond.codeWith ({ cls := "MistCouriersLaw", name := "tally", desc := "(LMistCouriers;I[J)I" } : Jvm.MethodName) method_6_code (4 : Nat) (Option.some Jvm.ClassFile.FieldType.int) [((0 : Nat), (9 : Nat), (12 : Nat), (18 : Nat))]) ∈ lw_all := lw_g (lw_at lw_m9 64 rfl) rfl
theorem q2135 : (Jvm.Cond.methodLink "MistCouriersLaw" (23 : Nat) ({ cls := "MistCouriers", name := "tally", desc := "(I)I" } : Jvm.MethodName)) ∈ lw_all := lw_g (lw_at lw_m9 65 rfl) rfl
theorem q2139 : (Jvm.Cond.methodLink "MistCouriersLaw" (140 : Nat) ({ cls := "MistCouriersLaw", name := "cell", desc := "(LMistCouriers;II[J)I" } : Jvm.MethodName)) ∈ lw_all := lw_g (lw_at lw_m9 69 rfl) rfl
theorem q2140 : (Jvm.Cond.static ({ cls := "MistCouriersLaw", name := "cell", desc := "(LMistCouriers;II[J)I" } : Jvm.MethodName)) ∈ lw_all := lw_g (lw_at lw_m9 70 rfl) rfl
theorem q2141 : (Jvm.Cond.codeWith ({ cls := "MistCouriersLaw", name := "cell", desc := "(LMistCouriers;II[J)I" } : Jvm.MethodName) method_7_code (5 : Nat) (Option.some Jvm.ClassFile.FieldType.int) [((0 : Nat), (10 : Nat), (13 : Nat), (30 : Nat)), ((0 : Nat), (10 : Nat), (17 : Nat), (18 : Nat))]) ∈ lw_all := lw_g (lw_at lw_m9 71 rfl) rfl
theorem q2142 : (Jvm.Cond.classLink "MistCouriersLaw" (30 : Nat) "java/lang/IndexOutOfBoundsException") ∈ lw_all := lw_g (lw_at lw_m9 72 rfl) rfl
theorem q2143 : (Jvm.Cond.methodLink "MistCouriersLaw" (26 : Nat) ({ cls := "MistCouriers", name := "cell", desc := "(II)I" } : Jvm.MethodName)) ∈ lw_all := lw_g (lw_at lw_m9 73 rfl) rfl
theorem q2156 : (Jvm.Cond.methodLink "MistCouriersLaw" (144 : Nat) ({ cls := "MistCouriersLaw", name := "bank", desc := "(LMistCouriers;II[J)I" } : Jvm.MethodName)) ∈ lw_all := lw_g (lw_at lw_m9 86 rfl) rfl
theorem q2157 : (Jvm.Cond.static ({ cls := "MistCouriersLaw", name := "bank", desc := "(LMistCouriers;II[J)I" } : Jvm.MethodName)) ∈ lw_all := lw_g (lw_at lw_m9 87 rfl) rfl
theorem q2158 : (Jvm.Cond.codeWith ({ cls := "MistCouriersLaw", name := "bank", desc := "(LMistCouriers;II[J)I" } : Jvm.MethodName) method_8_code (5 : Nat) (Option.some Jvm.ClassFile.FieldType.int) [((0 : Nat), (10 : Nat), (13 : Nat), (30 : Nat)), ((0 : Nat), (10 : Nat), (17 : Nat), (18 : Nat))]) ∈ lw_all := lw_g (lw_at lw_m9 88 rfl) rfl
theorem q2159 : (Jvm.Cond.methodLink "MistCouriersLaw" (32 : Nat) ({ cls := "MistCouriers", name := "bank", desc := "(II)I" } : Jvm.MethodName)) ∈ lw_all := lw_g (lw_at lw_m9 89 rfl) rfl
theorem q2164 : (Jvm.Cond.methodLink "MistCouriersLaw" (147 : Nat) ({ cls := "MistCouriersLaw", name := "watcher", desc := "(LMistCouriers;II[J)I" } : Jvm.MethodName)) ∈ lw_all := lw_g (lw_at lw_m9 94 rfl) rfl
theorem q2165 : (Jvm.Cond.static ({ cls := "MistCouriersLaw", name := "watcher", desc := "(LMistCouriers;II[J)I" } : Jvm.MethodName)) ∈ lw_all := lw_g (lw_at lw_m9 95 rfl) rfl
theorem q2166 : (Jvm.Cond.codeWith ({ cls := "MistCouriersLaw", name := "watcher", desc := "(LMistCouriers;II[J)I" } : Jvm.MethodName) method_9_code (5 : Nat) (Option.some Jvm.ClassFile.FieldType.int) [((0 : Nat), (10 : Nat), (13 : Nat), (30 : Nat)), ((0 : Nat), (10 : Nat), (17 : Nat), (18 : Nat))]) ∈ lw_all := lw_g (lw_at lw_m9 96 rfl) rfl
theorem q2167 : (Jvm.Cond.methodLink "MistCouriersLaw" (35 : Nat) ({ cls := "MistCouriers", name := "watcher", desc := "(II)I" } : Jvm.MethodName)) ∈ lw_all := lw_g (lw_at lw_m9 97 rfl) rfl
theorem q2193 : (Jvm.Cond.methodLink "MistCouriersLaw" (150 : Nat) ({ cls := "MistCouriersLaw", name := "courier", desc := "(LMistCouriers;II[J)I" } : Jvm.MethodName)) ∈ lw_all := lw_g (lw_at lw_m9 123 rfl) rfl
theorem q2194 : (Jvm.Cond.static ({ cls := "MistCouriersLaw", name := "courier", desc := "(LMistCouriers;II[J)I" } : Jvm.MethodName)) ∈ lw_all := lw_g (lw_at lw_m9 124 rfl) rfl
theorem q2195 : (Jvm.Cond.codeWith ({ cls := "MistCouriersLaw", name := "courier", desc := "(LMistCouriers;II[J)I" } : Jvm.MethodName) method_10_code (5 : Nat) (Option.some Jvm.ClassFile.FieldType.int) [((0 : Nat), (10 : Nat), (13 : Nat), (30 : Nat)), ((0 : Nat), (10 : Nat), (17 : Nat), (18 : Nat))]) ∈ lw_all := lw_g (lw_at lw_m9 125 rfl) rfl
theorem q2196 : (Jvm.Cond.methodLink "MistCouriersLaw" (38 : Nat) ({ cls := "MistCouriers", name := "courier", desc := "(II)I" } : Jvm.MethodName)) ∈ lw_all := lw_g (lw_at lw_m9 126 rfl) rfl
theorem q2202 : (Jvm.Cond.methodLink "MistCouriersLaw" (153 : Nat) ({ cls := "MistCouriersLaw", name := "letter", desc := "(LMistCouriers;II[J)I" } : Jvm.MethodName)) ∈ lw_all := lw_g (lw_at lw_m9 132 rfl) rfl
theorem q2203 : (Jvm.Cond.static ({ cls := "MistCouriersLaw", name := "letter", desc := "(LMistCouriers;II[J)I" } : Jvm.MethodName)) ∈ lw_all := lw_g (lw_at lw_m9 133 rfl) rfl
theorem q2204 : (Jvm.Cond.codeWith ({ cls := "MistCouriersLaw", name := "letter", desc := "(LMistCouriers;II[J)I" } : Jvm.MethodName) method_11_code (5 : Nat) (Option.some Jvm.ClassFile.FieldType.int) [((0 : Nat), (10 : Nat), (13 : Nat), (30 : Nat)), ((0 : Nat), (10 : Nat), (17 : Nat), (18 : Nat))]) ∈ lw_all := lw_g (lw_at lw_m9 134 rfl) rfl
theorem q2205 : (Jvm.Cond.methodLink "MistCouriersLaw" (41 : Nat) ({ cls := "MistCouriers", name := "letter", desc := "(II)I" } : Jvm.MethodName)) ∈ lw_all := lw_g (lw_at lw_m9 135 rfl) rfl
theorem q2214 : (Jvm.Cond.methodLink "MistCouriersLaw" (156 : Nat) ({ cls := "MistCouriersLaw", name := "gaze", desc := "(LMistCouriers;II[J)I" } : Jvm.MethodName)) ∈ lw_all := lw_g (lw_at lw_m9 144 rfl) rfl
theorem q2215 : (Jvm.Cond.static ({ cls := "MistCouriersLaw", name := "gaze", desc := "(LMistCouriers;II[J)I" } : Jvm.MethodName)) ∈ lw_all := lw_g (lw_at lw_m9 145 rfl) rfl
theorem q2216 : (Jvm.Cond.codeWith ({ cls := "MistCouriersLaw", name := "gaze", desc := "(LMistCouriers;II[J)I" } : Jvm.MethodName) method_12_code (5 : Nat) (Option.some Jvm.ClassFile.FieldType.int) [((0 : Nat), (10 : Nat), (13 : Nat), (30 : Nat))]) ∈ lw_all := lw_g (lw_at lw_m9 146 rfl) rfl
theorem q2217 : (Jvm.Cond.methodLink "MistCouriersLaw" (44 : Nat) ({ cls := "MistCouriers", name := "gaze", desc := "(II)I" } : Jvm.MethodName)) ∈ lw_all := lw_g (lw_at lw_m9 147 rfl) rfl
theorem q2222 : (Jvm.Cond.methodLink "MistCouriersLaw" (159 : Nat) ({ cls := "MistCouriersLaw", name := "why", desc := "(LMistCouriers;II[J)I" } : Jvm.MethodName)) ∈ lw_all := lw_g (lw_at lw_m9 152 rfl) rfl
theorem q2223 : (Jvm.Cond.static ({ cls := "MistCouriersLaw", name := "why", desc := "(LMistCouriers;II[J)I" } : Jvm.MethodName)) ∈ lw_all := lw_g (lw_at lw_m9 153 rfl) rfl
theorem q2224 : (Jvm.Cond.codeWith ({ cls := "MistCouriersLaw", name := "why", desc := "(LMistCouriers;II[J)I" } : Jvm.MethodName) method_13_code (5 : Nat) (Option.some Jvm.ClassFile.FieldType.int) [((0 : Nat), (10 : Nat), (13 : Nat), (30 : Nat)), ((0 : Nat), (10 : Nat), (17 : Nat), (18 : Nat))]) ∈ lw_all := lw_g (lw_at lw_m9 154 rfl) rfl
theorem q2225 : (Jvm.Cond.methodLink "MistCouriersLaw" (47 : Nat) ({ cls := "MistCouriers", name := "why", desc := "(II)I" } : Jvm.MethodName)) ∈ lw_all := lw_g (lw_at lw_m9 155 rfl) rfl
theorem q2246 : (Jvm.Cond.methodLink "MistCouriersLaw" (176 : Nat) ({ cls := "MistCouriersLaw", name := "ifSeen", desc := "(LMistCouriers;II[J)I" } : Jvm.MethodName)) ∈ lw_all := lw_g (lw_at lw_m9 176 rfl) rfl
theorem q2247 : (Jvm.Cond.static ({ cls := "MistCouriersLaw", name := "ifSeen", desc := "(LMistCouriers;II[J)I" } : Jvm.MethodName)) ∈ lw_all := lw_g (lw_at lw_m9 177 rfl) rfl
theorem q2248 : (Jvm.Cond.codeWith ({ cls := "MistCouriersLaw", name := "ifSeen", desc := "(LMistCouriers;II[J)I" } : Jvm.MethodName) method_14_code (5 : Nat) (Option.some Jvm.ClassFile.FieldType.int) [((0 : Nat), (17 : Nat), (20 : Nat), (30 : Nat)), ((0 : Nat), (17 : Nat), (24 : Nat), (18 : Nat))]) ∈ lw_all := lw_g (lw_at lw_m9 178 rfl) rfl
theorem q2249 : (Jvm.Cond.methodLink "MistCouriersLaw" (50 : Nat) ({ cls := "MistCouriers", name := "ifSeen", desc := "(II)Z" } : Jvm.MethodName)) ∈ lw_all := lw_g (lw_at lw_m9 179 rfl) rfl
theorem q2254 : (Jvm.Cond.methodLink "MistCouriersLaw" (179 : Nat) ({ cls := "MistCouriersLaw", name := "seenIn", desc := "(LMistCouriers;I[J)I" } : Jvm.MethodName)) ∈ lw_all := lw_g (lw_at lw_m9 184 rfl) rfl
theorem q2255 : (Jvm.Cond.static ({ cls := "MistCouriersLaw", name := "seenIn", desc := "(LMistCouriers;I[J)I" } : Jvm.MethodName)) ∈ lw_all := lw_g (lw_at lw_m9 185 rfl) rfl
theorem q2256 : (Jvm.Cond.codeWith ({ cls := "MistCouriersLaw", name := "seenIn", desc := "(LMistCouriers;I[J)I" } : Jvm.MethodName) method_15_code (4 : Nat) (Option.some Jvm.ClassFile.FieldType.int) [((0 : Nat), (9 : Nat), (12 : Nat), (30 : Nat))]) ∈ lw_all := lw_g (lw_at lw_m9 186 rfl) rfl
theorem q2257 : (Jvm.Cond.methodLink "MistCouriersLaw" (54 : Nat) ({ cls := "MistCouriers", name := "seenIn", desc := "(I)I" } : Jvm.MethodName)) ∈ lw_all := lw_g (lw_at lw_m9 187 rfl) rfl
theorem q2261 : (Jvm.Cond.methodLink "MistCouriersLaw" (182 : Nat) ({ cls := "MistCouriersLaw", name := "ifPassed", desc := "(LMistCouriers;II[J)I" } : Jvm.MethodName)) ∈ lw_all := lw_g (lw_at lw_m9 191 rfl) rfl
theorem q2262 : (Jvm.Cond.static ({ cls := "MistCouriersLaw", name := "ifPassed", desc := "(LMistCouriers;II[J)I" } : Jvm.MethodName)) ∈ lw_all := lw_g (lw_at lw_m9 192 rfl) rfl
theorem q2263 : (Jvm.Cond.codeWith ({ cls := "MistCouriersLaw", name := "ifPassed", desc := "(LMistCouriers;II[J)I" } : Jvm.MethodName) method_16_code (5 : Nat) (Option.some Jvm.ClassFile.FieldType.int) [((0 : Nat), (10 : Nat), (13 : Nat), (18 : Nat))]) ∈ lw_all := lw_g (lw_at lw_m9 193 rfl) rfl
theorem q2264 : (Jvm.Cond.methodLink "MistCouriersLaw" (57 : Nat) ({ cls := "MistCouriers", name := "ifPassed", desc := "(II)I" } : Jvm.MethodName)) ∈ lw_all := lw_g (lw_at lw_m9 194 rfl) rfl
theorem q2269 : (Jvm.Cond.methodLink "MistCouriersLaw" (185 : Nat) ({ cls := "MistCouriersLaw", name := "unseen", desc := "(LMistCouriers;II[J)I" } : Jvm.MethodName)) ∈ lw_all := lw_g (lw_at lw_m9 199 rfl) rfl
theorem q2270 : (Jvm.Cond.static ({ cls := "MistCouriersLaw", name := "unseen", desc := "(LMistCouriers;II[J)I" } : Jvm.MethodName)) ∈ lw_all := lw_g (lw_at lw_m9 200 rfl) rfl
theorem q2271 : (Jvm.Cond.codeWith ({ cls := "MistCouriersLaw", name := "unseen", desc := "(LMistCouriers;II[J)I" } : Jvm.MethodName) method_17_code (5 : Nat) (Option.some Jvm.ClassFile.FieldType.int) [((0 : Nat), (10 : Nat), (13 : Nat), (30 : Nat))]) ∈ lw_all := lw_g (lw_at lw_m9 201 rfl) rfl
theorem q2272 : (Jvm.Cond.methodLink "MistCouriersLaw" (60 : Nat) ({ cls := "MistCouriers", name := "unseen", desc := "(II)I" } : Jvm.MethodName)) ∈ lw_all := lw_g (lw_at lw_m9 202 rfl) rfl
theorem q2302 : (Jvm.Cond.methodLink "MistCouriersLaw" (188 : Nat) ({ cls := "MistCouriersLaw", name := "canBe", desc := "(LMistCouriers;II[J)I" } : Jvm.MethodName)) ∈ lw_all := lw_g (lw_at lw_m9 232 rfl) rfl
theorem q2303 : (Jvm.Cond.static ({ cls := "MistCouriersLaw", name := "canBe", desc := "(LMistCouriers;II[J)I" } : Jvm.MethodName)) ∈ lw_all := lw_g (lw_at lw_m9 233 rfl) rfl
theorem q2304 : (Jvm.Cond.codeWith ({ cls := "MistCouriersLaw", name := "canBe", desc := "(LMistCouriers;II[J)I" } : Jvm.MethodName) method_18_code (5 : Nat) (Option.some Jvm.ClassFile.FieldType.int) [((0 : Nat), (10 : Nat), (13 : Nat), (30 : Nat)), ((0 : Nat), (10 : Nat), (17 : Nat), (18 : Nat))]) ∈ lw_all := lw_g (lw_at lw_m9 234 rfl) rfl
theorem q2305 : (Jvm.Cond.methodLink "MistCouriersLaw" (63 : Nat) ({ cls := "MistCouriers", name := "canBe", desc := "(II)I" } : Jvm.MethodName)) ∈ lw_all := lw_g (lw_at lw_m9 235 rfl) rfl
theorem q2314 : (Jvm.Cond.methodLink "MistCouriersLaw" (191 : Nat) ({ cls := "MistCouriersLaw", name := "ifStepped", desc := "(LMistCouriers;II[J)I" } : Jvm.MethodName)) ∈ lw_all := lw_g (lw_at lw_m10 4 rfl) rfl
theorem q2315 : (Jvm.Cond.static ({ cls := "MistCouriersLaw", name := "ifStepped", desc := "(LMistCouriers;II[J)I" } : Jvm.MethodName)) ∈ lw_all := lw_g (lw_at lw_m10 5 rfl) rfl
theorem q2316 : (Jvm.Cond.codeWith ({ cls := "MistCouriersLaw", name := "ifStepped", desc := "(LMistCouriers;II[J)I" } : Jvm.MethodName) method_19_code (5 : Nat) (Option.some Jvm.ClassFile.FieldType.int) [((0 : Nat), (10 : Nat), (13 : Nat), (30 : Nat)), ((0 : Nat), (10 : Nat), (17 : Nat), (18 : Nat))]) ∈ lw_all := lw_g (lw_at lw_m10 6 rfl) rfl
theorem q2317 : (Jvm.Cond.methodLink "MistCouriersLaw" (66 : Nat) ({ cls := "MistCouriers", name := "ifStepped", desc := "(II)I" } : Jvm.MethodName)) ∈ lw_all := lw_g (lw_at lw_m10 7 rfl) rfl
theorem q2322 : (Jvm.Cond.methodLink "MistCouriersLaw" (194 : Nat) ({ cls := "MistCouriersLaw", name := "nearest", desc := "(LMistCouriers;I[J)I" } : Jvm.MethodName)) ∈ lw_all := lw_g (lw_at lw_m10 12 rfl) rfl
theorem q2323 : (Jvm.Cond.static ({ cls := "MistCouriersLaw", name := "nearest", desc := "(LMistCouriers;I[J)I" } : Jvm.MethodName)) ∈ lw_all := lw_g (lw_at lw_m10 13 rfl) rfl
theorem q2324 : (Jvm.Cond.codeWith ({ cls := "MistCouriersLaw", name := "nearest", desc := "(LMistCouriers;I[J)I" } : Jvm.MethodName) method_20_code (4 : Nat) (Option.some Jvm.ClassFile.FieldType.int) [((0 : Nat), (9 : Nat), (12 : Nat), (30 : Nat))]) ∈ lw_all := lw_g (lw_at lw_m10 14 rfl) rfl
theorem q2325 : (Jvm.Cond.methodLink "MistCouriersLaw" (69 : Nat) ({ cls := "MistCouriers", name := "nearest", desc := "(I)I" } : Jvm.MethodName)) ∈ lw_all := lw_g (lw_at lw_m10 15 rfl) rfl
theorem q2329 : (Jvm.Cond.methodLink "MistCouriersLaw" (197 : Nat) ({ cls := "MistCouriersLaw", name := "refusals", desc := "(LMistCouriers;I[J)I" } : Jvm.MethodName)) ∈ lw_all := lw_g (lw_at lw_m10 19 rfl) rfl
theorem q2330 : (Jvm.Cond.static ({ cls := "MistCouriersLaw", name := "refusals", desc := "(LMistCouriers;I[J)I" } : Jvm.MethodName)) ∈ lw_all := lw_g (lw_at lw_m10 20 rfl) rfl
theorem q2331 : (Jvm.Cond.codeWith ({ cls := "MistCouriersLaw", name := "refusals", desc := "(LMistCouriers;I[J)I" } : Jvm.MethodName) method_21_code (4 : Nat) (Option.some Jvm.ClassFile.FieldType.int) [((0 : Nat), (9 : Nat), (12 : Nat), (18 : Nat))]) ∈ lw_all := lw_g (lw_at lw_m10 21 rfl) rfl
theorem q2332 : (Jvm.Cond.methodLink "MistCouriersLaw" (72 : Nat) ({ cls := "MistCouriers", name := "refusals", desc := "(I)I" } : Jvm.MethodName)) ∈ lw_all := lw_g (lw_at lw_m10 22 rfl) rfl
theorem q2336 : (Jvm.Cond.methodLink "MistCouriersLaw" (200 : Nat) ({ cls := "MistCouriersLaw", name := "step", desc := "(LMistCouriers;II[J)I" } : Jvm.MethodName)) ∈ lw_all := lw_g (lw_at lw_m10 26 rfl) rfl
theorem q2337 : (Jvm.Cond.static ({ cls := "MistCouriersLaw", name := "step", desc := "(LMistCouriers;II[J)I" } : Jvm.MethodName)) ∈ lw_all := lw_g (lw_at lw_m10 27 rfl) rfl
theorem q2338 : (Jvm.Cond.codeWith ({ cls := "MistCouriersLaw", name := "step", desc := "(LMistCouriers;II[J)I" } : Jvm.MethodName) method_22_code (5 : Nat) (Option.some Jvm.ClassFile.FieldType.int) [((0 : Nat), (10 : Nat), (13 : Nat), (30 : Nat)), ((0 : Nat), (10 : Nat), (17 : Nat), (18 : Nat))]) ∈ lw_all := lw_g (lw_at lw_m10 28 rfl) rfl
theorem q2339 : (Jvm.Cond.methodLink "MistCouriersLaw" (75 : Nat) ({ cls := "MistCouriers", name := "step", desc := "(II)I" } : Jvm.MethodName)) ∈ lw_all := lw_g (lw_at lw_m10 29 rfl) rfl
theorem q2349 : (Jvm.Cond.methodLink "MistCouriersLaw" (203 : Nat) ({ cls := "MistCouriersLaw", name := "pick", desc := "(LMistCouriers;II[J)I" } : Jvm.MethodName)) ∈ lw_all := lw_g (lw_at lw_m10 39 rfl) rfl
theorem q2350 : (Jvm.Cond.static ({ cls := "MistCouriersLaw", name := "pick", desc := "(LMistCouriers;II[J)I" } : Jvm.MethodName)) ∈ lw_all := lw_g (lw_at lw_m10 40 rfl) rfl
theorem q2351 : (Jvm.Cond.codeWith ({ cls := "MistCouriersLaw", name := "pick", desc := "(LMistCouriers;II[J)I" } : Jvm.MethodName) method_23_code (5 : Nat) (Option.some Jvm.ClassFile.FieldType.int) [((0 : Nat), (10 : Nat), (13 : Nat), (30 : Nat))]) ∈ lw_all := lw_g (lw_at lw_m10 41 rfl) rfl
theorem q2352 : (Jvm.Cond.methodLink "MistCouriersLaw" (78 : Nat) ({ cls := "MistCouriers", name := "pick", desc := "(II)I" } : Jvm.MethodName)) ∈ lw_all := lw_g (lw_at lw_m10 42 rfl) rfl
theorem q2357 : (Jvm.Cond.methodLink "MistCouriersLaw" (206 : Nat) ({ cls := "MistCouriersLaw", name := "give", desc := "(LMistCouriers;III[J)I" } : Jvm.MethodName)) ∈ lw_all := lw_g (lw_at lw_m10 47 rfl) rfl
theorem q2358 : (Jvm.Cond.static ({ cls := "MistCouriersLaw", name := "give", desc := "(LMistCouriers;III[J)I" } : Jvm.MethodName)) ∈ lw_all := lw_g (lw_at lw_m10 48 rfl) rfl
theorem q2359 : (Jvm.Cond.codeWith ({ cls := "MistCouriersLaw", name := "give", desc := "(LMistCouriers;III[J)I" } : Jvm.MethodName) method_24_code (6 : Nat) (Option.some Jvm.ClassFile.FieldType.int) [((0 : Nat), (12 : Nat), (15 : Nat), (30 : Nat))]) ∈ lw_all := lw_g (lw_at lw_m10 49 rfl) rfl
theorem q2360 : (Jvm.Cond.methodLink "MistCouriersLaw" (81 : Nat) ({ cls := "MistCouriers", name := "give", desc := "(III)I" } : Jvm.MethodName)) ∈ lw_all := lw_g (lw_at lw_m10 50 rfl) rfl
theorem q2365 : (Jvm.Cond.methodLink "MistCouriersLaw" (210 : Nat) ({ cls := "MistCouriersLaw", name := "lay", desc := "(LMistCouriers;II[J)I" } : Jvm.MethodName)) ∈ lw_all := lw_g (lw_at lw_m10 55 rfl) rfl
theorem q2366 : (Jvm.Cond.static ({ cls := "MistCouriersLaw", name := "lay", desc := "(LMistCouriers;II[J)I" } : Jvm.MethodName)) ∈ lw_all := lw_g (lw_at lw_m10 56 rfl) rfl
theorem q2367 : (Jvm.Cond.codeWith ({ cls := "MistCouriersLaw", name := "lay", desc := "(LMistCouriers;II[J)I" } : Jvm.MethodName) method_25_code (5 : Nat) (Option.some Jvm.ClassFile.FieldType.int) [((0 : Nat), (10 : Nat), (13 : Nat), (30 : Nat))]) ∈ lw_all := lw_g (lw_at lw_m10 57 rfl) rfl
theorem q2368 : (Jvm.Cond.methodLink "MistCouriersLaw" (85 : Nat) ({ cls := "MistCouriers", name := "lay", desc := "(II)I" } : Jvm.MethodName)) ∈ lw_all := lw_g (lw_at lw_m10 58 rfl) rfl
theorem q2373 : (Jvm.Cond.methodLink "MistCouriersLaw" (213 : Nat) ({ cls := "MistCouriersLaw", name := "pass", desc := "(LMistCouriers;I[J)I" } : Jvm.MethodName)) ∈ lw_all := lw_g (lw_at lw_m10 63 rfl) rfl
theorem q2374 : (Jvm.Cond.static ({ cls := "MistCouriersLaw", name := "pass", desc := "(LMistCouriers;I[J)I" } : Jvm.MethodName)) ∈ lw_all := lw_g (lw_at lw_m10 64 rfl) rfl
theorem q2375 : (Jvm.Cond.codeWith ({ cls := "MistCouriersLaw", name := "pass", desc := "(LMistCouriers;I[J)I" } : Jvm.MethodName) method_26_code (4 : Nat) (Option.some Jvm.ClassFile.FieldType.int) [((0 : Nat), (9 : Nat), (12 : Nat), (18 : Nat))]) ∈ lw_all := lw_g (lw_at lw_m10 65 rfl) rfl
theorem q2376 : (Jvm.Cond.methodLink "MistCouriersLaw" (88 : Nat) ({ cls := "MistCouriers", name := "pass", desc := "(I)I" } : Jvm.MethodName)) ∈ lw_all := lw_g (lw_at lw_m10 66 rfl) rfl
theorem q2381 : (Jvm.Cond.methodLink "MistCouriersLaw" (216 : Nat) ({ cls := "MistCouriersLaw", name := "write", desc := "(LMistCouriers;I[J)I" } : Jvm.MethodName)) ∈ lw_all := lw_g (lw_at lw_m10 71 rfl) rfl
theorem q2382 : (Jvm.Cond.static ({ cls := "MistCouriersLaw", name := "write", desc := "(LMistCouriers;I[J)I" } : Jvm.MethodName)) ∈ lw_all := lw_g (lw_at lw_m10 72 rfl) rfl
theorem q2383 : (Jvm.Cond.codeWith ({ cls := "MistCouriersLaw", name := "write", desc := "(LMistCouriers;I[J)I" } : Jvm.MethodName) method_27_code (4 : Nat) (Option.some Jvm.ClassFile.FieldType.int) [((0 : Nat), (9 : Nat), (12 : Nat), (18 : Nat))]) ∈ lw_all := lw_g (lw_at lw_m10 73 rfl) rfl
theorem q2384 : (Jvm.Cond.methodLink "MistCouriersLaw" (91 : Nat) ({ cls := "MistCouriers", name := "write", desc := "(I)I" } : Jvm.MethodName)) ∈ lw_all := lw_g (lw_at lw_m10 74 rfl) rfl
theorem q2457 : (Jvm.Cond.methodLink "MistCouriersLaw" (227 : Nat) ({ cls := "MistCouriersLaw", name := "save", desc := "(LMistCouriers;I)I" } : Jvm.MethodName)) ∈ lw_all := lw_g (lw_at lw_m10 147 rfl) rfl
theorem q2458 : (Jvm.Cond.static ({ cls := "MistCouriersLaw", name := "save", desc := "(LMistCouriers;I)I" } : Jvm.MethodName)) ∈ lw_all := lw_g (lw_at lw_m10 148 rfl) rfl
theorem q2459 : (Jvm.Cond.codeWith ({ cls := "MistCouriersLaw", name := "save", desc := "(LMistCouriers;I)I" } : Jvm.MethodName) method_28_code (3 : Nat) (Option.some Jvm.ClassFile.FieldType.int) [((0 : Nat), (5 : Nat), (8 : Nat), (18 : Nat))]) ∈ lw_all := lw_g (lw_at lw_m10 149 rfl) rfl
theorem q2460 : (Jvm.Cond.methodLink "MistCouriersLaw" (94 : Nat) ({ cls := "MistCouriers", name := "save", desc := "(I)V" } : Jvm.MethodName)) ∈ lw_all := lw_g (lw_at lw_m10 150 rfl) rfl
theorem q2464 : (Jvm.Cond.methodLink "MistCouriersLaw" (231 : Nat) ({ cls := "MistCouriersLaw", name := "restore", desc := "(LMistCouriers;I)I" } : Jvm.MethodName)) ∈ lw_all := lw_g (lw_at lw_m10 154 rfl) rfl
theorem q2465 : (Jvm.Cond.static ({ cls := "MistCouriersLaw", name := "restore", desc := "(LMistCouriers;I)I" } : Jvm.MethodName)) ∈ lw_all := lw_g (lw_at lw_m10 155 rfl) rfl
theorem q2466 : (Jvm.Cond.codeWith ({ cls := "MistCouriersLaw", name := "restore", desc := "(LMistCouriers;I)I" } : Jvm.MethodName) method_29_code (3 : Nat) (Option.some Jvm.ClassFile.FieldType.int) [((0 : Nat), (5 : Nat), (8 : Nat), (18 : Nat)), ((0 : Nat), (5 : Nat), (11 : Nat), (13 : Nat))]) ∈ lw_all := lw_g (lw_at lw_m10 156 rfl) rfl
theorem q2467 : (Jvm.Cond.methodLink "MistCouriersLaw" (98 : Nat) ({ cls := "MistCouriers", name := "restore", desc := "(I)V" } : Jvm.MethodName)) ∈ lw_all := lw_g (lw_at lw_m10 157 rfl) rfl
theorem q2471 : (Jvm.Cond.classLink "MistCouriersLaw" (102 : Nat) "MistCouriersModel") ∈ lw_all := lw_g (lw_at lw_m10 161 rfl) rfl
theorem q2473 : (Jvm.Cond.methodLink "MistCouriersLaw" (104 : Nat) ({ cls := "MistCouriersModel", name := "<init>", desc := "()V" } : Jvm.MethodName)) ∈ lw_all := lw_g (lw_at lw_m10 163 rfl) rfl
theorem q2574 : (Jvm.Cond.methodLink "MistCouriersLaw" (111 : Nat) ({ cls := "MistCouriersModel", name := "thrown", desc := "()I" } : Jvm.MethodName)) ∈ lw_all := lw_g (lw_at lw_m11 24 rfl) rfl
theorem q2578 : (Jvm.Cond.methodLink "MistCouriersLaw" (110 : Nat) ({ cls := "MistCouriersModel", name := "appendText", desc := "(I)I" } : Jvm.MethodName)) ∈ lw_all := lw_g (lw_at lw_m11 28 rfl) rfl
theorem q2586 : (Jvm.Cond.methodLink "MistCouriersLaw" (117 : Nat) ({ cls := "MistCouriersModel", name := "truncateText", desc := "(I)I" } : Jvm.MethodName)) ∈ lw_all := lw_g (lw_at lw_m11 36 rfl) rfl
theorem q2593 : (Jvm.Cond.methodLink "MistCouriersLaw" (121 : Nat) ({ cls := "MistCouriersModel", name := "load", desc := "()I" } : Jvm.MethodName)) ∈ lw_all := lw_g (lw_at lw_m11 43 rfl) rfl
theorem q2718 : (Jvm.Cond.methodLink "MistCouriersLaw" (125 : Nat) ({ cls := "MistCouriersModel", name := "play", desc := "()I" } : Jvm.MethodName)) ∈ lw_all := lw_g (lw_at lw_m11 168 rfl) rfl
theorem q2894 : (Jvm.Cond.methodLink "MistCouriersLaw" (129 : Nat) ({ cls := "MistCouriersModel", name := "errorCode", desc := "()I" } : Jvm.MethodName)) ∈ lw_all := lw_g (lw_at lw_m12 104 rfl) rfl
theorem q2898 : (Jvm.Cond.methodLink "MistCouriersLaw" (133 : Nat) ({ cls := "MistCouriersModel", name := "errorPosition", desc := "()I" } : Jvm.MethodName)) ∈ lw_all := lw_g (lw_at lw_m12 108 rfl) rfl
theorem q2902 : (Jvm.Cond.methodLink "MistCouriersLaw" (136 : Nat) ({ cls := "MistCouriersModel", name := "total", desc := "(I)I" } : Jvm.MethodName)) ∈ lw_all := lw_g (lw_at lw_m12 112 rfl) rfl
theorem q2918 : (Jvm.Cond.methodLink "MistCouriersLaw" (139 : Nat) ({ cls := "MistCouriersModel", name := "tally", desc := "(I)I" } : Jvm.MethodName)) ∈ lw_all := lw_g (lw_at lw_m12 128 rfl) rfl
theorem q2922 : (Jvm.Cond.methodLink "MistCouriersLaw" (143 : Nat) ({ cls := "MistCouriersModel", name := "cell", desc := "(II)I" } : Jvm.MethodName)) ∈ lw_all := lw_g (lw_at lw_m12 132 rfl) rfl
theorem q2946 : (Jvm.Cond.methodLink "MistCouriersLaw" (146 : Nat) ({ cls := "MistCouriersModel", name := "bank", desc := "(II)I" } : Jvm.MethodName)) ∈ lw_all := lw_g (lw_at lw_m12 156 rfl) rfl
theorem q2950 : (Jvm.Cond.methodLink "MistCouriersLaw" (149 : Nat) ({ cls := "MistCouriersModel", name := "watcher", desc := "(II)I" } : Jvm.MethodName)) ∈ lw_all := lw_g (lw_at lw_m12 160 rfl) rfl
theorem q2966 : (Jvm.Cond.methodLink "MistCouriersLaw" (152 : Nat) ({ cls := "MistCouriersModel", name := "courier", desc := "(II)I" } : Jvm.MethodName)) ∈ lw_all := lw_g (lw_at lw_m12 176 rfl) rfl
theorem q2970 : (Jvm.Cond.methodLink "MistCouriersLaw" (155 : Nat) ({ cls := "MistCouriersModel", name := "letter", desc := "(II)I" } : Jvm.MethodName)) ∈ lw_all := lw_g (lw_at lw_m12 180 rfl) rfl
theorem q2978 : (Jvm.Cond.methodLink "MistCouriersLaw" (158 : Nat) ({ cls := "MistCouriersModel", name := "gaze", desc := "(II)I" } : Jvm.MethodName)) ∈ lw_all := lw_g (lw_at lw_m12 188 rfl) rfl
theorem q2982 : (Jvm.Cond.methodLink "MistCouriersLaw" (161 : Nat) ({ cls := "MistCouriersModel", name := "why", desc := "(II)I" } : Jvm.MethodName)) ∈ lw_all := lw_g (lw_at lw_m12 192 rfl) rfl
theorem q3006 : (Jvm.Cond.methodLink "MistCouriersLaw" (165 : Nat) ({ cls := "MistCouriersModel", name := "gap", desc := "()I" } : Jvm.MethodName)) ∈ lw_all := lw_g (lw_at lw_m12 216 rfl) rfl
theorem q3010 : (Jvm.Cond.methodLink "MistCouriersLaw" (170 : Nat) ({ cls := "MistCouriersModel", name := "share", desc := "()F" } : Jvm.MethodName)) ∈ lw_all := lw_g (lw_at lw_m12 220 rfl) rfl
theorem q3014 : (Jvm.Cond.methodLink "MistCouriersLaw" (175 : Nat) ({ cls := "MistCouriersModel", name := "meanMist", desc := "()D" } : Jvm.MethodName)) ∈ lw_all := lw_g (lw_at lw_m12 224 rfl) rfl
theorem q3018 : (Jvm.Cond.methodLink "MistCouriersLaw" (178 : Nat) ({ cls := "MistCouriersModel", name := "ifSeen", desc := "(II)Z" } : Jvm.MethodName)) ∈ lw_all := lw_g (lw_at lw_m12 228 rfl) rfl
theorem q3037 : (Jvm.Cond.methodLink "MistCouriersLaw" (181 : Nat) ({ cls := "MistCouriersModel", name := "seenIn", desc := "(I)I" } : Jvm.MethodName)) ∈ lw_all := lw_g (lw_at lw_m13 7 rfl) rfl
theorem q3045 : (Jvm.Cond.methodLink "MistCouriersLaw" (184 : Nat) ({ cls := "MistCouriersModel", name := "ifPassed", desc := "(II)I" } : Jvm.MethodName)) ∈ lw_all := lw_g (lw_at lw_m13 15 rfl) rfl
theorem q3053 : (Jvm.Cond.methodLink "MistCouriersLaw" (187 : Nat) ({ cls := "MistCouriersModel", name := "unseen", desc := "(II)I" } : Jvm.MethodName)) ∈ lw_all := lw_g (lw_at lw_m13 23 rfl) rfl
theorem q3077 : (Jvm.Cond.methodLink "MistCouriersLaw" (190 : Nat) ({ cls := "MistCouriersModel", name := "canBe", desc := "(II)I" } : Jvm.MethodName)) ∈ lw_all := lw_g (lw_at lw_m13 47 rfl) rfl
theorem q3085 : (Jvm.Cond.methodLink "MistCouriersLaw" (193 : Nat) ({ cls := "MistCouriersModel", name := "ifStepped", desc := "(II)I" } : Jvm.MethodName)) ∈ lw_all := lw_g (lw_at lw_m13 55 rfl) rfl
theorem q3089 : (Jvm.Cond.methodLink "MistCouriersLaw" (196 : Nat) ({ cls := "MistCouriersModel", name := "nearest", desc := "(I)I" } : Jvm.MethodName)) ∈ lw_all := lw_g (lw_at lw_m13 59 rfl) rfl
theorem q3093 : (Jvm.Cond.methodLink "MistCouriersLaw" (199 : Nat) ({ cls := "MistCouriersModel", name := "refusals", desc := "(I)I" } : Jvm.MethodName)) ∈ lw_all := lw_g (lw_at lw_m13 63 rfl) rfl
theorem q3097 : (Jvm.Cond.methodLink "MistCouriersLaw" (202 : Nat) ({ cls := "MistCouriersModel", name := "step", desc := "(II)I" } : Jvm.MethodName)) ∈ lw_all := lw_g (lw_at lw_m13 67 rfl) rfl
theorem q3101 : (Jvm.Cond.methodLink "MistCouriersLaw" (205 : Nat) ({ cls := "MistCouriersModel", name := "pick", desc := "(II)I" } : Jvm.MethodName)) ∈ lw_all := lw_g (lw_at lw_m13 71 rfl) rfl
theorem q3105 : (Jvm.Cond.methodLink "MistCouriersLaw" (209 : Nat) ({ cls := "MistCouriersModel", name := "give", desc := "(III)I" } : Jvm.MethodName)) ∈ lw_all := lw_g (lw_at lw_m13 75 rfl) rfl
theorem q3109 : (Jvm.Cond.methodLink "MistCouriersLaw" (212 : Nat) ({ cls := "MistCouriersModel", name := "lay", desc := "(II)I" } : Jvm.MethodName)) ∈ lw_all := lw_g (lw_at lw_m13 79 rfl) rfl
theorem q3113 : (Jvm.Cond.methodLink "MistCouriersLaw" (215 : Nat) ({ cls := "MistCouriersModel", name := "pass", desc := "(I)I" } : Jvm.MethodName)) ∈ lw_all := lw_g (lw_at lw_m13 83 rfl) rfl
theorem q3117 : (Jvm.Cond.methodLink "MistCouriersLaw" (218 : Nat) ({ cls := "MistCouriersModel", name := "write", desc := "(I)I" } : Jvm.MethodName)) ∈ lw_all := lw_g (lw_at lw_m13 87 rfl) rfl
theorem q3133 : (Jvm.Cond.methodLink "MistCouriersLaw" (222 : Nat) ({ cls := "MistCouriersModel", name := "output", desc := "(I)I" } : Jvm.MethodName)) ∈ lw_all := lw_g (lw_at lw_m13 103 rfl) rfl
theorem q3137 : (Jvm.Cond.methodLink "MistCouriersLaw" (226 : Nat) ({ cls := "MistCouriersModel", name := "undo", desc := "()I" } : Jvm.MethodName)) ∈ lw_all := lw_g (lw_at lw_m13 107 rfl) rfl
theorem q3141 : (Jvm.Cond.methodLink "MistCouriersLaw" (230 : Nat) ({ cls := "MistCouriersModel", name := "save", desc := "(I)V" } : Jvm.MethodName)) ∈ lw_all := lw_g (lw_at lw_m13 111 rfl) rfl
theorem q3145 : (Jvm.Cond.methodLink "MistCouriersLaw" (233 : Nat) ({ cls := "MistCouriersModel", name := "restore", desc := "(I)V" } : Jvm.MethodName)) ∈ lw_all := lw_g (lw_at lw_m13 115 rfl) rfl
theorem q151 : (Jvm.Cond.initialized "MistCouriers") ∈ lw_all := lw_g (lw_at lw_m1 1 rfl) rfl
theorem q201 : (Jvm.Cond.instantiable "MistCouriers" (9 : Nat)) ∈ lw_all := lw_g (lw_at lw_m1 51 rfl) rfl
theorem q203 : (Jvm.Cond.instanceMethod ({ cls := "MistCouriers", name := "<init>", desc := "()V" } : Jvm.MethodName)) ∈ lw_all := lw_g (lw_at lw_m1 53 rfl) rfl
theorem q204 : (Jvm.Cond.code ({ cls := "MistCouriers", name := "<init>", desc := "()V" } : Jvm.MethodName) prog_1_method_5_code (5 : Nat) (Option.none : Option Jvm.ClassFile.FieldType)) ∈ lw_all := lw_g (lw_at lw_m1 54 rfl) rfl
theorem q205 : (Jvm.Cond.methodLink "MistCouriers" (10 : Nat) ({ cls := "java/lang/Object", name := "<init>", desc := "()V" } : Jvm.MethodName)) ∈ lw_all := lw_g (lw_at lw_m1 55 rfl) rfl
theorem q208 : (Jvm.Cond.classLink "MistCouriers" (13 : Nat) "java/util/ArrayDeque") ∈ lw_all := lw_g (lw_at lw_m1 58 rfl) rfl
theorem q210 : (Jvm.Cond.methodLink "MistCouriers" (15 : Nat) ({ cls := "java/util/ArrayDeque", name := "<init>", desc := "()V" } : Jvm.MethodName)) ∈ lw_all := lw_g (lw_at lw_m1 60 rfl) rfl
theorem q229 : (Jvm.Cond.classLink "MistCouriers" (22 : Nat) "MistCouriers$State") ∈ lw_all := lw_g (lw_at lw_m1 79 rfl) rfl
theorem q232 : (Jvm.Cond.classLink "MistCouriers" (32 : Nat) "MistCouriers$Square") ∈ lw_all := lw_g (lw_at lw_m1 82 rfl) rfl
theorem q234 : (Jvm.Cond.methodLink "MistCouriers" (34 : Nat) ({ cls := "MistCouriers$Square", name := "<init>", desc := "(II[I)V" } : Jvm.MethodName)) ∈ lw_all := lw_g (lw_at lw_m1 84 rfl) rfl
theorem q272 : (Jvm.Cond.fieldLinkNest "MistCouriers" (119 : Nat) "MistCouriers$Square" "width" "I" "MistCouriers") ∈ lw_tbl := lw_at lw_m1 122 rfl
theorem q274 : (Jvm.Cond.fieldLinkNest "MistCouriers" (122 : Nat) "MistCouriers$Square" "height" "I" "MistCouriers") ∈ lw_tbl := lw_at lw_m1 124 rfl
theorem q277 : (Jvm.Cond.fieldLinkNest "MistCouriers" (103 : Nat) "MistCouriers$Square" "isWall" "[Z" "MistCouriers") ∈ lw_tbl := lw_at lw_m1 127 rfl
theorem q290 : (Jvm.Cond.methodLink "MistCouriers" (37 : Nat) ({ cls := "MistCouriers$State", name := "<init>", desc := "(LMistCouriers$Square;I)V" } : Jvm.MethodName)) ∈ lw_all := lw_g (lw_at lw_m1 140 rfl) rfl
theorem q638 : (Jvm.Cond.fieldLinkNest "MistCouriers" (99 : Nat) "MistCouriers$State" "square" "LMistCouriers$Square;" "MistCouriers") ∈ lw_tbl := lw_at lw_m3 8 rfl
theorem q641 : (Jvm.Cond.fieldLinkNest "MistCouriers" (138 : Nat) "MistCouriers$State" "load" "I" "MistCouriers") ∈ lw_tbl := lw_at lw_m3 11 rfl
theorem q643 : (Jvm.Cond.fieldLinkNest "MistCouriers" (44 : Nat) "MistCouriers$State" "banks" "Ljava/util/ArrayList;" "MistCouriers") ∈ lw_tbl := lw_at lw_m3 13 rfl
theorem q646 : (Jvm.Cond.fieldLinkNest "MistCouriers" (135 : Nat) "MistCouriers$State" "watchers" "Ljava/util/ArrayList;" "MistCouriers") ∈ lw_tbl := lw_at lw_m3 16 rfl
theorem q649 : (Jvm.Cond.fieldLinkNest "MistCouriers" (65 : Nat) "MistCouriers$State" "couriers" "Ljava/util/ArrayList;" "MistCouriers") ∈ lw_tbl := lw_at lw_m3 19 rfl
theorem q652 : (Jvm.Cond.fieldLinkNest "MistCouriers" (76 : Nat) "MistCouriers$State" "letters" "Ljava/util/ArrayList;" "MistCouriers") ∈ lw_tbl := lw_at lw_m3 22 rfl
theorem q655 : (Jvm.Cond.fieldLinkNest "MistCouriers" (152 : Nat) "MistCouriers$State" "tallies" "[I" "MistCouriers") ∈ lw_tbl := lw_at lw_m3 25 rfl
theorem q657 : (Jvm.Cond.fieldLinkNest "MistCouriers" (141 : Nat) "MistCouriers$State" "time" "I" "MistCouriers") ∈ lw_tbl := lw_at lw_m3 27 rfl
theorem q675 : (Jvm.Cond.classLink "MistCouriers" (48 : Nat) "MistCouriers$Bank") ∈ lw_all := lw_g (lw_at lw_m3 45 rfl) rfl
theorem q677 : (Jvm.Cond.methodLink "MistCouriers" (50 : Nat) ({ cls := "MistCouriers$Bank", name := "<init>", desc := "(IIII)V" } : Jvm.MethodName)) ∈ lw_all := lw_g (lw_at lw_m3 47 rfl) rfl
theorem q683 : (Jvm.Cond.fieldLinkNest "MistCouriers" (194 : Nat) "MistCouriers$Bank" "reach" "I" "MistCouriers") ∈ lw_tbl := lw_at lw_m3 53 rfl
theorem q686 : (Jvm.Cond.fieldLinkNest "MistCouriers" (197 : Nat) "MistCouriers$Bank" "thick" "I" "MistCouriers") ∈ lw_tbl := lw_at lw_m3 56 rfl
theorem q688 : (Jvm.Cond.fieldLinkNest "MistCouriers" (200 : Nat) "MistCouriers$Bank" "drift" "I" "MistCouriers") ∈ lw_tbl := lw_at lw_m3 58 rfl
theorem q692 : (Jvm.Cond.fieldLinkNest "MistCouriers" (193 : Nat) "MistCouriers$Bank" "cell" "I" "MistCouriers") ∈ lw_tbl := lw_at lw_m3 62 rfl
theorem q702 : (Jvm.Cond.methodLink "MistCouriers" (53 : Nat) ({ cls := "java/util/ArrayList", name := "add", desc := "(Ljava/lang/Object;)Z" } : Jvm.MethodName)) ∈ lw_all := lw_g (lw_at lw_m3 72 rfl) rfl
theorem q727 : (Jvm.Cond.selects "MistCouriers" ({ cls := "java/lang/Object", name := "getClass", desc := "()Ljava/lang/Class;" } : Jvm.MethodName) ({ cls := "java/lang/Object", name := "getClass", desc := "()Ljava/lang/Class;" } : Jvm.MethodName)) ∈ lw_all := lw_g (lw_at lw_m3 97 rfl) rfl
theorem q762 : (Jvm.Cond.methodLink "MistCouriers" (59 : Nat) ({ cls := "MistCouriers$State", name := "posts", desc := "(IIII)V" } : Jvm.MethodName)) ∈ lw_all := lw_g (lw_at lw_m3 132 rfl) rfl
theorem q781 : (Jvm.Cond.fieldLinkNest "MistCouriers" (221 : Nat) "MistCouriers$Watcher" "cell" "I" "MistCouriers") ∈ lw_tbl := lw_at lw_m3 151 rfl
theorem q784 : (Jvm.Cond.fieldLinkNest "MistCouriers" (225 : Nat) "MistCouriers$Watcher" "range" "I" "MistCouriers") ∈ lw_tbl := lw_at lw_m3 154 rfl
theorem q787 : (Jvm.Cond.fieldLinkNest "MistCouriers" (228 : Nat) "MistCouriers$Watcher" "turn" "I" "MistCouriers") ∈ lw_tbl := lw_at lw_m3 157 rfl
theorem q790 : (Jvm.Cond.fieldLinkNest "MistCouriers" (222 : Nat) "MistCouriers$Watcher" "direction" "I" "MistCouriers") ∈ lw_tbl := lw_at lw_m3 160 rfl
theorem q832 : (Jvm.Cond.selects "MistCouriers" ({ cls := "java/lang/Object", name := "hashCode", desc := "()I" } : Jvm.MethodName) ({ cls := "java/lang/Object", name := "hashCode", desc := "()I" } : Jvm.MethodName)) ∈ lw_all := lw_g (lw_at lw_m3 202 rfl) rfl
theorem q926 : (Jvm.Cond.selects "MistCouriers" ({ cls := "java/lang/Object", name := "equals", desc := "(Ljava/lang/Object;)Z" } : Jvm.MethodName) ({ cls := "java/lang/Object", name := "equals", desc := "(Ljava/lang/Object;)Z" } : Jvm.MethodName)) ∈ lw_all := lw_g (lw_at lw_m4 56 rfl) rfl
theorem q1325 : (Jvm.Cond.fieldLink "MistCouriers" (62 : Nat) "MistCouriers" "FIRST_COURIERS" "[I") ∈ lw_all := lw_g (lw_at lw_m5 215 rfl) rfl
theorem q1326 : (Jvm.Cond.laysStatic "MistCouriers" "FIRST_COURIERS" "[I") ∈ lw_tbl := lw_at lw_m5 216 rfl
theorem q1327 : (Jvm.Cond.classLink "MistCouriers" (68 : Nat) "MistCouriers$Courier") ∈ lw_all := lw_g (lw_at lw_m5 217 rfl) rfl
theorem q1329 : (Jvm.Cond.methodLink "MistCouriers" (70 : Nat) ({ cls := "MistCouriers$Courier", name := "<init>", desc := "(I)V" } : Jvm.MethodName)) ∈ lw_all := lw_g (lw_at lw_m5 219 rfl) rfl
theorem q1338 : (Jvm.Cond.fieldLinkNest "MistCouriers" (241 : Nat) "MistCouriers$Courier" "home" "I" "MistCouriers") ∈ lw_tbl := lw_at lw_m5 228 rfl
theorem q1340 : (Jvm.Cond.fieldLinkNest "MistCouriers" (159 : Nat) "MistCouriers$Courier" "cell" "I" "MistCouriers") ∈ lw_tbl := lw_at lw_m5 230 rfl
theorem q1343 : (Jvm.Cond.fieldLinkNest "MistCouriers" (254 : Nat) "MistCouriers$Courier" "steps" "I" "MistCouriers") ∈ lw_tbl := lw_at lw_m5 233 rfl
theorem q1347 : (Jvm.Cond.fieldLinkNest "MistCouriers" (257 : Nat) "MistCouriers$Courier" "caught" "I" "MistCouriers") ∈ lw_tbl := lw_at lw_m5 237 rfl
theorem q1349 : (Jvm.Cond.fieldLinkNest "MistCouriers" (260 : Nat) "MistCouriers$Courier" "brought" "I" "MistCouriers") ∈ lw_tbl := lw_at lw_m5 239 rfl
theorem q1353 : (Jvm.Cond.fieldLinkNest "MistCouriers" (247 : Nat) "MistCouriers$Courier" "hasStepped" "Z" "MistCouriers") ∈ lw_tbl := lw_at lw_m6 3 rfl
theorem q1367 : (Jvm.Cond.fieldLink "MistCouriers" (73 : Nat) "MistCouriers" "FIRST_LETTERS" "[I") ∈ lw_all := lw_g (lw_at lw_m6 17 rfl) rfl
theorem q1368 : (Jvm.Cond.laysStatic "MistCouriers" "FIRST_LETTERS" "[I") ∈ lw_tbl := lw_at lw_m6 18 rfl
theorem q1369 : (Jvm.Cond.classLink "MistCouriers" (79 : Nat) "MistCouriers$Letter") ∈ lw_all := lw_g (lw_at lw_m6 19 rfl) rfl
theorem q1371 : (Jvm.Cond.methodLink "MistCouriers" (81 : Nat) ({ cls := "MistCouriers$Letter", name := "<init>", desc := "(II)V" } : Jvm.MethodName)) ∈ lw_all := lw_g (lw_at lw_m6 21 rfl) rfl
theorem q1376 : (Jvm.Cond.fieldLinkNest "MistCouriers" (273 : Nat) "MistCouriers$Letter" "from" "I" "MistCouriers") ∈ lw_tbl := lw_at lw_m6 26 rfl
theorem q1378 : (Jvm.Cond.fieldLinkNest "MistCouriers" (166 : Nat) "MistCouriers$Letter" "to" "I" "MistCouriers") ∈ lw_tbl := lw_at lw_m6 28 rfl
theorem q1381 : (Jvm.Cond.fieldLinkNest "MistCouriers" (169 : Nat) "MistCouriers$Letter" "state" "I" "MistCouriers") ∈ lw_tbl := lw_at lw_m6 31 rfl
theorem q1384 : (Jvm.Cond.fieldLinkNest "MistCouriers" (263 : Nat) "MistCouriers$Letter" "place" "I" "MistCouriers") ∈ lw_tbl := lw_at lw_m6 34 rfl
theorem q1388 : (Jvm.Cond.fieldLinkNest "MistCouriers" (266 : Nat) "MistCouriers$Letter" "hand" "I" "MistCouriers") ∈ lw_tbl := lw_at lw_m6 38 rfl
theorem q1390 : (Jvm.Cond.fieldLinkNest "MistCouriers" (280 : Nat) "MistCouriers$Letter" "hands" "I" "MistCouriers") ∈ lw_tbl := lw_at lw_m6 40 rfl
theorem q1405 : (Jvm.Cond.classLink "MistCouriers" (92 : Nat) "java/lang/StringBuilder") ∈ lw_all := lw_g (lw_at lw_m6 55 rfl) rfl
theorem q1406 : (Jvm.Cond.methodLink "MistCouriers" (94 : Nat) ({ cls := "java/lang/StringBuilder", name := "<init>", desc := "()V" } : Jvm.MethodName)) ∈ lw_all := lw_g (lw_at lw_m6 56 rfl) rfl
theorem q1407 : (Jvm.Cond.fieldLink "MistCouriers" (40 : Nat) "MistCouriers" "now" "LMistCouriers$State;") ∈ lw_all := lw_g (lw_at lw_m6 57 rfl) rfl
theorem q1408 : (Jvm.Cond.fieldLink "MistCouriers" (16 : Nat) "MistCouriers" "undos" "Ljava/util/ArrayDeque;") ∈ lw_all := lw_g (lw_at lw_m6 58 rfl) rfl
theorem q1409 : (Jvm.Cond.fieldLink "MistCouriers" (24 : Nat) "MistCouriers" "saved" "[LMistCouriers$State;") ∈ lw_all := lw_g (lw_at lw_m6 59 rfl) rfl
theorem q1410 : (Jvm.Cond.fieldLink "MistCouriers" (28 : Nat) "MistCouriers" "refused" "[I") ∈ lw_all := lw_g (lw_at lw_m6 60 rfl) rfl
theorem q1412 : (Jvm.Cond.fieldLink "MistCouriers" (84 : Nat) "MistCouriers" "text" "[B") ∈ lw_all := lw_g (lw_at lw_m6 62 rfl) rfl
theorem q1414 : (Jvm.Cond.fieldLink "MistCouriers" (378 : Nat) "MistCouriers" "length" "I") ∈ lw_all := lw_g (lw_at lw_m6 64 rfl) rfl
theorem q1415 : (Jvm.Cond.fieldLink "MistCouriers" (384 : Nat) "MistCouriers" "errorCode" "I") ∈ lw_all := lw_g (lw_at lw_m6 65 rfl) rfl
theorem q1416 : (Jvm.Cond.fieldLink "MistCouriers" (88 : Nat) "MistCouriers" "errorPosition" "I") ∈ lw_all := lw_g (lw_at lw_m6 66 rfl) rfl
theorem q1417 : (Jvm.Cond.fieldLink "MistCouriers" (95 : Nat) "MistCouriers" "out" "Ljava/lang/StringBuilder;") ∈ lw_all := lw_g (lw_at lw_m6 67 rfl) rfl
theorem q1418 : (Jvm.Cond.lays "MistCouriers" "MistCouriers" "now" "LMistCouriers$State;") ∈ lw_all := lw_g (lw_at lw_m6 68 rfl) rfl
theorem q1419 : (Jvm.Cond.soleField "MistCouriers" "now") ∈ lw_all := lw_g (lw_at lw_m6 69 rfl) rfl
theorem q1420 : (Jvm.Cond.laysFinal "MistCouriers" "MistCouriers" "undos" "Ljava/util/ArrayDeque;") ∈ lw_all := lw_g (lw_at lw_m6 70 rfl) rfl
theorem q1421 : (Jvm.Cond.soleField "MistCouriers" "undos") ∈ lw_all := lw_g (lw_at lw_m6 71 rfl) rfl
theorem q1422 : (Jvm.Cond.laysFinal "MistCouriers" "MistCouriers" "saved" "[LMistCouriers$State;") ∈ lw_all := lw_g (lw_at lw_m6 72 rfl) rfl
theorem q1423 : (Jvm.Cond.soleField "MistCouriers" "saved") ∈ lw_all := lw_g (lw_at lw_m6 73 rfl) rfl
theorem q1424 : (Jvm.Cond.laysFinal "MistCouriers" "MistCouriers" "refused" "[I") ∈ lw_all := lw_g (lw_at lw_m6 74 rfl) rfl
theorem q1425 : (Jvm.Cond.soleField "MistCouriers" "refused") ∈ lw_all := lw_g (lw_at lw_m6 75 rfl) rfl
theorem q1426 : (Jvm.Cond.laysFinal "MistCouriers" "MistCouriers" "text" "[B") ∈ lw_all := lw_g (lw_at lw_m6 76 rfl) rfl
theorem q1427 : (Jvm.Cond.soleField "MistCouriers" "text") ∈ lw_all := lw_g (lw_at lw_m6 77 rfl) rfl
theorem q1428 : (Jvm.Cond.lays "MistCouriers" "MistCouriers" "length" "I") ∈ lw_all := lw_g (lw_at lw_m6 78 rfl) rfl
theorem q1429 : (Jvm.Cond.soleField "MistCouriers" "length") ∈ lw_all := lw_g (lw_at lw_m6 79 rfl) rfl
theorem q1430 : (Jvm.Cond.lays "MistCouriers" "MistCouriers" "errorCode" "I") ∈ lw_all := lw_g (lw_at lw_m6 80 rfl) rfl
theorem q1431 : (Jvm.Cond.soleField "MistCouriers" "errorCode") ∈ lw_all := lw_g (lw_at lw_m6 81 rfl) rfl
theorem q1432 : (Jvm.Cond.lays "MistCouriers" "MistCouriers" "errorPosition" "I") ∈ lw_all := lw_g (lw_at lw_m6 82 rfl) rfl
theorem q1433 : (Jvm.Cond.soleField "MistCouriers" "errorPosition") ∈ lw_all := lw_g (lw_at lw_m6 83 rfl) rfl
theorem q1434 : (Jvm.Cond.laysFinal "MistCouriers" "MistCouriers" "out" "Ljava/lang/StringBuilder;") ∈ lw_all := lw_g (lw_at lw_m6 84 rfl) rfl
theorem q1435 : (Jvm.Cond.soleField "MistCouriers" "out") ∈ lw_all := lw_g (lw_at lw_m6 85 rfl) rfl
theorem q1436 : (Jvm.Cond.superclass "MistCouriers" "java/lang/Object") ∈ lw_all := lw_g (lw_at lw_m6 86 rfl) rfl
theorem q1438 : (Jvm.Cond.instanceMethod ({ cls := "MistCouriers", name := "gap", desc := "()I" } : Jvm.MethodName)) ∈ lw_all := lw_g (lw_at lw_m6 88 rfl) rfl
theorem q1439 : (Jvm.Cond.selects "MistCouriers" ({ cls := "MistCouriers", name := "gap", desc := "()I" } : Jvm.MethodName) ({ cls := "MistCouriers", name := "gap", desc := "()I" } : Jvm.MethodName)) ∈ lw_all := lw_g (lw_at lw_m6 89 rfl) rfl
theorem q1440 : (Jvm.Cond.code ({ cls := "MistCouriers", name := "gap", desc := "()I" } : Jvm.MethodName) prog_1_method_28_code (4 : Nat) (Option.some Jvm.ClassFile.FieldType.int)) ∈ lw_all := lw_g (lw_at lw_m6 90 rfl) rfl
theorem q1441 : (Jvm.Cond.methodLink "MistCouriers" (132 : Nat) ({ cls := "java/util/ArrayList", name := "size", desc := "()I" } : Jvm.MethodName)) ∈ lw_all := lw_g (lw_at lw_m6 91 rfl) rfl
theorem q1442 : (Jvm.Cond.methodLink "MistCouriers" (144 : Nat) ({ cls := "MistCouriers$State", name := "lettersThat", desc := "(I)I" } : Jvm.MethodName)) ∈ lw_all := lw_g (lw_at lw_m6 92 rfl) rfl
theorem q1462 : (Jvm.Cond.static ({ cls := "MistCouriers", name := "one", desc := "(Z)I" } : Jvm.MethodName)) ∈ lw_all := lw_g (lw_at lw_m6 112 rfl) rfl
theorem q1463 : (Jvm.Cond.code ({ cls := "MistCouriers", name := "one", desc := "(Z)I" } : Jvm.MethodName) prog_1_method_2_code (1 : Nat) (Option.some Jvm.ClassFile.FieldType.int)) ∈ lw_all := lw_g (lw_at lw_m6 113 rfl) rfl
theorem q1488 : (Jvm.Cond.methodLink "MistCouriers" (184 : Nat) ({ cls := "MistCouriers", name := "lettersOn", desc := "(I)I" } : Jvm.MethodName)) ∈ lw_all := lw_g (lw_at lw_m6 138 rfl) rfl
theorem q1489 : (Jvm.Cond.privateMethod ({ cls := "MistCouriers", name := "lettersOn", desc := "(I)I" } : Jvm.MethodName)) ∈ lw_tbl := lw_at lw_m6 139 rfl
theorem q1490 : (Jvm.Cond.instanceMethod ({ cls := "MistCouriers", name := "lettersOn", desc := "(I)I" } : Jvm.MethodName)) ∈ lw_all := lw_g (lw_at lw_m6 140 rfl) rfl
theorem q1491 : (Jvm.Cond.code ({ cls := "MistCouriers", name := "lettersOn", desc := "(I)I" } : Jvm.MethodName) prog_1_method_10_code (4 : Nat) (Option.some Jvm.ClassFile.FieldType.int)) ∈ lw_all := lw_g (lw_at lw_m6 141 rfl) rfl
theorem q1492 : (Jvm.Cond.methodLink "MistCouriers" (155 : Nat) ({ cls := "java/util/ArrayList", name := "get", desc := "(I)Ljava/lang/Object;" } : Jvm.MethodName)) ∈ lw_all := lw_g (lw_at lw_m6 142 rfl) rfl
theorem q1493 : (Jvm.Cond.methodLink "MistCouriers" (162 : Nat) ({ cls := "MistCouriers$Letter", name := "liesOn", desc := "(I)Z" } : Jvm.MethodName)) ∈ lw_all := lw_g (lw_at lw_m6 143 rfl) rfl
theorem q1497 : (Jvm.Cond.methodLink "MistCouriers" (107 : Nat) ({ cls := "MistCouriers", name := "one", desc := "(Z)I" } : Jvm.MethodName)) ∈ lw_all := lw_g (lw_at lw_m6 147 rfl) rfl
theorem q1498 : (Jvm.Cond.methodLink "MistCouriers" (181 : Nat) ({ cls := "MistCouriers", name := "couriersOn", desc := "(I)I" } : Jvm.MethodName)) ∈ lw_all := lw_g (lw_at lw_m6 148 rfl) rfl
theorem q1499 : (Jvm.Cond.privateMethod ({ cls := "MistCouriers", name := "couriersOn", desc := "(I)I" } : Jvm.MethodName)) ∈ lw_tbl := lw_at lw_m6 149 rfl
theorem q1500 : (Jvm.Cond.instanceMethod ({ cls := "MistCouriers", name := "couriersOn", desc := "(I)I" } : Jvm.MethodName)) ∈ lw_all := lw_g (lw_at lw_m6 150 rfl) rfl
theorem q1501 : (Jvm.Cond.code ({ cls := "MistCouriers", name := "couriersOn", desc := "(I)I" } : Jvm.MethodName) prog_1_method_9_code (4 : Nat) (Option.some Jvm.ClassFile.FieldType.int)) ∈ lw_all := lw_g (lw_at lw_m6 151 rfl) rfl
theorem q1502 : (Jvm.Cond.methodLink "MistCouriers" (244 : Nat) ({ cls := "MistCouriers$State", name := "carriedBy", desc := "(I)I" } : Jvm.MethodName)) ∈ lw_all := lw_g (lw_at lw_m6 152 rfl) rfl
theorem q1510 : (Jvm.Cond.methodLink "MistCouriers" (308 : Nat) ({ cls := "java/lang/Math", name := "abs", desc := "(I)I" } : Jvm.MethodName)) ∈ lw_all := lw_g (lw_at lw_m6 160 rfl) rfl
theorem q1514 : (Jvm.Cond.instanceMethod ({ cls := "MistCouriers", name := "share", desc := "()F" } : Jvm.MethodName)) ∈ lw_all := lw_g (lw_at lw_m6 164 rfl) rfl
theorem q1515 : (Jvm.Cond.selects "MistCouriers" ({ cls := "MistCouriers", name := "share", desc := "()F" } : Jvm.MethodName) ({ cls := "MistCouriers", name := "share", desc := "()F" } : Jvm.MethodName)) ∈ lw_all := lw_g (lw_at lw_m6 165 rfl) rfl
theorem q1516 : (Jvm.Cond.code ({ cls := "MistCouriers", name := "share", desc := "()F" } : Jvm.MethodName) prog_1_method_29_code (1 : Nat) (Option.some Jvm.ClassFile.FieldType.float)) ∈ lw_all := lw_g (lw_at lw_m6 166 rfl) rfl
theorem q1517 : (Jvm.Cond.methodLink "MistCouriers" (311 : Nat) ({ cls := "java/util/ArrayList", name := "isEmpty", desc := "()Z" } : Jvm.MethodName)) ∈ lw_all := lw_g (lw_at lw_m6 167 rfl) rfl
theorem q1522 : (Jvm.Cond.instanceMethod ({ cls := "MistCouriers", name := "meanMist", desc := "()D" } : Jvm.MethodName)) ∈ lw_all := lw_g (lw_at lw_m6 172 rfl) rfl
theorem q1523 : (Jvm.Cond.selects "MistCouriers" ({ cls := "MistCouriers", name := "meanMist", desc := "()D" } : Jvm.MethodName) ({ cls := "MistCouriers", name := "meanMist", desc := "()D" } : Jvm.MethodName)) ∈ lw_all := lw_g (lw_at lw_m6 173 rfl) rfl
theorem q1524 : (Jvm.Cond.code ({ cls := "MistCouriers", name := "meanMist", desc := "()D" } : Jvm.MethodName) prog_1_method_30_code (4 : Nat) (Option.some Jvm.ClassFile.FieldType.double)) ∈ lw_all := lw_g (lw_at lw_m6 174 rfl) rfl
theorem q1525 : (Jvm.Cond.methodLink "MistCouriers" (129 : Nat) ({ cls := "MistCouriers", name := "walls", desc := "()I" } : Jvm.MethodName)) ∈ lw_all := lw_g (lw_at lw_m6 175 rfl) rfl
theorem q1526 : (Jvm.Cond.privateMethod ({ cls := "MistCouriers", name := "walls", desc := "()I" } : Jvm.MethodName)) ∈ lw_tbl := lw_at lw_m6 176 rfl
theorem q1527 : (Jvm.Cond.instanceMethod ({ cls := "MistCouriers", name := "walls", desc := "()I" } : Jvm.MethodName)) ∈ lw_all := lw_g (lw_at lw_m6 177 rfl) rfl
theorem q1528 : (Jvm.Cond.code ({ cls := "MistCouriers", name := "walls", desc := "()I" } : Jvm.MethodName) prog_1_method_6_code (6 : Nat) (Option.some Jvm.ClassFile.FieldType.int)) ∈ lw_all := lw_g (lw_at lw_m6 178 rfl) rfl
theorem q1529 : (Jvm.Cond.methodLink "MistCouriers" (175 : Nat) ({ cls := "MistCouriers$State", name := "mist", desc := "(I)I" } : Jvm.MethodName)) ∈ lw_all := lw_g (lw_at lw_m6 179 rfl) rfl
theorem q1558 : (Jvm.Cond.instanceMethod ({ cls := "MistCouriers", name := "load", desc := "()I" } : Jvm.MethodName)) ∈ lw_all := lw_g (lw_at lw_m6 208 rfl) rfl
theorem q1559 : (Jvm.Cond.selects "MistCouriers" ({ cls := "MistCouriers", name := "load", desc := "()I" } : Jvm.MethodName) ({ cls := "MistCouriers", name := "load", desc := "()I" } : Jvm.MethodName)) ∈ lw_all := lw_g (lw_at lw_m6 209 rfl) rfl
theorem q1560 : (Jvm.Cond.codeWith ({ cls := "MistCouriers", name := "load", desc := "()I" } : Jvm.MethodName) prog_1_method_51_code (5 : Nat) (Option.some Jvm.ClassFile.FieldType.int) [((7 : Nat), (40 : Nat), (47 : Nat), (401 : Nat)), ((7 : Nat), (40 : Nat), (68 : Nat), (0 : Nat)), ((47 : Nat), (61 : Nat), (68 : Nat), (0 : Nat)), ((68 : Nat), (70 : Nat), (68 : Nat), (0 : Nat))]) ∈ lw_all := lw_g (lw_at lw_m6 210 rfl) rfl
theorem q1561 : (Jvm.Cond.classLink "MistCouriers" (401 : Nat) "MistCouriers$Fault") ∈ lw_all := lw_g (lw_at lw_m6 211 rfl) rfl
theorem q1562 : (Jvm.Cond.methodLink "MistCouriers" (387 : Nat) ({ cls := "MistCouriers", name := "failed", desc := "(II)I" } : Jvm.MethodName)) ∈ lw_all := lw_g (lw_at lw_m6 212 rfl) rfl
theorem q1563 : (Jvm.Cond.privateMethod ({ cls := "MistCouriers", name := "failed", desc := "(II)I" } : Jvm.MethodName)) ∈ lw_tbl := lw_at lw_m6 213 rfl
theorem q1564 : (Jvm.Cond.instanceMethod ({ cls := "MistCouriers", name := "failed", desc := "(II)I" } : Jvm.MethodName)) ∈ lw_all := lw_g (lw_at lw_m6 214 rfl) rfl
theorem q1565 : (Jvm.Cond.code ({ cls := "MistCouriers", name := "failed", desc := "(II)I" } : Jvm.MethodName) prog_1_method_50_code (3 : Nat) (Option.some Jvm.ClassFile.FieldType.int)) ∈ lw_all := lw_g (lw_at lw_m6 215 rfl) rfl
theorem q1566 : (Jvm.Cond.classLink "MistCouriers" (390 : Nat) "MistCouriers$Parser") ∈ lw_all := lw_g (lw_at lw_m6 216 rfl) rfl
theorem q1568 : (Jvm.Cond.methodLinkNest "MistCouriers" (392 : Nat) ({ cls := "MistCouriers$Parser", name := "<init>", desc := "(LMistCouriers;)V" } : Jvm.MethodName) "MistCouriers") ∈ lw_tbl := lw_at lw_m6 218 rfl
theorem q1595 : (Jvm.Cond.methodLink "MistCouriers" (395 : Nat) ({ cls := "MistCouriers$Parser", name := "setup", desc := "()LMistCouriers$State;" } : Jvm.MethodName)) ∈ lw_all := lw_g (lw_at lw_m7 5 rfl) rfl
theorem q1614 : (Jvm.Cond.static ({ cls := "MistCouriers", name := "in", desc := "(III)Z" } : Jvm.MethodName)) ∈ lw_all := lw_g (lw_at lw_m7 24 rfl) rfl
theorem q1615 : (Jvm.Cond.code ({ cls := "MistCouriers", name := "in", desc := "(III)Z" } : Jvm.MethodName) prog_1_method_1_code (3 : Nat) (Option.some Jvm.ClassFile.FieldType.boolean)) ∈ lw_all := lw_g (lw_at lw_m7 25 rfl) rfl
theorem q1683 : (Jvm.Cond.fieldLinkNest "MistCouriers" (403 : Nat) "MistCouriers$Fault" "code" "I" "MistCouriers") ∈ lw_tbl := lw_at lw_m7 93 rfl
theorem q1685 : (Jvm.Cond.fieldLinkNest "MistCouriers" (406 : Nat) "MistCouriers$Fault" "position" "I" "MistCouriers") ∈ lw_tbl := lw_at lw_m7 95 rfl
theorem q1752 : (Jvm.Cond.methodLink "MistCouriers" (398 : Nat) ({ cls := "java/util/ArrayDeque", name := "clear", desc := "()V" } : Jvm.MethodName)) ∈ lw_all := lw_g (lw_at lw_m7 162 rfl) rfl
theorem q1760 : (Jvm.Cond.instanceMethod ({ cls := "MistCouriers", name := "play", desc := "()I" } : Jvm.MethodName)) ∈ lw_all := lw_g (lw_at lw_m7 170 rfl) rfl
theorem q1761 : (Jvm.Cond.selects "MistCouriers" ({ cls := "MistCouriers", name := "play", desc := "()I" } : Jvm.MethodName) ({ cls := "MistCouriers", name := "play", desc := "()I" } : Jvm.MethodName)) ∈ lw_all := lw_g (lw_at lw_m7 171 rfl) rfl
theorem q1762 : (Jvm.Cond.codeWith ({ cls := "MistCouriers", name := "play", desc := "()I" } : Jvm.MethodName) prog_1_method_52_code (6 : Nat) (Option.some Jvm.ClassFile.FieldType.int) [((7 : Nat), (19 : Nat), (27 : Nat), (401 : Nat)), ((7 : Nat), (19 : Nat), (50 : Nat), (0 : Nat)), ((27 : Nat), (42 : Nat), (50 : Nat), (0 : Nat)), ((50 : Nat), (52 : Nat), (50 : Nat), (0 : Nat))]) ∈ lw_all := lw_g (lw_at lw_m7 172 rfl) rfl
theorem q1763 : (Jvm.Cond.methodLink "MistCouriers" (409 : Nat) ({ cls := "MistCouriers$Parser", name := "script", desc := "()Ljava/util/ArrayDeque;" } : Jvm.MethodName)) ∈ lw_all := lw_g (lw_at lw_m7 173 rfl) rfl
theorem q1851 : (Jvm.Cond.methodLink "MistCouriers" (413 : Nat) ({ cls := "java/util/ArrayDeque", name := "isEmpty", desc := "()Z" } : Jvm.MethodName)) ∈ lw_all := lw_g (lw_at lw_m8 21 rfl) rfl
theorem q1855 : (Jvm.Cond.methodLink "MistCouriers" (349 : Nat) ({ cls := "java/util/ArrayDeque", name := "pollFirst", desc := "()Ljava/lang/Object;" } : Jvm.MethodName)) ∈ lw_all := lw_g (lw_at lw_m8 25 rfl) rfl
theorem q1862 : (Jvm.Cond.classLink "MistCouriers" (357 : Nat) "MistCouriers$Command") ∈ lw_all := lw_g (lw_at lw_m8 32 rfl) rfl
theorem q1863 : (Jvm.Cond.methodLink "MistCouriers" (414 : Nat) ({ cls := "MistCouriers", name := "isPlayed", desc := "(LMistCouriers$Command;)Z" } : Jvm.MethodName)) ∈ lw_all := lw_g (lw_at lw_m8 33 rfl) rfl
theorem q1864 : (Jvm.Cond.privateMethod ({ cls := "MistCouriers", name := "isPlayed", desc := "(LMistCouriers$Command;)Z" } : Jvm.MethodName)) ∈ lw_tbl := lw_at lw_m8 34 rfl
theorem q1865 : (Jvm.Cond.instanceMethod ({ cls := "MistCouriers", name := "isPlayed", desc := "(LMistCouriers$Command;)Z" } : Jvm.MethodName)) ∈ lw_all := lw_g (lw_at lw_m8 35 rfl) rfl
theorem q1866 : (Jvm.Cond.codeWith ({ cls := "MistCouriers", name := "isPlayed", desc := "(LMistCouriers$Command;)Z" } : Jvm.MethodName) prog_1_method_49_code (3 : Nat) (Option.some Jvm.ClassFile.FieldType.boolean) [((0 : Nat), (13 : Nat), (14 : Nat), (7 : Nat)), ((0 : Nat), (13 : Nat), (14 : Nat), (1 : Nat))]) ∈ lw_all := lw_g (lw_at lw_m8 36 rfl) rfl
theorem q1867 : (Jvm.Cond.classLink "MistCouriers" (7 : Nat) "java/lang/IndexOutOfBoundsException") ∈ lw_all := lw_g (lw_at lw_m8 37 rfl) rfl
theorem q1886 : (Jvm.Cond.classLink "MistCouriers" (1 : Nat) "java/lang/IllegalArgumentException") ∈ lw_all := lw_g (lw_at lw_m8 56 rfl) rfl
theorem q1887 : (Jvm.Cond.methodLink "MistCouriers" (362 : Nat) ({ cls := "MistCouriers", name := "acts", desc := "(LMistCouriers$Command;)I" } : Jvm.MethodName)) ∈ lw_all := lw_g (lw_at lw_m8 57 rfl) rfl
theorem q1888 : (Jvm.Cond.privateMethod ({ cls := "MistCouriers", name := "acts", desc := "(LMistCouriers$Command;)I" } : Jvm.MethodName)) ∈ lw_tbl := lw_at lw_m8 58 rfl
theorem q1889 : (Jvm.Cond.instanceMethod ({ cls := "MistCouriers", name := "acts", desc := "(LMistCouriers$Command;)I" } : Jvm.MethodName)) ∈ lw_all := lw_g (lw_at lw_m8 59 rfl) rfl
theorem q1890 : (Jvm.Cond.code ({ cls := "MistCouriers", name := "acts", desc := "(LMistCouriers$Command;)I" } : Jvm.MethodName) prog_1_method_39_code (5 : Nat) (Option.some Jvm.ClassFile.FieldType.int)) ∈ lw_all := lw_g (lw_at lw_m8 60 rfl) rfl
theorem q1891 : (Jvm.Cond.methodLink "MistCouriers" (315 : Nat) ({ cls := "MistCouriers$State", name := "twin", desc := "()LMistCouriers$State;" } : Jvm.MethodName)) ∈ lw_all := lw_g (lw_at lw_m8 61 rfl) rfl
theorem q1926 : (Jvm.Cond.methodLink "MistCouriers" (345 : Nat) ({ cls := "MistCouriers$State", name := "act", desc := "(LMistCouriers$Command;)I" } : Jvm.MethodName)) ∈ lw_all := lw_g (lw_at lw_m8 96 rfl) rfl
theorem q1946 : (Jvm.Cond.static ({ cls := "MistCouriers", name := "requireIndex", desc := "(Z)V" } : Jvm.MethodName)) ∈ lw_all := lw_g (lw_at lw_m8 116 rfl) rfl
theorem q1947 : (Jvm.Cond.code ({ cls := "MistCouriers", name := "requireIndex", desc := "(Z)V" } : Jvm.MethodName) prog_1_method_4_code (1 : Nat) (Option.none : Option Jvm.ClassFile.FieldType)) ∈ lw_all := lw_g (lw_at lw_m8 117 rfl) rfl
theorem q1956 : (Jvm.Cond.methodLink "MistCouriers" (9 : Nat) ({ cls := "java/lang/IndexOutOfBoundsException", name := "<init>", desc := "()V" } : Jvm.MethodName)) ∈ lw_all := lw_g (lw_at lw_m8 126 rfl) rfl
theorem q1972 : (Jvm.Cond.static ({ cls := "MistCouriers", name := "requireArgument", desc := "(Z)V" } : Jvm.MethodName)) ∈ lw_all := lw_g (lw_at lw_m8 142 rfl) rfl
theorem q1973 : (Jvm.Cond.code ({ cls := "MistCouriers", name := "requireArgument", desc := "(Z)V" } : Jvm.MethodName) prog_1_method_3_code (1 : Nat) (Option.none : Option Jvm.ClassFile.FieldType)) ∈ lw_all := lw_g (lw_at lw_m8 143 rfl) rfl
theorem q1974 : (Jvm.Cond.methodLink "MistCouriers" (3 : Nat) ({ cls := "java/lang/IllegalArgumentException", name := "<init>", desc := "()V" } : Jvm.MethodName)) ∈ lw_all := lw_g (lw_at lw_m8 144 rfl) rfl
theorem q2062 : (Jvm.Cond.methodLink "MistCouriers" (151 : Nat) ({ cls := "java/util/ArrayDeque", name := "size", desc := "()I" } : Jvm.MethodName)) ∈ lw_all := lw_g (lw_at lw_m8 232 rfl) rfl
theorem q2063 : (Jvm.Cond.methodLink "MistCouriers" (353 : Nat) ({ cls := "java/util/ArrayDeque", name := "addLast", desc := "(Ljava/lang/Object;)V" } : Jvm.MethodName)) ∈ lw_all := lw_g (lw_at lw_m8 233 rfl) rfl
theorem q2065 : (Jvm.Cond.instanceMethod ({ cls := "MistCouriers", name := "errorCode", desc := "()I" } : Jvm.MethodName)) ∈ lw_all := lw_g (lw_at lw_m8 235 rfl) rfl
theorem q2066 : (Jvm.Cond.selects "MistCouriers" ({ cls := "MistCouriers", name := "errorCode", desc := "()I" } : Jvm.MethodName) ({ cls := "MistCouriers", name := "errorCode", desc := "()I" } : Jvm.MethodName)) ∈ lw_all := lw_g (lw_at lw_m8 236 rfl) rfl
theorem q2067 : (Jvm.Cond.code ({ cls := "MistCouriers", name := "errorCode", desc := "()I" } : Jvm.MethodName) prog_1_method_53_code (1 : Nat) (Option.some Jvm.ClassFile.FieldType.int)) ∈ lw_all := lw_g (lw_at lw_m8 237 rfl) rfl
theorem q2069 : (Jvm.Cond.instanceMethod ({ cls := "MistCouriers", name := "errorPosition", desc := "()I" } : Jvm.MethodName)) ∈ lw_all := lw_g (lw_at lw_m8 239 rfl) rfl
theorem q2070 : (Jvm.Cond.selects "MistCouriers" ({ cls := "MistCouriers", name := "errorPosition", desc := "()I" } : Jvm.MethodName) ({ cls := "MistCouriers", name := "errorPosition", desc := "()I" } : Jvm.MethodName)) ∈ lw_all := lw_g (lw_at lw_m9 0 rfl) rfl
theorem q2071 : (Jvm.Cond.code ({ cls := "MistCouriers", name := "errorPosition", desc := "()I" } : Jvm.MethodName) prog_1_method_54_code (1 : Nat) (Option.some Jvm.ClassFile.FieldType.int)) ∈ lw_all := lw_g (lw_at lw_m9 1 rfl) rfl
theorem q2073 : (Jvm.Cond.instanceMethod ({ cls := "MistCouriers", name := "output", desc := "(I)I" } : Jvm.MethodName)) ∈ lw_all := lw_g (lw_at lw_m9 3 rfl) rfl
theorem q2074 : (Jvm.Cond.selects "MistCouriers" ({ cls := "MistCouriers", name := "output", desc := "(I)I" } : Jvm.MethodName) ({ cls := "MistCouriers", name := "output", desc := "(I)I" } : Jvm.MethodName)) ∈ lw_all := lw_g (lw_at lw_m9 4 rfl) rfl
theorem q2075 : (Jvm.Cond.code ({ cls := "MistCouriers", name := "output", desc := "(I)I" } : Jvm.MethodName) prog_1_method_58_code (2 : Nat) (Option.some Jvm.ClassFile.FieldType.int)) ∈ lw_all := lw_g (lw_at lw_m9 5 rfl) rfl
theorem q2076 : (Jvm.Cond.methodLink "MistCouriers" (435 : Nat) ({ cls := "java/lang/StringBuilder", name := "length", desc := "()I" } : Jvm.MethodName)) ∈ lw_all := lw_g (lw_at lw_m9 6 rfl) rfl
theorem q2077 : (Jvm.Cond.methodLink "MistCouriers" (111 : Nat) ({ cls := "MistCouriers", name := "in", desc := "(III)Z" } : Jvm.MethodName)) ∈ lw_all := lw_g (lw_at lw_m9 7 rfl) rfl
theorem q2078 : (Jvm.Cond.methodLink "MistCouriers" (437 : Nat) ({ cls := "java/lang/StringBuilder", name := "charAt", desc := "(I)C" } : Jvm.MethodName)) ∈ lw_all := lw_g (lw_at lw_m9 8 rfl) rfl
theorem q2089 : (Jvm.Cond.instanceMethod ({ cls := "MistCouriers", name := "undo", desc := "()I" } : Jvm.MethodName)) ∈ lw_all := lw_g (lw_at lw_m9 19 rfl) rfl
theorem q2090 : (Jvm.Cond.selects "MistCouriers" ({ cls := "MistCouriers", name := "undo", desc := "()I" } : Jvm.MethodName) ({ cls := "MistCouriers", name := "undo", desc := "()I" } : Jvm.MethodName)) ∈ lw_all := lw_g (lw_at lw_m9 20 rfl) rfl
theorem q2091 : (Jvm.Cond.code ({ cls := "MistCouriers", name := "undo", desc := "()I" } : Jvm.MethodName) prog_1_method_59_code (1 : Nat) (Option.some Jvm.ClassFile.FieldType.int)) ∈ lw_all := lw_g (lw_at lw_m9 21 rfl) rfl
theorem q2092 : (Jvm.Cond.methodLink "MistCouriers" (440 : Nat) ({ cls := "java/util/ArrayDeque", name := "pollLast", desc := "()Ljava/lang/Object;" } : Jvm.MethodName)) ∈ lw_all := lw_g (lw_at lw_m9 22 rfl) rfl
theorem q2104 : (Jvm.Cond.instanceMethod ({ cls := "MistCouriers", name := "appendText", desc := "(I)I" } : Jvm.MethodName)) ∈ lw_all := lw_g (lw_at lw_m9 34 rfl) rfl
theorem q2105 : (Jvm.Cond.selects "MistCouriers" ({ cls := "MistCouriers", name := "appendText", desc := "(I)I" } : Jvm.MethodName) ({ cls := "MistCouriers", name := "appendText", desc := "(I)I" } : Jvm.MethodName)) ∈ lw_all := lw_g (lw_at lw_m9 35 rfl) rfl
theorem q2106 : (Jvm.Cond.code ({ cls := "MistCouriers", name := "appendText", desc := "(I)I" } : Jvm.MethodName) prog_1_method_47_code (3 : Nat) (Option.some Jvm.ClassFile.FieldType.int)) ∈ lw_all := lw_g (lw_at lw_m9 36 rfl) rfl
theorem q2107 : (Jvm.Cond.classLink "MistCouriers" (381 : Nat) "java/lang/IllegalStateException") ∈ lw_all := lw_g (lw_at lw_m9 37 rfl) rfl
theorem q2108 : (Jvm.Cond.methodLink "MistCouriers" (383 : Nat) ({ cls := "java/lang/IllegalStateException", name := "<init>", desc := "()V" } : Jvm.MethodName)) ∈ lw_all := lw_g (lw_at lw_m9 38 rfl) rfl
theorem q2117 : (Jvm.Cond.instanceMethod ({ cls := "MistCouriers", name := "truncateText", desc := "(I)I" } : Jvm.MethodName)) ∈ lw_all := lw_g (lw_at lw_m9 47 rfl) rfl
theorem q2118 : (Jvm.Cond.selects "MistCouriers" ({ cls := "MistCouriers", name := "truncateText", desc := "(I)I" } : Jvm.MethodName) ({ cls := "MistCouriers", name := "truncateText", desc := "(I)I" } : Jvm.MethodName)) ∈ lw_all := lw_g (lw_at lw_m9 48 rfl) rfl
theorem q2119 : (Jvm.Cond.code ({ cls := "MistCouriers", name := "truncateText", desc := "(I)I" } : Jvm.MethodName) prog_1_method_48_code (2 : Nat) (Option.some Jvm.ClassFile.FieldType.int)) ∈ lw_all := lw_g (lw_at lw_m9 49 rfl) rfl
theorem q2120 : (Jvm.Cond.methodLink "MistCouriers" (115 : Nat) ({ cls := "MistCouriers", name := "requireArgument", desc := "(Z)V" } : Jvm.MethodName)) ∈ lw_all := lw_g (lw_at lw_m9 50 rfl) rfl
theorem q2125 : (Jvm.Cond.instanceMethod ({ cls := "MistCouriers", name := "total", desc := "(I)I" } : Jvm.MethodName)) ∈ lw_all := lw_g (lw_at lw_m9 55 rfl) rfl
theorem q2126 : (Jvm.Cond.selects "MistCouriers" ({ cls := "MistCouriers", name := "total", desc := "(I)I" } : Jvm.MethodName) ({ cls := "MistCouriers", name := "total", desc := "(I)I" } : Jvm.MethodName)) ∈ lw_all := lw_g (lw_at lw_m9 56 rfl) rfl
theorem q2127 : (Jvm.Cond.code ({ cls := "MistCouriers", name := "total", desc := "(I)I" } : Jvm.MethodName) prog_1_method_7_code (2 : Nat) (Option.some Jvm.ClassFile.FieldType.int)) ∈ lw_all := lw_g (lw_at lw_m9 57 rfl) rfl
theorem q2128 : (Jvm.Cond.methodLink "MistCouriers" (148 : Nat) ({ cls := "MistCouriers$State", name := "allSeen", desc := "()I" } : Jvm.MethodName)) ∈ lw_all := lw_g (lw_at lw_m9 58 rfl) rfl
theorem q2136 : (Jvm.Cond.instanceMethod ({ cls := "MistCouriers", name := "tally", desc := "(I)I" } : Jvm.MethodName)) ∈ lw_all := lw_g (lw_at lw_m9 66 rfl) rfl
theorem q2137 : (Jvm.Cond.selects "MistCouriers" ({ cls := "MistCouriers", name := "tally", desc := "(I)I" } : Jvm.MethodName) ({ cls := "MistCouriers", name := "tally", desc := "(I)I" } : Jvm.MethodName)) ∈ lw_all := lw_g (lw_at lw_m9 67 rfl) rfl
theorem q2138 : (Jvm.Cond.code ({ cls := "MistCouriers", name := "tally", desc := "(I)I" } : Jvm.MethodName) prog_1_method_8_code (2 : Nat) (Option.some Jvm.ClassFile.FieldType.int)) ∈ lw_all := lw_g (lw_at lw_m9 68 rfl) rfl
theorem q2144 : (Jvm.Cond.instanceMethod ({ cls := "MistCouriers", name := "cell", desc := "(II)I" } : Jvm.MethodName)) ∈ lw_all := lw_g (lw_at lw_m9 74 rfl) rfl
theorem q2145 : (Jvm.Cond.selects "MistCouriers" ({ cls := "MistCouriers", name := "cell", desc := "(II)I" } : Jvm.MethodName) ({ cls := "MistCouriers", name := "cell", desc := "(II)I" } : Jvm.MethodName)) ∈ lw_all := lw_g (lw_at lw_m9 75 rfl) rfl
theorem q2146 : (Jvm.Cond.code ({ cls := "MistCouriers", name := "cell", desc := "(II)I" } : Jvm.MethodName) prog_1_method_12_code (3 : Nat) (Option.some Jvm.ClassFile.FieldType.int)) ∈ lw_all := lw_g (lw_at lw_m9 76 rfl) rfl
theorem q2147 : (Jvm.Cond.methodLink "MistCouriers" (172 : Nat) ({ cls := "MistCouriers$State", name := "requireCell", desc := "(I)V" } : Jvm.MethodName)) ∈ lw_all := lw_g (lw_at lw_m9 77 rfl) rfl
theorem q2151 : (Jvm.Cond.methodLink "MistCouriers" (178 : Nat) ({ cls := "MistCouriers$State", name := "seers", desc := "(I)I" } : Jvm.MethodName)) ∈ lw_all := lw_g (lw_at lw_m9 81 rfl) rfl
theorem q2152 : (Jvm.Cond.methodLink "MistCouriers" (187 : Nat) ({ cls := "MistCouriers", name := "lettersFor", desc := "(I)I" } : Jvm.MethodName)) ∈ lw_all := lw_g (lw_at lw_m9 82 rfl) rfl
theorem q2153 : (Jvm.Cond.privateMethod ({ cls := "MistCouriers", name := "lettersFor", desc := "(I)I" } : Jvm.MethodName)) ∈ lw_tbl := lw_at lw_m9 83 rfl
theorem q2154 : (Jvm.Cond.instanceMethod ({ cls := "MistCouriers", name := "lettersFor", desc := "(I)I" } : Jvm.MethodName)) ∈ lw_all := lw_g (lw_at lw_m9 84 rfl) rfl
theorem q2155 : (Jvm.Cond.code ({ cls := "MistCouriers", name := "lettersFor", desc := "(I)I" } : Jvm.MethodName) prog_1_method_11_code (4 : Nat) (Option.some Jvm.ClassFile.FieldType.int)) ∈ lw_all := lw_g (lw_at lw_m9 85 rfl) rfl
theorem q2160 : (Jvm.Cond.instanceMethod ({ cls := "MistCouriers", name := "bank", desc := "(II)I" } : Jvm.MethodName)) ∈ lw_all := lw_g (lw_at lw_m9 90 rfl) rfl
theorem q2161 : (Jvm.Cond.selects "MistCouriers" ({ cls := "MistCouriers", name := "bank", desc := "(II)I" } : Jvm.MethodName) ({ cls := "MistCouriers", name := "bank", desc := "(II)I" } : Jvm.MethodName)) ∈ lw_all := lw_g (lw_at lw_m9 91 rfl) rfl
theorem q2162 : (Jvm.Cond.code ({ cls := "MistCouriers", name := "bank", desc := "(II)I" } : Jvm.MethodName) prog_1_method_13_code (4 : Nat) (Option.some Jvm.ClassFile.FieldType.int)) ∈ lw_all := lw_g (lw_at lw_m9 92 rfl) rfl
theorem q2163 : (Jvm.Cond.methodLink "MistCouriers" (190 : Nat) ({ cls := "MistCouriers", name := "requireIndex", desc := "(Z)V" } : Jvm.MethodName)) ∈ lw_all := lw_g (lw_at lw_m9 93 rfl) rfl
theorem q2168 : (Jvm.Cond.instanceMethod ({ cls := "MistCouriers", name := "watcher", desc := "(II)I" } : Jvm.MethodName)) ∈ lw_all := lw_g (lw_at lw_m9 98 rfl) rfl
theorem q2169 : (Jvm.Cond.selects "MistCouriers" ({ cls := "MistCouriers", name := "watcher", desc := "(II)I" } : Jvm.MethodName) ({ cls := "MistCouriers", name := "watcher", desc := "(II)I" } : Jvm.MethodName)) ∈ lw_all := lw_g (lw_at lw_m9 99 rfl) rfl
theorem q2170 : (Jvm.Cond.code ({ cls := "MistCouriers", name := "watcher", desc := "(II)I" } : Jvm.MethodName) prog_1_method_18_code (4 : Nat) (Option.some Jvm.ClassFile.FieldType.int)) ∈ lw_all := lw_g (lw_at lw_m9 100 rfl) rfl
theorem q2171 : (Jvm.Cond.methodLink "MistCouriers" (217 : Nat) ({ cls := "MistCouriers", name := "aWatcher", desc := "(I)LMistCouriers$Watcher;" } : Jvm.MethodName)) ∈ lw_all := lw_g (lw_at lw_m9 101 rfl) rfl
theorem q2172 : (Jvm.Cond.privateMethod ({ cls := "MistCouriers", name := "aWatcher", desc := "(I)LMistCouriers$Watcher;" } : Jvm.MethodName)) ∈ lw_tbl := lw_at lw_m9 102 rfl
theorem q2173 : (Jvm.Cond.instanceMethod ({ cls := "MistCouriers", name := "aWatcher", desc := "(I)LMistCouriers$Watcher;" } : Jvm.MethodName)) ∈ lw_all := lw_g (lw_at lw_m9 103 rfl) rfl
theorem q2174 : (Jvm.Cond.code ({ cls := "MistCouriers", name := "aWatcher", desc := "(I)LMistCouriers$Watcher;" } : Jvm.MethodName) prog_1_method_14_code (2 : Nat) (Option.some (Jvm.ClassFile.FieldType.object "MistCouriers$Watcher"))) ∈ lw_all := lw_g (lw_at lw_m9 104 rfl) rfl
theorem q2175 : (Jvm.Cond.classLink "MistCouriers" (203 : Nat) "MistCouriers$Watcher") ∈ lw_all := lw_g (lw_at lw_m9 105 rfl) rfl
theorem q2176 : (Jvm.Cond.methodLink "MistCouriers" (209 : Nat) ({ cls := "MistCouriers", name := "seenBy", desc := "(LMistCouriers$Watcher;)I" } : Jvm.MethodName)) ∈ lw_all := lw_g (lw_at lw_m9 106 rfl) rfl
theorem q2177 : (Jvm.Cond.privateMethod ({ cls := "MistCouriers", name := "seenBy", desc := "(LMistCouriers$Watcher;)I" } : Jvm.MethodName)) ∈ lw_tbl := lw_at lw_m9 107 rfl
theorem q2178 : (Jvm.Cond.instanceMethod ({ cls := "MistCouriers", name := "seenBy", desc := "(LMistCouriers$Watcher;)I" } : Jvm.MethodName)) ∈ lw_all := lw_g (lw_at lw_m9 108 rfl) rfl
theorem q2179 : (Jvm.Cond.code ({ cls := "MistCouriers", name := "seenBy", desc := "(LMistCouriers$Watcher;)I" } : Jvm.MethodName) prog_1_method_15_code (4 : Nat) (Option.some Jvm.ClassFile.FieldType.int)) ∈ lw_all := lw_g (lw_at lw_m9 109 rfl) rfl
theorem q2180 : (Jvm.Cond.methodLink "MistCouriers" (205 : Nat) ({ cls := "MistCouriers$State", name := "sees", desc := "(LMistCouriers$Watcher;I)Z" } : Jvm.MethodName)) ∈ lw_all := lw_g (lw_at lw_m9 110 rfl) rfl
theorem q2181 : (Jvm.Cond.methodLink "MistCouriers" (231 : Nat) ({ cls := "MistCouriers", name := "couriersBefore", desc := "(LMistCouriers$Watcher;)I" } : Jvm.MethodName)) ∈ lw_all := lw_g (lw_at lw_m9 111 rfl) rfl
theorem q2182 : (Jvm.Cond.privateMethod ({ cls := "MistCouriers", name := "couriersBefore", desc := "(LMistCouriers$Watcher;)I" } : Jvm.MethodName)) ∈ lw_tbl := lw_at lw_m9 112 rfl
theorem q2183 : (Jvm.Cond.instanceMethod ({ cls := "MistCouriers", name := "couriersBefore", desc := "(LMistCouriers$Watcher;)I" } : Jvm.MethodName)) ∈ lw_all := lw_g (lw_at lw_m9 113 rfl) rfl
theorem q2184 : (Jvm.Cond.code ({ cls := "MistCouriers", name := "couriersBefore", desc := "(LMistCouriers$Watcher;)I" } : Jvm.MethodName) prog_1_method_16_code (4 : Nat) (Option.some Jvm.ClassFile.FieldType.int)) ∈ lw_all := lw_g (lw_at lw_m9 114 rfl) rfl
theorem q2185 : (Jvm.Cond.methodLink "MistCouriers" (234 : Nat) ({ cls := "MistCouriers", name := "farthest", desc := "(LMistCouriers$Watcher;)I" } : Jvm.MethodName)) ∈ lw_all := lw_g (lw_at lw_m9 115 rfl) rfl
theorem q2186 : (Jvm.Cond.privateMethod ({ cls := "MistCouriers", name := "farthest", desc := "(LMistCouriers$Watcher;)I" } : Jvm.MethodName)) ∈ lw_tbl := lw_at lw_m9 116 rfl
theorem q2187 : (Jvm.Cond.instanceMethod ({ cls := "MistCouriers", name := "farthest", desc := "(LMistCouriers$Watcher;)I" } : Jvm.MethodName)) ∈ lw_all := lw_g (lw_at lw_m9 117 rfl) rfl
theorem q2188 : (Jvm.Cond.code ({ cls := "MistCouriers", name := "farthest", desc := "(LMistCouriers$Watcher;)I" } : Jvm.MethodName) prog_1_method_17_code (2 : Nat) (Option.some Jvm.ClassFile.FieldType.int)) ∈ lw_all := lw_g (lw_at lw_m9 118 rfl) rfl
theorem q2189 : (Jvm.Cond.methodLink "MistCouriers" (213 : Nat) ({ cls := "MistCouriers$State", name := "gaze", desc := "(LMistCouriers$Watcher;I)I" } : Jvm.MethodName)) ∈ lw_all := lw_g (lw_at lw_m9 119 rfl) rfl
theorem q2197 : (Jvm.Cond.instanceMethod ({ cls := "MistCouriers", name := "courier", desc := "(II)I" } : Jvm.MethodName)) ∈ lw_all := lw_g (lw_at lw_m9 127 rfl) rfl
theorem q2198 : (Jvm.Cond.selects "MistCouriers" ({ cls := "MistCouriers", name := "courier", desc := "(II)I" } : Jvm.MethodName) ({ cls := "MistCouriers", name := "courier", desc := "(II)I" } : Jvm.MethodName)) ∈ lw_all := lw_g (lw_at lw_m9 128 rfl) rfl
theorem q2199 : (Jvm.Cond.code ({ cls := "MistCouriers", name := "courier", desc := "(II)I" } : Jvm.MethodName) prog_1_method_19_code (4 : Nat) (Option.some Jvm.ClassFile.FieldType.int)) ∈ lw_all := lw_g (lw_at lw_m9 129 rfl) rfl
theorem q2200 : (Jvm.Cond.methodLink "MistCouriers" (237 : Nat) ({ cls := "MistCouriers$State", name := "aCourier", desc := "(I)LMistCouriers$Courier;" } : Jvm.MethodName)) ∈ lw_all := lw_g (lw_at lw_m9 130 rfl) rfl
theorem q2201 : (Jvm.Cond.methodLink "MistCouriers" (251 : Nat) ({ cls := "MistCouriers$State", name := "isSeen", desc := "(I)Z" } : Jvm.MethodName)) ∈ lw_all := lw_g (lw_at lw_m9 131 rfl) rfl
theorem q2206 : (Jvm.Cond.instanceMethod ({ cls := "MistCouriers", name := "letter", desc := "(II)I" } : Jvm.MethodName)) ∈ lw_all := lw_g (lw_at lw_m9 136 rfl) rfl
theorem q2207 : (Jvm.Cond.selects "MistCouriers" ({ cls := "MistCouriers", name := "letter", desc := "(II)I" } : Jvm.MethodName) ({ cls := "MistCouriers", name := "letter", desc := "(II)I" } : Jvm.MethodName)) ∈ lw_all := lw_g (lw_at lw_m9 137 rfl) rfl
theorem q2208 : (Jvm.Cond.code ({ cls := "MistCouriers", name := "letter", desc := "(II)I" } : Jvm.MethodName) prog_1_method_21_code (4 : Nat) (Option.some Jvm.ClassFile.FieldType.int)) ∈ lw_all := lw_g (lw_at lw_m9 138 rfl) rfl
theorem q2209 : (Jvm.Cond.methodLink "MistCouriers" (269 : Nat) ({ cls := "MistCouriers$State", name := "aLetter", desc := "(I)LMistCouriers$Letter;" } : Jvm.MethodName)) ∈ lw_all := lw_g (lw_at lw_m9 139 rfl) rfl
theorem q2210 : (Jvm.Cond.methodLink "MistCouriers" (276 : Nat) ({ cls := "MistCouriers", name := "placeOf", desc := "(LMistCouriers$Letter;)I" } : Jvm.MethodName)) ∈ lw_all := lw_g (lw_at lw_m9 140 rfl) rfl
theorem q2211 : (Jvm.Cond.privateMethod ({ cls := "MistCouriers", name := "placeOf", desc := "(LMistCouriers$Letter;)I" } : Jvm.MethodName)) ∈ lw_tbl := lw_at lw_m9 141 rfl
theorem q2212 : (Jvm.Cond.instanceMethod ({ cls := "MistCouriers", name := "placeOf", desc := "(LMistCouriers$Letter;)I" } : Jvm.MethodName)) ∈ lw_all := lw_g (lw_at lw_m9 142 rfl) rfl
theorem q2213 : (Jvm.Cond.code ({ cls := "MistCouriers", name := "placeOf", desc := "(LMistCouriers$Letter;)I" } : Jvm.MethodName) prog_1_method_20_code (2 : Nat) (Option.some Jvm.ClassFile.FieldType.int)) ∈ lw_all := lw_g (lw_at lw_m9 143 rfl) rfl
theorem q2218 : (Jvm.Cond.instanceMethod ({ cls := "MistCouriers", name := "gaze", desc := "(II)I" } : Jvm.MethodName)) ∈ lw_all := lw_g (lw_at lw_m9 148 rfl) rfl
theorem q2219 : (Jvm.Cond.selects "MistCouriers" ({ cls := "MistCouriers", name := "gaze", desc := "(II)I" } : Jvm.MethodName) ({ cls := "MistCouriers", name := "gaze", desc := "(II)I" } : Jvm.MethodName)) ∈ lw_all := lw_g (lw_at lw_m9 149 rfl) rfl
theorem q2220 : (Jvm.Cond.code ({ cls := "MistCouriers", name := "gaze", desc := "(II)I" } : Jvm.MethodName) prog_1_method_22_code (4 : Nat) (Option.some Jvm.ClassFile.FieldType.int)) ∈ lw_all := lw_g (lw_at lw_m9 150 rfl) rfl
theorem q2221 : (Jvm.Cond.methodLink "MistCouriers" (283 : Nat) ({ cls := "java/lang/Math", name := "min", desc := "(II)I" } : Jvm.MethodName)) ∈ lw_all := lw_g (lw_at lw_m9 151 rfl) rfl
theorem q2226 : (Jvm.Cond.instanceMethod ({ cls := "MistCouriers", name := "why", desc := "(II)I" } : Jvm.MethodName)) ∈ lw_all := lw_g (lw_at lw_m9 156 rfl) rfl
theorem q2227 : (Jvm.Cond.selects "MistCouriers" ({ cls := "MistCouriers", name := "why", desc := "(II)I" } : Jvm.MethodName) ({ cls := "MistCouriers", name := "why", desc := "(II)I" } : Jvm.MethodName)) ∈ lw_all := lw_g (lw_at lw_m9 157 rfl) rfl
theorem q2228 : (Jvm.Cond.code ({ cls := "MistCouriers", name := "why", desc := "(II)I" } : Jvm.MethodName) prog_1_method_27_code (4 : Nat) (Option.some Jvm.ClassFile.FieldType.int)) ∈ lw_all := lw_g (lw_at lw_m9 158 rfl) rfl
theorem q2229 : (Jvm.Cond.methodLink "MistCouriers" (299 : Nat) ({ cls := "MistCouriers", name := "reasonOf", desc := "(I)I" } : Jvm.MethodName)) ∈ lw_all := lw_g (lw_at lw_m9 159 rfl) rfl
theorem q2230 : (Jvm.Cond.privateMethod ({ cls := "MistCouriers", name := "reasonOf", desc := "(I)I" } : Jvm.MethodName)) ∈ lw_tbl := lw_at lw_m9 160 rfl
theorem q2231 : (Jvm.Cond.instanceMethod ({ cls := "MistCouriers", name := "reasonOf", desc := "(I)I" } : Jvm.MethodName)) ∈ lw_all := lw_g (lw_at lw_m9 161 rfl) rfl
theorem q2232 : (Jvm.Cond.code ({ cls := "MistCouriers", name := "reasonOf", desc := "(I)I" } : Jvm.MethodName) prog_1_method_24_code (2 : Nat) (Option.some Jvm.ClassFile.FieldType.int)) ∈ lw_all := lw_g (lw_at lw_m9 162 rfl) rfl
theorem q2233 : (Jvm.Cond.methodLink "MistCouriers" (292 : Nat) ({ cls := "MistCouriers", name := "lowest", desc := "(IZ)I" } : Jvm.MethodName)) ∈ lw_all := lw_g (lw_at lw_m9 163 rfl) rfl
theorem q2234 : (Jvm.Cond.privateMethod ({ cls := "MistCouriers", name := "lowest", desc := "(IZ)I" } : Jvm.MethodName)) ∈ lw_tbl := lw_at lw_m9 164 rfl
theorem q2235 : (Jvm.Cond.instanceMethod ({ cls := "MistCouriers", name := "lowest", desc := "(IZ)I" } : Jvm.MethodName)) ∈ lw_all := lw_g (lw_at lw_m9 165 rfl) rfl
theorem q2236 : (Jvm.Cond.code ({ cls := "MistCouriers", name := "lowest", desc := "(IZ)I" } : Jvm.MethodName) prog_1_method_23_code (5 : Nat) (Option.some Jvm.ClassFile.FieldType.int)) ∈ lw_all := lw_g (lw_at lw_m9 166 rfl) rfl
theorem q2237 : (Jvm.Cond.methodLink "MistCouriers" (289 : Nat) ({ cls := "MistCouriers$State", name := "veil", desc := "(LMistCouriers$Watcher;I)I" } : Jvm.MethodName)) ∈ lw_all := lw_g (lw_at lw_m9 167 rfl) rfl
theorem q2238 : (Jvm.Cond.methodLink "MistCouriers" (302 : Nat) ({ cls := "MistCouriers", name := "causeOf", desc := "(II)I" } : Jvm.MethodName)) ∈ lw_all := lw_g (lw_at lw_m9 168 rfl) rfl
theorem q2239 : (Jvm.Cond.privateMethod ({ cls := "MistCouriers", name := "causeOf", desc := "(II)I" } : Jvm.MethodName)) ∈ lw_tbl := lw_at lw_m9 169 rfl
theorem q2240 : (Jvm.Cond.instanceMethod ({ cls := "MistCouriers", name := "causeOf", desc := "(II)I" } : Jvm.MethodName)) ∈ lw_all := lw_g (lw_at lw_m9 170 rfl) rfl
theorem q2241 : (Jvm.Cond.code ({ cls := "MistCouriers", name := "causeOf", desc := "(II)I" } : Jvm.MethodName) prog_1_method_25_code (3 : Nat) (Option.some Jvm.ClassFile.FieldType.int)) ∈ lw_all := lw_g (lw_at lw_m9 171 rfl) rfl
theorem q2242 : (Jvm.Cond.methodLink "MistCouriers" (305 : Nat) ({ cls := "MistCouriers", name := "secondOf", desc := "(II)I" } : Jvm.MethodName)) ∈ lw_all := lw_g (lw_at lw_m9 172 rfl) rfl
theorem q2243 : (Jvm.Cond.privateMethod ({ cls := "MistCouriers", name := "secondOf", desc := "(II)I" } : Jvm.MethodName)) ∈ lw_tbl := lw_at lw_m9 173 rfl
theorem q2244 : (Jvm.Cond.instanceMethod ({ cls := "MistCouriers", name := "secondOf", desc := "(II)I" } : Jvm.MethodName)) ∈ lw_all := lw_g (lw_at lw_m9 174 rfl) rfl
theorem q2245 : (Jvm.Cond.code ({ cls := "MistCouriers", name := "secondOf", desc := "(II)I" } : Jvm.MethodName) prog_1_method_26_code (4 : Nat) (Option.some Jvm.ClassFile.FieldType.int)) ∈ lw_all := lw_g (lw_at lw_m9 175 rfl) rfl
theorem q2250 : (Jvm.Cond.instanceMethod ({ cls := "MistCouriers", name := "ifSeen", desc := "(II)Z" } : Jvm.MethodName)) ∈ lw_all := lw_g (lw_at lw_m9 180 rfl) rfl
theorem q2251 : (Jvm.Cond.selects "MistCouriers" ({ cls := "MistCouriers", name := "ifSeen", desc := "(II)Z" } : Jvm.MethodName) ({ cls := "MistCouriers", name := "ifSeen", desc := "(II)Z" } : Jvm.MethodName)) ∈ lw_all := lw_g (lw_at lw_m9 181 rfl) rfl
theorem q2252 : (Jvm.Cond.code ({ cls := "MistCouriers", name := "ifSeen", desc := "(II)Z" } : Jvm.MethodName) prog_1_method_31_code (5 : Nat) (Option.some Jvm.ClassFile.FieldType.boolean)) ∈ lw_all := lw_g (lw_at lw_m9 182 rfl) rfl
theorem q2253 : (Jvm.Cond.methodLink "MistCouriers" (319 : Nat) ({ cls := "MistCouriers$State", name := "drifts", desc := "()V" } : Jvm.MethodName)) ∈ lw_all := lw_g (lw_at lw_m9 183 rfl) rfl
theorem q2258 : (Jvm.Cond.instanceMethod ({ cls := "MistCouriers", name := "seenIn", desc := "(I)I" } : Jvm.MethodName)) ∈ lw_all := lw_g (lw_at lw_m9 188 rfl) rfl
theorem q2259 : (Jvm.Cond.selects "MistCouriers" ({ cls := "MistCouriers", name := "seenIn", desc := "(I)I" } : Jvm.MethodName) ({ cls := "MistCouriers", name := "seenIn", desc := "(I)I" } : Jvm.MethodName)) ∈ lw_all := lw_g (lw_at lw_m9 189 rfl) rfl
theorem q2260 : (Jvm.Cond.code ({ cls := "MistCouriers", name := "seenIn", desc := "(I)I" } : Jvm.MethodName) prog_1_method_32_code (4 : Nat) (Option.some Jvm.ClassFile.FieldType.int)) ∈ lw_all := lw_g (lw_at lw_m9 190 rfl) rfl
theorem q2265 : (Jvm.Cond.instanceMethod ({ cls := "MistCouriers", name := "ifPassed", desc := "(II)I" } : Jvm.MethodName)) ∈ lw_all := lw_g (lw_at lw_m9 195 rfl) rfl
theorem q2266 : (Jvm.Cond.selects "MistCouriers" ({ cls := "MistCouriers", name := "ifPassed", desc := "(II)I" } : Jvm.MethodName) ({ cls := "MistCouriers", name := "ifPassed", desc := "(II)I" } : Jvm.MethodName)) ∈ lw_all := lw_g (lw_at lw_m9 196 rfl) rfl
theorem q2267 : (Jvm.Cond.code ({ cls := "MistCouriers", name := "ifPassed", desc := "(II)I" } : Jvm.MethodName) prog_1_method_33_code (5 : Nat) (Option.some Jvm.ClassFile.FieldType.int)) ∈ lw_all := lw_g (lw_at lw_m9 197 rfl) rfl
theorem q2268 : (Jvm.Cond.methodLink "MistCouriers" (322 : Nat) ({ cls := "MistCouriers$State", name := "passes", desc := "(I)I" } : Jvm.MethodName)) ∈ lw_all := lw_g (lw_at lw_m9 198 rfl) rfl
theorem q2273 : (Jvm.Cond.instanceMethod ({ cls := "MistCouriers", name := "unseen", desc := "(II)I" } : Jvm.MethodName)) ∈ lw_all := lw_g (lw_at lw_m9 203 rfl) rfl
theorem q2274 : (Jvm.Cond.selects "MistCouriers" ({ cls := "MistCouriers", name := "unseen", desc := "(II)I" } : Jvm.MethodName) ({ cls := "MistCouriers", name := "unseen", desc := "(II)I" } : Jvm.MethodName)) ∈ lw_all := lw_g (lw_at lw_m9 204 rfl) rfl
theorem q2275 : (Jvm.Cond.code ({ cls := "MistCouriers", name := "unseen", desc := "(II)I" } : Jvm.MethodName) prog_1_method_35_code (4 : Nat) (Option.some Jvm.ClassFile.FieldType.int)) ∈ lw_all := lw_g (lw_at lw_m9 205 rfl) rfl
theorem q2276 : (Jvm.Cond.methodLink "MistCouriers" (336 : Nat) ({ cls := "MistCouriers", name := "ticksTo", desc := "(II)I" } : Jvm.MethodName)) ∈ lw_all := lw_g (lw_at lw_m9 206 rfl) rfl
theorem q2277 : (Jvm.Cond.privateMethod ({ cls := "MistCouriers", name := "ticksTo", desc := "(II)I" } : Jvm.MethodName)) ∈ lw_tbl := lw_at lw_m9 207 rfl
theorem q2278 : (Jvm.Cond.instanceMethod ({ cls := "MistCouriers", name := "ticksTo", desc := "(II)I" } : Jvm.MethodName)) ∈ lw_all := lw_g (lw_at lw_m9 208 rfl) rfl
theorem q2279 : (Jvm.Cond.code ({ cls := "MistCouriers", name := "ticksTo", desc := "(II)I" } : Jvm.MethodName) prog_1_method_34_code (5 : Nat) (Option.some Jvm.ClassFile.FieldType.int)) ∈ lw_all := lw_g (lw_at lw_m9 209 rfl) rfl
theorem q2280 : (Jvm.Cond.classLink "MistCouriers" (325 : Nat) "MistCouriers$Ways") ∈ lw_all := lw_g (lw_at lw_m9 210 rfl) rfl
theorem q2282 : (Jvm.Cond.methodLink "MistCouriers" (327 : Nat) ({ cls := "MistCouriers$Ways", name := "<init>", desc := "(LMistCouriers$State;I)V" } : Jvm.MethodName)) ∈ lw_all := lw_g (lw_at lw_m9 212 rfl) rfl
theorem q2289 : (Jvm.Cond.fieldLinkNest "MistCouriers" (330 : Nat) "MistCouriers$Ways" "can" "[Z" "MistCouriers") ∈ lw_tbl := lw_at lw_m9 219 rfl
theorem q2295 : (Jvm.Cond.methodLink "MistCouriers" (333 : Nat) ({ cls := "MistCouriers$Ways", name := "goesOn", desc := "()V" } : Jvm.MethodName)) ∈ lw_all := lw_g (lw_at lw_m9 225 rfl) rfl
theorem q2306 : (Jvm.Cond.instanceMethod ({ cls := "MistCouriers", name := "canBe", desc := "(II)I" } : Jvm.MethodName)) ∈ lw_all := lw_g (lw_at lw_m9 236 rfl) rfl
theorem q2307 : (Jvm.Cond.selects "MistCouriers" ({ cls := "MistCouriers", name := "canBe", desc := "(II)I" } : Jvm.MethodName) ({ cls := "MistCouriers", name := "canBe", desc := "(II)I" } : Jvm.MethodName)) ∈ lw_all := lw_g (lw_at lw_m9 237 rfl) rfl
theorem q2308 : (Jvm.Cond.code ({ cls := "MistCouriers", name := "canBe", desc := "(II)I" } : Jvm.MethodName) prog_1_method_36_code (6 : Nat) (Option.some Jvm.ClassFile.FieldType.int)) ∈ lw_all := lw_g (lw_at lw_m9 238 rfl) rfl
theorem q2309 : (Jvm.Cond.methodLink "MistCouriers" (339 : Nat) ({ cls := "MistCouriers$Ways", name := "many", desc := "()I" } : Jvm.MethodName)) ∈ lw_all := lw_g (lw_at lw_m9 239 rfl) rfl
theorem q2318 : (Jvm.Cond.instanceMethod ({ cls := "MistCouriers", name := "ifStepped", desc := "(II)I" } : Jvm.MethodName)) ∈ lw_all := lw_g (lw_at lw_m10 8 rfl) rfl
theorem q2319 : (Jvm.Cond.selects "MistCouriers" ({ cls := "MistCouriers", name := "ifStepped", desc := "(II)I" } : Jvm.MethodName) ({ cls := "MistCouriers", name := "ifStepped", desc := "(II)I" } : Jvm.MethodName)) ∈ lw_all := lw_g (lw_at lw_m10 9 rfl) rfl
theorem q2320 : (Jvm.Cond.code ({ cls := "MistCouriers", name := "ifStepped", desc := "(II)I" } : Jvm.MethodName) prog_1_method_37_code (6 : Nat) (Option.some Jvm.ClassFile.FieldType.int)) ∈ lw_all := lw_g (lw_at lw_m10 10 rfl) rfl
theorem q2321 : (Jvm.Cond.methodLink "MistCouriers" (342 : Nat) ({ cls := "MistCouriers$State", name := "step", desc := "(II)I" } : Jvm.MethodName)) ∈ lw_all := lw_g (lw_at lw_m10 11 rfl) rfl
theorem q2326 : (Jvm.Cond.instanceMethod ({ cls := "MistCouriers", name := "nearest", desc := "(I)I" } : Jvm.MethodName)) ∈ lw_all := lw_g (lw_at lw_m10 16 rfl) rfl
theorem q2327 : (Jvm.Cond.selects "MistCouriers" ({ cls := "MistCouriers", name := "nearest", desc := "(I)I" } : Jvm.MethodName) ({ cls := "MistCouriers", name := "nearest", desc := "(I)I" } : Jvm.MethodName)) ∈ lw_all := lw_g (lw_at lw_m10 17 rfl) rfl
theorem q2328 : (Jvm.Cond.code ({ cls := "MistCouriers", name := "nearest", desc := "(I)I" } : Jvm.MethodName) prog_1_method_38_code (7 : Nat) (Option.some Jvm.ClassFile.FieldType.int)) ∈ lw_all := lw_g (lw_at lw_m10 18 rfl) rfl
theorem q2333 : (Jvm.Cond.instanceMethod ({ cls := "MistCouriers", name := "refusals", desc := "(I)I" } : Jvm.MethodName)) ∈ lw_all := lw_g (lw_at lw_m10 23 rfl) rfl
theorem q2334 : (Jvm.Cond.selects "MistCouriers" ({ cls := "MistCouriers", name := "refusals", desc := "(I)I" } : Jvm.MethodName) ({ cls := "MistCouriers", name := "refusals", desc := "(I)I" } : Jvm.MethodName)) ∈ lw_all := lw_g (lw_at lw_m10 24 rfl) rfl
theorem q2335 : (Jvm.Cond.code ({ cls := "MistCouriers", name := "refusals", desc := "(I)I" } : Jvm.MethodName) prog_1_method_41_code (2 : Nat) (Option.some Jvm.ClassFile.FieldType.int)) ∈ lw_all := lw_g (lw_at lw_m10 25 rfl) rfl
theorem q2340 : (Jvm.Cond.instanceMethod ({ cls := "MistCouriers", name := "step", desc := "(II)I" } : Jvm.MethodName)) ∈ lw_all := lw_g (lw_at lw_m10 30 rfl) rfl
theorem q2341 : (Jvm.Cond.selects "MistCouriers" ({ cls := "MistCouriers", name := "step", desc := "(II)I" } : Jvm.MethodName) ({ cls := "MistCouriers", name := "step", desc := "(II)I" } : Jvm.MethodName)) ∈ lw_all := lw_g (lw_at lw_m10 31 rfl) rfl
theorem q2342 : (Jvm.Cond.code ({ cls := "MistCouriers", name := "step", desc := "(II)I" } : Jvm.MethodName) prog_1_method_42_code (3 : Nat) (Option.some Jvm.ClassFile.FieldType.int)) ∈ lw_all := lw_g (lw_at lw_m10 32 rfl) rfl
theorem q2343 : (Jvm.Cond.stringRef "MistCouriers" (365 : Nat) "step") ∈ lw_tbl := lw_at lw_m10 33 rfl
theorem q2344 : (Jvm.Cond.methodLink "MistCouriers" (366 : Nat) ({ cls := "MistCouriers", name := "does", desc := "(Ljava/lang/String;[I)I" } : Jvm.MethodName)) ∈ lw_all := lw_g (lw_at lw_m10 34 rfl) rfl
theorem q2345 : (Jvm.Cond.privateMethod ({ cls := "MistCouriers", name := "does", desc := "(Ljava/lang/String;[I)I" } : Jvm.MethodName)) ∈ lw_tbl := lw_at lw_m10 35 rfl
theorem q2346 : (Jvm.Cond.instanceMethod ({ cls := "MistCouriers", name := "does", desc := "(Ljava/lang/String;[I)I" } : Jvm.MethodName)) ∈ lw_all := lw_g (lw_at lw_m10 36 rfl) rfl
theorem q2347 : (Jvm.Cond.code ({ cls := "MistCouriers", name := "does", desc := "(Ljava/lang/String;[I)I" } : Jvm.MethodName) prog_1_method_40_code (3 : Nat) (Option.some Jvm.ClassFile.FieldType.int)) ∈ lw_all := lw_g (lw_at lw_m10 37 rfl) rfl
theorem q2348 : (Jvm.Cond.methodLink "MistCouriers" (359 : Nat) ({ cls := "MistCouriers$Command", name := "<init>", desc := "(Ljava/lang/String;[I)V" } : Jvm.MethodName)) ∈ lw_all := lw_g (lw_at lw_m10 38 rfl) rfl
theorem q2353 : (Jvm.Cond.instanceMethod ({ cls := "MistCouriers", name := "pick", desc := "(II)I" } : Jvm.MethodName)) ∈ lw_all := lw_g (lw_at lw_m10 43 rfl) rfl
theorem q2354 : (Jvm.Cond.selects "MistCouriers" ({ cls := "MistCouriers", name := "pick", desc := "(II)I" } : Jvm.MethodName) ({ cls := "MistCouriers", name := "pick", desc := "(II)I" } : Jvm.MethodName)) ∈ lw_all := lw_g (lw_at lw_m10 44 rfl) rfl
theorem q2355 : (Jvm.Cond.code ({ cls := "MistCouriers", name := "pick", desc := "(II)I" } : Jvm.MethodName) prog_1_method_43_code (3 : Nat) (Option.some Jvm.ClassFile.FieldType.int)) ∈ lw_all := lw_g (lw_at lw_m10 45 rfl) rfl
theorem q2356 : (Jvm.Cond.stringRef "MistCouriers" (370 : Nat) "pick") ∈ lw_tbl := lw_at lw_m10 46 rfl
theorem q2361 : (Jvm.Cond.instanceMethod ({ cls := "MistCouriers", name := "give", desc := "(III)I" } : Jvm.MethodName)) ∈ lw_all := lw_g (lw_at lw_m10 51 rfl) rfl
theorem q2362 : (Jvm.Cond.selects "MistCouriers" ({ cls := "MistCouriers", name := "give", desc := "(III)I" } : Jvm.MethodName) ({ cls := "MistCouriers", name := "give", desc := "(III)I" } : Jvm.MethodName)) ∈ lw_all := lw_g (lw_at lw_m10 52 rfl) rfl
theorem q2363 : (Jvm.Cond.code ({ cls := "MistCouriers", name := "give", desc := "(III)I" } : Jvm.MethodName) prog_1_method_44_code (4 : Nat) (Option.some Jvm.ClassFile.FieldType.int)) ∈ lw_all := lw_g (lw_at lw_m10 53 rfl) rfl
theorem q2364 : (Jvm.Cond.stringRef "MistCouriers" (372 : Nat) "give") ∈ lw_tbl := lw_at lw_m10 54 rfl
theorem q2369 : (Jvm.Cond.instanceMethod ({ cls := "MistCouriers", name := "lay", desc := "(II)I" } : Jvm.MethodName)) ∈ lw_all := lw_g (lw_at lw_m10 59 rfl) rfl
theorem q2370 : (Jvm.Cond.selects "MistCouriers" ({ cls := "MistCouriers", name := "lay", desc := "(II)I" } : Jvm.MethodName) ({ cls := "MistCouriers", name := "lay", desc := "(II)I" } : Jvm.MethodName)) ∈ lw_all := lw_g (lw_at lw_m10 60 rfl) rfl
theorem q2371 : (Jvm.Cond.code ({ cls := "MistCouriers", name := "lay", desc := "(II)I" } : Jvm.MethodName) prog_1_method_45_code (3 : Nat) (Option.some Jvm.ClassFile.FieldType.int)) ∈ lw_all := lw_g (lw_at lw_m10 61 rfl) rfl
theorem q2372 : (Jvm.Cond.stringRef "MistCouriers" (374 : Nat) "lay") ∈ lw_tbl := lw_at lw_m10 62 rfl
theorem q2377 : (Jvm.Cond.instanceMethod ({ cls := "MistCouriers", name := "pass", desc := "(I)I" } : Jvm.MethodName)) ∈ lw_all := lw_g (lw_at lw_m10 67 rfl) rfl
theorem q2378 : (Jvm.Cond.selects "MistCouriers" ({ cls := "MistCouriers", name := "pass", desc := "(I)I" } : Jvm.MethodName) ({ cls := "MistCouriers", name := "pass", desc := "(I)I" } : Jvm.MethodName)) ∈ lw_all := lw_g (lw_at lw_m10 68 rfl) rfl
theorem q2379 : (Jvm.Cond.code ({ cls := "MistCouriers", name := "pass", desc := "(I)I" } : Jvm.MethodName) prog_1_method_46_code (2 : Nat) (Option.some Jvm.ClassFile.FieldType.int)) ∈ lw_all := lw_g (lw_at lw_m10 69 rfl) rfl
theorem q2380 : (Jvm.Cond.stringRef "MistCouriers" (376 : Nat) "pass") ∈ lw_tbl := lw_at lw_m10 70 rfl
theorem q2385 : (Jvm.Cond.instanceMethod ({ cls := "MistCouriers", name := "write", desc := "(I)I" } : Jvm.MethodName)) ∈ lw_all := lw_g (lw_at lw_m10 75 rfl) rfl
theorem q2386 : (Jvm.Cond.selects "MistCouriers" ({ cls := "MistCouriers", name := "write", desc := "(I)I" } : Jvm.MethodName) ({ cls := "MistCouriers", name := "write", desc := "(I)I" } : Jvm.MethodName)) ∈ lw_all := lw_g (lw_at lw_m10 76 rfl) rfl
theorem q2387 : (Jvm.Cond.code ({ cls := "MistCouriers", name := "write", desc := "(I)I" } : Jvm.MethodName) prog_1_method_57_code (3 : Nat) (Option.some Jvm.ClassFile.FieldType.int)) ∈ lw_all := lw_g (lw_at lw_m10 77 rfl) rfl
theorem q2388 : (Jvm.Cond.methodLink "MistCouriers" (424 : Nat) ({ cls := "java/lang/StringBuilder", name := "setLength", desc := "(I)V" } : Jvm.MethodName)) ∈ lw_all := lw_g (lw_at lw_m10 78 rfl) rfl
theorem q2440 : (Jvm.Cond.methodLink "MistCouriers" (427 : Nat) ({ cls := "MistCouriers", name := "sign", desc := "(I)C" } : Jvm.MethodName)) ∈ lw_all := lw_g (lw_at lw_m10 130 rfl) rfl
theorem q2441 : (Jvm.Cond.privateMethod ({ cls := "MistCouriers", name := "sign", desc := "(I)C" } : Jvm.MethodName)) ∈ lw_tbl := lw_at lw_m10 131 rfl
theorem q2442 : (Jvm.Cond.instanceMethod ({ cls := "MistCouriers", name := "sign", desc := "(I)C" } : Jvm.MethodName)) ∈ lw_all := lw_g (lw_at lw_m10 132 rfl) rfl
theorem q2443 : (Jvm.Cond.code ({ cls := "MistCouriers", name := "sign", desc := "(I)C" } : Jvm.MethodName) prog_1_method_56_code (4 : Nat) (Option.some Jvm.ClassFile.FieldType.char)) ∈ lw_all := lw_g (lw_at lw_m10 133 rfl) rfl
theorem q2444 : (Jvm.Cond.methodLink "MistCouriers" (418 : Nat) ({ cls := "MistCouriers", name := "courierOn", desc := "(I)I" } : Jvm.MethodName)) ∈ lw_all := lw_g (lw_at lw_m10 134 rfl) rfl
theorem q2445 : (Jvm.Cond.privateMethod ({ cls := "MistCouriers", name := "courierOn", desc := "(I)I" } : Jvm.MethodName)) ∈ lw_tbl := lw_at lw_m10 135 rfl
theorem q2446 : (Jvm.Cond.instanceMethod ({ cls := "MistCouriers", name := "courierOn", desc := "(I)I" } : Jvm.MethodName)) ∈ lw_all := lw_g (lw_at lw_m10 136 rfl) rfl
theorem q2447 : (Jvm.Cond.code ({ cls := "MistCouriers", name := "courierOn", desc := "(I)I" } : Jvm.MethodName) prog_1_method_55_code (3 : Nat) (Option.some Jvm.ClassFile.FieldType.int)) ∈ lw_all := lw_g (lw_at lw_m10 137 rfl) rfl
theorem q2448 : (Jvm.Cond.methodLink "MistCouriers" (421 : Nat) ({ cls := "MistCouriers$Square", name := "postAt", desc := "(I)I" } : Jvm.MethodName)) ∈ lw_all := lw_g (lw_at lw_m10 138 rfl) rfl
theorem q2456 : (Jvm.Cond.methodLink "MistCouriers" (431 : Nat) ({ cls := "java/lang/StringBuilder", name := "append", desc := "(C)Ljava/lang/StringBuilder;" } : Jvm.MethodName)) ∈ lw_all := lw_g (lw_at lw_m10 146 rfl) rfl
theorem q2461 : (Jvm.Cond.instanceMethod ({ cls := "MistCouriers", name := "save", desc := "(I)V" } : Jvm.MethodName)) ∈ lw_all := lw_g (lw_at lw_m10 151 rfl) rfl
theorem q2462 : (Jvm.Cond.selects "MistCouriers" ({ cls := "MistCouriers", name := "save", desc := "(I)V" } : Jvm.MethodName) ({ cls := "MistCouriers", name := "save", desc := "(I)V" } : Jvm.MethodName)) ∈ lw_all := lw_g (lw_at lw_m10 152 rfl) rfl
theorem q2463 : (Jvm.Cond.code ({ cls := "MistCouriers", name := "save", desc := "(I)V" } : Jvm.MethodName) prog_1_method_60_code (2 : Nat) (Option.none : Option Jvm.ClassFile.FieldType)) ∈ lw_all := lw_g (lw_at lw_m10 153 rfl) rfl
theorem q2468 : (Jvm.Cond.instanceMethod ({ cls := "MistCouriers", name := "restore", desc := "(I)V" } : Jvm.MethodName)) ∈ lw_all := lw_g (lw_at lw_m10 158 rfl) rfl
theorem q2469 : (Jvm.Cond.selects "MistCouriers" ({ cls := "MistCouriers", name := "restore", desc := "(I)V" } : Jvm.MethodName) ({ cls := "MistCouriers", name := "restore", desc := "(I)V" } : Jvm.MethodName)) ∈ lw_all := lw_g (lw_at lw_m10 159 rfl) rfl
theorem q2470 : (Jvm.Cond.code ({ cls := "MistCouriers", name := "restore", desc := "(I)V" } : Jvm.MethodName) prog_1_method_61_code (2 : Nat) (Option.none : Option Jvm.ClassFile.FieldType)) ∈ lw_all := lw_g (lw_at lw_m10 160 rfl) rfl
theorem q3172 : (Jvm.Cond.castable "MistCouriers" "java/lang/Object") ∈ lw_tbl := lw_at lw_m13 142 rfl
theorem q189 : (Jvm.Cond.initialized "MistCouriers$Parser") ∈ lw_all := lw_g (lw_at lw_m1 39 rfl) rfl
theorem q278 : (Jvm.Cond.fieldLinkNest "MistCouriers$Parser" (124 : Nat) "MistCouriers$Square" "isWall" "[Z" "MistCouriers") ∈ lw_tbl := lw_at lw_m1 128 rfl
theorem q639 : (Jvm.Cond.fieldLinkNest "MistCouriers$Parser" (127 : Nat) "MistCouriers$State" "square" "LMistCouriers$Square;" "MistCouriers") ∈ lw_tbl := lw_at lw_m3 9 rfl
theorem q644 : (Jvm.Cond.fieldLinkNest "MistCouriers$Parser" (137 : Nat) "MistCouriers$State" "banks" "Ljava/util/ArrayList;" "MistCouriers") ∈ lw_tbl := lw_at lw_m3 14 rfl
theorem q647 : (Jvm.Cond.fieldLinkNest "MistCouriers$Parser" (178 : Nat) "MistCouriers$State" "watchers" "Ljava/util/ArrayList;" "MistCouriers") ∈ lw_tbl := lw_at lw_m3 17 rfl
theorem q650 : (Jvm.Cond.fieldLinkNest "MistCouriers$Parser" (181 : Nat) "MistCouriers$State" "couriers" "Ljava/util/ArrayList;" "MistCouriers") ∈ lw_tbl := lw_at lw_m3 20 rfl
theorem q653 : (Jvm.Cond.fieldLinkNest "MistCouriers$Parser" (158 : Nat) "MistCouriers$State" "letters" "Ljava/util/ArrayList;" "MistCouriers") ∈ lw_tbl := lw_at lw_m3 23 rfl
theorem q733 : (Jvm.Cond.selects "MistCouriers$Parser" ({ cls := "java/lang/Object", name := "getClass", desc := "()Ljava/lang/Class;" } : Jvm.MethodName) ({ cls := "java/lang/Object", name := "getClass", desc := "()Ljava/lang/Class;" } : Jvm.MethodName)) ∈ lw_all := lw_g (lw_at lw_m3 103 rfl) rfl
theorem q838 : (Jvm.Cond.selects "MistCouriers$Parser" ({ cls := "java/lang/Object", name := "hashCode", desc := "()I" } : Jvm.MethodName) ({ cls := "java/lang/Object", name := "hashCode", desc := "()I" } : Jvm.MethodName)) ∈ lw_all := lw_g (lw_at lw_m3 208 rfl) rfl
theorem q932 : (Jvm.Cond.selects "MistCouriers$Parser" ({ cls := "java/lang/Object", name := "equals", desc := "(Ljava/lang/Object;)Z" } : Jvm.MethodName) ({ cls := "java/lang/Object", name := "equals", desc := "(Ljava/lang/Object;)Z" } : Jvm.MethodName)) ∈ lw_all := lw_g (lw_at lw_m4 62 rfl) rfl
theorem q1411 : (Jvm.Cond.fieldLinkNest "MistCouriers$Parser" (29 : Nat) "MistCouriers" "text" "[B" "MistCouriers") ∈ lw_tbl := lw_at lw_m6 61 rfl
theorem q1413 : (Jvm.Cond.fieldLinkNest "MistCouriers$Parser" (25 : Nat) "MistCouriers" "length" "I" "MistCouriers") ∈ lw_tbl := lw_at lw_m6 63 rfl
theorem q1567 : (Jvm.Cond.instantiable "MistCouriers$Parser" (7 : Nat)) ∈ lw_all := lw_g (lw_at lw_m6 217 rfl) rfl
theorem q1569 : (Jvm.Cond.instanceMethod ({ cls := "MistCouriers$Parser", name := "<init>", desc := "(LMistCouriers;)V" } : Jvm.MethodName)) ∈ lw_all := lw_g (lw_at lw_m6 219 rfl) rfl
theorem q1570 : (Jvm.Cond.code ({ cls := "MistCouriers$Parser", name := "<init>", desc := "(LMistCouriers;)V" } : Jvm.MethodName) prog_8_method_1_code (2 : Nat) (Option.none : Option Jvm.ClassFile.FieldType)) ∈ lw_all := lw_g (lw_at lw_m6 220 rfl) rfl
theorem q1571 : (Jvm.Cond.methodLink "MistCouriers$Parser" (9 : Nat) ({ cls := "java/lang/Object", name := "<init>", desc := "()V" } : Jvm.MethodName)) ∈ lw_all := lw_g (lw_at lw_m6 221 rfl) rfl
theorem q1572 : (Jvm.Cond.stringRef "MistCouriers$Parser" (15 : Nat) "") ∈ lw_tbl := lw_at lw_m6 222 rfl
theorem q1573 : (Jvm.Cond.fieldLink "MistCouriers$Parser" (33 : Nat) "MistCouriers$Parser" "at" "I") ∈ lw_all := lw_g (lw_at lw_m6 223 rfl) rfl
theorem q1574 : (Jvm.Cond.fieldLink "MistCouriers$Parser" (44 : Nat) "MistCouriers$Parser" "start" "I") ∈ lw_all := lw_g (lw_at lw_m6 224 rfl) rfl
theorem q1575 : (Jvm.Cond.fieldLink "MistCouriers$Parser" (80 : Nat) "MistCouriers$Parser" "number" "I") ∈ lw_all := lw_g (lw_at lw_m6 225 rfl) rfl
theorem q1576 : (Jvm.Cond.fieldLink "MistCouriers$Parser" (53 : Nat) "MistCouriers$Parser" "token" "LMistCouriers$Token;") ∈ lw_all := lw_g (lw_at lw_m6 226 rfl) rfl
theorem q1577 : (Jvm.Cond.fieldLink "MistCouriers$Parser" (17 : Nat) "MistCouriers$Parser" "word" "Ljava/lang/String;") ∈ lw_all := lw_g (lw_at lw_m6 227 rfl) rfl
theorem q1578 : (Jvm.Cond.fieldLink "MistCouriers$Parser" (21 : Nat) "MistCouriers$Parser" "isTold" "[Z") ∈ lw_all := lw_g (lw_at lw_m6 228 rfl) rfl
theorem q1579 : (Jvm.Cond.fieldLink "MistCouriers$Parser" (3 : Nat) "MistCouriers$Parser" "this$0" "LMistCouriers;") ∈ lw_all := lw_g (lw_at lw_m6 229 rfl) rfl
theorem q1580 : (Jvm.Cond.lays "MistCouriers$Parser" "MistCouriers$Parser" "at" "I") ∈ lw_all := lw_g (lw_at lw_m6 230 rfl) rfl
theorem q1581 : (Jvm.Cond.soleField "MistCouriers$Parser" "at") ∈ lw_all := lw_g (lw_at lw_m6 231 rfl) rfl
theorem q1582 : (Jvm.Cond.lays "MistCouriers$Parser" "MistCouriers$Parser" "start" "I") ∈ lw_all := lw_g (lw_at lw_m6 232 rfl) rfl
theorem q1583 : (Jvm.Cond.soleField "MistCouriers$Parser" "start") ∈ lw_all := lw_g (lw_at lw_m6 233 rfl) rfl
theorem q1584 : (Jvm.Cond.lays "MistCouriers$Parser" "MistCouriers$Parser" "number" "I") ∈ lw_all := lw_g (lw_at lw_m6 234 rfl) rfl
theorem q1585 : (Jvm.Cond.soleField "MistCouriers$Parser" "number") ∈ lw_all := lw_g (lw_at lw_m6 235 rfl) rfl
theorem q1586 : (Jvm.Cond.lays "MistCouriers$Parser" "MistCouriers$Parser" "token" "LMistCouriers$Token;") ∈ lw_all := lw_g (lw_at lw_m6 236 rfl) rfl
theorem q1587 : (Jvm.Cond.soleField "MistCouriers$Parser" "token") ∈ lw_all := lw_g (lw_at lw_m6 237 rfl) rfl
theorem q1588 : (Jvm.Cond.lays "MistCouriers$Parser" "MistCouriers$Parser" "word" "Ljava/lang/String;") ∈ lw_all := lw_g (lw_at lw_m6 238 rfl) rfl
theorem q1589 : (Jvm.Cond.soleField "MistCouriers$Parser" "word") ∈ lw_all := lw_g (lw_at lw_m6 239 rfl) rfl
theorem q1590 : (Jvm.Cond.lays "MistCouriers$Parser" "MistCouriers$Parser" "isTold" "[Z") ∈ lw_all := lw_g (lw_at lw_m7 0 rfl) rfl
theorem q1591 : (Jvm.Cond.soleField "MistCouriers$Parser" "isTold") ∈ lw_all := lw_g (lw_at lw_m7 1 rfl) rfl
theorem q1592 : (Jvm.Cond.laysFinal "MistCouriers$Parser" "MistCouriers$Parser" "this$0" "LMistCouriers;") ∈ lw_all := lw_g (lw_at lw_m7 2 rfl) rfl
theorem q1593 : (Jvm.Cond.soleField "MistCouriers$Parser" "this$0") ∈ lw_all := lw_g (lw_at lw_m7 3 rfl) rfl
theorem q1594 : (Jvm.Cond.superclass "MistCouriers$Parser" "java/lang/Object") ∈ lw_all := lw_g (lw_at lw_m7 4 rfl) rfl
theorem q1596 : (Jvm.Cond.instanceMethod ({ cls := "MistCouriers$Parser", name := "setup", desc := "()LMistCouriers$State;" } : Jvm.MethodName)) ∈ lw_all := lw_g (lw_at lw_m7 6 rfl) rfl
theorem q1597 : (Jvm.Cond.selects "MistCouriers$Parser" ({ cls := "MistCouriers$Parser", name := "setup", desc := "()LMistCouriers$State;" } : Jvm.MethodName) ({ cls := "MistCouriers$Parser", name := "setup", desc := "()LMistCouriers$State;" } : Jvm.MethodName)) ∈ lw_all := lw_g (lw_at lw_m7 7 rfl) rfl
theorem q1598 : (Jvm.Cond.code ({ cls := "MistCouriers$Parser", name := "setup", desc := "()LMistCouriers$State;" } : Jvm.MethodName) prog_8_method_18_code (4 : Nat) (Option.some (Jvm.ClassFile.FieldType.object "MistCouriers$State"))) ∈ lw_all := lw_g (lw_at lw_m7 8 rfl) rfl
theorem q1599 : (Jvm.Cond.methodLink "MistCouriers$Parser" (114 : Nat) ({ cls := "MistCouriers$Parser", name := "goOn", desc := "()V" } : Jvm.MethodName)) ∈ lw_all := lw_g (lw_at lw_m7 9 rfl) rfl
theorem q1600 : (Jvm.Cond.privateMethod ({ cls := "MistCouriers$Parser", name := "goOn", desc := "()V" } : Jvm.MethodName)) ∈ lw_tbl := lw_at lw_m7 10 rfl
theorem q1601 : (Jvm.Cond.instanceMethod ({ cls := "MistCouriers$Parser", name := "goOn", desc := "()V" } : Jvm.MethodName)) ∈ lw_all := lw_g (lw_at lw_m7 11 rfl) rfl
theorem q1602 : (Jvm.Cond.code ({ cls := "MistCouriers$Parser", name := "goOn", desc := "()V" } : Jvm.MethodName) prog_8_method_5_code (2 : Nat) (Option.none : Option Jvm.ClassFile.FieldType)) ∈ lw_all := lw_g (lw_at lw_m7 12 rfl) rfl
theorem q1603 : (Jvm.Cond.methodLink "MistCouriers$Parser" (36 : Nat) ({ cls := "MistCouriers$Parser", name := "byteAt", desc := "(I)I" } : Jvm.MethodName)) ∈ lw_all := lw_g (lw_at lw_m7 13 rfl) rfl
theorem q1604 : (Jvm.Cond.privateMethod ({ cls := "MistCouriers$Parser", name := "byteAt", desc := "(I)I" } : Jvm.MethodName)) ∈ lw_tbl := lw_at lw_m7 14 rfl
theorem q1605 : (Jvm.Cond.instanceMethod ({ cls := "MistCouriers$Parser", name := "byteAt", desc := "(I)I" } : Jvm.MethodName)) ∈ lw_all := lw_g (lw_at lw_m7 15 rfl) rfl
theorem q1606 : (Jvm.Cond.code ({ cls := "MistCouriers$Parser", name := "byteAt", desc := "(I)I" } : Jvm.MethodName) prog_8_method_2_code (2 : Nat) (Option.some Jvm.ClassFile.FieldType.int)) ∈ lw_all := lw_g (lw_at lw_m7 16 rfl) rfl
theorem q1607 : (Jvm.Cond.fieldLink "MistCouriers$Parser" (47 : Nat) "MistCouriers$Token" "END" "LMistCouriers$Token;") ∈ lw_all := lw_g (lw_at lw_m7 17 rfl) rfl
theorem q1609 : (Jvm.Cond.methodLink "MistCouriers$Parser" (56 : Nat) ({ cls := "MistCouriers$Parser", name := "isSmall", desc := "()Z" } : Jvm.MethodName)) ∈ lw_all := lw_g (lw_at lw_m7 19 rfl) rfl
theorem q1610 : (Jvm.Cond.privateMethod ({ cls := "MistCouriers$Parser", name := "isSmall", desc := "()Z" } : Jvm.MethodName)) ∈ lw_tbl := lw_at lw_m7 20 rfl
theorem q1611 : (Jvm.Cond.instanceMethod ({ cls := "MistCouriers$Parser", name := "isSmall", desc := "()Z" } : Jvm.MethodName)) ∈ lw_all := lw_g (lw_at lw_m7 21 rfl) rfl
theorem q1612 : (Jvm.Cond.code ({ cls := "MistCouriers$Parser", name := "isSmall", desc := "()Z" } : Jvm.MethodName) prog_8_method_3_code (1 : Nat) (Option.some Jvm.ClassFile.FieldType.boolean)) ∈ lw_all := lw_g (lw_at lw_m7 22 rfl) rfl
theorem q1613 : (Jvm.Cond.methodLinkNest "MistCouriers$Parser" (40 : Nat) ({ cls := "MistCouriers", name := "in", desc := "(III)Z" } : Jvm.MethodName) "MistCouriers") ∈ lw_tbl := lw_at lw_m7 23 rfl
theorem q1616 : (Jvm.Cond.classLink "MistCouriers$Parser" (60 : Nat) "java/lang/StringBuilder") ∈ lw_all := lw_g (lw_at lw_m7 26 rfl) rfl
theorem q1617 : (Jvm.Cond.methodLink "MistCouriers$Parser" (62 : Nat) ({ cls := "java/lang/StringBuilder", name := "<init>", desc := "()V" } : Jvm.MethodName)) ∈ lw_all := lw_g (lw_at lw_m7 27 rfl) rfl
theorem q1618 : (Jvm.Cond.methodLink "MistCouriers$Parser" (63 : Nat) ({ cls := "java/lang/StringBuilder", name := "length", desc := "()I" } : Jvm.MethodName)) ∈ lw_all := lw_g (lw_at lw_m7 28 rfl) rfl
theorem q1619 : (Jvm.Cond.methodLink "MistCouriers$Parser" (66 : Nat) ({ cls := "java/lang/StringBuilder", name := "append", desc := "(C)Ljava/lang/StringBuilder;" } : Jvm.MethodName)) ∈ lw_all := lw_g (lw_at lw_m7 29 rfl) rfl
theorem q1639 : (Jvm.Cond.methodLink "MistCouriers$Parser" (70 : Nat) ({ cls := "java/lang/StringBuilder", name := "toString", desc := "()Ljava/lang/String;" } : Jvm.MethodName)) ∈ lw_all := lw_g (lw_at lw_m7 49 rfl) rfl
theorem q1640 : (Jvm.Cond.fieldLink "MistCouriers$Parser" (74 : Nat) "MistCouriers$Token" "WORD" "LMistCouriers$Token;") ∈ lw_all := lw_g (lw_at lw_m7 50 rfl) rfl
theorem q1642 : (Jvm.Cond.methodLink "MistCouriers$Parser" (77 : Nat) ({ cls := "MistCouriers$Parser", name := "isDigit", desc := "()Z" } : Jvm.MethodName)) ∈ lw_all := lw_g (lw_at lw_m7 52 rfl) rfl
theorem q1643 : (Jvm.Cond.privateMethod ({ cls := "MistCouriers$Parser", name := "isDigit", desc := "()Z" } : Jvm.MethodName)) ∈ lw_tbl := lw_at lw_m7 53 rfl
theorem q1644 : (Jvm.Cond.instanceMethod ({ cls := "MistCouriers$Parser", name := "isDigit", desc := "()Z" } : Jvm.MethodName)) ∈ lw_all := lw_g (lw_at lw_m7 54 rfl) rfl
theorem q1645 : (Jvm.Cond.code ({ cls := "MistCouriers$Parser", name := "isDigit", desc := "()Z" } : Jvm.MethodName) prog_8_method_4_code (1 : Nat) (Option.some Jvm.ClassFile.FieldType.boolean)) ∈ lw_all := lw_g (lw_at lw_m7 55 rfl) rfl
theorem q1646 : (Jvm.Cond.constant "MistCouriers$Parser" (83 : Nat) (100000 : Int32)) ∈ lw_all := lw_g (lw_at lw_m7 56 rfl) rfl
theorem q1647 : (Jvm.Cond.methodLink "MistCouriers$Parser" (84 : Nat) ({ cls := "java/lang/Math", name := "min", desc := "(II)I" } : Jvm.MethodName)) ∈ lw_all := lw_g (lw_at lw_m7 57 rfl) rfl
theorem q1648 : (Jvm.Cond.fieldLink "MistCouriers$Parser" (90 : Nat) "MistCouriers$Token" "NUMBER" "LMistCouriers$Token;") ∈ lw_all := lw_g (lw_at lw_m7 58 rfl) rfl
theorem q1650 : (Jvm.Cond.fieldLink "MistCouriers$Parser" (93 : Nat) "MistCouriers$Token" "SEMICOLON" "LMistCouriers$Token;") ∈ lw_all := lw_g (lw_at lw_m7 60 rfl) rfl
theorem q1652 : (Jvm.Cond.fieldLink "MistCouriers$Parser" (96 : Nat) "MistCouriers$Token" "BAD" "LMistCouriers$Token;") ∈ lw_all := lw_g (lw_at lw_m7 62 rfl) rfl
theorem q1654 : (Jvm.Cond.stringRef "MistCouriers$Parser" (216 : Nat) "mist") ∈ lw_tbl := lw_at lw_m7 64 rfl
theorem q1655 : (Jvm.Cond.methodLink "MistCouriers$Parser" (186 : Nat) ({ cls := "MistCouriers$Parser", name := "is", desc := "(Ljava/lang/String;)Z" } : Jvm.MethodName)) ∈ lw_all := lw_g (lw_at lw_m7 65 rfl) rfl
theorem q1656 : (Jvm.Cond.privateMethod ({ cls := "MistCouriers$Parser", name := "is", desc := "(Ljava/lang/String;)Z" } : Jvm.MethodName)) ∈ lw_tbl := lw_at lw_m7 66 rfl
theorem q1657 : (Jvm.Cond.instanceMethod ({ cls := "MistCouriers$Parser", name := "is", desc := "(Ljava/lang/String;)Z" } : Jvm.MethodName)) ∈ lw_all := lw_g (lw_at lw_m7 67 rfl) rfl
theorem q1658 : (Jvm.Cond.code ({ cls := "MistCouriers$Parser", name := "is", desc := "(Ljava/lang/String;)Z" } : Jvm.MethodName) prog_8_method_7_code (2 : Nat) (Option.some Jvm.ClassFile.FieldType.boolean)) ∈ lw_all := lw_g (lw_at lw_m7 68 rfl) rfl
theorem q1659 : (Jvm.Cond.methodLink "MistCouriers$Parser" (104 : Nat) ({ cls := "java/lang/String", name := "equals", desc := "(Ljava/lang/Object;)Z" } : Jvm.MethodName)) ∈ lw_all := lw_g (lw_at lw_m7 69 rfl) rfl
theorem q1660 : (Jvm.Cond.methodLink "MistCouriers$Parser" (110 : Nat) ({ cls := "MistCouriers$Parser", name := "must", desc := "(ZI)V" } : Jvm.MethodName)) ∈ lw_all := lw_g (lw_at lw_m7 70 rfl) rfl
theorem q1661 : (Jvm.Cond.privateMethod ({ cls := "MistCouriers$Parser", name := "must", desc := "(ZI)V" } : Jvm.MethodName)) ∈ lw_tbl := lw_at lw_m7 71 rfl
theorem q1662 : (Jvm.Cond.instanceMethod ({ cls := "MistCouriers$Parser", name := "must", desc := "(ZI)V" } : Jvm.MethodName)) ∈ lw_all := lw_g (lw_at lw_m7 72 rfl) rfl
theorem q1663 : (Jvm.Cond.code ({ cls := "MistCouriers$Parser", name := "must", desc := "(ZI)V" } : Jvm.MethodName) prog_8_method_6_code (3 : Nat) (Option.none : Option Jvm.ClassFile.FieldType)) ∈ lw_all := lw_g (lw_at lw_m7 73 rfl) rfl
theorem q1664 : (Jvm.Cond.classLink "MistCouriers$Parser" (99 : Nat) "MistCouriers$Fault") ∈ lw_all := lw_g (lw_at lw_m7 74 rfl) rfl
theorem q1673 : (Jvm.Cond.methodLink "MistCouriers$Parser" (101 : Nat) ({ cls := "MistCouriers$Fault", name := "<init>", desc := "(II)V" } : Jvm.MethodName)) ∈ lw_all := lw_g (lw_at lw_m7 83 rfl) rfl
theorem q1692 : (Jvm.Cond.methodLink "MistCouriers$Parser" (122 : Nat) ({ cls := "MistCouriers$Parser", name := "number", desc := "(II)I" } : Jvm.MethodName)) ∈ lw_all := lw_g (lw_at lw_m7 102 rfl) rfl
theorem q1693 : (Jvm.Cond.privateMethod ({ cls := "MistCouriers$Parser", name := "number", desc := "(II)I" } : Jvm.MethodName)) ∈ lw_tbl := lw_at lw_m7 103 rfl
theorem q1694 : (Jvm.Cond.instanceMethod ({ cls := "MistCouriers$Parser", name := "number", desc := "(II)I" } : Jvm.MethodName)) ∈ lw_all := lw_g (lw_at lw_m7 104 rfl) rfl
theorem q1695 : (Jvm.Cond.code ({ cls := "MistCouriers$Parser", name := "number", desc := "(II)I" } : Jvm.MethodName) prog_8_method_8_code (4 : Nat) (Option.some Jvm.ClassFile.FieldType.int)) ∈ lw_all := lw_g (lw_at lw_m7 105 rfl) rfl
theorem q1696 : (Jvm.Cond.classLink "MistCouriers$Parser" (118 : Nat) "MistCouriers$Square") ∈ lw_all := lw_g (lw_at lw_m7 106 rfl) rfl
theorem q1697 : (Jvm.Cond.methodLink "MistCouriers$Parser" (218 : Nat) ({ cls := "MistCouriers$Square", name := "<init>", desc := "(II[I)V" } : Jvm.MethodName)) ∈ lw_all := lw_g (lw_at lw_m7 107 rfl) rfl
theorem q1698 : (Jvm.Cond.classLink "MistCouriers$Parser" (128 : Nat) "MistCouriers$State") ∈ lw_all := lw_g (lw_at lw_m7 108 rfl) rfl
theorem q1699 : (Jvm.Cond.methodLink "MistCouriers$Parser" (221 : Nat) ({ cls := "MistCouriers$State", name := "<init>", desc := "(LMistCouriers$Square;I)V" } : Jvm.MethodName)) ∈ lw_all := lw_g (lw_at lw_m7 109 rfl) rfl
theorem q1700 : (Jvm.Cond.methodLink "MistCouriers$Parser" (213 : Nat) ({ cls := "MistCouriers$Parser", name := "ends", desc := "()V" } : Jvm.MethodName)) ∈ lw_all := lw_g (lw_at lw_m7 110 rfl) rfl
theorem q1701 : (Jvm.Cond.privateMethod ({ cls := "MistCouriers$Parser", name := "ends", desc := "()V" } : Jvm.MethodName)) ∈ lw_tbl := lw_at lw_m7 111 rfl
theorem q1702 : (Jvm.Cond.instanceMethod ({ cls := "MistCouriers$Parser", name := "ends", desc := "()V" } : Jvm.MethodName)) ∈ lw_all := lw_g (lw_at lw_m7 112 rfl) rfl
theorem q1703 : (Jvm.Cond.code ({ cls := "MistCouriers$Parser", name := "ends", desc := "()V" } : Jvm.MethodName) prog_8_method_9_code (1 : Nat) (Option.none : Option Jvm.ClassFile.FieldType)) ∈ lw_all := lw_g (lw_at lw_m7 113 rfl) rfl
theorem q1704 : (Jvm.Cond.methodLink "MistCouriers$Parser" (224 : Nat) ({ cls := "java/util/ArrayList", name := "isEmpty", desc := "()Z" } : Jvm.MethodName)) ∈ lw_all := lw_g (lw_at lw_m7 114 rfl) rfl
theorem q1705 : (Jvm.Cond.methodLink "MistCouriers$Parser" (227 : Nat) ({ cls := "MistCouriers$Parser", name := "aThing", desc := "(LMistCouriers$State;)V" } : Jvm.MethodName)) ∈ lw_all := lw_g (lw_at lw_m7 115 rfl) rfl
theorem q1706 : (Jvm.Cond.privateMethod ({ cls := "MistCouriers$Parser", name := "aThing", desc := "(LMistCouriers$State;)V" } : Jvm.MethodName)) ∈ lw_tbl := lw_at lw_m7 116 rfl
theorem q1707 : (Jvm.Cond.instanceMethod ({ cls := "MistCouriers$Parser", name := "aThing", desc := "(LMistCouriers$State;)V" } : Jvm.MethodName)) ∈ lw_all := lw_g (lw_at lw_m7 117 rfl) rfl
theorem q1708 : (Jvm.Cond.code ({ cls := "MistCouriers$Parser", name := "aThing", desc := "(LMistCouriers$State;)V" } : Jvm.MethodName) prog_8_method_17_code (5 : Nat) (Option.none : Option Jvm.ClassFile.FieldType)) ∈ lw_all := lw_g (lw_at lw_m7 118 rfl) rfl
theorem q1709 : (Jvm.Cond.stringRef "MistCouriers$Parser" (184 : Nat) "wall") ∈ lw_tbl := lw_at lw_m7 119 rfl
theorem q1710 : (Jvm.Cond.stringRef "MistCouriers$Parser" (167 : Nat) "bank") ∈ lw_tbl := lw_at lw_m7 120 rfl
theorem q1711 : (Jvm.Cond.stringRef "MistCouriers$Parser" (169 : Nat) "watcher") ∈ lw_tbl := lw_at lw_m7 121 rfl
theorem q1712 : (Jvm.Cond.stringRef "MistCouriers$Parser" (171 : Nat) "courier") ∈ lw_tbl := lw_at lw_m7 122 rfl
theorem q1713 : (Jvm.Cond.stringRef "MistCouriers$Parser" (173 : Nat) "letter") ∈ lw_tbl := lw_at lw_m7 123 rfl
theorem q1714 : (Jvm.Cond.methodLink "MistCouriers$Parser" (190 : Nat) ({ cls := "MistCouriers$Parser", name := "isRoom", desc := "(LMistCouriers$State;)Z" } : Jvm.MethodName)) ∈ lw_all := lw_g (lw_at lw_m7 124 rfl) rfl
theorem q1715 : (Jvm.Cond.privateMethod ({ cls := "MistCouriers$Parser", name := "isRoom", desc := "(LMistCouriers$State;)Z" } : Jvm.MethodName)) ∈ lw_tbl := lw_at lw_m7 125 rfl
theorem q1716 : (Jvm.Cond.instanceMethod ({ cls := "MistCouriers$Parser", name := "isRoom", desc := "(LMistCouriers$State;)Z" } : Jvm.MethodName)) ∈ lw_all := lw_g (lw_at lw_m7 126 rfl) rfl
theorem q1717 : (Jvm.Cond.code ({ cls := "MistCouriers$Parser", name := "isRoom", desc := "(LMistCouriers$State;)Z" } : Jvm.MethodName) prog_8_method_16_code (4 : Nat) (Option.some Jvm.ClassFile.FieldType.boolean)) ∈ lw_all := lw_g (lw_at lw_m7 127 rfl) rfl
theorem q1718 : (Jvm.Cond.methodLink "MistCouriers$Parser" (164 : Nat) ({ cls := "java/lang/String", name := "hashCode", desc := "()I" } : Jvm.MethodName)) ∈ lw_all := lw_g (lw_at lw_m7 128 rfl) rfl
theorem q1719 : (Jvm.Cond.methodLink "MistCouriers$Parser" (175 : Nat) ({ cls := "java/util/ArrayList", name := "size", desc := "()I" } : Jvm.MethodName)) ∈ lw_all := lw_g (lw_at lw_m7 129 rfl) rfl
theorem q1720 : (Jvm.Cond.methodLink "MistCouriers$Parser" (194 : Nat) ({ cls := "MistCouriers$Parser", name := "aWall", desc := "(LMistCouriers$Square;)V" } : Jvm.MethodName)) ∈ lw_all := lw_g (lw_at lw_m7 130 rfl) rfl
theorem q1721 : (Jvm.Cond.privateMethod ({ cls := "MistCouriers$Parser", name := "aWall", desc := "(LMistCouriers$Square;)V" } : Jvm.MethodName)) ∈ lw_tbl := lw_at lw_m7 131 rfl
theorem q1722 : (Jvm.Cond.instanceMethod ({ cls := "MistCouriers$Parser", name := "aWall", desc := "(LMistCouriers$Square;)V" } : Jvm.MethodName)) ∈ lw_all := lw_g (lw_at lw_m7 132 rfl) rfl
theorem q1723 : (Jvm.Cond.code ({ cls := "MistCouriers$Parser", name := "aWall", desc := "(LMistCouriers$Square;)V" } : Jvm.MethodName) prog_8_method_12_code (2 : Nat) (Option.none : Option Jvm.ClassFile.FieldType)) ∈ lw_all := lw_g (lw_at lw_m7 133 rfl) rfl
theorem q1724 : (Jvm.Cond.methodLink "MistCouriers$Parser" (198 : Nat) ({ cls := "MistCouriers$Parser", name := "aBank", desc := "(LMistCouriers$State;)V" } : Jvm.MethodName)) ∈ lw_all := lw_g (lw_at lw_m7 134 rfl) rfl
theorem q1725 : (Jvm.Cond.privateMethod ({ cls := "MistCouriers$Parser", name := "aBank", desc := "(LMistCouriers$State;)V" } : Jvm.MethodName)) ∈ lw_tbl := lw_at lw_m7 135 rfl
theorem q1726 : (Jvm.Cond.instanceMethod ({ cls := "MistCouriers$Parser", name := "aBank", desc := "(LMistCouriers$State;)V" } : Jvm.MethodName)) ∈ lw_all := lw_g (lw_at lw_m7 136 rfl) rfl
theorem q1727 : (Jvm.Cond.code ({ cls := "MistCouriers$Parser", name := "aBank", desc := "(LMistCouriers$State;)V" } : Jvm.MethodName) prog_8_method_13_code (5 : Nat) (Option.none : Option Jvm.ClassFile.FieldType)) ∈ lw_all := lw_g (lw_at lw_m7 137 rfl) rfl
theorem q1728 : (Jvm.Cond.methodLink "MistCouriers$Parser" (133 : Nat) ({ cls := "MistCouriers$Parser", name := "cell", desc := "(LMistCouriers$Square;)I" } : Jvm.MethodName)) ∈ lw_all := lw_g (lw_at lw_m7 138 rfl) rfl
theorem q1729 : (Jvm.Cond.privateMethod ({ cls := "MistCouriers$Parser", name := "cell", desc := "(LMistCouriers$Square;)I" } : Jvm.MethodName)) ∈ lw_tbl := lw_at lw_m7 139 rfl
theorem q1730 : (Jvm.Cond.instanceMethod ({ cls := "MistCouriers$Parser", name := "cell", desc := "(LMistCouriers$Square;)I" } : Jvm.MethodName)) ∈ lw_all := lw_g (lw_at lw_m7 140 rfl) rfl
theorem q1731 : (Jvm.Cond.code ({ cls := "MistCouriers$Parser", name := "cell", desc := "(LMistCouriers$Square;)I" } : Jvm.MethodName) prog_8_method_10_code (2 : Nat) (Option.some Jvm.ClassFile.FieldType.int)) ∈ lw_all := lw_g (lw_at lw_m7 141 rfl) rfl
theorem q1732 : (Jvm.Cond.classLink "MistCouriers$Parser" (141 : Nat) "MistCouriers$Bank") ∈ lw_all := lw_g (lw_at lw_m7 142 rfl) rfl
theorem q1733 : (Jvm.Cond.methodLink "MistCouriers$Parser" (143 : Nat) ({ cls := "MistCouriers$Bank", name := "<init>", desc := "(IIII)V" } : Jvm.MethodName)) ∈ lw_all := lw_g (lw_at lw_m7 143 rfl) rfl
theorem q1734 : (Jvm.Cond.methodLink "MistCouriers$Parser" (146 : Nat) ({ cls := "java/util/ArrayList", name := "add", desc := "(Ljava/lang/Object;)Z" } : Jvm.MethodName)) ∈ lw_all := lw_g (lw_at lw_m7 144 rfl) rfl
theorem q1735 : (Jvm.Cond.methodLink "MistCouriers$Parser" (202 : Nat) ({ cls := "MistCouriers$Parser", name := "aWatcher", desc := "(LMistCouriers$State;)V" } : Jvm.MethodName)) ∈ lw_all := lw_g (lw_at lw_m7 145 rfl) rfl
theorem q1736 : (Jvm.Cond.privateMethod ({ cls := "MistCouriers$Parser", name := "aWatcher", desc := "(LMistCouriers$State;)V" } : Jvm.MethodName)) ∈ lw_tbl := lw_at lw_m7 146 rfl
theorem q1737 : (Jvm.Cond.instanceMethod ({ cls := "MistCouriers$Parser", name := "aWatcher", desc := "(LMistCouriers$State;)V" } : Jvm.MethodName)) ∈ lw_all := lw_g (lw_at lw_m7 147 rfl) rfl
theorem q1738 : (Jvm.Cond.code ({ cls := "MistCouriers$Parser", name := "aWatcher", desc := "(LMistCouriers$State;)V" } : Jvm.MethodName) prog_8_method_14_code (5 : Nat) (Option.none : Option Jvm.ClassFile.FieldType)) ∈ lw_all := lw_g (lw_at lw_m7 148 rfl) rfl
theorem q1739 : (Jvm.Cond.methodLink "MistCouriers$Parser" (151 : Nat) ({ cls := "MistCouriers$Parser", name := "openCell", desc := "(LMistCouriers$Square;I)I" } : Jvm.MethodName)) ∈ lw_all := lw_g (lw_at lw_m7 149 rfl) rfl
theorem q1740 : (Jvm.Cond.privateMethod ({ cls := "MistCouriers$Parser", name := "openCell", desc := "(LMistCouriers$Square;I)I" } : Jvm.MethodName)) ∈ lw_tbl := lw_at lw_m7 150 rfl
theorem q1741 : (Jvm.Cond.instanceMethod ({ cls := "MistCouriers$Parser", name := "openCell", desc := "(LMistCouriers$Square;I)I" } : Jvm.MethodName)) ∈ lw_all := lw_g (lw_at lw_m7 151 rfl) rfl
theorem q1742 : (Jvm.Cond.code ({ cls := "MistCouriers$Parser", name := "openCell", desc := "(LMistCouriers$Square;I)I" } : Jvm.MethodName) prog_8_method_11_code (4 : Nat) (Option.some Jvm.ClassFile.FieldType.int)) ∈ lw_all := lw_g (lw_at lw_m7 152 rfl) rfl
theorem q1743 : (Jvm.Cond.methodLink "MistCouriers$Parser" (155 : Nat) ({ cls := "MistCouriers$State", name := "posts", desc := "(IIII)V" } : Jvm.MethodName)) ∈ lw_all := lw_g (lw_at lw_m7 153 rfl) rfl
theorem q1744 : (Jvm.Cond.classLink "MistCouriers$Parser" (205 : Nat) "MistCouriers$Courier") ∈ lw_all := lw_g (lw_at lw_m7 154 rfl) rfl
theorem q1745 : (Jvm.Cond.methodLink "MistCouriers$Parser" (207 : Nat) ({ cls := "MistCouriers$Courier", name := "<init>", desc := "(I)V" } : Jvm.MethodName)) ∈ lw_all := lw_g (lw_at lw_m7 155 rfl) rfl
theorem q1746 : (Jvm.Cond.methodLink "MistCouriers$Parser" (210 : Nat) ({ cls := "MistCouriers$Parser", name := "aLetter", desc := "(LMistCouriers$State;)V" } : Jvm.MethodName)) ∈ lw_all := lw_g (lw_at lw_m7 156 rfl) rfl
theorem q1747 : (Jvm.Cond.privateMethod ({ cls := "MistCouriers$Parser", name := "aLetter", desc := "(LMistCouriers$State;)V" } : Jvm.MethodName)) ∈ lw_tbl := lw_at lw_m7 157 rfl
theorem q1748 : (Jvm.Cond.instanceMethod ({ cls := "MistCouriers$Parser", name := "aLetter", desc := "(LMistCouriers$State;)V" } : Jvm.MethodName)) ∈ lw_all := lw_g (lw_at lw_m7 158 rfl) rfl
theorem q1749 : (Jvm.Cond.code ({ cls := "MistCouriers$Parser", name := "aLetter", desc := "(LMistCouriers$State;)V" } : Jvm.MethodName) prog_8_method_15_code (3 : Nat) (Option.none : Option Jvm.ClassFile.FieldType)) ∈ lw_all := lw_g (lw_at lw_m7 159 rfl) rfl
theorem q1750 : (Jvm.Cond.classLink "MistCouriers$Parser" (161 : Nat) "MistCouriers$Letter") ∈ lw_all := lw_g (lw_at lw_m7 160 rfl) rfl
theorem q1751 : (Jvm.Cond.methodLink "MistCouriers$Parser" (163 : Nat) ({ cls := "MistCouriers$Letter", name := "<init>", desc := "(II)V" } : Jvm.MethodName)) ∈ lw_all := lw_g (lw_at lw_m7 161 rfl) rfl
theorem q1764 : (Jvm.Cond.instanceMethod ({ cls := "MistCouriers$Parser", name := "script", desc := "()Ljava/util/ArrayDeque;" } : Jvm.MethodName)) ∈ lw_all := lw_g (lw_at lw_m7 174 rfl) rfl
theorem q1765 : (Jvm.Cond.selects "MistCouriers$Parser" ({ cls := "MistCouriers$Parser", name := "script", desc := "()Ljava/util/ArrayDeque;" } : Jvm.MethodName) ({ cls := "MistCouriers$Parser", name := "script", desc := "()Ljava/util/ArrayDeque;" } : Jvm.MethodName)) ∈ lw_all := lw_g (lw_at lw_m7 175 rfl) rfl
theorem q1766 : (Jvm.Cond.code ({ cls := "MistCouriers$Parser", name := "script", desc := "()Ljava/util/ArrayDeque;" } : Jvm.MethodName) prog_8_method_19_code (2 : Nat) (Option.some (Jvm.ClassFile.FieldType.object "java/util/ArrayDeque"))) ∈ lw_all := lw_g (lw_at lw_m7 176 rfl) rfl
theorem q1767 : (Jvm.Cond.classLink "MistCouriers$Parser" (230 : Nat) "java/util/ArrayDeque") ∈ lw_all := lw_g (lw_at lw_m7 177 rfl) rfl
theorem q1768 : (Jvm.Cond.methodLink "MistCouriers$Parser" (232 : Nat) ({ cls := "java/util/ArrayDeque", name := "<init>", desc := "()V" } : Jvm.MethodName)) ∈ lw_all := lw_g (lw_at lw_m7 178 rfl) rfl
theorem q1769 : (Jvm.Cond.methodLink "MistCouriers$Parser" (233 : Nat) ({ cls := "MistCouriers$Parser", name := "isCommand", desc := "()Z" } : Jvm.MethodName)) ∈ lw_all := lw_g (lw_at lw_m7 179 rfl) rfl
theorem q1770 : (Jvm.Cond.privateMethod ({ cls := "MistCouriers$Parser", name := "isCommand", desc := "()Z" } : Jvm.MethodName)) ∈ lw_tbl := lw_at lw_m7 180 rfl
theorem q1771 : (Jvm.Cond.instanceMethod ({ cls := "MistCouriers$Parser", name := "isCommand", desc := "()Z" } : Jvm.MethodName)) ∈ lw_all := lw_g (lw_at lw_m7 181 rfl) rfl
theorem q1772 : (Jvm.Cond.code ({ cls := "MistCouriers$Parser", name := "isCommand", desc := "()Z" } : Jvm.MethodName) prog_8_method_20_code (3 : Nat) (Option.some Jvm.ClassFile.FieldType.boolean)) ∈ lw_all := lw_g (lw_at lw_m7 182 rfl) rfl
theorem q1773 : (Jvm.Cond.stringRef "MistCouriers$Parser" (245 : Nat) "step") ∈ lw_tbl := lw_at lw_m7 183 rfl
theorem q1774 : (Jvm.Cond.stringRef "MistCouriers$Parser" (247 : Nat) "pick") ∈ lw_tbl := lw_at lw_m7 184 rfl
theorem q1775 : (Jvm.Cond.stringRef "MistCouriers$Parser" (249 : Nat) "give") ∈ lw_tbl := lw_at lw_m7 185 rfl
theorem q1776 : (Jvm.Cond.stringRef "MistCouriers$Parser" (251 : Nat) "lay") ∈ lw_tbl := lw_at lw_m7 186 rfl
theorem q1777 : (Jvm.Cond.stringRef "MistCouriers$Parser" (253 : Nat) "pass") ∈ lw_tbl := lw_at lw_m7 187 rfl
theorem q1778 : (Jvm.Cond.methodLink "MistCouriers$Parser" (236 : Nat) ({ cls := "java/util/ArrayDeque", name := "size", desc := "()I" } : Jvm.MethodName)) ∈ lw_all := lw_g (lw_at lw_m7 188 rfl) rfl
theorem q1785 : (Jvm.Cond.methodLink "MistCouriers$Parser" (237 : Nat) ({ cls := "MistCouriers$Parser", name := "command", desc := "()LMistCouriers$Command;" } : Jvm.MethodName)) ∈ lw_all := lw_g (lw_at lw_m7 195 rfl) rfl
theorem q1786 : (Jvm.Cond.privateMethod ({ cls := "MistCouriers$Parser", name := "command", desc := "()LMistCouriers$Command;" } : Jvm.MethodName)) ∈ lw_tbl := lw_at lw_m7 196 rfl
theorem q1787 : (Jvm.Cond.instanceMethod ({ cls := "MistCouriers$Parser", name := "command", desc := "()LMistCouriers$Command;" } : Jvm.MethodName)) ∈ lw_all := lw_g (lw_at lw_m7 197 rfl) rfl
theorem q1788 : (Jvm.Cond.code ({ cls := "MistCouriers$Parser", name := "command", desc := "()LMistCouriers$Command;" } : Jvm.MethodName) prog_8_method_24_code (4 : Nat) (Option.some (Jvm.ClassFile.FieldType.object "MistCouriers$Command"))) ∈ lw_all := lw_g (lw_at lw_m7 198 rfl) rfl
theorem q1789 : (Jvm.Cond.methodLink "MistCouriers$Parser" (262 : Nat) ({ cls := "MistCouriers$Parser", name := "two", desc := "(Ljava/lang/String;I)LMistCouriers$Command;" } : Jvm.MethodName)) ∈ lw_all := lw_g (lw_at lw_m7 199 rfl) rfl
theorem q1790 : (Jvm.Cond.privateMethod ({ cls := "MistCouriers$Parser", name := "two", desc := "(Ljava/lang/String;I)LMistCouriers$Command;" } : Jvm.MethodName)) ∈ lw_tbl := lw_at lw_m7 200 rfl
theorem q1791 : (Jvm.Cond.instanceMethod ({ cls := "MistCouriers$Parser", name := "two", desc := "(Ljava/lang/String;I)LMistCouriers$Command;" } : Jvm.MethodName)) ∈ lw_all := lw_g (lw_at lw_m7 201 rfl) rfl
theorem q1792 : (Jvm.Cond.code ({ cls := "MistCouriers$Parser", name := "two", desc := "(Ljava/lang/String;I)LMistCouriers$Command;" } : Jvm.MethodName) prog_8_method_22_code (4 : Nat) (Option.some (Jvm.ClassFile.FieldType.object "MistCouriers$Command"))) ∈ lw_all := lw_g (lw_at lw_m7 202 rfl) rfl
theorem q1793 : (Jvm.Cond.methodLink "MistCouriers$Parser" (255 : Nat) ({ cls := "MistCouriers$Parser", name := "courier", desc := "()I" } : Jvm.MethodName)) ∈ lw_all := lw_g (lw_at lw_m7 203 rfl) rfl
theorem q1794 : (Jvm.Cond.privateMethod ({ cls := "MistCouriers$Parser", name := "courier", desc := "()I" } : Jvm.MethodName)) ∈ lw_tbl := lw_at lw_m7 204 rfl
theorem q1795 : (Jvm.Cond.instanceMethod ({ cls := "MistCouriers$Parser", name := "courier", desc := "()I" } : Jvm.MethodName)) ∈ lw_all := lw_g (lw_at lw_m7 205 rfl) rfl
theorem q1796 : (Jvm.Cond.code ({ cls := "MistCouriers$Parser", name := "courier", desc := "()I" } : Jvm.MethodName) prog_8_method_21_code (1 : Nat) (Option.some Jvm.ClassFile.FieldType.int)) ∈ lw_all := lw_g (lw_at lw_m7 206 rfl) rfl
theorem q1797 : (Jvm.Cond.classLink "MistCouriers$Parser" (257 : Nat) "MistCouriers$Command") ∈ lw_all := lw_g (lw_at lw_m7 207 rfl) rfl
theorem q1799 : (Jvm.Cond.methodLink "MistCouriers$Parser" (259 : Nat) ({ cls := "MistCouriers$Command", name := "<init>", desc := "(Ljava/lang/String;[I)V" } : Jvm.MethodName)) ∈ lw_all := lw_g (lw_at lw_m7 209 rfl) rfl
theorem q1812 : (Jvm.Cond.methodLink "MistCouriers$Parser" (266 : Nat) ({ cls := "MistCouriers$Parser", name := "gives", desc := "(Ljava/lang/String;)LMistCouriers$Command;" } : Jvm.MethodName)) ∈ lw_all := lw_g (lw_at lw_m7 222 rfl) rfl
theorem q1813 : (Jvm.Cond.privateMethod ({ cls := "MistCouriers$Parser", name := "gives", desc := "(Ljava/lang/String;)LMistCouriers$Command;" } : Jvm.MethodName)) ∈ lw_tbl := lw_at lw_m7 223 rfl
theorem q1814 : (Jvm.Cond.instanceMethod ({ cls := "MistCouriers$Parser", name := "gives", desc := "(Ljava/lang/String;)LMistCouriers$Command;" } : Jvm.MethodName)) ∈ lw_all := lw_g (lw_at lw_m7 224 rfl) rfl
theorem q1815 : (Jvm.Cond.code ({ cls := "MistCouriers$Parser", name := "gives", desc := "(Ljava/lang/String;)LMistCouriers$Command;" } : Jvm.MethodName) prog_8_method_23_code (4 : Nat) (Option.some (Jvm.ClassFile.FieldType.object "MistCouriers$Command"))) ∈ lw_all := lw_g (lw_at lw_m7 225 rfl) rfl
theorem q1816 : (Jvm.Cond.methodLink "MistCouriers$Parser" (241 : Nat) ({ cls := "java/util/ArrayDeque", name := "addLast", desc := "(Ljava/lang/Object;)V" } : Jvm.MethodName)) ∈ lw_all := lw_g (lw_at lw_m7 226 rfl) rfl
theorem q3190 : (Jvm.Cond.castable "MistCouriers$Parser" "java/lang/Object") ∈ lw_tbl := lw_at lw_m13 160 rfl
theorem q192 : (Jvm.Cond.initialized "MistCouriers$Fault") ∈ lw_all := lw_g (lw_at lw_m1 42 rfl) rfl
theorem q339 : (Jvm.Cond.selects "MistCouriers$Fault" ({ cls := "java/lang/Throwable", name := "fillInStackTrace", desc := "()Ljava/lang/Throwable;" } : Jvm.MethodName) ({ cls := "java/lang/Throwable", name := "fillInStackTrace", desc := "()Ljava/lang/Throwable;" } : Jvm.MethodName)) ∈ lw_all := lw_g (lw_at lw_m1 189 rfl) rfl
theorem q731 : (Jvm.Cond.selects "MistCouriers$Fault" ({ cls := "java/lang/Object", name := "getClass", desc := "()Ljava/lang/Class;" } : Jvm.MethodName) ({ cls := "java/lang/Object", name := "getClass", desc := "()Ljava/lang/Class;" } : Jvm.MethodName)) ∈ lw_all := lw_g (lw_at lw_m3 101 rfl) rfl
theorem q836 : (Jvm.Cond.selects "MistCouriers$Fault" ({ cls := "java/lang/Object", name := "hashCode", desc := "()I" } : Jvm.MethodName) ({ cls := "java/lang/Object", name := "hashCode", desc := "()I" } : Jvm.MethodName)) ∈ lw_all := lw_g (lw_at lw_m3 206 rfl) rfl
theorem q930 : (Jvm.Cond.selects "MistCouriers$Fault" ({ cls := "java/lang/Object", name := "equals", desc := "(Ljava/lang/Object;)Z" } : Jvm.MethodName) ({ cls := "java/lang/Object", name := "equals", desc := "(Ljava/lang/Object;)Z" } : Jvm.MethodName)) ∈ lw_all := lw_g (lw_at lw_m4 60 rfl) rfl
theorem q1665 : (Jvm.Cond.instantiable "MistCouriers$Fault" (8 : Nat)) ∈ lw_all := lw_g (lw_at lw_m7 75 rfl) rfl
theorem q1666 : (Jvm.Cond.castable "MistCouriers$Fault" "MistCouriers$Fault") ∈ lw_tbl := lw_at lw_m7 76 rfl
theorem q1667 : (Jvm.Cond.selects "MistCouriers$Fault" ({ cls := "java/lang/Throwable", name := "fillInStackTrace", desc := "(I)Ljava/lang/Throwable;" } : Jvm.MethodName) ({ cls := "java/lang/Throwable", name := "fillInStackTrace", desc := "(I)Ljava/lang/Throwable;" } : Jvm.MethodName)) ∈ lw_all := lw_g (lw_at lw_m7 77 rfl) rfl
theorem q1668 : (Jvm.Cond.lays "MistCouriers$Fault" "java/lang/Throwable" "cause" "Ljava/lang/Throwable;") ∈ lw_all := lw_g (lw_at lw_m7 78 rfl) rfl
theorem q1669 : (Jvm.Cond.lays "MistCouriers$Fault" "java/lang/Throwable" "stackTrace" "[Ljava/lang/StackTraceElement;") ∈ lw_all := lw_g (lw_at lw_m7 79 rfl) rfl
theorem q1670 : (Jvm.Cond.lays "MistCouriers$Fault" "java/lang/Throwable" "suppressedExceptions" "Ljava/util/List;") ∈ lw_all := lw_g (lw_at lw_m7 80 rfl) rfl
theorem q1671 : (Jvm.Cond.lays "MistCouriers$Fault" "java/lang/Throwable" "detailMessage" "Ljava/lang/String;") ∈ lw_all := lw_g (lw_at lw_m7 81 rfl) rfl
theorem q1672 : (Jvm.Cond.lays "MistCouriers$Fault" "java/lang/Throwable" "backtrace" "Ljava/lang/Object;") ∈ lw_all := lw_g (lw_at lw_m7 82 rfl) rfl
theorem q1674 : (Jvm.Cond.instanceMethod ({ cls := "MistCouriers$Fault", name := "<init>", desc := "(II)V" } : Jvm.MethodName)) ∈ lw_all := lw_g (lw_at lw_m7 84 rfl) rfl
theorem q1675 : (Jvm.Cond.code ({ cls := "MistCouriers$Fault", name := "<init>", desc := "(II)V" } : Jvm.MethodName) prog_5_method_1_code (3 : Nat) (Option.none : Option Jvm.ClassFile.FieldType)) ∈ lw_all := lw_g (lw_at lw_m7 85 rfl) rfl
theorem q1676 : (Jvm.Cond.methodLink "MistCouriers$Fault" (1 : Nat) ({ cls := "java/lang/Exception", name := "<init>", desc := "(Ljava/lang/String;Ljava/lang/Throwable;ZZ)V" } : Jvm.MethodName)) ∈ lw_all := lw_g (lw_at lw_m7 86 rfl) rfl
theorem q1682 : (Jvm.Cond.fieldLink "MistCouriers$Fault" (7 : Nat) "MistCouriers$Fault" "code" "I") ∈ lw_all := lw_g (lw_at lw_m7 92 rfl) rfl
theorem q1684 : (Jvm.Cond.fieldLink "MistCouriers$Fault" (13 : Nat) "MistCouriers$Fault" "position" "I") ∈ lw_all := lw_g (lw_at lw_m7 94 rfl) rfl
theorem q1686 : (Jvm.Cond.laysFinal "MistCouriers$Fault" "MistCouriers$Fault" "code" "I") ∈ lw_all := lw_g (lw_at lw_m7 96 rfl) rfl
theorem q1687 : (Jvm.Cond.soleField "MistCouriers$Fault" "code") ∈ lw_all := lw_g (lw_at lw_m7 97 rfl) rfl
theorem q1688 : (Jvm.Cond.laysFinal "MistCouriers$Fault" "MistCouriers$Fault" "position" "I") ∈ lw_all := lw_g (lw_at lw_m7 98 rfl) rfl
theorem q1689 : (Jvm.Cond.soleField "MistCouriers$Fault" "position") ∈ lw_all := lw_g (lw_at lw_m7 99 rfl) rfl
theorem q1690 : (Jvm.Cond.lays "MistCouriers$Fault" "java/lang/Throwable" "depth" "I") ∈ lw_all := lw_g (lw_at lw_m7 100 rfl) rfl
theorem q1691 : (Jvm.Cond.superclass "MistCouriers$Fault" "java/lang/Exception") ∈ lw_all := lw_g (lw_at lw_m7 101 rfl) rfl
theorem q3192 : (Jvm.Cond.castable "MistCouriers$Fault" "java/lang/Object") ∈ lw_tbl := lw_at lw_m13 162 rfl
theorem q193 : (Jvm.Cond.initialized "MistCouriers$Command") ∈ lw_all := lw_g (lw_at lw_m1 43 rfl) rfl
theorem q729 : (Jvm.Cond.selects "MistCouriers$Command" ({ cls := "java/lang/Object", name := "getClass", desc := "()Ljava/lang/Class;" } : Jvm.MethodName) ({ cls := "java/lang/Object", name := "getClass", desc := "()Ljava/lang/Class;" } : Jvm.MethodName)) ∈ lw_all := lw_g (lw_at lw_m3 99 rfl) rfl
theorem q834 : (Jvm.Cond.selects "MistCouriers$Command" ({ cls := "java/lang/Object", name := "hashCode", desc := "()I" } : Jvm.MethodName) ({ cls := "java/lang/Object", name := "hashCode", desc := "()I" } : Jvm.MethodName)) ∈ lw_all := lw_g (lw_at lw_m3 204 rfl) rfl
theorem q928 : (Jvm.Cond.selects "MistCouriers$Command" ({ cls := "java/lang/Object", name := "equals", desc := "(Ljava/lang/Object;)Z" } : Jvm.MethodName) ({ cls := "java/lang/Object", name := "equals", desc := "(Ljava/lang/Object;)Z" } : Jvm.MethodName)) ∈ lw_all := lw_g (lw_at lw_m4 58 rfl) rfl
theorem q1798 : (Jvm.Cond.instantiable "MistCouriers$Command" (2 : Nat)) ∈ lw_all := lw_g (lw_at lw_m7 208 rfl) rfl
theorem q1800 : (Jvm.Cond.instanceMethod ({ cls := "MistCouriers$Command", name := "<init>", desc := "(Ljava/lang/String;[I)V" } : Jvm.MethodName)) ∈ lw_all := lw_g (lw_at lw_m7 210 rfl) rfl
theorem q1801 : (Jvm.Cond.code ({ cls := "MistCouriers$Command", name := "<init>", desc := "(Ljava/lang/String;[I)V" } : Jvm.MethodName) prog_3_method_1_code (3 : Nat) (Option.none : Option Jvm.ClassFile.FieldType)) ∈ lw_all := lw_g (lw_at lw_m7 211 rfl) rfl
theorem q1802 : (Jvm.Cond.methodLink "MistCouriers$Command" (1 : Nat) ({ cls := "java/lang/Object", name := "<init>", desc := "()V" } : Jvm.MethodName)) ∈ lw_all := lw_g (lw_at lw_m7 212 rfl) rfl
theorem q1803 : (Jvm.Cond.fieldLink "MistCouriers$Command" (7 : Nat) "MistCouriers$Command" "word" "Ljava/lang/String;") ∈ lw_all := lw_g (lw_at lw_m7 213 rfl) rfl
theorem q1805 : (Jvm.Cond.fieldLink "MistCouriers$Command" (13 : Nat) "MistCouriers$Command" "numbers" "[I") ∈ lw_all := lw_g (lw_at lw_m7 215 rfl) rfl
theorem q1807 : (Jvm.Cond.laysFinal "MistCouriers$Command" "MistCouriers$Command" "word" "Ljava/lang/String;") ∈ lw_all := lw_g (lw_at lw_m7 217 rfl) rfl
theorem q1808 : (Jvm.Cond.soleField "MistCouriers$Command" "word") ∈ lw_all := lw_g (lw_at lw_m7 218 rfl) rfl
theorem q1809 : (Jvm.Cond.laysFinal "MistCouriers$Command" "MistCouriers$Command" "numbers" "[I") ∈ lw_all := lw_g (lw_at lw_m7 219 rfl) rfl
theorem q1810 : (Jvm.Cond.soleField "MistCouriers$Command" "numbers") ∈ lw_all := lw_g (lw_at lw_m7 220 rfl) rfl
theorem q1811 : (Jvm.Cond.superclass "MistCouriers$Command" "java/lang/Object") ∈ lw_all := lw_g (lw_at lw_m7 221 rfl) rfl
theorem q3193 : (Jvm.Cond.castable "MistCouriers$Command" "java/lang/Object") ∈ lw_tbl := lw_at lw_m13 163 rfl
theorem q197 : (Jvm.Cond.initialized "MistCouriers$Grid") ∈ lw_all := lw_g (lw_at lw_m1 47 rfl) rfl
theorem q1464 : (Jvm.Cond.declares ({ cls := "MistCouriers$Grid", name := "cells", desc := "()I" } : Jvm.MethodName)) ∈ lw_tbl := lw_at lw_m6 114 rfl
theorem q1466 : (Jvm.Cond.instanceMethod ({ cls := "MistCouriers$Grid", name := "cells", desc := "()I" } : Jvm.MethodName)) ∈ lw_all := lw_g (lw_at lw_m6 116 rfl) rfl
theorem q1467 : (Jvm.Cond.publicMethod ({ cls := "MistCouriers$Grid", name := "cells", desc := "()I" } : Jvm.MethodName)) ∈ lw_tbl := lw_at lw_m6 117 rfl
theorem q1468 : (Jvm.Cond.code ({ cls := "MistCouriers$Grid", name := "cells", desc := "()I" } : Jvm.MethodName) prog_6_method_5_code (1 : Nat) (Option.some Jvm.ClassFile.FieldType.int)) ∈ lw_all := lw_g (lw_at lw_m6 118 rfl) rfl
theorem q1469 : (Jvm.Cond.interfaceEntry "MistCouriers$Grid" (3 : Nat)) ∈ lw_tbl := lw_at lw_m6 119 rfl
theorem q1470 : (Jvm.Cond.methodLink "MistCouriers$Grid" (3 : Nat) ({ cls := "MistCouriers$Grid", name := "width", desc := "()I" } : Jvm.MethodName)) ∈ lw_all := lw_g (lw_at lw_m6 120 rfl) rfl
theorem q1471 : (Jvm.Cond.interfaceMethod "MistCouriers$Grid" "MistCouriers$Grid" "width" "()I") ∈ lw_tbl := lw_at lw_m6 121 rfl
theorem q1472 : (Jvm.Cond.declares ({ cls := "MistCouriers$Grid", name := "width", desc := "()I" } : Jvm.MethodName)) ∈ lw_tbl := lw_at lw_m6 122 rfl
theorem q1479 : (Jvm.Cond.interfaceEntry "MistCouriers$Grid" (9 : Nat)) ∈ lw_tbl := lw_at lw_m6 129 rfl
theorem q1480 : (Jvm.Cond.methodLink "MistCouriers$Grid" (9 : Nat) ({ cls := "MistCouriers$Grid", name := "height", desc := "()I" } : Jvm.MethodName)) ∈ lw_all := lw_g (lw_at lw_m6 130 rfl) rfl
theorem q1481 : (Jvm.Cond.interfaceMethod "MistCouriers$Grid" "MistCouriers$Grid" "height" "()I") ∈ lw_tbl := lw_at lw_m6 131 rfl
theorem q1482 : (Jvm.Cond.declares ({ cls := "MistCouriers$Grid", name := "height", desc := "()I" } : Jvm.MethodName)) ∈ lw_tbl := lw_at lw_m6 132 rfl
theorem q1534 : (Jvm.Cond.declares ({ cls := "MistCouriers$Grid", name := "far", desc := "(II)I" } : Jvm.MethodName)) ∈ lw_tbl := lw_at lw_m6 184 rfl
theorem q1536 : (Jvm.Cond.instanceMethod ({ cls := "MistCouriers$Grid", name := "far", desc := "(II)I" } : Jvm.MethodName)) ∈ lw_all := lw_g (lw_at lw_m6 186 rfl) rfl
theorem q1537 : (Jvm.Cond.publicMethod ({ cls := "MistCouriers$Grid", name := "far", desc := "(II)I" } : Jvm.MethodName)) ∈ lw_tbl := lw_at lw_m6 187 rfl
theorem q1538 : (Jvm.Cond.code ({ cls := "MistCouriers$Grid", name := "far", desc := "(II)I" } : Jvm.MethodName) prog_6_method_10_code (3 : Nat) (Option.some Jvm.ClassFile.FieldType.int)) ∈ lw_all := lw_g (lw_at lw_m6 188 rfl) rfl
theorem q1539 : (Jvm.Cond.interfaceEntry "MistCouriers$Grid" (12 : Nat)) ∈ lw_tbl := lw_at lw_m6 189 rfl
theorem q1540 : (Jvm.Cond.methodLink "MistCouriers$Grid" (12 : Nat) ({ cls := "MistCouriers$Grid", name := "columnOf", desc := "(I)I" } : Jvm.MethodName)) ∈ lw_all := lw_g (lw_at lw_m6 190 rfl) rfl
theorem q1541 : (Jvm.Cond.interfaceMethod "MistCouriers$Grid" "MistCouriers$Grid" "columnOf" "(I)I") ∈ lw_tbl := lw_at lw_m6 191 rfl
theorem q1542 : (Jvm.Cond.declares ({ cls := "MistCouriers$Grid", name := "columnOf", desc := "(I)I" } : Jvm.MethodName)) ∈ lw_tbl := lw_at lw_m6 192 rfl
theorem q1544 : (Jvm.Cond.instanceMethod ({ cls := "MistCouriers$Grid", name := "columnOf", desc := "(I)I" } : Jvm.MethodName)) ∈ lw_all := lw_g (lw_at lw_m6 194 rfl) rfl
theorem q1545 : (Jvm.Cond.publicMethod ({ cls := "MistCouriers$Grid", name := "columnOf", desc := "(I)I" } : Jvm.MethodName)) ∈ lw_tbl := lw_at lw_m6 195 rfl
theorem q1546 : (Jvm.Cond.code ({ cls := "MistCouriers$Grid", name := "columnOf", desc := "(I)I" } : Jvm.MethodName) prog_6_method_6_code (2 : Nat) (Option.some Jvm.ClassFile.FieldType.int)) ∈ lw_all := lw_g (lw_at lw_m6 196 rfl) rfl
theorem q1547 : (Jvm.Cond.methodLink "MistCouriers$Grid" (29 : Nat) ({ cls := "java/lang/Math", name := "abs", desc := "(I)I" } : Jvm.MethodName)) ∈ lw_all := lw_g (lw_at lw_m6 197 rfl) rfl
theorem q1548 : (Jvm.Cond.interfaceEntry "MistCouriers$Grid" (19 : Nat)) ∈ lw_tbl := lw_at lw_m6 198 rfl
theorem q1549 : (Jvm.Cond.methodLink "MistCouriers$Grid" (19 : Nat) ({ cls := "MistCouriers$Grid", name := "rowOf", desc := "(I)I" } : Jvm.MethodName)) ∈ lw_all := lw_g (lw_at lw_m6 199 rfl) rfl
theorem q1550 : (Jvm.Cond.interfaceMethod "MistCouriers$Grid" "MistCouriers$Grid" "rowOf" "(I)I") ∈ lw_tbl := lw_at lw_m6 200 rfl
theorem q1551 : (Jvm.Cond.declares ({ cls := "MistCouriers$Grid", name := "rowOf", desc := "(I)I" } : Jvm.MethodName)) ∈ lw_tbl := lw_at lw_m6 201 rfl
theorem q1553 : (Jvm.Cond.instanceMethod ({ cls := "MistCouriers$Grid", name := "rowOf", desc := "(I)I" } : Jvm.MethodName)) ∈ lw_all := lw_g (lw_at lw_m6 203 rfl) rfl
theorem q1554 : (Jvm.Cond.publicMethod ({ cls := "MistCouriers$Grid", name := "rowOf", desc := "(I)I" } : Jvm.MethodName)) ∈ lw_tbl := lw_at lw_m6 204 rfl
theorem q1555 : (Jvm.Cond.code ({ cls := "MistCouriers$Grid", name := "rowOf", desc := "(I)I" } : Jvm.MethodName) prog_6_method_7_code (2 : Nat) (Option.some Jvm.ClassFile.FieldType.int)) ∈ lw_all := lw_g (lw_at lw_m6 205 rfl) rfl
theorem q1982 : (Jvm.Cond.declares ({ cls := "MistCouriers$Grid", name := "next", desc := "(II)I" } : Jvm.MethodName)) ∈ lw_tbl := lw_at lw_m8 152 rfl
theorem q1984 : (Jvm.Cond.instanceMethod ({ cls := "MistCouriers$Grid", name := "next", desc := "(II)I" } : Jvm.MethodName)) ∈ lw_all := lw_g (lw_at lw_m8 154 rfl) rfl
theorem q1985 : (Jvm.Cond.publicMethod ({ cls := "MistCouriers$Grid", name := "next", desc := "(II)I" } : Jvm.MethodName)) ∈ lw_tbl := lw_at lw_m8 155 rfl
theorem q1986 : (Jvm.Cond.code ({ cls := "MistCouriers$Grid", name := "next", desc := "(II)I" } : Jvm.MethodName) prog_6_method_8_code (5 : Nat) (Option.some Jvm.ClassFile.FieldType.int)) ∈ lw_all := lw_g (lw_at lw_m8 156 rfl) rfl
theorem q1987 : (Jvm.Cond.methodLink "MistCouriers$Grid" (16 : Nat) ({ cls := "MistCouriers$Grid", name := "columns", desc := "(I)I" } : Jvm.MethodName)) ∈ lw_all := lw_g (lw_at lw_m8 157 rfl) rfl
theorem q1988 : (Jvm.Cond.static ({ cls := "MistCouriers$Grid", name := "columns", desc := "(I)I" } : Jvm.MethodName)) ∈ lw_all := lw_g (lw_at lw_m8 158 rfl) rfl
theorem q1989 : (Jvm.Cond.code ({ cls := "MistCouriers$Grid", name := "columns", desc := "(I)I" } : Jvm.MethodName) prog_6_method_3_code (1 : Nat) (Option.some Jvm.ClassFile.FieldType.int)) ∈ lw_all := lw_g (lw_at lw_m8 159 rfl) rfl
theorem q1990 : (Jvm.Cond.methodLink "MistCouriers$Grid" (22 : Nat) ({ cls := "MistCouriers$Grid", name := "rows", desc := "(I)I" } : Jvm.MethodName)) ∈ lw_all := lw_g (lw_at lw_m8 160 rfl) rfl
theorem q1991 : (Jvm.Cond.static ({ cls := "MistCouriers$Grid", name := "rows", desc := "(I)I" } : Jvm.MethodName)) ∈ lw_all := lw_g (lw_at lw_m8 161 rfl) rfl
theorem q1992 : (Jvm.Cond.code ({ cls := "MistCouriers$Grid", name := "rows", desc := "(I)I" } : Jvm.MethodName) prog_6_method_4_code (1 : Nat) (Option.some Jvm.ClassFile.FieldType.int)) ∈ lw_all := lw_g (lw_at lw_m8 162 rfl) rfl
theorem q1993 : (Jvm.Cond.methodLinkNest "MistCouriers$Grid" (25 : Nat) ({ cls := "MistCouriers", name := "in", desc := "(III)Z" } : Jvm.MethodName) "MistCouriers") ∈ lw_tbl := lw_at lw_m8 163 rfl
theorem q2053 : (Jvm.Cond.declares ({ cls := "MistCouriers$Grid", name := "round", desc := "(II)I" } : Jvm.MethodName)) ∈ lw_tbl := lw_at lw_m8 223 rfl
theorem q2055 : (Jvm.Cond.instanceMethod ({ cls := "MistCouriers$Grid", name := "round", desc := "(II)I" } : Jvm.MethodName)) ∈ lw_all := lw_g (lw_at lw_m8 225 rfl) rfl
theorem q2056 : (Jvm.Cond.publicMethod ({ cls := "MistCouriers$Grid", name := "round", desc := "(II)I" } : Jvm.MethodName)) ∈ lw_tbl := lw_at lw_m8 226 rfl
theorem q2057 : (Jvm.Cond.code ({ cls := "MistCouriers$Grid", name := "round", desc := "(II)I" } : Jvm.MethodName) prog_6_method_9_code (5 : Nat) (Option.some Jvm.ClassFile.FieldType.int)) ∈ lw_all := lw_g (lw_at lw_m8 227 rfl) rfl
theorem q198 : (Jvm.Cond.initialized "MistCouriers$Ways") ∈ lw_all := lw_g (lw_at lw_m1 48 rfl) rfl
theorem q636 : (Jvm.Cond.fieldLinkNest "MistCouriers$Ways" (21 : Nat) "MistCouriers$State" "square" "LMistCouriers$Square;" "MistCouriers") ∈ lw_tbl := lw_at lw_m3 6 rfl
theorem q739 : (Jvm.Cond.selects "MistCouriers$Ways" ({ cls := "java/lang/Object", name := "getClass", desc := "()Ljava/lang/Class;" } : Jvm.MethodName) ({ cls := "java/lang/Object", name := "getClass", desc := "()Ljava/lang/Class;" } : Jvm.MethodName)) ∈ lw_all := lw_g (lw_at lw_m3 109 rfl) rfl
theorem q851 : (Jvm.Cond.selects "MistCouriers$Ways" ({ cls := "java/lang/Object", name := "hashCode", desc := "()I" } : Jvm.MethodName) ({ cls := "java/lang/Object", name := "hashCode", desc := "()I" } : Jvm.MethodName)) ∈ lw_all := lw_g (lw_at lw_m3 221 rfl) rfl
theorem q943 : (Jvm.Cond.selects "MistCouriers$Ways" ({ cls := "java/lang/Object", name := "equals", desc := "(Ljava/lang/Object;)Z" } : Jvm.MethodName) ({ cls := "java/lang/Object", name := "equals", desc := "(Ljava/lang/Object;)Z" } : Jvm.MethodName)) ∈ lw_all := lw_g (lw_at lw_m4 73 rfl) rfl
theorem q2281 : (Jvm.Cond.instantiable "MistCouriers$Ways" (2 : Nat)) ∈ lw_all := lw_g (lw_at lw_m9 211 rfl) rfl
theorem q2283 : (Jvm.Cond.instanceMethod ({ cls := "MistCouriers$Ways", name := "<init>", desc := "(LMistCouriers$State;I)V" } : Jvm.MethodName)) ∈ lw_all := lw_g (lw_at lw_m9 213 rfl) rfl
theorem q2284 : (Jvm.Cond.code ({ cls := "MistCouriers$Ways", name := "<init>", desc := "(LMistCouriers$State;I)V" } : Jvm.MethodName) prog_14_method_1_code (3 : Nat) (Option.none : Option Jvm.ClassFile.FieldType)) ∈ lw_all := lw_g (lw_at lw_m9 214 rfl) rfl
theorem q2285 : (Jvm.Cond.methodLink "MistCouriers$Ways" (3 : Nat) ({ cls := "java/lang/Object", name := "<init>", desc := "()V" } : Jvm.MethodName)) ∈ lw_all := lw_g (lw_at lw_m9 215 rfl) rfl
theorem q2286 : (Jvm.Cond.methodLink "MistCouriers$Ways" (9 : Nat) ({ cls := "MistCouriers$State", name := "twin", desc := "()LMistCouriers$State;" } : Jvm.MethodName)) ∈ lw_all := lw_g (lw_at lw_m9 216 rfl) rfl
theorem q2287 : (Jvm.Cond.fieldLink "MistCouriers$Ways" (15 : Nat) "MistCouriers$Ways" "then" "LMistCouriers$State;") ∈ lw_all := lw_g (lw_at lw_m9 217 rfl) rfl
theorem q2288 : (Jvm.Cond.fieldLink "MistCouriers$Ways" (31 : Nat) "MistCouriers$Ways" "can" "[Z") ∈ lw_all := lw_g (lw_at lw_m9 218 rfl) rfl
theorem q2290 : (Jvm.Cond.laysFinal "MistCouriers$Ways" "MistCouriers$Ways" "then" "LMistCouriers$State;") ∈ lw_all := lw_g (lw_at lw_m9 220 rfl) rfl
theorem q2291 : (Jvm.Cond.soleField "MistCouriers$Ways" "then") ∈ lw_all := lw_g (lw_at lw_m9 221 rfl) rfl
theorem q2292 : (Jvm.Cond.lays "MistCouriers$Ways" "MistCouriers$Ways" "can" "[Z") ∈ lw_all := lw_g (lw_at lw_m9 222 rfl) rfl
theorem q2293 : (Jvm.Cond.soleField "MistCouriers$Ways" "can") ∈ lw_all := lw_g (lw_at lw_m9 223 rfl) rfl
theorem q2294 : (Jvm.Cond.superclass "MistCouriers$Ways" "java/lang/Object") ∈ lw_all := lw_g (lw_at lw_m9 224 rfl) rfl
theorem q2296 : (Jvm.Cond.instanceMethod ({ cls := "MistCouriers$Ways", name := "goesOn", desc := "()V" } : Jvm.MethodName)) ∈ lw_all := lw_g (lw_at lw_m9 226 rfl) rfl
theorem q2297 : (Jvm.Cond.selects "MistCouriers$Ways" ({ cls := "MistCouriers$Ways", name := "goesOn", desc := "()V" } : Jvm.MethodName) ({ cls := "MistCouriers$Ways", name := "goesOn", desc := "()V" } : Jvm.MethodName)) ∈ lw_all := lw_g (lw_at lw_m9 227 rfl) rfl
theorem q2298 : (Jvm.Cond.code ({ cls := "MistCouriers$Ways", name := "goesOn", desc := "()V" } : Jvm.MethodName) prog_14_method_2_code (5 : Nat) (Option.none : Option Jvm.ClassFile.FieldType)) ∈ lw_all := lw_g (lw_at lw_m9 228 rfl) rfl
theorem q2299 : (Jvm.Cond.methodLink "MistCouriers$Ways" (35 : Nat) ({ cls := "MistCouriers$State", name := "drifts", desc := "()V" } : Jvm.MethodName)) ∈ lw_all := lw_g (lw_at lw_m9 229 rfl) rfl
theorem q2300 : (Jvm.Cond.methodLink "MistCouriers$Ways" (38 : Nat) ({ cls := "MistCouriers$State", name := "stepsTo", desc := "(II)I" } : Jvm.MethodName)) ∈ lw_all := lw_g (lw_at lw_m9 230 rfl) rfl
theorem q2301 : (Jvm.Cond.methodLink "MistCouriers$Ways" (42 : Nat) ({ cls := "MistCouriers$State", name := "isSeen", desc := "(I)Z" } : Jvm.MethodName)) ∈ lw_all := lw_g (lw_at lw_m9 231 rfl) rfl
theorem q2310 : (Jvm.Cond.instanceMethod ({ cls := "MistCouriers$Ways", name := "many", desc := "()I" } : Jvm.MethodName)) ∈ lw_all := lw_g (lw_at lw_m10 0 rfl) rfl
theorem q2311 : (Jvm.Cond.selects "MistCouriers$Ways" ({ cls := "MistCouriers$Ways", name := "many", desc := "()I" } : Jvm.MethodName) ({ cls := "MistCouriers$Ways", name := "many", desc := "()I" } : Jvm.MethodName)) ∈ lw_all := lw_g (lw_at lw_m10 1 rfl) rfl
theorem q2312 : (Jvm.Cond.code ({ cls := "MistCouriers$Ways", name := "many", desc := "()I" } : Jvm.MethodName) prog_14_method_3_code (6 : Nat) (Option.some Jvm.ClassFile.FieldType.int)) ∈ lw_all := lw_g (lw_at lw_m10 2 rfl) rfl
theorem q2313 : (Jvm.Cond.methodLinkNest "MistCouriers$Ways" (46 : Nat) ({ cls := "MistCouriers", name := "one", desc := "(Z)I" } : Jvm.MethodName) "MistCouriers") ∈ lw_tbl := lw_at lw_m10 3 rfl
theorem q3196 : (Jvm.Cond.castable "MistCouriers$Ways" "java/lang/Object") ∈ lw_tbl := lw_at lw_m13 166 rfl
theorem q154 : (Jvm.Cond.initialized "MistCouriers$State") ∈ lw_all := lw_g (lw_at lw_m1 4 rfl) rfl
theorem q231 : (Jvm.Cond.instantiable "MistCouriers$State" (8 : Nat)) ∈ lw_all := lw_g (lw_at lw_m1 81 rfl) rfl
theorem q276 : (Jvm.Cond.fieldLinkNest "MistCouriers$State" (121 : Nat) "MistCouriers$Square" "isWall" "[Z" "MistCouriers") ∈ lw_tbl := lw_at lw_m1 126 rfl
theorem q291 : (Jvm.Cond.instanceMethod ({ cls := "MistCouriers$State", name := "<init>", desc := "(LMistCouriers$Square;I)V" } : Jvm.MethodName)) ∈ lw_all := lw_g (lw_at lw_m1 141 rfl) rfl
theorem q292 : (Jvm.Cond.code ({ cls := "MistCouriers$State", name := "<init>", desc := "(LMistCouriers$Square;I)V" } : Jvm.MethodName) prog_11_method_1_code (3 : Nat) (Option.none : Option Jvm.ClassFile.FieldType)) ∈ lw_all := lw_g (lw_at lw_m1 142 rfl) rfl
theorem q293 : (Jvm.Cond.methodLink "MistCouriers$State" (3 : Nat) ({ cls := "java/lang/Object", name := "<init>", desc := "()V" } : Jvm.MethodName)) ∈ lw_all := lw_g (lw_at lw_m1 143 rfl) rfl
theorem q294 : (Jvm.Cond.classLink "MistCouriers$State" (9 : Nat) "java/util/ArrayList") ∈ lw_all := lw_g (lw_at lw_m1 144 rfl) rfl
theorem q296 : (Jvm.Cond.methodLink "MistCouriers$State" (11 : Nat) ({ cls := "java/util/ArrayList", name := "<init>", desc := "(I)V" } : Jvm.MethodName)) ∈ lw_all := lw_g (lw_at lw_m1 146 rfl) rfl
theorem q637 : (Jvm.Cond.fieldLink "MistCouriers$State" (33 : Nat) "MistCouriers$State" "square" "LMistCouriers$Square;") ∈ lw_all := lw_g (lw_at lw_m3 7 rfl) rfl
theorem q640 : (Jvm.Cond.fieldLink "MistCouriers$State" (37 : Nat) "MistCouriers$State" "load" "I") ∈ lw_all := lw_g (lw_at lw_m3 10 rfl) rfl
theorem q642 : (Jvm.Cond.fieldLink "MistCouriers$State" (14 : Nat) "MistCouriers$State" "banks" "Ljava/util/ArrayList;") ∈ lw_all := lw_g (lw_at lw_m3 12 rfl) rfl
theorem q645 : (Jvm.Cond.fieldLink "MistCouriers$State" (20 : Nat) "MistCouriers$State" "watchers" "Ljava/util/ArrayList;") ∈ lw_all := lw_g (lw_at lw_m3 15 rfl) rfl
theorem q648 : (Jvm.Cond.fieldLink "MistCouriers$State" (23 : Nat) "MistCouriers$State" "couriers" "Ljava/util/ArrayList;") ∈ lw_all := lw_g (lw_at lw_m3 18 rfl) rfl
theorem q651 : (Jvm.Cond.fieldLink "MistCouriers$State" (26 : Nat) "MistCouriers$State" "letters" "Ljava/util/ArrayList;") ∈ lw_all := lw_g (lw_at lw_m3 21 rfl) rfl
theorem q654 : (Jvm.Cond.fieldLink "MistCouriers$State" (29 : Nat) "MistCouriers$State" "tallies" "[I") ∈ lw_all := lw_g (lw_at lw_m3 24 rfl) rfl
theorem q656 : (Jvm.Cond.fieldLink "MistCouriers$State" (82 : Nat) "MistCouriers$State" "time" "I") ∈ lw_all := lw_g (lw_at lw_m3 26 rfl) rfl
theorem q658 : (Jvm.Cond.laysFinal "MistCouriers$State" "MistCouriers$State" "square" "LMistCouriers$Square;") ∈ lw_all := lw_g (lw_at lw_m3 28 rfl) rfl
theorem q659 : (Jvm.Cond.soleField "MistCouriers$State" "square") ∈ lw_all := lw_g (lw_at lw_m3 29 rfl) rfl
theorem q660 : (Jvm.Cond.laysFinal "MistCouriers$State" "MistCouriers$State" "load" "I") ∈ lw_all := lw_g (lw_at lw_m3 30 rfl) rfl
theorem q661 : (Jvm.Cond.soleField "MistCouriers$State" "load") ∈ lw_all := lw_g (lw_at lw_m3 31 rfl) rfl
theorem q662 : (Jvm.Cond.laysFinal "MistCouriers$State" "MistCouriers$State" "banks" "Ljava/util/ArrayList;") ∈ lw_all := lw_g (lw_at lw_m3 32 rfl) rfl
theorem q663 : (Jvm.Cond.soleField "MistCouriers$State" "banks") ∈ lw_all := lw_g (lw_at lw_m3 33 rfl) rfl
theorem q664 : (Jvm.Cond.laysFinal "MistCouriers$State" "MistCouriers$State" "watchers" "Ljava/util/ArrayList;") ∈ lw_all := lw_g (lw_at lw_m3 34 rfl) rfl
theorem q665 : (Jvm.Cond.soleField "MistCouriers$State" "watchers") ∈ lw_all := lw_g (lw_at lw_m3 35 rfl) rfl
theorem q666 : (Jvm.Cond.laysFinal "MistCouriers$State" "MistCouriers$State" "couriers" "Ljava/util/ArrayList;") ∈ lw_all := lw_g (lw_at lw_m3 36 rfl) rfl
theorem q667 : (Jvm.Cond.soleField "MistCouriers$State" "couriers") ∈ lw_all := lw_g (lw_at lw_m3 37 rfl) rfl
theorem q668 : (Jvm.Cond.laysFinal "MistCouriers$State" "MistCouriers$State" "letters" "Ljava/util/ArrayList;") ∈ lw_all := lw_g (lw_at lw_m3 38 rfl) rfl
theorem q669 : (Jvm.Cond.soleField "MistCouriers$State" "letters") ∈ lw_all := lw_g (lw_at lw_m3 39 rfl) rfl
theorem q670 : (Jvm.Cond.lays "MistCouriers$State" "MistCouriers$State" "tallies" "[I") ∈ lw_all := lw_g (lw_at lw_m3 40 rfl) rfl
theorem q671 : (Jvm.Cond.soleField "MistCouriers$State" "tallies") ∈ lw_all := lw_g (lw_at lw_m3 41 rfl) rfl
theorem q672 : (Jvm.Cond.lays "MistCouriers$State" "MistCouriers$State" "time" "I") ∈ lw_all := lw_g (lw_at lw_m3 42 rfl) rfl
theorem q673 : (Jvm.Cond.soleField "MistCouriers$State" "time") ∈ lw_all := lw_g (lw_at lw_m3 43 rfl) rfl
theorem q674 : (Jvm.Cond.superclass "MistCouriers$State" "java/lang/Object") ∈ lw_all := lw_g (lw_at lw_m3 44 rfl) rfl
theorem q682 : (Jvm.Cond.fieldLinkNest "MistCouriers$State" (101 : Nat) "MistCouriers$Bank" "reach" "I" "MistCouriers") ∈ lw_tbl := lw_at lw_m3 52 rfl
theorem q685 : (Jvm.Cond.fieldLinkNest "MistCouriers$State" (104 : Nat) "MistCouriers$Bank" "thick" "I" "MistCouriers") ∈ lw_tbl := lw_at lw_m3 55 rfl
theorem q689 : (Jvm.Cond.fieldLinkNest "MistCouriers$State" (176 : Nat) "MistCouriers$Bank" "drift" "I" "MistCouriers") ∈ lw_tbl := lw_at lw_m3 59 rfl
theorem q691 : (Jvm.Cond.fieldLinkNest "MistCouriers$State" (94 : Nat) "MistCouriers$Bank" "cell" "I" "MistCouriers") ∈ lw_tbl := lw_at lw_m3 61 rfl
theorem q736 : (Jvm.Cond.selects "MistCouriers$State" ({ cls := "java/lang/Object", name := "getClass", desc := "()Ljava/lang/Class;" } : Jvm.MethodName) ({ cls := "java/lang/Object", name := "getClass", desc := "()Ljava/lang/Class;" } : Jvm.MethodName)) ∈ lw_all := lw_g (lw_at lw_m3 106 rfl) rfl
theorem q763 : (Jvm.Cond.instanceMethod ({ cls := "MistCouriers$State", name := "posts", desc := "(IIII)V" } : Jvm.MethodName)) ∈ lw_all := lw_g (lw_at lw_m3 133 rfl) rfl
theorem q764 : (Jvm.Cond.selects "MistCouriers$State" ({ cls := "MistCouriers$State", name := "posts", desc := "(IIII)V" } : Jvm.MethodName) ({ cls := "MistCouriers$State", name := "posts", desc := "(IIII)V" } : Jvm.MethodName)) ∈ lw_all := lw_g (lw_at lw_m3 134 rfl) rfl
theorem q765 : (Jvm.Cond.code ({ cls := "MistCouriers$State", name := "posts", desc := "(IIII)V" } : Jvm.MethodName) prog_11_method_3_code (6 : Nat) (Option.none : Option Jvm.ClassFile.FieldType)) ∈ lw_all := lw_g (lw_at lw_m3 135 rfl) rfl
theorem q766 : (Jvm.Cond.classLink "MistCouriers$State" (62 : Nat) "MistCouriers$Watcher") ∈ lw_all := lw_g (lw_at lw_m3 136 rfl) rfl
theorem q768 : (Jvm.Cond.methodLink "MistCouriers$State" (44 : Nat) ({ cls := "java/util/ArrayList", name := "size", desc := "()I" } : Jvm.MethodName)) ∈ lw_all := lw_g (lw_at lw_m3 138 rfl) rfl
theorem q772 : (Jvm.Cond.methodLink "MistCouriers$State" (85 : Nat) ({ cls := "MistCouriers$Watcher", name := "<init>", desc := "(IIIII)V" } : Jvm.MethodName)) ∈ lw_all := lw_g (lw_at lw_m3 142 rfl) rfl
theorem q780 : (Jvm.Cond.fieldLinkNest "MistCouriers$State" (125 : Nat) "MistCouriers$Watcher" "cell" "I" "MistCouriers") ∈ lw_tbl := lw_at lw_m3 150 rfl
theorem q783 : (Jvm.Cond.fieldLinkNest "MistCouriers$State" (112 : Nat) "MistCouriers$Watcher" "range" "I" "MistCouriers") ∈ lw_tbl := lw_at lw_m3 153 rfl
theorem q786 : (Jvm.Cond.fieldLinkNest "MistCouriers$State" (182 : Nat) "MistCouriers$Watcher" "turn" "I" "MistCouriers") ∈ lw_tbl := lw_at lw_m3 156 rfl
theorem q789 : (Jvm.Cond.fieldLinkNest "MistCouriers$State" (115 : Nat) "MistCouriers$Watcher" "direction" "I" "MistCouriers") ∈ lw_tbl := lw_at lw_m3 159 rfl
theorem q802 : (Jvm.Cond.methodLink "MistCouriers$State" (58 : Nat) ({ cls := "java/util/ArrayList", name := "add", desc := "(Ljava/lang/Object;)Z" } : Jvm.MethodName)) ∈ lw_all := lw_g (lw_at lw_m3 172 rfl) rfl
theorem q803 : (Jvm.Cond.methodLink "MistCouriers$State" (88 : Nat) ({ cls := "MistCouriers$Square", name := "posts", desc := "(LMistCouriers$Watcher;)V" } : Jvm.MethodName)) ∈ lw_all := lw_g (lw_at lw_m3 173 rfl) rfl
theorem q843 : (Jvm.Cond.selects "MistCouriers$State" ({ cls := "java/lang/Object", name := "hashCode", desc := "()I" } : Jvm.MethodName) ({ cls := "java/lang/Object", name := "hashCode", desc := "()I" } : Jvm.MethodName)) ∈ lw_all := lw_g (lw_at lw_m3 213 rfl) rfl
theorem q938 : (Jvm.Cond.selects "MistCouriers$State" ({ cls := "java/lang/Object", name := "equals", desc := "(Ljava/lang/Object;)Z" } : Jvm.MethodName) ({ cls := "java/lang/Object", name := "equals", desc := "(Ljava/lang/Object;)Z" } : Jvm.MethodName)) ∈ lw_all := lw_g (lw_at lw_m4 68 rfl) rfl
theorem q1337 : (Jvm.Cond.fieldLinkNest "MistCouriers$State" (169 : Nat) "MistCouriers$Courier" "home" "I" "MistCouriers") ∈ lw_tbl := lw_at lw_m5 227 rfl
theorem q1341 : (Jvm.Cond.fieldLinkNest "MistCouriers$State" (172 : Nat) "MistCouriers$Courier" "cell" "I" "MistCouriers") ∈ lw_tbl := lw_at lw_m5 231 rfl
theorem q1344 : (Jvm.Cond.fieldLinkNest "MistCouriers$State" (215 : Nat) "MistCouriers$Courier" "steps" "I" "MistCouriers") ∈ lw_tbl := lw_at lw_m5 234 rfl
theorem q1346 : (Jvm.Cond.fieldLinkNest "MistCouriers$State" (173 : Nat) "MistCouriers$Courier" "caught" "I" "MistCouriers") ∈ lw_tbl := lw_at lw_m5 236 rfl
theorem q1350 : (Jvm.Cond.fieldLinkNest "MistCouriers$State" (237 : Nat) "MistCouriers$Courier" "brought" "I" "MistCouriers") ∈ lw_tbl := lw_at lw_m6 0 rfl
theorem q1352 : (Jvm.Cond.fieldLinkNest "MistCouriers$State" (191 : Nat) "MistCouriers$Courier" "hasStepped" "Z" "MistCouriers") ∈ lw_tbl := lw_at lw_m6 2 rfl
theorem q1379 : (Jvm.Cond.fieldLinkNest "MistCouriers$State" (234 : Nat) "MistCouriers$Letter" "to" "I" "MistCouriers") ∈ lw_tbl := lw_at lw_m6 29 rfl
theorem q1382 : (Jvm.Cond.fieldLinkNest "MistCouriers$State" (163 : Nat) "MistCouriers$Letter" "state" "I" "MistCouriers") ∈ lw_tbl := lw_at lw_m6 32 rfl
theorem q1385 : (Jvm.Cond.fieldLinkNest "MistCouriers$State" (240 : Nat) "MistCouriers$Letter" "place" "I" "MistCouriers") ∈ lw_tbl := lw_at lw_m6 35 rfl
theorem q1387 : (Jvm.Cond.fieldLinkNest "MistCouriers$State" (166 : Nat) "MistCouriers$Letter" "hand" "I" "MistCouriers") ∈ lw_tbl := lw_at lw_m6 37 rfl
theorem q1391 : (Jvm.Cond.fieldLinkNest "MistCouriers$State" (231 : Nat) "MistCouriers$Letter" "hands" "I" "MistCouriers") ∈ lw_tbl := lw_at lw_m6 41 rfl
theorem q1443 : (Jvm.Cond.instanceMethod ({ cls := "MistCouriers$State", name := "lettersThat", desc := "(I)I" } : Jvm.MethodName)) ∈ lw_all := lw_g (lw_at lw_m6 93 rfl) rfl
theorem q1444 : (Jvm.Cond.selects "MistCouriers$State" ({ cls := "MistCouriers$State", name := "lettersThat", desc := "(I)I" } : Jvm.MethodName) ({ cls := "MistCouriers$State", name := "lettersThat", desc := "(I)I" } : Jvm.MethodName)) ∈ lw_all := lw_g (lw_at lw_m6 94 rfl) rfl
theorem q1445 : (Jvm.Cond.code ({ cls := "MistCouriers$State", name := "lettersThat", desc := "(I)I" } : Jvm.MethodName) prog_11_method_17_code (4 : Nat) (Option.some Jvm.ClassFile.FieldType.int)) ∈ lw_all := lw_g (lw_at lw_m6 95 rfl) rfl
theorem q1446 : (Jvm.Cond.methodLink "MistCouriers$State" (48 : Nat) ({ cls := "java/util/ArrayList", name := "get", desc := "(I)Ljava/lang/Object;" } : Jvm.MethodName)) ∈ lw_all := lw_g (lw_at lw_m6 96 rfl) rfl
theorem q1460 : (Jvm.Cond.classLink "MistCouriers$State" (72 : Nat) "MistCouriers$Letter") ∈ lw_all := lw_g (lw_at lw_m6 110 rfl) rfl
theorem q1461 : (Jvm.Cond.methodLinkNest "MistCouriers$State" (146 : Nat) ({ cls := "MistCouriers", name := "one", desc := "(Z)I" } : Jvm.MethodName) "MistCouriers") ∈ lw_tbl := lw_at lw_m6 111 rfl
theorem q1503 : (Jvm.Cond.instanceMethod ({ cls := "MistCouriers$State", name := "carriedBy", desc := "(I)I" } : Jvm.MethodName)) ∈ lw_all := lw_g (lw_at lw_m6 153 rfl) rfl
theorem q1504 : (Jvm.Cond.selects "MistCouriers$State" ({ cls := "MistCouriers$State", name := "carriedBy", desc := "(I)I" } : Jvm.MethodName) ({ cls := "MistCouriers$State", name := "carriedBy", desc := "(I)I" } : Jvm.MethodName)) ∈ lw_all := lw_g (lw_at lw_m6 154 rfl) rfl
theorem q1505 : (Jvm.Cond.code ({ cls := "MistCouriers$State", name := "carriedBy", desc := "(I)I" } : Jvm.MethodName) prog_11_method_12_code (4 : Nat) (Option.some Jvm.ClassFile.FieldType.int)) ∈ lw_all := lw_g (lw_at lw_m6 155 rfl) rfl
theorem q1506 : (Jvm.Cond.methodLink "MistCouriers$State" (160 : Nat) ({ cls := "MistCouriers$Letter", name := "isWith", desc := "(I)Z" } : Jvm.MethodName)) ∈ lw_all := lw_g (lw_at lw_m6 156 rfl) rfl
theorem q1530 : (Jvm.Cond.instanceMethod ({ cls := "MistCouriers$State", name := "mist", desc := "(I)I" } : Jvm.MethodName)) ∈ lw_all := lw_g (lw_at lw_m6 180 rfl) rfl
theorem q1531 : (Jvm.Cond.selects "MistCouriers$State" ({ cls := "MistCouriers$State", name := "mist", desc := "(I)I" } : Jvm.MethodName) ({ cls := "MistCouriers$State", name := "mist", desc := "(I)I" } : Jvm.MethodName)) ∈ lw_all := lw_g (lw_at lw_m6 181 rfl) rfl
theorem q1532 : (Jvm.Cond.code ({ cls := "MistCouriers$State", name := "mist", desc := "(I)I" } : Jvm.MethodName) prog_11_method_4_code (5 : Nat) (Option.some Jvm.ClassFile.FieldType.int)) ∈ lw_all := lw_g (lw_at lw_m6 182 rfl) rfl
theorem q1533 : (Jvm.Cond.classLink "MistCouriers$State" (52 : Nat) "MistCouriers$Bank") ∈ lw_all := lw_g (lw_at lw_m6 183 rfl) rfl
theorem q1556 : (Jvm.Cond.methodLink "MistCouriers$State" (107 : Nat) ({ cls := "java/lang/Math", name := "min", desc := "(II)I" } : Jvm.MethodName)) ∈ lw_all := lw_g (lw_at lw_m6 206 rfl) rfl
theorem q1804 : (Jvm.Cond.fieldLinkNest "MistCouriers$State" (251 : Nat) "MistCouriers$Command" "word" "Ljava/lang/String;" "MistCouriers") ∈ lw_tbl := lw_at lw_m7 214 rfl
theorem q1806 : (Jvm.Cond.fieldLinkNest "MistCouriers$State" (246 : Nat) "MistCouriers$Command" "numbers" "[I" "MistCouriers") ∈ lw_tbl := lw_at lw_m7 216 rfl
theorem q1892 : (Jvm.Cond.instanceMethod ({ cls := "MistCouriers$State", name := "twin", desc := "()LMistCouriers$State;" } : Jvm.MethodName)) ∈ lw_all := lw_g (lw_at lw_m8 62 rfl) rfl
theorem q1893 : (Jvm.Cond.selects "MistCouriers$State" ({ cls := "MistCouriers$State", name := "twin", desc := "()LMistCouriers$State;" } : Jvm.MethodName) ({ cls := "MistCouriers$State", name := "twin", desc := "()LMistCouriers$State;" } : Jvm.MethodName)) ∈ lw_all := lw_g (lw_at lw_m8 63 rfl) rfl
theorem q1894 : (Jvm.Cond.code ({ cls := "MistCouriers$State", name := "twin", desc := "()LMistCouriers$State;" } : Jvm.MethodName) prog_11_method_2_code (3 : Nat) (Option.some (Jvm.ClassFile.FieldType.object "MistCouriers$State"))) ∈ lw_all := lw_g (lw_at lw_m8 64 rfl) rfl
theorem q1895 : (Jvm.Cond.classLink "MistCouriers$State" (15 : Nat) "MistCouriers$State") ∈ lw_all := lw_g (lw_at lw_m8 65 rfl) rfl
theorem q1896 : (Jvm.Cond.methodLink "MistCouriers$State" (41 : Nat) ({ cls := "MistCouriers$State", name := "<init>", desc := "(LMistCouriers$Square;I)V" } : Jvm.MethodName)) ∈ lw_all := lw_g (lw_at lw_m8 66 rfl) rfl
theorem q1897 : (Jvm.Cond.methodLink "MistCouriers$State" (54 : Nat) ({ cls := "MistCouriers$Bank", name := "twin", desc := "()LMistCouriers$Bank;" } : Jvm.MethodName)) ∈ lw_all := lw_g (lw_at lw_m8 67 rfl) rfl
theorem q1903 : (Jvm.Cond.methodLink "MistCouriers$State" (64 : Nat) ({ cls := "MistCouriers$Watcher", name := "twin", desc := "()LMistCouriers$Watcher;" } : Jvm.MethodName)) ∈ lw_all := lw_g (lw_at lw_m8 73 rfl) rfl
theorem q1909 : (Jvm.Cond.classLink "MistCouriers$State" (67 : Nat) "MistCouriers$Courier") ∈ lw_all := lw_g (lw_at lw_m8 79 rfl) rfl
theorem q1910 : (Jvm.Cond.methodLink "MistCouriers$State" (69 : Nat) ({ cls := "MistCouriers$Courier", name := "twin", desc := "()LMistCouriers$Courier;" } : Jvm.MethodName)) ∈ lw_all := lw_g (lw_at lw_m8 80 rfl) rfl
theorem q1915 : (Jvm.Cond.methodLink "MistCouriers$State" (74 : Nat) ({ cls := "MistCouriers$Letter", name := "twin", desc := "()LMistCouriers$Letter;" } : Jvm.MethodName)) ∈ lw_all := lw_g (lw_at lw_m8 85 rfl) rfl
theorem q1921 : (Jvm.Cond.methodLink "MistCouriers$State" (77 : Nat) ({ cls := "[I", name := "clone", desc := "()Ljava/lang/Object;" } : Jvm.MethodName)) ∈ lw_all := lw_g (lw_at lw_m8 91 rfl) rfl
theorem q1925 : (Jvm.Cond.classLink "MistCouriers$State" (78 : Nat) "[I") ∈ lw_all := lw_g (lw_at lw_m8 95 rfl) rfl
theorem q1927 : (Jvm.Cond.instanceMethod ({ cls := "MistCouriers$State", name := "act", desc := "(LMistCouriers$Command;)I" } : Jvm.MethodName)) ∈ lw_all := lw_g (lw_at lw_m8 97 rfl) rfl
theorem q1928 : (Jvm.Cond.selects "MistCouriers$State" ({ cls := "MistCouriers$State", name := "act", desc := "(LMistCouriers$Command;)I" } : Jvm.MethodName) ({ cls := "MistCouriers$State", name := "act", desc := "(LMistCouriers$Command;)I" } : Jvm.MethodName)) ∈ lw_all := lw_g (lw_at lw_m8 98 rfl) rfl
theorem q1929 : (Jvm.Cond.code ({ cls := "MistCouriers$State", name := "act", desc := "(LMistCouriers$Command;)I" } : Jvm.MethodName) prog_11_method_28_code (5 : Nat) (Option.some Jvm.ClassFile.FieldType.int)) ∈ lw_all := lw_g (lw_at lw_m8 99 rfl) rfl
theorem q1930 : (Jvm.Cond.methodLink "MistCouriers$State" (255 : Nat) ({ cls := "java/lang/String", name := "hashCode", desc := "()I" } : Jvm.MethodName)) ∈ lw_all := lw_g (lw_at lw_m8 100 rfl) rfl
theorem q1931 : (Jvm.Cond.stringRef "MistCouriers$State" (260 : Nat) "step") ∈ lw_tbl := lw_at lw_m8 101 rfl
theorem q1932 : (Jvm.Cond.methodLink "MistCouriers$State" (262 : Nat) ({ cls := "java/lang/String", name := "equals", desc := "(Ljava/lang/Object;)Z" } : Jvm.MethodName)) ∈ lw_all := lw_g (lw_at lw_m8 102 rfl) rfl
theorem q1933 : (Jvm.Cond.stringRef "MistCouriers$State" (265 : Nat) "pick") ∈ lw_tbl := lw_at lw_m8 103 rfl
theorem q1934 : (Jvm.Cond.stringRef "MistCouriers$State" (267 : Nat) "give") ∈ lw_tbl := lw_at lw_m8 104 rfl
theorem q1935 : (Jvm.Cond.stringRef "MistCouriers$State" (269 : Nat) "lay") ∈ lw_tbl := lw_at lw_m8 105 rfl
theorem q1936 : (Jvm.Cond.methodLink "MistCouriers$State" (271 : Nat) ({ cls := "MistCouriers$State", name := "step", desc := "(II)I" } : Jvm.MethodName)) ∈ lw_all := lw_g (lw_at lw_m8 106 rfl) rfl
theorem q1937 : (Jvm.Cond.instanceMethod ({ cls := "MistCouriers$State", name := "step", desc := "(II)I" } : Jvm.MethodName)) ∈ lw_all := lw_g (lw_at lw_m8 107 rfl) rfl
theorem q1938 : (Jvm.Cond.selects "MistCouriers$State" ({ cls := "MistCouriers$State", name := "step", desc := "(II)I" } : Jvm.MethodName) ({ cls := "MistCouriers$State", name := "step", desc := "(II)I" } : Jvm.MethodName)) ∈ lw_all := lw_g (lw_at lw_m8 108 rfl) rfl
theorem q1939 : (Jvm.Cond.code ({ cls := "MistCouriers$State", name := "step", desc := "(II)I" } : Jvm.MethodName) prog_11_method_23_code (5 : Nat) (Option.some Jvm.ClassFile.FieldType.int)) ∈ lw_all := lw_g (lw_at lw_m8 109 rfl) rfl
theorem q1940 : (Jvm.Cond.methodLink "MistCouriers$State" (205 : Nat) ({ cls := "MistCouriers$State", name := "aCourier", desc := "(I)LMistCouriers$Courier;" } : Jvm.MethodName)) ∈ lw_all := lw_g (lw_at lw_m8 110 rfl) rfl
theorem q1941 : (Jvm.Cond.instanceMethod ({ cls := "MistCouriers$State", name := "aCourier", desc := "(I)LMistCouriers$Courier;" } : Jvm.MethodName)) ∈ lw_all := lw_g (lw_at lw_m8 111 rfl) rfl
theorem q1942 : (Jvm.Cond.selects "MistCouriers$State" ({ cls := "MistCouriers$State", name := "aCourier", desc := "(I)LMistCouriers$Courier;" } : Jvm.MethodName) ({ cls := "MistCouriers$State", name := "aCourier", desc := "(I)LMistCouriers$Courier;" } : Jvm.MethodName)) ∈ lw_all := lw_g (lw_at lw_m8 112 rfl) rfl
theorem q1943 : (Jvm.Cond.code ({ cls := "MistCouriers$State", name := "aCourier", desc := "(I)LMistCouriers$Courier;" } : Jvm.MethodName) prog_11_method_19_code (2 : Nat) (Option.some (Jvm.ClassFile.FieldType.object "MistCouriers$Courier"))) ∈ lw_all := lw_g (lw_at lw_m8 113 rfl) rfl
theorem q1944 : (Jvm.Cond.methodLinkNest "MistCouriers$State" (138 : Nat) ({ cls := "MistCouriers", name := "in", desc := "(III)Z" } : Jvm.MethodName) "MistCouriers") ∈ lw_tbl := lw_at lw_m8 114 rfl
theorem q1945 : (Jvm.Cond.methodLinkNest "MistCouriers$State" (198 : Nat) ({ cls := "MistCouriers", name := "requireIndex", desc := "(Z)V" } : Jvm.MethodName) "MistCouriers") ∈ lw_tbl := lw_at lw_m8 115 rfl
theorem q1968 : (Jvm.Cond.methodLink "MistCouriers$State" (209 : Nat) ({ cls := "MistCouriers$State", name := "requireDirection", desc := "(I)V" } : Jvm.MethodName)) ∈ lw_all := lw_g (lw_at lw_m8 138 rfl) rfl
theorem q1969 : (Jvm.Cond.static ({ cls := "MistCouriers$State", name := "requireDirection", desc := "(I)V" } : Jvm.MethodName)) ∈ lw_all := lw_g (lw_at lw_m8 139 rfl) rfl
theorem q1970 : (Jvm.Cond.code ({ cls := "MistCouriers$State", name := "requireDirection", desc := "(I)V" } : Jvm.MethodName) prog_11_method_22_code (1 : Nat) (Option.none : Option Jvm.ClassFile.FieldType)) ∈ lw_all := lw_g (lw_at lw_m8 140 rfl) rfl
theorem q1971 : (Jvm.Cond.methodLinkNest "MistCouriers$State" (202 : Nat) ({ cls := "MistCouriers", name := "requireArgument", desc := "(Z)V" } : Jvm.MethodName) "MistCouriers") ∈ lw_tbl := lw_at lw_m8 141 rfl
theorem q1978 : (Jvm.Cond.methodLink "MistCouriers$State" (212 : Nat) ({ cls := "MistCouriers$State", name := "stepsTo", desc := "(II)I" } : Jvm.MethodName)) ∈ lw_all := lw_g (lw_at lw_m8 148 rfl) rfl
theorem q1979 : (Jvm.Cond.instanceMethod ({ cls := "MistCouriers$State", name := "stepsTo", desc := "(II)I" } : Jvm.MethodName)) ∈ lw_all := lw_g (lw_at lw_m8 149 rfl) rfl
theorem q1980 : (Jvm.Cond.selects "MistCouriers$State" ({ cls := "MistCouriers$State", name := "stepsTo", desc := "(II)I" } : Jvm.MethodName) ({ cls := "MistCouriers$State", name := "stepsTo", desc := "(II)I" } : Jvm.MethodName)) ∈ lw_all := lw_g (lw_at lw_m8 150 rfl) rfl
theorem q1981 : (Jvm.Cond.code ({ cls := "MistCouriers$State", name := "stepsTo", desc := "(II)I" } : Jvm.MethodName) prog_11_method_21_code (4 : Nat) (Option.some Jvm.ClassFile.FieldType.int)) ∈ lw_all := lw_g (lw_at lw_m8 151 rfl) rfl
theorem q1994 : (Jvm.Cond.methodLink "MistCouriers$State" (156 : Nat) ({ cls := "MistCouriers$State", name := "isSeen", desc := "(I)Z" } : Jvm.MethodName)) ∈ lw_all := lw_g (lw_at lw_m8 164 rfl) rfl
theorem q1995 : (Jvm.Cond.instanceMethod ({ cls := "MistCouriers$State", name := "isSeen", desc := "(I)Z" } : Jvm.MethodName)) ∈ lw_all := lw_g (lw_at lw_m8 165 rfl) rfl
theorem q1996 : (Jvm.Cond.selects "MistCouriers$State" ({ cls := "MistCouriers$State", name := "isSeen", desc := "(I)Z" } : Jvm.MethodName) ({ cls := "MistCouriers$State", name := "isSeen", desc := "(I)Z" } : Jvm.MethodName)) ∈ lw_all := lw_g (lw_at lw_m8 166 rfl) rfl
theorem q1997 : (Jvm.Cond.code ({ cls := "MistCouriers$State", name := "isSeen", desc := "(I)Z" } : Jvm.MethodName) prog_11_method_10_code (2 : Nat) (Option.some Jvm.ClassFile.FieldType.boolean)) ∈ lw_all := lw_g (lw_at lw_m8 167 rfl) rfl
theorem q1998 : (Jvm.Cond.methodLink "MistCouriers$State" (150 : Nat) ({ cls := "MistCouriers$State", name := "seers", desc := "(I)I" } : Jvm.MethodName)) ∈ lw_all := lw_g (lw_at lw_m8 168 rfl) rfl
theorem q1999 : (Jvm.Cond.instanceMethod ({ cls := "MistCouriers$State", name := "seers", desc := "(I)I" } : Jvm.MethodName)) ∈ lw_all := lw_g (lw_at lw_m8 169 rfl) rfl
theorem q2000 : (Jvm.Cond.selects "MistCouriers$State" ({ cls := "MistCouriers$State", name := "seers", desc := "(I)I" } : Jvm.MethodName) ({ cls := "MistCouriers$State", name := "seers", desc := "(I)I" } : Jvm.MethodName)) ∈ lw_all := lw_g (lw_at lw_m8 170 rfl) rfl
theorem q2001 : (Jvm.Cond.code ({ cls := "MistCouriers$State", name := "seers", desc := "(I)I" } : Jvm.MethodName) prog_11_method_9_code (4 : Nat) (Option.some Jvm.ClassFile.FieldType.int)) ∈ lw_all := lw_g (lw_at lw_m8 171 rfl) rfl
theorem q2002 : (Jvm.Cond.methodLink "MistCouriers$State" (142 : Nat) ({ cls := "MistCouriers$State", name := "sees", desc := "(LMistCouriers$Watcher;I)Z" } : Jvm.MethodName)) ∈ lw_all := lw_g (lw_at lw_m8 172 rfl) rfl
theorem q2003 : (Jvm.Cond.instanceMethod ({ cls := "MistCouriers$State", name := "sees", desc := "(LMistCouriers$Watcher;I)Z" } : Jvm.MethodName)) ∈ lw_all := lw_g (lw_at lw_m8 173 rfl) rfl
theorem q2004 : (Jvm.Cond.selects "MistCouriers$State" ({ cls := "MistCouriers$State", name := "sees", desc := "(LMistCouriers$Watcher;I)Z" } : Jvm.MethodName) ({ cls := "MistCouriers$State", name := "sees", desc := "(LMistCouriers$Watcher;I)Z" } : Jvm.MethodName)) ∈ lw_all := lw_g (lw_at lw_m8 174 rfl) rfl
theorem q2005 : (Jvm.Cond.code ({ cls := "MistCouriers$State", name := "sees", desc := "(LMistCouriers$Watcher;I)Z" } : Jvm.MethodName) prog_11_method_8_code (3 : Nat) (Option.some Jvm.ClassFile.FieldType.boolean)) ∈ lw_all := lw_g (lw_at lw_m8 175 rfl) rfl
theorem q2006 : (Jvm.Cond.methodLink "MistCouriers$State" (134 : Nat) ({ cls := "MistCouriers$State", name := "veil", desc := "(LMistCouriers$Watcher;I)I" } : Jvm.MethodName)) ∈ lw_all := lw_g (lw_at lw_m8 176 rfl) rfl
theorem q2007 : (Jvm.Cond.instanceMethod ({ cls := "MistCouriers$State", name := "veil", desc := "(LMistCouriers$Watcher;I)I" } : Jvm.MethodName)) ∈ lw_all := lw_g (lw_at lw_m8 177 rfl) rfl
theorem q2008 : (Jvm.Cond.selects "MistCouriers$State" ({ cls := "MistCouriers$State", name := "veil", desc := "(LMistCouriers$Watcher;I)I" } : Jvm.MethodName) ({ cls := "MistCouriers$State", name := "veil", desc := "(LMistCouriers$Watcher;I)I" } : Jvm.MethodName)) ∈ lw_all := lw_g (lw_at lw_m8 178 rfl) rfl
theorem q2009 : (Jvm.Cond.code ({ cls := "MistCouriers$State", name := "veil", desc := "(LMistCouriers$Watcher;I)I" } : Jvm.MethodName) prog_11_method_7_code (6 : Nat) (Option.some Jvm.ClassFile.FieldType.int)) ∈ lw_all := lw_g (lw_at lw_m8 179 rfl) rfl
theorem q2010 : (Jvm.Cond.methodLink "MistCouriers$State" (126 : Nat) ({ cls := "MistCouriers$State", name := "gazesOn", desc := "(LMistCouriers$Watcher;II)I" } : Jvm.MethodName)) ∈ lw_all := lw_g (lw_at lw_m8 180 rfl) rfl
theorem q2011 : (Jvm.Cond.privateMethod ({ cls := "MistCouriers$State", name := "gazesOn", desc := "(LMistCouriers$Watcher;II)I" } : Jvm.MethodName)) ∈ lw_tbl := lw_at lw_m8 181 rfl
theorem q2012 : (Jvm.Cond.instanceMethod ({ cls := "MistCouriers$State", name := "gazesOn", desc := "(LMistCouriers$Watcher;II)I" } : Jvm.MethodName)) ∈ lw_all := lw_g (lw_at lw_m8 182 rfl) rfl
theorem q2013 : (Jvm.Cond.code ({ cls := "MistCouriers$State", name := "gazesOn", desc := "(LMistCouriers$Watcher;II)I" } : Jvm.MethodName) prog_11_method_5_code (5 : Nat) (Option.some Jvm.ClassFile.FieldType.int)) ∈ lw_all := lw_g (lw_at lw_m8 183 rfl) rfl
theorem q2014 : (Jvm.Cond.methodLink "MistCouriers$State" (130 : Nat) ({ cls := "MistCouriers$State", name := "mist", desc := "(I)I" } : Jvm.MethodName)) ∈ lw_all := lw_g (lw_at lw_m8 184 rfl) rfl
theorem q2015 : (Jvm.Cond.methodLink "MistCouriers$State" (273 : Nat) ({ cls := "MistCouriers$State", name := "pick", desc := "(II)I" } : Jvm.MethodName)) ∈ lw_all := lw_g (lw_at lw_m8 185 rfl) rfl
theorem q2016 : (Jvm.Cond.instanceMethod ({ cls := "MistCouriers$State", name := "pick", desc := "(II)I" } : Jvm.MethodName)) ∈ lw_all := lw_g (lw_at lw_m8 186 rfl) rfl
theorem q2017 : (Jvm.Cond.selects "MistCouriers$State" ({ cls := "MistCouriers$State", name := "pick", desc := "(II)I" } : Jvm.MethodName) ({ cls := "MistCouriers$State", name := "pick", desc := "(II)I" } : Jvm.MethodName)) ∈ lw_all := lw_g (lw_at lw_m8 187 rfl) rfl
theorem q2018 : (Jvm.Cond.code ({ cls := "MistCouriers$State", name := "pick", desc := "(II)I" } : Jvm.MethodName) prog_11_method_24_code (5 : Nat) (Option.some Jvm.ClassFile.FieldType.int)) ∈ lw_all := lw_g (lw_at lw_m8 188 rfl) rfl
theorem q2019 : (Jvm.Cond.methodLink "MistCouriers$State" (218 : Nat) ({ cls := "MistCouriers$State", name := "aLetter", desc := "(I)LMistCouriers$Letter;" } : Jvm.MethodName)) ∈ lw_all := lw_g (lw_at lw_m8 189 rfl) rfl
theorem q2020 : (Jvm.Cond.instanceMethod ({ cls := "MistCouriers$State", name := "aLetter", desc := "(I)LMistCouriers$Letter;" } : Jvm.MethodName)) ∈ lw_all := lw_g (lw_at lw_m8 190 rfl) rfl
theorem q2021 : (Jvm.Cond.selects "MistCouriers$State" ({ cls := "MistCouriers$State", name := "aLetter", desc := "(I)LMistCouriers$Letter;" } : Jvm.MethodName) ({ cls := "MistCouriers$State", name := "aLetter", desc := "(I)LMistCouriers$Letter;" } : Jvm.MethodName)) ∈ lw_all := lw_g (lw_at lw_m8 191 rfl) rfl
theorem q2022 : (Jvm.Cond.code ({ cls := "MistCouriers$State", name := "aLetter", desc := "(I)LMistCouriers$Letter;" } : Jvm.MethodName) prog_11_method_20_code (2 : Nat) (Option.some (Jvm.ClassFile.FieldType.object "MistCouriers$Letter"))) ∈ lw_all := lw_g (lw_at lw_m8 192 rfl) rfl
theorem q2023 : (Jvm.Cond.methodLink "MistCouriers$State" (222 : Nat) ({ cls := "MistCouriers$Letter", name := "liesOn", desc := "(I)Z" } : Jvm.MethodName)) ∈ lw_all := lw_g (lw_at lw_m8 193 rfl) rfl
theorem q2024 : (Jvm.Cond.methodLink "MistCouriers$State" (225 : Nat) ({ cls := "MistCouriers$State", name := "carriedBy", desc := "(I)I" } : Jvm.MethodName)) ∈ lw_all := lw_g (lw_at lw_m8 194 rfl) rfl
theorem q2025 : (Jvm.Cond.methodLink "MistCouriers$State" (228 : Nat) ({ cls := "MistCouriers$Letter", name := "comesTo", desc := "(I)V" } : Jvm.MethodName)) ∈ lw_all := lw_g (lw_at lw_m8 195 rfl) rfl
theorem q2029 : (Jvm.Cond.methodLink "MistCouriers$State" (275 : Nat) ({ cls := "MistCouriers$State", name := "give", desc := "(III)I" } : Jvm.MethodName)) ∈ lw_all := lw_g (lw_at lw_m8 199 rfl) rfl
theorem q2030 : (Jvm.Cond.instanceMethod ({ cls := "MistCouriers$State", name := "give", desc := "(III)I" } : Jvm.MethodName)) ∈ lw_all := lw_g (lw_at lw_m8 200 rfl) rfl
theorem q2031 : (Jvm.Cond.selects "MistCouriers$State" ({ cls := "MistCouriers$State", name := "give", desc := "(III)I" } : Jvm.MethodName) ({ cls := "MistCouriers$State", name := "give", desc := "(III)I" } : Jvm.MethodName)) ∈ lw_all := lw_g (lw_at lw_m8 201 rfl) rfl
theorem q2032 : (Jvm.Cond.code ({ cls := "MistCouriers$State", name := "give", desc := "(III)I" } : Jvm.MethodName) prog_11_method_25_code (7 : Nat) (Option.some Jvm.ClassFile.FieldType.int)) ∈ lw_all := lw_g (lw_at lw_m8 202 rfl) rfl
theorem q2033 : (Jvm.Cond.methodLink "MistCouriers$State" (278 : Nat) ({ cls := "MistCouriers$State", name := "lay", desc := "(II)I" } : Jvm.MethodName)) ∈ lw_all := lw_g (lw_at lw_m8 203 rfl) rfl
theorem q2034 : (Jvm.Cond.instanceMethod ({ cls := "MistCouriers$State", name := "lay", desc := "(II)I" } : Jvm.MethodName)) ∈ lw_all := lw_g (lw_at lw_m8 204 rfl) rfl
theorem q2035 : (Jvm.Cond.selects "MistCouriers$State" ({ cls := "MistCouriers$State", name := "lay", desc := "(II)I" } : Jvm.MethodName) ({ cls := "MistCouriers$State", name := "lay", desc := "(II)I" } : Jvm.MethodName)) ∈ lw_all := lw_g (lw_at lw_m8 205 rfl) rfl
theorem q2036 : (Jvm.Cond.code ({ cls := "MistCouriers$State", name := "lay", desc := "(II)I" } : Jvm.MethodName) prog_11_method_26_code (5 : Nat) (Option.some Jvm.ClassFile.FieldType.int)) ∈ lw_all := lw_g (lw_at lw_m8 206 rfl) rfl
theorem q2037 : (Jvm.Cond.methodLink "MistCouriers$State" (280 : Nat) ({ cls := "MistCouriers$State", name := "pass", desc := "(I)I" } : Jvm.MethodName)) ∈ lw_all := lw_g (lw_at lw_m8 207 rfl) rfl
theorem q2038 : (Jvm.Cond.instanceMethod ({ cls := "MistCouriers$State", name := "pass", desc := "(I)I" } : Jvm.MethodName)) ∈ lw_all := lw_g (lw_at lw_m8 208 rfl) rfl
theorem q2039 : (Jvm.Cond.selects "MistCouriers$State" ({ cls := "MistCouriers$State", name := "pass", desc := "(I)I" } : Jvm.MethodName) ({ cls := "MistCouriers$State", name := "pass", desc := "(I)I" } : Jvm.MethodName)) ∈ lw_all := lw_g (lw_at lw_m8 209 rfl) rfl
theorem q2040 : (Jvm.Cond.code ({ cls := "MistCouriers$State", name := "pass", desc := "(I)I" } : Jvm.MethodName) prog_11_method_27_code (2 : Nat) (Option.some Jvm.ClassFile.FieldType.int)) ∈ lw_all := lw_g (lw_at lw_m8 210 rfl) rfl
theorem q2041 : (Jvm.Cond.methodLink "MistCouriers$State" (243 : Nat) ({ cls := "MistCouriers$State", name := "passes", desc := "(I)I" } : Jvm.MethodName)) ∈ lw_all := lw_g (lw_at lw_m8 211 rfl) rfl
theorem q2042 : (Jvm.Cond.instanceMethod ({ cls := "MistCouriers$State", name := "passes", desc := "(I)I" } : Jvm.MethodName)) ∈ lw_all := lw_g (lw_at lw_m8 212 rfl) rfl
theorem q2043 : (Jvm.Cond.selects "MistCouriers$State" ({ cls := "MistCouriers$State", name := "passes", desc := "(I)I" } : Jvm.MethodName) ({ cls := "MistCouriers$State", name := "passes", desc := "(I)I" } : Jvm.MethodName)) ∈ lw_all := lw_g (lw_at lw_m8 213 rfl) rfl
theorem q2044 : (Jvm.Cond.code ({ cls := "MistCouriers$State", name := "passes", desc := "(I)I" } : Jvm.MethodName) prog_11_method_16_code (4 : Nat) (Option.some Jvm.ClassFile.FieldType.int)) ∈ lw_all := lw_g (lw_at lw_m8 214 rfl) rfl
theorem q2045 : (Jvm.Cond.methodLink "MistCouriers$State" (195 : Nat) ({ cls := "MistCouriers$State", name := "tick", desc := "()V" } : Jvm.MethodName)) ∈ lw_all := lw_g (lw_at lw_m8 215 rfl) rfl
theorem q2046 : (Jvm.Cond.instanceMethod ({ cls := "MistCouriers$State", name := "tick", desc := "()V" } : Jvm.MethodName)) ∈ lw_all := lw_g (lw_at lw_m8 216 rfl) rfl
theorem q2047 : (Jvm.Cond.selects "MistCouriers$State" ({ cls := "MistCouriers$State", name := "tick", desc := "()V" } : Jvm.MethodName) ({ cls := "MistCouriers$State", name := "tick", desc := "()V" } : Jvm.MethodName)) ∈ lw_all := lw_g (lw_at lw_m8 217 rfl) rfl
theorem q2048 : (Jvm.Cond.code ({ cls := "MistCouriers$State", name := "tick", desc := "()V" } : Jvm.MethodName) prog_11_method_15_code (2 : Nat) (Option.none : Option Jvm.ClassFile.FieldType)) ∈ lw_all := lw_g (lw_at lw_m8 218 rfl) rfl
theorem q2049 : (Jvm.Cond.methodLink "MistCouriers$State" (185 : Nat) ({ cls := "MistCouriers$State", name := "drifts", desc := "()V" } : Jvm.MethodName)) ∈ lw_all := lw_g (lw_at lw_m8 219 rfl) rfl
theorem q2050 : (Jvm.Cond.instanceMethod ({ cls := "MistCouriers$State", name := "drifts", desc := "()V" } : Jvm.MethodName)) ∈ lw_all := lw_g (lw_at lw_m8 220 rfl) rfl
theorem q2051 : (Jvm.Cond.selects "MistCouriers$State" ({ cls := "MistCouriers$State", name := "drifts", desc := "()V" } : Jvm.MethodName) ({ cls := "MistCouriers$State", name := "drifts", desc := "()V" } : Jvm.MethodName)) ∈ lw_all := lw_g (lw_at lw_m8 221 rfl) rfl
theorem q2052 : (Jvm.Cond.code ({ cls := "MistCouriers$State", name := "drifts", desc := "()V" } : Jvm.MethodName) prog_11_method_14_code (3 : Nat) (Option.none : Option Jvm.ClassFile.FieldType)) ∈ lw_all := lw_g (lw_at lw_m8 222 rfl) rfl
theorem q2058 : (Jvm.Cond.methodLink "MistCouriers$State" (188 : Nat) ({ cls := "MistCouriers$State", name := "catches", desc := "(I)V" } : Jvm.MethodName)) ∈ lw_all := lw_g (lw_at lw_m8 228 rfl) rfl
theorem q2059 : (Jvm.Cond.privateMethod ({ cls := "MistCouriers$State", name := "catches", desc := "(I)V" } : Jvm.MethodName)) ∈ lw_tbl := lw_at lw_m8 229 rfl
theorem q2060 : (Jvm.Cond.instanceMethod ({ cls := "MistCouriers$State", name := "catches", desc := "(I)V" } : Jvm.MethodName)) ∈ lw_all := lw_g (lw_at lw_m8 230 rfl) rfl
theorem q2061 : (Jvm.Cond.code ({ cls := "MistCouriers$State", name := "catches", desc := "(I)V" } : Jvm.MethodName) prog_11_method_13_code (4 : Nat) (Option.none : Option Jvm.ClassFile.FieldType)) ∈ lw_all := lw_g (lw_at lw_m8 231 rfl) rfl
theorem q2129 : (Jvm.Cond.instanceMethod ({ cls := "MistCouriers$State", name := "allSeen", desc := "()I" } : Jvm.MethodName)) ∈ lw_all := lw_g (lw_at lw_m9 59 rfl) rfl
theorem q2130 : (Jvm.Cond.selects "MistCouriers$State" ({ cls := "MistCouriers$State", name := "allSeen", desc := "()I" } : Jvm.MethodName) ({ cls := "MistCouriers$State", name := "allSeen", desc := "()I" } : Jvm.MethodName)) ∈ lw_all := lw_g (lw_at lw_m9 60 rfl) rfl
theorem q2131 : (Jvm.Cond.code ({ cls := "MistCouriers$State", name := "allSeen", desc := "()I" } : Jvm.MethodName) prog_11_method_11_code (3 : Nat) (Option.some Jvm.ClassFile.FieldType.int)) ∈ lw_all := lw_g (lw_at lw_m9 61 rfl) rfl
theorem q2148 : (Jvm.Cond.instanceMethod ({ cls := "MistCouriers$State", name := "requireCell", desc := "(I)V" } : Jvm.MethodName)) ∈ lw_all := lw_g (lw_at lw_m9 78 rfl) rfl
theorem q2149 : (Jvm.Cond.selects "MistCouriers$State" ({ cls := "MistCouriers$State", name := "requireCell", desc := "(I)V" } : Jvm.MethodName) ({ cls := "MistCouriers$State", name := "requireCell", desc := "(I)V" } : Jvm.MethodName)) ∈ lw_all := lw_g (lw_at lw_m9 79 rfl) rfl
theorem q2150 : (Jvm.Cond.code ({ cls := "MistCouriers$State", name := "requireCell", desc := "(I)V" } : Jvm.MethodName) prog_11_method_18_code (2 : Nat) (Option.none : Option Jvm.ClassFile.FieldType)) ∈ lw_all := lw_g (lw_at lw_m9 80 rfl) rfl
theorem q2190 : (Jvm.Cond.instanceMethod ({ cls := "MistCouriers$State", name := "gaze", desc := "(LMistCouriers$Watcher;I)I" } : Jvm.MethodName)) ∈ lw_all := lw_g (lw_at lw_m9 120 rfl) rfl
theorem q2191 : (Jvm.Cond.selects "MistCouriers$State" ({ cls := "MistCouriers$State", name := "gaze", desc := "(LMistCouriers$Watcher;I)I" } : Jvm.MethodName) ({ cls := "MistCouriers$State", name := "gaze", desc := "(LMistCouriers$Watcher;I)I" } : Jvm.MethodName)) ∈ lw_all := lw_g (lw_at lw_m9 121 rfl) rfl
theorem q2192 : (Jvm.Cond.code ({ cls := "MistCouriers$State", name := "gaze", desc := "(LMistCouriers$Watcher;I)I" } : Jvm.MethodName) prog_11_method_6_code (5 : Nat) (Option.some Jvm.ClassFile.FieldType.int)) ∈ lw_all := lw_g (lw_at lw_m9 122 rfl) rfl
theorem q3170 : (Jvm.Cond.castable "MistCouriers$State" "java/lang/Object") ∈ lw_tbl := lw_at lw_m13 140 rfl
theorem q155 : (Jvm.Cond.initialized "MistCouriers$Square") ∈ lw_all := lw_g (lw_at lw_m1 5 rfl) rfl
theorem q233 : (Jvm.Cond.instantiable "MistCouriers$Square" (4 : Nat)) ∈ lw_all := lw_g (lw_at lw_m1 83 rfl) rfl
theorem q235 : (Jvm.Cond.instanceMethod ({ cls := "MistCouriers$Square", name := "<init>", desc := "(II[I)V" } : Jvm.MethodName)) ∈ lw_all := lw_g (lw_at lw_m1 85 rfl) rfl
theorem q236 : (Jvm.Cond.code ({ cls := "MistCouriers$Square", name := "<init>", desc := "(II[I)V" } : Jvm.MethodName) prog_10_method_1_code (8 : Nat) (Option.none : Option Jvm.ClassFile.FieldType)) ∈ lw_all := lw_g (lw_at lw_m1 86 rfl) rfl
theorem q237 : (Jvm.Cond.methodLink "MistCouriers$Square" (3 : Nat) ({ cls := "java/lang/Object", name := "<init>", desc := "()V" } : Jvm.MethodName)) ∈ lw_all := lw_g (lw_at lw_m1 87 rfl) rfl
theorem q238 : (Jvm.Cond.classLink "MistCouriers$Square" (9 : Nat) "java/util/HashMap") ∈ lw_all := lw_g (lw_at lw_m1 88 rfl) rfl
theorem q240 : (Jvm.Cond.methodLink "MistCouriers$Square" (11 : Nat) ({ cls := "java/util/HashMap", name := "<init>", desc := "()V" } : Jvm.MethodName)) ∈ lw_all := lw_g (lw_at lw_m1 90 rfl) rfl
theorem q271 : (Jvm.Cond.fieldLink "MistCouriers$Square" (18 : Nat) "MistCouriers$Square" "width" "I") ∈ lw_all := lw_g (lw_at lw_m1 121 rfl) rfl
theorem q273 : (Jvm.Cond.fieldLink "MistCouriers$Square" (22 : Nat) "MistCouriers$Square" "height" "I") ∈ lw_all := lw_g (lw_at lw_m1 123 rfl) rfl
theorem q275 : (Jvm.Cond.fieldLink "MistCouriers$Square" (25 : Nat) "MistCouriers$Square" "isWall" "[Z") ∈ lw_all := lw_g (lw_at lw_m1 125 rfl) rfl
theorem q279 : (Jvm.Cond.fieldLink "MistCouriers$Square" (12 : Nat) "MistCouriers$Square" "posts" "Ljava/util/HashMap;") ∈ lw_all := lw_g (lw_at lw_m1 129 rfl) rfl
theorem q280 : (Jvm.Cond.laysFinal "MistCouriers$Square" "MistCouriers$Square" "width" "I") ∈ lw_all := lw_g (lw_at lw_m1 130 rfl) rfl
theorem q281 : (Jvm.Cond.soleField "MistCouriers$Square" "width") ∈ lw_all := lw_g (lw_at lw_m1 131 rfl) rfl
theorem q282 : (Jvm.Cond.laysFinal "MistCouriers$Square" "MistCouriers$Square" "height" "I") ∈ lw_all := lw_g (lw_at lw_m1 132 rfl) rfl
theorem q283 : (Jvm.Cond.soleField "MistCouriers$Square" "height") ∈ lw_all := lw_g (lw_at lw_m1 133 rfl) rfl
theorem q284 : (Jvm.Cond.laysFinal "MistCouriers$Square" "MistCouriers$Square" "isWall" "[Z") ∈ lw_all := lw_g (lw_at lw_m1 134 rfl) rfl
theorem q285 : (Jvm.Cond.soleField "MistCouriers$Square" "isWall") ∈ lw_all := lw_g (lw_at lw_m1 135 rfl) rfl
theorem q286 : (Jvm.Cond.laysFinal "MistCouriers$Square" "MistCouriers$Square" "posts" "Ljava/util/HashMap;") ∈ lw_all := lw_g (lw_at lw_m1 136 rfl) rfl
theorem q287 : (Jvm.Cond.soleField "MistCouriers$Square" "posts") ∈ lw_all := lw_g (lw_at lw_m1 137 rfl) rfl
theorem q288 : (Jvm.Cond.superclass "MistCouriers$Square" "java/lang/Object") ∈ lw_all := lw_g (lw_at lw_m1 138 rfl) rfl
theorem q735 : (Jvm.Cond.selects "MistCouriers$Square" ({ cls := "java/lang/Object", name := "getClass", desc := "()Ljava/lang/Class;" } : Jvm.MethodName) ({ cls := "java/lang/Object", name := "getClass", desc := "()Ljava/lang/Class;" } : Jvm.MethodName)) ∈ lw_all := lw_g (lw_at lw_m3 105 rfl) rfl
theorem q777 : (Jvm.Cond.fieldLinkNest "MistCouriers$Square" (51 : Nat) "MistCouriers$Watcher" "number" "I" "MistCouriers") ∈ lw_tbl := lw_at lw_m3 147 rfl
theorem q779 : (Jvm.Cond.fieldLinkNest "MistCouriers$Square" (31 : Nat) "MistCouriers$Watcher" "cell" "I" "MistCouriers") ∈ lw_tbl := lw_at lw_m3 149 rfl
theorem q804 : (Jvm.Cond.instanceMethod ({ cls := "MistCouriers$Square", name := "posts", desc := "(LMistCouriers$Watcher;)V" } : Jvm.MethodName)) ∈ lw_all := lw_g (lw_at lw_m3 174 rfl) rfl
theorem q805 : (Jvm.Cond.selects "MistCouriers$Square" ({ cls := "MistCouriers$Square", name := "posts", desc := "(LMistCouriers$Watcher;)V" } : Jvm.MethodName) ({ cls := "MistCouriers$Square", name := "posts", desc := "(LMistCouriers$Watcher;)V" } : Jvm.MethodName)) ∈ lw_all := lw_g (lw_at lw_m3 175 rfl) rfl
theorem q806 : (Jvm.Cond.code ({ cls := "MistCouriers$Square", name := "posts", desc := "(LMistCouriers$Watcher;)V" } : Jvm.MethodName) prog_10_method_4_code (4 : Nat) (Option.none : Option Jvm.ClassFile.FieldType)) ∈ lw_all := lw_g (lw_at lw_m3 176 rfl) rfl
theorem q807 : (Jvm.Cond.classLink "MistCouriers$Square" (29 : Nat) "MistCouriers$Spot") ∈ lw_all := lw_g (lw_at lw_m3 177 rfl) rfl
theorem q809 : (Jvm.Cond.methodLink "MistCouriers$Square" (36 : Nat) ({ cls := "MistCouriers$Spot", name := "<init>", desc := "(I)V" } : Jvm.MethodName)) ∈ lw_all := lw_g (lw_at lw_m3 179 rfl) rfl
theorem q817 : (Jvm.Cond.methodLink "MistCouriers$Square" (39 : Nat) ({ cls := "java/util/HashMap", name := "containsKey", desc := "(Ljava/lang/Object;)Z" } : Jvm.MethodName)) ∈ lw_all := lw_g (lw_at lw_m3 187 rfl) rfl
theorem q842 : (Jvm.Cond.selects "MistCouriers$Square" ({ cls := "java/lang/Object", name := "hashCode", desc := "()I" } : Jvm.MethodName) ({ cls := "java/lang/Object", name := "hashCode", desc := "()I" } : Jvm.MethodName)) ∈ lw_all := lw_g (lw_at lw_m3 212 rfl) rfl
theorem q937 : (Jvm.Cond.selects "MistCouriers$Square" ({ cls := "java/lang/Object", name := "equals", desc := "(Ljava/lang/Object;)Z" } : Jvm.MethodName) ({ cls := "java/lang/Object", name := "equals", desc := "(Ljava/lang/Object;)Z" } : Jvm.MethodName)) ∈ lw_all := lw_g (lw_at lw_m4 67 rfl) rfl
theorem q1184 : (Jvm.Cond.methodLink "MistCouriers$Square" (43 : Nat) ({ cls := "java/util/HashMap", name := "put", desc := "(Ljava/lang/Object;Ljava/lang/Object;)Ljava/lang/Object;" } : Jvm.MethodName)) ∈ lw_all := lw_g (lw_at lw_m5 74 rfl) rfl
theorem q1324 : (Jvm.Cond.classLink "MistCouriers$Square" (32 : Nat) "MistCouriers$Watcher") ∈ lw_all := lw_g (lw_at lw_m5 214 rfl) rfl
theorem q1465 : (Jvm.Cond.unhidden "MistCouriers$Square" "cells" "()I") ∈ lw_tbl := lw_at lw_m6 115 rfl
theorem q1473 : (Jvm.Cond.castable "MistCouriers$Square" "MistCouriers$Grid") ∈ lw_tbl := lw_at lw_m6 123 rfl
theorem q1474 : (Jvm.Cond.selects "MistCouriers$Square" ({ cls := "MistCouriers$Grid", name := "width", desc := "()I" } : Jvm.MethodName) ({ cls := "MistCouriers$Square", name := "width", desc := "()I" } : Jvm.MethodName)) ∈ lw_all := lw_g (lw_at lw_m6 124 rfl) rfl
theorem q1475 : (Jvm.Cond.unhidden "MistCouriers$Square" "width" "()I") ∈ lw_tbl := lw_at lw_m6 125 rfl
theorem q1476 : (Jvm.Cond.instanceMethod ({ cls := "MistCouriers$Square", name := "width", desc := "()I" } : Jvm.MethodName)) ∈ lw_all := lw_g (lw_at lw_m6 126 rfl) rfl
theorem q1477 : (Jvm.Cond.publicMethod ({ cls := "MistCouriers$Square", name := "width", desc := "()I" } : Jvm.MethodName)) ∈ lw_tbl := lw_at lw_m6 127 rfl
theorem q1478 : (Jvm.Cond.code ({ cls := "MistCouriers$Square", name := "width", desc := "()I" } : Jvm.MethodName) prog_10_method_2_code (1 : Nat) (Option.some Jvm.ClassFile.FieldType.int)) ∈ lw_all := lw_g (lw_at lw_m6 128 rfl) rfl
theorem q1483 : (Jvm.Cond.selects "MistCouriers$Square" ({ cls := "MistCouriers$Grid", name := "height", desc := "()I" } : Jvm.MethodName) ({ cls := "MistCouriers$Square", name := "height", desc := "()I" } : Jvm.MethodName)) ∈ lw_all := lw_g (lw_at lw_m6 133 rfl) rfl
theorem q1484 : (Jvm.Cond.unhidden "MistCouriers$Square" "height" "()I") ∈ lw_tbl := lw_at lw_m6 134 rfl
theorem q1485 : (Jvm.Cond.instanceMethod ({ cls := "MistCouriers$Square", name := "height", desc := "()I" } : Jvm.MethodName)) ∈ lw_all := lw_g (lw_at lw_m6 135 rfl) rfl
theorem q1486 : (Jvm.Cond.publicMethod ({ cls := "MistCouriers$Square", name := "height", desc := "()I" } : Jvm.MethodName)) ∈ lw_tbl := lw_at lw_m6 136 rfl
theorem q1487 : (Jvm.Cond.code ({ cls := "MistCouriers$Square", name := "height", desc := "()I" } : Jvm.MethodName) prog_10_method_3_code (1 : Nat) (Option.some Jvm.ClassFile.FieldType.int)) ∈ lw_all := lw_g (lw_at lw_m6 137 rfl) rfl
theorem q1535 : (Jvm.Cond.unhidden "MistCouriers$Square" "far" "(II)I") ∈ lw_tbl := lw_at lw_m6 185 rfl
theorem q1543 : (Jvm.Cond.unhidden "MistCouriers$Square" "columnOf" "(I)I") ∈ lw_tbl := lw_at lw_m6 193 rfl
theorem q1552 : (Jvm.Cond.unhidden "MistCouriers$Square" "rowOf" "(I)I") ∈ lw_tbl := lw_at lw_m6 202 rfl
theorem q1983 : (Jvm.Cond.unhidden "MistCouriers$Square" "next" "(II)I") ∈ lw_tbl := lw_at lw_m8 153 rfl
theorem q2054 : (Jvm.Cond.unhidden "MistCouriers$Square" "round" "(II)I") ∈ lw_tbl := lw_at lw_m8 224 rfl
theorem q2449 : (Jvm.Cond.instanceMethod ({ cls := "MistCouriers$Square", name := "postAt", desc := "(I)I" } : Jvm.MethodName)) ∈ lw_all := lw_g (lw_at lw_m10 139 rfl) rfl
theorem q2450 : (Jvm.Cond.selects "MistCouriers$Square" ({ cls := "MistCouriers$Square", name := "postAt", desc := "(I)I" } : Jvm.MethodName) ({ cls := "MistCouriers$Square", name := "postAt", desc := "(I)I" } : Jvm.MethodName)) ∈ lw_all := lw_g (lw_at lw_m10 140 rfl) rfl
theorem q2451 : (Jvm.Cond.code ({ cls := "MistCouriers$Square", name := "postAt", desc := "(I)I" } : Jvm.MethodName) prog_10_method_5_code (3 : Nat) (Option.some Jvm.ClassFile.FieldType.int)) ∈ lw_all := lw_g (lw_at lw_m10 141 rfl) rfl
theorem q2452 : (Jvm.Cond.methodLink "MistCouriers$Square" (47 : Nat) ({ cls := "java/util/HashMap", name := "get", desc := "(Ljava/lang/Object;)Ljava/lang/Object;" } : Jvm.MethodName)) ∈ lw_all := lw_g (lw_at lw_m10 142 rfl) rfl
theorem q3174 : (Jvm.Cond.castable "MistCouriers$Square" "java/lang/Object") ∈ lw_tbl := lw_at lw_m13 144 rfl
theorem q176 : (Jvm.Cond.initialized "MistCouriers$Bank") ∈ lw_all := lw_g (lw_at lw_m1 26 rfl) rfl
theorem q676 : (Jvm.Cond.instantiable "MistCouriers$Bank" (4 : Nat)) ∈ lw_all := lw_g (lw_at lw_m3 46 rfl) rfl
theorem q678 : (Jvm.Cond.instanceMethod ({ cls := "MistCouriers$Bank", name := "<init>", desc := "(IIII)V" } : Jvm.MethodName)) ∈ lw_all := lw_g (lw_at lw_m3 48 rfl) rfl
theorem q679 : (Jvm.Cond.code ({ cls := "MistCouriers$Bank", name := "<init>", desc := "(IIII)V" } : Jvm.MethodName) prog_2_method_1_code (5 : Nat) (Option.none : Option Jvm.ClassFile.FieldType)) ∈ lw_all := lw_g (lw_at lw_m3 49 rfl) rfl
theorem q680 : (Jvm.Cond.methodLink "MistCouriers$Bank" (1 : Nat) ({ cls := "java/lang/Object", name := "<init>", desc := "()V" } : Jvm.MethodName)) ∈ lw_all := lw_g (lw_at lw_m3 50 rfl) rfl
theorem q681 : (Jvm.Cond.fieldLink "MistCouriers$Bank" (13 : Nat) "MistCouriers$Bank" "reach" "I") ∈ lw_all := lw_g (lw_at lw_m3 51 rfl) rfl
theorem q684 : (Jvm.Cond.fieldLink "MistCouriers$Bank" (16 : Nat) "MistCouriers$Bank" "thick" "I") ∈ lw_all := lw_g (lw_at lw_m3 54 rfl) rfl
theorem q687 : (Jvm.Cond.fieldLink "MistCouriers$Bank" (19 : Nat) "MistCouriers$Bank" "drift" "I") ∈ lw_all := lw_g (lw_at lw_m3 57 rfl) rfl
theorem q690 : (Jvm.Cond.fieldLink "MistCouriers$Bank" (7 : Nat) "MistCouriers$Bank" "cell" "I") ∈ lw_all := lw_g (lw_at lw_m3 60 rfl) rfl
theorem q693 : (Jvm.Cond.laysFinal "MistCouriers$Bank" "MistCouriers$Bank" "reach" "I") ∈ lw_all := lw_g (lw_at lw_m3 63 rfl) rfl
theorem q694 : (Jvm.Cond.soleField "MistCouriers$Bank" "reach") ∈ lw_all := lw_g (lw_at lw_m3 64 rfl) rfl
theorem q695 : (Jvm.Cond.laysFinal "MistCouriers$Bank" "MistCouriers$Bank" "thick" "I") ∈ lw_all := lw_g (lw_at lw_m3 65 rfl) rfl
theorem q696 : (Jvm.Cond.soleField "MistCouriers$Bank" "thick") ∈ lw_all := lw_g (lw_at lw_m3 66 rfl) rfl
theorem q697 : (Jvm.Cond.laysFinal "MistCouriers$Bank" "MistCouriers$Bank" "drift" "I") ∈ lw_all := lw_g (lw_at lw_m3 67 rfl) rfl
theorem q698 : (Jvm.Cond.soleField "MistCouriers$Bank" "drift") ∈ lw_all := lw_g (lw_at lw_m3 68 rfl) rfl
theorem q699 : (Jvm.Cond.lays "MistCouriers$Bank" "MistCouriers$Bank" "cell" "I") ∈ lw_all := lw_g (lw_at lw_m3 69 rfl) rfl
theorem q700 : (Jvm.Cond.soleField "MistCouriers$Bank" "cell") ∈ lw_all := lw_g (lw_at lw_m3 70 rfl) rfl
theorem q701 : (Jvm.Cond.superclass "MistCouriers$Bank" "java/lang/Object") ∈ lw_all := lw_g (lw_at lw_m3 71 rfl) rfl
theorem q728 : (Jvm.Cond.selects "MistCouriers$Bank" ({ cls := "java/lang/Object", name := "getClass", desc := "()Ljava/lang/Class;" } : Jvm.MethodName) ({ cls := "java/lang/Object", name := "getClass", desc := "()Ljava/lang/Class;" } : Jvm.MethodName)) ∈ lw_all := lw_g (lw_at lw_m3 98 rfl) rfl
theorem q833 : (Jvm.Cond.selects "MistCouriers$Bank" ({ cls := "java/lang/Object", name := "hashCode", desc := "()I" } : Jvm.MethodName) ({ cls := "java/lang/Object", name := "hashCode", desc := "()I" } : Jvm.MethodName)) ∈ lw_all := lw_g (lw_at lw_m3 203 rfl) rfl
theorem q927 : (Jvm.Cond.selects "MistCouriers$Bank" ({ cls := "java/lang/Object", name := "equals", desc := "(Ljava/lang/Object;)Z" } : Jvm.MethodName) ({ cls := "java/lang/Object", name := "equals", desc := "(Ljava/lang/Object;)Z" } : Jvm.MethodName)) ∈ lw_all := lw_g (lw_at lw_m4 57 rfl) rfl
theorem q1898 : (Jvm.Cond.instanceMethod ({ cls := "MistCouriers$Bank", name := "twin", desc := "()LMistCouriers$Bank;" } : Jvm.MethodName)) ∈ lw_all := lw_g (lw_at lw_m8 68 rfl) rfl
theorem q1899 : (Jvm.Cond.selects "MistCouriers$Bank" ({ cls := "MistCouriers$Bank", name := "twin", desc := "()LMistCouriers$Bank;" } : Jvm.MethodName) ({ cls := "MistCouriers$Bank", name := "twin", desc := "()LMistCouriers$Bank;" } : Jvm.MethodName)) ∈ lw_all := lw_g (lw_at lw_m8 69 rfl) rfl
theorem q1900 : (Jvm.Cond.code ({ cls := "MistCouriers$Bank", name := "twin", desc := "()LMistCouriers$Bank;" } : Jvm.MethodName) prog_2_method_2_code (1 : Nat) (Option.some (Jvm.ClassFile.FieldType.object "MistCouriers$Bank"))) ∈ lw_all := lw_g (lw_at lw_m8 70 rfl) rfl
theorem q1901 : (Jvm.Cond.classLink "MistCouriers$Bank" (8 : Nat) "MistCouriers$Bank") ∈ lw_all := lw_g (lw_at lw_m8 71 rfl) rfl
theorem q1902 : (Jvm.Cond.methodLink "MistCouriers$Bank" (22 : Nat) ({ cls := "MistCouriers$Bank", name := "<init>", desc := "(IIII)V" } : Jvm.MethodName)) ∈ lw_all := lw_g (lw_at lw_m8 72 rfl) rfl
theorem q3180 : (Jvm.Cond.castable "MistCouriers$Bank" "java/lang/Object") ∈ lw_tbl := lw_at lw_m13 150 rfl
theorem q177 : (Jvm.Cond.initialized "MistCouriers$Watcher") ∈ lw_all := lw_g (lw_at lw_m1 27 rfl) rfl
theorem q738 : (Jvm.Cond.selects "MistCouriers$Watcher" ({ cls := "java/lang/Object", name := "getClass", desc := "()Ljava/lang/Class;" } : Jvm.MethodName) ({ cls := "java/lang/Object", name := "getClass", desc := "()Ljava/lang/Class;" } : Jvm.MethodName)) ∈ lw_all := lw_g (lw_at lw_m3 108 rfl) rfl
theorem q767 : (Jvm.Cond.instantiable "MistCouriers$Watcher" (5 : Nat)) ∈ lw_all := lw_g (lw_at lw_m3 137 rfl) rfl
theorem q773 : (Jvm.Cond.instanceMethod ({ cls := "MistCouriers$Watcher", name := "<init>", desc := "(IIIII)V" } : Jvm.MethodName)) ∈ lw_all := lw_g (lw_at lw_m3 143 rfl) rfl
theorem q774 : (Jvm.Cond.code ({ cls := "MistCouriers$Watcher", name := "<init>", desc := "(IIIII)V" } : Jvm.MethodName) prog_13_method_1_code (6 : Nat) (Option.none : Option Jvm.ClassFile.FieldType)) ∈ lw_all := lw_g (lw_at lw_m3 144 rfl) rfl
theorem q775 : (Jvm.Cond.methodLink "MistCouriers$Watcher" (1 : Nat) ({ cls := "java/lang/Object", name := "<init>", desc := "()V" } : Jvm.MethodName)) ∈ lw_all := lw_g (lw_at lw_m3 145 rfl) rfl
theorem q776 : (Jvm.Cond.fieldLink "MistCouriers$Watcher" (7 : Nat) "MistCouriers$Watcher" "number" "I") ∈ lw_all := lw_g (lw_at lw_m3 146 rfl) rfl
theorem q778 : (Jvm.Cond.fieldLink "MistCouriers$Watcher" (13 : Nat) "MistCouriers$Watcher" "cell" "I") ∈ lw_all := lw_g (lw_at lw_m3 148 rfl) rfl
theorem q782 : (Jvm.Cond.fieldLink "MistCouriers$Watcher" (19 : Nat) "MistCouriers$Watcher" "range" "I") ∈ lw_all := lw_g (lw_at lw_m3 152 rfl) rfl
theorem q785 : (Jvm.Cond.fieldLink "MistCouriers$Watcher" (22 : Nat) "MistCouriers$Watcher" "turn" "I") ∈ lw_all := lw_g (lw_at lw_m3 155 rfl) rfl
theorem q788 : (Jvm.Cond.fieldLink "MistCouriers$Watcher" (16 : Nat) "MistCouriers$Watcher" "direction" "I") ∈ lw_all := lw_g (lw_at lw_m3 158 rfl) rfl
theorem q791 : (Jvm.Cond.laysFinal "MistCouriers$Watcher" "MistCouriers$Watcher" "number" "I") ∈ lw_all := lw_g (lw_at lw_m3 161 rfl) rfl
theorem q792 : (Jvm.Cond.soleField "MistCouriers$Watcher" "number") ∈ lw_all := lw_g (lw_at lw_m3 162 rfl) rfl
theorem q793 : (Jvm.Cond.laysFinal "MistCouriers$Watcher" "MistCouriers$Watcher" "cell" "I") ∈ lw_all := lw_g (lw_at lw_m3 163 rfl) rfl
theorem q794 : (Jvm.Cond.soleField "MistCouriers$Watcher" "cell") ∈ lw_all := lw_g (lw_at lw_m3 164 rfl) rfl
theorem q795 : (Jvm.Cond.laysFinal "MistCouriers$Watcher" "MistCouriers$Watcher" "range" "I") ∈ lw_all := lw_g (lw_at lw_m3 165 rfl) rfl
theorem q796 : (Jvm.Cond.soleField "MistCouriers$Watcher" "range") ∈ lw_all := lw_g (lw_at lw_m3 166 rfl) rfl
theorem q797 : (Jvm.Cond.laysFinal "MistCouriers$Watcher" "MistCouriers$Watcher" "turn" "I") ∈ lw_all := lw_g (lw_at lw_m3 167 rfl) rfl
theorem q798 : (Jvm.Cond.soleField "MistCouriers$Watcher" "turn") ∈ lw_all := lw_g (lw_at lw_m3 168 rfl) rfl
theorem q799 : (Jvm.Cond.lays "MistCouriers$Watcher" "MistCouriers$Watcher" "direction" "I") ∈ lw_all := lw_g (lw_at lw_m3 169 rfl) rfl
theorem q800 : (Jvm.Cond.soleField "MistCouriers$Watcher" "direction") ∈ lw_all := lw_g (lw_at lw_m3 170 rfl) rfl
theorem q801 : (Jvm.Cond.superclass "MistCouriers$Watcher" "java/lang/Object") ∈ lw_all := lw_g (lw_at lw_m3 171 rfl) rfl
theorem q850 : (Jvm.Cond.selects "MistCouriers$Watcher" ({ cls := "java/lang/Object", name := "hashCode", desc := "()I" } : Jvm.MethodName) ({ cls := "java/lang/Object", name := "hashCode", desc := "()I" } : Jvm.MethodName)) ∈ lw_all := lw_g (lw_at lw_m3 220 rfl) rfl
theorem q942 : (Jvm.Cond.selects "MistCouriers$Watcher" ({ cls := "java/lang/Object", name := "equals", desc := "(Ljava/lang/Object;)Z" } : Jvm.MethodName) ({ cls := "java/lang/Object", name := "equals", desc := "(Ljava/lang/Object;)Z" } : Jvm.MethodName)) ∈ lw_all := lw_g (lw_at lw_m4 72 rfl) rfl
theorem q1904 : (Jvm.Cond.instanceMethod ({ cls := "MistCouriers$Watcher", name := "twin", desc := "()LMistCouriers$Watcher;" } : Jvm.MethodName)) ∈ lw_all := lw_g (lw_at lw_m8 74 rfl) rfl
theorem q1905 : (Jvm.Cond.selects "MistCouriers$Watcher" ({ cls := "MistCouriers$Watcher", name := "twin", desc := "()LMistCouriers$Watcher;" } : Jvm.MethodName) ({ cls := "MistCouriers$Watcher", name := "twin", desc := "()LMistCouriers$Watcher;" } : Jvm.MethodName)) ∈ lw_all := lw_g (lw_at lw_m8 75 rfl) rfl
theorem q1906 : (Jvm.Cond.code ({ cls := "MistCouriers$Watcher", name := "twin", desc := "()LMistCouriers$Watcher;" } : Jvm.MethodName) prog_13_method_2_code (1 : Nat) (Option.some (Jvm.ClassFile.FieldType.object "MistCouriers$Watcher"))) ∈ lw_all := lw_g (lw_at lw_m8 76 rfl) rfl
theorem q1907 : (Jvm.Cond.classLink "MistCouriers$Watcher" (8 : Nat) "MistCouriers$Watcher") ∈ lw_all := lw_g (lw_at lw_m8 77 rfl) rfl
theorem q1908 : (Jvm.Cond.methodLink "MistCouriers$Watcher" (25 : Nat) ({ cls := "MistCouriers$Watcher", name := "<init>", desc := "(IIIII)V" } : Jvm.MethodName)) ∈ lw_all := lw_g (lw_at lw_m8 78 rfl) rfl
theorem q3181 : (Jvm.Cond.castable "MistCouriers$Watcher" "java/lang/Object") ∈ lw_tbl := lw_at lw_m13 151 rfl
theorem q178 : (Jvm.Cond.initialized "MistCouriers$Spot") ∈ lw_all := lw_g (lw_at lw_m1 28 rfl) rfl
theorem q734 : (Jvm.Cond.selects "MistCouriers$Spot" ({ cls := "java/lang/Object", name := "getClass", desc := "()Ljava/lang/Class;" } : Jvm.MethodName) ({ cls := "java/lang/Object", name := "getClass", desc := "()Ljava/lang/Class;" } : Jvm.MethodName)) ∈ lw_all := lw_g (lw_at lw_m3 104 rfl) rfl
theorem q808 : (Jvm.Cond.instantiable "MistCouriers$Spot" (1 : Nat)) ∈ lw_all := lw_g (lw_at lw_m3 178 rfl) rfl
theorem q810 : (Jvm.Cond.instanceMethod ({ cls := "MistCouriers$Spot", name := "<init>", desc := "(I)V" } : Jvm.MethodName)) ∈ lw_all := lw_g (lw_at lw_m3 180 rfl) rfl
theorem q811 : (Jvm.Cond.code ({ cls := "MistCouriers$Spot", name := "<init>", desc := "(I)V" } : Jvm.MethodName) prog_9_method_1_code (2 : Nat) (Option.none : Option Jvm.ClassFile.FieldType)) ∈ lw_all := lw_g (lw_at lw_m3 181 rfl) rfl
theorem q812 : (Jvm.Cond.methodLink "MistCouriers$Spot" (1 : Nat) ({ cls := "java/lang/Object", name := "<init>", desc := "()V" } : Jvm.MethodName)) ∈ lw_all := lw_g (lw_at lw_m3 182 rfl) rfl
theorem q813 : (Jvm.Cond.fieldLink "MistCouriers$Spot" (7 : Nat) "MistCouriers$Spot" "cell" "I") ∈ lw_all := lw_g (lw_at lw_m3 183 rfl) rfl
theorem q814 : (Jvm.Cond.laysFinal "MistCouriers$Spot" "MistCouriers$Spot" "cell" "I") ∈ lw_all := lw_g (lw_at lw_m3 184 rfl) rfl
theorem q815 : (Jvm.Cond.soleField "MistCouriers$Spot" "cell") ∈ lw_all := lw_g (lw_at lw_m3 185 rfl) rfl
theorem q816 : (Jvm.Cond.superclass "MistCouriers$Spot" "java/lang/Object") ∈ lw_all := lw_g (lw_at lw_m3 186 rfl) rfl
theorem q839 : (Jvm.Cond.selects "MistCouriers$Spot" ({ cls := "java/lang/Object", name := "hashCode", desc := "()I" } : Jvm.MethodName) ({ cls := "MistCouriers$Spot", name := "hashCode", desc := "()I" } : Jvm.MethodName)) ∈ lw_all := lw_g (lw_at lw_m3 209 rfl) rfl
theorem q840 : (Jvm.Cond.instanceMethod ({ cls := "MistCouriers$Spot", name := "hashCode", desc := "()I" } : Jvm.MethodName)) ∈ lw_all := lw_g (lw_at lw_m3 210 rfl) rfl
theorem q841 : (Jvm.Cond.code ({ cls := "MistCouriers$Spot", name := "hashCode", desc := "()I" } : Jvm.MethodName) prog_9_method_3_code (1 : Nat) (Option.some Jvm.ClassFile.FieldType.int)) ∈ lw_all := lw_g (lw_at lw_m3 211 rfl) rfl
theorem q933 : (Jvm.Cond.selects "MistCouriers$Spot" ({ cls := "java/lang/Object", name := "equals", desc := "(Ljava/lang/Object;)Z" } : Jvm.MethodName) ({ cls := "MistCouriers$Spot", name := "equals", desc := "(Ljava/lang/Object;)Z" } : Jvm.MethodName)) ∈ lw_all := lw_g (lw_at lw_m4 63 rfl) rfl
theorem q934 : (Jvm.Cond.instanceMethod ({ cls := "MistCouriers$Spot", name := "equals", desc := "(Ljava/lang/Object;)Z" } : Jvm.MethodName)) ∈ lw_all := lw_g (lw_at lw_m4 64 rfl) rfl
theorem q935 : (Jvm.Cond.code ({ cls := "MistCouriers$Spot", name := "equals", desc := "(Ljava/lang/Object;)Z" } : Jvm.MethodName) prog_9_method_2_code (3 : Nat) (Option.some Jvm.ClassFile.FieldType.boolean)) ∈ lw_all := lw_g (lw_at lw_m4 65 rfl) rfl
theorem q936 : (Jvm.Cond.classLink "MistCouriers$Spot" (8 : Nat) "MistCouriers$Spot") ∈ lw_all := lw_g (lw_at lw_m4 66 rfl) rfl
theorem q3182 : (Jvm.Cond.castable "MistCouriers$Spot" "java/lang/Object") ∈ lw_tbl := lw_at lw_m13 152 rfl
theorem q185 : (Jvm.Cond.initialized "MistCouriers$Courier") ∈ lw_all := lw_g (lw_at lw_m1 35 rfl) rfl
theorem q730 : (Jvm.Cond.selects "MistCouriers$Courier" ({ cls := "java/lang/Object", name := "getClass", desc := "()Ljava/lang/Class;" } : Jvm.MethodName) ({ cls := "java/lang/Object", name := "getClass", desc := "()Ljava/lang/Class;" } : Jvm.MethodName)) ∈ lw_all := lw_g (lw_at lw_m3 100 rfl) rfl
theorem q835 : (Jvm.Cond.selects "MistCouriers$Courier" ({ cls := "java/lang/Object", name := "hashCode", desc := "()I" } : Jvm.MethodName) ({ cls := "java/lang/Object", name := "hashCode", desc := "()I" } : Jvm.MethodName)) ∈ lw_all := lw_g (lw_at lw_m3 205 rfl) rfl
theorem q929 : (Jvm.Cond.selects "MistCouriers$Courier" ({ cls := "java/lang/Object", name := "equals", desc := "(Ljava/lang/Object;)Z" } : Jvm.MethodName) ({ cls := "java/lang/Object", name := "equals", desc := "(Ljava/lang/Object;)Z" } : Jvm.MethodName)) ∈ lw_all := lw_g (lw_at lw_m4 59 rfl) rfl
theorem q1328 : (Jvm.Cond.instantiable "MistCouriers$Courier" (6 : Nat)) ∈ lw_all := lw_g (lw_at lw_m5 218 rfl) rfl
theorem q1330 : (Jvm.Cond.instanceMethod ({ cls := "MistCouriers$Courier", name := "<init>", desc := "(I)V" } : Jvm.MethodName)) ∈ lw_all := lw_g (lw_at lw_m5 220 rfl) rfl
theorem q1331 : (Jvm.Cond.code ({ cls := "MistCouriers$Courier", name := "<init>", desc := "(I)V" } : Jvm.MethodName) prog_4_method_1_code (2 : Nat) (Option.none : Option Jvm.ClassFile.FieldType)) ∈ lw_all := lw_g (lw_at lw_m5 221 rfl) rfl
theorem q1332 : (Jvm.Cond.methodLink "MistCouriers$Courier" (1 : Nat) ({ cls := "MistCouriers$Courier", name := "<init>", desc := "(II)V" } : Jvm.MethodName)) ∈ lw_all := lw_g (lw_at lw_m5 222 rfl) rfl
theorem q1333 : (Jvm.Cond.instanceMethod ({ cls := "MistCouriers$Courier", name := "<init>", desc := "(II)V" } : Jvm.MethodName)) ∈ lw_all := lw_g (lw_at lw_m5 223 rfl) rfl
theorem q1334 : (Jvm.Cond.code ({ cls := "MistCouriers$Courier", name := "<init>", desc := "(II)V" } : Jvm.MethodName) prog_4_method_2_code (3 : Nat) (Option.none : Option Jvm.ClassFile.FieldType)) ∈ lw_all := lw_g (lw_at lw_m5 224 rfl) rfl
theorem q1335 : (Jvm.Cond.methodLink "MistCouriers$Courier" (7 : Nat) ({ cls := "java/lang/Object", name := "<init>", desc := "()V" } : Jvm.MethodName)) ∈ lw_all := lw_g (lw_at lw_m5 225 rfl) rfl
theorem q1336 : (Jvm.Cond.fieldLink "MistCouriers$Courier" (12 : Nat) "MistCouriers$Courier" "home" "I") ∈ lw_all := lw_g (lw_at lw_m5 226 rfl) rfl
theorem q1339 : (Jvm.Cond.fieldLink "MistCouriers$Courier" (16 : Nat) "MistCouriers$Courier" "cell" "I") ∈ lw_all := lw_g (lw_at lw_m5 229 rfl) rfl
theorem q1342 : (Jvm.Cond.fieldLink "MistCouriers$Courier" (19 : Nat) "MistCouriers$Courier" "steps" "I") ∈ lw_all := lw_g (lw_at lw_m5 232 rfl) rfl
theorem q1345 : (Jvm.Cond.fieldLink "MistCouriers$Courier" (22 : Nat) "MistCouriers$Courier" "caught" "I") ∈ lw_all := lw_g (lw_at lw_m5 235 rfl) rfl
theorem q1348 : (Jvm.Cond.fieldLink "MistCouriers$Courier" (25 : Nat) "MistCouriers$Courier" "brought" "I") ∈ lw_all := lw_g (lw_at lw_m5 238 rfl) rfl
theorem q1351 : (Jvm.Cond.fieldLink "MistCouriers$Courier" (28 : Nat) "MistCouriers$Courier" "hasStepped" "Z") ∈ lw_all := lw_g (lw_at lw_m6 1 rfl) rfl
theorem q1354 : (Jvm.Cond.laysFinal "MistCouriers$Courier" "MistCouriers$Courier" "home" "I") ∈ lw_all := lw_g (lw_at lw_m6 4 rfl) rfl
theorem q1355 : (Jvm.Cond.soleField "MistCouriers$Courier" "home") ∈ lw_all := lw_g (lw_at lw_m6 5 rfl) rfl
theorem q1356 : (Jvm.Cond.lays "MistCouriers$Courier" "MistCouriers$Courier" "cell" "I") ∈ lw_all := lw_g (lw_at lw_m6 6 rfl) rfl
theorem q1357 : (Jvm.Cond.soleField "MistCouriers$Courier" "cell") ∈ lw_all := lw_g (lw_at lw_m6 7 rfl) rfl
theorem q1358 : (Jvm.Cond.lays "MistCouriers$Courier" "MistCouriers$Courier" "steps" "I") ∈ lw_all := lw_g (lw_at lw_m6 8 rfl) rfl
theorem q1359 : (Jvm.Cond.soleField "MistCouriers$Courier" "steps") ∈ lw_all := lw_g (lw_at lw_m6 9 rfl) rfl
theorem q1360 : (Jvm.Cond.lays "MistCouriers$Courier" "MistCouriers$Courier" "caught" "I") ∈ lw_all := lw_g (lw_at lw_m6 10 rfl) rfl
theorem q1361 : (Jvm.Cond.soleField "MistCouriers$Courier" "caught") ∈ lw_all := lw_g (lw_at lw_m6 11 rfl) rfl
theorem q1362 : (Jvm.Cond.lays "MistCouriers$Courier" "MistCouriers$Courier" "brought" "I") ∈ lw_all := lw_g (lw_at lw_m6 12 rfl) rfl
theorem q1363 : (Jvm.Cond.soleField "MistCouriers$Courier" "brought") ∈ lw_all := lw_g (lw_at lw_m6 13 rfl) rfl
theorem q1364 : (Jvm.Cond.lays "MistCouriers$Courier" "MistCouriers$Courier" "hasStepped" "Z") ∈ lw_all := lw_g (lw_at lw_m6 14 rfl) rfl
theorem q1365 : (Jvm.Cond.soleField "MistCouriers$Courier" "hasStepped") ∈ lw_all := lw_g (lw_at lw_m6 15 rfl) rfl
theorem q1366 : (Jvm.Cond.superclass "MistCouriers$Courier" "java/lang/Object") ∈ lw_all := lw_g (lw_at lw_m6 16 rfl) rfl
theorem q1911 : (Jvm.Cond.instanceMethod ({ cls := "MistCouriers$Courier", name := "twin", desc := "()LMistCouriers$Courier;" } : Jvm.MethodName)) ∈ lw_all := lw_g (lw_at lw_m8 81 rfl) rfl
theorem q1912 : (Jvm.Cond.selects "MistCouriers$Courier" ({ cls := "MistCouriers$Courier", name := "twin", desc := "()LMistCouriers$Courier;" } : Jvm.MethodName) ({ cls := "MistCouriers$Courier", name := "twin", desc := "()LMistCouriers$Courier;" } : Jvm.MethodName)) ∈ lw_all := lw_g (lw_at lw_m8 82 rfl) rfl
theorem q1913 : (Jvm.Cond.code ({ cls := "MistCouriers$Courier", name := "twin", desc := "()LMistCouriers$Courier;" } : Jvm.MethodName) prog_4_method_3_code (2 : Nat) (Option.some (Jvm.ClassFile.FieldType.object "MistCouriers$Courier"))) ∈ lw_all := lw_g (lw_at lw_m8 83 rfl) rfl
theorem q1914 : (Jvm.Cond.classLink "MistCouriers$Courier" (2 : Nat) "MistCouriers$Courier") ∈ lw_all := lw_g (lw_at lw_m8 84 rfl) rfl
theorem q3186 : (Jvm.Cond.castable "MistCouriers$Courier" "java/lang/Object") ∈ lw_tbl := lw_at lw_m13 156 rfl
theorem q186 : (Jvm.Cond.initialized "MistCouriers$Letter") ∈ lw_all := lw_g (lw_at lw_m1 36 rfl) rfl
theorem q732 : (Jvm.Cond.selects "MistCouriers$Letter" ({ cls := "java/lang/Object", name := "getClass", desc := "()Ljava/lang/Class;" } : Jvm.MethodName) ({ cls := "java/lang/Object", name := "getClass", desc := "()Ljava/lang/Class;" } : Jvm.MethodName)) ∈ lw_all := lw_g (lw_at lw_m3 102 rfl) rfl
theorem q837 : (Jvm.Cond.selects "MistCouriers$Letter" ({ cls := "java/lang/Object", name := "hashCode", desc := "()I" } : Jvm.MethodName) ({ cls := "java/lang/Object", name := "hashCode", desc := "()I" } : Jvm.MethodName)) ∈ lw_all := lw_g (lw_at lw_m3 207 rfl) rfl
theorem q931 : (Jvm.Cond.selects "MistCouriers$Letter" ({ cls := "java/lang/Object", name := "equals", desc := "(Ljava/lang/Object;)Z" } : Jvm.MethodName) ({ cls := "java/lang/Object", name := "equals", desc := "(Ljava/lang/Object;)Z" } : Jvm.MethodName)) ∈ lw_all := lw_g (lw_at lw_m4 61 rfl) rfl
theorem q1370 : (Jvm.Cond.instantiable "MistCouriers$Letter" (6 : Nat)) ∈ lw_all := lw_g (lw_at lw_m6 20 rfl) rfl
theorem q1372 : (Jvm.Cond.instanceMethod ({ cls := "MistCouriers$Letter", name := "<init>", desc := "(II)V" } : Jvm.MethodName)) ∈ lw_all := lw_g (lw_at lw_m6 22 rfl) rfl
theorem q1373 : (Jvm.Cond.code ({ cls := "MistCouriers$Letter", name := "<init>", desc := "(II)V" } : Jvm.MethodName) prog_7_method_1_code (3 : Nat) (Option.none : Option Jvm.ClassFile.FieldType)) ∈ lw_all := lw_g (lw_at lw_m6 23 rfl) rfl
theorem q1374 : (Jvm.Cond.methodLink "MistCouriers$Letter" (3 : Nat) ({ cls := "java/lang/Object", name := "<init>", desc := "()V" } : Jvm.MethodName)) ∈ lw_all := lw_g (lw_at lw_m6 24 rfl) rfl
theorem q1375 : (Jvm.Cond.fieldLink "MistCouriers$Letter" (18 : Nat) "MistCouriers$Letter" "from" "I") ∈ lw_all := lw_g (lw_at lw_m6 25 rfl) rfl
theorem q1377 : (Jvm.Cond.fieldLink "MistCouriers$Letter" (21 : Nat) "MistCouriers$Letter" "to" "I") ∈ lw_all := lw_g (lw_at lw_m6 27 rfl) rfl
theorem q1380 : (Jvm.Cond.fieldLink "MistCouriers$Letter" (9 : Nat) "MistCouriers$Letter" "state" "I") ∈ lw_all := lw_g (lw_at lw_m6 30 rfl) rfl
theorem q1383 : (Jvm.Cond.fieldLink "MistCouriers$Letter" (24 : Nat) "MistCouriers$Letter" "place" "I") ∈ lw_all := lw_g (lw_at lw_m6 33 rfl) rfl
theorem q1386 : (Jvm.Cond.fieldLink "MistCouriers$Letter" (15 : Nat) "MistCouriers$Letter" "hand" "I") ∈ lw_all := lw_g (lw_at lw_m6 36 rfl) rfl
theorem q1389 : (Jvm.Cond.fieldLink "MistCouriers$Letter" (30 : Nat) "MistCouriers$Letter" "hands" "I") ∈ lw_all := lw_g (lw_at lw_m6 39 rfl) rfl
theorem q1392 : (Jvm.Cond.laysFinal "MistCouriers$Letter" "MistCouriers$Letter" "from" "I") ∈ lw_all := lw_g (lw_at lw_m6 42 rfl) rfl
theorem q1393 : (Jvm.Cond.soleField "MistCouriers$Letter" "from") ∈ lw_all := lw_g (lw_at lw_m6 43 rfl) rfl
theorem q1394 : (Jvm.Cond.laysFinal "MistCouriers$Letter" "MistCouriers$Letter" "to" "I") ∈ lw_all := lw_g (lw_at lw_m6 44 rfl) rfl
theorem q1395 : (Jvm.Cond.soleField "MistCouriers$Letter" "to") ∈ lw_all := lw_g (lw_at lw_m6 45 rfl) rfl
theorem q1396 : (Jvm.Cond.lays "MistCouriers$Letter" "MistCouriers$Letter" "state" "I") ∈ lw_all := lw_g (lw_at lw_m6 46 rfl) rfl
theorem q1397 : (Jvm.Cond.soleField "MistCouriers$Letter" "state") ∈ lw_all := lw_g (lw_at lw_m6 47 rfl) rfl
theorem q1398 : (Jvm.Cond.lays "MistCouriers$Letter" "MistCouriers$Letter" "place" "I") ∈ lw_all := lw_g (lw_at lw_m6 48 rfl) rfl
theorem q1399 : (Jvm.Cond.soleField "MistCouriers$Letter" "place") ∈ lw_all := lw_g (lw_at lw_m6 49 rfl) rfl
theorem q1400 : (Jvm.Cond.lays "MistCouriers$Letter" "MistCouriers$Letter" "hand" "I") ∈ lw_all := lw_g (lw_at lw_m6 50 rfl) rfl
theorem q1401 : (Jvm.Cond.soleField "MistCouriers$Letter" "hand") ∈ lw_all := lw_g (lw_at lw_m6 51 rfl) rfl
theorem q1402 : (Jvm.Cond.lays "MistCouriers$Letter" "MistCouriers$Letter" "hands" "I") ∈ lw_all := lw_g (lw_at lw_m6 52 rfl) rfl
theorem q1403 : (Jvm.Cond.soleField "MistCouriers$Letter" "hands") ∈ lw_all := lw_g (lw_at lw_m6 53 rfl) rfl
theorem q1404 : (Jvm.Cond.superclass "MistCouriers$Letter" "java/lang/Object") ∈ lw_all := lw_g (lw_at lw_m6 54 rfl) rfl
theorem q1494 : (Jvm.Cond.instanceMethod ({ cls := "MistCouriers$Letter", name := "liesOn", desc := "(I)Z" } : Jvm.MethodName)) ∈ lw_all := lw_g (lw_at lw_m6 144 rfl) rfl
theorem q1495 : (Jvm.Cond.selects "MistCouriers$Letter" ({ cls := "MistCouriers$Letter", name := "liesOn", desc := "(I)Z" } : Jvm.MethodName) ({ cls := "MistCouriers$Letter", name := "liesOn", desc := "(I)Z" } : Jvm.MethodName)) ∈ lw_all := lw_g (lw_at lw_m6 145 rfl) rfl
theorem q1496 : (Jvm.Cond.code ({ cls := "MistCouriers$Letter", name := "liesOn", desc := "(I)Z" } : Jvm.MethodName) prog_7_method_3_code (2 : Nat) (Option.some Jvm.ClassFile.FieldType.boolean)) ∈ lw_all := lw_g (lw_at lw_m6 146 rfl) rfl
theorem q1507 : (Jvm.Cond.instanceMethod ({ cls := "MistCouriers$Letter", name := "isWith", desc := "(I)Z" } : Jvm.MethodName)) ∈ lw_all := lw_g (lw_at lw_m6 157 rfl) rfl
theorem q1508 : (Jvm.Cond.selects "MistCouriers$Letter" ({ cls := "MistCouriers$Letter", name := "isWith", desc := "(I)Z" } : Jvm.MethodName) ({ cls := "MistCouriers$Letter", name := "isWith", desc := "(I)Z" } : Jvm.MethodName)) ∈ lw_all := lw_g (lw_at lw_m6 158 rfl) rfl
theorem q1509 : (Jvm.Cond.code ({ cls := "MistCouriers$Letter", name := "isWith", desc := "(I)Z" } : Jvm.MethodName) prog_7_method_4_code (2 : Nat) (Option.some Jvm.ClassFile.FieldType.boolean)) ∈ lw_all := lw_g (lw_at lw_m6 159 rfl) rfl
theorem q1916 : (Jvm.Cond.instanceMethod ({ cls := "MistCouriers$Letter", name := "twin", desc := "()LMistCouriers$Letter;" } : Jvm.MethodName)) ∈ lw_all := lw_g (lw_at lw_m8 86 rfl) rfl
theorem q1917 : (Jvm.Cond.selects "MistCouriers$Letter" ({ cls := "MistCouriers$Letter", name := "twin", desc := "()LMistCouriers$Letter;" } : Jvm.MethodName) ({ cls := "MistCouriers$Letter", name := "twin", desc := "()LMistCouriers$Letter;" } : Jvm.MethodName)) ∈ lw_all := lw_g (lw_at lw_m8 87 rfl) rfl
theorem q1918 : (Jvm.Cond.code ({ cls := "MistCouriers$Letter", name := "twin", desc := "()LMistCouriers$Letter;" } : Jvm.MethodName) prog_7_method_2_code (2 : Nat) (Option.some (Jvm.ClassFile.FieldType.object "MistCouriers$Letter"))) ∈ lw_all := lw_g (lw_at lw_m8 88 rfl) rfl
theorem q1919 : (Jvm.Cond.classLink "MistCouriers$Letter" (10 : Nat) "MistCouriers$Letter") ∈ lw_all := lw_g (lw_at lw_m8 89 rfl) rfl
theorem q1920 : (Jvm.Cond.methodLink "MistCouriers$Letter" (27 : Nat) ({ cls := "MistCouriers$Letter", name := "<init>", desc := "(II)V" } : Jvm.MethodName)) ∈ lw_all := lw_g (lw_at lw_m8 90 rfl) rfl
theorem q2026 : (Jvm.Cond.instanceMethod ({ cls := "MistCouriers$Letter", name := "comesTo", desc := "(I)V" } : Jvm.MethodName)) ∈ lw_all := lw_g (lw_at lw_m8 196 rfl) rfl
theorem q2027 : (Jvm.Cond.selects "MistCouriers$Letter" ({ cls := "MistCouriers$Letter", name := "comesTo", desc := "(I)V" } : Jvm.MethodName) ({ cls := "MistCouriers$Letter", name := "comesTo", desc := "(I)V" } : Jvm.MethodName)) ∈ lw_all := lw_g (lw_at lw_m8 197 rfl) rfl
theorem q2028 : (Jvm.Cond.code ({ cls := "MistCouriers$Letter", name := "comesTo", desc := "(I)V" } : Jvm.MethodName) prog_7_method_5_code (2 : Nat) (Option.none : Option Jvm.ClassFile.FieldType)) ∈ lw_all := lw_g (lw_at lw_m8 198 rfl) rfl
theorem q3187 : (Jvm.Cond.castable "MistCouriers$Letter" "java/lang/Object") ∈ lw_tbl := lw_at lw_m13 157 rfl
theorem q187 : (Jvm.Cond.initialized "MistCouriersModel") ∈ lw_all := lw_g (lw_at lw_m1 37 rfl) rfl
theorem q740 : (Jvm.Cond.selects "MistCouriersModel" ({ cls := "java/lang/Object", name := "getClass", desc := "()Ljava/lang/Class;" } : Jvm.MethodName) ({ cls := "java/lang/Object", name := "getClass", desc := "()Ljava/lang/Class;" } : Jvm.MethodName)) ∈ lw_all := lw_g (lw_at lw_m3 110 rfl) rfl
theorem q852 : (Jvm.Cond.selects "MistCouriersModel" ({ cls := "java/lang/Object", name := "hashCode", desc := "()I" } : Jvm.MethodName) ({ cls := "java/lang/Object", name := "hashCode", desc := "()I" } : Jvm.MethodName)) ∈ lw_all := lw_g (lw_at lw_m3 222 rfl) rfl
theorem q944 : (Jvm.Cond.selects "MistCouriersModel" ({ cls := "java/lang/Object", name := "equals", desc := "(Ljava/lang/Object;)Z" } : Jvm.MethodName) ({ cls := "java/lang/Object", name := "equals", desc := "(Ljava/lang/Object;)Z" } : Jvm.MethodName)) ∈ lw_all := lw_g (lw_at lw_m4 74 rfl) rfl
theorem q2472 : (Jvm.Cond.instantiable "MistCouriersModel" (24 : Nat)) ∈ lw_all := lw_g (lw_at lw_m10 162 rfl) rfl
theorem q2474 : (Jvm.Cond.instanceMethod ({ cls := "MistCouriersModel", name := "<init>", desc := "()V" } : Jvm.MethodName)) ∈ lw_all := lw_g (lw_at lw_m10 164 rfl) rfl
theorem q2475 : (Jvm.Cond.code ({ cls := "MistCouriersModel", name := "<init>", desc := "()V" } : Jvm.MethodName) prog_16_method_1_code (1 : Nat) (Option.none : Option Jvm.ClassFile.FieldType)) ∈ lw_all := lw_g (lw_at lw_m10 165 rfl) rfl
theorem q2476 : (Jvm.Cond.methodLink "MistCouriersModel" (1 : Nat) ({ cls := "java/lang/Object", name := "<init>", desc := "()V" } : Jvm.MethodName)) ∈ lw_all := lw_g (lw_at lw_m10 166 rfl) rfl
theorem q2477 : (Jvm.Cond.methodLink "MistCouriersModel" (55 : Nat) ({ cls := "MistCouriersModel", name := "addBank", desc := "(IIII)V" } : Jvm.MethodName)) ∈ lw_all := lw_g (lw_at lw_m10 167 rfl) rfl
theorem q2478 : (Jvm.Cond.privateMethod ({ cls := "MistCouriersModel", name := "addBank", desc := "(IIII)V" } : Jvm.MethodName)) ∈ lw_tbl := lw_at lw_m10 168 rfl
theorem q2479 : (Jvm.Cond.instanceMethod ({ cls := "MistCouriersModel", name := "addBank", desc := "(IIII)V" } : Jvm.MethodName)) ∈ lw_all := lw_g (lw_at lw_m10 169 rfl) rfl
theorem q2480 : (Jvm.Cond.code ({ cls := "MistCouriersModel", name := "addBank", desc := "(IIII)V" } : Jvm.MethodName) prog_16_method_2_code (6 : Nat) (Option.none : Option Jvm.ClassFile.FieldType)) ∈ lw_all := lw_g (lw_at lw_m10 170 rfl) rfl
theorem q2481 : (Jvm.Cond.methodLink "MistCouriersModel" (59 : Nat) ({ cls := "MistCouriersModel", name := "addWatcher", desc := "(IIII)V" } : Jvm.MethodName)) ∈ lw_all := lw_g (lw_at lw_m10 171 rfl) rfl
theorem q2482 : (Jvm.Cond.privateMethod ({ cls := "MistCouriersModel", name := "addWatcher", desc := "(IIII)V" } : Jvm.MethodName)) ∈ lw_tbl := lw_at lw_m10 172 rfl
theorem q2483 : (Jvm.Cond.instanceMethod ({ cls := "MistCouriersModel", name := "addWatcher", desc := "(IIII)V" } : Jvm.MethodName)) ∈ lw_all := lw_g (lw_at lw_m10 173 rfl) rfl
theorem q2484 : (Jvm.Cond.code ({ cls := "MistCouriersModel", name := "addWatcher", desc := "(IIII)V" } : Jvm.MethodName) prog_16_method_3_code (6 : Nat) (Option.none : Option Jvm.ClassFile.FieldType)) ∈ lw_all := lw_g (lw_at lw_m10 174 rfl) rfl
theorem q2485 : (Jvm.Cond.methodLink "MistCouriersModel" (62 : Nat) ({ cls := "MistCouriersModel", name := "addCourier", desc := "(I)V" } : Jvm.MethodName)) ∈ lw_all := lw_g (lw_at lw_m10 175 rfl) rfl
theorem q2486 : (Jvm.Cond.privateMethod ({ cls := "MistCouriersModel", name := "addCourier", desc := "(I)V" } : Jvm.MethodName)) ∈ lw_tbl := lw_at lw_m10 176 rfl
theorem q2487 : (Jvm.Cond.instanceMethod ({ cls := "MistCouriersModel", name := "addCourier", desc := "(I)V" } : Jvm.MethodName)) ∈ lw_all := lw_g (lw_at lw_m10 177 rfl) rfl
theorem q2488 : (Jvm.Cond.code ({ cls := "MistCouriersModel", name := "addCourier", desc := "(I)V" } : Jvm.MethodName) prog_16_method_4_code (2 : Nat) (Option.none : Option Jvm.ClassFile.FieldType)) ∈ lw_all := lw_g (lw_at lw_m10 178 rfl) rfl
theorem q2489 : (Jvm.Cond.methodLink "MistCouriersModel" (70 : Nat) ({ cls := "MistCouriersModel", name := "lay", desc := "(III)V" } : Jvm.MethodName)) ∈ lw_all := lw_g (lw_at lw_m10 179 rfl) rfl
theorem q2490 : (Jvm.Cond.privateMethod ({ cls := "MistCouriersModel", name := "lay", desc := "(III)V" } : Jvm.MethodName)) ∈ lw_tbl := lw_at lw_m10 180 rfl
theorem q2491 : (Jvm.Cond.instanceMethod ({ cls := "MistCouriersModel", name := "lay", desc := "(III)V" } : Jvm.MethodName)) ∈ lw_all := lw_g (lw_at lw_m10 181 rfl) rfl
theorem q2492 : (Jvm.Cond.code ({ cls := "MistCouriersModel", name := "lay", desc := "(III)V" } : Jvm.MethodName) prog_16_method_14_code (4 : Nat) (Option.none : Option Jvm.ClassFile.FieldType)) ∈ lw_all := lw_g (lw_at lw_m10 182 rfl) rfl
theorem q2493 : (Jvm.Cond.methodLink "MistCouriersModel" (66 : Nat) ({ cls := "MistCouriersModel", name := "addLetter", desc := "(II)V" } : Jvm.MethodName)) ∈ lw_all := lw_g (lw_at lw_m10 183 rfl) rfl
theorem q2494 : (Jvm.Cond.privateMethod ({ cls := "MistCouriersModel", name := "addLetter", desc := "(II)V" } : Jvm.MethodName)) ∈ lw_tbl := lw_at lw_m10 184 rfl
theorem q2495 : (Jvm.Cond.instanceMethod ({ cls := "MistCouriersModel", name := "addLetter", desc := "(II)V" } : Jvm.MethodName)) ∈ lw_all := lw_g (lw_at lw_m10 185 rfl) rfl
theorem q2496 : (Jvm.Cond.code ({ cls := "MistCouriersModel", name := "addLetter", desc := "(II)V" } : Jvm.MethodName) prog_16_method_5_code (4 : Nat) (Option.none : Option Jvm.ClassFile.FieldType)) ∈ lw_all := lw_g (lw_at lw_m10 186 rfl) rfl
theorem q2497 : (Jvm.Cond.methodLink "MistCouriersModel" (74 : Nat) ({ cls := "MistCouriersModel", name := "layOfLetter", desc := "(III)V" } : Jvm.MethodName)) ∈ lw_all := lw_g (lw_at lw_m10 187 rfl) rfl
theorem q2498 : (Jvm.Cond.privateMethod ({ cls := "MistCouriersModel", name := "layOfLetter", desc := "(III)V" } : Jvm.MethodName)) ∈ lw_tbl := lw_at lw_m10 188 rfl
theorem q2499 : (Jvm.Cond.instanceMethod ({ cls := "MistCouriersModel", name := "layOfLetter", desc := "(III)V" } : Jvm.MethodName)) ∈ lw_all := lw_g (lw_at lw_m10 189 rfl) rfl
theorem q2500 : (Jvm.Cond.code ({ cls := "MistCouriersModel", name := "layOfLetter", desc := "(III)V" } : Jvm.MethodName) prog_16_method_17_code (4 : Nat) (Option.none : Option Jvm.ClassFile.FieldType)) ∈ lw_all := lw_g (lw_at lw_m10 190 rfl) rfl
theorem q2501 : (Jvm.Cond.fieldLink "MistCouriersModel" (7 : Nat) "MistCouriersModel" "state" "[I") ∈ lw_all := lw_g (lw_at lw_m10 191 rfl) rfl
theorem q2502 : (Jvm.Cond.fieldLink "MistCouriersModel" (13 : Nat) "MistCouriersModel" "aside" "[I") ∈ lw_all := lw_g (lw_at lw_m10 192 rfl) rfl
theorem q2503 : (Jvm.Cond.fieldLink "MistCouriersModel" (16 : Nat) "MistCouriersModel" "past" "[I") ∈ lw_all := lw_g (lw_at lw_m10 193 rfl) rfl
theorem q2504 : (Jvm.Cond.fieldLink "MistCouriersModel" (19 : Nat) "MistCouriersModel" "saved" "[I") ∈ lw_all := lw_g (lw_at lw_m10 194 rfl) rfl
theorem q2505 : (Jvm.Cond.fieldLink "MistCouriersModel" (22 : Nat) "MistCouriersModel" "isSaved" "[Z") ∈ lw_all := lw_g (lw_at lw_m10 195 rfl) rfl
theorem q2506 : (Jvm.Cond.fieldLink "MistCouriersModel" (26 : Nat) "MistCouriersModel" "refusals" "[I") ∈ lw_all := lw_g (lw_at lw_m10 196 rfl) rfl
theorem q2507 : (Jvm.Cond.fieldLink "MistCouriersModel" (292 : Nat) "MistCouriersModel" "acts" "I") ∈ lw_all := lw_g (lw_at lw_m10 197 rfl) rfl
theorem q2508 : (Jvm.Cond.fieldLink "MistCouriersModel" (77 : Nat) "MistCouriersModel" "thrown" "I") ∈ lw_all := lw_g (lw_at lw_m10 198 rfl) rfl
theorem q2509 : (Jvm.Cond.fieldLink "MistCouriersModel" (29 : Nat) "MistCouriersModel" "isLaid" "[Z") ∈ lw_all := lw_g (lw_at lw_m10 199 rfl) rfl
theorem q2510 : (Jvm.Cond.fieldLink "MistCouriersModel" (32 : Nat) "MistCouriersModel" "text" "[B") ∈ lw_all := lw_g (lw_at lw_m10 200 rfl) rfl
theorem q2511 : (Jvm.Cond.fieldLink "MistCouriersModel" (178 : Nat) "MistCouriersModel" "textLength" "I") ∈ lw_all := lw_g (lw_at lw_m10 201 rfl) rfl
theorem q2512 : (Jvm.Cond.fieldLink "MistCouriersModel" (200 : Nat) "MistCouriersModel" "token" "I") ∈ lw_all := lw_g (lw_at lw_m10 202 rfl) rfl
theorem q2513 : (Jvm.Cond.fieldLink "MistCouriersModel" (191 : Nat) "MistCouriersModel" "tokenStart" "I") ∈ lw_all := lw_g (lw_at lw_m10 203 rfl) rfl
theorem q2514 : (Jvm.Cond.fieldLink "MistCouriersModel" (194 : Nat) "MistCouriersModel" "tokenEnd" "I") ∈ lw_all := lw_g (lw_at lw_m10 204 rfl) rfl
theorem q2515 : (Jvm.Cond.fieldLink "MistCouriersModel" (209 : Nat) "MistCouriersModel" "number" "I") ∈ lw_all := lw_g (lw_at lw_m10 205 rfl) rfl
theorem q2516 : (Jvm.Cond.fieldLink "MistCouriersModel" (184 : Nat) "MistCouriersModel" "errorCode" "I") ∈ lw_all := lw_g (lw_at lw_m10 206 rfl) rfl
theorem q2517 : (Jvm.Cond.fieldLink "MistCouriersModel" (36 : Nat) "MistCouriersModel" "errorPosition" "I") ∈ lw_all := lw_g (lw_at lw_m10 207 rfl) rfl
theorem q2518 : (Jvm.Cond.fieldLink "MistCouriersModel" (40 : Nat) "MistCouriersModel" "commands" "[I") ∈ lw_all := lw_g (lw_at lw_m10 208 rfl) rfl
theorem q2519 : (Jvm.Cond.fieldLink "MistCouriersModel" (213 : Nat) "MistCouriersModel" "commandCount" "I") ∈ lw_all := lw_g (lw_at lw_m10 209 rfl) rfl
theorem q2520 : (Jvm.Cond.fieldLink "MistCouriersModel" (43 : Nat) "MistCouriersModel" "said" "[I") ∈ lw_all := lw_g (lw_at lw_m10 210 rfl) rfl
theorem q2521 : (Jvm.Cond.fieldLink "MistCouriersModel" (46 : Nat) "MistCouriersModel" "reached" "[Z") ∈ lw_all := lw_g (lw_at lw_m10 211 rfl) rfl
theorem q2522 : (Jvm.Cond.fieldLink "MistCouriersModel" (49 : Nat) "MistCouriersModel" "further" "[Z") ∈ lw_all := lw_g (lw_at lw_m10 212 rfl) rfl
theorem q2523 : (Jvm.Cond.fieldLink "MistCouriersModel" (52 : Nat) "MistCouriersModel" "output" "[B") ∈ lw_all := lw_g (lw_at lw_m10 213 rfl) rfl
theorem q2524 : (Jvm.Cond.fieldLink "MistCouriersModel" (458 : Nat) "MistCouriersModel" "outputLength" "I") ∈ lw_all := lw_g (lw_at lw_m10 214 rfl) rfl
theorem q2525 : (Jvm.Cond.laysFinal "MistCouriersModel" "MistCouriersModel" "state" "[I") ∈ lw_all := lw_g (lw_at lw_m10 215 rfl) rfl
theorem q2526 : (Jvm.Cond.soleField "MistCouriersModel" "state") ∈ lw_all := lw_g (lw_at lw_m10 216 rfl) rfl
theorem q2527 : (Jvm.Cond.laysFinal "MistCouriersModel" "MistCouriersModel" "aside" "[I") ∈ lw_all := lw_g (lw_at lw_m10 217 rfl) rfl
theorem q2528 : (Jvm.Cond.soleField "MistCouriersModel" "aside") ∈ lw_all := lw_g (lw_at lw_m10 218 rfl) rfl
theorem q2529 : (Jvm.Cond.laysFinal "MistCouriersModel" "MistCouriersModel" "past" "[I") ∈ lw_all := lw_g (lw_at lw_m10 219 rfl) rfl
theorem q2530 : (Jvm.Cond.soleField "MistCouriersModel" "past") ∈ lw_all := lw_g (lw_at lw_m10 220 rfl) rfl
theorem q2531 : (Jvm.Cond.laysFinal "MistCouriersModel" "MistCouriersModel" "saved" "[I") ∈ lw_all := lw_g (lw_at lw_m10 221 rfl) rfl
theorem q2532 : (Jvm.Cond.soleField "MistCouriersModel" "saved") ∈ lw_all := lw_g (lw_at lw_m10 222 rfl) rfl
theorem q2533 : (Jvm.Cond.laysFinal "MistCouriersModel" "MistCouriersModel" "isSaved" "[Z") ∈ lw_all := lw_g (lw_at lw_m10 223 rfl) rfl
theorem q2534 : (Jvm.Cond.soleField "MistCouriersModel" "isSaved") ∈ lw_all := lw_g (lw_at lw_m10 224 rfl) rfl
theorem q2535 : (Jvm.Cond.laysFinal "MistCouriersModel" "MistCouriersModel" "refusals" "[I") ∈ lw_all := lw_g (lw_at lw_m10 225 rfl) rfl
theorem q2536 : (Jvm.Cond.soleField "MistCouriersModel" "refusals") ∈ lw_all := lw_g (lw_at lw_m10 226 rfl) rfl
theorem q2537 : (Jvm.Cond.lays "MistCouriersModel" "MistCouriersModel" "acts" "I") ∈ lw_all := lw_g (lw_at lw_m10 227 rfl) rfl
theorem q2538 : (Jvm.Cond.soleField "MistCouriersModel" "acts") ∈ lw_all := lw_g (lw_at lw_m10 228 rfl) rfl
theorem q2539 : (Jvm.Cond.lays "MistCouriersModel" "MistCouriersModel" "thrown" "I") ∈ lw_all := lw_g (lw_at lw_m10 229 rfl) rfl
theorem q2540 : (Jvm.Cond.soleField "MistCouriersModel" "thrown") ∈ lw_all := lw_g (lw_at lw_m10 230 rfl) rfl
theorem q2541 : (Jvm.Cond.laysFinal "MistCouriersModel" "MistCouriersModel" "isLaid" "[Z") ∈ lw_all := lw_g (lw_at lw_m10 231 rfl) rfl
theorem q2542 : (Jvm.Cond.soleField "MistCouriersModel" "isLaid") ∈ lw_all := lw_g (lw_at lw_m10 232 rfl) rfl
theorem q2543 : (Jvm.Cond.laysFinal "MistCouriersModel" "MistCouriersModel" "text" "[B") ∈ lw_all := lw_g (lw_at lw_m10 233 rfl) rfl
theorem q2544 : (Jvm.Cond.soleField "MistCouriersModel" "text") ∈ lw_all := lw_g (lw_at lw_m10 234 rfl) rfl
theorem q2545 : (Jvm.Cond.lays "MistCouriersModel" "MistCouriersModel" "textLength" "I") ∈ lw_all := lw_g (lw_at lw_m10 235 rfl) rfl
theorem q2546 : (Jvm.Cond.soleField "MistCouriersModel" "textLength") ∈ lw_all := lw_g (lw_at lw_m10 236 rfl) rfl
theorem q2547 : (Jvm.Cond.lays "MistCouriersModel" "MistCouriersModel" "token" "I") ∈ lw_all := lw_g (lw_at lw_m10 237 rfl) rfl
theorem q2548 : (Jvm.Cond.soleField "MistCouriersModel" "token") ∈ lw_all := lw_g (lw_at lw_m10 238 rfl) rfl
theorem q2549 : (Jvm.Cond.lays "MistCouriersModel" "MistCouriersModel" "tokenStart" "I") ∈ lw_all := lw_g (lw_at lw_m10 239 rfl) rfl
theorem q2550 : (Jvm.Cond.soleField "MistCouriersModel" "tokenStart") ∈ lw_all := lw_g (lw_at lw_m11 0 rfl) rfl
theorem q2551 : (Jvm.Cond.lays "MistCouriersModel" "MistCouriersModel" "tokenEnd" "I") ∈ lw_all := lw_g (lw_at lw_m11 1 rfl) rfl
theorem q2552 : (Jvm.Cond.soleField "MistCouriersModel" "tokenEnd") ∈ lw_all := lw_g (lw_at lw_m11 2 rfl) rfl
theorem q2553 : (Jvm.Cond.lays "MistCouriersModel" "MistCouriersModel" "number" "I") ∈ lw_all := lw_g (lw_at lw_m11 3 rfl) rfl
theorem q2554 : (Jvm.Cond.soleField "MistCouriersModel" "number") ∈ lw_all := lw_g (lw_at lw_m11 4 rfl) rfl
theorem q2555 : (Jvm.Cond.lays "MistCouriersModel" "MistCouriersModel" "errorCode" "I") ∈ lw_all := lw_g (lw_at lw_m11 5 rfl) rfl
theorem q2556 : (Jvm.Cond.soleField "MistCouriersModel" "errorCode") ∈ lw_all := lw_g (lw_at lw_m11 6 rfl) rfl
theorem q2557 : (Jvm.Cond.lays "MistCouriersModel" "MistCouriersModel" "errorPosition" "I") ∈ lw_all := lw_g (lw_at lw_m11 7 rfl) rfl
theorem q2558 : (Jvm.Cond.soleField "MistCouriersModel" "errorPosition") ∈ lw_all := lw_g (lw_at lw_m11 8 rfl) rfl
theorem q2559 : (Jvm.Cond.laysFinal "MistCouriersModel" "MistCouriersModel" "commands" "[I") ∈ lw_all := lw_g (lw_at lw_m11 9 rfl) rfl
theorem q2560 : (Jvm.Cond.soleField "MistCouriersModel" "commands") ∈ lw_all := lw_g (lw_at lw_m11 10 rfl) rfl
theorem q2561 : (Jvm.Cond.lays "MistCouriersModel" "MistCouriersModel" "commandCount" "I") ∈ lw_all := lw_g (lw_at lw_m11 11 rfl) rfl
theorem q2562 : (Jvm.Cond.soleField "MistCouriersModel" "commandCount") ∈ lw_all := lw_g (lw_at lw_m11 12 rfl) rfl
theorem q2563 : (Jvm.Cond.laysFinal "MistCouriersModel" "MistCouriersModel" "said" "[I") ∈ lw_all := lw_g (lw_at lw_m11 13 rfl) rfl
theorem q2564 : (Jvm.Cond.soleField "MistCouriersModel" "said") ∈ lw_all := lw_g (lw_at lw_m11 14 rfl) rfl
theorem q2565 : (Jvm.Cond.laysFinal "MistCouriersModel" "MistCouriersModel" "reached" "[Z") ∈ lw_all := lw_g (lw_at lw_m11 15 rfl) rfl
theorem q2566 : (Jvm.Cond.soleField "MistCouriersModel" "reached") ∈ lw_all := lw_g (lw_at lw_m11 16 rfl) rfl
theorem q2567 : (Jvm.Cond.laysFinal "MistCouriersModel" "MistCouriersModel" "further" "[Z") ∈ lw_all := lw_g (lw_at lw_m11 17 rfl) rfl
theorem q2568 : (Jvm.Cond.soleField "MistCouriersModel" "further") ∈ lw_all := lw_g (lw_at lw_m11 18 rfl) rfl
theorem q2569 : (Jvm.Cond.laysFinal "MistCouriersModel" "MistCouriersModel" "output" "[B") ∈ lw_all := lw_g (lw_at lw_m11 19 rfl) rfl
theorem q2570 : (Jvm.Cond.soleField "MistCouriersModel" "output") ∈ lw_all := lw_g (lw_at lw_m11 20 rfl) rfl
theorem q2571 : (Jvm.Cond.lays "MistCouriersModel" "MistCouriersModel" "outputLength" "I") ∈ lw_all := lw_g (lw_at lw_m11 21 rfl) rfl
theorem q2572 : (Jvm.Cond.soleField "MistCouriersModel" "outputLength") ∈ lw_all := lw_g (lw_at lw_m11 22 rfl) rfl
theorem q2573 : (Jvm.Cond.superclass "MistCouriersModel" "java/lang/Object") ∈ lw_all := lw_g (lw_at lw_m11 23 rfl) rfl
theorem q2575 : (Jvm.Cond.instanceMethod ({ cls := "MistCouriersModel", name := "thrown", desc := "()I" } : Jvm.MethodName)) ∈ lw_all := lw_g (lw_at lw_m11 25 rfl) rfl
theorem q2576 : (Jvm.Cond.selects "MistCouriersModel" ({ cls := "MistCouriersModel", name := "thrown", desc := "()I" } : Jvm.MethodName) ({ cls := "MistCouriersModel", name := "thrown", desc := "()I" } : Jvm.MethodName)) ∈ lw_all := lw_g (lw_at lw_m11 26 rfl) rfl
theorem q2577 : (Jvm.Cond.code ({ cls := "MistCouriersModel", name := "thrown", desc := "()I" } : Jvm.MethodName) prog_16_method_6_code (1 : Nat) (Option.some Jvm.ClassFile.FieldType.int)) ∈ lw_all := lw_g (lw_at lw_m11 27 rfl) rfl
theorem q2579 : (Jvm.Cond.instanceMethod ({ cls := "MistCouriersModel", name := "appendText", desc := "(I)I" } : Jvm.MethodName)) ∈ lw_all := lw_g (lw_at lw_m11 29 rfl) rfl
theorem q2580 : (Jvm.Cond.selects "MistCouriersModel" ({ cls := "MistCouriersModel", name := "appendText", desc := "(I)I" } : Jvm.MethodName) ({ cls := "MistCouriersModel", name := "appendText", desc := "(I)I" } : Jvm.MethodName)) ∈ lw_all := lw_g (lw_at lw_m11 30 rfl) rfl
theorem q2581 : (Jvm.Cond.code ({ cls := "MistCouriersModel", name := "appendText", desc := "(I)I" } : Jvm.MethodName) prog_16_method_47_code (3 : Nat) (Option.some Jvm.ClassFile.FieldType.int)) ∈ lw_all := lw_g (lw_at lw_m11 31 rfl) rfl
theorem q2582 : (Jvm.Cond.methodLink "MistCouriersModel" (181 : Nat) ({ cls := "MistCouriersModel", name := "fail", desc := "(I)I" } : Jvm.MethodName)) ∈ lw_all := lw_g (lw_at lw_m11 32 rfl) rfl
theorem q2583 : (Jvm.Cond.privateMethod ({ cls := "MistCouriersModel", name := "fail", desc := "(I)I" } : Jvm.MethodName)) ∈ lw_tbl := lw_at lw_m11 33 rfl
theorem q2584 : (Jvm.Cond.instanceMethod ({ cls := "MistCouriersModel", name := "fail", desc := "(I)I" } : Jvm.MethodName)) ∈ lw_all := lw_g (lw_at lw_m11 34 rfl) rfl
theorem q2585 : (Jvm.Cond.code ({ cls := "MistCouriersModel", name := "fail", desc := "(I)I" } : Jvm.MethodName) prog_16_method_7_code (2 : Nat) (Option.some Jvm.ClassFile.FieldType.int)) ∈ lw_all := lw_g (lw_at lw_m11 35 rfl) rfl
theorem q2587 : (Jvm.Cond.instanceMethod ({ cls := "MistCouriersModel", name := "truncateText", desc := "(I)I" } : Jvm.MethodName)) ∈ lw_all := lw_g (lw_at lw_m11 37 rfl) rfl
theorem q2588 : (Jvm.Cond.selects "MistCouriersModel" ({ cls := "MistCouriersModel", name := "truncateText", desc := "(I)I" } : Jvm.MethodName) ({ cls := "MistCouriersModel", name := "truncateText", desc := "(I)I" } : Jvm.MethodName)) ∈ lw_all := lw_g (lw_at lw_m11 38 rfl) rfl
theorem q2589 : (Jvm.Cond.code ({ cls := "MistCouriersModel", name := "truncateText", desc := "(I)I" } : Jvm.MethodName) prog_16_method_48_code (2 : Nat) (Option.some Jvm.ClassFile.FieldType.int)) ∈ lw_all := lw_g (lw_at lw_m11 39 rfl) rfl
theorem q2590 : (Jvm.Cond.methodLink "MistCouriersModel" (88 : Nat) ({ cls := "MistCouriersModel", name := "isBetween", desc := "(III)Z" } : Jvm.MethodName)) ∈ lw_all := lw_g (lw_at lw_m11 40 rfl) rfl
theorem q2591 : (Jvm.Cond.static ({ cls := "MistCouriersModel", name := "isBetween", desc := "(III)Z" } : Jvm.MethodName)) ∈ lw_all := lw_g (lw_at lw_m11 41 rfl) rfl
theorem q2592 : (Jvm.Cond.code ({ cls := "MistCouriersModel", name := "isBetween", desc := "(III)Z" } : Jvm.MethodName) prog_16_method_8_code (3 : Nat) (Option.some Jvm.ClassFile.FieldType.boolean)) ∈ lw_all := lw_g (lw_at lw_m11 42 rfl) rfl
theorem q2594 : (Jvm.Cond.instanceMethod ({ cls := "MistCouriersModel", name := "load", desc := "()I" } : Jvm.MethodName)) ∈ lw_all := lw_g (lw_at lw_m11 44 rfl) rfl
theorem q2595 : (Jvm.Cond.selects "MistCouriersModel" ({ cls := "MistCouriersModel", name := "load", desc := "()I" } : Jvm.MethodName) ({ cls := "MistCouriersModel", name := "load", desc := "()I" } : Jvm.MethodName)) ∈ lw_all := lw_g (lw_at lw_m11 45 rfl) rfl
theorem q2596 : (Jvm.Cond.code ({ cls := "MistCouriersModel", name := "load", desc := "()I" } : Jvm.MethodName) prog_16_method_69_code (2 : Nat) (Option.some Jvm.ClassFile.FieldType.int)) ∈ lw_all := lw_g (lw_at lw_m11 46 rfl) rfl
theorem q2597 : (Jvm.Cond.methodLink "MistCouriersModel" (282 : Nat) ({ cls := "MistCouriersModel", name := "copy", desc := "([II[II)V" } : Jvm.MethodName)) ∈ lw_all := lw_g (lw_at lw_m11 47 rfl) rfl
theorem q2598 : (Jvm.Cond.static ({ cls := "MistCouriersModel", name := "copy", desc := "([II[II)V" } : Jvm.MethodName)) ∈ lw_all := lw_g (lw_at lw_m11 48 rfl) rfl
theorem q2599 : (Jvm.Cond.code ({ cls := "MistCouriersModel", name := "copy", desc := "([II[II)V" } : Jvm.MethodName) prog_16_method_9_code (5 : Nat) (Option.none : Option Jvm.ClassFile.FieldType)) ∈ lw_all := lw_g (lw_at lw_m11 49 rfl) rfl
theorem q2600 : (Jvm.Cond.methodLink "MistCouriersModel" (286 : Nat) ({ cls := "MistCouriersModel", name := "startText", desc := "()V" } : Jvm.MethodName)) ∈ lw_all := lw_g (lw_at lw_m11 50 rfl) rfl
theorem q2601 : (Jvm.Cond.privateMethod ({ cls := "MistCouriersModel", name := "startText", desc := "()V" } : Jvm.MethodName)) ∈ lw_tbl := lw_at lw_m11 51 rfl
theorem q2602 : (Jvm.Cond.instanceMethod ({ cls := "MistCouriersModel", name := "startText", desc := "()V" } : Jvm.MethodName)) ∈ lw_all := lw_g (lw_at lw_m11 52 rfl) rfl
theorem q2603 : (Jvm.Cond.code ({ cls := "MistCouriersModel", name := "startText", desc := "()V" } : Jvm.MethodName) prog_16_method_55_code (1 : Nat) (Option.none : Option Jvm.ClassFile.FieldType)) ∈ lw_all := lw_g (lw_at lw_m11 53 rfl) rfl
theorem q2604 : (Jvm.Cond.methodLink "MistCouriersModel" (216 : Nat) ({ cls := "MistCouriersModel", name := "proceed", desc := "()V" } : Jvm.MethodName)) ∈ lw_all := lw_g (lw_at lw_m11 54 rfl) rfl
theorem q2605 : (Jvm.Cond.privateMethod ({ cls := "MistCouriersModel", name := "proceed", desc := "()V" } : Jvm.MethodName)) ∈ lw_tbl := lw_at lw_m11 55 rfl
theorem q2606 : (Jvm.Cond.instanceMethod ({ cls := "MistCouriersModel", name := "proceed", desc := "()V" } : Jvm.MethodName)) ∈ lw_all := lw_g (lw_at lw_m11 56 rfl) rfl
theorem q2607 : (Jvm.Cond.code ({ cls := "MistCouriersModel", name := "proceed", desc := "()V" } : Jvm.MethodName) prog_16_method_54_code (2 : Nat) (Option.none : Option Jvm.ClassFile.FieldType)) ∈ lw_all := lw_g (lw_at lw_m11 57 rfl) rfl
theorem q2608 : (Jvm.Cond.methodLink "MistCouriersModel" (187 : Nat) ({ cls := "MistCouriersModel", name := "isFine", desc := "()Z" } : Jvm.MethodName)) ∈ lw_all := lw_g (lw_at lw_m11 58 rfl) rfl
theorem q2609 : (Jvm.Cond.privateMethod ({ cls := "MistCouriersModel", name := "isFine", desc := "()Z" } : Jvm.MethodName)) ∈ lw_tbl := lw_at lw_m11 59 rfl
theorem q2610 : (Jvm.Cond.instanceMethod ({ cls := "MistCouriersModel", name := "isFine", desc := "()Z" } : Jvm.MethodName)) ∈ lw_all := lw_g (lw_at lw_m11 60 rfl) rfl
theorem q2611 : (Jvm.Cond.code ({ cls := "MistCouriersModel", name := "isFine", desc := "()Z" } : Jvm.MethodName) prog_16_method_52_code (1 : Nat) (Option.some Jvm.ClassFile.FieldType.boolean)) ∈ lw_all := lw_g (lw_at lw_m11 61 rfl) rfl
theorem q2612 : (Jvm.Cond.methodLink "MistCouriersModel" (197 : Nat) ({ cls := "MistCouriersModel", name := "byteAt", desc := "(I)I" } : Jvm.MethodName)) ∈ lw_all := lw_g (lw_at lw_m11 62 rfl) rfl
theorem q2613 : (Jvm.Cond.privateMethod ({ cls := "MistCouriersModel", name := "byteAt", desc := "(I)I" } : Jvm.MethodName)) ∈ lw_tbl := lw_at lw_m11 63 rfl
theorem q2614 : (Jvm.Cond.instanceMethod ({ cls := "MistCouriersModel", name := "byteAt", desc := "(I)I" } : Jvm.MethodName)) ∈ lw_all := lw_g (lw_at lw_m11 64 rfl) rfl
theorem q2615 : (Jvm.Cond.code ({ cls := "MistCouriersModel", name := "byteAt", desc := "(I)I" } : Jvm.MethodName) prog_16_method_49_code (2 : Nat) (Option.some Jvm.ClassFile.FieldType.int)) ∈ lw_all := lw_g (lw_at lw_m11 65 rfl) rfl
theorem q2616 : (Jvm.Cond.methodLink "MistCouriersModel" (203 : Nat) ({ cls := "MistCouriersModel", name := "isSmall", desc := "(I)Z" } : Jvm.MethodName)) ∈ lw_all := lw_g (lw_at lw_m11 66 rfl) rfl
theorem q2617 : (Jvm.Cond.static ({ cls := "MistCouriersModel", name := "isSmall", desc := "(I)Z" } : Jvm.MethodName)) ∈ lw_all := lw_g (lw_at lw_m11 67 rfl) rfl
theorem q2618 : (Jvm.Cond.code ({ cls := "MistCouriersModel", name := "isSmall", desc := "(I)Z" } : Jvm.MethodName) prog_16_method_50_code (1 : Nat) (Option.some Jvm.ClassFile.FieldType.boolean)) ∈ lw_all := lw_g (lw_at lw_m11 68 rfl) rfl
theorem q2619 : (Jvm.Cond.methodLink "MistCouriersModel" (206 : Nat) ({ cls := "MistCouriersModel", name := "isDigit", desc := "(I)Z" } : Jvm.MethodName)) ∈ lw_all := lw_g (lw_at lw_m11 69 rfl) rfl
theorem q2620 : (Jvm.Cond.static ({ cls := "MistCouriersModel", name := "isDigit", desc := "(I)Z" } : Jvm.MethodName)) ∈ lw_all := lw_g (lw_at lw_m11 70 rfl) rfl
theorem q2621 : (Jvm.Cond.code ({ cls := "MistCouriersModel", name := "isDigit", desc := "(I)Z" } : Jvm.MethodName) prog_16_method_51_code (1 : Nat) (Option.some Jvm.ClassFile.FieldType.boolean)) ∈ lw_all := lw_g (lw_at lw_m11 71 rfl) rfl
theorem q2622 : (Jvm.Cond.constant "MistCouriersModel" (212 : Nat) (100000 : Int32)) ∈ lw_all := lw_g (lw_at lw_m11 72 rfl) rfl
theorem q2623 : (Jvm.Cond.methodLink "MistCouriersModel" (110 : Nat) ({ cls := "java/lang/Math", name := "min", desc := "(II)I" } : Jvm.MethodName)) ∈ lw_all := lw_g (lw_at lw_m11 73 rfl) rfl
theorem q2624 : (Jvm.Cond.methodLink "MistCouriersModel" (289 : Nat) ({ cls := "MistCouriersModel", name := "parseMist", desc := "()V" } : Jvm.MethodName)) ∈ lw_all := lw_g (lw_at lw_m11 74 rfl) rfl
theorem q2625 : (Jvm.Cond.privateMethod ({ cls := "MistCouriersModel", name := "parseMist", desc := "()V" } : Jvm.MethodName)) ∈ lw_tbl := lw_at lw_m11 75 rfl
theorem q2626 : (Jvm.Cond.instanceMethod ({ cls := "MistCouriersModel", name := "parseMist", desc := "()V" } : Jvm.MethodName)) ∈ lw_all := lw_g (lw_at lw_m11 76 rfl) rfl
theorem q2627 : (Jvm.Cond.code ({ cls := "MistCouriersModel", name := "parseMist", desc := "()V" } : Jvm.MethodName) prog_16_method_68_code (1 : Nat) (Option.none : Option Jvm.ClassFile.FieldType)) ∈ lw_all := lw_g (lw_at lw_m11 77 rfl) rfl
theorem q2628 : (Jvm.Cond.stringRef "MistCouriersModel" (277 : Nat) "mist") ∈ lw_tbl := lw_at lw_m11 78 rfl
theorem q2629 : (Jvm.Cond.methodLink "MistCouriersModel" (247 : Nat) ({ cls := "MistCouriersModel", name := "isWord", desc := "(Ljava/lang/String;)Z" } : Jvm.MethodName)) ∈ lw_all := lw_g (lw_at lw_m11 79 rfl) rfl
theorem q2630 : (Jvm.Cond.privateMethod ({ cls := "MistCouriersModel", name := "isWord", desc := "(Ljava/lang/String;)Z" } : Jvm.MethodName)) ∈ lw_tbl := lw_at lw_m11 80 rfl
theorem q2631 : (Jvm.Cond.instanceMethod ({ cls := "MistCouriersModel", name := "isWord", desc := "(Ljava/lang/String;)Z" } : Jvm.MethodName)) ∈ lw_all := lw_g (lw_at lw_m11 81 rfl) rfl
theorem q2632 : (Jvm.Cond.code ({ cls := "MistCouriersModel", name := "isWord", desc := "(Ljava/lang/String;)Z" } : Jvm.MethodName) prog_16_method_56_code (3 : Nat) (Option.some Jvm.ClassFile.FieldType.boolean)) ∈ lw_all := lw_g (lw_at lw_m11 82 rfl) rfl
theorem q2633 : (Jvm.Cond.methodLink "MistCouriersModel" (219 : Nat) ({ cls := "java/lang/String", name := "length", desc := "()I" } : Jvm.MethodName)) ∈ lw_all := lw_g (lw_at lw_m11 83 rfl) rfl
theorem q2634 : (Jvm.Cond.methodLink "MistCouriersModel" (224 : Nat) ({ cls := "java/lang/String", name := "charAt", desc := "(I)C" } : Jvm.MethodName)) ∈ lw_all := lw_g (lw_at lw_m11 84 rfl) rfl
theorem q2645 : (Jvm.Cond.methodLink "MistCouriersModel" (228 : Nat) ({ cls := "MistCouriersModel", name := "require", desc := "(ZI)V" } : Jvm.MethodName)) ∈ lw_all := lw_g (lw_at lw_m11 95 rfl) rfl
theorem q2646 : (Jvm.Cond.privateMethod ({ cls := "MistCouriersModel", name := "require", desc := "(ZI)V" } : Jvm.MethodName)) ∈ lw_tbl := lw_at lw_m11 96 rfl
theorem q2647 : (Jvm.Cond.instanceMethod ({ cls := "MistCouriersModel", name := "require", desc := "(ZI)V" } : Jvm.MethodName)) ∈ lw_all := lw_g (lw_at lw_m11 97 rfl) rfl
theorem q2648 : (Jvm.Cond.code ({ cls := "MistCouriersModel", name := "require", desc := "(ZI)V" } : Jvm.MethodName) prog_16_method_53_code (3 : Nat) (Option.none : Option Jvm.ClassFile.FieldType)) ∈ lw_all := lw_g (lw_at lw_m11 98 rfl) rfl
theorem q2649 : (Jvm.Cond.methodLink "MistCouriersModel" (242 : Nat) ({ cls := "MistCouriersModel", name := "parseRange", desc := "(II)I" } : Jvm.MethodName)) ∈ lw_all := lw_g (lw_at lw_m11 99 rfl) rfl
theorem q2650 : (Jvm.Cond.privateMethod ({ cls := "MistCouriersModel", name := "parseRange", desc := "(II)I" } : Jvm.MethodName)) ∈ lw_tbl := lw_at lw_m11 100 rfl
theorem q2651 : (Jvm.Cond.instanceMethod ({ cls := "MistCouriersModel", name := "parseRange", desc := "(II)I" } : Jvm.MethodName)) ∈ lw_all := lw_g (lw_at lw_m11 101 rfl) rfl
theorem q2652 : (Jvm.Cond.code ({ cls := "MistCouriersModel", name := "parseRange", desc := "(II)I" } : Jvm.MethodName) prog_16_method_59_code (3 : Nat) (Option.some Jvm.ClassFile.FieldType.int)) ∈ lw_all := lw_g (lw_at lw_m11 102 rfl) rfl
theorem q2653 : (Jvm.Cond.methodLink "MistCouriersModel" (232 : Nat) ({ cls := "MistCouriersModel", name := "parseNumber", desc := "(II)I" } : Jvm.MethodName)) ∈ lw_all := lw_g (lw_at lw_m11 103 rfl) rfl
theorem q2654 : (Jvm.Cond.privateMethod ({ cls := "MistCouriersModel", name := "parseNumber", desc := "(II)I" } : Jvm.MethodName)) ∈ lw_tbl := lw_at lw_m11 104 rfl
theorem q2655 : (Jvm.Cond.instanceMethod ({ cls := "MistCouriersModel", name := "parseNumber", desc := "(II)I" } : Jvm.MethodName)) ∈ lw_all := lw_g (lw_at lw_m11 105 rfl) rfl
theorem q2656 : (Jvm.Cond.code ({ cls := "MistCouriersModel", name := "parseNumber", desc := "(II)I" } : Jvm.MethodName) prog_16_method_58_code (4 : Nat) (Option.some Jvm.ClassFile.FieldType.int)) ∈ lw_all := lw_g (lw_at lw_m11 106 rfl) rfl
theorem q2657 : (Jvm.Cond.methodLink "MistCouriersModel" (274 : Nat) ({ cls := "MistCouriersModel", name := "parseEnd", desc := "()V" } : Jvm.MethodName)) ∈ lw_all := lw_g (lw_at lw_m11 107 rfl) rfl
theorem q2658 : (Jvm.Cond.privateMethod ({ cls := "MistCouriersModel", name := "parseEnd", desc := "()V" } : Jvm.MethodName)) ∈ lw_tbl := lw_at lw_m11 108 rfl
theorem q2659 : (Jvm.Cond.instanceMethod ({ cls := "MistCouriersModel", name := "parseEnd", desc := "()V" } : Jvm.MethodName)) ∈ lw_all := lw_g (lw_at lw_m11 109 rfl) rfl
theorem q2660 : (Jvm.Cond.code ({ cls := "MistCouriersModel", name := "parseEnd", desc := "()V" } : Jvm.MethodName) prog_16_method_57_code (1 : Nat) (Option.none : Option Jvm.ClassFile.FieldType)) ∈ lw_all := lw_g (lw_at lw_m11 110 rfl) rfl
theorem q2661 : (Jvm.Cond.methodLink "MistCouriersModel" (279 : Nat) ({ cls := "MistCouriersModel", name := "parseLine", desc := "()V" } : Jvm.MethodName)) ∈ lw_all := lw_g (lw_at lw_m11 111 rfl) rfl
theorem q2662 : (Jvm.Cond.privateMethod ({ cls := "MistCouriersModel", name := "parseLine", desc := "()V" } : Jvm.MethodName)) ∈ lw_tbl := lw_at lw_m11 112 rfl
theorem q2663 : (Jvm.Cond.instanceMethod ({ cls := "MistCouriersModel", name := "parseLine", desc := "()V" } : Jvm.MethodName)) ∈ lw_all := lw_g (lw_at lw_m11 113 rfl) rfl
theorem q2664 : (Jvm.Cond.code ({ cls := "MistCouriersModel", name := "parseLine", desc := "()V" } : Jvm.MethodName) prog_16_method_67_code (1 : Nat) (Option.none : Option Jvm.ClassFile.FieldType)) ∈ lw_all := lw_g (lw_at lw_m11 114 rfl) rfl
theorem q2665 : (Jvm.Cond.stringRef "MistCouriersModel" (251 : Nat) "wall") ∈ lw_tbl := lw_at lw_m11 115 rfl
theorem q2666 : (Jvm.Cond.methodLink "MistCouriersModel" (253 : Nat) ({ cls := "MistCouriersModel", name := "parseWall", desc := "()V" } : Jvm.MethodName)) ∈ lw_all := lw_g (lw_at lw_m11 116 rfl) rfl
theorem q2667 : (Jvm.Cond.privateMethod ({ cls := "MistCouriersModel", name := "parseWall", desc := "()V" } : Jvm.MethodName)) ∈ lw_tbl := lw_at lw_m11 117 rfl
theorem q2668 : (Jvm.Cond.instanceMethod ({ cls := "MistCouriersModel", name := "parseWall", desc := "()V" } : Jvm.MethodName)) ∈ lw_all := lw_g (lw_at lw_m11 118 rfl) rfl
theorem q2669 : (Jvm.Cond.code ({ cls := "MistCouriersModel", name := "parseWall", desc := "()V" } : Jvm.MethodName) prog_16_method_62_code (2 : Nat) (Option.none : Option Jvm.ClassFile.FieldType)) ∈ lw_all := lw_g (lw_at lw_m11 119 rfl) rfl
theorem q2670 : (Jvm.Cond.methodLink "MistCouriersModel" (238 : Nat) ({ cls := "MistCouriersModel", name := "parseCell", desc := "(ZI)I" } : Jvm.MethodName)) ∈ lw_all := lw_g (lw_at lw_m11 120 rfl) rfl
theorem q2671 : (Jvm.Cond.privateMethod ({ cls := "MistCouriersModel", name := "parseCell", desc := "(ZI)I" } : Jvm.MethodName)) ∈ lw_tbl := lw_at lw_m11 121 rfl
theorem q2672 : (Jvm.Cond.instanceMethod ({ cls := "MistCouriersModel", name := "parseCell", desc := "(ZI)I" } : Jvm.MethodName)) ∈ lw_all := lw_g (lw_at lw_m11 122 rfl) rfl
theorem q2673 : (Jvm.Cond.code ({ cls := "MistCouriersModel", name := "parseCell", desc := "(ZI)I" } : Jvm.MethodName) prog_16_method_61_code (4 : Nat) (Option.some Jvm.ClassFile.FieldType.int)) ∈ lw_all := lw_g (lw_at lw_m11 123 rfl) rfl
theorem q2674 : (Jvm.Cond.methodLink "MistCouriersModel" (84 : Nat) ({ cls := "MistCouriersModel", name := "cells", desc := "()I" } : Jvm.MethodName)) ∈ lw_all := lw_g (lw_at lw_m11 124 rfl) rfl
theorem q2675 : (Jvm.Cond.privateMethod ({ cls := "MistCouriersModel", name := "cells", desc := "()I" } : Jvm.MethodName)) ∈ lw_tbl := lw_at lw_m11 125 rfl
theorem q2676 : (Jvm.Cond.instanceMethod ({ cls := "MistCouriersModel", name := "cells", desc := "()I" } : Jvm.MethodName)) ∈ lw_all := lw_g (lw_at lw_m11 126 rfl) rfl
theorem q2677 : (Jvm.Cond.code ({ cls := "MistCouriersModel", name := "cells", desc := "()I" } : Jvm.MethodName) prog_16_method_18_code (1 : Nat) (Option.some Jvm.ClassFile.FieldType.int)) ∈ lw_all := lw_g (lw_at lw_m11 127 rfl) rfl
theorem q2678 : (Jvm.Cond.methodLink "MistCouriersModel" (125 : Nat) ({ cls := "MistCouriersModel", name := "isWall", desc := "(I)Z" } : Jvm.MethodName)) ∈ lw_all := lw_g (lw_at lw_m11 128 rfl) rfl
theorem q2679 : (Jvm.Cond.privateMethod ({ cls := "MistCouriersModel", name := "isWall", desc := "(I)Z" } : Jvm.MethodName)) ∈ lw_tbl := lw_at lw_m11 129 rfl
theorem q2680 : (Jvm.Cond.instanceMethod ({ cls := "MistCouriersModel", name := "isWall", desc := "(I)Z" } : Jvm.MethodName)) ∈ lw_all := lw_g (lw_at lw_m11 130 rfl) rfl
theorem q2681 : (Jvm.Cond.code ({ cls := "MistCouriersModel", name := "isWall", desc := "(I)Z" } : Jvm.MethodName) prog_16_method_20_code (2 : Nat) (Option.some Jvm.ClassFile.FieldType.boolean)) ∈ lw_all := lw_g (lw_at lw_m11 131 rfl) rfl
theorem q2682 : (Jvm.Cond.methodLink "MistCouriersModel" (235 : Nat) ({ cls := "MistCouriersModel", name := "isTold", desc := "(I)Z" } : Jvm.MethodName)) ∈ lw_all := lw_g (lw_at lw_m11 132 rfl) rfl
theorem q2683 : (Jvm.Cond.privateMethod ({ cls := "MistCouriersModel", name := "isTold", desc := "(I)Z" } : Jvm.MethodName)) ∈ lw_tbl := lw_at lw_m11 133 rfl
theorem q2684 : (Jvm.Cond.instanceMethod ({ cls := "MistCouriersModel", name := "isTold", desc := "(I)Z" } : Jvm.MethodName)) ∈ lw_all := lw_g (lw_at lw_m11 134 rfl) rfl
theorem q2685 : (Jvm.Cond.code ({ cls := "MistCouriersModel", name := "isTold", desc := "(I)Z" } : Jvm.MethodName) prog_16_method_60_code (3 : Nat) (Option.some Jvm.ClassFile.FieldType.boolean)) ∈ lw_all := lw_g (lw_at lw_m11 135 rfl) rfl
theorem q2686 : (Jvm.Cond.methodLink "MistCouriersModel" (119 : Nat) ({ cls := "MistCouriersModel", name := "ofWatcher", desc := "(II)I" } : Jvm.MethodName)) ∈ lw_all := lw_g (lw_at lw_m11 136 rfl) rfl
theorem q2687 : (Jvm.Cond.privateMethod ({ cls := "MistCouriersModel", name := "ofWatcher", desc := "(II)I" } : Jvm.MethodName)) ∈ lw_tbl := lw_at lw_m11 137 rfl
theorem q2688 : (Jvm.Cond.instanceMethod ({ cls := "MistCouriersModel", name := "ofWatcher", desc := "(II)I" } : Jvm.MethodName)) ∈ lw_all := lw_g (lw_at lw_m11 138 rfl) rfl
theorem q2689 : (Jvm.Cond.code ({ cls := "MistCouriersModel", name := "ofWatcher", desc := "(II)I" } : Jvm.MethodName) prog_16_method_12_code (3 : Nat) (Option.some Jvm.ClassFile.FieldType.int)) ∈ lw_all := lw_g (lw_at lw_m11 139 rfl) rfl
theorem q2690 : (Jvm.Cond.methodLink "MistCouriersModel" (80 : Nat) ({ cls := "MistCouriersModel", name := "of", desc := "(II)I" } : Jvm.MethodName)) ∈ lw_all := lw_g (lw_at lw_m11 140 rfl) rfl
theorem q2691 : (Jvm.Cond.privateMethod ({ cls := "MistCouriersModel", name := "of", desc := "(II)I" } : Jvm.MethodName)) ∈ lw_tbl := lw_at lw_m11 141 rfl
theorem q2692 : (Jvm.Cond.instanceMethod ({ cls := "MistCouriersModel", name := "of", desc := "(II)I" } : Jvm.MethodName)) ∈ lw_all := lw_g (lw_at lw_m11 142 rfl) rfl
theorem q2693 : (Jvm.Cond.code ({ cls := "MistCouriersModel", name := "of", desc := "(II)I" } : Jvm.MethodName) prog_16_method_13_code (3 : Nat) (Option.some Jvm.ClassFile.FieldType.int)) ∈ lw_all := lw_g (lw_at lw_m11 143 rfl) rfl
theorem q2694 : (Jvm.Cond.methodLink "MistCouriersModel" (160 : Nat) ({ cls := "MistCouriersModel", name := "ofLetter", desc := "(II)I" } : Jvm.MethodName)) ∈ lw_all := lw_g (lw_at lw_m11 144 rfl) rfl
theorem q2695 : (Jvm.Cond.privateMethod ({ cls := "MistCouriersModel", name := "ofLetter", desc := "(II)I" } : Jvm.MethodName)) ∈ lw_tbl := lw_at lw_m11 145 rfl
theorem q2696 : (Jvm.Cond.instanceMethod ({ cls := "MistCouriersModel", name := "ofLetter", desc := "(II)I" } : Jvm.MethodName)) ∈ lw_all := lw_g (lw_at lw_m11 146 rfl) rfl
theorem q2697 : (Jvm.Cond.code ({ cls := "MistCouriersModel", name := "ofLetter", desc := "(II)I" } : Jvm.MethodName) prog_16_method_16_code (3 : Nat) (Option.some Jvm.ClassFile.FieldType.int)) ∈ lw_all := lw_g (lw_at lw_m11 147 rfl) rfl
theorem q2698 : (Jvm.Cond.stringRef "MistCouriersModel" (256 : Nat) "bank") ∈ lw_tbl := lw_at lw_m11 148 rfl
theorem q2699 : (Jvm.Cond.methodLink "MistCouriersModel" (258 : Nat) ({ cls := "MistCouriersModel", name := "parseBank", desc := "()V" } : Jvm.MethodName)) ∈ lw_all := lw_g (lw_at lw_m11 149 rfl) rfl
theorem q2700 : (Jvm.Cond.privateMethod ({ cls := "MistCouriersModel", name := "parseBank", desc := "()V" } : Jvm.MethodName)) ∈ lw_tbl := lw_at lw_m11 150 rfl
theorem q2701 : (Jvm.Cond.instanceMethod ({ cls := "MistCouriersModel", name := "parseBank", desc := "()V" } : Jvm.MethodName)) ∈ lw_all := lw_g (lw_at lw_m11 151 rfl) rfl
theorem q2702 : (Jvm.Cond.code ({ cls := "MistCouriersModel", name := "parseBank", desc := "()V" } : Jvm.MethodName) prog_16_method_63_code (5 : Nat) (Option.none : Option Jvm.ClassFile.FieldType)) ∈ lw_all := lw_g (lw_at lw_m11 152 rfl) rfl
theorem q2703 : (Jvm.Cond.stringRef "MistCouriersModel" (261 : Nat) "watcher") ∈ lw_tbl := lw_at lw_m11 153 rfl
theorem q2704 : (Jvm.Cond.methodLink "MistCouriersModel" (263 : Nat) ({ cls := "MistCouriersModel", name := "parseWatcher", desc := "()V" } : Jvm.MethodName)) ∈ lw_all := lw_g (lw_at lw_m11 154 rfl) rfl
theorem q2705 : (Jvm.Cond.privateMethod ({ cls := "MistCouriersModel", name := "parseWatcher", desc := "()V" } : Jvm.MethodName)) ∈ lw_tbl := lw_at lw_m11 155 rfl
theorem q2706 : (Jvm.Cond.instanceMethod ({ cls := "MistCouriersModel", name := "parseWatcher", desc := "()V" } : Jvm.MethodName)) ∈ lw_all := lw_g (lw_at lw_m11 156 rfl) rfl
theorem q2707 : (Jvm.Cond.code ({ cls := "MistCouriersModel", name := "parseWatcher", desc := "()V" } : Jvm.MethodName) prog_16_method_64_code (5 : Nat) (Option.none : Option Jvm.ClassFile.FieldType)) ∈ lw_all := lw_g (lw_at lw_m11 157 rfl) rfl
theorem q2708 : (Jvm.Cond.stringRef "MistCouriersModel" (266 : Nat) "courier") ∈ lw_tbl := lw_at lw_m11 158 rfl
theorem q2709 : (Jvm.Cond.methodLink "MistCouriersModel" (268 : Nat) ({ cls := "MistCouriersModel", name := "parseCourier", desc := "()V" } : Jvm.MethodName)) ∈ lw_all := lw_g (lw_at lw_m11 159 rfl) rfl
theorem q2710 : (Jvm.Cond.privateMethod ({ cls := "MistCouriersModel", name := "parseCourier", desc := "()V" } : Jvm.MethodName)) ∈ lw_tbl := lw_at lw_m11 160 rfl
theorem q2711 : (Jvm.Cond.instanceMethod ({ cls := "MistCouriersModel", name := "parseCourier", desc := "()V" } : Jvm.MethodName)) ∈ lw_all := lw_g (lw_at lw_m11 161 rfl) rfl
theorem q2712 : (Jvm.Cond.code ({ cls := "MistCouriersModel", name := "parseCourier", desc := "()V" } : Jvm.MethodName) prog_16_method_65_code (2 : Nat) (Option.none : Option Jvm.ClassFile.FieldType)) ∈ lw_all := lw_g (lw_at lw_m11 162 rfl) rfl
theorem q2713 : (Jvm.Cond.methodLink "MistCouriersModel" (271 : Nat) ({ cls := "MistCouriersModel", name := "parseLetter", desc := "()V" } : Jvm.MethodName)) ∈ lw_all := lw_g (lw_at lw_m11 163 rfl) rfl
theorem q2714 : (Jvm.Cond.privateMethod ({ cls := "MistCouriersModel", name := "parseLetter", desc := "()V" } : Jvm.MethodName)) ∈ lw_tbl := lw_at lw_m11 164 rfl
theorem q2715 : (Jvm.Cond.instanceMethod ({ cls := "MistCouriersModel", name := "parseLetter", desc := "()V" } : Jvm.MethodName)) ∈ lw_all := lw_g (lw_at lw_m11 165 rfl) rfl
theorem q2716 : (Jvm.Cond.code ({ cls := "MistCouriersModel", name := "parseLetter", desc := "()V" } : Jvm.MethodName) prog_16_method_66_code (3 : Nat) (Option.none : Option Jvm.ClassFile.FieldType)) ∈ lw_all := lw_g (lw_at lw_m11 166 rfl) rfl
theorem q2717 : (Jvm.Cond.stringRef "MistCouriersModel" (245 : Nat) "letter") ∈ lw_tbl := lw_at lw_m11 167 rfl
theorem q2719 : (Jvm.Cond.instanceMethod ({ cls := "MistCouriersModel", name := "play", desc := "()I" } : Jvm.MethodName)) ∈ lw_all := lw_g (lw_at lw_m11 169 rfl) rfl
theorem q2720 : (Jvm.Cond.selects "MistCouriersModel" ({ cls := "MistCouriersModel", name := "play", desc := "()I" } : Jvm.MethodName) ({ cls := "MistCouriersModel", name := "play", desc := "()I" } : Jvm.MethodName)) ∈ lw_all := lw_g (lw_at lw_m11 170 rfl) rfl
theorem q2721 : (Jvm.Cond.code ({ cls := "MistCouriersModel", name := "play", desc := "()I" } : Jvm.MethodName) prog_16_method_75_code (2 : Nat) (Option.some Jvm.ClassFile.FieldType.int)) ∈ lw_all := lw_g (lw_at lw_m11 171 rfl) rfl
theorem q2722 : (Jvm.Cond.methodLink "MistCouriersModel" (335 : Nat) ({ cls := "MistCouriersModel", name := "parseCommand", desc := "()V" } : Jvm.MethodName)) ∈ lw_all := lw_g (lw_at lw_m11 172 rfl) rfl
theorem q2723 : (Jvm.Cond.privateMethod ({ cls := "MistCouriersModel", name := "parseCommand", desc := "()V" } : Jvm.MethodName)) ∈ lw_tbl := lw_at lw_m11 173 rfl
theorem q2724 : (Jvm.Cond.instanceMethod ({ cls := "MistCouriersModel", name := "parseCommand", desc := "()V" } : Jvm.MethodName)) ∈ lw_all := lw_g (lw_at lw_m11 174 rfl) rfl
theorem q2725 : (Jvm.Cond.code ({ cls := "MistCouriersModel", name := "parseCommand", desc := "()V" } : Jvm.MethodName) prog_16_method_73_code (4 : Nat) (Option.none : Option Jvm.ClassFile.FieldType)) ∈ lw_all := lw_g (lw_at lw_m11 175 rfl) rfl
theorem q2726 : (Jvm.Cond.methodLink "MistCouriersModel" (307 : Nat) ({ cls := "MistCouriersModel", name := "commandHere", desc := "()I" } : Jvm.MethodName)) ∈ lw_all := lw_g (lw_at lw_m11 176 rfl) rfl
theorem q2727 : (Jvm.Cond.privateMethod ({ cls := "MistCouriersModel", name := "commandHere", desc := "()I" } : Jvm.MethodName)) ∈ lw_tbl := lw_at lw_m11 177 rfl
theorem q2728 : (Jvm.Cond.instanceMethod ({ cls := "MistCouriersModel", name := "commandHere", desc := "()I" } : Jvm.MethodName)) ∈ lw_all := lw_g (lw_at lw_m11 178 rfl) rfl
theorem q2729 : (Jvm.Cond.code ({ cls := "MistCouriersModel", name := "commandHere", desc := "()I" } : Jvm.MethodName) prog_16_method_70_code (1 : Nat) (Option.some Jvm.ClassFile.FieldType.int)) ∈ lw_all := lw_g (lw_at lw_m11 179 rfl) rfl
theorem q2730 : (Jvm.Cond.stringRef "MistCouriersModel" (295 : Nat) "step") ∈ lw_tbl := lw_at lw_m11 180 rfl
theorem q2731 : (Jvm.Cond.stringRef "MistCouriersModel" (297 : Nat) "pick") ∈ lw_tbl := lw_at lw_m11 181 rfl
theorem q2732 : (Jvm.Cond.stringRef "MistCouriersModel" (299 : Nat) "give") ∈ lw_tbl := lw_at lw_m11 182 rfl
theorem q2733 : (Jvm.Cond.stringRef "MistCouriersModel" (301 : Nat) "lay") ∈ lw_tbl := lw_at lw_m11 183 rfl
theorem q2734 : (Jvm.Cond.stringRef "MistCouriersModel" (302 : Nat) "pass") ∈ lw_tbl := lw_at lw_m11 184 rfl
theorem q2735 : (Jvm.Cond.methodLink "MistCouriersModel" (310 : Nat) ({ cls := "MistCouriersModel", name := "parseSaids", desc := "(I)V" } : Jvm.MethodName)) ∈ lw_all := lw_g (lw_at lw_m11 185 rfl) rfl
theorem q2736 : (Jvm.Cond.privateMethod ({ cls := "MistCouriersModel", name := "parseSaids", desc := "(I)V" } : Jvm.MethodName)) ∈ lw_tbl := lw_at lw_m11 186 rfl
theorem q2737 : (Jvm.Cond.instanceMethod ({ cls := "MistCouriersModel", name := "parseSaids", desc := "(I)V" } : Jvm.MethodName)) ∈ lw_all := lw_g (lw_at lw_m11 187 rfl) rfl
theorem q2738 : (Jvm.Cond.code ({ cls := "MistCouriersModel", name := "parseSaids", desc := "(I)V" } : Jvm.MethodName) prog_16_method_72_code (2 : Nat) (Option.none : Option Jvm.ClassFile.FieldType)) ∈ lw_all := lw_g (lw_at lw_m11 188 rfl) rfl
theorem q2739 : (Jvm.Cond.methodLink "MistCouriersModel" (304 : Nat) ({ cls := "MistCouriersModel", name := "parseSaid", desc := "(II)V" } : Jvm.MethodName)) ∈ lw_all := lw_g (lw_at lw_m11 189 rfl) rfl
theorem q2740 : (Jvm.Cond.privateMethod ({ cls := "MistCouriersModel", name := "parseSaid", desc := "(II)V" } : Jvm.MethodName)) ∈ lw_tbl := lw_at lw_m11 190 rfl
theorem q2741 : (Jvm.Cond.instanceMethod ({ cls := "MistCouriersModel", name := "parseSaid", desc := "(II)V" } : Jvm.MethodName)) ∈ lw_all := lw_g (lw_at lw_m11 191 rfl) rfl
theorem q2742 : (Jvm.Cond.code ({ cls := "MistCouriersModel", name := "parseSaid", desc := "(II)V" } : Jvm.MethodName) prog_16_method_71_code (3 : Nat) (Option.none : Option Jvm.ClassFile.FieldType)) ∈ lw_all := lw_g (lw_at lw_m11 192 rfl) rfl
theorem q2743 : (Jvm.Cond.methodLink "MistCouriersModel" (338 : Nat) ({ cls := "MistCouriersModel", name := "doCommand", desc := "(I)I" } : Jvm.MethodName)) ∈ lw_all := lw_g (lw_at lw_m11 193 rfl) rfl
theorem q2744 : (Jvm.Cond.privateMethod ({ cls := "MistCouriersModel", name := "doCommand", desc := "(I)I" } : Jvm.MethodName)) ∈ lw_tbl := lw_at lw_m11 194 rfl
theorem q2745 : (Jvm.Cond.instanceMethod ({ cls := "MistCouriersModel", name := "doCommand", desc := "(I)I" } : Jvm.MethodName)) ∈ lw_all := lw_g (lw_at lw_m11 195 rfl) rfl
theorem q2746 : (Jvm.Cond.code ({ cls := "MistCouriersModel", name := "doCommand", desc := "(I)I" } : Jvm.MethodName) prog_16_method_74_code (5 : Nat) (Option.some Jvm.ClassFile.FieldType.int)) ∈ lw_all := lw_g (lw_at lw_m11 196 rfl) rfl
theorem q2747 : (Jvm.Cond.methodLink "MistCouriersModel" (313 : Nat) ({ cls := "MistCouriersModel", name := "passIt", desc := "(I)I" } : Jvm.MethodName)) ∈ lw_all := lw_g (lw_at lw_m11 197 rfl) rfl
theorem q2748 : (Jvm.Cond.privateMethod ({ cls := "MistCouriersModel", name := "passIt", desc := "(I)I" } : Jvm.MethodName)) ∈ lw_tbl := lw_at lw_m11 198 rfl
theorem q2749 : (Jvm.Cond.instanceMethod ({ cls := "MistCouriersModel", name := "passIt", desc := "(I)I" } : Jvm.MethodName)) ∈ lw_all := lw_g (lw_at lw_m11 199 rfl) rfl
theorem q2750 : (Jvm.Cond.code ({ cls := "MistCouriersModel", name := "passIt", desc := "(I)I" } : Jvm.MethodName) prog_16_method_133_code (2 : Nat) (Option.some Jvm.ClassFile.FieldType.int)) ∈ lw_all := lw_g (lw_at lw_m11 200 rfl) rfl
theorem q2751 : (Jvm.Cond.methodLink "MistCouriersModel" (443 : Nat) ({ cls := "MistCouriersModel", name := "refuse", desc := "(I)I" } : Jvm.MethodName)) ∈ lw_all := lw_g (lw_at lw_m11 201 rfl) rfl
theorem q2752 : (Jvm.Cond.privateMethod ({ cls := "MistCouriersModel", name := "refuse", desc := "(I)I" } : Jvm.MethodName)) ∈ lw_tbl := lw_at lw_m11 202 rfl
theorem q2753 : (Jvm.Cond.instanceMethod ({ cls := "MistCouriersModel", name := "refuse", desc := "(I)I" } : Jvm.MethodName)) ∈ lw_all := lw_g (lw_at lw_m11 203 rfl) rfl
theorem q2754 : (Jvm.Cond.code ({ cls := "MistCouriersModel", name := "refuse", desc := "(I)I" } : Jvm.MethodName) prog_16_method_126_code (2 : Nat) (Option.some Jvm.ClassFile.FieldType.int)) ∈ lw_all := lw_g (lw_at lw_m11 204 rfl) rfl
theorem q2755 : (Jvm.Cond.methodLink "MistCouriersModel" (446 : Nat) ({ cls := "MistCouriersModel", name := "keep", desc := "()V" } : Jvm.MethodName)) ∈ lw_all := lw_g (lw_at lw_m11 205 rfl) rfl
theorem q2756 : (Jvm.Cond.privateMethod ({ cls := "MistCouriersModel", name := "keep", desc := "()V" } : Jvm.MethodName)) ∈ lw_tbl := lw_at lw_m11 206 rfl
theorem q2757 : (Jvm.Cond.instanceMethod ({ cls := "MistCouriersModel", name := "keep", desc := "()V" } : Jvm.MethodName)) ∈ lw_all := lw_g (lw_at lw_m11 207 rfl) rfl
theorem q2758 : (Jvm.Cond.code ({ cls := "MistCouriersModel", name := "keep", desc := "()V" } : Jvm.MethodName) prog_16_method_127_code (2 : Nat) (Option.none : Option Jvm.ClassFile.FieldType)) ∈ lw_all := lw_g (lw_at lw_m11 208 rfl) rfl
theorem q2759 : (Jvm.Cond.methodLink "MistCouriersModel" (416 : Nat) ({ cls := "MistCouriersModel", name := "passMany", desc := "(I)I" } : Jvm.MethodName)) ∈ lw_all := lw_g (lw_at lw_m11 209 rfl) rfl
theorem q2760 : (Jvm.Cond.privateMethod ({ cls := "MistCouriersModel", name := "passMany", desc := "(I)I" } : Jvm.MethodName)) ∈ lw_tbl := lw_at lw_m11 210 rfl
theorem q2761 : (Jvm.Cond.instanceMethod ({ cls := "MistCouriersModel", name := "passMany", desc := "(I)I" } : Jvm.MethodName)) ∈ lw_all := lw_g (lw_at lw_m11 211 rfl) rfl
theorem q2762 : (Jvm.Cond.code ({ cls := "MistCouriersModel", name := "passMany", desc := "(I)I" } : Jvm.MethodName) prog_16_method_45_code (4 : Nat) (Option.some Jvm.ClassFile.FieldType.int)) ∈ lw_all := lw_g (lw_at lw_m11 212 rfl) rfl
theorem q2763 : (Jvm.Cond.methodLink "MistCouriersModel" (175 : Nat) ({ cls := "MistCouriersModel", name := "passOne", desc := "()V" } : Jvm.MethodName)) ∈ lw_all := lw_g (lw_at lw_m11 213 rfl) rfl
theorem q2764 : (Jvm.Cond.privateMethod ({ cls := "MistCouriersModel", name := "passOne", desc := "()V" } : Jvm.MethodName)) ∈ lw_tbl := lw_at lw_m11 214 rfl
theorem q2765 : (Jvm.Cond.instanceMethod ({ cls := "MistCouriersModel", name := "passOne", desc := "()V" } : Jvm.MethodName)) ∈ lw_all := lw_g (lw_at lw_m11 215 rfl) rfl
theorem q2766 : (Jvm.Cond.code ({ cls := "MistCouriersModel", name := "passOne", desc := "()V" } : Jvm.MethodName) prog_16_method_44_code (2 : Nat) (Option.none : Option Jvm.ClassFile.FieldType)) ∈ lw_all := lw_g (lw_at lw_m11 216 rfl) rfl
theorem q2767 : (Jvm.Cond.methodLink "MistCouriersModel" (169 : Nat) ({ cls := "MistCouriersModel", name := "passAround", desc := "()V" } : Jvm.MethodName)) ∈ lw_all := lw_g (lw_at lw_m11 217 rfl) rfl
theorem q2768 : (Jvm.Cond.privateMethod ({ cls := "MistCouriersModel", name := "passAround", desc := "()V" } : Jvm.MethodName)) ∈ lw_tbl := lw_at lw_m11 218 rfl
theorem q2769 : (Jvm.Cond.instanceMethod ({ cls := "MistCouriersModel", name := "passAround", desc := "()V" } : Jvm.MethodName)) ∈ lw_all := lw_g (lw_at lw_m11 219 rfl) rfl
theorem q2770 : (Jvm.Cond.code ({ cls := "MistCouriersModel", name := "passAround", desc := "()V" } : Jvm.MethodName) prog_16_method_43_code (1 : Nat) (Option.none : Option Jvm.ClassFile.FieldType)) ∈ lw_all := lw_g (lw_at lw_m11 220 rfl) rfl
theorem q2771 : (Jvm.Cond.methodLink "MistCouriersModel" (163 : Nat) ({ cls := "MistCouriersModel", name := "driftAll", desc := "()V" } : Jvm.MethodName)) ∈ lw_all := lw_g (lw_at lw_m11 221 rfl) rfl
theorem q2772 : (Jvm.Cond.privateMethod ({ cls := "MistCouriersModel", name := "driftAll", desc := "()V" } : Jvm.MethodName)) ∈ lw_tbl := lw_at lw_m11 222 rfl
theorem q2773 : (Jvm.Cond.instanceMethod ({ cls := "MistCouriersModel", name := "driftAll", desc := "()V" } : Jvm.MethodName)) ∈ lw_all := lw_g (lw_at lw_m11 223 rfl) rfl
theorem q2774 : (Jvm.Cond.code ({ cls := "MistCouriersModel", name := "driftAll", desc := "()V" } : Jvm.MethodName) prog_16_method_39_code (3 : Nat) (Option.none : Option Jvm.ClassFile.FieldType)) ∈ lw_all := lw_g (lw_at lw_m11 224 rfl) rfl
theorem q2775 : (Jvm.Cond.methodLink "MistCouriersModel" (104 : Nat) ({ cls := "MistCouriersModel", name := "ofBank", desc := "(II)I" } : Jvm.MethodName)) ∈ lw_all := lw_g (lw_at lw_m11 225 rfl) rfl
theorem q2776 : (Jvm.Cond.privateMethod ({ cls := "MistCouriersModel", name := "ofBank", desc := "(II)I" } : Jvm.MethodName)) ∈ lw_tbl := lw_at lw_m11 226 rfl
theorem q2777 : (Jvm.Cond.instanceMethod ({ cls := "MistCouriersModel", name := "ofBank", desc := "(II)I" } : Jvm.MethodName)) ∈ lw_all := lw_g (lw_at lw_m11 227 rfl) rfl
theorem q2778 : (Jvm.Cond.code ({ cls := "MistCouriersModel", name := "ofBank", desc := "(II)I" } : Jvm.MethodName) prog_16_method_11_code (3 : Nat) (Option.some Jvm.ClassFile.FieldType.int)) ∈ lw_all := lw_g (lw_at lw_m11 228 rfl) rfl
theorem q2779 : (Jvm.Cond.methodLink "MistCouriersModel" (148 : Nat) ({ cls := "MistCouriersModel", name := "nextAround", desc := "(II)I" } : Jvm.MethodName)) ∈ lw_all := lw_g (lw_at lw_m11 229 rfl) rfl
theorem q2780 : (Jvm.Cond.privateMethod ({ cls := "MistCouriersModel", name := "nextAround", desc := "(II)I" } : Jvm.MethodName)) ∈ lw_tbl := lw_at lw_m11 230 rfl
theorem q2781 : (Jvm.Cond.instanceMethod ({ cls := "MistCouriersModel", name := "nextAround", desc := "(II)I" } : Jvm.MethodName)) ∈ lw_all := lw_g (lw_at lw_m11 231 rfl) rfl
theorem q2782 : (Jvm.Cond.code ({ cls := "MistCouriersModel", name := "nextAround", desc := "(II)I" } : Jvm.MethodName) prog_16_method_31_code (5 : Nat) (Option.some Jvm.ClassFile.FieldType.int)) ∈ lw_all := lw_g (lw_at lw_m11 232 rfl) rfl
theorem q2783 : (Jvm.Cond.methodLink "MistCouriersModel" (92 : Nat) ({ cls := "MistCouriersModel", name := "columnOf", desc := "(I)I" } : Jvm.MethodName)) ∈ lw_all := lw_g (lw_at lw_m11 233 rfl) rfl
theorem q2784 : (Jvm.Cond.privateMethod ({ cls := "MistCouriersModel", name := "columnOf", desc := "(I)I" } : Jvm.MethodName)) ∈ lw_tbl := lw_at lw_m11 234 rfl
theorem q2785 : (Jvm.Cond.instanceMethod ({ cls := "MistCouriersModel", name := "columnOf", desc := "(I)I" } : Jvm.MethodName)) ∈ lw_all := lw_g (lw_at lw_m11 235 rfl) rfl
theorem q2786 : (Jvm.Cond.code ({ cls := "MistCouriersModel", name := "columnOf", desc := "(I)I" } : Jvm.MethodName) prog_16_method_24_code (2 : Nat) (Option.some Jvm.ClassFile.FieldType.int)) ∈ lw_all := lw_g (lw_at lw_m11 236 rfl) rfl
theorem q2787 : (Jvm.Cond.methodLink "MistCouriersModel" (113 : Nat) ({ cls := "MistCouriersModel", name := "columnStep", desc := "(I)I" } : Jvm.MethodName)) ∈ lw_all := lw_g (lw_at lw_m11 237 rfl) rfl
theorem q2788 : (Jvm.Cond.static ({ cls := "MistCouriersModel", name := "columnStep", desc := "(I)I" } : Jvm.MethodName)) ∈ lw_all := lw_g (lw_at lw_m11 238 rfl) rfl
theorem q2789 : (Jvm.Cond.code ({ cls := "MistCouriersModel", name := "columnStep", desc := "(I)I" } : Jvm.MethodName) prog_16_method_28_code (1 : Nat) (Option.some Jvm.ClassFile.FieldType.int)) ∈ lw_all := lw_g (lw_at lw_m11 239 rfl) rfl
theorem q2790 : (Jvm.Cond.methodLink "MistCouriersModel" (101 : Nat) ({ cls := "MistCouriersModel", name := "rowOf", desc := "(I)I" } : Jvm.MethodName)) ∈ lw_all := lw_g (lw_at lw_m12 0 rfl) rfl
theorem q2791 : (Jvm.Cond.privateMethod ({ cls := "MistCouriersModel", name := "rowOf", desc := "(I)I" } : Jvm.MethodName)) ∈ lw_tbl := lw_at lw_m12 1 rfl
theorem q2792 : (Jvm.Cond.instanceMethod ({ cls := "MistCouriersModel", name := "rowOf", desc := "(I)I" } : Jvm.MethodName)) ∈ lw_all := lw_g (lw_at lw_m12 2 rfl) rfl
theorem q2793 : (Jvm.Cond.code ({ cls := "MistCouriersModel", name := "rowOf", desc := "(I)I" } : Jvm.MethodName) prog_16_method_25_code (2 : Nat) (Option.some Jvm.ClassFile.FieldType.int)) ∈ lw_all := lw_g (lw_at lw_m12 3 rfl) rfl
theorem q2794 : (Jvm.Cond.methodLink "MistCouriersModel" (116 : Nat) ({ cls := "MistCouriersModel", name := "rowStep", desc := "(I)I" } : Jvm.MethodName)) ∈ lw_all := lw_g (lw_at lw_m12 4 rfl) rfl
theorem q2795 : (Jvm.Cond.static ({ cls := "MistCouriersModel", name := "rowStep", desc := "(I)I" } : Jvm.MethodName)) ∈ lw_all := lw_g (lw_at lw_m12 5 rfl) rfl
theorem q2796 : (Jvm.Cond.code ({ cls := "MistCouriersModel", name := "rowStep", desc := "(I)I" } : Jvm.MethodName) prog_16_method_29_code (1 : Nat) (Option.some Jvm.ClassFile.FieldType.int)) ∈ lw_all := lw_g (lw_at lw_m12 6 rfl) rfl
theorem q2797 : (Jvm.Cond.methodLink "MistCouriersModel" (166 : Nat) ({ cls := "MistCouriersModel", name := "turnAll", desc := "()V" } : Jvm.MethodName)) ∈ lw_all := lw_g (lw_at lw_m12 7 rfl) rfl
theorem q2798 : (Jvm.Cond.privateMethod ({ cls := "MistCouriersModel", name := "turnAll", desc := "()V" } : Jvm.MethodName)) ∈ lw_tbl := lw_at lw_m12 8 rfl
theorem q2799 : (Jvm.Cond.instanceMethod ({ cls := "MistCouriersModel", name := "turnAll", desc := "()V" } : Jvm.MethodName)) ∈ lw_all := lw_g (lw_at lw_m12 9 rfl) rfl
theorem q2800 : (Jvm.Cond.code ({ cls := "MistCouriersModel", name := "turnAll", desc := "()V" } : Jvm.MethodName) prog_16_method_40_code (2 : Nat) (Option.none : Option Jvm.ClassFile.FieldType)) ∈ lw_all := lw_g (lw_at lw_m12 10 rfl) rfl
theorem q2801 : (Jvm.Cond.methodLink "MistCouriersModel" (145 : Nat) ({ cls := "MistCouriersModel", name := "laySeen", desc := "()V" } : Jvm.MethodName)) ∈ lw_all := lw_g (lw_at lw_m12 11 rfl) rfl
theorem q2802 : (Jvm.Cond.privateMethod ({ cls := "MistCouriersModel", name := "laySeen", desc := "()V" } : Jvm.MethodName)) ∈ lw_tbl := lw_at lw_m12 12 rfl
theorem q2803 : (Jvm.Cond.instanceMethod ({ cls := "MistCouriersModel", name := "laySeen", desc := "()V" } : Jvm.MethodName)) ∈ lw_all := lw_g (lw_at lw_m12 13 rfl) rfl
theorem q2804 : (Jvm.Cond.code ({ cls := "MistCouriersModel", name := "laySeen", desc := "()V" } : Jvm.MethodName) prog_16_method_37_code (4 : Nat) (Option.none : Option Jvm.ClassFile.FieldType)) ∈ lw_all := lw_g (lw_at lw_m12 14 rfl) rfl
theorem q2805 : (Jvm.Cond.methodLink "MistCouriersModel" (129 : Nat) ({ cls := "MistCouriersModel", name := "gazeAt", desc := "(II)I" } : Jvm.MethodName)) ∈ lw_all := lw_g (lw_at lw_m12 15 rfl) rfl
theorem q2806 : (Jvm.Cond.privateMethod ({ cls := "MistCouriersModel", name := "gazeAt", desc := "(II)I" } : Jvm.MethodName)) ∈ lw_tbl := lw_at lw_m12 16 rfl
theorem q2807 : (Jvm.Cond.instanceMethod ({ cls := "MistCouriersModel", name := "gazeAt", desc := "(II)I" } : Jvm.MethodName)) ∈ lw_all := lw_g (lw_at lw_m12 17 rfl) rfl
theorem q2808 : (Jvm.Cond.code ({ cls := "MistCouriersModel", name := "gazeAt", desc := "(II)I" } : Jvm.MethodName) prog_16_method_32_code (5 : Nat) (Option.some Jvm.ClassFile.FieldType.int)) ∈ lw_all := lw_g (lw_at lw_m12 18 rfl) rfl
theorem q2809 : (Jvm.Cond.methodLink "MistCouriersModel" (122 : Nat) ({ cls := "MistCouriersModel", name := "nextTo", desc := "(II)I" } : Jvm.MethodName)) ∈ lw_all := lw_g (lw_at lw_m12 19 rfl) rfl
theorem q2810 : (Jvm.Cond.privateMethod ({ cls := "MistCouriersModel", name := "nextTo", desc := "(II)I" } : Jvm.MethodName)) ∈ lw_tbl := lw_at lw_m12 20 rfl
theorem q2811 : (Jvm.Cond.instanceMethod ({ cls := "MistCouriersModel", name := "nextTo", desc := "(II)I" } : Jvm.MethodName)) ∈ lw_all := lw_g (lw_at lw_m12 21 rfl) rfl
theorem q2812 : (Jvm.Cond.code ({ cls := "MistCouriersModel", name := "nextTo", desc := "(II)I" } : Jvm.MethodName) prog_16_method_30_code (6 : Nat) (Option.some Jvm.ClassFile.FieldType.int)) ∈ lw_all := lw_g (lw_at lw_m12 22 rfl) rfl
theorem q2813 : (Jvm.Cond.methodLink "MistCouriersModel" (138 : Nat) ({ cls := "MistCouriersModel", name := "costOf", desc := "(II)I" } : Jvm.MethodName)) ∈ lw_all := lw_g (lw_at lw_m12 23 rfl) rfl
theorem q2814 : (Jvm.Cond.privateMethod ({ cls := "MistCouriersModel", name := "costOf", desc := "(II)I" } : Jvm.MethodName)) ∈ lw_tbl := lw_at lw_m12 24 rfl
theorem q2815 : (Jvm.Cond.instanceMethod ({ cls := "MistCouriersModel", name := "costOf", desc := "(II)I" } : Jvm.MethodName)) ∈ lw_all := lw_g (lw_at lw_m12 25 rfl) rfl
theorem q2816 : (Jvm.Cond.code ({ cls := "MistCouriersModel", name := "costOf", desc := "(II)I" } : Jvm.MethodName) prog_16_method_33_code (5 : Nat) (Option.some Jvm.ClassFile.FieldType.int)) ∈ lw_all := lw_g (lw_at lw_m12 26 rfl) rfl
theorem q2817 : (Jvm.Cond.methodLink "MistCouriersModel" (132 : Nat) ({ cls := "MistCouriersModel", name := "mistAt", desc := "(I)I" } : Jvm.MethodName)) ∈ lw_all := lw_g (lw_at lw_m12 27 rfl) rfl
theorem q2818 : (Jvm.Cond.privateMethod ({ cls := "MistCouriersModel", name := "mistAt", desc := "(I)I" } : Jvm.MethodName)) ∈ lw_tbl := lw_at lw_m12 28 rfl
theorem q2819 : (Jvm.Cond.instanceMethod ({ cls := "MistCouriersModel", name := "mistAt", desc := "(I)I" } : Jvm.MethodName)) ∈ lw_all := lw_g (lw_at lw_m12 29 rfl) rfl
theorem q2820 : (Jvm.Cond.code ({ cls := "MistCouriersModel", name := "mistAt", desc := "(I)I" } : Jvm.MethodName) prog_16_method_27_code (4 : Nat) (Option.some Jvm.ClassFile.FieldType.int)) ∈ lw_all := lw_g (lw_at lw_m12 30 rfl) rfl
theorem q2821 : (Jvm.Cond.methodLink "MistCouriersModel" (107 : Nat) ({ cls := "MistCouriersModel", name := "away", desc := "(II)I" } : Jvm.MethodName)) ∈ lw_all := lw_g (lw_at lw_m12 31 rfl) rfl
theorem q2822 : (Jvm.Cond.privateMethod ({ cls := "MistCouriersModel", name := "away", desc := "(II)I" } : Jvm.MethodName)) ∈ lw_tbl := lw_at lw_m12 32 rfl
theorem q2823 : (Jvm.Cond.instanceMethod ({ cls := "MistCouriersModel", name := "away", desc := "(II)I" } : Jvm.MethodName)) ∈ lw_all := lw_g (lw_at lw_m12 33 rfl) rfl
theorem q2824 : (Jvm.Cond.code ({ cls := "MistCouriersModel", name := "away", desc := "(II)I" } : Jvm.MethodName) prog_16_method_26_code (3 : Nat) (Option.some Jvm.ClassFile.FieldType.int)) ∈ lw_all := lw_g (lw_at lw_m12 34 rfl) rfl
theorem q2825 : (Jvm.Cond.methodLink "MistCouriersModel" (96 : Nat) ({ cls := "java/lang/Math", name := "abs", desc := "(I)I" } : Jvm.MethodName)) ∈ lw_all := lw_g (lw_at lw_m12 35 rfl) rfl
theorem q2826 : (Jvm.Cond.methodLink "MistCouriersModel" (172 : Nat) ({ cls := "MistCouriersModel", name := "catchIt", desc := "(I)V" } : Jvm.MethodName)) ∈ lw_all := lw_g (lw_at lw_m12 36 rfl) rfl
theorem q2827 : (Jvm.Cond.privateMethod ({ cls := "MistCouriersModel", name := "catchIt", desc := "(I)V" } : Jvm.MethodName)) ∈ lw_tbl := lw_at lw_m12 37 rfl
theorem q2828 : (Jvm.Cond.instanceMethod ({ cls := "MistCouriersModel", name := "catchIt", desc := "(I)V" } : Jvm.MethodName)) ∈ lw_all := lw_g (lw_at lw_m12 38 rfl) rfl
theorem q2829 : (Jvm.Cond.code ({ cls := "MistCouriersModel", name := "catchIt", desc := "(I)V" } : Jvm.MethodName) prog_16_method_41_code (3 : Nat) (Option.none : Option Jvm.ClassFile.FieldType)) ∈ lw_all := lw_g (lw_at lw_m12 39 rfl) rfl
theorem q2830 : (Jvm.Cond.methodLink "MistCouriersModel" (151 : Nat) ({ cls := "MistCouriersModel", name := "grow", desc := "(II)V" } : Jvm.MethodName)) ∈ lw_all := lw_g (lw_at lw_m12 40 rfl) rfl
theorem q2831 : (Jvm.Cond.privateMethod ({ cls := "MistCouriersModel", name := "grow", desc := "(II)V" } : Jvm.MethodName)) ∈ lw_tbl := lw_at lw_m12 41 rfl
theorem q2832 : (Jvm.Cond.instanceMethod ({ cls := "MistCouriersModel", name := "grow", desc := "(II)V" } : Jvm.MethodName)) ∈ lw_all := lw_g (lw_at lw_m12 42 rfl) rfl
theorem q2833 : (Jvm.Cond.code ({ cls := "MistCouriersModel", name := "grow", desc := "(II)V" } : Jvm.MethodName) prog_16_method_15_code (3 : Nat) (Option.none : Option Jvm.ClassFile.FieldType)) ∈ lw_all := lw_g (lw_at lw_m12 43 rfl) rfl
theorem q2834 : (Jvm.Cond.methodLink "MistCouriersModel" (154 : Nat) ({ cls := "MistCouriersModel", name := "count", desc := "(II)V" } : Jvm.MethodName)) ∈ lw_all := lw_g (lw_at lw_m12 44 rfl) rfl
theorem q2835 : (Jvm.Cond.privateMethod ({ cls := "MistCouriersModel", name := "count", desc := "(II)V" } : Jvm.MethodName)) ∈ lw_tbl := lw_at lw_m12 45 rfl
theorem q2836 : (Jvm.Cond.instanceMethod ({ cls := "MistCouriersModel", name := "count", desc := "(II)V" } : Jvm.MethodName)) ∈ lw_all := lw_g (lw_at lw_m12 46 rfl) rfl
theorem q2837 : (Jvm.Cond.code ({ cls := "MistCouriersModel", name := "count", desc := "(II)V" } : Jvm.MethodName) prog_16_method_10_code (3 : Nat) (Option.none : Option Jvm.ClassFile.FieldType)) ∈ lw_all := lw_g (lw_at lw_m12 47 rfl) rfl
theorem q2838 : (Jvm.Cond.methodLink "MistCouriersModel" (157 : Nat) ({ cls := "MistCouriersModel", name := "isCarried", desc := "(II)Z" } : Jvm.MethodName)) ∈ lw_all := lw_g (lw_at lw_m12 48 rfl) rfl
theorem q2839 : (Jvm.Cond.privateMethod ({ cls := "MistCouriersModel", name := "isCarried", desc := "(II)Z" } : Jvm.MethodName)) ∈ lw_tbl := lw_at lw_m12 49 rfl
theorem q2840 : (Jvm.Cond.instanceMethod ({ cls := "MistCouriersModel", name := "isCarried", desc := "(II)Z" } : Jvm.MethodName)) ∈ lw_all := lw_g (lw_at lw_m12 50 rfl) rfl
theorem q2841 : (Jvm.Cond.code ({ cls := "MistCouriersModel", name := "isCarried", desc := "(II)Z" } : Jvm.MethodName) prog_16_method_42_code (3 : Nat) (Option.some Jvm.ClassFile.FieldType.boolean)) ∈ lw_all := lw_g (lw_at lw_m12 51 rfl) rfl
theorem q2842 : (Jvm.Cond.methodLink "MistCouriersModel" (316 : Nat) ({ cls := "MistCouriersModel", name := "isCourier", desc := "(I)Z" } : Jvm.MethodName)) ∈ lw_all := lw_g (lw_at lw_m12 52 rfl) rfl
theorem q2843 : (Jvm.Cond.privateMethod ({ cls := "MistCouriersModel", name := "isCourier", desc := "(I)Z" } : Jvm.MethodName)) ∈ lw_tbl := lw_at lw_m12 53 rfl
theorem q2844 : (Jvm.Cond.instanceMethod ({ cls := "MistCouriersModel", name := "isCourier", desc := "(I)Z" } : Jvm.MethodName)) ∈ lw_all := lw_g (lw_at lw_m12 54 rfl) rfl
theorem q2845 : (Jvm.Cond.code ({ cls := "MistCouriersModel", name := "isCourier", desc := "(I)Z" } : Jvm.MethodName) prog_16_method_21_code (2 : Nat) (Option.some Jvm.ClassFile.FieldType.boolean)) ∈ lw_all := lw_g (lw_at lw_m12 55 rfl) rfl
theorem q2846 : (Jvm.Cond.methodLink "MistCouriersModel" (319 : Nat) ({ cls := "MistCouriersModel", name := "stepIt", desc := "(II)I" } : Jvm.MethodName)) ∈ lw_all := lw_g (lw_at lw_m12 56 rfl) rfl
theorem q2847 : (Jvm.Cond.privateMethod ({ cls := "MistCouriersModel", name := "stepIt", desc := "(II)I" } : Jvm.MethodName)) ∈ lw_tbl := lw_at lw_m12 57 rfl
theorem q2848 : (Jvm.Cond.instanceMethod ({ cls := "MistCouriersModel", name := "stepIt", desc := "(II)I" } : Jvm.MethodName)) ∈ lw_all := lw_g (lw_at lw_m12 58 rfl) rfl
theorem q2849 : (Jvm.Cond.code ({ cls := "MistCouriersModel", name := "stepIt", desc := "(II)I" } : Jvm.MethodName) prog_16_method_128_code (5 : Nat) (Option.some Jvm.ClassFile.FieldType.int)) ∈ lw_all := lw_g (lw_at lw_m12 59 rfl) rfl
theorem q2850 : (Jvm.Cond.methodLink "MistCouriersModel" (440 : Nat) ({ cls := "MistCouriersModel", name := "whyNotStep", desc := "(II)I" } : Jvm.MethodName)) ∈ lw_all := lw_g (lw_at lw_m12 60 rfl) rfl
theorem q2851 : (Jvm.Cond.privateMethod ({ cls := "MistCouriersModel", name := "whyNotStep", desc := "(II)I" } : Jvm.MethodName)) ∈ lw_tbl := lw_at lw_m12 61 rfl
theorem q2852 : (Jvm.Cond.instanceMethod ({ cls := "MistCouriersModel", name := "whyNotStep", desc := "(II)I" } : Jvm.MethodName)) ∈ lw_all := lw_g (lw_at lw_m12 62 rfl) rfl
theorem q2853 : (Jvm.Cond.code ({ cls := "MistCouriersModel", name := "whyNotStep", desc := "(II)I" } : Jvm.MethodName) prog_16_method_122_code (4 : Nat) (Option.some Jvm.ClassFile.FieldType.int)) ∈ lw_all := lw_g (lw_at lw_m12 63 rfl) rfl
theorem q2854 : (Jvm.Cond.methodLink "MistCouriersModel" (380 : Nat) ({ cls := "MistCouriersModel", name := "isSeen", desc := "(I)Z" } : Jvm.MethodName)) ∈ lw_all := lw_g (lw_at lw_m12 64 rfl) rfl
theorem q2855 : (Jvm.Cond.privateMethod ({ cls := "MistCouriersModel", name := "isSeen", desc := "(I)Z" } : Jvm.MethodName)) ∈ lw_tbl := lw_at lw_m12 65 rfl
theorem q2856 : (Jvm.Cond.instanceMethod ({ cls := "MistCouriersModel", name := "isSeen", desc := "(I)Z" } : Jvm.MethodName)) ∈ lw_all := lw_g (lw_at lw_m12 66 rfl) rfl
theorem q2857 : (Jvm.Cond.code ({ cls := "MistCouriersModel", name := "isSeen", desc := "(I)Z" } : Jvm.MethodName) prog_16_method_36_code (3 : Nat) (Option.some Jvm.ClassFile.FieldType.boolean)) ∈ lw_all := lw_g (lw_at lw_m12 67 rfl) rfl
theorem q2858 : (Jvm.Cond.methodLink "MistCouriersModel" (141 : Nat) ({ cls := "MistCouriersModel", name := "sees", desc := "(II)Z" } : Jvm.MethodName)) ∈ lw_all := lw_g (lw_at lw_m12 68 rfl) rfl
theorem q2859 : (Jvm.Cond.privateMethod ({ cls := "MistCouriersModel", name := "sees", desc := "(II)Z" } : Jvm.MethodName)) ∈ lw_tbl := lw_at lw_m12 69 rfl
theorem q2860 : (Jvm.Cond.instanceMethod ({ cls := "MistCouriersModel", name := "sees", desc := "(II)Z" } : Jvm.MethodName)) ∈ lw_all := lw_g (lw_at lw_m12 70 rfl) rfl
theorem q2861 : (Jvm.Cond.code ({ cls := "MistCouriersModel", name := "sees", desc := "(II)Z" } : Jvm.MethodName) prog_16_method_35_code (4 : Nat) (Option.some Jvm.ClassFile.FieldType.boolean)) ∈ lw_all := lw_g (lw_at lw_m12 71 rfl) rfl
theorem q2862 : (Jvm.Cond.methodLink "MistCouriersModel" (135 : Nat) ({ cls := "MistCouriersModel", name := "placeIn", desc := "(II)I" } : Jvm.MethodName)) ∈ lw_all := lw_g (lw_at lw_m12 72 rfl) rfl
theorem q2863 : (Jvm.Cond.privateMethod ({ cls := "MistCouriersModel", name := "placeIn", desc := "(II)I" } : Jvm.MethodName)) ∈ lw_tbl := lw_at lw_m12 73 rfl
theorem q2864 : (Jvm.Cond.instanceMethod ({ cls := "MistCouriersModel", name := "placeIn", desc := "(II)I" } : Jvm.MethodName)) ∈ lw_all := lw_g (lw_at lw_m12 74 rfl) rfl
theorem q2865 : (Jvm.Cond.code ({ cls := "MistCouriersModel", name := "placeIn", desc := "(II)I" } : Jvm.MethodName) prog_16_method_34_code (4 : Nat) (Option.some Jvm.ClassFile.FieldType.int)) ∈ lw_all := lw_g (lw_at lw_m12 75 rfl) rfl
theorem q2866 : (Jvm.Cond.methodLink "MistCouriersModel" (322 : Nat) ({ cls := "MistCouriersModel", name := "isLetter", desc := "(I)Z" } : Jvm.MethodName)) ∈ lw_all := lw_g (lw_at lw_m12 76 rfl) rfl
theorem q2867 : (Jvm.Cond.privateMethod ({ cls := "MistCouriersModel", name := "isLetter", desc := "(I)Z" } : Jvm.MethodName)) ∈ lw_tbl := lw_at lw_m12 77 rfl
theorem q2868 : (Jvm.Cond.instanceMethod ({ cls := "MistCouriersModel", name := "isLetter", desc := "(I)Z" } : Jvm.MethodName)) ∈ lw_all := lw_g (lw_at lw_m12 78 rfl) rfl
theorem q2869 : (Jvm.Cond.code ({ cls := "MistCouriersModel", name := "isLetter", desc := "(I)Z" } : Jvm.MethodName) prog_16_method_23_code (2 : Nat) (Option.some Jvm.ClassFile.FieldType.boolean)) ∈ lw_all := lw_g (lw_at lw_m12 79 rfl) rfl
theorem q2870 : (Jvm.Cond.methodLink "MistCouriersModel" (325 : Nat) ({ cls := "MistCouriersModel", name := "pickIt", desc := "(II)I" } : Jvm.MethodName)) ∈ lw_all := lw_g (lw_at lw_m12 80 rfl) rfl
theorem q2871 : (Jvm.Cond.privateMethod ({ cls := "MistCouriersModel", name := "pickIt", desc := "(II)I" } : Jvm.MethodName)) ∈ lw_tbl := lw_at lw_m12 81 rfl
theorem q2872 : (Jvm.Cond.instanceMethod ({ cls := "MistCouriersModel", name := "pickIt", desc := "(II)I" } : Jvm.MethodName)) ∈ lw_all := lw_g (lw_at lw_m12 82 rfl) rfl
theorem q2873 : (Jvm.Cond.code ({ cls := "MistCouriersModel", name := "pickIt", desc := "(II)I" } : Jvm.MethodName) prog_16_method_129_code (3 : Nat) (Option.some Jvm.ClassFile.FieldType.int)) ∈ lw_all := lw_g (lw_at lw_m12 83 rfl) rfl
theorem q2874 : (Jvm.Cond.methodLink "MistCouriersModel" (350 : Nat) ({ cls := "MistCouriersModel", name := "liesOn", desc := "(II)Z" } : Jvm.MethodName)) ∈ lw_all := lw_g (lw_at lw_m12 84 rfl) rfl
theorem q2875 : (Jvm.Cond.privateMethod ({ cls := "MistCouriersModel", name := "liesOn", desc := "(II)Z" } : Jvm.MethodName)) ∈ lw_tbl := lw_at lw_m12 85 rfl
theorem q2876 : (Jvm.Cond.instanceMethod ({ cls := "MistCouriersModel", name := "liesOn", desc := "(II)Z" } : Jvm.MethodName)) ∈ lw_all := lw_g (lw_at lw_m12 86 rfl) rfl
theorem q2877 : (Jvm.Cond.code ({ cls := "MistCouriersModel", name := "liesOn", desc := "(II)Z" } : Jvm.MethodName) prog_16_method_84_code (3 : Nat) (Option.some Jvm.ClassFile.FieldType.boolean)) ∈ lw_all := lw_g (lw_at lw_m12 87 rfl) rfl
theorem q2878 : (Jvm.Cond.methodLink "MistCouriersModel" (377 : Nat) ({ cls := "MistCouriersModel", name := "carriedBy", desc := "(I)I" } : Jvm.MethodName)) ∈ lw_all := lw_g (lw_at lw_m12 88 rfl) rfl
theorem q2879 : (Jvm.Cond.privateMethod ({ cls := "MistCouriersModel", name := "carriedBy", desc := "(I)I" } : Jvm.MethodName)) ∈ lw_tbl := lw_at lw_m12 89 rfl
theorem q2880 : (Jvm.Cond.instanceMethod ({ cls := "MistCouriersModel", name := "carriedBy", desc := "(I)I" } : Jvm.MethodName)) ∈ lw_all := lw_g (lw_at lw_m12 90 rfl) rfl
theorem q2881 : (Jvm.Cond.code ({ cls := "MistCouriersModel", name := "carriedBy", desc := "(I)I" } : Jvm.MethodName) prog_16_method_46_code (4 : Nat) (Option.some Jvm.ClassFile.FieldType.int)) ∈ lw_all := lw_g (lw_at lw_m12 91 rfl) rfl
theorem q2882 : (Jvm.Cond.methodLink "MistCouriersModel" (328 : Nat) ({ cls := "MistCouriersModel", name := "giveIt", desc := "(III)I" } : Jvm.MethodName)) ∈ lw_all := lw_g (lw_at lw_m12 92 rfl) rfl
theorem q2883 : (Jvm.Cond.privateMethod ({ cls := "MistCouriersModel", name := "giveIt", desc := "(III)I" } : Jvm.MethodName)) ∈ lw_tbl := lw_at lw_m12 93 rfl
theorem q2884 : (Jvm.Cond.instanceMethod ({ cls := "MistCouriersModel", name := "giveIt", desc := "(III)I" } : Jvm.MethodName)) ∈ lw_all := lw_g (lw_at lw_m12 94 rfl) rfl
theorem q2885 : (Jvm.Cond.code ({ cls := "MistCouriersModel", name := "giveIt", desc := "(III)I" } : Jvm.MethodName) prog_16_method_131_code (5 : Nat) (Option.some Jvm.ClassFile.FieldType.int)) ∈ lw_all := lw_g (lw_at lw_m12 95 rfl) rfl
theorem q2886 : (Jvm.Cond.methodLink "MistCouriersModel" (449 : Nat) ({ cls := "MistCouriersModel", name := "whyNotGive", desc := "(III)I" } : Jvm.MethodName)) ∈ lw_all := lw_g (lw_at lw_m12 96 rfl) rfl
theorem q2887 : (Jvm.Cond.privateMethod ({ cls := "MistCouriersModel", name := "whyNotGive", desc := "(III)I" } : Jvm.MethodName)) ∈ lw_tbl := lw_at lw_m12 97 rfl
theorem q2888 : (Jvm.Cond.instanceMethod ({ cls := "MistCouriersModel", name := "whyNotGive", desc := "(III)I" } : Jvm.MethodName)) ∈ lw_all := lw_g (lw_at lw_m12 98 rfl) rfl
theorem q2889 : (Jvm.Cond.code ({ cls := "MistCouriersModel", name := "whyNotGive", desc := "(III)I" } : Jvm.MethodName) prog_16_method_130_code (4 : Nat) (Option.some Jvm.ClassFile.FieldType.int)) ∈ lw_all := lw_g (lw_at lw_m12 99 rfl) rfl
theorem q2890 : (Jvm.Cond.methodLink "MistCouriersModel" (332 : Nat) ({ cls := "MistCouriersModel", name := "layIt", desc := "(II)I" } : Jvm.MethodName)) ∈ lw_all := lw_g (lw_at lw_m12 100 rfl) rfl
theorem q2891 : (Jvm.Cond.privateMethod ({ cls := "MistCouriersModel", name := "layIt", desc := "(II)I" } : Jvm.MethodName)) ∈ lw_tbl := lw_at lw_m12 101 rfl
theorem q2892 : (Jvm.Cond.instanceMethod ({ cls := "MistCouriersModel", name := "layIt", desc := "(II)I" } : Jvm.MethodName)) ∈ lw_all := lw_g (lw_at lw_m12 102 rfl) rfl
theorem q2893 : (Jvm.Cond.code ({ cls := "MistCouriersModel", name := "layIt", desc := "(II)I" } : Jvm.MethodName) prog_16_method_132_code (3 : Nat) (Option.some Jvm.ClassFile.FieldType.int)) ∈ lw_all := lw_g (lw_at lw_m12 103 rfl) rfl
theorem q2895 : (Jvm.Cond.instanceMethod ({ cls := "MistCouriersModel", name := "errorCode", desc := "()I" } : Jvm.MethodName)) ∈ lw_all := lw_g (lw_at lw_m12 105 rfl) rfl
theorem q2896 : (Jvm.Cond.selects "MistCouriersModel" ({ cls := "MistCouriersModel", name := "errorCode", desc := "()I" } : Jvm.MethodName) ({ cls := "MistCouriersModel", name := "errorCode", desc := "()I" } : Jvm.MethodName)) ∈ lw_all := lw_g (lw_at lw_m12 106 rfl) rfl
theorem q2897 : (Jvm.Cond.code ({ cls := "MistCouriersModel", name := "errorCode", desc := "()I" } : Jvm.MethodName) prog_16_method_76_code (1 : Nat) (Option.some Jvm.ClassFile.FieldType.int)) ∈ lw_all := lw_g (lw_at lw_m12 107 rfl) rfl
theorem q2899 : (Jvm.Cond.instanceMethod ({ cls := "MistCouriersModel", name := "errorPosition", desc := "()I" } : Jvm.MethodName)) ∈ lw_all := lw_g (lw_at lw_m12 109 rfl) rfl
theorem q2900 : (Jvm.Cond.selects "MistCouriersModel" ({ cls := "MistCouriersModel", name := "errorPosition", desc := "()I" } : Jvm.MethodName) ({ cls := "MistCouriersModel", name := "errorPosition", desc := "()I" } : Jvm.MethodName)) ∈ lw_all := lw_g (lw_at lw_m12 110 rfl) rfl
theorem q2901 : (Jvm.Cond.code ({ cls := "MistCouriersModel", name := "errorPosition", desc := "()I" } : Jvm.MethodName) prog_16_method_77_code (1 : Nat) (Option.some Jvm.ClassFile.FieldType.int)) ∈ lw_all := lw_g (lw_at lw_m12 111 rfl) rfl
theorem q2903 : (Jvm.Cond.instanceMethod ({ cls := "MistCouriersModel", name := "total", desc := "(I)I" } : Jvm.MethodName)) ∈ lw_all := lw_g (lw_at lw_m12 113 rfl) rfl
theorem q2904 : (Jvm.Cond.selects "MistCouriersModel" ({ cls := "MistCouriersModel", name := "total", desc := "(I)I" } : Jvm.MethodName) ({ cls := "MistCouriersModel", name := "total", desc := "(I)I" } : Jvm.MethodName)) ∈ lw_all := lw_g (lw_at lw_m12 114 rfl) rfl
theorem q2905 : (Jvm.Cond.code ({ cls := "MistCouriersModel", name := "total", desc := "(I)I" } : Jvm.MethodName) prog_16_method_80_code (2 : Nat) (Option.some Jvm.ClassFile.FieldType.int)) ∈ lw_all := lw_g (lw_at lw_m12 115 rfl) rfl
theorem q2906 : (Jvm.Cond.methodLink "MistCouriersModel" (341 : Nat) ({ cls := "MistCouriersModel", name := "walls", desc := "()I" } : Jvm.MethodName)) ∈ lw_all := lw_g (lw_at lw_m12 116 rfl) rfl
theorem q2907 : (Jvm.Cond.privateMethod ({ cls := "MistCouriersModel", name := "walls", desc := "()I" } : Jvm.MethodName)) ∈ lw_tbl := lw_at lw_m12 117 rfl
theorem q2908 : (Jvm.Cond.instanceMethod ({ cls := "MistCouriersModel", name := "walls", desc := "()I" } : Jvm.MethodName)) ∈ lw_all := lw_g (lw_at lw_m12 118 rfl) rfl
theorem q2909 : (Jvm.Cond.code ({ cls := "MistCouriersModel", name := "walls", desc := "()I" } : Jvm.MethodName) prog_16_method_79_code (3 : Nat) (Option.some Jvm.ClassFile.FieldType.int)) ∈ lw_all := lw_g (lw_at lw_m12 119 rfl) rfl
theorem q2910 : (Jvm.Cond.methodLink "MistCouriersModel" (344 : Nat) ({ cls := "MistCouriersModel", name := "lettersThat", desc := "(I)I" } : Jvm.MethodName)) ∈ lw_all := lw_g (lw_at lw_m12 120 rfl) rfl
theorem q2911 : (Jvm.Cond.privateMethod ({ cls := "MistCouriersModel", name := "lettersThat", desc := "(I)I" } : Jvm.MethodName)) ∈ lw_tbl := lw_at lw_m12 121 rfl
theorem q2912 : (Jvm.Cond.instanceMethod ({ cls := "MistCouriersModel", name := "lettersThat", desc := "(I)I" } : Jvm.MethodName)) ∈ lw_all := lw_g (lw_at lw_m12 122 rfl) rfl
theorem q2913 : (Jvm.Cond.code ({ cls := "MistCouriersModel", name := "lettersThat", desc := "(I)I" } : Jvm.MethodName) prog_16_method_78_code (4 : Nat) (Option.some Jvm.ClassFile.FieldType.int)) ∈ lw_all := lw_g (lw_at lw_m12 123 rfl) rfl
theorem q2914 : (Jvm.Cond.methodLink "MistCouriersModel" (347 : Nat) ({ cls := "MistCouriersModel", name := "seenCells", desc := "()I" } : Jvm.MethodName)) ∈ lw_all := lw_g (lw_at lw_m12 124 rfl) rfl
theorem q2915 : (Jvm.Cond.privateMethod ({ cls := "MistCouriersModel", name := "seenCells", desc := "()I" } : Jvm.MethodName)) ∈ lw_tbl := lw_at lw_m12 125 rfl
theorem q2916 : (Jvm.Cond.instanceMethod ({ cls := "MistCouriersModel", name := "seenCells", desc := "()I" } : Jvm.MethodName)) ∈ lw_all := lw_g (lw_at lw_m12 126 rfl) rfl
theorem q2917 : (Jvm.Cond.code ({ cls := "MistCouriersModel", name := "seenCells", desc := "()I" } : Jvm.MethodName) prog_16_method_38_code (3 : Nat) (Option.some Jvm.ClassFile.FieldType.int)) ∈ lw_all := lw_g (lw_at lw_m12 127 rfl) rfl
theorem q2919 : (Jvm.Cond.instanceMethod ({ cls := "MistCouriersModel", name := "tally", desc := "(I)I" } : Jvm.MethodName)) ∈ lw_all := lw_g (lw_at lw_m12 129 rfl) rfl
theorem q2920 : (Jvm.Cond.selects "MistCouriersModel" ({ cls := "MistCouriersModel", name := "tally", desc := "(I)I" } : Jvm.MethodName) ({ cls := "MistCouriersModel", name := "tally", desc := "(I)I" } : Jvm.MethodName)) ∈ lw_all := lw_g (lw_at lw_m12 130 rfl) rfl
theorem q2921 : (Jvm.Cond.code ({ cls := "MistCouriersModel", name := "tally", desc := "(I)I" } : Jvm.MethodName) prog_16_method_81_code (2 : Nat) (Option.some Jvm.ClassFile.FieldType.int)) ∈ lw_all := lw_g (lw_at lw_m12 131 rfl) rfl
theorem q2923 : (Jvm.Cond.instanceMethod ({ cls := "MistCouriersModel", name := "cell", desc := "(II)I" } : Jvm.MethodName)) ∈ lw_all := lw_g (lw_at lw_m12 133 rfl) rfl
theorem q2924 : (Jvm.Cond.selects "MistCouriersModel" ({ cls := "MistCouriersModel", name := "cell", desc := "(II)I" } : Jvm.MethodName) ({ cls := "MistCouriersModel", name := "cell", desc := "(II)I" } : Jvm.MethodName)) ∈ lw_all := lw_g (lw_at lw_m12 134 rfl) rfl
theorem q2925 : (Jvm.Cond.code ({ cls := "MistCouriersModel", name := "cell", desc := "(II)I" } : Jvm.MethodName) prog_16_method_87_code (3 : Nat) (Option.some Jvm.ClassFile.FieldType.int)) ∈ lw_all := lw_g (lw_at lw_m12 135 rfl) rfl
theorem q2926 : (Jvm.Cond.methodLink "MistCouriersModel" (353 : Nat) ({ cls := "MistCouriersModel", name := "isCell", desc := "(I)Z" } : Jvm.MethodName)) ∈ lw_all := lw_g (lw_at lw_m12 136 rfl) rfl
theorem q2927 : (Jvm.Cond.privateMethod ({ cls := "MistCouriersModel", name := "isCell", desc := "(I)Z" } : Jvm.MethodName)) ∈ lw_tbl := lw_at lw_m12 137 rfl
theorem q2928 : (Jvm.Cond.instanceMethod ({ cls := "MistCouriersModel", name := "isCell", desc := "(I)Z" } : Jvm.MethodName)) ∈ lw_all := lw_g (lw_at lw_m12 138 rfl) rfl
theorem q2929 : (Jvm.Cond.code ({ cls := "MistCouriersModel", name := "isCell", desc := "(I)Z" } : Jvm.MethodName) prog_16_method_19_code (2 : Nat) (Option.some Jvm.ClassFile.FieldType.boolean)) ∈ lw_all := lw_g (lw_at lw_m12 139 rfl) rfl
theorem q2930 : (Jvm.Cond.methodLink "MistCouriersModel" (356 : Nat) ({ cls := "MistCouriersModel", name := "seers", desc := "(I)I" } : Jvm.MethodName)) ∈ lw_all := lw_g (lw_at lw_m12 140 rfl) rfl
theorem q2931 : (Jvm.Cond.privateMethod ({ cls := "MistCouriersModel", name := "seers", desc := "(I)I" } : Jvm.MethodName)) ∈ lw_tbl := lw_at lw_m12 141 rfl
theorem q2932 : (Jvm.Cond.instanceMethod ({ cls := "MistCouriersModel", name := "seers", desc := "(I)I" } : Jvm.MethodName)) ∈ lw_all := lw_g (lw_at lw_m12 142 rfl) rfl
theorem q2933 : (Jvm.Cond.code ({ cls := "MistCouriersModel", name := "seers", desc := "(I)I" } : Jvm.MethodName) prog_16_method_82_code (4 : Nat) (Option.some Jvm.ClassFile.FieldType.int)) ∈ lw_all := lw_g (lw_at lw_m12 143 rfl) rfl
theorem q2934 : (Jvm.Cond.methodLink "MistCouriersModel" (359 : Nat) ({ cls := "MistCouriersModel", name := "couriersOn", desc := "(I)I" } : Jvm.MethodName)) ∈ lw_all := lw_g (lw_at lw_m12 144 rfl) rfl
theorem q2935 : (Jvm.Cond.privateMethod ({ cls := "MistCouriersModel", name := "couriersOn", desc := "(I)I" } : Jvm.MethodName)) ∈ lw_tbl := lw_at lw_m12 145 rfl
theorem q2936 : (Jvm.Cond.instanceMethod ({ cls := "MistCouriersModel", name := "couriersOn", desc := "(I)I" } : Jvm.MethodName)) ∈ lw_all := lw_g (lw_at lw_m12 146 rfl) rfl
theorem q2937 : (Jvm.Cond.code ({ cls := "MistCouriersModel", name := "couriersOn", desc := "(I)I" } : Jvm.MethodName) prog_16_method_83_code (4 : Nat) (Option.some Jvm.ClassFile.FieldType.int)) ∈ lw_all := lw_g (lw_at lw_m12 147 rfl) rfl
theorem q2938 : (Jvm.Cond.methodLink "MistCouriersModel" (362 : Nat) ({ cls := "MistCouriersModel", name := "lettersOn", desc := "(I)I" } : Jvm.MethodName)) ∈ lw_all := lw_g (lw_at lw_m12 148 rfl) rfl
theorem q2939 : (Jvm.Cond.privateMethod ({ cls := "MistCouriersModel", name := "lettersOn", desc := "(I)I" } : Jvm.MethodName)) ∈ lw_tbl := lw_at lw_m12 149 rfl
theorem q2940 : (Jvm.Cond.instanceMethod ({ cls := "MistCouriersModel", name := "lettersOn", desc := "(I)I" } : Jvm.MethodName)) ∈ lw_all := lw_g (lw_at lw_m12 150 rfl) rfl
theorem q2941 : (Jvm.Cond.code ({ cls := "MistCouriersModel", name := "lettersOn", desc := "(I)I" } : Jvm.MethodName) prog_16_method_85_code (4 : Nat) (Option.some Jvm.ClassFile.FieldType.int)) ∈ lw_all := lw_g (lw_at lw_m12 151 rfl) rfl
theorem q2942 : (Jvm.Cond.methodLink "MistCouriersModel" (365 : Nat) ({ cls := "MistCouriersModel", name := "lettersFor", desc := "(I)I" } : Jvm.MethodName)) ∈ lw_all := lw_g (lw_at lw_m12 152 rfl) rfl
theorem q2943 : (Jvm.Cond.privateMethod ({ cls := "MistCouriersModel", name := "lettersFor", desc := "(I)I" } : Jvm.MethodName)) ∈ lw_tbl := lw_at lw_m12 153 rfl
theorem q2944 : (Jvm.Cond.instanceMethod ({ cls := "MistCouriersModel", name := "lettersFor", desc := "(I)I" } : Jvm.MethodName)) ∈ lw_all := lw_g (lw_at lw_m12 154 rfl) rfl
theorem q2945 : (Jvm.Cond.code ({ cls := "MistCouriersModel", name := "lettersFor", desc := "(I)I" } : Jvm.MethodName) prog_16_method_86_code (4 : Nat) (Option.some Jvm.ClassFile.FieldType.int)) ∈ lw_all := lw_g (lw_at lw_m12 155 rfl) rfl
theorem q2947 : (Jvm.Cond.instanceMethod ({ cls := "MistCouriersModel", name := "bank", desc := "(II)I" } : Jvm.MethodName)) ∈ lw_all := lw_g (lw_at lw_m12 157 rfl) rfl
theorem q2948 : (Jvm.Cond.selects "MistCouriersModel" ({ cls := "MistCouriersModel", name := "bank", desc := "(II)I" } : Jvm.MethodName) ({ cls := "MistCouriersModel", name := "bank", desc := "(II)I" } : Jvm.MethodName)) ∈ lw_all := lw_g (lw_at lw_m12 158 rfl) rfl
theorem q2949 : (Jvm.Cond.code ({ cls := "MistCouriersModel", name := "bank", desc := "(II)I" } : Jvm.MethodName) prog_16_method_88_code (3 : Nat) (Option.some Jvm.ClassFile.FieldType.int)) ∈ lw_all := lw_g (lw_at lw_m12 159 rfl) rfl
theorem q2951 : (Jvm.Cond.instanceMethod ({ cls := "MistCouriersModel", name := "watcher", desc := "(II)I" } : Jvm.MethodName)) ∈ lw_all := lw_g (lw_at lw_m12 161 rfl) rfl
theorem q2952 : (Jvm.Cond.selects "MistCouriersModel" ({ cls := "MistCouriersModel", name := "watcher", desc := "(II)I" } : Jvm.MethodName) ({ cls := "MistCouriersModel", name := "watcher", desc := "(II)I" } : Jvm.MethodName)) ∈ lw_all := lw_g (lw_at lw_m12 162 rfl) rfl
theorem q2953 : (Jvm.Cond.code ({ cls := "MistCouriersModel", name := "watcher", desc := "(II)I" } : Jvm.MethodName) prog_16_method_91_code (3 : Nat) (Option.some Jvm.ClassFile.FieldType.int)) ∈ lw_all := lw_g (lw_at lw_m12 163 rfl) rfl
theorem q2954 : (Jvm.Cond.methodLink "MistCouriersModel" (368 : Nat) ({ cls := "MistCouriersModel", name := "isWatcher", desc := "(I)Z" } : Jvm.MethodName)) ∈ lw_all := lw_g (lw_at lw_m12 164 rfl) rfl
theorem q2955 : (Jvm.Cond.privateMethod ({ cls := "MistCouriersModel", name := "isWatcher", desc := "(I)Z" } : Jvm.MethodName)) ∈ lw_tbl := lw_at lw_m12 165 rfl
theorem q2956 : (Jvm.Cond.instanceMethod ({ cls := "MistCouriersModel", name := "isWatcher", desc := "(I)Z" } : Jvm.MethodName)) ∈ lw_all := lw_g (lw_at lw_m12 166 rfl) rfl
theorem q2957 : (Jvm.Cond.code ({ cls := "MistCouriersModel", name := "isWatcher", desc := "(I)Z" } : Jvm.MethodName) prog_16_method_22_code (2 : Nat) (Option.some Jvm.ClassFile.FieldType.boolean)) ∈ lw_all := lw_g (lw_at lw_m12 167 rfl) rfl
theorem q2958 : (Jvm.Cond.methodLink "MistCouriersModel" (371 : Nat) ({ cls := "MistCouriersModel", name := "seenBy", desc := "(I)I" } : Jvm.MethodName)) ∈ lw_all := lw_g (lw_at lw_m12 168 rfl) rfl
theorem q2959 : (Jvm.Cond.privateMethod ({ cls := "MistCouriersModel", name := "seenBy", desc := "(I)I" } : Jvm.MethodName)) ∈ lw_tbl := lw_at lw_m12 169 rfl
theorem q2960 : (Jvm.Cond.instanceMethod ({ cls := "MistCouriersModel", name := "seenBy", desc := "(I)I" } : Jvm.MethodName)) ∈ lw_all := lw_g (lw_at lw_m12 170 rfl) rfl
theorem q2961 : (Jvm.Cond.code ({ cls := "MistCouriersModel", name := "seenBy", desc := "(I)I" } : Jvm.MethodName) prog_16_method_89_code (4 : Nat) (Option.some Jvm.ClassFile.FieldType.int)) ∈ lw_all := lw_g (lw_at lw_m12 171 rfl) rfl
theorem q2962 : (Jvm.Cond.methodLink "MistCouriersModel" (374 : Nat) ({ cls := "MistCouriersModel", name := "couriersSeenBy", desc := "(I)I" } : Jvm.MethodName)) ∈ lw_all := lw_g (lw_at lw_m12 172 rfl) rfl
theorem q2963 : (Jvm.Cond.privateMethod ({ cls := "MistCouriersModel", name := "couriersSeenBy", desc := "(I)I" } : Jvm.MethodName)) ∈ lw_tbl := lw_at lw_m12 173 rfl
theorem q2964 : (Jvm.Cond.instanceMethod ({ cls := "MistCouriersModel", name := "couriersSeenBy", desc := "(I)I" } : Jvm.MethodName)) ∈ lw_all := lw_g (lw_at lw_m12 174 rfl) rfl
theorem q2965 : (Jvm.Cond.code ({ cls := "MistCouriersModel", name := "couriersSeenBy", desc := "(I)I" } : Jvm.MethodName) prog_16_method_90_code (4 : Nat) (Option.some Jvm.ClassFile.FieldType.int)) ∈ lw_all := lw_g (lw_at lw_m12 175 rfl) rfl
theorem q2967 : (Jvm.Cond.instanceMethod ({ cls := "MistCouriersModel", name := "courier", desc := "(II)I" } : Jvm.MethodName)) ∈ lw_all := lw_g (lw_at lw_m12 177 rfl) rfl
theorem q2968 : (Jvm.Cond.selects "MistCouriersModel" ({ cls := "MistCouriersModel", name := "courier", desc := "(II)I" } : Jvm.MethodName) ({ cls := "MistCouriersModel", name := "courier", desc := "(II)I" } : Jvm.MethodName)) ∈ lw_all := lw_g (lw_at lw_m12 178 rfl) rfl
theorem q2969 : (Jvm.Cond.code ({ cls := "MistCouriersModel", name := "courier", desc := "(II)I" } : Jvm.MethodName) prog_16_method_92_code (3 : Nat) (Option.some Jvm.ClassFile.FieldType.int)) ∈ lw_all := lw_g (lw_at lw_m12 179 rfl) rfl
theorem q2971 : (Jvm.Cond.instanceMethod ({ cls := "MistCouriersModel", name := "letter", desc := "(II)I" } : Jvm.MethodName)) ∈ lw_all := lw_g (lw_at lw_m12 181 rfl) rfl
theorem q2972 : (Jvm.Cond.selects "MistCouriersModel" ({ cls := "MistCouriersModel", name := "letter", desc := "(II)I" } : Jvm.MethodName) ({ cls := "MistCouriersModel", name := "letter", desc := "(II)I" } : Jvm.MethodName)) ∈ lw_all := lw_g (lw_at lw_m12 182 rfl) rfl
theorem q2973 : (Jvm.Cond.code ({ cls := "MistCouriersModel", name := "letter", desc := "(II)I" } : Jvm.MethodName) prog_16_method_94_code (3 : Nat) (Option.some Jvm.ClassFile.FieldType.int)) ∈ lw_all := lw_g (lw_at lw_m12 183 rfl) rfl
theorem q2974 : (Jvm.Cond.methodLink "MistCouriersModel" (383 : Nat) ({ cls := "MistCouriersModel", name := "cellOf", desc := "(I)I" } : Jvm.MethodName)) ∈ lw_all := lw_g (lw_at lw_m12 184 rfl) rfl
theorem q2975 : (Jvm.Cond.privateMethod ({ cls := "MistCouriersModel", name := "cellOf", desc := "(I)I" } : Jvm.MethodName)) ∈ lw_tbl := lw_at lw_m12 185 rfl
theorem q2976 : (Jvm.Cond.instanceMethod ({ cls := "MistCouriersModel", name := "cellOf", desc := "(I)I" } : Jvm.MethodName)) ∈ lw_all := lw_g (lw_at lw_m12 186 rfl) rfl
theorem q2977 : (Jvm.Cond.code ({ cls := "MistCouriersModel", name := "cellOf", desc := "(I)I" } : Jvm.MethodName) prog_16_method_93_code (2 : Nat) (Option.some Jvm.ClassFile.FieldType.int)) ∈ lw_all := lw_g (lw_at lw_m12 187 rfl) rfl
theorem q2979 : (Jvm.Cond.instanceMethod ({ cls := "MistCouriersModel", name := "gaze", desc := "(II)I" } : Jvm.MethodName)) ∈ lw_all := lw_g (lw_at lw_m12 189 rfl) rfl
theorem q2980 : (Jvm.Cond.selects "MistCouriersModel" ({ cls := "MistCouriersModel", name := "gaze", desc := "(II)I" } : Jvm.MethodName) ({ cls := "MistCouriersModel", name := "gaze", desc := "(II)I" } : Jvm.MethodName)) ∈ lw_all := lw_g (lw_at lw_m12 190 rfl) rfl
theorem q2981 : (Jvm.Cond.code ({ cls := "MistCouriersModel", name := "gaze", desc := "(II)I" } : Jvm.MethodName) prog_16_method_95_code (3 : Nat) (Option.some Jvm.ClassFile.FieldType.int)) ∈ lw_all := lw_g (lw_at lw_m12 191 rfl) rfl
theorem q2983 : (Jvm.Cond.instanceMethod ({ cls := "MistCouriersModel", name := "why", desc := "(II)I" } : Jvm.MethodName)) ∈ lw_all := lw_g (lw_at lw_m12 193 rfl) rfl
theorem q2984 : (Jvm.Cond.selects "MistCouriersModel" ({ cls := "MistCouriersModel", name := "why", desc := "(II)I" } : Jvm.MethodName) ({ cls := "MistCouriersModel", name := "why", desc := "(II)I" } : Jvm.MethodName)) ∈ lw_all := lw_g (lw_at lw_m12 194 rfl) rfl
theorem q2985 : (Jvm.Cond.code ({ cls := "MistCouriersModel", name := "why", desc := "(II)I" } : Jvm.MethodName) prog_16_method_101_code (4 : Nat) (Option.some Jvm.ClassFile.FieldType.int)) ∈ lw_all := lw_g (lw_at lw_m12 195 rfl) rfl
theorem q2986 : (Jvm.Cond.methodLink "MistCouriersModel" (392 : Nat) ({ cls := "MistCouriersModel", name := "reasonOf", desc := "(I)I" } : Jvm.MethodName)) ∈ lw_all := lw_g (lw_at lw_m12 196 rfl) rfl
theorem q2987 : (Jvm.Cond.privateMethod ({ cls := "MistCouriersModel", name := "reasonOf", desc := "(I)I" } : Jvm.MethodName)) ∈ lw_tbl := lw_at lw_m12 197 rfl
theorem q2988 : (Jvm.Cond.instanceMethod ({ cls := "MistCouriersModel", name := "reasonOf", desc := "(I)I" } : Jvm.MethodName)) ∈ lw_all := lw_g (lw_at lw_m12 198 rfl) rfl
theorem q2989 : (Jvm.Cond.code ({ cls := "MistCouriersModel", name := "reasonOf", desc := "(I)I" } : Jvm.MethodName) prog_16_method_98_code (2 : Nat) (Option.some Jvm.ClassFile.FieldType.int)) ∈ lw_all := lw_g (lw_at lw_m12 199 rfl) rfl
theorem q2990 : (Jvm.Cond.methodLink "MistCouriersModel" (386 : Nat) ({ cls := "MistCouriersModel", name := "lowestGazer", desc := "(I)I" } : Jvm.MethodName)) ∈ lw_all := lw_g (lw_at lw_m12 200 rfl) rfl
theorem q2991 : (Jvm.Cond.privateMethod ({ cls := "MistCouriersModel", name := "lowestGazer", desc := "(I)I" } : Jvm.MethodName)) ∈ lw_tbl := lw_at lw_m12 201 rfl
theorem q2992 : (Jvm.Cond.instanceMethod ({ cls := "MistCouriersModel", name := "lowestGazer", desc := "(I)I" } : Jvm.MethodName)) ∈ lw_all := lw_g (lw_at lw_m12 202 rfl) rfl
theorem q2993 : (Jvm.Cond.code ({ cls := "MistCouriersModel", name := "lowestGazer", desc := "(I)I" } : Jvm.MethodName) prog_16_method_97_code (3 : Nat) (Option.some Jvm.ClassFile.FieldType.int)) ∈ lw_all := lw_g (lw_at lw_m12 203 rfl) rfl
theorem q2994 : (Jvm.Cond.methodLink "MistCouriersModel" (395 : Nat) ({ cls := "MistCouriersModel", name := "causeOf", desc := "(II)I" } : Jvm.MethodName)) ∈ lw_all := lw_g (lw_at lw_m12 204 rfl) rfl
theorem q2995 : (Jvm.Cond.privateMethod ({ cls := "MistCouriersModel", name := "causeOf", desc := "(II)I" } : Jvm.MethodName)) ∈ lw_tbl := lw_at lw_m12 205 rfl
theorem q2996 : (Jvm.Cond.instanceMethod ({ cls := "MistCouriersModel", name := "causeOf", desc := "(II)I" } : Jvm.MethodName)) ∈ lw_all := lw_g (lw_at lw_m12 206 rfl) rfl
theorem q2997 : (Jvm.Cond.code ({ cls := "MistCouriersModel", name := "causeOf", desc := "(II)I" } : Jvm.MethodName) prog_16_method_99_code (3 : Nat) (Option.some Jvm.ClassFile.FieldType.int)) ∈ lw_all := lw_g (lw_at lw_m12 207 rfl) rfl
theorem q2998 : (Jvm.Cond.methodLink "MistCouriersModel" (389 : Nat) ({ cls := "MistCouriersModel", name := "lowestSeer", desc := "(I)I" } : Jvm.MethodName)) ∈ lw_all := lw_g (lw_at lw_m12 208 rfl) rfl
theorem q2999 : (Jvm.Cond.privateMethod ({ cls := "MistCouriersModel", name := "lowestSeer", desc := "(I)I" } : Jvm.MethodName)) ∈ lw_tbl := lw_at lw_m12 209 rfl
theorem q3000 : (Jvm.Cond.instanceMethod ({ cls := "MistCouriersModel", name := "lowestSeer", desc := "(I)I" } : Jvm.MethodName)) ∈ lw_all := lw_g (lw_at lw_m12 210 rfl) rfl
theorem q3001 : (Jvm.Cond.code ({ cls := "MistCouriersModel", name := "lowestSeer", desc := "(I)I" } : Jvm.MethodName) prog_16_method_96_code (3 : Nat) (Option.some Jvm.ClassFile.FieldType.int)) ∈ lw_all := lw_g (lw_at lw_m12 211 rfl) rfl
theorem q3002 : (Jvm.Cond.methodLink "MistCouriersModel" (398 : Nat) ({ cls := "MistCouriersModel", name := "furtherOf", desc := "(II)I" } : Jvm.MethodName)) ∈ lw_all := lw_g (lw_at lw_m12 212 rfl) rfl
theorem q3003 : (Jvm.Cond.privateMethod ({ cls := "MistCouriersModel", name := "furtherOf", desc := "(II)I" } : Jvm.MethodName)) ∈ lw_tbl := lw_at lw_m12 213 rfl
theorem q3004 : (Jvm.Cond.instanceMethod ({ cls := "MistCouriersModel", name := "furtherOf", desc := "(II)I" } : Jvm.MethodName)) ∈ lw_all := lw_g (lw_at lw_m12 214 rfl) rfl
theorem q3005 : (Jvm.Cond.code ({ cls := "MistCouriersModel", name := "furtherOf", desc := "(II)I" } : Jvm.MethodName) prog_16_method_100_code (4 : Nat) (Option.some Jvm.ClassFile.FieldType.int)) ∈ lw_all := lw_g (lw_at lw_m12 215 rfl) rfl
theorem q3007 : (Jvm.Cond.instanceMethod ({ cls := "MistCouriersModel", name := "gap", desc := "()I" } : Jvm.MethodName)) ∈ lw_all := lw_g (lw_at lw_m12 217 rfl) rfl
theorem q3008 : (Jvm.Cond.selects "MistCouriersModel" ({ cls := "MistCouriersModel", name := "gap", desc := "()I" } : Jvm.MethodName) ({ cls := "MistCouriersModel", name := "gap", desc := "()I" } : Jvm.MethodName)) ∈ lw_all := lw_g (lw_at lw_m12 218 rfl) rfl
theorem q3009 : (Jvm.Cond.code ({ cls := "MistCouriersModel", name := "gap", desc := "()I" } : Jvm.MethodName) prog_16_method_102_code (4 : Nat) (Option.some Jvm.ClassFile.FieldType.int)) ∈ lw_all := lw_g (lw_at lw_m12 219 rfl) rfl
theorem q3011 : (Jvm.Cond.instanceMethod ({ cls := "MistCouriersModel", name := "share", desc := "()F" } : Jvm.MethodName)) ∈ lw_all := lw_g (lw_at lw_m12 221 rfl) rfl
theorem q3012 : (Jvm.Cond.selects "MistCouriersModel" ({ cls := "MistCouriersModel", name := "share", desc := "()F" } : Jvm.MethodName) ({ cls := "MistCouriersModel", name := "share", desc := "()F" } : Jvm.MethodName)) ∈ lw_all := lw_g (lw_at lw_m12 222 rfl) rfl
theorem q3013 : (Jvm.Cond.code ({ cls := "MistCouriersModel", name := "share", desc := "()F" } : Jvm.MethodName) prog_16_method_103_code (1 : Nat) (Option.some Jvm.ClassFile.FieldType.float)) ∈ lw_all := lw_g (lw_at lw_m12 223 rfl) rfl
theorem q3015 : (Jvm.Cond.instanceMethod ({ cls := "MistCouriersModel", name := "meanMist", desc := "()D" } : Jvm.MethodName)) ∈ lw_all := lw_g (lw_at lw_m12 225 rfl) rfl
theorem q3016 : (Jvm.Cond.selects "MistCouriersModel" ({ cls := "MistCouriersModel", name := "meanMist", desc := "()D" } : Jvm.MethodName) ({ cls := "MistCouriersModel", name := "meanMist", desc := "()D" } : Jvm.MethodName)) ∈ lw_all := lw_g (lw_at lw_m12 226 rfl) rfl
theorem q3017 : (Jvm.Cond.code ({ cls := "MistCouriersModel", name := "meanMist", desc := "()D" } : Jvm.MethodName) prog_16_method_104_code (3 : Nat) (Option.some Jvm.ClassFile.FieldType.double)) ∈ lw_all := lw_g (lw_at lw_m12 227 rfl) rfl
theorem q3019 : (Jvm.Cond.instanceMethod ({ cls := "MistCouriersModel", name := "ifSeen", desc := "(II)Z" } : Jvm.MethodName)) ∈ lw_all := lw_g (lw_at lw_m12 229 rfl) rfl
theorem q3020 : (Jvm.Cond.selects "MistCouriersModel" ({ cls := "MistCouriersModel", name := "ifSeen", desc := "(II)Z" } : Jvm.MethodName) ({ cls := "MistCouriersModel", name := "ifSeen", desc := "(II)Z" } : Jvm.MethodName)) ∈ lw_all := lw_g (lw_at lw_m12 230 rfl) rfl
theorem q3021 : (Jvm.Cond.code ({ cls := "MistCouriersModel", name := "ifSeen", desc := "(II)Z" } : Jvm.MethodName) prog_16_method_109_code (3 : Nat) (Option.some Jvm.ClassFile.FieldType.boolean)) ∈ lw_all := lw_g (lw_at lw_m12 231 rfl) rfl
theorem q3022 : (Jvm.Cond.methodLink "MistCouriersModel" (401 : Nat) ({ cls := "MistCouriersModel", name := "isAhead", desc := "(I)Z" } : Jvm.MethodName)) ∈ lw_all := lw_g (lw_at lw_m12 232 rfl) rfl
theorem q3023 : (Jvm.Cond.static ({ cls := "MistCouriersModel", name := "isAhead", desc := "(I)Z" } : Jvm.MethodName)) ∈ lw_all := lw_g (lw_at lw_m12 233 rfl) rfl
theorem q3024 : (Jvm.Cond.code ({ cls := "MistCouriersModel", name := "isAhead", desc := "(I)Z" } : Jvm.MethodName) prog_16_method_107_code (1 : Nat) (Option.some Jvm.ClassFile.FieldType.boolean)) ∈ lw_all := lw_g (lw_at lw_m12 234 rfl) rfl
theorem q3025 : (Jvm.Cond.methodLink "MistCouriersModel" (404 : Nat) ({ cls := "MistCouriersModel", name := "goAside", desc := "()V" } : Jvm.MethodName)) ∈ lw_all := lw_g (lw_at lw_m12 235 rfl) rfl
theorem q3026 : (Jvm.Cond.privateMethod ({ cls := "MistCouriersModel", name := "goAside", desc := "()V" } : Jvm.MethodName)) ∈ lw_tbl := lw_at lw_m12 236 rfl
theorem q3027 : (Jvm.Cond.instanceMethod ({ cls := "MistCouriersModel", name := "goAside", desc := "()V" } : Jvm.MethodName)) ∈ lw_all := lw_g (lw_at lw_m12 237 rfl) rfl
theorem q3028 : (Jvm.Cond.code ({ cls := "MistCouriersModel", name := "goAside", desc := "()V" } : Jvm.MethodName) prog_16_method_105_code (1 : Nat) (Option.none : Option Jvm.ClassFile.FieldType)) ∈ lw_all := lw_g (lw_at lw_m12 238 rfl) rfl
theorem q3029 : (Jvm.Cond.methodLink "MistCouriersModel" (407 : Nat) ({ cls := "MistCouriersModel", name := "seenBehind", desc := "(II)I" } : Jvm.MethodName)) ∈ lw_all := lw_g (lw_at lw_m12 239 rfl) rfl
theorem q3030 : (Jvm.Cond.privateMethod ({ cls := "MistCouriersModel", name := "seenBehind", desc := "(II)I" } : Jvm.MethodName)) ∈ lw_tbl := lw_at lw_m13 0 rfl
theorem q3031 : (Jvm.Cond.instanceMethod ({ cls := "MistCouriersModel", name := "seenBehind", desc := "(II)I" } : Jvm.MethodName)) ∈ lw_all := lw_g (lw_at lw_m13 1 rfl) rfl
theorem q3032 : (Jvm.Cond.code ({ cls := "MistCouriersModel", name := "seenBehind", desc := "(II)I" } : Jvm.MethodName) prog_16_method_108_code (4 : Nat) (Option.some Jvm.ClassFile.FieldType.int)) ∈ lw_all := lw_g (lw_at lw_m13 2 rfl) rfl
theorem q3033 : (Jvm.Cond.methodLink "MistCouriersModel" (410 : Nat) ({ cls := "MistCouriersModel", name := "comeBack", desc := "(I)I" } : Jvm.MethodName)) ∈ lw_all := lw_g (lw_at lw_m13 3 rfl) rfl
theorem q3034 : (Jvm.Cond.privateMethod ({ cls := "MistCouriersModel", name := "comeBack", desc := "(I)I" } : Jvm.MethodName)) ∈ lw_tbl := lw_at lw_m13 4 rfl
theorem q3035 : (Jvm.Cond.instanceMethod ({ cls := "MistCouriersModel", name := "comeBack", desc := "(I)I" } : Jvm.MethodName)) ∈ lw_all := lw_g (lw_at lw_m13 5 rfl) rfl
theorem q3036 : (Jvm.Cond.code ({ cls := "MistCouriersModel", name := "comeBack", desc := "(I)I" } : Jvm.MethodName) prog_16_method_106_code (2 : Nat) (Option.some Jvm.ClassFile.FieldType.int)) ∈ lw_all := lw_g (lw_at lw_m13 6 rfl) rfl
theorem q3038 : (Jvm.Cond.instanceMethod ({ cls := "MistCouriersModel", name := "seenIn", desc := "(I)I" } : Jvm.MethodName)) ∈ lw_all := lw_g (lw_at lw_m13 8 rfl) rfl
theorem q3039 : (Jvm.Cond.selects "MistCouriersModel" ({ cls := "MistCouriersModel", name := "seenIn", desc := "(I)I" } : Jvm.MethodName) ({ cls := "MistCouriersModel", name := "seenIn", desc := "(I)I" } : Jvm.MethodName)) ∈ lw_all := lw_g (lw_at lw_m13 9 rfl) rfl
theorem q3040 : (Jvm.Cond.code ({ cls := "MistCouriersModel", name := "seenIn", desc := "(I)I" } : Jvm.MethodName) prog_16_method_111_code (2 : Nat) (Option.some Jvm.ClassFile.FieldType.int)) ∈ lw_all := lw_g (lw_at lw_m13 10 rfl) rfl
theorem q3041 : (Jvm.Cond.methodLink "MistCouriersModel" (413 : Nat) ({ cls := "MistCouriersModel", name := "nextSeen", desc := "(I)I" } : Jvm.MethodName)) ∈ lw_all := lw_g (lw_at lw_m13 11 rfl) rfl
theorem q3042 : (Jvm.Cond.privateMethod ({ cls := "MistCouriersModel", name := "nextSeen", desc := "(I)I" } : Jvm.MethodName)) ∈ lw_tbl := lw_at lw_m13 12 rfl
theorem q3043 : (Jvm.Cond.instanceMethod ({ cls := "MistCouriersModel", name := "nextSeen", desc := "(I)I" } : Jvm.MethodName)) ∈ lw_all := lw_g (lw_at lw_m13 13 rfl) rfl
theorem q3044 : (Jvm.Cond.code ({ cls := "MistCouriersModel", name := "nextSeen", desc := "(I)I" } : Jvm.MethodName) prog_16_method_110_code (3 : Nat) (Option.some Jvm.ClassFile.FieldType.int)) ∈ lw_all := lw_g (lw_at lw_m13 14 rfl) rfl
theorem q3046 : (Jvm.Cond.instanceMethod ({ cls := "MistCouriersModel", name := "ifPassed", desc := "(II)I" } : Jvm.MethodName)) ∈ lw_all := lw_g (lw_at lw_m13 16 rfl) rfl
theorem q3047 : (Jvm.Cond.selects "MistCouriersModel" ({ cls := "MistCouriersModel", name := "ifPassed", desc := "(II)I" } : Jvm.MethodName) ({ cls := "MistCouriersModel", name := "ifPassed", desc := "(II)I" } : Jvm.MethodName)) ∈ lw_all := lw_g (lw_at lw_m13 17 rfl) rfl
theorem q3048 : (Jvm.Cond.code ({ cls := "MistCouriersModel", name := "ifPassed", desc := "(II)I" } : Jvm.MethodName) prog_16_method_113_code (3 : Nat) (Option.some Jvm.ClassFile.FieldType.int)) ∈ lw_all := lw_g (lw_at lw_m13 18 rfl) rfl
theorem q3049 : (Jvm.Cond.methodLink "MistCouriersModel" (419 : Nat) ({ cls := "MistCouriersModel", name := "toldBehind", desc := "(II)I" } : Jvm.MethodName)) ∈ lw_all := lw_g (lw_at lw_m13 19 rfl) rfl
theorem q3050 : (Jvm.Cond.privateMethod ({ cls := "MistCouriersModel", name := "toldBehind", desc := "(II)I" } : Jvm.MethodName)) ∈ lw_tbl := lw_at lw_m13 20 rfl
theorem q3051 : (Jvm.Cond.instanceMethod ({ cls := "MistCouriersModel", name := "toldBehind", desc := "(II)I" } : Jvm.MethodName)) ∈ lw_all := lw_g (lw_at lw_m13 21 rfl) rfl
theorem q3052 : (Jvm.Cond.code ({ cls := "MistCouriersModel", name := "toldBehind", desc := "(II)I" } : Jvm.MethodName) prog_16_method_112_code (4 : Nat) (Option.some Jvm.ClassFile.FieldType.int)) ∈ lw_all := lw_g (lw_at lw_m13 22 rfl) rfl
theorem q3054 : (Jvm.Cond.instanceMethod ({ cls := "MistCouriersModel", name := "unseen", desc := "(II)I" } : Jvm.MethodName)) ∈ lw_all := lw_g (lw_at lw_m13 24 rfl) rfl
theorem q3055 : (Jvm.Cond.selects "MistCouriersModel" ({ cls := "MistCouriersModel", name := "unseen", desc := "(II)I" } : Jvm.MethodName) ({ cls := "MistCouriersModel", name := "unseen", desc := "(II)I" } : Jvm.MethodName)) ∈ lw_all := lw_g (lw_at lw_m13 25 rfl) rfl
theorem q3056 : (Jvm.Cond.code ({ cls := "MistCouriersModel", name := "unseen", desc := "(II)I" } : Jvm.MethodName) prog_16_method_119_code (3 : Nat) (Option.some Jvm.ClassFile.FieldType.int)) ∈ lw_all := lw_g (lw_at lw_m13 26 rfl) rfl
theorem q3057 : (Jvm.Cond.methodLink "MistCouriersModel" (434 : Nat) ({ cls := "MistCouriersModel", name := "unseenTo", desc := "(II)I" } : Jvm.MethodName)) ∈ lw_all := lw_g (lw_at lw_m13 27 rfl) rfl
theorem q3058 : (Jvm.Cond.privateMethod ({ cls := "MistCouriersModel", name := "unseenTo", desc := "(II)I" } : Jvm.MethodName)) ∈ lw_tbl := lw_at lw_m13 28 rfl
theorem q3059 : (Jvm.Cond.instanceMethod ({ cls := "MistCouriersModel", name := "unseenTo", desc := "(II)I" } : Jvm.MethodName)) ∈ lw_all := lw_g (lw_at lw_m13 29 rfl) rfl
theorem q3060 : (Jvm.Cond.code ({ cls := "MistCouriersModel", name := "unseenTo", desc := "(II)I" } : Jvm.MethodName) prog_16_method_118_code (3 : Nat) (Option.some Jvm.ClassFile.FieldType.int)) ∈ lw_all := lw_g (lw_at lw_m13 30 rfl) rfl
theorem q3061 : (Jvm.Cond.methodLink "MistCouriersModel" (428 : Nat) ({ cls := "MistCouriersModel", name := "beginWays", desc := "(I)V" } : Jvm.MethodName)) ∈ lw_all := lw_g (lw_at lw_m13 31 rfl) rfl
theorem q3062 : (Jvm.Cond.privateMethod ({ cls := "MistCouriersModel", name := "beginWays", desc := "(I)V" } : Jvm.MethodName)) ∈ lw_tbl := lw_at lw_m13 32 rfl
theorem q3063 : (Jvm.Cond.instanceMethod ({ cls := "MistCouriersModel", name := "beginWays", desc := "(I)V" } : Jvm.MethodName)) ∈ lw_all := lw_g (lw_at lw_m13 33 rfl) rfl
theorem q3064 : (Jvm.Cond.code ({ cls := "MistCouriersModel", name := "beginWays", desc := "(I)V" } : Jvm.MethodName) prog_16_method_114_code (3 : Nat) (Option.none : Option Jvm.ClassFile.FieldType)) ∈ lw_all := lw_g (lw_at lw_m13 34 rfl) rfl
theorem q3065 : (Jvm.Cond.methodLink "MistCouriersModel" (431 : Nat) ({ cls := "MistCouriersModel", name := "ticksTo", desc := "(I)I" } : Jvm.MethodName)) ∈ lw_all := lw_g (lw_at lw_m13 35 rfl) rfl
theorem q3066 : (Jvm.Cond.privateMethod ({ cls := "MistCouriersModel", name := "ticksTo", desc := "(I)I" } : Jvm.MethodName)) ∈ lw_tbl := lw_at lw_m13 36 rfl
theorem q3067 : (Jvm.Cond.instanceMethod ({ cls := "MistCouriersModel", name := "ticksTo", desc := "(I)I" } : Jvm.MethodName)) ∈ lw_all := lw_g (lw_at lw_m13 37 rfl) rfl
theorem q3068 : (Jvm.Cond.code ({ cls := "MistCouriersModel", name := "ticksTo", desc := "(I)I" } : Jvm.MethodName) prog_16_method_117_code (3 : Nat) (Option.some Jvm.ClassFile.FieldType.int)) ∈ lw_all := lw_g (lw_at lw_m13 38 rfl) rfl
theorem q3069 : (Jvm.Cond.methodLink "MistCouriersModel" (425 : Nat) ({ cls := "MistCouriersModel", name := "goFurther", desc := "()V" } : Jvm.MethodName)) ∈ lw_all := lw_g (lw_at lw_m13 39 rfl) rfl
theorem q3070 : (Jvm.Cond.privateMethod ({ cls := "MistCouriersModel", name := "goFurther", desc := "()V" } : Jvm.MethodName)) ∈ lw_tbl := lw_at lw_m13 40 rfl
theorem q3071 : (Jvm.Cond.instanceMethod ({ cls := "MistCouriersModel", name := "goFurther", desc := "()V" } : Jvm.MethodName)) ∈ lw_all := lw_g (lw_at lw_m13 41 rfl) rfl
theorem q3072 : (Jvm.Cond.code ({ cls := "MistCouriersModel", name := "goFurther", desc := "()V" } : Jvm.MethodName) prog_16_method_116_code (2 : Nat) (Option.none : Option Jvm.ClassFile.FieldType)) ∈ lw_all := lw_g (lw_at lw_m13 42 rfl) rfl
theorem q3073 : (Jvm.Cond.methodLink "MistCouriersModel" (422 : Nat) ({ cls := "MistCouriersModel", name := "isBeside", desc := "(I)Z" } : Jvm.MethodName)) ∈ lw_all := lw_g (lw_at lw_m13 43 rfl) rfl
theorem q3074 : (Jvm.Cond.privateMethod ({ cls := "MistCouriersModel", name := "isBeside", desc := "(I)Z" } : Jvm.MethodName)) ∈ lw_tbl := lw_at lw_m13 44 rfl
theorem q3075 : (Jvm.Cond.instanceMethod ({ cls := "MistCouriersModel", name := "isBeside", desc := "(I)Z" } : Jvm.MethodName)) ∈ lw_all := lw_g (lw_at lw_m13 45 rfl) rfl
theorem q3076 : (Jvm.Cond.code ({ cls := "MistCouriersModel", name := "isBeside", desc := "(I)Z" } : Jvm.MethodName) prog_16_method_115_code (4 : Nat) (Option.some Jvm.ClassFile.FieldType.boolean)) ∈ lw_all := lw_g (lw_at lw_m13 46 rfl) rfl
theorem q3078 : (Jvm.Cond.instanceMethod ({ cls := "MistCouriersModel", name := "canBe", desc := "(II)I" } : Jvm.MethodName)) ∈ lw_all := lw_g (lw_at lw_m13 48 rfl) rfl
theorem q3079 : (Jvm.Cond.selects "MistCouriersModel" ({ cls := "MistCouriersModel", name := "canBe", desc := "(II)I" } : Jvm.MethodName) ({ cls := "MistCouriersModel", name := "canBe", desc := "(II)I" } : Jvm.MethodName)) ∈ lw_all := lw_g (lw_at lw_m13 49 rfl) rfl
theorem q3080 : (Jvm.Cond.code ({ cls := "MistCouriersModel", name := "canBe", desc := "(II)I" } : Jvm.MethodName) prog_16_method_121_code (3 : Nat) (Option.some Jvm.ClassFile.FieldType.int)) ∈ lw_all := lw_g (lw_at lw_m13 50 rfl) rfl
theorem q3081 : (Jvm.Cond.methodLink "MistCouriersModel" (437 : Nat) ({ cls := "MistCouriersModel", name := "reachedIn", desc := "(II)I" } : Jvm.MethodName)) ∈ lw_all := lw_g (lw_at lw_m13 51 rfl) rfl
theorem q3082 : (Jvm.Cond.privateMethod ({ cls := "MistCouriersModel", name := "reachedIn", desc := "(II)I" } : Jvm.MethodName)) ∈ lw_tbl := lw_at lw_m13 52 rfl
theorem q3083 : (Jvm.Cond.instanceMethod ({ cls := "MistCouriersModel", name := "reachedIn", desc := "(II)I" } : Jvm.MethodName)) ∈ lw_all := lw_g (lw_at lw_m13 53 rfl) rfl
theorem q3084 : (Jvm.Cond.code ({ cls := "MistCouriersModel", name := "reachedIn", desc := "(II)I" } : Jvm.MethodName) prog_16_method_120_code (5 : Nat) (Option.some Jvm.ClassFile.FieldType.int)) ∈ lw_all := lw_g (lw_at lw_m13 54 rfl) rfl
theorem q3086 : (Jvm.Cond.instanceMethod ({ cls := "MistCouriersModel", name := "ifStepped", desc := "(II)I" } : Jvm.MethodName)) ∈ lw_all := lw_g (lw_at lw_m13 56 rfl) rfl
theorem q3087 : (Jvm.Cond.selects "MistCouriersModel" ({ cls := "MistCouriersModel", name := "ifStepped", desc := "(II)I" } : Jvm.MethodName) ({ cls := "MistCouriersModel", name := "ifStepped", desc := "(II)I" } : Jvm.MethodName)) ∈ lw_all := lw_g (lw_at lw_m13 57 rfl) rfl
theorem q3088 : (Jvm.Cond.code ({ cls := "MistCouriersModel", name := "ifStepped", desc := "(II)I" } : Jvm.MethodName) prog_16_method_123_code (4 : Nat) (Option.some Jvm.ClassFile.FieldType.int)) ∈ lw_all := lw_g (lw_at lw_m13 58 rfl) rfl
theorem q3090 : (Jvm.Cond.instanceMethod ({ cls := "MistCouriersModel", name := "nearest", desc := "(I)I" } : Jvm.MethodName)) ∈ lw_all := lw_g (lw_at lw_m13 60 rfl) rfl
theorem q3091 : (Jvm.Cond.selects "MistCouriersModel" ({ cls := "MistCouriersModel", name := "nearest", desc := "(I)I" } : Jvm.MethodName) ({ cls := "MistCouriersModel", name := "nearest", desc := "(I)I" } : Jvm.MethodName)) ∈ lw_all := lw_g (lw_at lw_m13 61 rfl) rfl
theorem q3092 : (Jvm.Cond.code ({ cls := "MistCouriersModel", name := "nearest", desc := "(I)I" } : Jvm.MethodName) prog_16_method_124_code (6 : Nat) (Option.some Jvm.ClassFile.FieldType.int)) ∈ lw_all := lw_g (lw_at lw_m13 62 rfl) rfl
theorem q3094 : (Jvm.Cond.instanceMethod ({ cls := "MistCouriersModel", name := "refusals", desc := "(I)I" } : Jvm.MethodName)) ∈ lw_all := lw_g (lw_at lw_m13 64 rfl) rfl
theorem q3095 : (Jvm.Cond.selects "MistCouriersModel" ({ cls := "MistCouriersModel", name := "refusals", desc := "(I)I" } : Jvm.MethodName) ({ cls := "MistCouriersModel", name := "refusals", desc := "(I)I" } : Jvm.MethodName)) ∈ lw_all := lw_g (lw_at lw_m13 65 rfl) rfl
theorem q3096 : (Jvm.Cond.code ({ cls := "MistCouriersModel", name := "refusals", desc := "(I)I" } : Jvm.MethodName) prog_16_method_125_code (2 : Nat) (Option.some Jvm.ClassFile.FieldType.int)) ∈ lw_all := lw_g (lw_at lw_m13 66 rfl) rfl
theorem q3098 : (Jvm.Cond.instanceMethod ({ cls := "MistCouriersModel", name := "step", desc := "(II)I" } : Jvm.MethodName)) ∈ lw_all := lw_g (lw_at lw_m13 68 rfl) rfl
theorem q3099 : (Jvm.Cond.selects "MistCouriersModel" ({ cls := "MistCouriersModel", name := "step", desc := "(II)I" } : Jvm.MethodName) ({ cls := "MistCouriersModel", name := "step", desc := "(II)I" } : Jvm.MethodName)) ∈ lw_all := lw_g (lw_at lw_m13 69 rfl) rfl
theorem q3100 : (Jvm.Cond.code ({ cls := "MistCouriersModel", name := "step", desc := "(II)I" } : Jvm.MethodName) prog_16_method_134_code (3 : Nat) (Option.some Jvm.ClassFile.FieldType.int)) ∈ lw_all := lw_g (lw_at lw_m13 70 rfl) rfl
theorem q3102 : (Jvm.Cond.instanceMethod ({ cls := "MistCouriersModel", name := "pick", desc := "(II)I" } : Jvm.MethodName)) ∈ lw_all := lw_g (lw_at lw_m13 72 rfl) rfl
theorem q3103 : (Jvm.Cond.selects "MistCouriersModel" ({ cls := "MistCouriersModel", name := "pick", desc := "(II)I" } : Jvm.MethodName) ({ cls := "MistCouriersModel", name := "pick", desc := "(II)I" } : Jvm.MethodName)) ∈ lw_all := lw_g (lw_at lw_m13 73 rfl) rfl
theorem q3104 : (Jvm.Cond.code ({ cls := "MistCouriersModel", name := "pick", desc := "(II)I" } : Jvm.MethodName) prog_16_method_135_code (3 : Nat) (Option.some Jvm.ClassFile.FieldType.int)) ∈ lw_all := lw_g (lw_at lw_m13 74 rfl) rfl
theorem q3106 : (Jvm.Cond.instanceMethod ({ cls := "MistCouriersModel", name := "give", desc := "(III)I" } : Jvm.MethodName)) ∈ lw_all := lw_g (lw_at lw_m13 76 rfl) rfl
theorem q3107 : (Jvm.Cond.selects "MistCouriersModel" ({ cls := "MistCouriersModel", name := "give", desc := "(III)I" } : Jvm.MethodName) ({ cls := "MistCouriersModel", name := "give", desc := "(III)I" } : Jvm.MethodName)) ∈ lw_all := lw_g (lw_at lw_m13 77 rfl) rfl
theorem q3108 : (Jvm.Cond.code ({ cls := "MistCouriersModel", name := "give", desc := "(III)I" } : Jvm.MethodName) prog_16_method_136_code (4 : Nat) (Option.some Jvm.ClassFile.FieldType.int)) ∈ lw_all := lw_g (lw_at lw_m13 78 rfl) rfl
theorem q3110 : (Jvm.Cond.instanceMethod ({ cls := "MistCouriersModel", name := "lay", desc := "(II)I" } : Jvm.MethodName)) ∈ lw_all := lw_g (lw_at lw_m13 80 rfl) rfl
theorem q3111 : (Jvm.Cond.selects "MistCouriersModel" ({ cls := "MistCouriersModel", name := "lay", desc := "(II)I" } : Jvm.MethodName) ({ cls := "MistCouriersModel", name := "lay", desc := "(II)I" } : Jvm.MethodName)) ∈ lw_all := lw_g (lw_at lw_m13 81 rfl) rfl
theorem q3112 : (Jvm.Cond.code ({ cls := "MistCouriersModel", name := "lay", desc := "(II)I" } : Jvm.MethodName) prog_16_method_137_code (3 : Nat) (Option.some Jvm.ClassFile.FieldType.int)) ∈ lw_all := lw_g (lw_at lw_m13 82 rfl) rfl
theorem q3114 : (Jvm.Cond.instanceMethod ({ cls := "MistCouriersModel", name := "pass", desc := "(I)I" } : Jvm.MethodName)) ∈ lw_all := lw_g (lw_at lw_m13 84 rfl) rfl
theorem q3115 : (Jvm.Cond.selects "MistCouriersModel" ({ cls := "MistCouriersModel", name := "pass", desc := "(I)I" } : Jvm.MethodName) ({ cls := "MistCouriersModel", name := "pass", desc := "(I)I" } : Jvm.MethodName)) ∈ lw_all := lw_g (lw_at lw_m13 85 rfl) rfl
theorem q3116 : (Jvm.Cond.code ({ cls := "MistCouriersModel", name := "pass", desc := "(I)I" } : Jvm.MethodName) prog_16_method_138_code (2 : Nat) (Option.some Jvm.ClassFile.FieldType.int)) ∈ lw_all := lw_g (lw_at lw_m13 86 rfl) rfl
theorem q3118 : (Jvm.Cond.instanceMethod ({ cls := "MistCouriersModel", name := "write", desc := "(I)I" } : Jvm.MethodName)) ∈ lw_all := lw_g (lw_at lw_m13 88 rfl) rfl
theorem q3119 : (Jvm.Cond.selects "MistCouriersModel" ({ cls := "MistCouriersModel", name := "write", desc := "(I)I" } : Jvm.MethodName) ({ cls := "MistCouriersModel", name := "write", desc := "(I)I" } : Jvm.MethodName)) ∈ lw_all := lw_g (lw_at lw_m13 89 rfl) rfl
theorem q3120 : (Jvm.Cond.code ({ cls := "MistCouriersModel", name := "write", desc := "(I)I" } : Jvm.MethodName) prog_16_method_142_code (3 : Nat) (Option.some Jvm.ClassFile.FieldType.int)) ∈ lw_all := lw_g (lw_at lw_m13 90 rfl) rfl
theorem q3121 : (Jvm.Cond.methodLink "MistCouriersModel" (461 : Nat) ({ cls := "MistCouriersModel", name := "signOf", desc := "(I)I" } : Jvm.MethodName)) ∈ lw_all := lw_g (lw_at lw_m13 91 rfl) rfl
theorem q3122 : (Jvm.Cond.privateMethod ({ cls := "MistCouriersModel", name := "signOf", desc := "(I)I" } : Jvm.MethodName)) ∈ lw_tbl := lw_at lw_m13 92 rfl
theorem q3123 : (Jvm.Cond.instanceMethod ({ cls := "MistCouriersModel", name := "signOf", desc := "(I)I" } : Jvm.MethodName)) ∈ lw_all := lw_g (lw_at lw_m13 93 rfl) rfl
theorem q3124 : (Jvm.Cond.code ({ cls := "MistCouriersModel", name := "signOf", desc := "(I)I" } : Jvm.MethodName) prog_16_method_141_code (2 : Nat) (Option.some Jvm.ClassFile.FieldType.int)) ∈ lw_all := lw_g (lw_at lw_m13 94 rfl) rfl
theorem q3125 : (Jvm.Cond.methodLink "MistCouriersModel" (452 : Nat) ({ cls := "MistCouriersModel", name := "lowestCourierOn", desc := "(I)I" } : Jvm.MethodName)) ∈ lw_all := lw_g (lw_at lw_m13 95 rfl) rfl
theorem q3126 : (Jvm.Cond.privateMethod ({ cls := "MistCouriersModel", name := "lowestCourierOn", desc := "(I)I" } : Jvm.MethodName)) ∈ lw_tbl := lw_at lw_m13 96 rfl
theorem q3127 : (Jvm.Cond.instanceMethod ({ cls := "MistCouriersModel", name := "lowestCourierOn", desc := "(I)I" } : Jvm.MethodName)) ∈ lw_all := lw_g (lw_at lw_m13 97 rfl) rfl
theorem q3128 : (Jvm.Cond.code ({ cls := "MistCouriersModel", name := "lowestCourierOn", desc := "(I)I" } : Jvm.MethodName) prog_16_method_139_code (3 : Nat) (Option.some Jvm.ClassFile.FieldType.int)) ∈ lw_all := lw_g (lw_at lw_m13 98 rfl) rfl
theorem q3129 : (Jvm.Cond.methodLink "MistCouriersModel" (455 : Nat) ({ cls := "MistCouriersModel", name := "lowestWatcherOn", desc := "(I)I" } : Jvm.MethodName)) ∈ lw_all := lw_g (lw_at lw_m13 99 rfl) rfl
theorem q3130 : (Jvm.Cond.privateMethod ({ cls := "MistCouriersModel", name := "lowestWatcherOn", desc := "(I)I" } : Jvm.MethodName)) ∈ lw_tbl := lw_at lw_m13 100 rfl
theorem q3131 : (Jvm.Cond.instanceMethod ({ cls := "MistCouriersModel", name := "lowestWatcherOn", desc := "(I)I" } : Jvm.MethodName)) ∈ lw_all := lw_g (lw_at lw_m13 101 rfl) rfl
theorem q3132 : (Jvm.Cond.code ({ cls := "MistCouriersModel", name := "lowestWatcherOn", desc := "(I)I" } : Jvm.MethodName) prog_16_method_140_code (3 : Nat) (Option.some Jvm.ClassFile.FieldType.int)) ∈ lw_all := lw_g (lw_at lw_m13 102 rfl) rfl
theorem q3134 : (Jvm.Cond.instanceMethod ({ cls := "MistCouriersModel", name := "output", desc := "(I)I" } : Jvm.MethodName)) ∈ lw_all := lw_g (lw_at lw_m13 104 rfl) rfl
theorem q3135 : (Jvm.Cond.selects "MistCouriersModel" ({ cls := "MistCouriersModel", name := "output", desc := "(I)I" } : Jvm.MethodName) ({ cls := "MistCouriersModel", name := "output", desc := "(I)I" } : Jvm.MethodName)) ∈ lw_all := lw_g (lw_at lw_m13 105 rfl) rfl
theorem q3136 : (Jvm.Cond.code ({ cls := "MistCouriersModel", name := "output", desc := "(I)I" } : Jvm.MethodName) prog_16_method_143_code (2 : Nat) (Option.some Jvm.ClassFile.FieldType.int)) ∈ lw_all := lw_g (lw_at lw_m13 106 rfl) rfl
theorem q3138 : (Jvm.Cond.instanceMethod ({ cls := "MistCouriersModel", name := "undo", desc := "()I" } : Jvm.MethodName)) ∈ lw_all := lw_g (lw_at lw_m13 108 rfl) rfl
theorem q3139 : (Jvm.Cond.selects "MistCouriersModel" ({ cls := "MistCouriersModel", name := "undo", desc := "()I" } : Jvm.MethodName) ({ cls := "MistCouriersModel", name := "undo", desc := "()I" } : Jvm.MethodName)) ∈ lw_all := lw_g (lw_at lw_m13 109 rfl) rfl
theorem q3140 : (Jvm.Cond.code ({ cls := "MistCouriersModel", name := "undo", desc := "()I" } : Jvm.MethodName) prog_16_method_144_code (1 : Nat) (Option.some Jvm.ClassFile.FieldType.int)) ∈ lw_all := lw_g (lw_at lw_m13 110 rfl) rfl
theorem q3142 : (Jvm.Cond.instanceMethod ({ cls := "MistCouriersModel", name := "save", desc := "(I)V" } : Jvm.MethodName)) ∈ lw_all := lw_g (lw_at lw_m13 112 rfl) rfl
theorem q3143 : (Jvm.Cond.selects "MistCouriersModel" ({ cls := "MistCouriersModel", name := "save", desc := "(I)V" } : Jvm.MethodName) ({ cls := "MistCouriersModel", name := "save", desc := "(I)V" } : Jvm.MethodName)) ∈ lw_all := lw_g (lw_at lw_m13 113 rfl) rfl
theorem q3144 : (Jvm.Cond.code ({ cls := "MistCouriersModel", name := "save", desc := "(I)V" } : Jvm.MethodName) prog_16_method_145_code (2 : Nat) (Option.none : Option Jvm.ClassFile.FieldType)) ∈ lw_all := lw_g (lw_at lw_m13 114 rfl) rfl
theorem q3146 : (Jvm.Cond.instanceMethod ({ cls := "MistCouriersModel", name := "restore", desc := "(I)V" } : Jvm.MethodName)) ∈ lw_all := lw_g (lw_at lw_m13 116 rfl) rfl
theorem q3147 : (Jvm.Cond.selects "MistCouriersModel" ({ cls := "MistCouriersModel", name := "restore", desc := "(I)V" } : Jvm.MethodName) ({ cls := "MistCouriersModel", name := "restore", desc := "(I)V" } : Jvm.MethodName)) ∈ lw_all := lw_g (lw_at lw_m13 117 rfl) rfl
theorem q3148 : (Jvm.Cond.code ({ cls := "MistCouriersModel", name := "restore", desc := "(I)V" } : Jvm.MethodName) prog_16_method_146_code (2 : Nat) (Option.none : Option Jvm.ClassFile.FieldType)) ∈ lw_all := lw_g (lw_at lw_m13 118 rfl) rfl
theorem q3188 : (Jvm.Cond.castable "MistCouriersModel" "java/lang/Object") ∈ lw_tbl := lw_at lw_m13 158 rfl
theorem q191 : (Jvm.Cond.initialized "MistCouriers$Token") ∈ lw_all := lw_g (lw_at lw_m1 41 rfl) rfl
theorem q737 : (Jvm.Cond.selects "MistCouriers$Token" ({ cls := "java/lang/Object", name := "getClass", desc := "()Ljava/lang/Class;" } : Jvm.MethodName) ({ cls := "java/lang/Object", name := "getClass", desc := "()Ljava/lang/Class;" } : Jvm.MethodName)) ∈ lw_all := lw_g (lw_at lw_m3 107 rfl) rfl
theorem q844 : (Jvm.Cond.selects "MistCouriers$Token" ({ cls := "java/lang/Object", name := "hashCode", desc := "()I" } : Jvm.MethodName) ({ cls := "java/lang/Enum", name := "hashCode", desc := "()I" } : Jvm.MethodName)) ∈ lw_all := lw_g (lw_at lw_m3 214 rfl) rfl
theorem q939 : (Jvm.Cond.selects "MistCouriers$Token" ({ cls := "java/lang/Object", name := "equals", desc := "(Ljava/lang/Object;)Z" } : Jvm.MethodName) ({ cls := "java/lang/Enum", name := "equals", desc := "(Ljava/lang/Object;)Z" } : Jvm.MethodName)) ∈ lw_all := lw_g (lw_at lw_m4 69 rfl) rfl
theorem q988 : (Jvm.Cond.castable "MistCouriers$Token" "java/lang/Comparable") ∈ lw_tbl := lw_at lw_m4 118 rfl
theorem q989 : (Jvm.Cond.selects "MistCouriers$Token" ({ cls := "java/lang/Comparable", name := "compareTo", desc := "(Ljava/lang/Object;)I" } : Jvm.MethodName) ({ cls := "java/lang/Enum", name := "compareTo", desc := "(Ljava/lang/Object;)I" } : Jvm.MethodName)) ∈ lw_all := lw_g (lw_at lw_m4 119 rfl) rfl
theorem q990 : (Jvm.Cond.unhidden "MistCouriers$Token" "compareTo" "(Ljava/lang/Object;)I") ∈ lw_tbl := lw_at lw_m4 120 rfl
theorem q998 : (Jvm.Cond.selects "MistCouriers$Token" ({ cls := "java/lang/Enum", name := "compareTo", desc := "(Ljava/lang/Enum;)I" } : Jvm.MethodName) ({ cls := "java/lang/Enum", name := "compareTo", desc := "(Ljava/lang/Enum;)I" } : Jvm.MethodName)) ∈ lw_all := lw_g (lw_at lw_m4 128 rfl) rfl
theorem q1004 : (Jvm.Cond.selects "MistCouriers$Token" ({ cls := "java/lang/Enum", name := "getDeclaringClass", desc := "()Ljava/lang/Class;" } : Jvm.MethodName) ({ cls := "java/lang/Enum", name := "getDeclaringClass", desc := "()Ljava/lang/Class;" } : Jvm.MethodName)) ∈ lw_all := lw_g (lw_at lw_m4 134 rfl) rfl
theorem q1608 : (Jvm.Cond.laysStatic "MistCouriers$Token" "END" "LMistCouriers$Token;") ∈ lw_tbl := lw_at lw_m7 18 rfl
theorem q1641 : (Jvm.Cond.laysStatic "MistCouriers$Token" "WORD" "LMistCouriers$Token;") ∈ lw_tbl := lw_at lw_m7 51 rfl
theorem q1649 : (Jvm.Cond.laysStatic "MistCouriers$Token" "NUMBER" "LMistCouriers$Token;") ∈ lw_tbl := lw_at lw_m7 59 rfl
theorem q1651 : (Jvm.Cond.laysStatic "MistCouriers$Token" "SEMICOLON" "LMistCouriers$Token;") ∈ lw_tbl := lw_at lw_m7 61 rfl
theorem q1653 : (Jvm.Cond.laysStatic "MistCouriers$Token" "BAD" "LMistCouriers$Token;") ∈ lw_tbl := lw_at lw_m7 63 rfl
theorem q3169 : (Jvm.Cond.castable "MistCouriers$Token" "java/lang/Enum") ∈ lw_tbl := lw_at lw_m13 139 rfl
theorem q3191 : (Jvm.Cond.castable "MistCouriers$Token" "java/lang/Object") ∈ lw_tbl := lw_at lw_m13 161 rfl
theorem q418 : (Jvm.Cond.sameMethod "[B" "java/lang/Object" "clone" "()Ljava/lang/Object;") ∈ lw_all := lw_g (lw_at lw_m2 28 rfl) rfl
theorem q421 : (Jvm.Cond.selects "[B" ({ cls := "[B", name := "clone", desc := "()Ljava/lang/Object;" } : Jvm.MethodName) ({ cls := "java/lang/Object", name := "clone", desc := "()Ljava/lang/Object;" } : Jvm.MethodName)) ∈ lw_all := lw_g (lw_at lw_m2 31 rfl) rfl
theorem q422 : (Jvm.Cond.castable "[B" "java/lang/Cloneable") ∈ lw_tbl := lw_at lw_m2 32 rfl
theorem q3207 : (Jvm.Cond.castable "[B" "java/lang/Object") ∈ lw_tbl := lw_at lw_m13 177 rfl
theorem q1922 : (Jvm.Cond.sameMethod "[I" "java/lang/Object" "clone" "()Ljava/lang/Object;") ∈ lw_all := lw_g (lw_at lw_m8 92 rfl) rfl
theorem q1923 : (Jvm.Cond.selects "[I" ({ cls := "[I", name := "clone", desc := "()Ljava/lang/Object;" } : Jvm.MethodName) ({ cls := "java/lang/Object", name := "clone", desc := "()Ljava/lang/Object;" } : Jvm.MethodName)) ∈ lw_all := lw_g (lw_at lw_m8 93 rfl) rfl
theorem q1924 : (Jvm.Cond.castable "[I" "java/lang/Cloneable") ∈ lw_tbl := lw_at lw_m8 94 rfl
theorem q3205 : (Jvm.Cond.castable "[I" "java/lang/Object") ∈ lw_tbl := lw_at lw_m13 175 rfl
theorem q3209 : (Jvm.Cond.castable "[J" "java/lang/Object") ∈ lw_tbl := lw_at lw_m13 179 rfl
theorem q3204 : (Jvm.Cond.castable "[LMistCouriers$State;" "java/lang/Object") ∈ lw_tbl := lw_at lw_m13 174 rfl
theorem q3200 : (Jvm.Cond.sameMethod "[Ljava/lang/Object;" "java/lang/Object" "getClass" "()Ljava/lang/Class;") ∈ lw_all := lw_g (lw_at lw_m13 170 rfl) rfl
theorem q3201 : (Jvm.Cond.selects "[Ljava/lang/Object;" ({ cls := "java/lang/Object", name := "getClass", desc := "()Ljava/lang/Class;" } : Jvm.MethodName) ({ cls := "java/lang/Object", name := "getClass", desc := "()Ljava/lang/Class;" } : Jvm.MethodName)) ∈ lw_all := lw_g (lw_at lw_m13 171 rfl) rfl
theorem q3203 : (Jvm.Cond.castable "[Ljava/lang/Object;" "java/lang/Object") ∈ lw_tbl := lw_at lw_m13 173 rfl
theorem q3208 : (Jvm.Cond.castable "[Ljava/util/HashMap$Node;" "java/lang/Object") ∈ lw_tbl := lw_at lw_m13 178 rfl
theorem q3206 : (Jvm.Cond.castable "[Z" "java/lang/Object") ∈ lw_tbl := lw_at lw_m13 176 rfl
theorem q986 : (Jvm.Cond.interfaceMethod "java/lang/Comparable" "java/lang/Comparable" "compareTo" "(Ljava/lang/Object;)I") ∈ lw_tbl := lw_at lw_m4 116 rfl
theorem q987 : (Jvm.Cond.declares ({ cls := "java/lang/Comparable", name := "compareTo", desc := "(Ljava/lang/Object;)I" } : Jvm.MethodName)) ∈ lw_tbl := lw_at lw_m4 117 rfl
theorem q174 : (Jvm.Cond.initialized "java/lang/Number") ∈ lw_all := lw_g (lw_at lw_m1 24 rfl) rfl
theorem q171 : (Jvm.Cond.initialized "java/lang/System") ∈ lw_all := lw_g (lw_at lw_m1 21 rfl) rfl
theorem q428 : (Jvm.Cond.static ({ cls := "java/lang/System", name := "arraycopy", desc := "(Ljava/lang/Object;ILjava/lang/Object;II)V" } : Jvm.MethodName)) ∈ lw_all := lw_g (lw_at lw_m2 38 rfl) rfl
theorem q429 : (Jvm.Cond.native ({ cls := "java/lang/System", name := "arraycopy", desc := "(Ljava/lang/Object;ILjava/lang/Object;II)V" } : Jvm.MethodName)) ∈ lw_all := lw_g (lw_at lw_m2 39 rfl) rfl
theorem q848 : (Jvm.Cond.static ({ cls := "java/lang/System", name := "identityHashCode", desc := "(Ljava/lang/Object;)I" } : Jvm.MethodName)) ∈ lw_all := lw_g (lw_at lw_m3 218 rfl) rfl
theorem q849 : (Jvm.Cond.native ({ cls := "java/lang/System", name := "identityHashCode", desc := "(Ljava/lang/Object;)I" } : Jvm.MethodName)) ∈ lw_all := lw_g (lw_at lw_m3 219 rfl) rfl
theorem q881 : (Jvm.Cond.interfaceMethod "jdk/internal/access/JavaLangAccess" "jdk/internal/access/JavaLangAccess" "getUTF16Char" "([BI)C") ∈ lw_tbl := lw_at lw_m4 11 rfl
theorem q882 : (Jvm.Cond.declares ({ cls := "jdk/internal/access/JavaLangAccess", name := "getUTF16Char", desc := "([BI)C" } : Jvm.MethodName)) ∈ lw_tbl := lw_at lw_m4 12 rfl
theorem q180 : (Jvm.Cond.initialized "jdk/internal/misc/UnsafeConstants") ∈ lw_all := lw_g (lw_at lw_m1 30 rfl) rfl
theorem q1063 : (Jvm.Cond.laysStatic "jdk/internal/misc/UnsafeConstants" "BIG_ENDIAN" "Z") ∈ lw_tbl := lw_at lw_m4 193 rfl
theorem q218 : (Jvm.Cond.arrayOver (Jvm.ClassFile.FieldType.object "java/lang/Object")) ∈ lw_tbl := lw_at lw_m1 68 rfl
theorem q230 : (Jvm.Cond.arrayOver (Jvm.ClassFile.FieldType.object "MistCouriers$State")) ∈ lw_tbl := lw_at lw_m1 80 rfl
theorem q270 : (Jvm.Cond.arrayClass Jvm.ClassFile.FieldType.int) ∈ lw_all := lw_g (lw_at lw_m1 120 rfl) rfl
theorem q289 : (Jvm.Cond.arrayClass Jvm.ClassFile.FieldType.boolean) ∈ lw_all := lw_g (lw_at lw_m1 139 rfl) rfl
theorem q382 : (Jvm.Cond.arrayClass Jvm.ClassFile.FieldType.byte) ∈ lw_all := lw_g (lw_at lw_m1 232 rfl) rfl
theorem q1200 : (Jvm.Cond.arrayOver (Jvm.ClassFile.FieldType.object "java/util/HashMap$Node")) ∈ lw_tbl := lw_at lw_m5 90 rfl
theorem q3149 : (Jvm.Cond.arrayClass Jvm.ClassFile.FieldType.long) ∈ lw_all := lw_g (lw_at lw_m13 119 rfl) rfl
theorem q3210 : (Jvm.Cond.arrayClass Jvm.ClassFile.FieldType.char) ∈ lw_all := lw_g (lw_at lw_m13 180 rfl) rfl
theorem q3211 : (Jvm.Cond.arrayClass Jvm.ClassFile.FieldType.short) ∈ lw_all := lw_g (lw_at lw_m13 181 rfl) rfl
