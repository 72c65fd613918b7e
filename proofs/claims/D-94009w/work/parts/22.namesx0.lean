section
/-! WoolThreadsLaw -/
set_option maxRecDepth 100000
def RX0 : String := "WoolThreadsLaw"
abbrev cX0_law : ByteArray := method_3_code
def yX0_law : MethodName := ⟨RX0, "law", "(LWoolThreads;I[J)I"⟩
def dkwX0_law_0 : List UInt8 := [44, 3, 42, 27, 182, 0, 7, 133, 80, 167, 0, 6, 78, 4, 172, 3, 172]
abbrev dktX0_law_0 : List UInt8 := dkwX0_law_0 ++ []
theorem dksX0_law_0 : cX0_law.data.toList.drop 0 = dktX0_law_0 := by decide +kernel
theorem dX0_law_0 : decode cX0_law 0 = .ok (.aload_n 2, 1) := dk_44 (dk_at dksX0_law_0 0 rfl rfl)
theorem dX0_law_1 : decode cX0_law 1 = .ok (.iconst 0, 1) := dk_3 (dk_at dksX0_law_0 1 rfl rfl)
theorem dX0_law_2 : decode cX0_law 2 = .ok (.aload_n 0, 1) := dk_42 (dk_at dksX0_law_0 2 rfl rfl)
theorem dX0_law_3 : decode cX0_law 3 = .ok (.iload_n 1, 1) := dk_27 (dk_at dksX0_law_0 3 rfl rfl)
theorem dX0_law_4 : decode cX0_law 4 = .ok (.invokevirtual 7, 3) := dk_182 0 7 (dk_at dksX0_law_0 4 rfl rfl)
theorem dX0_law_7 : decode cX0_law 7 = .ok (.i2l, 1) := dk_133 (dk_at dksX0_law_0 7 rfl rfl)
theorem dX0_law_8 : decode cX0_law 8 = .ok (.lastore, 1) := dk_80 (dk_at dksX0_law_0 8 rfl rfl)
theorem dX0_law_9 : decode cX0_law 9 = .ok (.goto 6, 3) := dk_167 0 6 (dk_at dksX0_law_0 9 rfl rfl)
theorem dX0_law_12 : decode cX0_law 12 = .ok (.astore_n 3, 1) := dk_78 (dk_at dksX0_law_0 12 rfl rfl)
theorem dX0_law_13 : decode cX0_law 13 = .ok (.iconst 1, 1) := dk_4 (dk_at dksX0_law_0 13 rfl rfl)
theorem dX0_law_14 : decode cX0_law 14 = .ok (.ireturn, 1) := dk_172 (dk_at dksX0_law_0 14 rfl rfl)
theorem dX0_law_15 : decode cX0_law 15 = .ok (.iconst 0, 1) := dk_3 (dk_at dksX0_law_0 15 rfl rfl)
theorem dX0_law_16 : decode cX0_law 16 = .ok (.ireturn, 1) := dk_172 (dk_at dksX0_law_0 16 rfl rfl)
abbrev cX0_story : ByteArray := method_4_code
def yX0_story : MethodName := ⟨RX0, "story", "(LWoolThreads;I[J)I"⟩
def dkwX0_story_0 : List UInt8 := [44, 3, 42, 27, 182, 0, 15, 133, 80, 167, 0, 6, 78, 4, 172, 3, 172]
abbrev dktX0_story_0 : List UInt8 := dkwX0_story_0 ++ []
theorem dksX0_story_0 : cX0_story.data.toList.drop 0 = dktX0_story_0 := by decide +kernel
theorem dX0_story_0 : decode cX0_story 0 = .ok (.aload_n 2, 1) := dk_44 (dk_at dksX0_story_0 0 rfl rfl)
theorem dX0_story_1 : decode cX0_story 1 = .ok (.iconst 0, 1) := dk_3 (dk_at dksX0_story_0 1 rfl rfl)
theorem dX0_story_2 : decode cX0_story 2 = .ok (.aload_n 0, 1) := dk_42 (dk_at dksX0_story_0 2 rfl rfl)
theorem dX0_story_3 : decode cX0_story 3 = .ok (.iload_n 1, 1) := dk_27 (dk_at dksX0_story_0 3 rfl rfl)
theorem dX0_story_4 : decode cX0_story 4 = .ok (.invokevirtual 15, 3) := dk_182 0 15 (dk_at dksX0_story_0 4 rfl rfl)
theorem dX0_story_7 : decode cX0_story 7 = .ok (.i2l, 1) := dk_133 (dk_at dksX0_story_0 7 rfl rfl)
theorem dX0_story_8 : decode cX0_story 8 = .ok (.lastore, 1) := dk_80 (dk_at dksX0_story_0 8 rfl rfl)
theorem dX0_story_9 : decode cX0_story 9 = .ok (.goto 6, 3) := dk_167 0 6 (dk_at dksX0_story_0 9 rfl rfl)
theorem dX0_story_12 : decode cX0_story 12 = .ok (.astore_n 3, 1) := dk_78 (dk_at dksX0_story_0 12 rfl rfl)
theorem dX0_story_13 : decode cX0_story 13 = .ok (.iconst 1, 1) := dk_4 (dk_at dksX0_story_0 13 rfl rfl)
theorem dX0_story_14 : decode cX0_story 14 = .ok (.ireturn, 1) := dk_172 (dk_at dksX0_story_0 14 rfl rfl)
theorem dX0_story_15 : decode cX0_story 15 = .ok (.iconst 0, 1) := dk_3 (dk_at dksX0_story_0 15 rfl rfl)
theorem dX0_story_16 : decode cX0_story 16 = .ok (.ireturn, 1) := dk_172 (dk_at dksX0_story_0 16 rfl rfl)
abbrev cX0_sheds : ByteArray := method_5_code
def yX0_sheds : MethodName := ⟨RX0, "sheds", "(LWoolThreads;II[J)I"⟩
def dkwX0_sheds_0 : List UInt8 := [45, 3, 42, 27, 28, 182, 0, 18, 133, 80, 167, 0, 7, 58, 4, 4, 172, 3, 172]
abbrev dktX0_sheds_0 : List UInt8 := dkwX0_sheds_0 ++ []
theorem dksX0_sheds_0 : cX0_sheds.data.toList.drop 0 = dktX0_sheds_0 := by decide +kernel
theorem dX0_sheds_0 : decode cX0_sheds 0 = .ok (.aload_n 3, 1) := dk_45 (dk_at dksX0_sheds_0 0 rfl rfl)
theorem dX0_sheds_1 : decode cX0_sheds 1 = .ok (.iconst 0, 1) := dk_3 (dk_at dksX0_sheds_0 1 rfl rfl)
theorem dX0_sheds_2 : decode cX0_sheds 2 = .ok (.aload_n 0, 1) := dk_42 (dk_at dksX0_sheds_0 2 rfl rfl)
theorem dX0_sheds_3 : decode cX0_sheds 3 = .ok (.iload_n 1, 1) := dk_27 (dk_at dksX0_sheds_0 3 rfl rfl)
theorem dX0_sheds_4 : decode cX0_sheds 4 = .ok (.iload_n 2, 1) := dk_28 (dk_at dksX0_sheds_0 4 rfl rfl)
theorem dX0_sheds_5 : decode cX0_sheds 5 = .ok (.invokevirtual 18, 3) := dk_182 0 18 (dk_at dksX0_sheds_0 5 rfl rfl)
theorem dX0_sheds_8 : decode cX0_sheds 8 = .ok (.i2l, 1) := dk_133 (dk_at dksX0_sheds_0 8 rfl rfl)
theorem dX0_sheds_9 : decode cX0_sheds 9 = .ok (.lastore, 1) := dk_80 (dk_at dksX0_sheds_0 9 rfl rfl)
theorem dX0_sheds_10 : decode cX0_sheds 10 = .ok (.goto 7, 3) := dk_167 0 7 (dk_at dksX0_sheds_0 10 rfl rfl)
theorem dX0_sheds_13 : decode cX0_sheds 13 = .ok (.astore 4, 2) := dk_58 4 (dk_at dksX0_sheds_0 13 rfl rfl)
theorem dX0_sheds_15 : decode cX0_sheds 15 = .ok (.iconst 1, 1) := dk_4 (dk_at dksX0_sheds_0 15 rfl rfl)
theorem dX0_sheds_16 : decode cX0_sheds 16 = .ok (.ireturn, 1) := dk_172 (dk_at dksX0_sheds_0 16 rfl rfl)
theorem dX0_sheds_17 : decode cX0_sheds 17 = .ok (.iconst 0, 1) := dk_3 (dk_at dksX0_sheds_0 17 rfl rfl)
theorem dX0_sheds_18 : decode cX0_sheds 18 = .ok (.ireturn, 1) := dk_172 (dk_at dksX0_sheds_0 18 rfl rfl)
abbrev cX0_told : ByteArray := method_6_code
def yX0_told : MethodName := ⟨RX0, "told", "(LWoolThreads;II[J)I"⟩
def dkwX0_told_0 : List UInt8 := [45, 3, 42, 27, 28, 182, 0, 22, 133, 80, 167, 0, 7, 58, 4, 4, 172, 3, 172]
abbrev dktX0_told_0 : List UInt8 := dkwX0_told_0 ++ []
theorem dksX0_told_0 : cX0_told.data.toList.drop 0 = dktX0_told_0 := by decide +kernel
theorem dX0_told_0 : decode cX0_told 0 = .ok (.aload_n 3, 1) := dk_45 (dk_at dksX0_told_0 0 rfl rfl)
theorem dX0_told_1 : decode cX0_told 1 = .ok (.iconst 0, 1) := dk_3 (dk_at dksX0_told_0 1 rfl rfl)
theorem dX0_told_2 : decode cX0_told 2 = .ok (.aload_n 0, 1) := dk_42 (dk_at dksX0_told_0 2 rfl rfl)
theorem dX0_told_3 : decode cX0_told 3 = .ok (.iload_n 1, 1) := dk_27 (dk_at dksX0_told_0 3 rfl rfl)
theorem dX0_told_4 : decode cX0_told 4 = .ok (.iload_n 2, 1) := dk_28 (dk_at dksX0_told_0 4 rfl rfl)
theorem dX0_told_5 : decode cX0_told 5 = .ok (.invokevirtual 22, 3) := dk_182 0 22 (dk_at dksX0_told_0 5 rfl rfl)
theorem dX0_told_8 : decode cX0_told 8 = .ok (.i2l, 1) := dk_133 (dk_at dksX0_told_0 8 rfl rfl)
theorem dX0_told_9 : decode cX0_told 9 = .ok (.lastore, 1) := dk_80 (dk_at dksX0_told_0 9 rfl rfl)
theorem dX0_told_10 : decode cX0_told 10 = .ok (.goto 7, 3) := dk_167 0 7 (dk_at dksX0_told_0 10 rfl rfl)
theorem dX0_told_13 : decode cX0_told 13 = .ok (.astore 4, 2) := dk_58 4 (dk_at dksX0_told_0 13 rfl rfl)
theorem dX0_told_15 : decode cX0_told 15 = .ok (.iconst 1, 1) := dk_4 (dk_at dksX0_told_0 15 rfl rfl)
theorem dX0_told_16 : decode cX0_told 16 = .ok (.ireturn, 1) := dk_172 (dk_at dksX0_told_0 16 rfl rfl)
theorem dX0_told_17 : decode cX0_told 17 = .ok (.iconst 0, 1) := dk_3 (dk_at dksX0_told_0 17 rfl rfl)
theorem dX0_told_18 : decode cX0_told 18 = .ok (.ireturn, 1) := dk_172 (dk_at dksX0_told_0 18 rfl rfl)
abbrev cX0_alike : ByteArray := method_7_code
def yX0_alike : MethodName := ⟨RX0, "alike", "(LWoolThreads;I[J)I"⟩
def dkwX0_alike_0 : List UInt8 := [44, 3, 42, 27, 182, 0, 25, 133, 80, 167, 0, 6, 78, 4, 172, 3, 172]
abbrev dktX0_alike_0 : List UInt8 := dkwX0_alike_0 ++ []
theorem dksX0_alike_0 : cX0_alike.data.toList.drop 0 = dktX0_alike_0 := by decide +kernel
theorem dX0_alike_0 : decode cX0_alike 0 = .ok (.aload_n 2, 1) := dk_44 (dk_at dksX0_alike_0 0 rfl rfl)
theorem dX0_alike_1 : decode cX0_alike 1 = .ok (.iconst 0, 1) := dk_3 (dk_at dksX0_alike_0 1 rfl rfl)
theorem dX0_alike_2 : decode cX0_alike 2 = .ok (.aload_n 0, 1) := dk_42 (dk_at dksX0_alike_0 2 rfl rfl)
theorem dX0_alike_3 : decode cX0_alike 3 = .ok (.iload_n 1, 1) := dk_27 (dk_at dksX0_alike_0 3 rfl rfl)
theorem dX0_alike_4 : decode cX0_alike 4 = .ok (.invokevirtual 25, 3) := dk_182 0 25 (dk_at dksX0_alike_0 4 rfl rfl)
theorem dX0_alike_7 : decode cX0_alike 7 = .ok (.i2l, 1) := dk_133 (dk_at dksX0_alike_0 7 rfl rfl)
theorem dX0_alike_8 : decode cX0_alike 8 = .ok (.lastore, 1) := dk_80 (dk_at dksX0_alike_0 8 rfl rfl)
theorem dX0_alike_9 : decode cX0_alike 9 = .ok (.goto 6, 3) := dk_167 0 6 (dk_at dksX0_alike_0 9 rfl rfl)
theorem dX0_alike_12 : decode cX0_alike 12 = .ok (.astore_n 3, 1) := dk_78 (dk_at dksX0_alike_0 12 rfl rfl)
theorem dX0_alike_13 : decode cX0_alike 13 = .ok (.iconst 1, 1) := dk_4 (dk_at dksX0_alike_0 13 rfl rfl)
theorem dX0_alike_14 : decode cX0_alike 14 = .ok (.ireturn, 1) := dk_172 (dk_at dksX0_alike_0 14 rfl rfl)
theorem dX0_alike_15 : decode cX0_alike 15 = .ok (.iconst 0, 1) := dk_3 (dk_at dksX0_alike_0 15 rfl rfl)
theorem dX0_alike_16 : decode cX0_alike 16 = .ok (.ireturn, 1) := dk_172 (dk_at dksX0_alike_0 16 rfl rfl)
abbrev cX0_lies : ByteArray := method_8_code
def yX0_lies : MethodName := ⟨RX0, "lies", "(LWoolThreads;IIII[J)I"⟩
def dkwX0_lies_1 : List UInt8 := [172, 3, 172]
abbrev dktX0_lies_1 : List UInt8 := dkwX0_lies_1 ++ []
def dkwX0_lies_0 : List UInt8 := [25, 5, 3, 42, 27, 28, 29, 21, 4, 182, 0, 28, 133, 80, 167, 0, 11, 58, 6, 4, 172, 58, 6, 5]
abbrev dktX0_lies_0 : List UInt8 := dkwX0_lies_0 ++ dktX0_lies_1
theorem dksX0_lies_0 : cX0_lies.data.toList.drop 0 = dktX0_lies_0 := by decide +kernel
theorem dksX0_lies_1 : cX0_lies.data.toList.drop 24 = dktX0_lies_1 := dk_seg dksX0_lies_0 24 rfl rfl
theorem dX0_lies_0 : decode cX0_lies 0 = .ok (.aload 5, 2) := dk_25 5 (dk_at dksX0_lies_0 0 rfl rfl)
theorem dX0_lies_2 : decode cX0_lies 2 = .ok (.iconst 0, 1) := dk_3 (dk_at dksX0_lies_0 2 rfl rfl)
theorem dX0_lies_3 : decode cX0_lies 3 = .ok (.aload_n 0, 1) := dk_42 (dk_at dksX0_lies_0 3 rfl rfl)
theorem dX0_lies_4 : decode cX0_lies 4 = .ok (.iload_n 1, 1) := dk_27 (dk_at dksX0_lies_0 4 rfl rfl)
theorem dX0_lies_5 : decode cX0_lies 5 = .ok (.iload_n 2, 1) := dk_28 (dk_at dksX0_lies_0 5 rfl rfl)
theorem dX0_lies_6 : decode cX0_lies 6 = .ok (.iload_n 3, 1) := dk_29 (dk_at dksX0_lies_0 6 rfl rfl)
theorem dX0_lies_7 : decode cX0_lies 7 = .ok (.iload 4, 2) := dk_21 4 (dk_at dksX0_lies_0 7 rfl rfl)
theorem dX0_lies_9 : decode cX0_lies 9 = .ok (.invokevirtual 28, 3) := dk_182 0 28 (dk_at dksX0_lies_0 9 rfl rfl)
theorem dX0_lies_12 : decode cX0_lies 12 = .ok (.i2l, 1) := dk_133 (dk_at dksX0_lies_0 12 rfl rfl)
theorem dX0_lies_13 : decode cX0_lies 13 = .ok (.lastore, 1) := dk_80 (dk_at dksX0_lies_0 13 rfl rfl)
theorem dX0_lies_14 : decode cX0_lies 14 = .ok (.goto 11, 3) := dk_167 0 11 (dk_at dksX0_lies_0 14 rfl rfl)
theorem dX0_lies_17 : decode cX0_lies 17 = .ok (.astore 6, 2) := dk_58 6 (dk_at dksX0_lies_0 17 rfl rfl)
theorem dX0_lies_19 : decode cX0_lies 19 = .ok (.iconst 1, 1) := dk_4 (dk_at dksX0_lies_0 19 rfl rfl)
theorem dX0_lies_20 : decode cX0_lies 20 = .ok (.ireturn, 1) := dk_172 (dk_at dksX0_lies_0 20 rfl rfl)
theorem dX0_lies_21 : decode cX0_lies 21 = .ok (.astore 6, 2) := dk_58 6 (dk_at dksX0_lies_0 21 rfl rfl)
theorem dX0_lies_23 : decode cX0_lies 23 = .ok (.iconst 2, 1) := dk_5 (dk_at dksX0_lies_0 23 rfl rfl)
theorem dX0_lies_24 : decode cX0_lies 24 = .ok (.ireturn, 1) := dk_172 (dk_at dksX0_lies_1 0 rfl rfl)
theorem dX0_lies_25 : decode cX0_lies 25 = .ok (.iconst 0, 1) := dk_3 (dk_at dksX0_lies_1 1 rfl rfl)
theorem dX0_lies_26 : decode cX0_lies 26 = .ok (.ireturn, 1) := dk_172 (dk_at dksX0_lies_1 2 rfl rfl)
abbrev cX0_pile : ByteArray := method_9_code
def yX0_pile : MethodName := ⟨RX0, "pile", "(LWoolThreads;IIII[J)I"⟩
def dkwX0_pile_1 : List UInt8 := [172, 3, 172]
abbrev dktX0_pile_1 : List UInt8 := dkwX0_pile_1 ++ []
def dkwX0_pile_0 : List UInt8 := [25, 5, 3, 42, 27, 28, 29, 21, 4, 182, 0, 34, 133, 80, 167, 0, 11, 58, 6, 4, 172, 58, 6, 5]
abbrev dktX0_pile_0 : List UInt8 := dkwX0_pile_0 ++ dktX0_pile_1
theorem dksX0_pile_0 : cX0_pile.data.toList.drop 0 = dktX0_pile_0 := by decide +kernel
theorem dksX0_pile_1 : cX0_pile.data.toList.drop 24 = dktX0_pile_1 := dk_seg dksX0_pile_0 24 rfl rfl
theorem dX0_pile_0 : decode cX0_pile 0 = .ok (.aload 5, 2) := dk_25 5 (dk_at dksX0_pile_0 0 rfl rfl)
theorem dX0_pile_2 : decode cX0_pile 2 = .ok (.iconst 0, 1) := dk_3 (dk_at dksX0_pile_0 2 rfl rfl)
theorem dX0_pile_3 : decode cX0_pile 3 = .ok (.aload_n 0, 1) := dk_42 (dk_at dksX0_pile_0 3 rfl rfl)
theorem dX0_pile_4 : decode cX0_pile 4 = .ok (.iload_n 1, 1) := dk_27 (dk_at dksX0_pile_0 4 rfl rfl)
theorem dX0_pile_5 : decode cX0_pile 5 = .ok (.iload_n 2, 1) := dk_28 (dk_at dksX0_pile_0 5 rfl rfl)
theorem dX0_pile_6 : decode cX0_pile 6 = .ok (.iload_n 3, 1) := dk_29 (dk_at dksX0_pile_0 6 rfl rfl)
theorem dX0_pile_7 : decode cX0_pile 7 = .ok (.iload 4, 2) := dk_21 4 (dk_at dksX0_pile_0 7 rfl rfl)
theorem dX0_pile_9 : decode cX0_pile 9 = .ok (.invokevirtual 34, 3) := dk_182 0 34 (dk_at dksX0_pile_0 9 rfl rfl)
theorem dX0_pile_12 : decode cX0_pile 12 = .ok (.i2l, 1) := dk_133 (dk_at dksX0_pile_0 12 rfl rfl)
theorem dX0_pile_13 : decode cX0_pile 13 = .ok (.lastore, 1) := dk_80 (dk_at dksX0_pile_0 13 rfl rfl)
theorem dX0_pile_14 : decode cX0_pile 14 = .ok (.goto 11, 3) := dk_167 0 11 (dk_at dksX0_pile_0 14 rfl rfl)
theorem dX0_pile_17 : decode cX0_pile 17 = .ok (.astore 6, 2) := dk_58 6 (dk_at dksX0_pile_0 17 rfl rfl)
theorem dX0_pile_19 : decode cX0_pile 19 = .ok (.iconst 1, 1) := dk_4 (dk_at dksX0_pile_0 19 rfl rfl)
theorem dX0_pile_20 : decode cX0_pile 20 = .ok (.ireturn, 1) := dk_172 (dk_at dksX0_pile_0 20 rfl rfl)
theorem dX0_pile_21 : decode cX0_pile 21 = .ok (.astore 6, 2) := dk_58 6 (dk_at dksX0_pile_0 21 rfl rfl)
theorem dX0_pile_23 : decode cX0_pile 23 = .ok (.iconst 2, 1) := dk_5 (dk_at dksX0_pile_0 23 rfl rfl)
theorem dX0_pile_24 : decode cX0_pile 24 = .ok (.ireturn, 1) := dk_172 (dk_at dksX0_pile_1 0 rfl rfl)
theorem dX0_pile_25 : decode cX0_pile 25 = .ok (.iconst 0, 1) := dk_3 (dk_at dksX0_pile_1 1 rfl rfl)
theorem dX0_pile_26 : decode cX0_pile 26 = .ok (.ireturn, 1) := dk_172 (dk_at dksX0_pile_1 2 rfl rfl)
abbrev cX0_wears : ByteArray := method_10_code
def yX0_wears : MethodName := ⟨RX0, "wears", "(LWoolThreads;III[J)I"⟩
def dkwX0_wears_1 : List UInt8 := [172]
abbrev dktX0_wears_1 : List UInt8 := dkwX0_wears_1 ++ []
def dkwX0_wears_0 : List UInt8 := [25, 4, 3, 42, 27, 28, 29, 182, 0, 37, 133, 80, 167, 0, 11, 58, 5, 4, 172, 58, 5, 5, 172, 3]
abbrev dktX0_wears_0 : List UInt8 := dkwX0_wears_0 ++ dktX0_wears_1
theorem dksX0_wears_0 : cX0_wears.data.toList.drop 0 = dktX0_wears_0 := by decide +kernel
theorem dksX0_wears_1 : cX0_wears.data.toList.drop 24 = dktX0_wears_1 := dk_seg dksX0_wears_0 24 rfl rfl
theorem dX0_wears_0 : decode cX0_wears 0 = .ok (.aload 4, 2) := dk_25 4 (dk_at dksX0_wears_0 0 rfl rfl)
theorem dX0_wears_2 : decode cX0_wears 2 = .ok (.iconst 0, 1) := dk_3 (dk_at dksX0_wears_0 2 rfl rfl)
theorem dX0_wears_3 : decode cX0_wears 3 = .ok (.aload_n 0, 1) := dk_42 (dk_at dksX0_wears_0 3 rfl rfl)
theorem dX0_wears_4 : decode cX0_wears 4 = .ok (.iload_n 1, 1) := dk_27 (dk_at dksX0_wears_0 4 rfl rfl)
theorem dX0_wears_5 : decode cX0_wears 5 = .ok (.iload_n 2, 1) := dk_28 (dk_at dksX0_wears_0 5 rfl rfl)
theorem dX0_wears_6 : decode cX0_wears 6 = .ok (.iload_n 3, 1) := dk_29 (dk_at dksX0_wears_0 6 rfl rfl)
theorem dX0_wears_7 : decode cX0_wears 7 = .ok (.invokevirtual 37, 3) := dk_182 0 37 (dk_at dksX0_wears_0 7 rfl rfl)
theorem dX0_wears_10 : decode cX0_wears 10 = .ok (.i2l, 1) := dk_133 (dk_at dksX0_wears_0 10 rfl rfl)
theorem dX0_wears_11 : decode cX0_wears 11 = .ok (.lastore, 1) := dk_80 (dk_at dksX0_wears_0 11 rfl rfl)
theorem dX0_wears_12 : decode cX0_wears 12 = .ok (.goto 11, 3) := dk_167 0 11 (dk_at dksX0_wears_0 12 rfl rfl)
theorem dX0_wears_15 : decode cX0_wears 15 = .ok (.astore 5, 2) := dk_58 5 (dk_at dksX0_wears_0 15 rfl rfl)
theorem dX0_wears_17 : decode cX0_wears 17 = .ok (.iconst 1, 1) := dk_4 (dk_at dksX0_wears_0 17 rfl rfl)
theorem dX0_wears_18 : decode cX0_wears 18 = .ok (.ireturn, 1) := dk_172 (dk_at dksX0_wears_0 18 rfl rfl)
theorem dX0_wears_19 : decode cX0_wears 19 = .ok (.astore 5, 2) := dk_58 5 (dk_at dksX0_wears_0 19 rfl rfl)
theorem dX0_wears_21 : decode cX0_wears 21 = .ok (.iconst 2, 1) := dk_5 (dk_at dksX0_wears_0 21 rfl rfl)
theorem dX0_wears_22 : decode cX0_wears 22 = .ok (.ireturn, 1) := dk_172 (dk_at dksX0_wears_0 22 rfl rfl)
theorem dX0_wears_23 : decode cX0_wears 23 = .ok (.iconst 0, 1) := dk_3 (dk_at dksX0_wears_0 23 rfl rfl)
theorem dX0_wears_24 : decode cX0_wears 24 = .ok (.ireturn, 1) := dk_172 (dk_at dksX0_wears_1 0 rfl rfl)
abbrev cX0_find : ByteArray := method_11_code
def yX0_find : MethodName := ⟨RX0, "find", "(LWoolThreads;IIII[J)I"⟩
def dkwX0_find_0 : List UInt8 := [25, 5, 3, 42, 27, 28, 29, 21, 4, 182, 0, 41, 133, 80, 167, 0, 7, 58, 6, 4, 172, 3, 172]
abbrev dktX0_find_0 : List UInt8 := dkwX0_find_0 ++ []
theorem dksX0_find_0 : cX0_find.data.toList.drop 0 = dktX0_find_0 := by decide +kernel
theorem dX0_find_0 : decode cX0_find 0 = .ok (.aload 5, 2) := dk_25 5 (dk_at dksX0_find_0 0 rfl rfl)
theorem dX0_find_2 : decode cX0_find 2 = .ok (.iconst 0, 1) := dk_3 (dk_at dksX0_find_0 2 rfl rfl)
theorem dX0_find_3 : decode cX0_find 3 = .ok (.aload_n 0, 1) := dk_42 (dk_at dksX0_find_0 3 rfl rfl)
theorem dX0_find_4 : decode cX0_find 4 = .ok (.iload_n 1, 1) := dk_27 (dk_at dksX0_find_0 4 rfl rfl)
theorem dX0_find_5 : decode cX0_find 5 = .ok (.iload_n 2, 1) := dk_28 (dk_at dksX0_find_0 5 rfl rfl)
theorem dX0_find_6 : decode cX0_find 6 = .ok (.iload_n 3, 1) := dk_29 (dk_at dksX0_find_0 6 rfl rfl)
theorem dX0_find_7 : decode cX0_find 7 = .ok (.iload 4, 2) := dk_21 4 (dk_at dksX0_find_0 7 rfl rfl)
theorem dX0_find_9 : decode cX0_find 9 = .ok (.invokevirtual 41, 3) := dk_182 0 41 (dk_at dksX0_find_0 9 rfl rfl)
theorem dX0_find_12 : decode cX0_find 12 = .ok (.i2l, 1) := dk_133 (dk_at dksX0_find_0 12 rfl rfl)
theorem dX0_find_13 : decode cX0_find 13 = .ok (.lastore, 1) := dk_80 (dk_at dksX0_find_0 13 rfl rfl)
theorem dX0_find_14 : decode cX0_find 14 = .ok (.goto 7, 3) := dk_167 0 7 (dk_at dksX0_find_0 14 rfl rfl)
theorem dX0_find_17 : decode cX0_find 17 = .ok (.astore 6, 2) := dk_58 6 (dk_at dksX0_find_0 17 rfl rfl)
theorem dX0_find_19 : decode cX0_find 19 = .ok (.iconst 1, 1) := dk_4 (dk_at dksX0_find_0 19 rfl rfl)
theorem dX0_find_20 : decode cX0_find 20 = .ok (.ireturn, 1) := dk_172 (dk_at dksX0_find_0 20 rfl rfl)
theorem dX0_find_21 : decode cX0_find 21 = .ok (.iconst 0, 1) := dk_3 (dk_at dksX0_find_0 21 rfl rfl)
theorem dX0_find_22 : decode cX0_find 22 = .ok (.ireturn, 1) := dk_172 (dk_at dksX0_find_0 22 rfl rfl)
abbrev cX0_found : ByteArray := method_12_code
def yX0_found : MethodName := ⟨RX0, "found", "(LWoolThreads;II[J)I"⟩
def dkwX0_found_0 : List UInt8 := [45, 3, 42, 27, 28, 182, 0, 44, 133, 80, 167, 0, 11, 58, 4, 4, 172, 58, 4, 5, 172, 3, 172]
abbrev dktX0_found_0 : List UInt8 := dkwX0_found_0 ++ []
theorem dksX0_found_0 : cX0_found.data.toList.drop 0 = dktX0_found_0 := by decide +kernel
theorem dX0_found_0 : decode cX0_found 0 = .ok (.aload_n 3, 1) := dk_45 (dk_at dksX0_found_0 0 rfl rfl)
theorem dX0_found_1 : decode cX0_found 1 = .ok (.iconst 0, 1) := dk_3 (dk_at dksX0_found_0 1 rfl rfl)
theorem dX0_found_2 : decode cX0_found 2 = .ok (.aload_n 0, 1) := dk_42 (dk_at dksX0_found_0 2 rfl rfl)
theorem dX0_found_3 : decode cX0_found 3 = .ok (.iload_n 1, 1) := dk_27 (dk_at dksX0_found_0 3 rfl rfl)
theorem dX0_found_4 : decode cX0_found 4 = .ok (.iload_n 2, 1) := dk_28 (dk_at dksX0_found_0 4 rfl rfl)
theorem dX0_found_5 : decode cX0_found 5 = .ok (.invokevirtual 44, 3) := dk_182 0 44 (dk_at dksX0_found_0 5 rfl rfl)
theorem dX0_found_8 : decode cX0_found 8 = .ok (.i2l, 1) := dk_133 (dk_at dksX0_found_0 8 rfl rfl)
theorem dX0_found_9 : decode cX0_found 9 = .ok (.lastore, 1) := dk_80 (dk_at dksX0_found_0 9 rfl rfl)
theorem dX0_found_10 : decode cX0_found 10 = .ok (.goto 11, 3) := dk_167 0 11 (dk_at dksX0_found_0 10 rfl rfl)
theorem dX0_found_13 : decode cX0_found 13 = .ok (.astore 4, 2) := dk_58 4 (dk_at dksX0_found_0 13 rfl rfl)
theorem dX0_found_15 : decode cX0_found 15 = .ok (.iconst 1, 1) := dk_4 (dk_at dksX0_found_0 15 rfl rfl)
theorem dX0_found_16 : decode cX0_found 16 = .ok (.ireturn, 1) := dk_172 (dk_at dksX0_found_0 16 rfl rfl)
theorem dX0_found_17 : decode cX0_found 17 = .ok (.astore 4, 2) := dk_58 4 (dk_at dksX0_found_0 17 rfl rfl)
theorem dX0_found_19 : decode cX0_found 19 = .ok (.iconst 2, 1) := dk_5 (dk_at dksX0_found_0 19 rfl rfl)
theorem dX0_found_20 : decode cX0_found 20 = .ok (.ireturn, 1) := dk_172 (dk_at dksX0_found_0 20 rfl rfl)
theorem dX0_found_21 : decode cX0_found 21 = .ok (.iconst 0, 1) := dk_3 (dk_at dksX0_found_0 21 rfl rfl)
theorem dX0_found_22 : decode cX0_found 22 = .ok (.ireturn, 1) := dk_172 (dk_at dksX0_found_0 22 rfl rfl)
abbrev cX0_drop : ByteArray := method_13_code
def yX0_drop : MethodName := ⟨RX0, "drop", "(LWoolThreads;I[J)I"⟩
def dkwX0_drop_0 : List UInt8 := [44, 3, 42, 27, 182, 0, 49, 133, 80, 167, 0, 6, 78, 4, 172, 3, 172]
abbrev dktX0_drop_0 : List UInt8 := dkwX0_drop_0 ++ []
theorem dksX0_drop_0 : cX0_drop.data.toList.drop 0 = dktX0_drop_0 := by decide +kernel
theorem dX0_drop_0 : decode cX0_drop 0 = .ok (.aload_n 2, 1) := dk_44 (dk_at dksX0_drop_0 0 rfl rfl)
theorem dX0_drop_1 : decode cX0_drop 1 = .ok (.iconst 0, 1) := dk_3 (dk_at dksX0_drop_0 1 rfl rfl)
theorem dX0_drop_2 : decode cX0_drop 2 = .ok (.aload_n 0, 1) := dk_42 (dk_at dksX0_drop_0 2 rfl rfl)
theorem dX0_drop_3 : decode cX0_drop 3 = .ok (.iload_n 1, 1) := dk_27 (dk_at dksX0_drop_0 3 rfl rfl)
theorem dX0_drop_4 : decode cX0_drop 4 = .ok (.invokevirtual 49, 3) := dk_182 0 49 (dk_at dksX0_drop_0 4 rfl rfl)
theorem dX0_drop_7 : decode cX0_drop 7 = .ok (.i2l, 1) := dk_133 (dk_at dksX0_drop_0 7 rfl rfl)
theorem dX0_drop_8 : decode cX0_drop 8 = .ok (.lastore, 1) := dk_80 (dk_at dksX0_drop_0 8 rfl rfl)
theorem dX0_drop_9 : decode cX0_drop 9 = .ok (.goto 6, 3) := dk_167 0 6 (dk_at dksX0_drop_0 9 rfl rfl)
theorem dX0_drop_12 : decode cX0_drop 12 = .ok (.astore_n 3, 1) := dk_78 (dk_at dksX0_drop_0 12 rfl rfl)
theorem dX0_drop_13 : decode cX0_drop 13 = .ok (.iconst 1, 1) := dk_4 (dk_at dksX0_drop_0 13 rfl rfl)
theorem dX0_drop_14 : decode cX0_drop 14 = .ok (.ireturn, 1) := dk_172 (dk_at dksX0_drop_0 14 rfl rfl)
theorem dX0_drop_15 : decode cX0_drop 15 = .ok (.iconst 0, 1) := dk_3 (dk_at dksX0_drop_0 15 rfl rfl)
theorem dX0_drop_16 : decode cX0_drop 16 = .ok (.ireturn, 1) := dk_172 (dk_at dksX0_drop_0 16 rfl rfl)
abbrev cX0_scale : ByteArray := method_14_code
def yX0_scale : MethodName := ⟨RX0, "scale", "(LWoolThreads;I[J)I"⟩
def dkwX0_scale_0 : List UInt8 := [44, 3, 42, 27, 182, 0, 52, 133, 80, 167, 0, 6, 78, 4, 172, 3, 172]
abbrev dktX0_scale_0 : List UInt8 := dkwX0_scale_0 ++ []
theorem dksX0_scale_0 : cX0_scale.data.toList.drop 0 = dktX0_scale_0 := by decide +kernel
theorem dX0_scale_0 : decode cX0_scale 0 = .ok (.aload_n 2, 1) := dk_44 (dk_at dksX0_scale_0 0 rfl rfl)
theorem dX0_scale_1 : decode cX0_scale 1 = .ok (.iconst 0, 1) := dk_3 (dk_at dksX0_scale_0 1 rfl rfl)
theorem dX0_scale_2 : decode cX0_scale 2 = .ok (.aload_n 0, 1) := dk_42 (dk_at dksX0_scale_0 2 rfl rfl)
theorem dX0_scale_3 : decode cX0_scale 3 = .ok (.iload_n 1, 1) := dk_27 (dk_at dksX0_scale_0 3 rfl rfl)
theorem dX0_scale_4 : decode cX0_scale 4 = .ok (.invokevirtual 52, 3) := dk_182 0 52 (dk_at dksX0_scale_0 4 rfl rfl)
theorem dX0_scale_7 : decode cX0_scale 7 = .ok (.i2l, 1) := dk_133 (dk_at dksX0_scale_0 7 rfl rfl)
theorem dX0_scale_8 : decode cX0_scale 8 = .ok (.lastore, 1) := dk_80 (dk_at dksX0_scale_0 8 rfl rfl)
theorem dX0_scale_9 : decode cX0_scale 9 = .ok (.goto 6, 3) := dk_167 0 6 (dk_at dksX0_scale_0 9 rfl rfl)
theorem dX0_scale_12 : decode cX0_scale 12 = .ok (.astore_n 3, 1) := dk_78 (dk_at dksX0_scale_0 12 rfl rfl)
theorem dX0_scale_13 : decode cX0_scale 13 = .ok (.iconst 1, 1) := dk_4 (dk_at dksX0_scale_0 13 rfl rfl)
theorem dX0_scale_14 : decode cX0_scale 14 = .ok (.ireturn, 1) := dk_172 (dk_at dksX0_scale_0 14 rfl rfl)
theorem dX0_scale_15 : decode cX0_scale 15 = .ok (.iconst 0, 1) := dk_3 (dk_at dksX0_scale_0 15 rfl rfl)
theorem dX0_scale_16 : decode cX0_scale 16 = .ok (.ireturn, 1) := dk_172 (dk_at dksX0_scale_0 16 rfl rfl)
abbrev cX0_digits : ByteArray := method_15_code
def yX0_digits : MethodName := ⟨RX0, "digits", "(LWoolThreads;I[J)I"⟩
def dkwX0_digits_0 : List UInt8 := [44, 3, 42, 27, 182, 0, 55, 133, 80, 167, 0, 6, 78, 4, 172, 3, 172]
abbrev dktX0_digits_0 : List UInt8 := dkwX0_digits_0 ++ []
theorem dksX0_digits_0 : cX0_digits.data.toList.drop 0 = dktX0_digits_0 := by decide +kernel
theorem dX0_digits_0 : decode cX0_digits 0 = .ok (.aload_n 2, 1) := dk_44 (dk_at dksX0_digits_0 0 rfl rfl)
theorem dX0_digits_1 : decode cX0_digits 1 = .ok (.iconst 0, 1) := dk_3 (dk_at dksX0_digits_0 1 rfl rfl)
theorem dX0_digits_2 : decode cX0_digits 2 = .ok (.aload_n 0, 1) := dk_42 (dk_at dksX0_digits_0 2 rfl rfl)
theorem dX0_digits_3 : decode cX0_digits 3 = .ok (.iload_n 1, 1) := dk_27 (dk_at dksX0_digits_0 3 rfl rfl)
theorem dX0_digits_4 : decode cX0_digits 4 = .ok (.invokevirtual 55, 3) := dk_182 0 55 (dk_at dksX0_digits_0 4 rfl rfl)
theorem dX0_digits_7 : decode cX0_digits 7 = .ok (.i2l, 1) := dk_133 (dk_at dksX0_digits_0 7 rfl rfl)
theorem dX0_digits_8 : decode cX0_digits 8 = .ok (.lastore, 1) := dk_80 (dk_at dksX0_digits_0 8 rfl rfl)
theorem dX0_digits_9 : decode cX0_digits 9 = .ok (.goto 6, 3) := dk_167 0 6 (dk_at dksX0_digits_0 9 rfl rfl)
theorem dX0_digits_12 : decode cX0_digits 12 = .ok (.astore_n 3, 1) := dk_78 (dk_at dksX0_digits_0 12 rfl rfl)
theorem dX0_digits_13 : decode cX0_digits 13 = .ok (.iconst 1, 1) := dk_4 (dk_at dksX0_digits_0 13 rfl rfl)
theorem dX0_digits_14 : decode cX0_digits 14 = .ok (.ireturn, 1) := dk_172 (dk_at dksX0_digits_0 14 rfl rfl)
theorem dX0_digits_15 : decode cX0_digits 15 = .ok (.iconst 0, 1) := dk_3 (dk_at dksX0_digits_0 15 rfl rfl)
theorem dX0_digits_16 : decode cX0_digits 16 = .ok (.ireturn, 1) := dk_172 (dk_at dksX0_digits_0 16 rfl rfl)
abbrev cX0_digit : ByteArray := method_16_code
def yX0_digit : MethodName := ⟨RX0, "digit", "(LWoolThreads;II[J)I"⟩
def dkwX0_digit_0 : List UInt8 := [45, 3, 42, 27, 28, 182, 0, 58, 133, 80, 167, 0, 7, 58, 4, 4, 172, 3, 172]
abbrev dktX0_digit_0 : List UInt8 := dkwX0_digit_0 ++ []
theorem dksX0_digit_0 : cX0_digit.data.toList.drop 0 = dktX0_digit_0 := by decide +kernel
theorem dX0_digit_0 : decode cX0_digit 0 = .ok (.aload_n 3, 1) := dk_45 (dk_at dksX0_digit_0 0 rfl rfl)
theorem dX0_digit_1 : decode cX0_digit 1 = .ok (.iconst 0, 1) := dk_3 (dk_at dksX0_digit_0 1 rfl rfl)
theorem dX0_digit_2 : decode cX0_digit 2 = .ok (.aload_n 0, 1) := dk_42 (dk_at dksX0_digit_0 2 rfl rfl)
theorem dX0_digit_3 : decode cX0_digit 3 = .ok (.iload_n 1, 1) := dk_27 (dk_at dksX0_digit_0 3 rfl rfl)
theorem dX0_digit_4 : decode cX0_digit 4 = .ok (.iload_n 2, 1) := dk_28 (dk_at dksX0_digit_0 4 rfl rfl)
theorem dX0_digit_5 : decode cX0_digit 5 = .ok (.invokevirtual 58, 3) := dk_182 0 58 (dk_at dksX0_digit_0 5 rfl rfl)
theorem dX0_digit_8 : decode cX0_digit 8 = .ok (.i2l, 1) := dk_133 (dk_at dksX0_digit_0 8 rfl rfl)
theorem dX0_digit_9 : decode cX0_digit 9 = .ok (.lastore, 1) := dk_80 (dk_at dksX0_digit_0 9 rfl rfl)
theorem dX0_digit_10 : decode cX0_digit 10 = .ok (.goto 7, 3) := dk_167 0 7 (dk_at dksX0_digit_0 10 rfl rfl)
theorem dX0_digit_13 : decode cX0_digit 13 = .ok (.astore 4, 2) := dk_58 4 (dk_at dksX0_digit_0 13 rfl rfl)
theorem dX0_digit_15 : decode cX0_digit 15 = .ok (.iconst 1, 1) := dk_4 (dk_at dksX0_digit_0 15 rfl rfl)
theorem dX0_digit_16 : decode cX0_digit 16 = .ok (.ireturn, 1) := dk_172 (dk_at dksX0_digit_0 16 rfl rfl)
theorem dX0_digit_17 : decode cX0_digit 17 = .ok (.iconst 0, 1) := dk_3 (dk_at dksX0_digit_0 17 rfl rfl)
theorem dX0_digit_18 : decode cX0_digit 18 = .ok (.ireturn, 1) := dk_172 (dk_at dksX0_digit_0 18 rfl rfl)
abbrev cX0_weighed : ByteArray := method_17_code
def yX0_weighed : MethodName := ⟨RX0, "weighed", "(LWoolThreads;II[J)I"⟩
def dkwX0_weighed_0 : List UInt8 := [45, 3, 42, 27, 28, 182, 0, 61, 133, 80, 167, 0, 7, 58, 4, 4, 172, 3, 172]
abbrev dktX0_weighed_0 : List UInt8 := dkwX0_weighed_0 ++ []
theorem dksX0_weighed_0 : cX0_weighed.data.toList.drop 0 = dktX0_weighed_0 := by decide +kernel
theorem dX0_weighed_0 : decode cX0_weighed 0 = .ok (.aload_n 3, 1) := dk_45 (dk_at dksX0_weighed_0 0 rfl rfl)
theorem dX0_weighed_1 : decode cX0_weighed 1 = .ok (.iconst 0, 1) := dk_3 (dk_at dksX0_weighed_0 1 rfl rfl)
theorem dX0_weighed_2 : decode cX0_weighed 2 = .ok (.aload_n 0, 1) := dk_42 (dk_at dksX0_weighed_0 2 rfl rfl)
theorem dX0_weighed_3 : decode cX0_weighed 3 = .ok (.iload_n 1, 1) := dk_27 (dk_at dksX0_weighed_0 3 rfl rfl)
theorem dX0_weighed_4 : decode cX0_weighed 4 = .ok (.iload_n 2, 1) := dk_28 (dk_at dksX0_weighed_0 4 rfl rfl)
theorem dX0_weighed_5 : decode cX0_weighed 5 = .ok (.invokevirtual 61, 3) := dk_182 0 61 (dk_at dksX0_weighed_0 5 rfl rfl)
theorem dX0_weighed_8 : decode cX0_weighed 8 = .ok (.i2l, 1) := dk_133 (dk_at dksX0_weighed_0 8 rfl rfl)
theorem dX0_weighed_9 : decode cX0_weighed 9 = .ok (.lastore, 1) := dk_80 (dk_at dksX0_weighed_0 9 rfl rfl)
theorem dX0_weighed_10 : decode cX0_weighed 10 = .ok (.goto 7, 3) := dk_167 0 7 (dk_at dksX0_weighed_0 10 rfl rfl)
theorem dX0_weighed_13 : decode cX0_weighed 13 = .ok (.astore 4, 2) := dk_58 4 (dk_at dksX0_weighed_0 13 rfl rfl)
theorem dX0_weighed_15 : decode cX0_weighed 15 = .ok (.iconst 1, 1) := dk_4 (dk_at dksX0_weighed_0 15 rfl rfl)
theorem dX0_weighed_16 : decode cX0_weighed 16 = .ok (.ireturn, 1) := dk_172 (dk_at dksX0_weighed_0 16 rfl rfl)
theorem dX0_weighed_17 : decode cX0_weighed 17 = .ok (.iconst 0, 1) := dk_3 (dk_at dksX0_weighed_0 17 rfl rfl)
theorem dX0_weighed_18 : decode cX0_weighed 18 = .ok (.ireturn, 1) := dk_172 (dk_at dksX0_weighed_0 18 rfl rfl)
abbrev cX0_worth : ByteArray := method_18_code
def yX0_worth : MethodName := ⟨RX0, "worth", "(LWoolThreads;II[J)I"⟩
def dkwX0_worth_0 : List UInt8 := [45, 3, 42, 27, 28, 182, 0, 64, 133, 80, 167, 0, 7, 58, 4, 4, 172, 3, 172]
abbrev dktX0_worth_0 : List UInt8 := dkwX0_worth_0 ++ []
theorem dksX0_worth_0 : cX0_worth.data.toList.drop 0 = dktX0_worth_0 := by decide +kernel
theorem dX0_worth_0 : decode cX0_worth 0 = .ok (.aload_n 3, 1) := dk_45 (dk_at dksX0_worth_0 0 rfl rfl)
theorem dX0_worth_1 : decode cX0_worth 1 = .ok (.iconst 0, 1) := dk_3 (dk_at dksX0_worth_0 1 rfl rfl)
theorem dX0_worth_2 : decode cX0_worth 2 = .ok (.aload_n 0, 1) := dk_42 (dk_at dksX0_worth_0 2 rfl rfl)
theorem dX0_worth_3 : decode cX0_worth 3 = .ok (.iload_n 1, 1) := dk_27 (dk_at dksX0_worth_0 3 rfl rfl)
theorem dX0_worth_4 : decode cX0_worth 4 = .ok (.iload_n 2, 1) := dk_28 (dk_at dksX0_worth_0 4 rfl rfl)
theorem dX0_worth_5 : decode cX0_worth 5 = .ok (.invokevirtual 64, 3) := dk_182 0 64 (dk_at dksX0_worth_0 5 rfl rfl)
theorem dX0_worth_8 : decode cX0_worth 8 = .ok (.i2l, 1) := dk_133 (dk_at dksX0_worth_0 8 rfl rfl)
theorem dX0_worth_9 : decode cX0_worth 9 = .ok (.lastore, 1) := dk_80 (dk_at dksX0_worth_0 9 rfl rfl)
theorem dX0_worth_10 : decode cX0_worth 10 = .ok (.goto 7, 3) := dk_167 0 7 (dk_at dksX0_worth_0 10 rfl rfl)
theorem dX0_worth_13 : decode cX0_worth 13 = .ok (.astore 4, 2) := dk_58 4 (dk_at dksX0_worth_0 13 rfl rfl)
theorem dX0_worth_15 : decode cX0_worth 15 = .ok (.iconst 1, 1) := dk_4 (dk_at dksX0_worth_0 15 rfl rfl)
theorem dX0_worth_16 : decode cX0_worth 16 = .ok (.ireturn, 1) := dk_172 (dk_at dksX0_worth_0 16 rfl rfl)
theorem dX0_worth_17 : decode cX0_worth 17 = .ok (.iconst 0, 1) := dk_3 (dk_at dksX0_worth_0 17 rfl rfl)
theorem dX0_worth_18 : decode cX0_worth 18 = .ok (.ireturn, 1) := dk_172 (dk_at dksX0_worth_0 18 rfl rfl)
abbrev cX0_part : ByteArray := method_19_code
def yX0_part : MethodName := ⟨RX0, "part", "(LWoolThreads;III[J)I"⟩
def dkwX0_part_1 : List UInt8 := [172]
abbrev dktX0_part_1 : List UInt8 := dkwX0_part_1 ++ []
def dkwX0_part_0 : List UInt8 := [25, 4, 3, 42, 27, 28, 29, 182, 0, 67, 133, 80, 167, 0, 11, 58, 5, 4, 172, 58, 5, 5, 172, 3]
abbrev dktX0_part_0 : List UInt8 := dkwX0_part_0 ++ dktX0_part_1
theorem dksX0_part_0 : cX0_part.data.toList.drop 0 = dktX0_part_0 := by decide +kernel
theorem dksX0_part_1 : cX0_part.data.toList.drop 24 = dktX0_part_1 := dk_seg dksX0_part_0 24 rfl rfl
theorem dX0_part_0 : decode cX0_part 0 = .ok (.aload 4, 2) := dk_25 4 (dk_at dksX0_part_0 0 rfl rfl)
theorem dX0_part_2 : decode cX0_part 2 = .ok (.iconst 0, 1) := dk_3 (dk_at dksX0_part_0 2 rfl rfl)
theorem dX0_part_3 : decode cX0_part 3 = .ok (.aload_n 0, 1) := dk_42 (dk_at dksX0_part_0 3 rfl rfl)
theorem dX0_part_4 : decode cX0_part 4 = .ok (.iload_n 1, 1) := dk_27 (dk_at dksX0_part_0 4 rfl rfl)
theorem dX0_part_5 : decode cX0_part 5 = .ok (.iload_n 2, 1) := dk_28 (dk_at dksX0_part_0 5 rfl rfl)
theorem dX0_part_6 : decode cX0_part 6 = .ok (.iload_n 3, 1) := dk_29 (dk_at dksX0_part_0 6 rfl rfl)
theorem dX0_part_7 : decode cX0_part 7 = .ok (.invokevirtual 67, 3) := dk_182 0 67 (dk_at dksX0_part_0 7 rfl rfl)
theorem dX0_part_10 : decode cX0_part 10 = .ok (.i2l, 1) := dk_133 (dk_at dksX0_part_0 10 rfl rfl)
theorem dX0_part_11 : decode cX0_part 11 = .ok (.lastore, 1) := dk_80 (dk_at dksX0_part_0 11 rfl rfl)
theorem dX0_part_12 : decode cX0_part 12 = .ok (.goto 11, 3) := dk_167 0 11 (dk_at dksX0_part_0 12 rfl rfl)
theorem dX0_part_15 : decode cX0_part 15 = .ok (.astore 5, 2) := dk_58 5 (dk_at dksX0_part_0 15 rfl rfl)
theorem dX0_part_17 : decode cX0_part 17 = .ok (.iconst 1, 1) := dk_4 (dk_at dksX0_part_0 17 rfl rfl)
theorem dX0_part_18 : decode cX0_part 18 = .ok (.ireturn, 1) := dk_172 (dk_at dksX0_part_0 18 rfl rfl)
theorem dX0_part_19 : decode cX0_part 19 = .ok (.astore 5, 2) := dk_58 5 (dk_at dksX0_part_0 19 rfl rfl)
theorem dX0_part_21 : decode cX0_part 21 = .ok (.iconst 2, 1) := dk_5 (dk_at dksX0_part_0 21 rfl rfl)
theorem dX0_part_22 : decode cX0_part 22 = .ok (.ireturn, 1) := dk_172 (dk_at dksX0_part_0 22 rfl rfl)
theorem dX0_part_23 : decode cX0_part 23 = .ok (.iconst 0, 1) := dk_3 (dk_at dksX0_part_0 23 rfl rfl)
theorem dX0_part_24 : decode cX0_part 24 = .ok (.ireturn, 1) := dk_172 (dk_at dksX0_part_1 0 rfl rfl)
abbrev cX0_events : ByteArray := method_20_code
def yX0_events : MethodName := ⟨RX0, "events", "(LWoolThreads;I[J)I"⟩
def dkwX0_events_0 : List UInt8 := [44, 3, 42, 27, 182, 0, 70, 133, 80, 167, 0, 6, 78, 4, 172, 3, 172]
abbrev dktX0_events_0 : List UInt8 := dkwX0_events_0 ++ []
theorem dksX0_events_0 : cX0_events.data.toList.drop 0 = dktX0_events_0 := by decide +kernel
theorem dX0_events_0 : decode cX0_events 0 = .ok (.aload_n 2, 1) := dk_44 (dk_at dksX0_events_0 0 rfl rfl)
theorem dX0_events_1 : decode cX0_events 1 = .ok (.iconst 0, 1) := dk_3 (dk_at dksX0_events_0 1 rfl rfl)
theorem dX0_events_2 : decode cX0_events 2 = .ok (.aload_n 0, 1) := dk_42 (dk_at dksX0_events_0 2 rfl rfl)
theorem dX0_events_3 : decode cX0_events 3 = .ok (.iload_n 1, 1) := dk_27 (dk_at dksX0_events_0 3 rfl rfl)
theorem dX0_events_4 : decode cX0_events 4 = .ok (.invokevirtual 70, 3) := dk_182 0 70 (dk_at dksX0_events_0 4 rfl rfl)
theorem dX0_events_7 : decode cX0_events 7 = .ok (.i2l, 1) := dk_133 (dk_at dksX0_events_0 7 rfl rfl)
theorem dX0_events_8 : decode cX0_events 8 = .ok (.lastore, 1) := dk_80 (dk_at dksX0_events_0 8 rfl rfl)
theorem dX0_events_9 : decode cX0_events 9 = .ok (.goto 6, 3) := dk_167 0 6 (dk_at dksX0_events_0 9 rfl rfl)
theorem dX0_events_12 : decode cX0_events 12 = .ok (.astore_n 3, 1) := dk_78 (dk_at dksX0_events_0 12 rfl rfl)
theorem dX0_events_13 : decode cX0_events 13 = .ok (.iconst 1, 1) := dk_4 (dk_at dksX0_events_0 13 rfl rfl)
theorem dX0_events_14 : decode cX0_events 14 = .ok (.ireturn, 1) := dk_172 (dk_at dksX0_events_0 14 rfl rfl)
theorem dX0_events_15 : decode cX0_events 15 = .ok (.iconst 0, 1) := dk_3 (dk_at dksX0_events_0 15 rfl rfl)
theorem dX0_events_16 : decode cX0_events 16 = .ok (.ireturn, 1) := dk_172 (dk_at dksX0_events_0 16 rfl rfl)
abbrev cX0_counts : ByteArray := method_21_code
def yX0_counts : MethodName := ⟨RX0, "counts", "(LWoolThreads;II[J)I"⟩
def dkwX0_counts_0 : List UInt8 := [45, 3, 42, 27, 28, 182, 0, 73, 133, 80, 167, 0, 11, 58, 4, 4, 172, 58, 4, 5, 172, 3, 172]
abbrev dktX0_counts_0 : List UInt8 := dkwX0_counts_0 ++ []
theorem dksX0_counts_0 : cX0_counts.data.toList.drop 0 = dktX0_counts_0 := by decide +kernel
theorem dX0_counts_0 : decode cX0_counts 0 = .ok (.aload_n 3, 1) := dk_45 (dk_at dksX0_counts_0 0 rfl rfl)
theorem dX0_counts_1 : decode cX0_counts 1 = .ok (.iconst 0, 1) := dk_3 (dk_at dksX0_counts_0 1 rfl rfl)
theorem dX0_counts_2 : decode cX0_counts 2 = .ok (.aload_n 0, 1) := dk_42 (dk_at dksX0_counts_0 2 rfl rfl)
theorem dX0_counts_3 : decode cX0_counts 3 = .ok (.iload_n 1, 1) := dk_27 (dk_at dksX0_counts_0 3 rfl rfl)
theorem dX0_counts_4 : decode cX0_counts 4 = .ok (.iload_n 2, 1) := dk_28 (dk_at dksX0_counts_0 4 rfl rfl)
theorem dX0_counts_5 : decode cX0_counts 5 = .ok (.invokevirtual 73, 3) := dk_182 0 73 (dk_at dksX0_counts_0 5 rfl rfl)
theorem dX0_counts_8 : decode cX0_counts 8 = .ok (.i2l, 1) := dk_133 (dk_at dksX0_counts_0 8 rfl rfl)
theorem dX0_counts_9 : decode cX0_counts 9 = .ok (.lastore, 1) := dk_80 (dk_at dksX0_counts_0 9 rfl rfl)
theorem dX0_counts_10 : decode cX0_counts 10 = .ok (.goto 11, 3) := dk_167 0 11 (dk_at dksX0_counts_0 10 rfl rfl)
theorem dX0_counts_13 : decode cX0_counts 13 = .ok (.astore 4, 2) := dk_58 4 (dk_at dksX0_counts_0 13 rfl rfl)
theorem dX0_counts_15 : decode cX0_counts 15 = .ok (.iconst 1, 1) := dk_4 (dk_at dksX0_counts_0 15 rfl rfl)
theorem dX0_counts_16 : decode cX0_counts 16 = .ok (.ireturn, 1) := dk_172 (dk_at dksX0_counts_0 16 rfl rfl)
theorem dX0_counts_17 : decode cX0_counts 17 = .ok (.astore 4, 2) := dk_58 4 (dk_at dksX0_counts_0 17 rfl rfl)
theorem dX0_counts_19 : decode cX0_counts 19 = .ok (.iconst 2, 1) := dk_5 (dk_at dksX0_counts_0 19 rfl rfl)
theorem dX0_counts_20 : decode cX0_counts 20 = .ok (.ireturn, 1) := dk_172 (dk_at dksX0_counts_0 20 rfl rfl)
theorem dX0_counts_21 : decode cX0_counts 21 = .ok (.iconst 0, 1) := dk_3 (dk_at dksX0_counts_0 21 rfl rfl)
theorem dX0_counts_22 : decode cX0_counts 22 = .ok (.ireturn, 1) := dk_172 (dk_at dksX0_counts_0 22 rfl rfl)
abbrev cX0_needed : ByteArray := method_22_code
def yX0_needed : MethodName := ⟨RX0, "needed", "(LWoolThreads;II[J)I"⟩
def dkwX0_needed_0 : List UInt8 := [45, 3, 42, 27, 28, 182, 0, 76, 133, 80, 167, 0, 7, 58, 4, 4, 172, 3, 172]
abbrev dktX0_needed_0 : List UInt8 := dkwX0_needed_0 ++ []
theorem dksX0_needed_0 : cX0_needed.data.toList.drop 0 = dktX0_needed_0 := by decide +kernel
theorem dX0_needed_0 : decode cX0_needed 0 = .ok (.aload_n 3, 1) := dk_45 (dk_at dksX0_needed_0 0 rfl rfl)
theorem dX0_needed_1 : decode cX0_needed 1 = .ok (.iconst 0, 1) := dk_3 (dk_at dksX0_needed_0 1 rfl rfl)
theorem dX0_needed_2 : decode cX0_needed 2 = .ok (.aload_n 0, 1) := dk_42 (dk_at dksX0_needed_0 2 rfl rfl)
theorem dX0_needed_3 : decode cX0_needed 3 = .ok (.iload_n 1, 1) := dk_27 (dk_at dksX0_needed_0 3 rfl rfl)
theorem dX0_needed_4 : decode cX0_needed 4 = .ok (.iload_n 2, 1) := dk_28 (dk_at dksX0_needed_0 4 rfl rfl)
theorem dX0_needed_5 : decode cX0_needed 5 = .ok (.invokevirtual 76, 3) := dk_182 0 76 (dk_at dksX0_needed_0 5 rfl rfl)
theorem dX0_needed_8 : decode cX0_needed 8 = .ok (.i2l, 1) := dk_133 (dk_at dksX0_needed_0 8 rfl rfl)
theorem dX0_needed_9 : decode cX0_needed 9 = .ok (.lastore, 1) := dk_80 (dk_at dksX0_needed_0 9 rfl rfl)
theorem dX0_needed_10 : decode cX0_needed 10 = .ok (.goto 7, 3) := dk_167 0 7 (dk_at dksX0_needed_0 10 rfl rfl)
theorem dX0_needed_13 : decode cX0_needed 13 = .ok (.astore 4, 2) := dk_58 4 (dk_at dksX0_needed_0 13 rfl rfl)
theorem dX0_needed_15 : decode cX0_needed 15 = .ok (.iconst 1, 1) := dk_4 (dk_at dksX0_needed_0 15 rfl rfl)
theorem dX0_needed_16 : decode cX0_needed 16 = .ok (.ireturn, 1) := dk_172 (dk_at dksX0_needed_0 16 rfl rfl)
theorem dX0_needed_17 : decode cX0_needed 17 = .ok (.iconst 0, 1) := dk_3 (dk_at dksX0_needed_0 17 rfl rfl)
theorem dX0_needed_18 : decode cX0_needed 18 = .ok (.ireturn, 1) := dk_172 (dk_at dksX0_needed_0 18 rfl rfl)
abbrev cX0_byWay : ByteArray := method_23_code
def yX0_byWay : MethodName := ⟨RX0, "byWay", "(LWoolThreads;IIIIII[J)I"⟩
def dkwX0_byWay_1 : List UInt8 := [172, 58, 8, 5, 172, 3, 172]
abbrev dktX0_byWay_1 : List UInt8 := dkwX0_byWay_1 ++ []
def dkwX0_byWay_0 : List UInt8 := [25, 7, 3, 42, 27, 28, 29, 21, 4, 21, 5, 21, 6, 182, 0, 79, 133, 80, 167, 0, 11, 58, 8, 4]
abbrev dktX0_byWay_0 : List UInt8 := dkwX0_byWay_0 ++ dktX0_byWay_1
theorem dksX0_byWay_0 : cX0_byWay.data.toList.drop 0 = dktX0_byWay_0 := by decide +kernel
theorem dksX0_byWay_1 : cX0_byWay.data.toList.drop 24 = dktX0_byWay_1 := dk_seg dksX0_byWay_0 24 rfl rfl
theorem dX0_byWay_0 : decode cX0_byWay 0 = .ok (.aload 7, 2) := dk_25 7 (dk_at dksX0_byWay_0 0 rfl rfl)
theorem dX0_byWay_2 : decode cX0_byWay 2 = .ok (.iconst 0, 1) := dk_3 (dk_at dksX0_byWay_0 2 rfl rfl)
theorem dX0_byWay_3 : decode cX0_byWay 3 = .ok (.aload_n 0, 1) := dk_42 (dk_at dksX0_byWay_0 3 rfl rfl)
theorem dX0_byWay_4 : decode cX0_byWay 4 = .ok (.iload_n 1, 1) := dk_27 (dk_at dksX0_byWay_0 4 rfl rfl)
theorem dX0_byWay_5 : decode cX0_byWay 5 = .ok (.iload_n 2, 1) := dk_28 (dk_at dksX0_byWay_0 5 rfl rfl)
theorem dX0_byWay_6 : decode cX0_byWay 6 = .ok (.iload_n 3, 1) := dk_29 (dk_at dksX0_byWay_0 6 rfl rfl)
theorem dX0_byWay_7 : decode cX0_byWay 7 = .ok (.iload 4, 2) := dk_21 4 (dk_at dksX0_byWay_0 7 rfl rfl)
theorem dX0_byWay_9 : decode cX0_byWay 9 = .ok (.iload 5, 2) := dk_21 5 (dk_at dksX0_byWay_0 9 rfl rfl)
theorem dX0_byWay_11 : decode cX0_byWay 11 = .ok (.iload 6, 2) := dk_21 6 (dk_at dksX0_byWay_0 11 rfl rfl)
theorem dX0_byWay_13 : decode cX0_byWay 13 = .ok (.invokevirtual 79, 3) := dk_182 0 79 (dk_at dksX0_byWay_0 13 rfl rfl)
theorem dX0_byWay_16 : decode cX0_byWay 16 = .ok (.i2l, 1) := dk_133 (dk_at dksX0_byWay_0 16 rfl rfl)
theorem dX0_byWay_17 : decode cX0_byWay 17 = .ok (.lastore, 1) := dk_80 (dk_at dksX0_byWay_0 17 rfl rfl)
theorem dX0_byWay_18 : decode cX0_byWay 18 = .ok (.goto 11, 3) := dk_167 0 11 (dk_at dksX0_byWay_0 18 rfl rfl)
theorem dX0_byWay_21 : decode cX0_byWay 21 = .ok (.astore 8, 2) := dk_58 8 (dk_at dksX0_byWay_0 21 rfl rfl)
theorem dX0_byWay_23 : decode cX0_byWay 23 = .ok (.iconst 1, 1) := dk_4 (dk_at dksX0_byWay_0 23 rfl rfl)
theorem dX0_byWay_24 : decode cX0_byWay 24 = .ok (.ireturn, 1) := dk_172 (dk_at dksX0_byWay_1 0 rfl rfl)
theorem dX0_byWay_25 : decode cX0_byWay 25 = .ok (.astore 8, 2) := dk_58 8 (dk_at dksX0_byWay_1 1 rfl rfl)
theorem dX0_byWay_27 : decode cX0_byWay 27 = .ok (.iconst 2, 1) := dk_5 (dk_at dksX0_byWay_1 3 rfl rfl)
theorem dX0_byWay_28 : decode cX0_byWay 28 = .ok (.ireturn, 1) := dk_172 (dk_at dksX0_byWay_1 4 rfl rfl)
theorem dX0_byWay_29 : decode cX0_byWay 29 = .ok (.iconst 0, 1) := dk_3 (dk_at dksX0_byWay_1 5 rfl rfl)
theorem dX0_byWay_30 : decode cX0_byWay 30 = .ok (.ireturn, 1) := dk_172 (dk_at dksX0_byWay_1 6 rfl rfl)
abbrev cX0_bench : ByteArray := method_24_code
def yX0_bench : MethodName := ⟨RX0, "bench", "(LWoolThreads;IIII[J)I"⟩
def dkwX0_bench_1 : List UInt8 := [172, 3, 172]
abbrev dktX0_bench_1 : List UInt8 := dkwX0_bench_1 ++ []
def dkwX0_bench_0 : List UInt8 := [25, 5, 3, 42, 27, 28, 29, 21, 4, 182, 0, 83, 133, 80, 167, 0, 11, 58, 6, 4, 172, 58, 6, 5]
abbrev dktX0_bench_0 : List UInt8 := dkwX0_bench_0 ++ dktX0_bench_1
theorem dksX0_bench_0 : cX0_bench.data.toList.drop 0 = dktX0_bench_0 := by decide +kernel
theorem dksX0_bench_1 : cX0_bench.data.toList.drop 24 = dktX0_bench_1 := dk_seg dksX0_bench_0 24 rfl rfl
theorem dX0_bench_0 : decode cX0_bench 0 = .ok (.aload 5, 2) := dk_25 5 (dk_at dksX0_bench_0 0 rfl rfl)
theorem dX0_bench_2 : decode cX0_bench 2 = .ok (.iconst 0, 1) := dk_3 (dk_at dksX0_bench_0 2 rfl rfl)
theorem dX0_bench_3 : decode cX0_bench 3 = .ok (.aload_n 0, 1) := dk_42 (dk_at dksX0_bench_0 3 rfl rfl)
theorem dX0_bench_4 : decode cX0_bench 4 = .ok (.iload_n 1, 1) := dk_27 (dk_at dksX0_bench_0 4 rfl rfl)
theorem dX0_bench_5 : decode cX0_bench 5 = .ok (.iload_n 2, 1) := dk_28 (dk_at dksX0_bench_0 5 rfl rfl)
theorem dX0_bench_6 : decode cX0_bench 6 = .ok (.iload_n 3, 1) := dk_29 (dk_at dksX0_bench_0 6 rfl rfl)
theorem dX0_bench_7 : decode cX0_bench 7 = .ok (.iload 4, 2) := dk_21 4 (dk_at dksX0_bench_0 7 rfl rfl)
theorem dX0_bench_9 : decode cX0_bench 9 = .ok (.invokevirtual 83, 3) := dk_182 0 83 (dk_at dksX0_bench_0 9 rfl rfl)
theorem dX0_bench_12 : decode cX0_bench 12 = .ok (.i2l, 1) := dk_133 (dk_at dksX0_bench_0 12 rfl rfl)
theorem dX0_bench_13 : decode cX0_bench 13 = .ok (.lastore, 1) := dk_80 (dk_at dksX0_bench_0 13 rfl rfl)
theorem dX0_bench_14 : decode cX0_bench 14 = .ok (.goto 11, 3) := dk_167 0 11 (dk_at dksX0_bench_0 14 rfl rfl)
theorem dX0_bench_17 : decode cX0_bench 17 = .ok (.astore 6, 2) := dk_58 6 (dk_at dksX0_bench_0 17 rfl rfl)
theorem dX0_bench_19 : decode cX0_bench 19 = .ok (.iconst 1, 1) := dk_4 (dk_at dksX0_bench_0 19 rfl rfl)
theorem dX0_bench_20 : decode cX0_bench 20 = .ok (.ireturn, 1) := dk_172 (dk_at dksX0_bench_0 20 rfl rfl)
theorem dX0_bench_21 : decode cX0_bench 21 = .ok (.astore 6, 2) := dk_58 6 (dk_at dksX0_bench_0 21 rfl rfl)
theorem dX0_bench_23 : decode cX0_bench 23 = .ok (.iconst 2, 1) := dk_5 (dk_at dksX0_bench_0 23 rfl rfl)
theorem dX0_bench_24 : decode cX0_bench 24 = .ok (.ireturn, 1) := dk_172 (dk_at dksX0_bench_1 0 rfl rfl)
theorem dX0_bench_25 : decode cX0_bench 25 = .ok (.iconst 0, 1) := dk_3 (dk_at dksX0_bench_1 1 rfl rfl)
theorem dX0_bench_26 : decode cX0_bench 26 = .ok (.ireturn, 1) := dk_172 (dk_at dksX0_bench_1 2 rfl rfl)
abbrev cX0_after : ByteArray := method_25_code
def yX0_after : MethodName := ⟨RX0, "after", "(LWoolThreads;IIIZ[J)I"⟩
def dkwX0_after_0 : List UInt8 := [25, 5, 3, 42, 27, 28, 29, 21, 4, 182, 0, 86, 133, 80, 167, 0, 7, 58, 6, 4, 172, 3, 172]
abbrev dktX0_after_0 : List UInt8 := dkwX0_after_0 ++ []
theorem dksX0_after_0 : cX0_after.data.toList.drop 0 = dktX0_after_0 := by decide +kernel
theorem dX0_after_0 : decode cX0_after 0 = .ok (.aload 5, 2) := dk_25 5 (dk_at dksX0_after_0 0 rfl rfl)
theorem dX0_after_2 : decode cX0_after 2 = .ok (.iconst 0, 1) := dk_3 (dk_at dksX0_after_0 2 rfl rfl)
theorem dX0_after_3 : decode cX0_after 3 = .ok (.aload_n 0, 1) := dk_42 (dk_at dksX0_after_0 3 rfl rfl)
theorem dX0_after_4 : decode cX0_after 4 = .ok (.iload_n 1, 1) := dk_27 (dk_at dksX0_after_0 4 rfl rfl)
theorem dX0_after_5 : decode cX0_after 5 = .ok (.iload_n 2, 1) := dk_28 (dk_at dksX0_after_0 5 rfl rfl)
theorem dX0_after_6 : decode cX0_after 6 = .ok (.iload_n 3, 1) := dk_29 (dk_at dksX0_after_0 6 rfl rfl)
theorem dX0_after_7 : decode cX0_after 7 = .ok (.iload 4, 2) := dk_21 4 (dk_at dksX0_after_0 7 rfl rfl)
theorem dX0_after_9 : decode cX0_after 9 = .ok (.invokevirtual 86, 3) := dk_182 0 86 (dk_at dksX0_after_0 9 rfl rfl)
theorem dX0_after_12 : decode cX0_after 12 = .ok (.i2l, 1) := dk_133 (dk_at dksX0_after_0 12 rfl rfl)
theorem dX0_after_13 : decode cX0_after 13 = .ok (.lastore, 1) := dk_80 (dk_at dksX0_after_0 13 rfl rfl)
theorem dX0_after_14 : decode cX0_after 14 = .ok (.goto 7, 3) := dk_167 0 7 (dk_at dksX0_after_0 14 rfl rfl)
theorem dX0_after_17 : decode cX0_after 17 = .ok (.astore 6, 2) := dk_58 6 (dk_at dksX0_after_0 17 rfl rfl)
theorem dX0_after_19 : decode cX0_after 19 = .ok (.iconst 1, 1) := dk_4 (dk_at dksX0_after_0 19 rfl rfl)
theorem dX0_after_20 : decode cX0_after 20 = .ok (.ireturn, 1) := dk_172 (dk_at dksX0_after_0 20 rfl rfl)
theorem dX0_after_21 : decode cX0_after 21 = .ok (.iconst 0, 1) := dk_3 (dk_at dksX0_after_0 21 rfl rfl)
theorem dX0_after_22 : decode cX0_after 22 = .ok (.ireturn, 1) := dk_172 (dk_at dksX0_after_0 22 rfl rfl)
abbrev cX0_seat : ByteArray := method_26_code
def yX0_seat : MethodName := ⟨RX0, "seat", "(LWoolThreads;I[J)I"⟩
def dkwX0_seat_0 : List UInt8 := [44, 3, 42, 27, 182, 0, 90, 133, 80, 167, 0, 6, 78, 4, 172, 3, 172]
abbrev dktX0_seat_0 : List UInt8 := dkwX0_seat_0 ++ []
theorem dksX0_seat_0 : cX0_seat.data.toList.drop 0 = dktX0_seat_0 := by decide +kernel
theorem dX0_seat_0 : decode cX0_seat 0 = .ok (.aload_n 2, 1) := dk_44 (dk_at dksX0_seat_0 0 rfl rfl)
theorem dX0_seat_1 : decode cX0_seat 1 = .ok (.iconst 0, 1) := dk_3 (dk_at dksX0_seat_0 1 rfl rfl)
theorem dX0_seat_2 : decode cX0_seat 2 = .ok (.aload_n 0, 1) := dk_42 (dk_at dksX0_seat_0 2 rfl rfl)
theorem dX0_seat_3 : decode cX0_seat 3 = .ok (.iload_n 1, 1) := dk_27 (dk_at dksX0_seat_0 3 rfl rfl)
theorem dX0_seat_4 : decode cX0_seat 4 = .ok (.invokevirtual 90, 3) := dk_182 0 90 (dk_at dksX0_seat_0 4 rfl rfl)
theorem dX0_seat_7 : decode cX0_seat 7 = .ok (.i2l, 1) := dk_133 (dk_at dksX0_seat_0 7 rfl rfl)
theorem dX0_seat_8 : decode cX0_seat 8 = .ok (.lastore, 1) := dk_80 (dk_at dksX0_seat_0 8 rfl rfl)
theorem dX0_seat_9 : decode cX0_seat 9 = .ok (.goto 6, 3) := dk_167 0 6 (dk_at dksX0_seat_0 9 rfl rfl)
theorem dX0_seat_12 : decode cX0_seat 12 = .ok (.astore_n 3, 1) := dk_78 (dk_at dksX0_seat_0 12 rfl rfl)
theorem dX0_seat_13 : decode cX0_seat 13 = .ok (.iconst 1, 1) := dk_4 (dk_at dksX0_seat_0 13 rfl rfl)
theorem dX0_seat_14 : decode cX0_seat 14 = .ok (.ireturn, 1) := dk_172 (dk_at dksX0_seat_0 14 rfl rfl)
theorem dX0_seat_15 : decode cX0_seat 15 = .ok (.iconst 0, 1) := dk_3 (dk_at dksX0_seat_0 15 rfl rfl)
theorem dX0_seat_16 : decode cX0_seat 16 = .ok (.ireturn, 1) := dk_172 (dk_at dksX0_seat_0 16 rfl rfl)
abbrev cX0_share : ByteArray := method_27_code
def yX0_share : MethodName := ⟨RX0, "share", "(LWoolThreads;I[J)I"⟩
def dkwX0_share_0 : List UInt8 := [44, 3, 42, 27, 182, 0, 93, 133, 80, 167, 0, 6, 78, 4, 172, 3, 172]
abbrev dktX0_share_0 : List UInt8 := dkwX0_share_0 ++ []
theorem dksX0_share_0 : cX0_share.data.toList.drop 0 = dktX0_share_0 := by decide +kernel
theorem dX0_share_0 : decode cX0_share 0 = .ok (.aload_n 2, 1) := dk_44 (dk_at dksX0_share_0 0 rfl rfl)
theorem dX0_share_1 : decode cX0_share 1 = .ok (.iconst 0, 1) := dk_3 (dk_at dksX0_share_0 1 rfl rfl)
theorem dX0_share_2 : decode cX0_share 2 = .ok (.aload_n 0, 1) := dk_42 (dk_at dksX0_share_0 2 rfl rfl)
theorem dX0_share_3 : decode cX0_share 3 = .ok (.iload_n 1, 1) := dk_27 (dk_at dksX0_share_0 3 rfl rfl)
theorem dX0_share_4 : decode cX0_share 4 = .ok (.invokevirtual 93, 3) := dk_182 0 93 (dk_at dksX0_share_0 4 rfl rfl)
theorem dX0_share_7 : decode cX0_share 7 = .ok (.i2l, 1) := dk_133 (dk_at dksX0_share_0 7 rfl rfl)
theorem dX0_share_8 : decode cX0_share 8 = .ok (.lastore, 1) := dk_80 (dk_at dksX0_share_0 8 rfl rfl)
theorem dX0_share_9 : decode cX0_share 9 = .ok (.goto 6, 3) := dk_167 0 6 (dk_at dksX0_share_0 9 rfl rfl)
theorem dX0_share_12 : decode cX0_share 12 = .ok (.astore_n 3, 1) := dk_78 (dk_at dksX0_share_0 12 rfl rfl)
theorem dX0_share_13 : decode cX0_share 13 = .ok (.iconst 1, 1) := dk_4 (dk_at dksX0_share_0 13 rfl rfl)
theorem dX0_share_14 : decode cX0_share 14 = .ok (.ireturn, 1) := dk_172 (dk_at dksX0_share_0 14 rfl rfl)
theorem dX0_share_15 : decode cX0_share 15 = .ok (.iconst 0, 1) := dk_3 (dk_at dksX0_share_0 15 rfl rfl)
theorem dX0_share_16 : decode cX0_share 16 = .ok (.ireturn, 1) := dk_172 (dk_at dksX0_share_0 16 rfl rfl)
abbrev cX0_together : ByteArray := method_28_code
def yX0_together : MethodName := ⟨RX0, "together", "(LWoolThreads;II[J)I"⟩
def dkwX0_together_0 : List UInt8 := [45, 3, 42, 27, 28, 182, 0, 96, 133, 80, 167, 0, 7, 58, 4, 4, 172, 3, 172]
abbrev dktX0_together_0 : List UInt8 := dkwX0_together_0 ++ []
theorem dksX0_together_0 : cX0_together.data.toList.drop 0 = dktX0_together_0 := by decide +kernel
theorem dX0_together_0 : decode cX0_together 0 = .ok (.aload_n 3, 1) := dk_45 (dk_at dksX0_together_0 0 rfl rfl)
theorem dX0_together_1 : decode cX0_together 1 = .ok (.iconst 0, 1) := dk_3 (dk_at dksX0_together_0 1 rfl rfl)
theorem dX0_together_2 : decode cX0_together 2 = .ok (.aload_n 0, 1) := dk_42 (dk_at dksX0_together_0 2 rfl rfl)
theorem dX0_together_3 : decode cX0_together 3 = .ok (.iload_n 1, 1) := dk_27 (dk_at dksX0_together_0 3 rfl rfl)
theorem dX0_together_4 : decode cX0_together 4 = .ok (.iload_n 2, 1) := dk_28 (dk_at dksX0_together_0 4 rfl rfl)
theorem dX0_together_5 : decode cX0_together 5 = .ok (.invokevirtual 96, 3) := dk_182 0 96 (dk_at dksX0_together_0 5 rfl rfl)
theorem dX0_together_8 : decode cX0_together 8 = .ok (.i2l, 1) := dk_133 (dk_at dksX0_together_0 8 rfl rfl)
theorem dX0_together_9 : decode cX0_together 9 = .ok (.lastore, 1) := dk_80 (dk_at dksX0_together_0 9 rfl rfl)
theorem dX0_together_10 : decode cX0_together 10 = .ok (.goto 7, 3) := dk_167 0 7 (dk_at dksX0_together_0 10 rfl rfl)
theorem dX0_together_13 : decode cX0_together 13 = .ok (.astore 4, 2) := dk_58 4 (dk_at dksX0_together_0 13 rfl rfl)
theorem dX0_together_15 : decode cX0_together 15 = .ok (.iconst 1, 1) := dk_4 (dk_at dksX0_together_0 15 rfl rfl)
theorem dX0_together_16 : decode cX0_together 16 = .ok (.ireturn, 1) := dk_172 (dk_at dksX0_together_0 16 rfl rfl)
theorem dX0_together_17 : decode cX0_together 17 = .ok (.iconst 0, 1) := dk_3 (dk_at dksX0_together_0 17 rfl rfl)
theorem dX0_together_18 : decode cX0_together 18 = .ok (.ireturn, 1) := dk_172 (dk_at dksX0_together_0 18 rfl rfl)
abbrev cX0_shop : ByteArray := method_29_code
def yX0_shop : MethodName := ⟨RX0, "shop", "(LWoolThreads;III[J)I"⟩
def dkwX0_shop_0 : List UInt8 := [25, 4, 3, 42, 27, 28, 29, 182, 0, 99, 133, 80, 167, 0, 7, 58, 5, 4, 172, 3, 172]
abbrev dktX0_shop_0 : List UInt8 := dkwX0_shop_0 ++ []
theorem dksX0_shop_0 : cX0_shop.data.toList.drop 0 = dktX0_shop_0 := by decide +kernel
theorem dX0_shop_0 : decode cX0_shop 0 = .ok (.aload 4, 2) := dk_25 4 (dk_at dksX0_shop_0 0 rfl rfl)
theorem dX0_shop_2 : decode cX0_shop 2 = .ok (.iconst 0, 1) := dk_3 (dk_at dksX0_shop_0 2 rfl rfl)
theorem dX0_shop_3 : decode cX0_shop 3 = .ok (.aload_n 0, 1) := dk_42 (dk_at dksX0_shop_0 3 rfl rfl)
theorem dX0_shop_4 : decode cX0_shop 4 = .ok (.iload_n 1, 1) := dk_27 (dk_at dksX0_shop_0 4 rfl rfl)
theorem dX0_shop_5 : decode cX0_shop 5 = .ok (.iload_n 2, 1) := dk_28 (dk_at dksX0_shop_0 5 rfl rfl)
theorem dX0_shop_6 : decode cX0_shop 6 = .ok (.iload_n 3, 1) := dk_29 (dk_at dksX0_shop_0 6 rfl rfl)
theorem dX0_shop_7 : decode cX0_shop 7 = .ok (.invokevirtual 99, 3) := dk_182 0 99 (dk_at dksX0_shop_0 7 rfl rfl)
theorem dX0_shop_10 : decode cX0_shop 10 = .ok (.i2l, 1) := dk_133 (dk_at dksX0_shop_0 10 rfl rfl)
theorem dX0_shop_11 : decode cX0_shop 11 = .ok (.lastore, 1) := dk_80 (dk_at dksX0_shop_0 11 rfl rfl)
theorem dX0_shop_12 : decode cX0_shop 12 = .ok (.goto 7, 3) := dk_167 0 7 (dk_at dksX0_shop_0 12 rfl rfl)
theorem dX0_shop_15 : decode cX0_shop 15 = .ok (.astore 5, 2) := dk_58 5 (dk_at dksX0_shop_0 15 rfl rfl)
theorem dX0_shop_17 : decode cX0_shop 17 = .ok (.iconst 1, 1) := dk_4 (dk_at dksX0_shop_0 17 rfl rfl)
theorem dX0_shop_18 : decode cX0_shop 18 = .ok (.ireturn, 1) := dk_172 (dk_at dksX0_shop_0 18 rfl rfl)
theorem dX0_shop_19 : decode cX0_shop 19 = .ok (.iconst 0, 1) := dk_3 (dk_at dksX0_shop_0 19 rfl rfl)
theorem dX0_shop_20 : decode cX0_shop 20 = .ok (.ireturn, 1) := dk_172 (dk_at dksX0_shop_0 20 rfl rfl)
abbrev cX0_rare : ByteArray := method_30_code
def yX0_rare : MethodName := ⟨RX0, "rare", "(LWoolThreads;II[J)I"⟩
def dkwX0_rare_0 : List UInt8 := [45, 3, 42, 27, 28, 182, 0, 102, 133, 80, 167, 0, 7, 58, 4, 4, 172, 3, 172]
abbrev dktX0_rare_0 : List UInt8 := dkwX0_rare_0 ++ []
theorem dksX0_rare_0 : cX0_rare.data.toList.drop 0 = dktX0_rare_0 := by decide +kernel
theorem dX0_rare_0 : decode cX0_rare 0 = .ok (.aload_n 3, 1) := dk_45 (dk_at dksX0_rare_0 0 rfl rfl)
theorem dX0_rare_1 : decode cX0_rare 1 = .ok (.iconst 0, 1) := dk_3 (dk_at dksX0_rare_0 1 rfl rfl)
theorem dX0_rare_2 : decode cX0_rare 2 = .ok (.aload_n 0, 1) := dk_42 (dk_at dksX0_rare_0 2 rfl rfl)
theorem dX0_rare_3 : decode cX0_rare 3 = .ok (.iload_n 1, 1) := dk_27 (dk_at dksX0_rare_0 3 rfl rfl)
theorem dX0_rare_4 : decode cX0_rare 4 = .ok (.iload_n 2, 1) := dk_28 (dk_at dksX0_rare_0 4 rfl rfl)
theorem dX0_rare_5 : decode cX0_rare 5 = .ok (.invokevirtual 102, 3) := dk_182 0 102 (dk_at dksX0_rare_0 5 rfl rfl)
theorem dX0_rare_8 : decode cX0_rare 8 = .ok (.i2l, 1) := dk_133 (dk_at dksX0_rare_0 8 rfl rfl)
theorem dX0_rare_9 : decode cX0_rare 9 = .ok (.lastore, 1) := dk_80 (dk_at dksX0_rare_0 9 rfl rfl)
theorem dX0_rare_10 : decode cX0_rare 10 = .ok (.goto 7, 3) := dk_167 0 7 (dk_at dksX0_rare_0 10 rfl rfl)
theorem dX0_rare_13 : decode cX0_rare 13 = .ok (.astore 4, 2) := dk_58 4 (dk_at dksX0_rare_0 13 rfl rfl)
theorem dX0_rare_15 : decode cX0_rare 15 = .ok (.iconst 1, 1) := dk_4 (dk_at dksX0_rare_0 15 rfl rfl)
theorem dX0_rare_16 : decode cX0_rare 16 = .ok (.ireturn, 1) := dk_172 (dk_at dksX0_rare_0 16 rfl rfl)
theorem dX0_rare_17 : decode cX0_rare 17 = .ok (.iconst 0, 1) := dk_3 (dk_at dksX0_rare_0 17 rfl rfl)
theorem dX0_rare_18 : decode cX0_rare 18 = .ok (.ireturn, 1) := dk_172 (dk_at dksX0_rare_0 18 rfl rfl)
abbrev cX0_next : ByteArray := method_31_code
def yX0_next : MethodName := ⟨RX0, "next", "(LWoolThreads;III[J)I"⟩
def dkwX0_next_1 : List UInt8 := [172]
abbrev dktX0_next_1 : List UInt8 := dkwX0_next_1 ++ []
def dkwX0_next_0 : List UInt8 := [25, 4, 3, 42, 27, 28, 29, 182, 0, 105, 133, 80, 167, 0, 11, 58, 5, 4, 172, 58, 5, 5, 172, 3]
abbrev dktX0_next_0 : List UInt8 := dkwX0_next_0 ++ dktX0_next_1
theorem dksX0_next_0 : cX0_next.data.toList.drop 0 = dktX0_next_0 := by decide +kernel
theorem dksX0_next_1 : cX0_next.data.toList.drop 24 = dktX0_next_1 := dk_seg dksX0_next_0 24 rfl rfl
theorem dX0_next_0 : decode cX0_next 0 = .ok (.aload 4, 2) := dk_25 4 (dk_at dksX0_next_0 0 rfl rfl)
theorem dX0_next_2 : decode cX0_next 2 = .ok (.iconst 0, 1) := dk_3 (dk_at dksX0_next_0 2 rfl rfl)
theorem dX0_next_3 : decode cX0_next 3 = .ok (.aload_n 0, 1) := dk_42 (dk_at dksX0_next_0 3 rfl rfl)
theorem dX0_next_4 : decode cX0_next 4 = .ok (.iload_n 1, 1) := dk_27 (dk_at dksX0_next_0 4 rfl rfl)
theorem dX0_next_5 : decode cX0_next 5 = .ok (.iload_n 2, 1) := dk_28 (dk_at dksX0_next_0 5 rfl rfl)
theorem dX0_next_6 : decode cX0_next 6 = .ok (.iload_n 3, 1) := dk_29 (dk_at dksX0_next_0 6 rfl rfl)
theorem dX0_next_7 : decode cX0_next 7 = .ok (.invokevirtual 105, 3) := dk_182 0 105 (dk_at dksX0_next_0 7 rfl rfl)
theorem dX0_next_10 : decode cX0_next 10 = .ok (.i2l, 1) := dk_133 (dk_at dksX0_next_0 10 rfl rfl)
theorem dX0_next_11 : decode cX0_next 11 = .ok (.lastore, 1) := dk_80 (dk_at dksX0_next_0 11 rfl rfl)
theorem dX0_next_12 : decode cX0_next 12 = .ok (.goto 11, 3) := dk_167 0 11 (dk_at dksX0_next_0 12 rfl rfl)
theorem dX0_next_15 : decode cX0_next 15 = .ok (.astore 5, 2) := dk_58 5 (dk_at dksX0_next_0 15 rfl rfl)
theorem dX0_next_17 : decode cX0_next 17 = .ok (.iconst 1, 1) := dk_4 (dk_at dksX0_next_0 17 rfl rfl)
theorem dX0_next_18 : decode cX0_next 18 = .ok (.ireturn, 1) := dk_172 (dk_at dksX0_next_0 18 rfl rfl)
theorem dX0_next_19 : decode cX0_next 19 = .ok (.astore 5, 2) := dk_58 5 (dk_at dksX0_next_0 19 rfl rfl)
theorem dX0_next_21 : decode cX0_next 21 = .ok (.iconst 2, 1) := dk_5 (dk_at dksX0_next_0 21 rfl rfl)
theorem dX0_next_22 : decode cX0_next 22 = .ok (.ireturn, 1) := dk_172 (dk_at dksX0_next_0 22 rfl rfl)
theorem dX0_next_23 : decode cX0_next 23 = .ok (.iconst 0, 1) := dk_3 (dk_at dksX0_next_0 23 rfl rfl)
theorem dX0_next_24 : decode cX0_next 24 = .ok (.ireturn, 1) := dk_172 (dk_at dksX0_next_1 0 rfl rfl)
abbrev cX0_signs : ByteArray := method_32_code
def yX0_signs : MethodName := ⟨RX0, "signs", "(LWoolThreads;II[J)I"⟩
def dkwX0_signs_0 : List UInt8 := [45, 3, 42, 27, 28, 182, 0, 108, 133, 80, 167, 0, 11, 58, 4, 4, 172, 58, 4, 5, 172, 3, 172]
abbrev dktX0_signs_0 : List UInt8 := dkwX0_signs_0 ++ []
theorem dksX0_signs_0 : cX0_signs.data.toList.drop 0 = dktX0_signs_0 := by decide +kernel
theorem dX0_signs_0 : decode cX0_signs 0 = .ok (.aload_n 3, 1) := dk_45 (dk_at dksX0_signs_0 0 rfl rfl)
theorem dX0_signs_1 : decode cX0_signs 1 = .ok (.iconst 0, 1) := dk_3 (dk_at dksX0_signs_0 1 rfl rfl)
theorem dX0_signs_2 : decode cX0_signs 2 = .ok (.aload_n 0, 1) := dk_42 (dk_at dksX0_signs_0 2 rfl rfl)
theorem dX0_signs_3 : decode cX0_signs 3 = .ok (.iload_n 1, 1) := dk_27 (dk_at dksX0_signs_0 3 rfl rfl)
theorem dX0_signs_4 : decode cX0_signs 4 = .ok (.iload_n 2, 1) := dk_28 (dk_at dksX0_signs_0 4 rfl rfl)
theorem dX0_signs_5 : decode cX0_signs 5 = .ok (.invokevirtual 108, 3) := dk_182 0 108 (dk_at dksX0_signs_0 5 rfl rfl)
theorem dX0_signs_8 : decode cX0_signs 8 = .ok (.i2l, 1) := dk_133 (dk_at dksX0_signs_0 8 rfl rfl)
theorem dX0_signs_9 : decode cX0_signs 9 = .ok (.lastore, 1) := dk_80 (dk_at dksX0_signs_0 9 rfl rfl)
theorem dX0_signs_10 : decode cX0_signs 10 = .ok (.goto 11, 3) := dk_167 0 11 (dk_at dksX0_signs_0 10 rfl rfl)
theorem dX0_signs_13 : decode cX0_signs 13 = .ok (.astore 4, 2) := dk_58 4 (dk_at dksX0_signs_0 13 rfl rfl)
theorem dX0_signs_15 : decode cX0_signs 15 = .ok (.iconst 1, 1) := dk_4 (dk_at dksX0_signs_0 15 rfl rfl)
theorem dX0_signs_16 : decode cX0_signs 16 = .ok (.ireturn, 1) := dk_172 (dk_at dksX0_signs_0 16 rfl rfl)
theorem dX0_signs_17 : decode cX0_signs 17 = .ok (.astore 4, 2) := dk_58 4 (dk_at dksX0_signs_0 17 rfl rfl)
theorem dX0_signs_19 : decode cX0_signs 19 = .ok (.iconst 2, 1) := dk_5 (dk_at dksX0_signs_0 19 rfl rfl)
theorem dX0_signs_20 : decode cX0_signs 20 = .ok (.ireturn, 1) := dk_172 (dk_at dksX0_signs_0 20 rfl rfl)
theorem dX0_signs_21 : decode cX0_signs 21 = .ok (.iconst 0, 1) := dk_3 (dk_at dksX0_signs_0 21 rfl rfl)
theorem dX0_signs_22 : decode cX0_signs 22 = .ok (.ireturn, 1) := dk_172 (dk_at dksX0_signs_0 22 rfl rfl)
abbrev cX0_said : ByteArray := method_33_code
def yX0_said : MethodName := ⟨RX0, "said", "(LWoolThreads;II[J)I"⟩
def dkwX0_said_0 : List UInt8 := [45, 3, 42, 27, 28, 182, 0, 111, 133, 80, 167, 0, 7, 58, 4, 4, 172, 3, 172]
abbrev dktX0_said_0 : List UInt8 := dkwX0_said_0 ++ []
theorem dksX0_said_0 : cX0_said.data.toList.drop 0 = dktX0_said_0 := by decide +kernel
theorem dX0_said_0 : decode cX0_said 0 = .ok (.aload_n 3, 1) := dk_45 (dk_at dksX0_said_0 0 rfl rfl)
theorem dX0_said_1 : decode cX0_said 1 = .ok (.iconst 0, 1) := dk_3 (dk_at dksX0_said_0 1 rfl rfl)
theorem dX0_said_2 : decode cX0_said 2 = .ok (.aload_n 0, 1) := dk_42 (dk_at dksX0_said_0 2 rfl rfl)
theorem dX0_said_3 : decode cX0_said 3 = .ok (.iload_n 1, 1) := dk_27 (dk_at dksX0_said_0 3 rfl rfl)
theorem dX0_said_4 : decode cX0_said 4 = .ok (.iload_n 2, 1) := dk_28 (dk_at dksX0_said_0 4 rfl rfl)
theorem dX0_said_5 : decode cX0_said 5 = .ok (.invokevirtual 111, 3) := dk_182 0 111 (dk_at dksX0_said_0 5 rfl rfl)
theorem dX0_said_8 : decode cX0_said 8 = .ok (.i2l, 1) := dk_133 (dk_at dksX0_said_0 8 rfl rfl)
theorem dX0_said_9 : decode cX0_said 9 = .ok (.lastore, 1) := dk_80 (dk_at dksX0_said_0 9 rfl rfl)
theorem dX0_said_10 : decode cX0_said 10 = .ok (.goto 7, 3) := dk_167 0 7 (dk_at dksX0_said_0 10 rfl rfl)
theorem dX0_said_13 : decode cX0_said 13 = .ok (.astore 4, 2) := dk_58 4 (dk_at dksX0_said_0 13 rfl rfl)
theorem dX0_said_15 : decode cX0_said 15 = .ok (.iconst 1, 1) := dk_4 (dk_at dksX0_said_0 15 rfl rfl)
theorem dX0_said_16 : decode cX0_said 16 = .ok (.ireturn, 1) := dk_172 (dk_at dksX0_said_0 16 rfl rfl)
theorem dX0_said_17 : decode cX0_said 17 = .ok (.iconst 0, 1) := dk_3 (dk_at dksX0_said_0 17 rfl rfl)
theorem dX0_said_18 : decode cX0_said 18 = .ok (.ireturn, 1) := dk_172 (dk_at dksX0_said_0 18 rfl rfl)
theorem q65 : (Jvm.Cond.initialized "WoolThreadsLaw") ∈ lw_all := lw_g (lw_at lw_m1 0 rfl) rfl
theorem q104 : (Jvm.Cond.classLink "WoolThreadsLaw" (8 : Nat) "WoolThreads") ∈ lw_all := lw_g (lw_at lw_m1 39 rfl) rfl
theorem q106 : (Jvm.Cond.methodLink "WoolThreadsLaw" (114 : Nat) ({ cls := "WoolThreads", name := "<init>", desc := "()V" } : Jvm.MethodName)) ∈ lw_all := lw_g (lw_at lw_m1 41 rfl) rfl
theorem q561 : (Jvm.Cond.methodLink "WoolThreadsLaw" (118 : Nat) ({ cls := "WoolThreads", name := "feed", desc := "(IIIII)I" } : Jvm.MethodName)) ∈ lw_all := lw_g (lw_at lw_m3 16 rfl) rfl
theorem q569 : (Jvm.Cond.methodLink "WoolThreadsLaw" (136 : Nat) ({ cls := "WoolThreads", name := "fault", desc := "()I" } : Jvm.MethodName)) ∈ lw_all := lw_g (lw_at lw_m3 24 rfl) rfl
theorem q573 : (Jvm.Cond.methodLink "WoolThreadsLaw" (232 : Nat) ({ cls := "WoolThreads", name := "image", desc := "()I" } : Jvm.MethodName)) ∈ lw_all := lw_g (lw_at lw_m3 28 rfl) rfl
theorem q658 : (Jvm.Cond.methodLink "WoolThreadsLaw" (236 : Nat) ({ cls := "WoolThreads", name := "restore", desc := "()I" } : Jvm.MethodName)) ∈ lw_all := lw_g (lw_at lw_m3 113 rfl) rfl
theorem q662 : (Jvm.Cond.methodLink "WoolThreadsLaw" (240 : Nat) ({ cls := "WoolThreads", name := "count", desc := "(I)I" } : Jvm.MethodName)) ∈ lw_all := lw_g (lw_at lw_m3 117 rfl) rfl
theorem q667 : (Jvm.Cond.methodLink "WoolThreadsLaw" (123 : Nat) ({ cls := "WoolThreadsLaw", name := "law", desc := "(LWoolThreads;I[J)I" } : Jvm.MethodName)) ∈ lw_all := lw_g (lw_at lw_m3 122 rfl) rfl
theorem q668 : (Jvm.Cond.static ({ cls := "WoolThreadsLaw", name := "law", desc := "(LWoolThreads;I[J)I" } : Jvm.MethodName)) ∈ lw_all := lw_g (lw_at lw_m3 123 rfl) rfl
theorem q669 : (Jvm.Cond.codeWith ({ cls := "WoolThreadsLaw", name := "law", desc := "(LWoolThreads;I[J)I" } : Jvm.MethodName) method_3_code (4 : Nat) (Option.some Jvm.ClassFile.FieldType.int) [((0 : Nat), (9 : Nat), (12 : Nat), (13 : Nat))]) ∈ lw_all := lw_g (lw_at lw_m3 124 rfl) rfl
theorem q670 : (Jvm.Cond.classLink "WoolThreadsLaw" (13 : Nat) "java/lang/IllegalArgumentException") ∈ lw_all := lw_g (lw_at lw_m3 125 rfl) rfl
theorem q671 : (Jvm.Cond.methodLink "WoolThreadsLaw" (7 : Nat) ({ cls := "WoolThreads", name := "law", desc := "(I)I" } : Jvm.MethodName)) ∈ lw_all := lw_g (lw_at lw_m3 126 rfl) rfl
theorem q877 : (Jvm.Cond.methodLink "WoolThreadsLaw" (133 : Nat) ({ cls := "WoolThreadsLaw", name := "story", desc := "(LWoolThreads;I[J)I" } : Jvm.MethodName)) ∈ lw_all := lw_g (lw_at lw_m4 92 rfl) rfl
theorem q878 : (Jvm.Cond.static ({ cls := "WoolThreadsLaw", name := "story", desc := "(LWoolThreads;I[J)I" } : Jvm.MethodName)) ∈ lw_all := lw_g (lw_at lw_m4 93 rfl) rfl
theorem q879 : (Jvm.Cond.codeWith ({ cls := "WoolThreadsLaw", name := "story", desc := "(LWoolThreads;I[J)I" } : Jvm.MethodName) method_4_code (4 : Nat) (Option.some Jvm.ClassFile.FieldType.int) [((0 : Nat), (9 : Nat), (12 : Nat), (13 : Nat))]) ∈ lw_all := lw_g (lw_at lw_m4 94 rfl) rfl
theorem q880 : (Jvm.Cond.methodLink "WoolThreadsLaw" (15 : Nat) ({ cls := "WoolThreads", name := "story", desc := "(I)I" } : Jvm.MethodName)) ∈ lw_all := lw_g (lw_at lw_m4 95 rfl) rfl
theorem q971 : (Jvm.Cond.methodLink "WoolThreadsLaw" (140 : Nat) ({ cls := "WoolThreadsLaw", name := "sheds", desc := "(LWoolThreads;II[J)I" } : Jvm.MethodName)) ∈ lw_all := lw_g (lw_at lw_m4 186 rfl) rfl
theorem q972 : (Jvm.Cond.static ({ cls := "WoolThreadsLaw", name := "sheds", desc := "(LWoolThreads;II[J)I" } : Jvm.MethodName)) ∈ lw_all := lw_g (lw_at lw_m4 187 rfl) rfl
theorem q973 : (Jvm.Cond.codeWith ({ cls := "WoolThreadsLaw", name := "sheds", desc := "(LWoolThreads;II[J)I" } : Jvm.MethodName) method_5_code (5 : Nat) (Option.some Jvm.ClassFile.FieldType.int) [((0 : Nat), (10 : Nat), (13 : Nat), (13 : Nat))]) ∈ lw_all := lw_g (lw_at lw_m4 188 rfl) rfl
theorem q974 : (Jvm.Cond.methodLink "WoolThreadsLaw" (18 : Nat) ({ cls := "WoolThreads", name := "sheds", desc := "(II)I" } : Jvm.MethodName)) ∈ lw_all := lw_g (lw_at lw_m4 189 rfl) rfl
theorem q981 : (Jvm.Cond.methodLink "WoolThreadsLaw" (144 : Nat) ({ cls := "WoolThreadsLaw", name := "told", desc := "(LWoolThreads;II[J)I" } : Jvm.MethodName)) ∈ lw_all := lw_g (lw_at lw_m4 196 rfl) rfl
theorem q982 : (Jvm.Cond.static ({ cls := "WoolThreadsLaw", name := "told", desc := "(LWoolThreads;II[J)I" } : Jvm.MethodName)) ∈ lw_all := lw_g (lw_at lw_m4 197 rfl) rfl
theorem q983 : (Jvm.Cond.codeWith ({ cls := "WoolThreadsLaw", name := "told", desc := "(LWoolThreads;II[J)I" } : Jvm.MethodName) method_6_code (5 : Nat) (Option.some Jvm.ClassFile.FieldType.int) [((0 : Nat), (10 : Nat), (13 : Nat), (13 : Nat))]) ∈ lw_all := lw_g (lw_at lw_m4 198 rfl) rfl
theorem q984 : (Jvm.Cond.methodLink "WoolThreadsLaw" (22 : Nat) ({ cls := "WoolThreads", name := "told", desc := "(II)I" } : Jvm.MethodName)) ∈ lw_all := lw_g (lw_at lw_m4 199 rfl) rfl
theorem q988 : (Jvm.Cond.methodLink "WoolThreadsLaw" (147 : Nat) ({ cls := "WoolThreadsLaw", name := "alike", desc := "(LWoolThreads;I[J)I" } : Jvm.MethodName)) ∈ lw_all := lw_g (lw_at lw_m4 203 rfl) rfl
theorem q989 : (Jvm.Cond.static ({ cls := "WoolThreadsLaw", name := "alike", desc := "(LWoolThreads;I[J)I" } : Jvm.MethodName)) ∈ lw_all := lw_g (lw_at lw_m4 204 rfl) rfl
theorem q990 : (Jvm.Cond.codeWith ({ cls := "WoolThreadsLaw", name := "alike", desc := "(LWoolThreads;I[J)I" } : Jvm.MethodName) method_7_code (4 : Nat) (Option.some Jvm.ClassFile.FieldType.int) [((0 : Nat), (9 : Nat), (12 : Nat), (13 : Nat))]) ∈ lw_all := lw_g (lw_at lw_m4 205 rfl) rfl
theorem q991 : (Jvm.Cond.methodLink "WoolThreadsLaw" (25 : Nat) ({ cls := "WoolThreads", name := "alike", desc := "(I)I" } : Jvm.MethodName)) ∈ lw_all := lw_g (lw_at lw_m4 206 rfl) rfl
theorem q995 : (Jvm.Cond.methodLink "WoolThreadsLaw" (150 : Nat) ({ cls := "WoolThreadsLaw", name := "lies", desc := "(LWoolThreads;IIII[J)I" } : Jvm.MethodName)) ∈ lw_all := lw_g (lw_at lw_m4 210 rfl) rfl
theorem q996 : (Jvm.Cond.static ({ cls := "WoolThreadsLaw", name := "lies", desc := "(LWoolThreads;IIII[J)I" } : Jvm.MethodName)) ∈ lw_all := lw_g (lw_at lw_m4 211 rfl) rfl
theorem q997 : (Jvm.Cond.codeWith ({ cls := "WoolThreadsLaw", name := "lies", desc := "(LWoolThreads;IIII[J)I" } : Jvm.MethodName) method_8_code (7 : Nat) (Option.some Jvm.ClassFile.FieldType.int) [((0 : Nat), (14 : Nat), (17 : Nat), (32 : Nat)), ((0 : Nat), (14 : Nat), (21 : Nat), (13 : Nat))]) ∈ lw_all := lw_g (lw_at lw_m4 212 rfl) rfl
theorem q998 : (Jvm.Cond.classLink "WoolThreadsLaw" (32 : Nat) "java/util/NoSuchElementException") ∈ lw_all := lw_g (lw_at lw_m4 213 rfl) rfl
theorem q999 : (Jvm.Cond.methodLink "WoolThreadsLaw" (28 : Nat) ({ cls := "WoolThreads", name := "lies", desc := "(IIII)I" } : Jvm.MethodName)) ∈ lw_all := lw_g (lw_at lw_m4 214 rfl) rfl
theorem q1137 : (Jvm.Cond.methodLink "WoolThreadsLaw" (154 : Nat) ({ cls := "WoolThreadsLaw", name := "pile", desc := "(LWoolThreads;IIII[J)I" } : Jvm.MethodName)) ∈ lw_all := lw_g (lw_at lw_m5 112 rfl) rfl
theorem q1138 : (Jvm.Cond.static ({ cls := "WoolThreadsLaw", name := "pile", desc := "(LWoolThreads;IIII[J)I" } : Jvm.MethodName)) ∈ lw_all := lw_g (lw_at lw_m5 113 rfl) rfl
theorem q1139 : (Jvm.Cond.codeWith ({ cls := "WoolThreadsLaw", name := "pile", desc := "(LWoolThreads;IIII[J)I" } : Jvm.MethodName) method_9_code (7 : Nat) (Option.some Jvm.ClassFile.FieldType.int) [((0 : Nat), (14 : Nat), (17 : Nat), (32 : Nat)), ((0 : Nat), (14 : Nat), (21 : Nat), (13 : Nat))]) ∈ lw_all := lw_g (lw_at lw_m5 114 rfl) rfl
theorem q1140 : (Jvm.Cond.methodLink "WoolThreadsLaw" (34 : Nat) ({ cls := "WoolThreads", name := "pile", desc := "(IIII)I" } : Jvm.MethodName)) ∈ lw_all := lw_g (lw_at lw_m5 115 rfl) rfl
theorem q1148 : (Jvm.Cond.methodLink "WoolThreadsLaw" (157 : Nat) ({ cls := "WoolThreadsLaw", name := "wears", desc := "(LWoolThreads;III[J)I" } : Jvm.MethodName)) ∈ lw_all := lw_g (lw_at lw_m5 123 rfl) rfl
theorem q1149 : (Jvm.Cond.static ({ cls := "WoolThreadsLaw", name := "wears", desc := "(LWoolThreads;III[J)I" } : Jvm.MethodName)) ∈ lw_all := lw_g (lw_at lw_m5 124 rfl) rfl
theorem q1150 : (Jvm.Cond.codeWith ({ cls := "WoolThreadsLaw", name := "wears", desc := "(LWoolThreads;III[J)I" } : Jvm.MethodName) method_10_code (6 : Nat) (Option.some Jvm.ClassFile.FieldType.int) [((0 : Nat), (12 : Nat), (15 : Nat), (32 : Nat)), ((0 : Nat), (12 : Nat), (19 : Nat), (13 : Nat))]) ∈ lw_all := lw_g (lw_at lw_m5 125 rfl) rfl
theorem q1151 : (Jvm.Cond.methodLink "WoolThreadsLaw" (37 : Nat) ({ cls := "WoolThreads", name := "wears", desc := "(III)I" } : Jvm.MethodName)) ∈ lw_all := lw_g (lw_at lw_m5 126 rfl) rfl
theorem q1155 : (Jvm.Cond.methodLink "WoolThreadsLaw" (161 : Nat) ({ cls := "WoolThreadsLaw", name := "find", desc := "(LWoolThreads;IIII[J)I" } : Jvm.MethodName)) ∈ lw_all := lw_g (lw_at lw_m5 130 rfl) rfl
theorem q1156 : (Jvm.Cond.static ({ cls := "WoolThreadsLaw", name := "find", desc := "(LWoolThreads;IIII[J)I" } : Jvm.MethodName)) ∈ lw_all := lw_g (lw_at lw_m5 131 rfl) rfl
theorem q1157 : (Jvm.Cond.codeWith ({ cls := "WoolThreadsLaw", name := "find", desc := "(LWoolThreads;IIII[J)I" } : Jvm.MethodName) method_11_code (7 : Nat) (Option.some Jvm.ClassFile.FieldType.int) [((0 : Nat), (14 : Nat), (17 : Nat), (13 : Nat))]) ∈ lw_all := lw_g (lw_at lw_m5 132 rfl) rfl
theorem q1158 : (Jvm.Cond.methodLink "WoolThreadsLaw" (41 : Nat) ({ cls := "WoolThreads", name := "find", desc := "(IIII)I" } : Jvm.MethodName)) ∈ lw_all := lw_g (lw_at lw_m5 133 rfl) rfl
theorem q1189 : (Jvm.Cond.methodLink "WoolThreadsLaw" (164 : Nat) ({ cls := "WoolThreadsLaw", name := "found", desc := "(LWoolThreads;II[J)I" } : Jvm.MethodName)) ∈ lw_all := lw_g (lw_at lw_m5 164 rfl) rfl
theorem q1190 : (Jvm.Cond.static ({ cls := "WoolThreadsLaw", name := "found", desc := "(LWoolThreads;II[J)I" } : Jvm.MethodName)) ∈ lw_all := lw_g (lw_at lw_m5 165 rfl) rfl
theorem q1191 : (Jvm.Cond.codeWith ({ cls := "WoolThreadsLaw", name := "found", desc := "(LWoolThreads;II[J)I" } : Jvm.MethodName) method_12_code (5 : Nat) (Option.some Jvm.ClassFile.FieldType.int) [((0 : Nat), (10 : Nat), (13 : Nat), (47 : Nat)), ((0 : Nat), (10 : Nat), (17 : Nat), (13 : Nat))]) ∈ lw_all := lw_g (lw_at lw_m5 166 rfl) rfl
theorem q1192 : (Jvm.Cond.classLink "WoolThreadsLaw" (47 : Nat) "java/lang/IndexOutOfBoundsException") ∈ lw_all := lw_g (lw_at lw_m5 167 rfl) rfl
theorem q1211 : (Jvm.Cond.methodLink "WoolThreadsLaw" (44 : Nat) ({ cls := "WoolThreads", name := "found", desc := "(II)I" } : Jvm.MethodName)) ∈ lw_all := lw_g (lw_at lw_m5 186 rfl) rfl
theorem q1234 : (Jvm.Cond.methodLink "WoolThreadsLaw" (167 : Nat) ({ cls := "WoolThreadsLaw", name := "drop", desc := "(LWoolThreads;I[J)I" } : Jvm.MethodName)) ∈ lw_all := lw_g (lw_at lw_m5 209 rfl) rfl
theorem q1235 : (Jvm.Cond.static ({ cls := "WoolThreadsLaw", name := "drop", desc := "(LWoolThreads;I[J)I" } : Jvm.MethodName)) ∈ lw_all := lw_g (lw_at lw_m5 210 rfl) rfl
theorem q1236 : (Jvm.Cond.codeWith ({ cls := "WoolThreadsLaw", name := "drop", desc := "(LWoolThreads;I[J)I" } : Jvm.MethodName) method_13_code (4 : Nat) (Option.some Jvm.ClassFile.FieldType.int) [((0 : Nat), (9 : Nat), (12 : Nat), (47 : Nat))]) ∈ lw_all := lw_g (lw_at lw_m5 211 rfl) rfl
theorem q1237 : (Jvm.Cond.methodLink "WoolThreadsLaw" (49 : Nat) ({ cls := "WoolThreads", name := "drop", desc := "(I)I" } : Jvm.MethodName)) ∈ lw_all := lw_g (lw_at lw_m5 212 rfl) rfl
theorem q1250 : (Jvm.Cond.methodLink "WoolThreadsLaw" (170 : Nat) ({ cls := "WoolThreadsLaw", name := "scale", desc := "(LWoolThreads;I[J)I" } : Jvm.MethodName)) ∈ lw_all := lw_g (lw_at lw_m5 225 rfl) rfl
theorem q1251 : (Jvm.Cond.static ({ cls := "WoolThreadsLaw", name := "scale", desc := "(LWoolThreads;I[J)I" } : Jvm.MethodName)) ∈ lw_all := lw_g (lw_at lw_m5 226 rfl) rfl
theorem q1252 : (Jvm.Cond.codeWith ({ cls := "WoolThreadsLaw", name := "scale", desc := "(LWoolThreads;I[J)I" } : Jvm.MethodName) method_14_code (4 : Nat) (Option.some Jvm.ClassFile.FieldType.int) [((0 : Nat), (9 : Nat), (12 : Nat), (32 : Nat))]) ∈ lw_all := lw_g (lw_at lw_m5 227 rfl) rfl
theorem q1253 : (Jvm.Cond.methodLink "WoolThreadsLaw" (52 : Nat) ({ cls := "WoolThreads", name := "scale", desc := "(I)I" } : Jvm.MethodName)) ∈ lw_all := lw_g (lw_at lw_m5 228 rfl) rfl
theorem q1268 : (Jvm.Cond.methodLink "WoolThreadsLaw" (173 : Nat) ({ cls := "WoolThreadsLaw", name := "digits", desc := "(LWoolThreads;I[J)I" } : Jvm.MethodName)) ∈ lw_all := lw_g (lw_at lw_m6 3 rfl) rfl
theorem q1269 : (Jvm.Cond.static ({ cls := "WoolThreadsLaw", name := "digits", desc := "(LWoolThreads;I[J)I" } : Jvm.MethodName)) ∈ lw_all := lw_g (lw_at lw_m6 4 rfl) rfl
theorem q1270 : (Jvm.Cond.codeWith ({ cls := "WoolThreadsLaw", name := "digits", desc := "(LWoolThreads;I[J)I" } : Jvm.MethodName) method_15_code (4 : Nat) (Option.some Jvm.ClassFile.FieldType.int) [((0 : Nat), (9 : Nat), (12 : Nat), (32 : Nat))]) ∈ lw_all := lw_g (lw_at lw_m6 5 rfl) rfl
theorem q1271 : (Jvm.Cond.methodLink "WoolThreadsLaw" (55 : Nat) ({ cls := "WoolThreads", name := "digits", desc := "(I)I" } : Jvm.MethodName)) ∈ lw_all := lw_g (lw_at lw_m6 6 rfl) rfl
theorem q1313 : (Jvm.Cond.methodLink "WoolThreadsLaw" (176 : Nat) ({ cls := "WoolThreadsLaw", name := "digit", desc := "(LWoolThreads;II[J)I" } : Jvm.MethodName)) ∈ lw_all := lw_g (lw_at lw_m6 48 rfl) rfl
theorem q1314 : (Jvm.Cond.static ({ cls := "WoolThreadsLaw", name := "digit", desc := "(LWoolThreads;II[J)I" } : Jvm.MethodName)) ∈ lw_all := lw_g (lw_at lw_m6 49 rfl) rfl
theorem q1315 : (Jvm.Cond.codeWith ({ cls := "WoolThreadsLaw", name := "digit", desc := "(LWoolThreads;II[J)I" } : Jvm.MethodName) method_16_code (5 : Nat) (Option.some Jvm.ClassFile.FieldType.int) [((0 : Nat), (10 : Nat), (13 : Nat), (32 : Nat))]) ∈ lw_all := lw_g (lw_at lw_m6 50 rfl) rfl
theorem q1316 : (Jvm.Cond.methodLink "WoolThreadsLaw" (58 : Nat) ({ cls := "WoolThreads", name := "digit", desc := "(II)I" } : Jvm.MethodName)) ∈ lw_all := lw_g (lw_at lw_m6 51 rfl) rfl
theorem q1324 : (Jvm.Cond.methodLink "WoolThreadsLaw" (179 : Nat) ({ cls := "WoolThreadsLaw", name := "weighed", desc := "(LWoolThreads;II[J)I" } : Jvm.MethodName)) ∈ lw_all := lw_g (lw_at lw_m6 59 rfl) rfl
theorem q1325 : (Jvm.Cond.static ({ cls := "WoolThreadsLaw", name := "weighed", desc := "(LWoolThreads;II[J)I" } : Jvm.MethodName)) ∈ lw_all := lw_g (lw_at lw_m6 60 rfl) rfl
theorem q1326 : (Jvm.Cond.codeWith ({ cls := "WoolThreadsLaw", name := "weighed", desc := "(LWoolThreads;II[J)I" } : Jvm.MethodName) method_17_code (5 : Nat) (Option.some Jvm.ClassFile.FieldType.int) [((0 : Nat), (10 : Nat), (13 : Nat), (32 : Nat))]) ∈ lw_all := lw_g (lw_at lw_m6 61 rfl) rfl
theorem q1327 : (Jvm.Cond.methodLink "WoolThreadsLaw" (61 : Nat) ({ cls := "WoolThreads", name := "weighed", desc := "(II)I" } : Jvm.MethodName)) ∈ lw_all := lw_g (lw_at lw_m6 62 rfl) rfl
theorem q1339 : (Jvm.Cond.methodLink "WoolThreadsLaw" (182 : Nat) ({ cls := "WoolThreadsLaw", name := "worth", desc := "(LWoolThreads;II[J)I" } : Jvm.MethodName)) ∈ lw_all := lw_g (lw_at lw_m6 74 rfl) rfl
theorem q1340 : (Jvm.Cond.static ({ cls := "WoolThreadsLaw", name := "worth", desc := "(LWoolThreads;II[J)I" } : Jvm.MethodName)) ∈ lw_all := lw_g (lw_at lw_m6 75 rfl) rfl
theorem q1341 : (Jvm.Cond.codeWith ({ cls := "WoolThreadsLaw", name := "worth", desc := "(LWoolThreads;II[J)I" } : Jvm.MethodName) method_18_code (5 : Nat) (Option.some Jvm.ClassFile.FieldType.int) [((0 : Nat), (10 : Nat), (13 : Nat), (32 : Nat))]) ∈ lw_all := lw_g (lw_at lw_m6 76 rfl) rfl
theorem q1342 : (Jvm.Cond.methodLink "WoolThreadsLaw" (64 : Nat) ({ cls := "WoolThreads", name := "worth", desc := "(II)I" } : Jvm.MethodName)) ∈ lw_all := lw_g (lw_at lw_m6 77 rfl) rfl
theorem q1361 : (Jvm.Cond.methodLink "WoolThreadsLaw" (185 : Nat) ({ cls := "WoolThreadsLaw", name := "part", desc := "(LWoolThreads;III[J)I" } : Jvm.MethodName)) ∈ lw_all := lw_g (lw_at lw_m6 96 rfl) rfl
theorem q1362 : (Jvm.Cond.static ({ cls := "WoolThreadsLaw", name := "part", desc := "(LWoolThreads;III[J)I" } : Jvm.MethodName)) ∈ lw_all := lw_g (lw_at lw_m6 97 rfl) rfl
theorem q1363 : (Jvm.Cond.codeWith ({ cls := "WoolThreadsLaw", name := "part", desc := "(LWoolThreads;III[J)I" } : Jvm.MethodName) method_19_code (6 : Nat) (Option.some Jvm.ClassFile.FieldType.int) [((0 : Nat), (12 : Nat), (15 : Nat), (32 : Nat)), ((0 : Nat), (12 : Nat), (19 : Nat), (47 : Nat))]) ∈ lw_all := lw_g (lw_at lw_m6 98 rfl) rfl
theorem q1364 : (Jvm.Cond.methodLink "WoolThreadsLaw" (67 : Nat) ({ cls := "WoolThreads", name := "part", desc := "(III)I" } : Jvm.MethodName)) ∈ lw_all := lw_g (lw_at lw_m6 99 rfl) rfl
theorem q1368 : (Jvm.Cond.methodLink "WoolThreadsLaw" (188 : Nat) ({ cls := "WoolThreadsLaw", name := "events", desc := "(LWoolThreads;I[J)I" } : Jvm.MethodName)) ∈ lw_all := lw_g (lw_at lw_m6 103 rfl) rfl
theorem q1369 : (Jvm.Cond.static ({ cls := "WoolThreadsLaw", name := "events", desc := "(LWoolThreads;I[J)I" } : Jvm.MethodName)) ∈ lw_all := lw_g (lw_at lw_m6 104 rfl) rfl
theorem q1370 : (Jvm.Cond.codeWith ({ cls := "WoolThreadsLaw", name := "events", desc := "(LWoolThreads;I[J)I" } : Jvm.MethodName) method_20_code (4 : Nat) (Option.some Jvm.ClassFile.FieldType.int) [((0 : Nat), (9 : Nat), (12 : Nat), (32 : Nat))]) ∈ lw_all := lw_g (lw_at lw_m6 105 rfl) rfl
theorem q1371 : (Jvm.Cond.methodLink "WoolThreadsLaw" (70 : Nat) ({ cls := "WoolThreads", name := "events", desc := "(I)I" } : Jvm.MethodName)) ∈ lw_all := lw_g (lw_at lw_m6 106 rfl) rfl
theorem q1375 : (Jvm.Cond.methodLink "WoolThreadsLaw" (191 : Nat) ({ cls := "WoolThreadsLaw", name := "counts", desc := "(LWoolThreads;II[J)I" } : Jvm.MethodName)) ∈ lw_all := lw_g (lw_at lw_m6 110 rfl) rfl
theorem q1376 : (Jvm.Cond.static ({ cls := "WoolThreadsLaw", name := "counts", desc := "(LWoolThreads;II[J)I" } : Jvm.MethodName)) ∈ lw_all := lw_g (lw_at lw_m6 111 rfl) rfl
theorem q1377 : (Jvm.Cond.codeWith ({ cls := "WoolThreadsLaw", name := "counts", desc := "(LWoolThreads;II[J)I" } : Jvm.MethodName) method_21_code (5 : Nat) (Option.some Jvm.ClassFile.FieldType.int) [((0 : Nat), (10 : Nat), (13 : Nat), (32 : Nat)), ((0 : Nat), (10 : Nat), (17 : Nat), (47 : Nat))]) ∈ lw_all := lw_g (lw_at lw_m6 112 rfl) rfl
theorem q1378 : (Jvm.Cond.methodLink "WoolThreadsLaw" (73 : Nat) ({ cls := "WoolThreads", name := "counts", desc := "(II)I" } : Jvm.MethodName)) ∈ lw_all := lw_g (lw_at lw_m6 113 rfl) rfl
theorem q1389 : (Jvm.Cond.methodLink "WoolThreadsLaw" (194 : Nat) ({ cls := "WoolThreadsLaw", name := "needed", desc := "(LWoolThreads;II[J)I" } : Jvm.MethodName)) ∈ lw_all := lw_g (lw_at lw_m6 124 rfl) rfl
theorem q1390 : (Jvm.Cond.static ({ cls := "WoolThreadsLaw", name := "needed", desc := "(LWoolThreads;II[J)I" } : Jvm.MethodName)) ∈ lw_all := lw_g (lw_at lw_m6 125 rfl) rfl
theorem q1391 : (Jvm.Cond.codeWith ({ cls := "WoolThreadsLaw", name := "needed", desc := "(LWoolThreads;II[J)I" } : Jvm.MethodName) method_22_code (5 : Nat) (Option.some Jvm.ClassFile.FieldType.int) [((0 : Nat), (10 : Nat), (13 : Nat), (32 : Nat))]) ∈ lw_all := lw_g (lw_at lw_m6 126 rfl) rfl
theorem q1392 : (Jvm.Cond.methodLink "WoolThreadsLaw" (76 : Nat) ({ cls := "WoolThreads", name := "needed", desc := "(II)I" } : Jvm.MethodName)) ∈ lw_all := lw_g (lw_at lw_m6 127 rfl) rfl
theorem q1396 : (Jvm.Cond.methodLink "WoolThreadsLaw" (197 : Nat) ({ cls := "WoolThreadsLaw", name := "byWay", desc := "(LWoolThreads;IIIIII[J)I" } : Jvm.MethodName)) ∈ lw_all := lw_g (lw_at lw_m6 131 rfl) rfl
theorem q1397 : (Jvm.Cond.static ({ cls := "WoolThreadsLaw", name := "byWay", desc := "(LWoolThreads;IIIIII[J)I" } : Jvm.MethodName)) ∈ lw_all := lw_g (lw_at lw_m6 132 rfl) rfl
theorem q1398 : (Jvm.Cond.codeWith ({ cls := "WoolThreadsLaw", name := "byWay", desc := "(LWoolThreads;IIIIII[J)I" } : Jvm.MethodName) method_23_code (9 : Nat) (Option.some Jvm.ClassFile.FieldType.int) [((0 : Nat), (18 : Nat), (21 : Nat), (32 : Nat)), ((0 : Nat), (18 : Nat), (25 : Nat), (13 : Nat))]) ∈ lw_all := lw_g (lw_at lw_m6 133 rfl) rfl
theorem q1399 : (Jvm.Cond.methodLink "WoolThreadsLaw" (79 : Nat) ({ cls := "WoolThreads", name := "byWay", desc := "(IIIIII)I" } : Jvm.MethodName)) ∈ lw_all := lw_g (lw_at lw_m6 134 rfl) rfl
theorem q1403 : (Jvm.Cond.methodLink "WoolThreadsLaw" (201 : Nat) ({ cls := "WoolThreadsLaw", name := "bench", desc := "(LWoolThreads;IIII[J)I" } : Jvm.MethodName)) ∈ lw_all := lw_g (lw_at lw_m6 138 rfl) rfl
theorem q1404 : (Jvm.Cond.static ({ cls := "WoolThreadsLaw", name := "bench", desc := "(LWoolThreads;IIII[J)I" } : Jvm.MethodName)) ∈ lw_all := lw_g (lw_at lw_m6 139 rfl) rfl
theorem q1405 : (Jvm.Cond.codeWith ({ cls := "WoolThreadsLaw", name := "bench", desc := "(LWoolThreads;IIII[J)I" } : Jvm.MethodName) method_24_code (7 : Nat) (Option.some Jvm.ClassFile.FieldType.int) [((0 : Nat), (14 : Nat), (17 : Nat), (32 : Nat)), ((0 : Nat), (14 : Nat), (21 : Nat), (13 : Nat))]) ∈ lw_all := lw_g (lw_at lw_m6 140 rfl) rfl
theorem q1406 : (Jvm.Cond.methodLink "WoolThreadsLaw" (83 : Nat) ({ cls := "WoolThreads", name := "bench", desc := "(IIII)I" } : Jvm.MethodName)) ∈ lw_all := lw_g (lw_at lw_m6 141 rfl) rfl
theorem q1412 : (Jvm.Cond.methodLink "WoolThreadsLaw" (204 : Nat) ({ cls := "WoolThreadsLaw", name := "after", desc := "(LWoolThreads;IIIZ[J)I" } : Jvm.MethodName)) ∈ lw_all := lw_g (lw_at lw_m6 147 rfl) rfl
theorem q1413 : (Jvm.Cond.static ({ cls := "WoolThreadsLaw", name := "after", desc := "(LWoolThreads;IIIZ[J)I" } : Jvm.MethodName)) ∈ lw_all := lw_g (lw_at lw_m6 148 rfl) rfl
theorem q1414 : (Jvm.Cond.codeWith ({ cls := "WoolThreadsLaw", name := "after", desc := "(LWoolThreads;IIIZ[J)I" } : Jvm.MethodName) method_25_code (7 : Nat) (Option.some Jvm.ClassFile.FieldType.int) [((0 : Nat), (14 : Nat), (17 : Nat), (13 : Nat))]) ∈ lw_all := lw_g (lw_at lw_m6 149 rfl) rfl
theorem q1415 : (Jvm.Cond.methodLink "WoolThreadsLaw" (86 : Nat) ({ cls := "WoolThreads", name := "after", desc := "(IIIZ)I" } : Jvm.MethodName)) ∈ lw_all := lw_g (lw_at lw_m6 150 rfl) rfl
theorem q1425 : (Jvm.Cond.methodLink "WoolThreadsLaw" (208 : Nat) ({ cls := "WoolThreadsLaw", name := "seat", desc := "(LWoolThreads;I[J)I" } : Jvm.MethodName)) ∈ lw_all := lw_g (lw_at lw_m6 160 rfl) rfl
theorem q1426 : (Jvm.Cond.static ({ cls := "WoolThreadsLaw", name := "seat", desc := "(LWoolThreads;I[J)I" } : Jvm.MethodName)) ∈ lw_all := lw_g (lw_at lw_m6 161 rfl) rfl
theorem q1427 : (Jvm.Cond.codeWith ({ cls := "WoolThreadsLaw", name := "seat", desc := "(LWoolThreads;I[J)I" } : Jvm.MethodName) method_26_code (4 : Nat) (Option.some Jvm.ClassFile.FieldType.int) [((0 : Nat), (9 : Nat), (12 : Nat), (13 : Nat))]) ∈ lw_all := lw_g (lw_at lw_m6 162 rfl) rfl
theorem q1428 : (Jvm.Cond.methodLink "WoolThreadsLaw" (90 : Nat) ({ cls := "WoolThreads", name := "seat", desc := "(I)I" } : Jvm.MethodName)) ∈ lw_all := lw_g (lw_at lw_m6 163 rfl) rfl
theorem q1432 : (Jvm.Cond.methodLink "WoolThreadsLaw" (211 : Nat) ({ cls := "WoolThreadsLaw", name := "share", desc := "(LWoolThreads;I[J)I" } : Jvm.MethodName)) ∈ lw_all := lw_g (lw_at lw_m6 167 rfl) rfl
theorem q1433 : (Jvm.Cond.static ({ cls := "WoolThreadsLaw", name := "share", desc := "(LWoolThreads;I[J)I" } : Jvm.MethodName)) ∈ lw_all := lw_g (lw_at lw_m6 168 rfl) rfl
theorem q1434 : (Jvm.Cond.codeWith ({ cls := "WoolThreadsLaw", name := "share", desc := "(LWoolThreads;I[J)I" } : Jvm.MethodName) method_27_code (4 : Nat) (Option.some Jvm.ClassFile.FieldType.int) [((0 : Nat), (9 : Nat), (12 : Nat), (13 : Nat))]) ∈ lw_all := lw_g (lw_at lw_m6 169 rfl) rfl
theorem q1435 : (Jvm.Cond.methodLink "WoolThreadsLaw" (93 : Nat) ({ cls := "WoolThreads", name := "share", desc := "(I)I" } : Jvm.MethodName)) ∈ lw_all := lw_g (lw_at lw_m6 170 rfl) rfl
theorem q1443 : (Jvm.Cond.methodLink "WoolThreadsLaw" (214 : Nat) ({ cls := "WoolThreadsLaw", name := "together", desc := "(LWoolThreads;II[J)I" } : Jvm.MethodName)) ∈ lw_all := lw_g (lw_at lw_m6 178 rfl) rfl
theorem q1444 : (Jvm.Cond.static ({ cls := "WoolThreadsLaw", name := "together", desc := "(LWoolThreads;II[J)I" } : Jvm.MethodName)) ∈ lw_all := lw_g (lw_at lw_m6 179 rfl) rfl
theorem q1445 : (Jvm.Cond.codeWith ({ cls := "WoolThreadsLaw", name := "together", desc := "(LWoolThreads;II[J)I" } : Jvm.MethodName) method_28_code (5 : Nat) (Option.some Jvm.ClassFile.FieldType.int) [((0 : Nat), (10 : Nat), (13 : Nat), (13 : Nat))]) ∈ lw_all := lw_g (lw_at lw_m6 180 rfl) rfl
theorem q1446 : (Jvm.Cond.methodLink "WoolThreadsLaw" (96 : Nat) ({ cls := "WoolThreads", name := "together", desc := "(II)I" } : Jvm.MethodName)) ∈ lw_all := lw_g (lw_at lw_m6 181 rfl) rfl
theorem q1450 : (Jvm.Cond.methodLink "WoolThreadsLaw" (217 : Nat) ({ cls := "WoolThreadsLaw", name := "shop", desc := "(LWoolThreads;III[J)I" } : Jvm.MethodName)) ∈ lw_all := lw_g (lw_at lw_m6 185 rfl) rfl
theorem q1451 : (Jvm.Cond.static ({ cls := "WoolThreadsLaw", name := "shop", desc := "(LWoolThreads;III[J)I" } : Jvm.MethodName)) ∈ lw_all := lw_g (lw_at lw_m6 186 rfl) rfl
theorem q1452 : (Jvm.Cond.codeWith ({ cls := "WoolThreadsLaw", name := "shop", desc := "(LWoolThreads;III[J)I" } : Jvm.MethodName) method_29_code (6 : Nat) (Option.some Jvm.ClassFile.FieldType.int) [((0 : Nat), (12 : Nat), (15 : Nat), (13 : Nat))]) ∈ lw_all := lw_g (lw_at lw_m6 187 rfl) rfl
theorem q1453 : (Jvm.Cond.methodLink "WoolThreadsLaw" (99 : Nat) ({ cls := "WoolThreads", name := "shop", desc := "(III)I" } : Jvm.MethodName)) ∈ lw_all := lw_g (lw_at lw_m6 188 rfl) rfl
theorem q1476 : (Jvm.Cond.methodLink "WoolThreadsLaw" (220 : Nat) ({ cls := "WoolThreadsLaw", name := "rare", desc := "(LWoolThreads;II[J)I" } : Jvm.MethodName)) ∈ lw_all := lw_g (lw_at lw_m6 211 rfl) rfl
theorem q1477 : (Jvm.Cond.static ({ cls := "WoolThreadsLaw", name := "rare", desc := "(LWoolThreads;II[J)I" } : Jvm.MethodName)) ∈ lw_all := lw_g (lw_at lw_m6 212 rfl) rfl
theorem q1478 : (Jvm.Cond.codeWith ({ cls := "WoolThreadsLaw", name := "rare", desc := "(LWoolThreads;II[J)I" } : Jvm.MethodName) method_30_code (5 : Nat) (Option.some Jvm.ClassFile.FieldType.int) [((0 : Nat), (10 : Nat), (13 : Nat), (13 : Nat))]) ∈ lw_all := lw_g (lw_at lw_m6 213 rfl) rfl
theorem q1479 : (Jvm.Cond.methodLink "WoolThreadsLaw" (102 : Nat) ({ cls := "WoolThreads", name := "rare", desc := "(II)I" } : Jvm.MethodName)) ∈ lw_all := lw_g (lw_at lw_m6 214 rfl) rfl
theorem q1486 : (Jvm.Cond.methodLink "WoolThreadsLaw" (223 : Nat) ({ cls := "WoolThreadsLaw", name := "next", desc := "(LWoolThreads;III[J)I" } : Jvm.MethodName)) ∈ lw_all := lw_g (lw_at lw_m6 221 rfl) rfl
theorem q1487 : (Jvm.Cond.static ({ cls := "WoolThreadsLaw", name := "next", desc := "(LWoolThreads;III[J)I" } : Jvm.MethodName)) ∈ lw_all := lw_g (lw_at lw_m6 222 rfl) rfl
theorem q1488 : (Jvm.Cond.codeWith ({ cls := "WoolThreadsLaw", name := "next", desc := "(LWoolThreads;III[J)I" } : Jvm.MethodName) method_31_code (6 : Nat) (Option.some Jvm.ClassFile.FieldType.int) [((0 : Nat), (12 : Nat), (15 : Nat), (32 : Nat)), ((0 : Nat), (12 : Nat), (19 : Nat), (13 : Nat))]) ∈ lw_all := lw_g (lw_at lw_m6 223 rfl) rfl
theorem q1489 : (Jvm.Cond.methodLink "WoolThreadsLaw" (105 : Nat) ({ cls := "WoolThreads", name := "next", desc := "(III)I" } : Jvm.MethodName)) ∈ lw_all := lw_g (lw_at lw_m6 224 rfl) rfl
theorem q1500 : (Jvm.Cond.methodLink "WoolThreadsLaw" (226 : Nat) ({ cls := "WoolThreadsLaw", name := "signs", desc := "(LWoolThreads;II[J)I" } : Jvm.MethodName)) ∈ lw_all := lw_g (lw_at lw_m6 235 rfl) rfl
theorem q1501 : (Jvm.Cond.static ({ cls := "WoolThreadsLaw", name := "signs", desc := "(LWoolThreads;II[J)I" } : Jvm.MethodName)) ∈ lw_all := lw_g (lw_at lw_m6 236 rfl) rfl
theorem q1502 : (Jvm.Cond.codeWith ({ cls := "WoolThreadsLaw", name := "signs", desc := "(LWoolThreads;II[J)I" } : Jvm.MethodName) method_32_code (5 : Nat) (Option.some Jvm.ClassFile.FieldType.int) [((0 : Nat), (10 : Nat), (13 : Nat), (32 : Nat)), ((0 : Nat), (10 : Nat), (17 : Nat), (47 : Nat))]) ∈ lw_all := lw_g (lw_at lw_m6 237 rfl) rfl
theorem q1503 : (Jvm.Cond.methodLink "WoolThreadsLaw" (108 : Nat) ({ cls := "WoolThreads", name := "signs", desc := "(II)I" } : Jvm.MethodName)) ∈ lw_all := lw_g (lw_at lw_m6 238 rfl) rfl
theorem q1514 : (Jvm.Cond.methodLink "WoolThreadsLaw" (229 : Nat) ({ cls := "WoolThreadsLaw", name := "said", desc := "(LWoolThreads;II[J)I" } : Jvm.MethodName)) ∈ lw_all := lw_g (lw_at lw_m7 9 rfl) rfl
theorem q1515 : (Jvm.Cond.static ({ cls := "WoolThreadsLaw", name := "said", desc := "(LWoolThreads;II[J)I" } : Jvm.MethodName)) ∈ lw_all := lw_g (lw_at lw_m7 10 rfl) rfl
theorem q1516 : (Jvm.Cond.codeWith ({ cls := "WoolThreadsLaw", name := "said", desc := "(LWoolThreads;II[J)I" } : Jvm.MethodName) method_33_code (5 : Nat) (Option.some Jvm.ClassFile.FieldType.int) [((0 : Nat), (10 : Nat), (13 : Nat), (32 : Nat))]) ∈ lw_all := lw_g (lw_at lw_m7 11 rfl) rfl
theorem q1517 : (Jvm.Cond.methodLink "WoolThreadsLaw" (111 : Nat) ({ cls := "WoolThreads", name := "said", desc := "(II)I" } : Jvm.MethodName)) ∈ lw_all := lw_g (lw_at lw_m7 12 rfl) rfl
theorem q1521 : (Jvm.Cond.classLink "WoolThreadsLaw" (115 : Nat) "WoolThreadsModel") ∈ lw_all := lw_g (lw_at lw_m7 16 rfl) rfl
theorem q1523 : (Jvm.Cond.methodLink "WoolThreadsLaw" (117 : Nat) ({ cls := "WoolThreadsModel", name := "<init>", desc := "()V" } : Jvm.MethodName)) ∈ lw_all := lw_g (lw_at lw_m7 18 rfl) rfl
theorem q1680 : (Jvm.Cond.methodLink "WoolThreadsLaw" (129 : Nat) ({ cls := "WoolThreadsModel", name := "thrown", desc := "()I" } : Jvm.MethodName)) ∈ lw_all := lw_g (lw_at lw_m7 175 rfl) rfl
theorem q1684 : (Jvm.Cond.methodLink "WoolThreadsLaw" (122 : Nat) ({ cls := "WoolThreadsModel", name := "feed", desc := "(IIIII)I" } : Jvm.MethodName)) ∈ lw_all := lw_g (lw_at lw_m7 179 rfl) rfl
theorem q1688 : (Jvm.Cond.methodLink "WoolThreadsLaw" (128 : Nat) ({ cls := "WoolThreadsModel", name := "law", desc := "(I)I" } : Jvm.MethodName)) ∈ lw_all := lw_g (lw_at lw_m7 183 rfl) rfl
theorem q1750 : (Jvm.Cond.methodLink "WoolThreadsLaw" (135 : Nat) ({ cls := "WoolThreadsModel", name := "story", desc := "(I)I" } : Jvm.MethodName)) ∈ lw_all := lw_g (lw_at lw_m8 5 rfl) rfl
theorem q1765 : (Jvm.Cond.methodLink "WoolThreadsLaw" (139 : Nat) ({ cls := "WoolThreadsModel", name := "fault", desc := "()I" } : Jvm.MethodName)) ∈ lw_all := lw_g (lw_at lw_m8 20 rfl) rfl
theorem q1769 : (Jvm.Cond.methodLink "WoolThreadsLaw" (143 : Nat) ({ cls := "WoolThreadsModel", name := "sheds", desc := "(II)I" } : Jvm.MethodName)) ∈ lw_all := lw_g (lw_at lw_m8 24 rfl) rfl
theorem q1773 : (Jvm.Cond.methodLink "WoolThreadsLaw" (146 : Nat) ({ cls := "WoolThreadsModel", name := "told", desc := "(II)I" } : Jvm.MethodName)) ∈ lw_all := lw_g (lw_at lw_m8 28 rfl) rfl
theorem q1777 : (Jvm.Cond.methodLink "WoolThreadsLaw" (149 : Nat) ({ cls := "WoolThreadsModel", name := "alike", desc := "(I)I" } : Jvm.MethodName)) ∈ lw_all := lw_g (lw_at lw_m8 32 rfl) rfl
theorem q1785 : (Jvm.Cond.methodLink "WoolThreadsLaw" (153 : Nat) ({ cls := "WoolThreadsModel", name := "lies", desc := "(IIII)I" } : Jvm.MethodName)) ∈ lw_all := lw_g (lw_at lw_m8 40 rfl) rfl
theorem q1820 : (Jvm.Cond.methodLink "WoolThreadsLaw" (156 : Nat) ({ cls := "WoolThreadsModel", name := "pile", desc := "(IIII)I" } : Jvm.MethodName)) ∈ lw_all := lw_g (lw_at lw_m8 75 rfl) rfl
theorem q1828 : (Jvm.Cond.methodLink "WoolThreadsLaw" (160 : Nat) ({ cls := "WoolThreadsModel", name := "wears", desc := "(III)I" } : Jvm.MethodName)) ∈ lw_all := lw_g (lw_at lw_m8 83 rfl) rfl
theorem q1832 : (Jvm.Cond.methodLink "WoolThreadsLaw" (163 : Nat) ({ cls := "WoolThreadsModel", name := "find", desc := "(IIII)I" } : Jvm.MethodName)) ∈ lw_all := lw_g (lw_at lw_m8 87 rfl) rfl
theorem q1836 : (Jvm.Cond.methodLink "WoolThreadsLaw" (166 : Nat) ({ cls := "WoolThreadsModel", name := "found", desc := "(II)I" } : Jvm.MethodName)) ∈ lw_all := lw_g (lw_at lw_m8 91 rfl) rfl
theorem q1844 : (Jvm.Cond.methodLink "WoolThreadsLaw" (169 : Nat) ({ cls := "WoolThreadsModel", name := "drop", desc := "(I)I" } : Jvm.MethodName)) ∈ lw_all := lw_g (lw_at lw_m8 99 rfl) rfl
theorem q1848 : (Jvm.Cond.methodLink "WoolThreadsLaw" (172 : Nat) ({ cls := "WoolThreadsModel", name := "scale", desc := "(I)I" } : Jvm.MethodName)) ∈ lw_all := lw_g (lw_at lw_m8 103 rfl) rfl
theorem q1869 : (Jvm.Cond.methodLink "WoolThreadsLaw" (175 : Nat) ({ cls := "WoolThreadsModel", name := "digits", desc := "(I)I" } : Jvm.MethodName)) ∈ lw_all := lw_g (lw_at lw_m8 124 rfl) rfl
theorem q1877 : (Jvm.Cond.methodLink "WoolThreadsLaw" (178 : Nat) ({ cls := "WoolThreadsModel", name := "digit", desc := "(II)I" } : Jvm.MethodName)) ∈ lw_all := lw_g (lw_at lw_m8 132 rfl) rfl
theorem q1881 : (Jvm.Cond.methodLink "WoolThreadsLaw" (181 : Nat) ({ cls := "WoolThreadsModel", name := "weighed", desc := "(II)I" } : Jvm.MethodName)) ∈ lw_all := lw_g (lw_at lw_m8 136 rfl) rfl
theorem q1897 : (Jvm.Cond.methodLink "WoolThreadsLaw" (184 : Nat) ({ cls := "WoolThreadsModel", name := "worth", desc := "(II)I" } : Jvm.MethodName)) ∈ lw_all := lw_g (lw_at lw_m8 152 rfl) rfl
theorem q1914 : (Jvm.Cond.methodLink "WoolThreadsLaw" (187 : Nat) ({ cls := "WoolThreadsModel", name := "part", desc := "(III)I" } : Jvm.MethodName)) ∈ lw_all := lw_g (lw_at lw_m8 169 rfl) rfl
theorem q1918 : (Jvm.Cond.methodLink "WoolThreadsLaw" (190 : Nat) ({ cls := "WoolThreadsModel", name := "events", desc := "(I)I" } : Jvm.MethodName)) ∈ lw_all := lw_g (lw_at lw_m8 173 rfl) rfl
theorem q1922 : (Jvm.Cond.methodLink "WoolThreadsLaw" (193 : Nat) ({ cls := "WoolThreadsModel", name := "counts", desc := "(II)I" } : Jvm.MethodName)) ∈ lw_all := lw_g (lw_at lw_m8 177 rfl) rfl
theorem q1930 : (Jvm.Cond.methodLink "WoolThreadsLaw" (196 : Nat) ({ cls := "WoolThreadsModel", name := "needed", desc := "(II)I" } : Jvm.MethodName)) ∈ lw_all := lw_g (lw_at lw_m8 185 rfl) rfl
theorem q1934 : (Jvm.Cond.methodLink "WoolThreadsLaw" (200 : Nat) ({ cls := "WoolThreadsModel", name := "byWay", desc := "(IIIIII)I" } : Jvm.MethodName)) ∈ lw_all := lw_g (lw_at lw_m8 189 rfl) rfl
theorem q1938 : (Jvm.Cond.methodLink "WoolThreadsLaw" (203 : Nat) ({ cls := "WoolThreadsModel", name := "bench", desc := "(IIII)I" } : Jvm.MethodName)) ∈ lw_all := lw_g (lw_at lw_m8 193 rfl) rfl
theorem q1942 : (Jvm.Cond.methodLink "WoolThreadsLaw" (207 : Nat) ({ cls := "WoolThreadsModel", name := "after", desc := "(IIIZ)I" } : Jvm.MethodName)) ∈ lw_all := lw_g (lw_at lw_m8 197 rfl) rfl
theorem q1951 : (Jvm.Cond.methodLink "WoolThreadsLaw" (210 : Nat) ({ cls := "WoolThreadsModel", name := "seat", desc := "(I)I" } : Jvm.MethodName)) ∈ lw_all := lw_g (lw_at lw_m8 206 rfl) rfl
theorem q1955 : (Jvm.Cond.methodLink "WoolThreadsLaw" (213 : Nat) ({ cls := "WoolThreadsModel", name := "share", desc := "(I)I" } : Jvm.MethodName)) ∈ lw_all := lw_g (lw_at lw_m8 210 rfl) rfl
theorem q1963 : (Jvm.Cond.methodLink "WoolThreadsLaw" (216 : Nat) ({ cls := "WoolThreadsModel", name := "together", desc := "(II)I" } : Jvm.MethodName)) ∈ lw_all := lw_g (lw_at lw_m8 218 rfl) rfl
theorem q1967 : (Jvm.Cond.methodLink "WoolThreadsLaw" (219 : Nat) ({ cls := "WoolThreadsModel", name := "shop", desc := "(III)I" } : Jvm.MethodName)) ∈ lw_all := lw_g (lw_at lw_m8 222 rfl) rfl
theorem q1971 : (Jvm.Cond.methodLink "WoolThreadsLaw" (222 : Nat) ({ cls := "WoolThreadsModel", name := "rare", desc := "(II)I" } : Jvm.MethodName)) ∈ lw_all := lw_g (lw_at lw_m8 226 rfl) rfl
theorem q1976 : (Jvm.Cond.methodLink "WoolThreadsLaw" (225 : Nat) ({ cls := "WoolThreadsModel", name := "next", desc := "(III)I" } : Jvm.MethodName)) ∈ lw_all := lw_g (lw_at lw_m8 231 rfl) rfl
theorem q1984 : (Jvm.Cond.methodLink "WoolThreadsLaw" (228 : Nat) ({ cls := "WoolThreadsModel", name := "signs", desc := "(II)I" } : Jvm.MethodName)) ∈ lw_all := lw_g (lw_at lw_m8 239 rfl) rfl
theorem q1992 : (Jvm.Cond.methodLink "WoolThreadsLaw" (231 : Nat) ({ cls := "WoolThreadsModel", name := "said", desc := "(II)I" } : Jvm.MethodName)) ∈ lw_all := lw_g (lw_at lw_m9 7 rfl) rfl
theorem q1996 : (Jvm.Cond.methodLink "WoolThreadsLaw" (235 : Nat) ({ cls := "WoolThreadsModel", name := "image", desc := "()I" } : Jvm.MethodName)) ∈ lw_all := lw_g (lw_at lw_m9 11 rfl) rfl
theorem q2000 : (Jvm.Cond.methodLink "WoolThreadsLaw" (239 : Nat) ({ cls := "WoolThreadsModel", name := "restore", desc := "()I" } : Jvm.MethodName)) ∈ lw_all := lw_g (lw_at lw_m9 15 rfl) rfl
theorem q2004 : (Jvm.Cond.methodLink "WoolThreadsLaw" (243 : Nat) ({ cls := "WoolThreadsModel", name := "count", desc := "(I)I" } : Jvm.MethodName)) ∈ lw_all := lw_g (lw_at lw_m9 19 rfl) rfl
end
