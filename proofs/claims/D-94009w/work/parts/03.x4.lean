/-! WoolThreadsModel -/
set_option maxRecDepth 100000
def RX4 : String := "WoolThreadsModel"
def TX4 : u_T := fun k => match k with
  | 0 => ("WoolThreadsModel", "thrown", "I", false)
  | 1 => ("WoolThreadsModel", "tape", "I", false)
  | 2 => ("WoolThreadsModel", "size", "I", false)
  | 3 => ("WoolThreadsModel", "place", "I", false)
  | 4 => ("WoolThreadsModel", "at", "I", false)
  | 5 => ("WoolThreadsModel", "fault", "I", false)
  | 6 => ("WoolThreadsModel", "faultAt", "I", false)
  | 7 => ("WoolThreadsModel", "fed", "[I", true)
  | 8 => ("WoolThreadsModel", "clauses", "I", false)
  | 9 => ("WoolThreadsModel", "wash", "I", false)
  | 10 => ("WoolThreadsModel", "pass", "I", false)
  | 11 => ("WoolThreadsModel", "take", "I", false)
  | 12 => ("WoolThreadsModel", "shed", "[[I", true)
  | 13 => ("WoolThreadsModel", "hold", "[I", true)
  | 14 => ("WoolThreadsModel", "common", "[I", true)
  | 15 => ("WoolThreadsModel", "near", "[I", true)
  | 16 => ("WoolThreadsModel", "newClauses", "I", false)
  | 17 => ("WoolThreadsModel", "newWash", "I", false)
  | 18 => ("WoolThreadsModel", "newPass", "I", false)
  | 19 => ("WoolThreadsModel", "newTake", "I", false)
  | 20 => ("WoolThreadsModel", "newShed", "[[I", true)
  | 21 => ("WoolThreadsModel", "newHold", "[I", true)
  | 22 => ("WoolThreadsModel", "newCommon", "[I", true)
  | 23 => ("WoolThreadsModel", "newNear", "[I", true)
  | 24 => ("WoolThreadsModel", "stories", "I", false)
  | 25 => ("WoolThreadsModel", "many", "[I", true)
  | 26 => ("WoolThreadsModel", "event", "[[I", true)
  | 27 => ("WoolThreadsModel", "newEvent", "[[I", true)
  | 28 => ("WoolThreadsModel", "finds", "I", false)
  | 29 => ("WoolThreadsModel", "seats", "I", false)
  | 30 => ("WoolThreadsModel", "shops", "I", false)
  | 31 => ("WoolThreadsModel", "images", "I", false)
  | 32 => ("WoolThreadsModel", "find", "[[I", true)
  | 33 => ("WoolThreadsModel", "seat", "[I", true)
  | 34 => ("WoolThreadsModel", "shop", "[[I", true)
  | 35 => ("WoolThreadsModel", "keptFind", "[[I", true)
  | 36 => ("WoolThreadsModel", "keptSeat", "[[I", true)
  | 37 => ("WoolThreadsModel", "keptShop", "[[I", true)
  | 38 => ("WoolThreadsModel", "keptMany", "[[I", true)
  | 39 => ("WoolThreadsModel", "lies", "[[I", true)
  | 40 => ("WoolThreadsModel", "wears", "[I", true)
  | 41 => ("WoolThreadsModel", "leftOut", "I", false)
  | 42 => ("WoolThreadsModel", "extraFrom", "I", false)
  | 43 => ("WoolThreadsModel", "extraTo", "I", false)
  | 44 => ("WoolThreadsModel", "extraHour", "I", false)
  | 45 => ("WoolThreadsModel", "first", "I", false)
  | 46 => ("WoolThreadsModel", "second", "I", false)
  | 47 => ("WoolThreadsModel", "third", "I", false)
  | 48 => ("WoolThreadsModel", "big", "[[I", true)
  | _ => ("WoolThreadsModel", "scale", "I", false)
def tyX4 : Nat → FieldType := fun k => match k with
  | 0 => .int
  | 1 => .int
  | 2 => .int
  | 3 => .int
  | 4 => .int
  | 5 => .int
  | 6 => .int
  | 7 => .array .int
  | 8 => .int
  | 9 => .int
  | 10 => .int
  | 11 => .int
  | 12 => .array (.array .int)
  | 13 => .array .int
  | 14 => .array .int
  | 15 => .array .int
  | 16 => .int
  | 17 => .int
  | 18 => .int
  | 19 => .int
  | 20 => .array (.array .int)
  | 21 => .array .int
  | 22 => .array .int
  | 23 => .array .int
  | 24 => .int
  | 25 => .array .int
  | 26 => .array (.array .int)
  | 27 => .array (.array .int)
  | 28 => .int
  | 29 => .int
  | 30 => .int
  | 31 => .int
  | 32 => .array (.array .int)
  | 33 => .array .int
  | 34 => .array (.array .int)
  | 35 => .array (.array .int)
  | 36 => .array (.array .int)
  | 37 => .array (.array .int)
  | 38 => .array (.array .int)
  | 39 => .array (.array .int)
  | 40 => .array .int
  | 41 => .int
  | 42 => .int
  | 43 => .int
  | 44 => .int
  | 45 => .int
  | 46 => .int
  | 47 => .int
  | 48 => .array (.array .int)
  | _ => .int
abbrev wsX40 : List Cond := u_ws RX4 TX4 50
set_option maxRecDepth 100000 in
theorem nmX4 : ∀ a, a < 50 → ∀ b, b < 50 → a ≠ b → (TX4 a).2.1 ≠ (TX4 b).2.1 := by decide +kernel
set_option maxRecDepth 100000 in
theorem tyX4_ok : ∀ k, k < 50 → parseFieldDescriptor (TX4 k).2.2.1 = some (tyX4 k) := by decide +kernel
abbrev cX4_init : ByteArray := prog_16_method_1_code
def yX4_init : MethodName := ⟨RX4, "<init>", "()V"⟩
def dkwX4_init_11 : List UInt8 := [180, 0, 25, 27, 16, 16, 79, 132, 1, 1, 167, 255, 239, 177]
abbrev dktX4_init_11 : List UInt8 := dkwX4_init_11 ++ []
def dkwX4_init_10 : List UInt8 := [181, 0, 88, 42, 6, 17, 1, 74, 197, 0, 20, 2, 181, 0, 91, 3, 60, 27, 16, 10, 162, 0, 17, 42]
abbrev dktX4_init_10 : List UInt8 := dkwX4_init_10 ++ dktX4_init_11
def dkwX4_init_9 : List UInt8 := [181, 0, 76, 42, 16, 10, 188, 10, 181, 0, 79, 42, 2, 181, 0, 82, 42, 2, 181, 0, 85, 42, 2]
abbrev dktX4_init_9 : List UInt8 := dkwX4_init_9 ++ dktX4_init_10
def dkwX4_init_8 : List UInt8 := [181, 0, 70, 42, 6, 6, 197, 0, 20, 2, 181, 0, 73, 42, 16, 10, 16, 10, 197, 0, 20, 2]
abbrev dktX4_init_8 : List UInt8 := dkwX4_init_8 ++ dktX4_init_9
def dkwX4_init_7 : List UInt8 := [181, 0, 64, 42, 6, 16, 40, 197, 0, 20, 2, 181, 0, 67, 42, 16, 36, 6, 197, 0, 20, 2]
abbrev dktX4_init_7 : List UInt8 := dkwX4_init_7 ++ dktX4_init_8
def dkwX4_init_6 : List UInt8 := [181, 0, 58, 42, 16, 12, 6, 197, 0, 20, 2, 181, 0, 61, 42, 16, 24, 7, 197, 0, 20, 2]
abbrev dktX4_init_6 : List UInt8 := dkwX4_init_6 ++ dktX4_init_7
def dkwX4_init_5 : List UInt8 := [7, 197, 0, 20, 2, 181, 0, 52, 42, 16, 8, 7, 197, 0, 20, 2, 181, 0, 55, 42, 16, 40, 188, 10]
abbrev dktX4_init_5 : List UInt8 := dkwX4_init_5 ++ dktX4_init_6
def dkwX4_init_4 : List UInt8 := [181, 0, 43, 42, 7, 188, 10, 181, 0, 46, 42, 16, 80, 7, 197, 0, 20, 2, 181, 0, 49, 42, 16, 21]
abbrev dktX4_init_4 : List UInt8 := dkwX4_init_4 ++ dktX4_init_5
def dkwX4_init_3 : List UInt8 := [181, 0, 34, 42, 16, 10, 188, 10, 181, 0, 37, 42, 16, 10, 188, 10, 181, 0, 40, 42, 16, 10, 188, 10]
abbrev dktX4_init_3 : List UInt8 := dkwX4_init_3 ++ dktX4_init_4
def dkwX4_init_2 : List UInt8 := [188, 10, 181, 0, 28, 42, 16, 10, 188, 10, 181, 0, 31, 42, 16, 8, 16, 10, 197, 0, 20, 2]
abbrev dktX4_init_2 : List UInt8 := dkwX4_init_2 ++ dktX4_init_3
def dkwX4_init_1 : List UInt8 := [42, 16, 8, 16, 10, 197, 0, 20, 2, 181, 0, 22, 42, 16, 10, 188, 10, 181, 0, 25, 42, 16, 10]
abbrev dktX4_init_1 : List UInt8 := dkwX4_init_1 ++ dktX4_init_2
def dkwX4_init_0 : List UInt8 := [42, 183, 0, 1, 42, 2, 181, 0, 9, 42, 17, 1, 144, 188, 10, 181, 0, 13, 42, 16, 8, 181, 0, 17]
abbrev dktX4_init_0 : List UInt8 := dkwX4_init_0 ++ dktX4_init_1
theorem dksX4_init_0 : cX4_init.data.toList.drop 0 = dktX4_init_0 := by decide +kernel
theorem dksX4_init_1 : cX4_init.data.toList.drop 24 = dktX4_init_1 := dk_seg dksX4_init_0 24 rfl rfl
theorem dksX4_init_2 : cX4_init.data.toList.drop 47 = dktX4_init_2 := dk_seg dksX4_init_1 23 rfl rfl
theorem dksX4_init_3 : cX4_init.data.toList.drop 69 = dktX4_init_3 := dk_seg dksX4_init_2 22 rfl rfl
theorem dksX4_init_4 : cX4_init.data.toList.drop 93 = dktX4_init_4 := dk_seg dksX4_init_3 24 rfl rfl
theorem dksX4_init_5 : cX4_init.data.toList.drop 117 = dktX4_init_5 := dk_seg dksX4_init_4 24 rfl rfl
theorem dksX4_init_6 : cX4_init.data.toList.drop 141 = dktX4_init_6 := dk_seg dksX4_init_5 24 rfl rfl
theorem dksX4_init_7 : cX4_init.data.toList.drop 163 = dktX4_init_7 := dk_seg dksX4_init_6 22 rfl rfl
theorem dksX4_init_8 : cX4_init.data.toList.drop 185 = dktX4_init_8 := dk_seg dksX4_init_7 22 rfl rfl
theorem dksX4_init_9 : cX4_init.data.toList.drop 207 = dktX4_init_9 := dk_seg dksX4_init_8 22 rfl rfl
theorem dksX4_init_10 : cX4_init.data.toList.drop 230 = dktX4_init_10 := dk_seg dksX4_init_9 23 rfl rfl
theorem dksX4_init_11 : cX4_init.data.toList.drop 254 = dktX4_init_11 := dk_seg dksX4_init_10 24 rfl rfl
theorem dX4_init_0 : decode cX4_init 0 = .ok (.aload_n 0, 1) := dk_42 (dk_at dksX4_init_0 0 rfl rfl)
theorem dX4_init_1 : decode cX4_init 1 = .ok (.invokespecial 1, 3) := dk_183 0 1 (dk_at dksX4_init_0 1 rfl rfl)
theorem dX4_init_4 : decode cX4_init 4 = .ok (.aload_n 0, 1) := dk_42 (dk_at dksX4_init_0 4 rfl rfl)
theorem dX4_init_5 : decode cX4_init 5 = .ok (.iconst (-1), 1) := dk_2 (dk_at dksX4_init_0 5 rfl rfl)
theorem dX4_init_6 : decode cX4_init 6 = .ok (.putfield 9, 3) := dk_181 0 9 (dk_at dksX4_init_0 6 rfl rfl)
theorem dX4_init_9 : decode cX4_init 9 = .ok (.aload_n 0, 1) := dk_42 (dk_at dksX4_init_0 9 rfl rfl)
theorem dX4_init_10 : decode cX4_init 10 = .ok (.sipush 400, 3) := dk_17 1 144 (dk_at dksX4_init_0 10 rfl rfl)
theorem dX4_init_13 : decode cX4_init 13 = .ok (.newarray .int, 2) := dk_188_10 (dk_at dksX4_init_0 13 rfl rfl)
theorem dX4_init_15 : decode cX4_init 15 = .ok (.putfield 13, 3) := dk_181 0 13 (dk_at dksX4_init_0 15 rfl rfl)
theorem dX4_init_18 : decode cX4_init 18 = .ok (.aload_n 0, 1) := dk_42 (dk_at dksX4_init_0 18 rfl rfl)
theorem dX4_init_19 : decode cX4_init 19 = .ok (.bipush 8, 2) := dk_16 8 (dk_at dksX4_init_0 19 rfl rfl)
theorem dX4_init_21 : decode cX4_init 21 = .ok (.putfield 17, 3) := dk_181 0 17 (dk_at dksX4_init_0 21 rfl rfl)
theorem dX4_init_24 : decode cX4_init 24 = .ok (.aload_n 0, 1) := dk_42 (dk_at dksX4_init_1 0 rfl rfl)
theorem dX4_init_25 : decode cX4_init 25 = .ok (.bipush 8, 2) := dk_16 8 (dk_at dksX4_init_1 1 rfl rfl)
theorem dX4_init_27 : decode cX4_init 27 = .ok (.bipush 10, 2) := dk_16 10 (dk_at dksX4_init_1 3 rfl rfl)
theorem dX4_init_29 : decode cX4_init 29 = .ok (.multianewarray 20 2, 4) := by decide +kernel
theorem dX4_init_33 : decode cX4_init 33 = .ok (.putfield 22, 3) := dk_181 0 22 (dk_at dksX4_init_1 9 rfl rfl)
theorem dX4_init_36 : decode cX4_init 36 = .ok (.aload_n 0, 1) := dk_42 (dk_at dksX4_init_1 12 rfl rfl)
theorem dX4_init_37 : decode cX4_init 37 = .ok (.bipush 10, 2) := dk_16 10 (dk_at dksX4_init_1 13 rfl rfl)
theorem dX4_init_39 : decode cX4_init 39 = .ok (.newarray .int, 2) := dk_188_10 (dk_at dksX4_init_1 15 rfl rfl)
theorem dX4_init_41 : decode cX4_init 41 = .ok (.putfield 25, 3) := dk_181 0 25 (dk_at dksX4_init_1 17 rfl rfl)
theorem dX4_init_44 : decode cX4_init 44 = .ok (.aload_n 0, 1) := dk_42 (dk_at dksX4_init_1 20 rfl rfl)
theorem dX4_init_45 : decode cX4_init 45 = .ok (.bipush 10, 2) := dk_16 10 (dk_at dksX4_init_1 21 rfl rfl)
theorem dX4_init_47 : decode cX4_init 47 = .ok (.newarray .int, 2) := dk_188_10 (dk_at dksX4_init_2 0 rfl rfl)
theorem dX4_init_49 : decode cX4_init 49 = .ok (.putfield 28, 3) := dk_181 0 28 (dk_at dksX4_init_2 2 rfl rfl)
theorem dX4_init_52 : decode cX4_init 52 = .ok (.aload_n 0, 1) := dk_42 (dk_at dksX4_init_2 5 rfl rfl)
theorem dX4_init_53 : decode cX4_init 53 = .ok (.bipush 10, 2) := dk_16 10 (dk_at dksX4_init_2 6 rfl rfl)
theorem dX4_init_55 : decode cX4_init 55 = .ok (.newarray .int, 2) := dk_188_10 (dk_at dksX4_init_2 8 rfl rfl)
theorem dX4_init_57 : decode cX4_init 57 = .ok (.putfield 31, 3) := dk_181 0 31 (dk_at dksX4_init_2 10 rfl rfl)
theorem dX4_init_60 : decode cX4_init 60 = .ok (.aload_n 0, 1) := dk_42 (dk_at dksX4_init_2 13 rfl rfl)
theorem dX4_init_61 : decode cX4_init 61 = .ok (.bipush 8, 2) := dk_16 8 (dk_at dksX4_init_2 14 rfl rfl)
theorem dX4_init_63 : decode cX4_init 63 = .ok (.bipush 10, 2) := dk_16 10 (dk_at dksX4_init_2 16 rfl rfl)
theorem dX4_init_65 : decode cX4_init 65 = .ok (.multianewarray 20 2, 4) := by decide +kernel
theorem dX4_init_69 : decode cX4_init 69 = .ok (.putfield 34, 3) := dk_181 0 34 (dk_at dksX4_init_3 0 rfl rfl)
theorem dX4_init_72 : decode cX4_init 72 = .ok (.aload_n 0, 1) := dk_42 (dk_at dksX4_init_3 3 rfl rfl)
theorem dX4_init_73 : decode cX4_init 73 = .ok (.bipush 10, 2) := dk_16 10 (dk_at dksX4_init_3 4 rfl rfl)
theorem dX4_init_75 : decode cX4_init 75 = .ok (.newarray .int, 2) := dk_188_10 (dk_at dksX4_init_3 6 rfl rfl)
theorem dX4_init_77 : decode cX4_init 77 = .ok (.putfield 37, 3) := dk_181 0 37 (dk_at dksX4_init_3 8 rfl rfl)
theorem dX4_init_80 : decode cX4_init 80 = .ok (.aload_n 0, 1) := dk_42 (dk_at dksX4_init_3 11 rfl rfl)
theorem dX4_init_81 : decode cX4_init 81 = .ok (.bipush 10, 2) := dk_16 10 (dk_at dksX4_init_3 12 rfl rfl)
theorem dX4_init_83 : decode cX4_init 83 = .ok (.newarray .int, 2) := dk_188_10 (dk_at dksX4_init_3 14 rfl rfl)
theorem dX4_init_85 : decode cX4_init 85 = .ok (.putfield 40, 3) := dk_181 0 40 (dk_at dksX4_init_3 16 rfl rfl)
theorem dX4_init_88 : decode cX4_init 88 = .ok (.aload_n 0, 1) := dk_42 (dk_at dksX4_init_3 19 rfl rfl)
theorem dX4_init_89 : decode cX4_init 89 = .ok (.bipush 10, 2) := dk_16 10 (dk_at dksX4_init_3 20 rfl rfl)
theorem dX4_init_91 : decode cX4_init 91 = .ok (.newarray .int, 2) := dk_188_10 (dk_at dksX4_init_3 22 rfl rfl)
theorem dX4_init_93 : decode cX4_init 93 = .ok (.putfield 43, 3) := dk_181 0 43 (dk_at dksX4_init_4 0 rfl rfl)
theorem dX4_init_96 : decode cX4_init 96 = .ok (.aload_n 0, 1) := dk_42 (dk_at dksX4_init_4 3 rfl rfl)
theorem dX4_init_97 : decode cX4_init 97 = .ok (.iconst 4, 1) := dk_7 (dk_at dksX4_init_4 4 rfl rfl)
theorem dX4_init_98 : decode cX4_init 98 = .ok (.newarray .int, 2) := dk_188_10 (dk_at dksX4_init_4 5 rfl rfl)
theorem dX4_init_100 : decode cX4_init 100 = .ok (.putfield 46, 3) := dk_181 0 46 (dk_at dksX4_init_4 7 rfl rfl)
theorem dX4_init_103 : decode cX4_init 103 = .ok (.aload_n 0, 1) := dk_42 (dk_at dksX4_init_4 10 rfl rfl)
theorem dX4_init_104 : decode cX4_init 104 = .ok (.bipush 80, 2) := dk_16 80 (dk_at dksX4_init_4 11 rfl rfl)
theorem dX4_init_106 : decode cX4_init 106 = .ok (.iconst 4, 1) := dk_7 (dk_at dksX4_init_4 13 rfl rfl)
theorem dX4_init_107 : decode cX4_init 107 = .ok (.multianewarray 20 2, 4) := by decide +kernel
theorem dX4_init_111 : decode cX4_init 111 = .ok (.putfield 49, 3) := dk_181 0 49 (dk_at dksX4_init_4 18 rfl rfl)
theorem dX4_init_114 : decode cX4_init 114 = .ok (.aload_n 0, 1) := dk_42 (dk_at dksX4_init_4 21 rfl rfl)
theorem dX4_init_115 : decode cX4_init 115 = .ok (.bipush 21, 2) := dk_16 21 (dk_at dksX4_init_4 22 rfl rfl)
theorem dX4_init_117 : decode cX4_init 117 = .ok (.iconst 4, 1) := dk_7 (dk_at dksX4_init_5 0 rfl rfl)
theorem dX4_init_118 : decode cX4_init 118 = .ok (.multianewarray 20 2, 4) := by decide +kernel
theorem dX4_init_122 : decode cX4_init 122 = .ok (.putfield 52, 3) := dk_181 0 52 (dk_at dksX4_init_5 5 rfl rfl)
theorem dX4_init_125 : decode cX4_init 125 = .ok (.aload_n 0, 1) := dk_42 (dk_at dksX4_init_5 8 rfl rfl)
theorem dX4_init_126 : decode cX4_init 126 = .ok (.bipush 8, 2) := dk_16 8 (dk_at dksX4_init_5 9 rfl rfl)
theorem dX4_init_128 : decode cX4_init 128 = .ok (.iconst 4, 1) := dk_7 (dk_at dksX4_init_5 11 rfl rfl)
theorem dX4_init_129 : decode cX4_init 129 = .ok (.multianewarray 20 2, 4) := by decide +kernel
theorem dX4_init_133 : decode cX4_init 133 = .ok (.putfield 55, 3) := dk_181 0 55 (dk_at dksX4_init_5 16 rfl rfl)
theorem dX4_init_136 : decode cX4_init 136 = .ok (.aload_n 0, 1) := dk_42 (dk_at dksX4_init_5 19 rfl rfl)
theorem dX4_init_137 : decode cX4_init 137 = .ok (.bipush 40, 2) := dk_16 40 (dk_at dksX4_init_5 20 rfl rfl)
theorem dX4_init_139 : decode cX4_init 139 = .ok (.newarray .int, 2) := dk_188_10 (dk_at dksX4_init_5 22 rfl rfl)
theorem dX4_init_141 : decode cX4_init 141 = .ok (.putfield 58, 3) := dk_181 0 58 (dk_at dksX4_init_6 0 rfl rfl)
theorem dX4_init_144 : decode cX4_init 144 = .ok (.aload_n 0, 1) := dk_42 (dk_at dksX4_init_6 3 rfl rfl)
theorem dX4_init_145 : decode cX4_init 145 = .ok (.bipush 12, 2) := dk_16 12 (dk_at dksX4_init_6 4 rfl rfl)
theorem dX4_init_147 : decode cX4_init 147 = .ok (.iconst 3, 1) := dk_6 (dk_at dksX4_init_6 6 rfl rfl)
theorem dX4_init_148 : decode cX4_init 148 = .ok (.multianewarray 20 2, 4) := by decide +kernel
theorem dX4_init_152 : decode cX4_init 152 = .ok (.putfield 61, 3) := dk_181 0 61 (dk_at dksX4_init_6 11 rfl rfl)
theorem dX4_init_155 : decode cX4_init 155 = .ok (.aload_n 0, 1) := dk_42 (dk_at dksX4_init_6 14 rfl rfl)
theorem dX4_init_156 : decode cX4_init 156 = .ok (.bipush 24, 2) := dk_16 24 (dk_at dksX4_init_6 15 rfl rfl)
theorem dX4_init_158 : decode cX4_init 158 = .ok (.iconst 4, 1) := dk_7 (dk_at dksX4_init_6 17 rfl rfl)
theorem dX4_init_159 : decode cX4_init 159 = .ok (.multianewarray 20 2, 4) := by decide +kernel
theorem dX4_init_163 : decode cX4_init 163 = .ok (.putfield 64, 3) := dk_181 0 64 (dk_at dksX4_init_7 0 rfl rfl)
theorem dX4_init_166 : decode cX4_init 166 = .ok (.aload_n 0, 1) := dk_42 (dk_at dksX4_init_7 3 rfl rfl)
theorem dX4_init_167 : decode cX4_init 167 = .ok (.iconst 3, 1) := dk_6 (dk_at dksX4_init_7 4 rfl rfl)
theorem dX4_init_168 : decode cX4_init 168 = .ok (.bipush 40, 2) := dk_16 40 (dk_at dksX4_init_7 5 rfl rfl)
theorem dX4_init_170 : decode cX4_init 170 = .ok (.multianewarray 20 2, 4) := by decide +kernel
theorem dX4_init_174 : decode cX4_init 174 = .ok (.putfield 67, 3) := dk_181 0 67 (dk_at dksX4_init_7 11 rfl rfl)
theorem dX4_init_177 : decode cX4_init 177 = .ok (.aload_n 0, 1) := dk_42 (dk_at dksX4_init_7 14 rfl rfl)
theorem dX4_init_178 : decode cX4_init 178 = .ok (.bipush 36, 2) := dk_16 36 (dk_at dksX4_init_7 15 rfl rfl)
theorem dX4_init_180 : decode cX4_init 180 = .ok (.iconst 3, 1) := dk_6 (dk_at dksX4_init_7 17 rfl rfl)
theorem dX4_init_181 : decode cX4_init 181 = .ok (.multianewarray 20 2, 4) := by decide +kernel
theorem dX4_init_185 : decode cX4_init 185 = .ok (.putfield 70, 3) := dk_181 0 70 (dk_at dksX4_init_8 0 rfl rfl)
theorem dX4_init_188 : decode cX4_init 188 = .ok (.aload_n 0, 1) := dk_42 (dk_at dksX4_init_8 3 rfl rfl)
theorem dX4_init_189 : decode cX4_init 189 = .ok (.iconst 3, 1) := dk_6 (dk_at dksX4_init_8 4 rfl rfl)
theorem dX4_init_190 : decode cX4_init 190 = .ok (.iconst 3, 1) := dk_6 (dk_at dksX4_init_8 5 rfl rfl)
theorem dX4_init_191 : decode cX4_init 191 = .ok (.multianewarray 20 2, 4) := by decide +kernel
theorem dX4_init_195 : decode cX4_init 195 = .ok (.putfield 73, 3) := dk_181 0 73 (dk_at dksX4_init_8 10 rfl rfl)
theorem dX4_init_198 : decode cX4_init 198 = .ok (.aload_n 0, 1) := dk_42 (dk_at dksX4_init_8 13 rfl rfl)
theorem dX4_init_199 : decode cX4_init 199 = .ok (.bipush 10, 2) := dk_16 10 (dk_at dksX4_init_8 14 rfl rfl)
theorem dX4_init_201 : decode cX4_init 201 = .ok (.bipush 10, 2) := dk_16 10 (dk_at dksX4_init_8 16 rfl rfl)
theorem dX4_init_203 : decode cX4_init 203 = .ok (.multianewarray 20 2, 4) := by decide +kernel
theorem dX4_init_207 : decode cX4_init 207 = .ok (.putfield 76, 3) := dk_181 0 76 (dk_at dksX4_init_9 0 rfl rfl)
theorem dX4_init_210 : decode cX4_init 210 = .ok (.aload_n 0, 1) := dk_42 (dk_at dksX4_init_9 3 rfl rfl)
theorem dX4_init_211 : decode cX4_init 211 = .ok (.bipush 10, 2) := dk_16 10 (dk_at dksX4_init_9 4 rfl rfl)
theorem dX4_init_213 : decode cX4_init 213 = .ok (.newarray .int, 2) := dk_188_10 (dk_at dksX4_init_9 6 rfl rfl)
theorem dX4_init_215 : decode cX4_init 215 = .ok (.putfield 79, 3) := dk_181 0 79 (dk_at dksX4_init_9 8 rfl rfl)
theorem dX4_init_218 : decode cX4_init 218 = .ok (.aload_n 0, 1) := dk_42 (dk_at dksX4_init_9 11 rfl rfl)
theorem dX4_init_219 : decode cX4_init 219 = .ok (.iconst (-1), 1) := dk_2 (dk_at dksX4_init_9 12 rfl rfl)
theorem dX4_init_220 : decode cX4_init 220 = .ok (.putfield 82, 3) := dk_181 0 82 (dk_at dksX4_init_9 13 rfl rfl)
theorem dX4_init_223 : decode cX4_init 223 = .ok (.aload_n 0, 1) := dk_42 (dk_at dksX4_init_9 16 rfl rfl)
theorem dX4_init_224 : decode cX4_init 224 = .ok (.iconst (-1), 1) := dk_2 (dk_at dksX4_init_9 17 rfl rfl)
theorem dX4_init_225 : decode cX4_init 225 = .ok (.putfield 85, 3) := dk_181 0 85 (dk_at dksX4_init_9 18 rfl rfl)
theorem dX4_init_228 : decode cX4_init 228 = .ok (.aload_n 0, 1) := dk_42 (dk_at dksX4_init_9 21 rfl rfl)
theorem dX4_init_229 : decode cX4_init 229 = .ok (.iconst (-1), 1) := dk_2 (dk_at dksX4_init_9 22 rfl rfl)
theorem dX4_init_230 : decode cX4_init 230 = .ok (.putfield 88, 3) := dk_181 0 88 (dk_at dksX4_init_10 0 rfl rfl)
theorem dX4_init_233 : decode cX4_init 233 = .ok (.aload_n 0, 1) := dk_42 (dk_at dksX4_init_10 3 rfl rfl)
theorem dX4_init_234 : decode cX4_init 234 = .ok (.iconst 3, 1) := dk_6 (dk_at dksX4_init_10 4 rfl rfl)
theorem dX4_init_235 : decode cX4_init 235 = .ok (.sipush 330, 3) := dk_17 1 74 (dk_at dksX4_init_10 5 rfl rfl)
theorem dX4_init_238 : decode cX4_init 238 = .ok (.multianewarray 20 2, 4) := by decide +kernel
theorem dX4_init_242 : decode cX4_init 242 = .ok (.putfield 91, 3) := dk_181 0 91 (dk_at dksX4_init_10 12 rfl rfl)
theorem dX4_init_245 : decode cX4_init 245 = .ok (.iconst 0, 1) := dk_3 (dk_at dksX4_init_10 15 rfl rfl)
theorem dX4_init_246 : decode cX4_init 246 = .ok (.istore_n 1, 1) := dk_60 (dk_at dksX4_init_10 16 rfl rfl)
theorem dX4_init_247 : decode cX4_init 247 = .ok (.iload_n 1, 1) := dk_27 (dk_at dksX4_init_10 17 rfl rfl)
theorem dX4_init_248 : decode cX4_init 248 = .ok (.bipush 10, 2) := dk_16 10 (dk_at dksX4_init_10 18 rfl rfl)
theorem dX4_init_250 : decode cX4_init 250 = .ok (.if_icmp .ge 17, 3) := dk_162 0 17 (dk_at dksX4_init_10 20 rfl rfl)
theorem dX4_init_253 : decode cX4_init 253 = .ok (.aload_n 0, 1) := dk_42 (dk_at dksX4_init_10 23 rfl rfl)
theorem dX4_init_254 : decode cX4_init 254 = .ok (.getfield 25, 3) := dk_180 0 25 (dk_at dksX4_init_11 0 rfl rfl)
theorem dX4_init_257 : decode cX4_init 257 = .ok (.iload_n 1, 1) := dk_27 (dk_at dksX4_init_11 3 rfl rfl)
theorem dX4_init_258 : decode cX4_init 258 = .ok (.bipush 16, 2) := dk_16 16 (dk_at dksX4_init_11 4 rfl rfl)
theorem dX4_init_260 : decode cX4_init 260 = .ok (.iastore, 1) := dk_79 (dk_at dksX4_init_11 6 rfl rfl)
theorem dX4_init_261 : decode cX4_init 261 = .ok (.iinc 1 1, 3) := dk_132 1 1 (dk_at dksX4_init_11 7 rfl rfl)
theorem dX4_init_264 : decode cX4_init 264 = .ok (.goto (-17), 3) := dk_167 255 239 (dk_at dksX4_init_11 10 rfl rfl)
theorem dX4_init_267 : decode cX4_init 267 = .ok (.return_, 1) := dk_177 (dk_at dksX4_init_11 13 rfl rfl)
abbrev cX4_thrown : ByteArray := prog_16_method_2_code
def yX4_thrown : MethodName := ⟨RX4, "thrown", "()I"⟩
theorem dX4_thrown_0 : decode cX4_thrown 0 = .ok (.aload_n 0, 1) := by decide +kernel
theorem dX4_thrown_1 : decode cX4_thrown 1 = .ok (.getfield 94, 3) := by decide +kernel
theorem dX4_thrown_4 : decode cX4_thrown 4 = .ok (.ireturn, 1) := by decide +kernel
abbrev cX4_feed : ByteArray := prog_16_method_6_code
def yX4_feed : MethodName := ⟨RX4, "feed", "(IIIII)I"⟩
def dkwX4_feed_5 : List UInt8 := [167, 255, 162, 42, 180, 0, 97, 172]
abbrev dktX4_feed_5 : List UInt8 := dkwX4_feed_5 ++ []
def dkwX4_feed_4 : List UInt8 := [112, 104, 100, 122, 17, 0, 255, 126, 79, 42, 89, 180, 0, 97, 4, 96, 181, 0, 97, 132, 6, 1]
abbrev dktX4_feed_4 : List UInt8 := dkwX4_feed_4 ++ dktX4_feed_5
def dkwX4_feed_3 : List UInt8 := [167, 0, 5, 21, 5, 54, 7, 42, 180, 0, 13, 42, 180, 0, 97, 21, 7, 16, 24, 16, 8, 21, 6, 7]
abbrev dktX4_feed_3 : List UInt8 := dkwX4_feed_3 ++ dktX4_feed_4
def dkwX4_feed_2 : List UInt8 := [28, 167, 0, 28, 21, 6, 16, 12, 162, 0, 7, 29, 167, 0, 17, 21, 6, 16, 16, 162, 0, 8, 21, 4]
abbrev dktX4_feed_2 : List UInt8 := dkwX4_feed_2 ++ dktX4_feed_3
def dkwX4_feed_1 : List UInt8 := [21, 6, 16, 20, 162, 0, 93, 21, 6, 7, 162, 0, 7, 27, 167, 0, 39, 21, 6, 16, 8, 162, 0, 7]
abbrev dktX4_feed_1 : List UInt8 := dkwX4_feed_1 ++ dktX4_feed_2
def dkwX4_feed_0 : List UInt8 := [42, 3, 181, 0, 94, 42, 180, 0, 97, 16, 20, 96, 17, 1, 144, 164, 0, 5, 2, 172, 3, 54, 6]
abbrev dktX4_feed_0 : List UInt8 := dkwX4_feed_0 ++ dktX4_feed_1
theorem dksX4_feed_0 : cX4_feed.data.toList.drop 0 = dktX4_feed_0 := by decide +kernel
theorem dksX4_feed_1 : cX4_feed.data.toList.drop 23 = dktX4_feed_1 := dk_seg dksX4_feed_0 23 rfl rfl
theorem dksX4_feed_2 : cX4_feed.data.toList.drop 47 = dktX4_feed_2 := dk_seg dksX4_feed_1 24 rfl rfl
theorem dksX4_feed_3 : cX4_feed.data.toList.drop 71 = dktX4_feed_3 := dk_seg dksX4_feed_2 24 rfl rfl
theorem dksX4_feed_4 : cX4_feed.data.toList.drop 95 = dktX4_feed_4 := dk_seg dksX4_feed_3 24 rfl rfl
theorem dksX4_feed_5 : cX4_feed.data.toList.drop 117 = dktX4_feed_5 := dk_seg dksX4_feed_4 22 rfl rfl
theorem dX4_feed_0 : decode cX4_feed 0 = .ok (.aload_n 0, 1) := dk_42 (dk_at dksX4_feed_0 0 rfl rfl)
theorem dX4_feed_1 : decode cX4_feed 1 = .ok (.iconst 0, 1) := dk_3 (dk_at dksX4_feed_0 1 rfl rfl)
theorem dX4_feed_2 : decode cX4_feed 2 = .ok (.putfield 94, 3) := dk_181 0 94 (dk_at dksX4_feed_0 2 rfl rfl)
theorem dX4_feed_5 : decode cX4_feed 5 = .ok (.aload_n 0, 1) := dk_42 (dk_at dksX4_feed_0 5 rfl rfl)
theorem dX4_feed_6 : decode cX4_feed 6 = .ok (.getfield 97, 3) := dk_180 0 97 (dk_at dksX4_feed_0 6 rfl rfl)
theorem dX4_feed_9 : decode cX4_feed 9 = .ok (.bipush 20, 2) := dk_16 20 (dk_at dksX4_feed_0 9 rfl rfl)
theorem dX4_feed_11 : decode cX4_feed 11 = .ok (.iadd, 1) := dk_96 (dk_at dksX4_feed_0 11 rfl rfl)
theorem dX4_feed_12 : decode cX4_feed 12 = .ok (.sipush 400, 3) := dk_17 1 144 (dk_at dksX4_feed_0 12 rfl rfl)
theorem dX4_feed_15 : decode cX4_feed 15 = .ok (.if_icmp .le 5, 3) := dk_164 0 5 (dk_at dksX4_feed_0 15 rfl rfl)
theorem dX4_feed_18 : decode cX4_feed 18 = .ok (.iconst (-1), 1) := dk_2 (dk_at dksX4_feed_0 18 rfl rfl)
theorem dX4_feed_19 : decode cX4_feed 19 = .ok (.ireturn, 1) := dk_172 (dk_at dksX4_feed_0 19 rfl rfl)
theorem dX4_feed_20 : decode cX4_feed 20 = .ok (.iconst 0, 1) := dk_3 (dk_at dksX4_feed_0 20 rfl rfl)
theorem dX4_feed_21 : decode cX4_feed 21 = .ok (.istore 6, 2) := dk_54 6 (dk_at dksX4_feed_0 21 rfl rfl)
theorem dX4_feed_23 : decode cX4_feed 23 = .ok (.iload 6, 2) := dk_21 6 (dk_at dksX4_feed_1 0 rfl rfl)
theorem dX4_feed_25 : decode cX4_feed 25 = .ok (.bipush 20, 2) := dk_16 20 (dk_at dksX4_feed_1 2 rfl rfl)
theorem dX4_feed_27 : decode cX4_feed 27 = .ok (.if_icmp .ge 93, 3) := dk_162 0 93 (dk_at dksX4_feed_1 4 rfl rfl)
theorem dX4_feed_30 : decode cX4_feed 30 = .ok (.iload 6, 2) := dk_21 6 (dk_at dksX4_feed_1 7 rfl rfl)
theorem dX4_feed_32 : decode cX4_feed 32 = .ok (.iconst 4, 1) := dk_7 (dk_at dksX4_feed_1 9 rfl rfl)
theorem dX4_feed_33 : decode cX4_feed 33 = .ok (.if_icmp .ge 7, 3) := dk_162 0 7 (dk_at dksX4_feed_1 10 rfl rfl)
theorem dX4_feed_36 : decode cX4_feed 36 = .ok (.iload_n 1, 1) := dk_27 (dk_at dksX4_feed_1 13 rfl rfl)
theorem dX4_feed_37 : decode cX4_feed 37 = .ok (.goto 39, 3) := dk_167 0 39 (dk_at dksX4_feed_1 14 rfl rfl)
theorem dX4_feed_40 : decode cX4_feed 40 = .ok (.iload 6, 2) := dk_21 6 (dk_at dksX4_feed_1 17 rfl rfl)
theorem dX4_feed_42 : decode cX4_feed 42 = .ok (.bipush 8, 2) := dk_16 8 (dk_at dksX4_feed_1 19 rfl rfl)
theorem dX4_feed_44 : decode cX4_feed 44 = .ok (.if_icmp .ge 7, 3) := dk_162 0 7 (dk_at dksX4_feed_1 21 rfl rfl)
theorem dX4_feed_47 : decode cX4_feed 47 = .ok (.iload_n 2, 1) := dk_28 (dk_at dksX4_feed_2 0 rfl rfl)
theorem dX4_feed_48 : decode cX4_feed 48 = .ok (.goto 28, 3) := dk_167 0 28 (dk_at dksX4_feed_2 1 rfl rfl)
theorem dX4_feed_51 : decode cX4_feed 51 = .ok (.iload 6, 2) := dk_21 6 (dk_at dksX4_feed_2 4 rfl rfl)
theorem dX4_feed_53 : decode cX4_feed 53 = .ok (.bipush 12, 2) := dk_16 12 (dk_at dksX4_feed_2 6 rfl rfl)
theorem dX4_feed_55 : decode cX4_feed 55 = .ok (.if_icmp .ge 7, 3) := dk_162 0 7 (dk_at dksX4_feed_2 8 rfl rfl)
theorem dX4_feed_58 : decode cX4_feed 58 = .ok (.iload_n 3, 1) := dk_29 (dk_at dksX4_feed_2 11 rfl rfl)
theorem dX4_feed_59 : decode cX4_feed 59 = .ok (.goto 17, 3) := dk_167 0 17 (dk_at dksX4_feed_2 12 rfl rfl)
theorem dX4_feed_62 : decode cX4_feed 62 = .ok (.iload 6, 2) := dk_21 6 (dk_at dksX4_feed_2 15 rfl rfl)
theorem dX4_feed_64 : decode cX4_feed 64 = .ok (.bipush 16, 2) := dk_16 16 (dk_at dksX4_feed_2 17 rfl rfl)
theorem dX4_feed_66 : decode cX4_feed 66 = .ok (.if_icmp .ge 8, 3) := dk_162 0 8 (dk_at dksX4_feed_2 19 rfl rfl)
theorem dX4_feed_69 : decode cX4_feed 69 = .ok (.iload 4, 2) := dk_21 4 (dk_at dksX4_feed_2 22 rfl rfl)
theorem dX4_feed_71 : decode cX4_feed 71 = .ok (.goto 5, 3) := dk_167 0 5 (dk_at dksX4_feed_3 0 rfl rfl)
theorem dX4_feed_74 : decode cX4_feed 74 = .ok (.iload 5, 2) := dk_21 5 (dk_at dksX4_feed_3 3 rfl rfl)
theorem dX4_feed_76 : decode cX4_feed 76 = .ok (.istore 7, 2) := dk_54 7 (dk_at dksX4_feed_3 5 rfl rfl)
theorem dX4_feed_78 : decode cX4_feed 78 = .ok (.aload_n 0, 1) := dk_42 (dk_at dksX4_feed_3 7 rfl rfl)
theorem dX4_feed_79 : decode cX4_feed 79 = .ok (.getfield 13, 3) := dk_180 0 13 (dk_at dksX4_feed_3 8 rfl rfl)
theorem dX4_feed_82 : decode cX4_feed 82 = .ok (.aload_n 0, 1) := dk_42 (dk_at dksX4_feed_3 11 rfl rfl)
theorem dX4_feed_83 : decode cX4_feed 83 = .ok (.getfield 97, 3) := dk_180 0 97 (dk_at dksX4_feed_3 12 rfl rfl)
theorem dX4_feed_86 : decode cX4_feed 86 = .ok (.iload 7, 2) := dk_21 7 (dk_at dksX4_feed_3 15 rfl rfl)
theorem dX4_feed_88 : decode cX4_feed 88 = .ok (.bipush 24, 2) := dk_16 24 (dk_at dksX4_feed_3 17 rfl rfl)
theorem dX4_feed_90 : decode cX4_feed 90 = .ok (.bipush 8, 2) := dk_16 8 (dk_at dksX4_feed_3 19 rfl rfl)
theorem dX4_feed_92 : decode cX4_feed 92 = .ok (.iload 6, 2) := dk_21 6 (dk_at dksX4_feed_3 21 rfl rfl)
theorem dX4_feed_94 : decode cX4_feed 94 = .ok (.iconst 4, 1) := dk_7 (dk_at dksX4_feed_3 23 rfl rfl)
theorem dX4_feed_95 : decode cX4_feed 95 = .ok (.irem, 1) := dk_112 (dk_at dksX4_feed_4 0 rfl rfl)
theorem dX4_feed_96 : decode cX4_feed 96 = .ok (.imul, 1) := dk_104 (dk_at dksX4_feed_4 1 rfl rfl)
theorem dX4_feed_97 : decode cX4_feed 97 = .ok (.isub, 1) := dk_100 (dk_at dksX4_feed_4 2 rfl rfl)
theorem dX4_feed_98 : decode cX4_feed 98 = .ok (.ishr, 1) := dk_122 (dk_at dksX4_feed_4 3 rfl rfl)
theorem dX4_feed_99 : decode cX4_feed 99 = .ok (.sipush 255, 3) := dk_17 0 255 (dk_at dksX4_feed_4 4 rfl rfl)
theorem dX4_feed_102 : decode cX4_feed 102 = .ok (.iand, 1) := dk_126 (dk_at dksX4_feed_4 7 rfl rfl)
theorem dX4_feed_103 : decode cX4_feed 103 = .ok (.iastore, 1) := dk_79 (dk_at dksX4_feed_4 8 rfl rfl)
theorem dX4_feed_104 : decode cX4_feed 104 = .ok (.aload_n 0, 1) := dk_42 (dk_at dksX4_feed_4 9 rfl rfl)
theorem dX4_feed_105 : decode cX4_feed 105 = .ok (.dup, 1) := dk_89 (dk_at dksX4_feed_4 10 rfl rfl)
theorem dX4_feed_106 : decode cX4_feed 106 = .ok (.getfield 97, 3) := dk_180 0 97 (dk_at dksX4_feed_4 11 rfl rfl)
theorem dX4_feed_109 : decode cX4_feed 109 = .ok (.iconst 1, 1) := dk_4 (dk_at dksX4_feed_4 14 rfl rfl)
theorem dX4_feed_110 : decode cX4_feed 110 = .ok (.iadd, 1) := dk_96 (dk_at dksX4_feed_4 15 rfl rfl)
theorem dX4_feed_111 : decode cX4_feed 111 = .ok (.putfield 97, 3) := dk_181 0 97 (dk_at dksX4_feed_4 16 rfl rfl)
theorem dX4_feed_114 : decode cX4_feed 114 = .ok (.iinc 6 1, 3) := dk_132 6 1 (dk_at dksX4_feed_4 19 rfl rfl)
theorem dX4_feed_117 : decode cX4_feed 117 = .ok (.goto (-94), 3) := dk_167 255 162 (dk_at dksX4_feed_5 0 rfl rfl)
theorem dX4_feed_120 : decode cX4_feed 120 = .ok (.aload_n 0, 1) := dk_42 (dk_at dksX4_feed_5 3 rfl rfl)
theorem dX4_feed_121 : decode cX4_feed 121 = .ok (.getfield 97, 3) := dk_180 0 97 (dk_at dksX4_feed_5 4 rfl rfl)
theorem dX4_feed_124 : decode cX4_feed 124 = .ok (.ireturn, 1) := dk_172 (dk_at dksX4_feed_5 7 rfl rfl)
abbrev cX4_law : ByteArray := prog_16_method_20_code
def yX4_law : MethodName := ⟨RX4, "law", "(I)I"⟩
def dkwX4_law_12 : List UInt8 := [180, 0, 180, 172]
abbrev dktX4_law_12 : List UInt8 := dkwX4_law_12 ++ []
def dkwX4_law_11 : List UInt8 := [50, 28, 42, 180, 0, 34, 29, 50, 28, 46, 79, 132, 3, 1, 167, 255, 231, 132, 2, 1, 167, 255, 181, 42]
abbrev dktX4_law_11 : List UInt8 := dkwX4_law_11 ++ dktX4_law_12
def dkwX4_law_10 : List UInt8 := [180, 0, 31, 28, 42, 180, 0, 43, 28, 46, 79, 3, 62, 29, 16, 8, 162, 0, 25, 42, 180, 0, 22, 29]
abbrev dktX4_law_10 : List UInt8 := dkwX4_law_10 ++ dktX4_law_11
def dkwX4_law_9 : List UInt8 := [180, 0, 25, 28, 42, 180, 0, 37, 28, 46, 79, 42, 180, 0, 28, 28, 42, 180, 0, 40, 28, 46, 79, 42]
abbrev dktX4_law_9 : List UInt8 := dkwX4_law_9 ++ dktX4_law_10
def dkwX4_law_8 : List UInt8 := [42, 180, 0, 164, 181, 0, 186, 42, 42, 180, 0, 167, 181, 0, 17, 3, 61, 28, 16, 10, 162, 0, 75, 42]
abbrev dktX4_law_8 : List UInt8 := dkwX4_law_8 ++ dktX4_law_9
def dkwX4_law_7 : List UInt8 := [180, 0, 110, 16, 10, 100, 172, 42, 42, 180, 0, 147, 181, 0, 180, 42, 42, 180, 0, 161, 181, 0, 183, 42]
abbrev dktX4_law_7 : List UInt8 := dkwX4_law_7 ++ dktX4_law_8
def dkwX4_law_6 : List UInt8 := [182, 0, 116, 167, 255, 230, 42, 42, 180, 0, 113, 181, 0, 9, 42, 180, 0, 110, 153, 0, 11, 42]
abbrev dktX4_law_6 : List UInt8 := dkwX4_law_6 ++ dktX4_law_7
def dkwX4_law_5 : List UInt8 := [42, 180, 0, 110, 154, 0, 25, 42, 180, 0, 103, 42, 180, 0, 100, 162, 0, 14, 42, 182, 0, 177, 42]
abbrev dktX4_law_5 : List UInt8 := dkwX4_law_5 ++ dktX4_law_6
def dkwX4_law_4 : List UInt8 := [162, 0, 18, 42, 180, 0, 34, 29, 50, 28, 3, 79, 132, 3, 1, 167, 255, 238, 132, 2, 1, 167, 255, 202]
abbrev dktX4_law_4 : List UInt8 := dkwX4_law_4 ++ dktX4_law_5
def dkwX4_law_3 : List UInt8 := [16, 16, 79, 42, 180, 0, 40, 28, 3, 79, 42, 180, 0, 43, 28, 3, 79, 3, 62, 29, 16, 8]
abbrev dktX4_law_3 : List UInt8 := dkwX4_law_3 ++ dktX4_law_4
def dkwX4_law_2 : List UInt8 := [3, 181, 0, 164, 42, 16, 8, 181, 0, 167, 3, 61, 28, 16, 10, 162, 0, 54, 42, 180, 0, 37, 28]
abbrev dktX4_law_2 : List UInt8 := dkwX4_law_2 ++ dktX4_law_3
def dkwX4_law_1 : List UInt8 := [182, 0, 170, 153, 0, 5, 3, 172, 42, 27, 182, 0, 174, 42, 3, 181, 0, 147, 42, 3, 181, 0, 161, 42]
abbrev dktX4_law_1 : List UInt8 := dkwX4_law_1 ++ dktX4_law_2
def dkwX4_law_0 : List UInt8 := [42, 3, 181, 0, 94, 42, 27, 3, 42, 180, 0, 97, 184, 0, 128, 154, 0, 7, 4, 167, 0, 4, 3, 4]
abbrev dktX4_law_0 : List UInt8 := dkwX4_law_0 ++ dktX4_law_1
theorem dksX4_law_0 : cX4_law.data.toList.drop 0 = dktX4_law_0 := by decide +kernel
theorem dksX4_law_1 : cX4_law.data.toList.drop 24 = dktX4_law_1 := dk_seg dksX4_law_0 24 rfl rfl
theorem dksX4_law_2 : cX4_law.data.toList.drop 48 = dktX4_law_2 := dk_seg dksX4_law_1 24 rfl rfl
theorem dksX4_law_3 : cX4_law.data.toList.drop 71 = dktX4_law_3 := dk_seg dksX4_law_2 23 rfl rfl
theorem dksX4_law_4 : cX4_law.data.toList.drop 93 = dktX4_law_4 := dk_seg dksX4_law_3 22 rfl rfl
theorem dksX4_law_5 : cX4_law.data.toList.drop 117 = dktX4_law_5 := dk_seg dksX4_law_4 24 rfl rfl
theorem dksX4_law_6 : cX4_law.data.toList.drop 140 = dktX4_law_6 := dk_seg dksX4_law_5 23 rfl rfl
theorem dksX4_law_7 : cX4_law.data.toList.drop 162 = dktX4_law_7 := dk_seg dksX4_law_6 22 rfl rfl
theorem dksX4_law_8 : cX4_law.data.toList.drop 186 = dktX4_law_8 := dk_seg dksX4_law_7 24 rfl rfl
theorem dksX4_law_9 : cX4_law.data.toList.drop 210 = dktX4_law_9 := dk_seg dksX4_law_8 24 rfl rfl
theorem dksX4_law_10 : cX4_law.data.toList.drop 234 = dktX4_law_10 := dk_seg dksX4_law_9 24 rfl rfl
theorem dksX4_law_11 : cX4_law.data.toList.drop 258 = dktX4_law_11 := dk_seg dksX4_law_10 24 rfl rfl
theorem dksX4_law_12 : cX4_law.data.toList.drop 282 = dktX4_law_12 := dk_seg dksX4_law_11 24 rfl rfl
theorem dX4_law_0 : decode cX4_law 0 = .ok (.aload_n 0, 1) := dk_42 (dk_at dksX4_law_0 0 rfl rfl)
theorem dX4_law_1 : decode cX4_law 1 = .ok (.iconst 0, 1) := dk_3 (dk_at dksX4_law_0 1 rfl rfl)
theorem dX4_law_2 : decode cX4_law 2 = .ok (.putfield 94, 3) := dk_181 0 94 (dk_at dksX4_law_0 2 rfl rfl)
theorem dX4_law_5 : decode cX4_law 5 = .ok (.aload_n 0, 1) := dk_42 (dk_at dksX4_law_0 5 rfl rfl)
theorem dX4_law_6 : decode cX4_law 6 = .ok (.iload_n 1, 1) := dk_27 (dk_at dksX4_law_0 6 rfl rfl)
theorem dX4_law_7 : decode cX4_law 7 = .ok (.iconst 0, 1) := dk_3 (dk_at dksX4_law_0 7 rfl rfl)
theorem dX4_law_8 : decode cX4_law 8 = .ok (.aload_n 0, 1) := dk_42 (dk_at dksX4_law_0 8 rfl rfl)
theorem dX4_law_9 : decode cX4_law 9 = .ok (.getfield 97, 3) := dk_180 0 97 (dk_at dksX4_law_0 9 rfl rfl)
theorem dX4_law_12 : decode cX4_law 12 = .ok (.invokestatic 128, 3) := dk_184 0 128 (dk_at dksX4_law_0 12 rfl rfl)
theorem dX4_law_15 : decode cX4_law 15 = .ok (.ifCond .ne 7, 3) := dk_154 0 7 (dk_at dksX4_law_0 15 rfl rfl)
theorem dX4_law_18 : decode cX4_law 18 = .ok (.iconst 1, 1) := dk_4 (dk_at dksX4_law_0 18 rfl rfl)
theorem dX4_law_19 : decode cX4_law 19 = .ok (.goto 4, 3) := dk_167 0 4 (dk_at dksX4_law_0 19 rfl rfl)
theorem dX4_law_22 : decode cX4_law 22 = .ok (.iconst 0, 1) := dk_3 (dk_at dksX4_law_0 22 rfl rfl)
theorem dX4_law_23 : decode cX4_law 23 = .ok (.iconst 1, 1) := dk_4 (dk_at dksX4_law_0 23 rfl rfl)
theorem dX4_law_24 : decode cX4_law 24 = .ok (.invokevirtual 170, 3) := dk_182 0 170 (dk_at dksX4_law_1 0 rfl rfl)
theorem dX4_law_27 : decode cX4_law 27 = .ok (.ifCond .eq 5, 3) := dk_153 0 5 (dk_at dksX4_law_1 3 rfl rfl)
theorem dX4_law_30 : decode cX4_law 30 = .ok (.iconst 0, 1) := dk_3 (dk_at dksX4_law_1 6 rfl rfl)
theorem dX4_law_31 : decode cX4_law 31 = .ok (.ireturn, 1) := dk_172 (dk_at dksX4_law_1 7 rfl rfl)
theorem dX4_law_32 : decode cX4_law 32 = .ok (.aload_n 0, 1) := dk_42 (dk_at dksX4_law_1 8 rfl rfl)
theorem dX4_law_33 : decode cX4_law 33 = .ok (.iload_n 1, 1) := dk_27 (dk_at dksX4_law_1 9 rfl rfl)
theorem dX4_law_34 : decode cX4_law 34 = .ok (.invokevirtual 174, 3) := dk_182 0 174 (dk_at dksX4_law_1 10 rfl rfl)
theorem dX4_law_37 : decode cX4_law 37 = .ok (.aload_n 0, 1) := dk_42 (dk_at dksX4_law_1 13 rfl rfl)
theorem dX4_law_38 : decode cX4_law 38 = .ok (.iconst 0, 1) := dk_3 (dk_at dksX4_law_1 14 rfl rfl)
theorem dX4_law_39 : decode cX4_law 39 = .ok (.putfield 147, 3) := dk_181 0 147 (dk_at dksX4_law_1 15 rfl rfl)
theorem dX4_law_42 : decode cX4_law 42 = .ok (.aload_n 0, 1) := dk_42 (dk_at dksX4_law_1 18 rfl rfl)
theorem dX4_law_43 : decode cX4_law 43 = .ok (.iconst 0, 1) := dk_3 (dk_at dksX4_law_1 19 rfl rfl)
theorem dX4_law_44 : decode cX4_law 44 = .ok (.putfield 161, 3) := dk_181 0 161 (dk_at dksX4_law_1 20 rfl rfl)
theorem dX4_law_47 : decode cX4_law 47 = .ok (.aload_n 0, 1) := dk_42 (dk_at dksX4_law_1 23 rfl rfl)
theorem dX4_law_48 : decode cX4_law 48 = .ok (.iconst 0, 1) := dk_3 (dk_at dksX4_law_2 0 rfl rfl)
theorem dX4_law_49 : decode cX4_law 49 = .ok (.putfield 164, 3) := dk_181 0 164 (dk_at dksX4_law_2 1 rfl rfl)
theorem dX4_law_52 : decode cX4_law 52 = .ok (.aload_n 0, 1) := dk_42 (dk_at dksX4_law_2 4 rfl rfl)
theorem dX4_law_53 : decode cX4_law 53 = .ok (.bipush 8, 2) := dk_16 8 (dk_at dksX4_law_2 5 rfl rfl)
theorem dX4_law_55 : decode cX4_law 55 = .ok (.putfield 167, 3) := dk_181 0 167 (dk_at dksX4_law_2 7 rfl rfl)
theorem dX4_law_58 : decode cX4_law 58 = .ok (.iconst 0, 1) := dk_3 (dk_at dksX4_law_2 10 rfl rfl)
theorem dX4_law_59 : decode cX4_law 59 = .ok (.istore_n 2, 1) := dk_61 (dk_at dksX4_law_2 11 rfl rfl)
theorem dX4_law_60 : decode cX4_law 60 = .ok (.iload_n 2, 1) := dk_28 (dk_at dksX4_law_2 12 rfl rfl)
theorem dX4_law_61 : decode cX4_law 61 = .ok (.bipush 10, 2) := dk_16 10 (dk_at dksX4_law_2 13 rfl rfl)
theorem dX4_law_63 : decode cX4_law 63 = .ok (.if_icmp .ge 54, 3) := dk_162 0 54 (dk_at dksX4_law_2 15 rfl rfl)
theorem dX4_law_66 : decode cX4_law 66 = .ok (.aload_n 0, 1) := dk_42 (dk_at dksX4_law_2 18 rfl rfl)
theorem dX4_law_67 : decode cX4_law 67 = .ok (.getfield 37, 3) := dk_180 0 37 (dk_at dksX4_law_2 19 rfl rfl)
theorem dX4_law_70 : decode cX4_law 70 = .ok (.iload_n 2, 1) := dk_28 (dk_at dksX4_law_2 22 rfl rfl)
theorem dX4_law_71 : decode cX4_law 71 = .ok (.bipush 16, 2) := dk_16 16 (dk_at dksX4_law_3 0 rfl rfl)
theorem dX4_law_73 : decode cX4_law 73 = .ok (.iastore, 1) := dk_79 (dk_at dksX4_law_3 2 rfl rfl)
theorem dX4_law_74 : decode cX4_law 74 = .ok (.aload_n 0, 1) := dk_42 (dk_at dksX4_law_3 3 rfl rfl)
theorem dX4_law_75 : decode cX4_law 75 = .ok (.getfield 40, 3) := dk_180 0 40 (dk_at dksX4_law_3 4 rfl rfl)
theorem dX4_law_78 : decode cX4_law 78 = .ok (.iload_n 2, 1) := dk_28 (dk_at dksX4_law_3 7 rfl rfl)
theorem dX4_law_79 : decode cX4_law 79 = .ok (.iconst 0, 1) := dk_3 (dk_at dksX4_law_3 8 rfl rfl)
theorem dX4_law_80 : decode cX4_law 80 = .ok (.iastore, 1) := dk_79 (dk_at dksX4_law_3 9 rfl rfl)
theorem dX4_law_81 : decode cX4_law 81 = .ok (.aload_n 0, 1) := dk_42 (dk_at dksX4_law_3 10 rfl rfl)
theorem dX4_law_82 : decode cX4_law 82 = .ok (.getfield 43, 3) := dk_180 0 43 (dk_at dksX4_law_3 11 rfl rfl)
theorem dX4_law_85 : decode cX4_law 85 = .ok (.iload_n 2, 1) := dk_28 (dk_at dksX4_law_3 14 rfl rfl)
theorem dX4_law_86 : decode cX4_law 86 = .ok (.iconst 0, 1) := dk_3 (dk_at dksX4_law_3 15 rfl rfl)
theorem dX4_law_87 : decode cX4_law 87 = .ok (.iastore, 1) := dk_79 (dk_at dksX4_law_3 16 rfl rfl)
theorem dX4_law_88 : decode cX4_law 88 = .ok (.iconst 0, 1) := dk_3 (dk_at dksX4_law_3 17 rfl rfl)
theorem dX4_law_89 : decode cX4_law 89 = .ok (.istore_n 3, 1) := dk_62 (dk_at dksX4_law_3 18 rfl rfl)
theorem dX4_law_90 : decode cX4_law 90 = .ok (.iload_n 3, 1) := dk_29 (dk_at dksX4_law_3 19 rfl rfl)
theorem dX4_law_91 : decode cX4_law 91 = .ok (.bipush 8, 2) := dk_16 8 (dk_at dksX4_law_3 20 rfl rfl)
theorem dX4_law_93 : decode cX4_law 93 = .ok (.if_icmp .ge 18, 3) := dk_162 0 18 (dk_at dksX4_law_4 0 rfl rfl)
theorem dX4_law_96 : decode cX4_law 96 = .ok (.aload_n 0, 1) := dk_42 (dk_at dksX4_law_4 3 rfl rfl)
theorem dX4_law_97 : decode cX4_law 97 = .ok (.getfield 34, 3) := dk_180 0 34 (dk_at dksX4_law_4 4 rfl rfl)
theorem dX4_law_100 : decode cX4_law 100 = .ok (.iload_n 3, 1) := dk_29 (dk_at dksX4_law_4 7 rfl rfl)
theorem dX4_law_101 : decode cX4_law 101 = .ok (.aaload, 1) := dk_50 (dk_at dksX4_law_4 8 rfl rfl)
theorem dX4_law_102 : decode cX4_law 102 = .ok (.iload_n 2, 1) := dk_28 (dk_at dksX4_law_4 9 rfl rfl)
theorem dX4_law_103 : decode cX4_law 103 = .ok (.iconst 0, 1) := dk_3 (dk_at dksX4_law_4 10 rfl rfl)
theorem dX4_law_104 : decode cX4_law 104 = .ok (.iastore, 1) := dk_79 (dk_at dksX4_law_4 11 rfl rfl)
theorem dX4_law_105 : decode cX4_law 105 = .ok (.iinc 3 1, 3) := dk_132 3 1 (dk_at dksX4_law_4 12 rfl rfl)
theorem dX4_law_108 : decode cX4_law 108 = .ok (.goto (-18), 3) := dk_167 255 238 (dk_at dksX4_law_4 15 rfl rfl)
theorem dX4_law_111 : decode cX4_law 111 = .ok (.iinc 2 1, 3) := dk_132 2 1 (dk_at dksX4_law_4 18 rfl rfl)
theorem dX4_law_114 : decode cX4_law 114 = .ok (.goto (-54), 3) := dk_167 255 202 (dk_at dksX4_law_4 21 rfl rfl)
theorem dX4_law_117 : decode cX4_law 117 = .ok (.aload_n 0, 1) := dk_42 (dk_at dksX4_law_5 0 rfl rfl)
theorem dX4_law_118 : decode cX4_law 118 = .ok (.getfield 110, 3) := dk_180 0 110 (dk_at dksX4_law_5 1 rfl rfl)
theorem dX4_law_121 : decode cX4_law 121 = .ok (.ifCond .ne 25, 3) := dk_154 0 25 (dk_at dksX4_law_5 4 rfl rfl)
theorem dX4_law_124 : decode cX4_law 124 = .ok (.aload_n 0, 1) := dk_42 (dk_at dksX4_law_5 7 rfl rfl)
theorem dX4_law_125 : decode cX4_law 125 = .ok (.getfield 103, 3) := dk_180 0 103 (dk_at dksX4_law_5 8 rfl rfl)
theorem dX4_law_128 : decode cX4_law 128 = .ok (.aload_n 0, 1) := dk_42 (dk_at dksX4_law_5 11 rfl rfl)
theorem dX4_law_129 : decode cX4_law 129 = .ok (.getfield 100, 3) := dk_180 0 100 (dk_at dksX4_law_5 12 rfl rfl)
theorem dX4_law_132 : decode cX4_law 132 = .ok (.if_icmp .ge 14, 3) := dk_162 0 14 (dk_at dksX4_law_5 15 rfl rfl)
theorem dX4_law_135 : decode cX4_law 135 = .ok (.aload_n 0, 1) := dk_42 (dk_at dksX4_law_5 18 rfl rfl)
theorem dX4_law_136 : decode cX4_law 136 = .ok (.invokevirtual 177, 3) := dk_182 0 177 (dk_at dksX4_law_5 19 rfl rfl)
theorem dX4_law_139 : decode cX4_law 139 = .ok (.aload_n 0, 1) := dk_42 (dk_at dksX4_law_5 22 rfl rfl)
theorem dX4_law_140 : decode cX4_law 140 = .ok (.invokevirtual 116, 3) := dk_182 0 116 (dk_at dksX4_law_6 0 rfl rfl)
theorem dX4_law_143 : decode cX4_law 143 = .ok (.goto (-26), 3) := dk_167 255 230 (dk_at dksX4_law_6 3 rfl rfl)
theorem dX4_law_146 : decode cX4_law 146 = .ok (.aload_n 0, 1) := dk_42 (dk_at dksX4_law_6 6 rfl rfl)
theorem dX4_law_147 : decode cX4_law 147 = .ok (.aload_n 0, 1) := dk_42 (dk_at dksX4_law_6 7 rfl rfl)
theorem dX4_law_148 : decode cX4_law 148 = .ok (.getfield 113, 3) := dk_180 0 113 (dk_at dksX4_law_6 8 rfl rfl)
theorem dX4_law_151 : decode cX4_law 151 = .ok (.putfield 9, 3) := dk_181 0 9 (dk_at dksX4_law_6 11 rfl rfl)
theorem dX4_law_154 : decode cX4_law 154 = .ok (.aload_n 0, 1) := dk_42 (dk_at dksX4_law_6 14 rfl rfl)
theorem dX4_law_155 : decode cX4_law 155 = .ok (.getfield 110, 3) := dk_180 0 110 (dk_at dksX4_law_6 15 rfl rfl)
theorem dX4_law_158 : decode cX4_law 158 = .ok (.ifCond .eq 11, 3) := dk_153 0 11 (dk_at dksX4_law_6 18 rfl rfl)
theorem dX4_law_161 : decode cX4_law 161 = .ok (.aload_n 0, 1) := dk_42 (dk_at dksX4_law_6 21 rfl rfl)
theorem dX4_law_162 : decode cX4_law 162 = .ok (.getfield 110, 3) := dk_180 0 110 (dk_at dksX4_law_7 0 rfl rfl)
theorem dX4_law_165 : decode cX4_law 165 = .ok (.bipush 10, 2) := dk_16 10 (dk_at dksX4_law_7 3 rfl rfl)
theorem dX4_law_167 : decode cX4_law 167 = .ok (.isub, 1) := dk_100 (dk_at dksX4_law_7 5 rfl rfl)
theorem dX4_law_168 : decode cX4_law 168 = .ok (.ireturn, 1) := dk_172 (dk_at dksX4_law_7 6 rfl rfl)
theorem dX4_law_169 : decode cX4_law 169 = .ok (.aload_n 0, 1) := dk_42 (dk_at dksX4_law_7 7 rfl rfl)
theorem dX4_law_170 : decode cX4_law 170 = .ok (.aload_n 0, 1) := dk_42 (dk_at dksX4_law_7 8 rfl rfl)
theorem dX4_law_171 : decode cX4_law 171 = .ok (.getfield 147, 3) := dk_180 0 147 (dk_at dksX4_law_7 9 rfl rfl)
theorem dX4_law_174 : decode cX4_law 174 = .ok (.putfield 180, 3) := dk_181 0 180 (dk_at dksX4_law_7 12 rfl rfl)
theorem dX4_law_177 : decode cX4_law 177 = .ok (.aload_n 0, 1) := dk_42 (dk_at dksX4_law_7 15 rfl rfl)
theorem dX4_law_178 : decode cX4_law 178 = .ok (.aload_n 0, 1) := dk_42 (dk_at dksX4_law_7 16 rfl rfl)
theorem dX4_law_179 : decode cX4_law 179 = .ok (.getfield 161, 3) := dk_180 0 161 (dk_at dksX4_law_7 17 rfl rfl)
theorem dX4_law_182 : decode cX4_law 182 = .ok (.putfield 183, 3) := dk_181 0 183 (dk_at dksX4_law_7 20 rfl rfl)
theorem dX4_law_185 : decode cX4_law 185 = .ok (.aload_n 0, 1) := dk_42 (dk_at dksX4_law_7 23 rfl rfl)
theorem dX4_law_186 : decode cX4_law 186 = .ok (.aload_n 0, 1) := dk_42 (dk_at dksX4_law_8 0 rfl rfl)
theorem dX4_law_187 : decode cX4_law 187 = .ok (.getfield 164, 3) := dk_180 0 164 (dk_at dksX4_law_8 1 rfl rfl)
theorem dX4_law_190 : decode cX4_law 190 = .ok (.putfield 186, 3) := dk_181 0 186 (dk_at dksX4_law_8 4 rfl rfl)
theorem dX4_law_193 : decode cX4_law 193 = .ok (.aload_n 0, 1) := dk_42 (dk_at dksX4_law_8 7 rfl rfl)
theorem dX4_law_194 : decode cX4_law 194 = .ok (.aload_n 0, 1) := dk_42 (dk_at dksX4_law_8 8 rfl rfl)
theorem dX4_law_195 : decode cX4_law 195 = .ok (.getfield 167, 3) := dk_180 0 167 (dk_at dksX4_law_8 9 rfl rfl)
theorem dX4_law_198 : decode cX4_law 198 = .ok (.putfield 17, 3) := dk_181 0 17 (dk_at dksX4_law_8 12 rfl rfl)
theorem dX4_law_201 : decode cX4_law 201 = .ok (.iconst 0, 1) := dk_3 (dk_at dksX4_law_8 15 rfl rfl)
theorem dX4_law_202 : decode cX4_law 202 = .ok (.istore_n 2, 1) := dk_61 (dk_at dksX4_law_8 16 rfl rfl)
theorem dX4_law_203 : decode cX4_law 203 = .ok (.iload_n 2, 1) := dk_28 (dk_at dksX4_law_8 17 rfl rfl)
theorem dX4_law_204 : decode cX4_law 204 = .ok (.bipush 10, 2) := dk_16 10 (dk_at dksX4_law_8 18 rfl rfl)
theorem dX4_law_206 : decode cX4_law 206 = .ok (.if_icmp .ge 75, 3) := dk_162 0 75 (dk_at dksX4_law_8 20 rfl rfl)
theorem dX4_law_209 : decode cX4_law 209 = .ok (.aload_n 0, 1) := dk_42 (dk_at dksX4_law_8 23 rfl rfl)
theorem dX4_law_210 : decode cX4_law 210 = .ok (.getfield 25, 3) := dk_180 0 25 (dk_at dksX4_law_9 0 rfl rfl)
theorem dX4_law_213 : decode cX4_law 213 = .ok (.iload_n 2, 1) := dk_28 (dk_at dksX4_law_9 3 rfl rfl)
theorem dX4_law_214 : decode cX4_law 214 = .ok (.aload_n 0, 1) := dk_42 (dk_at dksX4_law_9 4 rfl rfl)
theorem dX4_law_215 : decode cX4_law 215 = .ok (.getfield 37, 3) := dk_180 0 37 (dk_at dksX4_law_9 5 rfl rfl)
theorem dX4_law_218 : decode cX4_law 218 = .ok (.iload_n 2, 1) := dk_28 (dk_at dksX4_law_9 8 rfl rfl)
theorem dX4_law_219 : decode cX4_law 219 = .ok (.iaload, 1) := dk_46 (dk_at dksX4_law_9 9 rfl rfl)
theorem dX4_law_220 : decode cX4_law 220 = .ok (.iastore, 1) := dk_79 (dk_at dksX4_law_9 10 rfl rfl)
theorem dX4_law_221 : decode cX4_law 221 = .ok (.aload_n 0, 1) := dk_42 (dk_at dksX4_law_9 11 rfl rfl)
theorem dX4_law_222 : decode cX4_law 222 = .ok (.getfield 28, 3) := dk_180 0 28 (dk_at dksX4_law_9 12 rfl rfl)
theorem dX4_law_225 : decode cX4_law 225 = .ok (.iload_n 2, 1) := dk_28 (dk_at dksX4_law_9 15 rfl rfl)
theorem dX4_law_226 : decode cX4_law 226 = .ok (.aload_n 0, 1) := dk_42 (dk_at dksX4_law_9 16 rfl rfl)
theorem dX4_law_227 : decode cX4_law 227 = .ok (.getfield 40, 3) := dk_180 0 40 (dk_at dksX4_law_9 17 rfl rfl)
theorem dX4_law_230 : decode cX4_law 230 = .ok (.iload_n 2, 1) := dk_28 (dk_at dksX4_law_9 20 rfl rfl)
theorem dX4_law_231 : decode cX4_law 231 = .ok (.iaload, 1) := dk_46 (dk_at dksX4_law_9 21 rfl rfl)
theorem dX4_law_232 : decode cX4_law 232 = .ok (.iastore, 1) := dk_79 (dk_at dksX4_law_9 22 rfl rfl)
theorem dX4_law_233 : decode cX4_law 233 = .ok (.aload_n 0, 1) := dk_42 (dk_at dksX4_law_9 23 rfl rfl)
theorem dX4_law_234 : decode cX4_law 234 = .ok (.getfield 31, 3) := dk_180 0 31 (dk_at dksX4_law_10 0 rfl rfl)
theorem dX4_law_237 : decode cX4_law 237 = .ok (.iload_n 2, 1) := dk_28 (dk_at dksX4_law_10 3 rfl rfl)
theorem dX4_law_238 : decode cX4_law 238 = .ok (.aload_n 0, 1) := dk_42 (dk_at dksX4_law_10 4 rfl rfl)
theorem dX4_law_239 : decode cX4_law 239 = .ok (.getfield 43, 3) := dk_180 0 43 (dk_at dksX4_law_10 5 rfl rfl)
theorem dX4_law_242 : decode cX4_law 242 = .ok (.iload_n 2, 1) := dk_28 (dk_at dksX4_law_10 8 rfl rfl)
theorem dX4_law_243 : decode cX4_law 243 = .ok (.iaload, 1) := dk_46 (dk_at dksX4_law_10 9 rfl rfl)
theorem dX4_law_244 : decode cX4_law 244 = .ok (.iastore, 1) := dk_79 (dk_at dksX4_law_10 10 rfl rfl)
theorem dX4_law_245 : decode cX4_law 245 = .ok (.iconst 0, 1) := dk_3 (dk_at dksX4_law_10 11 rfl rfl)
theorem dX4_law_246 : decode cX4_law 246 = .ok (.istore_n 3, 1) := dk_62 (dk_at dksX4_law_10 12 rfl rfl)
theorem dX4_law_247 : decode cX4_law 247 = .ok (.iload_n 3, 1) := dk_29 (dk_at dksX4_law_10 13 rfl rfl)
theorem dX4_law_248 : decode cX4_law 248 = .ok (.bipush 8, 2) := dk_16 8 (dk_at dksX4_law_10 14 rfl rfl)
theorem dX4_law_250 : decode cX4_law 250 = .ok (.if_icmp .ge 25, 3) := dk_162 0 25 (dk_at dksX4_law_10 16 rfl rfl)
theorem dX4_law_253 : decode cX4_law 253 = .ok (.aload_n 0, 1) := dk_42 (dk_at dksX4_law_10 19 rfl rfl)
theorem dX4_law_254 : decode cX4_law 254 = .ok (.getfield 22, 3) := dk_180 0 22 (dk_at dksX4_law_10 20 rfl rfl)
theorem dX4_law_257 : decode cX4_law 257 = .ok (.iload_n 3, 1) := dk_29 (dk_at dksX4_law_10 23 rfl rfl)
theorem dX4_law_258 : decode cX4_law 258 = .ok (.aaload, 1) := dk_50 (dk_at dksX4_law_11 0 rfl rfl)
theorem dX4_law_259 : decode cX4_law 259 = .ok (.iload_n 2, 1) := dk_28 (dk_at dksX4_law_11 1 rfl rfl)
theorem dX4_law_260 : decode cX4_law 260 = .ok (.aload_n 0, 1) := dk_42 (dk_at dksX4_law_11 2 rfl rfl)
theorem dX4_law_261 : decode cX4_law 261 = .ok (.getfield 34, 3) := dk_180 0 34 (dk_at dksX4_law_11 3 rfl rfl)
theorem dX4_law_264 : decode cX4_law 264 = .ok (.iload_n 3, 1) := dk_29 (dk_at dksX4_law_11 6 rfl rfl)
theorem dX4_law_265 : decode cX4_law 265 = .ok (.aaload, 1) := dk_50 (dk_at dksX4_law_11 7 rfl rfl)
theorem dX4_law_266 : decode cX4_law 266 = .ok (.iload_n 2, 1) := dk_28 (dk_at dksX4_law_11 8 rfl rfl)
theorem dX4_law_267 : decode cX4_law 267 = .ok (.iaload, 1) := dk_46 (dk_at dksX4_law_11 9 rfl rfl)
theorem dX4_law_268 : decode cX4_law 268 = .ok (.iastore, 1) := dk_79 (dk_at dksX4_law_11 10 rfl rfl)
theorem dX4_law_269 : decode cX4_law 269 = .ok (.iinc 3 1, 3) := dk_132 3 1 (dk_at dksX4_law_11 11 rfl rfl)
theorem dX4_law_272 : decode cX4_law 272 = .ok (.goto (-25), 3) := dk_167 255 231 (dk_at dksX4_law_11 14 rfl rfl)
theorem dX4_law_275 : decode cX4_law 275 = .ok (.iinc 2 1, 3) := dk_132 2 1 (dk_at dksX4_law_11 17 rfl rfl)
theorem dX4_law_278 : decode cX4_law 278 = .ok (.goto (-75), 3) := dk_167 255 181 (dk_at dksX4_law_11 20 rfl rfl)
theorem dX4_law_281 : decode cX4_law 281 = .ok (.aload_n 0, 1) := dk_42 (dk_at dksX4_law_11 23 rfl rfl)
theorem dX4_law_282 : decode cX4_law 282 = .ok (.getfield 180, 3) := dk_180 0 180 (dk_at dksX4_law_12 0 rfl rfl)
theorem dX4_law_285 : decode cX4_law 285 = .ok (.ireturn, 1) := dk_172 (dk_at dksX4_law_12 3 rfl rfl)
abbrev cX4_in : ByteArray := prog_16_method_4_code
def yX4_in : MethodName := ⟨RX4, "in", "(III)Z"⟩
def dkwX4_in_0 : List UInt8 := [26, 27, 161, 0, 12, 26, 28, 163, 0, 7, 4, 167, 0, 4, 3, 172]
abbrev dktX4_in_0 : List UInt8 := dkwX4_in_0 ++ []
theorem dksX4_in_0 : cX4_in.data.toList.drop 0 = dktX4_in_0 := by decide +kernel
theorem dX4_in_0 : decode cX4_in 0 = .ok (.iload_n 0, 1) := dk_26 (dk_at dksX4_in_0 0 rfl rfl)
theorem dX4_in_1 : decode cX4_in 1 = .ok (.iload_n 1, 1) := dk_27 (dk_at dksX4_in_0 1 rfl rfl)
theorem dX4_in_2 : decode cX4_in 2 = .ok (.if_icmp .lt 12, 3) := dk_161 0 12 (dk_at dksX4_in_0 2 rfl rfl)
theorem dX4_in_5 : decode cX4_in 5 = .ok (.iload_n 0, 1) := dk_26 (dk_at dksX4_in_0 5 rfl rfl)
theorem dX4_in_6 : decode cX4_in 6 = .ok (.iload_n 2, 1) := dk_28 (dk_at dksX4_in_0 6 rfl rfl)
theorem dX4_in_7 : decode cX4_in 7 = .ok (.if_icmp .gt 7, 3) := dk_163 0 7 (dk_at dksX4_in_0 7 rfl rfl)
theorem dX4_in_10 : decode cX4_in 10 = .ok (.iconst 1, 1) := dk_4 (dk_at dksX4_in_0 10 rfl rfl)
theorem dX4_in_11 : decode cX4_in 11 = .ok (.goto 4, 3) := dk_167 0 4 (dk_at dksX4_in_0 11 rfl rfl)
theorem dX4_in_14 : decode cX4_in 14 = .ok (.iconst 0, 1) := dk_3 (dk_at dksX4_in_0 14 rfl rfl)
theorem dX4_in_15 : decode cX4_in 15 = .ok (.ireturn, 1) := dk_172 (dk_at dksX4_in_0 15 rfl rfl)
abbrev cX4_bad : ByteArray := prog_16_method_3_code
def yX4_bad : MethodName := ⟨RX4, "bad", "(ZI)Z"⟩
def dkwX4_bad_1 : List UInt8 := [167, 0, 4, 3, 172]
abbrev dktX4_bad_1 : List UInt8 := dkwX4_bad_1 ++ []
def dkwX4_bad_0 : List UInt8 := [27, 153, 0, 15, 42, 180, 0, 94, 154, 0, 8, 42, 28, 181, 0, 94, 42, 180, 0, 94, 153, 0, 7, 4]
abbrev dktX4_bad_0 : List UInt8 := dkwX4_bad_0 ++ dktX4_bad_1
theorem dksX4_bad_0 : cX4_bad.data.toList.drop 0 = dktX4_bad_0 := by decide +kernel
theorem dksX4_bad_1 : cX4_bad.data.toList.drop 24 = dktX4_bad_1 := dk_seg dksX4_bad_0 24 rfl rfl
theorem dX4_bad_0 : decode cX4_bad 0 = .ok (.iload_n 1, 1) := dk_27 (dk_at dksX4_bad_0 0 rfl rfl)
theorem dX4_bad_1 : decode cX4_bad 1 = .ok (.ifCond .eq 15, 3) := dk_153 0 15 (dk_at dksX4_bad_0 1 rfl rfl)
theorem dX4_bad_4 : decode cX4_bad 4 = .ok (.aload_n 0, 1) := dk_42 (dk_at dksX4_bad_0 4 rfl rfl)
theorem dX4_bad_5 : decode cX4_bad 5 = .ok (.getfield 94, 3) := dk_180 0 94 (dk_at dksX4_bad_0 5 rfl rfl)
theorem dX4_bad_8 : decode cX4_bad 8 = .ok (.ifCond .ne 8, 3) := dk_154 0 8 (dk_at dksX4_bad_0 8 rfl rfl)
theorem dX4_bad_11 : decode cX4_bad 11 = .ok (.aload_n 0, 1) := dk_42 (dk_at dksX4_bad_0 11 rfl rfl)
theorem dX4_bad_12 : decode cX4_bad 12 = .ok (.iload_n 2, 1) := dk_28 (dk_at dksX4_bad_0 12 rfl rfl)
theorem dX4_bad_13 : decode cX4_bad 13 = .ok (.putfield 94, 3) := dk_181 0 94 (dk_at dksX4_bad_0 13 rfl rfl)
theorem dX4_bad_16 : decode cX4_bad 16 = .ok (.aload_n 0, 1) := dk_42 (dk_at dksX4_bad_0 16 rfl rfl)
theorem dX4_bad_17 : decode cX4_bad 17 = .ok (.getfield 94, 3) := dk_180 0 94 (dk_at dksX4_bad_0 17 rfl rfl)
theorem dX4_bad_20 : decode cX4_bad 20 = .ok (.ifCond .eq 7, 3) := dk_153 0 7 (dk_at dksX4_bad_0 20 rfl rfl)
theorem dX4_bad_23 : decode cX4_bad 23 = .ok (.iconst 1, 1) := dk_4 (dk_at dksX4_bad_0 23 rfl rfl)
theorem dX4_bad_24 : decode cX4_bad 24 = .ok (.goto 4, 3) := dk_167 0 4 (dk_at dksX4_bad_1 0 rfl rfl)
theorem dX4_bad_27 : decode cX4_bad 27 = .ok (.iconst 0, 1) := dk_3 (dk_at dksX4_bad_1 3 rfl rfl)
theorem dX4_bad_28 : decode cX4_bad 28 = .ok (.ireturn, 1) := dk_172 (dk_at dksX4_bad_1 4 rfl rfl)
abbrev cX4_begins : ByteArray := prog_16_method_19_code
def yX4_begins : MethodName := ⟨RX4, "begins", "(I)V"⟩
def dkwX4_begins_1 : List UInt8 := [181, 0, 113, 42, 182, 0, 116, 177]
abbrev dktX4_begins_1 : List UInt8 := dkwX4_begins_1 ++ []
def dkwX4_begins_0 : List UInt8 := [42, 27, 181, 0, 100, 42, 3, 181, 0, 97, 42, 3, 181, 0, 103, 42, 3, 181, 0, 110, 42, 2]
abbrev dktX4_begins_0 : List UInt8 := dkwX4_begins_0 ++ dktX4_begins_1
theorem dksX4_begins_0 : cX4_begins.data.toList.drop 0 = dktX4_begins_0 := by decide +kernel
theorem dksX4_begins_1 : cX4_begins.data.toList.drop 22 = dktX4_begins_1 := dk_seg dksX4_begins_0 22 rfl rfl
theorem dX4_begins_0 : decode cX4_begins 0 = .ok (.aload_n 0, 1) := dk_42 (dk_at dksX4_begins_0 0 rfl rfl)
theorem dX4_begins_1 : decode cX4_begins 1 = .ok (.iload_n 1, 1) := dk_27 (dk_at dksX4_begins_0 1 rfl rfl)
theorem dX4_begins_2 : decode cX4_begins 2 = .ok (.putfield 100, 3) := dk_181 0 100 (dk_at dksX4_begins_0 2 rfl rfl)
theorem dX4_begins_5 : decode cX4_begins 5 = .ok (.aload_n 0, 1) := dk_42 (dk_at dksX4_begins_0 5 rfl rfl)
theorem dX4_begins_6 : decode cX4_begins 6 = .ok (.iconst 0, 1) := dk_3 (dk_at dksX4_begins_0 6 rfl rfl)
theorem dX4_begins_7 : decode cX4_begins 7 = .ok (.putfield 97, 3) := dk_181 0 97 (dk_at dksX4_begins_0 7 rfl rfl)
theorem dX4_begins_10 : decode cX4_begins 10 = .ok (.aload_n 0, 1) := dk_42 (dk_at dksX4_begins_0 10 rfl rfl)
theorem dX4_begins_11 : decode cX4_begins 11 = .ok (.iconst 0, 1) := dk_3 (dk_at dksX4_begins_0 11 rfl rfl)
theorem dX4_begins_12 : decode cX4_begins 12 = .ok (.putfield 103, 3) := dk_181 0 103 (dk_at dksX4_begins_0 12 rfl rfl)
theorem dX4_begins_15 : decode cX4_begins 15 = .ok (.aload_n 0, 1) := dk_42 (dk_at dksX4_begins_0 15 rfl rfl)
theorem dX4_begins_16 : decode cX4_begins 16 = .ok (.iconst 0, 1) := dk_3 (dk_at dksX4_begins_0 16 rfl rfl)
theorem dX4_begins_17 : decode cX4_begins 17 = .ok (.putfield 110, 3) := dk_181 0 110 (dk_at dksX4_begins_0 17 rfl rfl)
theorem dX4_begins_20 : decode cX4_begins 20 = .ok (.aload_n 0, 1) := dk_42 (dk_at dksX4_begins_0 20 rfl rfl)
theorem dX4_begins_21 : decode cX4_begins 21 = .ok (.iconst (-1), 1) := dk_2 (dk_at dksX4_begins_0 21 rfl rfl)
theorem dX4_begins_22 : decode cX4_begins 22 = .ok (.putfield 113, 3) := dk_181 0 113 (dk_at dksX4_begins_1 0 rfl rfl)
theorem dX4_begins_25 : decode cX4_begins 25 = .ok (.aload_n 0, 1) := dk_42 (dk_at dksX4_begins_1 3 rfl rfl)
theorem dX4_begins_26 : decode cX4_begins 26 = .ok (.invokevirtual 116, 3) := dk_182 0 116 (dk_at dksX4_begins_1 4 rfl rfl)
theorem dX4_begins_29 : decode cX4_begins 29 = .ok (.return_, 1) := dk_177 (dk_at dksX4_begins_1 7 rfl rfl)
abbrev cX4_blanks : ByteArray := prog_16_method_8_code
def yX4_blanks : MethodName := ⟨RX4, "blanks", "()V"⟩
def dkwX4_blanks_1 : List UInt8 := [167, 255, 233, 177]
abbrev dktX4_blanks_1 : List UInt8 := dkwX4_blanks_1 ++ []
def dkwX4_blanks_0 : List UInt8 := [42, 42, 180, 0, 103, 182, 0, 106, 16, 32, 160, 0, 16, 42, 89, 180, 0, 103, 4, 96, 181, 0, 103]
abbrev dktX4_blanks_0 : List UInt8 := dkwX4_blanks_0 ++ dktX4_blanks_1
theorem dksX4_blanks_0 : cX4_blanks.data.toList.drop 0 = dktX4_blanks_0 := by decide +kernel
theorem dksX4_blanks_1 : cX4_blanks.data.toList.drop 23 = dktX4_blanks_1 := dk_seg dksX4_blanks_0 23 rfl rfl
theorem dX4_blanks_0 : decode cX4_blanks 0 = .ok (.aload_n 0, 1) := dk_42 (dk_at dksX4_blanks_0 0 rfl rfl)
theorem dX4_blanks_1 : decode cX4_blanks 1 = .ok (.aload_n 0, 1) := dk_42 (dk_at dksX4_blanks_0 1 rfl rfl)
theorem dX4_blanks_2 : decode cX4_blanks 2 = .ok (.getfield 103, 3) := dk_180 0 103 (dk_at dksX4_blanks_0 2 rfl rfl)
theorem dX4_blanks_5 : decode cX4_blanks 5 = .ok (.invokevirtual 106, 3) := dk_182 0 106 (dk_at dksX4_blanks_0 5 rfl rfl)
theorem dX4_blanks_8 : decode cX4_blanks 8 = .ok (.bipush 32, 2) := dk_16 32 (dk_at dksX4_blanks_0 8 rfl rfl)
theorem dX4_blanks_10 : decode cX4_blanks 10 = .ok (.if_icmp .ne 16, 3) := dk_160 0 16 (dk_at dksX4_blanks_0 10 rfl rfl)
theorem dX4_blanks_13 : decode cX4_blanks 13 = .ok (.aload_n 0, 1) := dk_42 (dk_at dksX4_blanks_0 13 rfl rfl)
theorem dX4_blanks_14 : decode cX4_blanks 14 = .ok (.dup, 1) := dk_89 (dk_at dksX4_blanks_0 14 rfl rfl)
theorem dX4_blanks_15 : decode cX4_blanks 15 = .ok (.getfield 103, 3) := dk_180 0 103 (dk_at dksX4_blanks_0 15 rfl rfl)
theorem dX4_blanks_18 : decode cX4_blanks 18 = .ok (.iconst 1, 1) := dk_4 (dk_at dksX4_blanks_0 18 rfl rfl)
theorem dX4_blanks_19 : decode cX4_blanks 19 = .ok (.iadd, 1) := dk_96 (dk_at dksX4_blanks_0 19 rfl rfl)
theorem dX4_blanks_20 : decode cX4_blanks 20 = .ok (.putfield 103, 3) := dk_181 0 103 (dk_at dksX4_blanks_0 20 rfl rfl)
theorem dX4_blanks_23 : decode cX4_blanks 23 = .ok (.goto (-23), 3) := dk_167 255 233 (dk_at dksX4_blanks_1 0 rfl rfl)
theorem dX4_blanks_26 : decode cX4_blanks 26 = .ok (.return_, 1) := dk_177 (dk_at dksX4_blanks_1 3 rfl rfl)
abbrev cX4_byteAt : ByteArray := prog_16_method_7_code
def yX4_byteAt : MethodName := ⟨RX4, "byteAt", "(I)I"⟩
def dkwX4_byteAt_0 : List UInt8 := [27, 42, 180, 0, 100, 161, 0, 7, 2, 167, 0, 9, 42, 180, 0, 13, 27, 46, 172]
abbrev dktX4_byteAt_0 : List UInt8 := dkwX4_byteAt_0 ++ []
theorem dksX4_byteAt_0 : cX4_byteAt.data.toList.drop 0 = dktX4_byteAt_0 := by decide +kernel
theorem dX4_byteAt_0 : decode cX4_byteAt 0 = .ok (.iload_n 1, 1) := dk_27 (dk_at dksX4_byteAt_0 0 rfl rfl)
theorem dX4_byteAt_1 : decode cX4_byteAt 1 = .ok (.aload_n 0, 1) := dk_42 (dk_at dksX4_byteAt_0 1 rfl rfl)
theorem dX4_byteAt_2 : decode cX4_byteAt 2 = .ok (.getfield 100, 3) := dk_180 0 100 (dk_at dksX4_byteAt_0 2 rfl rfl)
theorem dX4_byteAt_5 : decode cX4_byteAt 5 = .ok (.if_icmp .lt 7, 3) := dk_161 0 7 (dk_at dksX4_byteAt_0 5 rfl rfl)
theorem dX4_byteAt_8 : decode cX4_byteAt 8 = .ok (.iconst (-1), 1) := dk_2 (dk_at dksX4_byteAt_0 8 rfl rfl)
theorem dX4_byteAt_9 : decode cX4_byteAt 9 = .ok (.goto 9, 3) := dk_167 0 9 (dk_at dksX4_byteAt_0 9 rfl rfl)
theorem dX4_byteAt_12 : decode cX4_byteAt 12 = .ok (.aload_n 0, 1) := dk_42 (dk_at dksX4_byteAt_0 12 rfl rfl)
theorem dX4_byteAt_13 : decode cX4_byteAt 13 = .ok (.getfield 13, 3) := dk_180 0 13 (dk_at dksX4_byteAt_0 13 rfl rfl)
theorem dX4_byteAt_16 : decode cX4_byteAt 16 = .ok (.iload_n 1, 1) := dk_27 (dk_at dksX4_byteAt_0 16 rfl rfl)
theorem dX4_byteAt_17 : decode cX4_byteAt 17 = .ok (.iaload, 1) := dk_46 (dk_at dksX4_byteAt_0 17 rfl rfl)
theorem dX4_byteAt_18 : decode cX4_byteAt 18 = .ok (.ireturn, 1) := dk_172 (dk_at dksX4_byteAt_0 18 rfl rfl)
abbrev cX4_clause : ByteArray := prog_16_method_18_code
def yX4_clause : MethodName := ⟨RX4, "clause", "()V"⟩
def dkwX4_clause_12 : List UInt8 := [4, 29, 120, 128, 79, 27, 16, 6, 160, 0, 11, 42, 180, 0, 40, 29, 21, 4, 79, 177]
abbrev dktX4_clause_12 : List UInt8 := dkwX4_clause_12 ++ []
def dkwX4_clause_11 : List UInt8 := [160, 0, 29, 42, 180, 0, 43, 29, 92, 46, 4, 21, 4, 120, 128, 79, 42, 180, 0, 43, 21, 4, 92, 46]
abbrev dktX4_clause_11 : List UInt8 := dkwX4_clause_11 ++ dktX4_clause_12
def dkwX4_clause_10 : List UInt8 := [160, 0, 9, 42, 21, 4, 181, 0, 164, 27, 7, 160, 0, 9, 42, 21, 4, 181, 0, 167, 27, 8]
abbrev dktX4_clause_10 : List UInt8 := dkwX4_clause_10 ++ dktX4_clause_11
def dkwX4_clause_9 : List UInt8 := [160, 0, 11, 42, 180, 0, 37, 29, 21, 4, 79, 27, 5, 160, 0, 9, 42, 21, 4, 181, 0, 161, 27, 6]
abbrev dktX4_clause_9 : List UInt8 := dkwX4_clause_9 ++ dktX4_clause_10
def dkwX4_clause_8 : List UInt8 := [180, 0, 110, 153, 0, 4, 177, 27, 154, 0, 13, 42, 180, 0, 34, 28, 50, 29, 21, 4, 79, 27, 4]
abbrev dktX4_clause_8 : List UInt8 := dkwX4_clause_8 ++ dktX4_clause_9
def dkwX4_clause_7 : List UInt8 := [182, 0, 153, 54, 4, 42, 16, 59, 182, 0, 157, 42, 89, 180, 0, 147, 4, 96, 181, 0, 147, 42]
abbrev dktX4_clause_7 : List UInt8 := dkwX4_clause_7 ++ dktX4_clause_8
def dkwX4_clause_6 : List UInt8 := [160, 0, 8, 16, 15, 167, 0, 16, 27, 16, 6, 160, 0, 8, 16, 20, 167, 0, 5, 16, 16, 2]
abbrev dktX4_clause_6 : List UInt8 := dkwX4_clause_6 ++ dktX4_clause_7
def dkwX4_clause_5 : List UInt8 := [3, 27, 154, 0, 9, 17, 0, 200, 167, 0, 36, 27, 6, 160, 0, 8, 16, 8, 167, 0, 26, 27, 7]
abbrev dktX4_clause_5 : List UInt8 := dkwX4_clause_5 ++ dktX4_clause_6
def dkwX4_clause_4 : List UInt8 := [160, 0, 14, 42, 3, 16, 9, 29, 182, 0, 153, 167, 0, 61, 42, 27, 7, 160, 0, 7, 4, 167, 0, 4]
abbrev dktX4_clause_4 : List UInt8 := dkwX4_clause_4 ++ dktX4_clause_5
def dkwX4_clause_3 : List UInt8 := [161, 0, 8, 27, 7, 164, 0, 14, 42, 3, 16, 9, 2, 182, 0, 153, 167, 0, 4, 3, 62, 27, 8]
abbrev dktX4_clause_3 : List UInt8 := dkwX4_clause_3 ++ dktX4_clause_4
def dkwX4_clause_2 : List UInt8 := [177, 42, 182, 0, 150, 27, 154, 0, 14, 42, 3, 16, 7, 2, 182, 0, 153, 167, 0, 4, 3, 61, 27, 5]
abbrev dktX4_clause_2 : List UInt8 := dkwX4_clause_2 ++ dktX4_clause_3
def dkwX4_clause_1 : List UInt8 := [180, 0, 147, 16, 24, 160, 0, 12, 42, 6, 42, 180, 0, 103, 182, 0, 123, 42, 180, 0, 110, 153, 0, 4]
abbrev dktX4_clause_1 : List UInt8 := dkwX4_clause_1 ++ dktX4_clause_2
def dkwX4_clause_0 : List UInt8 := [42, 182, 0, 144, 60, 27, 2, 160, 0, 15, 42, 4, 42, 180, 0, 103, 182, 0, 123, 167, 0, 21, 42]
abbrev dktX4_clause_0 : List UInt8 := dkwX4_clause_0 ++ dktX4_clause_1
theorem dksX4_clause_0 : cX4_clause.data.toList.drop 0 = dktX4_clause_0 := by decide +kernel
theorem dksX4_clause_1 : cX4_clause.data.toList.drop 23 = dktX4_clause_1 := dk_seg dksX4_clause_0 23 rfl rfl
theorem dksX4_clause_2 : cX4_clause.data.toList.drop 47 = dktX4_clause_2 := dk_seg dksX4_clause_1 24 rfl rfl
theorem dksX4_clause_3 : cX4_clause.data.toList.drop 71 = dktX4_clause_3 := dk_seg dksX4_clause_2 24 rfl rfl
theorem dksX4_clause_4 : cX4_clause.data.toList.drop 94 = dktX4_clause_4 := dk_seg dksX4_clause_3 23 rfl rfl
theorem dksX4_clause_5 : cX4_clause.data.toList.drop 118 = dktX4_clause_5 := dk_seg dksX4_clause_4 24 rfl rfl
theorem dksX4_clause_6 : cX4_clause.data.toList.drop 141 = dktX4_clause_6 := dk_seg dksX4_clause_5 23 rfl rfl
theorem dksX4_clause_7 : cX4_clause.data.toList.drop 163 = dktX4_clause_7 := dk_seg dksX4_clause_6 22 rfl rfl
theorem dksX4_clause_8 : cX4_clause.data.toList.drop 185 = dktX4_clause_8 := dk_seg dksX4_clause_7 22 rfl rfl
theorem dksX4_clause_9 : cX4_clause.data.toList.drop 208 = dktX4_clause_9 := dk_seg dksX4_clause_8 23 rfl rfl
theorem dksX4_clause_10 : cX4_clause.data.toList.drop 232 = dktX4_clause_10 := dk_seg dksX4_clause_9 24 rfl rfl
theorem dksX4_clause_11 : cX4_clause.data.toList.drop 254 = dktX4_clause_11 := dk_seg dksX4_clause_10 22 rfl rfl
theorem dksX4_clause_12 : cX4_clause.data.toList.drop 278 = dktX4_clause_12 := dk_seg dksX4_clause_11 24 rfl rfl
theorem dX4_clause_0 : decode cX4_clause 0 = .ok (.aload_n 0, 1) := dk_42 (dk_at dksX4_clause_0 0 rfl rfl)
theorem dX4_clause_1 : decode cX4_clause 1 = .ok (.invokevirtual 144, 3) := dk_182 0 144 (dk_at dksX4_clause_0 1 rfl rfl)
theorem dX4_clause_4 : decode cX4_clause 4 = .ok (.istore_n 1, 1) := dk_60 (dk_at dksX4_clause_0 4 rfl rfl)
theorem dX4_clause_5 : decode cX4_clause 5 = .ok (.iload_n 1, 1) := dk_27 (dk_at dksX4_clause_0 5 rfl rfl)
theorem dX4_clause_6 : decode cX4_clause 6 = .ok (.iconst (-1), 1) := dk_2 (dk_at dksX4_clause_0 6 rfl rfl)
theorem dX4_clause_7 : decode cX4_clause 7 = .ok (.if_icmp .ne 15, 3) := dk_160 0 15 (dk_at dksX4_clause_0 7 rfl rfl)
theorem dX4_clause_10 : decode cX4_clause 10 = .ok (.aload_n 0, 1) := dk_42 (dk_at dksX4_clause_0 10 rfl rfl)
theorem dX4_clause_11 : decode cX4_clause 11 = .ok (.iconst 1, 1) := dk_4 (dk_at dksX4_clause_0 11 rfl rfl)
theorem dX4_clause_12 : decode cX4_clause 12 = .ok (.aload_n 0, 1) := dk_42 (dk_at dksX4_clause_0 12 rfl rfl)
theorem dX4_clause_13 : decode cX4_clause 13 = .ok (.getfield 103, 3) := dk_180 0 103 (dk_at dksX4_clause_0 13 rfl rfl)
theorem dX4_clause_16 : decode cX4_clause 16 = .ok (.invokevirtual 123, 3) := dk_182 0 123 (dk_at dksX4_clause_0 16 rfl rfl)
theorem dX4_clause_19 : decode cX4_clause 19 = .ok (.goto 21, 3) := dk_167 0 21 (dk_at dksX4_clause_0 19 rfl rfl)
theorem dX4_clause_22 : decode cX4_clause 22 = .ok (.aload_n 0, 1) := dk_42 (dk_at dksX4_clause_0 22 rfl rfl)
theorem dX4_clause_23 : decode cX4_clause 23 = .ok (.getfield 147, 3) := dk_180 0 147 (dk_at dksX4_clause_1 0 rfl rfl)
theorem dX4_clause_26 : decode cX4_clause 26 = .ok (.bipush 24, 2) := dk_16 24 (dk_at dksX4_clause_1 3 rfl rfl)
theorem dX4_clause_28 : decode cX4_clause 28 = .ok (.if_icmp .ne 12, 3) := dk_160 0 12 (dk_at dksX4_clause_1 5 rfl rfl)
theorem dX4_clause_31 : decode cX4_clause 31 = .ok (.aload_n 0, 1) := dk_42 (dk_at dksX4_clause_1 8 rfl rfl)
theorem dX4_clause_32 : decode cX4_clause 32 = .ok (.iconst 3, 1) := dk_6 (dk_at dksX4_clause_1 9 rfl rfl)
theorem dX4_clause_33 : decode cX4_clause 33 = .ok (.aload_n 0, 1) := dk_42 (dk_at dksX4_clause_1 10 rfl rfl)
theorem dX4_clause_34 : decode cX4_clause 34 = .ok (.getfield 103, 3) := dk_180 0 103 (dk_at dksX4_clause_1 11 rfl rfl)
theorem dX4_clause_37 : decode cX4_clause 37 = .ok (.invokevirtual 123, 3) := dk_182 0 123 (dk_at dksX4_clause_1 14 rfl rfl)
theorem dX4_clause_40 : decode cX4_clause 40 = .ok (.aload_n 0, 1) := dk_42 (dk_at dksX4_clause_1 17 rfl rfl)
theorem dX4_clause_41 : decode cX4_clause 41 = .ok (.getfield 110, 3) := dk_180 0 110 (dk_at dksX4_clause_1 18 rfl rfl)
theorem dX4_clause_44 : decode cX4_clause 44 = .ok (.ifCond .eq 4, 3) := dk_153 0 4 (dk_at dksX4_clause_1 21 rfl rfl)
theorem dX4_clause_47 : decode cX4_clause 47 = .ok (.return_, 1) := dk_177 (dk_at dksX4_clause_2 0 rfl rfl)
theorem dX4_clause_48 : decode cX4_clause 48 = .ok (.aload_n 0, 1) := dk_42 (dk_at dksX4_clause_2 1 rfl rfl)
theorem dX4_clause_49 : decode cX4_clause 49 = .ok (.invokevirtual 150, 3) := dk_182 0 150 (dk_at dksX4_clause_2 2 rfl rfl)
theorem dX4_clause_52 : decode cX4_clause 52 = .ok (.iload_n 1, 1) := dk_27 (dk_at dksX4_clause_2 5 rfl rfl)
theorem dX4_clause_53 : decode cX4_clause 53 = .ok (.ifCond .ne 14, 3) := dk_154 0 14 (dk_at dksX4_clause_2 6 rfl rfl)
theorem dX4_clause_56 : decode cX4_clause 56 = .ok (.aload_n 0, 1) := dk_42 (dk_at dksX4_clause_2 9 rfl rfl)
theorem dX4_clause_57 : decode cX4_clause 57 = .ok (.iconst 0, 1) := dk_3 (dk_at dksX4_clause_2 10 rfl rfl)
theorem dX4_clause_58 : decode cX4_clause 58 = .ok (.bipush 7, 2) := dk_16 7 (dk_at dksX4_clause_2 11 rfl rfl)
theorem dX4_clause_60 : decode cX4_clause 60 = .ok (.iconst (-1), 1) := dk_2 (dk_at dksX4_clause_2 13 rfl rfl)
theorem dX4_clause_61 : decode cX4_clause 61 = .ok (.invokevirtual 153, 3) := dk_182 0 153 (dk_at dksX4_clause_2 14 rfl rfl)
theorem dX4_clause_64 : decode cX4_clause 64 = .ok (.goto 4, 3) := dk_167 0 4 (dk_at dksX4_clause_2 17 rfl rfl)
theorem dX4_clause_67 : decode cX4_clause 67 = .ok (.iconst 0, 1) := dk_3 (dk_at dksX4_clause_2 20 rfl rfl)
theorem dX4_clause_68 : decode cX4_clause 68 = .ok (.istore_n 2, 1) := dk_61 (dk_at dksX4_clause_2 21 rfl rfl)
theorem dX4_clause_69 : decode cX4_clause 69 = .ok (.iload_n 1, 1) := dk_27 (dk_at dksX4_clause_2 22 rfl rfl)
theorem dX4_clause_70 : decode cX4_clause 70 = .ok (.iconst 2, 1) := dk_5 (dk_at dksX4_clause_2 23 rfl rfl)
theorem dX4_clause_71 : decode cX4_clause 71 = .ok (.if_icmp .lt 8, 3) := dk_161 0 8 (dk_at dksX4_clause_3 0 rfl rfl)
theorem dX4_clause_74 : decode cX4_clause 74 = .ok (.iload_n 1, 1) := dk_27 (dk_at dksX4_clause_3 3 rfl rfl)
theorem dX4_clause_75 : decode cX4_clause 75 = .ok (.iconst 4, 1) := dk_7 (dk_at dksX4_clause_3 4 rfl rfl)
theorem dX4_clause_76 : decode cX4_clause 76 = .ok (.if_icmp .le 14, 3) := dk_164 0 14 (dk_at dksX4_clause_3 5 rfl rfl)
theorem dX4_clause_79 : decode cX4_clause 79 = .ok (.aload_n 0, 1) := dk_42 (dk_at dksX4_clause_3 8 rfl rfl)
theorem dX4_clause_80 : decode cX4_clause 80 = .ok (.iconst 0, 1) := dk_3 (dk_at dksX4_clause_3 9 rfl rfl)
theorem dX4_clause_81 : decode cX4_clause 81 = .ok (.bipush 9, 2) := dk_16 9 (dk_at dksX4_clause_3 10 rfl rfl)
theorem dX4_clause_83 : decode cX4_clause 83 = .ok (.iconst (-1), 1) := dk_2 (dk_at dksX4_clause_3 12 rfl rfl)
theorem dX4_clause_84 : decode cX4_clause 84 = .ok (.invokevirtual 153, 3) := dk_182 0 153 (dk_at dksX4_clause_3 13 rfl rfl)
theorem dX4_clause_87 : decode cX4_clause 87 = .ok (.goto 4, 3) := dk_167 0 4 (dk_at dksX4_clause_3 16 rfl rfl)
theorem dX4_clause_90 : decode cX4_clause 90 = .ok (.iconst 0, 1) := dk_3 (dk_at dksX4_clause_3 19 rfl rfl)
theorem dX4_clause_91 : decode cX4_clause 91 = .ok (.istore_n 3, 1) := dk_62 (dk_at dksX4_clause_3 20 rfl rfl)
theorem dX4_clause_92 : decode cX4_clause 92 = .ok (.iload_n 1, 1) := dk_27 (dk_at dksX4_clause_3 21 rfl rfl)
theorem dX4_clause_93 : decode cX4_clause 93 = .ok (.iconst 5, 1) := dk_8 (dk_at dksX4_clause_3 22 rfl rfl)
theorem dX4_clause_94 : decode cX4_clause 94 = .ok (.if_icmp .ne 14, 3) := dk_160 0 14 (dk_at dksX4_clause_4 0 rfl rfl)
theorem dX4_clause_97 : decode cX4_clause 97 = .ok (.aload_n 0, 1) := dk_42 (dk_at dksX4_clause_4 3 rfl rfl)
theorem dX4_clause_98 : decode cX4_clause 98 = .ok (.iconst 0, 1) := dk_3 (dk_at dksX4_clause_4 4 rfl rfl)
theorem dX4_clause_99 : decode cX4_clause 99 = .ok (.bipush 9, 2) := dk_16 9 (dk_at dksX4_clause_4 5 rfl rfl)
theorem dX4_clause_101 : decode cX4_clause 101 = .ok (.iload_n 3, 1) := dk_29 (dk_at dksX4_clause_4 7 rfl rfl)
theorem dX4_clause_102 : decode cX4_clause 102 = .ok (.invokevirtual 153, 3) := dk_182 0 153 (dk_at dksX4_clause_4 8 rfl rfl)
theorem dX4_clause_105 : decode cX4_clause 105 = .ok (.goto 61, 3) := dk_167 0 61 (dk_at dksX4_clause_4 11 rfl rfl)
theorem dX4_clause_108 : decode cX4_clause 108 = .ok (.aload_n 0, 1) := dk_42 (dk_at dksX4_clause_4 14 rfl rfl)
theorem dX4_clause_109 : decode cX4_clause 109 = .ok (.iload_n 1, 1) := dk_27 (dk_at dksX4_clause_4 15 rfl rfl)
theorem dX4_clause_110 : decode cX4_clause 110 = .ok (.iconst 4, 1) := dk_7 (dk_at dksX4_clause_4 16 rfl rfl)
theorem dX4_clause_111 : decode cX4_clause 111 = .ok (.if_icmp .ne 7, 3) := dk_160 0 7 (dk_at dksX4_clause_4 17 rfl rfl)
theorem dX4_clause_114 : decode cX4_clause 114 = .ok (.iconst 1, 1) := dk_4 (dk_at dksX4_clause_4 20 rfl rfl)
theorem dX4_clause_115 : decode cX4_clause 115 = .ok (.goto 4, 3) := dk_167 0 4 (dk_at dksX4_clause_4 21 rfl rfl)
theorem dX4_clause_118 : decode cX4_clause 118 = .ok (.iconst 0, 1) := dk_3 (dk_at dksX4_clause_5 0 rfl rfl)
theorem dX4_clause_119 : decode cX4_clause 119 = .ok (.iload_n 1, 1) := dk_27 (dk_at dksX4_clause_5 1 rfl rfl)
theorem dX4_clause_120 : decode cX4_clause 120 = .ok (.ifCond .ne 9, 3) := dk_154 0 9 (dk_at dksX4_clause_5 2 rfl rfl)
theorem dX4_clause_123 : decode cX4_clause 123 = .ok (.sipush 200, 3) := dk_17 0 200 (dk_at dksX4_clause_5 5 rfl rfl)
theorem dX4_clause_126 : decode cX4_clause 126 = .ok (.goto 36, 3) := dk_167 0 36 (dk_at dksX4_clause_5 8 rfl rfl)
theorem dX4_clause_129 : decode cX4_clause 129 = .ok (.iload_n 1, 1) := dk_27 (dk_at dksX4_clause_5 11 rfl rfl)
theorem dX4_clause_130 : decode cX4_clause 130 = .ok (.iconst 3, 1) := dk_6 (dk_at dksX4_clause_5 12 rfl rfl)
theorem dX4_clause_131 : decode cX4_clause 131 = .ok (.if_icmp .ne 8, 3) := dk_160 0 8 (dk_at dksX4_clause_5 13 rfl rfl)
theorem dX4_clause_134 : decode cX4_clause 134 = .ok (.bipush 8, 2) := dk_16 8 (dk_at dksX4_clause_5 16 rfl rfl)
theorem dX4_clause_136 : decode cX4_clause 136 = .ok (.goto 26, 3) := dk_167 0 26 (dk_at dksX4_clause_5 18 rfl rfl)
theorem dX4_clause_139 : decode cX4_clause 139 = .ok (.iload_n 1, 1) := dk_27 (dk_at dksX4_clause_5 21 rfl rfl)
theorem dX4_clause_140 : decode cX4_clause 140 = .ok (.iconst 4, 1) := dk_7 (dk_at dksX4_clause_5 22 rfl rfl)
theorem dX4_clause_141 : decode cX4_clause 141 = .ok (.if_icmp .ne 8, 3) := dk_160 0 8 (dk_at dksX4_clause_6 0 rfl rfl)
theorem dX4_clause_144 : decode cX4_clause 144 = .ok (.bipush 15, 2) := dk_16 15 (dk_at dksX4_clause_6 3 rfl rfl)
theorem dX4_clause_146 : decode cX4_clause 146 = .ok (.goto 16, 3) := dk_167 0 16 (dk_at dksX4_clause_6 5 rfl rfl)
theorem dX4_clause_149 : decode cX4_clause 149 = .ok (.iload_n 1, 1) := dk_27 (dk_at dksX4_clause_6 8 rfl rfl)
theorem dX4_clause_150 : decode cX4_clause 150 = .ok (.bipush 6, 2) := dk_16 6 (dk_at dksX4_clause_6 9 rfl rfl)
theorem dX4_clause_152 : decode cX4_clause 152 = .ok (.if_icmp .ne 8, 3) := dk_160 0 8 (dk_at dksX4_clause_6 11 rfl rfl)
theorem dX4_clause_155 : decode cX4_clause 155 = .ok (.bipush 20, 2) := dk_16 20 (dk_at dksX4_clause_6 14 rfl rfl)
theorem dX4_clause_157 : decode cX4_clause 157 = .ok (.goto 5, 3) := dk_167 0 5 (dk_at dksX4_clause_6 16 rfl rfl)
theorem dX4_clause_160 : decode cX4_clause 160 = .ok (.bipush 16, 2) := dk_16 16 (dk_at dksX4_clause_6 19 rfl rfl)
theorem dX4_clause_162 : decode cX4_clause 162 = .ok (.iconst (-1), 1) := dk_2 (dk_at dksX4_clause_6 21 rfl rfl)
theorem dX4_clause_163 : decode cX4_clause 163 = .ok (.invokevirtual 153, 3) := dk_182 0 153 (dk_at dksX4_clause_7 0 rfl rfl)
theorem dX4_clause_166 : decode cX4_clause 166 = .ok (.istore 4, 2) := dk_54 4 (dk_at dksX4_clause_7 3 rfl rfl)
theorem dX4_clause_168 : decode cX4_clause 168 = .ok (.aload_n 0, 1) := dk_42 (dk_at dksX4_clause_7 5 rfl rfl)
theorem dX4_clause_169 : decode cX4_clause 169 = .ok (.bipush 59, 2) := dk_16 59 (dk_at dksX4_clause_7 6 rfl rfl)
theorem dX4_clause_171 : decode cX4_clause 171 = .ok (.invokevirtual 157, 3) := dk_182 0 157 (dk_at dksX4_clause_7 8 rfl rfl)
theorem dX4_clause_174 : decode cX4_clause 174 = .ok (.aload_n 0, 1) := dk_42 (dk_at dksX4_clause_7 11 rfl rfl)
theorem dX4_clause_175 : decode cX4_clause 175 = .ok (.dup, 1) := dk_89 (dk_at dksX4_clause_7 12 rfl rfl)
theorem dX4_clause_176 : decode cX4_clause 176 = .ok (.getfield 147, 3) := dk_180 0 147 (dk_at dksX4_clause_7 13 rfl rfl)
theorem dX4_clause_179 : decode cX4_clause 179 = .ok (.iconst 1, 1) := dk_4 (dk_at dksX4_clause_7 16 rfl rfl)
theorem dX4_clause_180 : decode cX4_clause 180 = .ok (.iadd, 1) := dk_96 (dk_at dksX4_clause_7 17 rfl rfl)
theorem dX4_clause_181 : decode cX4_clause 181 = .ok (.putfield 147, 3) := dk_181 0 147 (dk_at dksX4_clause_7 18 rfl rfl)
theorem dX4_clause_184 : decode cX4_clause 184 = .ok (.aload_n 0, 1) := dk_42 (dk_at dksX4_clause_7 21 rfl rfl)
theorem dX4_clause_185 : decode cX4_clause 185 = .ok (.getfield 110, 3) := dk_180 0 110 (dk_at dksX4_clause_8 0 rfl rfl)
theorem dX4_clause_188 : decode cX4_clause 188 = .ok (.ifCond .eq 4, 3) := dk_153 0 4 (dk_at dksX4_clause_8 3 rfl rfl)
theorem dX4_clause_191 : decode cX4_clause 191 = .ok (.return_, 1) := dk_177 (dk_at dksX4_clause_8 6 rfl rfl)
theorem dX4_clause_192 : decode cX4_clause 192 = .ok (.iload_n 1, 1) := dk_27 (dk_at dksX4_clause_8 7 rfl rfl)
theorem dX4_clause_193 : decode cX4_clause 193 = .ok (.ifCond .ne 13, 3) := dk_154 0 13 (dk_at dksX4_clause_8 8 rfl rfl)
theorem dX4_clause_196 : decode cX4_clause 196 = .ok (.aload_n 0, 1) := dk_42 (dk_at dksX4_clause_8 11 rfl rfl)
theorem dX4_clause_197 : decode cX4_clause 197 = .ok (.getfield 34, 3) := dk_180 0 34 (dk_at dksX4_clause_8 12 rfl rfl)
theorem dX4_clause_200 : decode cX4_clause 200 = .ok (.iload_n 2, 1) := dk_28 (dk_at dksX4_clause_8 15 rfl rfl)
theorem dX4_clause_201 : decode cX4_clause 201 = .ok (.aaload, 1) := dk_50 (dk_at dksX4_clause_8 16 rfl rfl)
theorem dX4_clause_202 : decode cX4_clause 202 = .ok (.iload_n 3, 1) := dk_29 (dk_at dksX4_clause_8 17 rfl rfl)
theorem dX4_clause_203 : decode cX4_clause 203 = .ok (.iload 4, 2) := dk_21 4 (dk_at dksX4_clause_8 18 rfl rfl)
theorem dX4_clause_205 : decode cX4_clause 205 = .ok (.iastore, 1) := dk_79 (dk_at dksX4_clause_8 20 rfl rfl)
theorem dX4_clause_206 : decode cX4_clause 206 = .ok (.iload_n 1, 1) := dk_27 (dk_at dksX4_clause_8 21 rfl rfl)
theorem dX4_clause_207 : decode cX4_clause 207 = .ok (.iconst 1, 1) := dk_4 (dk_at dksX4_clause_8 22 rfl rfl)
theorem dX4_clause_208 : decode cX4_clause 208 = .ok (.if_icmp .ne 11, 3) := dk_160 0 11 (dk_at dksX4_clause_9 0 rfl rfl)
theorem dX4_clause_211 : decode cX4_clause 211 = .ok (.aload_n 0, 1) := dk_42 (dk_at dksX4_clause_9 3 rfl rfl)
theorem dX4_clause_212 : decode cX4_clause 212 = .ok (.getfield 37, 3) := dk_180 0 37 (dk_at dksX4_clause_9 4 rfl rfl)
theorem dX4_clause_215 : decode cX4_clause 215 = .ok (.iload_n 3, 1) := dk_29 (dk_at dksX4_clause_9 7 rfl rfl)
theorem dX4_clause_216 : decode cX4_clause 216 = .ok (.iload 4, 2) := dk_21 4 (dk_at dksX4_clause_9 8 rfl rfl)
theorem dX4_clause_218 : decode cX4_clause 218 = .ok (.iastore, 1) := dk_79 (dk_at dksX4_clause_9 10 rfl rfl)
theorem dX4_clause_219 : decode cX4_clause 219 = .ok (.iload_n 1, 1) := dk_27 (dk_at dksX4_clause_9 11 rfl rfl)
theorem dX4_clause_220 : decode cX4_clause 220 = .ok (.iconst 2, 1) := dk_5 (dk_at dksX4_clause_9 12 rfl rfl)
theorem dX4_clause_221 : decode cX4_clause 221 = .ok (.if_icmp .ne 9, 3) := dk_160 0 9 (dk_at dksX4_clause_9 13 rfl rfl)
theorem dX4_clause_224 : decode cX4_clause 224 = .ok (.aload_n 0, 1) := dk_42 (dk_at dksX4_clause_9 16 rfl rfl)
theorem dX4_clause_225 : decode cX4_clause 225 = .ok (.iload 4, 2) := dk_21 4 (dk_at dksX4_clause_9 17 rfl rfl)
theorem dX4_clause_227 : decode cX4_clause 227 = .ok (.putfield 161, 3) := dk_181 0 161 (dk_at dksX4_clause_9 19 rfl rfl)
theorem dX4_clause_230 : decode cX4_clause 230 = .ok (.iload_n 1, 1) := dk_27 (dk_at dksX4_clause_9 22 rfl rfl)
theorem dX4_clause_231 : decode cX4_clause 231 = .ok (.iconst 3, 1) := dk_6 (dk_at dksX4_clause_9 23 rfl rfl)
theorem dX4_clause_232 : decode cX4_clause 232 = .ok (.if_icmp .ne 9, 3) := dk_160 0 9 (dk_at dksX4_clause_10 0 rfl rfl)
theorem dX4_clause_235 : decode cX4_clause 235 = .ok (.aload_n 0, 1) := dk_42 (dk_at dksX4_clause_10 3 rfl rfl)
theorem dX4_clause_236 : decode cX4_clause 236 = .ok (.iload 4, 2) := dk_21 4 (dk_at dksX4_clause_10 4 rfl rfl)
theorem dX4_clause_238 : decode cX4_clause 238 = .ok (.putfield 164, 3) := dk_181 0 164 (dk_at dksX4_clause_10 6 rfl rfl)
theorem dX4_clause_241 : decode cX4_clause 241 = .ok (.iload_n 1, 1) := dk_27 (dk_at dksX4_clause_10 9 rfl rfl)
theorem dX4_clause_242 : decode cX4_clause 242 = .ok (.iconst 4, 1) := dk_7 (dk_at dksX4_clause_10 10 rfl rfl)
theorem dX4_clause_243 : decode cX4_clause 243 = .ok (.if_icmp .ne 9, 3) := dk_160 0 9 (dk_at dksX4_clause_10 11 rfl rfl)
theorem dX4_clause_246 : decode cX4_clause 246 = .ok (.aload_n 0, 1) := dk_42 (dk_at dksX4_clause_10 14 rfl rfl)
theorem dX4_clause_247 : decode cX4_clause 247 = .ok (.iload 4, 2) := dk_21 4 (dk_at dksX4_clause_10 15 rfl rfl)
theorem dX4_clause_249 : decode cX4_clause 249 = .ok (.putfield 167, 3) := dk_181 0 167 (dk_at dksX4_clause_10 17 rfl rfl)
theorem dX4_clause_252 : decode cX4_clause 252 = .ok (.iload_n 1, 1) := dk_27 (dk_at dksX4_clause_10 20 rfl rfl)
theorem dX4_clause_253 : decode cX4_clause 253 = .ok (.iconst 5, 1) := dk_8 (dk_at dksX4_clause_10 21 rfl rfl)
theorem dX4_clause_254 : decode cX4_clause 254 = .ok (.if_icmp .ne 29, 3) := dk_160 0 29 (dk_at dksX4_clause_11 0 rfl rfl)
theorem dX4_clause_257 : decode cX4_clause 257 = .ok (.aload_n 0, 1) := dk_42 (dk_at dksX4_clause_11 3 rfl rfl)
theorem dX4_clause_258 : decode cX4_clause 258 = .ok (.getfield 43, 3) := dk_180 0 43 (dk_at dksX4_clause_11 4 rfl rfl)
theorem dX4_clause_261 : decode cX4_clause 261 = .ok (.iload_n 3, 1) := dk_29 (dk_at dksX4_clause_11 7 rfl rfl)
theorem dX4_clause_262 : decode cX4_clause 262 = .ok (.dup2, 1) := dk_92 (dk_at dksX4_clause_11 8 rfl rfl)
theorem dX4_clause_263 : decode cX4_clause 263 = .ok (.iaload, 1) := dk_46 (dk_at dksX4_clause_11 9 rfl rfl)
theorem dX4_clause_264 : decode cX4_clause 264 = .ok (.iconst 1, 1) := dk_4 (dk_at dksX4_clause_11 10 rfl rfl)
theorem dX4_clause_265 : decode cX4_clause 265 = .ok (.iload 4, 2) := dk_21 4 (dk_at dksX4_clause_11 11 rfl rfl)
theorem dX4_clause_267 : decode cX4_clause 267 = .ok (.ishl, 1) := dk_120 (dk_at dksX4_clause_11 13 rfl rfl)
theorem dX4_clause_268 : decode cX4_clause 268 = .ok (.ior, 1) := dk_128 (dk_at dksX4_clause_11 14 rfl rfl)
theorem dX4_clause_269 : decode cX4_clause 269 = .ok (.iastore, 1) := dk_79 (dk_at dksX4_clause_11 15 rfl rfl)
theorem dX4_clause_270 : decode cX4_clause 270 = .ok (.aload_n 0, 1) := dk_42 (dk_at dksX4_clause_11 16 rfl rfl)
theorem dX4_clause_271 : decode cX4_clause 271 = .ok (.getfield 43, 3) := dk_180 0 43 (dk_at dksX4_clause_11 17 rfl rfl)
theorem dX4_clause_274 : decode cX4_clause 274 = .ok (.iload 4, 2) := dk_21 4 (dk_at dksX4_clause_11 20 rfl rfl)
theorem dX4_clause_276 : decode cX4_clause 276 = .ok (.dup2, 1) := dk_92 (dk_at dksX4_clause_11 22 rfl rfl)
theorem dX4_clause_277 : decode cX4_clause 277 = .ok (.iaload, 1) := dk_46 (dk_at dksX4_clause_11 23 rfl rfl)
theorem dX4_clause_278 : decode cX4_clause 278 = .ok (.iconst 1, 1) := dk_4 (dk_at dksX4_clause_12 0 rfl rfl)
theorem dX4_clause_279 : decode cX4_clause 279 = .ok (.iload_n 3, 1) := dk_29 (dk_at dksX4_clause_12 1 rfl rfl)
theorem dX4_clause_280 : decode cX4_clause 280 = .ok (.ishl, 1) := dk_120 (dk_at dksX4_clause_12 2 rfl rfl)
theorem dX4_clause_281 : decode cX4_clause 281 = .ok (.ior, 1) := dk_128 (dk_at dksX4_clause_12 3 rfl rfl)
theorem dX4_clause_282 : decode cX4_clause 282 = .ok (.iastore, 1) := dk_79 (dk_at dksX4_clause_12 4 rfl rfl)
theorem dX4_clause_283 : decode cX4_clause 283 = .ok (.iload_n 1, 1) := dk_27 (dk_at dksX4_clause_12 5 rfl rfl)
theorem dX4_clause_284 : decode cX4_clause 284 = .ok (.bipush 6, 2) := dk_16 6 (dk_at dksX4_clause_12 6 rfl rfl)
theorem dX4_clause_286 : decode cX4_clause 286 = .ok (.if_icmp .ne 11, 3) := dk_160 0 11 (dk_at dksX4_clause_12 8 rfl rfl)
theorem dX4_clause_289 : decode cX4_clause 289 = .ok (.aload_n 0, 1) := dk_42 (dk_at dksX4_clause_12 11 rfl rfl)
theorem dX4_clause_290 : decode cX4_clause 290 = .ok (.getfield 40, 3) := dk_180 0 40 (dk_at dksX4_clause_12 12 rfl rfl)
theorem dX4_clause_293 : decode cX4_clause 293 = .ok (.iload_n 3, 1) := dk_29 (dk_at dksX4_clause_12 15 rfl rfl)
theorem dX4_clause_294 : decode cX4_clause 294 = .ok (.iload 4, 2) := dk_21 4 (dk_at dksX4_clause_12 16 rfl rfl)
theorem dX4_clause_296 : decode cX4_clause 296 = .ok (.iastore, 1) := dk_79 (dk_at dksX4_clause_12 18 rfl rfl)
theorem dX4_clause_297 : decode cX4_clause 297 = .ok (.return_, 1) := dk_177 (dk_at dksX4_clause_12 19 rfl rfl)
abbrev cX4_clauseHere : ByteArray := prog_16_method_17_code
def yX4_clauseHere : MethodName := ⟨RX4, "clauseHere", "()I"⟩
def dkwX4_clauseHere_5 : List UInt8 := [182, 0, 140, 153, 0, 8, 16, 6, 167, 0, 4, 2, 172]
abbrev dktX4_clauseHere_5 : List UInt8 := dkwX4_clauseHere_5 ++ []
def dkwX4_clauseHere_4 : List UInt8 := [8, 3, 182, 0, 140, 153, 0, 5, 8, 172, 42, 6, 16, 15, 16, 13, 16, 13, 16, 15, 16, 14]
abbrev dktX4_clauseHere_4 : List UInt8 := dkwX4_clauseHere_4 ++ dktX4_clauseHere_5
def dkwX4_clauseHere_3 : List UInt8 := [16, 20, 4, 16, 11, 8, 3, 3, 182, 0, 140, 153, 0, 5, 7, 172, 42, 4, 16, 12, 16, 9, 16, 11]
abbrev dktX4_clauseHere_3 : List UInt8 := dkwX4_clauseHere_3 ++ dktX4_clauseHere_4
def dkwX4_clauseHere_2 : List UInt8 := [153, 0, 5, 5, 172, 42, 16, 16, 4, 16, 19, 16, 19, 3, 3, 182, 0, 140, 153, 0, 5, 6, 172, 42]
abbrev dktX4_clauseHere_2 : List UInt8 := dkwX4_clauseHere_2 ++ dktX4_clauseHere_3
def dkwX4_clauseHere_1 : List UInt8 := [7, 3, 3, 182, 0, 140, 153, 0, 5, 4, 172, 42, 16, 23, 4, 16, 19, 16, 8, 3, 3, 182, 0, 140]
abbrev dktX4_clauseHere_1 : List UInt8 := dkwX4_clauseHere_1 ++ dktX4_clauseHere_2
def dkwX4_clauseHere_0 : List UInt8 := [42, 16, 19, 16, 8, 8, 7, 3, 3, 182, 0, 140, 153, 0, 5, 3, 172, 42, 16, 8, 16, 15, 16, 12]
abbrev dktX4_clauseHere_0 : List UInt8 := dkwX4_clauseHere_0 ++ dktX4_clauseHere_1
theorem dksX4_clauseHere_0 : cX4_clauseHere.data.toList.drop 0 = dktX4_clauseHere_0 := by decide +kernel
theorem dksX4_clauseHere_1 : cX4_clauseHere.data.toList.drop 24 = dktX4_clauseHere_1 := dk_seg dksX4_clauseHere_0 24 rfl rfl
theorem dksX4_clauseHere_2 : cX4_clauseHere.data.toList.drop 48 = dktX4_clauseHere_2 := dk_seg dksX4_clauseHere_1 24 rfl rfl
theorem dksX4_clauseHere_3 : cX4_clauseHere.data.toList.drop 72 = dktX4_clauseHere_3 := dk_seg dksX4_clauseHere_2 24 rfl rfl
theorem dksX4_clauseHere_4 : cX4_clauseHere.data.toList.drop 96 = dktX4_clauseHere_4 := dk_seg dksX4_clauseHere_3 24 rfl rfl
theorem dksX4_clauseHere_5 : cX4_clauseHere.data.toList.drop 118 = dktX4_clauseHere_5 := dk_seg dksX4_clauseHere_4 22 rfl rfl
theorem dX4_clauseHere_0 : decode cX4_clauseHere 0 = .ok (.aload_n 0, 1) := dk_42 (dk_at dksX4_clauseHere_0 0 rfl rfl)
theorem dX4_clauseHere_1 : decode cX4_clauseHere 1 = .ok (.bipush 19, 2) := dk_16 19 (dk_at dksX4_clauseHere_0 1 rfl rfl)
theorem dX4_clauseHere_3 : decode cX4_clauseHere 3 = .ok (.bipush 8, 2) := dk_16 8 (dk_at dksX4_clauseHere_0 3 rfl rfl)
theorem dX4_clauseHere_5 : decode cX4_clauseHere 5 = .ok (.iconst 5, 1) := dk_8 (dk_at dksX4_clauseHere_0 5 rfl rfl)
theorem dX4_clauseHere_6 : decode cX4_clauseHere 6 = .ok (.iconst 4, 1) := dk_7 (dk_at dksX4_clauseHere_0 6 rfl rfl)
theorem dX4_clauseHere_7 : decode cX4_clauseHere 7 = .ok (.iconst 0, 1) := dk_3 (dk_at dksX4_clauseHere_0 7 rfl rfl)
theorem dX4_clauseHere_8 : decode cX4_clauseHere 8 = .ok (.iconst 0, 1) := dk_3 (dk_at dksX4_clauseHere_0 8 rfl rfl)
theorem dX4_clauseHere_9 : decode cX4_clauseHere 9 = .ok (.invokevirtual 140, 3) := dk_182 0 140 (dk_at dksX4_clauseHere_0 9 rfl rfl)
theorem dX4_clauseHere_12 : decode cX4_clauseHere 12 = .ok (.ifCond .eq 5, 3) := dk_153 0 5 (dk_at dksX4_clauseHere_0 12 rfl rfl)
theorem dX4_clauseHere_15 : decode cX4_clauseHere 15 = .ok (.iconst 0, 1) := dk_3 (dk_at dksX4_clauseHere_0 15 rfl rfl)
theorem dX4_clauseHere_16 : decode cX4_clauseHere 16 = .ok (.ireturn, 1) := dk_172 (dk_at dksX4_clauseHere_0 16 rfl rfl)
theorem dX4_clauseHere_17 : decode cX4_clauseHere 17 = .ok (.aload_n 0, 1) := dk_42 (dk_at dksX4_clauseHere_0 17 rfl rfl)
theorem dX4_clauseHere_18 : decode cX4_clauseHere 18 = .ok (.bipush 8, 2) := dk_16 8 (dk_at dksX4_clauseHere_0 18 rfl rfl)
theorem dX4_clauseHere_20 : decode cX4_clauseHere 20 = .ok (.bipush 15, 2) := dk_16 15 (dk_at dksX4_clauseHere_0 20 rfl rfl)
theorem dX4_clauseHere_22 : decode cX4_clauseHere 22 = .ok (.bipush 12, 2) := dk_16 12 (dk_at dksX4_clauseHere_0 22 rfl rfl)
theorem dX4_clauseHere_24 : decode cX4_clauseHere 24 = .ok (.iconst 4, 1) := dk_7 (dk_at dksX4_clauseHere_1 0 rfl rfl)
theorem dX4_clauseHere_25 : decode cX4_clauseHere 25 = .ok (.iconst 0, 1) := dk_3 (dk_at dksX4_clauseHere_1 1 rfl rfl)
theorem dX4_clauseHere_26 : decode cX4_clauseHere 26 = .ok (.iconst 0, 1) := dk_3 (dk_at dksX4_clauseHere_1 2 rfl rfl)
theorem dX4_clauseHere_27 : decode cX4_clauseHere 27 = .ok (.invokevirtual 140, 3) := dk_182 0 140 (dk_at dksX4_clauseHere_1 3 rfl rfl)
theorem dX4_clauseHere_30 : decode cX4_clauseHere 30 = .ok (.ifCond .eq 5, 3) := dk_153 0 5 (dk_at dksX4_clauseHere_1 6 rfl rfl)
theorem dX4_clauseHere_33 : decode cX4_clauseHere 33 = .ok (.iconst 1, 1) := dk_4 (dk_at dksX4_clauseHere_1 9 rfl rfl)
theorem dX4_clauseHere_34 : decode cX4_clauseHere 34 = .ok (.ireturn, 1) := dk_172 (dk_at dksX4_clauseHere_1 10 rfl rfl)
theorem dX4_clauseHere_35 : decode cX4_clauseHere 35 = .ok (.aload_n 0, 1) := dk_42 (dk_at dksX4_clauseHere_1 11 rfl rfl)
theorem dX4_clauseHere_36 : decode cX4_clauseHere 36 = .ok (.bipush 23, 2) := dk_16 23 (dk_at dksX4_clauseHere_1 12 rfl rfl)
theorem dX4_clauseHere_38 : decode cX4_clauseHere 38 = .ok (.iconst 1, 1) := dk_4 (dk_at dksX4_clauseHere_1 14 rfl rfl)
theorem dX4_clauseHere_39 : decode cX4_clauseHere 39 = .ok (.bipush 19, 2) := dk_16 19 (dk_at dksX4_clauseHere_1 15 rfl rfl)
theorem dX4_clauseHere_41 : decode cX4_clauseHere 41 = .ok (.bipush 8, 2) := dk_16 8 (dk_at dksX4_clauseHere_1 17 rfl rfl)
theorem dX4_clauseHere_43 : decode cX4_clauseHere 43 = .ok (.iconst 0, 1) := dk_3 (dk_at dksX4_clauseHere_1 19 rfl rfl)
theorem dX4_clauseHere_44 : decode cX4_clauseHere 44 = .ok (.iconst 0, 1) := dk_3 (dk_at dksX4_clauseHere_1 20 rfl rfl)
theorem dX4_clauseHere_45 : decode cX4_clauseHere 45 = .ok (.invokevirtual 140, 3) := dk_182 0 140 (dk_at dksX4_clauseHere_1 21 rfl rfl)
theorem dX4_clauseHere_48 : decode cX4_clauseHere 48 = .ok (.ifCond .eq 5, 3) := dk_153 0 5 (dk_at dksX4_clauseHere_2 0 rfl rfl)
theorem dX4_clauseHere_51 : decode cX4_clauseHere 51 = .ok (.iconst 2, 1) := dk_5 (dk_at dksX4_clauseHere_2 3 rfl rfl)
theorem dX4_clauseHere_52 : decode cX4_clauseHere 52 = .ok (.ireturn, 1) := dk_172 (dk_at dksX4_clauseHere_2 4 rfl rfl)
theorem dX4_clauseHere_53 : decode cX4_clauseHere 53 = .ok (.aload_n 0, 1) := dk_42 (dk_at dksX4_clauseHere_2 5 rfl rfl)
theorem dX4_clauseHere_54 : decode cX4_clauseHere 54 = .ok (.bipush 16, 2) := dk_16 16 (dk_at dksX4_clauseHere_2 6 rfl rfl)
theorem dX4_clauseHere_56 : decode cX4_clauseHere 56 = .ok (.iconst 1, 1) := dk_4 (dk_at dksX4_clauseHere_2 8 rfl rfl)
theorem dX4_clauseHere_57 : decode cX4_clauseHere 57 = .ok (.bipush 19, 2) := dk_16 19 (dk_at dksX4_clauseHere_2 9 rfl rfl)
theorem dX4_clauseHere_59 : decode cX4_clauseHere 59 = .ok (.bipush 19, 2) := dk_16 19 (dk_at dksX4_clauseHere_2 11 rfl rfl)
theorem dX4_clauseHere_61 : decode cX4_clauseHere 61 = .ok (.iconst 0, 1) := dk_3 (dk_at dksX4_clauseHere_2 13 rfl rfl)
theorem dX4_clauseHere_62 : decode cX4_clauseHere 62 = .ok (.iconst 0, 1) := dk_3 (dk_at dksX4_clauseHere_2 14 rfl rfl)
theorem dX4_clauseHere_63 : decode cX4_clauseHere 63 = .ok (.invokevirtual 140, 3) := dk_182 0 140 (dk_at dksX4_clauseHere_2 15 rfl rfl)
theorem dX4_clauseHere_66 : decode cX4_clauseHere 66 = .ok (.ifCond .eq 5, 3) := dk_153 0 5 (dk_at dksX4_clauseHere_2 18 rfl rfl)
theorem dX4_clauseHere_69 : decode cX4_clauseHere 69 = .ok (.iconst 3, 1) := dk_6 (dk_at dksX4_clauseHere_2 21 rfl rfl)
theorem dX4_clauseHere_70 : decode cX4_clauseHere 70 = .ok (.ireturn, 1) := dk_172 (dk_at dksX4_clauseHere_2 22 rfl rfl)
theorem dX4_clauseHere_71 : decode cX4_clauseHere 71 = .ok (.aload_n 0, 1) := dk_42 (dk_at dksX4_clauseHere_2 23 rfl rfl)
theorem dX4_clauseHere_72 : decode cX4_clauseHere 72 = .ok (.bipush 20, 2) := dk_16 20 (dk_at dksX4_clauseHere_3 0 rfl rfl)
theorem dX4_clauseHere_74 : decode cX4_clauseHere 74 = .ok (.iconst 1, 1) := dk_4 (dk_at dksX4_clauseHere_3 2 rfl rfl)
theorem dX4_clauseHere_75 : decode cX4_clauseHere 75 = .ok (.bipush 11, 2) := dk_16 11 (dk_at dksX4_clauseHere_3 3 rfl rfl)
theorem dX4_clauseHere_77 : decode cX4_clauseHere 77 = .ok (.iconst 5, 1) := dk_8 (dk_at dksX4_clauseHere_3 5 rfl rfl)
theorem dX4_clauseHere_78 : decode cX4_clauseHere 78 = .ok (.iconst 0, 1) := dk_3 (dk_at dksX4_clauseHere_3 6 rfl rfl)
theorem dX4_clauseHere_79 : decode cX4_clauseHere 79 = .ok (.iconst 0, 1) := dk_3 (dk_at dksX4_clauseHere_3 7 rfl rfl)
theorem dX4_clauseHere_80 : decode cX4_clauseHere 80 = .ok (.invokevirtual 140, 3) := dk_182 0 140 (dk_at dksX4_clauseHere_3 8 rfl rfl)
theorem dX4_clauseHere_83 : decode cX4_clauseHere 83 = .ok (.ifCond .eq 5, 3) := dk_153 0 5 (dk_at dksX4_clauseHere_3 11 rfl rfl)
theorem dX4_clauseHere_86 : decode cX4_clauseHere 86 = .ok (.iconst 4, 1) := dk_7 (dk_at dksX4_clauseHere_3 14 rfl rfl)
theorem dX4_clauseHere_87 : decode cX4_clauseHere 87 = .ok (.ireturn, 1) := dk_172 (dk_at dksX4_clauseHere_3 15 rfl rfl)
theorem dX4_clauseHere_88 : decode cX4_clauseHere 88 = .ok (.aload_n 0, 1) := dk_42 (dk_at dksX4_clauseHere_3 16 rfl rfl)
theorem dX4_clauseHere_89 : decode cX4_clauseHere 89 = .ok (.iconst 1, 1) := dk_4 (dk_at dksX4_clauseHere_3 17 rfl rfl)
theorem dX4_clauseHere_90 : decode cX4_clauseHere 90 = .ok (.bipush 12, 2) := dk_16 12 (dk_at dksX4_clauseHere_3 18 rfl rfl)
theorem dX4_clauseHere_92 : decode cX4_clauseHere 92 = .ok (.bipush 9, 2) := dk_16 9 (dk_at dksX4_clauseHere_3 20 rfl rfl)
theorem dX4_clauseHere_94 : decode cX4_clauseHere 94 = .ok (.bipush 11, 2) := dk_16 11 (dk_at dksX4_clauseHere_3 22 rfl rfl)
theorem dX4_clauseHere_96 : decode cX4_clauseHere 96 = .ok (.iconst 5, 1) := dk_8 (dk_at dksX4_clauseHere_4 0 rfl rfl)
theorem dX4_clauseHere_97 : decode cX4_clauseHere 97 = .ok (.iconst 0, 1) := dk_3 (dk_at dksX4_clauseHere_4 1 rfl rfl)
theorem dX4_clauseHere_98 : decode cX4_clauseHere 98 = .ok (.invokevirtual 140, 3) := dk_182 0 140 (dk_at dksX4_clauseHere_4 2 rfl rfl)
theorem dX4_clauseHere_101 : decode cX4_clauseHere 101 = .ok (.ifCond .eq 5, 3) := dk_153 0 5 (dk_at dksX4_clauseHere_4 5 rfl rfl)
theorem dX4_clauseHere_104 : decode cX4_clauseHere 104 = .ok (.iconst 5, 1) := dk_8 (dk_at dksX4_clauseHere_4 8 rfl rfl)
theorem dX4_clauseHere_105 : decode cX4_clauseHere 105 = .ok (.ireturn, 1) := dk_172 (dk_at dksX4_clauseHere_4 9 rfl rfl)
theorem dX4_clauseHere_106 : decode cX4_clauseHere 106 = .ok (.aload_n 0, 1) := dk_42 (dk_at dksX4_clauseHere_4 10 rfl rfl)
theorem dX4_clauseHere_107 : decode cX4_clauseHere 107 = .ok (.iconst 3, 1) := dk_6 (dk_at dksX4_clauseHere_4 11 rfl rfl)
theorem dX4_clauseHere_108 : decode cX4_clauseHere 108 = .ok (.bipush 15, 2) := dk_16 15 (dk_at dksX4_clauseHere_4 12 rfl rfl)
theorem dX4_clauseHere_110 : decode cX4_clauseHere 110 = .ok (.bipush 13, 2) := dk_16 13 (dk_at dksX4_clauseHere_4 14 rfl rfl)
theorem dX4_clauseHere_112 : decode cX4_clauseHere 112 = .ok (.bipush 13, 2) := dk_16 13 (dk_at dksX4_clauseHere_4 16 rfl rfl)
theorem dX4_clauseHere_114 : decode cX4_clauseHere 114 = .ok (.bipush 15, 2) := dk_16 15 (dk_at dksX4_clauseHere_4 18 rfl rfl)
theorem dX4_clauseHere_116 : decode cX4_clauseHere 116 = .ok (.bipush 14, 2) := dk_16 14 (dk_at dksX4_clauseHere_4 20 rfl rfl)
theorem dX4_clauseHere_118 : decode cX4_clauseHere 118 = .ok (.invokevirtual 140, 3) := dk_182 0 140 (dk_at dksX4_clauseHere_5 0 rfl rfl)
theorem dX4_clauseHere_121 : decode cX4_clauseHere 121 = .ok (.ifCond .eq 8, 3) := dk_153 0 8 (dk_at dksX4_clauseHere_5 3 rfl rfl)
theorem dX4_clauseHere_124 : decode cX4_clauseHere 124 = .ok (.bipush 6, 2) := dk_16 6 (dk_at dksX4_clauseHere_5 6 rfl rfl)
theorem dX4_clauseHere_126 : decode cX4_clauseHere 126 = .ok (.goto 4, 3) := dk_167 0 4 (dk_at dksX4_clauseHere_5 8 rfl rfl)
theorem dX4_clauseHere_129 : decode cX4_clauseHere 129 = .ok (.iconst (-1), 1) := dk_2 (dk_at dksX4_clauseHere_5 11 rfl rfl)
theorem dX4_clauseHere_130 : decode cX4_clauseHere 130 = .ok (.ireturn, 1) := dk_172 (dk_at dksX4_clauseHere_5 12 rfl rfl)
abbrev cX4_isWord : ByteArray := prog_16_method_14_code
def yX4_isWord : MethodName := ⟨RX4, "isWord", "(IIIIII)Z"⟩
def dkwX4_isWord_1 : List UInt8 := [172]
abbrev dktX4_isWord_1 : List UInt8 := dkwX4_isWord_1 ++ []
def dkwX4_isWord_0 : List UInt8 := [42, 182, 0, 132, 27, 28, 29, 21, 4, 21, 5, 21, 6, 184, 0, 136, 160, 0, 7, 4, 167, 0, 4, 3]
abbrev dktX4_isWord_0 : List UInt8 := dkwX4_isWord_0 ++ dktX4_isWord_1
theorem dksX4_isWord_0 : cX4_isWord.data.toList.drop 0 = dktX4_isWord_0 := by decide +kernel
theorem dksX4_isWord_1 : cX4_isWord.data.toList.drop 24 = dktX4_isWord_1 := dk_seg dksX4_isWord_0 24 rfl rfl
theorem dX4_isWord_0 : decode cX4_isWord 0 = .ok (.aload_n 0, 1) := dk_42 (dk_at dksX4_isWord_0 0 rfl rfl)
theorem dX4_isWord_1 : decode cX4_isWord 1 = .ok (.invokevirtual 132, 3) := dk_182 0 132 (dk_at dksX4_isWord_0 1 rfl rfl)
theorem dX4_isWord_4 : decode cX4_isWord 4 = .ok (.iload_n 1, 1) := dk_27 (dk_at dksX4_isWord_0 4 rfl rfl)
theorem dX4_isWord_5 : decode cX4_isWord 5 = .ok (.iload_n 2, 1) := dk_28 (dk_at dksX4_isWord_0 5 rfl rfl)
theorem dX4_isWord_6 : decode cX4_isWord 6 = .ok (.iload_n 3, 1) := dk_29 (dk_at dksX4_isWord_0 6 rfl rfl)
theorem dX4_isWord_7 : decode cX4_isWord 7 = .ok (.iload 4, 2) := dk_21 4 (dk_at dksX4_isWord_0 7 rfl rfl)
theorem dX4_isWord_9 : decode cX4_isWord 9 = .ok (.iload 5, 2) := dk_21 5 (dk_at dksX4_isWord_0 9 rfl rfl)
theorem dX4_isWord_11 : decode cX4_isWord 11 = .ok (.iload 6, 2) := dk_21 6 (dk_at dksX4_isWord_0 11 rfl rfl)
theorem dX4_isWord_13 : decode cX4_isWord 13 = .ok (.invokestatic 136, 3) := dk_184 0 136 (dk_at dksX4_isWord_0 13 rfl rfl)
theorem dX4_isWord_16 : decode cX4_isWord 16 = .ok (.if_icmp .ne 7, 3) := dk_160 0 7 (dk_at dksX4_isWord_0 16 rfl rfl)
theorem dX4_isWord_19 : decode cX4_isWord 19 = .ok (.iconst 1, 1) := dk_4 (dk_at dksX4_isWord_0 19 rfl rfl)
theorem dX4_isWord_20 : decode cX4_isWord 20 = .ok (.goto 4, 3) := dk_167 0 4 (dk_at dksX4_isWord_0 20 rfl rfl)
theorem dX4_isWord_23 : decode cX4_isWord 23 = .ok (.iconst 0, 1) := dk_3 (dk_at dksX4_isWord_0 23 rfl rfl)
theorem dX4_isWord_24 : decode cX4_isWord 24 = .ok (.ireturn, 1) := dk_172 (dk_at dksX4_isWord_1 0 rfl rfl)
abbrev cX4_wordHere : ByteArray := prog_16_method_12_code
def yX4_wordHere : MethodName := ⟨RX4, "wordHere", "()I"⟩
def dkwX4_wordHere_3 : List UInt8 := [167, 255, 192, 28, 16, 6, 164, 0, 7, 2, 167, 0, 4, 27, 172]
abbrev dktX4_wordHere_3 : List UInt8 := dkwX4_wordHere_3 ++ []
def dkwX4_wordHere_2 : List UInt8 := [42, 42, 180, 0, 103, 28, 96, 182, 0, 106, 96, 16, 97, 100, 4, 96, 167, 0, 4, 27, 60, 132, 2, 1]
abbrev dktX4_wordHere_2 : List UInt8 := dkwX4_wordHere_2 ++ dktX4_wordHere_3
def dkwX4_wordHere_1 : List UInt8 := [42, 180, 0, 103, 28, 96, 182, 0, 106, 16, 122, 163, 0, 40, 28, 16, 6, 162, 0, 26, 16, 27, 27, 104]
abbrev dktX4_wordHere_1 : List UInt8 := dkwX4_wordHere_1 ++ dktX4_wordHere_2
def dkwX4_wordHere_0 : List UInt8 := [42, 182, 0, 116, 3, 60, 3, 61, 42, 42, 180, 0, 103, 28, 96, 182, 0, 106, 16, 97, 161, 0, 55, 42]
abbrev dktX4_wordHere_0 : List UInt8 := dkwX4_wordHere_0 ++ dktX4_wordHere_1
theorem dksX4_wordHere_0 : cX4_wordHere.data.toList.drop 0 = dktX4_wordHere_0 := by decide +kernel
theorem dksX4_wordHere_1 : cX4_wordHere.data.toList.drop 24 = dktX4_wordHere_1 := dk_seg dksX4_wordHere_0 24 rfl rfl
theorem dksX4_wordHere_2 : cX4_wordHere.data.toList.drop 48 = dktX4_wordHere_2 := dk_seg dksX4_wordHere_1 24 rfl rfl
theorem dksX4_wordHere_3 : cX4_wordHere.data.toList.drop 72 = dktX4_wordHere_3 := dk_seg dksX4_wordHere_2 24 rfl rfl
theorem dX4_wordHere_0 : decode cX4_wordHere 0 = .ok (.aload_n 0, 1) := dk_42 (dk_at dksX4_wordHere_0 0 rfl rfl)
theorem dX4_wordHere_1 : decode cX4_wordHere 1 = .ok (.invokevirtual 116, 3) := dk_182 0 116 (dk_at dksX4_wordHere_0 1 rfl rfl)
theorem dX4_wordHere_4 : decode cX4_wordHere 4 = .ok (.iconst 0, 1) := dk_3 (dk_at dksX4_wordHere_0 4 rfl rfl)
theorem dX4_wordHere_5 : decode cX4_wordHere 5 = .ok (.istore_n 1, 1) := dk_60 (dk_at dksX4_wordHere_0 5 rfl rfl)
theorem dX4_wordHere_6 : decode cX4_wordHere 6 = .ok (.iconst 0, 1) := dk_3 (dk_at dksX4_wordHere_0 6 rfl rfl)
theorem dX4_wordHere_7 : decode cX4_wordHere 7 = .ok (.istore_n 2, 1) := dk_61 (dk_at dksX4_wordHere_0 7 rfl rfl)
theorem dX4_wordHere_8 : decode cX4_wordHere 8 = .ok (.aload_n 0, 1) := dk_42 (dk_at dksX4_wordHere_0 8 rfl rfl)
theorem dX4_wordHere_9 : decode cX4_wordHere 9 = .ok (.aload_n 0, 1) := dk_42 (dk_at dksX4_wordHere_0 9 rfl rfl)
theorem dX4_wordHere_10 : decode cX4_wordHere 10 = .ok (.getfield 103, 3) := dk_180 0 103 (dk_at dksX4_wordHere_0 10 rfl rfl)
theorem dX4_wordHere_13 : decode cX4_wordHere 13 = .ok (.iload_n 2, 1) := dk_28 (dk_at dksX4_wordHere_0 13 rfl rfl)
theorem dX4_wordHere_14 : decode cX4_wordHere 14 = .ok (.iadd, 1) := dk_96 (dk_at dksX4_wordHere_0 14 rfl rfl)
theorem dX4_wordHere_15 : decode cX4_wordHere 15 = .ok (.invokevirtual 106, 3) := dk_182 0 106 (dk_at dksX4_wordHere_0 15 rfl rfl)
theorem dX4_wordHere_18 : decode cX4_wordHere 18 = .ok (.bipush 97, 2) := dk_16 97 (dk_at dksX4_wordHere_0 18 rfl rfl)
theorem dX4_wordHere_20 : decode cX4_wordHere 20 = .ok (.if_icmp .lt 55, 3) := dk_161 0 55 (dk_at dksX4_wordHere_0 20 rfl rfl)
theorem dX4_wordHere_23 : decode cX4_wordHere 23 = .ok (.aload_n 0, 1) := dk_42 (dk_at dksX4_wordHere_0 23 rfl rfl)
theorem dX4_wordHere_24 : decode cX4_wordHere 24 = .ok (.aload_n 0, 1) := dk_42 (dk_at dksX4_wordHere_1 0 rfl rfl)
theorem dX4_wordHere_25 : decode cX4_wordHere 25 = .ok (.getfield 103, 3) := dk_180 0 103 (dk_at dksX4_wordHere_1 1 rfl rfl)
theorem dX4_wordHere_28 : decode cX4_wordHere 28 = .ok (.iload_n 2, 1) := dk_28 (dk_at dksX4_wordHere_1 4 rfl rfl)
theorem dX4_wordHere_29 : decode cX4_wordHere 29 = .ok (.iadd, 1) := dk_96 (dk_at dksX4_wordHere_1 5 rfl rfl)
theorem dX4_wordHere_30 : decode cX4_wordHere 30 = .ok (.invokevirtual 106, 3) := dk_182 0 106 (dk_at dksX4_wordHere_1 6 rfl rfl)
theorem dX4_wordHere_33 : decode cX4_wordHere 33 = .ok (.bipush 122, 2) := dk_16 122 (dk_at dksX4_wordHere_1 9 rfl rfl)
theorem dX4_wordHere_35 : decode cX4_wordHere 35 = .ok (.if_icmp .gt 40, 3) := dk_163 0 40 (dk_at dksX4_wordHere_1 11 rfl rfl)
theorem dX4_wordHere_38 : decode cX4_wordHere 38 = .ok (.iload_n 2, 1) := dk_28 (dk_at dksX4_wordHere_1 14 rfl rfl)
theorem dX4_wordHere_39 : decode cX4_wordHere 39 = .ok (.bipush 6, 2) := dk_16 6 (dk_at dksX4_wordHere_1 15 rfl rfl)
theorem dX4_wordHere_41 : decode cX4_wordHere 41 = .ok (.if_icmp .ge 26, 3) := dk_162 0 26 (dk_at dksX4_wordHere_1 17 rfl rfl)
theorem dX4_wordHere_44 : decode cX4_wordHere 44 = .ok (.bipush 27, 2) := dk_16 27 (dk_at dksX4_wordHere_1 20 rfl rfl)
theorem dX4_wordHere_46 : decode cX4_wordHere 46 = .ok (.iload_n 1, 1) := dk_27 (dk_at dksX4_wordHere_1 22 rfl rfl)
theorem dX4_wordHere_47 : decode cX4_wordHere 47 = .ok (.imul, 1) := dk_104 (dk_at dksX4_wordHere_1 23 rfl rfl)
theorem dX4_wordHere_48 : decode cX4_wordHere 48 = .ok (.aload_n 0, 1) := dk_42 (dk_at dksX4_wordHere_2 0 rfl rfl)
theorem dX4_wordHere_49 : decode cX4_wordHere 49 = .ok (.aload_n 0, 1) := dk_42 (dk_at dksX4_wordHere_2 1 rfl rfl)
theorem dX4_wordHere_50 : decode cX4_wordHere 50 = .ok (.getfield 103, 3) := dk_180 0 103 (dk_at dksX4_wordHere_2 2 rfl rfl)
theorem dX4_wordHere_53 : decode cX4_wordHere 53 = .ok (.iload_n 2, 1) := dk_28 (dk_at dksX4_wordHere_2 5 rfl rfl)
theorem dX4_wordHere_54 : decode cX4_wordHere 54 = .ok (.iadd, 1) := dk_96 (dk_at dksX4_wordHere_2 6 rfl rfl)
theorem dX4_wordHere_55 : decode cX4_wordHere 55 = .ok (.invokevirtual 106, 3) := dk_182 0 106 (dk_at dksX4_wordHere_2 7 rfl rfl)
theorem dX4_wordHere_58 : decode cX4_wordHere 58 = .ok (.iadd, 1) := dk_96 (dk_at dksX4_wordHere_2 10 rfl rfl)
theorem dX4_wordHere_59 : decode cX4_wordHere 59 = .ok (.bipush 97, 2) := dk_16 97 (dk_at dksX4_wordHere_2 11 rfl rfl)
theorem dX4_wordHere_61 : decode cX4_wordHere 61 = .ok (.isub, 1) := dk_100 (dk_at dksX4_wordHere_2 13 rfl rfl)
theorem dX4_wordHere_62 : decode cX4_wordHere 62 = .ok (.iconst 1, 1) := dk_4 (dk_at dksX4_wordHere_2 14 rfl rfl)
theorem dX4_wordHere_63 : decode cX4_wordHere 63 = .ok (.iadd, 1) := dk_96 (dk_at dksX4_wordHere_2 15 rfl rfl)
theorem dX4_wordHere_64 : decode cX4_wordHere 64 = .ok (.goto 4, 3) := dk_167 0 4 (dk_at dksX4_wordHere_2 16 rfl rfl)
theorem dX4_wordHere_67 : decode cX4_wordHere 67 = .ok (.iload_n 1, 1) := dk_27 (dk_at dksX4_wordHere_2 19 rfl rfl)
theorem dX4_wordHere_68 : decode cX4_wordHere 68 = .ok (.istore_n 1, 1) := dk_60 (dk_at dksX4_wordHere_2 20 rfl rfl)
theorem dX4_wordHere_69 : decode cX4_wordHere 69 = .ok (.iinc 2 1, 3) := dk_132 2 1 (dk_at dksX4_wordHere_2 21 rfl rfl)
theorem dX4_wordHere_72 : decode cX4_wordHere 72 = .ok (.goto (-64), 3) := dk_167 255 192 (dk_at dksX4_wordHere_3 0 rfl rfl)
theorem dX4_wordHere_75 : decode cX4_wordHere 75 = .ok (.iload_n 2, 1) := dk_28 (dk_at dksX4_wordHere_3 3 rfl rfl)
theorem dX4_wordHere_76 : decode cX4_wordHere 76 = .ok (.bipush 6, 2) := dk_16 6 (dk_at dksX4_wordHere_3 4 rfl rfl)
theorem dX4_wordHere_78 : decode cX4_wordHere 78 = .ok (.if_icmp .le 7, 3) := dk_164 0 7 (dk_at dksX4_wordHere_3 6 rfl rfl)
theorem dX4_wordHere_81 : decode cX4_wordHere 81 = .ok (.iconst (-1), 1) := dk_2 (dk_at dksX4_wordHere_3 9 rfl rfl)
theorem dX4_wordHere_82 : decode cX4_wordHere 82 = .ok (.goto 4, 3) := dk_167 0 4 (dk_at dksX4_wordHere_3 10 rfl rfl)
theorem dX4_wordHere_85 : decode cX4_wordHere 85 = .ok (.iload_n 1, 1) := dk_27 (dk_at dksX4_wordHere_3 13 rfl rfl)
theorem dX4_wordHere_86 : decode cX4_wordHere 86 = .ok (.ireturn, 1) := dk_172 (dk_at dksX4_wordHere_3 14 rfl rfl)
abbrev cX4_word : ByteArray := prog_16_method_13_code
def yX4_word : MethodName := ⟨RX4, "word", "(IIIIII)I"⟩
def dkwX4_word_3 : List UInt8 := [21, 6, 167, 0, 11, 16, 27, 21, 6, 104, 21, 5, 96, 172]
abbrev dktX4_word_3 : List UInt8 := dkwX4_word_3 ++ []
def dkwX4_word_2 : List UInt8 := [154, 0, 8, 21, 6, 167, 0, 11, 16, 27, 21, 6, 104, 21, 4, 96, 54, 6, 21, 5, 154, 0, 8]
abbrev dktX4_word_2 : List UInt8 := dkwX4_word_2 ++ dktX4_word_3
def dkwX4_word_1 : List UInt8 := [54, 6, 29, 154, 0, 8, 21, 6, 167, 0, 10, 16, 27, 21, 6, 104, 29, 96, 54, 6, 21, 4]
abbrev dktX4_word_1 : List UInt8 := dkwX4_word_1 ++ dktX4_word_2
def dkwX4_word_0 : List UInt8 := [16, 27, 26, 104, 27, 96, 54, 6, 28, 154, 0, 8, 21, 6, 167, 0, 10, 16, 27, 21, 6, 104, 28, 96]
abbrev dktX4_word_0 : List UInt8 := dkwX4_word_0 ++ dktX4_word_1
theorem dksX4_word_0 : cX4_word.data.toList.drop 0 = dktX4_word_0 := by decide +kernel
theorem dksX4_word_1 : cX4_word.data.toList.drop 24 = dktX4_word_1 := dk_seg dksX4_word_0 24 rfl rfl
theorem dksX4_word_2 : cX4_word.data.toList.drop 46 = dktX4_word_2 := dk_seg dksX4_word_1 22 rfl rfl
theorem dksX4_word_3 : cX4_word.data.toList.drop 69 = dktX4_word_3 := dk_seg dksX4_word_2 23 rfl rfl
theorem dX4_word_0 : decode cX4_word 0 = .ok (.bipush 27, 2) := dk_16 27 (dk_at dksX4_word_0 0 rfl rfl)
theorem dX4_word_2 : decode cX4_word 2 = .ok (.iload_n 0, 1) := dk_26 (dk_at dksX4_word_0 2 rfl rfl)
theorem dX4_word_3 : decode cX4_word 3 = .ok (.imul, 1) := dk_104 (dk_at dksX4_word_0 3 rfl rfl)
theorem dX4_word_4 : decode cX4_word 4 = .ok (.iload_n 1, 1) := dk_27 (dk_at dksX4_word_0 4 rfl rfl)
theorem dX4_word_5 : decode cX4_word 5 = .ok (.iadd, 1) := dk_96 (dk_at dksX4_word_0 5 rfl rfl)
theorem dX4_word_6 : decode cX4_word 6 = .ok (.istore 6, 2) := dk_54 6 (dk_at dksX4_word_0 6 rfl rfl)
theorem dX4_word_8 : decode cX4_word 8 = .ok (.iload_n 2, 1) := dk_28 (dk_at dksX4_word_0 8 rfl rfl)
theorem dX4_word_9 : decode cX4_word 9 = .ok (.ifCond .ne 8, 3) := dk_154 0 8 (dk_at dksX4_word_0 9 rfl rfl)
theorem dX4_word_12 : decode cX4_word 12 = .ok (.iload 6, 2) := dk_21 6 (dk_at dksX4_word_0 12 rfl rfl)
theorem dX4_word_14 : decode cX4_word 14 = .ok (.goto 10, 3) := dk_167 0 10 (dk_at dksX4_word_0 14 rfl rfl)
theorem dX4_word_17 : decode cX4_word 17 = .ok (.bipush 27, 2) := dk_16 27 (dk_at dksX4_word_0 17 rfl rfl)
theorem dX4_word_19 : decode cX4_word 19 = .ok (.iload 6, 2) := dk_21 6 (dk_at dksX4_word_0 19 rfl rfl)
theorem dX4_word_21 : decode cX4_word 21 = .ok (.imul, 1) := dk_104 (dk_at dksX4_word_0 21 rfl rfl)
theorem dX4_word_22 : decode cX4_word 22 = .ok (.iload_n 2, 1) := dk_28 (dk_at dksX4_word_0 22 rfl rfl)
theorem dX4_word_23 : decode cX4_word 23 = .ok (.iadd, 1) := dk_96 (dk_at dksX4_word_0 23 rfl rfl)
theorem dX4_word_24 : decode cX4_word 24 = .ok (.istore 6, 2) := dk_54 6 (dk_at dksX4_word_1 0 rfl rfl)
theorem dX4_word_26 : decode cX4_word 26 = .ok (.iload_n 3, 1) := dk_29 (dk_at dksX4_word_1 2 rfl rfl)
theorem dX4_word_27 : decode cX4_word 27 = .ok (.ifCond .ne 8, 3) := dk_154 0 8 (dk_at dksX4_word_1 3 rfl rfl)
theorem dX4_word_30 : decode cX4_word 30 = .ok (.iload 6, 2) := dk_21 6 (dk_at dksX4_word_1 6 rfl rfl)
theorem dX4_word_32 : decode cX4_word 32 = .ok (.goto 10, 3) := dk_167 0 10 (dk_at dksX4_word_1 8 rfl rfl)
theorem dX4_word_35 : decode cX4_word 35 = .ok (.bipush 27, 2) := dk_16 27 (dk_at dksX4_word_1 11 rfl rfl)
theorem dX4_word_37 : decode cX4_word 37 = .ok (.iload 6, 2) := dk_21 6 (dk_at dksX4_word_1 13 rfl rfl)
theorem dX4_word_39 : decode cX4_word 39 = .ok (.imul, 1) := dk_104 (dk_at dksX4_word_1 15 rfl rfl)
theorem dX4_word_40 : decode cX4_word 40 = .ok (.iload_n 3, 1) := dk_29 (dk_at dksX4_word_1 16 rfl rfl)
theorem dX4_word_41 : decode cX4_word 41 = .ok (.iadd, 1) := dk_96 (dk_at dksX4_word_1 17 rfl rfl)
theorem dX4_word_42 : decode cX4_word 42 = .ok (.istore 6, 2) := dk_54 6 (dk_at dksX4_word_1 18 rfl rfl)
theorem dX4_word_44 : decode cX4_word 44 = .ok (.iload 4, 2) := dk_21 4 (dk_at dksX4_word_1 20 rfl rfl)
theorem dX4_word_46 : decode cX4_word 46 = .ok (.ifCond .ne 8, 3) := dk_154 0 8 (dk_at dksX4_word_2 0 rfl rfl)
theorem dX4_word_49 : decode cX4_word 49 = .ok (.iload 6, 2) := dk_21 6 (dk_at dksX4_word_2 3 rfl rfl)
theorem dX4_word_51 : decode cX4_word 51 = .ok (.goto 11, 3) := dk_167 0 11 (dk_at dksX4_word_2 5 rfl rfl)
theorem dX4_word_54 : decode cX4_word 54 = .ok (.bipush 27, 2) := dk_16 27 (dk_at dksX4_word_2 8 rfl rfl)
theorem dX4_word_56 : decode cX4_word 56 = .ok (.iload 6, 2) := dk_21 6 (dk_at dksX4_word_2 10 rfl rfl)
theorem dX4_word_58 : decode cX4_word 58 = .ok (.imul, 1) := dk_104 (dk_at dksX4_word_2 12 rfl rfl)
theorem dX4_word_59 : decode cX4_word 59 = .ok (.iload 4, 2) := dk_21 4 (dk_at dksX4_word_2 13 rfl rfl)
theorem dX4_word_61 : decode cX4_word 61 = .ok (.iadd, 1) := dk_96 (dk_at dksX4_word_2 15 rfl rfl)
theorem dX4_word_62 : decode cX4_word 62 = .ok (.istore 6, 2) := dk_54 6 (dk_at dksX4_word_2 16 rfl rfl)
theorem dX4_word_64 : decode cX4_word 64 = .ok (.iload 5, 2) := dk_21 5 (dk_at dksX4_word_2 18 rfl rfl)
theorem dX4_word_66 : decode cX4_word 66 = .ok (.ifCond .ne 8, 3) := dk_154 0 8 (dk_at dksX4_word_2 20 rfl rfl)
theorem dX4_word_69 : decode cX4_word 69 = .ok (.iload 6, 2) := dk_21 6 (dk_at dksX4_word_3 0 rfl rfl)
theorem dX4_word_71 : decode cX4_word 71 = .ok (.goto 11, 3) := dk_167 0 11 (dk_at dksX4_word_3 2 rfl rfl)
theorem dX4_word_74 : decode cX4_word 74 = .ok (.bipush 27, 2) := dk_16 27 (dk_at dksX4_word_3 5 rfl rfl)
theorem dX4_word_76 : decode cX4_word 76 = .ok (.iload 6, 2) := dk_21 6 (dk_at dksX4_word_3 7 rfl rfl)
theorem dX4_word_78 : decode cX4_word 78 = .ok (.imul, 1) := dk_104 (dk_at dksX4_word_3 9 rfl rfl)
theorem dX4_word_79 : decode cX4_word 79 = .ok (.iload 5, 2) := dk_21 5 (dk_at dksX4_word_3 10 rfl rfl)
theorem dX4_word_81 : decode cX4_word 81 = .ok (.iadd, 1) := dk_96 (dk_at dksX4_word_3 12 rfl rfl)
theorem dX4_word_82 : decode cX4_word 82 = .ok (.ireturn, 1) := dk_172 (dk_at dksX4_word_3 13 rfl rfl)
abbrev cX4_wrong : ByteArray := prog_16_method_9_code
def yX4_wrong : MethodName := ⟨RX4, "wrong", "(II)V"⟩
def dkwX4_wrong_0 : List UInt8 := [42, 180, 0, 110, 154, 0, 13, 42, 27, 181, 0, 110, 42, 28, 181, 0, 113, 177]
abbrev dktX4_wrong_0 : List UInt8 := dkwX4_wrong_0 ++ []
theorem dksX4_wrong_0 : cX4_wrong.data.toList.drop 0 = dktX4_wrong_0 := by decide +kernel
theorem dX4_wrong_0 : decode cX4_wrong 0 = .ok (.aload_n 0, 1) := dk_42 (dk_at dksX4_wrong_0 0 rfl rfl)
theorem dX4_wrong_1 : decode cX4_wrong 1 = .ok (.getfield 110, 3) := dk_180 0 110 (dk_at dksX4_wrong_0 1 rfl rfl)
theorem dX4_wrong_4 : decode cX4_wrong 4 = .ok (.ifCond .ne 13, 3) := dk_154 0 13 (dk_at dksX4_wrong_0 4 rfl rfl)
theorem dX4_wrong_7 : decode cX4_wrong 7 = .ok (.aload_n 0, 1) := dk_42 (dk_at dksX4_wrong_0 7 rfl rfl)
theorem dX4_wrong_8 : decode cX4_wrong 8 = .ok (.iload_n 1, 1) := dk_27 (dk_at dksX4_wrong_0 8 rfl rfl)
theorem dX4_wrong_9 : decode cX4_wrong 9 = .ok (.putfield 110, 3) := dk_181 0 110 (dk_at dksX4_wrong_0 9 rfl rfl)
theorem dX4_wrong_12 : decode cX4_wrong 12 = .ok (.aload_n 0, 1) := dk_42 (dk_at dksX4_wrong_0 12 rfl rfl)
theorem dX4_wrong_13 : decode cX4_wrong 13 = .ok (.iload_n 2, 1) := dk_28 (dk_at dksX4_wrong_0 13 rfl rfl)
theorem dX4_wrong_14 : decode cX4_wrong 14 = .ok (.putfield 113, 3) := dk_181 0 113 (dk_at dksX4_wrong_0 14 rfl rfl)
theorem dX4_wrong_17 : decode cX4_wrong 17 = .ok (.return_, 1) := dk_177 (dk_at dksX4_wrong_0 17 rfl rfl)
abbrev cX4_skipWord : ByteArray := prog_16_method_15_code
def yX4_skipWord : MethodName := ⟨RX4, "skipWord", "()V"⟩
def dkwX4_skipWord_1 : List UInt8 := [163, 0, 16, 42, 89, 180, 0, 103, 4, 96, 181, 0, 103, 167, 255, 220, 177]
abbrev dktX4_skipWord_1 : List UInt8 := dkwX4_skipWord_1 ++ []
def dkwX4_skipWord_0 : List UInt8 := [42, 42, 180, 0, 103, 182, 0, 106, 16, 97, 161, 0, 29, 42, 42, 180, 0, 103, 182, 0, 106, 16, 122]
abbrev dktX4_skipWord_0 : List UInt8 := dkwX4_skipWord_0 ++ dktX4_skipWord_1
theorem dksX4_skipWord_0 : cX4_skipWord.data.toList.drop 0 = dktX4_skipWord_0 := by decide +kernel
theorem dksX4_skipWord_1 : cX4_skipWord.data.toList.drop 23 = dktX4_skipWord_1 := dk_seg dksX4_skipWord_0 23 rfl rfl
theorem dX4_skipWord_0 : decode cX4_skipWord 0 = .ok (.aload_n 0, 1) := dk_42 (dk_at dksX4_skipWord_0 0 rfl rfl)
theorem dX4_skipWord_1 : decode cX4_skipWord 1 = .ok (.aload_n 0, 1) := dk_42 (dk_at dksX4_skipWord_0 1 rfl rfl)
theorem dX4_skipWord_2 : decode cX4_skipWord 2 = .ok (.getfield 103, 3) := dk_180 0 103 (dk_at dksX4_skipWord_0 2 rfl rfl)
theorem dX4_skipWord_5 : decode cX4_skipWord 5 = .ok (.invokevirtual 106, 3) := dk_182 0 106 (dk_at dksX4_skipWord_0 5 rfl rfl)
theorem dX4_skipWord_8 : decode cX4_skipWord 8 = .ok (.bipush 97, 2) := dk_16 97 (dk_at dksX4_skipWord_0 8 rfl rfl)
theorem dX4_skipWord_10 : decode cX4_skipWord 10 = .ok (.if_icmp .lt 29, 3) := dk_161 0 29 (dk_at dksX4_skipWord_0 10 rfl rfl)
theorem dX4_skipWord_13 : decode cX4_skipWord 13 = .ok (.aload_n 0, 1) := dk_42 (dk_at dksX4_skipWord_0 13 rfl rfl)
theorem dX4_skipWord_14 : decode cX4_skipWord 14 = .ok (.aload_n 0, 1) := dk_42 (dk_at dksX4_skipWord_0 14 rfl rfl)
theorem dX4_skipWord_15 : decode cX4_skipWord 15 = .ok (.getfield 103, 3) := dk_180 0 103 (dk_at dksX4_skipWord_0 15 rfl rfl)
theorem dX4_skipWord_18 : decode cX4_skipWord 18 = .ok (.invokevirtual 106, 3) := dk_182 0 106 (dk_at dksX4_skipWord_0 18 rfl rfl)
theorem dX4_skipWord_21 : decode cX4_skipWord 21 = .ok (.bipush 122, 2) := dk_16 122 (dk_at dksX4_skipWord_0 21 rfl rfl)
theorem dX4_skipWord_23 : decode cX4_skipWord 23 = .ok (.if_icmp .gt 16, 3) := dk_163 0 16 (dk_at dksX4_skipWord_1 0 rfl rfl)
theorem dX4_skipWord_26 : decode cX4_skipWord 26 = .ok (.aload_n 0, 1) := dk_42 (dk_at dksX4_skipWord_1 3 rfl rfl)
theorem dX4_skipWord_27 : decode cX4_skipWord 27 = .ok (.dup, 1) := dk_89 (dk_at dksX4_skipWord_1 4 rfl rfl)
theorem dX4_skipWord_28 : decode cX4_skipWord 28 = .ok (.getfield 103, 3) := dk_180 0 103 (dk_at dksX4_skipWord_1 5 rfl rfl)
theorem dX4_skipWord_31 : decode cX4_skipWord 31 = .ok (.iconst 1, 1) := dk_4 (dk_at dksX4_skipWord_1 8 rfl rfl)
theorem dX4_skipWord_32 : decode cX4_skipWord 32 = .ok (.iadd, 1) := dk_96 (dk_at dksX4_skipWord_1 9 rfl rfl)
theorem dX4_skipWord_33 : decode cX4_skipWord 33 = .ok (.putfield 103, 3) := dk_181 0 103 (dk_at dksX4_skipWord_1 10 rfl rfl)
theorem dX4_skipWord_36 : decode cX4_skipWord 36 = .ok (.goto (-36), 3) := dk_167 255 220 (dk_at dksX4_skipWord_1 13 rfl rfl)
theorem dX4_skipWord_39 : decode cX4_skipWord 39 = .ok (.return_, 1) := dk_177 (dk_at dksX4_skipWord_1 16 rfl rfl)
abbrev cX4_number : ByteArray := prog_16_method_11_code
def yX4_number : MethodName := ⟨RX4, "number", "(III)I"⟩
def dkwX4_number_5 : List UInt8 := [153, 0, 9, 21, 5, 29, 160, 0, 10, 42, 5, 21, 4, 182, 0, 123, 21, 5, 172]
abbrev dktX4_number_5 : List UInt8 := dkwX4_number_5 ++ []
def dkwX4_number_4 : List UInt8 := [54, 5, 42, 89, 180, 0, 103, 4, 96, 181, 0, 103, 167, 255, 197, 21, 5, 27, 28, 184, 0, 128]
abbrev dktX4_number_4 : List UInt8 := dkwX4_number_4 ++ dktX4_number_5
def dkwX4_number_3 : List UInt8 := [182, 0, 106, 96, 16, 48, 100, 54, 5, 21, 5, 18, 127, 164, 0, 8, 18, 127, 167, 0, 5, 21, 5]
abbrev dktX4_number_3 : List UInt8 := dkwX4_number_3 ++ dktX4_number_4
def dkwX4_number_2 : List UInt8 := [180, 0, 103, 182, 0, 106, 184, 0, 119, 153, 0, 51, 16, 10, 21, 5, 104, 42, 42, 180, 0, 103]
abbrev dktX4_number_2 : List UInt8 := dkwX4_number_2 ++ dktX4_number_3
def dkwX4_number_1 : List UInt8 := [180, 0, 103, 182, 0, 106, 184, 0, 119, 154, 0, 12, 42, 4, 42, 180, 0, 103, 182, 0, 123, 42, 42]
abbrev dktX4_number_1 : List UInt8 := dkwX4_number_1 ++ dktX4_number_2
def dkwX4_number_0 : List UInt8 := [42, 180, 0, 110, 153, 0, 5, 3, 172, 42, 182, 0, 116, 42, 180, 0, 103, 54, 4, 3, 54, 5, 42, 42]
abbrev dktX4_number_0 : List UInt8 := dkwX4_number_0 ++ dktX4_number_1
theorem dksX4_number_0 : cX4_number.data.toList.drop 0 = dktX4_number_0 := by decide +kernel
theorem dksX4_number_1 : cX4_number.data.toList.drop 24 = dktX4_number_1 := dk_seg dksX4_number_0 24 rfl rfl
theorem dksX4_number_2 : cX4_number.data.toList.drop 47 = dktX4_number_2 := dk_seg dksX4_number_1 23 rfl rfl
theorem dksX4_number_3 : cX4_number.data.toList.drop 69 = dktX4_number_3 := dk_seg dksX4_number_2 22 rfl rfl
theorem dksX4_number_4 : cX4_number.data.toList.drop 92 = dktX4_number_4 := dk_seg dksX4_number_3 23 rfl rfl
theorem dksX4_number_5 : cX4_number.data.toList.drop 114 = dktX4_number_5 := dk_seg dksX4_number_4 22 rfl rfl
theorem dX4_number_0 : decode cX4_number 0 = .ok (.aload_n 0, 1) := dk_42 (dk_at dksX4_number_0 0 rfl rfl)
theorem dX4_number_1 : decode cX4_number 1 = .ok (.getfield 110, 3) := dk_180 0 110 (dk_at dksX4_number_0 1 rfl rfl)
theorem dX4_number_4 : decode cX4_number 4 = .ok (.ifCond .eq 5, 3) := dk_153 0 5 (dk_at dksX4_number_0 4 rfl rfl)
theorem dX4_number_7 : decode cX4_number 7 = .ok (.iconst 0, 1) := dk_3 (dk_at dksX4_number_0 7 rfl rfl)
theorem dX4_number_8 : decode cX4_number 8 = .ok (.ireturn, 1) := dk_172 (dk_at dksX4_number_0 8 rfl rfl)
theorem dX4_number_9 : decode cX4_number 9 = .ok (.aload_n 0, 1) := dk_42 (dk_at dksX4_number_0 9 rfl rfl)
theorem dX4_number_10 : decode cX4_number 10 = .ok (.invokevirtual 116, 3) := dk_182 0 116 (dk_at dksX4_number_0 10 rfl rfl)
theorem dX4_number_13 : decode cX4_number 13 = .ok (.aload_n 0, 1) := dk_42 (dk_at dksX4_number_0 13 rfl rfl)
theorem dX4_number_14 : decode cX4_number 14 = .ok (.getfield 103, 3) := dk_180 0 103 (dk_at dksX4_number_0 14 rfl rfl)
theorem dX4_number_17 : decode cX4_number 17 = .ok (.istore 4, 2) := dk_54 4 (dk_at dksX4_number_0 17 rfl rfl)
theorem dX4_number_19 : decode cX4_number 19 = .ok (.iconst 0, 1) := dk_3 (dk_at dksX4_number_0 19 rfl rfl)
theorem dX4_number_20 : decode cX4_number 20 = .ok (.istore 5, 2) := dk_54 5 (dk_at dksX4_number_0 20 rfl rfl)
theorem dX4_number_22 : decode cX4_number 22 = .ok (.aload_n 0, 1) := dk_42 (dk_at dksX4_number_0 22 rfl rfl)
theorem dX4_number_23 : decode cX4_number 23 = .ok (.aload_n 0, 1) := dk_42 (dk_at dksX4_number_0 23 rfl rfl)
theorem dX4_number_24 : decode cX4_number 24 = .ok (.getfield 103, 3) := dk_180 0 103 (dk_at dksX4_number_1 0 rfl rfl)
theorem dX4_number_27 : decode cX4_number 27 = .ok (.invokevirtual 106, 3) := dk_182 0 106 (dk_at dksX4_number_1 3 rfl rfl)
theorem dX4_number_30 : decode cX4_number 30 = .ok (.invokestatic 119, 3) := dk_184 0 119 (dk_at dksX4_number_1 6 rfl rfl)
theorem dX4_number_33 : decode cX4_number 33 = .ok (.ifCond .ne 12, 3) := dk_154 0 12 (dk_at dksX4_number_1 9 rfl rfl)
theorem dX4_number_36 : decode cX4_number 36 = .ok (.aload_n 0, 1) := dk_42 (dk_at dksX4_number_1 12 rfl rfl)
theorem dX4_number_37 : decode cX4_number 37 = .ok (.iconst 1, 1) := dk_4 (dk_at dksX4_number_1 13 rfl rfl)
theorem dX4_number_38 : decode cX4_number 38 = .ok (.aload_n 0, 1) := dk_42 (dk_at dksX4_number_1 14 rfl rfl)
theorem dX4_number_39 : decode cX4_number 39 = .ok (.getfield 103, 3) := dk_180 0 103 (dk_at dksX4_number_1 15 rfl rfl)
theorem dX4_number_42 : decode cX4_number 42 = .ok (.invokevirtual 123, 3) := dk_182 0 123 (dk_at dksX4_number_1 18 rfl rfl)
theorem dX4_number_45 : decode cX4_number 45 = .ok (.aload_n 0, 1) := dk_42 (dk_at dksX4_number_1 21 rfl rfl)
theorem dX4_number_46 : decode cX4_number 46 = .ok (.aload_n 0, 1) := dk_42 (dk_at dksX4_number_1 22 rfl rfl)
theorem dX4_number_47 : decode cX4_number 47 = .ok (.getfield 103, 3) := dk_180 0 103 (dk_at dksX4_number_2 0 rfl rfl)
theorem dX4_number_50 : decode cX4_number 50 = .ok (.invokevirtual 106, 3) := dk_182 0 106 (dk_at dksX4_number_2 3 rfl rfl)
theorem dX4_number_53 : decode cX4_number 53 = .ok (.invokestatic 119, 3) := dk_184 0 119 (dk_at dksX4_number_2 6 rfl rfl)
theorem dX4_number_56 : decode cX4_number 56 = .ok (.ifCond .eq 51, 3) := dk_153 0 51 (dk_at dksX4_number_2 9 rfl rfl)
theorem dX4_number_59 : decode cX4_number 59 = .ok (.bipush 10, 2) := dk_16 10 (dk_at dksX4_number_2 12 rfl rfl)
theorem dX4_number_61 : decode cX4_number 61 = .ok (.iload 5, 2) := dk_21 5 (dk_at dksX4_number_2 14 rfl rfl)
theorem dX4_number_63 : decode cX4_number 63 = .ok (.imul, 1) := dk_104 (dk_at dksX4_number_2 16 rfl rfl)
theorem dX4_number_64 : decode cX4_number 64 = .ok (.aload_n 0, 1) := dk_42 (dk_at dksX4_number_2 17 rfl rfl)
theorem dX4_number_65 : decode cX4_number 65 = .ok (.aload_n 0, 1) := dk_42 (dk_at dksX4_number_2 18 rfl rfl)
theorem dX4_number_66 : decode cX4_number 66 = .ok (.getfield 103, 3) := dk_180 0 103 (dk_at dksX4_number_2 19 rfl rfl)
theorem dX4_number_69 : decode cX4_number 69 = .ok (.invokevirtual 106, 3) := dk_182 0 106 (dk_at dksX4_number_3 0 rfl rfl)
theorem dX4_number_72 : decode cX4_number 72 = .ok (.iadd, 1) := dk_96 (dk_at dksX4_number_3 3 rfl rfl)
theorem dX4_number_73 : decode cX4_number 73 = .ok (.bipush 48, 2) := dk_16 48 (dk_at dksX4_number_3 4 rfl rfl)
theorem dX4_number_75 : decode cX4_number 75 = .ok (.isub, 1) := dk_100 (dk_at dksX4_number_3 6 rfl rfl)
theorem dX4_number_76 : decode cX4_number 76 = .ok (.istore 5, 2) := dk_54 5 (dk_at dksX4_number_3 7 rfl rfl)
theorem dX4_number_78 : decode cX4_number 78 = .ok (.iload 5, 2) := dk_21 5 (dk_at dksX4_number_3 9 rfl rfl)
theorem dX4_number_80 : decode cX4_number 80 = .ok (.ldc 127, 2) := dk_18 127 (dk_at dksX4_number_3 11 rfl rfl)
theorem dX4_number_82 : decode cX4_number 82 = .ok (.if_icmp .le 8, 3) := dk_164 0 8 (dk_at dksX4_number_3 13 rfl rfl)
theorem dX4_number_85 : decode cX4_number 85 = .ok (.ldc 127, 2) := dk_18 127 (dk_at dksX4_number_3 16 rfl rfl)
theorem dX4_number_87 : decode cX4_number 87 = .ok (.goto 5, 3) := dk_167 0 5 (dk_at dksX4_number_3 18 rfl rfl)
theorem dX4_number_90 : decode cX4_number 90 = .ok (.iload 5, 2) := dk_21 5 (dk_at dksX4_number_3 21 rfl rfl)
theorem dX4_number_92 : decode cX4_number 92 = .ok (.istore 5, 2) := dk_54 5 (dk_at dksX4_number_4 0 rfl rfl)
theorem dX4_number_94 : decode cX4_number 94 = .ok (.aload_n 0, 1) := dk_42 (dk_at dksX4_number_4 2 rfl rfl)
theorem dX4_number_95 : decode cX4_number 95 = .ok (.dup, 1) := dk_89 (dk_at dksX4_number_4 3 rfl rfl)
theorem dX4_number_96 : decode cX4_number 96 = .ok (.getfield 103, 3) := dk_180 0 103 (dk_at dksX4_number_4 4 rfl rfl)
theorem dX4_number_99 : decode cX4_number 99 = .ok (.iconst 1, 1) := dk_4 (dk_at dksX4_number_4 7 rfl rfl)
theorem dX4_number_100 : decode cX4_number 100 = .ok (.iadd, 1) := dk_96 (dk_at dksX4_number_4 8 rfl rfl)
theorem dX4_number_101 : decode cX4_number 101 = .ok (.putfield 103, 3) := dk_181 0 103 (dk_at dksX4_number_4 9 rfl rfl)
theorem dX4_number_104 : decode cX4_number 104 = .ok (.goto (-59), 3) := dk_167 255 197 (dk_at dksX4_number_4 12 rfl rfl)
theorem dX4_number_107 : decode cX4_number 107 = .ok (.iload 5, 2) := dk_21 5 (dk_at dksX4_number_4 15 rfl rfl)
theorem dX4_number_109 : decode cX4_number 109 = .ok (.iload_n 1, 1) := dk_27 (dk_at dksX4_number_4 17 rfl rfl)
theorem dX4_number_110 : decode cX4_number 110 = .ok (.iload_n 2, 1) := dk_28 (dk_at dksX4_number_4 18 rfl rfl)
theorem dX4_number_111 : decode cX4_number 111 = .ok (.invokestatic 128, 3) := dk_184 0 128 (dk_at dksX4_number_4 19 rfl rfl)
theorem dX4_number_114 : decode cX4_number 114 = .ok (.ifCond .eq 9, 3) := dk_153 0 9 (dk_at dksX4_number_5 0 rfl rfl)
theorem dX4_number_117 : decode cX4_number 117 = .ok (.iload 5, 2) := dk_21 5 (dk_at dksX4_number_5 3 rfl rfl)
theorem dX4_number_119 : decode cX4_number 119 = .ok (.iload_n 3, 1) := dk_29 (dk_at dksX4_number_5 5 rfl rfl)
theorem dX4_number_120 : decode cX4_number 120 = .ok (.if_icmp .ne 10, 3) := dk_160 0 10 (dk_at dksX4_number_5 6 rfl rfl)
theorem dX4_number_123 : decode cX4_number 123 = .ok (.aload_n 0, 1) := dk_42 (dk_at dksX4_number_5 9 rfl rfl)
theorem dX4_number_124 : decode cX4_number 124 = .ok (.iconst 2, 1) := dk_5 (dk_at dksX4_number_5 10 rfl rfl)
theorem dX4_number_125 : decode cX4_number 125 = .ok (.iload 4, 2) := dk_21 4 (dk_at dksX4_number_5 11 rfl rfl)
theorem dX4_number_127 : decode cX4_number 127 = .ok (.invokevirtual 123, 3) := dk_182 0 123 (dk_at dksX4_number_5 13 rfl rfl)
theorem dX4_number_130 : decode cX4_number 130 = .ok (.iload 5, 2) := dk_21 5 (dk_at dksX4_number_5 16 rfl rfl)
theorem dX4_number_132 : decode cX4_number 132 = .ok (.ireturn, 1) := dk_172 (dk_at dksX4_number_5 18 rfl rfl)
abbrev cX4_isDigit : ByteArray := prog_16_method_10_code
def yX4_isDigit : MethodName := ⟨RX4, "isDigit", "(I)Z"⟩
def dkwX4_isDigit_0 : List UInt8 := [26, 16, 48, 161, 0, 13, 26, 16, 57, 163, 0, 7, 4, 167, 0, 4, 3, 172]
abbrev dktX4_isDigit_0 : List UInt8 := dkwX4_isDigit_0 ++ []
theorem dksX4_isDigit_0 : cX4_isDigit.data.toList.drop 0 = dktX4_isDigit_0 := by decide +kernel
theorem dX4_isDigit_0 : decode cX4_isDigit 0 = .ok (.iload_n 0, 1) := dk_26 (dk_at dksX4_isDigit_0 0 rfl rfl)
theorem dX4_isDigit_1 : decode cX4_isDigit 1 = .ok (.bipush 48, 2) := dk_16 48 (dk_at dksX4_isDigit_0 1 rfl rfl)
theorem dX4_isDigit_3 : decode cX4_isDigit 3 = .ok (.if_icmp .lt 13, 3) := dk_161 0 13 (dk_at dksX4_isDigit_0 3 rfl rfl)
theorem dX4_isDigit_6 : decode cX4_isDigit 6 = .ok (.iload_n 0, 1) := dk_26 (dk_at dksX4_isDigit_0 6 rfl rfl)
theorem dX4_isDigit_7 : decode cX4_isDigit 7 = .ok (.bipush 57, 2) := dk_16 57 (dk_at dksX4_isDigit_0 7 rfl rfl)
theorem dX4_isDigit_9 : decode cX4_isDigit 9 = .ok (.if_icmp .gt 7, 3) := dk_163 0 7 (dk_at dksX4_isDigit_0 9 rfl rfl)
theorem dX4_isDigit_12 : decode cX4_isDigit 12 = .ok (.iconst 1, 1) := dk_4 (dk_at dksX4_isDigit_0 12 rfl rfl)
theorem dX4_isDigit_13 : decode cX4_isDigit 13 = .ok (.goto 4, 3) := dk_167 0 4 (dk_at dksX4_isDigit_0 13 rfl rfl)
theorem dX4_isDigit_16 : decode cX4_isDigit 16 = .ok (.iconst 0, 1) := dk_3 (dk_at dksX4_isDigit_0 16 rfl rfl)
theorem dX4_isDigit_17 : decode cX4_isDigit 17 = .ok (.ireturn, 1) := dk_172 (dk_at dksX4_isDigit_0 17 rfl rfl)
abbrev cX4_sign : ByteArray := prog_16_method_16_code
def yX4_sign : MethodName := ⟨RX4, "sign", "(I)V"⟩
def dkwX4_sign_1 : List UInt8 := [42, 89, 180, 0, 103, 4, 96, 181, 0, 103, 167, 0, 12, 42, 4, 42, 180, 0, 103, 182, 0, 123, 177]
abbrev dktX4_sign_1 : List UInt8 := dkwX4_sign_1 ++ []
def dkwX4_sign_0 : List UInt8 := [42, 180, 0, 110, 153, 0, 4, 177, 42, 182, 0, 116, 42, 42, 180, 0, 103, 182, 0, 106, 27, 160, 0, 16]
abbrev dktX4_sign_0 : List UInt8 := dkwX4_sign_0 ++ dktX4_sign_1
theorem dksX4_sign_0 : cX4_sign.data.toList.drop 0 = dktX4_sign_0 := by decide +kernel
theorem dksX4_sign_1 : cX4_sign.data.toList.drop 24 = dktX4_sign_1 := dk_seg dksX4_sign_0 24 rfl rfl
theorem dX4_sign_0 : decode cX4_sign 0 = .ok (.aload_n 0, 1) := dk_42 (dk_at dksX4_sign_0 0 rfl rfl)
theorem dX4_sign_1 : decode cX4_sign 1 = .ok (.getfield 110, 3) := dk_180 0 110 (dk_at dksX4_sign_0 1 rfl rfl)
theorem dX4_sign_4 : decode cX4_sign 4 = .ok (.ifCond .eq 4, 3) := dk_153 0 4 (dk_at dksX4_sign_0 4 rfl rfl)
theorem dX4_sign_7 : decode cX4_sign 7 = .ok (.return_, 1) := dk_177 (dk_at dksX4_sign_0 7 rfl rfl)
theorem dX4_sign_8 : decode cX4_sign 8 = .ok (.aload_n 0, 1) := dk_42 (dk_at dksX4_sign_0 8 rfl rfl)
theorem dX4_sign_9 : decode cX4_sign 9 = .ok (.invokevirtual 116, 3) := dk_182 0 116 (dk_at dksX4_sign_0 9 rfl rfl)
theorem dX4_sign_12 : decode cX4_sign 12 = .ok (.aload_n 0, 1) := dk_42 (dk_at dksX4_sign_0 12 rfl rfl)
theorem dX4_sign_13 : decode cX4_sign 13 = .ok (.aload_n 0, 1) := dk_42 (dk_at dksX4_sign_0 13 rfl rfl)
theorem dX4_sign_14 : decode cX4_sign 14 = .ok (.getfield 103, 3) := dk_180 0 103 (dk_at dksX4_sign_0 14 rfl rfl)
theorem dX4_sign_17 : decode cX4_sign 17 = .ok (.invokevirtual 106, 3) := dk_182 0 106 (dk_at dksX4_sign_0 17 rfl rfl)
theorem dX4_sign_20 : decode cX4_sign 20 = .ok (.iload_n 1, 1) := dk_27 (dk_at dksX4_sign_0 20 rfl rfl)
theorem dX4_sign_21 : decode cX4_sign 21 = .ok (.if_icmp .ne 16, 3) := dk_160 0 16 (dk_at dksX4_sign_0 21 rfl rfl)
theorem dX4_sign_24 : decode cX4_sign 24 = .ok (.aload_n 0, 1) := dk_42 (dk_at dksX4_sign_1 0 rfl rfl)
theorem dX4_sign_25 : decode cX4_sign 25 = .ok (.dup, 1) := dk_89 (dk_at dksX4_sign_1 1 rfl rfl)
theorem dX4_sign_26 : decode cX4_sign 26 = .ok (.getfield 103, 3) := dk_180 0 103 (dk_at dksX4_sign_1 2 rfl rfl)
theorem dX4_sign_29 : decode cX4_sign 29 = .ok (.iconst 1, 1) := dk_4 (dk_at dksX4_sign_1 5 rfl rfl)
theorem dX4_sign_30 : decode cX4_sign 30 = .ok (.iadd, 1) := dk_96 (dk_at dksX4_sign_1 6 rfl rfl)
theorem dX4_sign_31 : decode cX4_sign 31 = .ok (.putfield 103, 3) := dk_181 0 103 (dk_at dksX4_sign_1 7 rfl rfl)
theorem dX4_sign_34 : decode cX4_sign 34 = .ok (.goto 12, 3) := dk_167 0 12 (dk_at dksX4_sign_1 10 rfl rfl)
theorem dX4_sign_37 : decode cX4_sign 37 = .ok (.aload_n 0, 1) := dk_42 (dk_at dksX4_sign_1 13 rfl rfl)
theorem dX4_sign_38 : decode cX4_sign 38 = .ok (.iconst 1, 1) := dk_4 (dk_at dksX4_sign_1 14 rfl rfl)
theorem dX4_sign_39 : decode cX4_sign 39 = .ok (.aload_n 0, 1) := dk_42 (dk_at dksX4_sign_1 15 rfl rfl)
theorem dX4_sign_40 : decode cX4_sign 40 = .ok (.getfield 103, 3) := dk_180 0 103 (dk_at dksX4_sign_1 16 rfl rfl)
theorem dX4_sign_43 : decode cX4_sign 43 = .ok (.invokevirtual 123, 3) := dk_182 0 123 (dk_at dksX4_sign_1 19 rfl rfl)
theorem dX4_sign_46 : decode cX4_sign 46 = .ok (.return_, 1) := dk_177 (dk_at dksX4_sign_1 22 rfl rfl)
abbrev cX4_story : ByteArray := prog_16_method_23_code
def yX4_story : MethodName := ⟨RX4, "story", "(I)I"⟩
def dkwX4_story_8 : List UInt8 := [180, 0, 196, 4, 100, 172]
abbrev dktX4_story_8 : List UInt8 := dkwX4_story_8 ++ []
def dkwX4_story_7 : List UInt8 := [167, 255, 207, 42, 180, 0, 46, 42, 180, 0, 196, 28, 79, 42, 89, 180, 0, 196, 4, 96, 181, 0, 196, 42]
abbrev dktX4_story_7 : List UInt8 := dkwX4_story_7 ++ dktX4_story_8
def dkwX4_story_6 : List UInt8 := [29, 96, 50, 21, 4, 42, 180, 0, 52, 29, 50, 21, 4, 46, 79, 132, 4, 1, 167, 255, 221, 132, 3, 1]
abbrev dktX4_story_6 : List UInt8 := dkwX4_story_6 ++ dktX4_story_7
def dkwX4_story_5 : List UInt8 := [28, 162, 0, 50, 3, 54, 4, 21, 4, 7, 162, 0, 35, 42, 180, 0, 49, 16, 20, 42, 180, 0, 196, 104]
abbrev dktX4_story_5 : List UInt8 := dkwX4_story_5 ++ dktX4_story_6
def dkwX4_story_4 : List UInt8 := [180, 0, 113, 181, 0, 9, 42, 180, 0, 110, 153, 0, 11, 42, 180, 0, 110, 16, 10, 100, 172, 3, 62, 29]
abbrev dktX4_story_4 : List UInt8 := dkwX4_story_4 ++ dktX4_story_5
def dkwX4_story_3 : List UInt8 := [180, 0, 100, 162, 0, 18, 42, 28, 182, 0, 199, 132, 2, 1, 42, 182, 0, 116, 167, 255, 226, 42, 42]
abbrev dktX4_story_3 : List UInt8 := dkwX4_story_3 ++ dktX4_story_4
def dkwX4_story_2 : List UInt8 := [42, 180, 0, 196, 7, 160, 0, 5, 2, 172, 3, 61, 42, 180, 0, 110, 154, 0, 29, 42, 180, 0, 103, 42]
abbrev dktX4_story_2 : List UInt8 := dkwX4_story_2 ++ dktX4_story_3
def dkwX4_story_1 : List UInt8 := [4, 167, 0, 4, 3, 4, 182, 0, 170, 153, 0, 5, 3, 172, 42, 27, 182, 0, 174, 42, 2, 181, 0, 9]
abbrev dktX4_story_1 : List UInt8 := dkwX4_story_1 ++ dktX4_story_2
def dkwX4_story_0 : List UInt8 := [42, 3, 181, 0, 94, 42, 27, 3, 42, 180, 0, 97, 17, 1, 44, 184, 0, 192, 184, 0, 128, 154, 0, 7]
abbrev dktX4_story_0 : List UInt8 := dkwX4_story_0 ++ dktX4_story_1
theorem dksX4_story_0 : cX4_story.data.toList.drop 0 = dktX4_story_0 := by decide +kernel
theorem dksX4_story_1 : cX4_story.data.toList.drop 24 = dktX4_story_1 := dk_seg dksX4_story_0 24 rfl rfl
theorem dksX4_story_2 : cX4_story.data.toList.drop 48 = dktX4_story_2 := dk_seg dksX4_story_1 24 rfl rfl
theorem dksX4_story_3 : cX4_story.data.toList.drop 72 = dktX4_story_3 := dk_seg dksX4_story_2 24 rfl rfl
theorem dksX4_story_4 : cX4_story.data.toList.drop 95 = dktX4_story_4 := dk_seg dksX4_story_3 23 rfl rfl
theorem dksX4_story_5 : cX4_story.data.toList.drop 119 = dktX4_story_5 := dk_seg dksX4_story_4 24 rfl rfl
theorem dksX4_story_6 : cX4_story.data.toList.drop 143 = dktX4_story_6 := dk_seg dksX4_story_5 24 rfl rfl
theorem dksX4_story_7 : cX4_story.data.toList.drop 167 = dktX4_story_7 := dk_seg dksX4_story_6 24 rfl rfl
theorem dksX4_story_8 : cX4_story.data.toList.drop 191 = dktX4_story_8 := dk_seg dksX4_story_7 24 rfl rfl
theorem dX4_story_0 : decode cX4_story 0 = .ok (.aload_n 0, 1) := dk_42 (dk_at dksX4_story_0 0 rfl rfl)
theorem dX4_story_1 : decode cX4_story 1 = .ok (.iconst 0, 1) := dk_3 (dk_at dksX4_story_0 1 rfl rfl)
theorem dX4_story_2 : decode cX4_story 2 = .ok (.putfield 94, 3) := dk_181 0 94 (dk_at dksX4_story_0 2 rfl rfl)
theorem dX4_story_5 : decode cX4_story 5 = .ok (.aload_n 0, 1) := dk_42 (dk_at dksX4_story_0 5 rfl rfl)
theorem dX4_story_6 : decode cX4_story 6 = .ok (.iload_n 1, 1) := dk_27 (dk_at dksX4_story_0 6 rfl rfl)
theorem dX4_story_7 : decode cX4_story 7 = .ok (.iconst 0, 1) := dk_3 (dk_at dksX4_story_0 7 rfl rfl)
theorem dX4_story_8 : decode cX4_story 8 = .ok (.aload_n 0, 1) := dk_42 (dk_at dksX4_story_0 8 rfl rfl)
theorem dX4_story_9 : decode cX4_story 9 = .ok (.getfield 97, 3) := dk_180 0 97 (dk_at dksX4_story_0 9 rfl rfl)
theorem dX4_story_12 : decode cX4_story 12 = .ok (.sipush 300, 3) := dk_17 1 44 (dk_at dksX4_story_0 12 rfl rfl)
theorem dX4_story_15 : decode cX4_story 15 = .ok (.invokestatic 192, 3) := dk_184 0 192 (dk_at dksX4_story_0 15 rfl rfl)
theorem dX4_story_18 : decode cX4_story 18 = .ok (.invokestatic 128, 3) := dk_184 0 128 (dk_at dksX4_story_0 18 rfl rfl)
theorem dX4_story_21 : decode cX4_story 21 = .ok (.ifCond .ne 7, 3) := dk_154 0 7 (dk_at dksX4_story_0 21 rfl rfl)
theorem dX4_story_24 : decode cX4_story 24 = .ok (.iconst 1, 1) := dk_4 (dk_at dksX4_story_1 0 rfl rfl)
theorem dX4_story_25 : decode cX4_story 25 = .ok (.goto 4, 3) := dk_167 0 4 (dk_at dksX4_story_1 1 rfl rfl)
theorem dX4_story_28 : decode cX4_story 28 = .ok (.iconst 0, 1) := dk_3 (dk_at dksX4_story_1 4 rfl rfl)
theorem dX4_story_29 : decode cX4_story 29 = .ok (.iconst 1, 1) := dk_4 (dk_at dksX4_story_1 5 rfl rfl)
theorem dX4_story_30 : decode cX4_story 30 = .ok (.invokevirtual 170, 3) := dk_182 0 170 (dk_at dksX4_story_1 6 rfl rfl)
theorem dX4_story_33 : decode cX4_story 33 = .ok (.ifCond .eq 5, 3) := dk_153 0 5 (dk_at dksX4_story_1 9 rfl rfl)
theorem dX4_story_36 : decode cX4_story 36 = .ok (.iconst 0, 1) := dk_3 (dk_at dksX4_story_1 12 rfl rfl)
theorem dX4_story_37 : decode cX4_story 37 = .ok (.ireturn, 1) := dk_172 (dk_at dksX4_story_1 13 rfl rfl)
theorem dX4_story_38 : decode cX4_story 38 = .ok (.aload_n 0, 1) := dk_42 (dk_at dksX4_story_1 14 rfl rfl)
theorem dX4_story_39 : decode cX4_story 39 = .ok (.iload_n 1, 1) := dk_27 (dk_at dksX4_story_1 15 rfl rfl)
theorem dX4_story_40 : decode cX4_story 40 = .ok (.invokevirtual 174, 3) := dk_182 0 174 (dk_at dksX4_story_1 16 rfl rfl)
theorem dX4_story_43 : decode cX4_story 43 = .ok (.aload_n 0, 1) := dk_42 (dk_at dksX4_story_1 19 rfl rfl)
theorem dX4_story_44 : decode cX4_story 44 = .ok (.iconst (-1), 1) := dk_2 (dk_at dksX4_story_1 20 rfl rfl)
theorem dX4_story_45 : decode cX4_story 45 = .ok (.putfield 9, 3) := dk_181 0 9 (dk_at dksX4_story_1 21 rfl rfl)
theorem dX4_story_48 : decode cX4_story 48 = .ok (.aload_n 0, 1) := dk_42 (dk_at dksX4_story_2 0 rfl rfl)
theorem dX4_story_49 : decode cX4_story 49 = .ok (.getfield 196, 3) := dk_180 0 196 (dk_at dksX4_story_2 1 rfl rfl)
theorem dX4_story_52 : decode cX4_story 52 = .ok (.iconst 4, 1) := dk_7 (dk_at dksX4_story_2 4 rfl rfl)
theorem dX4_story_53 : decode cX4_story 53 = .ok (.if_icmp .ne 5, 3) := dk_160 0 5 (dk_at dksX4_story_2 5 rfl rfl)
theorem dX4_story_56 : decode cX4_story 56 = .ok (.iconst (-1), 1) := dk_2 (dk_at dksX4_story_2 8 rfl rfl)
theorem dX4_story_57 : decode cX4_story 57 = .ok (.ireturn, 1) := dk_172 (dk_at dksX4_story_2 9 rfl rfl)
theorem dX4_story_58 : decode cX4_story 58 = .ok (.iconst 0, 1) := dk_3 (dk_at dksX4_story_2 10 rfl rfl)
theorem dX4_story_59 : decode cX4_story 59 = .ok (.istore_n 2, 1) := dk_61 (dk_at dksX4_story_2 11 rfl rfl)
theorem dX4_story_60 : decode cX4_story 60 = .ok (.aload_n 0, 1) := dk_42 (dk_at dksX4_story_2 12 rfl rfl)
theorem dX4_story_61 : decode cX4_story 61 = .ok (.getfield 110, 3) := dk_180 0 110 (dk_at dksX4_story_2 13 rfl rfl)
theorem dX4_story_64 : decode cX4_story 64 = .ok (.ifCond .ne 29, 3) := dk_154 0 29 (dk_at dksX4_story_2 16 rfl rfl)
theorem dX4_story_67 : decode cX4_story 67 = .ok (.aload_n 0, 1) := dk_42 (dk_at dksX4_story_2 19 rfl rfl)
theorem dX4_story_68 : decode cX4_story 68 = .ok (.getfield 103, 3) := dk_180 0 103 (dk_at dksX4_story_2 20 rfl rfl)
theorem dX4_story_71 : decode cX4_story 71 = .ok (.aload_n 0, 1) := dk_42 (dk_at dksX4_story_2 23 rfl rfl)
theorem dX4_story_72 : decode cX4_story 72 = .ok (.getfield 100, 3) := dk_180 0 100 (dk_at dksX4_story_3 0 rfl rfl)
theorem dX4_story_75 : decode cX4_story 75 = .ok (.if_icmp .ge 18, 3) := dk_162 0 18 (dk_at dksX4_story_3 3 rfl rfl)
theorem dX4_story_78 : decode cX4_story 78 = .ok (.aload_n 0, 1) := dk_42 (dk_at dksX4_story_3 6 rfl rfl)
theorem dX4_story_79 : decode cX4_story 79 = .ok (.iload_n 2, 1) := dk_28 (dk_at dksX4_story_3 7 rfl rfl)
theorem dX4_story_80 : decode cX4_story 80 = .ok (.invokevirtual 199, 3) := dk_182 0 199 (dk_at dksX4_story_3 8 rfl rfl)
theorem dX4_story_83 : decode cX4_story 83 = .ok (.iinc 2 1, 3) := dk_132 2 1 (dk_at dksX4_story_3 11 rfl rfl)
theorem dX4_story_86 : decode cX4_story 86 = .ok (.aload_n 0, 1) := dk_42 (dk_at dksX4_story_3 14 rfl rfl)
theorem dX4_story_87 : decode cX4_story 87 = .ok (.invokevirtual 116, 3) := dk_182 0 116 (dk_at dksX4_story_3 15 rfl rfl)
theorem dX4_story_90 : decode cX4_story 90 = .ok (.goto (-30), 3) := dk_167 255 226 (dk_at dksX4_story_3 18 rfl rfl)
theorem dX4_story_93 : decode cX4_story 93 = .ok (.aload_n 0, 1) := dk_42 (dk_at dksX4_story_3 21 rfl rfl)
theorem dX4_story_94 : decode cX4_story 94 = .ok (.aload_n 0, 1) := dk_42 (dk_at dksX4_story_3 22 rfl rfl)
theorem dX4_story_95 : decode cX4_story 95 = .ok (.getfield 113, 3) := dk_180 0 113 (dk_at dksX4_story_4 0 rfl rfl)
theorem dX4_story_98 : decode cX4_story 98 = .ok (.putfield 9, 3) := dk_181 0 9 (dk_at dksX4_story_4 3 rfl rfl)
theorem dX4_story_101 : decode cX4_story 101 = .ok (.aload_n 0, 1) := dk_42 (dk_at dksX4_story_4 6 rfl rfl)
theorem dX4_story_102 : decode cX4_story 102 = .ok (.getfield 110, 3) := dk_180 0 110 (dk_at dksX4_story_4 7 rfl rfl)
theorem dX4_story_105 : decode cX4_story 105 = .ok (.ifCond .eq 11, 3) := dk_153 0 11 (dk_at dksX4_story_4 10 rfl rfl)
theorem dX4_story_108 : decode cX4_story 108 = .ok (.aload_n 0, 1) := dk_42 (dk_at dksX4_story_4 13 rfl rfl)
theorem dX4_story_109 : decode cX4_story 109 = .ok (.getfield 110, 3) := dk_180 0 110 (dk_at dksX4_story_4 14 rfl rfl)
theorem dX4_story_112 : decode cX4_story 112 = .ok (.bipush 10, 2) := dk_16 10 (dk_at dksX4_story_4 17 rfl rfl)
theorem dX4_story_114 : decode cX4_story 114 = .ok (.isub, 1) := dk_100 (dk_at dksX4_story_4 19 rfl rfl)
theorem dX4_story_115 : decode cX4_story 115 = .ok (.ireturn, 1) := dk_172 (dk_at dksX4_story_4 20 rfl rfl)
theorem dX4_story_116 : decode cX4_story 116 = .ok (.iconst 0, 1) := dk_3 (dk_at dksX4_story_4 21 rfl rfl)
theorem dX4_story_117 : decode cX4_story 117 = .ok (.istore_n 3, 1) := dk_62 (dk_at dksX4_story_4 22 rfl rfl)
theorem dX4_story_118 : decode cX4_story 118 = .ok (.iload_n 3, 1) := dk_29 (dk_at dksX4_story_4 23 rfl rfl)
theorem dX4_story_119 : decode cX4_story 119 = .ok (.iload_n 2, 1) := dk_28 (dk_at dksX4_story_5 0 rfl rfl)
theorem dX4_story_120 : decode cX4_story 120 = .ok (.if_icmp .ge 50, 3) := dk_162 0 50 (dk_at dksX4_story_5 1 rfl rfl)
theorem dX4_story_123 : decode cX4_story 123 = .ok (.iconst 0, 1) := dk_3 (dk_at dksX4_story_5 4 rfl rfl)
theorem dX4_story_124 : decode cX4_story 124 = .ok (.istore 4, 2) := dk_54 4 (dk_at dksX4_story_5 5 rfl rfl)
theorem dX4_story_126 : decode cX4_story 126 = .ok (.iload 4, 2) := dk_21 4 (dk_at dksX4_story_5 7 rfl rfl)
theorem dX4_story_128 : decode cX4_story 128 = .ok (.iconst 4, 1) := dk_7 (dk_at dksX4_story_5 9 rfl rfl)
theorem dX4_story_129 : decode cX4_story 129 = .ok (.if_icmp .ge 35, 3) := dk_162 0 35 (dk_at dksX4_story_5 10 rfl rfl)
theorem dX4_story_132 : decode cX4_story 132 = .ok (.aload_n 0, 1) := dk_42 (dk_at dksX4_story_5 13 rfl rfl)
theorem dX4_story_133 : decode cX4_story 133 = .ok (.getfield 49, 3) := dk_180 0 49 (dk_at dksX4_story_5 14 rfl rfl)
theorem dX4_story_136 : decode cX4_story 136 = .ok (.bipush 20, 2) := dk_16 20 (dk_at dksX4_story_5 17 rfl rfl)
theorem dX4_story_138 : decode cX4_story 138 = .ok (.aload_n 0, 1) := dk_42 (dk_at dksX4_story_5 19 rfl rfl)
theorem dX4_story_139 : decode cX4_story 139 = .ok (.getfield 196, 3) := dk_180 0 196 (dk_at dksX4_story_5 20 rfl rfl)
theorem dX4_story_142 : decode cX4_story 142 = .ok (.imul, 1) := dk_104 (dk_at dksX4_story_5 23 rfl rfl)
theorem dX4_story_143 : decode cX4_story 143 = .ok (.iload_n 3, 1) := dk_29 (dk_at dksX4_story_6 0 rfl rfl)
theorem dX4_story_144 : decode cX4_story 144 = .ok (.iadd, 1) := dk_96 (dk_at dksX4_story_6 1 rfl rfl)
theorem dX4_story_145 : decode cX4_story 145 = .ok (.aaload, 1) := dk_50 (dk_at dksX4_story_6 2 rfl rfl)
theorem dX4_story_146 : decode cX4_story 146 = .ok (.iload 4, 2) := dk_21 4 (dk_at dksX4_story_6 3 rfl rfl)
theorem dX4_story_148 : decode cX4_story 148 = .ok (.aload_n 0, 1) := dk_42 (dk_at dksX4_story_6 5 rfl rfl)
theorem dX4_story_149 : decode cX4_story 149 = .ok (.getfield 52, 3) := dk_180 0 52 (dk_at dksX4_story_6 6 rfl rfl)
theorem dX4_story_152 : decode cX4_story 152 = .ok (.iload_n 3, 1) := dk_29 (dk_at dksX4_story_6 9 rfl rfl)
theorem dX4_story_153 : decode cX4_story 153 = .ok (.aaload, 1) := dk_50 (dk_at dksX4_story_6 10 rfl rfl)
theorem dX4_story_154 : decode cX4_story 154 = .ok (.iload 4, 2) := dk_21 4 (dk_at dksX4_story_6 11 rfl rfl)
theorem dX4_story_156 : decode cX4_story 156 = .ok (.iaload, 1) := dk_46 (dk_at dksX4_story_6 13 rfl rfl)
theorem dX4_story_157 : decode cX4_story 157 = .ok (.iastore, 1) := dk_79 (dk_at dksX4_story_6 14 rfl rfl)
theorem dX4_story_158 : decode cX4_story 158 = .ok (.iinc 4 1, 3) := dk_132 4 1 (dk_at dksX4_story_6 15 rfl rfl)
theorem dX4_story_161 : decode cX4_story 161 = .ok (.goto (-35), 3) := dk_167 255 221 (dk_at dksX4_story_6 18 rfl rfl)
theorem dX4_story_164 : decode cX4_story 164 = .ok (.iinc 3 1, 3) := dk_132 3 1 (dk_at dksX4_story_6 21 rfl rfl)
theorem dX4_story_167 : decode cX4_story 167 = .ok (.goto (-49), 3) := dk_167 255 207 (dk_at dksX4_story_7 0 rfl rfl)
theorem dX4_story_170 : decode cX4_story 170 = .ok (.aload_n 0, 1) := dk_42 (dk_at dksX4_story_7 3 rfl rfl)
theorem dX4_story_171 : decode cX4_story 171 = .ok (.getfield 46, 3) := dk_180 0 46 (dk_at dksX4_story_7 4 rfl rfl)
theorem dX4_story_174 : decode cX4_story 174 = .ok (.aload_n 0, 1) := dk_42 (dk_at dksX4_story_7 7 rfl rfl)
theorem dX4_story_175 : decode cX4_story 175 = .ok (.getfield 196, 3) := dk_180 0 196 (dk_at dksX4_story_7 8 rfl rfl)
theorem dX4_story_178 : decode cX4_story 178 = .ok (.iload_n 2, 1) := dk_28 (dk_at dksX4_story_7 11 rfl rfl)
theorem dX4_story_179 : decode cX4_story 179 = .ok (.iastore, 1) := dk_79 (dk_at dksX4_story_7 12 rfl rfl)
theorem dX4_story_180 : decode cX4_story 180 = .ok (.aload_n 0, 1) := dk_42 (dk_at dksX4_story_7 13 rfl rfl)
theorem dX4_story_181 : decode cX4_story 181 = .ok (.dup, 1) := dk_89 (dk_at dksX4_story_7 14 rfl rfl)
theorem dX4_story_182 : decode cX4_story 182 = .ok (.getfield 196, 3) := dk_180 0 196 (dk_at dksX4_story_7 15 rfl rfl)
theorem dX4_story_185 : decode cX4_story 185 = .ok (.iconst 1, 1) := dk_4 (dk_at dksX4_story_7 18 rfl rfl)
theorem dX4_story_186 : decode cX4_story 186 = .ok (.iadd, 1) := dk_96 (dk_at dksX4_story_7 19 rfl rfl)
theorem dX4_story_187 : decode cX4_story 187 = .ok (.putfield 196, 3) := dk_181 0 196 (dk_at dksX4_story_7 20 rfl rfl)
theorem dX4_story_190 : decode cX4_story 190 = .ok (.aload_n 0, 1) := dk_42 (dk_at dksX4_story_7 23 rfl rfl)
theorem dX4_story_191 : decode cX4_story 191 = .ok (.getfield 196, 3) := dk_180 0 196 (dk_at dksX4_story_8 0 rfl rfl)
theorem dX4_story_194 : decode cX4_story 194 = .ok (.iconst 1, 1) := dk_4 (dk_at dksX4_story_8 3 rfl rfl)
theorem dX4_story_195 : decode cX4_story 195 = .ok (.isub, 1) := dk_100 (dk_at dksX4_story_8 4 rfl rfl)
theorem dX4_story_196 : decode cX4_story 196 = .ok (.ireturn, 1) := dk_172 (dk_at dksX4_story_8 5 rfl rfl)
abbrev cX4_less : ByteArray := prog_16_method_5_code
def yX4_less : MethodName := ⟨RX4, "less", "(II)I"⟩
def dkwX4_less_0 : List UInt8 := [26, 27, 162, 0, 7, 26, 167, 0, 4, 27, 172]
abbrev dktX4_less_0 : List UInt8 := dkwX4_less_0 ++ []
theorem dksX4_less_0 : cX4_less.data.toList.drop 0 = dktX4_less_0 := by decide +kernel
theorem dX4_less_0 : decode cX4_less 0 = .ok (.iload_n 0, 1) := dk_26 (dk_at dksX4_less_0 0 rfl rfl)
theorem dX4_less_1 : decode cX4_less 1 = .ok (.iload_n 1, 1) := dk_27 (dk_at dksX4_less_0 1 rfl rfl)
theorem dX4_less_2 : decode cX4_less 2 = .ok (.if_icmp .ge 7, 3) := dk_162 0 7 (dk_at dksX4_less_0 2 rfl rfl)
theorem dX4_less_5 : decode cX4_less 5 = .ok (.iload_n 0, 1) := dk_26 (dk_at dksX4_less_0 5 rfl rfl)
theorem dX4_less_6 : decode cX4_less 6 = .ok (.goto 4, 3) := dk_167 0 4 (dk_at dksX4_less_0 6 rfl rfl)
theorem dX4_less_9 : decode cX4_less 9 = .ok (.iload_n 1, 1) := dk_27 (dk_at dksX4_less_0 9 rfl rfl)
theorem dX4_less_10 : decode cX4_less 10 = .ok (.ireturn, 1) := dk_172 (dk_at dksX4_less_0 10 rfl rfl)
abbrev cX4_eventAt : ByteArray := prog_16_method_22_code
def yX4_eventAt : MethodName := ⟨RX4, "eventAt", "(I)V"⟩
def dkwX4_eventAt_9 : List UInt8 := [100, 50, 6, 46, 162, 0, 10, 42, 6, 21, 4, 182, 0, 123, 42, 16, 59, 182, 0, 157, 177]
abbrev dktX4_eventAt_9 : List UInt8 := dkwX4_eventAt_9 ++ []
def dkwX4_eventAt_8 : List UInt8 := [182, 0, 153, 79, 42, 180, 0, 110, 154, 0, 30, 27, 158, 0, 26, 45, 6, 46, 42, 180, 0, 52, 27, 4]
abbrev dktX4_eventAt_8 : List UInt8 := dkwX4_eventAt_8 ++ dktX4_eventAt_9
def dkwX4_eventAt_7 : List UInt8 := [180, 0, 110, 154, 0, 7, 42, 182, 0, 116, 42, 180, 0, 103, 54, 4, 45, 6, 42, 3, 16, 99, 2]
abbrev dktX4_eventAt_7 : List UInt8 := dkwX4_eventAt_7 ++ dktX4_eventAt_8
def dkwX4_eventAt_6 : List UInt8 := [182, 0, 140, 153, 0, 10, 42, 182, 0, 150, 167, 0, 12, 42, 4, 42, 180, 0, 103, 182, 0, 123, 42]
abbrev dktX4_eventAt_6 : List UInt8 := dkwX4_eventAt_6 ++ dktX4_eventAt_7
def dkwX4_eventAt_5 : List UInt8 := [182, 0, 153, 167, 0, 4, 3, 79, 42, 180, 0, 110, 154, 0, 24, 42, 4, 16, 20, 3, 3, 3, 3]
abbrev dktX4_eventAt_5 : List UInt8 := dkwX4_eventAt_5 ++ dktX4_eventAt_6
def dkwX4_eventAt_4 : List UInt8 := [3, 16, 9, 45, 4, 46, 182, 0, 153, 167, 0, 20, 28, 7, 160, 0, 14, 42, 3, 16, 16, 2]
abbrev dktX4_eventAt_4 : List UInt8 := dkwX4_eventAt_4 ++ dktX4_eventAt_5
def dkwX4_eventAt_3 : List UInt8 := [79, 45, 5, 28, 154, 0, 14, 42, 3, 16, 7, 2, 182, 0, 153, 167, 0, 38, 28, 5, 160, 0, 16, 42]
abbrev dktX4_eventAt_3 : List UInt8 := dkwX4_eventAt_3 ++ dktX4_eventAt_4
def dkwX4_eventAt_2 : List UInt8 := [182, 0, 150, 42, 180, 0, 52, 27, 50, 78, 45, 3, 28, 79, 45, 4, 42, 3, 16, 9, 2, 182, 0, 153]
abbrev dktX4_eventAt_2 : List UInt8 := dkwX4_eventAt_2 ++ dktX4_eventAt_3
def dkwX4_eventAt_1 : List UInt8 := [16, 20, 160, 0, 12, 42, 6, 42, 180, 0, 103, 182, 0, 123, 42, 180, 0, 110, 153, 0, 4, 177, 42]
abbrev dktX4_eventAt_1 : List UInt8 := dkwX4_eventAt_1 ++ dktX4_eventAt_2
def dkwX4_eventAt_0 : List UInt8 := [42, 182, 0, 189, 61, 28, 2, 160, 0, 15, 42, 4, 42, 180, 0, 103, 182, 0, 123, 167, 0, 18, 27]
abbrev dktX4_eventAt_0 : List UInt8 := dkwX4_eventAt_0 ++ dktX4_eventAt_1
theorem dksX4_eventAt_0 : cX4_eventAt.data.toList.drop 0 = dktX4_eventAt_0 := by decide +kernel
theorem dksX4_eventAt_1 : cX4_eventAt.data.toList.drop 23 = dktX4_eventAt_1 := dk_seg dksX4_eventAt_0 23 rfl rfl
theorem dksX4_eventAt_2 : cX4_eventAt.data.toList.drop 46 = dktX4_eventAt_2 := dk_seg dksX4_eventAt_1 23 rfl rfl
theorem dksX4_eventAt_3 : cX4_eventAt.data.toList.drop 70 = dktX4_eventAt_3 := dk_seg dksX4_eventAt_2 24 rfl rfl
theorem dksX4_eventAt_4 : cX4_eventAt.data.toList.drop 94 = dktX4_eventAt_4 := dk_seg dksX4_eventAt_3 24 rfl rfl
theorem dksX4_eventAt_5 : cX4_eventAt.data.toList.drop 116 = dktX4_eventAt_5 := dk_seg dksX4_eventAt_4 22 rfl rfl
theorem dksX4_eventAt_6 : cX4_eventAt.data.toList.drop 139 = dktX4_eventAt_6 := dk_seg dksX4_eventAt_5 23 rfl rfl
theorem dksX4_eventAt_7 : cX4_eventAt.data.toList.drop 162 = dktX4_eventAt_7 := dk_seg dksX4_eventAt_6 23 rfl rfl
theorem dksX4_eventAt_8 : cX4_eventAt.data.toList.drop 185 = dktX4_eventAt_8 := dk_seg dksX4_eventAt_7 23 rfl rfl
theorem dksX4_eventAt_9 : cX4_eventAt.data.toList.drop 209 = dktX4_eventAt_9 := dk_seg dksX4_eventAt_8 24 rfl rfl
theorem dX4_eventAt_0 : decode cX4_eventAt 0 = .ok (.aload_n 0, 1) := dk_42 (dk_at dksX4_eventAt_0 0 rfl rfl)
theorem dX4_eventAt_1 : decode cX4_eventAt 1 = .ok (.invokevirtual 189, 3) := dk_182 0 189 (dk_at dksX4_eventAt_0 1 rfl rfl)
theorem dX4_eventAt_4 : decode cX4_eventAt 4 = .ok (.istore_n 2, 1) := dk_61 (dk_at dksX4_eventAt_0 4 rfl rfl)
theorem dX4_eventAt_5 : decode cX4_eventAt 5 = .ok (.iload_n 2, 1) := dk_28 (dk_at dksX4_eventAt_0 5 rfl rfl)
theorem dX4_eventAt_6 : decode cX4_eventAt 6 = .ok (.iconst (-1), 1) := dk_2 (dk_at dksX4_eventAt_0 6 rfl rfl)
theorem dX4_eventAt_7 : decode cX4_eventAt 7 = .ok (.if_icmp .ne 15, 3) := dk_160 0 15 (dk_at dksX4_eventAt_0 7 rfl rfl)
theorem dX4_eventAt_10 : decode cX4_eventAt 10 = .ok (.aload_n 0, 1) := dk_42 (dk_at dksX4_eventAt_0 10 rfl rfl)
theorem dX4_eventAt_11 : decode cX4_eventAt 11 = .ok (.iconst 1, 1) := dk_4 (dk_at dksX4_eventAt_0 11 rfl rfl)
theorem dX4_eventAt_12 : decode cX4_eventAt 12 = .ok (.aload_n 0, 1) := dk_42 (dk_at dksX4_eventAt_0 12 rfl rfl)
theorem dX4_eventAt_13 : decode cX4_eventAt 13 = .ok (.getfield 103, 3) := dk_180 0 103 (dk_at dksX4_eventAt_0 13 rfl rfl)
theorem dX4_eventAt_16 : decode cX4_eventAt 16 = .ok (.invokevirtual 123, 3) := dk_182 0 123 (dk_at dksX4_eventAt_0 16 rfl rfl)
theorem dX4_eventAt_19 : decode cX4_eventAt 19 = .ok (.goto 18, 3) := dk_167 0 18 (dk_at dksX4_eventAt_0 19 rfl rfl)
theorem dX4_eventAt_22 : decode cX4_eventAt 22 = .ok (.iload_n 1, 1) := dk_27 (dk_at dksX4_eventAt_0 22 rfl rfl)
theorem dX4_eventAt_23 : decode cX4_eventAt 23 = .ok (.bipush 20, 2) := dk_16 20 (dk_at dksX4_eventAt_1 0 rfl rfl)
theorem dX4_eventAt_25 : decode cX4_eventAt 25 = .ok (.if_icmp .ne 12, 3) := dk_160 0 12 (dk_at dksX4_eventAt_1 2 rfl rfl)
theorem dX4_eventAt_28 : decode cX4_eventAt 28 = .ok (.aload_n 0, 1) := dk_42 (dk_at dksX4_eventAt_1 5 rfl rfl)
theorem dX4_eventAt_29 : decode cX4_eventAt 29 = .ok (.iconst 3, 1) := dk_6 (dk_at dksX4_eventAt_1 6 rfl rfl)
theorem dX4_eventAt_30 : decode cX4_eventAt 30 = .ok (.aload_n 0, 1) := dk_42 (dk_at dksX4_eventAt_1 7 rfl rfl)
theorem dX4_eventAt_31 : decode cX4_eventAt 31 = .ok (.getfield 103, 3) := dk_180 0 103 (dk_at dksX4_eventAt_1 8 rfl rfl)
theorem dX4_eventAt_34 : decode cX4_eventAt 34 = .ok (.invokevirtual 123, 3) := dk_182 0 123 (dk_at dksX4_eventAt_1 11 rfl rfl)
theorem dX4_eventAt_37 : decode cX4_eventAt 37 = .ok (.aload_n 0, 1) := dk_42 (dk_at dksX4_eventAt_1 14 rfl rfl)
theorem dX4_eventAt_38 : decode cX4_eventAt 38 = .ok (.getfield 110, 3) := dk_180 0 110 (dk_at dksX4_eventAt_1 15 rfl rfl)
theorem dX4_eventAt_41 : decode cX4_eventAt 41 = .ok (.ifCond .eq 4, 3) := dk_153 0 4 (dk_at dksX4_eventAt_1 18 rfl rfl)
theorem dX4_eventAt_44 : decode cX4_eventAt 44 = .ok (.return_, 1) := dk_177 (dk_at dksX4_eventAt_1 21 rfl rfl)
theorem dX4_eventAt_45 : decode cX4_eventAt 45 = .ok (.aload_n 0, 1) := dk_42 (dk_at dksX4_eventAt_1 22 rfl rfl)
theorem dX4_eventAt_46 : decode cX4_eventAt 46 = .ok (.invokevirtual 150, 3) := dk_182 0 150 (dk_at dksX4_eventAt_2 0 rfl rfl)
theorem dX4_eventAt_49 : decode cX4_eventAt 49 = .ok (.aload_n 0, 1) := dk_42 (dk_at dksX4_eventAt_2 3 rfl rfl)
theorem dX4_eventAt_50 : decode cX4_eventAt 50 = .ok (.getfield 52, 3) := dk_180 0 52 (dk_at dksX4_eventAt_2 4 rfl rfl)
theorem dX4_eventAt_53 : decode cX4_eventAt 53 = .ok (.iload_n 1, 1) := dk_27 (dk_at dksX4_eventAt_2 7 rfl rfl)
theorem dX4_eventAt_54 : decode cX4_eventAt 54 = .ok (.aaload, 1) := dk_50 (dk_at dksX4_eventAt_2 8 rfl rfl)
theorem dX4_eventAt_55 : decode cX4_eventAt 55 = .ok (.astore_n 3, 1) := dk_78 (dk_at dksX4_eventAt_2 9 rfl rfl)
theorem dX4_eventAt_56 : decode cX4_eventAt 56 = .ok (.aload_n 3, 1) := dk_45 (dk_at dksX4_eventAt_2 10 rfl rfl)
theorem dX4_eventAt_57 : decode cX4_eventAt 57 = .ok (.iconst 0, 1) := dk_3 (dk_at dksX4_eventAt_2 11 rfl rfl)
theorem dX4_eventAt_58 : decode cX4_eventAt 58 = .ok (.iload_n 2, 1) := dk_28 (dk_at dksX4_eventAt_2 12 rfl rfl)
theorem dX4_eventAt_59 : decode cX4_eventAt 59 = .ok (.iastore, 1) := dk_79 (dk_at dksX4_eventAt_2 13 rfl rfl)
theorem dX4_eventAt_60 : decode cX4_eventAt 60 = .ok (.aload_n 3, 1) := dk_45 (dk_at dksX4_eventAt_2 14 rfl rfl)
theorem dX4_eventAt_61 : decode cX4_eventAt 61 = .ok (.iconst 1, 1) := dk_4 (dk_at dksX4_eventAt_2 15 rfl rfl)
theorem dX4_eventAt_62 : decode cX4_eventAt 62 = .ok (.aload_n 0, 1) := dk_42 (dk_at dksX4_eventAt_2 16 rfl rfl)
theorem dX4_eventAt_63 : decode cX4_eventAt 63 = .ok (.iconst 0, 1) := dk_3 (dk_at dksX4_eventAt_2 17 rfl rfl)
theorem dX4_eventAt_64 : decode cX4_eventAt 64 = .ok (.bipush 9, 2) := dk_16 9 (dk_at dksX4_eventAt_2 18 rfl rfl)
theorem dX4_eventAt_66 : decode cX4_eventAt 66 = .ok (.iconst (-1), 1) := dk_2 (dk_at dksX4_eventAt_2 20 rfl rfl)
theorem dX4_eventAt_67 : decode cX4_eventAt 67 = .ok (.invokevirtual 153, 3) := dk_182 0 153 (dk_at dksX4_eventAt_2 21 rfl rfl)
theorem dX4_eventAt_70 : decode cX4_eventAt 70 = .ok (.iastore, 1) := dk_79 (dk_at dksX4_eventAt_3 0 rfl rfl)
theorem dX4_eventAt_71 : decode cX4_eventAt 71 = .ok (.aload_n 3, 1) := dk_45 (dk_at dksX4_eventAt_3 1 rfl rfl)
theorem dX4_eventAt_72 : decode cX4_eventAt 72 = .ok (.iconst 2, 1) := dk_5 (dk_at dksX4_eventAt_3 2 rfl rfl)
theorem dX4_eventAt_73 : decode cX4_eventAt 73 = .ok (.iload_n 2, 1) := dk_28 (dk_at dksX4_eventAt_3 3 rfl rfl)
theorem dX4_eventAt_74 : decode cX4_eventAt 74 = .ok (.ifCond .ne 14, 3) := dk_154 0 14 (dk_at dksX4_eventAt_3 4 rfl rfl)
theorem dX4_eventAt_77 : decode cX4_eventAt 77 = .ok (.aload_n 0, 1) := dk_42 (dk_at dksX4_eventAt_3 7 rfl rfl)
theorem dX4_eventAt_78 : decode cX4_eventAt 78 = .ok (.iconst 0, 1) := dk_3 (dk_at dksX4_eventAt_3 8 rfl rfl)
theorem dX4_eventAt_79 : decode cX4_eventAt 79 = .ok (.bipush 7, 2) := dk_16 7 (dk_at dksX4_eventAt_3 9 rfl rfl)
theorem dX4_eventAt_81 : decode cX4_eventAt 81 = .ok (.iconst (-1), 1) := dk_2 (dk_at dksX4_eventAt_3 11 rfl rfl)
theorem dX4_eventAt_82 : decode cX4_eventAt 82 = .ok (.invokevirtual 153, 3) := dk_182 0 153 (dk_at dksX4_eventAt_3 12 rfl rfl)
theorem dX4_eventAt_85 : decode cX4_eventAt 85 = .ok (.goto 38, 3) := dk_167 0 38 (dk_at dksX4_eventAt_3 15 rfl rfl)
theorem dX4_eventAt_88 : decode cX4_eventAt 88 = .ok (.iload_n 2, 1) := dk_28 (dk_at dksX4_eventAt_3 18 rfl rfl)
theorem dX4_eventAt_89 : decode cX4_eventAt 89 = .ok (.iconst 2, 1) := dk_5 (dk_at dksX4_eventAt_3 19 rfl rfl)
theorem dX4_eventAt_90 : decode cX4_eventAt 90 = .ok (.if_icmp .ne 16, 3) := dk_160 0 16 (dk_at dksX4_eventAt_3 20 rfl rfl)
theorem dX4_eventAt_93 : decode cX4_eventAt 93 = .ok (.aload_n 0, 1) := dk_42 (dk_at dksX4_eventAt_3 23 rfl rfl)
theorem dX4_eventAt_94 : decode cX4_eventAt 94 = .ok (.iconst 0, 1) := dk_3 (dk_at dksX4_eventAt_4 0 rfl rfl)
theorem dX4_eventAt_95 : decode cX4_eventAt 95 = .ok (.bipush 9, 2) := dk_16 9 (dk_at dksX4_eventAt_4 1 rfl rfl)
theorem dX4_eventAt_97 : decode cX4_eventAt 97 = .ok (.aload_n 3, 1) := dk_45 (dk_at dksX4_eventAt_4 3 rfl rfl)
theorem dX4_eventAt_98 : decode cX4_eventAt 98 = .ok (.iconst 1, 1) := dk_4 (dk_at dksX4_eventAt_4 4 rfl rfl)
theorem dX4_eventAt_99 : decode cX4_eventAt 99 = .ok (.iaload, 1) := dk_46 (dk_at dksX4_eventAt_4 5 rfl rfl)
theorem dX4_eventAt_100 : decode cX4_eventAt 100 = .ok (.invokevirtual 153, 3) := dk_182 0 153 (dk_at dksX4_eventAt_4 6 rfl rfl)
theorem dX4_eventAt_103 : decode cX4_eventAt 103 = .ok (.goto 20, 3) := dk_167 0 20 (dk_at dksX4_eventAt_4 9 rfl rfl)
theorem dX4_eventAt_106 : decode cX4_eventAt 106 = .ok (.iload_n 2, 1) := dk_28 (dk_at dksX4_eventAt_4 12 rfl rfl)
theorem dX4_eventAt_107 : decode cX4_eventAt 107 = .ok (.iconst 4, 1) := dk_7 (dk_at dksX4_eventAt_4 13 rfl rfl)
theorem dX4_eventAt_108 : decode cX4_eventAt 108 = .ok (.if_icmp .ne 14, 3) := dk_160 0 14 (dk_at dksX4_eventAt_4 14 rfl rfl)
theorem dX4_eventAt_111 : decode cX4_eventAt 111 = .ok (.aload_n 0, 1) := dk_42 (dk_at dksX4_eventAt_4 17 rfl rfl)
theorem dX4_eventAt_112 : decode cX4_eventAt 112 = .ok (.iconst 0, 1) := dk_3 (dk_at dksX4_eventAt_4 18 rfl rfl)
theorem dX4_eventAt_113 : decode cX4_eventAt 113 = .ok (.bipush 16, 2) := dk_16 16 (dk_at dksX4_eventAt_4 19 rfl rfl)
theorem dX4_eventAt_115 : decode cX4_eventAt 115 = .ok (.iconst (-1), 1) := dk_2 (dk_at dksX4_eventAt_4 21 rfl rfl)
theorem dX4_eventAt_116 : decode cX4_eventAt 116 = .ok (.invokevirtual 153, 3) := dk_182 0 153 (dk_at dksX4_eventAt_5 0 rfl rfl)
theorem dX4_eventAt_119 : decode cX4_eventAt 119 = .ok (.goto 4, 3) := dk_167 0 4 (dk_at dksX4_eventAt_5 3 rfl rfl)
theorem dX4_eventAt_122 : decode cX4_eventAt 122 = .ok (.iconst 0, 1) := dk_3 (dk_at dksX4_eventAt_5 6 rfl rfl)
theorem dX4_eventAt_123 : decode cX4_eventAt 123 = .ok (.iastore, 1) := dk_79 (dk_at dksX4_eventAt_5 7 rfl rfl)
theorem dX4_eventAt_124 : decode cX4_eventAt 124 = .ok (.aload_n 0, 1) := dk_42 (dk_at dksX4_eventAt_5 8 rfl rfl)
theorem dX4_eventAt_125 : decode cX4_eventAt 125 = .ok (.getfield 110, 3) := dk_180 0 110 (dk_at dksX4_eventAt_5 9 rfl rfl)
theorem dX4_eventAt_128 : decode cX4_eventAt 128 = .ok (.ifCond .ne 24, 3) := dk_154 0 24 (dk_at dksX4_eventAt_5 12 rfl rfl)
theorem dX4_eventAt_131 : decode cX4_eventAt 131 = .ok (.aload_n 0, 1) := dk_42 (dk_at dksX4_eventAt_5 15 rfl rfl)
theorem dX4_eventAt_132 : decode cX4_eventAt 132 = .ok (.iconst 1, 1) := dk_4 (dk_at dksX4_eventAt_5 16 rfl rfl)
theorem dX4_eventAt_133 : decode cX4_eventAt 133 = .ok (.bipush 20, 2) := dk_16 20 (dk_at dksX4_eventAt_5 17 rfl rfl)
theorem dX4_eventAt_135 : decode cX4_eventAt 135 = .ok (.iconst 0, 1) := dk_3 (dk_at dksX4_eventAt_5 19 rfl rfl)
theorem dX4_eventAt_136 : decode cX4_eventAt 136 = .ok (.iconst 0, 1) := dk_3 (dk_at dksX4_eventAt_5 20 rfl rfl)
theorem dX4_eventAt_137 : decode cX4_eventAt 137 = .ok (.iconst 0, 1) := dk_3 (dk_at dksX4_eventAt_5 21 rfl rfl)
theorem dX4_eventAt_138 : decode cX4_eventAt 138 = .ok (.iconst 0, 1) := dk_3 (dk_at dksX4_eventAt_5 22 rfl rfl)
theorem dX4_eventAt_139 : decode cX4_eventAt 139 = .ok (.invokevirtual 140, 3) := dk_182 0 140 (dk_at dksX4_eventAt_6 0 rfl rfl)
theorem dX4_eventAt_142 : decode cX4_eventAt 142 = .ok (.ifCond .eq 10, 3) := dk_153 0 10 (dk_at dksX4_eventAt_6 3 rfl rfl)
theorem dX4_eventAt_145 : decode cX4_eventAt 145 = .ok (.aload_n 0, 1) := dk_42 (dk_at dksX4_eventAt_6 6 rfl rfl)
theorem dX4_eventAt_146 : decode cX4_eventAt 146 = .ok (.invokevirtual 150, 3) := dk_182 0 150 (dk_at dksX4_eventAt_6 7 rfl rfl)
theorem dX4_eventAt_149 : decode cX4_eventAt 149 = .ok (.goto 12, 3) := dk_167 0 12 (dk_at dksX4_eventAt_6 10 rfl rfl)
theorem dX4_eventAt_152 : decode cX4_eventAt 152 = .ok (.aload_n 0, 1) := dk_42 (dk_at dksX4_eventAt_6 13 rfl rfl)
theorem dX4_eventAt_153 : decode cX4_eventAt 153 = .ok (.iconst 1, 1) := dk_4 (dk_at dksX4_eventAt_6 14 rfl rfl)
theorem dX4_eventAt_154 : decode cX4_eventAt 154 = .ok (.aload_n 0, 1) := dk_42 (dk_at dksX4_eventAt_6 15 rfl rfl)
theorem dX4_eventAt_155 : decode cX4_eventAt 155 = .ok (.getfield 103, 3) := dk_180 0 103 (dk_at dksX4_eventAt_6 16 rfl rfl)
theorem dX4_eventAt_158 : decode cX4_eventAt 158 = .ok (.invokevirtual 123, 3) := dk_182 0 123 (dk_at dksX4_eventAt_6 19 rfl rfl)
theorem dX4_eventAt_161 : decode cX4_eventAt 161 = .ok (.aload_n 0, 1) := dk_42 (dk_at dksX4_eventAt_6 22 rfl rfl)
theorem dX4_eventAt_162 : decode cX4_eventAt 162 = .ok (.getfield 110, 3) := dk_180 0 110 (dk_at dksX4_eventAt_7 0 rfl rfl)
theorem dX4_eventAt_165 : decode cX4_eventAt 165 = .ok (.ifCond .ne 7, 3) := dk_154 0 7 (dk_at dksX4_eventAt_7 3 rfl rfl)
theorem dX4_eventAt_168 : decode cX4_eventAt 168 = .ok (.aload_n 0, 1) := dk_42 (dk_at dksX4_eventAt_7 6 rfl rfl)
theorem dX4_eventAt_169 : decode cX4_eventAt 169 = .ok (.invokevirtual 116, 3) := dk_182 0 116 (dk_at dksX4_eventAt_7 7 rfl rfl)
theorem dX4_eventAt_172 : decode cX4_eventAt 172 = .ok (.aload_n 0, 1) := dk_42 (dk_at dksX4_eventAt_7 10 rfl rfl)
theorem dX4_eventAt_173 : decode cX4_eventAt 173 = .ok (.getfield 103, 3) := dk_180 0 103 (dk_at dksX4_eventAt_7 11 rfl rfl)
theorem dX4_eventAt_176 : decode cX4_eventAt 176 = .ok (.istore 4, 2) := dk_54 4 (dk_at dksX4_eventAt_7 14 rfl rfl)
theorem dX4_eventAt_178 : decode cX4_eventAt 178 = .ok (.aload_n 3, 1) := dk_45 (dk_at dksX4_eventAt_7 16 rfl rfl)
theorem dX4_eventAt_179 : decode cX4_eventAt 179 = .ok (.iconst 3, 1) := dk_6 (dk_at dksX4_eventAt_7 17 rfl rfl)
theorem dX4_eventAt_180 : decode cX4_eventAt 180 = .ok (.aload_n 0, 1) := dk_42 (dk_at dksX4_eventAt_7 18 rfl rfl)
theorem dX4_eventAt_181 : decode cX4_eventAt 181 = .ok (.iconst 0, 1) := dk_3 (dk_at dksX4_eventAt_7 19 rfl rfl)
theorem dX4_eventAt_182 : decode cX4_eventAt 182 = .ok (.bipush 99, 2) := dk_16 99 (dk_at dksX4_eventAt_7 20 rfl rfl)
theorem dX4_eventAt_184 : decode cX4_eventAt 184 = .ok (.iconst (-1), 1) := dk_2 (dk_at dksX4_eventAt_7 22 rfl rfl)
theorem dX4_eventAt_185 : decode cX4_eventAt 185 = .ok (.invokevirtual 153, 3) := dk_182 0 153 (dk_at dksX4_eventAt_8 0 rfl rfl)
theorem dX4_eventAt_188 : decode cX4_eventAt 188 = .ok (.iastore, 1) := dk_79 (dk_at dksX4_eventAt_8 3 rfl rfl)
theorem dX4_eventAt_189 : decode cX4_eventAt 189 = .ok (.aload_n 0, 1) := dk_42 (dk_at dksX4_eventAt_8 4 rfl rfl)
theorem dX4_eventAt_190 : decode cX4_eventAt 190 = .ok (.getfield 110, 3) := dk_180 0 110 (dk_at dksX4_eventAt_8 5 rfl rfl)
theorem dX4_eventAt_193 : decode cX4_eventAt 193 = .ok (.ifCond .ne 30, 3) := dk_154 0 30 (dk_at dksX4_eventAt_8 8 rfl rfl)
theorem dX4_eventAt_196 : decode cX4_eventAt 196 = .ok (.iload_n 1, 1) := dk_27 (dk_at dksX4_eventAt_8 11 rfl rfl)
theorem dX4_eventAt_197 : decode cX4_eventAt 197 = .ok (.ifCond .le 26, 3) := dk_158 0 26 (dk_at dksX4_eventAt_8 12 rfl rfl)
theorem dX4_eventAt_200 : decode cX4_eventAt 200 = .ok (.aload_n 3, 1) := dk_45 (dk_at dksX4_eventAt_8 15 rfl rfl)
theorem dX4_eventAt_201 : decode cX4_eventAt 201 = .ok (.iconst 3, 1) := dk_6 (dk_at dksX4_eventAt_8 16 rfl rfl)
theorem dX4_eventAt_202 : decode cX4_eventAt 202 = .ok (.iaload, 1) := dk_46 (dk_at dksX4_eventAt_8 17 rfl rfl)
theorem dX4_eventAt_203 : decode cX4_eventAt 203 = .ok (.aload_n 0, 1) := dk_42 (dk_at dksX4_eventAt_8 18 rfl rfl)
theorem dX4_eventAt_204 : decode cX4_eventAt 204 = .ok (.getfield 52, 3) := dk_180 0 52 (dk_at dksX4_eventAt_8 19 rfl rfl)
theorem dX4_eventAt_207 : decode cX4_eventAt 207 = .ok (.iload_n 1, 1) := dk_27 (dk_at dksX4_eventAt_8 22 rfl rfl)
theorem dX4_eventAt_208 : decode cX4_eventAt 208 = .ok (.iconst 1, 1) := dk_4 (dk_at dksX4_eventAt_8 23 rfl rfl)
theorem dX4_eventAt_209 : decode cX4_eventAt 209 = .ok (.isub, 1) := dk_100 (dk_at dksX4_eventAt_9 0 rfl rfl)
theorem dX4_eventAt_210 : decode cX4_eventAt 210 = .ok (.aaload, 1) := dk_50 (dk_at dksX4_eventAt_9 1 rfl rfl)
theorem dX4_eventAt_211 : decode cX4_eventAt 211 = .ok (.iconst 3, 1) := dk_6 (dk_at dksX4_eventAt_9 2 rfl rfl)
theorem dX4_eventAt_212 : decode cX4_eventAt 212 = .ok (.iaload, 1) := dk_46 (dk_at dksX4_eventAt_9 3 rfl rfl)
theorem dX4_eventAt_213 : decode cX4_eventAt 213 = .ok (.if_icmp .ge 10, 3) := dk_162 0 10 (dk_at dksX4_eventAt_9 4 rfl rfl)
theorem dX4_eventAt_216 : decode cX4_eventAt 216 = .ok (.aload_n 0, 1) := dk_42 (dk_at dksX4_eventAt_9 7 rfl rfl)
theorem dX4_eventAt_217 : decode cX4_eventAt 217 = .ok (.iconst 3, 1) := dk_6 (dk_at dksX4_eventAt_9 8 rfl rfl)
theorem dX4_eventAt_218 : decode cX4_eventAt 218 = .ok (.iload 4, 2) := dk_21 4 (dk_at dksX4_eventAt_9 9 rfl rfl)
theorem dX4_eventAt_220 : decode cX4_eventAt 220 = .ok (.invokevirtual 123, 3) := dk_182 0 123 (dk_at dksX4_eventAt_9 11 rfl rfl)
theorem dX4_eventAt_223 : decode cX4_eventAt 223 = .ok (.aload_n 0, 1) := dk_42 (dk_at dksX4_eventAt_9 14 rfl rfl)
theorem dX4_eventAt_224 : decode cX4_eventAt 224 = .ok (.bipush 59, 2) := dk_16 59 (dk_at dksX4_eventAt_9 15 rfl rfl)
theorem dX4_eventAt_226 : decode cX4_eventAt 226 = .ok (.invokevirtual 157, 3) := dk_182 0 157 (dk_at dksX4_eventAt_9 17 rfl rfl)
theorem dX4_eventAt_229 : decode cX4_eventAt 229 = .ok (.return_, 1) := dk_177 (dk_at dksX4_eventAt_9 20 rfl rfl)
abbrev cX4_eventHere : ByteArray := prog_16_method_21_code
def yX4_eventHere : MethodName := ⟨RX4, "eventHere", "()I"⟩
def dkwX4_eventHere_3 : List UInt8 := [16, 19, 16, 8, 4, 16, 11, 8, 3, 182, 0, 140, 153, 0, 7, 7, 167, 0, 4, 2, 172]
abbrev dktX4_eventHere_3 : List UInt8 := dkwX4_eventHere_3 ++ []
def dkwX4_eventHere_2 : List UInt8 := [153, 0, 5, 5, 172, 42, 16, 23, 4, 16, 19, 16, 8, 3, 3, 182, 0, 140, 153, 0, 5, 6, 172, 42]
abbrev dktX4_eventHere_2 : List UInt8 := dkwX4_eventHere_2 ++ dktX4_eventHere_3
def dkwX4_eventHere_1 : List UInt8 := [3, 182, 0, 140, 153, 0, 5, 4, 172, 42, 16, 20, 16, 15, 16, 21, 6, 16, 8, 3, 182, 0, 140]
abbrev dktX4_eventHere_1 : List UInt8 := dkwX4_eventHere_1 ++ dktX4_eventHere_2
def dkwX4_eventHere_0 : List UInt8 := [42, 16, 23, 8, 4, 16, 18, 3, 3, 182, 0, 140, 153, 0, 5, 3, 172, 42, 5, 4, 16, 18, 8, 3]
abbrev dktX4_eventHere_0 : List UInt8 := dkwX4_eventHere_0 ++ dktX4_eventHere_1
theorem dksX4_eventHere_0 : cX4_eventHere.data.toList.drop 0 = dktX4_eventHere_0 := by decide +kernel
theorem dksX4_eventHere_1 : cX4_eventHere.data.toList.drop 24 = dktX4_eventHere_1 := dk_seg dksX4_eventHere_0 24 rfl rfl
theorem dksX4_eventHere_2 : cX4_eventHere.data.toList.drop 47 = dktX4_eventHere_2 := dk_seg dksX4_eventHere_1 23 rfl rfl
theorem dksX4_eventHere_3 : cX4_eventHere.data.toList.drop 71 = dktX4_eventHere_3 := dk_seg dksX4_eventHere_2 24 rfl rfl
theorem dX4_eventHere_0 : decode cX4_eventHere 0 = .ok (.aload_n 0, 1) := dk_42 (dk_at dksX4_eventHere_0 0 rfl rfl)
theorem dX4_eventHere_1 : decode cX4_eventHere 1 = .ok (.bipush 23, 2) := dk_16 23 (dk_at dksX4_eventHere_0 1 rfl rfl)
theorem dX4_eventHere_3 : decode cX4_eventHere 3 = .ok (.iconst 5, 1) := dk_8 (dk_at dksX4_eventHere_0 3 rfl rfl)
theorem dX4_eventHere_4 : decode cX4_eventHere 4 = .ok (.iconst 1, 1) := dk_4 (dk_at dksX4_eventHere_0 4 rfl rfl)
theorem dX4_eventHere_5 : decode cX4_eventHere 5 = .ok (.bipush 18, 2) := dk_16 18 (dk_at dksX4_eventHere_0 5 rfl rfl)
theorem dX4_eventHere_7 : decode cX4_eventHere 7 = .ok (.iconst 0, 1) := dk_3 (dk_at dksX4_eventHere_0 7 rfl rfl)
theorem dX4_eventHere_8 : decode cX4_eventHere 8 = .ok (.iconst 0, 1) := dk_3 (dk_at dksX4_eventHere_0 8 rfl rfl)
theorem dX4_eventHere_9 : decode cX4_eventHere 9 = .ok (.invokevirtual 140, 3) := dk_182 0 140 (dk_at dksX4_eventHere_0 9 rfl rfl)
theorem dX4_eventHere_12 : decode cX4_eventHere 12 = .ok (.ifCond .eq 5, 3) := dk_153 0 5 (dk_at dksX4_eventHere_0 12 rfl rfl)
theorem dX4_eventHere_15 : decode cX4_eventHere 15 = .ok (.iconst 0, 1) := dk_3 (dk_at dksX4_eventHere_0 15 rfl rfl)
theorem dX4_eventHere_16 : decode cX4_eventHere 16 = .ok (.ireturn, 1) := dk_172 (dk_at dksX4_eventHere_0 16 rfl rfl)
theorem dX4_eventHere_17 : decode cX4_eventHere 17 = .ok (.aload_n 0, 1) := dk_42 (dk_at dksX4_eventHere_0 17 rfl rfl)
theorem dX4_eventHere_18 : decode cX4_eventHere 18 = .ok (.iconst 2, 1) := dk_5 (dk_at dksX4_eventHere_0 18 rfl rfl)
theorem dX4_eventHere_19 : decode cX4_eventHere 19 = .ok (.iconst 1, 1) := dk_4 (dk_at dksX4_eventHere_0 19 rfl rfl)
theorem dX4_eventHere_20 : decode cX4_eventHere 20 = .ok (.bipush 18, 2) := dk_16 18 (dk_at dksX4_eventHere_0 20 rfl rfl)
theorem dX4_eventHere_22 : decode cX4_eventHere 22 = .ok (.iconst 5, 1) := dk_8 (dk_at dksX4_eventHere_0 22 rfl rfl)
theorem dX4_eventHere_23 : decode cX4_eventHere 23 = .ok (.iconst 0, 1) := dk_3 (dk_at dksX4_eventHere_0 23 rfl rfl)
theorem dX4_eventHere_24 : decode cX4_eventHere 24 = .ok (.iconst 0, 1) := dk_3 (dk_at dksX4_eventHere_1 0 rfl rfl)
theorem dX4_eventHere_25 : decode cX4_eventHere 25 = .ok (.invokevirtual 140, 3) := dk_182 0 140 (dk_at dksX4_eventHere_1 1 rfl rfl)
theorem dX4_eventHere_28 : decode cX4_eventHere 28 = .ok (.ifCond .eq 5, 3) := dk_153 0 5 (dk_at dksX4_eventHere_1 4 rfl rfl)
theorem dX4_eventHere_31 : decode cX4_eventHere 31 = .ok (.iconst 1, 1) := dk_4 (dk_at dksX4_eventHere_1 7 rfl rfl)
theorem dX4_eventHere_32 : decode cX4_eventHere 32 = .ok (.ireturn, 1) := dk_172 (dk_at dksX4_eventHere_1 8 rfl rfl)
theorem dX4_eventHere_33 : decode cX4_eventHere 33 = .ok (.aload_n 0, 1) := dk_42 (dk_at dksX4_eventHere_1 9 rfl rfl)
theorem dX4_eventHere_34 : decode cX4_eventHere 34 = .ok (.bipush 20, 2) := dk_16 20 (dk_at dksX4_eventHere_1 10 rfl rfl)
theorem dX4_eventHere_36 : decode cX4_eventHere 36 = .ok (.bipush 15, 2) := dk_16 15 (dk_at dksX4_eventHere_1 12 rfl rfl)
theorem dX4_eventHere_38 : decode cX4_eventHere 38 = .ok (.bipush 21, 2) := dk_16 21 (dk_at dksX4_eventHere_1 14 rfl rfl)
theorem dX4_eventHere_40 : decode cX4_eventHere 40 = .ok (.iconst 3, 1) := dk_6 (dk_at dksX4_eventHere_1 16 rfl rfl)
theorem dX4_eventHere_41 : decode cX4_eventHere 41 = .ok (.bipush 8, 2) := dk_16 8 (dk_at dksX4_eventHere_1 17 rfl rfl)
theorem dX4_eventHere_43 : decode cX4_eventHere 43 = .ok (.iconst 0, 1) := dk_3 (dk_at dksX4_eventHere_1 19 rfl rfl)
theorem dX4_eventHere_44 : decode cX4_eventHere 44 = .ok (.invokevirtual 140, 3) := dk_182 0 140 (dk_at dksX4_eventHere_1 20 rfl rfl)
theorem dX4_eventHere_47 : decode cX4_eventHere 47 = .ok (.ifCond .eq 5, 3) := dk_153 0 5 (dk_at dksX4_eventHere_2 0 rfl rfl)
theorem dX4_eventHere_50 : decode cX4_eventHere 50 = .ok (.iconst 2, 1) := dk_5 (dk_at dksX4_eventHere_2 3 rfl rfl)
theorem dX4_eventHere_51 : decode cX4_eventHere 51 = .ok (.ireturn, 1) := dk_172 (dk_at dksX4_eventHere_2 4 rfl rfl)
theorem dX4_eventHere_52 : decode cX4_eventHere 52 = .ok (.aload_n 0, 1) := dk_42 (dk_at dksX4_eventHere_2 5 rfl rfl)
theorem dX4_eventHere_53 : decode cX4_eventHere 53 = .ok (.bipush 23, 2) := dk_16 23 (dk_at dksX4_eventHere_2 6 rfl rfl)
theorem dX4_eventHere_55 : decode cX4_eventHere 55 = .ok (.iconst 1, 1) := dk_4 (dk_at dksX4_eventHere_2 8 rfl rfl)
theorem dX4_eventHere_56 : decode cX4_eventHere 56 = .ok (.bipush 19, 2) := dk_16 19 (dk_at dksX4_eventHere_2 9 rfl rfl)
theorem dX4_eventHere_58 : decode cX4_eventHere 58 = .ok (.bipush 8, 2) := dk_16 8 (dk_at dksX4_eventHere_2 11 rfl rfl)
theorem dX4_eventHere_60 : decode cX4_eventHere 60 = .ok (.iconst 0, 1) := dk_3 (dk_at dksX4_eventHere_2 13 rfl rfl)
theorem dX4_eventHere_61 : decode cX4_eventHere 61 = .ok (.iconst 0, 1) := dk_3 (dk_at dksX4_eventHere_2 14 rfl rfl)
theorem dX4_eventHere_62 : decode cX4_eventHere 62 = .ok (.invokevirtual 140, 3) := dk_182 0 140 (dk_at dksX4_eventHere_2 15 rfl rfl)
theorem dX4_eventHere_65 : decode cX4_eventHere 65 = .ok (.ifCond .eq 5, 3) := dk_153 0 5 (dk_at dksX4_eventHere_2 18 rfl rfl)
theorem dX4_eventHere_68 : decode cX4_eventHere 68 = .ok (.iconst 3, 1) := dk_6 (dk_at dksX4_eventHere_2 21 rfl rfl)
theorem dX4_eventHere_69 : decode cX4_eventHere 69 = .ok (.ireturn, 1) := dk_172 (dk_at dksX4_eventHere_2 22 rfl rfl)
theorem dX4_eventHere_70 : decode cX4_eventHere 70 = .ok (.aload_n 0, 1) := dk_42 (dk_at dksX4_eventHere_2 23 rfl rfl)
theorem dX4_eventHere_71 : decode cX4_eventHere 71 = .ok (.bipush 19, 2) := dk_16 19 (dk_at dksX4_eventHere_3 0 rfl rfl)
theorem dX4_eventHere_73 : decode cX4_eventHere 73 = .ok (.bipush 8, 2) := dk_16 8 (dk_at dksX4_eventHere_3 2 rfl rfl)
theorem dX4_eventHere_75 : decode cX4_eventHere 75 = .ok (.iconst 1, 1) := dk_4 (dk_at dksX4_eventHere_3 4 rfl rfl)
theorem dX4_eventHere_76 : decode cX4_eventHere 76 = .ok (.bipush 11, 2) := dk_16 11 (dk_at dksX4_eventHere_3 5 rfl rfl)
theorem dX4_eventHere_78 : decode cX4_eventHere 78 = .ok (.iconst 5, 1) := dk_8 (dk_at dksX4_eventHere_3 7 rfl rfl)
theorem dX4_eventHere_79 : decode cX4_eventHere 79 = .ok (.iconst 0, 1) := dk_3 (dk_at dksX4_eventHere_3 8 rfl rfl)
theorem dX4_eventHere_80 : decode cX4_eventHere 80 = .ok (.invokevirtual 140, 3) := dk_182 0 140 (dk_at dksX4_eventHere_3 9 rfl rfl)
theorem dX4_eventHere_83 : decode cX4_eventHere 83 = .ok (.ifCond .eq 7, 3) := dk_153 0 7 (dk_at dksX4_eventHere_3 12 rfl rfl)
theorem dX4_eventHere_86 : decode cX4_eventHere 86 = .ok (.iconst 4, 1) := dk_7 (dk_at dksX4_eventHere_3 15 rfl rfl)
theorem dX4_eventHere_87 : decode cX4_eventHere 87 = .ok (.goto 4, 3) := dk_167 0 4 (dk_at dksX4_eventHere_3 16 rfl rfl)
theorem dX4_eventHere_90 : decode cX4_eventHere 90 = .ok (.iconst (-1), 1) := dk_2 (dk_at dksX4_eventHere_3 19 rfl rfl)
theorem dX4_eventHere_91 : decode cX4_eventHere 91 = .ok (.ireturn, 1) := dk_172 (dk_at dksX4_eventHere_3 20 rfl rfl)
abbrev cX4_fault : ByteArray := prog_16_method_24_code
def yX4_fault : MethodName := ⟨RX4, "fault", "()I"⟩
def dkwX4_fault_0 : List UInt8 := [42, 3, 181, 0, 94, 42, 180, 0, 9, 172]
abbrev dktX4_fault_0 : List UInt8 := dkwX4_fault_0 ++ []
theorem dksX4_fault_0 : cX4_fault.data.toList.drop 0 = dktX4_fault_0 := by decide +kernel
theorem dX4_fault_0 : decode cX4_fault 0 = .ok (.aload_n 0, 1) := dk_42 (dk_at dksX4_fault_0 0 rfl rfl)
theorem dX4_fault_1 : decode cX4_fault 1 = .ok (.iconst 0, 1) := dk_3 (dk_at dksX4_fault_0 1 rfl rfl)
theorem dX4_fault_2 : decode cX4_fault 2 = .ok (.putfield 94, 3) := dk_181 0 94 (dk_at dksX4_fault_0 2 rfl rfl)
theorem dX4_fault_5 : decode cX4_fault 5 = .ok (.aload_n 0, 1) := dk_42 (dk_at dksX4_fault_0 5 rfl rfl)
theorem dX4_fault_6 : decode cX4_fault 6 = .ok (.getfield 9, 3) := dk_180 0 9 (dk_at dksX4_fault_0 6 rfl rfl)
theorem dX4_fault_9 : decode cX4_fault 9 = .ok (.ireturn, 1) := dk_172 (dk_at dksX4_fault_0 9 rfl rfl)
abbrev cX4_sheds : ByteArray := prog_16_method_25_code
def yX4_sheds : MethodName := ⟨RX4, "sheds", "(II)I"⟩
def dkwX4_sheds_2 : List UInt8 := [46, 172]
abbrev dktX4_sheds_2 : List UInt8 := dkwX4_sheds_2 ++ []
def dkwX4_sheds_1 : List UInt8 := [154, 0, 7, 4, 167, 0, 4, 3, 4, 182, 0, 170, 153, 0, 5, 3, 172, 42, 180, 0, 22, 27, 50, 28]
abbrev dktX4_sheds_1 : List UInt8 := dkwX4_sheds_1 ++ dktX4_sheds_2
def dkwX4_sheds_0 : List UInt8 := [42, 3, 181, 0, 94, 42, 27, 3, 16, 7, 184, 0, 128, 153, 0, 13, 28, 3, 16, 9, 184, 0, 128]
abbrev dktX4_sheds_0 : List UInt8 := dkwX4_sheds_0 ++ dktX4_sheds_1
theorem dksX4_sheds_0 : cX4_sheds.data.toList.drop 0 = dktX4_sheds_0 := by decide +kernel
theorem dksX4_sheds_1 : cX4_sheds.data.toList.drop 23 = dktX4_sheds_1 := dk_seg dksX4_sheds_0 23 rfl rfl
theorem dksX4_sheds_2 : cX4_sheds.data.toList.drop 47 = dktX4_sheds_2 := dk_seg dksX4_sheds_1 24 rfl rfl
theorem dX4_sheds_0 : decode cX4_sheds 0 = .ok (.aload_n 0, 1) := dk_42 (dk_at dksX4_sheds_0 0 rfl rfl)
theorem dX4_sheds_1 : decode cX4_sheds 1 = .ok (.iconst 0, 1) := dk_3 (dk_at dksX4_sheds_0 1 rfl rfl)
theorem dX4_sheds_2 : decode cX4_sheds 2 = .ok (.putfield 94, 3) := dk_181 0 94 (dk_at dksX4_sheds_0 2 rfl rfl)
theorem dX4_sheds_5 : decode cX4_sheds 5 = .ok (.aload_n 0, 1) := dk_42 (dk_at dksX4_sheds_0 5 rfl rfl)
theorem dX4_sheds_6 : decode cX4_sheds 6 = .ok (.iload_n 1, 1) := dk_27 (dk_at dksX4_sheds_0 6 rfl rfl)
theorem dX4_sheds_7 : decode cX4_sheds 7 = .ok (.iconst 0, 1) := dk_3 (dk_at dksX4_sheds_0 7 rfl rfl)
theorem dX4_sheds_8 : decode cX4_sheds 8 = .ok (.bipush 7, 2) := dk_16 7 (dk_at dksX4_sheds_0 8 rfl rfl)
theorem dX4_sheds_10 : decode cX4_sheds 10 = .ok (.invokestatic 128, 3) := dk_184 0 128 (dk_at dksX4_sheds_0 10 rfl rfl)
theorem dX4_sheds_13 : decode cX4_sheds 13 = .ok (.ifCond .eq 13, 3) := dk_153 0 13 (dk_at dksX4_sheds_0 13 rfl rfl)
theorem dX4_sheds_16 : decode cX4_sheds 16 = .ok (.iload_n 2, 1) := dk_28 (dk_at dksX4_sheds_0 16 rfl rfl)
theorem dX4_sheds_17 : decode cX4_sheds 17 = .ok (.iconst 0, 1) := dk_3 (dk_at dksX4_sheds_0 17 rfl rfl)
theorem dX4_sheds_18 : decode cX4_sheds 18 = .ok (.bipush 9, 2) := dk_16 9 (dk_at dksX4_sheds_0 18 rfl rfl)
theorem dX4_sheds_20 : decode cX4_sheds 20 = .ok (.invokestatic 128, 3) := dk_184 0 128 (dk_at dksX4_sheds_0 20 rfl rfl)
theorem dX4_sheds_23 : decode cX4_sheds 23 = .ok (.ifCond .ne 7, 3) := dk_154 0 7 (dk_at dksX4_sheds_1 0 rfl rfl)
theorem dX4_sheds_26 : decode cX4_sheds 26 = .ok (.iconst 1, 1) := dk_4 (dk_at dksX4_sheds_1 3 rfl rfl)
theorem dX4_sheds_27 : decode cX4_sheds 27 = .ok (.goto 4, 3) := dk_167 0 4 (dk_at dksX4_sheds_1 4 rfl rfl)
theorem dX4_sheds_30 : decode cX4_sheds 30 = .ok (.iconst 0, 1) := dk_3 (dk_at dksX4_sheds_1 7 rfl rfl)
theorem dX4_sheds_31 : decode cX4_sheds 31 = .ok (.iconst 1, 1) := dk_4 (dk_at dksX4_sheds_1 8 rfl rfl)
theorem dX4_sheds_32 : decode cX4_sheds 32 = .ok (.invokevirtual 170, 3) := dk_182 0 170 (dk_at dksX4_sheds_1 9 rfl rfl)
theorem dX4_sheds_35 : decode cX4_sheds 35 = .ok (.ifCond .eq 5, 3) := dk_153 0 5 (dk_at dksX4_sheds_1 12 rfl rfl)
theorem dX4_sheds_38 : decode cX4_sheds 38 = .ok (.iconst 0, 1) := dk_3 (dk_at dksX4_sheds_1 15 rfl rfl)
theorem dX4_sheds_39 : decode cX4_sheds 39 = .ok (.ireturn, 1) := dk_172 (dk_at dksX4_sheds_1 16 rfl rfl)
theorem dX4_sheds_40 : decode cX4_sheds 40 = .ok (.aload_n 0, 1) := dk_42 (dk_at dksX4_sheds_1 17 rfl rfl)
theorem dX4_sheds_41 : decode cX4_sheds 41 = .ok (.getfield 22, 3) := dk_180 0 22 (dk_at dksX4_sheds_1 18 rfl rfl)
theorem dX4_sheds_44 : decode cX4_sheds 44 = .ok (.iload_n 1, 1) := dk_27 (dk_at dksX4_sheds_1 21 rfl rfl)
theorem dX4_sheds_45 : decode cX4_sheds 45 = .ok (.aaload, 1) := dk_50 (dk_at dksX4_sheds_1 22 rfl rfl)
theorem dX4_sheds_46 : decode cX4_sheds 46 = .ok (.iload_n 2, 1) := dk_28 (dk_at dksX4_sheds_1 23 rfl rfl)
theorem dX4_sheds_47 : decode cX4_sheds 47 = .ok (.iaload, 1) := dk_46 (dk_at dksX4_sheds_2 0 rfl rfl)
theorem dX4_sheds_48 : decode cX4_sheds 48 = .ok (.ireturn, 1) := dk_172 (dk_at dksX4_sheds_2 1 rfl rfl)
abbrev cX4_told : ByteArray := prog_16_method_26_code
def yX4_told : MethodName := ⟨RX4, "told", "(II)I"⟩
def dkwX4_told_4 : List UInt8 := [180, 0, 17, 172]
abbrev dktX4_told_4 : List UInt8 := dkwX4_told_4 ++ []
def dkwX4_told_3 : List UInt8 := [160, 0, 10, 42, 180, 0, 183, 167, 0, 19, 28, 6, 160, 0, 10, 42, 180, 0, 186, 167, 0, 7, 42]
abbrev dktX4_told_3 : List UInt8 := dkwX4_told_3 ++ dktX4_told_4
def dkwX4_told_2 : List UInt8 := [180, 0, 25, 27, 46, 167, 0, 45, 28, 4, 160, 0, 12, 42, 180, 0, 28, 27, 46, 167, 0, 31, 28, 5]
abbrev dktX4_told_2 : List UInt8 := dkwX4_told_2 ++ dktX4_told_3
def dkwX4_told_1 : List UInt8 := [154, 0, 7, 4, 167, 0, 4, 3, 4, 182, 0, 170, 153, 0, 5, 3, 172, 28, 154, 0, 12, 42]
abbrev dktX4_told_1 : List UInt8 := dkwX4_told_1 ++ dktX4_told_2
def dkwX4_told_0 : List UInt8 := [42, 3, 181, 0, 94, 42, 27, 3, 16, 9, 184, 0, 128, 153, 0, 12, 28, 3, 7, 184, 0, 128]
abbrev dktX4_told_0 : List UInt8 := dkwX4_told_0 ++ dktX4_told_1
theorem dksX4_told_0 : cX4_told.data.toList.drop 0 = dktX4_told_0 := by decide +kernel
theorem dksX4_told_1 : cX4_told.data.toList.drop 22 = dktX4_told_1 := dk_seg dksX4_told_0 22 rfl rfl
theorem dksX4_told_2 : cX4_told.data.toList.drop 44 = dktX4_told_2 := dk_seg dksX4_told_1 22 rfl rfl
theorem dksX4_told_3 : cX4_told.data.toList.drop 68 = dktX4_told_3 := dk_seg dksX4_told_2 24 rfl rfl
theorem dksX4_told_4 : cX4_told.data.toList.drop 91 = dktX4_told_4 := dk_seg dksX4_told_3 23 rfl rfl
theorem dX4_told_0 : decode cX4_told 0 = .ok (.aload_n 0, 1) := dk_42 (dk_at dksX4_told_0 0 rfl rfl)
theorem dX4_told_1 : decode cX4_told 1 = .ok (.iconst 0, 1) := dk_3 (dk_at dksX4_told_0 1 rfl rfl)
theorem dX4_told_2 : decode cX4_told 2 = .ok (.putfield 94, 3) := dk_181 0 94 (dk_at dksX4_told_0 2 rfl rfl)
theorem dX4_told_5 : decode cX4_told 5 = .ok (.aload_n 0, 1) := dk_42 (dk_at dksX4_told_0 5 rfl rfl)
theorem dX4_told_6 : decode cX4_told 6 = .ok (.iload_n 1, 1) := dk_27 (dk_at dksX4_told_0 6 rfl rfl)
theorem dX4_told_7 : decode cX4_told 7 = .ok (.iconst 0, 1) := dk_3 (dk_at dksX4_told_0 7 rfl rfl)
theorem dX4_told_8 : decode cX4_told 8 = .ok (.bipush 9, 2) := dk_16 9 (dk_at dksX4_told_0 8 rfl rfl)
theorem dX4_told_10 : decode cX4_told 10 = .ok (.invokestatic 128, 3) := dk_184 0 128 (dk_at dksX4_told_0 10 rfl rfl)
theorem dX4_told_13 : decode cX4_told 13 = .ok (.ifCond .eq 12, 3) := dk_153 0 12 (dk_at dksX4_told_0 13 rfl rfl)
theorem dX4_told_16 : decode cX4_told 16 = .ok (.iload_n 2, 1) := dk_28 (dk_at dksX4_told_0 16 rfl rfl)
theorem dX4_told_17 : decode cX4_told 17 = .ok (.iconst 0, 1) := dk_3 (dk_at dksX4_told_0 17 rfl rfl)
theorem dX4_told_18 : decode cX4_told 18 = .ok (.iconst 4, 1) := dk_7 (dk_at dksX4_told_0 18 rfl rfl)
theorem dX4_told_19 : decode cX4_told 19 = .ok (.invokestatic 128, 3) := dk_184 0 128 (dk_at dksX4_told_0 19 rfl rfl)
theorem dX4_told_22 : decode cX4_told 22 = .ok (.ifCond .ne 7, 3) := dk_154 0 7 (dk_at dksX4_told_1 0 rfl rfl)
theorem dX4_told_25 : decode cX4_told 25 = .ok (.iconst 1, 1) := dk_4 (dk_at dksX4_told_1 3 rfl rfl)
theorem dX4_told_26 : decode cX4_told 26 = .ok (.goto 4, 3) := dk_167 0 4 (dk_at dksX4_told_1 4 rfl rfl)
theorem dX4_told_29 : decode cX4_told 29 = .ok (.iconst 0, 1) := dk_3 (dk_at dksX4_told_1 7 rfl rfl)
theorem dX4_told_30 : decode cX4_told 30 = .ok (.iconst 1, 1) := dk_4 (dk_at dksX4_told_1 8 rfl rfl)
theorem dX4_told_31 : decode cX4_told 31 = .ok (.invokevirtual 170, 3) := dk_182 0 170 (dk_at dksX4_told_1 9 rfl rfl)
theorem dX4_told_34 : decode cX4_told 34 = .ok (.ifCond .eq 5, 3) := dk_153 0 5 (dk_at dksX4_told_1 12 rfl rfl)
theorem dX4_told_37 : decode cX4_told 37 = .ok (.iconst 0, 1) := dk_3 (dk_at dksX4_told_1 15 rfl rfl)
theorem dX4_told_38 : decode cX4_told 38 = .ok (.ireturn, 1) := dk_172 (dk_at dksX4_told_1 16 rfl rfl)
theorem dX4_told_39 : decode cX4_told 39 = .ok (.iload_n 2, 1) := dk_28 (dk_at dksX4_told_1 17 rfl rfl)
theorem dX4_told_40 : decode cX4_told 40 = .ok (.ifCond .ne 12, 3) := dk_154 0 12 (dk_at dksX4_told_1 18 rfl rfl)
theorem dX4_told_43 : decode cX4_told 43 = .ok (.aload_n 0, 1) := dk_42 (dk_at dksX4_told_1 21 rfl rfl)
theorem dX4_told_44 : decode cX4_told 44 = .ok (.getfield 25, 3) := dk_180 0 25 (dk_at dksX4_told_2 0 rfl rfl)
theorem dX4_told_47 : decode cX4_told 47 = .ok (.iload_n 1, 1) := dk_27 (dk_at dksX4_told_2 3 rfl rfl)
theorem dX4_told_48 : decode cX4_told 48 = .ok (.iaload, 1) := dk_46 (dk_at dksX4_told_2 4 rfl rfl)
theorem dX4_told_49 : decode cX4_told 49 = .ok (.goto 45, 3) := dk_167 0 45 (dk_at dksX4_told_2 5 rfl rfl)
theorem dX4_told_52 : decode cX4_told 52 = .ok (.iload_n 2, 1) := dk_28 (dk_at dksX4_told_2 8 rfl rfl)
theorem dX4_told_53 : decode cX4_told 53 = .ok (.iconst 1, 1) := dk_4 (dk_at dksX4_told_2 9 rfl rfl)
theorem dX4_told_54 : decode cX4_told 54 = .ok (.if_icmp .ne 12, 3) := dk_160 0 12 (dk_at dksX4_told_2 10 rfl rfl)
theorem dX4_told_57 : decode cX4_told 57 = .ok (.aload_n 0, 1) := dk_42 (dk_at dksX4_told_2 13 rfl rfl)
theorem dX4_told_58 : decode cX4_told 58 = .ok (.getfield 28, 3) := dk_180 0 28 (dk_at dksX4_told_2 14 rfl rfl)
theorem dX4_told_61 : decode cX4_told 61 = .ok (.iload_n 1, 1) := dk_27 (dk_at dksX4_told_2 17 rfl rfl)
theorem dX4_told_62 : decode cX4_told 62 = .ok (.iaload, 1) := dk_46 (dk_at dksX4_told_2 18 rfl rfl)
theorem dX4_told_63 : decode cX4_told 63 = .ok (.goto 31, 3) := dk_167 0 31 (dk_at dksX4_told_2 19 rfl rfl)
theorem dX4_told_66 : decode cX4_told 66 = .ok (.iload_n 2, 1) := dk_28 (dk_at dksX4_told_2 22 rfl rfl)
theorem dX4_told_67 : decode cX4_told 67 = .ok (.iconst 2, 1) := dk_5 (dk_at dksX4_told_2 23 rfl rfl)
theorem dX4_told_68 : decode cX4_told 68 = .ok (.if_icmp .ne 10, 3) := dk_160 0 10 (dk_at dksX4_told_3 0 rfl rfl)
theorem dX4_told_71 : decode cX4_told 71 = .ok (.aload_n 0, 1) := dk_42 (dk_at dksX4_told_3 3 rfl rfl)
theorem dX4_told_72 : decode cX4_told 72 = .ok (.getfield 183, 3) := dk_180 0 183 (dk_at dksX4_told_3 4 rfl rfl)
theorem dX4_told_75 : decode cX4_told 75 = .ok (.goto 19, 3) := dk_167 0 19 (dk_at dksX4_told_3 7 rfl rfl)
theorem dX4_told_78 : decode cX4_told 78 = .ok (.iload_n 2, 1) := dk_28 (dk_at dksX4_told_3 10 rfl rfl)
theorem dX4_told_79 : decode cX4_told 79 = .ok (.iconst 3, 1) := dk_6 (dk_at dksX4_told_3 11 rfl rfl)
theorem dX4_told_80 : decode cX4_told 80 = .ok (.if_icmp .ne 10, 3) := dk_160 0 10 (dk_at dksX4_told_3 12 rfl rfl)
theorem dX4_told_83 : decode cX4_told 83 = .ok (.aload_n 0, 1) := dk_42 (dk_at dksX4_told_3 15 rfl rfl)
theorem dX4_told_84 : decode cX4_told 84 = .ok (.getfield 186, 3) := dk_180 0 186 (dk_at dksX4_told_3 16 rfl rfl)
theorem dX4_told_87 : decode cX4_told 87 = .ok (.goto 7, 3) := dk_167 0 7 (dk_at dksX4_told_3 19 rfl rfl)
theorem dX4_told_90 : decode cX4_told 90 = .ok (.aload_n 0, 1) := dk_42 (dk_at dksX4_told_3 22 rfl rfl)
theorem dX4_told_91 : decode cX4_told 91 = .ok (.getfield 17, 3) := dk_180 0 17 (dk_at dksX4_told_4 0 rfl rfl)
theorem dX4_told_94 : decode cX4_told 94 = .ok (.ireturn, 1) := dk_172 (dk_at dksX4_told_4 3 rfl rfl)
abbrev cX4_alike : ByteArray := prog_16_method_28_code
def yX4_alike : MethodName := ⟨RX4, "alike", "(I)I"⟩
def dkwX4_alike_1 : List UInt8 := [182, 0, 170, 153, 0, 5, 3, 172, 42, 27, 182, 0, 202, 172]
abbrev dktX4_alike_1 : List UInt8 := dkwX4_alike_1 ++ []
def dkwX4_alike_0 : List UInt8 := [42, 3, 181, 0, 94, 42, 27, 3, 16, 9, 184, 0, 128, 154, 0, 7, 4, 167, 0, 4, 3, 4]
abbrev dktX4_alike_0 : List UInt8 := dkwX4_alike_0 ++ dktX4_alike_1
theorem dksX4_alike_0 : cX4_alike.data.toList.drop 0 = dktX4_alike_0 := by decide +kernel
theorem dksX4_alike_1 : cX4_alike.data.toList.drop 22 = dktX4_alike_1 := dk_seg dksX4_alike_0 22 rfl rfl
theorem dX4_alike_0 : decode cX4_alike 0 = .ok (.aload_n 0, 1) := dk_42 (dk_at dksX4_alike_0 0 rfl rfl)
theorem dX4_alike_1 : decode cX4_alike 1 = .ok (.iconst 0, 1) := dk_3 (dk_at dksX4_alike_0 1 rfl rfl)
theorem dX4_alike_2 : decode cX4_alike 2 = .ok (.putfield 94, 3) := dk_181 0 94 (dk_at dksX4_alike_0 2 rfl rfl)
theorem dX4_alike_5 : decode cX4_alike 5 = .ok (.aload_n 0, 1) := dk_42 (dk_at dksX4_alike_0 5 rfl rfl)
theorem dX4_alike_6 : decode cX4_alike 6 = .ok (.iload_n 1, 1) := dk_27 (dk_at dksX4_alike_0 6 rfl rfl)
theorem dX4_alike_7 : decode cX4_alike 7 = .ok (.iconst 0, 1) := dk_3 (dk_at dksX4_alike_0 7 rfl rfl)
theorem dX4_alike_8 : decode cX4_alike 8 = .ok (.bipush 9, 2) := dk_16 9 (dk_at dksX4_alike_0 8 rfl rfl)
theorem dX4_alike_10 : decode cX4_alike 10 = .ok (.invokestatic 128, 3) := dk_184 0 128 (dk_at dksX4_alike_0 10 rfl rfl)
theorem dX4_alike_13 : decode cX4_alike 13 = .ok (.ifCond .ne 7, 3) := dk_154 0 7 (dk_at dksX4_alike_0 13 rfl rfl)
theorem dX4_alike_16 : decode cX4_alike 16 = .ok (.iconst 1, 1) := dk_4 (dk_at dksX4_alike_0 16 rfl rfl)
theorem dX4_alike_17 : decode cX4_alike 17 = .ok (.goto 4, 3) := dk_167 0 4 (dk_at dksX4_alike_0 17 rfl rfl)
theorem dX4_alike_20 : decode cX4_alike 20 = .ok (.iconst 0, 1) := dk_3 (dk_at dksX4_alike_0 20 rfl rfl)
theorem dX4_alike_21 : decode cX4_alike 21 = .ok (.iconst 1, 1) := dk_4 (dk_at dksX4_alike_0 21 rfl rfl)
theorem dX4_alike_22 : decode cX4_alike 22 = .ok (.invokevirtual 170, 3) := dk_182 0 170 (dk_at dksX4_alike_1 0 rfl rfl)
theorem dX4_alike_25 : decode cX4_alike 25 = .ok (.ifCond .eq 5, 3) := dk_153 0 5 (dk_at dksX4_alike_1 3 rfl rfl)
theorem dX4_alike_28 : decode cX4_alike 28 = .ok (.iconst 0, 1) := dk_3 (dk_at dksX4_alike_1 6 rfl rfl)
theorem dX4_alike_29 : decode cX4_alike 29 = .ok (.ireturn, 1) := dk_172 (dk_at dksX4_alike_1 7 rfl rfl)
theorem dX4_alike_30 : decode cX4_alike 30 = .ok (.aload_n 0, 1) := dk_42 (dk_at dksX4_alike_1 8 rfl rfl)
theorem dX4_alike_31 : decode cX4_alike 31 = .ok (.iload_n 1, 1) := dk_27 (dk_at dksX4_alike_1 9 rfl rfl)
theorem dX4_alike_32 : decode cX4_alike 32 = .ok (.invokevirtual 202, 3) := dk_182 0 202 (dk_at dksX4_alike_1 10 rfl rfl)
theorem dX4_alike_35 : decode cX4_alike 35 = .ok (.ireturn, 1) := dk_172 (dk_at dksX4_alike_1 13 rfl rfl)
abbrev cX4_alikeOf : ByteArray := prog_16_method_27_code
def yX4_alikeOf : MethodName := ⟨RX4, "alikeOf", "(I)I"⟩
def dkwX4_alikeOf_2 : List UInt8 := [167, 255, 226, 167, 255, 213, 28, 172]
abbrev dktX4_alikeOf_2 : List UInt8 := dkwX4_alikeOf_2 ++ []
def dkwX4_alikeOf_1 : List UInt8 := [21, 4, 122, 4, 126, 4, 160, 0, 13, 28, 42, 180, 0, 31, 21, 4, 46, 128, 61, 132, 4, 1]
abbrev dktX4_alikeOf_1 : List UInt8 := dkwX4_alikeOf_1 ++ dktX4_alikeOf_2
def dkwX4_alikeOf_0 : List UInt8 := [4, 27, 120, 61, 3, 62, 28, 29, 159, 0, 44, 28, 62, 3, 54, 4, 21, 4, 16, 10, 162, 0, 29, 29]
abbrev dktX4_alikeOf_0 : List UInt8 := dkwX4_alikeOf_0 ++ dktX4_alikeOf_1
theorem dksX4_alikeOf_0 : cX4_alikeOf.data.toList.drop 0 = dktX4_alikeOf_0 := by decide +kernel
theorem dksX4_alikeOf_1 : cX4_alikeOf.data.toList.drop 24 = dktX4_alikeOf_1 := dk_seg dksX4_alikeOf_0 24 rfl rfl
theorem dksX4_alikeOf_2 : cX4_alikeOf.data.toList.drop 46 = dktX4_alikeOf_2 := dk_seg dksX4_alikeOf_1 22 rfl rfl
theorem dX4_alikeOf_0 : decode cX4_alikeOf 0 = .ok (.iconst 1, 1) := dk_4 (dk_at dksX4_alikeOf_0 0 rfl rfl)
theorem dX4_alikeOf_1 : decode cX4_alikeOf 1 = .ok (.iload_n 1, 1) := dk_27 (dk_at dksX4_alikeOf_0 1 rfl rfl)
theorem dX4_alikeOf_2 : decode cX4_alikeOf 2 = .ok (.ishl, 1) := dk_120 (dk_at dksX4_alikeOf_0 2 rfl rfl)
theorem dX4_alikeOf_3 : decode cX4_alikeOf 3 = .ok (.istore_n 2, 1) := dk_61 (dk_at dksX4_alikeOf_0 3 rfl rfl)
theorem dX4_alikeOf_4 : decode cX4_alikeOf 4 = .ok (.iconst 0, 1) := dk_3 (dk_at dksX4_alikeOf_0 4 rfl rfl)
theorem dX4_alikeOf_5 : decode cX4_alikeOf 5 = .ok (.istore_n 3, 1) := dk_62 (dk_at dksX4_alikeOf_0 5 rfl rfl)
theorem dX4_alikeOf_6 : decode cX4_alikeOf 6 = .ok (.iload_n 2, 1) := dk_28 (dk_at dksX4_alikeOf_0 6 rfl rfl)
theorem dX4_alikeOf_7 : decode cX4_alikeOf 7 = .ok (.iload_n 3, 1) := dk_29 (dk_at dksX4_alikeOf_0 7 rfl rfl)
theorem dX4_alikeOf_8 : decode cX4_alikeOf 8 = .ok (.if_icmp .eq 44, 3) := dk_159 0 44 (dk_at dksX4_alikeOf_0 8 rfl rfl)
theorem dX4_alikeOf_11 : decode cX4_alikeOf 11 = .ok (.iload_n 2, 1) := dk_28 (dk_at dksX4_alikeOf_0 11 rfl rfl)
theorem dX4_alikeOf_12 : decode cX4_alikeOf 12 = .ok (.istore_n 3, 1) := dk_62 (dk_at dksX4_alikeOf_0 12 rfl rfl)
theorem dX4_alikeOf_13 : decode cX4_alikeOf 13 = .ok (.iconst 0, 1) := dk_3 (dk_at dksX4_alikeOf_0 13 rfl rfl)
theorem dX4_alikeOf_14 : decode cX4_alikeOf 14 = .ok (.istore 4, 2) := dk_54 4 (dk_at dksX4_alikeOf_0 14 rfl rfl)
theorem dX4_alikeOf_16 : decode cX4_alikeOf 16 = .ok (.iload 4, 2) := dk_21 4 (dk_at dksX4_alikeOf_0 16 rfl rfl)
theorem dX4_alikeOf_18 : decode cX4_alikeOf 18 = .ok (.bipush 10, 2) := dk_16 10 (dk_at dksX4_alikeOf_0 18 rfl rfl)
theorem dX4_alikeOf_20 : decode cX4_alikeOf 20 = .ok (.if_icmp .ge 29, 3) := dk_162 0 29 (dk_at dksX4_alikeOf_0 20 rfl rfl)
theorem dX4_alikeOf_23 : decode cX4_alikeOf 23 = .ok (.iload_n 3, 1) := dk_29 (dk_at dksX4_alikeOf_0 23 rfl rfl)
theorem dX4_alikeOf_24 : decode cX4_alikeOf 24 = .ok (.iload 4, 2) := dk_21 4 (dk_at dksX4_alikeOf_1 0 rfl rfl)
theorem dX4_alikeOf_26 : decode cX4_alikeOf 26 = .ok (.ishr, 1) := dk_122 (dk_at dksX4_alikeOf_1 2 rfl rfl)
theorem dX4_alikeOf_27 : decode cX4_alikeOf 27 = .ok (.iconst 1, 1) := dk_4 (dk_at dksX4_alikeOf_1 3 rfl rfl)
theorem dX4_alikeOf_28 : decode cX4_alikeOf 28 = .ok (.iand, 1) := dk_126 (dk_at dksX4_alikeOf_1 4 rfl rfl)
theorem dX4_alikeOf_29 : decode cX4_alikeOf 29 = .ok (.iconst 1, 1) := dk_4 (dk_at dksX4_alikeOf_1 5 rfl rfl)
theorem dX4_alikeOf_30 : decode cX4_alikeOf 30 = .ok (.if_icmp .ne 13, 3) := dk_160 0 13 (dk_at dksX4_alikeOf_1 6 rfl rfl)
theorem dX4_alikeOf_33 : decode cX4_alikeOf 33 = .ok (.iload_n 2, 1) := dk_28 (dk_at dksX4_alikeOf_1 9 rfl rfl)
theorem dX4_alikeOf_34 : decode cX4_alikeOf 34 = .ok (.aload_n 0, 1) := dk_42 (dk_at dksX4_alikeOf_1 10 rfl rfl)
theorem dX4_alikeOf_35 : decode cX4_alikeOf 35 = .ok (.getfield 31, 3) := dk_180 0 31 (dk_at dksX4_alikeOf_1 11 rfl rfl)
theorem dX4_alikeOf_38 : decode cX4_alikeOf 38 = .ok (.iload 4, 2) := dk_21 4 (dk_at dksX4_alikeOf_1 14 rfl rfl)
theorem dX4_alikeOf_40 : decode cX4_alikeOf 40 = .ok (.iaload, 1) := dk_46 (dk_at dksX4_alikeOf_1 16 rfl rfl)
theorem dX4_alikeOf_41 : decode cX4_alikeOf 41 = .ok (.ior, 1) := dk_128 (dk_at dksX4_alikeOf_1 17 rfl rfl)
theorem dX4_alikeOf_42 : decode cX4_alikeOf 42 = .ok (.istore_n 2, 1) := dk_61 (dk_at dksX4_alikeOf_1 18 rfl rfl)
theorem dX4_alikeOf_43 : decode cX4_alikeOf 43 = .ok (.iinc 4 1, 3) := dk_132 4 1 (dk_at dksX4_alikeOf_1 19 rfl rfl)
theorem dX4_alikeOf_46 : decode cX4_alikeOf 46 = .ok (.goto (-30), 3) := dk_167 255 226 (dk_at dksX4_alikeOf_2 0 rfl rfl)
theorem dX4_alikeOf_49 : decode cX4_alikeOf 49 = .ok (.goto (-43), 3) := dk_167 255 213 (dk_at dksX4_alikeOf_2 3 rfl rfl)
theorem dX4_alikeOf_52 : decode cX4_alikeOf 52 = .ok (.iload_n 2, 1) := dk_28 (dk_at dksX4_alikeOf_2 6 rfl rfl)
theorem dX4_alikeOf_53 : decode cX4_alikeOf 53 = .ok (.ireturn, 1) := dk_172 (dk_at dksX4_alikeOf_2 7 rfl rfl)
abbrev cX4_lies : ByteArray := prog_16_method_38_code
def yX4_lies : MethodName := ⟨RX4, "lies", "(IIII)I"⟩
def dkwX4_lies_2 : List UInt8 := [42, 180, 0, 76, 28, 50, 29, 46, 172]
abbrev dktX4_lies_2 : List UInt8 := dkwX4_lies_2 ++ []
def dkwX4_lies_1 : List UInt8 := [154, 0, 15, 42, 28, 29, 21, 4, 5, 182, 0, 238, 153, 0, 5, 3, 172, 42, 27, 21, 4, 182, 0, 241]
abbrev dktX4_lies_1 : List UInt8 := dkwX4_lies_1 ++ dktX4_lies_2
def dkwX4_lies_0 : List UInt8 := [42, 3, 181, 0, 94, 42, 42, 27, 182, 0, 235, 154, 0, 7, 4, 167, 0, 4, 3, 4, 182, 0, 170]
abbrev dktX4_lies_0 : List UInt8 := dkwX4_lies_0 ++ dktX4_lies_1
theorem dksX4_lies_0 : cX4_lies.data.toList.drop 0 = dktX4_lies_0 := by decide +kernel
theorem dksX4_lies_1 : cX4_lies.data.toList.drop 23 = dktX4_lies_1 := dk_seg dksX4_lies_0 23 rfl rfl
theorem dksX4_lies_2 : cX4_lies.data.toList.drop 47 = dktX4_lies_2 := dk_seg dksX4_lies_1 24 rfl rfl
theorem dX4_lies_0 : decode cX4_lies 0 = .ok (.aload_n 0, 1) := dk_42 (dk_at dksX4_lies_0 0 rfl rfl)
theorem dX4_lies_1 : decode cX4_lies 1 = .ok (.iconst 0, 1) := dk_3 (dk_at dksX4_lies_0 1 rfl rfl)
theorem dX4_lies_2 : decode cX4_lies 2 = .ok (.putfield 94, 3) := dk_181 0 94 (dk_at dksX4_lies_0 2 rfl rfl)
theorem dX4_lies_5 : decode cX4_lies 5 = .ok (.aload_n 0, 1) := dk_42 (dk_at dksX4_lies_0 5 rfl rfl)
theorem dX4_lies_6 : decode cX4_lies 6 = .ok (.aload_n 0, 1) := dk_42 (dk_at dksX4_lies_0 6 rfl rfl)
theorem dX4_lies_7 : decode cX4_lies 7 = .ok (.iload_n 1, 1) := dk_27 (dk_at dksX4_lies_0 7 rfl rfl)
theorem dX4_lies_8 : decode cX4_lies 8 = .ok (.invokevirtual 235, 3) := dk_182 0 235 (dk_at dksX4_lies_0 8 rfl rfl)
theorem dX4_lies_11 : decode cX4_lies 11 = .ok (.ifCond .ne 7, 3) := dk_154 0 7 (dk_at dksX4_lies_0 11 rfl rfl)
theorem dX4_lies_14 : decode cX4_lies 14 = .ok (.iconst 1, 1) := dk_4 (dk_at dksX4_lies_0 14 rfl rfl)
theorem dX4_lies_15 : decode cX4_lies 15 = .ok (.goto 4, 3) := dk_167 0 4 (dk_at dksX4_lies_0 15 rfl rfl)
theorem dX4_lies_18 : decode cX4_lies 18 = .ok (.iconst 0, 1) := dk_3 (dk_at dksX4_lies_0 18 rfl rfl)
theorem dX4_lies_19 : decode cX4_lies 19 = .ok (.iconst 1, 1) := dk_4 (dk_at dksX4_lies_0 19 rfl rfl)
theorem dX4_lies_20 : decode cX4_lies 20 = .ok (.invokevirtual 170, 3) := dk_182 0 170 (dk_at dksX4_lies_0 20 rfl rfl)
theorem dX4_lies_23 : decode cX4_lies 23 = .ok (.ifCond .ne 15, 3) := dk_154 0 15 (dk_at dksX4_lies_1 0 rfl rfl)
theorem dX4_lies_26 : decode cX4_lies 26 = .ok (.aload_n 0, 1) := dk_42 (dk_at dksX4_lies_1 3 rfl rfl)
theorem dX4_lies_27 : decode cX4_lies 27 = .ok (.iload_n 2, 1) := dk_28 (dk_at dksX4_lies_1 4 rfl rfl)
theorem dX4_lies_28 : decode cX4_lies 28 = .ok (.iload_n 3, 1) := dk_29 (dk_at dksX4_lies_1 5 rfl rfl)
theorem dX4_lies_29 : decode cX4_lies 29 = .ok (.iload 4, 2) := dk_21 4 (dk_at dksX4_lies_1 6 rfl rfl)
theorem dX4_lies_31 : decode cX4_lies 31 = .ok (.iconst 2, 1) := dk_5 (dk_at dksX4_lies_1 8 rfl rfl)
theorem dX4_lies_32 : decode cX4_lies 32 = .ok (.invokevirtual 238, 3) := dk_182 0 238 (dk_at dksX4_lies_1 9 rfl rfl)
theorem dX4_lies_35 : decode cX4_lies 35 = .ok (.ifCond .eq 5, 3) := dk_153 0 5 (dk_at dksX4_lies_1 12 rfl rfl)
theorem dX4_lies_38 : decode cX4_lies 38 = .ok (.iconst 0, 1) := dk_3 (dk_at dksX4_lies_1 15 rfl rfl)
theorem dX4_lies_39 : decode cX4_lies 39 = .ok (.ireturn, 1) := dk_172 (dk_at dksX4_lies_1 16 rfl rfl)
theorem dX4_lies_40 : decode cX4_lies 40 = .ok (.aload_n 0, 1) := dk_42 (dk_at dksX4_lies_1 17 rfl rfl)
theorem dX4_lies_41 : decode cX4_lies 41 = .ok (.iload_n 1, 1) := dk_27 (dk_at dksX4_lies_1 18 rfl rfl)
theorem dX4_lies_42 : decode cX4_lies 42 = .ok (.iload 4, 2) := dk_21 4 (dk_at dksX4_lies_1 19 rfl rfl)
theorem dX4_lies_44 : decode cX4_lies 44 = .ok (.invokevirtual 241, 3) := dk_182 0 241 (dk_at dksX4_lies_1 21 rfl rfl)
theorem dX4_lies_47 : decode cX4_lies 47 = .ok (.aload_n 0, 1) := dk_42 (dk_at dksX4_lies_2 0 rfl rfl)
theorem dX4_lies_48 : decode cX4_lies 48 = .ok (.getfield 76, 3) := dk_180 0 76 (dk_at dksX4_lies_2 1 rfl rfl)
theorem dX4_lies_51 : decode cX4_lies 51 = .ok (.iload_n 2, 1) := dk_28 (dk_at dksX4_lies_2 4 rfl rfl)
theorem dX4_lies_52 : decode cX4_lies 52 = .ok (.aaload, 1) := dk_50 (dk_at dksX4_lies_2 5 rfl rfl)
theorem dX4_lies_53 : decode cX4_lies 53 = .ok (.iload_n 3, 1) := dk_29 (dk_at dksX4_lies_2 6 rfl rfl)
theorem dX4_lies_54 : decode cX4_lies 54 = .ok (.iaload, 1) := dk_46 (dk_at dksX4_lies_2 7 rfl rfl)
theorem dX4_lies_55 : decode cX4_lies 55 = .ok (.ireturn, 1) := dk_172 (dk_at dksX4_lies_2 8 rfl rfl)
abbrev cX4_isStory : ByteArray := prog_16_method_36_code
def yX4_isStory : MethodName := ⟨RX4, "isStory", "(I)Z"⟩
def dkwX4_isStory_0 : List UInt8 := [27, 3, 42, 180, 0, 196, 4, 100, 184, 0, 128, 172]
abbrev dktX4_isStory_0 : List UInt8 := dkwX4_isStory_0 ++ []
theorem dksX4_isStory_0 : cX4_isStory.data.toList.drop 0 = dktX4_isStory_0 := by decide +kernel
theorem dX4_isStory_0 : decode cX4_isStory 0 = .ok (.iload_n 1, 1) := dk_27 (dk_at dksX4_isStory_0 0 rfl rfl)
theorem dX4_isStory_1 : decode cX4_isStory 1 = .ok (.iconst 0, 1) := dk_3 (dk_at dksX4_isStory_0 1 rfl rfl)
theorem dX4_isStory_2 : decode cX4_isStory 2 = .ok (.aload_n 0, 1) := dk_42 (dk_at dksX4_isStory_0 2 rfl rfl)
theorem dX4_isStory_3 : decode cX4_isStory 3 = .ok (.getfield 196, 3) := dk_180 0 196 (dk_at dksX4_isStory_0 3 rfl rfl)
theorem dX4_isStory_6 : decode cX4_isStory 6 = .ok (.iconst 1, 1) := dk_4 (dk_at dksX4_isStory_0 6 rfl rfl)
theorem dX4_isStory_7 : decode cX4_isStory 7 = .ok (.isub, 1) := dk_100 (dk_at dksX4_isStory_0 7 rfl rfl)
theorem dX4_isStory_8 : decode cX4_isStory 8 = .ok (.invokestatic 128, 3) := dk_184 0 128 (dk_at dksX4_isStory_0 8 rfl rfl)
theorem dX4_isStory_11 : decode cX4_isStory 11 = .ok (.ireturn, 1) := dk_172 (dk_at dksX4_isStory_0 11 rfl rfl)
abbrev cX4_badPlace : ByteArray := prog_16_method_37_code
def yX4_badPlace : MethodName := ⟨RX4, "badPlace", "(IIII)Z"⟩
def dkwX4_badPlace_1 : List UInt8 := [16, 99, 184, 0, 128, 154, 0, 7, 4, 167, 0, 4, 3, 21, 4, 182, 0, 170, 172]
abbrev dktX4_badPlace_1 : List UInt8 := dkwX4_badPlace_1 ++ []
def dkwX4_badPlace_0 : List UInt8 := [42, 27, 3, 16, 9, 184, 0, 128, 153, 0, 23, 28, 3, 16, 9, 184, 0, 128, 153, 0, 13, 29, 3]
abbrev dktX4_badPlace_0 : List UInt8 := dkwX4_badPlace_0 ++ dktX4_badPlace_1
theorem dksX4_badPlace_0 : cX4_badPlace.data.toList.drop 0 = dktX4_badPlace_0 := by decide +kernel
theorem dksX4_badPlace_1 : cX4_badPlace.data.toList.drop 23 = dktX4_badPlace_1 := dk_seg dksX4_badPlace_0 23 rfl rfl
theorem dX4_badPlace_0 : decode cX4_badPlace 0 = .ok (.aload_n 0, 1) := dk_42 (dk_at dksX4_badPlace_0 0 rfl rfl)
theorem dX4_badPlace_1 : decode cX4_badPlace 1 = .ok (.iload_n 1, 1) := dk_27 (dk_at dksX4_badPlace_0 1 rfl rfl)
theorem dX4_badPlace_2 : decode cX4_badPlace 2 = .ok (.iconst 0, 1) := dk_3 (dk_at dksX4_badPlace_0 2 rfl rfl)
theorem dX4_badPlace_3 : decode cX4_badPlace 3 = .ok (.bipush 9, 2) := dk_16 9 (dk_at dksX4_badPlace_0 3 rfl rfl)
theorem dX4_badPlace_5 : decode cX4_badPlace 5 = .ok (.invokestatic 128, 3) := dk_184 0 128 (dk_at dksX4_badPlace_0 5 rfl rfl)
theorem dX4_badPlace_8 : decode cX4_badPlace 8 = .ok (.ifCond .eq 23, 3) := dk_153 0 23 (dk_at dksX4_badPlace_0 8 rfl rfl)
theorem dX4_badPlace_11 : decode cX4_badPlace 11 = .ok (.iload_n 2, 1) := dk_28 (dk_at dksX4_badPlace_0 11 rfl rfl)
theorem dX4_badPlace_12 : decode cX4_badPlace 12 = .ok (.iconst 0, 1) := dk_3 (dk_at dksX4_badPlace_0 12 rfl rfl)
theorem dX4_badPlace_13 : decode cX4_badPlace 13 = .ok (.bipush 9, 2) := dk_16 9 (dk_at dksX4_badPlace_0 13 rfl rfl)
theorem dX4_badPlace_15 : decode cX4_badPlace 15 = .ok (.invokestatic 128, 3) := dk_184 0 128 (dk_at dksX4_badPlace_0 15 rfl rfl)
theorem dX4_badPlace_18 : decode cX4_badPlace 18 = .ok (.ifCond .eq 13, 3) := dk_153 0 13 (dk_at dksX4_badPlace_0 18 rfl rfl)
theorem dX4_badPlace_21 : decode cX4_badPlace 21 = .ok (.iload_n 3, 1) := dk_29 (dk_at dksX4_badPlace_0 21 rfl rfl)
theorem dX4_badPlace_22 : decode cX4_badPlace 22 = .ok (.iconst 0, 1) := dk_3 (dk_at dksX4_badPlace_0 22 rfl rfl)
theorem dX4_badPlace_23 : decode cX4_badPlace 23 = .ok (.bipush 99, 2) := dk_16 99 (dk_at dksX4_badPlace_1 0 rfl rfl)
theorem dX4_badPlace_25 : decode cX4_badPlace 25 = .ok (.invokestatic 128, 3) := dk_184 0 128 (dk_at dksX4_badPlace_1 2 rfl rfl)
theorem dX4_badPlace_28 : decode cX4_badPlace 28 = .ok (.ifCond .ne 7, 3) := dk_154 0 7 (dk_at dksX4_badPlace_1 5 rfl rfl)
theorem dX4_badPlace_31 : decode cX4_badPlace 31 = .ok (.iconst 1, 1) := dk_4 (dk_at dksX4_badPlace_1 8 rfl rfl)
theorem dX4_badPlace_32 : decode cX4_badPlace 32 = .ok (.goto 4, 3) := dk_167 0 4 (dk_at dksX4_badPlace_1 9 rfl rfl)
theorem dX4_badPlace_35 : decode cX4_badPlace 35 = .ok (.iconst 0, 1) := dk_3 (dk_at dksX4_badPlace_1 12 rfl rfl)
theorem dX4_badPlace_36 : decode cX4_badPlace 36 = .ok (.iload 4, 2) := dk_21 4 (dk_at dksX4_badPlace_1 13 rfl rfl)
theorem dX4_badPlace_38 : decode cX4_badPlace 38 = .ok (.invokevirtual 170, 3) := dk_182 0 170 (dk_at dksX4_badPlace_1 15 rfl rfl)
theorem dX4_badPlace_41 : decode cX4_badPlace 41 = .ok (.ireturn, 1) := dk_172 (dk_at dksX4_badPlace_1 18 rfl rfl)
abbrev cX4_runs : ByteArray := prog_16_method_34_code
def yX4_runs : MethodName := ⟨RX4, "runs", "(II)V"⟩
def dkwX4_runs_9 : List UInt8 := [160, 0, 15, 42, 42, 180, 0, 85, 42, 180, 0, 232, 182, 0, 215, 132, 4, 1, 167, 255, 82, 177]
abbrev dktX4_runs_9 : List UInt8 := dkwX4_runs_9 ++ []
def dkwX4_runs_8 : List UInt8 := [50, 182, 0, 225, 132, 3, 1, 167, 255, 191, 42, 180, 0, 85, 2, 159, 0, 24, 42, 180, 0, 229, 21, 4]
abbrev dktX4_runs_8 : List UInt8 := dkwX4_runs_8 ++ dktX4_runs_9
def dkwX4_runs_7 : List UInt8 := [16, 20, 27, 104, 29, 96, 50, 182, 0, 221, 153, 0, 18, 42, 42, 180, 0, 49, 16, 20, 27, 104, 29, 96]
abbrev dktX4_runs_7 : List UInt8 := dkwX4_runs_7 ++ dktX4_runs_8
def dkwX4_runs_6 : List UInt8 := [180, 0, 49, 16, 20, 27, 104, 29, 96, 50, 6, 46, 21, 4, 160, 0, 43, 42, 29, 42, 180, 0, 49]
abbrev dktX4_runs_6 : List UInt8 := dkwX4_runs_6 ++ dktX4_runs_7
def dkwX4_runs_5 : List UInt8 := [132, 6, 1, 167, 255, 215, 132, 5, 1, 167, 255, 194, 29, 42, 180, 0, 46, 27, 46, 162, 0, 61, 42]
abbrev dktX4_runs_5 : List UInt8 := dkwX4_runs_5 ++ dktX4_runs_6
def dkwX4_runs_4 : List UInt8 := [42, 180, 0, 76, 21, 5, 50, 21, 6, 46, 42, 180, 0, 25, 21, 6, 46, 104, 16, 16, 108, 79]
abbrev dktX4_runs_4 : List UInt8 := dkwX4_runs_4 ++ dktX4_runs_5
def dkwX4_runs_3 : List UInt8 := [21, 4, 158, 0, 56, 3, 54, 6, 21, 6, 16, 10, 162, 0, 40, 42, 180, 0, 76, 21, 5, 50, 21, 6]
abbrev dktX4_runs_3 : List UInt8 := dkwX4_runs_3 ++ dktX4_runs_4
def dkwX4_runs_2 : List UInt8 := [167, 255, 214, 3, 62, 3, 54, 4, 21, 4, 28, 163, 0, 174, 3, 54, 5, 21, 5, 16, 10, 162, 0, 61]
abbrev dktX4_runs_2 : List UInt8 := dkwX4_runs_2 ++ dktX4_runs_3
def dkwX4_runs_1 : List UInt8 := [162, 0, 19, 42, 180, 0, 76, 29, 50, 21, 4, 3, 79, 132, 4, 1, 167, 255, 236, 132, 3, 1]
abbrev dktX4_runs_1 : List UInt8 := dkwX4_runs_1 ++ dktX4_runs_2
def dkwX4_runs_0 : List UInt8 := [3, 62, 29, 16, 10, 162, 0, 42, 42, 180, 0, 79, 29, 2, 79, 3, 54, 4, 21, 4, 16, 10]
abbrev dktX4_runs_0 : List UInt8 := dkwX4_runs_0 ++ dktX4_runs_1
theorem dksX4_runs_0 : cX4_runs.data.toList.drop 0 = dktX4_runs_0 := by decide +kernel
theorem dksX4_runs_1 : cX4_runs.data.toList.drop 22 = dktX4_runs_1 := dk_seg dksX4_runs_0 22 rfl rfl
theorem dksX4_runs_2 : cX4_runs.data.toList.drop 44 = dktX4_runs_2 := dk_seg dksX4_runs_1 22 rfl rfl
theorem dksX4_runs_3 : cX4_runs.data.toList.drop 68 = dktX4_runs_3 := dk_seg dksX4_runs_2 24 rfl rfl
theorem dksX4_runs_4 : cX4_runs.data.toList.drop 92 = dktX4_runs_4 := dk_seg dksX4_runs_3 24 rfl rfl
theorem dksX4_runs_5 : cX4_runs.data.toList.drop 114 = dktX4_runs_5 := dk_seg dksX4_runs_4 22 rfl rfl
theorem dksX4_runs_6 : cX4_runs.data.toList.drop 137 = dktX4_runs_6 := dk_seg dksX4_runs_5 23 rfl rfl
theorem dksX4_runs_7 : cX4_runs.data.toList.drop 160 = dktX4_runs_7 := dk_seg dksX4_runs_6 23 rfl rfl
theorem dksX4_runs_8 : cX4_runs.data.toList.drop 184 = dktX4_runs_8 := dk_seg dksX4_runs_7 24 rfl rfl
theorem dksX4_runs_9 : cX4_runs.data.toList.drop 208 = dktX4_runs_9 := dk_seg dksX4_runs_8 24 rfl rfl
theorem dX4_runs_0 : decode cX4_runs 0 = .ok (.iconst 0, 1) := dk_3 (dk_at dksX4_runs_0 0 rfl rfl)
theorem dX4_runs_1 : decode cX4_runs 1 = .ok (.istore_n 3, 1) := dk_62 (dk_at dksX4_runs_0 1 rfl rfl)
theorem dX4_runs_2 : decode cX4_runs 2 = .ok (.iload_n 3, 1) := dk_29 (dk_at dksX4_runs_0 2 rfl rfl)
theorem dX4_runs_3 : decode cX4_runs 3 = .ok (.bipush 10, 2) := dk_16 10 (dk_at dksX4_runs_0 3 rfl rfl)
theorem dX4_runs_5 : decode cX4_runs 5 = .ok (.if_icmp .ge 42, 3) := dk_162 0 42 (dk_at dksX4_runs_0 5 rfl rfl)
theorem dX4_runs_8 : decode cX4_runs 8 = .ok (.aload_n 0, 1) := dk_42 (dk_at dksX4_runs_0 8 rfl rfl)
theorem dX4_runs_9 : decode cX4_runs 9 = .ok (.getfield 79, 3) := dk_180 0 79 (dk_at dksX4_runs_0 9 rfl rfl)
theorem dX4_runs_12 : decode cX4_runs 12 = .ok (.iload_n 3, 1) := dk_29 (dk_at dksX4_runs_0 12 rfl rfl)
theorem dX4_runs_13 : decode cX4_runs 13 = .ok (.iconst (-1), 1) := dk_2 (dk_at dksX4_runs_0 13 rfl rfl)
theorem dX4_runs_14 : decode cX4_runs 14 = .ok (.iastore, 1) := dk_79 (dk_at dksX4_runs_0 14 rfl rfl)
theorem dX4_runs_15 : decode cX4_runs 15 = .ok (.iconst 0, 1) := dk_3 (dk_at dksX4_runs_0 15 rfl rfl)
theorem dX4_runs_16 : decode cX4_runs 16 = .ok (.istore 4, 2) := dk_54 4 (dk_at dksX4_runs_0 16 rfl rfl)
theorem dX4_runs_18 : decode cX4_runs 18 = .ok (.iload 4, 2) := dk_21 4 (dk_at dksX4_runs_0 18 rfl rfl)
theorem dX4_runs_20 : decode cX4_runs 20 = .ok (.bipush 10, 2) := dk_16 10 (dk_at dksX4_runs_0 20 rfl rfl)
theorem dX4_runs_22 : decode cX4_runs 22 = .ok (.if_icmp .ge 19, 3) := dk_162 0 19 (dk_at dksX4_runs_1 0 rfl rfl)
theorem dX4_runs_25 : decode cX4_runs 25 = .ok (.aload_n 0, 1) := dk_42 (dk_at dksX4_runs_1 3 rfl rfl)
theorem dX4_runs_26 : decode cX4_runs 26 = .ok (.getfield 76, 3) := dk_180 0 76 (dk_at dksX4_runs_1 4 rfl rfl)
theorem dX4_runs_29 : decode cX4_runs 29 = .ok (.iload_n 3, 1) := dk_29 (dk_at dksX4_runs_1 7 rfl rfl)
theorem dX4_runs_30 : decode cX4_runs 30 = .ok (.aaload, 1) := dk_50 (dk_at dksX4_runs_1 8 rfl rfl)
theorem dX4_runs_31 : decode cX4_runs 31 = .ok (.iload 4, 2) := dk_21 4 (dk_at dksX4_runs_1 9 rfl rfl)
theorem dX4_runs_33 : decode cX4_runs 33 = .ok (.iconst 0, 1) := dk_3 (dk_at dksX4_runs_1 11 rfl rfl)
theorem dX4_runs_34 : decode cX4_runs 34 = .ok (.iastore, 1) := dk_79 (dk_at dksX4_runs_1 12 rfl rfl)
theorem dX4_runs_35 : decode cX4_runs 35 = .ok (.iinc 4 1, 3) := dk_132 4 1 (dk_at dksX4_runs_1 13 rfl rfl)
theorem dX4_runs_38 : decode cX4_runs 38 = .ok (.goto (-20), 3) := dk_167 255 236 (dk_at dksX4_runs_1 16 rfl rfl)
theorem dX4_runs_41 : decode cX4_runs 41 = .ok (.iinc 3 1, 3) := dk_132 3 1 (dk_at dksX4_runs_1 19 rfl rfl)
theorem dX4_runs_44 : decode cX4_runs 44 = .ok (.goto (-42), 3) := dk_167 255 214 (dk_at dksX4_runs_2 0 rfl rfl)
theorem dX4_runs_47 : decode cX4_runs 47 = .ok (.iconst 0, 1) := dk_3 (dk_at dksX4_runs_2 3 rfl rfl)
theorem dX4_runs_48 : decode cX4_runs 48 = .ok (.istore_n 3, 1) := dk_62 (dk_at dksX4_runs_2 4 rfl rfl)
theorem dX4_runs_49 : decode cX4_runs 49 = .ok (.iconst 0, 1) := dk_3 (dk_at dksX4_runs_2 5 rfl rfl)
theorem dX4_runs_50 : decode cX4_runs 50 = .ok (.istore 4, 2) := dk_54 4 (dk_at dksX4_runs_2 6 rfl rfl)
theorem dX4_runs_52 : decode cX4_runs 52 = .ok (.iload 4, 2) := dk_21 4 (dk_at dksX4_runs_2 8 rfl rfl)
theorem dX4_runs_54 : decode cX4_runs 54 = .ok (.iload_n 2, 1) := dk_28 (dk_at dksX4_runs_2 10 rfl rfl)
theorem dX4_runs_55 : decode cX4_runs 55 = .ok (.if_icmp .gt 174, 3) := dk_163 0 174 (dk_at dksX4_runs_2 11 rfl rfl)
theorem dX4_runs_58 : decode cX4_runs 58 = .ok (.iconst 0, 1) := dk_3 (dk_at dksX4_runs_2 14 rfl rfl)
theorem dX4_runs_59 : decode cX4_runs 59 = .ok (.istore 5, 2) := dk_54 5 (dk_at dksX4_runs_2 15 rfl rfl)
theorem dX4_runs_61 : decode cX4_runs 61 = .ok (.iload 5, 2) := dk_21 5 (dk_at dksX4_runs_2 17 rfl rfl)
theorem dX4_runs_63 : decode cX4_runs 63 = .ok (.bipush 10, 2) := dk_16 10 (dk_at dksX4_runs_2 19 rfl rfl)
theorem dX4_runs_65 : decode cX4_runs 65 = .ok (.if_icmp .ge 61, 3) := dk_162 0 61 (dk_at dksX4_runs_2 21 rfl rfl)
theorem dX4_runs_68 : decode cX4_runs 68 = .ok (.iload 4, 2) := dk_21 4 (dk_at dksX4_runs_3 0 rfl rfl)
theorem dX4_runs_70 : decode cX4_runs 70 = .ok (.ifCond .le 56, 3) := dk_158 0 56 (dk_at dksX4_runs_3 2 rfl rfl)
theorem dX4_runs_73 : decode cX4_runs 73 = .ok (.iconst 0, 1) := dk_3 (dk_at dksX4_runs_3 5 rfl rfl)
theorem dX4_runs_74 : decode cX4_runs 74 = .ok (.istore 6, 2) := dk_54 6 (dk_at dksX4_runs_3 6 rfl rfl)
theorem dX4_runs_76 : decode cX4_runs 76 = .ok (.iload 6, 2) := dk_21 6 (dk_at dksX4_runs_3 8 rfl rfl)
theorem dX4_runs_78 : decode cX4_runs 78 = .ok (.bipush 10, 2) := dk_16 10 (dk_at dksX4_runs_3 10 rfl rfl)
theorem dX4_runs_80 : decode cX4_runs 80 = .ok (.if_icmp .ge 40, 3) := dk_162 0 40 (dk_at dksX4_runs_3 12 rfl rfl)
theorem dX4_runs_83 : decode cX4_runs 83 = .ok (.aload_n 0, 1) := dk_42 (dk_at dksX4_runs_3 15 rfl rfl)
theorem dX4_runs_84 : decode cX4_runs 84 = .ok (.getfield 76, 3) := dk_180 0 76 (dk_at dksX4_runs_3 16 rfl rfl)
theorem dX4_runs_87 : decode cX4_runs 87 = .ok (.iload 5, 2) := dk_21 5 (dk_at dksX4_runs_3 19 rfl rfl)
theorem dX4_runs_89 : decode cX4_runs 89 = .ok (.aaload, 1) := dk_50 (dk_at dksX4_runs_3 21 rfl rfl)
theorem dX4_runs_90 : decode cX4_runs 90 = .ok (.iload 6, 2) := dk_21 6 (dk_at dksX4_runs_3 22 rfl rfl)
theorem dX4_runs_92 : decode cX4_runs 92 = .ok (.aload_n 0, 1) := dk_42 (dk_at dksX4_runs_4 0 rfl rfl)
theorem dX4_runs_93 : decode cX4_runs 93 = .ok (.getfield 76, 3) := dk_180 0 76 (dk_at dksX4_runs_4 1 rfl rfl)
theorem dX4_runs_96 : decode cX4_runs 96 = .ok (.iload 5, 2) := dk_21 5 (dk_at dksX4_runs_4 4 rfl rfl)
theorem dX4_runs_98 : decode cX4_runs 98 = .ok (.aaload, 1) := dk_50 (dk_at dksX4_runs_4 6 rfl rfl)
theorem dX4_runs_99 : decode cX4_runs 99 = .ok (.iload 6, 2) := dk_21 6 (dk_at dksX4_runs_4 7 rfl rfl)
theorem dX4_runs_101 : decode cX4_runs 101 = .ok (.iaload, 1) := dk_46 (dk_at dksX4_runs_4 9 rfl rfl)
theorem dX4_runs_102 : decode cX4_runs 102 = .ok (.aload_n 0, 1) := dk_42 (dk_at dksX4_runs_4 10 rfl rfl)
theorem dX4_runs_103 : decode cX4_runs 103 = .ok (.getfield 25, 3) := dk_180 0 25 (dk_at dksX4_runs_4 11 rfl rfl)
theorem dX4_runs_106 : decode cX4_runs 106 = .ok (.iload 6, 2) := dk_21 6 (dk_at dksX4_runs_4 14 rfl rfl)
theorem dX4_runs_108 : decode cX4_runs 108 = .ok (.iaload, 1) := dk_46 (dk_at dksX4_runs_4 16 rfl rfl)
theorem dX4_runs_109 : decode cX4_runs 109 = .ok (.imul, 1) := dk_104 (dk_at dksX4_runs_4 17 rfl rfl)
theorem dX4_runs_110 : decode cX4_runs 110 = .ok (.bipush 16, 2) := dk_16 16 (dk_at dksX4_runs_4 18 rfl rfl)
theorem dX4_runs_112 : decode cX4_runs 112 = .ok (.idiv, 1) := dk_108 (dk_at dksX4_runs_4 20 rfl rfl)
theorem dX4_runs_113 : decode cX4_runs 113 = .ok (.iastore, 1) := dk_79 (dk_at dksX4_runs_4 21 rfl rfl)
theorem dX4_runs_114 : decode cX4_runs 114 = .ok (.iinc 6 1, 3) := dk_132 6 1 (dk_at dksX4_runs_5 0 rfl rfl)
theorem dX4_runs_117 : decode cX4_runs 117 = .ok (.goto (-41), 3) := dk_167 255 215 (dk_at dksX4_runs_5 3 rfl rfl)
theorem dX4_runs_120 : decode cX4_runs 120 = .ok (.iinc 5 1, 3) := dk_132 5 1 (dk_at dksX4_runs_5 6 rfl rfl)
theorem dX4_runs_123 : decode cX4_runs 123 = .ok (.goto (-62), 3) := dk_167 255 194 (dk_at dksX4_runs_5 9 rfl rfl)
theorem dX4_runs_126 : decode cX4_runs 126 = .ok (.iload_n 3, 1) := dk_29 (dk_at dksX4_runs_5 12 rfl rfl)
theorem dX4_runs_127 : decode cX4_runs 127 = .ok (.aload_n 0, 1) := dk_42 (dk_at dksX4_runs_5 13 rfl rfl)
theorem dX4_runs_128 : decode cX4_runs 128 = .ok (.getfield 46, 3) := dk_180 0 46 (dk_at dksX4_runs_5 14 rfl rfl)
theorem dX4_runs_131 : decode cX4_runs 131 = .ok (.iload_n 1, 1) := dk_27 (dk_at dksX4_runs_5 17 rfl rfl)
theorem dX4_runs_132 : decode cX4_runs 132 = .ok (.iaload, 1) := dk_46 (dk_at dksX4_runs_5 18 rfl rfl)
theorem dX4_runs_133 : decode cX4_runs 133 = .ok (.if_icmp .ge 61, 3) := dk_162 0 61 (dk_at dksX4_runs_5 19 rfl rfl)
theorem dX4_runs_136 : decode cX4_runs 136 = .ok (.aload_n 0, 1) := dk_42 (dk_at dksX4_runs_5 22 rfl rfl)
theorem dX4_runs_137 : decode cX4_runs 137 = .ok (.getfield 49, 3) := dk_180 0 49 (dk_at dksX4_runs_6 0 rfl rfl)
theorem dX4_runs_140 : decode cX4_runs 140 = .ok (.bipush 20, 2) := dk_16 20 (dk_at dksX4_runs_6 3 rfl rfl)
theorem dX4_runs_142 : decode cX4_runs 142 = .ok (.iload_n 1, 1) := dk_27 (dk_at dksX4_runs_6 5 rfl rfl)
theorem dX4_runs_143 : decode cX4_runs 143 = .ok (.imul, 1) := dk_104 (dk_at dksX4_runs_6 6 rfl rfl)
theorem dX4_runs_144 : decode cX4_runs 144 = .ok (.iload_n 3, 1) := dk_29 (dk_at dksX4_runs_6 7 rfl rfl)
theorem dX4_runs_145 : decode cX4_runs 145 = .ok (.iadd, 1) := dk_96 (dk_at dksX4_runs_6 8 rfl rfl)
theorem dX4_runs_146 : decode cX4_runs 146 = .ok (.aaload, 1) := dk_50 (dk_at dksX4_runs_6 9 rfl rfl)
theorem dX4_runs_147 : decode cX4_runs 147 = .ok (.iconst 3, 1) := dk_6 (dk_at dksX4_runs_6 10 rfl rfl)
theorem dX4_runs_148 : decode cX4_runs 148 = .ok (.iaload, 1) := dk_46 (dk_at dksX4_runs_6 11 rfl rfl)
theorem dX4_runs_149 : decode cX4_runs 149 = .ok (.iload 4, 2) := dk_21 4 (dk_at dksX4_runs_6 12 rfl rfl)
theorem dX4_runs_151 : decode cX4_runs 151 = .ok (.if_icmp .ne 43, 3) := dk_160 0 43 (dk_at dksX4_runs_6 14 rfl rfl)
theorem dX4_runs_154 : decode cX4_runs 154 = .ok (.aload_n 0, 1) := dk_42 (dk_at dksX4_runs_6 17 rfl rfl)
theorem dX4_runs_155 : decode cX4_runs 155 = .ok (.iload_n 3, 1) := dk_29 (dk_at dksX4_runs_6 18 rfl rfl)
theorem dX4_runs_156 : decode cX4_runs 156 = .ok (.aload_n 0, 1) := dk_42 (dk_at dksX4_runs_6 19 rfl rfl)
theorem dX4_runs_157 : decode cX4_runs 157 = .ok (.getfield 49, 3) := dk_180 0 49 (dk_at dksX4_runs_6 20 rfl rfl)
theorem dX4_runs_160 : decode cX4_runs 160 = .ok (.bipush 20, 2) := dk_16 20 (dk_at dksX4_runs_7 0 rfl rfl)
theorem dX4_runs_162 : decode cX4_runs 162 = .ok (.iload_n 1, 1) := dk_27 (dk_at dksX4_runs_7 2 rfl rfl)
theorem dX4_runs_163 : decode cX4_runs 163 = .ok (.imul, 1) := dk_104 (dk_at dksX4_runs_7 3 rfl rfl)
theorem dX4_runs_164 : decode cX4_runs 164 = .ok (.iload_n 3, 1) := dk_29 (dk_at dksX4_runs_7 4 rfl rfl)
theorem dX4_runs_165 : decode cX4_runs 165 = .ok (.iadd, 1) := dk_96 (dk_at dksX4_runs_7 5 rfl rfl)
theorem dX4_runs_166 : decode cX4_runs 166 = .ok (.aaload, 1) := dk_50 (dk_at dksX4_runs_7 6 rfl rfl)
theorem dX4_runs_167 : decode cX4_runs 167 = .ok (.invokevirtual 221, 3) := dk_182 0 221 (dk_at dksX4_runs_7 7 rfl rfl)
theorem dX4_runs_170 : decode cX4_runs 170 = .ok (.ifCond .eq 18, 3) := dk_153 0 18 (dk_at dksX4_runs_7 10 rfl rfl)
theorem dX4_runs_173 : decode cX4_runs 173 = .ok (.aload_n 0, 1) := dk_42 (dk_at dksX4_runs_7 13 rfl rfl)
theorem dX4_runs_174 : decode cX4_runs 174 = .ok (.aload_n 0, 1) := dk_42 (dk_at dksX4_runs_7 14 rfl rfl)
theorem dX4_runs_175 : decode cX4_runs 175 = .ok (.getfield 49, 3) := dk_180 0 49 (dk_at dksX4_runs_7 15 rfl rfl)
theorem dX4_runs_178 : decode cX4_runs 178 = .ok (.bipush 20, 2) := dk_16 20 (dk_at dksX4_runs_7 18 rfl rfl)
theorem dX4_runs_180 : decode cX4_runs 180 = .ok (.iload_n 1, 1) := dk_27 (dk_at dksX4_runs_7 20 rfl rfl)
theorem dX4_runs_181 : decode cX4_runs 181 = .ok (.imul, 1) := dk_104 (dk_at dksX4_runs_7 21 rfl rfl)
theorem dX4_runs_182 : decode cX4_runs 182 = .ok (.iload_n 3, 1) := dk_29 (dk_at dksX4_runs_7 22 rfl rfl)
theorem dX4_runs_183 : decode cX4_runs 183 = .ok (.iadd, 1) := dk_96 (dk_at dksX4_runs_7 23 rfl rfl)
theorem dX4_runs_184 : decode cX4_runs 184 = .ok (.aaload, 1) := dk_50 (dk_at dksX4_runs_8 0 rfl rfl)
theorem dX4_runs_185 : decode cX4_runs 185 = .ok (.invokevirtual 225, 3) := dk_182 0 225 (dk_at dksX4_runs_8 1 rfl rfl)
theorem dX4_runs_188 : decode cX4_runs 188 = .ok (.iinc 3 1, 3) := dk_132 3 1 (dk_at dksX4_runs_8 4 rfl rfl)
theorem dX4_runs_191 : decode cX4_runs 191 = .ok (.goto (-65), 3) := dk_167 255 191 (dk_at dksX4_runs_8 7 rfl rfl)
theorem dX4_runs_194 : decode cX4_runs 194 = .ok (.aload_n 0, 1) := dk_42 (dk_at dksX4_runs_8 10 rfl rfl)
theorem dX4_runs_195 : decode cX4_runs 195 = .ok (.getfield 85, 3) := dk_180 0 85 (dk_at dksX4_runs_8 11 rfl rfl)
theorem dX4_runs_198 : decode cX4_runs 198 = .ok (.iconst (-1), 1) := dk_2 (dk_at dksX4_runs_8 14 rfl rfl)
theorem dX4_runs_199 : decode cX4_runs 199 = .ok (.if_icmp .eq 24, 3) := dk_159 0 24 (dk_at dksX4_runs_8 15 rfl rfl)
theorem dX4_runs_202 : decode cX4_runs 202 = .ok (.aload_n 0, 1) := dk_42 (dk_at dksX4_runs_8 18 rfl rfl)
theorem dX4_runs_203 : decode cX4_runs 203 = .ok (.getfield 229, 3) := dk_180 0 229 (dk_at dksX4_runs_8 19 rfl rfl)
theorem dX4_runs_206 : decode cX4_runs 206 = .ok (.iload 4, 2) := dk_21 4 (dk_at dksX4_runs_8 22 rfl rfl)
theorem dX4_runs_208 : decode cX4_runs 208 = .ok (.if_icmp .ne 15, 3) := dk_160 0 15 (dk_at dksX4_runs_9 0 rfl rfl)
theorem dX4_runs_211 : decode cX4_runs 211 = .ok (.aload_n 0, 1) := dk_42 (dk_at dksX4_runs_9 3 rfl rfl)
theorem dX4_runs_212 : decode cX4_runs 212 = .ok (.aload_n 0, 1) := dk_42 (dk_at dksX4_runs_9 4 rfl rfl)
theorem dX4_runs_213 : decode cX4_runs 213 = .ok (.getfield 85, 3) := dk_180 0 85 (dk_at dksX4_runs_9 5 rfl rfl)
theorem dX4_runs_216 : decode cX4_runs 216 = .ok (.aload_n 0, 1) := dk_42 (dk_at dksX4_runs_9 8 rfl rfl)
theorem dX4_runs_217 : decode cX4_runs 217 = .ok (.getfield 232, 3) := dk_180 0 232 (dk_at dksX4_runs_9 9 rfl rfl)
theorem dX4_runs_220 : decode cX4_runs 220 = .ok (.invokevirtual 215, 3) := dk_182 0 215 (dk_at dksX4_runs_9 12 rfl rfl)
theorem dX4_runs_223 : decode cX4_runs 223 = .ok (.iinc 4 1, 3) := dk_132 4 1 (dk_at dksX4_runs_9 15 rfl rfl)
theorem dX4_runs_226 : decode cX4_runs 226 = .ok (.goto (-174), 3) := dk_167 255 82 (dk_at dksX4_runs_9 18 rfl rfl)
theorem dX4_runs_229 : decode cX4_runs 229 = .ok (.return_, 1) := dk_177 (dk_at dksX4_runs_9 21 rfl rfl)
abbrev cX4_comes : ByteArray := prog_16_method_31_code
def yX4_comes : MethodName := ⟨RX4, "comes", "(I[I)Z"⟩
def dkwX4_comes_3 : List UInt8 := [172]
abbrev dktX4_comes_3 : List UInt8 := dkwX4_comes_3 ++ []
def dkwX4_comes_2 : List UInt8 := [4, 46, 44, 5, 46, 42, 180, 0, 212, 42, 180, 0, 205, 184, 0, 208, 153, 0, 7, 4, 167, 0, 4, 3]
abbrev dktX4_comes_2 : List UInt8 := dkwX4_comes_2 ++ dktX4_comes_3
def dkwX4_comes_1 : List UInt8 := [160, 0, 43, 44, 4, 46, 44, 5, 46, 42, 180, 0, 88, 42, 180, 0, 205, 184, 0, 208, 154, 0, 23, 44]
abbrev dktX4_comes_1 : List UInt8 := dkwX4_comes_1 ++ dktX4_comes_2
def dkwX4_comes_0 : List UInt8 := [27, 42, 180, 0, 82, 160, 0, 5, 3, 172, 42, 180, 0, 88, 2, 159, 0, 50, 44, 3, 46, 5]
abbrev dktX4_comes_0 : List UInt8 := dkwX4_comes_0 ++ dktX4_comes_1
theorem dksX4_comes_0 : cX4_comes.data.toList.drop 0 = dktX4_comes_0 := by decide +kernel
theorem dksX4_comes_1 : cX4_comes.data.toList.drop 22 = dktX4_comes_1 := dk_seg dksX4_comes_0 22 rfl rfl
theorem dksX4_comes_2 : cX4_comes.data.toList.drop 46 = dktX4_comes_2 := dk_seg dksX4_comes_1 24 rfl rfl
theorem dksX4_comes_3 : cX4_comes.data.toList.drop 70 = dktX4_comes_3 := dk_seg dksX4_comes_2 24 rfl rfl
theorem dX4_comes_0 : decode cX4_comes 0 = .ok (.iload_n 1, 1) := dk_27 (dk_at dksX4_comes_0 0 rfl rfl)
theorem dX4_comes_1 : decode cX4_comes 1 = .ok (.aload_n 0, 1) := dk_42 (dk_at dksX4_comes_0 1 rfl rfl)
theorem dX4_comes_2 : decode cX4_comes 2 = .ok (.getfield 82, 3) := dk_180 0 82 (dk_at dksX4_comes_0 2 rfl rfl)
theorem dX4_comes_5 : decode cX4_comes 5 = .ok (.if_icmp .ne 5, 3) := dk_160 0 5 (dk_at dksX4_comes_0 5 rfl rfl)
theorem dX4_comes_8 : decode cX4_comes 8 = .ok (.iconst 0, 1) := dk_3 (dk_at dksX4_comes_0 8 rfl rfl)
theorem dX4_comes_9 : decode cX4_comes 9 = .ok (.ireturn, 1) := dk_172 (dk_at dksX4_comes_0 9 rfl rfl)
theorem dX4_comes_10 : decode cX4_comes 10 = .ok (.aload_n 0, 1) := dk_42 (dk_at dksX4_comes_0 10 rfl rfl)
theorem dX4_comes_11 : decode cX4_comes 11 = .ok (.getfield 88, 3) := dk_180 0 88 (dk_at dksX4_comes_0 11 rfl rfl)
theorem dX4_comes_14 : decode cX4_comes 14 = .ok (.iconst (-1), 1) := dk_2 (dk_at dksX4_comes_0 14 rfl rfl)
theorem dX4_comes_15 : decode cX4_comes 15 = .ok (.if_icmp .eq 50, 3) := dk_159 0 50 (dk_at dksX4_comes_0 15 rfl rfl)
theorem dX4_comes_18 : decode cX4_comes 18 = .ok (.aload_n 2, 1) := dk_44 (dk_at dksX4_comes_0 18 rfl rfl)
theorem dX4_comes_19 : decode cX4_comes 19 = .ok (.iconst 0, 1) := dk_3 (dk_at dksX4_comes_0 19 rfl rfl)
theorem dX4_comes_20 : decode cX4_comes 20 = .ok (.iaload, 1) := dk_46 (dk_at dksX4_comes_0 20 rfl rfl)
theorem dX4_comes_21 : decode cX4_comes 21 = .ok (.iconst 2, 1) := dk_5 (dk_at dksX4_comes_0 21 rfl rfl)
theorem dX4_comes_22 : decode cX4_comes 22 = .ok (.if_icmp .ne 43, 3) := dk_160 0 43 (dk_at dksX4_comes_1 0 rfl rfl)
theorem dX4_comes_25 : decode cX4_comes 25 = .ok (.aload_n 2, 1) := dk_44 (dk_at dksX4_comes_1 3 rfl rfl)
theorem dX4_comes_26 : decode cX4_comes 26 = .ok (.iconst 1, 1) := dk_4 (dk_at dksX4_comes_1 4 rfl rfl)
theorem dX4_comes_27 : decode cX4_comes 27 = .ok (.iaload, 1) := dk_46 (dk_at dksX4_comes_1 5 rfl rfl)
theorem dX4_comes_28 : decode cX4_comes 28 = .ok (.aload_n 2, 1) := dk_44 (dk_at dksX4_comes_1 6 rfl rfl)
theorem dX4_comes_29 : decode cX4_comes 29 = .ok (.iconst 2, 1) := dk_5 (dk_at dksX4_comes_1 7 rfl rfl)
theorem dX4_comes_30 : decode cX4_comes 30 = .ok (.iaload, 1) := dk_46 (dk_at dksX4_comes_1 8 rfl rfl)
theorem dX4_comes_31 : decode cX4_comes 31 = .ok (.aload_n 0, 1) := dk_42 (dk_at dksX4_comes_1 9 rfl rfl)
theorem dX4_comes_32 : decode cX4_comes 32 = .ok (.getfield 88, 3) := dk_180 0 88 (dk_at dksX4_comes_1 10 rfl rfl)
theorem dX4_comes_35 : decode cX4_comes 35 = .ok (.aload_n 0, 1) := dk_42 (dk_at dksX4_comes_1 13 rfl rfl)
theorem dX4_comes_36 : decode cX4_comes 36 = .ok (.getfield 205, 3) := dk_180 0 205 (dk_at dksX4_comes_1 14 rfl rfl)
theorem dX4_comes_39 : decode cX4_comes 39 = .ok (.invokestatic 208, 3) := dk_184 0 208 (dk_at dksX4_comes_1 17 rfl rfl)
theorem dX4_comes_42 : decode cX4_comes 42 = .ok (.ifCond .ne 23, 3) := dk_154 0 23 (dk_at dksX4_comes_1 20 rfl rfl)
theorem dX4_comes_45 : decode cX4_comes 45 = .ok (.aload_n 2, 1) := dk_44 (dk_at dksX4_comes_1 23 rfl rfl)
theorem dX4_comes_46 : decode cX4_comes 46 = .ok (.iconst 1, 1) := dk_4 (dk_at dksX4_comes_2 0 rfl rfl)
theorem dX4_comes_47 : decode cX4_comes 47 = .ok (.iaload, 1) := dk_46 (dk_at dksX4_comes_2 1 rfl rfl)
theorem dX4_comes_48 : decode cX4_comes 48 = .ok (.aload_n 2, 1) := dk_44 (dk_at dksX4_comes_2 2 rfl rfl)
theorem dX4_comes_49 : decode cX4_comes 49 = .ok (.iconst 2, 1) := dk_5 (dk_at dksX4_comes_2 3 rfl rfl)
theorem dX4_comes_50 : decode cX4_comes 50 = .ok (.iaload, 1) := dk_46 (dk_at dksX4_comes_2 4 rfl rfl)
theorem dX4_comes_51 : decode cX4_comes 51 = .ok (.aload_n 0, 1) := dk_42 (dk_at dksX4_comes_2 5 rfl rfl)
theorem dX4_comes_52 : decode cX4_comes 52 = .ok (.getfield 212, 3) := dk_180 0 212 (dk_at dksX4_comes_2 6 rfl rfl)
theorem dX4_comes_55 : decode cX4_comes 55 = .ok (.aload_n 0, 1) := dk_42 (dk_at dksX4_comes_2 9 rfl rfl)
theorem dX4_comes_56 : decode cX4_comes 56 = .ok (.getfield 205, 3) := dk_180 0 205 (dk_at dksX4_comes_2 10 rfl rfl)
theorem dX4_comes_59 : decode cX4_comes 59 = .ok (.invokestatic 208, 3) := dk_184 0 208 (dk_at dksX4_comes_2 13 rfl rfl)
theorem dX4_comes_62 : decode cX4_comes 62 = .ok (.ifCond .eq 7, 3) := dk_153 0 7 (dk_at dksX4_comes_2 16 rfl rfl)
theorem dX4_comes_65 : decode cX4_comes 65 = .ok (.iconst 1, 1) := dk_4 (dk_at dksX4_comes_2 19 rfl rfl)
theorem dX4_comes_66 : decode cX4_comes 66 = .ok (.goto 4, 3) := dk_167 0 4 (dk_at dksX4_comes_2 20 rfl rfl)
theorem dX4_comes_69 : decode cX4_comes 69 = .ok (.iconst 0, 1) := dk_3 (dk_at dksX4_comes_2 23 rfl rfl)
theorem dX4_comes_70 : decode cX4_comes 70 = .ok (.ireturn, 1) := dk_172 (dk_at dksX4_comes_3 0 rfl rfl)
abbrev cX4_areTwo : ByteArray := prog_16_method_30_code
def yX4_areTwo : MethodName := ⟨RX4, "areTwo", "(IIII)Z"⟩
def dkwX4_areTwo_1 : List UInt8 := [3, 172]
abbrev dktX4_areTwo_1 : List UInt8 := dkwX4_areTwo_1 ++ []
def dkwX4_areTwo_0 : List UInt8 := [26, 28, 160, 0, 8, 27, 29, 159, 0, 13, 26, 29, 160, 0, 12, 27, 28, 160, 0, 7, 4, 167, 0, 4]
abbrev dktX4_areTwo_0 : List UInt8 := dkwX4_areTwo_0 ++ dktX4_areTwo_1
theorem dksX4_areTwo_0 : cX4_areTwo.data.toList.drop 0 = dktX4_areTwo_0 := by decide +kernel
theorem dksX4_areTwo_1 : cX4_areTwo.data.toList.drop 24 = dktX4_areTwo_1 := dk_seg dksX4_areTwo_0 24 rfl rfl
theorem dX4_areTwo_0 : decode cX4_areTwo 0 = .ok (.iload_n 0, 1) := dk_26 (dk_at dksX4_areTwo_0 0 rfl rfl)
theorem dX4_areTwo_1 : decode cX4_areTwo 1 = .ok (.iload_n 2, 1) := dk_28 (dk_at dksX4_areTwo_0 1 rfl rfl)
theorem dX4_areTwo_2 : decode cX4_areTwo 2 = .ok (.if_icmp .ne 8, 3) := dk_160 0 8 (dk_at dksX4_areTwo_0 2 rfl rfl)
theorem dX4_areTwo_5 : decode cX4_areTwo 5 = .ok (.iload_n 1, 1) := dk_27 (dk_at dksX4_areTwo_0 5 rfl rfl)
theorem dX4_areTwo_6 : decode cX4_areTwo 6 = .ok (.iload_n 3, 1) := dk_29 (dk_at dksX4_areTwo_0 6 rfl rfl)
theorem dX4_areTwo_7 : decode cX4_areTwo 7 = .ok (.if_icmp .eq 13, 3) := dk_159 0 13 (dk_at dksX4_areTwo_0 7 rfl rfl)
theorem dX4_areTwo_10 : decode cX4_areTwo 10 = .ok (.iload_n 0, 1) := dk_26 (dk_at dksX4_areTwo_0 10 rfl rfl)
theorem dX4_areTwo_11 : decode cX4_areTwo 11 = .ok (.iload_n 3, 1) := dk_29 (dk_at dksX4_areTwo_0 11 rfl rfl)
theorem dX4_areTwo_12 : decode cX4_areTwo 12 = .ok (.if_icmp .ne 12, 3) := dk_160 0 12 (dk_at dksX4_areTwo_0 12 rfl rfl)
theorem dX4_areTwo_15 : decode cX4_areTwo 15 = .ok (.iload_n 1, 1) := dk_27 (dk_at dksX4_areTwo_0 15 rfl rfl)
theorem dX4_areTwo_16 : decode cX4_areTwo 16 = .ok (.iload_n 2, 1) := dk_28 (dk_at dksX4_areTwo_0 16 rfl rfl)
theorem dX4_areTwo_17 : decode cX4_areTwo 17 = .ok (.if_icmp .ne 7, 3) := dk_160 0 7 (dk_at dksX4_areTwo_0 17 rfl rfl)
theorem dX4_areTwo_20 : decode cX4_areTwo 20 = .ok (.iconst 1, 1) := dk_4 (dk_at dksX4_areTwo_0 20 rfl rfl)
theorem dX4_areTwo_21 : decode cX4_areTwo 21 = .ok (.goto 4, 3) := dk_167 0 4 (dk_at dksX4_areTwo_0 21 rfl rfl)
theorem dX4_areTwo_24 : decode cX4_areTwo 24 = .ok (.iconst 0, 1) := dk_3 (dk_at dksX4_areTwo_1 0 rfl rfl)
theorem dX4_areTwo_25 : decode cX4_areTwo 25 = .ok (.ireturn, 1) := dk_172 (dk_at dksX4_areTwo_1 1 rfl rfl)
abbrev cX4_does : ByteArray := prog_16_method_32_code
def yX4_does : MethodName := ⟨RX4, "does", "([I)V"⟩
def dkwX4_does_3 : List UInt8 := [160, 0, 11, 42, 28, 43, 5, 46, 182, 0, 218, 177]
abbrev dktX4_does_3 : List UInt8 := dkwX4_does_3 ++ []
def dkwX4_does_2 : List UInt8 := [182, 0, 215, 43, 3, 46, 6, 160, 0, 12, 42, 28, 42, 180, 0, 183, 182, 0, 218, 43, 3, 46, 7]
abbrev dktX4_does_2 : List UInt8 := dkwX4_does_2 ++ dktX4_does_3
def dkwX4_does_1 : List UInt8 := [160, 0, 10, 42, 180, 0, 79, 28, 2, 79, 43, 3, 46, 5, 160, 0, 11, 42, 28, 43, 5, 46]
abbrev dktX4_does_1 : List UInt8 := dkwX4_does_1 ++ dktX4_does_2
def dkwX4_does_0 : List UInt8 := [43, 4, 46, 61, 43, 3, 46, 154, 0, 12, 42, 180, 0, 79, 28, 43, 5, 46, 79, 43, 3, 46, 4]
abbrev dktX4_does_0 : List UInt8 := dkwX4_does_0 ++ dktX4_does_1
theorem dksX4_does_0 : cX4_does.data.toList.drop 0 = dktX4_does_0 := by decide +kernel
theorem dksX4_does_1 : cX4_does.data.toList.drop 23 = dktX4_does_1 := dk_seg dksX4_does_0 23 rfl rfl
theorem dksX4_does_2 : cX4_does.data.toList.drop 45 = dktX4_does_2 := dk_seg dksX4_does_1 22 rfl rfl
theorem dksX4_does_3 : cX4_does.data.toList.drop 68 = dktX4_does_3 := dk_seg dksX4_does_2 23 rfl rfl
theorem dX4_does_0 : decode cX4_does 0 = .ok (.aload_n 1, 1) := dk_43 (dk_at dksX4_does_0 0 rfl rfl)
theorem dX4_does_1 : decode cX4_does 1 = .ok (.iconst 1, 1) := dk_4 (dk_at dksX4_does_0 1 rfl rfl)
theorem dX4_does_2 : decode cX4_does 2 = .ok (.iaload, 1) := dk_46 (dk_at dksX4_does_0 2 rfl rfl)
theorem dX4_does_3 : decode cX4_does 3 = .ok (.istore_n 2, 1) := dk_61 (dk_at dksX4_does_0 3 rfl rfl)
theorem dX4_does_4 : decode cX4_does 4 = .ok (.aload_n 1, 1) := dk_43 (dk_at dksX4_does_0 4 rfl rfl)
theorem dX4_does_5 : decode cX4_does 5 = .ok (.iconst 0, 1) := dk_3 (dk_at dksX4_does_0 5 rfl rfl)
theorem dX4_does_6 : decode cX4_does 6 = .ok (.iaload, 1) := dk_46 (dk_at dksX4_does_0 6 rfl rfl)
theorem dX4_does_7 : decode cX4_does 7 = .ok (.ifCond .ne 12, 3) := dk_154 0 12 (dk_at dksX4_does_0 7 rfl rfl)
theorem dX4_does_10 : decode cX4_does 10 = .ok (.aload_n 0, 1) := dk_42 (dk_at dksX4_does_0 10 rfl rfl)
theorem dX4_does_11 : decode cX4_does 11 = .ok (.getfield 79, 3) := dk_180 0 79 (dk_at dksX4_does_0 11 rfl rfl)
theorem dX4_does_14 : decode cX4_does 14 = .ok (.iload_n 2, 1) := dk_28 (dk_at dksX4_does_0 14 rfl rfl)
theorem dX4_does_15 : decode cX4_does 15 = .ok (.aload_n 1, 1) := dk_43 (dk_at dksX4_does_0 15 rfl rfl)
theorem dX4_does_16 : decode cX4_does 16 = .ok (.iconst 2, 1) := dk_5 (dk_at dksX4_does_0 16 rfl rfl)
theorem dX4_does_17 : decode cX4_does 17 = .ok (.iaload, 1) := dk_46 (dk_at dksX4_does_0 17 rfl rfl)
theorem dX4_does_18 : decode cX4_does 18 = .ok (.iastore, 1) := dk_79 (dk_at dksX4_does_0 18 rfl rfl)
theorem dX4_does_19 : decode cX4_does 19 = .ok (.aload_n 1, 1) := dk_43 (dk_at dksX4_does_0 19 rfl rfl)
theorem dX4_does_20 : decode cX4_does 20 = .ok (.iconst 0, 1) := dk_3 (dk_at dksX4_does_0 20 rfl rfl)
theorem dX4_does_21 : decode cX4_does 21 = .ok (.iaload, 1) := dk_46 (dk_at dksX4_does_0 21 rfl rfl)
theorem dX4_does_22 : decode cX4_does 22 = .ok (.iconst 1, 1) := dk_4 (dk_at dksX4_does_0 22 rfl rfl)
theorem dX4_does_23 : decode cX4_does 23 = .ok (.if_icmp .ne 10, 3) := dk_160 0 10 (dk_at dksX4_does_1 0 rfl rfl)
theorem dX4_does_26 : decode cX4_does 26 = .ok (.aload_n 0, 1) := dk_42 (dk_at dksX4_does_1 3 rfl rfl)
theorem dX4_does_27 : decode cX4_does 27 = .ok (.getfield 79, 3) := dk_180 0 79 (dk_at dksX4_does_1 4 rfl rfl)
theorem dX4_does_30 : decode cX4_does 30 = .ok (.iload_n 2, 1) := dk_28 (dk_at dksX4_does_1 7 rfl rfl)
theorem dX4_does_31 : decode cX4_does 31 = .ok (.iconst (-1), 1) := dk_2 (dk_at dksX4_does_1 8 rfl rfl)
theorem dX4_does_32 : decode cX4_does 32 = .ok (.iastore, 1) := dk_79 (dk_at dksX4_does_1 9 rfl rfl)
theorem dX4_does_33 : decode cX4_does 33 = .ok (.aload_n 1, 1) := dk_43 (dk_at dksX4_does_1 10 rfl rfl)
theorem dX4_does_34 : decode cX4_does 34 = .ok (.iconst 0, 1) := dk_3 (dk_at dksX4_does_1 11 rfl rfl)
theorem dX4_does_35 : decode cX4_does 35 = .ok (.iaload, 1) := dk_46 (dk_at dksX4_does_1 12 rfl rfl)
theorem dX4_does_36 : decode cX4_does 36 = .ok (.iconst 2, 1) := dk_5 (dk_at dksX4_does_1 13 rfl rfl)
theorem dX4_does_37 : decode cX4_does 37 = .ok (.if_icmp .ne 11, 3) := dk_160 0 11 (dk_at dksX4_does_1 14 rfl rfl)
theorem dX4_does_40 : decode cX4_does 40 = .ok (.aload_n 0, 1) := dk_42 (dk_at dksX4_does_1 17 rfl rfl)
theorem dX4_does_41 : decode cX4_does 41 = .ok (.iload_n 2, 1) := dk_28 (dk_at dksX4_does_1 18 rfl rfl)
theorem dX4_does_42 : decode cX4_does 42 = .ok (.aload_n 1, 1) := dk_43 (dk_at dksX4_does_1 19 rfl rfl)
theorem dX4_does_43 : decode cX4_does 43 = .ok (.iconst 2, 1) := dk_5 (dk_at dksX4_does_1 20 rfl rfl)
theorem dX4_does_44 : decode cX4_does 44 = .ok (.iaload, 1) := dk_46 (dk_at dksX4_does_1 21 rfl rfl)
theorem dX4_does_45 : decode cX4_does 45 = .ok (.invokevirtual 215, 3) := dk_182 0 215 (dk_at dksX4_does_2 0 rfl rfl)
theorem dX4_does_48 : decode cX4_does 48 = .ok (.aload_n 1, 1) := dk_43 (dk_at dksX4_does_2 3 rfl rfl)
theorem dX4_does_49 : decode cX4_does 49 = .ok (.iconst 0, 1) := dk_3 (dk_at dksX4_does_2 4 rfl rfl)
theorem dX4_does_50 : decode cX4_does 50 = .ok (.iaload, 1) := dk_46 (dk_at dksX4_does_2 5 rfl rfl)
theorem dX4_does_51 : decode cX4_does 51 = .ok (.iconst 3, 1) := dk_6 (dk_at dksX4_does_2 6 rfl rfl)
theorem dX4_does_52 : decode cX4_does 52 = .ok (.if_icmp .ne 12, 3) := dk_160 0 12 (dk_at dksX4_does_2 7 rfl rfl)
theorem dX4_does_55 : decode cX4_does 55 = .ok (.aload_n 0, 1) := dk_42 (dk_at dksX4_does_2 10 rfl rfl)
theorem dX4_does_56 : decode cX4_does 56 = .ok (.iload_n 2, 1) := dk_28 (dk_at dksX4_does_2 11 rfl rfl)
theorem dX4_does_57 : decode cX4_does 57 = .ok (.aload_n 0, 1) := dk_42 (dk_at dksX4_does_2 12 rfl rfl)
theorem dX4_does_58 : decode cX4_does 58 = .ok (.getfield 183, 3) := dk_180 0 183 (dk_at dksX4_does_2 13 rfl rfl)
theorem dX4_does_61 : decode cX4_does 61 = .ok (.invokevirtual 218, 3) := dk_182 0 218 (dk_at dksX4_does_2 16 rfl rfl)
theorem dX4_does_64 : decode cX4_does 64 = .ok (.aload_n 1, 1) := dk_43 (dk_at dksX4_does_2 19 rfl rfl)
theorem dX4_does_65 : decode cX4_does 65 = .ok (.iconst 0, 1) := dk_3 (dk_at dksX4_does_2 20 rfl rfl)
theorem dX4_does_66 : decode cX4_does 66 = .ok (.iaload, 1) := dk_46 (dk_at dksX4_does_2 21 rfl rfl)
theorem dX4_does_67 : decode cX4_does 67 = .ok (.iconst 4, 1) := dk_7 (dk_at dksX4_does_2 22 rfl rfl)
theorem dX4_does_68 : decode cX4_does 68 = .ok (.if_icmp .ne 11, 3) := dk_160 0 11 (dk_at dksX4_does_3 0 rfl rfl)
theorem dX4_does_71 : decode cX4_does 71 = .ok (.aload_n 0, 1) := dk_42 (dk_at dksX4_does_3 3 rfl rfl)
theorem dX4_does_72 : decode cX4_does 72 = .ok (.iload_n 2, 1) := dk_28 (dk_at dksX4_does_3 4 rfl rfl)
theorem dX4_does_73 : decode cX4_does 73 = .ok (.aload_n 1, 1) := dk_43 (dk_at dksX4_does_3 5 rfl rfl)
theorem dX4_does_74 : decode cX4_does 74 = .ok (.iconst 2, 1) := dk_5 (dk_at dksX4_does_3 6 rfl rfl)
theorem dX4_does_75 : decode cX4_does 75 = .ok (.iaload, 1) := dk_46 (dk_at dksX4_does_3 7 rfl rfl)
theorem dX4_does_76 : decode cX4_does 76 = .ok (.invokevirtual 218, 3) := dk_182 0 218 (dk_at dksX4_does_3 8 rfl rfl)
theorem dX4_does_79 : decode cX4_does 79 = .ok (.return_, 1) := dk_177 (dk_at dksX4_does_3 11 rfl rfl)
abbrev cX4_touches : ByteArray := prog_16_method_29_code
def yX4_touches : MethodName := ⟨RX4, "touches", "(II)V"⟩
def dkwX4_touches_7 : List UInt8 := [167, 255, 95, 177]
abbrev dktX4_touches_7 : List UInt8 := dkwX4_touches_7 ++ []
def dkwX4_touches_6 : List UInt8 := [29, 17, 39, 15, 21, 5, 21, 7, 100, 21, 6, 96, 21, 9, 96, 184, 0, 192, 79, 132, 3, 1]
abbrev dktX4_touches_6 : List UInt8 := dkwX4_touches_6 ++ dktX4_touches_7
def dkwX4_touches_5 : List UInt8 := [17, 39, 15, 21, 4, 21, 6, 100, 21, 7, 96, 21, 8, 96, 184, 0, 192, 79, 42, 180, 0, 76, 28, 50]
abbrev dktX4_touches_5 : List UInt8 := dkwX4_touches_5 ++ dktX4_touches_6
def dkwX4_touches_4 : List UInt8 := [42, 180, 0, 22, 42, 180, 0, 79, 27, 46, 50, 29, 46, 54, 9, 42, 180, 0, 76, 27, 50, 29]
abbrev dktX4_touches_4 : List UInt8 := dkwX4_touches_4 ++ dktX4_touches_5
def dkwX4_touches_3 : List UInt8 := [180, 0, 79, 28, 46, 50, 29, 46, 54, 8, 42, 180, 0, 79, 27, 46, 2, 160, 0, 7, 3, 167, 0, 16]
abbrev dktX4_touches_3 : List UInt8 := dkwX4_touches_3 ++ dktX4_touches_4
def dkwX4_touches_2 : List UInt8 := [16, 16, 108, 54, 7, 42, 180, 0, 79, 28, 46, 2, 160, 0, 7, 3, 167, 0, 16, 42, 180, 0, 22, 42]
abbrev dktX4_touches_2 : List UInt8 := dkwX4_touches_2 ++ dktX4_touches_3
def dkwX4_touches_1 : List UInt8 := [29, 46, 54, 5, 21, 4, 42, 180, 0, 186, 104, 16, 16, 108, 54, 6, 21, 5, 42, 180, 0, 186, 104]
abbrev dktX4_touches_1 : List UInt8 := dkwX4_touches_1 ++ dktX4_touches_2
def dkwX4_touches_0 : List UInt8 := [3, 62, 29, 16, 10, 162, 0, 161, 42, 180, 0, 76, 27, 50, 29, 46, 54, 4, 42, 180, 0, 76, 28, 50]
abbrev dktX4_touches_0 : List UInt8 := dkwX4_touches_0 ++ dktX4_touches_1
theorem dksX4_touches_0 : cX4_touches.data.toList.drop 0 = dktX4_touches_0 := by decide +kernel
theorem dksX4_touches_1 : cX4_touches.data.toList.drop 24 = dktX4_touches_1 := dk_seg dksX4_touches_0 24 rfl rfl
theorem dksX4_touches_2 : cX4_touches.data.toList.drop 47 = dktX4_touches_2 := dk_seg dksX4_touches_1 23 rfl rfl
theorem dksX4_touches_3 : cX4_touches.data.toList.drop 71 = dktX4_touches_3 := dk_seg dksX4_touches_2 24 rfl rfl
theorem dksX4_touches_4 : cX4_touches.data.toList.drop 95 = dktX4_touches_4 := dk_seg dksX4_touches_3 24 rfl rfl
theorem dksX4_touches_5 : cX4_touches.data.toList.drop 117 = dktX4_touches_5 := dk_seg dksX4_touches_4 22 rfl rfl
theorem dksX4_touches_6 : cX4_touches.data.toList.drop 141 = dktX4_touches_6 := dk_seg dksX4_touches_5 24 rfl rfl
theorem dksX4_touches_7 : cX4_touches.data.toList.drop 163 = dktX4_touches_7 := dk_seg dksX4_touches_6 22 rfl rfl
theorem dX4_touches_0 : decode cX4_touches 0 = .ok (.iconst 0, 1) := dk_3 (dk_at dksX4_touches_0 0 rfl rfl)
theorem dX4_touches_1 : decode cX4_touches 1 = .ok (.istore_n 3, 1) := dk_62 (dk_at dksX4_touches_0 1 rfl rfl)
theorem dX4_touches_2 : decode cX4_touches 2 = .ok (.iload_n 3, 1) := dk_29 (dk_at dksX4_touches_0 2 rfl rfl)
theorem dX4_touches_3 : decode cX4_touches 3 = .ok (.bipush 10, 2) := dk_16 10 (dk_at dksX4_touches_0 3 rfl rfl)
theorem dX4_touches_5 : decode cX4_touches 5 = .ok (.if_icmp .ge 161, 3) := dk_162 0 161 (dk_at dksX4_touches_0 5 rfl rfl)
theorem dX4_touches_8 : decode cX4_touches 8 = .ok (.aload_n 0, 1) := dk_42 (dk_at dksX4_touches_0 8 rfl rfl)
theorem dX4_touches_9 : decode cX4_touches 9 = .ok (.getfield 76, 3) := dk_180 0 76 (dk_at dksX4_touches_0 9 rfl rfl)
theorem dX4_touches_12 : decode cX4_touches 12 = .ok (.iload_n 1, 1) := dk_27 (dk_at dksX4_touches_0 12 rfl rfl)
theorem dX4_touches_13 : decode cX4_touches 13 = .ok (.aaload, 1) := dk_50 (dk_at dksX4_touches_0 13 rfl rfl)
theorem dX4_touches_14 : decode cX4_touches 14 = .ok (.iload_n 3, 1) := dk_29 (dk_at dksX4_touches_0 14 rfl rfl)
theorem dX4_touches_15 : decode cX4_touches 15 = .ok (.iaload, 1) := dk_46 (dk_at dksX4_touches_0 15 rfl rfl)
theorem dX4_touches_16 : decode cX4_touches 16 = .ok (.istore 4, 2) := dk_54 4 (dk_at dksX4_touches_0 16 rfl rfl)
theorem dX4_touches_18 : decode cX4_touches 18 = .ok (.aload_n 0, 1) := dk_42 (dk_at dksX4_touches_0 18 rfl rfl)
theorem dX4_touches_19 : decode cX4_touches 19 = .ok (.getfield 76, 3) := dk_180 0 76 (dk_at dksX4_touches_0 19 rfl rfl)
theorem dX4_touches_22 : decode cX4_touches 22 = .ok (.iload_n 2, 1) := dk_28 (dk_at dksX4_touches_0 22 rfl rfl)
theorem dX4_touches_23 : decode cX4_touches 23 = .ok (.aaload, 1) := dk_50 (dk_at dksX4_touches_0 23 rfl rfl)
theorem dX4_touches_24 : decode cX4_touches 24 = .ok (.iload_n 3, 1) := dk_29 (dk_at dksX4_touches_1 0 rfl rfl)
theorem dX4_touches_25 : decode cX4_touches 25 = .ok (.iaload, 1) := dk_46 (dk_at dksX4_touches_1 1 rfl rfl)
theorem dX4_touches_26 : decode cX4_touches 26 = .ok (.istore 5, 2) := dk_54 5 (dk_at dksX4_touches_1 2 rfl rfl)
theorem dX4_touches_28 : decode cX4_touches 28 = .ok (.iload 4, 2) := dk_21 4 (dk_at dksX4_touches_1 4 rfl rfl)
theorem dX4_touches_30 : decode cX4_touches 30 = .ok (.aload_n 0, 1) := dk_42 (dk_at dksX4_touches_1 6 rfl rfl)
theorem dX4_touches_31 : decode cX4_touches 31 = .ok (.getfield 186, 3) := dk_180 0 186 (dk_at dksX4_touches_1 7 rfl rfl)
theorem dX4_touches_34 : decode cX4_touches 34 = .ok (.imul, 1) := dk_104 (dk_at dksX4_touches_1 10 rfl rfl)
theorem dX4_touches_35 : decode cX4_touches 35 = .ok (.bipush 16, 2) := dk_16 16 (dk_at dksX4_touches_1 11 rfl rfl)
theorem dX4_touches_37 : decode cX4_touches 37 = .ok (.idiv, 1) := dk_108 (dk_at dksX4_touches_1 13 rfl rfl)
theorem dX4_touches_38 : decode cX4_touches 38 = .ok (.istore 6, 2) := dk_54 6 (dk_at dksX4_touches_1 14 rfl rfl)
theorem dX4_touches_40 : decode cX4_touches 40 = .ok (.iload 5, 2) := dk_21 5 (dk_at dksX4_touches_1 16 rfl rfl)
theorem dX4_touches_42 : decode cX4_touches 42 = .ok (.aload_n 0, 1) := dk_42 (dk_at dksX4_touches_1 18 rfl rfl)
theorem dX4_touches_43 : decode cX4_touches 43 = .ok (.getfield 186, 3) := dk_180 0 186 (dk_at dksX4_touches_1 19 rfl rfl)
theorem dX4_touches_46 : decode cX4_touches 46 = .ok (.imul, 1) := dk_104 (dk_at dksX4_touches_1 22 rfl rfl)
theorem dX4_touches_47 : decode cX4_touches 47 = .ok (.bipush 16, 2) := dk_16 16 (dk_at dksX4_touches_2 0 rfl rfl)
theorem dX4_touches_49 : decode cX4_touches 49 = .ok (.idiv, 1) := dk_108 (dk_at dksX4_touches_2 2 rfl rfl)
theorem dX4_touches_50 : decode cX4_touches 50 = .ok (.istore 7, 2) := dk_54 7 (dk_at dksX4_touches_2 3 rfl rfl)
theorem dX4_touches_52 : decode cX4_touches 52 = .ok (.aload_n 0, 1) := dk_42 (dk_at dksX4_touches_2 5 rfl rfl)
theorem dX4_touches_53 : decode cX4_touches 53 = .ok (.getfield 79, 3) := dk_180 0 79 (dk_at dksX4_touches_2 6 rfl rfl)
theorem dX4_touches_56 : decode cX4_touches 56 = .ok (.iload_n 2, 1) := dk_28 (dk_at dksX4_touches_2 9 rfl rfl)
theorem dX4_touches_57 : decode cX4_touches 57 = .ok (.iaload, 1) := dk_46 (dk_at dksX4_touches_2 10 rfl rfl)
theorem dX4_touches_58 : decode cX4_touches 58 = .ok (.iconst (-1), 1) := dk_2 (dk_at dksX4_touches_2 11 rfl rfl)
theorem dX4_touches_59 : decode cX4_touches 59 = .ok (.if_icmp .ne 7, 3) := dk_160 0 7 (dk_at dksX4_touches_2 12 rfl rfl)
theorem dX4_touches_62 : decode cX4_touches 62 = .ok (.iconst 0, 1) := dk_3 (dk_at dksX4_touches_2 15 rfl rfl)
theorem dX4_touches_63 : decode cX4_touches 63 = .ok (.goto 16, 3) := dk_167 0 16 (dk_at dksX4_touches_2 16 rfl rfl)
theorem dX4_touches_66 : decode cX4_touches 66 = .ok (.aload_n 0, 1) := dk_42 (dk_at dksX4_touches_2 19 rfl rfl)
theorem dX4_touches_67 : decode cX4_touches 67 = .ok (.getfield 22, 3) := dk_180 0 22 (dk_at dksX4_touches_2 20 rfl rfl)
theorem dX4_touches_70 : decode cX4_touches 70 = .ok (.aload_n 0, 1) := dk_42 (dk_at dksX4_touches_2 23 rfl rfl)
theorem dX4_touches_71 : decode cX4_touches 71 = .ok (.getfield 79, 3) := dk_180 0 79 (dk_at dksX4_touches_3 0 rfl rfl)
theorem dX4_touches_74 : decode cX4_touches 74 = .ok (.iload_n 2, 1) := dk_28 (dk_at dksX4_touches_3 3 rfl rfl)
theorem dX4_touches_75 : decode cX4_touches 75 = .ok (.iaload, 1) := dk_46 (dk_at dksX4_touches_3 4 rfl rfl)
theorem dX4_touches_76 : decode cX4_touches 76 = .ok (.aaload, 1) := dk_50 (dk_at dksX4_touches_3 5 rfl rfl)
theorem dX4_touches_77 : decode cX4_touches 77 = .ok (.iload_n 3, 1) := dk_29 (dk_at dksX4_touches_3 6 rfl rfl)
theorem dX4_touches_78 : decode cX4_touches 78 = .ok (.iaload, 1) := dk_46 (dk_at dksX4_touches_3 7 rfl rfl)
theorem dX4_touches_79 : decode cX4_touches 79 = .ok (.istore 8, 2) := dk_54 8 (dk_at dksX4_touches_3 8 rfl rfl)
theorem dX4_touches_81 : decode cX4_touches 81 = .ok (.aload_n 0, 1) := dk_42 (dk_at dksX4_touches_3 10 rfl rfl)
theorem dX4_touches_82 : decode cX4_touches 82 = .ok (.getfield 79, 3) := dk_180 0 79 (dk_at dksX4_touches_3 11 rfl rfl)
theorem dX4_touches_85 : decode cX4_touches 85 = .ok (.iload_n 1, 1) := dk_27 (dk_at dksX4_touches_3 14 rfl rfl)
theorem dX4_touches_86 : decode cX4_touches 86 = .ok (.iaload, 1) := dk_46 (dk_at dksX4_touches_3 15 rfl rfl)
theorem dX4_touches_87 : decode cX4_touches 87 = .ok (.iconst (-1), 1) := dk_2 (dk_at dksX4_touches_3 16 rfl rfl)
theorem dX4_touches_88 : decode cX4_touches 88 = .ok (.if_icmp .ne 7, 3) := dk_160 0 7 (dk_at dksX4_touches_3 17 rfl rfl)
theorem dX4_touches_91 : decode cX4_touches 91 = .ok (.iconst 0, 1) := dk_3 (dk_at dksX4_touches_3 20 rfl rfl)
theorem dX4_touches_92 : decode cX4_touches 92 = .ok (.goto 16, 3) := dk_167 0 16 (dk_at dksX4_touches_3 21 rfl rfl)
theorem dX4_touches_95 : decode cX4_touches 95 = .ok (.aload_n 0, 1) := dk_42 (dk_at dksX4_touches_4 0 rfl rfl)
theorem dX4_touches_96 : decode cX4_touches 96 = .ok (.getfield 22, 3) := dk_180 0 22 (dk_at dksX4_touches_4 1 rfl rfl)
theorem dX4_touches_99 : decode cX4_touches 99 = .ok (.aload_n 0, 1) := dk_42 (dk_at dksX4_touches_4 4 rfl rfl)
theorem dX4_touches_100 : decode cX4_touches 100 = .ok (.getfield 79, 3) := dk_180 0 79 (dk_at dksX4_touches_4 5 rfl rfl)
theorem dX4_touches_103 : decode cX4_touches 103 = .ok (.iload_n 1, 1) := dk_27 (dk_at dksX4_touches_4 8 rfl rfl)
theorem dX4_touches_104 : decode cX4_touches 104 = .ok (.iaload, 1) := dk_46 (dk_at dksX4_touches_4 9 rfl rfl)
theorem dX4_touches_105 : decode cX4_touches 105 = .ok (.aaload, 1) := dk_50 (dk_at dksX4_touches_4 10 rfl rfl)
theorem dX4_touches_106 : decode cX4_touches 106 = .ok (.iload_n 3, 1) := dk_29 (dk_at dksX4_touches_4 11 rfl rfl)
theorem dX4_touches_107 : decode cX4_touches 107 = .ok (.iaload, 1) := dk_46 (dk_at dksX4_touches_4 12 rfl rfl)
theorem dX4_touches_108 : decode cX4_touches 108 = .ok (.istore 9, 2) := dk_54 9 (dk_at dksX4_touches_4 13 rfl rfl)
theorem dX4_touches_110 : decode cX4_touches 110 = .ok (.aload_n 0, 1) := dk_42 (dk_at dksX4_touches_4 15 rfl rfl)
theorem dX4_touches_111 : decode cX4_touches 111 = .ok (.getfield 76, 3) := dk_180 0 76 (dk_at dksX4_touches_4 16 rfl rfl)
theorem dX4_touches_114 : decode cX4_touches 114 = .ok (.iload_n 1, 1) := dk_27 (dk_at dksX4_touches_4 19 rfl rfl)
theorem dX4_touches_115 : decode cX4_touches 115 = .ok (.aaload, 1) := dk_50 (dk_at dksX4_touches_4 20 rfl rfl)
theorem dX4_touches_116 : decode cX4_touches 116 = .ok (.iload_n 3, 1) := dk_29 (dk_at dksX4_touches_4 21 rfl rfl)
theorem dX4_touches_117 : decode cX4_touches 117 = .ok (.sipush 9999, 3) := dk_17 39 15 (dk_at dksX4_touches_5 0 rfl rfl)
theorem dX4_touches_120 : decode cX4_touches 120 = .ok (.iload 4, 2) := dk_21 4 (dk_at dksX4_touches_5 3 rfl rfl)
theorem dX4_touches_122 : decode cX4_touches 122 = .ok (.iload 6, 2) := dk_21 6 (dk_at dksX4_touches_5 5 rfl rfl)
theorem dX4_touches_124 : decode cX4_touches 124 = .ok (.isub, 1) := dk_100 (dk_at dksX4_touches_5 7 rfl rfl)
theorem dX4_touches_125 : decode cX4_touches 125 = .ok (.iload 7, 2) := dk_21 7 (dk_at dksX4_touches_5 8 rfl rfl)
theorem dX4_touches_127 : decode cX4_touches 127 = .ok (.iadd, 1) := dk_96 (dk_at dksX4_touches_5 10 rfl rfl)
theorem dX4_touches_128 : decode cX4_touches 128 = .ok (.iload 8, 2) := dk_21 8 (dk_at dksX4_touches_5 11 rfl rfl)
theorem dX4_touches_130 : decode cX4_touches 130 = .ok (.iadd, 1) := dk_96 (dk_at dksX4_touches_5 13 rfl rfl)
theorem dX4_touches_131 : decode cX4_touches 131 = .ok (.invokestatic 192, 3) := dk_184 0 192 (dk_at dksX4_touches_5 14 rfl rfl)
theorem dX4_touches_134 : decode cX4_touches 134 = .ok (.iastore, 1) := dk_79 (dk_at dksX4_touches_5 17 rfl rfl)
theorem dX4_touches_135 : decode cX4_touches 135 = .ok (.aload_n 0, 1) := dk_42 (dk_at dksX4_touches_5 18 rfl rfl)
theorem dX4_touches_136 : decode cX4_touches 136 = .ok (.getfield 76, 3) := dk_180 0 76 (dk_at dksX4_touches_5 19 rfl rfl)
theorem dX4_touches_139 : decode cX4_touches 139 = .ok (.iload_n 2, 1) := dk_28 (dk_at dksX4_touches_5 22 rfl rfl)
theorem dX4_touches_140 : decode cX4_touches 140 = .ok (.aaload, 1) := dk_50 (dk_at dksX4_touches_5 23 rfl rfl)
theorem dX4_touches_141 : decode cX4_touches 141 = .ok (.iload_n 3, 1) := dk_29 (dk_at dksX4_touches_6 0 rfl rfl)
theorem dX4_touches_142 : decode cX4_touches 142 = .ok (.sipush 9999, 3) := dk_17 39 15 (dk_at dksX4_touches_6 1 rfl rfl)
theorem dX4_touches_145 : decode cX4_touches 145 = .ok (.iload 5, 2) := dk_21 5 (dk_at dksX4_touches_6 4 rfl rfl)
theorem dX4_touches_147 : decode cX4_touches 147 = .ok (.iload 7, 2) := dk_21 7 (dk_at dksX4_touches_6 6 rfl rfl)
theorem dX4_touches_149 : decode cX4_touches 149 = .ok (.isub, 1) := dk_100 (dk_at dksX4_touches_6 8 rfl rfl)
theorem dX4_touches_150 : decode cX4_touches 150 = .ok (.iload 6, 2) := dk_21 6 (dk_at dksX4_touches_6 9 rfl rfl)
theorem dX4_touches_152 : decode cX4_touches 152 = .ok (.iadd, 1) := dk_96 (dk_at dksX4_touches_6 11 rfl rfl)
theorem dX4_touches_153 : decode cX4_touches 153 = .ok (.iload 9, 2) := dk_21 9 (dk_at dksX4_touches_6 12 rfl rfl)
theorem dX4_touches_155 : decode cX4_touches 155 = .ok (.iadd, 1) := dk_96 (dk_at dksX4_touches_6 14 rfl rfl)
theorem dX4_touches_156 : decode cX4_touches 156 = .ok (.invokestatic 192, 3) := dk_184 0 192 (dk_at dksX4_touches_6 15 rfl rfl)
theorem dX4_touches_159 : decode cX4_touches 159 = .ok (.iastore, 1) := dk_79 (dk_at dksX4_touches_6 18 rfl rfl)
theorem dX4_touches_160 : decode cX4_touches 160 = .ok (.iinc 3 1, 3) := dk_132 3 1 (dk_at dksX4_touches_6 19 rfl rfl)
theorem dX4_touches_163 : decode cX4_touches 163 = .ok (.goto (-161), 3) := dk_167 255 95 (dk_at dksX4_touches_7 0 rfl rfl)
theorem dX4_touches_166 : decode cX4_touches 166 = .ok (.return_, 1) := dk_177 (dk_at dksX4_touches_7 3 rfl rfl)
abbrev cX4_stays : ByteArray := prog_16_method_33_code
def yX4_stays : MethodName := ⟨RX4, "stays", "(II)V"⟩
def dkwX4_stays_1 : List UInt8 := [104, 16, 16, 108, 79, 132, 3, 1, 167, 255, 226, 177]
abbrev dktX4_stays_1 : List UInt8 := dkwX4_stays_1 ++ []
def dkwX4_stays_0 : List UInt8 := [3, 62, 29, 16, 10, 162, 0, 30, 42, 180, 0, 76, 27, 50, 29, 42, 180, 0, 76, 27, 50, 29, 46, 28]
abbrev dktX4_stays_0 : List UInt8 := dkwX4_stays_0 ++ dktX4_stays_1
theorem dksX4_stays_0 : cX4_stays.data.toList.drop 0 = dktX4_stays_0 := by decide +kernel
theorem dksX4_stays_1 : cX4_stays.data.toList.drop 24 = dktX4_stays_1 := dk_seg dksX4_stays_0 24 rfl rfl
theorem dX4_stays_0 : decode cX4_stays 0 = .ok (.iconst 0, 1) := dk_3 (dk_at dksX4_stays_0 0 rfl rfl)
theorem dX4_stays_1 : decode cX4_stays 1 = .ok (.istore_n 3, 1) := dk_62 (dk_at dksX4_stays_0 1 rfl rfl)
theorem dX4_stays_2 : decode cX4_stays 2 = .ok (.iload_n 3, 1) := dk_29 (dk_at dksX4_stays_0 2 rfl rfl)
theorem dX4_stays_3 : decode cX4_stays 3 = .ok (.bipush 10, 2) := dk_16 10 (dk_at dksX4_stays_0 3 rfl rfl)
theorem dX4_stays_5 : decode cX4_stays 5 = .ok (.if_icmp .ge 30, 3) := dk_162 0 30 (dk_at dksX4_stays_0 5 rfl rfl)
theorem dX4_stays_8 : decode cX4_stays 8 = .ok (.aload_n 0, 1) := dk_42 (dk_at dksX4_stays_0 8 rfl rfl)
theorem dX4_stays_9 : decode cX4_stays 9 = .ok (.getfield 76, 3) := dk_180 0 76 (dk_at dksX4_stays_0 9 rfl rfl)
theorem dX4_stays_12 : decode cX4_stays 12 = .ok (.iload_n 1, 1) := dk_27 (dk_at dksX4_stays_0 12 rfl rfl)
theorem dX4_stays_13 : decode cX4_stays 13 = .ok (.aaload, 1) := dk_50 (dk_at dksX4_stays_0 13 rfl rfl)
theorem dX4_stays_14 : decode cX4_stays 14 = .ok (.iload_n 3, 1) := dk_29 (dk_at dksX4_stays_0 14 rfl rfl)
theorem dX4_stays_15 : decode cX4_stays 15 = .ok (.aload_n 0, 1) := dk_42 (dk_at dksX4_stays_0 15 rfl rfl)
theorem dX4_stays_16 : decode cX4_stays 16 = .ok (.getfield 76, 3) := dk_180 0 76 (dk_at dksX4_stays_0 16 rfl rfl)
theorem dX4_stays_19 : decode cX4_stays 19 = .ok (.iload_n 1, 1) := dk_27 (dk_at dksX4_stays_0 19 rfl rfl)
theorem dX4_stays_20 : decode cX4_stays 20 = .ok (.aaload, 1) := dk_50 (dk_at dksX4_stays_0 20 rfl rfl)
theorem dX4_stays_21 : decode cX4_stays 21 = .ok (.iload_n 3, 1) := dk_29 (dk_at dksX4_stays_0 21 rfl rfl)
theorem dX4_stays_22 : decode cX4_stays 22 = .ok (.iaload, 1) := dk_46 (dk_at dksX4_stays_0 22 rfl rfl)
theorem dX4_stays_23 : decode cX4_stays 23 = .ok (.iload_n 2, 1) := dk_28 (dk_at dksX4_stays_0 23 rfl rfl)
theorem dX4_stays_24 : decode cX4_stays 24 = .ok (.imul, 1) := dk_104 (dk_at dksX4_stays_1 0 rfl rfl)
theorem dX4_stays_25 : decode cX4_stays 25 = .ok (.bipush 16, 2) := dk_16 16 (dk_at dksX4_stays_1 1 rfl rfl)
theorem dX4_stays_27 : decode cX4_stays 27 = .ok (.idiv, 1) := dk_108 (dk_at dksX4_stays_1 3 rfl rfl)
theorem dX4_stays_28 : decode cX4_stays 28 = .ok (.iastore, 1) := dk_79 (dk_at dksX4_stays_1 4 rfl rfl)
theorem dX4_stays_29 : decode cX4_stays 29 = .ok (.iinc 3 1, 3) := dk_132 3 1 (dk_at dksX4_stays_1 5 rfl rfl)
theorem dX4_stays_32 : decode cX4_stays 32 = .ok (.goto (-30), 3) := dk_167 255 226 (dk_at dksX4_stays_1 8 rfl rfl)
theorem dX4_stays_35 : decode cX4_stays 35 = .ok (.return_, 1) := dk_177 (dk_at dksX4_stays_1 11 rfl rfl)
abbrev cX4_pile : ByteArray := prog_16_method_40_code
def yX4_pile : MethodName := ⟨RX4, "pile", "(IIII)I"⟩
def dkwX4_pile_2 : List UInt8 := [42, 28, 29, 182, 0, 244, 172]
abbrev dktX4_pile_2 : List UInt8 := dkwX4_pile_2 ++ []
def dkwX4_pile_1 : List UInt8 := [154, 0, 15, 42, 28, 29, 21, 4, 5, 182, 0, 238, 153, 0, 5, 3, 172, 42, 27, 21, 4, 182, 0, 241]
abbrev dktX4_pile_1 : List UInt8 := dkwX4_pile_1 ++ dktX4_pile_2
def dkwX4_pile_0 : List UInt8 := [42, 3, 181, 0, 94, 42, 42, 27, 182, 0, 235, 154, 0, 7, 4, 167, 0, 4, 3, 4, 182, 0, 170]
abbrev dktX4_pile_0 : List UInt8 := dkwX4_pile_0 ++ dktX4_pile_1
theorem dksX4_pile_0 : cX4_pile.data.toList.drop 0 = dktX4_pile_0 := by decide +kernel
theorem dksX4_pile_1 : cX4_pile.data.toList.drop 23 = dktX4_pile_1 := dk_seg dksX4_pile_0 23 rfl rfl
theorem dksX4_pile_2 : cX4_pile.data.toList.drop 47 = dktX4_pile_2 := dk_seg dksX4_pile_1 24 rfl rfl
theorem dX4_pile_0 : decode cX4_pile 0 = .ok (.aload_n 0, 1) := dk_42 (dk_at dksX4_pile_0 0 rfl rfl)
theorem dX4_pile_1 : decode cX4_pile 1 = .ok (.iconst 0, 1) := dk_3 (dk_at dksX4_pile_0 1 rfl rfl)
theorem dX4_pile_2 : decode cX4_pile 2 = .ok (.putfield 94, 3) := dk_181 0 94 (dk_at dksX4_pile_0 2 rfl rfl)
theorem dX4_pile_5 : decode cX4_pile 5 = .ok (.aload_n 0, 1) := dk_42 (dk_at dksX4_pile_0 5 rfl rfl)
theorem dX4_pile_6 : decode cX4_pile 6 = .ok (.aload_n 0, 1) := dk_42 (dk_at dksX4_pile_0 6 rfl rfl)
theorem dX4_pile_7 : decode cX4_pile 7 = .ok (.iload_n 1, 1) := dk_27 (dk_at dksX4_pile_0 7 rfl rfl)
theorem dX4_pile_8 : decode cX4_pile 8 = .ok (.invokevirtual 235, 3) := dk_182 0 235 (dk_at dksX4_pile_0 8 rfl rfl)
theorem dX4_pile_11 : decode cX4_pile 11 = .ok (.ifCond .ne 7, 3) := dk_154 0 7 (dk_at dksX4_pile_0 11 rfl rfl)
theorem dX4_pile_14 : decode cX4_pile 14 = .ok (.iconst 1, 1) := dk_4 (dk_at dksX4_pile_0 14 rfl rfl)
theorem dX4_pile_15 : decode cX4_pile 15 = .ok (.goto 4, 3) := dk_167 0 4 (dk_at dksX4_pile_0 15 rfl rfl)
theorem dX4_pile_18 : decode cX4_pile 18 = .ok (.iconst 0, 1) := dk_3 (dk_at dksX4_pile_0 18 rfl rfl)
theorem dX4_pile_19 : decode cX4_pile 19 = .ok (.iconst 1, 1) := dk_4 (dk_at dksX4_pile_0 19 rfl rfl)
theorem dX4_pile_20 : decode cX4_pile 20 = .ok (.invokevirtual 170, 3) := dk_182 0 170 (dk_at dksX4_pile_0 20 rfl rfl)
theorem dX4_pile_23 : decode cX4_pile 23 = .ok (.ifCond .ne 15, 3) := dk_154 0 15 (dk_at dksX4_pile_1 0 rfl rfl)
theorem dX4_pile_26 : decode cX4_pile 26 = .ok (.aload_n 0, 1) := dk_42 (dk_at dksX4_pile_1 3 rfl rfl)
theorem dX4_pile_27 : decode cX4_pile 27 = .ok (.iload_n 2, 1) := dk_28 (dk_at dksX4_pile_1 4 rfl rfl)
theorem dX4_pile_28 : decode cX4_pile 28 = .ok (.iload_n 3, 1) := dk_29 (dk_at dksX4_pile_1 5 rfl rfl)
theorem dX4_pile_29 : decode cX4_pile 29 = .ok (.iload 4, 2) := dk_21 4 (dk_at dksX4_pile_1 6 rfl rfl)
theorem dX4_pile_31 : decode cX4_pile 31 = .ok (.iconst 2, 1) := dk_5 (dk_at dksX4_pile_1 8 rfl rfl)
theorem dX4_pile_32 : decode cX4_pile 32 = .ok (.invokevirtual 238, 3) := dk_182 0 238 (dk_at dksX4_pile_1 9 rfl rfl)
theorem dX4_pile_35 : decode cX4_pile 35 = .ok (.ifCond .eq 5, 3) := dk_153 0 5 (dk_at dksX4_pile_1 12 rfl rfl)
theorem dX4_pile_38 : decode cX4_pile 38 = .ok (.iconst 0, 1) := dk_3 (dk_at dksX4_pile_1 15 rfl rfl)
theorem dX4_pile_39 : decode cX4_pile 39 = .ok (.ireturn, 1) := dk_172 (dk_at dksX4_pile_1 16 rfl rfl)
theorem dX4_pile_40 : decode cX4_pile 40 = .ok (.aload_n 0, 1) := dk_42 (dk_at dksX4_pile_1 17 rfl rfl)
theorem dX4_pile_41 : decode cX4_pile 41 = .ok (.iload_n 1, 1) := dk_27 (dk_at dksX4_pile_1 18 rfl rfl)
theorem dX4_pile_42 : decode cX4_pile 42 = .ok (.iload 4, 2) := dk_21 4 (dk_at dksX4_pile_1 19 rfl rfl)
theorem dX4_pile_44 : decode cX4_pile 44 = .ok (.invokevirtual 241, 3) := dk_182 0 241 (dk_at dksX4_pile_1 21 rfl rfl)
theorem dX4_pile_47 : decode cX4_pile 47 = .ok (.aload_n 0, 1) := dk_42 (dk_at dksX4_pile_2 0 rfl rfl)
theorem dX4_pile_48 : decode cX4_pile 48 = .ok (.iload_n 2, 1) := dk_28 (dk_at dksX4_pile_2 1 rfl rfl)
theorem dX4_pile_49 : decode cX4_pile 49 = .ok (.iload_n 3, 1) := dk_29 (dk_at dksX4_pile_2 2 rfl rfl)
theorem dX4_pile_50 : decode cX4_pile 50 = .ok (.invokevirtual 244, 3) := dk_182 0 244 (dk_at dksX4_pile_2 3 rfl rfl)
theorem dX4_pile_53 : decode cX4_pile 53 = .ok (.ireturn, 1) := dk_172 (dk_at dksX4_pile_2 6 rfl rfl)
abbrev cX4_pileAt : ByteArray := prog_16_method_39_code
def yX4_pileAt : MethodName := ⟨RX4, "pileAt", "(II)I"⟩
def dkwX4_pileAt_2 : List UInt8 := [167, 0, 4, 3, 96, 54, 4, 132, 5, 1, 167, 255, 210, 21, 4, 16, 60, 184, 0, 192, 172]
abbrev dktX4_pileAt_2 : List UInt8 := dkwX4_pileAt_2 ++ []
def dkwX4_pileAt_1 : List UInt8 := [122, 4, 126, 4, 160, 0, 23, 42, 180, 0, 76, 27, 50, 21, 5, 46, 42, 180, 0, 28, 21, 5, 46, 96]
abbrev dktX4_pileAt_1 : List UInt8 := dkwX4_pileAt_1 ++ dktX4_pileAt_2
def dkwX4_pileAt_0 : List UInt8 := [42, 28, 182, 0, 202, 62, 3, 54, 4, 3, 54, 5, 21, 5, 16, 10, 162, 0, 45, 21, 4, 29, 21, 5]
abbrev dktX4_pileAt_0 : List UInt8 := dkwX4_pileAt_0 ++ dktX4_pileAt_1
theorem dksX4_pileAt_0 : cX4_pileAt.data.toList.drop 0 = dktX4_pileAt_0 := by decide +kernel
theorem dksX4_pileAt_1 : cX4_pileAt.data.toList.drop 24 = dktX4_pileAt_1 := dk_seg dksX4_pileAt_0 24 rfl rfl
theorem dksX4_pileAt_2 : cX4_pileAt.data.toList.drop 48 = dktX4_pileAt_2 := dk_seg dksX4_pileAt_1 24 rfl rfl
theorem dX4_pileAt_0 : decode cX4_pileAt 0 = .ok (.aload_n 0, 1) := dk_42 (dk_at dksX4_pileAt_0 0 rfl rfl)
theorem dX4_pileAt_1 : decode cX4_pileAt 1 = .ok (.iload_n 2, 1) := dk_28 (dk_at dksX4_pileAt_0 1 rfl rfl)
theorem dX4_pileAt_2 : decode cX4_pileAt 2 = .ok (.invokevirtual 202, 3) := dk_182 0 202 (dk_at dksX4_pileAt_0 2 rfl rfl)
theorem dX4_pileAt_5 : decode cX4_pileAt 5 = .ok (.istore_n 3, 1) := dk_62 (dk_at dksX4_pileAt_0 5 rfl rfl)
theorem dX4_pileAt_6 : decode cX4_pileAt 6 = .ok (.iconst 0, 1) := dk_3 (dk_at dksX4_pileAt_0 6 rfl rfl)
theorem dX4_pileAt_7 : decode cX4_pileAt 7 = .ok (.istore 4, 2) := dk_54 4 (dk_at dksX4_pileAt_0 7 rfl rfl)
theorem dX4_pileAt_9 : decode cX4_pileAt 9 = .ok (.iconst 0, 1) := dk_3 (dk_at dksX4_pileAt_0 9 rfl rfl)
theorem dX4_pileAt_10 : decode cX4_pileAt 10 = .ok (.istore 5, 2) := dk_54 5 (dk_at dksX4_pileAt_0 10 rfl rfl)
theorem dX4_pileAt_12 : decode cX4_pileAt 12 = .ok (.iload 5, 2) := dk_21 5 (dk_at dksX4_pileAt_0 12 rfl rfl)
theorem dX4_pileAt_14 : decode cX4_pileAt 14 = .ok (.bipush 10, 2) := dk_16 10 (dk_at dksX4_pileAt_0 14 rfl rfl)
theorem dX4_pileAt_16 : decode cX4_pileAt 16 = .ok (.if_icmp .ge 45, 3) := dk_162 0 45 (dk_at dksX4_pileAt_0 16 rfl rfl)
theorem dX4_pileAt_19 : decode cX4_pileAt 19 = .ok (.iload 4, 2) := dk_21 4 (dk_at dksX4_pileAt_0 19 rfl rfl)
theorem dX4_pileAt_21 : decode cX4_pileAt 21 = .ok (.iload_n 3, 1) := dk_29 (dk_at dksX4_pileAt_0 21 rfl rfl)
theorem dX4_pileAt_22 : decode cX4_pileAt 22 = .ok (.iload 5, 2) := dk_21 5 (dk_at dksX4_pileAt_0 22 rfl rfl)
theorem dX4_pileAt_24 : decode cX4_pileAt 24 = .ok (.ishr, 1) := dk_122 (dk_at dksX4_pileAt_1 0 rfl rfl)
theorem dX4_pileAt_25 : decode cX4_pileAt 25 = .ok (.iconst 1, 1) := dk_4 (dk_at dksX4_pileAt_1 1 rfl rfl)
theorem dX4_pileAt_26 : decode cX4_pileAt 26 = .ok (.iand, 1) := dk_126 (dk_at dksX4_pileAt_1 2 rfl rfl)
theorem dX4_pileAt_27 : decode cX4_pileAt 27 = .ok (.iconst 1, 1) := dk_4 (dk_at dksX4_pileAt_1 3 rfl rfl)
theorem dX4_pileAt_28 : decode cX4_pileAt 28 = .ok (.if_icmp .ne 23, 3) := dk_160 0 23 (dk_at dksX4_pileAt_1 4 rfl rfl)
theorem dX4_pileAt_31 : decode cX4_pileAt 31 = .ok (.aload_n 0, 1) := dk_42 (dk_at dksX4_pileAt_1 7 rfl rfl)
theorem dX4_pileAt_32 : decode cX4_pileAt 32 = .ok (.getfield 76, 3) := dk_180 0 76 (dk_at dksX4_pileAt_1 8 rfl rfl)
theorem dX4_pileAt_35 : decode cX4_pileAt 35 = .ok (.iload_n 1, 1) := dk_27 (dk_at dksX4_pileAt_1 11 rfl rfl)
theorem dX4_pileAt_36 : decode cX4_pileAt 36 = .ok (.aaload, 1) := dk_50 (dk_at dksX4_pileAt_1 12 rfl rfl)
theorem dX4_pileAt_37 : decode cX4_pileAt 37 = .ok (.iload 5, 2) := dk_21 5 (dk_at dksX4_pileAt_1 13 rfl rfl)
theorem dX4_pileAt_39 : decode cX4_pileAt 39 = .ok (.iaload, 1) := dk_46 (dk_at dksX4_pileAt_1 15 rfl rfl)
theorem dX4_pileAt_40 : decode cX4_pileAt 40 = .ok (.aload_n 0, 1) := dk_42 (dk_at dksX4_pileAt_1 16 rfl rfl)
theorem dX4_pileAt_41 : decode cX4_pileAt 41 = .ok (.getfield 28, 3) := dk_180 0 28 (dk_at dksX4_pileAt_1 17 rfl rfl)
theorem dX4_pileAt_44 : decode cX4_pileAt 44 = .ok (.iload 5, 2) := dk_21 5 (dk_at dksX4_pileAt_1 20 rfl rfl)
theorem dX4_pileAt_46 : decode cX4_pileAt 46 = .ok (.iaload, 1) := dk_46 (dk_at dksX4_pileAt_1 22 rfl rfl)
theorem dX4_pileAt_47 : decode cX4_pileAt 47 = .ok (.iadd, 1) := dk_96 (dk_at dksX4_pileAt_1 23 rfl rfl)
theorem dX4_pileAt_48 : decode cX4_pileAt 48 = .ok (.goto 4, 3) := dk_167 0 4 (dk_at dksX4_pileAt_2 0 rfl rfl)
theorem dX4_pileAt_51 : decode cX4_pileAt 51 = .ok (.iconst 0, 1) := dk_3 (dk_at dksX4_pileAt_2 3 rfl rfl)
theorem dX4_pileAt_52 : decode cX4_pileAt 52 = .ok (.iadd, 1) := dk_96 (dk_at dksX4_pileAt_2 4 rfl rfl)
theorem dX4_pileAt_53 : decode cX4_pileAt 53 = .ok (.istore 4, 2) := dk_54 4 (dk_at dksX4_pileAt_2 5 rfl rfl)
theorem dX4_pileAt_55 : decode cX4_pileAt 55 = .ok (.iinc 5 1, 3) := dk_132 5 1 (dk_at dksX4_pileAt_2 7 rfl rfl)
theorem dX4_pileAt_58 : decode cX4_pileAt 58 = .ok (.goto (-46), 3) := dk_167 255 210 (dk_at dksX4_pileAt_2 10 rfl rfl)
theorem dX4_pileAt_61 : decode cX4_pileAt 61 = .ok (.iload 4, 2) := dk_21 4 (dk_at dksX4_pileAt_2 13 rfl rfl)
theorem dX4_pileAt_63 : decode cX4_pileAt 63 = .ok (.bipush 60, 2) := dk_16 60 (dk_at dksX4_pileAt_2 15 rfl rfl)
theorem dX4_pileAt_65 : decode cX4_pileAt 65 = .ok (.invokestatic 192, 3) := dk_184 0 192 (dk_at dksX4_pileAt_2 17 rfl rfl)
theorem dX4_pileAt_68 : decode cX4_pileAt 68 = .ok (.ireturn, 1) := dk_172 (dk_at dksX4_pileAt_2 20 rfl rfl)
abbrev cX4_wears : ByteArray := prog_16_method_41_code
def yX4_wears : MethodName := ⟨RX4, "wears", "(III)I"⟩
def dkwX4_wears_2 : List UInt8 := [180, 0, 79, 28, 46, 172]
abbrev dktX4_wears_2 : List UInt8 := dkwX4_wears_2 ++ []
def dkwX4_wears_1 : List UInt8 := [154, 0, 14, 42, 28, 3, 29, 5, 182, 0, 238, 153, 0, 5, 3, 172, 42, 27, 29, 182, 0, 241, 42]
abbrev dktX4_wears_1 : List UInt8 := dkwX4_wears_1 ++ dktX4_wears_2
def dkwX4_wears_0 : List UInt8 := [42, 3, 181, 0, 94, 42, 42, 27, 182, 0, 235, 154, 0, 7, 4, 167, 0, 4, 3, 4, 182, 0, 170]
abbrev dktX4_wears_0 : List UInt8 := dkwX4_wears_0 ++ dktX4_wears_1
theorem dksX4_wears_0 : cX4_wears.data.toList.drop 0 = dktX4_wears_0 := by decide +kernel
theorem dksX4_wears_1 : cX4_wears.data.toList.drop 23 = dktX4_wears_1 := dk_seg dksX4_wears_0 23 rfl rfl
theorem dksX4_wears_2 : cX4_wears.data.toList.drop 46 = dktX4_wears_2 := dk_seg dksX4_wears_1 23 rfl rfl
theorem dX4_wears_0 : decode cX4_wears 0 = .ok (.aload_n 0, 1) := dk_42 (dk_at dksX4_wears_0 0 rfl rfl)
theorem dX4_wears_1 : decode cX4_wears 1 = .ok (.iconst 0, 1) := dk_3 (dk_at dksX4_wears_0 1 rfl rfl)
theorem dX4_wears_2 : decode cX4_wears 2 = .ok (.putfield 94, 3) := dk_181 0 94 (dk_at dksX4_wears_0 2 rfl rfl)
theorem dX4_wears_5 : decode cX4_wears 5 = .ok (.aload_n 0, 1) := dk_42 (dk_at dksX4_wears_0 5 rfl rfl)
theorem dX4_wears_6 : decode cX4_wears 6 = .ok (.aload_n 0, 1) := dk_42 (dk_at dksX4_wears_0 6 rfl rfl)
theorem dX4_wears_7 : decode cX4_wears 7 = .ok (.iload_n 1, 1) := dk_27 (dk_at dksX4_wears_0 7 rfl rfl)
theorem dX4_wears_8 : decode cX4_wears 8 = .ok (.invokevirtual 235, 3) := dk_182 0 235 (dk_at dksX4_wears_0 8 rfl rfl)
theorem dX4_wears_11 : decode cX4_wears 11 = .ok (.ifCond .ne 7, 3) := dk_154 0 7 (dk_at dksX4_wears_0 11 rfl rfl)
theorem dX4_wears_14 : decode cX4_wears 14 = .ok (.iconst 1, 1) := dk_4 (dk_at dksX4_wears_0 14 rfl rfl)
theorem dX4_wears_15 : decode cX4_wears 15 = .ok (.goto 4, 3) := dk_167 0 4 (dk_at dksX4_wears_0 15 rfl rfl)
theorem dX4_wears_18 : decode cX4_wears 18 = .ok (.iconst 0, 1) := dk_3 (dk_at dksX4_wears_0 18 rfl rfl)
theorem dX4_wears_19 : decode cX4_wears 19 = .ok (.iconst 1, 1) := dk_4 (dk_at dksX4_wears_0 19 rfl rfl)
theorem dX4_wears_20 : decode cX4_wears 20 = .ok (.invokevirtual 170, 3) := dk_182 0 170 (dk_at dksX4_wears_0 20 rfl rfl)
theorem dX4_wears_23 : decode cX4_wears 23 = .ok (.ifCond .ne 14, 3) := dk_154 0 14 (dk_at dksX4_wears_1 0 rfl rfl)
theorem dX4_wears_26 : decode cX4_wears 26 = .ok (.aload_n 0, 1) := dk_42 (dk_at dksX4_wears_1 3 rfl rfl)
theorem dX4_wears_27 : decode cX4_wears 27 = .ok (.iload_n 2, 1) := dk_28 (dk_at dksX4_wears_1 4 rfl rfl)
theorem dX4_wears_28 : decode cX4_wears 28 = .ok (.iconst 0, 1) := dk_3 (dk_at dksX4_wears_1 5 rfl rfl)
theorem dX4_wears_29 : decode cX4_wears 29 = .ok (.iload_n 3, 1) := dk_29 (dk_at dksX4_wears_1 6 rfl rfl)
theorem dX4_wears_30 : decode cX4_wears 30 = .ok (.iconst 2, 1) := dk_5 (dk_at dksX4_wears_1 7 rfl rfl)
theorem dX4_wears_31 : decode cX4_wears 31 = .ok (.invokevirtual 238, 3) := dk_182 0 238 (dk_at dksX4_wears_1 8 rfl rfl)
theorem dX4_wears_34 : decode cX4_wears 34 = .ok (.ifCond .eq 5, 3) := dk_153 0 5 (dk_at dksX4_wears_1 11 rfl rfl)
theorem dX4_wears_37 : decode cX4_wears 37 = .ok (.iconst 0, 1) := dk_3 (dk_at dksX4_wears_1 14 rfl rfl)
theorem dX4_wears_38 : decode cX4_wears 38 = .ok (.ireturn, 1) := dk_172 (dk_at dksX4_wears_1 15 rfl rfl)
theorem dX4_wears_39 : decode cX4_wears 39 = .ok (.aload_n 0, 1) := dk_42 (dk_at dksX4_wears_1 16 rfl rfl)
theorem dX4_wears_40 : decode cX4_wears 40 = .ok (.iload_n 1, 1) := dk_27 (dk_at dksX4_wears_1 17 rfl rfl)
theorem dX4_wears_41 : decode cX4_wears 41 = .ok (.iload_n 3, 1) := dk_29 (dk_at dksX4_wears_1 18 rfl rfl)
theorem dX4_wears_42 : decode cX4_wears 42 = .ok (.invokevirtual 241, 3) := dk_182 0 241 (dk_at dksX4_wears_1 19 rfl rfl)
theorem dX4_wears_45 : decode cX4_wears 45 = .ok (.aload_n 0, 1) := dk_42 (dk_at dksX4_wears_1 22 rfl rfl)
theorem dX4_wears_46 : decode cX4_wears 46 = .ok (.getfield 79, 3) := dk_180 0 79 (dk_at dksX4_wears_2 0 rfl rfl)
theorem dX4_wears_49 : decode cX4_wears 49 = .ok (.iload_n 2, 1) := dk_28 (dk_at dksX4_wears_2 3 rfl rfl)
theorem dX4_wears_50 : decode cX4_wears 50 = .ok (.iaload, 1) := dk_46 (dk_at dksX4_wears_2 4 rfl rfl)
theorem dX4_wears_51 : decode cX4_wears 51 = .ok (.ireturn, 1) := dk_172 (dk_at dksX4_wears_2 5 rfl rfl)
abbrev cX4_find : ByteArray := prog_16_method_42_code
def yX4_find : MethodName := ⟨RX4, "find", "(IIII)I"⟩
def dkwX4_find_5 : List UInt8 := [172]
abbrev dktX4_find_5 : List UInt8 := dkwX4_find_5 ++ []
def dkwX4_find_4 : List UInt8 := [180, 0, 247, 50, 6, 21, 4, 79, 42, 89, 180, 0, 247, 4, 96, 181, 0, 247, 42, 180, 0, 247, 4, 100]
abbrev dktX4_find_4 : List UInt8 := dkwX4_find_4 ++ dktX4_find_5
def dkwX4_find_3 : List UInt8 := [180, 0, 247, 50, 4, 28, 79, 42, 180, 0, 55, 42, 180, 0, 247, 50, 5, 29, 79, 42, 180, 0, 55, 42]
abbrev dktX4_find_3 : List UInt8 := dkwX4_find_3 ++ dktX4_find_4
def dkwX4_find_2 : List UInt8 := [16, 8, 160, 0, 5, 2, 172, 42, 180, 0, 55, 42, 180, 0, 247, 50, 3, 27, 79, 42, 180, 0, 55, 42]
abbrev dktX4_find_2 : List UInt8 := dkwX4_find_2 ++ dktX4_find_3
def dkwX4_find_1 : List UInt8 := [184, 0, 128, 154, 0, 7, 4, 167, 0, 4, 3, 4, 182, 0, 170, 153, 0, 5, 3, 172, 42, 180, 0, 247]
abbrev dktX4_find_1 : List UInt8 := dkwX4_find_1 ++ dktX4_find_2
def dkwX4_find_0 : List UInt8 := [42, 3, 181, 0, 94, 42, 27, 29, 28, 4, 182, 0, 238, 154, 0, 27, 42, 21, 4, 3, 16, 60]
abbrev dktX4_find_0 : List UInt8 := dkwX4_find_0 ++ dktX4_find_1
theorem dksX4_find_0 : cX4_find.data.toList.drop 0 = dktX4_find_0 := by decide +kernel
theorem dksX4_find_1 : cX4_find.data.toList.drop 22 = dktX4_find_1 := dk_seg dksX4_find_0 22 rfl rfl
theorem dksX4_find_2 : cX4_find.data.toList.drop 46 = dktX4_find_2 := dk_seg dksX4_find_1 24 rfl rfl
theorem dksX4_find_3 : cX4_find.data.toList.drop 70 = dktX4_find_3 := dk_seg dksX4_find_2 24 rfl rfl
theorem dksX4_find_4 : cX4_find.data.toList.drop 94 = dktX4_find_4 := dk_seg dksX4_find_3 24 rfl rfl
theorem dksX4_find_5 : cX4_find.data.toList.drop 118 = dktX4_find_5 := dk_seg dksX4_find_4 24 rfl rfl
theorem dX4_find_0 : decode cX4_find 0 = .ok (.aload_n 0, 1) := dk_42 (dk_at dksX4_find_0 0 rfl rfl)
theorem dX4_find_1 : decode cX4_find 1 = .ok (.iconst 0, 1) := dk_3 (dk_at dksX4_find_0 1 rfl rfl)
theorem dX4_find_2 : decode cX4_find 2 = .ok (.putfield 94, 3) := dk_181 0 94 (dk_at dksX4_find_0 2 rfl rfl)
theorem dX4_find_5 : decode cX4_find 5 = .ok (.aload_n 0, 1) := dk_42 (dk_at dksX4_find_0 5 rfl rfl)
theorem dX4_find_6 : decode cX4_find 6 = .ok (.iload_n 1, 1) := dk_27 (dk_at dksX4_find_0 6 rfl rfl)
theorem dX4_find_7 : decode cX4_find 7 = .ok (.iload_n 3, 1) := dk_29 (dk_at dksX4_find_0 7 rfl rfl)
theorem dX4_find_8 : decode cX4_find 8 = .ok (.iload_n 2, 1) := dk_28 (dk_at dksX4_find_0 8 rfl rfl)
theorem dX4_find_9 : decode cX4_find 9 = .ok (.iconst 1, 1) := dk_4 (dk_at dksX4_find_0 9 rfl rfl)
theorem dX4_find_10 : decode cX4_find 10 = .ok (.invokevirtual 238, 3) := dk_182 0 238 (dk_at dksX4_find_0 10 rfl rfl)
theorem dX4_find_13 : decode cX4_find 13 = .ok (.ifCond .ne 27, 3) := dk_154 0 27 (dk_at dksX4_find_0 13 rfl rfl)
theorem dX4_find_16 : decode cX4_find 16 = .ok (.aload_n 0, 1) := dk_42 (dk_at dksX4_find_0 16 rfl rfl)
theorem dX4_find_17 : decode cX4_find 17 = .ok (.iload 4, 2) := dk_21 4 (dk_at dksX4_find_0 17 rfl rfl)
theorem dX4_find_19 : decode cX4_find 19 = .ok (.iconst 0, 1) := dk_3 (dk_at dksX4_find_0 19 rfl rfl)
theorem dX4_find_20 : decode cX4_find 20 = .ok (.bipush 60, 2) := dk_16 60 (dk_at dksX4_find_0 20 rfl rfl)
theorem dX4_find_22 : decode cX4_find 22 = .ok (.invokestatic 128, 3) := dk_184 0 128 (dk_at dksX4_find_1 0 rfl rfl)
theorem dX4_find_25 : decode cX4_find 25 = .ok (.ifCond .ne 7, 3) := dk_154 0 7 (dk_at dksX4_find_1 3 rfl rfl)
theorem dX4_find_28 : decode cX4_find 28 = .ok (.iconst 1, 1) := dk_4 (dk_at dksX4_find_1 6 rfl rfl)
theorem dX4_find_29 : decode cX4_find 29 = .ok (.goto 4, 3) := dk_167 0 4 (dk_at dksX4_find_1 7 rfl rfl)
theorem dX4_find_32 : decode cX4_find 32 = .ok (.iconst 0, 1) := dk_3 (dk_at dksX4_find_1 10 rfl rfl)
theorem dX4_find_33 : decode cX4_find 33 = .ok (.iconst 1, 1) := dk_4 (dk_at dksX4_find_1 11 rfl rfl)
theorem dX4_find_34 : decode cX4_find 34 = .ok (.invokevirtual 170, 3) := dk_182 0 170 (dk_at dksX4_find_1 12 rfl rfl)
theorem dX4_find_37 : decode cX4_find 37 = .ok (.ifCond .eq 5, 3) := dk_153 0 5 (dk_at dksX4_find_1 15 rfl rfl)
theorem dX4_find_40 : decode cX4_find 40 = .ok (.iconst 0, 1) := dk_3 (dk_at dksX4_find_1 18 rfl rfl)
theorem dX4_find_41 : decode cX4_find 41 = .ok (.ireturn, 1) := dk_172 (dk_at dksX4_find_1 19 rfl rfl)
theorem dX4_find_42 : decode cX4_find 42 = .ok (.aload_n 0, 1) := dk_42 (dk_at dksX4_find_1 20 rfl rfl)
theorem dX4_find_43 : decode cX4_find 43 = .ok (.getfield 247, 3) := dk_180 0 247 (dk_at dksX4_find_1 21 rfl rfl)
theorem dX4_find_46 : decode cX4_find 46 = .ok (.bipush 8, 2) := dk_16 8 (dk_at dksX4_find_2 0 rfl rfl)
theorem dX4_find_48 : decode cX4_find 48 = .ok (.if_icmp .ne 5, 3) := dk_160 0 5 (dk_at dksX4_find_2 2 rfl rfl)
theorem dX4_find_51 : decode cX4_find 51 = .ok (.iconst (-1), 1) := dk_2 (dk_at dksX4_find_2 5 rfl rfl)
theorem dX4_find_52 : decode cX4_find 52 = .ok (.ireturn, 1) := dk_172 (dk_at dksX4_find_2 6 rfl rfl)
theorem dX4_find_53 : decode cX4_find 53 = .ok (.aload_n 0, 1) := dk_42 (dk_at dksX4_find_2 7 rfl rfl)
theorem dX4_find_54 : decode cX4_find 54 = .ok (.getfield 55, 3) := dk_180 0 55 (dk_at dksX4_find_2 8 rfl rfl)
theorem dX4_find_57 : decode cX4_find 57 = .ok (.aload_n 0, 1) := dk_42 (dk_at dksX4_find_2 11 rfl rfl)
theorem dX4_find_58 : decode cX4_find 58 = .ok (.getfield 247, 3) := dk_180 0 247 (dk_at dksX4_find_2 12 rfl rfl)
theorem dX4_find_61 : decode cX4_find 61 = .ok (.aaload, 1) := dk_50 (dk_at dksX4_find_2 15 rfl rfl)
theorem dX4_find_62 : decode cX4_find 62 = .ok (.iconst 0, 1) := dk_3 (dk_at dksX4_find_2 16 rfl rfl)
theorem dX4_find_63 : decode cX4_find 63 = .ok (.iload_n 1, 1) := dk_27 (dk_at dksX4_find_2 17 rfl rfl)
theorem dX4_find_64 : decode cX4_find 64 = .ok (.iastore, 1) := dk_79 (dk_at dksX4_find_2 18 rfl rfl)
theorem dX4_find_65 : decode cX4_find 65 = .ok (.aload_n 0, 1) := dk_42 (dk_at dksX4_find_2 19 rfl rfl)
theorem dX4_find_66 : decode cX4_find 66 = .ok (.getfield 55, 3) := dk_180 0 55 (dk_at dksX4_find_2 20 rfl rfl)
theorem dX4_find_69 : decode cX4_find 69 = .ok (.aload_n 0, 1) := dk_42 (dk_at dksX4_find_2 23 rfl rfl)
theorem dX4_find_70 : decode cX4_find 70 = .ok (.getfield 247, 3) := dk_180 0 247 (dk_at dksX4_find_3 0 rfl rfl)
theorem dX4_find_73 : decode cX4_find 73 = .ok (.aaload, 1) := dk_50 (dk_at dksX4_find_3 3 rfl rfl)
theorem dX4_find_74 : decode cX4_find 74 = .ok (.iconst 1, 1) := dk_4 (dk_at dksX4_find_3 4 rfl rfl)
theorem dX4_find_75 : decode cX4_find 75 = .ok (.iload_n 2, 1) := dk_28 (dk_at dksX4_find_3 5 rfl rfl)
theorem dX4_find_76 : decode cX4_find 76 = .ok (.iastore, 1) := dk_79 (dk_at dksX4_find_3 6 rfl rfl)
theorem dX4_find_77 : decode cX4_find 77 = .ok (.aload_n 0, 1) := dk_42 (dk_at dksX4_find_3 7 rfl rfl)
theorem dX4_find_78 : decode cX4_find 78 = .ok (.getfield 55, 3) := dk_180 0 55 (dk_at dksX4_find_3 8 rfl rfl)
theorem dX4_find_81 : decode cX4_find 81 = .ok (.aload_n 0, 1) := dk_42 (dk_at dksX4_find_3 11 rfl rfl)
theorem dX4_find_82 : decode cX4_find 82 = .ok (.getfield 247, 3) := dk_180 0 247 (dk_at dksX4_find_3 12 rfl rfl)
theorem dX4_find_85 : decode cX4_find 85 = .ok (.aaload, 1) := dk_50 (dk_at dksX4_find_3 15 rfl rfl)
theorem dX4_find_86 : decode cX4_find 86 = .ok (.iconst 2, 1) := dk_5 (dk_at dksX4_find_3 16 rfl rfl)
theorem dX4_find_87 : decode cX4_find 87 = .ok (.iload_n 3, 1) := dk_29 (dk_at dksX4_find_3 17 rfl rfl)
theorem dX4_find_88 : decode cX4_find 88 = .ok (.iastore, 1) := dk_79 (dk_at dksX4_find_3 18 rfl rfl)
theorem dX4_find_89 : decode cX4_find 89 = .ok (.aload_n 0, 1) := dk_42 (dk_at dksX4_find_3 19 rfl rfl)
theorem dX4_find_90 : decode cX4_find 90 = .ok (.getfield 55, 3) := dk_180 0 55 (dk_at dksX4_find_3 20 rfl rfl)
theorem dX4_find_93 : decode cX4_find 93 = .ok (.aload_n 0, 1) := dk_42 (dk_at dksX4_find_3 23 rfl rfl)
theorem dX4_find_94 : decode cX4_find 94 = .ok (.getfield 247, 3) := dk_180 0 247 (dk_at dksX4_find_4 0 rfl rfl)
theorem dX4_find_97 : decode cX4_find 97 = .ok (.aaload, 1) := dk_50 (dk_at dksX4_find_4 3 rfl rfl)
theorem dX4_find_98 : decode cX4_find 98 = .ok (.iconst 3, 1) := dk_6 (dk_at dksX4_find_4 4 rfl rfl)
theorem dX4_find_99 : decode cX4_find 99 = .ok (.iload 4, 2) := dk_21 4 (dk_at dksX4_find_4 5 rfl rfl)
theorem dX4_find_101 : decode cX4_find 101 = .ok (.iastore, 1) := dk_79 (dk_at dksX4_find_4 7 rfl rfl)
theorem dX4_find_102 : decode cX4_find 102 = .ok (.aload_n 0, 1) := dk_42 (dk_at dksX4_find_4 8 rfl rfl)
theorem dX4_find_103 : decode cX4_find 103 = .ok (.dup, 1) := dk_89 (dk_at dksX4_find_4 9 rfl rfl)
theorem dX4_find_104 : decode cX4_find 104 = .ok (.getfield 247, 3) := dk_180 0 247 (dk_at dksX4_find_4 10 rfl rfl)
theorem dX4_find_107 : decode cX4_find 107 = .ok (.iconst 1, 1) := dk_4 (dk_at dksX4_find_4 13 rfl rfl)
theorem dX4_find_108 : decode cX4_find 108 = .ok (.iadd, 1) := dk_96 (dk_at dksX4_find_4 14 rfl rfl)
theorem dX4_find_109 : decode cX4_find 109 = .ok (.putfield 247, 3) := dk_181 0 247 (dk_at dksX4_find_4 15 rfl rfl)
theorem dX4_find_112 : decode cX4_find 112 = .ok (.aload_n 0, 1) := dk_42 (dk_at dksX4_find_4 18 rfl rfl)
theorem dX4_find_113 : decode cX4_find 113 = .ok (.getfield 247, 3) := dk_180 0 247 (dk_at dksX4_find_4 19 rfl rfl)
theorem dX4_find_116 : decode cX4_find 116 = .ok (.iconst 1, 1) := dk_4 (dk_at dksX4_find_4 22 rfl rfl)
theorem dX4_find_117 : decode cX4_find 117 = .ok (.isub, 1) := dk_100 (dk_at dksX4_find_4 23 rfl rfl)
theorem dX4_find_118 : decode cX4_find 118 = .ok (.ireturn, 1) := dk_172 (dk_at dksX4_find_5 0 rfl rfl)
abbrev cX4_found : ByteArray := prog_16_method_44_code
def yX4_found : MethodName := ⟨RX4, "found", "(II)I"⟩
def dkwX4_found_2 : List UInt8 := [153, 0, 5, 3, 172, 42, 180, 0, 55, 27, 50, 28, 46, 172]
abbrev dktX4_found_2 : List UInt8 := dkwX4_found_2 ++ []
def dkwX4_found_1 : List UInt8 := [154, 0, 25, 42, 28, 3, 6, 184, 0, 128, 154, 0, 7, 4, 167, 0, 4, 3, 5, 182, 0, 170]
abbrev dktX4_found_1 : List UInt8 := dkwX4_found_1 ++ dktX4_found_2
def dkwX4_found_0 : List UInt8 := [42, 3, 181, 0, 94, 42, 42, 27, 182, 0, 250, 154, 0, 7, 4, 167, 0, 4, 3, 4, 182, 0, 170]
abbrev dktX4_found_0 : List UInt8 := dkwX4_found_0 ++ dktX4_found_1
theorem dksX4_found_0 : cX4_found.data.toList.drop 0 = dktX4_found_0 := by decide +kernel
theorem dksX4_found_1 : cX4_found.data.toList.drop 23 = dktX4_found_1 := dk_seg dksX4_found_0 23 rfl rfl
theorem dksX4_found_2 : cX4_found.data.toList.drop 45 = dktX4_found_2 := dk_seg dksX4_found_1 22 rfl rfl
theorem dX4_found_0 : decode cX4_found 0 = .ok (.aload_n 0, 1) := dk_42 (dk_at dksX4_found_0 0 rfl rfl)
theorem dX4_found_1 : decode cX4_found 1 = .ok (.iconst 0, 1) := dk_3 (dk_at dksX4_found_0 1 rfl rfl)
theorem dX4_found_2 : decode cX4_found 2 = .ok (.putfield 94, 3) := dk_181 0 94 (dk_at dksX4_found_0 2 rfl rfl)
theorem dX4_found_5 : decode cX4_found 5 = .ok (.aload_n 0, 1) := dk_42 (dk_at dksX4_found_0 5 rfl rfl)
theorem dX4_found_6 : decode cX4_found 6 = .ok (.aload_n 0, 1) := dk_42 (dk_at dksX4_found_0 6 rfl rfl)
theorem dX4_found_7 : decode cX4_found 7 = .ok (.iload_n 1, 1) := dk_27 (dk_at dksX4_found_0 7 rfl rfl)
theorem dX4_found_8 : decode cX4_found 8 = .ok (.invokevirtual 250, 3) := dk_182 0 250 (dk_at dksX4_found_0 8 rfl rfl)
theorem dX4_found_11 : decode cX4_found 11 = .ok (.ifCond .ne 7, 3) := dk_154 0 7 (dk_at dksX4_found_0 11 rfl rfl)
theorem dX4_found_14 : decode cX4_found 14 = .ok (.iconst 1, 1) := dk_4 (dk_at dksX4_found_0 14 rfl rfl)
theorem dX4_found_15 : decode cX4_found 15 = .ok (.goto 4, 3) := dk_167 0 4 (dk_at dksX4_found_0 15 rfl rfl)
theorem dX4_found_18 : decode cX4_found 18 = .ok (.iconst 0, 1) := dk_3 (dk_at dksX4_found_0 18 rfl rfl)
theorem dX4_found_19 : decode cX4_found 19 = .ok (.iconst 1, 1) := dk_4 (dk_at dksX4_found_0 19 rfl rfl)
theorem dX4_found_20 : decode cX4_found 20 = .ok (.invokevirtual 170, 3) := dk_182 0 170 (dk_at dksX4_found_0 20 rfl rfl)
theorem dX4_found_23 : decode cX4_found 23 = .ok (.ifCond .ne 25, 3) := dk_154 0 25 (dk_at dksX4_found_1 0 rfl rfl)
theorem dX4_found_26 : decode cX4_found 26 = .ok (.aload_n 0, 1) := dk_42 (dk_at dksX4_found_1 3 rfl rfl)
theorem dX4_found_27 : decode cX4_found 27 = .ok (.iload_n 2, 1) := dk_28 (dk_at dksX4_found_1 4 rfl rfl)
theorem dX4_found_28 : decode cX4_found 28 = .ok (.iconst 0, 1) := dk_3 (dk_at dksX4_found_1 5 rfl rfl)
theorem dX4_found_29 : decode cX4_found 29 = .ok (.iconst 3, 1) := dk_6 (dk_at dksX4_found_1 6 rfl rfl)
theorem dX4_found_30 : decode cX4_found 30 = .ok (.invokestatic 128, 3) := dk_184 0 128 (dk_at dksX4_found_1 7 rfl rfl)
theorem dX4_found_33 : decode cX4_found 33 = .ok (.ifCond .ne 7, 3) := dk_154 0 7 (dk_at dksX4_found_1 10 rfl rfl)
theorem dX4_found_36 : decode cX4_found 36 = .ok (.iconst 1, 1) := dk_4 (dk_at dksX4_found_1 13 rfl rfl)
theorem dX4_found_37 : decode cX4_found 37 = .ok (.goto 4, 3) := dk_167 0 4 (dk_at dksX4_found_1 14 rfl rfl)
theorem dX4_found_40 : decode cX4_found 40 = .ok (.iconst 0, 1) := dk_3 (dk_at dksX4_found_1 17 rfl rfl)
theorem dX4_found_41 : decode cX4_found 41 = .ok (.iconst 2, 1) := dk_5 (dk_at dksX4_found_1 18 rfl rfl)
theorem dX4_found_42 : decode cX4_found 42 = .ok (.invokevirtual 170, 3) := dk_182 0 170 (dk_at dksX4_found_1 19 rfl rfl)
theorem dX4_found_45 : decode cX4_found 45 = .ok (.ifCond .eq 5, 3) := dk_153 0 5 (dk_at dksX4_found_2 0 rfl rfl)
theorem dX4_found_48 : decode cX4_found 48 = .ok (.iconst 0, 1) := dk_3 (dk_at dksX4_found_2 3 rfl rfl)
theorem dX4_found_49 : decode cX4_found 49 = .ok (.ireturn, 1) := dk_172 (dk_at dksX4_found_2 4 rfl rfl)
theorem dX4_found_50 : decode cX4_found 50 = .ok (.aload_n 0, 1) := dk_42 (dk_at dksX4_found_2 5 rfl rfl)
theorem dX4_found_51 : decode cX4_found 51 = .ok (.getfield 55, 3) := dk_180 0 55 (dk_at dksX4_found_2 6 rfl rfl)
theorem dX4_found_54 : decode cX4_found 54 = .ok (.iload_n 1, 1) := dk_27 (dk_at dksX4_found_2 9 rfl rfl)
theorem dX4_found_55 : decode cX4_found 55 = .ok (.aaload, 1) := dk_50 (dk_at dksX4_found_2 10 rfl rfl)
theorem dX4_found_56 : decode cX4_found 56 = .ok (.iload_n 2, 1) := dk_28 (dk_at dksX4_found_2 11 rfl rfl)
theorem dX4_found_57 : decode cX4_found 57 = .ok (.iaload, 1) := dk_46 (dk_at dksX4_found_2 12 rfl rfl)
theorem dX4_found_58 : decode cX4_found 58 = .ok (.ireturn, 1) := dk_172 (dk_at dksX4_found_2 13 rfl rfl)
abbrev cX4_isFind : ByteArray := prog_16_method_43_code
def yX4_isFind : MethodName := ⟨RX4, "isFind", "(I)Z"⟩
def dkwX4_isFind_0 : List UInt8 := [27, 3, 42, 180, 0, 247, 4, 100, 184, 0, 128, 172]
abbrev dktX4_isFind_0 : List UInt8 := dkwX4_isFind_0 ++ []
theorem dksX4_isFind_0 : cX4_isFind.data.toList.drop 0 = dktX4_isFind_0 := by decide +kernel
theorem dX4_isFind_0 : decode cX4_isFind 0 = .ok (.iload_n 1, 1) := dk_27 (dk_at dksX4_isFind_0 0 rfl rfl)
theorem dX4_isFind_1 : decode cX4_isFind 1 = .ok (.iconst 0, 1) := dk_3 (dk_at dksX4_isFind_0 1 rfl rfl)
theorem dX4_isFind_2 : decode cX4_isFind 2 = .ok (.aload_n 0, 1) := dk_42 (dk_at dksX4_isFind_0 2 rfl rfl)
theorem dX4_isFind_3 : decode cX4_isFind 3 = .ok (.getfield 247, 3) := dk_180 0 247 (dk_at dksX4_isFind_0 3 rfl rfl)
theorem dX4_isFind_6 : decode cX4_isFind 6 = .ok (.iconst 1, 1) := dk_4 (dk_at dksX4_isFind_0 6 rfl rfl)
theorem dX4_isFind_7 : decode cX4_isFind 7 = .ok (.isub, 1) := dk_100 (dk_at dksX4_isFind_0 7 rfl rfl)
theorem dX4_isFind_8 : decode cX4_isFind 8 = .ok (.invokestatic 128, 3) := dk_184 0 128 (dk_at dksX4_isFind_0 8 rfl rfl)
theorem dX4_isFind_11 : decode cX4_isFind 11 = .ok (.ireturn, 1) := dk_172 (dk_at dksX4_isFind_0 11 rfl rfl)
abbrev cX4_drop : ByteArray := prog_16_method_45_code
def yX4_drop : MethodName := ⟨RX4, "drop", "(I)I"⟩
def dkwX4_drop_3 : List UInt8 := [132, 2, 1, 167, 255, 212, 42, 89, 180, 0, 247, 4, 100, 181, 0, 247, 42, 180, 0, 247, 172]
abbrev dktX4_drop_3 : List UInt8 := dkwX4_drop_3 ++ []
def dkwX4_drop_2 : List UInt8 := [42, 180, 0, 55, 28, 50, 29, 42, 180, 0, 55, 28, 4, 96, 50, 29, 46, 79, 132, 3, 1, 167, 255, 230]
abbrev dktX4_drop_2 : List UInt8 := dkwX4_drop_2 ++ dktX4_drop_3
def dkwX4_drop_1 : List UInt8 := [153, 0, 5, 3, 172, 27, 61, 28, 4, 96, 42, 180, 0, 247, 162, 0, 40, 3, 62, 29, 7, 162, 0, 27]
abbrev dktX4_drop_1 : List UInt8 := dkwX4_drop_1 ++ dktX4_drop_2
def dkwX4_drop_0 : List UInt8 := [42, 3, 181, 0, 94, 42, 42, 27, 182, 0, 250, 154, 0, 7, 4, 167, 0, 4, 3, 4, 182, 0, 170]
abbrev dktX4_drop_0 : List UInt8 := dkwX4_drop_0 ++ dktX4_drop_1
theorem dksX4_drop_0 : cX4_drop.data.toList.drop 0 = dktX4_drop_0 := by decide +kernel
theorem dksX4_drop_1 : cX4_drop.data.toList.drop 23 = dktX4_drop_1 := dk_seg dksX4_drop_0 23 rfl rfl
theorem dksX4_drop_2 : cX4_drop.data.toList.drop 47 = dktX4_drop_2 := dk_seg dksX4_drop_1 24 rfl rfl
theorem dksX4_drop_3 : cX4_drop.data.toList.drop 71 = dktX4_drop_3 := dk_seg dksX4_drop_2 24 rfl rfl
theorem dX4_drop_0 : decode cX4_drop 0 = .ok (.aload_n 0, 1) := dk_42 (dk_at dksX4_drop_0 0 rfl rfl)
theorem dX4_drop_1 : decode cX4_drop 1 = .ok (.iconst 0, 1) := dk_3 (dk_at dksX4_drop_0 1 rfl rfl)
theorem dX4_drop_2 : decode cX4_drop 2 = .ok (.putfield 94, 3) := dk_181 0 94 (dk_at dksX4_drop_0 2 rfl rfl)
theorem dX4_drop_5 : decode cX4_drop 5 = .ok (.aload_n 0, 1) := dk_42 (dk_at dksX4_drop_0 5 rfl rfl)
theorem dX4_drop_6 : decode cX4_drop 6 = .ok (.aload_n 0, 1) := dk_42 (dk_at dksX4_drop_0 6 rfl rfl)
theorem dX4_drop_7 : decode cX4_drop 7 = .ok (.iload_n 1, 1) := dk_27 (dk_at dksX4_drop_0 7 rfl rfl)
theorem dX4_drop_8 : decode cX4_drop 8 = .ok (.invokevirtual 250, 3) := dk_182 0 250 (dk_at dksX4_drop_0 8 rfl rfl)
theorem dX4_drop_11 : decode cX4_drop 11 = .ok (.ifCond .ne 7, 3) := dk_154 0 7 (dk_at dksX4_drop_0 11 rfl rfl)
theorem dX4_drop_14 : decode cX4_drop 14 = .ok (.iconst 1, 1) := dk_4 (dk_at dksX4_drop_0 14 rfl rfl)
theorem dX4_drop_15 : decode cX4_drop 15 = .ok (.goto 4, 3) := dk_167 0 4 (dk_at dksX4_drop_0 15 rfl rfl)
theorem dX4_drop_18 : decode cX4_drop 18 = .ok (.iconst 0, 1) := dk_3 (dk_at dksX4_drop_0 18 rfl rfl)
theorem dX4_drop_19 : decode cX4_drop 19 = .ok (.iconst 1, 1) := dk_4 (dk_at dksX4_drop_0 19 rfl rfl)
theorem dX4_drop_20 : decode cX4_drop 20 = .ok (.invokevirtual 170, 3) := dk_182 0 170 (dk_at dksX4_drop_0 20 rfl rfl)
theorem dX4_drop_23 : decode cX4_drop 23 = .ok (.ifCond .eq 5, 3) := dk_153 0 5 (dk_at dksX4_drop_1 0 rfl rfl)
theorem dX4_drop_26 : decode cX4_drop 26 = .ok (.iconst 0, 1) := dk_3 (dk_at dksX4_drop_1 3 rfl rfl)
theorem dX4_drop_27 : decode cX4_drop 27 = .ok (.ireturn, 1) := dk_172 (dk_at dksX4_drop_1 4 rfl rfl)
theorem dX4_drop_28 : decode cX4_drop 28 = .ok (.iload_n 1, 1) := dk_27 (dk_at dksX4_drop_1 5 rfl rfl)
theorem dX4_drop_29 : decode cX4_drop 29 = .ok (.istore_n 2, 1) := dk_61 (dk_at dksX4_drop_1 6 rfl rfl)
theorem dX4_drop_30 : decode cX4_drop 30 = .ok (.iload_n 2, 1) := dk_28 (dk_at dksX4_drop_1 7 rfl rfl)
theorem dX4_drop_31 : decode cX4_drop 31 = .ok (.iconst 1, 1) := dk_4 (dk_at dksX4_drop_1 8 rfl rfl)
theorem dX4_drop_32 : decode cX4_drop 32 = .ok (.iadd, 1) := dk_96 (dk_at dksX4_drop_1 9 rfl rfl)
theorem dX4_drop_33 : decode cX4_drop 33 = .ok (.aload_n 0, 1) := dk_42 (dk_at dksX4_drop_1 10 rfl rfl)
theorem dX4_drop_34 : decode cX4_drop 34 = .ok (.getfield 247, 3) := dk_180 0 247 (dk_at dksX4_drop_1 11 rfl rfl)
theorem dX4_drop_37 : decode cX4_drop 37 = .ok (.if_icmp .ge 40, 3) := dk_162 0 40 (dk_at dksX4_drop_1 14 rfl rfl)
theorem dX4_drop_40 : decode cX4_drop 40 = .ok (.iconst 0, 1) := dk_3 (dk_at dksX4_drop_1 17 rfl rfl)
theorem dX4_drop_41 : decode cX4_drop 41 = .ok (.istore_n 3, 1) := dk_62 (dk_at dksX4_drop_1 18 rfl rfl)
theorem dX4_drop_42 : decode cX4_drop 42 = .ok (.iload_n 3, 1) := dk_29 (dk_at dksX4_drop_1 19 rfl rfl)
theorem dX4_drop_43 : decode cX4_drop 43 = .ok (.iconst 4, 1) := dk_7 (dk_at dksX4_drop_1 20 rfl rfl)
theorem dX4_drop_44 : decode cX4_drop 44 = .ok (.if_icmp .ge 27, 3) := dk_162 0 27 (dk_at dksX4_drop_1 21 rfl rfl)
theorem dX4_drop_47 : decode cX4_drop 47 = .ok (.aload_n 0, 1) := dk_42 (dk_at dksX4_drop_2 0 rfl rfl)
theorem dX4_drop_48 : decode cX4_drop 48 = .ok (.getfield 55, 3) := dk_180 0 55 (dk_at dksX4_drop_2 1 rfl rfl)
theorem dX4_drop_51 : decode cX4_drop 51 = .ok (.iload_n 2, 1) := dk_28 (dk_at dksX4_drop_2 4 rfl rfl)
theorem dX4_drop_52 : decode cX4_drop 52 = .ok (.aaload, 1) := dk_50 (dk_at dksX4_drop_2 5 rfl rfl)
theorem dX4_drop_53 : decode cX4_drop 53 = .ok (.iload_n 3, 1) := dk_29 (dk_at dksX4_drop_2 6 rfl rfl)
theorem dX4_drop_54 : decode cX4_drop 54 = .ok (.aload_n 0, 1) := dk_42 (dk_at dksX4_drop_2 7 rfl rfl)
theorem dX4_drop_55 : decode cX4_drop 55 = .ok (.getfield 55, 3) := dk_180 0 55 (dk_at dksX4_drop_2 8 rfl rfl)
theorem dX4_drop_58 : decode cX4_drop 58 = .ok (.iload_n 2, 1) := dk_28 (dk_at dksX4_drop_2 11 rfl rfl)
theorem dX4_drop_59 : decode cX4_drop 59 = .ok (.iconst 1, 1) := dk_4 (dk_at dksX4_drop_2 12 rfl rfl)
theorem dX4_drop_60 : decode cX4_drop 60 = .ok (.iadd, 1) := dk_96 (dk_at dksX4_drop_2 13 rfl rfl)
theorem dX4_drop_61 : decode cX4_drop 61 = .ok (.aaload, 1) := dk_50 (dk_at dksX4_drop_2 14 rfl rfl)
theorem dX4_drop_62 : decode cX4_drop 62 = .ok (.iload_n 3, 1) := dk_29 (dk_at dksX4_drop_2 15 rfl rfl)
theorem dX4_drop_63 : decode cX4_drop 63 = .ok (.iaload, 1) := dk_46 (dk_at dksX4_drop_2 16 rfl rfl)
theorem dX4_drop_64 : decode cX4_drop 64 = .ok (.iastore, 1) := dk_79 (dk_at dksX4_drop_2 17 rfl rfl)
theorem dX4_drop_65 : decode cX4_drop 65 = .ok (.iinc 3 1, 3) := dk_132 3 1 (dk_at dksX4_drop_2 18 rfl rfl)
theorem dX4_drop_68 : decode cX4_drop 68 = .ok (.goto (-26), 3) := dk_167 255 230 (dk_at dksX4_drop_2 21 rfl rfl)
theorem dX4_drop_71 : decode cX4_drop 71 = .ok (.iinc 2 1, 3) := dk_132 2 1 (dk_at dksX4_drop_3 0 rfl rfl)
theorem dX4_drop_74 : decode cX4_drop 74 = .ok (.goto (-44), 3) := dk_167 255 212 (dk_at dksX4_drop_3 3 rfl rfl)
theorem dX4_drop_77 : decode cX4_drop 77 = .ok (.aload_n 0, 1) := dk_42 (dk_at dksX4_drop_3 6 rfl rfl)
theorem dX4_drop_78 : decode cX4_drop 78 = .ok (.dup, 1) := dk_89 (dk_at dksX4_drop_3 7 rfl rfl)
theorem dX4_drop_79 : decode cX4_drop 79 = .ok (.getfield 247, 3) := dk_180 0 247 (dk_at dksX4_drop_3 8 rfl rfl)
theorem dX4_drop_82 : decode cX4_drop 82 = .ok (.iconst 1, 1) := dk_4 (dk_at dksX4_drop_3 11 rfl rfl)
theorem dX4_drop_83 : decode cX4_drop 83 = .ok (.isub, 1) := dk_100 (dk_at dksX4_drop_3 12 rfl rfl)
theorem dX4_drop_84 : decode cX4_drop 84 = .ok (.putfield 247, 3) := dk_181 0 247 (dk_at dksX4_drop_3 13 rfl rfl)
theorem dX4_drop_87 : decode cX4_drop 87 = .ok (.aload_n 0, 1) := dk_42 (dk_at dksX4_drop_3 16 rfl rfl)
theorem dX4_drop_88 : decode cX4_drop 88 = .ok (.getfield 247, 3) := dk_180 0 247 (dk_at dksX4_drop_3 17 rfl rfl)
theorem dX4_drop_91 : decode cX4_drop 91 = .ok (.ireturn, 1) := dk_172 (dk_at dksX4_drop_3 20 rfl rfl)
abbrev cX4_scale : ByteArray := prog_16_method_54_code
def yX4_scale : MethodName := ⟨RX4, "scale", "(I)I"⟩
def dkwX4_scale_1 : List UInt8 := [153, 0, 5, 3, 172, 42, 3, 27, 2, 182, 1, 19, 42, 180, 0, 255, 172]
abbrev dktX4_scale_1 : List UInt8 := dkwX4_scale_1 ++ []
def dkwX4_scale_0 : List UInt8 := [42, 3, 181, 0, 94, 42, 42, 27, 182, 0, 235, 154, 0, 7, 4, 167, 0, 4, 3, 4, 182, 0, 170]
abbrev dktX4_scale_0 : List UInt8 := dkwX4_scale_0 ++ dktX4_scale_1
theorem dksX4_scale_0 : cX4_scale.data.toList.drop 0 = dktX4_scale_0 := by decide +kernel
theorem dksX4_scale_1 : cX4_scale.data.toList.drop 23 = dktX4_scale_1 := dk_seg dksX4_scale_0 23 rfl rfl
theorem dX4_scale_0 : decode cX4_scale 0 = .ok (.aload_n 0, 1) := dk_42 (dk_at dksX4_scale_0 0 rfl rfl)
theorem dX4_scale_1 : decode cX4_scale 1 = .ok (.iconst 0, 1) := dk_3 (dk_at dksX4_scale_0 1 rfl rfl)
theorem dX4_scale_2 : decode cX4_scale 2 = .ok (.putfield 94, 3) := dk_181 0 94 (dk_at dksX4_scale_0 2 rfl rfl)
theorem dX4_scale_5 : decode cX4_scale 5 = .ok (.aload_n 0, 1) := dk_42 (dk_at dksX4_scale_0 5 rfl rfl)
theorem dX4_scale_6 : decode cX4_scale 6 = .ok (.aload_n 0, 1) := dk_42 (dk_at dksX4_scale_0 6 rfl rfl)
theorem dX4_scale_7 : decode cX4_scale 7 = .ok (.iload_n 1, 1) := dk_27 (dk_at dksX4_scale_0 7 rfl rfl)
theorem dX4_scale_8 : decode cX4_scale 8 = .ok (.invokevirtual 235, 3) := dk_182 0 235 (dk_at dksX4_scale_0 8 rfl rfl)
theorem dX4_scale_11 : decode cX4_scale 11 = .ok (.ifCond .ne 7, 3) := dk_154 0 7 (dk_at dksX4_scale_0 11 rfl rfl)
theorem dX4_scale_14 : decode cX4_scale 14 = .ok (.iconst 1, 1) := dk_4 (dk_at dksX4_scale_0 14 rfl rfl)
theorem dX4_scale_15 : decode cX4_scale 15 = .ok (.goto 4, 3) := dk_167 0 4 (dk_at dksX4_scale_0 15 rfl rfl)
theorem dX4_scale_18 : decode cX4_scale 18 = .ok (.iconst 0, 1) := dk_3 (dk_at dksX4_scale_0 18 rfl rfl)
theorem dX4_scale_19 : decode cX4_scale 19 = .ok (.iconst 1, 1) := dk_4 (dk_at dksX4_scale_0 19 rfl rfl)
theorem dX4_scale_20 : decode cX4_scale 20 = .ok (.invokevirtual 170, 3) := dk_182 0 170 (dk_at dksX4_scale_0 20 rfl rfl)
theorem dX4_scale_23 : decode cX4_scale 23 = .ok (.ifCond .eq 5, 3) := dk_153 0 5 (dk_at dksX4_scale_1 0 rfl rfl)
theorem dX4_scale_26 : decode cX4_scale 26 = .ok (.iconst 0, 1) := dk_3 (dk_at dksX4_scale_1 3 rfl rfl)
theorem dX4_scale_27 : decode cX4_scale 27 = .ok (.ireturn, 1) := dk_172 (dk_at dksX4_scale_1 4 rfl rfl)
theorem dX4_scale_28 : decode cX4_scale 28 = .ok (.aload_n 0, 1) := dk_42 (dk_at dksX4_scale_1 5 rfl rfl)
theorem dX4_scale_29 : decode cX4_scale 29 = .ok (.iconst 0, 1) := dk_3 (dk_at dksX4_scale_1 6 rfl rfl)
theorem dX4_scale_30 : decode cX4_scale 30 = .ok (.iload_n 1, 1) := dk_27 (dk_at dksX4_scale_1 7 rfl rfl)
theorem dX4_scale_31 : decode cX4_scale 31 = .ok (.iconst (-1), 1) := dk_2 (dk_at dksX4_scale_1 8 rfl rfl)
theorem dX4_scale_32 : decode cX4_scale 32 = .ok (.invokevirtual 275, 3) := dk_182 1 19 (dk_at dksX4_scale_1 9 rfl rfl)
theorem dX4_scale_35 : decode cX4_scale 35 = .ok (.aload_n 0, 1) := dk_42 (dk_at dksX4_scale_1 12 rfl rfl)
theorem dX4_scale_36 : decode cX4_scale 36 = .ok (.getfield 255, 3) := dk_180 0 255 (dk_at dksX4_scale_1 13 rfl rfl)
theorem dX4_scale_39 : decode cX4_scale 39 = .ok (.ireturn, 1) := dk_172 (dk_at dksX4_scale_1 16 rfl rfl)
abbrev cX4_numbers : ByteArray := prog_16_method_49_code
def yX4_numbers : MethodName := ⟨RX4, "numbers", "(III)V"⟩
def dkwX4_numbers_5 : List UInt8 := [132, 4, 1, 167, 255, 180, 177]
abbrev dktX4_numbers_5 : List UInt8 := dkwX4_numbers_5 ++ []
def dkwX4_numbers_4 : List UInt8 := [180, 0, 55, 21, 4, 50, 3, 46, 42, 180, 0, 55, 21, 4, 50, 5, 46, 182, 0, 244, 182, 1, 8]
abbrev dktX4_numbers_4 : List UInt8 := dkwX4_numbers_4 ++ dktX4_numbers_5
def dkwX4_numbers_3 : List UInt8 := [180, 0, 55, 21, 4, 50, 4, 46, 182, 0, 241, 42, 27, 42, 180, 0, 55, 21, 4, 50, 6, 46, 42, 42]
abbrev dktX4_numbers_3 : List UInt8 := dkwX4_numbers_3 ++ dktX4_numbers_4
def dkwX4_numbers_2 : List UInt8 := [180, 0, 247, 162, 0, 73, 29, 2, 159, 0, 12, 21, 4, 29, 159, 0, 6, 167, 0, 53, 42, 28, 42]
abbrev dktX4_numbers_2 : List UInt8 := dkwX4_numbers_2 ++ dktX4_numbers_3
def dkwX4_numbers_1 : List UInt8 := [21, 4, 154, 0, 7, 4, 167, 0, 4, 3, 79, 132, 4, 1, 167, 255, 226, 3, 54, 4, 21, 4, 42]
abbrev dktX4_numbers_1 : List UInt8 := dkwX4_numbers_1 ++ dktX4_numbers_2
def dkwX4_numbers_0 : List UInt8 := [42, 3, 181, 0, 255, 3, 54, 4, 21, 4, 17, 1, 74, 162, 0, 28, 42, 180, 0, 91, 27, 50, 21, 4]
abbrev dktX4_numbers_0 : List UInt8 := dkwX4_numbers_0 ++ dktX4_numbers_1
theorem dksX4_numbers_0 : cX4_numbers.data.toList.drop 0 = dktX4_numbers_0 := by decide +kernel
theorem dksX4_numbers_1 : cX4_numbers.data.toList.drop 24 = dktX4_numbers_1 := dk_seg dksX4_numbers_0 24 rfl rfl
theorem dksX4_numbers_2 : cX4_numbers.data.toList.drop 47 = dktX4_numbers_2 := dk_seg dksX4_numbers_1 23 rfl rfl
theorem dksX4_numbers_3 : cX4_numbers.data.toList.drop 70 = dktX4_numbers_3 := dk_seg dksX4_numbers_2 23 rfl rfl
theorem dksX4_numbers_4 : cX4_numbers.data.toList.drop 94 = dktX4_numbers_4 := dk_seg dksX4_numbers_3 24 rfl rfl
theorem dksX4_numbers_5 : cX4_numbers.data.toList.drop 117 = dktX4_numbers_5 := dk_seg dksX4_numbers_4 23 rfl rfl
theorem dX4_numbers_0 : decode cX4_numbers 0 = .ok (.aload_n 0, 1) := dk_42 (dk_at dksX4_numbers_0 0 rfl rfl)
theorem dX4_numbers_1 : decode cX4_numbers 1 = .ok (.iconst 0, 1) := dk_3 (dk_at dksX4_numbers_0 1 rfl rfl)
theorem dX4_numbers_2 : decode cX4_numbers 2 = .ok (.putfield 255, 3) := dk_181 0 255 (dk_at dksX4_numbers_0 2 rfl rfl)
theorem dX4_numbers_5 : decode cX4_numbers 5 = .ok (.iconst 0, 1) := dk_3 (dk_at dksX4_numbers_0 5 rfl rfl)
theorem dX4_numbers_6 : decode cX4_numbers 6 = .ok (.istore 4, 2) := dk_54 4 (dk_at dksX4_numbers_0 6 rfl rfl)
theorem dX4_numbers_8 : decode cX4_numbers 8 = .ok (.iload 4, 2) := dk_21 4 (dk_at dksX4_numbers_0 8 rfl rfl)
theorem dX4_numbers_10 : decode cX4_numbers 10 = .ok (.sipush 330, 3) := dk_17 1 74 (dk_at dksX4_numbers_0 10 rfl rfl)
theorem dX4_numbers_13 : decode cX4_numbers 13 = .ok (.if_icmp .ge 28, 3) := dk_162 0 28 (dk_at dksX4_numbers_0 13 rfl rfl)
theorem dX4_numbers_16 : decode cX4_numbers 16 = .ok (.aload_n 0, 1) := dk_42 (dk_at dksX4_numbers_0 16 rfl rfl)
theorem dX4_numbers_17 : decode cX4_numbers 17 = .ok (.getfield 91, 3) := dk_180 0 91 (dk_at dksX4_numbers_0 17 rfl rfl)
theorem dX4_numbers_20 : decode cX4_numbers 20 = .ok (.iload_n 1, 1) := dk_27 (dk_at dksX4_numbers_0 20 rfl rfl)
theorem dX4_numbers_21 : decode cX4_numbers 21 = .ok (.aaload, 1) := dk_50 (dk_at dksX4_numbers_0 21 rfl rfl)
theorem dX4_numbers_22 : decode cX4_numbers 22 = .ok (.iload 4, 2) := dk_21 4 (dk_at dksX4_numbers_0 22 rfl rfl)
theorem dX4_numbers_24 : decode cX4_numbers 24 = .ok (.iload 4, 2) := dk_21 4 (dk_at dksX4_numbers_1 0 rfl rfl)
theorem dX4_numbers_26 : decode cX4_numbers 26 = .ok (.ifCond .ne 7, 3) := dk_154 0 7 (dk_at dksX4_numbers_1 2 rfl rfl)
theorem dX4_numbers_29 : decode cX4_numbers 29 = .ok (.iconst 1, 1) := dk_4 (dk_at dksX4_numbers_1 5 rfl rfl)
theorem dX4_numbers_30 : decode cX4_numbers 30 = .ok (.goto 4, 3) := dk_167 0 4 (dk_at dksX4_numbers_1 6 rfl rfl)
theorem dX4_numbers_33 : decode cX4_numbers 33 = .ok (.iconst 0, 1) := dk_3 (dk_at dksX4_numbers_1 9 rfl rfl)
theorem dX4_numbers_34 : decode cX4_numbers 34 = .ok (.iastore, 1) := dk_79 (dk_at dksX4_numbers_1 10 rfl rfl)
theorem dX4_numbers_35 : decode cX4_numbers 35 = .ok (.iinc 4 1, 3) := dk_132 4 1 (dk_at dksX4_numbers_1 11 rfl rfl)
theorem dX4_numbers_38 : decode cX4_numbers 38 = .ok (.goto (-30), 3) := dk_167 255 226 (dk_at dksX4_numbers_1 14 rfl rfl)
theorem dX4_numbers_41 : decode cX4_numbers 41 = .ok (.iconst 0, 1) := dk_3 (dk_at dksX4_numbers_1 17 rfl rfl)
theorem dX4_numbers_42 : decode cX4_numbers 42 = .ok (.istore 4, 2) := dk_54 4 (dk_at dksX4_numbers_1 18 rfl rfl)
theorem dX4_numbers_44 : decode cX4_numbers 44 = .ok (.iload 4, 2) := dk_21 4 (dk_at dksX4_numbers_1 20 rfl rfl)
theorem dX4_numbers_46 : decode cX4_numbers 46 = .ok (.aload_n 0, 1) := dk_42 (dk_at dksX4_numbers_1 22 rfl rfl)
theorem dX4_numbers_47 : decode cX4_numbers 47 = .ok (.getfield 247, 3) := dk_180 0 247 (dk_at dksX4_numbers_2 0 rfl rfl)
theorem dX4_numbers_50 : decode cX4_numbers 50 = .ok (.if_icmp .ge 73, 3) := dk_162 0 73 (dk_at dksX4_numbers_2 3 rfl rfl)
theorem dX4_numbers_53 : decode cX4_numbers 53 = .ok (.iload_n 3, 1) := dk_29 (dk_at dksX4_numbers_2 6 rfl rfl)
theorem dX4_numbers_54 : decode cX4_numbers 54 = .ok (.iconst (-1), 1) := dk_2 (dk_at dksX4_numbers_2 7 rfl rfl)
theorem dX4_numbers_55 : decode cX4_numbers 55 = .ok (.if_icmp .eq 12, 3) := dk_159 0 12 (dk_at dksX4_numbers_2 8 rfl rfl)
theorem dX4_numbers_58 : decode cX4_numbers 58 = .ok (.iload 4, 2) := dk_21 4 (dk_at dksX4_numbers_2 11 rfl rfl)
theorem dX4_numbers_60 : decode cX4_numbers 60 = .ok (.iload_n 3, 1) := dk_29 (dk_at dksX4_numbers_2 13 rfl rfl)
theorem dX4_numbers_61 : decode cX4_numbers 61 = .ok (.if_icmp .eq 6, 3) := dk_159 0 6 (dk_at dksX4_numbers_2 14 rfl rfl)
theorem dX4_numbers_64 : decode cX4_numbers 64 = .ok (.goto 53, 3) := dk_167 0 53 (dk_at dksX4_numbers_2 17 rfl rfl)
theorem dX4_numbers_67 : decode cX4_numbers 67 = .ok (.aload_n 0, 1) := dk_42 (dk_at dksX4_numbers_2 20 rfl rfl)
theorem dX4_numbers_68 : decode cX4_numbers 68 = .ok (.iload_n 2, 1) := dk_28 (dk_at dksX4_numbers_2 21 rfl rfl)
theorem dX4_numbers_69 : decode cX4_numbers 69 = .ok (.aload_n 0, 1) := dk_42 (dk_at dksX4_numbers_2 22 rfl rfl)
theorem dX4_numbers_70 : decode cX4_numbers 70 = .ok (.getfield 55, 3) := dk_180 0 55 (dk_at dksX4_numbers_3 0 rfl rfl)
theorem dX4_numbers_73 : decode cX4_numbers 73 = .ok (.iload 4, 2) := dk_21 4 (dk_at dksX4_numbers_3 3 rfl rfl)
theorem dX4_numbers_75 : decode cX4_numbers 75 = .ok (.aaload, 1) := dk_50 (dk_at dksX4_numbers_3 5 rfl rfl)
theorem dX4_numbers_76 : decode cX4_numbers 76 = .ok (.iconst 1, 1) := dk_4 (dk_at dksX4_numbers_3 6 rfl rfl)
theorem dX4_numbers_77 : decode cX4_numbers 77 = .ok (.iaload, 1) := dk_46 (dk_at dksX4_numbers_3 7 rfl rfl)
theorem dX4_numbers_78 : decode cX4_numbers 78 = .ok (.invokevirtual 241, 3) := dk_182 0 241 (dk_at dksX4_numbers_3 8 rfl rfl)
theorem dX4_numbers_81 : decode cX4_numbers 81 = .ok (.aload_n 0, 1) := dk_42 (dk_at dksX4_numbers_3 11 rfl rfl)
theorem dX4_numbers_82 : decode cX4_numbers 82 = .ok (.iload_n 1, 1) := dk_27 (dk_at dksX4_numbers_3 12 rfl rfl)
theorem dX4_numbers_83 : decode cX4_numbers 83 = .ok (.aload_n 0, 1) := dk_42 (dk_at dksX4_numbers_3 13 rfl rfl)
theorem dX4_numbers_84 : decode cX4_numbers 84 = .ok (.getfield 55, 3) := dk_180 0 55 (dk_at dksX4_numbers_3 14 rfl rfl)
theorem dX4_numbers_87 : decode cX4_numbers 87 = .ok (.iload 4, 2) := dk_21 4 (dk_at dksX4_numbers_3 17 rfl rfl)
theorem dX4_numbers_89 : decode cX4_numbers 89 = .ok (.aaload, 1) := dk_50 (dk_at dksX4_numbers_3 19 rfl rfl)
theorem dX4_numbers_90 : decode cX4_numbers 90 = .ok (.iconst 3, 1) := dk_6 (dk_at dksX4_numbers_3 20 rfl rfl)
theorem dX4_numbers_91 : decode cX4_numbers 91 = .ok (.iaload, 1) := dk_46 (dk_at dksX4_numbers_3 21 rfl rfl)
theorem dX4_numbers_92 : decode cX4_numbers 92 = .ok (.aload_n 0, 1) := dk_42 (dk_at dksX4_numbers_3 22 rfl rfl)
theorem dX4_numbers_93 : decode cX4_numbers 93 = .ok (.aload_n 0, 1) := dk_42 (dk_at dksX4_numbers_3 23 rfl rfl)
theorem dX4_numbers_94 : decode cX4_numbers 94 = .ok (.getfield 55, 3) := dk_180 0 55 (dk_at dksX4_numbers_4 0 rfl rfl)
theorem dX4_numbers_97 : decode cX4_numbers 97 = .ok (.iload 4, 2) := dk_21 4 (dk_at dksX4_numbers_4 3 rfl rfl)
theorem dX4_numbers_99 : decode cX4_numbers 99 = .ok (.aaload, 1) := dk_50 (dk_at dksX4_numbers_4 5 rfl rfl)
theorem dX4_numbers_100 : decode cX4_numbers 100 = .ok (.iconst 0, 1) := dk_3 (dk_at dksX4_numbers_4 6 rfl rfl)
theorem dX4_numbers_101 : decode cX4_numbers 101 = .ok (.iaload, 1) := dk_46 (dk_at dksX4_numbers_4 7 rfl rfl)
theorem dX4_numbers_102 : decode cX4_numbers 102 = .ok (.aload_n 0, 1) := dk_42 (dk_at dksX4_numbers_4 8 rfl rfl)
theorem dX4_numbers_103 : decode cX4_numbers 103 = .ok (.getfield 55, 3) := dk_180 0 55 (dk_at dksX4_numbers_4 9 rfl rfl)
theorem dX4_numbers_106 : decode cX4_numbers 106 = .ok (.iload 4, 2) := dk_21 4 (dk_at dksX4_numbers_4 12 rfl rfl)
theorem dX4_numbers_108 : decode cX4_numbers 108 = .ok (.aaload, 1) := dk_50 (dk_at dksX4_numbers_4 14 rfl rfl)
theorem dX4_numbers_109 : decode cX4_numbers 109 = .ok (.iconst 2, 1) := dk_5 (dk_at dksX4_numbers_4 15 rfl rfl)
theorem dX4_numbers_110 : decode cX4_numbers 110 = .ok (.iaload, 1) := dk_46 (dk_at dksX4_numbers_4 16 rfl rfl)
theorem dX4_numbers_111 : decode cX4_numbers 111 = .ok (.invokevirtual 244, 3) := dk_182 0 244 (dk_at dksX4_numbers_4 17 rfl rfl)
theorem dX4_numbers_114 : decode cX4_numbers 114 = .ok (.invokevirtual 264, 3) := dk_182 1 8 (dk_at dksX4_numbers_4 20 rfl rfl)
theorem dX4_numbers_117 : decode cX4_numbers 117 = .ok (.iinc 4 1, 3) := dk_132 4 1 (dk_at dksX4_numbers_5 0 rfl rfl)
theorem dX4_numbers_120 : decode cX4_numbers 120 = .ok (.goto (-76), 3) := dk_167 255 180 (dk_at dksX4_numbers_5 3 rfl rfl)
theorem dX4_numbers_123 : decode cX4_numbers 123 = .ok (.return_, 1) := dk_177 (dk_at dksX4_numbers_5 6 rfl rfl)
abbrev cX4_countsIn : ByteArray := prog_16_method_48_code
def yX4_countsIn : MethodName := ⟨RX4, "countsIn", "(III)V"⟩
def dkwX4_countsIn_4 : List UInt8 := [167, 255, 222, 177]
abbrev dktX4_countsIn_4 : List UInt8 := dkwX4_countsIn_4 ++ []
def dkwX4_countsIn_3 : List UInt8 := [162, 0, 10, 42, 180, 0, 17, 167, 0, 10, 16, 16, 42, 180, 0, 17, 100, 182, 1, 2, 132, 4, 1]
abbrev dktX4_countsIn_3 : List UInt8 := dkwX4_countsIn_3 ++ dktX4_countsIn_4
def dkwX4_countsIn_2 : List UInt8 := [182, 1, 5, 132, 4, 1, 167, 255, 229, 3, 54, 4, 21, 4, 29, 162, 0, 34, 42, 27, 21, 4, 28]
abbrev dktX4_countsIn_2 : List UInt8 := dkwX4_countsIn_2 ++ dktX4_countsIn_3
def dkwX4_countsIn_1 : List UInt8 := [54, 4, 21, 4, 28, 162, 0, 27, 42, 27, 29, 21, 4, 100, 182, 1, 2, 42, 27, 21, 4, 4, 96]
abbrev dktX4_countsIn_1 : List UInt8 := dkwX4_countsIn_1 ++ dktX4_countsIn_2
def dkwX4_countsIn_0 : List UInt8 := [42, 89, 180, 0, 255, 29, 96, 181, 0, 255, 28, 29, 164, 0, 10, 42, 27, 3, 182, 1, 2, 177, 3]
abbrev dktX4_countsIn_0 : List UInt8 := dkwX4_countsIn_0 ++ dktX4_countsIn_1
theorem dksX4_countsIn_0 : cX4_countsIn.data.toList.drop 0 = dktX4_countsIn_0 := by decide +kernel
theorem dksX4_countsIn_1 : cX4_countsIn.data.toList.drop 23 = dktX4_countsIn_1 := dk_seg dksX4_countsIn_0 23 rfl rfl
theorem dksX4_countsIn_2 : cX4_countsIn.data.toList.drop 46 = dktX4_countsIn_2 := dk_seg dksX4_countsIn_1 23 rfl rfl
theorem dksX4_countsIn_3 : cX4_countsIn.data.toList.drop 69 = dktX4_countsIn_3 := dk_seg dksX4_countsIn_2 23 rfl rfl
theorem dksX4_countsIn_4 : cX4_countsIn.data.toList.drop 92 = dktX4_countsIn_4 := dk_seg dksX4_countsIn_3 23 rfl rfl
theorem dX4_countsIn_0 : decode cX4_countsIn 0 = .ok (.aload_n 0, 1) := dk_42 (dk_at dksX4_countsIn_0 0 rfl rfl)
theorem dX4_countsIn_1 : decode cX4_countsIn 1 = .ok (.dup, 1) := dk_89 (dk_at dksX4_countsIn_0 1 rfl rfl)
theorem dX4_countsIn_2 : decode cX4_countsIn 2 = .ok (.getfield 255, 3) := dk_180 0 255 (dk_at dksX4_countsIn_0 2 rfl rfl)
theorem dX4_countsIn_5 : decode cX4_countsIn 5 = .ok (.iload_n 3, 1) := dk_29 (dk_at dksX4_countsIn_0 5 rfl rfl)
theorem dX4_countsIn_6 : decode cX4_countsIn 6 = .ok (.iadd, 1) := dk_96 (dk_at dksX4_countsIn_0 6 rfl rfl)
theorem dX4_countsIn_7 : decode cX4_countsIn 7 = .ok (.putfield 255, 3) := dk_181 0 255 (dk_at dksX4_countsIn_0 7 rfl rfl)
theorem dX4_countsIn_10 : decode cX4_countsIn 10 = .ok (.iload_n 2, 1) := dk_28 (dk_at dksX4_countsIn_0 10 rfl rfl)
theorem dX4_countsIn_11 : decode cX4_countsIn 11 = .ok (.iload_n 3, 1) := dk_29 (dk_at dksX4_countsIn_0 11 rfl rfl)
theorem dX4_countsIn_12 : decode cX4_countsIn 12 = .ok (.if_icmp .le 10, 3) := dk_164 0 10 (dk_at dksX4_countsIn_0 12 rfl rfl)
theorem dX4_countsIn_15 : decode cX4_countsIn 15 = .ok (.aload_n 0, 1) := dk_42 (dk_at dksX4_countsIn_0 15 rfl rfl)
theorem dX4_countsIn_16 : decode cX4_countsIn 16 = .ok (.iload_n 1, 1) := dk_27 (dk_at dksX4_countsIn_0 16 rfl rfl)
theorem dX4_countsIn_17 : decode cX4_countsIn 17 = .ok (.iconst 0, 1) := dk_3 (dk_at dksX4_countsIn_0 17 rfl rfl)
theorem dX4_countsIn_18 : decode cX4_countsIn 18 = .ok (.invokevirtual 258, 3) := dk_182 1 2 (dk_at dksX4_countsIn_0 18 rfl rfl)
theorem dX4_countsIn_21 : decode cX4_countsIn 21 = .ok (.return_, 1) := dk_177 (dk_at dksX4_countsIn_0 21 rfl rfl)
theorem dX4_countsIn_22 : decode cX4_countsIn 22 = .ok (.iconst 0, 1) := dk_3 (dk_at dksX4_countsIn_0 22 rfl rfl)
theorem dX4_countsIn_23 : decode cX4_countsIn 23 = .ok (.istore 4, 2) := dk_54 4 (dk_at dksX4_countsIn_1 0 rfl rfl)
theorem dX4_countsIn_25 : decode cX4_countsIn 25 = .ok (.iload 4, 2) := dk_21 4 (dk_at dksX4_countsIn_1 2 rfl rfl)
theorem dX4_countsIn_27 : decode cX4_countsIn 27 = .ok (.iload_n 2, 1) := dk_28 (dk_at dksX4_countsIn_1 4 rfl rfl)
theorem dX4_countsIn_28 : decode cX4_countsIn 28 = .ok (.if_icmp .ge 27, 3) := dk_162 0 27 (dk_at dksX4_countsIn_1 5 rfl rfl)
theorem dX4_countsIn_31 : decode cX4_countsIn 31 = .ok (.aload_n 0, 1) := dk_42 (dk_at dksX4_countsIn_1 8 rfl rfl)
theorem dX4_countsIn_32 : decode cX4_countsIn 32 = .ok (.iload_n 1, 1) := dk_27 (dk_at dksX4_countsIn_1 9 rfl rfl)
theorem dX4_countsIn_33 : decode cX4_countsIn 33 = .ok (.iload_n 3, 1) := dk_29 (dk_at dksX4_countsIn_1 10 rfl rfl)
theorem dX4_countsIn_34 : decode cX4_countsIn 34 = .ok (.iload 4, 2) := dk_21 4 (dk_at dksX4_countsIn_1 11 rfl rfl)
theorem dX4_countsIn_36 : decode cX4_countsIn 36 = .ok (.isub, 1) := dk_100 (dk_at dksX4_countsIn_1 13 rfl rfl)
theorem dX4_countsIn_37 : decode cX4_countsIn 37 = .ok (.invokevirtual 258, 3) := dk_182 1 2 (dk_at dksX4_countsIn_1 14 rfl rfl)
theorem dX4_countsIn_40 : decode cX4_countsIn 40 = .ok (.aload_n 0, 1) := dk_42 (dk_at dksX4_countsIn_1 17 rfl rfl)
theorem dX4_countsIn_41 : decode cX4_countsIn 41 = .ok (.iload_n 1, 1) := dk_27 (dk_at dksX4_countsIn_1 18 rfl rfl)
theorem dX4_countsIn_42 : decode cX4_countsIn 42 = .ok (.iload 4, 2) := dk_21 4 (dk_at dksX4_countsIn_1 19 rfl rfl)
theorem dX4_countsIn_44 : decode cX4_countsIn 44 = .ok (.iconst 1, 1) := dk_4 (dk_at dksX4_countsIn_1 21 rfl rfl)
theorem dX4_countsIn_45 : decode cX4_countsIn 45 = .ok (.iadd, 1) := dk_96 (dk_at dksX4_countsIn_1 22 rfl rfl)
theorem dX4_countsIn_46 : decode cX4_countsIn 46 = .ok (.invokevirtual 261, 3) := dk_182 1 5 (dk_at dksX4_countsIn_2 0 rfl rfl)
theorem dX4_countsIn_49 : decode cX4_countsIn 49 = .ok (.iinc 4 1, 3) := dk_132 4 1 (dk_at dksX4_countsIn_2 3 rfl rfl)
theorem dX4_countsIn_52 : decode cX4_countsIn 52 = .ok (.goto (-27), 3) := dk_167 255 229 (dk_at dksX4_countsIn_2 6 rfl rfl)
theorem dX4_countsIn_55 : decode cX4_countsIn 55 = .ok (.iconst 0, 1) := dk_3 (dk_at dksX4_countsIn_2 9 rfl rfl)
theorem dX4_countsIn_56 : decode cX4_countsIn 56 = .ok (.istore 4, 2) := dk_54 4 (dk_at dksX4_countsIn_2 10 rfl rfl)
theorem dX4_countsIn_58 : decode cX4_countsIn 58 = .ok (.iload 4, 2) := dk_21 4 (dk_at dksX4_countsIn_2 12 rfl rfl)
theorem dX4_countsIn_60 : decode cX4_countsIn 60 = .ok (.iload_n 3, 1) := dk_29 (dk_at dksX4_countsIn_2 14 rfl rfl)
theorem dX4_countsIn_61 : decode cX4_countsIn 61 = .ok (.if_icmp .ge 34, 3) := dk_162 0 34 (dk_at dksX4_countsIn_2 15 rfl rfl)
theorem dX4_countsIn_64 : decode cX4_countsIn 64 = .ok (.aload_n 0, 1) := dk_42 (dk_at dksX4_countsIn_2 18 rfl rfl)
theorem dX4_countsIn_65 : decode cX4_countsIn 65 = .ok (.iload_n 1, 1) := dk_27 (dk_at dksX4_countsIn_2 19 rfl rfl)
theorem dX4_countsIn_66 : decode cX4_countsIn 66 = .ok (.iload 4, 2) := dk_21 4 (dk_at dksX4_countsIn_2 20 rfl rfl)
theorem dX4_countsIn_68 : decode cX4_countsIn 68 = .ok (.iload_n 2, 1) := dk_28 (dk_at dksX4_countsIn_2 22 rfl rfl)
theorem dX4_countsIn_69 : decode cX4_countsIn 69 = .ok (.if_icmp .ge 10, 3) := dk_162 0 10 (dk_at dksX4_countsIn_3 0 rfl rfl)
theorem dX4_countsIn_72 : decode cX4_countsIn 72 = .ok (.aload_n 0, 1) := dk_42 (dk_at dksX4_countsIn_3 3 rfl rfl)
theorem dX4_countsIn_73 : decode cX4_countsIn 73 = .ok (.getfield 17, 3) := dk_180 0 17 (dk_at dksX4_countsIn_3 4 rfl rfl)
theorem dX4_countsIn_76 : decode cX4_countsIn 76 = .ok (.goto 10, 3) := dk_167 0 10 (dk_at dksX4_countsIn_3 7 rfl rfl)
theorem dX4_countsIn_79 : decode cX4_countsIn 79 = .ok (.bipush 16, 2) := dk_16 16 (dk_at dksX4_countsIn_3 10 rfl rfl)
theorem dX4_countsIn_81 : decode cX4_countsIn 81 = .ok (.aload_n 0, 1) := dk_42 (dk_at dksX4_countsIn_3 12 rfl rfl)
theorem dX4_countsIn_82 : decode cX4_countsIn 82 = .ok (.getfield 17, 3) := dk_180 0 17 (dk_at dksX4_countsIn_3 13 rfl rfl)
theorem dX4_countsIn_85 : decode cX4_countsIn 85 = .ok (.isub, 1) := dk_100 (dk_at dksX4_countsIn_3 16 rfl rfl)
theorem dX4_countsIn_86 : decode cX4_countsIn 86 = .ok (.invokevirtual 258, 3) := dk_182 1 2 (dk_at dksX4_countsIn_3 17 rfl rfl)
theorem dX4_countsIn_89 : decode cX4_countsIn 89 = .ok (.iinc 4 1, 3) := dk_132 4 1 (dk_at dksX4_countsIn_3 20 rfl rfl)
theorem dX4_countsIn_92 : decode cX4_countsIn 92 = .ok (.goto (-34), 3) := dk_167 255 222 (dk_at dksX4_countsIn_4 0 rfl rfl)
theorem dX4_countsIn_95 : decode cX4_countsIn 95 = .ok (.return_, 1) := dk_177 (dk_at dksX4_countsIn_4 3 rfl rfl)
abbrev cX4_times : ByteArray := prog_16_method_46_code
def yX4_times : MethodName := ⟨RX4, "times", "(II)V"⟩
def dkwX4_times_2 : List UInt8 := [20, 0, 253, 109, 66, 132, 5, 1, 167, 255, 205, 177]
abbrev dktX4_times_2 : List UInt8 := dkwX4_times_2 ++ []
def dkwX4_times_1 : List UInt8 := [133, 105, 33, 97, 55, 6, 42, 180, 0, 91, 27, 50, 21, 5, 22, 6, 20, 0, 253, 113, 136, 79, 22, 6]
abbrev dktX4_times_1 : List UInt8 := dkwX4_times_1 ++ dktX4_times_2
def dkwX4_times_0 : List UInt8 := [9, 66, 3, 54, 5, 21, 5, 17, 1, 74, 162, 0, 49, 42, 180, 0, 91, 27, 50, 21, 5, 46, 133, 28]
abbrev dktX4_times_0 : List UInt8 := dkwX4_times_0 ++ dktX4_times_1
theorem dksX4_times_0 : cX4_times.data.toList.drop 0 = dktX4_times_0 := by decide +kernel
theorem dksX4_times_1 : cX4_times.data.toList.drop 24 = dktX4_times_1 := dk_seg dksX4_times_0 24 rfl rfl
theorem dksX4_times_2 : cX4_times.data.toList.drop 48 = dktX4_times_2 := dk_seg dksX4_times_1 24 rfl rfl
theorem dX4_times_0 : decode cX4_times 0 = .ok (.lconst 0, 1) := dk_9 (dk_at dksX4_times_0 0 rfl rfl)
theorem dX4_times_1 : decode cX4_times 1 = .ok (.lstore_n 3, 1) := dk_66 (dk_at dksX4_times_0 1 rfl rfl)
theorem dX4_times_2 : decode cX4_times 2 = .ok (.iconst 0, 1) := dk_3 (dk_at dksX4_times_0 2 rfl rfl)
theorem dX4_times_3 : decode cX4_times 3 = .ok (.istore 5, 2) := dk_54 5 (dk_at dksX4_times_0 3 rfl rfl)
theorem dX4_times_5 : decode cX4_times 5 = .ok (.iload 5, 2) := dk_21 5 (dk_at dksX4_times_0 5 rfl rfl)
theorem dX4_times_7 : decode cX4_times 7 = .ok (.sipush 330, 3) := dk_17 1 74 (dk_at dksX4_times_0 7 rfl rfl)
theorem dX4_times_10 : decode cX4_times 10 = .ok (.if_icmp .ge 49, 3) := dk_162 0 49 (dk_at dksX4_times_0 10 rfl rfl)
theorem dX4_times_13 : decode cX4_times 13 = .ok (.aload_n 0, 1) := dk_42 (dk_at dksX4_times_0 13 rfl rfl)
theorem dX4_times_14 : decode cX4_times 14 = .ok (.getfield 91, 3) := dk_180 0 91 (dk_at dksX4_times_0 14 rfl rfl)
theorem dX4_times_17 : decode cX4_times 17 = .ok (.iload_n 1, 1) := dk_27 (dk_at dksX4_times_0 17 rfl rfl)
theorem dX4_times_18 : decode cX4_times 18 = .ok (.aaload, 1) := dk_50 (dk_at dksX4_times_0 18 rfl rfl)
theorem dX4_times_19 : decode cX4_times 19 = .ok (.iload 5, 2) := dk_21 5 (dk_at dksX4_times_0 19 rfl rfl)
theorem dX4_times_21 : decode cX4_times 21 = .ok (.iaload, 1) := dk_46 (dk_at dksX4_times_0 21 rfl rfl)
theorem dX4_times_22 : decode cX4_times 22 = .ok (.i2l, 1) := dk_133 (dk_at dksX4_times_0 22 rfl rfl)
theorem dX4_times_23 : decode cX4_times 23 = .ok (.iload_n 2, 1) := dk_28 (dk_at dksX4_times_0 23 rfl rfl)
theorem dX4_times_24 : decode cX4_times 24 = .ok (.i2l, 1) := dk_133 (dk_at dksX4_times_1 0 rfl rfl)
theorem dX4_times_25 : decode cX4_times 25 = .ok (.lmul, 1) := dk_105 (dk_at dksX4_times_1 1 rfl rfl)
theorem dX4_times_26 : decode cX4_times 26 = .ok (.lload_n 3, 1) := dk_33 (dk_at dksX4_times_1 2 rfl rfl)
theorem dX4_times_27 : decode cX4_times 27 = .ok (.ladd, 1) := dk_97 (dk_at dksX4_times_1 3 rfl rfl)
theorem dX4_times_28 : decode cX4_times 28 = .ok (.lstore 6, 2) := dk_55 6 (dk_at dksX4_times_1 4 rfl rfl)
theorem dX4_times_30 : decode cX4_times 30 = .ok (.aload_n 0, 1) := dk_42 (dk_at dksX4_times_1 6 rfl rfl)
theorem dX4_times_31 : decode cX4_times 31 = .ok (.getfield 91, 3) := dk_180 0 91 (dk_at dksX4_times_1 7 rfl rfl)
theorem dX4_times_34 : decode cX4_times 34 = .ok (.iload_n 1, 1) := dk_27 (dk_at dksX4_times_1 10 rfl rfl)
theorem dX4_times_35 : decode cX4_times 35 = .ok (.aaload, 1) := dk_50 (dk_at dksX4_times_1 11 rfl rfl)
theorem dX4_times_36 : decode cX4_times 36 = .ok (.iload 5, 2) := dk_21 5 (dk_at dksX4_times_1 12 rfl rfl)
theorem dX4_times_38 : decode cX4_times 38 = .ok (.lload 6, 2) := dk_22 6 (dk_at dksX4_times_1 14 rfl rfl)
theorem dX4_times_40 : decode cX4_times 40 = .ok (.ldc2_w 253, 3) := dk_20 0 253 (dk_at dksX4_times_1 16 rfl rfl)
theorem dX4_times_43 : decode cX4_times 43 = .ok (.lrem, 1) := dk_113 (dk_at dksX4_times_1 19 rfl rfl)
theorem dX4_times_44 : decode cX4_times 44 = .ok (.l2i, 1) := dk_136 (dk_at dksX4_times_1 20 rfl rfl)
theorem dX4_times_45 : decode cX4_times 45 = .ok (.iastore, 1) := dk_79 (dk_at dksX4_times_1 21 rfl rfl)
theorem dX4_times_46 : decode cX4_times 46 = .ok (.lload 6, 2) := dk_22 6 (dk_at dksX4_times_1 22 rfl rfl)
theorem dX4_times_48 : decode cX4_times 48 = .ok (.ldc2_w 253, 3) := dk_20 0 253 (dk_at dksX4_times_2 0 rfl rfl)
theorem dX4_times_51 : decode cX4_times 51 = .ok (.ldiv, 1) := dk_109 (dk_at dksX4_times_2 3 rfl rfl)
theorem dX4_times_52 : decode cX4_times 52 = .ok (.lstore_n 3, 1) := dk_66 (dk_at dksX4_times_2 4 rfl rfl)
theorem dX4_times_53 : decode cX4_times 53 = .ok (.iinc 5 1, 3) := dk_132 5 1 (dk_at dksX4_times_2 5 rfl rfl)
theorem dX4_times_56 : decode cX4_times 56 = .ok (.goto (-51), 3) := dk_167 255 205 (dk_at dksX4_times_2 8 rfl rfl)
theorem dX4_times_59 : decode cX4_times 59 = .ok (.return_, 1) := dk_177 (dk_at dksX4_times_2 11 rfl rfl)
abbrev cX4_parts : ByteArray := prog_16_method_47_code
def yX4_parts : MethodName := ⟨RX4, "parts", "(II)V"⟩
def dkwX4_parts_2 : List UInt8 := [132, 4, 255, 167, 255, 213, 177]
abbrev dktX4_parts_2 : List UInt8 := dkwX4_parts_2 ++ []
def dkwX4_parts_1 : List UInt8 := [21, 4, 46, 96, 54, 5, 42, 180, 0, 91, 27, 50, 21, 4, 21, 5, 28, 108, 79, 21, 5, 28, 112, 62]
abbrev dktX4_parts_1 : List UInt8 := dkwX4_parts_1 ++ dktX4_parts_2
def dkwX4_parts_0 : List UInt8 := [3, 62, 17, 1, 73, 54, 4, 21, 4, 155, 0, 44, 29, 17, 39, 16, 104, 42, 180, 0, 91, 27, 50]
abbrev dktX4_parts_0 : List UInt8 := dkwX4_parts_0 ++ dktX4_parts_1
theorem dksX4_parts_0 : cX4_parts.data.toList.drop 0 = dktX4_parts_0 := by decide +kernel
theorem dksX4_parts_1 : cX4_parts.data.toList.drop 23 = dktX4_parts_1 := dk_seg dksX4_parts_0 23 rfl rfl
theorem dksX4_parts_2 : cX4_parts.data.toList.drop 47 = dktX4_parts_2 := dk_seg dksX4_parts_1 24 rfl rfl
theorem dX4_parts_0 : decode cX4_parts 0 = .ok (.iconst 0, 1) := dk_3 (dk_at dksX4_parts_0 0 rfl rfl)
theorem dX4_parts_1 : decode cX4_parts 1 = .ok (.istore_n 3, 1) := dk_62 (dk_at dksX4_parts_0 1 rfl rfl)
theorem dX4_parts_2 : decode cX4_parts 2 = .ok (.sipush 329, 3) := dk_17 1 73 (dk_at dksX4_parts_0 2 rfl rfl)
theorem dX4_parts_5 : decode cX4_parts 5 = .ok (.istore 4, 2) := dk_54 4 (dk_at dksX4_parts_0 5 rfl rfl)
theorem dX4_parts_7 : decode cX4_parts 7 = .ok (.iload 4, 2) := dk_21 4 (dk_at dksX4_parts_0 7 rfl rfl)
theorem dX4_parts_9 : decode cX4_parts 9 = .ok (.ifCond .lt 44, 3) := dk_155 0 44 (dk_at dksX4_parts_0 9 rfl rfl)
theorem dX4_parts_12 : decode cX4_parts 12 = .ok (.iload_n 3, 1) := dk_29 (dk_at dksX4_parts_0 12 rfl rfl)
theorem dX4_parts_13 : decode cX4_parts 13 = .ok (.sipush 10000, 3) := dk_17 39 16 (dk_at dksX4_parts_0 13 rfl rfl)
theorem dX4_parts_16 : decode cX4_parts 16 = .ok (.imul, 1) := dk_104 (dk_at dksX4_parts_0 16 rfl rfl)
theorem dX4_parts_17 : decode cX4_parts 17 = .ok (.aload_n 0, 1) := dk_42 (dk_at dksX4_parts_0 17 rfl rfl)
theorem dX4_parts_18 : decode cX4_parts 18 = .ok (.getfield 91, 3) := dk_180 0 91 (dk_at dksX4_parts_0 18 rfl rfl)
theorem dX4_parts_21 : decode cX4_parts 21 = .ok (.iload_n 1, 1) := dk_27 (dk_at dksX4_parts_0 21 rfl rfl)
theorem dX4_parts_22 : decode cX4_parts 22 = .ok (.aaload, 1) := dk_50 (dk_at dksX4_parts_0 22 rfl rfl)
theorem dX4_parts_23 : decode cX4_parts 23 = .ok (.iload 4, 2) := dk_21 4 (dk_at dksX4_parts_1 0 rfl rfl)
theorem dX4_parts_25 : decode cX4_parts 25 = .ok (.iaload, 1) := dk_46 (dk_at dksX4_parts_1 2 rfl rfl)
theorem dX4_parts_26 : decode cX4_parts 26 = .ok (.iadd, 1) := dk_96 (dk_at dksX4_parts_1 3 rfl rfl)
theorem dX4_parts_27 : decode cX4_parts 27 = .ok (.istore 5, 2) := dk_54 5 (dk_at dksX4_parts_1 4 rfl rfl)
theorem dX4_parts_29 : decode cX4_parts 29 = .ok (.aload_n 0, 1) := dk_42 (dk_at dksX4_parts_1 6 rfl rfl)
theorem dX4_parts_30 : decode cX4_parts 30 = .ok (.getfield 91, 3) := dk_180 0 91 (dk_at dksX4_parts_1 7 rfl rfl)
theorem dX4_parts_33 : decode cX4_parts 33 = .ok (.iload_n 1, 1) := dk_27 (dk_at dksX4_parts_1 10 rfl rfl)
theorem dX4_parts_34 : decode cX4_parts 34 = .ok (.aaload, 1) := dk_50 (dk_at dksX4_parts_1 11 rfl rfl)
theorem dX4_parts_35 : decode cX4_parts 35 = .ok (.iload 4, 2) := dk_21 4 (dk_at dksX4_parts_1 12 rfl rfl)
theorem dX4_parts_37 : decode cX4_parts 37 = .ok (.iload 5, 2) := dk_21 5 (dk_at dksX4_parts_1 14 rfl rfl)
theorem dX4_parts_39 : decode cX4_parts 39 = .ok (.iload_n 2, 1) := dk_28 (dk_at dksX4_parts_1 16 rfl rfl)
theorem dX4_parts_40 : decode cX4_parts 40 = .ok (.idiv, 1) := dk_108 (dk_at dksX4_parts_1 17 rfl rfl)
theorem dX4_parts_41 : decode cX4_parts 41 = .ok (.iastore, 1) := dk_79 (dk_at dksX4_parts_1 18 rfl rfl)
theorem dX4_parts_42 : decode cX4_parts 42 = .ok (.iload 5, 2) := dk_21 5 (dk_at dksX4_parts_1 19 rfl rfl)
theorem dX4_parts_44 : decode cX4_parts 44 = .ok (.iload_n 2, 1) := dk_28 (dk_at dksX4_parts_1 21 rfl rfl)
theorem dX4_parts_45 : decode cX4_parts 45 = .ok (.irem, 1) := dk_112 (dk_at dksX4_parts_1 22 rfl rfl)
theorem dX4_parts_46 : decode cX4_parts 46 = .ok (.istore_n 3, 1) := dk_62 (dk_at dksX4_parts_1 23 rfl rfl)
theorem dX4_parts_47 : decode cX4_parts 47 = .ok (.iinc 4 (-1), 3) := dk_132 4 255 (dk_at dksX4_parts_2 0 rfl rfl)
theorem dX4_parts_50 : decode cX4_parts 50 = .ok (.goto (-43), 3) := dk_167 255 213 (dk_at dksX4_parts_2 3 rfl rfl)
theorem dX4_parts_53 : decode cX4_parts 53 = .ok (.return_, 1) := dk_177 (dk_at dksX4_parts_2 6 rfl rfl)
abbrev cX4_digits : ByteArray := prog_16_method_56_code
def yX4_digits : MethodName := ⟨RX4, "digits", "(I)I"⟩
def dkwX4_digits_1 : List UInt8 := [153, 0, 5, 3, 172, 42, 3, 27, 2, 182, 1, 19, 42, 182, 1, 22, 172]
abbrev dktX4_digits_1 : List UInt8 := dkwX4_digits_1 ++ []
def dkwX4_digits_0 : List UInt8 := [42, 3, 181, 0, 94, 42, 42, 27, 182, 0, 235, 154, 0, 7, 4, 167, 0, 4, 3, 4, 182, 0, 170]
abbrev dktX4_digits_0 : List UInt8 := dkwX4_digits_0 ++ dktX4_digits_1
theorem dksX4_digits_0 : cX4_digits.data.toList.drop 0 = dktX4_digits_0 := by decide +kernel
theorem dksX4_digits_1 : cX4_digits.data.toList.drop 23 = dktX4_digits_1 := dk_seg dksX4_digits_0 23 rfl rfl
theorem dX4_digits_0 : decode cX4_digits 0 = .ok (.aload_n 0, 1) := dk_42 (dk_at dksX4_digits_0 0 rfl rfl)
theorem dX4_digits_1 : decode cX4_digits 1 = .ok (.iconst 0, 1) := dk_3 (dk_at dksX4_digits_0 1 rfl rfl)
theorem dX4_digits_2 : decode cX4_digits 2 = .ok (.putfield 94, 3) := dk_181 0 94 (dk_at dksX4_digits_0 2 rfl rfl)
theorem dX4_digits_5 : decode cX4_digits 5 = .ok (.aload_n 0, 1) := dk_42 (dk_at dksX4_digits_0 5 rfl rfl)
theorem dX4_digits_6 : decode cX4_digits 6 = .ok (.aload_n 0, 1) := dk_42 (dk_at dksX4_digits_0 6 rfl rfl)
theorem dX4_digits_7 : decode cX4_digits 7 = .ok (.iload_n 1, 1) := dk_27 (dk_at dksX4_digits_0 7 rfl rfl)
theorem dX4_digits_8 : decode cX4_digits 8 = .ok (.invokevirtual 235, 3) := dk_182 0 235 (dk_at dksX4_digits_0 8 rfl rfl)
theorem dX4_digits_11 : decode cX4_digits 11 = .ok (.ifCond .ne 7, 3) := dk_154 0 7 (dk_at dksX4_digits_0 11 rfl rfl)
theorem dX4_digits_14 : decode cX4_digits 14 = .ok (.iconst 1, 1) := dk_4 (dk_at dksX4_digits_0 14 rfl rfl)
theorem dX4_digits_15 : decode cX4_digits 15 = .ok (.goto 4, 3) := dk_167 0 4 (dk_at dksX4_digits_0 15 rfl rfl)
theorem dX4_digits_18 : decode cX4_digits 18 = .ok (.iconst 0, 1) := dk_3 (dk_at dksX4_digits_0 18 rfl rfl)
theorem dX4_digits_19 : decode cX4_digits 19 = .ok (.iconst 1, 1) := dk_4 (dk_at dksX4_digits_0 19 rfl rfl)
theorem dX4_digits_20 : decode cX4_digits 20 = .ok (.invokevirtual 170, 3) := dk_182 0 170 (dk_at dksX4_digits_0 20 rfl rfl)
theorem dX4_digits_23 : decode cX4_digits 23 = .ok (.ifCond .eq 5, 3) := dk_153 0 5 (dk_at dksX4_digits_1 0 rfl rfl)
theorem dX4_digits_26 : decode cX4_digits 26 = .ok (.iconst 0, 1) := dk_3 (dk_at dksX4_digits_1 3 rfl rfl)
theorem dX4_digits_27 : decode cX4_digits 27 = .ok (.ireturn, 1) := dk_172 (dk_at dksX4_digits_1 4 rfl rfl)
theorem dX4_digits_28 : decode cX4_digits 28 = .ok (.aload_n 0, 1) := dk_42 (dk_at dksX4_digits_1 5 rfl rfl)
theorem dX4_digits_29 : decode cX4_digits 29 = .ok (.iconst 0, 1) := dk_3 (dk_at dksX4_digits_1 6 rfl rfl)
theorem dX4_digits_30 : decode cX4_digits 30 = .ok (.iload_n 1, 1) := dk_27 (dk_at dksX4_digits_1 7 rfl rfl)
theorem dX4_digits_31 : decode cX4_digits 31 = .ok (.iconst (-1), 1) := dk_2 (dk_at dksX4_digits_1 8 rfl rfl)
theorem dX4_digits_32 : decode cX4_digits 32 = .ok (.invokevirtual 275, 3) := dk_182 1 19 (dk_at dksX4_digits_1 9 rfl rfl)
theorem dX4_digits_35 : decode cX4_digits 35 = .ok (.aload_n 0, 1) := dk_42 (dk_at dksX4_digits_1 12 rfl rfl)
theorem dX4_digits_36 : decode cX4_digits 36 = .ok (.invokevirtual 278, 3) := dk_182 1 22 (dk_at dksX4_digits_1 13 rfl rfl)
theorem dX4_digits_39 : decode cX4_digits 39 = .ok (.ireturn, 1) := dk_172 (dk_at dksX4_digits_1 16 rfl rfl)
abbrev cX4_digitsNow : ByteArray := prog_16_method_55_code
def yX4_digitsNow : MethodName := ⟨RX4, "digitsNow", "()I"⟩
def dkwX4_digitsNow_2 : List UInt8 := [158, 0, 14, 132, 2, 1, 29, 16, 10, 108, 62, 167, 255, 244, 28, 172]
abbrev dktX4_digitsNow_2 : List UInt8 := dkwX4_digitsNow_2 ++ []
def dkwX4_digitsNow_1 : List UInt8 := [167, 255, 238, 7, 27, 104, 4, 96, 61, 42, 180, 0, 91, 3, 50, 27, 46, 16, 10, 108, 62, 29]
abbrev dktX4_digitsNow_1 : List UInt8 := dkwX4_digitsNow_1 ++ dktX4_digitsNow_2
def dkwX4_digitsNow_0 : List UInt8 := [17, 1, 73, 60, 27, 158, 0, 20, 42, 180, 0, 91, 3, 50, 27, 46, 154, 0, 9, 132, 1, 255]
abbrev dktX4_digitsNow_0 : List UInt8 := dkwX4_digitsNow_0 ++ dktX4_digitsNow_1
theorem dksX4_digitsNow_0 : cX4_digitsNow.data.toList.drop 0 = dktX4_digitsNow_0 := by decide +kernel
theorem dksX4_digitsNow_1 : cX4_digitsNow.data.toList.drop 22 = dktX4_digitsNow_1 := dk_seg dksX4_digitsNow_0 22 rfl rfl
theorem dksX4_digitsNow_2 : cX4_digitsNow.data.toList.drop 44 = dktX4_digitsNow_2 := dk_seg dksX4_digitsNow_1 22 rfl rfl
theorem dX4_digitsNow_0 : decode cX4_digitsNow 0 = .ok (.sipush 329, 3) := dk_17 1 73 (dk_at dksX4_digitsNow_0 0 rfl rfl)
theorem dX4_digitsNow_3 : decode cX4_digitsNow 3 = .ok (.istore_n 1, 1) := dk_60 (dk_at dksX4_digitsNow_0 3 rfl rfl)
theorem dX4_digitsNow_4 : decode cX4_digitsNow 4 = .ok (.iload_n 1, 1) := dk_27 (dk_at dksX4_digitsNow_0 4 rfl rfl)
theorem dX4_digitsNow_5 : decode cX4_digitsNow 5 = .ok (.ifCond .le 20, 3) := dk_158 0 20 (dk_at dksX4_digitsNow_0 5 rfl rfl)
theorem dX4_digitsNow_8 : decode cX4_digitsNow 8 = .ok (.aload_n 0, 1) := dk_42 (dk_at dksX4_digitsNow_0 8 rfl rfl)
theorem dX4_digitsNow_9 : decode cX4_digitsNow 9 = .ok (.getfield 91, 3) := dk_180 0 91 (dk_at dksX4_digitsNow_0 9 rfl rfl)
theorem dX4_digitsNow_12 : decode cX4_digitsNow 12 = .ok (.iconst 0, 1) := dk_3 (dk_at dksX4_digitsNow_0 12 rfl rfl)
theorem dX4_digitsNow_13 : decode cX4_digitsNow 13 = .ok (.aaload, 1) := dk_50 (dk_at dksX4_digitsNow_0 13 rfl rfl)
theorem dX4_digitsNow_14 : decode cX4_digitsNow 14 = .ok (.iload_n 1, 1) := dk_27 (dk_at dksX4_digitsNow_0 14 rfl rfl)
theorem dX4_digitsNow_15 : decode cX4_digitsNow 15 = .ok (.iaload, 1) := dk_46 (dk_at dksX4_digitsNow_0 15 rfl rfl)
theorem dX4_digitsNow_16 : decode cX4_digitsNow 16 = .ok (.ifCond .ne 9, 3) := dk_154 0 9 (dk_at dksX4_digitsNow_0 16 rfl rfl)
theorem dX4_digitsNow_19 : decode cX4_digitsNow 19 = .ok (.iinc 1 (-1), 3) := dk_132 1 255 (dk_at dksX4_digitsNow_0 19 rfl rfl)
theorem dX4_digitsNow_22 : decode cX4_digitsNow 22 = .ok (.goto (-18), 3) := dk_167 255 238 (dk_at dksX4_digitsNow_1 0 rfl rfl)
theorem dX4_digitsNow_25 : decode cX4_digitsNow 25 = .ok (.iconst 4, 1) := dk_7 (dk_at dksX4_digitsNow_1 3 rfl rfl)
theorem dX4_digitsNow_26 : decode cX4_digitsNow 26 = .ok (.iload_n 1, 1) := dk_27 (dk_at dksX4_digitsNow_1 4 rfl rfl)
theorem dX4_digitsNow_27 : decode cX4_digitsNow 27 = .ok (.imul, 1) := dk_104 (dk_at dksX4_digitsNow_1 5 rfl rfl)
theorem dX4_digitsNow_28 : decode cX4_digitsNow 28 = .ok (.iconst 1, 1) := dk_4 (dk_at dksX4_digitsNow_1 6 rfl rfl)
theorem dX4_digitsNow_29 : decode cX4_digitsNow 29 = .ok (.iadd, 1) := dk_96 (dk_at dksX4_digitsNow_1 7 rfl rfl)
theorem dX4_digitsNow_30 : decode cX4_digitsNow 30 = .ok (.istore_n 2, 1) := dk_61 (dk_at dksX4_digitsNow_1 8 rfl rfl)
theorem dX4_digitsNow_31 : decode cX4_digitsNow 31 = .ok (.aload_n 0, 1) := dk_42 (dk_at dksX4_digitsNow_1 9 rfl rfl)
theorem dX4_digitsNow_32 : decode cX4_digitsNow 32 = .ok (.getfield 91, 3) := dk_180 0 91 (dk_at dksX4_digitsNow_1 10 rfl rfl)
theorem dX4_digitsNow_35 : decode cX4_digitsNow 35 = .ok (.iconst 0, 1) := dk_3 (dk_at dksX4_digitsNow_1 13 rfl rfl)
theorem dX4_digitsNow_36 : decode cX4_digitsNow 36 = .ok (.aaload, 1) := dk_50 (dk_at dksX4_digitsNow_1 14 rfl rfl)
theorem dX4_digitsNow_37 : decode cX4_digitsNow 37 = .ok (.iload_n 1, 1) := dk_27 (dk_at dksX4_digitsNow_1 15 rfl rfl)
theorem dX4_digitsNow_38 : decode cX4_digitsNow 38 = .ok (.iaload, 1) := dk_46 (dk_at dksX4_digitsNow_1 16 rfl rfl)
theorem dX4_digitsNow_39 : decode cX4_digitsNow 39 = .ok (.bipush 10, 2) := dk_16 10 (dk_at dksX4_digitsNow_1 17 rfl rfl)
theorem dX4_digitsNow_41 : decode cX4_digitsNow 41 = .ok (.idiv, 1) := dk_108 (dk_at dksX4_digitsNow_1 19 rfl rfl)
theorem dX4_digitsNow_42 : decode cX4_digitsNow 42 = .ok (.istore_n 3, 1) := dk_62 (dk_at dksX4_digitsNow_1 20 rfl rfl)
theorem dX4_digitsNow_43 : decode cX4_digitsNow 43 = .ok (.iload_n 3, 1) := dk_29 (dk_at dksX4_digitsNow_1 21 rfl rfl)
theorem dX4_digitsNow_44 : decode cX4_digitsNow 44 = .ok (.ifCond .le 14, 3) := dk_158 0 14 (dk_at dksX4_digitsNow_2 0 rfl rfl)
theorem dX4_digitsNow_47 : decode cX4_digitsNow 47 = .ok (.iinc 2 1, 3) := dk_132 2 1 (dk_at dksX4_digitsNow_2 3 rfl rfl)
theorem dX4_digitsNow_50 : decode cX4_digitsNow 50 = .ok (.iload_n 3, 1) := dk_29 (dk_at dksX4_digitsNow_2 6 rfl rfl)
theorem dX4_digitsNow_51 : decode cX4_digitsNow 51 = .ok (.bipush 10, 2) := dk_16 10 (dk_at dksX4_digitsNow_2 7 rfl rfl)
theorem dX4_digitsNow_53 : decode cX4_digitsNow 53 = .ok (.idiv, 1) := dk_108 (dk_at dksX4_digitsNow_2 9 rfl rfl)
theorem dX4_digitsNow_54 : decode cX4_digitsNow 54 = .ok (.istore_n 3, 1) := dk_62 (dk_at dksX4_digitsNow_2 10 rfl rfl)
theorem dX4_digitsNow_55 : decode cX4_digitsNow 55 = .ok (.goto (-12), 3) := dk_167 255 244 (dk_at dksX4_digitsNow_2 11 rfl rfl)
theorem dX4_digitsNow_58 : decode cX4_digitsNow 58 = .ok (.iload_n 2, 1) := dk_28 (dk_at dksX4_digitsNow_2 14 rfl rfl)
theorem dX4_digitsNow_59 : decode cX4_digitsNow 59 = .ok (.ireturn, 1) := dk_172 (dk_at dksX4_digitsNow_2 15 rfl rfl)
abbrev cX4_digit : ByteArray := prog_16_method_57_code
def yX4_digit : MethodName := ⟨RX4, "digit", "(II)I"⟩
def dkwX4_digit_3 : List UInt8 := [162, 0, 14, 29, 16, 10, 108, 62, 132, 4, 1, 167, 255, 240, 29, 16, 10, 112, 172]
abbrev dktX4_digit_3 : List UInt8 := dkwX4_digit_3 ++ []
def dkwX4_digit_2 : List UInt8 := [154, 0, 5, 2, 172, 42, 180, 0, 91, 3, 50, 28, 7, 108, 46, 62, 3, 54, 4, 21, 4, 28, 7, 112]
abbrev dktX4_digit_2 : List UInt8 := dkwX4_digit_2 ++ dktX4_digit_3
def dkwX4_digit_1 : List UInt8 := [153, 0, 5, 3, 172, 42, 3, 27, 2, 182, 1, 19, 28, 3, 42, 182, 1, 22, 4, 100, 184, 0, 128]
abbrev dktX4_digit_1 : List UInt8 := dkwX4_digit_1 ++ dktX4_digit_2
def dkwX4_digit_0 : List UInt8 := [42, 3, 181, 0, 94, 42, 42, 27, 182, 0, 235, 154, 0, 7, 4, 167, 0, 4, 3, 4, 182, 0, 170]
abbrev dktX4_digit_0 : List UInt8 := dkwX4_digit_0 ++ dktX4_digit_1
theorem dksX4_digit_0 : cX4_digit.data.toList.drop 0 = dktX4_digit_0 := by decide +kernel
theorem dksX4_digit_1 : cX4_digit.data.toList.drop 23 = dktX4_digit_1 := dk_seg dksX4_digit_0 23 rfl rfl
theorem dksX4_digit_2 : cX4_digit.data.toList.drop 46 = dktX4_digit_2 := dk_seg dksX4_digit_1 23 rfl rfl
theorem dksX4_digit_3 : cX4_digit.data.toList.drop 70 = dktX4_digit_3 := dk_seg dksX4_digit_2 24 rfl rfl
theorem dX4_digit_0 : decode cX4_digit 0 = .ok (.aload_n 0, 1) := dk_42 (dk_at dksX4_digit_0 0 rfl rfl)
theorem dX4_digit_1 : decode cX4_digit 1 = .ok (.iconst 0, 1) := dk_3 (dk_at dksX4_digit_0 1 rfl rfl)
theorem dX4_digit_2 : decode cX4_digit 2 = .ok (.putfield 94, 3) := dk_181 0 94 (dk_at dksX4_digit_0 2 rfl rfl)
theorem dX4_digit_5 : decode cX4_digit 5 = .ok (.aload_n 0, 1) := dk_42 (dk_at dksX4_digit_0 5 rfl rfl)
theorem dX4_digit_6 : decode cX4_digit 6 = .ok (.aload_n 0, 1) := dk_42 (dk_at dksX4_digit_0 6 rfl rfl)
theorem dX4_digit_7 : decode cX4_digit 7 = .ok (.iload_n 1, 1) := dk_27 (dk_at dksX4_digit_0 7 rfl rfl)
theorem dX4_digit_8 : decode cX4_digit 8 = .ok (.invokevirtual 235, 3) := dk_182 0 235 (dk_at dksX4_digit_0 8 rfl rfl)
theorem dX4_digit_11 : decode cX4_digit 11 = .ok (.ifCond .ne 7, 3) := dk_154 0 7 (dk_at dksX4_digit_0 11 rfl rfl)
theorem dX4_digit_14 : decode cX4_digit 14 = .ok (.iconst 1, 1) := dk_4 (dk_at dksX4_digit_0 14 rfl rfl)
theorem dX4_digit_15 : decode cX4_digit 15 = .ok (.goto 4, 3) := dk_167 0 4 (dk_at dksX4_digit_0 15 rfl rfl)
theorem dX4_digit_18 : decode cX4_digit 18 = .ok (.iconst 0, 1) := dk_3 (dk_at dksX4_digit_0 18 rfl rfl)
theorem dX4_digit_19 : decode cX4_digit 19 = .ok (.iconst 1, 1) := dk_4 (dk_at dksX4_digit_0 19 rfl rfl)
theorem dX4_digit_20 : decode cX4_digit 20 = .ok (.invokevirtual 170, 3) := dk_182 0 170 (dk_at dksX4_digit_0 20 rfl rfl)
theorem dX4_digit_23 : decode cX4_digit 23 = .ok (.ifCond .eq 5, 3) := dk_153 0 5 (dk_at dksX4_digit_1 0 rfl rfl)
theorem dX4_digit_26 : decode cX4_digit 26 = .ok (.iconst 0, 1) := dk_3 (dk_at dksX4_digit_1 3 rfl rfl)
theorem dX4_digit_27 : decode cX4_digit 27 = .ok (.ireturn, 1) := dk_172 (dk_at dksX4_digit_1 4 rfl rfl)
theorem dX4_digit_28 : decode cX4_digit 28 = .ok (.aload_n 0, 1) := dk_42 (dk_at dksX4_digit_1 5 rfl rfl)
theorem dX4_digit_29 : decode cX4_digit 29 = .ok (.iconst 0, 1) := dk_3 (dk_at dksX4_digit_1 6 rfl rfl)
theorem dX4_digit_30 : decode cX4_digit 30 = .ok (.iload_n 1, 1) := dk_27 (dk_at dksX4_digit_1 7 rfl rfl)
theorem dX4_digit_31 : decode cX4_digit 31 = .ok (.iconst (-1), 1) := dk_2 (dk_at dksX4_digit_1 8 rfl rfl)
theorem dX4_digit_32 : decode cX4_digit 32 = .ok (.invokevirtual 275, 3) := dk_182 1 19 (dk_at dksX4_digit_1 9 rfl rfl)
theorem dX4_digit_35 : decode cX4_digit 35 = .ok (.iload_n 2, 1) := dk_28 (dk_at dksX4_digit_1 12 rfl rfl)
theorem dX4_digit_36 : decode cX4_digit 36 = .ok (.iconst 0, 1) := dk_3 (dk_at dksX4_digit_1 13 rfl rfl)
theorem dX4_digit_37 : decode cX4_digit 37 = .ok (.aload_n 0, 1) := dk_42 (dk_at dksX4_digit_1 14 rfl rfl)
theorem dX4_digit_38 : decode cX4_digit 38 = .ok (.invokevirtual 278, 3) := dk_182 1 22 (dk_at dksX4_digit_1 15 rfl rfl)
theorem dX4_digit_41 : decode cX4_digit 41 = .ok (.iconst 1, 1) := dk_4 (dk_at dksX4_digit_1 18 rfl rfl)
theorem dX4_digit_42 : decode cX4_digit 42 = .ok (.isub, 1) := dk_100 (dk_at dksX4_digit_1 19 rfl rfl)
theorem dX4_digit_43 : decode cX4_digit 43 = .ok (.invokestatic 128, 3) := dk_184 0 128 (dk_at dksX4_digit_1 20 rfl rfl)
theorem dX4_digit_46 : decode cX4_digit 46 = .ok (.ifCond .ne 5, 3) := dk_154 0 5 (dk_at dksX4_digit_2 0 rfl rfl)
theorem dX4_digit_49 : decode cX4_digit 49 = .ok (.iconst (-1), 1) := dk_2 (dk_at dksX4_digit_2 3 rfl rfl)
theorem dX4_digit_50 : decode cX4_digit 50 = .ok (.ireturn, 1) := dk_172 (dk_at dksX4_digit_2 4 rfl rfl)
theorem dX4_digit_51 : decode cX4_digit 51 = .ok (.aload_n 0, 1) := dk_42 (dk_at dksX4_digit_2 5 rfl rfl)
theorem dX4_digit_52 : decode cX4_digit 52 = .ok (.getfield 91, 3) := dk_180 0 91 (dk_at dksX4_digit_2 6 rfl rfl)
theorem dX4_digit_55 : decode cX4_digit 55 = .ok (.iconst 0, 1) := dk_3 (dk_at dksX4_digit_2 9 rfl rfl)
theorem dX4_digit_56 : decode cX4_digit 56 = .ok (.aaload, 1) := dk_50 (dk_at dksX4_digit_2 10 rfl rfl)
theorem dX4_digit_57 : decode cX4_digit 57 = .ok (.iload_n 2, 1) := dk_28 (dk_at dksX4_digit_2 11 rfl rfl)
theorem dX4_digit_58 : decode cX4_digit 58 = .ok (.iconst 4, 1) := dk_7 (dk_at dksX4_digit_2 12 rfl rfl)
theorem dX4_digit_59 : decode cX4_digit 59 = .ok (.idiv, 1) := dk_108 (dk_at dksX4_digit_2 13 rfl rfl)
theorem dX4_digit_60 : decode cX4_digit 60 = .ok (.iaload, 1) := dk_46 (dk_at dksX4_digit_2 14 rfl rfl)
theorem dX4_digit_61 : decode cX4_digit 61 = .ok (.istore_n 3, 1) := dk_62 (dk_at dksX4_digit_2 15 rfl rfl)
theorem dX4_digit_62 : decode cX4_digit 62 = .ok (.iconst 0, 1) := dk_3 (dk_at dksX4_digit_2 16 rfl rfl)
theorem dX4_digit_63 : decode cX4_digit 63 = .ok (.istore 4, 2) := dk_54 4 (dk_at dksX4_digit_2 17 rfl rfl)
theorem dX4_digit_65 : decode cX4_digit 65 = .ok (.iload 4, 2) := dk_21 4 (dk_at dksX4_digit_2 19 rfl rfl)
theorem dX4_digit_67 : decode cX4_digit 67 = .ok (.iload_n 2, 1) := dk_28 (dk_at dksX4_digit_2 21 rfl rfl)
theorem dX4_digit_68 : decode cX4_digit 68 = .ok (.iconst 4, 1) := dk_7 (dk_at dksX4_digit_2 22 rfl rfl)
theorem dX4_digit_69 : decode cX4_digit 69 = .ok (.irem, 1) := dk_112 (dk_at dksX4_digit_2 23 rfl rfl)
theorem dX4_digit_70 : decode cX4_digit 70 = .ok (.if_icmp .ge 14, 3) := dk_162 0 14 (dk_at dksX4_digit_3 0 rfl rfl)
theorem dX4_digit_73 : decode cX4_digit 73 = .ok (.iload_n 3, 1) := dk_29 (dk_at dksX4_digit_3 3 rfl rfl)
theorem dX4_digit_74 : decode cX4_digit 74 = .ok (.bipush 10, 2) := dk_16 10 (dk_at dksX4_digit_3 4 rfl rfl)
theorem dX4_digit_76 : decode cX4_digit 76 = .ok (.idiv, 1) := dk_108 (dk_at dksX4_digit_3 6 rfl rfl)
theorem dX4_digit_77 : decode cX4_digit 77 = .ok (.istore_n 3, 1) := dk_62 (dk_at dksX4_digit_3 7 rfl rfl)
theorem dX4_digit_78 : decode cX4_digit 78 = .ok (.iinc 4 1, 3) := dk_132 4 1 (dk_at dksX4_digit_3 8 rfl rfl)
theorem dX4_digit_81 : decode cX4_digit 81 = .ok (.goto (-16), 3) := dk_167 255 240 (dk_at dksX4_digit_3 11 rfl rfl)
theorem dX4_digit_84 : decode cX4_digit 84 = .ok (.iload_n 3, 1) := dk_29 (dk_at dksX4_digit_3 14 rfl rfl)
theorem dX4_digit_85 : decode cX4_digit 85 = .ok (.bipush 10, 2) := dk_16 10 (dk_at dksX4_digit_3 15 rfl rfl)
theorem dX4_digit_87 : decode cX4_digit 87 = .ok (.irem, 1) := dk_112 (dk_at dksX4_digit_3 17 rfl rfl)
theorem dX4_digit_88 : decode cX4_digit 88 = .ok (.ireturn, 1) := dk_172 (dk_at dksX4_digit_3 18 rfl rfl)
abbrev cX4_weighed : ByteArray := prog_16_method_59_code
def yX4_weighed : MethodName := ⟨RX4, "weighed", "(II)I"⟩
def dkwX4_weighed_2 : List UInt8 := [182, 1, 16, 172]
abbrev dktX4_weighed_2 : List UInt8 := dkwX4_weighed_2 ++ []
def dkwX4_weighed_1 : List UInt8 := [167, 0, 4, 3, 4, 182, 0, 170, 153, 0, 5, 3, 172, 42, 27, 28, 2, 182, 1, 28, 42, 3, 4]
abbrev dktX4_weighed_1 : List UInt8 := dkwX4_weighed_1 ++ dktX4_weighed_2
def dkwX4_weighed_0 : List UInt8 := [42, 3, 181, 0, 94, 42, 42, 27, 182, 0, 235, 153, 0, 11, 42, 28, 182, 0, 235, 154, 0, 7, 4]
abbrev dktX4_weighed_0 : List UInt8 := dkwX4_weighed_0 ++ dktX4_weighed_1
theorem dksX4_weighed_0 : cX4_weighed.data.toList.drop 0 = dktX4_weighed_0 := by decide +kernel
theorem dksX4_weighed_1 : cX4_weighed.data.toList.drop 23 = dktX4_weighed_1 := dk_seg dksX4_weighed_0 23 rfl rfl
theorem dksX4_weighed_2 : cX4_weighed.data.toList.drop 46 = dktX4_weighed_2 := dk_seg dksX4_weighed_1 23 rfl rfl
theorem dX4_weighed_0 : decode cX4_weighed 0 = .ok (.aload_n 0, 1) := dk_42 (dk_at dksX4_weighed_0 0 rfl rfl)
theorem dX4_weighed_1 : decode cX4_weighed 1 = .ok (.iconst 0, 1) := dk_3 (dk_at dksX4_weighed_0 1 rfl rfl)
theorem dX4_weighed_2 : decode cX4_weighed 2 = .ok (.putfield 94, 3) := dk_181 0 94 (dk_at dksX4_weighed_0 2 rfl rfl)
theorem dX4_weighed_5 : decode cX4_weighed 5 = .ok (.aload_n 0, 1) := dk_42 (dk_at dksX4_weighed_0 5 rfl rfl)
theorem dX4_weighed_6 : decode cX4_weighed 6 = .ok (.aload_n 0, 1) := dk_42 (dk_at dksX4_weighed_0 6 rfl rfl)
theorem dX4_weighed_7 : decode cX4_weighed 7 = .ok (.iload_n 1, 1) := dk_27 (dk_at dksX4_weighed_0 7 rfl rfl)
theorem dX4_weighed_8 : decode cX4_weighed 8 = .ok (.invokevirtual 235, 3) := dk_182 0 235 (dk_at dksX4_weighed_0 8 rfl rfl)
theorem dX4_weighed_11 : decode cX4_weighed 11 = .ok (.ifCond .eq 11, 3) := dk_153 0 11 (dk_at dksX4_weighed_0 11 rfl rfl)
theorem dX4_weighed_14 : decode cX4_weighed 14 = .ok (.aload_n 0, 1) := dk_42 (dk_at dksX4_weighed_0 14 rfl rfl)
theorem dX4_weighed_15 : decode cX4_weighed 15 = .ok (.iload_n 2, 1) := dk_28 (dk_at dksX4_weighed_0 15 rfl rfl)
theorem dX4_weighed_16 : decode cX4_weighed 16 = .ok (.invokevirtual 235, 3) := dk_182 0 235 (dk_at dksX4_weighed_0 16 rfl rfl)
theorem dX4_weighed_19 : decode cX4_weighed 19 = .ok (.ifCond .ne 7, 3) := dk_154 0 7 (dk_at dksX4_weighed_0 19 rfl rfl)
theorem dX4_weighed_22 : decode cX4_weighed 22 = .ok (.iconst 1, 1) := dk_4 (dk_at dksX4_weighed_0 22 rfl rfl)
theorem dX4_weighed_23 : decode cX4_weighed 23 = .ok (.goto 4, 3) := dk_167 0 4 (dk_at dksX4_weighed_1 0 rfl rfl)
theorem dX4_weighed_26 : decode cX4_weighed 26 = .ok (.iconst 0, 1) := dk_3 (dk_at dksX4_weighed_1 3 rfl rfl)
theorem dX4_weighed_27 : decode cX4_weighed 27 = .ok (.iconst 1, 1) := dk_4 (dk_at dksX4_weighed_1 4 rfl rfl)
theorem dX4_weighed_28 : decode cX4_weighed 28 = .ok (.invokevirtual 170, 3) := dk_182 0 170 (dk_at dksX4_weighed_1 5 rfl rfl)
theorem dX4_weighed_31 : decode cX4_weighed 31 = .ok (.ifCond .eq 5, 3) := dk_153 0 5 (dk_at dksX4_weighed_1 8 rfl rfl)
theorem dX4_weighed_34 : decode cX4_weighed 34 = .ok (.iconst 0, 1) := dk_3 (dk_at dksX4_weighed_1 11 rfl rfl)
theorem dX4_weighed_35 : decode cX4_weighed 35 = .ok (.ireturn, 1) := dk_172 (dk_at dksX4_weighed_1 12 rfl rfl)
theorem dX4_weighed_36 : decode cX4_weighed 36 = .ok (.aload_n 0, 1) := dk_42 (dk_at dksX4_weighed_1 13 rfl rfl)
theorem dX4_weighed_37 : decode cX4_weighed 37 = .ok (.iload_n 1, 1) := dk_27 (dk_at dksX4_weighed_1 14 rfl rfl)
theorem dX4_weighed_38 : decode cX4_weighed 38 = .ok (.iload_n 2, 1) := dk_28 (dk_at dksX4_weighed_1 15 rfl rfl)
theorem dX4_weighed_39 : decode cX4_weighed 39 = .ok (.iconst (-1), 1) := dk_2 (dk_at dksX4_weighed_1 16 rfl rfl)
theorem dX4_weighed_40 : decode cX4_weighed 40 = .ok (.invokevirtual 284, 3) := dk_182 1 28 (dk_at dksX4_weighed_1 17 rfl rfl)
theorem dX4_weighed_43 : decode cX4_weighed 43 = .ok (.aload_n 0, 1) := dk_42 (dk_at dksX4_weighed_1 20 rfl rfl)
theorem dX4_weighed_44 : decode cX4_weighed 44 = .ok (.iconst 0, 1) := dk_3 (dk_at dksX4_weighed_1 21 rfl rfl)
theorem dX4_weighed_45 : decode cX4_weighed 45 = .ok (.iconst 1, 1) := dk_4 (dk_at dksX4_weighed_1 22 rfl rfl)
theorem dX4_weighed_46 : decode cX4_weighed 46 = .ok (.invokevirtual 272, 3) := dk_182 1 16 (dk_at dksX4_weighed_2 0 rfl rfl)
theorem dX4_weighed_49 : decode cX4_weighed 49 = .ok (.ireturn, 1) := dk_172 (dk_at dksX4_weighed_2 3 rfl rfl)
abbrev cX4_two : ByteArray := prog_16_method_58_code
def yX4_two : MethodName := ⟨RX4, "two", "(III)V"⟩
def dkwX4_two_1 : List UInt8 := [180, 0, 255, 182, 1, 25, 177]
abbrev dktX4_two_1 : List UInt8 := dkwX4_two_1 ++ []
def dkwX4_two_0 : List UInt8 := [42, 3, 27, 29, 182, 1, 19, 42, 180, 0, 255, 54, 4, 42, 4, 28, 29, 182, 1, 19, 42, 21, 4, 42]
abbrev dktX4_two_0 : List UInt8 := dkwX4_two_0 ++ dktX4_two_1
theorem dksX4_two_0 : cX4_two.data.toList.drop 0 = dktX4_two_0 := by decide +kernel
theorem dksX4_two_1 : cX4_two.data.toList.drop 24 = dktX4_two_1 := dk_seg dksX4_two_0 24 rfl rfl
theorem dX4_two_0 : decode cX4_two 0 = .ok (.aload_n 0, 1) := dk_42 (dk_at dksX4_two_0 0 rfl rfl)
theorem dX4_two_1 : decode cX4_two 1 = .ok (.iconst 0, 1) := dk_3 (dk_at dksX4_two_0 1 rfl rfl)
theorem dX4_two_2 : decode cX4_two 2 = .ok (.iload_n 1, 1) := dk_27 (dk_at dksX4_two_0 2 rfl rfl)
theorem dX4_two_3 : decode cX4_two 3 = .ok (.iload_n 3, 1) := dk_29 (dk_at dksX4_two_0 3 rfl rfl)
theorem dX4_two_4 : decode cX4_two 4 = .ok (.invokevirtual 275, 3) := dk_182 1 19 (dk_at dksX4_two_0 4 rfl rfl)
theorem dX4_two_7 : decode cX4_two 7 = .ok (.aload_n 0, 1) := dk_42 (dk_at dksX4_two_0 7 rfl rfl)
theorem dX4_two_8 : decode cX4_two 8 = .ok (.getfield 255, 3) := dk_180 0 255 (dk_at dksX4_two_0 8 rfl rfl)
theorem dX4_two_11 : decode cX4_two 11 = .ok (.istore 4, 2) := dk_54 4 (dk_at dksX4_two_0 11 rfl rfl)
theorem dX4_two_13 : decode cX4_two 13 = .ok (.aload_n 0, 1) := dk_42 (dk_at dksX4_two_0 13 rfl rfl)
theorem dX4_two_14 : decode cX4_two 14 = .ok (.iconst 1, 1) := dk_4 (dk_at dksX4_two_0 14 rfl rfl)
theorem dX4_two_15 : decode cX4_two 15 = .ok (.iload_n 2, 1) := dk_28 (dk_at dksX4_two_0 15 rfl rfl)
theorem dX4_two_16 : decode cX4_two 16 = .ok (.iload_n 3, 1) := dk_29 (dk_at dksX4_two_0 16 rfl rfl)
theorem dX4_two_17 : decode cX4_two 17 = .ok (.invokevirtual 275, 3) := dk_182 1 19 (dk_at dksX4_two_0 17 rfl rfl)
theorem dX4_two_20 : decode cX4_two 20 = .ok (.aload_n 0, 1) := dk_42 (dk_at dksX4_two_0 20 rfl rfl)
theorem dX4_two_21 : decode cX4_two 21 = .ok (.iload 4, 2) := dk_21 4 (dk_at dksX4_two_0 21 rfl rfl)
theorem dX4_two_23 : decode cX4_two 23 = .ok (.aload_n 0, 1) := dk_42 (dk_at dksX4_two_0 23 rfl rfl)
theorem dX4_two_24 : decode cX4_two 24 = .ok (.getfield 255, 3) := dk_180 0 255 (dk_at dksX4_two_1 0 rfl rfl)
theorem dX4_two_27 : decode cX4_two 27 = .ok (.invokevirtual 281, 3) := dk_182 1 25 (dk_at dksX4_two_1 3 rfl rfl)
theorem dX4_two_30 : decode cX4_two 30 = .ok (.return_, 1) := dk_177 (dk_at dksX4_two_1 6 rfl rfl)
abbrev cX4_levels : ByteArray := prog_16_method_52_code
def yX4_levels : MethodName := ⟨RX4, "levels", "(II)V"⟩
def dkwX4_levels_1 : List UInt8 := [162, 0, 16, 42, 4, 16, 16, 182, 1, 2, 132, 3, 1, 167, 255, 241, 177]
abbrev dktX4_levels_1 : List UInt8 := dkwX4_levels_1 ++ []
def dkwX4_levels_0 : List UInt8 := [3, 62, 29, 28, 162, 0, 16, 42, 3, 16, 16, 182, 1, 2, 132, 3, 1, 167, 255, 241, 3, 62, 29, 27]
abbrev dktX4_levels_0 : List UInt8 := dkwX4_levels_0 ++ dktX4_levels_1
theorem dksX4_levels_0 : cX4_levels.data.toList.drop 0 = dktX4_levels_0 := by decide +kernel
theorem dksX4_levels_1 : cX4_levels.data.toList.drop 24 = dktX4_levels_1 := dk_seg dksX4_levels_0 24 rfl rfl
theorem dX4_levels_0 : decode cX4_levels 0 = .ok (.iconst 0, 1) := dk_3 (dk_at dksX4_levels_0 0 rfl rfl)
theorem dX4_levels_1 : decode cX4_levels 1 = .ok (.istore_n 3, 1) := dk_62 (dk_at dksX4_levels_0 1 rfl rfl)
theorem dX4_levels_2 : decode cX4_levels 2 = .ok (.iload_n 3, 1) := dk_29 (dk_at dksX4_levels_0 2 rfl rfl)
theorem dX4_levels_3 : decode cX4_levels 3 = .ok (.iload_n 2, 1) := dk_28 (dk_at dksX4_levels_0 3 rfl rfl)
theorem dX4_levels_4 : decode cX4_levels 4 = .ok (.if_icmp .ge 16, 3) := dk_162 0 16 (dk_at dksX4_levels_0 4 rfl rfl)
theorem dX4_levels_7 : decode cX4_levels 7 = .ok (.aload_n 0, 1) := dk_42 (dk_at dksX4_levels_0 7 rfl rfl)
theorem dX4_levels_8 : decode cX4_levels 8 = .ok (.iconst 0, 1) := dk_3 (dk_at dksX4_levels_0 8 rfl rfl)
theorem dX4_levels_9 : decode cX4_levels 9 = .ok (.bipush 16, 2) := dk_16 16 (dk_at dksX4_levels_0 9 rfl rfl)
theorem dX4_levels_11 : decode cX4_levels 11 = .ok (.invokevirtual 258, 3) := dk_182 1 2 (dk_at dksX4_levels_0 11 rfl rfl)
theorem dX4_levels_14 : decode cX4_levels 14 = .ok (.iinc 3 1, 3) := dk_132 3 1 (dk_at dksX4_levels_0 14 rfl rfl)
theorem dX4_levels_17 : decode cX4_levels 17 = .ok (.goto (-15), 3) := dk_167 255 241 (dk_at dksX4_levels_0 17 rfl rfl)
theorem dX4_levels_20 : decode cX4_levels 20 = .ok (.iconst 0, 1) := dk_3 (dk_at dksX4_levels_0 20 rfl rfl)
theorem dX4_levels_21 : decode cX4_levels 21 = .ok (.istore_n 3, 1) := dk_62 (dk_at dksX4_levels_0 21 rfl rfl)
theorem dX4_levels_22 : decode cX4_levels 22 = .ok (.iload_n 3, 1) := dk_29 (dk_at dksX4_levels_0 22 rfl rfl)
theorem dX4_levels_23 : decode cX4_levels 23 = .ok (.iload_n 1, 1) := dk_27 (dk_at dksX4_levels_0 23 rfl rfl)
theorem dX4_levels_24 : decode cX4_levels 24 = .ok (.if_icmp .ge 16, 3) := dk_162 0 16 (dk_at dksX4_levels_1 0 rfl rfl)
theorem dX4_levels_27 : decode cX4_levels 27 = .ok (.aload_n 0, 1) := dk_42 (dk_at dksX4_levels_1 3 rfl rfl)
theorem dX4_levels_28 : decode cX4_levels 28 = .ok (.iconst 1, 1) := dk_4 (dk_at dksX4_levels_1 4 rfl rfl)
theorem dX4_levels_29 : decode cX4_levels 29 = .ok (.bipush 16, 2) := dk_16 16 (dk_at dksX4_levels_1 5 rfl rfl)
theorem dX4_levels_31 : decode cX4_levels 31 = .ok (.invokevirtual 258, 3) := dk_182 1 2 (dk_at dksX4_levels_1 7 rfl rfl)
theorem dX4_levels_34 : decode cX4_levels 34 = .ok (.iinc 3 1, 3) := dk_132 3 1 (dk_at dksX4_levels_1 10 rfl rfl)
theorem dX4_levels_37 : decode cX4_levels 37 = .ok (.goto (-15), 3) := dk_167 255 241 (dk_at dksX4_levels_1 13 rfl rfl)
theorem dX4_levels_40 : decode cX4_levels 40 = .ok (.return_, 1) := dk_177 (dk_at dksX4_levels_1 16 rfl rfl)
abbrev cX4_compare : ByteArray := prog_16_method_51_code
def yX4_compare : MethodName := ⟨RX4, "compare", "(II)I"⟩
def dkwX4_compare_2 : List UInt8 := [167, 0, 4, 2, 172, 132, 3, 255, 167, 255, 205, 3, 172]
abbrev dktX4_compare_2 : List UInt8 := dkwX4_compare_2 ++ []
def dkwX4_compare_1 : List UInt8 := [159, 0, 28, 42, 180, 0, 91, 27, 50, 29, 46, 42, 180, 0, 91, 28, 50, 29, 46, 164, 0, 7, 4]
abbrev dktX4_compare_1 : List UInt8 := dkwX4_compare_1 ++ dktX4_compare_2
def dkwX4_compare_0 : List UInt8 := [17, 1, 73, 62, 29, 155, 0, 53, 42, 180, 0, 91, 27, 50, 29, 46, 42, 180, 0, 91, 28, 50, 29, 46]
abbrev dktX4_compare_0 : List UInt8 := dkwX4_compare_0 ++ dktX4_compare_1
theorem dksX4_compare_0 : cX4_compare.data.toList.drop 0 = dktX4_compare_0 := by decide +kernel
theorem dksX4_compare_1 : cX4_compare.data.toList.drop 24 = dktX4_compare_1 := dk_seg dksX4_compare_0 24 rfl rfl
theorem dksX4_compare_2 : cX4_compare.data.toList.drop 47 = dktX4_compare_2 := dk_seg dksX4_compare_1 23 rfl rfl
theorem dX4_compare_0 : decode cX4_compare 0 = .ok (.sipush 329, 3) := dk_17 1 73 (dk_at dksX4_compare_0 0 rfl rfl)
theorem dX4_compare_3 : decode cX4_compare 3 = .ok (.istore_n 3, 1) := dk_62 (dk_at dksX4_compare_0 3 rfl rfl)
theorem dX4_compare_4 : decode cX4_compare 4 = .ok (.iload_n 3, 1) := dk_29 (dk_at dksX4_compare_0 4 rfl rfl)
theorem dX4_compare_5 : decode cX4_compare 5 = .ok (.ifCond .lt 53, 3) := dk_155 0 53 (dk_at dksX4_compare_0 5 rfl rfl)
theorem dX4_compare_8 : decode cX4_compare 8 = .ok (.aload_n 0, 1) := dk_42 (dk_at dksX4_compare_0 8 rfl rfl)
theorem dX4_compare_9 : decode cX4_compare 9 = .ok (.getfield 91, 3) := dk_180 0 91 (dk_at dksX4_compare_0 9 rfl rfl)
theorem dX4_compare_12 : decode cX4_compare 12 = .ok (.iload_n 1, 1) := dk_27 (dk_at dksX4_compare_0 12 rfl rfl)
theorem dX4_compare_13 : decode cX4_compare 13 = .ok (.aaload, 1) := dk_50 (dk_at dksX4_compare_0 13 rfl rfl)
theorem dX4_compare_14 : decode cX4_compare 14 = .ok (.iload_n 3, 1) := dk_29 (dk_at dksX4_compare_0 14 rfl rfl)
theorem dX4_compare_15 : decode cX4_compare 15 = .ok (.iaload, 1) := dk_46 (dk_at dksX4_compare_0 15 rfl rfl)
theorem dX4_compare_16 : decode cX4_compare 16 = .ok (.aload_n 0, 1) := dk_42 (dk_at dksX4_compare_0 16 rfl rfl)
theorem dX4_compare_17 : decode cX4_compare 17 = .ok (.getfield 91, 3) := dk_180 0 91 (dk_at dksX4_compare_0 17 rfl rfl)
theorem dX4_compare_20 : decode cX4_compare 20 = .ok (.iload_n 2, 1) := dk_28 (dk_at dksX4_compare_0 20 rfl rfl)
theorem dX4_compare_21 : decode cX4_compare 21 = .ok (.aaload, 1) := dk_50 (dk_at dksX4_compare_0 21 rfl rfl)
theorem dX4_compare_22 : decode cX4_compare 22 = .ok (.iload_n 3, 1) := dk_29 (dk_at dksX4_compare_0 22 rfl rfl)
theorem dX4_compare_23 : decode cX4_compare 23 = .ok (.iaload, 1) := dk_46 (dk_at dksX4_compare_0 23 rfl rfl)
theorem dX4_compare_24 : decode cX4_compare 24 = .ok (.if_icmp .eq 28, 3) := dk_159 0 28 (dk_at dksX4_compare_1 0 rfl rfl)
theorem dX4_compare_27 : decode cX4_compare 27 = .ok (.aload_n 0, 1) := dk_42 (dk_at dksX4_compare_1 3 rfl rfl)
theorem dX4_compare_28 : decode cX4_compare 28 = .ok (.getfield 91, 3) := dk_180 0 91 (dk_at dksX4_compare_1 4 rfl rfl)
theorem dX4_compare_31 : decode cX4_compare 31 = .ok (.iload_n 1, 1) := dk_27 (dk_at dksX4_compare_1 7 rfl rfl)
theorem dX4_compare_32 : decode cX4_compare 32 = .ok (.aaload, 1) := dk_50 (dk_at dksX4_compare_1 8 rfl rfl)
theorem dX4_compare_33 : decode cX4_compare 33 = .ok (.iload_n 3, 1) := dk_29 (dk_at dksX4_compare_1 9 rfl rfl)
theorem dX4_compare_34 : decode cX4_compare 34 = .ok (.iaload, 1) := dk_46 (dk_at dksX4_compare_1 10 rfl rfl)
theorem dX4_compare_35 : decode cX4_compare 35 = .ok (.aload_n 0, 1) := dk_42 (dk_at dksX4_compare_1 11 rfl rfl)
theorem dX4_compare_36 : decode cX4_compare 36 = .ok (.getfield 91, 3) := dk_180 0 91 (dk_at dksX4_compare_1 12 rfl rfl)
theorem dX4_compare_39 : decode cX4_compare 39 = .ok (.iload_n 2, 1) := dk_28 (dk_at dksX4_compare_1 15 rfl rfl)
theorem dX4_compare_40 : decode cX4_compare 40 = .ok (.aaload, 1) := dk_50 (dk_at dksX4_compare_1 16 rfl rfl)
theorem dX4_compare_41 : decode cX4_compare 41 = .ok (.iload_n 3, 1) := dk_29 (dk_at dksX4_compare_1 17 rfl rfl)
theorem dX4_compare_42 : decode cX4_compare 42 = .ok (.iaload, 1) := dk_46 (dk_at dksX4_compare_1 18 rfl rfl)
theorem dX4_compare_43 : decode cX4_compare 43 = .ok (.if_icmp .le 7, 3) := dk_164 0 7 (dk_at dksX4_compare_1 19 rfl rfl)
theorem dX4_compare_46 : decode cX4_compare 46 = .ok (.iconst 1, 1) := dk_4 (dk_at dksX4_compare_1 22 rfl rfl)
theorem dX4_compare_47 : decode cX4_compare 47 = .ok (.goto 4, 3) := dk_167 0 4 (dk_at dksX4_compare_2 0 rfl rfl)
theorem dX4_compare_50 : decode cX4_compare 50 = .ok (.iconst (-1), 1) := dk_2 (dk_at dksX4_compare_2 3 rfl rfl)
theorem dX4_compare_51 : decode cX4_compare 51 = .ok (.ireturn, 1) := dk_172 (dk_at dksX4_compare_2 4 rfl rfl)
theorem dX4_compare_52 : decode cX4_compare 52 = .ok (.iinc 3 (-1), 3) := dk_132 3 255 (dk_at dksX4_compare_2 5 rfl rfl)
theorem dX4_compare_55 : decode cX4_compare 55 = .ok (.goto (-51), 3) := dk_167 255 205 (dk_at dksX4_compare_2 8 rfl rfl)
theorem dX4_compare_58 : decode cX4_compare 58 = .ok (.iconst 0, 1) := dk_3 (dk_at dksX4_compare_2 11 rfl rfl)
theorem dX4_compare_59 : decode cX4_compare 59 = .ok (.ireturn, 1) := dk_172 (dk_at dksX4_compare_2 12 rfl rfl)
abbrev cX4_worth : ByteArray := prog_16_method_61_code
def yX4_worth : MethodName := ⟨RX4, "worth", "(II)I"⟩
def dkwX4_worth_1 : List UInt8 := [167, 0, 4, 3, 4, 182, 0, 170, 153, 0, 5, 3, 172, 42, 27, 28, 2, 182, 1, 34, 172]
abbrev dktX4_worth_1 : List UInt8 := dkwX4_worth_1 ++ []
def dkwX4_worth_0 : List UInt8 := [42, 3, 181, 0, 94, 42, 42, 27, 182, 0, 235, 153, 0, 11, 42, 28, 182, 0, 235, 154, 0, 7, 4]
abbrev dktX4_worth_0 : List UInt8 := dkwX4_worth_0 ++ dktX4_worth_1
theorem dksX4_worth_0 : cX4_worth.data.toList.drop 0 = dktX4_worth_0 := by decide +kernel
theorem dksX4_worth_1 : cX4_worth.data.toList.drop 23 = dktX4_worth_1 := dk_seg dksX4_worth_0 23 rfl rfl
theorem dX4_worth_0 : decode cX4_worth 0 = .ok (.aload_n 0, 1) := dk_42 (dk_at dksX4_worth_0 0 rfl rfl)
theorem dX4_worth_1 : decode cX4_worth 1 = .ok (.iconst 0, 1) := dk_3 (dk_at dksX4_worth_0 1 rfl rfl)
theorem dX4_worth_2 : decode cX4_worth 2 = .ok (.putfield 94, 3) := dk_181 0 94 (dk_at dksX4_worth_0 2 rfl rfl)
theorem dX4_worth_5 : decode cX4_worth 5 = .ok (.aload_n 0, 1) := dk_42 (dk_at dksX4_worth_0 5 rfl rfl)
theorem dX4_worth_6 : decode cX4_worth 6 = .ok (.aload_n 0, 1) := dk_42 (dk_at dksX4_worth_0 6 rfl rfl)
theorem dX4_worth_7 : decode cX4_worth 7 = .ok (.iload_n 1, 1) := dk_27 (dk_at dksX4_worth_0 7 rfl rfl)
theorem dX4_worth_8 : decode cX4_worth 8 = .ok (.invokevirtual 235, 3) := dk_182 0 235 (dk_at dksX4_worth_0 8 rfl rfl)
theorem dX4_worth_11 : decode cX4_worth 11 = .ok (.ifCond .eq 11, 3) := dk_153 0 11 (dk_at dksX4_worth_0 11 rfl rfl)
theorem dX4_worth_14 : decode cX4_worth 14 = .ok (.aload_n 0, 1) := dk_42 (dk_at dksX4_worth_0 14 rfl rfl)
theorem dX4_worth_15 : decode cX4_worth 15 = .ok (.iload_n 2, 1) := dk_28 (dk_at dksX4_worth_0 15 rfl rfl)
theorem dX4_worth_16 : decode cX4_worth 16 = .ok (.invokevirtual 235, 3) := dk_182 0 235 (dk_at dksX4_worth_0 16 rfl rfl)
theorem dX4_worth_19 : decode cX4_worth 19 = .ok (.ifCond .ne 7, 3) := dk_154 0 7 (dk_at dksX4_worth_0 19 rfl rfl)
theorem dX4_worth_22 : decode cX4_worth 22 = .ok (.iconst 1, 1) := dk_4 (dk_at dksX4_worth_0 22 rfl rfl)
theorem dX4_worth_23 : decode cX4_worth 23 = .ok (.goto 4, 3) := dk_167 0 4 (dk_at dksX4_worth_1 0 rfl rfl)
theorem dX4_worth_26 : decode cX4_worth 26 = .ok (.iconst 0, 1) := dk_3 (dk_at dksX4_worth_1 3 rfl rfl)
theorem dX4_worth_27 : decode cX4_worth 27 = .ok (.iconst 1, 1) := dk_4 (dk_at dksX4_worth_1 4 rfl rfl)
theorem dX4_worth_28 : decode cX4_worth 28 = .ok (.invokevirtual 170, 3) := dk_182 0 170 (dk_at dksX4_worth_1 5 rfl rfl)
theorem dX4_worth_31 : decode cX4_worth 31 = .ok (.ifCond .eq 5, 3) := dk_153 0 5 (dk_at dksX4_worth_1 8 rfl rfl)
theorem dX4_worth_34 : decode cX4_worth 34 = .ok (.iconst 0, 1) := dk_3 (dk_at dksX4_worth_1 11 rfl rfl)
theorem dX4_worth_35 : decode cX4_worth 35 = .ok (.ireturn, 1) := dk_172 (dk_at dksX4_worth_1 12 rfl rfl)
theorem dX4_worth_36 : decode cX4_worth 36 = .ok (.aload_n 0, 1) := dk_42 (dk_at dksX4_worth_1 13 rfl rfl)
theorem dX4_worth_37 : decode cX4_worth 37 = .ok (.iload_n 1, 1) := dk_27 (dk_at dksX4_worth_1 14 rfl rfl)
theorem dX4_worth_38 : decode cX4_worth 38 = .ok (.iload_n 2, 1) := dk_28 (dk_at dksX4_worth_1 15 rfl rfl)
theorem dX4_worth_39 : decode cX4_worth 39 = .ok (.iconst (-1), 1) := dk_2 (dk_at dksX4_worth_1 16 rfl rfl)
theorem dX4_worth_40 : decode cX4_worth 40 = .ok (.invokevirtual 290, 3) := dk_182 1 34 (dk_at dksX4_worth_1 17 rfl rfl)
theorem dX4_worth_43 : decode cX4_worth 43 = .ok (.ireturn, 1) := dk_172 (dk_at dksX4_worth_1 20 rfl rfl)
abbrev cX4_worthOf : ByteArray := prog_16_method_60_code
def yX4_worthOf : MethodName := ⟨RX4, "worthOf", "(III)I"⟩
def dkwX4_worthOf_0 : List UInt8 := [42, 27, 28, 29, 182, 1, 28, 42, 182, 1, 31, 172]
abbrev dktX4_worthOf_0 : List UInt8 := dkwX4_worthOf_0 ++ []
theorem dksX4_worthOf_0 : cX4_worthOf.data.toList.drop 0 = dktX4_worthOf_0 := by decide +kernel
theorem dX4_worthOf_0 : decode cX4_worthOf 0 = .ok (.aload_n 0, 1) := dk_42 (dk_at dksX4_worthOf_0 0 rfl rfl)
theorem dX4_worthOf_1 : decode cX4_worthOf 1 = .ok (.iload_n 1, 1) := dk_27 (dk_at dksX4_worthOf_0 1 rfl rfl)
theorem dX4_worthOf_2 : decode cX4_worthOf 2 = .ok (.iload_n 2, 1) := dk_28 (dk_at dksX4_worthOf_0 2 rfl rfl)
theorem dX4_worthOf_3 : decode cX4_worthOf 3 = .ok (.iload_n 3, 1) := dk_29 (dk_at dksX4_worthOf_0 3 rfl rfl)
theorem dX4_worthOf_4 : decode cX4_worthOf 4 = .ok (.invokevirtual 284, 3) := dk_182 1 28 (dk_at dksX4_worthOf_0 4 rfl rfl)
theorem dX4_worthOf_7 : decode cX4_worthOf 7 = .ok (.aload_n 0, 1) := dk_42 (dk_at dksX4_worthOf_0 7 rfl rfl)
theorem dX4_worthOf_8 : decode cX4_worthOf 8 = .ok (.invokevirtual 287, 3) := dk_182 1 31 (dk_at dksX4_worthOf_0 8 rfl rfl)
theorem dX4_worthOf_11 : decode cX4_worthOf 11 = .ok (.ireturn, 1) := dk_172 (dk_at dksX4_worthOf_0 11 rfl rfl)
abbrev cX4_worthNow : ByteArray := prog_16_method_53_code
def yX4_worthNow : MethodName := ⟨RX4, "worthNow", "()I"⟩
def dkwX4_worthNow_4 : List UInt8 := [167, 0, 7, 29, 4, 100, 61, 167, 255, 184, 27, 172]
abbrev dktX4_worthNow_4 : List UInt8 := dkwX4_worthNow_4 ++ []
def dkwX4_worthNow_3 : List UInt8 := [132, 4, 1, 167, 255, 227, 42, 5, 29, 182, 1, 2, 42, 3, 5, 182, 1, 16, 155, 0, 8, 29, 60]
abbrev dktX4_worthNow_3 : List UInt8 := dkwX4_worthNow_3 ++ dktX4_worthNow_4
def dkwX4_worthNow_2 : List UInt8 := [17, 1, 74, 162, 0, 27, 42, 180, 0, 91, 5, 50, 21, 4, 42, 180, 0, 91, 4, 50, 21, 4, 46, 79]
abbrev dktX4_worthNow_2 : List UInt8 := dkwX4_worthNow_2 ++ dktX4_worthNow_3
def dkwX4_worthNow_1 : List UInt8 := [19, 1, 15, 61, 27, 28, 162, 0, 73, 27, 28, 96, 4, 96, 5, 108, 62, 3, 54, 4, 21, 4]
abbrev dktX4_worthNow_1 : List UInt8 := dkwX4_worthNow_1 ++ dktX4_worthNow_2
def dkwX4_worthNow_0 : List UInt8 := [42, 3, 182, 1, 12, 153, 0, 5, 3, 172, 42, 4, 182, 1, 12, 153, 0, 7, 19, 1, 15, 172, 3, 60]
abbrev dktX4_worthNow_0 : List UInt8 := dkwX4_worthNow_0 ++ dktX4_worthNow_1
theorem dksX4_worthNow_0 : cX4_worthNow.data.toList.drop 0 = dktX4_worthNow_0 := by decide +kernel
theorem dksX4_worthNow_1 : cX4_worthNow.data.toList.drop 24 = dktX4_worthNow_1 := dk_seg dksX4_worthNow_0 24 rfl rfl
theorem dksX4_worthNow_2 : cX4_worthNow.data.toList.drop 46 = dktX4_worthNow_2 := dk_seg dksX4_worthNow_1 22 rfl rfl
theorem dksX4_worthNow_3 : cX4_worthNow.data.toList.drop 70 = dktX4_worthNow_3 := dk_seg dksX4_worthNow_2 24 rfl rfl
theorem dksX4_worthNow_4 : cX4_worthNow.data.toList.drop 93 = dktX4_worthNow_4 := dk_seg dksX4_worthNow_3 23 rfl rfl
theorem dX4_worthNow_0 : decode cX4_worthNow 0 = .ok (.aload_n 0, 1) := dk_42 (dk_at dksX4_worthNow_0 0 rfl rfl)
theorem dX4_worthNow_1 : decode cX4_worthNow 1 = .ok (.iconst 0, 1) := dk_3 (dk_at dksX4_worthNow_0 1 rfl rfl)
theorem dX4_worthNow_2 : decode cX4_worthNow 2 = .ok (.invokevirtual 268, 3) := dk_182 1 12 (dk_at dksX4_worthNow_0 2 rfl rfl)
theorem dX4_worthNow_5 : decode cX4_worthNow 5 = .ok (.ifCond .eq 5, 3) := dk_153 0 5 (dk_at dksX4_worthNow_0 5 rfl rfl)
theorem dX4_worthNow_8 : decode cX4_worthNow 8 = .ok (.iconst 0, 1) := dk_3 (dk_at dksX4_worthNow_0 8 rfl rfl)
theorem dX4_worthNow_9 : decode cX4_worthNow 9 = .ok (.ireturn, 1) := dk_172 (dk_at dksX4_worthNow_0 9 rfl rfl)
theorem dX4_worthNow_10 : decode cX4_worthNow 10 = .ok (.aload_n 0, 1) := dk_42 (dk_at dksX4_worthNow_0 10 rfl rfl)
theorem dX4_worthNow_11 : decode cX4_worthNow 11 = .ok (.iconst 1, 1) := dk_4 (dk_at dksX4_worthNow_0 11 rfl rfl)
theorem dX4_worthNow_12 : decode cX4_worthNow 12 = .ok (.invokevirtual 268, 3) := dk_182 1 12 (dk_at dksX4_worthNow_0 12 rfl rfl)
theorem dX4_worthNow_15 : decode cX4_worthNow 15 = .ok (.ifCond .eq 7, 3) := dk_153 0 7 (dk_at dksX4_worthNow_0 15 rfl rfl)
theorem dX4_worthNow_18 : decode cX4_worthNow 18 = .ok (.ldc_w 271, 3) := dk_19 1 15 (dk_at dksX4_worthNow_0 18 rfl rfl)
theorem dX4_worthNow_21 : decode cX4_worthNow 21 = .ok (.ireturn, 1) := dk_172 (dk_at dksX4_worthNow_0 21 rfl rfl)
theorem dX4_worthNow_22 : decode cX4_worthNow 22 = .ok (.iconst 0, 1) := dk_3 (dk_at dksX4_worthNow_0 22 rfl rfl)
theorem dX4_worthNow_23 : decode cX4_worthNow 23 = .ok (.istore_n 1, 1) := dk_60 (dk_at dksX4_worthNow_0 23 rfl rfl)
theorem dX4_worthNow_24 : decode cX4_worthNow 24 = .ok (.ldc_w 271, 3) := dk_19 1 15 (dk_at dksX4_worthNow_1 0 rfl rfl)
theorem dX4_worthNow_27 : decode cX4_worthNow 27 = .ok (.istore_n 2, 1) := dk_61 (dk_at dksX4_worthNow_1 3 rfl rfl)
theorem dX4_worthNow_28 : decode cX4_worthNow 28 = .ok (.iload_n 1, 1) := dk_27 (dk_at dksX4_worthNow_1 4 rfl rfl)
theorem dX4_worthNow_29 : decode cX4_worthNow 29 = .ok (.iload_n 2, 1) := dk_28 (dk_at dksX4_worthNow_1 5 rfl rfl)
theorem dX4_worthNow_30 : decode cX4_worthNow 30 = .ok (.if_icmp .ge 73, 3) := dk_162 0 73 (dk_at dksX4_worthNow_1 6 rfl rfl)
theorem dX4_worthNow_33 : decode cX4_worthNow 33 = .ok (.iload_n 1, 1) := dk_27 (dk_at dksX4_worthNow_1 9 rfl rfl)
theorem dX4_worthNow_34 : decode cX4_worthNow 34 = .ok (.iload_n 2, 1) := dk_28 (dk_at dksX4_worthNow_1 10 rfl rfl)
theorem dX4_worthNow_35 : decode cX4_worthNow 35 = .ok (.iadd, 1) := dk_96 (dk_at dksX4_worthNow_1 11 rfl rfl)
theorem dX4_worthNow_36 : decode cX4_worthNow 36 = .ok (.iconst 1, 1) := dk_4 (dk_at dksX4_worthNow_1 12 rfl rfl)
theorem dX4_worthNow_37 : decode cX4_worthNow 37 = .ok (.iadd, 1) := dk_96 (dk_at dksX4_worthNow_1 13 rfl rfl)
theorem dX4_worthNow_38 : decode cX4_worthNow 38 = .ok (.iconst 2, 1) := dk_5 (dk_at dksX4_worthNow_1 14 rfl rfl)
theorem dX4_worthNow_39 : decode cX4_worthNow 39 = .ok (.idiv, 1) := dk_108 (dk_at dksX4_worthNow_1 15 rfl rfl)
theorem dX4_worthNow_40 : decode cX4_worthNow 40 = .ok (.istore_n 3, 1) := dk_62 (dk_at dksX4_worthNow_1 16 rfl rfl)
theorem dX4_worthNow_41 : decode cX4_worthNow 41 = .ok (.iconst 0, 1) := dk_3 (dk_at dksX4_worthNow_1 17 rfl rfl)
theorem dX4_worthNow_42 : decode cX4_worthNow 42 = .ok (.istore 4, 2) := dk_54 4 (dk_at dksX4_worthNow_1 18 rfl rfl)
theorem dX4_worthNow_44 : decode cX4_worthNow 44 = .ok (.iload 4, 2) := dk_21 4 (dk_at dksX4_worthNow_1 20 rfl rfl)
theorem dX4_worthNow_46 : decode cX4_worthNow 46 = .ok (.sipush 330, 3) := dk_17 1 74 (dk_at dksX4_worthNow_2 0 rfl rfl)
theorem dX4_worthNow_49 : decode cX4_worthNow 49 = .ok (.if_icmp .ge 27, 3) := dk_162 0 27 (dk_at dksX4_worthNow_2 3 rfl rfl)
theorem dX4_worthNow_52 : decode cX4_worthNow 52 = .ok (.aload_n 0, 1) := dk_42 (dk_at dksX4_worthNow_2 6 rfl rfl)
theorem dX4_worthNow_53 : decode cX4_worthNow 53 = .ok (.getfield 91, 3) := dk_180 0 91 (dk_at dksX4_worthNow_2 7 rfl rfl)
theorem dX4_worthNow_56 : decode cX4_worthNow 56 = .ok (.iconst 2, 1) := dk_5 (dk_at dksX4_worthNow_2 10 rfl rfl)
theorem dX4_worthNow_57 : decode cX4_worthNow 57 = .ok (.aaload, 1) := dk_50 (dk_at dksX4_worthNow_2 11 rfl rfl)
theorem dX4_worthNow_58 : decode cX4_worthNow 58 = .ok (.iload 4, 2) := dk_21 4 (dk_at dksX4_worthNow_2 12 rfl rfl)
theorem dX4_worthNow_60 : decode cX4_worthNow 60 = .ok (.aload_n 0, 1) := dk_42 (dk_at dksX4_worthNow_2 14 rfl rfl)
theorem dX4_worthNow_61 : decode cX4_worthNow 61 = .ok (.getfield 91, 3) := dk_180 0 91 (dk_at dksX4_worthNow_2 15 rfl rfl)
theorem dX4_worthNow_64 : decode cX4_worthNow 64 = .ok (.iconst 1, 1) := dk_4 (dk_at dksX4_worthNow_2 18 rfl rfl)
theorem dX4_worthNow_65 : decode cX4_worthNow 65 = .ok (.aaload, 1) := dk_50 (dk_at dksX4_worthNow_2 19 rfl rfl)
theorem dX4_worthNow_66 : decode cX4_worthNow 66 = .ok (.iload 4, 2) := dk_21 4 (dk_at dksX4_worthNow_2 20 rfl rfl)
theorem dX4_worthNow_68 : decode cX4_worthNow 68 = .ok (.iaload, 1) := dk_46 (dk_at dksX4_worthNow_2 22 rfl rfl)
theorem dX4_worthNow_69 : decode cX4_worthNow 69 = .ok (.iastore, 1) := dk_79 (dk_at dksX4_worthNow_2 23 rfl rfl)
theorem dX4_worthNow_70 : decode cX4_worthNow 70 = .ok (.iinc 4 1, 3) := dk_132 4 1 (dk_at dksX4_worthNow_3 0 rfl rfl)
theorem dX4_worthNow_73 : decode cX4_worthNow 73 = .ok (.goto (-29), 3) := dk_167 255 227 (dk_at dksX4_worthNow_3 3 rfl rfl)
theorem dX4_worthNow_76 : decode cX4_worthNow 76 = .ok (.aload_n 0, 1) := dk_42 (dk_at dksX4_worthNow_3 6 rfl rfl)
theorem dX4_worthNow_77 : decode cX4_worthNow 77 = .ok (.iconst 2, 1) := dk_5 (dk_at dksX4_worthNow_3 7 rfl rfl)
theorem dX4_worthNow_78 : decode cX4_worthNow 78 = .ok (.iload_n 3, 1) := dk_29 (dk_at dksX4_worthNow_3 8 rfl rfl)
theorem dX4_worthNow_79 : decode cX4_worthNow 79 = .ok (.invokevirtual 258, 3) := dk_182 1 2 (dk_at dksX4_worthNow_3 9 rfl rfl)
theorem dX4_worthNow_82 : decode cX4_worthNow 82 = .ok (.aload_n 0, 1) := dk_42 (dk_at dksX4_worthNow_3 12 rfl rfl)
theorem dX4_worthNow_83 : decode cX4_worthNow 83 = .ok (.iconst 0, 1) := dk_3 (dk_at dksX4_worthNow_3 13 rfl rfl)
theorem dX4_worthNow_84 : decode cX4_worthNow 84 = .ok (.iconst 2, 1) := dk_5 (dk_at dksX4_worthNow_3 14 rfl rfl)
theorem dX4_worthNow_85 : decode cX4_worthNow 85 = .ok (.invokevirtual 272, 3) := dk_182 1 16 (dk_at dksX4_worthNow_3 15 rfl rfl)
theorem dX4_worthNow_88 : decode cX4_worthNow 88 = .ok (.ifCond .lt 8, 3) := dk_155 0 8 (dk_at dksX4_worthNow_3 18 rfl rfl)
theorem dX4_worthNow_91 : decode cX4_worthNow 91 = .ok (.iload_n 3, 1) := dk_29 (dk_at dksX4_worthNow_3 21 rfl rfl)
theorem dX4_worthNow_92 : decode cX4_worthNow 92 = .ok (.istore_n 1, 1) := dk_60 (dk_at dksX4_worthNow_3 22 rfl rfl)
theorem dX4_worthNow_93 : decode cX4_worthNow 93 = .ok (.goto 7, 3) := dk_167 0 7 (dk_at dksX4_worthNow_4 0 rfl rfl)
theorem dX4_worthNow_96 : decode cX4_worthNow 96 = .ok (.iload_n 3, 1) := dk_29 (dk_at dksX4_worthNow_4 3 rfl rfl)
theorem dX4_worthNow_97 : decode cX4_worthNow 97 = .ok (.iconst 1, 1) := dk_4 (dk_at dksX4_worthNow_4 4 rfl rfl)
theorem dX4_worthNow_98 : decode cX4_worthNow 98 = .ok (.isub, 1) := dk_100 (dk_at dksX4_worthNow_4 5 rfl rfl)
theorem dX4_worthNow_99 : decode cX4_worthNow 99 = .ok (.istore_n 2, 1) := dk_61 (dk_at dksX4_worthNow_4 6 rfl rfl)
theorem dX4_worthNow_100 : decode cX4_worthNow 100 = .ok (.goto (-72), 3) := dk_167 255 184 (dk_at dksX4_worthNow_4 7 rfl rfl)
theorem dX4_worthNow_103 : decode cX4_worthNow 103 = .ok (.iload_n 1, 1) := dk_27 (dk_at dksX4_worthNow_4 10 rfl rfl)
theorem dX4_worthNow_104 : decode cX4_worthNow 104 = .ok (.ireturn, 1) := dk_172 (dk_at dksX4_worthNow_4 11 rfl rfl)
abbrev cX4_isNothing : ByteArray := prog_16_method_50_code
def yX4_isNothing : MethodName := ⟨RX4, "isNothing", "(I)Z"⟩
def dkwX4_isNothing_1 : List UInt8 := [132, 2, 1, 167, 255, 233, 4, 172]
abbrev dktX4_isNothing_1 : List UInt8 := dkwX4_isNothing_1 ++ []
def dkwX4_isNothing_0 : List UInt8 := [3, 61, 28, 17, 1, 74, 162, 0, 22, 42, 180, 0, 91, 27, 50, 28, 46, 153, 0, 5, 3, 172]
abbrev dktX4_isNothing_0 : List UInt8 := dkwX4_isNothing_0 ++ dktX4_isNothing_1
theorem dksX4_isNothing_0 : cX4_isNothing.data.toList.drop 0 = dktX4_isNothing_0 := by decide +kernel
theorem dksX4_isNothing_1 : cX4_isNothing.data.toList.drop 22 = dktX4_isNothing_1 := dk_seg dksX4_isNothing_0 22 rfl rfl
theorem dX4_isNothing_0 : decode cX4_isNothing 0 = .ok (.iconst 0, 1) := dk_3 (dk_at dksX4_isNothing_0 0 rfl rfl)
theorem dX4_isNothing_1 : decode cX4_isNothing 1 = .ok (.istore_n 2, 1) := dk_61 (dk_at dksX4_isNothing_0 1 rfl rfl)
theorem dX4_isNothing_2 : decode cX4_isNothing 2 = .ok (.iload_n 2, 1) := dk_28 (dk_at dksX4_isNothing_0 2 rfl rfl)
theorem dX4_isNothing_3 : decode cX4_isNothing 3 = .ok (.sipush 330, 3) := dk_17 1 74 (dk_at dksX4_isNothing_0 3 rfl rfl)
theorem dX4_isNothing_6 : decode cX4_isNothing 6 = .ok (.if_icmp .ge 22, 3) := dk_162 0 22 (dk_at dksX4_isNothing_0 6 rfl rfl)
theorem dX4_isNothing_9 : decode cX4_isNothing 9 = .ok (.aload_n 0, 1) := dk_42 (dk_at dksX4_isNothing_0 9 rfl rfl)
theorem dX4_isNothing_10 : decode cX4_isNothing 10 = .ok (.getfield 91, 3) := dk_180 0 91 (dk_at dksX4_isNothing_0 10 rfl rfl)
theorem dX4_isNothing_13 : decode cX4_isNothing 13 = .ok (.iload_n 1, 1) := dk_27 (dk_at dksX4_isNothing_0 13 rfl rfl)
theorem dX4_isNothing_14 : decode cX4_isNothing 14 = .ok (.aaload, 1) := dk_50 (dk_at dksX4_isNothing_0 14 rfl rfl)
theorem dX4_isNothing_15 : decode cX4_isNothing 15 = .ok (.iload_n 2, 1) := dk_28 (dk_at dksX4_isNothing_0 15 rfl rfl)
theorem dX4_isNothing_16 : decode cX4_isNothing 16 = .ok (.iaload, 1) := dk_46 (dk_at dksX4_isNothing_0 16 rfl rfl)
theorem dX4_isNothing_17 : decode cX4_isNothing 17 = .ok (.ifCond .eq 5, 3) := dk_153 0 5 (dk_at dksX4_isNothing_0 17 rfl rfl)
theorem dX4_isNothing_20 : decode cX4_isNothing 20 = .ok (.iconst 0, 1) := dk_3 (dk_at dksX4_isNothing_0 20 rfl rfl)
theorem dX4_isNothing_21 : decode cX4_isNothing 21 = .ok (.ireturn, 1) := dk_172 (dk_at dksX4_isNothing_0 21 rfl rfl)
theorem dX4_isNothing_22 : decode cX4_isNothing 22 = .ok (.iinc 2 1, 3) := dk_132 2 1 (dk_at dksX4_isNothing_1 0 rfl rfl)
theorem dX4_isNothing_25 : decode cX4_isNothing 25 = .ok (.goto (-23), 3) := dk_167 255 233 (dk_at dksX4_isNothing_1 3 rfl rfl)
theorem dX4_isNothing_28 : decode cX4_isNothing 28 = .ok (.iconst 1, 1) := dk_4 (dk_at dksX4_isNothing_1 6 rfl rfl)
theorem dX4_isNothing_29 : decode cX4_isNothing 29 = .ok (.ireturn, 1) := dk_172 (dk_at dksX4_isNothing_1 7 rfl rfl)
abbrev cX4_part : ByteArray := prog_16_method_62_code
def yX4_part : MethodName := ⟨RX4, "part", "(III)I"⟩
def dkwX4_part_2 : List UInt8 := [3, 5, 182, 0, 170, 153, 0, 5, 3, 172, 42, 27, 28, 29, 182, 1, 34, 172]
abbrev dktX4_part_2 : List UInt8 := dkwX4_part_2 ++ []
def dkwX4_part_1 : List UInt8 := [167, 0, 4, 3, 4, 182, 0, 170, 154, 0, 24, 42, 42, 29, 182, 0, 250, 154, 0, 7, 4, 167, 0, 4]
abbrev dktX4_part_1 : List UInt8 := dkwX4_part_1 ++ dktX4_part_2
def dkwX4_part_0 : List UInt8 := [42, 3, 181, 0, 94, 42, 42, 27, 182, 0, 235, 153, 0, 11, 42, 28, 182, 0, 235, 154, 0, 7, 4]
abbrev dktX4_part_0 : List UInt8 := dkwX4_part_0 ++ dktX4_part_1
theorem dksX4_part_0 : cX4_part.data.toList.drop 0 = dktX4_part_0 := by decide +kernel
theorem dksX4_part_1 : cX4_part.data.toList.drop 23 = dktX4_part_1 := dk_seg dksX4_part_0 23 rfl rfl
theorem dksX4_part_2 : cX4_part.data.toList.drop 47 = dktX4_part_2 := dk_seg dksX4_part_1 24 rfl rfl
theorem dX4_part_0 : decode cX4_part 0 = .ok (.aload_n 0, 1) := dk_42 (dk_at dksX4_part_0 0 rfl rfl)
theorem dX4_part_1 : decode cX4_part 1 = .ok (.iconst 0, 1) := dk_3 (dk_at dksX4_part_0 1 rfl rfl)
theorem dX4_part_2 : decode cX4_part 2 = .ok (.putfield 94, 3) := dk_181 0 94 (dk_at dksX4_part_0 2 rfl rfl)
theorem dX4_part_5 : decode cX4_part 5 = .ok (.aload_n 0, 1) := dk_42 (dk_at dksX4_part_0 5 rfl rfl)
theorem dX4_part_6 : decode cX4_part 6 = .ok (.aload_n 0, 1) := dk_42 (dk_at dksX4_part_0 6 rfl rfl)
theorem dX4_part_7 : decode cX4_part 7 = .ok (.iload_n 1, 1) := dk_27 (dk_at dksX4_part_0 7 rfl rfl)
theorem dX4_part_8 : decode cX4_part 8 = .ok (.invokevirtual 235, 3) := dk_182 0 235 (dk_at dksX4_part_0 8 rfl rfl)
theorem dX4_part_11 : decode cX4_part 11 = .ok (.ifCond .eq 11, 3) := dk_153 0 11 (dk_at dksX4_part_0 11 rfl rfl)
theorem dX4_part_14 : decode cX4_part 14 = .ok (.aload_n 0, 1) := dk_42 (dk_at dksX4_part_0 14 rfl rfl)
theorem dX4_part_15 : decode cX4_part 15 = .ok (.iload_n 2, 1) := dk_28 (dk_at dksX4_part_0 15 rfl rfl)
theorem dX4_part_16 : decode cX4_part 16 = .ok (.invokevirtual 235, 3) := dk_182 0 235 (dk_at dksX4_part_0 16 rfl rfl)
theorem dX4_part_19 : decode cX4_part 19 = .ok (.ifCond .ne 7, 3) := dk_154 0 7 (dk_at dksX4_part_0 19 rfl rfl)
theorem dX4_part_22 : decode cX4_part 22 = .ok (.iconst 1, 1) := dk_4 (dk_at dksX4_part_0 22 rfl rfl)
theorem dX4_part_23 : decode cX4_part 23 = .ok (.goto 4, 3) := dk_167 0 4 (dk_at dksX4_part_1 0 rfl rfl)
theorem dX4_part_26 : decode cX4_part 26 = .ok (.iconst 0, 1) := dk_3 (dk_at dksX4_part_1 3 rfl rfl)
theorem dX4_part_27 : decode cX4_part 27 = .ok (.iconst 1, 1) := dk_4 (dk_at dksX4_part_1 4 rfl rfl)
theorem dX4_part_28 : decode cX4_part 28 = .ok (.invokevirtual 170, 3) := dk_182 0 170 (dk_at dksX4_part_1 5 rfl rfl)
theorem dX4_part_31 : decode cX4_part 31 = .ok (.ifCond .ne 24, 3) := dk_154 0 24 (dk_at dksX4_part_1 8 rfl rfl)
theorem dX4_part_34 : decode cX4_part 34 = .ok (.aload_n 0, 1) := dk_42 (dk_at dksX4_part_1 11 rfl rfl)
theorem dX4_part_35 : decode cX4_part 35 = .ok (.aload_n 0, 1) := dk_42 (dk_at dksX4_part_1 12 rfl rfl)
theorem dX4_part_36 : decode cX4_part 36 = .ok (.iload_n 3, 1) := dk_29 (dk_at dksX4_part_1 13 rfl rfl)
theorem dX4_part_37 : decode cX4_part 37 = .ok (.invokevirtual 250, 3) := dk_182 0 250 (dk_at dksX4_part_1 14 rfl rfl)
theorem dX4_part_40 : decode cX4_part 40 = .ok (.ifCond .ne 7, 3) := dk_154 0 7 (dk_at dksX4_part_1 17 rfl rfl)
theorem dX4_part_43 : decode cX4_part 43 = .ok (.iconst 1, 1) := dk_4 (dk_at dksX4_part_1 20 rfl rfl)
theorem dX4_part_44 : decode cX4_part 44 = .ok (.goto 4, 3) := dk_167 0 4 (dk_at dksX4_part_1 21 rfl rfl)
theorem dX4_part_47 : decode cX4_part 47 = .ok (.iconst 0, 1) := dk_3 (dk_at dksX4_part_2 0 rfl rfl)
theorem dX4_part_48 : decode cX4_part 48 = .ok (.iconst 2, 1) := dk_5 (dk_at dksX4_part_2 1 rfl rfl)
theorem dX4_part_49 : decode cX4_part 49 = .ok (.invokevirtual 170, 3) := dk_182 0 170 (dk_at dksX4_part_2 2 rfl rfl)
theorem dX4_part_52 : decode cX4_part 52 = .ok (.ifCond .eq 5, 3) := dk_153 0 5 (dk_at dksX4_part_2 5 rfl rfl)
theorem dX4_part_55 : decode cX4_part 55 = .ok (.iconst 0, 1) := dk_3 (dk_at dksX4_part_2 8 rfl rfl)
theorem dX4_part_56 : decode cX4_part 56 = .ok (.ireturn, 1) := dk_172 (dk_at dksX4_part_2 9 rfl rfl)
theorem dX4_part_57 : decode cX4_part 57 = .ok (.aload_n 0, 1) := dk_42 (dk_at dksX4_part_2 10 rfl rfl)
theorem dX4_part_58 : decode cX4_part 58 = .ok (.iload_n 1, 1) := dk_27 (dk_at dksX4_part_2 11 rfl rfl)
theorem dX4_part_59 : decode cX4_part 59 = .ok (.iload_n 2, 1) := dk_28 (dk_at dksX4_part_2 12 rfl rfl)
theorem dX4_part_60 : decode cX4_part 60 = .ok (.iload_n 3, 1) := dk_29 (dk_at dksX4_part_2 13 rfl rfl)
theorem dX4_part_61 : decode cX4_part 61 = .ok (.invokevirtual 290, 3) := dk_182 1 34 (dk_at dksX4_part_2 14 rfl rfl)
theorem dX4_part_64 : decode cX4_part 64 = .ok (.ireturn, 1) := dk_172 (dk_at dksX4_part_2 17 rfl rfl)
abbrev cX4_events : ByteArray := prog_16_method_63_code
def yX4_events : MethodName := ⟨RX4, "events", "(I)I"⟩
def dkwX4_events_1 : List UInt8 := [153, 0, 5, 3, 172, 42, 180, 0, 46, 27, 46, 172]
abbrev dktX4_events_1 : List UInt8 := dkwX4_events_1 ++ []
def dkwX4_events_0 : List UInt8 := [42, 3, 181, 0, 94, 42, 42, 27, 182, 0, 235, 154, 0, 7, 4, 167, 0, 4, 3, 4, 182, 0, 170]
abbrev dktX4_events_0 : List UInt8 := dkwX4_events_0 ++ dktX4_events_1
theorem dksX4_events_0 : cX4_events.data.toList.drop 0 = dktX4_events_0 := by decide +kernel
theorem dksX4_events_1 : cX4_events.data.toList.drop 23 = dktX4_events_1 := dk_seg dksX4_events_0 23 rfl rfl
theorem dX4_events_0 : decode cX4_events 0 = .ok (.aload_n 0, 1) := dk_42 (dk_at dksX4_events_0 0 rfl rfl)
theorem dX4_events_1 : decode cX4_events 1 = .ok (.iconst 0, 1) := dk_3 (dk_at dksX4_events_0 1 rfl rfl)
theorem dX4_events_2 : decode cX4_events 2 = .ok (.putfield 94, 3) := dk_181 0 94 (dk_at dksX4_events_0 2 rfl rfl)
theorem dX4_events_5 : decode cX4_events 5 = .ok (.aload_n 0, 1) := dk_42 (dk_at dksX4_events_0 5 rfl rfl)
theorem dX4_events_6 : decode cX4_events 6 = .ok (.aload_n 0, 1) := dk_42 (dk_at dksX4_events_0 6 rfl rfl)
theorem dX4_events_7 : decode cX4_events 7 = .ok (.iload_n 1, 1) := dk_27 (dk_at dksX4_events_0 7 rfl rfl)
theorem dX4_events_8 : decode cX4_events 8 = .ok (.invokevirtual 235, 3) := dk_182 0 235 (dk_at dksX4_events_0 8 rfl rfl)
theorem dX4_events_11 : decode cX4_events 11 = .ok (.ifCond .ne 7, 3) := dk_154 0 7 (dk_at dksX4_events_0 11 rfl rfl)
theorem dX4_events_14 : decode cX4_events 14 = .ok (.iconst 1, 1) := dk_4 (dk_at dksX4_events_0 14 rfl rfl)
theorem dX4_events_15 : decode cX4_events 15 = .ok (.goto 4, 3) := dk_167 0 4 (dk_at dksX4_events_0 15 rfl rfl)
theorem dX4_events_18 : decode cX4_events 18 = .ok (.iconst 0, 1) := dk_3 (dk_at dksX4_events_0 18 rfl rfl)
theorem dX4_events_19 : decode cX4_events 19 = .ok (.iconst 1, 1) := dk_4 (dk_at dksX4_events_0 19 rfl rfl)
theorem dX4_events_20 : decode cX4_events 20 = .ok (.invokevirtual 170, 3) := dk_182 0 170 (dk_at dksX4_events_0 20 rfl rfl)
theorem dX4_events_23 : decode cX4_events 23 = .ok (.ifCond .eq 5, 3) := dk_153 0 5 (dk_at dksX4_events_1 0 rfl rfl)
theorem dX4_events_26 : decode cX4_events 26 = .ok (.iconst 0, 1) := dk_3 (dk_at dksX4_events_1 3 rfl rfl)
theorem dX4_events_27 : decode cX4_events 27 = .ok (.ireturn, 1) := dk_172 (dk_at dksX4_events_1 4 rfl rfl)
theorem dX4_events_28 : decode cX4_events 28 = .ok (.aload_n 0, 1) := dk_42 (dk_at dksX4_events_1 5 rfl rfl)
theorem dX4_events_29 : decode cX4_events 29 = .ok (.getfield 46, 3) := dk_180 0 46 (dk_at dksX4_events_1 6 rfl rfl)
theorem dX4_events_32 : decode cX4_events 32 = .ok (.iload_n 1, 1) := dk_27 (dk_at dksX4_events_1 9 rfl rfl)
theorem dX4_events_33 : decode cX4_events 33 = .ok (.iaload, 1) := dk_46 (dk_at dksX4_events_1 10 rfl rfl)
theorem dX4_events_34 : decode cX4_events 34 = .ok (.ireturn, 1) := dk_172 (dk_at dksX4_events_1 11 rfl rfl)
abbrev cX4_counts : ByteArray := prog_16_method_64_code
def yX4_counts : MethodName := ⟨RX4, "counts", "(II)I"⟩
def dkwX4_counts_4 : List UInt8 := [182, 1, 31, 172]
abbrev dktX4_counts_4 : List UInt8 := dkwX4_counts_4 ++ []
def dkwX4_counts_3 : List UInt8 := [181, 0, 82, 42, 4, 27, 2, 182, 1, 19, 42, 182, 1, 37, 42, 29, 42, 180, 0, 255, 182, 1, 25, 42]
abbrev dktX4_counts_3 : List UInt8 := dkwX4_counts_3 ++ dktX4_counts_4
def dkwX4_counts_2 : List UInt8 := [3, 5, 182, 0, 170, 153, 0, 5, 3, 172, 42, 3, 27, 2, 182, 1, 19, 42, 180, 0, 255, 62, 42, 28]
abbrev dktX4_counts_2 : List UInt8 := dkwX4_counts_2 ++ dktX4_counts_3
def dkwX4_counts_1 : List UInt8 := [154, 0, 32, 42, 28, 3, 42, 180, 0, 46, 27, 46, 4, 100, 184, 0, 128, 154, 0, 7, 4, 167, 0, 4]
abbrev dktX4_counts_1 : List UInt8 := dkwX4_counts_1 ++ dktX4_counts_2
def dkwX4_counts_0 : List UInt8 := [42, 3, 181, 0, 94, 42, 42, 27, 182, 0, 235, 154, 0, 7, 4, 167, 0, 4, 3, 4, 182, 0, 170]
abbrev dktX4_counts_0 : List UInt8 := dkwX4_counts_0 ++ dktX4_counts_1
theorem dksX4_counts_0 : cX4_counts.data.toList.drop 0 = dktX4_counts_0 := by decide +kernel
theorem dksX4_counts_1 : cX4_counts.data.toList.drop 23 = dktX4_counts_1 := dk_seg dksX4_counts_0 23 rfl rfl
theorem dksX4_counts_2 : cX4_counts.data.toList.drop 47 = dktX4_counts_2 := dk_seg dksX4_counts_1 24 rfl rfl
theorem dksX4_counts_3 : cX4_counts.data.toList.drop 71 = dktX4_counts_3 := dk_seg dksX4_counts_2 24 rfl rfl
theorem dksX4_counts_4 : cX4_counts.data.toList.drop 95 = dktX4_counts_4 := dk_seg dksX4_counts_3 24 rfl rfl
theorem dX4_counts_0 : decode cX4_counts 0 = .ok (.aload_n 0, 1) := dk_42 (dk_at dksX4_counts_0 0 rfl rfl)
theorem dX4_counts_1 : decode cX4_counts 1 = .ok (.iconst 0, 1) := dk_3 (dk_at dksX4_counts_0 1 rfl rfl)
theorem dX4_counts_2 : decode cX4_counts 2 = .ok (.putfield 94, 3) := dk_181 0 94 (dk_at dksX4_counts_0 2 rfl rfl)
theorem dX4_counts_5 : decode cX4_counts 5 = .ok (.aload_n 0, 1) := dk_42 (dk_at dksX4_counts_0 5 rfl rfl)
theorem dX4_counts_6 : decode cX4_counts 6 = .ok (.aload_n 0, 1) := dk_42 (dk_at dksX4_counts_0 6 rfl rfl)
theorem dX4_counts_7 : decode cX4_counts 7 = .ok (.iload_n 1, 1) := dk_27 (dk_at dksX4_counts_0 7 rfl rfl)
theorem dX4_counts_8 : decode cX4_counts 8 = .ok (.invokevirtual 235, 3) := dk_182 0 235 (dk_at dksX4_counts_0 8 rfl rfl)
theorem dX4_counts_11 : decode cX4_counts 11 = .ok (.ifCond .ne 7, 3) := dk_154 0 7 (dk_at dksX4_counts_0 11 rfl rfl)
theorem dX4_counts_14 : decode cX4_counts 14 = .ok (.iconst 1, 1) := dk_4 (dk_at dksX4_counts_0 14 rfl rfl)
theorem dX4_counts_15 : decode cX4_counts 15 = .ok (.goto 4, 3) := dk_167 0 4 (dk_at dksX4_counts_0 15 rfl rfl)
theorem dX4_counts_18 : decode cX4_counts 18 = .ok (.iconst 0, 1) := dk_3 (dk_at dksX4_counts_0 18 rfl rfl)
theorem dX4_counts_19 : decode cX4_counts 19 = .ok (.iconst 1, 1) := dk_4 (dk_at dksX4_counts_0 19 rfl rfl)
theorem dX4_counts_20 : decode cX4_counts 20 = .ok (.invokevirtual 170, 3) := dk_182 0 170 (dk_at dksX4_counts_0 20 rfl rfl)
theorem dX4_counts_23 : decode cX4_counts 23 = .ok (.ifCond .ne 32, 3) := dk_154 0 32 (dk_at dksX4_counts_1 0 rfl rfl)
theorem dX4_counts_26 : decode cX4_counts 26 = .ok (.aload_n 0, 1) := dk_42 (dk_at dksX4_counts_1 3 rfl rfl)
theorem dX4_counts_27 : decode cX4_counts 27 = .ok (.iload_n 2, 1) := dk_28 (dk_at dksX4_counts_1 4 rfl rfl)
theorem dX4_counts_28 : decode cX4_counts 28 = .ok (.iconst 0, 1) := dk_3 (dk_at dksX4_counts_1 5 rfl rfl)
theorem dX4_counts_29 : decode cX4_counts 29 = .ok (.aload_n 0, 1) := dk_42 (dk_at dksX4_counts_1 6 rfl rfl)
theorem dX4_counts_30 : decode cX4_counts 30 = .ok (.getfield 46, 3) := dk_180 0 46 (dk_at dksX4_counts_1 7 rfl rfl)
theorem dX4_counts_33 : decode cX4_counts 33 = .ok (.iload_n 1, 1) := dk_27 (dk_at dksX4_counts_1 10 rfl rfl)
theorem dX4_counts_34 : decode cX4_counts 34 = .ok (.iaload, 1) := dk_46 (dk_at dksX4_counts_1 11 rfl rfl)
theorem dX4_counts_35 : decode cX4_counts 35 = .ok (.iconst 1, 1) := dk_4 (dk_at dksX4_counts_1 12 rfl rfl)
theorem dX4_counts_36 : decode cX4_counts 36 = .ok (.isub, 1) := dk_100 (dk_at dksX4_counts_1 13 rfl rfl)
theorem dX4_counts_37 : decode cX4_counts 37 = .ok (.invokestatic 128, 3) := dk_184 0 128 (dk_at dksX4_counts_1 14 rfl rfl)
theorem dX4_counts_40 : decode cX4_counts 40 = .ok (.ifCond .ne 7, 3) := dk_154 0 7 (dk_at dksX4_counts_1 17 rfl rfl)
theorem dX4_counts_43 : decode cX4_counts 43 = .ok (.iconst 1, 1) := dk_4 (dk_at dksX4_counts_1 20 rfl rfl)
theorem dX4_counts_44 : decode cX4_counts 44 = .ok (.goto 4, 3) := dk_167 0 4 (dk_at dksX4_counts_1 21 rfl rfl)
theorem dX4_counts_47 : decode cX4_counts 47 = .ok (.iconst 0, 1) := dk_3 (dk_at dksX4_counts_2 0 rfl rfl)
theorem dX4_counts_48 : decode cX4_counts 48 = .ok (.iconst 2, 1) := dk_5 (dk_at dksX4_counts_2 1 rfl rfl)
theorem dX4_counts_49 : decode cX4_counts 49 = .ok (.invokevirtual 170, 3) := dk_182 0 170 (dk_at dksX4_counts_2 2 rfl rfl)
theorem dX4_counts_52 : decode cX4_counts 52 = .ok (.ifCond .eq 5, 3) := dk_153 0 5 (dk_at dksX4_counts_2 5 rfl rfl)
theorem dX4_counts_55 : decode cX4_counts 55 = .ok (.iconst 0, 1) := dk_3 (dk_at dksX4_counts_2 8 rfl rfl)
theorem dX4_counts_56 : decode cX4_counts 56 = .ok (.ireturn, 1) := dk_172 (dk_at dksX4_counts_2 9 rfl rfl)
theorem dX4_counts_57 : decode cX4_counts 57 = .ok (.aload_n 0, 1) := dk_42 (dk_at dksX4_counts_2 10 rfl rfl)
theorem dX4_counts_58 : decode cX4_counts 58 = .ok (.iconst 0, 1) := dk_3 (dk_at dksX4_counts_2 11 rfl rfl)
theorem dX4_counts_59 : decode cX4_counts 59 = .ok (.iload_n 1, 1) := dk_27 (dk_at dksX4_counts_2 12 rfl rfl)
theorem dX4_counts_60 : decode cX4_counts 60 = .ok (.iconst (-1), 1) := dk_2 (dk_at dksX4_counts_2 13 rfl rfl)
theorem dX4_counts_61 : decode cX4_counts 61 = .ok (.invokevirtual 275, 3) := dk_182 1 19 (dk_at dksX4_counts_2 14 rfl rfl)
theorem dX4_counts_64 : decode cX4_counts 64 = .ok (.aload_n 0, 1) := dk_42 (dk_at dksX4_counts_2 17 rfl rfl)
theorem dX4_counts_65 : decode cX4_counts 65 = .ok (.getfield 255, 3) := dk_180 0 255 (dk_at dksX4_counts_2 18 rfl rfl)
theorem dX4_counts_68 : decode cX4_counts 68 = .ok (.istore_n 3, 1) := dk_62 (dk_at dksX4_counts_2 21 rfl rfl)
theorem dX4_counts_69 : decode cX4_counts 69 = .ok (.aload_n 0, 1) := dk_42 (dk_at dksX4_counts_2 22 rfl rfl)
theorem dX4_counts_70 : decode cX4_counts 70 = .ok (.iload_n 2, 1) := dk_28 (dk_at dksX4_counts_2 23 rfl rfl)
theorem dX4_counts_71 : decode cX4_counts 71 = .ok (.putfield 82, 3) := dk_181 0 82 (dk_at dksX4_counts_3 0 rfl rfl)
theorem dX4_counts_74 : decode cX4_counts 74 = .ok (.aload_n 0, 1) := dk_42 (dk_at dksX4_counts_3 3 rfl rfl)
theorem dX4_counts_75 : decode cX4_counts 75 = .ok (.iconst 1, 1) := dk_4 (dk_at dksX4_counts_3 4 rfl rfl)
theorem dX4_counts_76 : decode cX4_counts 76 = .ok (.iload_n 1, 1) := dk_27 (dk_at dksX4_counts_3 5 rfl rfl)
theorem dX4_counts_77 : decode cX4_counts 77 = .ok (.iconst (-1), 1) := dk_2 (dk_at dksX4_counts_3 6 rfl rfl)
theorem dX4_counts_78 : decode cX4_counts 78 = .ok (.invokevirtual 275, 3) := dk_182 1 19 (dk_at dksX4_counts_3 7 rfl rfl)
theorem dX4_counts_81 : decode cX4_counts 81 = .ok (.aload_n 0, 1) := dk_42 (dk_at dksX4_counts_3 10 rfl rfl)
theorem dX4_counts_82 : decode cX4_counts 82 = .ok (.invokevirtual 293, 3) := dk_182 1 37 (dk_at dksX4_counts_3 11 rfl rfl)
theorem dX4_counts_85 : decode cX4_counts 85 = .ok (.aload_n 0, 1) := dk_42 (dk_at dksX4_counts_3 14 rfl rfl)
theorem dX4_counts_86 : decode cX4_counts 86 = .ok (.iload_n 3, 1) := dk_29 (dk_at dksX4_counts_3 15 rfl rfl)
theorem dX4_counts_87 : decode cX4_counts 87 = .ok (.aload_n 0, 1) := dk_42 (dk_at dksX4_counts_3 16 rfl rfl)
theorem dX4_counts_88 : decode cX4_counts 88 = .ok (.getfield 255, 3) := dk_180 0 255 (dk_at dksX4_counts_3 17 rfl rfl)
theorem dX4_counts_91 : decode cX4_counts 91 = .ok (.invokevirtual 281, 3) := dk_182 1 25 (dk_at dksX4_counts_3 20 rfl rfl)
theorem dX4_counts_94 : decode cX4_counts 94 = .ok (.aload_n 0, 1) := dk_42 (dk_at dksX4_counts_3 23 rfl rfl)
theorem dX4_counts_95 : decode cX4_counts 95 = .ok (.invokevirtual 287, 3) := dk_182 1 31 (dk_at dksX4_counts_4 0 rfl rfl)
theorem dX4_counts_98 : decode cX4_counts 98 = .ok (.ireturn, 1) := dk_172 (dk_at dksX4_counts_4 3 rfl rfl)
abbrev cX4_plain : ByteArray := prog_16_method_35_code
def yX4_plain : MethodName := ⟨RX4, "plain", "()V"⟩
def dkwX4_plain_0 : List UInt8 := [42, 2, 181, 0, 82, 42, 2, 181, 0, 85, 42, 2, 181, 0, 88, 177]
abbrev dktX4_plain_0 : List UInt8 := dkwX4_plain_0 ++ []
theorem dksX4_plain_0 : cX4_plain.data.toList.drop 0 = dktX4_plain_0 := by decide +kernel
theorem dX4_plain_0 : decode cX4_plain 0 = .ok (.aload_n 0, 1) := dk_42 (dk_at dksX4_plain_0 0 rfl rfl)
theorem dX4_plain_1 : decode cX4_plain 1 = .ok (.iconst (-1), 1) := dk_2 (dk_at dksX4_plain_0 1 rfl rfl)
theorem dX4_plain_2 : decode cX4_plain 2 = .ok (.putfield 82, 3) := dk_181 0 82 (dk_at dksX4_plain_0 2 rfl rfl)
theorem dX4_plain_5 : decode cX4_plain 5 = .ok (.aload_n 0, 1) := dk_42 (dk_at dksX4_plain_0 5 rfl rfl)
theorem dX4_plain_6 : decode cX4_plain 6 = .ok (.iconst (-1), 1) := dk_2 (dk_at dksX4_plain_0 6 rfl rfl)
theorem dX4_plain_7 : decode cX4_plain 7 = .ok (.putfield 85, 3) := dk_181 0 85 (dk_at dksX4_plain_0 7 rfl rfl)
theorem dX4_plain_10 : decode cX4_plain 10 = .ok (.aload_n 0, 1) := dk_42 (dk_at dksX4_plain_0 10 rfl rfl)
theorem dX4_plain_11 : decode cX4_plain 11 = .ok (.iconst (-1), 1) := dk_2 (dk_at dksX4_plain_0 11 rfl rfl)
theorem dX4_plain_12 : decode cX4_plain 12 = .ok (.putfield 88, 3) := dk_181 0 88 (dk_at dksX4_plain_0 12 rfl rfl)
theorem dX4_plain_15 : decode cX4_plain 15 = .ok (.return_, 1) := dk_177 (dk_at dksX4_plain_0 15 rfl rfl)
abbrev cX4_needed : ByteArray := prog_16_method_65_code
def yX4_needed : MethodName := ⟨RX4, "needed", "(II)I"⟩
def dkwX4_needed_4 : List UInt8 := [21, 4, 172, 132, 3, 1, 132, 4, 1, 167, 255, 203, 2, 172]
abbrev dktX4_needed_4 : List UInt8 := dkwX4_needed_4 ++ []
def dkwX4_needed_3 : List UInt8 := [182, 1, 19, 42, 182, 1, 37, 42, 3, 182, 1, 12, 154, 0, 6, 167, 0, 14, 29, 28, 160, 0, 6]
abbrev dktX4_needed_3 : List UInt8 := dkwX4_needed_3 ++ dktX4_needed_4
def dkwX4_needed_2 : List UInt8 := [3, 54, 4, 21, 4, 42, 180, 0, 46, 27, 46, 162, 0, 48, 42, 21, 4, 181, 0, 82, 42, 3, 27, 2]
abbrev dktX4_needed_2 : List UInt8 := dkwX4_needed_2 ++ dktX4_needed_3
def dkwX4_needed_1 : List UInt8 := [153, 0, 5, 3, 172, 42, 3, 27, 2, 182, 1, 19, 42, 3, 182, 1, 12, 153, 0, 5, 2, 172, 3, 62]
abbrev dktX4_needed_1 : List UInt8 := dkwX4_needed_1 ++ dktX4_needed_2
def dkwX4_needed_0 : List UInt8 := [42, 3, 181, 0, 94, 42, 42, 27, 182, 0, 235, 154, 0, 7, 4, 167, 0, 4, 3, 4, 182, 0, 170]
abbrev dktX4_needed_0 : List UInt8 := dkwX4_needed_0 ++ dktX4_needed_1
theorem dksX4_needed_0 : cX4_needed.data.toList.drop 0 = dktX4_needed_0 := by decide +kernel
theorem dksX4_needed_1 : cX4_needed.data.toList.drop 23 = dktX4_needed_1 := dk_seg dksX4_needed_0 23 rfl rfl
theorem dksX4_needed_2 : cX4_needed.data.toList.drop 47 = dktX4_needed_2 := dk_seg dksX4_needed_1 24 rfl rfl
theorem dksX4_needed_3 : cX4_needed.data.toList.drop 71 = dktX4_needed_3 := dk_seg dksX4_needed_2 24 rfl rfl
theorem dksX4_needed_4 : cX4_needed.data.toList.drop 94 = dktX4_needed_4 := dk_seg dksX4_needed_3 23 rfl rfl
theorem dX4_needed_0 : decode cX4_needed 0 = .ok (.aload_n 0, 1) := dk_42 (dk_at dksX4_needed_0 0 rfl rfl)
theorem dX4_needed_1 : decode cX4_needed 1 = .ok (.iconst 0, 1) := dk_3 (dk_at dksX4_needed_0 1 rfl rfl)
theorem dX4_needed_2 : decode cX4_needed 2 = .ok (.putfield 94, 3) := dk_181 0 94 (dk_at dksX4_needed_0 2 rfl rfl)
theorem dX4_needed_5 : decode cX4_needed 5 = .ok (.aload_n 0, 1) := dk_42 (dk_at dksX4_needed_0 5 rfl rfl)
theorem dX4_needed_6 : decode cX4_needed 6 = .ok (.aload_n 0, 1) := dk_42 (dk_at dksX4_needed_0 6 rfl rfl)
theorem dX4_needed_7 : decode cX4_needed 7 = .ok (.iload_n 1, 1) := dk_27 (dk_at dksX4_needed_0 7 rfl rfl)
theorem dX4_needed_8 : decode cX4_needed 8 = .ok (.invokevirtual 235, 3) := dk_182 0 235 (dk_at dksX4_needed_0 8 rfl rfl)
theorem dX4_needed_11 : decode cX4_needed 11 = .ok (.ifCond .ne 7, 3) := dk_154 0 7 (dk_at dksX4_needed_0 11 rfl rfl)
theorem dX4_needed_14 : decode cX4_needed 14 = .ok (.iconst 1, 1) := dk_4 (dk_at dksX4_needed_0 14 rfl rfl)
theorem dX4_needed_15 : decode cX4_needed 15 = .ok (.goto 4, 3) := dk_167 0 4 (dk_at dksX4_needed_0 15 rfl rfl)
theorem dX4_needed_18 : decode cX4_needed 18 = .ok (.iconst 0, 1) := dk_3 (dk_at dksX4_needed_0 18 rfl rfl)
theorem dX4_needed_19 : decode cX4_needed 19 = .ok (.iconst 1, 1) := dk_4 (dk_at dksX4_needed_0 19 rfl rfl)
theorem dX4_needed_20 : decode cX4_needed 20 = .ok (.invokevirtual 170, 3) := dk_182 0 170 (dk_at dksX4_needed_0 20 rfl rfl)
theorem dX4_needed_23 : decode cX4_needed 23 = .ok (.ifCond .eq 5, 3) := dk_153 0 5 (dk_at dksX4_needed_1 0 rfl rfl)
theorem dX4_needed_26 : decode cX4_needed 26 = .ok (.iconst 0, 1) := dk_3 (dk_at dksX4_needed_1 3 rfl rfl)
theorem dX4_needed_27 : decode cX4_needed 27 = .ok (.ireturn, 1) := dk_172 (dk_at dksX4_needed_1 4 rfl rfl)
theorem dX4_needed_28 : decode cX4_needed 28 = .ok (.aload_n 0, 1) := dk_42 (dk_at dksX4_needed_1 5 rfl rfl)
theorem dX4_needed_29 : decode cX4_needed 29 = .ok (.iconst 0, 1) := dk_3 (dk_at dksX4_needed_1 6 rfl rfl)
theorem dX4_needed_30 : decode cX4_needed 30 = .ok (.iload_n 1, 1) := dk_27 (dk_at dksX4_needed_1 7 rfl rfl)
theorem dX4_needed_31 : decode cX4_needed 31 = .ok (.iconst (-1), 1) := dk_2 (dk_at dksX4_needed_1 8 rfl rfl)
theorem dX4_needed_32 : decode cX4_needed 32 = .ok (.invokevirtual 275, 3) := dk_182 1 19 (dk_at dksX4_needed_1 9 rfl rfl)
theorem dX4_needed_35 : decode cX4_needed 35 = .ok (.aload_n 0, 1) := dk_42 (dk_at dksX4_needed_1 12 rfl rfl)
theorem dX4_needed_36 : decode cX4_needed 36 = .ok (.iconst 0, 1) := dk_3 (dk_at dksX4_needed_1 13 rfl rfl)
theorem dX4_needed_37 : decode cX4_needed 37 = .ok (.invokevirtual 268, 3) := dk_182 1 12 (dk_at dksX4_needed_1 14 rfl rfl)
theorem dX4_needed_40 : decode cX4_needed 40 = .ok (.ifCond .eq 5, 3) := dk_153 0 5 (dk_at dksX4_needed_1 17 rfl rfl)
theorem dX4_needed_43 : decode cX4_needed 43 = .ok (.iconst (-1), 1) := dk_2 (dk_at dksX4_needed_1 20 rfl rfl)
theorem dX4_needed_44 : decode cX4_needed 44 = .ok (.ireturn, 1) := dk_172 (dk_at dksX4_needed_1 21 rfl rfl)
theorem dX4_needed_45 : decode cX4_needed 45 = .ok (.iconst 0, 1) := dk_3 (dk_at dksX4_needed_1 22 rfl rfl)
theorem dX4_needed_46 : decode cX4_needed 46 = .ok (.istore_n 3, 1) := dk_62 (dk_at dksX4_needed_1 23 rfl rfl)
theorem dX4_needed_47 : decode cX4_needed 47 = .ok (.iconst 0, 1) := dk_3 (dk_at dksX4_needed_2 0 rfl rfl)
theorem dX4_needed_48 : decode cX4_needed 48 = .ok (.istore 4, 2) := dk_54 4 (dk_at dksX4_needed_2 1 rfl rfl)
theorem dX4_needed_50 : decode cX4_needed 50 = .ok (.iload 4, 2) := dk_21 4 (dk_at dksX4_needed_2 3 rfl rfl)
theorem dX4_needed_52 : decode cX4_needed 52 = .ok (.aload_n 0, 1) := dk_42 (dk_at dksX4_needed_2 5 rfl rfl)
theorem dX4_needed_53 : decode cX4_needed 53 = .ok (.getfield 46, 3) := dk_180 0 46 (dk_at dksX4_needed_2 6 rfl rfl)
theorem dX4_needed_56 : decode cX4_needed 56 = .ok (.iload_n 1, 1) := dk_27 (dk_at dksX4_needed_2 9 rfl rfl)
theorem dX4_needed_57 : decode cX4_needed 57 = .ok (.iaload, 1) := dk_46 (dk_at dksX4_needed_2 10 rfl rfl)
theorem dX4_needed_58 : decode cX4_needed 58 = .ok (.if_icmp .ge 48, 3) := dk_162 0 48 (dk_at dksX4_needed_2 11 rfl rfl)
theorem dX4_needed_61 : decode cX4_needed 61 = .ok (.aload_n 0, 1) := dk_42 (dk_at dksX4_needed_2 14 rfl rfl)
theorem dX4_needed_62 : decode cX4_needed 62 = .ok (.iload 4, 2) := dk_21 4 (dk_at dksX4_needed_2 15 rfl rfl)
theorem dX4_needed_64 : decode cX4_needed 64 = .ok (.putfield 82, 3) := dk_181 0 82 (dk_at dksX4_needed_2 17 rfl rfl)
theorem dX4_needed_67 : decode cX4_needed 67 = .ok (.aload_n 0, 1) := dk_42 (dk_at dksX4_needed_2 20 rfl rfl)
theorem dX4_needed_68 : decode cX4_needed 68 = .ok (.iconst 0, 1) := dk_3 (dk_at dksX4_needed_2 21 rfl rfl)
theorem dX4_needed_69 : decode cX4_needed 69 = .ok (.iload_n 1, 1) := dk_27 (dk_at dksX4_needed_2 22 rfl rfl)
theorem dX4_needed_70 : decode cX4_needed 70 = .ok (.iconst (-1), 1) := dk_2 (dk_at dksX4_needed_2 23 rfl rfl)
theorem dX4_needed_71 : decode cX4_needed 71 = .ok (.invokevirtual 275, 3) := dk_182 1 19 (dk_at dksX4_needed_3 0 rfl rfl)
theorem dX4_needed_74 : decode cX4_needed 74 = .ok (.aload_n 0, 1) := dk_42 (dk_at dksX4_needed_3 3 rfl rfl)
theorem dX4_needed_75 : decode cX4_needed 75 = .ok (.invokevirtual 293, 3) := dk_182 1 37 (dk_at dksX4_needed_3 4 rfl rfl)
theorem dX4_needed_78 : decode cX4_needed 78 = .ok (.aload_n 0, 1) := dk_42 (dk_at dksX4_needed_3 7 rfl rfl)
theorem dX4_needed_79 : decode cX4_needed 79 = .ok (.iconst 0, 1) := dk_3 (dk_at dksX4_needed_3 8 rfl rfl)
theorem dX4_needed_80 : decode cX4_needed 80 = .ok (.invokevirtual 268, 3) := dk_182 1 12 (dk_at dksX4_needed_3 9 rfl rfl)
theorem dX4_needed_83 : decode cX4_needed 83 = .ok (.ifCond .ne 6, 3) := dk_154 0 6 (dk_at dksX4_needed_3 12 rfl rfl)
theorem dX4_needed_86 : decode cX4_needed 86 = .ok (.goto 14, 3) := dk_167 0 14 (dk_at dksX4_needed_3 15 rfl rfl)
theorem dX4_needed_89 : decode cX4_needed 89 = .ok (.iload_n 3, 1) := dk_29 (dk_at dksX4_needed_3 18 rfl rfl)
theorem dX4_needed_90 : decode cX4_needed 90 = .ok (.iload_n 2, 1) := dk_28 (dk_at dksX4_needed_3 19 rfl rfl)
theorem dX4_needed_91 : decode cX4_needed 91 = .ok (.if_icmp .ne 6, 3) := dk_160 0 6 (dk_at dksX4_needed_3 20 rfl rfl)
theorem dX4_needed_94 : decode cX4_needed 94 = .ok (.iload 4, 2) := dk_21 4 (dk_at dksX4_needed_4 0 rfl rfl)
theorem dX4_needed_96 : decode cX4_needed 96 = .ok (.ireturn, 1) := dk_172 (dk_at dksX4_needed_4 2 rfl rfl)
theorem dX4_needed_97 : decode cX4_needed 97 = .ok (.iinc 3 1, 3) := dk_132 3 1 (dk_at dksX4_needed_4 3 rfl rfl)
theorem dX4_needed_100 : decode cX4_needed 100 = .ok (.iinc 4 1, 3) := dk_132 4 1 (dk_at dksX4_needed_4 6 rfl rfl)
theorem dX4_needed_103 : decode cX4_needed 103 = .ok (.goto (-53), 3) := dk_167 255 203 (dk_at dksX4_needed_4 9 rfl rfl)
theorem dX4_needed_106 : decode cX4_needed 106 = .ok (.iconst (-1), 1) := dk_2 (dk_at dksX4_needed_4 12 rfl rfl)
theorem dX4_needed_107 : decode cX4_needed 107 = .ok (.ireturn, 1) := dk_172 (dk_at dksX4_needed_4 13 rfl rfl)
abbrev cX4_byWay : ByteArray := prog_16_method_66_code
def yX4_byWay : MethodName := ⟨RX4, "byWay", "(IIIIII)I"⟩
def dkwX4_byWay_5 : List UInt8 := [182, 1, 37, 42, 180, 0, 76, 29, 50, 21, 5, 46, 172]
abbrev dktX4_byWay_5 : List UInt8 := dkwX4_byWay_5 ++ []
def dkwX4_byWay_4 : List UInt8 := [28, 181, 0, 88, 42, 29, 181, 0, 212, 42, 21, 4, 181, 0, 205, 42, 27, 21, 6, 182, 0, 241, 42]
abbrev dktX4_byWay_4 : List UInt8 := dkwX4_byWay_4 ++ dktX4_byWay_5
def dkwX4_byWay_3 : List UInt8 := [159, 0, 9, 28, 21, 4, 160, 0, 7, 4, 167, 0, 4, 3, 5, 182, 0, 170, 153, 0, 5, 3, 172, 42]
abbrev dktX4_byWay_3 : List UInt8 := dkwX4_byWay_3 ++ dktX4_byWay_4
def dkwX4_byWay_2 : List UInt8 := [153, 0, 31, 21, 4, 3, 16, 9, 184, 0, 128, 153, 0, 20, 28, 29, 159, 0, 15, 29, 21, 4]
abbrev dktX4_byWay_2 : List UInt8 := dkwX4_byWay_2 ++ dktX4_byWay_3
def dkwX4_byWay_1 : List UInt8 := [154, 0, 67, 42, 28, 21, 5, 21, 6, 5, 182, 0, 238, 154, 0, 54, 42, 29, 3, 16, 9, 184, 0, 128]
abbrev dktX4_byWay_1 : List UInt8 := dkwX4_byWay_1 ++ dktX4_byWay_2
def dkwX4_byWay_0 : List UInt8 := [42, 3, 181, 0, 94, 42, 42, 27, 182, 0, 235, 154, 0, 7, 4, 167, 0, 4, 3, 4, 182, 0, 170]
abbrev dktX4_byWay_0 : List UInt8 := dkwX4_byWay_0 ++ dktX4_byWay_1
theorem dksX4_byWay_0 : cX4_byWay.data.toList.drop 0 = dktX4_byWay_0 := by decide +kernel
theorem dksX4_byWay_1 : cX4_byWay.data.toList.drop 23 = dktX4_byWay_1 := dk_seg dksX4_byWay_0 23 rfl rfl
theorem dksX4_byWay_2 : cX4_byWay.data.toList.drop 47 = dktX4_byWay_2 := dk_seg dksX4_byWay_1 24 rfl rfl
theorem dksX4_byWay_3 : cX4_byWay.data.toList.drop 69 = dktX4_byWay_3 := dk_seg dksX4_byWay_2 22 rfl rfl
theorem dksX4_byWay_4 : cX4_byWay.data.toList.drop 93 = dktX4_byWay_4 := dk_seg dksX4_byWay_3 24 rfl rfl
theorem dksX4_byWay_5 : cX4_byWay.data.toList.drop 116 = dktX4_byWay_5 := dk_seg dksX4_byWay_4 23 rfl rfl
theorem dX4_byWay_0 : decode cX4_byWay 0 = .ok (.aload_n 0, 1) := dk_42 (dk_at dksX4_byWay_0 0 rfl rfl)
theorem dX4_byWay_1 : decode cX4_byWay 1 = .ok (.iconst 0, 1) := dk_3 (dk_at dksX4_byWay_0 1 rfl rfl)
theorem dX4_byWay_2 : decode cX4_byWay 2 = .ok (.putfield 94, 3) := dk_181 0 94 (dk_at dksX4_byWay_0 2 rfl rfl)
theorem dX4_byWay_5 : decode cX4_byWay 5 = .ok (.aload_n 0, 1) := dk_42 (dk_at dksX4_byWay_0 5 rfl rfl)
theorem dX4_byWay_6 : decode cX4_byWay 6 = .ok (.aload_n 0, 1) := dk_42 (dk_at dksX4_byWay_0 6 rfl rfl)
theorem dX4_byWay_7 : decode cX4_byWay 7 = .ok (.iload_n 1, 1) := dk_27 (dk_at dksX4_byWay_0 7 rfl rfl)
theorem dX4_byWay_8 : decode cX4_byWay 8 = .ok (.invokevirtual 235, 3) := dk_182 0 235 (dk_at dksX4_byWay_0 8 rfl rfl)
theorem dX4_byWay_11 : decode cX4_byWay 11 = .ok (.ifCond .ne 7, 3) := dk_154 0 7 (dk_at dksX4_byWay_0 11 rfl rfl)
theorem dX4_byWay_14 : decode cX4_byWay 14 = .ok (.iconst 1, 1) := dk_4 (dk_at dksX4_byWay_0 14 rfl rfl)
theorem dX4_byWay_15 : decode cX4_byWay 15 = .ok (.goto 4, 3) := dk_167 0 4 (dk_at dksX4_byWay_0 15 rfl rfl)
theorem dX4_byWay_18 : decode cX4_byWay 18 = .ok (.iconst 0, 1) := dk_3 (dk_at dksX4_byWay_0 18 rfl rfl)
theorem dX4_byWay_19 : decode cX4_byWay 19 = .ok (.iconst 1, 1) := dk_4 (dk_at dksX4_byWay_0 19 rfl rfl)
theorem dX4_byWay_20 : decode cX4_byWay 20 = .ok (.invokevirtual 170, 3) := dk_182 0 170 (dk_at dksX4_byWay_0 20 rfl rfl)
theorem dX4_byWay_23 : decode cX4_byWay 23 = .ok (.ifCond .ne 67, 3) := dk_154 0 67 (dk_at dksX4_byWay_1 0 rfl rfl)
theorem dX4_byWay_26 : decode cX4_byWay 26 = .ok (.aload_n 0, 1) := dk_42 (dk_at dksX4_byWay_1 3 rfl rfl)
theorem dX4_byWay_27 : decode cX4_byWay 27 = .ok (.iload_n 2, 1) := dk_28 (dk_at dksX4_byWay_1 4 rfl rfl)
theorem dX4_byWay_28 : decode cX4_byWay 28 = .ok (.iload 5, 2) := dk_21 5 (dk_at dksX4_byWay_1 5 rfl rfl)
theorem dX4_byWay_30 : decode cX4_byWay 30 = .ok (.iload 6, 2) := dk_21 6 (dk_at dksX4_byWay_1 7 rfl rfl)
theorem dX4_byWay_32 : decode cX4_byWay 32 = .ok (.iconst 2, 1) := dk_5 (dk_at dksX4_byWay_1 9 rfl rfl)
theorem dX4_byWay_33 : decode cX4_byWay 33 = .ok (.invokevirtual 238, 3) := dk_182 0 238 (dk_at dksX4_byWay_1 10 rfl rfl)
theorem dX4_byWay_36 : decode cX4_byWay 36 = .ok (.ifCond .ne 54, 3) := dk_154 0 54 (dk_at dksX4_byWay_1 13 rfl rfl)
theorem dX4_byWay_39 : decode cX4_byWay 39 = .ok (.aload_n 0, 1) := dk_42 (dk_at dksX4_byWay_1 16 rfl rfl)
theorem dX4_byWay_40 : decode cX4_byWay 40 = .ok (.iload_n 3, 1) := dk_29 (dk_at dksX4_byWay_1 17 rfl rfl)
theorem dX4_byWay_41 : decode cX4_byWay 41 = .ok (.iconst 0, 1) := dk_3 (dk_at dksX4_byWay_1 18 rfl rfl)
theorem dX4_byWay_42 : decode cX4_byWay 42 = .ok (.bipush 9, 2) := dk_16 9 (dk_at dksX4_byWay_1 19 rfl rfl)
theorem dX4_byWay_44 : decode cX4_byWay 44 = .ok (.invokestatic 128, 3) := dk_184 0 128 (dk_at dksX4_byWay_1 21 rfl rfl)
theorem dX4_byWay_47 : decode cX4_byWay 47 = .ok (.ifCond .eq 31, 3) := dk_153 0 31 (dk_at dksX4_byWay_2 0 rfl rfl)
theorem dX4_byWay_50 : decode cX4_byWay 50 = .ok (.iload 4, 2) := dk_21 4 (dk_at dksX4_byWay_2 3 rfl rfl)
theorem dX4_byWay_52 : decode cX4_byWay 52 = .ok (.iconst 0, 1) := dk_3 (dk_at dksX4_byWay_2 5 rfl rfl)
theorem dX4_byWay_53 : decode cX4_byWay 53 = .ok (.bipush 9, 2) := dk_16 9 (dk_at dksX4_byWay_2 6 rfl rfl)
theorem dX4_byWay_55 : decode cX4_byWay 55 = .ok (.invokestatic 128, 3) := dk_184 0 128 (dk_at dksX4_byWay_2 8 rfl rfl)
theorem dX4_byWay_58 : decode cX4_byWay 58 = .ok (.ifCond .eq 20, 3) := dk_153 0 20 (dk_at dksX4_byWay_2 11 rfl rfl)
theorem dX4_byWay_61 : decode cX4_byWay 61 = .ok (.iload_n 2, 1) := dk_28 (dk_at dksX4_byWay_2 14 rfl rfl)
theorem dX4_byWay_62 : decode cX4_byWay 62 = .ok (.iload_n 3, 1) := dk_29 (dk_at dksX4_byWay_2 15 rfl rfl)
theorem dX4_byWay_63 : decode cX4_byWay 63 = .ok (.if_icmp .eq 15, 3) := dk_159 0 15 (dk_at dksX4_byWay_2 16 rfl rfl)
theorem dX4_byWay_66 : decode cX4_byWay 66 = .ok (.iload_n 3, 1) := dk_29 (dk_at dksX4_byWay_2 19 rfl rfl)
theorem dX4_byWay_67 : decode cX4_byWay 67 = .ok (.iload 4, 2) := dk_21 4 (dk_at dksX4_byWay_2 20 rfl rfl)
theorem dX4_byWay_69 : decode cX4_byWay 69 = .ok (.if_icmp .eq 9, 3) := dk_159 0 9 (dk_at dksX4_byWay_3 0 rfl rfl)
theorem dX4_byWay_72 : decode cX4_byWay 72 = .ok (.iload_n 2, 1) := dk_28 (dk_at dksX4_byWay_3 3 rfl rfl)
theorem dX4_byWay_73 : decode cX4_byWay 73 = .ok (.iload 4, 2) := dk_21 4 (dk_at dksX4_byWay_3 4 rfl rfl)
theorem dX4_byWay_75 : decode cX4_byWay 75 = .ok (.if_icmp .ne 7, 3) := dk_160 0 7 (dk_at dksX4_byWay_3 6 rfl rfl)
theorem dX4_byWay_78 : decode cX4_byWay 78 = .ok (.iconst 1, 1) := dk_4 (dk_at dksX4_byWay_3 9 rfl rfl)
theorem dX4_byWay_79 : decode cX4_byWay 79 = .ok (.goto 4, 3) := dk_167 0 4 (dk_at dksX4_byWay_3 10 rfl rfl)
theorem dX4_byWay_82 : decode cX4_byWay 82 = .ok (.iconst 0, 1) := dk_3 (dk_at dksX4_byWay_3 13 rfl rfl)
theorem dX4_byWay_83 : decode cX4_byWay 83 = .ok (.iconst 2, 1) := dk_5 (dk_at dksX4_byWay_3 14 rfl rfl)
theorem dX4_byWay_84 : decode cX4_byWay 84 = .ok (.invokevirtual 170, 3) := dk_182 0 170 (dk_at dksX4_byWay_3 15 rfl rfl)
theorem dX4_byWay_87 : decode cX4_byWay 87 = .ok (.ifCond .eq 5, 3) := dk_153 0 5 (dk_at dksX4_byWay_3 18 rfl rfl)
theorem dX4_byWay_90 : decode cX4_byWay 90 = .ok (.iconst 0, 1) := dk_3 (dk_at dksX4_byWay_3 21 rfl rfl)
theorem dX4_byWay_91 : decode cX4_byWay 91 = .ok (.ireturn, 1) := dk_172 (dk_at dksX4_byWay_3 22 rfl rfl)
theorem dX4_byWay_92 : decode cX4_byWay 92 = .ok (.aload_n 0, 1) := dk_42 (dk_at dksX4_byWay_3 23 rfl rfl)
theorem dX4_byWay_93 : decode cX4_byWay 93 = .ok (.iload_n 2, 1) := dk_28 (dk_at dksX4_byWay_4 0 rfl rfl)
theorem dX4_byWay_94 : decode cX4_byWay 94 = .ok (.putfield 88, 3) := dk_181 0 88 (dk_at dksX4_byWay_4 1 rfl rfl)
theorem dX4_byWay_97 : decode cX4_byWay 97 = .ok (.aload_n 0, 1) := dk_42 (dk_at dksX4_byWay_4 4 rfl rfl)
theorem dX4_byWay_98 : decode cX4_byWay 98 = .ok (.iload_n 3, 1) := dk_29 (dk_at dksX4_byWay_4 5 rfl rfl)
theorem dX4_byWay_99 : decode cX4_byWay 99 = .ok (.putfield 212, 3) := dk_181 0 212 (dk_at dksX4_byWay_4 6 rfl rfl)
theorem dX4_byWay_102 : decode cX4_byWay 102 = .ok (.aload_n 0, 1) := dk_42 (dk_at dksX4_byWay_4 9 rfl rfl)
theorem dX4_byWay_103 : decode cX4_byWay 103 = .ok (.iload 4, 2) := dk_21 4 (dk_at dksX4_byWay_4 10 rfl rfl)
theorem dX4_byWay_105 : decode cX4_byWay 105 = .ok (.putfield 205, 3) := dk_181 0 205 (dk_at dksX4_byWay_4 12 rfl rfl)
theorem dX4_byWay_108 : decode cX4_byWay 108 = .ok (.aload_n 0, 1) := dk_42 (dk_at dksX4_byWay_4 15 rfl rfl)
theorem dX4_byWay_109 : decode cX4_byWay 109 = .ok (.iload_n 1, 1) := dk_27 (dk_at dksX4_byWay_4 16 rfl rfl)
theorem dX4_byWay_110 : decode cX4_byWay 110 = .ok (.iload 6, 2) := dk_21 6 (dk_at dksX4_byWay_4 17 rfl rfl)
theorem dX4_byWay_112 : decode cX4_byWay 112 = .ok (.invokevirtual 241, 3) := dk_182 0 241 (dk_at dksX4_byWay_4 19 rfl rfl)
theorem dX4_byWay_115 : decode cX4_byWay 115 = .ok (.aload_n 0, 1) := dk_42 (dk_at dksX4_byWay_4 22 rfl rfl)
theorem dX4_byWay_116 : decode cX4_byWay 116 = .ok (.invokevirtual 293, 3) := dk_182 1 37 (dk_at dksX4_byWay_5 0 rfl rfl)
theorem dX4_byWay_119 : decode cX4_byWay 119 = .ok (.aload_n 0, 1) := dk_42 (dk_at dksX4_byWay_5 3 rfl rfl)
theorem dX4_byWay_120 : decode cX4_byWay 120 = .ok (.getfield 76, 3) := dk_180 0 76 (dk_at dksX4_byWay_5 4 rfl rfl)
theorem dX4_byWay_123 : decode cX4_byWay 123 = .ok (.iload_n 3, 1) := dk_29 (dk_at dksX4_byWay_5 7 rfl rfl)
theorem dX4_byWay_124 : decode cX4_byWay 124 = .ok (.aaload, 1) := dk_50 (dk_at dksX4_byWay_5 8 rfl rfl)
theorem dX4_byWay_125 : decode cX4_byWay 125 = .ok (.iload 5, 2) := dk_21 5 (dk_at dksX4_byWay_5 9 rfl rfl)
theorem dX4_byWay_127 : decode cX4_byWay 127 = .ok (.iaload, 1) := dk_46 (dk_at dksX4_byWay_5 11 rfl rfl)
theorem dX4_byWay_128 : decode cX4_byWay 128 = .ok (.ireturn, 1) := dk_172 (dk_at dksX4_byWay_5 12 rfl rfl)
abbrev cX4_bench : ByteArray := prog_16_method_67_code
def yX4_bench : MethodName := ⟨RX4, "bench", "(IIII)I"⟩
def dkwX4_bench_5 : List UInt8 := [182, 1, 25, 42, 182, 1, 31, 172]
abbrev dktX4_bench_5 : List UInt8 := dkwX4_bench_5 ++ []
def dkwX4_bench_4 : List UInt8 := [180, 0, 255, 54, 5, 42, 182, 1, 37, 42, 4, 27, 2, 182, 1, 19, 42, 21, 5, 42, 180, 0, 255]
abbrev dktX4_bench_4 : List UInt8 := dkwX4_bench_4 ++ dktX4_bench_5
def dkwX4_bench_3 : List UInt8 := [181, 0, 85, 42, 29, 181, 0, 232, 42, 21, 4, 181, 0, 229, 42, 3, 27, 2, 182, 1, 19, 42]
abbrev dktX4_bench_3 : List UInt8 := dkwX4_bench_3 ++ dktX4_bench_4
def dkwX4_bench_2 : List UInt8 := [153, 0, 8, 28, 29, 160, 0, 7, 4, 167, 0, 4, 3, 5, 182, 0, 170, 153, 0, 5, 3, 172, 42, 28]
abbrev dktX4_bench_2 : List UInt8 := dkwX4_bench_2 ++ dktX4_bench_3
def dkwX4_bench_1 : List UInt8 := [154, 0, 43, 42, 28, 3, 21, 4, 5, 182, 0, 238, 154, 0, 31, 42, 29, 3, 16, 9, 184, 0, 128]
abbrev dktX4_bench_1 : List UInt8 := dkwX4_bench_1 ++ dktX4_bench_2
def dkwX4_bench_0 : List UInt8 := [42, 3, 181, 0, 94, 42, 42, 27, 182, 0, 235, 154, 0, 7, 4, 167, 0, 4, 3, 4, 182, 0, 170]
abbrev dktX4_bench_0 : List UInt8 := dkwX4_bench_0 ++ dktX4_bench_1
theorem dksX4_bench_0 : cX4_bench.data.toList.drop 0 = dktX4_bench_0 := by decide +kernel
theorem dksX4_bench_1 : cX4_bench.data.toList.drop 23 = dktX4_bench_1 := dk_seg dksX4_bench_0 23 rfl rfl
theorem dksX4_bench_2 : cX4_bench.data.toList.drop 46 = dktX4_bench_2 := dk_seg dksX4_bench_1 23 rfl rfl
theorem dksX4_bench_3 : cX4_bench.data.toList.drop 70 = dktX4_bench_3 := dk_seg dksX4_bench_2 24 rfl rfl
theorem dksX4_bench_4 : cX4_bench.data.toList.drop 92 = dktX4_bench_4 := dk_seg dksX4_bench_3 22 rfl rfl
theorem dksX4_bench_5 : cX4_bench.data.toList.drop 115 = dktX4_bench_5 := dk_seg dksX4_bench_4 23 rfl rfl
theorem dX4_bench_0 : decode cX4_bench 0 = .ok (.aload_n 0, 1) := dk_42 (dk_at dksX4_bench_0 0 rfl rfl)
theorem dX4_bench_1 : decode cX4_bench 1 = .ok (.iconst 0, 1) := dk_3 (dk_at dksX4_bench_0 1 rfl rfl)
theorem dX4_bench_2 : decode cX4_bench 2 = .ok (.putfield 94, 3) := dk_181 0 94 (dk_at dksX4_bench_0 2 rfl rfl)
theorem dX4_bench_5 : decode cX4_bench 5 = .ok (.aload_n 0, 1) := dk_42 (dk_at dksX4_bench_0 5 rfl rfl)
theorem dX4_bench_6 : decode cX4_bench 6 = .ok (.aload_n 0, 1) := dk_42 (dk_at dksX4_bench_0 6 rfl rfl)
theorem dX4_bench_7 : decode cX4_bench 7 = .ok (.iload_n 1, 1) := dk_27 (dk_at dksX4_bench_0 7 rfl rfl)
theorem dX4_bench_8 : decode cX4_bench 8 = .ok (.invokevirtual 235, 3) := dk_182 0 235 (dk_at dksX4_bench_0 8 rfl rfl)
theorem dX4_bench_11 : decode cX4_bench 11 = .ok (.ifCond .ne 7, 3) := dk_154 0 7 (dk_at dksX4_bench_0 11 rfl rfl)
theorem dX4_bench_14 : decode cX4_bench 14 = .ok (.iconst 1, 1) := dk_4 (dk_at dksX4_bench_0 14 rfl rfl)
theorem dX4_bench_15 : decode cX4_bench 15 = .ok (.goto 4, 3) := dk_167 0 4 (dk_at dksX4_bench_0 15 rfl rfl)
theorem dX4_bench_18 : decode cX4_bench 18 = .ok (.iconst 0, 1) := dk_3 (dk_at dksX4_bench_0 18 rfl rfl)
theorem dX4_bench_19 : decode cX4_bench 19 = .ok (.iconst 1, 1) := dk_4 (dk_at dksX4_bench_0 19 rfl rfl)
theorem dX4_bench_20 : decode cX4_bench 20 = .ok (.invokevirtual 170, 3) := dk_182 0 170 (dk_at dksX4_bench_0 20 rfl rfl)
theorem dX4_bench_23 : decode cX4_bench 23 = .ok (.ifCond .ne 43, 3) := dk_154 0 43 (dk_at dksX4_bench_1 0 rfl rfl)
theorem dX4_bench_26 : decode cX4_bench 26 = .ok (.aload_n 0, 1) := dk_42 (dk_at dksX4_bench_1 3 rfl rfl)
theorem dX4_bench_27 : decode cX4_bench 27 = .ok (.iload_n 2, 1) := dk_28 (dk_at dksX4_bench_1 4 rfl rfl)
theorem dX4_bench_28 : decode cX4_bench 28 = .ok (.iconst 0, 1) := dk_3 (dk_at dksX4_bench_1 5 rfl rfl)
theorem dX4_bench_29 : decode cX4_bench 29 = .ok (.iload 4, 2) := dk_21 4 (dk_at dksX4_bench_1 6 rfl rfl)
theorem dX4_bench_31 : decode cX4_bench 31 = .ok (.iconst 2, 1) := dk_5 (dk_at dksX4_bench_1 8 rfl rfl)
theorem dX4_bench_32 : decode cX4_bench 32 = .ok (.invokevirtual 238, 3) := dk_182 0 238 (dk_at dksX4_bench_1 9 rfl rfl)
theorem dX4_bench_35 : decode cX4_bench 35 = .ok (.ifCond .ne 31, 3) := dk_154 0 31 (dk_at dksX4_bench_1 12 rfl rfl)
theorem dX4_bench_38 : decode cX4_bench 38 = .ok (.aload_n 0, 1) := dk_42 (dk_at dksX4_bench_1 15 rfl rfl)
theorem dX4_bench_39 : decode cX4_bench 39 = .ok (.iload_n 3, 1) := dk_29 (dk_at dksX4_bench_1 16 rfl rfl)
theorem dX4_bench_40 : decode cX4_bench 40 = .ok (.iconst 0, 1) := dk_3 (dk_at dksX4_bench_1 17 rfl rfl)
theorem dX4_bench_41 : decode cX4_bench 41 = .ok (.bipush 9, 2) := dk_16 9 (dk_at dksX4_bench_1 18 rfl rfl)
theorem dX4_bench_43 : decode cX4_bench 43 = .ok (.invokestatic 128, 3) := dk_184 0 128 (dk_at dksX4_bench_1 20 rfl rfl)
theorem dX4_bench_46 : decode cX4_bench 46 = .ok (.ifCond .eq 8, 3) := dk_153 0 8 (dk_at dksX4_bench_2 0 rfl rfl)
theorem dX4_bench_49 : decode cX4_bench 49 = .ok (.iload_n 2, 1) := dk_28 (dk_at dksX4_bench_2 3 rfl rfl)
theorem dX4_bench_50 : decode cX4_bench 50 = .ok (.iload_n 3, 1) := dk_29 (dk_at dksX4_bench_2 4 rfl rfl)
theorem dX4_bench_51 : decode cX4_bench 51 = .ok (.if_icmp .ne 7, 3) := dk_160 0 7 (dk_at dksX4_bench_2 5 rfl rfl)
theorem dX4_bench_54 : decode cX4_bench 54 = .ok (.iconst 1, 1) := dk_4 (dk_at dksX4_bench_2 8 rfl rfl)
theorem dX4_bench_55 : decode cX4_bench 55 = .ok (.goto 4, 3) := dk_167 0 4 (dk_at dksX4_bench_2 9 rfl rfl)
theorem dX4_bench_58 : decode cX4_bench 58 = .ok (.iconst 0, 1) := dk_3 (dk_at dksX4_bench_2 12 rfl rfl)
theorem dX4_bench_59 : decode cX4_bench 59 = .ok (.iconst 2, 1) := dk_5 (dk_at dksX4_bench_2 13 rfl rfl)
theorem dX4_bench_60 : decode cX4_bench 60 = .ok (.invokevirtual 170, 3) := dk_182 0 170 (dk_at dksX4_bench_2 14 rfl rfl)
theorem dX4_bench_63 : decode cX4_bench 63 = .ok (.ifCond .eq 5, 3) := dk_153 0 5 (dk_at dksX4_bench_2 17 rfl rfl)
theorem dX4_bench_66 : decode cX4_bench 66 = .ok (.iconst 0, 1) := dk_3 (dk_at dksX4_bench_2 20 rfl rfl)
theorem dX4_bench_67 : decode cX4_bench 67 = .ok (.ireturn, 1) := dk_172 (dk_at dksX4_bench_2 21 rfl rfl)
theorem dX4_bench_68 : decode cX4_bench 68 = .ok (.aload_n 0, 1) := dk_42 (dk_at dksX4_bench_2 22 rfl rfl)
theorem dX4_bench_69 : decode cX4_bench 69 = .ok (.iload_n 2, 1) := dk_28 (dk_at dksX4_bench_2 23 rfl rfl)
theorem dX4_bench_70 : decode cX4_bench 70 = .ok (.putfield 85, 3) := dk_181 0 85 (dk_at dksX4_bench_3 0 rfl rfl)
theorem dX4_bench_73 : decode cX4_bench 73 = .ok (.aload_n 0, 1) := dk_42 (dk_at dksX4_bench_3 3 rfl rfl)
theorem dX4_bench_74 : decode cX4_bench 74 = .ok (.iload_n 3, 1) := dk_29 (dk_at dksX4_bench_3 4 rfl rfl)
theorem dX4_bench_75 : decode cX4_bench 75 = .ok (.putfield 232, 3) := dk_181 0 232 (dk_at dksX4_bench_3 5 rfl rfl)
theorem dX4_bench_78 : decode cX4_bench 78 = .ok (.aload_n 0, 1) := dk_42 (dk_at dksX4_bench_3 8 rfl rfl)
theorem dX4_bench_79 : decode cX4_bench 79 = .ok (.iload 4, 2) := dk_21 4 (dk_at dksX4_bench_3 9 rfl rfl)
theorem dX4_bench_81 : decode cX4_bench 81 = .ok (.putfield 229, 3) := dk_181 0 229 (dk_at dksX4_bench_3 11 rfl rfl)
theorem dX4_bench_84 : decode cX4_bench 84 = .ok (.aload_n 0, 1) := dk_42 (dk_at dksX4_bench_3 14 rfl rfl)
theorem dX4_bench_85 : decode cX4_bench 85 = .ok (.iconst 0, 1) := dk_3 (dk_at dksX4_bench_3 15 rfl rfl)
theorem dX4_bench_86 : decode cX4_bench 86 = .ok (.iload_n 1, 1) := dk_27 (dk_at dksX4_bench_3 16 rfl rfl)
theorem dX4_bench_87 : decode cX4_bench 87 = .ok (.iconst (-1), 1) := dk_2 (dk_at dksX4_bench_3 17 rfl rfl)
theorem dX4_bench_88 : decode cX4_bench 88 = .ok (.invokevirtual 275, 3) := dk_182 1 19 (dk_at dksX4_bench_3 18 rfl rfl)
theorem dX4_bench_91 : decode cX4_bench 91 = .ok (.aload_n 0, 1) := dk_42 (dk_at dksX4_bench_3 21 rfl rfl)
theorem dX4_bench_92 : decode cX4_bench 92 = .ok (.getfield 255, 3) := dk_180 0 255 (dk_at dksX4_bench_4 0 rfl rfl)
theorem dX4_bench_95 : decode cX4_bench 95 = .ok (.istore 5, 2) := dk_54 5 (dk_at dksX4_bench_4 3 rfl rfl)
theorem dX4_bench_97 : decode cX4_bench 97 = .ok (.aload_n 0, 1) := dk_42 (dk_at dksX4_bench_4 5 rfl rfl)
theorem dX4_bench_98 : decode cX4_bench 98 = .ok (.invokevirtual 293, 3) := dk_182 1 37 (dk_at dksX4_bench_4 6 rfl rfl)
theorem dX4_bench_101 : decode cX4_bench 101 = .ok (.aload_n 0, 1) := dk_42 (dk_at dksX4_bench_4 9 rfl rfl)
theorem dX4_bench_102 : decode cX4_bench 102 = .ok (.iconst 1, 1) := dk_4 (dk_at dksX4_bench_4 10 rfl rfl)
theorem dX4_bench_103 : decode cX4_bench 103 = .ok (.iload_n 1, 1) := dk_27 (dk_at dksX4_bench_4 11 rfl rfl)
theorem dX4_bench_104 : decode cX4_bench 104 = .ok (.iconst (-1), 1) := dk_2 (dk_at dksX4_bench_4 12 rfl rfl)
theorem dX4_bench_105 : decode cX4_bench 105 = .ok (.invokevirtual 275, 3) := dk_182 1 19 (dk_at dksX4_bench_4 13 rfl rfl)
theorem dX4_bench_108 : decode cX4_bench 108 = .ok (.aload_n 0, 1) := dk_42 (dk_at dksX4_bench_4 16 rfl rfl)
theorem dX4_bench_109 : decode cX4_bench 109 = .ok (.iload 5, 2) := dk_21 5 (dk_at dksX4_bench_4 17 rfl rfl)
theorem dX4_bench_111 : decode cX4_bench 111 = .ok (.aload_n 0, 1) := dk_42 (dk_at dksX4_bench_4 19 rfl rfl)
theorem dX4_bench_112 : decode cX4_bench 112 = .ok (.getfield 255, 3) := dk_180 0 255 (dk_at dksX4_bench_4 20 rfl rfl)
theorem dX4_bench_115 : decode cX4_bench 115 = .ok (.invokevirtual 281, 3) := dk_182 1 25 (dk_at dksX4_bench_5 0 rfl rfl)
theorem dX4_bench_118 : decode cX4_bench 118 = .ok (.aload_n 0, 1) := dk_42 (dk_at dksX4_bench_5 3 rfl rfl)
theorem dX4_bench_119 : decode cX4_bench 119 = .ok (.invokevirtual 287, 3) := dk_182 1 31 (dk_at dksX4_bench_5 4 rfl rfl)
theorem dX4_bench_122 : decode cX4_bench 122 = .ok (.ireturn, 1) := dk_172 (dk_at dksX4_bench_5 7 rfl rfl)
abbrev cX4_after : ByteArray := prog_16_method_69_code
def yX4_after : MethodName := ⟨RX4, "after", "(IIIZ)I"⟩
def dkwX4_after_8 : List UInt8 := [172]
abbrev dktX4_after_8 : List UInt8 := dkwX4_after_8 ++ []
def dkwX4_after_7 : List UInt8 := [184, 0, 128, 153, 0, 20, 42, 21, 8, 27, 29, 182, 1, 40, 28, 160, 0, 8, 21, 8, 167, 0, 4, 2]
abbrev dktX4_after_7 : List UInt8 := dkwX4_after_7 ++ dktX4_after_8
def dkwX4_after_6 : List UInt8 := [21, 4, 153, 0, 10, 21, 5, 4, 100, 167, 0, 5, 21, 5, 54, 8, 21, 8, 3, 19, 1, 43]
abbrev dktX4_after_6 : List UInt8 := dkwX4_after_6 ++ dktX4_after_7
def dkwX4_after_5 : List UInt8 := [182, 1, 40, 21, 7, 161, 0, 10, 21, 8, 54, 6, 167, 0, 9, 21, 8, 4, 96, 54, 5, 167, 255, 214]
abbrev dktX4_after_5 : List UInt8 := dkwX4_after_5 ++ dktX4_after_6
def dkwX4_after_4 : List UInt8 := [54, 7, 21, 5, 21, 6, 162, 0, 41, 21, 5, 21, 6, 96, 5, 108, 54, 8, 42, 21, 8, 27, 29]
abbrev dktX4_after_4 : List UInt8 := dkwX4_after_4 ++ dktX4_after_5
def dkwX4_after_3 : List UInt8 := [153, 0, 5, 3, 172, 3, 54, 5, 18, 127, 54, 6, 21, 4, 153, 0, 9, 28, 4, 96, 167, 0, 4, 28]
abbrev dktX4_after_3 : List UInt8 := dkwX4_after_3 ++ dktX4_after_4
def dkwX4_after_2 : List UInt8 := [154, 0, 25, 42, 42, 180, 0, 25, 27, 46, 154, 0, 7, 4, 167, 0, 4, 3, 4, 182, 0, 170]
abbrev dktX4_after_2 : List UInt8 := dkwX4_after_2 ++ dktX4_after_3
def dkwX4_after_1 : List UInt8 := [153, 0, 13, 29, 3, 16, 60, 184, 0, 128, 154, 0, 7, 4, 167, 0, 4, 3, 4, 182, 0, 170]
abbrev dktX4_after_1 : List UInt8 := dkwX4_after_1 ++ dktX4_after_2
def dkwX4_after_0 : List UInt8 := [42, 3, 181, 0, 94, 42, 27, 3, 16, 9, 184, 0, 128, 153, 0, 24, 28, 3, 17, 39, 15, 184, 0, 128]
abbrev dktX4_after_0 : List UInt8 := dkwX4_after_0 ++ dktX4_after_1
theorem dksX4_after_0 : cX4_after.data.toList.drop 0 = dktX4_after_0 := by decide +kernel
theorem dksX4_after_1 : cX4_after.data.toList.drop 24 = dktX4_after_1 := dk_seg dksX4_after_0 24 rfl rfl
theorem dksX4_after_2 : cX4_after.data.toList.drop 46 = dktX4_after_2 := dk_seg dksX4_after_1 22 rfl rfl
theorem dksX4_after_3 : cX4_after.data.toList.drop 68 = dktX4_after_3 := dk_seg dksX4_after_2 22 rfl rfl
theorem dksX4_after_4 : cX4_after.data.toList.drop 92 = dktX4_after_4 := dk_seg dksX4_after_3 24 rfl rfl
theorem dksX4_after_5 : cX4_after.data.toList.drop 115 = dktX4_after_5 := dk_seg dksX4_after_4 23 rfl rfl
theorem dksX4_after_6 : cX4_after.data.toList.drop 139 = dktX4_after_6 := dk_seg dksX4_after_5 24 rfl rfl
theorem dksX4_after_7 : cX4_after.data.toList.drop 161 = dktX4_after_7 := dk_seg dksX4_after_6 22 rfl rfl
theorem dksX4_after_8 : cX4_after.data.toList.drop 185 = dktX4_after_8 := dk_seg dksX4_after_7 24 rfl rfl
theorem dX4_after_0 : decode cX4_after 0 = .ok (.aload_n 0, 1) := dk_42 (dk_at dksX4_after_0 0 rfl rfl)
theorem dX4_after_1 : decode cX4_after 1 = .ok (.iconst 0, 1) := dk_3 (dk_at dksX4_after_0 1 rfl rfl)
theorem dX4_after_2 : decode cX4_after 2 = .ok (.putfield 94, 3) := dk_181 0 94 (dk_at dksX4_after_0 2 rfl rfl)
theorem dX4_after_5 : decode cX4_after 5 = .ok (.aload_n 0, 1) := dk_42 (dk_at dksX4_after_0 5 rfl rfl)
theorem dX4_after_6 : decode cX4_after 6 = .ok (.iload_n 1, 1) := dk_27 (dk_at dksX4_after_0 6 rfl rfl)
theorem dX4_after_7 : decode cX4_after 7 = .ok (.iconst 0, 1) := dk_3 (dk_at dksX4_after_0 7 rfl rfl)
theorem dX4_after_8 : decode cX4_after 8 = .ok (.bipush 9, 2) := dk_16 9 (dk_at dksX4_after_0 8 rfl rfl)
theorem dX4_after_10 : decode cX4_after 10 = .ok (.invokestatic 128, 3) := dk_184 0 128 (dk_at dksX4_after_0 10 rfl rfl)
theorem dX4_after_13 : decode cX4_after 13 = .ok (.ifCond .eq 24, 3) := dk_153 0 24 (dk_at dksX4_after_0 13 rfl rfl)
theorem dX4_after_16 : decode cX4_after 16 = .ok (.iload_n 2, 1) := dk_28 (dk_at dksX4_after_0 16 rfl rfl)
theorem dX4_after_17 : decode cX4_after 17 = .ok (.iconst 0, 1) := dk_3 (dk_at dksX4_after_0 17 rfl rfl)
theorem dX4_after_18 : decode cX4_after 18 = .ok (.sipush 9999, 3) := dk_17 39 15 (dk_at dksX4_after_0 18 rfl rfl)
theorem dX4_after_21 : decode cX4_after 21 = .ok (.invokestatic 128, 3) := dk_184 0 128 (dk_at dksX4_after_0 21 rfl rfl)
theorem dX4_after_24 : decode cX4_after 24 = .ok (.ifCond .eq 13, 3) := dk_153 0 13 (dk_at dksX4_after_1 0 rfl rfl)
theorem dX4_after_27 : decode cX4_after 27 = .ok (.iload_n 3, 1) := dk_29 (dk_at dksX4_after_1 3 rfl rfl)
theorem dX4_after_28 : decode cX4_after 28 = .ok (.iconst 0, 1) := dk_3 (dk_at dksX4_after_1 4 rfl rfl)
theorem dX4_after_29 : decode cX4_after 29 = .ok (.bipush 60, 2) := dk_16 60 (dk_at dksX4_after_1 5 rfl rfl)
theorem dX4_after_31 : decode cX4_after 31 = .ok (.invokestatic 128, 3) := dk_184 0 128 (dk_at dksX4_after_1 7 rfl rfl)
theorem dX4_after_34 : decode cX4_after 34 = .ok (.ifCond .ne 7, 3) := dk_154 0 7 (dk_at dksX4_after_1 10 rfl rfl)
theorem dX4_after_37 : decode cX4_after 37 = .ok (.iconst 1, 1) := dk_4 (dk_at dksX4_after_1 13 rfl rfl)
theorem dX4_after_38 : decode cX4_after 38 = .ok (.goto 4, 3) := dk_167 0 4 (dk_at dksX4_after_1 14 rfl rfl)
theorem dX4_after_41 : decode cX4_after 41 = .ok (.iconst 0, 1) := dk_3 (dk_at dksX4_after_1 17 rfl rfl)
theorem dX4_after_42 : decode cX4_after 42 = .ok (.iconst 1, 1) := dk_4 (dk_at dksX4_after_1 18 rfl rfl)
theorem dX4_after_43 : decode cX4_after 43 = .ok (.invokevirtual 170, 3) := dk_182 0 170 (dk_at dksX4_after_1 19 rfl rfl)
theorem dX4_after_46 : decode cX4_after 46 = .ok (.ifCond .ne 25, 3) := dk_154 0 25 (dk_at dksX4_after_2 0 rfl rfl)
theorem dX4_after_49 : decode cX4_after 49 = .ok (.aload_n 0, 1) := dk_42 (dk_at dksX4_after_2 3 rfl rfl)
theorem dX4_after_50 : decode cX4_after 50 = .ok (.aload_n 0, 1) := dk_42 (dk_at dksX4_after_2 4 rfl rfl)
theorem dX4_after_51 : decode cX4_after 51 = .ok (.getfield 25, 3) := dk_180 0 25 (dk_at dksX4_after_2 5 rfl rfl)
theorem dX4_after_54 : decode cX4_after 54 = .ok (.iload_n 1, 1) := dk_27 (dk_at dksX4_after_2 8 rfl rfl)
theorem dX4_after_55 : decode cX4_after 55 = .ok (.iaload, 1) := dk_46 (dk_at dksX4_after_2 9 rfl rfl)
theorem dX4_after_56 : decode cX4_after 56 = .ok (.ifCond .ne 7, 3) := dk_154 0 7 (dk_at dksX4_after_2 10 rfl rfl)
theorem dX4_after_59 : decode cX4_after 59 = .ok (.iconst 1, 1) := dk_4 (dk_at dksX4_after_2 13 rfl rfl)
theorem dX4_after_60 : decode cX4_after 60 = .ok (.goto 4, 3) := dk_167 0 4 (dk_at dksX4_after_2 14 rfl rfl)
theorem dX4_after_63 : decode cX4_after 63 = .ok (.iconst 0, 1) := dk_3 (dk_at dksX4_after_2 17 rfl rfl)
theorem dX4_after_64 : decode cX4_after 64 = .ok (.iconst 1, 1) := dk_4 (dk_at dksX4_after_2 18 rfl rfl)
theorem dX4_after_65 : decode cX4_after 65 = .ok (.invokevirtual 170, 3) := dk_182 0 170 (dk_at dksX4_after_2 19 rfl rfl)
theorem dX4_after_68 : decode cX4_after 68 = .ok (.ifCond .eq 5, 3) := dk_153 0 5 (dk_at dksX4_after_3 0 rfl rfl)
theorem dX4_after_71 : decode cX4_after 71 = .ok (.iconst 0, 1) := dk_3 (dk_at dksX4_after_3 3 rfl rfl)
theorem dX4_after_72 : decode cX4_after 72 = .ok (.ireturn, 1) := dk_172 (dk_at dksX4_after_3 4 rfl rfl)
theorem dX4_after_73 : decode cX4_after 73 = .ok (.iconst 0, 1) := dk_3 (dk_at dksX4_after_3 5 rfl rfl)
theorem dX4_after_74 : decode cX4_after 74 = .ok (.istore 5, 2) := dk_54 5 (dk_at dksX4_after_3 6 rfl rfl)
theorem dX4_after_76 : decode cX4_after 76 = .ok (.ldc 127, 2) := dk_18 127 (dk_at dksX4_after_3 8 rfl rfl)
theorem dX4_after_78 : decode cX4_after 78 = .ok (.istore 6, 2) := dk_54 6 (dk_at dksX4_after_3 10 rfl rfl)
theorem dX4_after_80 : decode cX4_after 80 = .ok (.iload 4, 2) := dk_21 4 (dk_at dksX4_after_3 12 rfl rfl)
theorem dX4_after_82 : decode cX4_after 82 = .ok (.ifCond .eq 9, 3) := dk_153 0 9 (dk_at dksX4_after_3 14 rfl rfl)
theorem dX4_after_85 : decode cX4_after 85 = .ok (.iload_n 2, 1) := dk_28 (dk_at dksX4_after_3 17 rfl rfl)
theorem dX4_after_86 : decode cX4_after 86 = .ok (.iconst 1, 1) := dk_4 (dk_at dksX4_after_3 18 rfl rfl)
theorem dX4_after_87 : decode cX4_after 87 = .ok (.iadd, 1) := dk_96 (dk_at dksX4_after_3 19 rfl rfl)
theorem dX4_after_88 : decode cX4_after 88 = .ok (.goto 4, 3) := dk_167 0 4 (dk_at dksX4_after_3 20 rfl rfl)
theorem dX4_after_91 : decode cX4_after 91 = .ok (.iload_n 2, 1) := dk_28 (dk_at dksX4_after_3 23 rfl rfl)
theorem dX4_after_92 : decode cX4_after 92 = .ok (.istore 7, 2) := dk_54 7 (dk_at dksX4_after_4 0 rfl rfl)
theorem dX4_after_94 : decode cX4_after 94 = .ok (.iload 5, 2) := dk_21 5 (dk_at dksX4_after_4 2 rfl rfl)
theorem dX4_after_96 : decode cX4_after 96 = .ok (.iload 6, 2) := dk_21 6 (dk_at dksX4_after_4 4 rfl rfl)
theorem dX4_after_98 : decode cX4_after 98 = .ok (.if_icmp .ge 41, 3) := dk_162 0 41 (dk_at dksX4_after_4 6 rfl rfl)
theorem dX4_after_101 : decode cX4_after 101 = .ok (.iload 5, 2) := dk_21 5 (dk_at dksX4_after_4 9 rfl rfl)
theorem dX4_after_103 : decode cX4_after 103 = .ok (.iload 6, 2) := dk_21 6 (dk_at dksX4_after_4 11 rfl rfl)
theorem dX4_after_105 : decode cX4_after 105 = .ok (.iadd, 1) := dk_96 (dk_at dksX4_after_4 13 rfl rfl)
theorem dX4_after_106 : decode cX4_after 106 = .ok (.iconst 2, 1) := dk_5 (dk_at dksX4_after_4 14 rfl rfl)
theorem dX4_after_107 : decode cX4_after 107 = .ok (.idiv, 1) := dk_108 (dk_at dksX4_after_4 15 rfl rfl)
theorem dX4_after_108 : decode cX4_after 108 = .ok (.istore 8, 2) := dk_54 8 (dk_at dksX4_after_4 16 rfl rfl)
theorem dX4_after_110 : decode cX4_after 110 = .ok (.aload_n 0, 1) := dk_42 (dk_at dksX4_after_4 18 rfl rfl)
theorem dX4_after_111 : decode cX4_after 111 = .ok (.iload 8, 2) := dk_21 8 (dk_at dksX4_after_4 19 rfl rfl)
theorem dX4_after_113 : decode cX4_after 113 = .ok (.iload_n 1, 1) := dk_27 (dk_at dksX4_after_4 21 rfl rfl)
theorem dX4_after_114 : decode cX4_after 114 = .ok (.iload_n 3, 1) := dk_29 (dk_at dksX4_after_4 22 rfl rfl)
theorem dX4_after_115 : decode cX4_after 115 = .ok (.invokevirtual 296, 3) := dk_182 1 40 (dk_at dksX4_after_5 0 rfl rfl)
theorem dX4_after_118 : decode cX4_after 118 = .ok (.iload 7, 2) := dk_21 7 (dk_at dksX4_after_5 3 rfl rfl)
theorem dX4_after_120 : decode cX4_after 120 = .ok (.if_icmp .lt 10, 3) := dk_161 0 10 (dk_at dksX4_after_5 5 rfl rfl)
theorem dX4_after_123 : decode cX4_after 123 = .ok (.iload 8, 2) := dk_21 8 (dk_at dksX4_after_5 8 rfl rfl)
theorem dX4_after_125 : decode cX4_after 125 = .ok (.istore 6, 2) := dk_54 6 (dk_at dksX4_after_5 10 rfl rfl)
theorem dX4_after_127 : decode cX4_after 127 = .ok (.goto 9, 3) := dk_167 0 9 (dk_at dksX4_after_5 12 rfl rfl)
theorem dX4_after_130 : decode cX4_after 130 = .ok (.iload 8, 2) := dk_21 8 (dk_at dksX4_after_5 15 rfl rfl)
theorem dX4_after_132 : decode cX4_after 132 = .ok (.iconst 1, 1) := dk_4 (dk_at dksX4_after_5 17 rfl rfl)
theorem dX4_after_133 : decode cX4_after 133 = .ok (.iadd, 1) := dk_96 (dk_at dksX4_after_5 18 rfl rfl)
theorem dX4_after_134 : decode cX4_after 134 = .ok (.istore 5, 2) := dk_54 5 (dk_at dksX4_after_5 19 rfl rfl)
theorem dX4_after_136 : decode cX4_after 136 = .ok (.goto (-42), 3) := dk_167 255 214 (dk_at dksX4_after_5 21 rfl rfl)
theorem dX4_after_139 : decode cX4_after 139 = .ok (.iload 4, 2) := dk_21 4 (dk_at dksX4_after_6 0 rfl rfl)
theorem dX4_after_141 : decode cX4_after 141 = .ok (.ifCond .eq 10, 3) := dk_153 0 10 (dk_at dksX4_after_6 2 rfl rfl)
theorem dX4_after_144 : decode cX4_after 144 = .ok (.iload 5, 2) := dk_21 5 (dk_at dksX4_after_6 5 rfl rfl)
theorem dX4_after_146 : decode cX4_after 146 = .ok (.iconst 1, 1) := dk_4 (dk_at dksX4_after_6 7 rfl rfl)
theorem dX4_after_147 : decode cX4_after 147 = .ok (.isub, 1) := dk_100 (dk_at dksX4_after_6 8 rfl rfl)
theorem dX4_after_148 : decode cX4_after 148 = .ok (.goto 5, 3) := dk_167 0 5 (dk_at dksX4_after_6 9 rfl rfl)
theorem dX4_after_151 : decode cX4_after 151 = .ok (.iload 5, 2) := dk_21 5 (dk_at dksX4_after_6 12 rfl rfl)
theorem dX4_after_153 : decode cX4_after 153 = .ok (.istore 8, 2) := dk_54 8 (dk_at dksX4_after_6 14 rfl rfl)
theorem dX4_after_155 : decode cX4_after 155 = .ok (.iload 8, 2) := dk_21 8 (dk_at dksX4_after_6 16 rfl rfl)
theorem dX4_after_157 : decode cX4_after 157 = .ok (.iconst 0, 1) := dk_3 (dk_at dksX4_after_6 18 rfl rfl)
theorem dX4_after_158 : decode cX4_after 158 = .ok (.ldc_w 299, 3) := dk_19 1 43 (dk_at dksX4_after_6 19 rfl rfl)
theorem dX4_after_161 : decode cX4_after 161 = .ok (.invokestatic 128, 3) := dk_184 0 128 (dk_at dksX4_after_7 0 rfl rfl)
theorem dX4_after_164 : decode cX4_after 164 = .ok (.ifCond .eq 20, 3) := dk_153 0 20 (dk_at dksX4_after_7 3 rfl rfl)
theorem dX4_after_167 : decode cX4_after 167 = .ok (.aload_n 0, 1) := dk_42 (dk_at dksX4_after_7 6 rfl rfl)
theorem dX4_after_168 : decode cX4_after 168 = .ok (.iload 8, 2) := dk_21 8 (dk_at dksX4_after_7 7 rfl rfl)
theorem dX4_after_170 : decode cX4_after 170 = .ok (.iload_n 1, 1) := dk_27 (dk_at dksX4_after_7 9 rfl rfl)
theorem dX4_after_171 : decode cX4_after 171 = .ok (.iload_n 3, 1) := dk_29 (dk_at dksX4_after_7 10 rfl rfl)
theorem dX4_after_172 : decode cX4_after 172 = .ok (.invokevirtual 296, 3) := dk_182 1 40 (dk_at dksX4_after_7 11 rfl rfl)
theorem dX4_after_175 : decode cX4_after 175 = .ok (.iload_n 2, 1) := dk_28 (dk_at dksX4_after_7 14 rfl rfl)
theorem dX4_after_176 : decode cX4_after 176 = .ok (.if_icmp .ne 8, 3) := dk_160 0 8 (dk_at dksX4_after_7 15 rfl rfl)
theorem dX4_after_179 : decode cX4_after 179 = .ok (.iload 8, 2) := dk_21 8 (dk_at dksX4_after_7 18 rfl rfl)
theorem dX4_after_181 : decode cX4_after 181 = .ok (.goto 4, 3) := dk_167 0 4 (dk_at dksX4_after_7 20 rfl rfl)
theorem dX4_after_184 : decode cX4_after 184 = .ok (.iconst (-1), 1) := dk_2 (dk_at dksX4_after_7 23 rfl rfl)
theorem dX4_after_185 : decode cX4_after 185 = .ok (.ireturn, 1) := dk_172 (dk_at dksX4_after_8 0 rfl rfl)
abbrev cX4_leftBehind : ByteArray := prog_16_method_68_code
def yX4_leftBehind : MethodName := ⟨RX4, "leftBehind", "(III)I"⟩
def dkwX4_leftBehind_1 : List UInt8 := [54, 4, 132, 5, 1, 167, 255, 233, 21, 4, 172]
abbrev dktX4_leftBehind_1 : List UInt8 := dkwX4_leftBehind_1 ++ []
def dkwX4_leftBehind_0 : List UInt8 := [27, 54, 4, 3, 54, 5, 21, 5, 29, 162, 0, 23, 21, 4, 42, 180, 0, 25, 28, 46, 104, 16, 16, 108]
abbrev dktX4_leftBehind_0 : List UInt8 := dkwX4_leftBehind_0 ++ dktX4_leftBehind_1
theorem dksX4_leftBehind_0 : cX4_leftBehind.data.toList.drop 0 = dktX4_leftBehind_0 := by decide +kernel
theorem dksX4_leftBehind_1 : cX4_leftBehind.data.toList.drop 24 = dktX4_leftBehind_1 := dk_seg dksX4_leftBehind_0 24 rfl rfl
theorem dX4_leftBehind_0 : decode cX4_leftBehind 0 = .ok (.iload_n 1, 1) := dk_27 (dk_at dksX4_leftBehind_0 0 rfl rfl)
theorem dX4_leftBehind_1 : decode cX4_leftBehind 1 = .ok (.istore 4, 2) := dk_54 4 (dk_at dksX4_leftBehind_0 1 rfl rfl)
theorem dX4_leftBehind_3 : decode cX4_leftBehind 3 = .ok (.iconst 0, 1) := dk_3 (dk_at dksX4_leftBehind_0 3 rfl rfl)
theorem dX4_leftBehind_4 : decode cX4_leftBehind 4 = .ok (.istore 5, 2) := dk_54 5 (dk_at dksX4_leftBehind_0 4 rfl rfl)
theorem dX4_leftBehind_6 : decode cX4_leftBehind 6 = .ok (.iload 5, 2) := dk_21 5 (dk_at dksX4_leftBehind_0 6 rfl rfl)
theorem dX4_leftBehind_8 : decode cX4_leftBehind 8 = .ok (.iload_n 3, 1) := dk_29 (dk_at dksX4_leftBehind_0 8 rfl rfl)
theorem dX4_leftBehind_9 : decode cX4_leftBehind 9 = .ok (.if_icmp .ge 23, 3) := dk_162 0 23 (dk_at dksX4_leftBehind_0 9 rfl rfl)
theorem dX4_leftBehind_12 : decode cX4_leftBehind 12 = .ok (.iload 4, 2) := dk_21 4 (dk_at dksX4_leftBehind_0 12 rfl rfl)
theorem dX4_leftBehind_14 : decode cX4_leftBehind 14 = .ok (.aload_n 0, 1) := dk_42 (dk_at dksX4_leftBehind_0 14 rfl rfl)
theorem dX4_leftBehind_15 : decode cX4_leftBehind 15 = .ok (.getfield 25, 3) := dk_180 0 25 (dk_at dksX4_leftBehind_0 15 rfl rfl)
theorem dX4_leftBehind_18 : decode cX4_leftBehind 18 = .ok (.iload_n 2, 1) := dk_28 (dk_at dksX4_leftBehind_0 18 rfl rfl)
theorem dX4_leftBehind_19 : decode cX4_leftBehind 19 = .ok (.iaload, 1) := dk_46 (dk_at dksX4_leftBehind_0 19 rfl rfl)
theorem dX4_leftBehind_20 : decode cX4_leftBehind 20 = .ok (.imul, 1) := dk_104 (dk_at dksX4_leftBehind_0 20 rfl rfl)
theorem dX4_leftBehind_21 : decode cX4_leftBehind 21 = .ok (.bipush 16, 2) := dk_16 16 (dk_at dksX4_leftBehind_0 21 rfl rfl)
theorem dX4_leftBehind_23 : decode cX4_leftBehind 23 = .ok (.idiv, 1) := dk_108 (dk_at dksX4_leftBehind_0 23 rfl rfl)
theorem dX4_leftBehind_24 : decode cX4_leftBehind 24 = .ok (.istore 4, 2) := dk_54 4 (dk_at dksX4_leftBehind_1 0 rfl rfl)
theorem dX4_leftBehind_26 : decode cX4_leftBehind 26 = .ok (.iinc 5 1, 3) := dk_132 5 1 (dk_at dksX4_leftBehind_1 2 rfl rfl)
theorem dX4_leftBehind_29 : decode cX4_leftBehind 29 = .ok (.goto (-23), 3) := dk_167 255 233 (dk_at dksX4_leftBehind_1 5 rfl rfl)
theorem dX4_leftBehind_32 : decode cX4_leftBehind 32 = .ok (.iload 4, 2) := dk_21 4 (dk_at dksX4_leftBehind_1 8 rfl rfl)
theorem dX4_leftBehind_34 : decode cX4_leftBehind 34 = .ok (.ireturn, 1) := dk_172 (dk_at dksX4_leftBehind_1 10 rfl rfl)
abbrev cX4_seat : ByteArray := prog_16_method_70_code
def yX4_seat : MethodName := ⟨RX4, "seat", "(I)I"⟩
def dkwX4_seat_2 : List UInt8 := [180, 1, 44, 27, 79, 42, 89, 180, 1, 44, 4, 96, 181, 1, 44, 42, 180, 1, 44, 172]
abbrev dktX4_seat_2 : List UInt8 := dkwX4_seat_2 ++ []
def dkwX4_seat_1 : List UInt8 := [182, 0, 170, 153, 0, 5, 3, 172, 42, 180, 1, 44, 16, 40, 160, 0, 5, 2, 172, 42, 180, 0, 58, 42]
abbrev dktX4_seat_1 : List UInt8 := dkwX4_seat_1 ++ dktX4_seat_2
def dkwX4_seat_0 : List UInt8 := [42, 3, 181, 0, 94, 42, 27, 3, 17, 3, 255, 184, 0, 128, 154, 0, 7, 4, 167, 0, 4, 3, 4]
abbrev dktX4_seat_0 : List UInt8 := dkwX4_seat_0 ++ dktX4_seat_1
theorem dksX4_seat_0 : cX4_seat.data.toList.drop 0 = dktX4_seat_0 := by decide +kernel
theorem dksX4_seat_1 : cX4_seat.data.toList.drop 23 = dktX4_seat_1 := dk_seg dksX4_seat_0 23 rfl rfl
theorem dksX4_seat_2 : cX4_seat.data.toList.drop 47 = dktX4_seat_2 := dk_seg dksX4_seat_1 24 rfl rfl
theorem dX4_seat_0 : decode cX4_seat 0 = .ok (.aload_n 0, 1) := dk_42 (dk_at dksX4_seat_0 0 rfl rfl)
theorem dX4_seat_1 : decode cX4_seat 1 = .ok (.iconst 0, 1) := dk_3 (dk_at dksX4_seat_0 1 rfl rfl)
theorem dX4_seat_2 : decode cX4_seat 2 = .ok (.putfield 94, 3) := dk_181 0 94 (dk_at dksX4_seat_0 2 rfl rfl)
theorem dX4_seat_5 : decode cX4_seat 5 = .ok (.aload_n 0, 1) := dk_42 (dk_at dksX4_seat_0 5 rfl rfl)
theorem dX4_seat_6 : decode cX4_seat 6 = .ok (.iload_n 1, 1) := dk_27 (dk_at dksX4_seat_0 6 rfl rfl)
theorem dX4_seat_7 : decode cX4_seat 7 = .ok (.iconst 0, 1) := dk_3 (dk_at dksX4_seat_0 7 rfl rfl)
theorem dX4_seat_8 : decode cX4_seat 8 = .ok (.sipush 1023, 3) := dk_17 3 255 (dk_at dksX4_seat_0 8 rfl rfl)
theorem dX4_seat_11 : decode cX4_seat 11 = .ok (.invokestatic 128, 3) := dk_184 0 128 (dk_at dksX4_seat_0 11 rfl rfl)
theorem dX4_seat_14 : decode cX4_seat 14 = .ok (.ifCond .ne 7, 3) := dk_154 0 7 (dk_at dksX4_seat_0 14 rfl rfl)
theorem dX4_seat_17 : decode cX4_seat 17 = .ok (.iconst 1, 1) := dk_4 (dk_at dksX4_seat_0 17 rfl rfl)
theorem dX4_seat_18 : decode cX4_seat 18 = .ok (.goto 4, 3) := dk_167 0 4 (dk_at dksX4_seat_0 18 rfl rfl)
theorem dX4_seat_21 : decode cX4_seat 21 = .ok (.iconst 0, 1) := dk_3 (dk_at dksX4_seat_0 21 rfl rfl)
theorem dX4_seat_22 : decode cX4_seat 22 = .ok (.iconst 1, 1) := dk_4 (dk_at dksX4_seat_0 22 rfl rfl)
theorem dX4_seat_23 : decode cX4_seat 23 = .ok (.invokevirtual 170, 3) := dk_182 0 170 (dk_at dksX4_seat_1 0 rfl rfl)
theorem dX4_seat_26 : decode cX4_seat 26 = .ok (.ifCond .eq 5, 3) := dk_153 0 5 (dk_at dksX4_seat_1 3 rfl rfl)
theorem dX4_seat_29 : decode cX4_seat 29 = .ok (.iconst 0, 1) := dk_3 (dk_at dksX4_seat_1 6 rfl rfl)
theorem dX4_seat_30 : decode cX4_seat 30 = .ok (.ireturn, 1) := dk_172 (dk_at dksX4_seat_1 7 rfl rfl)
theorem dX4_seat_31 : decode cX4_seat 31 = .ok (.aload_n 0, 1) := dk_42 (dk_at dksX4_seat_1 8 rfl rfl)
theorem dX4_seat_32 : decode cX4_seat 32 = .ok (.getfield 300, 3) := dk_180 1 44 (dk_at dksX4_seat_1 9 rfl rfl)
theorem dX4_seat_35 : decode cX4_seat 35 = .ok (.bipush 40, 2) := dk_16 40 (dk_at dksX4_seat_1 12 rfl rfl)
theorem dX4_seat_37 : decode cX4_seat 37 = .ok (.if_icmp .ne 5, 3) := dk_160 0 5 (dk_at dksX4_seat_1 14 rfl rfl)
theorem dX4_seat_40 : decode cX4_seat 40 = .ok (.iconst (-1), 1) := dk_2 (dk_at dksX4_seat_1 17 rfl rfl)
theorem dX4_seat_41 : decode cX4_seat 41 = .ok (.ireturn, 1) := dk_172 (dk_at dksX4_seat_1 18 rfl rfl)
theorem dX4_seat_42 : decode cX4_seat 42 = .ok (.aload_n 0, 1) := dk_42 (dk_at dksX4_seat_1 19 rfl rfl)
theorem dX4_seat_43 : decode cX4_seat 43 = .ok (.getfield 58, 3) := dk_180 0 58 (dk_at dksX4_seat_1 20 rfl rfl)
theorem dX4_seat_46 : decode cX4_seat 46 = .ok (.aload_n 0, 1) := dk_42 (dk_at dksX4_seat_1 23 rfl rfl)
theorem dX4_seat_47 : decode cX4_seat 47 = .ok (.getfield 300, 3) := dk_180 1 44 (dk_at dksX4_seat_2 0 rfl rfl)
theorem dX4_seat_50 : decode cX4_seat 50 = .ok (.iload_n 1, 1) := dk_27 (dk_at dksX4_seat_2 3 rfl rfl)
theorem dX4_seat_51 : decode cX4_seat 51 = .ok (.iastore, 1) := dk_79 (dk_at dksX4_seat_2 4 rfl rfl)
theorem dX4_seat_52 : decode cX4_seat 52 = .ok (.aload_n 0, 1) := dk_42 (dk_at dksX4_seat_2 5 rfl rfl)
theorem dX4_seat_53 : decode cX4_seat 53 = .ok (.dup, 1) := dk_89 (dk_at dksX4_seat_2 6 rfl rfl)
theorem dX4_seat_54 : decode cX4_seat 54 = .ok (.getfield 300, 3) := dk_180 1 44 (dk_at dksX4_seat_2 7 rfl rfl)
theorem dX4_seat_57 : decode cX4_seat 57 = .ok (.iconst 1, 1) := dk_4 (dk_at dksX4_seat_2 10 rfl rfl)
theorem dX4_seat_58 : decode cX4_seat 58 = .ok (.iadd, 1) := dk_96 (dk_at dksX4_seat_2 11 rfl rfl)
theorem dX4_seat_59 : decode cX4_seat 59 = .ok (.putfield 300, 3) := dk_181 1 44 (dk_at dksX4_seat_2 12 rfl rfl)
theorem dX4_seat_62 : decode cX4_seat 62 = .ok (.aload_n 0, 1) := dk_42 (dk_at dksX4_seat_2 15 rfl rfl)
theorem dX4_seat_63 : decode cX4_seat 63 = .ok (.getfield 300, 3) := dk_180 1 44 (dk_at dksX4_seat_2 16 rfl rfl)
theorem dX4_seat_66 : decode cX4_seat 66 = .ok (.ireturn, 1) := dk_172 (dk_at dksX4_seat_2 19 rfl rfl)
abbrev cX4_share : ByteArray := prog_16_method_72_code
def yX4_share : MethodName := ⟨RX4, "share", "(I)I"⟩
def dkwX4_share_1 : List UInt8 := [182, 0, 170, 153, 0, 5, 3, 172, 42, 27, 27, 182, 1, 47, 172]
abbrev dktX4_share_1 : List UInt8 := dkwX4_share_1 ++ []
def dkwX4_share_0 : List UInt8 := [42, 3, 181, 0, 94, 42, 27, 3, 16, 9, 184, 0, 128, 154, 0, 7, 4, 167, 0, 4, 3, 4]
abbrev dktX4_share_0 : List UInt8 := dkwX4_share_0 ++ dktX4_share_1
theorem dksX4_share_0 : cX4_share.data.toList.drop 0 = dktX4_share_0 := by decide +kernel
theorem dksX4_share_1 : cX4_share.data.toList.drop 22 = dktX4_share_1 := dk_seg dksX4_share_0 22 rfl rfl
theorem dX4_share_0 : decode cX4_share 0 = .ok (.aload_n 0, 1) := dk_42 (dk_at dksX4_share_0 0 rfl rfl)
theorem dX4_share_1 : decode cX4_share 1 = .ok (.iconst 0, 1) := dk_3 (dk_at dksX4_share_0 1 rfl rfl)
theorem dX4_share_2 : decode cX4_share 2 = .ok (.putfield 94, 3) := dk_181 0 94 (dk_at dksX4_share_0 2 rfl rfl)
theorem dX4_share_5 : decode cX4_share 5 = .ok (.aload_n 0, 1) := dk_42 (dk_at dksX4_share_0 5 rfl rfl)
theorem dX4_share_6 : decode cX4_share 6 = .ok (.iload_n 1, 1) := dk_27 (dk_at dksX4_share_0 6 rfl rfl)
theorem dX4_share_7 : decode cX4_share 7 = .ok (.iconst 0, 1) := dk_3 (dk_at dksX4_share_0 7 rfl rfl)
theorem dX4_share_8 : decode cX4_share 8 = .ok (.bipush 9, 2) := dk_16 9 (dk_at dksX4_share_0 8 rfl rfl)
theorem dX4_share_10 : decode cX4_share 10 = .ok (.invokestatic 128, 3) := dk_184 0 128 (dk_at dksX4_share_0 10 rfl rfl)
theorem dX4_share_13 : decode cX4_share 13 = .ok (.ifCond .ne 7, 3) := dk_154 0 7 (dk_at dksX4_share_0 13 rfl rfl)
theorem dX4_share_16 : decode cX4_share 16 = .ok (.iconst 1, 1) := dk_4 (dk_at dksX4_share_0 16 rfl rfl)
theorem dX4_share_17 : decode cX4_share 17 = .ok (.goto 4, 3) := dk_167 0 4 (dk_at dksX4_share_0 17 rfl rfl)
theorem dX4_share_20 : decode cX4_share 20 = .ok (.iconst 0, 1) := dk_3 (dk_at dksX4_share_0 20 rfl rfl)
theorem dX4_share_21 : decode cX4_share 21 = .ok (.iconst 1, 1) := dk_4 (dk_at dksX4_share_0 21 rfl rfl)
theorem dX4_share_22 : decode cX4_share 22 = .ok (.invokevirtual 170, 3) := dk_182 0 170 (dk_at dksX4_share_1 0 rfl rfl)
theorem dX4_share_25 : decode cX4_share 25 = .ok (.ifCond .eq 5, 3) := dk_153 0 5 (dk_at dksX4_share_1 3 rfl rfl)
theorem dX4_share_28 : decode cX4_share 28 = .ok (.iconst 0, 1) := dk_3 (dk_at dksX4_share_1 6 rfl rfl)
theorem dX4_share_29 : decode cX4_share 29 = .ok (.ireturn, 1) := dk_172 (dk_at dksX4_share_1 7 rfl rfl)
theorem dX4_share_30 : decode cX4_share 30 = .ok (.aload_n 0, 1) := dk_42 (dk_at dksX4_share_1 8 rfl rfl)
theorem dX4_share_31 : decode cX4_share 31 = .ok (.iload_n 1, 1) := dk_27 (dk_at dksX4_share_1 9 rfl rfl)
theorem dX4_share_32 : decode cX4_share 32 = .ok (.iload_n 1, 1) := dk_27 (dk_at dksX4_share_1 10 rfl rfl)
theorem dX4_share_33 : decode cX4_share 33 = .ok (.invokevirtual 303, 3) := dk_182 1 47 (dk_at dksX4_share_1 11 rfl rfl)
theorem dX4_share_36 : decode cX4_share 36 = .ok (.ireturn, 1) := dk_172 (dk_at dksX4_share_1 14 rfl rfl)
abbrev cX4_onSeats : ByteArray := prog_16_method_71_code
def yX4_onSeats : MethodName := ⟨RX4, "onSeats", "(II)I"⟩
def dkwX4_onSeats_2 : List UInt8 := [132, 4, 1, 167, 255, 211, 29, 172]
abbrev dktX4_onSeats_2 : List UInt8 := dkwX4_onSeats_2 ++ []
def dkwX4_onSeats_1 : List UInt8 := [42, 180, 0, 58, 21, 4, 46, 28, 122, 126, 4, 126, 4, 160, 0, 7, 4, 167, 0, 4, 3, 96, 62]
abbrev dktX4_onSeats_1 : List UInt8 := dkwX4_onSeats_1 ++ dktX4_onSeats_2
def dkwX4_onSeats_0 : List UInt8 := [3, 62, 3, 54, 4, 21, 4, 42, 180, 1, 44, 162, 0, 42, 29, 42, 180, 0, 58, 21, 4, 46, 27, 122]
abbrev dktX4_onSeats_0 : List UInt8 := dkwX4_onSeats_0 ++ dktX4_onSeats_1
theorem dksX4_onSeats_0 : cX4_onSeats.data.toList.drop 0 = dktX4_onSeats_0 := by decide +kernel
theorem dksX4_onSeats_1 : cX4_onSeats.data.toList.drop 24 = dktX4_onSeats_1 := dk_seg dksX4_onSeats_0 24 rfl rfl
theorem dksX4_onSeats_2 : cX4_onSeats.data.toList.drop 47 = dktX4_onSeats_2 := dk_seg dksX4_onSeats_1 23 rfl rfl
theorem dX4_onSeats_0 : decode cX4_onSeats 0 = .ok (.iconst 0, 1) := dk_3 (dk_at dksX4_onSeats_0 0 rfl rfl)
theorem dX4_onSeats_1 : decode cX4_onSeats 1 = .ok (.istore_n 3, 1) := dk_62 (dk_at dksX4_onSeats_0 1 rfl rfl)
theorem dX4_onSeats_2 : decode cX4_onSeats 2 = .ok (.iconst 0, 1) := dk_3 (dk_at dksX4_onSeats_0 2 rfl rfl)
theorem dX4_onSeats_3 : decode cX4_onSeats 3 = .ok (.istore 4, 2) := dk_54 4 (dk_at dksX4_onSeats_0 3 rfl rfl)
theorem dX4_onSeats_5 : decode cX4_onSeats 5 = .ok (.iload 4, 2) := dk_21 4 (dk_at dksX4_onSeats_0 5 rfl rfl)
theorem dX4_onSeats_7 : decode cX4_onSeats 7 = .ok (.aload_n 0, 1) := dk_42 (dk_at dksX4_onSeats_0 7 rfl rfl)
theorem dX4_onSeats_8 : decode cX4_onSeats 8 = .ok (.getfield 300, 3) := dk_180 1 44 (dk_at dksX4_onSeats_0 8 rfl rfl)
theorem dX4_onSeats_11 : decode cX4_onSeats 11 = .ok (.if_icmp .ge 42, 3) := dk_162 0 42 (dk_at dksX4_onSeats_0 11 rfl rfl)
theorem dX4_onSeats_14 : decode cX4_onSeats 14 = .ok (.iload_n 3, 1) := dk_29 (dk_at dksX4_onSeats_0 14 rfl rfl)
theorem dX4_onSeats_15 : decode cX4_onSeats 15 = .ok (.aload_n 0, 1) := dk_42 (dk_at dksX4_onSeats_0 15 rfl rfl)
theorem dX4_onSeats_16 : decode cX4_onSeats 16 = .ok (.getfield 58, 3) := dk_180 0 58 (dk_at dksX4_onSeats_0 16 rfl rfl)
theorem dX4_onSeats_19 : decode cX4_onSeats 19 = .ok (.iload 4, 2) := dk_21 4 (dk_at dksX4_onSeats_0 19 rfl rfl)
theorem dX4_onSeats_21 : decode cX4_onSeats 21 = .ok (.iaload, 1) := dk_46 (dk_at dksX4_onSeats_0 21 rfl rfl)
theorem dX4_onSeats_22 : decode cX4_onSeats 22 = .ok (.iload_n 1, 1) := dk_27 (dk_at dksX4_onSeats_0 22 rfl rfl)
theorem dX4_onSeats_23 : decode cX4_onSeats 23 = .ok (.ishr, 1) := dk_122 (dk_at dksX4_onSeats_0 23 rfl rfl)
theorem dX4_onSeats_24 : decode cX4_onSeats 24 = .ok (.aload_n 0, 1) := dk_42 (dk_at dksX4_onSeats_1 0 rfl rfl)
theorem dX4_onSeats_25 : decode cX4_onSeats 25 = .ok (.getfield 58, 3) := dk_180 0 58 (dk_at dksX4_onSeats_1 1 rfl rfl)
theorem dX4_onSeats_28 : decode cX4_onSeats 28 = .ok (.iload 4, 2) := dk_21 4 (dk_at dksX4_onSeats_1 4 rfl rfl)
theorem dX4_onSeats_30 : decode cX4_onSeats 30 = .ok (.iaload, 1) := dk_46 (dk_at dksX4_onSeats_1 6 rfl rfl)
theorem dX4_onSeats_31 : decode cX4_onSeats 31 = .ok (.iload_n 2, 1) := dk_28 (dk_at dksX4_onSeats_1 7 rfl rfl)
theorem dX4_onSeats_32 : decode cX4_onSeats 32 = .ok (.ishr, 1) := dk_122 (dk_at dksX4_onSeats_1 8 rfl rfl)
theorem dX4_onSeats_33 : decode cX4_onSeats 33 = .ok (.iand, 1) := dk_126 (dk_at dksX4_onSeats_1 9 rfl rfl)
theorem dX4_onSeats_34 : decode cX4_onSeats 34 = .ok (.iconst 1, 1) := dk_4 (dk_at dksX4_onSeats_1 10 rfl rfl)
theorem dX4_onSeats_35 : decode cX4_onSeats 35 = .ok (.iand, 1) := dk_126 (dk_at dksX4_onSeats_1 11 rfl rfl)
theorem dX4_onSeats_36 : decode cX4_onSeats 36 = .ok (.iconst 1, 1) := dk_4 (dk_at dksX4_onSeats_1 12 rfl rfl)
theorem dX4_onSeats_37 : decode cX4_onSeats 37 = .ok (.if_icmp .ne 7, 3) := dk_160 0 7 (dk_at dksX4_onSeats_1 13 rfl rfl)
theorem dX4_onSeats_40 : decode cX4_onSeats 40 = .ok (.iconst 1, 1) := dk_4 (dk_at dksX4_onSeats_1 16 rfl rfl)
theorem dX4_onSeats_41 : decode cX4_onSeats 41 = .ok (.goto 4, 3) := dk_167 0 4 (dk_at dksX4_onSeats_1 17 rfl rfl)
theorem dX4_onSeats_44 : decode cX4_onSeats 44 = .ok (.iconst 0, 1) := dk_3 (dk_at dksX4_onSeats_1 20 rfl rfl)
theorem dX4_onSeats_45 : decode cX4_onSeats 45 = .ok (.iadd, 1) := dk_96 (dk_at dksX4_onSeats_1 21 rfl rfl)
theorem dX4_onSeats_46 : decode cX4_onSeats 46 = .ok (.istore_n 3, 1) := dk_62 (dk_at dksX4_onSeats_1 22 rfl rfl)
theorem dX4_onSeats_47 : decode cX4_onSeats 47 = .ok (.iinc 4 1, 3) := dk_132 4 1 (dk_at dksX4_onSeats_2 0 rfl rfl)
theorem dX4_onSeats_50 : decode cX4_onSeats 50 = .ok (.goto (-45), 3) := dk_167 255 211 (dk_at dksX4_onSeats_2 3 rfl rfl)
theorem dX4_onSeats_53 : decode cX4_onSeats 53 = .ok (.iload_n 3, 1) := dk_29 (dk_at dksX4_onSeats_2 6 rfl rfl)
theorem dX4_onSeats_54 : decode cX4_onSeats 54 = .ok (.ireturn, 1) := dk_172 (dk_at dksX4_onSeats_2 7 rfl rfl)
abbrev cX4_together : ByteArray := prog_16_method_73_code
def yX4_together : MethodName := ⟨RX4, "together", "(II)I"⟩
def dkwX4_together_2 : List UInt8 := [180, 1, 44, 104, 42, 27, 27, 182, 1, 47, 42, 28, 28, 182, 1, 47, 104, 100, 172]
abbrev dktX4_together_2 : List UInt8 := dkwX4_together_2 ++ []
def dkwX4_together_1 : List UInt8 := [154, 0, 7, 4, 167, 0, 4, 3, 4, 182, 0, 170, 153, 0, 5, 3, 172, 42, 27, 28, 182, 1, 47, 42]
abbrev dktX4_together_1 : List UInt8 := dkwX4_together_1 ++ dktX4_together_2
def dkwX4_together_0 : List UInt8 := [42, 3, 181, 0, 94, 42, 27, 3, 16, 9, 184, 0, 128, 153, 0, 13, 28, 3, 16, 9, 184, 0, 128]
abbrev dktX4_together_0 : List UInt8 := dkwX4_together_0 ++ dktX4_together_1
theorem dksX4_together_0 : cX4_together.data.toList.drop 0 = dktX4_together_0 := by decide +kernel
theorem dksX4_together_1 : cX4_together.data.toList.drop 23 = dktX4_together_1 := dk_seg dksX4_together_0 23 rfl rfl
theorem dksX4_together_2 : cX4_together.data.toList.drop 47 = dktX4_together_2 := dk_seg dksX4_together_1 24 rfl rfl
theorem dX4_together_0 : decode cX4_together 0 = .ok (.aload_n 0, 1) := dk_42 (dk_at dksX4_together_0 0 rfl rfl)
theorem dX4_together_1 : decode cX4_together 1 = .ok (.iconst 0, 1) := dk_3 (dk_at dksX4_together_0 1 rfl rfl)
theorem dX4_together_2 : decode cX4_together 2 = .ok (.putfield 94, 3) := dk_181 0 94 (dk_at dksX4_together_0 2 rfl rfl)
theorem dX4_together_5 : decode cX4_together 5 = .ok (.aload_n 0, 1) := dk_42 (dk_at dksX4_together_0 5 rfl rfl)
theorem dX4_together_6 : decode cX4_together 6 = .ok (.iload_n 1, 1) := dk_27 (dk_at dksX4_together_0 6 rfl rfl)
theorem dX4_together_7 : decode cX4_together 7 = .ok (.iconst 0, 1) := dk_3 (dk_at dksX4_together_0 7 rfl rfl)
theorem dX4_together_8 : decode cX4_together 8 = .ok (.bipush 9, 2) := dk_16 9 (dk_at dksX4_together_0 8 rfl rfl)
theorem dX4_together_10 : decode cX4_together 10 = .ok (.invokestatic 128, 3) := dk_184 0 128 (dk_at dksX4_together_0 10 rfl rfl)
theorem dX4_together_13 : decode cX4_together 13 = .ok (.ifCond .eq 13, 3) := dk_153 0 13 (dk_at dksX4_together_0 13 rfl rfl)
theorem dX4_together_16 : decode cX4_together 16 = .ok (.iload_n 2, 1) := dk_28 (dk_at dksX4_together_0 16 rfl rfl)
theorem dX4_together_17 : decode cX4_together 17 = .ok (.iconst 0, 1) := dk_3 (dk_at dksX4_together_0 17 rfl rfl)
theorem dX4_together_18 : decode cX4_together 18 = .ok (.bipush 9, 2) := dk_16 9 (dk_at dksX4_together_0 18 rfl rfl)
theorem dX4_together_20 : decode cX4_together 20 = .ok (.invokestatic 128, 3) := dk_184 0 128 (dk_at dksX4_together_0 20 rfl rfl)
theorem dX4_together_23 : decode cX4_together 23 = .ok (.ifCond .ne 7, 3) := dk_154 0 7 (dk_at dksX4_together_1 0 rfl rfl)
theorem dX4_together_26 : decode cX4_together 26 = .ok (.iconst 1, 1) := dk_4 (dk_at dksX4_together_1 3 rfl rfl)
theorem dX4_together_27 : decode cX4_together 27 = .ok (.goto 4, 3) := dk_167 0 4 (dk_at dksX4_together_1 4 rfl rfl)
theorem dX4_together_30 : decode cX4_together 30 = .ok (.iconst 0, 1) := dk_3 (dk_at dksX4_together_1 7 rfl rfl)
theorem dX4_together_31 : decode cX4_together 31 = .ok (.iconst 1, 1) := dk_4 (dk_at dksX4_together_1 8 rfl rfl)
theorem dX4_together_32 : decode cX4_together 32 = .ok (.invokevirtual 170, 3) := dk_182 0 170 (dk_at dksX4_together_1 9 rfl rfl)
theorem dX4_together_35 : decode cX4_together 35 = .ok (.ifCond .eq 5, 3) := dk_153 0 5 (dk_at dksX4_together_1 12 rfl rfl)
theorem dX4_together_38 : decode cX4_together 38 = .ok (.iconst 0, 1) := dk_3 (dk_at dksX4_together_1 15 rfl rfl)
theorem dX4_together_39 : decode cX4_together 39 = .ok (.ireturn, 1) := dk_172 (dk_at dksX4_together_1 16 rfl rfl)
theorem dX4_together_40 : decode cX4_together 40 = .ok (.aload_n 0, 1) := dk_42 (dk_at dksX4_together_1 17 rfl rfl)
theorem dX4_together_41 : decode cX4_together 41 = .ok (.iload_n 1, 1) := dk_27 (dk_at dksX4_together_1 18 rfl rfl)
theorem dX4_together_42 : decode cX4_together 42 = .ok (.iload_n 2, 1) := dk_28 (dk_at dksX4_together_1 19 rfl rfl)
theorem dX4_together_43 : decode cX4_together 43 = .ok (.invokevirtual 303, 3) := dk_182 1 47 (dk_at dksX4_together_1 20 rfl rfl)
theorem dX4_together_46 : decode cX4_together 46 = .ok (.aload_n 0, 1) := dk_42 (dk_at dksX4_together_1 23 rfl rfl)
theorem dX4_together_47 : decode cX4_together 47 = .ok (.getfield 300, 3) := dk_180 1 44 (dk_at dksX4_together_2 0 rfl rfl)
theorem dX4_together_50 : decode cX4_together 50 = .ok (.imul, 1) := dk_104 (dk_at dksX4_together_2 3 rfl rfl)
theorem dX4_together_51 : decode cX4_together 51 = .ok (.aload_n 0, 1) := dk_42 (dk_at dksX4_together_2 4 rfl rfl)
theorem dX4_together_52 : decode cX4_together 52 = .ok (.iload_n 1, 1) := dk_27 (dk_at dksX4_together_2 5 rfl rfl)
theorem dX4_together_53 : decode cX4_together 53 = .ok (.iload_n 1, 1) := dk_27 (dk_at dksX4_together_2 6 rfl rfl)
theorem dX4_together_54 : decode cX4_together 54 = .ok (.invokevirtual 303, 3) := dk_182 1 47 (dk_at dksX4_together_2 7 rfl rfl)
theorem dX4_together_57 : decode cX4_together 57 = .ok (.aload_n 0, 1) := dk_42 (dk_at dksX4_together_2 10 rfl rfl)
theorem dX4_together_58 : decode cX4_together 58 = .ok (.iload_n 2, 1) := dk_28 (dk_at dksX4_together_2 11 rfl rfl)
theorem dX4_together_59 : decode cX4_together 59 = .ok (.iload_n 2, 1) := dk_28 (dk_at dksX4_together_2 12 rfl rfl)
theorem dX4_together_60 : decode cX4_together 60 = .ok (.invokevirtual 303, 3) := dk_182 1 47 (dk_at dksX4_together_2 13 rfl rfl)
theorem dX4_together_63 : decode cX4_together 63 = .ok (.imul, 1) := dk_104 (dk_at dksX4_together_2 16 rfl rfl)
theorem dX4_together_64 : decode cX4_together 64 = .ok (.isub, 1) := dk_100 (dk_at dksX4_together_2 17 rfl rfl)
theorem dX4_together_65 : decode cX4_together 65 = .ok (.ireturn, 1) := dk_172 (dk_at dksX4_together_2 18 rfl rfl)
abbrev cX4_shop : ByteArray := prog_16_method_74_code
def yX4_shop : MethodName := ⟨RX4, "shop", "(III)I"⟩
def dkwX4_shop_4 : List UInt8 := [79, 42, 89, 180, 1, 50, 4, 96, 181, 1, 50, 42, 180, 1, 50, 172]
abbrev dktX4_shop_4 : List UInt8 := dkwX4_shop_4 ++ []
def dkwX4_shop_3 : List UInt8 := [79, 42, 180, 0, 61, 42, 180, 1, 50, 50, 4, 28, 79, 42, 180, 0, 61, 42, 180, 1, 50, 50, 5, 29]
abbrev dktX4_shop_3 : List UInt8 := dkwX4_shop_3 ++ dktX4_shop_4
def dkwX4_shop_2 : List UInt8 := [3, 172, 42, 180, 1, 50, 16, 12, 160, 0, 5, 2, 172, 42, 180, 0, 61, 42, 180, 1, 50, 50, 3, 27]
abbrev dktX4_shop_2 : List UInt8 := dkwX4_shop_2 ++ dktX4_shop_3
def dkwX4_shop_1 : List UInt8 := [153, 0, 12, 28, 3, 29, 184, 0, 128, 154, 0, 7, 4, 167, 0, 4, 3, 4, 182, 0, 170, 153, 0, 5]
abbrev dktX4_shop_1 : List UInt8 := dkwX4_shop_1 ++ dktX4_shop_2
def dkwX4_shop_0 : List UInt8 := [42, 3, 181, 0, 94, 42, 27, 3, 16, 9, 184, 0, 128, 153, 0, 23, 29, 4, 19, 1, 15, 184, 0, 128]
abbrev dktX4_shop_0 : List UInt8 := dkwX4_shop_0 ++ dktX4_shop_1
theorem dksX4_shop_0 : cX4_shop.data.toList.drop 0 = dktX4_shop_0 := by decide +kernel
theorem dksX4_shop_1 : cX4_shop.data.toList.drop 24 = dktX4_shop_1 := dk_seg dksX4_shop_0 24 rfl rfl
theorem dksX4_shop_2 : cX4_shop.data.toList.drop 48 = dktX4_shop_2 := dk_seg dksX4_shop_1 24 rfl rfl
theorem dksX4_shop_3 : cX4_shop.data.toList.drop 72 = dktX4_shop_3 := dk_seg dksX4_shop_2 24 rfl rfl
theorem dksX4_shop_4 : cX4_shop.data.toList.drop 96 = dktX4_shop_4 := dk_seg dksX4_shop_3 24 rfl rfl
theorem dX4_shop_0 : decode cX4_shop 0 = .ok (.aload_n 0, 1) := dk_42 (dk_at dksX4_shop_0 0 rfl rfl)
theorem dX4_shop_1 : decode cX4_shop 1 = .ok (.iconst 0, 1) := dk_3 (dk_at dksX4_shop_0 1 rfl rfl)
theorem dX4_shop_2 : decode cX4_shop 2 = .ok (.putfield 94, 3) := dk_181 0 94 (dk_at dksX4_shop_0 2 rfl rfl)
theorem dX4_shop_5 : decode cX4_shop 5 = .ok (.aload_n 0, 1) := dk_42 (dk_at dksX4_shop_0 5 rfl rfl)
theorem dX4_shop_6 : decode cX4_shop 6 = .ok (.iload_n 1, 1) := dk_27 (dk_at dksX4_shop_0 6 rfl rfl)
theorem dX4_shop_7 : decode cX4_shop 7 = .ok (.iconst 0, 1) := dk_3 (dk_at dksX4_shop_0 7 rfl rfl)
theorem dX4_shop_8 : decode cX4_shop 8 = .ok (.bipush 9, 2) := dk_16 9 (dk_at dksX4_shop_0 8 rfl rfl)
theorem dX4_shop_10 : decode cX4_shop 10 = .ok (.invokestatic 128, 3) := dk_184 0 128 (dk_at dksX4_shop_0 10 rfl rfl)
theorem dX4_shop_13 : decode cX4_shop 13 = .ok (.ifCond .eq 23, 3) := dk_153 0 23 (dk_at dksX4_shop_0 13 rfl rfl)
theorem dX4_shop_16 : decode cX4_shop 16 = .ok (.iload_n 3, 1) := dk_29 (dk_at dksX4_shop_0 16 rfl rfl)
theorem dX4_shop_17 : decode cX4_shop 17 = .ok (.iconst 1, 1) := dk_4 (dk_at dksX4_shop_0 17 rfl rfl)
theorem dX4_shop_18 : decode cX4_shop 18 = .ok (.ldc_w 271, 3) := dk_19 1 15 (dk_at dksX4_shop_0 18 rfl rfl)
theorem dX4_shop_21 : decode cX4_shop 21 = .ok (.invokestatic 128, 3) := dk_184 0 128 (dk_at dksX4_shop_0 21 rfl rfl)
theorem dX4_shop_24 : decode cX4_shop 24 = .ok (.ifCond .eq 12, 3) := dk_153 0 12 (dk_at dksX4_shop_1 0 rfl rfl)
theorem dX4_shop_27 : decode cX4_shop 27 = .ok (.iload_n 2, 1) := dk_28 (dk_at dksX4_shop_1 3 rfl rfl)
theorem dX4_shop_28 : decode cX4_shop 28 = .ok (.iconst 0, 1) := dk_3 (dk_at dksX4_shop_1 4 rfl rfl)
theorem dX4_shop_29 : decode cX4_shop 29 = .ok (.iload_n 3, 1) := dk_29 (dk_at dksX4_shop_1 5 rfl rfl)
theorem dX4_shop_30 : decode cX4_shop 30 = .ok (.invokestatic 128, 3) := dk_184 0 128 (dk_at dksX4_shop_1 6 rfl rfl)
theorem dX4_shop_33 : decode cX4_shop 33 = .ok (.ifCond .ne 7, 3) := dk_154 0 7 (dk_at dksX4_shop_1 9 rfl rfl)
theorem dX4_shop_36 : decode cX4_shop 36 = .ok (.iconst 1, 1) := dk_4 (dk_at dksX4_shop_1 12 rfl rfl)
theorem dX4_shop_37 : decode cX4_shop 37 = .ok (.goto 4, 3) := dk_167 0 4 (dk_at dksX4_shop_1 13 rfl rfl)
theorem dX4_shop_40 : decode cX4_shop 40 = .ok (.iconst 0, 1) := dk_3 (dk_at dksX4_shop_1 16 rfl rfl)
theorem dX4_shop_41 : decode cX4_shop 41 = .ok (.iconst 1, 1) := dk_4 (dk_at dksX4_shop_1 17 rfl rfl)
theorem dX4_shop_42 : decode cX4_shop 42 = .ok (.invokevirtual 170, 3) := dk_182 0 170 (dk_at dksX4_shop_1 18 rfl rfl)
theorem dX4_shop_45 : decode cX4_shop 45 = .ok (.ifCond .eq 5, 3) := dk_153 0 5 (dk_at dksX4_shop_1 21 rfl rfl)
theorem dX4_shop_48 : decode cX4_shop 48 = .ok (.iconst 0, 1) := dk_3 (dk_at dksX4_shop_2 0 rfl rfl)
theorem dX4_shop_49 : decode cX4_shop 49 = .ok (.ireturn, 1) := dk_172 (dk_at dksX4_shop_2 1 rfl rfl)
theorem dX4_shop_50 : decode cX4_shop 50 = .ok (.aload_n 0, 1) := dk_42 (dk_at dksX4_shop_2 2 rfl rfl)
theorem dX4_shop_51 : decode cX4_shop 51 = .ok (.getfield 306, 3) := dk_180 1 50 (dk_at dksX4_shop_2 3 rfl rfl)
theorem dX4_shop_54 : decode cX4_shop 54 = .ok (.bipush 12, 2) := dk_16 12 (dk_at dksX4_shop_2 6 rfl rfl)
theorem dX4_shop_56 : decode cX4_shop 56 = .ok (.if_icmp .ne 5, 3) := dk_160 0 5 (dk_at dksX4_shop_2 8 rfl rfl)
theorem dX4_shop_59 : decode cX4_shop 59 = .ok (.iconst (-1), 1) := dk_2 (dk_at dksX4_shop_2 11 rfl rfl)
theorem dX4_shop_60 : decode cX4_shop 60 = .ok (.ireturn, 1) := dk_172 (dk_at dksX4_shop_2 12 rfl rfl)
theorem dX4_shop_61 : decode cX4_shop 61 = .ok (.aload_n 0, 1) := dk_42 (dk_at dksX4_shop_2 13 rfl rfl)
theorem dX4_shop_62 : decode cX4_shop 62 = .ok (.getfield 61, 3) := dk_180 0 61 (dk_at dksX4_shop_2 14 rfl rfl)
theorem dX4_shop_65 : decode cX4_shop 65 = .ok (.aload_n 0, 1) := dk_42 (dk_at dksX4_shop_2 17 rfl rfl)
theorem dX4_shop_66 : decode cX4_shop 66 = .ok (.getfield 306, 3) := dk_180 1 50 (dk_at dksX4_shop_2 18 rfl rfl)
theorem dX4_shop_69 : decode cX4_shop 69 = .ok (.aaload, 1) := dk_50 (dk_at dksX4_shop_2 21 rfl rfl)
theorem dX4_shop_70 : decode cX4_shop 70 = .ok (.iconst 0, 1) := dk_3 (dk_at dksX4_shop_2 22 rfl rfl)
theorem dX4_shop_71 : decode cX4_shop 71 = .ok (.iload_n 1, 1) := dk_27 (dk_at dksX4_shop_2 23 rfl rfl)
theorem dX4_shop_72 : decode cX4_shop 72 = .ok (.iastore, 1) := dk_79 (dk_at dksX4_shop_3 0 rfl rfl)
theorem dX4_shop_73 : decode cX4_shop 73 = .ok (.aload_n 0, 1) := dk_42 (dk_at dksX4_shop_3 1 rfl rfl)
theorem dX4_shop_74 : decode cX4_shop 74 = .ok (.getfield 61, 3) := dk_180 0 61 (dk_at dksX4_shop_3 2 rfl rfl)
theorem dX4_shop_77 : decode cX4_shop 77 = .ok (.aload_n 0, 1) := dk_42 (dk_at dksX4_shop_3 5 rfl rfl)
theorem dX4_shop_78 : decode cX4_shop 78 = .ok (.getfield 306, 3) := dk_180 1 50 (dk_at dksX4_shop_3 6 rfl rfl)
theorem dX4_shop_81 : decode cX4_shop 81 = .ok (.aaload, 1) := dk_50 (dk_at dksX4_shop_3 9 rfl rfl)
theorem dX4_shop_82 : decode cX4_shop 82 = .ok (.iconst 1, 1) := dk_4 (dk_at dksX4_shop_3 10 rfl rfl)
theorem dX4_shop_83 : decode cX4_shop 83 = .ok (.iload_n 2, 1) := dk_28 (dk_at dksX4_shop_3 11 rfl rfl)
theorem dX4_shop_84 : decode cX4_shop 84 = .ok (.iastore, 1) := dk_79 (dk_at dksX4_shop_3 12 rfl rfl)
theorem dX4_shop_85 : decode cX4_shop 85 = .ok (.aload_n 0, 1) := dk_42 (dk_at dksX4_shop_3 13 rfl rfl)
theorem dX4_shop_86 : decode cX4_shop 86 = .ok (.getfield 61, 3) := dk_180 0 61 (dk_at dksX4_shop_3 14 rfl rfl)
theorem dX4_shop_89 : decode cX4_shop 89 = .ok (.aload_n 0, 1) := dk_42 (dk_at dksX4_shop_3 17 rfl rfl)
theorem dX4_shop_90 : decode cX4_shop 90 = .ok (.getfield 306, 3) := dk_180 1 50 (dk_at dksX4_shop_3 18 rfl rfl)
theorem dX4_shop_93 : decode cX4_shop 93 = .ok (.aaload, 1) := dk_50 (dk_at dksX4_shop_3 21 rfl rfl)
theorem dX4_shop_94 : decode cX4_shop 94 = .ok (.iconst 2, 1) := dk_5 (dk_at dksX4_shop_3 22 rfl rfl)
theorem dX4_shop_95 : decode cX4_shop 95 = .ok (.iload_n 3, 1) := dk_29 (dk_at dksX4_shop_3 23 rfl rfl)
theorem dX4_shop_96 : decode cX4_shop 96 = .ok (.iastore, 1) := dk_79 (dk_at dksX4_shop_4 0 rfl rfl)
theorem dX4_shop_97 : decode cX4_shop 97 = .ok (.aload_n 0, 1) := dk_42 (dk_at dksX4_shop_4 1 rfl rfl)
theorem dX4_shop_98 : decode cX4_shop 98 = .ok (.dup, 1) := dk_89 (dk_at dksX4_shop_4 2 rfl rfl)
theorem dX4_shop_99 : decode cX4_shop 99 = .ok (.getfield 306, 3) := dk_180 1 50 (dk_at dksX4_shop_4 3 rfl rfl)
theorem dX4_shop_102 : decode cX4_shop 102 = .ok (.iconst 1, 1) := dk_4 (dk_at dksX4_shop_4 6 rfl rfl)
theorem dX4_shop_103 : decode cX4_shop 103 = .ok (.iadd, 1) := dk_96 (dk_at dksX4_shop_4 7 rfl rfl)
theorem dX4_shop_104 : decode cX4_shop 104 = .ok (.putfield 306, 3) := dk_181 1 50 (dk_at dksX4_shop_4 8 rfl rfl)
theorem dX4_shop_107 : decode cX4_shop 107 = .ok (.aload_n 0, 1) := dk_42 (dk_at dksX4_shop_4 11 rfl rfl)
theorem dX4_shop_108 : decode cX4_shop 108 = .ok (.getfield 306, 3) := dk_180 1 50 (dk_at dksX4_shop_4 12 rfl rfl)
theorem dX4_shop_111 : decode cX4_shop 111 = .ok (.ireturn, 1) := dk_172 (dk_at dksX4_shop_4 15 rfl rfl)
abbrev cX4_rare : ByteArray := prog_16_method_75_code
def yX4_rare : MethodName := ⟨RX4, "rare", "(II)I"⟩
def dkwX4_rare_9 : List UInt8 := [21, 7, 167, 0, 5, 21, 8, 172]
abbrev dktX4_rare_9 : List UInt8 := dkwX4_rare_9 ++ []
def dkwX4_rare_8 : List UInt8 := [167, 0, 31, 28, 154, 0, 15, 20, 1, 53, 33, 105, 22, 5, 109, 136, 167, 0, 15, 28, 4, 160, 0, 8]
abbrev dktX4_rare_8 : List UInt8 := dkwX4_rare_8 ++ dktX4_rare_9
def dkwX4_rare_7 : List UInt8 := [21, 10, 167, 0, 5, 21, 8, 54, 8, 132, 9, 1, 167, 255, 134, 22, 5, 9, 148, 154, 0, 7, 2]
abbrev dktX4_rare_7 : List UInt8 := dkwX4_rare_7 ++ dktX4_rare_8
def dkwX4_rare_6 : List UInt8 := [21, 10, 21, 7, 162, 0, 8, 21, 10, 167, 0, 5, 21, 7, 54, 7, 21, 10, 21, 8, 164, 0, 8]
abbrev dktX4_rare_6 : List UInt8 := dkwX4_rare_6 ++ dktX4_rare_7
def dkwX4_rare_5 : List UInt8 := [46, 133, 105, 42, 180, 0, 61, 21, 9, 50, 5, 46, 133, 109, 136, 54, 10, 21, 7, 2, 159, 0, 10]
abbrev dktX4_rare_5 : List UInt8 := dkwX4_rare_5 ++ dktX4_rare_6
def dkwX4_rare_4 : List UInt8 := [42, 180, 0, 61, 21, 9, 50, 5, 46, 133, 97, 55, 5, 20, 1, 53, 42, 180, 0, 61, 21, 9, 50, 4]
abbrev dktX4_rare_4 : List UInt8 := dkwX4_rare_4 ++ dktX4_rare_5
def dkwX4_rare_3 : List UInt8 := [3, 46, 27, 159, 0, 6, 167, 0, 97, 33, 42, 180, 0, 61, 21, 9, 50, 4, 46, 133, 97, 66, 22, 5]
abbrev dktX4_rare_3 : List UInt8 := dkwX4_rare_3 ++ dktX4_rare_4
def dkwX4_rare_2 : List UInt8 := [54, 7, 2, 54, 8, 3, 54, 9, 21, 9, 42, 180, 1, 50, 162, 0, 119, 42, 180, 0, 61, 21, 9, 50]
abbrev dktX4_rare_2 : List UInt8 := dkwX4_rare_2 ++ dktX4_rare_3
def dkwX4_rare_1 : List UInt8 := [154, 0, 7, 4, 167, 0, 4, 3, 4, 182, 0, 170, 153, 0, 5, 3, 172, 9, 66, 9, 55, 5, 2]
abbrev dktX4_rare_1 : List UInt8 := dkwX4_rare_1 ++ dktX4_rare_2
def dkwX4_rare_0 : List UInt8 := [42, 3, 181, 0, 94, 42, 27, 3, 16, 9, 184, 0, 128, 153, 0, 12, 28, 3, 5, 184, 0, 128]
abbrev dktX4_rare_0 : List UInt8 := dkwX4_rare_0 ++ dktX4_rare_1
theorem dksX4_rare_0 : cX4_rare.data.toList.drop 0 = dktX4_rare_0 := by decide +kernel
theorem dksX4_rare_1 : cX4_rare.data.toList.drop 22 = dktX4_rare_1 := dk_seg dksX4_rare_0 22 rfl rfl
theorem dksX4_rare_2 : cX4_rare.data.toList.drop 45 = dktX4_rare_2 := dk_seg dksX4_rare_1 23 rfl rfl
theorem dksX4_rare_3 : cX4_rare.data.toList.drop 69 = dktX4_rare_3 := dk_seg dksX4_rare_2 24 rfl rfl
theorem dksX4_rare_4 : cX4_rare.data.toList.drop 93 = dktX4_rare_4 := dk_seg dksX4_rare_3 24 rfl rfl
theorem dksX4_rare_5 : cX4_rare.data.toList.drop 117 = dktX4_rare_5 := dk_seg dksX4_rare_4 24 rfl rfl
theorem dksX4_rare_6 : cX4_rare.data.toList.drop 140 = dktX4_rare_6 := dk_seg dksX4_rare_5 23 rfl rfl
theorem dksX4_rare_7 : cX4_rare.data.toList.drop 163 = dktX4_rare_7 := dk_seg dksX4_rare_6 23 rfl rfl
theorem dksX4_rare_8 : cX4_rare.data.toList.drop 186 = dktX4_rare_8 := dk_seg dksX4_rare_7 23 rfl rfl
theorem dksX4_rare_9 : cX4_rare.data.toList.drop 210 = dktX4_rare_9 := dk_seg dksX4_rare_8 24 rfl rfl
theorem dX4_rare_0 : decode cX4_rare 0 = .ok (.aload_n 0, 1) := dk_42 (dk_at dksX4_rare_0 0 rfl rfl)
theorem dX4_rare_1 : decode cX4_rare 1 = .ok (.iconst 0, 1) := dk_3 (dk_at dksX4_rare_0 1 rfl rfl)
theorem dX4_rare_2 : decode cX4_rare 2 = .ok (.putfield 94, 3) := dk_181 0 94 (dk_at dksX4_rare_0 2 rfl rfl)
theorem dX4_rare_5 : decode cX4_rare 5 = .ok (.aload_n 0, 1) := dk_42 (dk_at dksX4_rare_0 5 rfl rfl)
theorem dX4_rare_6 : decode cX4_rare 6 = .ok (.iload_n 1, 1) := dk_27 (dk_at dksX4_rare_0 6 rfl rfl)
theorem dX4_rare_7 : decode cX4_rare 7 = .ok (.iconst 0, 1) := dk_3 (dk_at dksX4_rare_0 7 rfl rfl)
theorem dX4_rare_8 : decode cX4_rare 8 = .ok (.bipush 9, 2) := dk_16 9 (dk_at dksX4_rare_0 8 rfl rfl)
theorem dX4_rare_10 : decode cX4_rare 10 = .ok (.invokestatic 128, 3) := dk_184 0 128 (dk_at dksX4_rare_0 10 rfl rfl)
theorem dX4_rare_13 : decode cX4_rare 13 = .ok (.ifCond .eq 12, 3) := dk_153 0 12 (dk_at dksX4_rare_0 13 rfl rfl)
theorem dX4_rare_16 : decode cX4_rare 16 = .ok (.iload_n 2, 1) := dk_28 (dk_at dksX4_rare_0 16 rfl rfl)
theorem dX4_rare_17 : decode cX4_rare 17 = .ok (.iconst 0, 1) := dk_3 (dk_at dksX4_rare_0 17 rfl rfl)
theorem dX4_rare_18 : decode cX4_rare 18 = .ok (.iconst 2, 1) := dk_5 (dk_at dksX4_rare_0 18 rfl rfl)
theorem dX4_rare_19 : decode cX4_rare 19 = .ok (.invokestatic 128, 3) := dk_184 0 128 (dk_at dksX4_rare_0 19 rfl rfl)
theorem dX4_rare_22 : decode cX4_rare 22 = .ok (.ifCond .ne 7, 3) := dk_154 0 7 (dk_at dksX4_rare_1 0 rfl rfl)
theorem dX4_rare_25 : decode cX4_rare 25 = .ok (.iconst 1, 1) := dk_4 (dk_at dksX4_rare_1 3 rfl rfl)
theorem dX4_rare_26 : decode cX4_rare 26 = .ok (.goto 4, 3) := dk_167 0 4 (dk_at dksX4_rare_1 4 rfl rfl)
theorem dX4_rare_29 : decode cX4_rare 29 = .ok (.iconst 0, 1) := dk_3 (dk_at dksX4_rare_1 7 rfl rfl)
theorem dX4_rare_30 : decode cX4_rare 30 = .ok (.iconst 1, 1) := dk_4 (dk_at dksX4_rare_1 8 rfl rfl)
theorem dX4_rare_31 : decode cX4_rare 31 = .ok (.invokevirtual 170, 3) := dk_182 0 170 (dk_at dksX4_rare_1 9 rfl rfl)
theorem dX4_rare_34 : decode cX4_rare 34 = .ok (.ifCond .eq 5, 3) := dk_153 0 5 (dk_at dksX4_rare_1 12 rfl rfl)
theorem dX4_rare_37 : decode cX4_rare 37 = .ok (.iconst 0, 1) := dk_3 (dk_at dksX4_rare_1 15 rfl rfl)
theorem dX4_rare_38 : decode cX4_rare 38 = .ok (.ireturn, 1) := dk_172 (dk_at dksX4_rare_1 16 rfl rfl)
theorem dX4_rare_39 : decode cX4_rare 39 = .ok (.lconst 0, 1) := dk_9 (dk_at dksX4_rare_1 17 rfl rfl)
theorem dX4_rare_40 : decode cX4_rare 40 = .ok (.lstore_n 3, 1) := dk_66 (dk_at dksX4_rare_1 18 rfl rfl)
theorem dX4_rare_41 : decode cX4_rare 41 = .ok (.lconst 0, 1) := dk_9 (dk_at dksX4_rare_1 19 rfl rfl)
theorem dX4_rare_42 : decode cX4_rare 42 = .ok (.lstore 5, 2) := dk_55 5 (dk_at dksX4_rare_1 20 rfl rfl)
theorem dX4_rare_44 : decode cX4_rare 44 = .ok (.iconst (-1), 1) := dk_2 (dk_at dksX4_rare_1 22 rfl rfl)
theorem dX4_rare_45 : decode cX4_rare 45 = .ok (.istore 7, 2) := dk_54 7 (dk_at dksX4_rare_2 0 rfl rfl)
theorem dX4_rare_47 : decode cX4_rare 47 = .ok (.iconst (-1), 1) := dk_2 (dk_at dksX4_rare_2 2 rfl rfl)
theorem dX4_rare_48 : decode cX4_rare 48 = .ok (.istore 8, 2) := dk_54 8 (dk_at dksX4_rare_2 3 rfl rfl)
theorem dX4_rare_50 : decode cX4_rare 50 = .ok (.iconst 0, 1) := dk_3 (dk_at dksX4_rare_2 5 rfl rfl)
theorem dX4_rare_51 : decode cX4_rare 51 = .ok (.istore 9, 2) := dk_54 9 (dk_at dksX4_rare_2 6 rfl rfl)
theorem dX4_rare_53 : decode cX4_rare 53 = .ok (.iload 9, 2) := dk_21 9 (dk_at dksX4_rare_2 8 rfl rfl)
theorem dX4_rare_55 : decode cX4_rare 55 = .ok (.aload_n 0, 1) := dk_42 (dk_at dksX4_rare_2 10 rfl rfl)
theorem dX4_rare_56 : decode cX4_rare 56 = .ok (.getfield 306, 3) := dk_180 1 50 (dk_at dksX4_rare_2 11 rfl rfl)
theorem dX4_rare_59 : decode cX4_rare 59 = .ok (.if_icmp .ge 119, 3) := dk_162 0 119 (dk_at dksX4_rare_2 14 rfl rfl)
theorem dX4_rare_62 : decode cX4_rare 62 = .ok (.aload_n 0, 1) := dk_42 (dk_at dksX4_rare_2 17 rfl rfl)
theorem dX4_rare_63 : decode cX4_rare 63 = .ok (.getfield 61, 3) := dk_180 0 61 (dk_at dksX4_rare_2 18 rfl rfl)
theorem dX4_rare_66 : decode cX4_rare 66 = .ok (.iload 9, 2) := dk_21 9 (dk_at dksX4_rare_2 21 rfl rfl)
theorem dX4_rare_68 : decode cX4_rare 68 = .ok (.aaload, 1) := dk_50 (dk_at dksX4_rare_2 23 rfl rfl)
theorem dX4_rare_69 : decode cX4_rare 69 = .ok (.iconst 0, 1) := dk_3 (dk_at dksX4_rare_3 0 rfl rfl)
theorem dX4_rare_70 : decode cX4_rare 70 = .ok (.iaload, 1) := dk_46 (dk_at dksX4_rare_3 1 rfl rfl)
theorem dX4_rare_71 : decode cX4_rare 71 = .ok (.iload_n 1, 1) := dk_27 (dk_at dksX4_rare_3 2 rfl rfl)
theorem dX4_rare_72 : decode cX4_rare 72 = .ok (.if_icmp .eq 6, 3) := dk_159 0 6 (dk_at dksX4_rare_3 3 rfl rfl)
theorem dX4_rare_75 : decode cX4_rare 75 = .ok (.goto 97, 3) := dk_167 0 97 (dk_at dksX4_rare_3 6 rfl rfl)
theorem dX4_rare_78 : decode cX4_rare 78 = .ok (.lload_n 3, 1) := dk_33 (dk_at dksX4_rare_3 9 rfl rfl)
theorem dX4_rare_79 : decode cX4_rare 79 = .ok (.aload_n 0, 1) := dk_42 (dk_at dksX4_rare_3 10 rfl rfl)
theorem dX4_rare_80 : decode cX4_rare 80 = .ok (.getfield 61, 3) := dk_180 0 61 (dk_at dksX4_rare_3 11 rfl rfl)
theorem dX4_rare_83 : decode cX4_rare 83 = .ok (.iload 9, 2) := dk_21 9 (dk_at dksX4_rare_3 14 rfl rfl)
theorem dX4_rare_85 : decode cX4_rare 85 = .ok (.aaload, 1) := dk_50 (dk_at dksX4_rare_3 16 rfl rfl)
theorem dX4_rare_86 : decode cX4_rare 86 = .ok (.iconst 1, 1) := dk_4 (dk_at dksX4_rare_3 17 rfl rfl)
theorem dX4_rare_87 : decode cX4_rare 87 = .ok (.iaload, 1) := dk_46 (dk_at dksX4_rare_3 18 rfl rfl)
theorem dX4_rare_88 : decode cX4_rare 88 = .ok (.i2l, 1) := dk_133 (dk_at dksX4_rare_3 19 rfl rfl)
theorem dX4_rare_89 : decode cX4_rare 89 = .ok (.ladd, 1) := dk_97 (dk_at dksX4_rare_3 20 rfl rfl)
theorem dX4_rare_90 : decode cX4_rare 90 = .ok (.lstore_n 3, 1) := dk_66 (dk_at dksX4_rare_3 21 rfl rfl)
theorem dX4_rare_91 : decode cX4_rare 91 = .ok (.lload 5, 2) := dk_22 5 (dk_at dksX4_rare_3 22 rfl rfl)
theorem dX4_rare_93 : decode cX4_rare 93 = .ok (.aload_n 0, 1) := dk_42 (dk_at dksX4_rare_4 0 rfl rfl)
theorem dX4_rare_94 : decode cX4_rare 94 = .ok (.getfield 61, 3) := dk_180 0 61 (dk_at dksX4_rare_4 1 rfl rfl)
theorem dX4_rare_97 : decode cX4_rare 97 = .ok (.iload 9, 2) := dk_21 9 (dk_at dksX4_rare_4 4 rfl rfl)
theorem dX4_rare_99 : decode cX4_rare 99 = .ok (.aaload, 1) := dk_50 (dk_at dksX4_rare_4 6 rfl rfl)
theorem dX4_rare_100 : decode cX4_rare 100 = .ok (.iconst 2, 1) := dk_5 (dk_at dksX4_rare_4 7 rfl rfl)
theorem dX4_rare_101 : decode cX4_rare 101 = .ok (.iaload, 1) := dk_46 (dk_at dksX4_rare_4 8 rfl rfl)
theorem dX4_rare_102 : decode cX4_rare 102 = .ok (.i2l, 1) := dk_133 (dk_at dksX4_rare_4 9 rfl rfl)
theorem dX4_rare_103 : decode cX4_rare 103 = .ok (.ladd, 1) := dk_97 (dk_at dksX4_rare_4 10 rfl rfl)
theorem dX4_rare_104 : decode cX4_rare 104 = .ok (.lstore 5, 2) := dk_55 5 (dk_at dksX4_rare_4 11 rfl rfl)
theorem dX4_rare_106 : decode cX4_rare 106 = .ok (.ldc2_w 309, 3) := dk_20 1 53 (dk_at dksX4_rare_4 13 rfl rfl)
theorem dX4_rare_109 : decode cX4_rare 109 = .ok (.aload_n 0, 1) := dk_42 (dk_at dksX4_rare_4 16 rfl rfl)
theorem dX4_rare_110 : decode cX4_rare 110 = .ok (.getfield 61, 3) := dk_180 0 61 (dk_at dksX4_rare_4 17 rfl rfl)
theorem dX4_rare_113 : decode cX4_rare 113 = .ok (.iload 9, 2) := dk_21 9 (dk_at dksX4_rare_4 20 rfl rfl)
theorem dX4_rare_115 : decode cX4_rare 115 = .ok (.aaload, 1) := dk_50 (dk_at dksX4_rare_4 22 rfl rfl)
theorem dX4_rare_116 : decode cX4_rare 116 = .ok (.iconst 1, 1) := dk_4 (dk_at dksX4_rare_4 23 rfl rfl)
theorem dX4_rare_117 : decode cX4_rare 117 = .ok (.iaload, 1) := dk_46 (dk_at dksX4_rare_5 0 rfl rfl)
theorem dX4_rare_118 : decode cX4_rare 118 = .ok (.i2l, 1) := dk_133 (dk_at dksX4_rare_5 1 rfl rfl)
theorem dX4_rare_119 : decode cX4_rare 119 = .ok (.lmul, 1) := dk_105 (dk_at dksX4_rare_5 2 rfl rfl)
theorem dX4_rare_120 : decode cX4_rare 120 = .ok (.aload_n 0, 1) := dk_42 (dk_at dksX4_rare_5 3 rfl rfl)
theorem dX4_rare_121 : decode cX4_rare 121 = .ok (.getfield 61, 3) := dk_180 0 61 (dk_at dksX4_rare_5 4 rfl rfl)
theorem dX4_rare_124 : decode cX4_rare 124 = .ok (.iload 9, 2) := dk_21 9 (dk_at dksX4_rare_5 7 rfl rfl)
theorem dX4_rare_126 : decode cX4_rare 126 = .ok (.aaload, 1) := dk_50 (dk_at dksX4_rare_5 9 rfl rfl)
theorem dX4_rare_127 : decode cX4_rare 127 = .ok (.iconst 2, 1) := dk_5 (dk_at dksX4_rare_5 10 rfl rfl)
theorem dX4_rare_128 : decode cX4_rare 128 = .ok (.iaload, 1) := dk_46 (dk_at dksX4_rare_5 11 rfl rfl)
theorem dX4_rare_129 : decode cX4_rare 129 = .ok (.i2l, 1) := dk_133 (dk_at dksX4_rare_5 12 rfl rfl)
theorem dX4_rare_130 : decode cX4_rare 130 = .ok (.ldiv, 1) := dk_109 (dk_at dksX4_rare_5 13 rfl rfl)
theorem dX4_rare_131 : decode cX4_rare 131 = .ok (.l2i, 1) := dk_136 (dk_at dksX4_rare_5 14 rfl rfl)
theorem dX4_rare_132 : decode cX4_rare 132 = .ok (.istore 10, 2) := dk_54 10 (dk_at dksX4_rare_5 15 rfl rfl)
theorem dX4_rare_134 : decode cX4_rare 134 = .ok (.iload 7, 2) := dk_21 7 (dk_at dksX4_rare_5 17 rfl rfl)
theorem dX4_rare_136 : decode cX4_rare 136 = .ok (.iconst (-1), 1) := dk_2 (dk_at dksX4_rare_5 19 rfl rfl)
theorem dX4_rare_137 : decode cX4_rare 137 = .ok (.if_icmp .eq 10, 3) := dk_159 0 10 (dk_at dksX4_rare_5 20 rfl rfl)
theorem dX4_rare_140 : decode cX4_rare 140 = .ok (.iload 10, 2) := dk_21 10 (dk_at dksX4_rare_6 0 rfl rfl)
theorem dX4_rare_142 : decode cX4_rare 142 = .ok (.iload 7, 2) := dk_21 7 (dk_at dksX4_rare_6 2 rfl rfl)
theorem dX4_rare_144 : decode cX4_rare 144 = .ok (.if_icmp .ge 8, 3) := dk_162 0 8 (dk_at dksX4_rare_6 4 rfl rfl)
theorem dX4_rare_147 : decode cX4_rare 147 = .ok (.iload 10, 2) := dk_21 10 (dk_at dksX4_rare_6 7 rfl rfl)
theorem dX4_rare_149 : decode cX4_rare 149 = .ok (.goto 5, 3) := dk_167 0 5 (dk_at dksX4_rare_6 9 rfl rfl)
theorem dX4_rare_152 : decode cX4_rare 152 = .ok (.iload 7, 2) := dk_21 7 (dk_at dksX4_rare_6 12 rfl rfl)
theorem dX4_rare_154 : decode cX4_rare 154 = .ok (.istore 7, 2) := dk_54 7 (dk_at dksX4_rare_6 14 rfl rfl)
theorem dX4_rare_156 : decode cX4_rare 156 = .ok (.iload 10, 2) := dk_21 10 (dk_at dksX4_rare_6 16 rfl rfl)
theorem dX4_rare_158 : decode cX4_rare 158 = .ok (.iload 8, 2) := dk_21 8 (dk_at dksX4_rare_6 18 rfl rfl)
theorem dX4_rare_160 : decode cX4_rare 160 = .ok (.if_icmp .le 8, 3) := dk_164 0 8 (dk_at dksX4_rare_6 20 rfl rfl)
theorem dX4_rare_163 : decode cX4_rare 163 = .ok (.iload 10, 2) := dk_21 10 (dk_at dksX4_rare_7 0 rfl rfl)
theorem dX4_rare_165 : decode cX4_rare 165 = .ok (.goto 5, 3) := dk_167 0 5 (dk_at dksX4_rare_7 2 rfl rfl)
theorem dX4_rare_168 : decode cX4_rare 168 = .ok (.iload 8, 2) := dk_21 8 (dk_at dksX4_rare_7 5 rfl rfl)
theorem dX4_rare_170 : decode cX4_rare 170 = .ok (.istore 8, 2) := dk_54 8 (dk_at dksX4_rare_7 7 rfl rfl)
theorem dX4_rare_172 : decode cX4_rare 172 = .ok (.iinc 9 1, 3) := dk_132 9 1 (dk_at dksX4_rare_7 9 rfl rfl)
theorem dX4_rare_175 : decode cX4_rare 175 = .ok (.goto (-122), 3) := dk_167 255 134 (dk_at dksX4_rare_7 12 rfl rfl)
theorem dX4_rare_178 : decode cX4_rare 178 = .ok (.lload 5, 2) := dk_22 5 (dk_at dksX4_rare_7 15 rfl rfl)
theorem dX4_rare_180 : decode cX4_rare 180 = .ok (.lconst 0, 1) := dk_9 (dk_at dksX4_rare_7 17 rfl rfl)
theorem dX4_rare_181 : decode cX4_rare 181 = .ok (.lcmp, 1) := dk_148 (dk_at dksX4_rare_7 18 rfl rfl)
theorem dX4_rare_182 : decode cX4_rare 182 = .ok (.ifCond .ne 7, 3) := dk_154 0 7 (dk_at dksX4_rare_7 19 rfl rfl)
theorem dX4_rare_185 : decode cX4_rare 185 = .ok (.iconst (-1), 1) := dk_2 (dk_at dksX4_rare_7 22 rfl rfl)
theorem dX4_rare_186 : decode cX4_rare 186 = .ok (.goto 31, 3) := dk_167 0 31 (dk_at dksX4_rare_8 0 rfl rfl)
theorem dX4_rare_189 : decode cX4_rare 189 = .ok (.iload_n 2, 1) := dk_28 (dk_at dksX4_rare_8 3 rfl rfl)
theorem dX4_rare_190 : decode cX4_rare 190 = .ok (.ifCond .ne 15, 3) := dk_154 0 15 (dk_at dksX4_rare_8 4 rfl rfl)
theorem dX4_rare_193 : decode cX4_rare 193 = .ok (.ldc2_w 309, 3) := dk_20 1 53 (dk_at dksX4_rare_8 7 rfl rfl)
theorem dX4_rare_196 : decode cX4_rare 196 = .ok (.lload_n 3, 1) := dk_33 (dk_at dksX4_rare_8 10 rfl rfl)
theorem dX4_rare_197 : decode cX4_rare 197 = .ok (.lmul, 1) := dk_105 (dk_at dksX4_rare_8 11 rfl rfl)
theorem dX4_rare_198 : decode cX4_rare 198 = .ok (.lload 5, 2) := dk_22 5 (dk_at dksX4_rare_8 12 rfl rfl)
theorem dX4_rare_200 : decode cX4_rare 200 = .ok (.ldiv, 1) := dk_109 (dk_at dksX4_rare_8 14 rfl rfl)
theorem dX4_rare_201 : decode cX4_rare 201 = .ok (.l2i, 1) := dk_136 (dk_at dksX4_rare_8 15 rfl rfl)
theorem dX4_rare_202 : decode cX4_rare 202 = .ok (.goto 15, 3) := dk_167 0 15 (dk_at dksX4_rare_8 16 rfl rfl)
theorem dX4_rare_205 : decode cX4_rare 205 = .ok (.iload_n 2, 1) := dk_28 (dk_at dksX4_rare_8 19 rfl rfl)
theorem dX4_rare_206 : decode cX4_rare 206 = .ok (.iconst 1, 1) := dk_4 (dk_at dksX4_rare_8 20 rfl rfl)
theorem dX4_rare_207 : decode cX4_rare 207 = .ok (.if_icmp .ne 8, 3) := dk_160 0 8 (dk_at dksX4_rare_8 21 rfl rfl)
theorem dX4_rare_210 : decode cX4_rare 210 = .ok (.iload 7, 2) := dk_21 7 (dk_at dksX4_rare_9 0 rfl rfl)
theorem dX4_rare_212 : decode cX4_rare 212 = .ok (.goto 5, 3) := dk_167 0 5 (dk_at dksX4_rare_9 2 rfl rfl)
theorem dX4_rare_215 : decode cX4_rare 215 = .ok (.iload 8, 2) := dk_21 8 (dk_at dksX4_rare_9 5 rfl rfl)
theorem dX4_rare_217 : decode cX4_rare 217 = .ok (.ireturn, 1) := dk_172 (dk_at dksX4_rare_9 7 rfl rfl)
abbrev cX4_next : ByteArray := prog_16_method_77_code
def yX4_next : MethodName := ⟨RX4, "next", "(III)I"⟩
def dkwX4_next_7 : List UInt8 := [21, 7, 96, 54, 4, 132, 7, 1, 167, 255, 151, 132, 6, 1, 167, 255, 135, 21, 4, 172]
abbrev dktX4_next_7 : List UInt8 := dkwX4_next_7 ++ []
def dkwX4_next_6 : List UInt8 := [21, 5, 163, 0, 6, 167, 0, 23, 21, 9, 54, 5, 16, 100, 21, 9, 104, 16, 10, 21, 6, 104, 96]
abbrev dktX4_next_6 : List UInt8 := dkwX4_next_6 ++ dktX4_next_7
def dkwX4_next_5 : List UInt8 := [182, 0, 244, 100, 54, 9, 21, 9, 156, 0, 9, 21, 9, 116, 167, 0, 5, 21, 9, 54, 9, 21, 9]
abbrev dktX4_next_5 : List UInt8 := dkwX4_next_5 ++ dktX4_next_6
def dkwX4_next_4 : List UInt8 := [42, 21, 6, 21, 7, 182, 0, 244, 54, 8, 42, 28, 29, 182, 0, 241, 21, 8, 42, 21, 6, 21, 7]
abbrev dktX4_next_4 : List UInt8 := dkwX4_next_4 ++ dktX4_next_5
def dkwX4_next_3 : List UInt8 := [162, 0, 104, 42, 21, 6, 29, 21, 7, 182, 1, 55, 153, 0, 6, 167, 0, 83, 42, 27, 29, 182, 0, 241]
abbrev dktX4_next_3 : List UInt8 := dkwX4_next_3 ++ dktX4_next_4
def dkwX4_next_2 : List UInt8 := [2, 54, 4, 3, 54, 5, 3, 54, 6, 21, 6, 16, 10, 162, 0, 120, 3, 54, 7, 21, 7, 16, 10]
abbrev dktX4_next_2 : List UInt8 := dkwX4_next_2 ++ dktX4_next_3
def dkwX4_next_1 : List UInt8 := [167, 0, 4, 3, 4, 182, 0, 170, 154, 0, 14, 42, 3, 3, 29, 5, 182, 0, 238, 153, 0, 5, 3, 172]
abbrev dktX4_next_1 : List UInt8 := dkwX4_next_1 ++ dktX4_next_2
def dkwX4_next_0 : List UInt8 := [42, 3, 181, 0, 94, 42, 42, 27, 182, 0, 235, 153, 0, 11, 42, 28, 182, 0, 235, 154, 0, 7, 4]
abbrev dktX4_next_0 : List UInt8 := dkwX4_next_0 ++ dktX4_next_1
theorem dksX4_next_0 : cX4_next.data.toList.drop 0 = dktX4_next_0 := by decide +kernel
theorem dksX4_next_1 : cX4_next.data.toList.drop 23 = dktX4_next_1 := dk_seg dksX4_next_0 23 rfl rfl
theorem dksX4_next_2 : cX4_next.data.toList.drop 47 = dktX4_next_2 := dk_seg dksX4_next_1 24 rfl rfl
theorem dksX4_next_3 : cX4_next.data.toList.drop 70 = dktX4_next_3 := dk_seg dksX4_next_2 23 rfl rfl
theorem dksX4_next_4 : cX4_next.data.toList.drop 94 = dktX4_next_4 := dk_seg dksX4_next_3 24 rfl rfl
theorem dksX4_next_5 : cX4_next.data.toList.drop 117 = dktX4_next_5 := dk_seg dksX4_next_4 23 rfl rfl
theorem dksX4_next_6 : cX4_next.data.toList.drop 140 = dktX4_next_6 := dk_seg dksX4_next_5 23 rfl rfl
theorem dksX4_next_7 : cX4_next.data.toList.drop 163 = dktX4_next_7 := dk_seg dksX4_next_6 23 rfl rfl
theorem dX4_next_0 : decode cX4_next 0 = .ok (.aload_n 0, 1) := dk_42 (dk_at dksX4_next_0 0 rfl rfl)
theorem dX4_next_1 : decode cX4_next 1 = .ok (.iconst 0, 1) := dk_3 (dk_at dksX4_next_0 1 rfl rfl)
theorem dX4_next_2 : decode cX4_next 2 = .ok (.putfield 94, 3) := dk_181 0 94 (dk_at dksX4_next_0 2 rfl rfl)
theorem dX4_next_5 : decode cX4_next 5 = .ok (.aload_n 0, 1) := dk_42 (dk_at dksX4_next_0 5 rfl rfl)
theorem dX4_next_6 : decode cX4_next 6 = .ok (.aload_n 0, 1) := dk_42 (dk_at dksX4_next_0 6 rfl rfl)
theorem dX4_next_7 : decode cX4_next 7 = .ok (.iload_n 1, 1) := dk_27 (dk_at dksX4_next_0 7 rfl rfl)
theorem dX4_next_8 : decode cX4_next 8 = .ok (.invokevirtual 235, 3) := dk_182 0 235 (dk_at dksX4_next_0 8 rfl rfl)
theorem dX4_next_11 : decode cX4_next 11 = .ok (.ifCond .eq 11, 3) := dk_153 0 11 (dk_at dksX4_next_0 11 rfl rfl)
theorem dX4_next_14 : decode cX4_next 14 = .ok (.aload_n 0, 1) := dk_42 (dk_at dksX4_next_0 14 rfl rfl)
theorem dX4_next_15 : decode cX4_next 15 = .ok (.iload_n 2, 1) := dk_28 (dk_at dksX4_next_0 15 rfl rfl)
theorem dX4_next_16 : decode cX4_next 16 = .ok (.invokevirtual 235, 3) := dk_182 0 235 (dk_at dksX4_next_0 16 rfl rfl)
theorem dX4_next_19 : decode cX4_next 19 = .ok (.ifCond .ne 7, 3) := dk_154 0 7 (dk_at dksX4_next_0 19 rfl rfl)
theorem dX4_next_22 : decode cX4_next 22 = .ok (.iconst 1, 1) := dk_4 (dk_at dksX4_next_0 22 rfl rfl)
theorem dX4_next_23 : decode cX4_next 23 = .ok (.goto 4, 3) := dk_167 0 4 (dk_at dksX4_next_1 0 rfl rfl)
theorem dX4_next_26 : decode cX4_next 26 = .ok (.iconst 0, 1) := dk_3 (dk_at dksX4_next_1 3 rfl rfl)
theorem dX4_next_27 : decode cX4_next 27 = .ok (.iconst 1, 1) := dk_4 (dk_at dksX4_next_1 4 rfl rfl)
theorem dX4_next_28 : decode cX4_next 28 = .ok (.invokevirtual 170, 3) := dk_182 0 170 (dk_at dksX4_next_1 5 rfl rfl)
theorem dX4_next_31 : decode cX4_next 31 = .ok (.ifCond .ne 14, 3) := dk_154 0 14 (dk_at dksX4_next_1 8 rfl rfl)
theorem dX4_next_34 : decode cX4_next 34 = .ok (.aload_n 0, 1) := dk_42 (dk_at dksX4_next_1 11 rfl rfl)
theorem dX4_next_35 : decode cX4_next 35 = .ok (.iconst 0, 1) := dk_3 (dk_at dksX4_next_1 12 rfl rfl)
theorem dX4_next_36 : decode cX4_next 36 = .ok (.iconst 0, 1) := dk_3 (dk_at dksX4_next_1 13 rfl rfl)
theorem dX4_next_37 : decode cX4_next 37 = .ok (.iload_n 3, 1) := dk_29 (dk_at dksX4_next_1 14 rfl rfl)
theorem dX4_next_38 : decode cX4_next 38 = .ok (.iconst 2, 1) := dk_5 (dk_at dksX4_next_1 15 rfl rfl)
theorem dX4_next_39 : decode cX4_next 39 = .ok (.invokevirtual 238, 3) := dk_182 0 238 (dk_at dksX4_next_1 16 rfl rfl)
theorem dX4_next_42 : decode cX4_next 42 = .ok (.ifCond .eq 5, 3) := dk_153 0 5 (dk_at dksX4_next_1 19 rfl rfl)
theorem dX4_next_45 : decode cX4_next 45 = .ok (.iconst 0, 1) := dk_3 (dk_at dksX4_next_1 22 rfl rfl)
theorem dX4_next_46 : decode cX4_next 46 = .ok (.ireturn, 1) := dk_172 (dk_at dksX4_next_1 23 rfl rfl)
theorem dX4_next_47 : decode cX4_next 47 = .ok (.iconst (-1), 1) := dk_2 (dk_at dksX4_next_2 0 rfl rfl)
theorem dX4_next_48 : decode cX4_next 48 = .ok (.istore 4, 2) := dk_54 4 (dk_at dksX4_next_2 1 rfl rfl)
theorem dX4_next_50 : decode cX4_next 50 = .ok (.iconst 0, 1) := dk_3 (dk_at dksX4_next_2 3 rfl rfl)
theorem dX4_next_51 : decode cX4_next 51 = .ok (.istore 5, 2) := dk_54 5 (dk_at dksX4_next_2 4 rfl rfl)
theorem dX4_next_53 : decode cX4_next 53 = .ok (.iconst 0, 1) := dk_3 (dk_at dksX4_next_2 6 rfl rfl)
theorem dX4_next_54 : decode cX4_next 54 = .ok (.istore 6, 2) := dk_54 6 (dk_at dksX4_next_2 7 rfl rfl)
theorem dX4_next_56 : decode cX4_next 56 = .ok (.iload 6, 2) := dk_21 6 (dk_at dksX4_next_2 9 rfl rfl)
theorem dX4_next_58 : decode cX4_next 58 = .ok (.bipush 10, 2) := dk_16 10 (dk_at dksX4_next_2 11 rfl rfl)
theorem dX4_next_60 : decode cX4_next 60 = .ok (.if_icmp .ge 120, 3) := dk_162 0 120 (dk_at dksX4_next_2 13 rfl rfl)
theorem dX4_next_63 : decode cX4_next 63 = .ok (.iconst 0, 1) := dk_3 (dk_at dksX4_next_2 16 rfl rfl)
theorem dX4_next_64 : decode cX4_next 64 = .ok (.istore 7, 2) := dk_54 7 (dk_at dksX4_next_2 17 rfl rfl)
theorem dX4_next_66 : decode cX4_next 66 = .ok (.iload 7, 2) := dk_21 7 (dk_at dksX4_next_2 19 rfl rfl)
theorem dX4_next_68 : decode cX4_next 68 = .ok (.bipush 10, 2) := dk_16 10 (dk_at dksX4_next_2 21 rfl rfl)
theorem dX4_next_70 : decode cX4_next 70 = .ok (.if_icmp .ge 104, 3) := dk_162 0 104 (dk_at dksX4_next_3 0 rfl rfl)
theorem dX4_next_73 : decode cX4_next 73 = .ok (.aload_n 0, 1) := dk_42 (dk_at dksX4_next_3 3 rfl rfl)
theorem dX4_next_74 : decode cX4_next 74 = .ok (.iload 6, 2) := dk_21 6 (dk_at dksX4_next_3 4 rfl rfl)
theorem dX4_next_76 : decode cX4_next 76 = .ok (.iload_n 3, 1) := dk_29 (dk_at dksX4_next_3 6 rfl rfl)
theorem dX4_next_77 : decode cX4_next 77 = .ok (.iload 7, 2) := dk_21 7 (dk_at dksX4_next_3 7 rfl rfl)
theorem dX4_next_79 : decode cX4_next 79 = .ok (.invokevirtual 311, 3) := dk_182 1 55 (dk_at dksX4_next_3 9 rfl rfl)
theorem dX4_next_82 : decode cX4_next 82 = .ok (.ifCond .eq 6, 3) := dk_153 0 6 (dk_at dksX4_next_3 12 rfl rfl)
theorem dX4_next_85 : decode cX4_next 85 = .ok (.goto 83, 3) := dk_167 0 83 (dk_at dksX4_next_3 15 rfl rfl)
theorem dX4_next_88 : decode cX4_next 88 = .ok (.aload_n 0, 1) := dk_42 (dk_at dksX4_next_3 18 rfl rfl)
theorem dX4_next_89 : decode cX4_next 89 = .ok (.iload_n 1, 1) := dk_27 (dk_at dksX4_next_3 19 rfl rfl)
theorem dX4_next_90 : decode cX4_next 90 = .ok (.iload_n 3, 1) := dk_29 (dk_at dksX4_next_3 20 rfl rfl)
theorem dX4_next_91 : decode cX4_next 91 = .ok (.invokevirtual 241, 3) := dk_182 0 241 (dk_at dksX4_next_3 21 rfl rfl)
theorem dX4_next_94 : decode cX4_next 94 = .ok (.aload_n 0, 1) := dk_42 (dk_at dksX4_next_4 0 rfl rfl)
theorem dX4_next_95 : decode cX4_next 95 = .ok (.iload 6, 2) := dk_21 6 (dk_at dksX4_next_4 1 rfl rfl)
theorem dX4_next_97 : decode cX4_next 97 = .ok (.iload 7, 2) := dk_21 7 (dk_at dksX4_next_4 3 rfl rfl)
theorem dX4_next_99 : decode cX4_next 99 = .ok (.invokevirtual 244, 3) := dk_182 0 244 (dk_at dksX4_next_4 5 rfl rfl)
theorem dX4_next_102 : decode cX4_next 102 = .ok (.istore 8, 2) := dk_54 8 (dk_at dksX4_next_4 8 rfl rfl)
theorem dX4_next_104 : decode cX4_next 104 = .ok (.aload_n 0, 1) := dk_42 (dk_at dksX4_next_4 10 rfl rfl)
theorem dX4_next_105 : decode cX4_next 105 = .ok (.iload_n 2, 1) := dk_28 (dk_at dksX4_next_4 11 rfl rfl)
theorem dX4_next_106 : decode cX4_next 106 = .ok (.iload_n 3, 1) := dk_29 (dk_at dksX4_next_4 12 rfl rfl)
theorem dX4_next_107 : decode cX4_next 107 = .ok (.invokevirtual 241, 3) := dk_182 0 241 (dk_at dksX4_next_4 13 rfl rfl)
theorem dX4_next_110 : decode cX4_next 110 = .ok (.iload 8, 2) := dk_21 8 (dk_at dksX4_next_4 16 rfl rfl)
theorem dX4_next_112 : decode cX4_next 112 = .ok (.aload_n 0, 1) := dk_42 (dk_at dksX4_next_4 18 rfl rfl)
theorem dX4_next_113 : decode cX4_next 113 = .ok (.iload 6, 2) := dk_21 6 (dk_at dksX4_next_4 19 rfl rfl)
theorem dX4_next_115 : decode cX4_next 115 = .ok (.iload 7, 2) := dk_21 7 (dk_at dksX4_next_4 21 rfl rfl)
theorem dX4_next_117 : decode cX4_next 117 = .ok (.invokevirtual 244, 3) := dk_182 0 244 (dk_at dksX4_next_5 0 rfl rfl)
theorem dX4_next_120 : decode cX4_next 120 = .ok (.isub, 1) := dk_100 (dk_at dksX4_next_5 3 rfl rfl)
theorem dX4_next_121 : decode cX4_next 121 = .ok (.istore 9, 2) := dk_54 9 (dk_at dksX4_next_5 4 rfl rfl)
theorem dX4_next_123 : decode cX4_next 123 = .ok (.iload 9, 2) := dk_21 9 (dk_at dksX4_next_5 6 rfl rfl)
theorem dX4_next_125 : decode cX4_next 125 = .ok (.ifCond .ge 9, 3) := dk_156 0 9 (dk_at dksX4_next_5 8 rfl rfl)
theorem dX4_next_128 : decode cX4_next 128 = .ok (.iload 9, 2) := dk_21 9 (dk_at dksX4_next_5 11 rfl rfl)
theorem dX4_next_130 : decode cX4_next 130 = .ok (.ineg, 1) := dk_116 (dk_at dksX4_next_5 13 rfl rfl)
theorem dX4_next_131 : decode cX4_next 131 = .ok (.goto 5, 3) := dk_167 0 5 (dk_at dksX4_next_5 14 rfl rfl)
theorem dX4_next_134 : decode cX4_next 134 = .ok (.iload 9, 2) := dk_21 9 (dk_at dksX4_next_5 17 rfl rfl)
theorem dX4_next_136 : decode cX4_next 136 = .ok (.istore 9, 2) := dk_54 9 (dk_at dksX4_next_5 19 rfl rfl)
theorem dX4_next_138 : decode cX4_next 138 = .ok (.iload 9, 2) := dk_21 9 (dk_at dksX4_next_5 21 rfl rfl)
theorem dX4_next_140 : decode cX4_next 140 = .ok (.iload 5, 2) := dk_21 5 (dk_at dksX4_next_6 0 rfl rfl)
theorem dX4_next_142 : decode cX4_next 142 = .ok (.if_icmp .gt 6, 3) := dk_163 0 6 (dk_at dksX4_next_6 2 rfl rfl)
theorem dX4_next_145 : decode cX4_next 145 = .ok (.goto 23, 3) := dk_167 0 23 (dk_at dksX4_next_6 5 rfl rfl)
theorem dX4_next_148 : decode cX4_next 148 = .ok (.iload 9, 2) := dk_21 9 (dk_at dksX4_next_6 8 rfl rfl)
theorem dX4_next_150 : decode cX4_next 150 = .ok (.istore 5, 2) := dk_54 5 (dk_at dksX4_next_6 10 rfl rfl)
theorem dX4_next_152 : decode cX4_next 152 = .ok (.bipush 100, 2) := dk_16 100 (dk_at dksX4_next_6 12 rfl rfl)
theorem dX4_next_154 : decode cX4_next 154 = .ok (.iload 9, 2) := dk_21 9 (dk_at dksX4_next_6 14 rfl rfl)
theorem dX4_next_156 : decode cX4_next 156 = .ok (.imul, 1) := dk_104 (dk_at dksX4_next_6 16 rfl rfl)
theorem dX4_next_157 : decode cX4_next 157 = .ok (.bipush 10, 2) := dk_16 10 (dk_at dksX4_next_6 17 rfl rfl)
theorem dX4_next_159 : decode cX4_next 159 = .ok (.iload 6, 2) := dk_21 6 (dk_at dksX4_next_6 19 rfl rfl)
theorem dX4_next_161 : decode cX4_next 161 = .ok (.imul, 1) := dk_104 (dk_at dksX4_next_6 21 rfl rfl)
theorem dX4_next_162 : decode cX4_next 162 = .ok (.iadd, 1) := dk_96 (dk_at dksX4_next_6 22 rfl rfl)
theorem dX4_next_163 : decode cX4_next 163 = .ok (.iload 7, 2) := dk_21 7 (dk_at dksX4_next_7 0 rfl rfl)
theorem dX4_next_165 : decode cX4_next 165 = .ok (.iadd, 1) := dk_96 (dk_at dksX4_next_7 2 rfl rfl)
theorem dX4_next_166 : decode cX4_next 166 = .ok (.istore 4, 2) := dk_54 4 (dk_at dksX4_next_7 3 rfl rfl)
theorem dX4_next_168 : decode cX4_next 168 = .ok (.iinc 7 1, 3) := dk_132 7 1 (dk_at dksX4_next_7 5 rfl rfl)
theorem dX4_next_171 : decode cX4_next 171 = .ok (.goto (-105), 3) := dk_167 255 151 (dk_at dksX4_next_7 8 rfl rfl)
theorem dX4_next_174 : decode cX4_next 174 = .ok (.iinc 6 1, 3) := dk_132 6 1 (dk_at dksX4_next_7 11 rfl rfl)
theorem dX4_next_177 : decode cX4_next 177 = .ok (.goto (-121), 3) := dk_167 255 135 (dk_at dksX4_next_7 14 rfl rfl)
theorem dX4_next_180 : decode cX4_next 180 = .ok (.iload 4, 2) := dk_21 4 (dk_at dksX4_next_7 17 rfl rfl)
theorem dX4_next_182 : decode cX4_next 182 = .ok (.ireturn, 1) := dk_172 (dk_at dksX4_next_7 19 rfl rfl)
abbrev cX4_isLookedAt : ByteArray := prog_16_method_76_code
def yX4_isLookedAt : MethodName := ⟨RX4, "isLookedAt", "(III)Z"⟩
def dkwX4_isLookedAt_3 : List UInt8 := [172]
abbrev dktX4_isLookedAt_3 : List UInt8 := dkwX4_isLookedAt_3 ++ []
def dkwX4_isLookedAt_2 : List UInt8 := [180, 0, 55, 21, 4, 50, 5, 46, 122, 4, 126, 4, 160, 0, 5, 4, 172, 132, 4, 1, 167, 255, 195, 3]
abbrev dktX4_isLookedAt_2 : List UInt8 := dkwX4_isLookedAt_2 ++ dktX4_isLookedAt_3
def dkwX4_isLookedAt_1 : List UInt8 := [160, 0, 39, 42, 180, 0, 55, 21, 4, 50, 4, 46, 28, 160, 0, 26, 42, 29, 182, 0, 202, 42]
abbrev dktX4_isLookedAt_1 : List UInt8 := dkwX4_isLookedAt_1 ++ dktX4_isLookedAt_2
def dkwX4_isLookedAt_0 : List UInt8 := [3, 54, 4, 21, 4, 42, 180, 0, 247, 162, 0, 58, 42, 180, 0, 55, 21, 4, 50, 3, 46, 27]
abbrev dktX4_isLookedAt_0 : List UInt8 := dkwX4_isLookedAt_0 ++ dktX4_isLookedAt_1
theorem dksX4_isLookedAt_0 : cX4_isLookedAt.data.toList.drop 0 = dktX4_isLookedAt_0 := by decide +kernel
theorem dksX4_isLookedAt_1 : cX4_isLookedAt.data.toList.drop 22 = dktX4_isLookedAt_1 := dk_seg dksX4_isLookedAt_0 22 rfl rfl
theorem dksX4_isLookedAt_2 : cX4_isLookedAt.data.toList.drop 44 = dktX4_isLookedAt_2 := dk_seg dksX4_isLookedAt_1 22 rfl rfl
theorem dksX4_isLookedAt_3 : cX4_isLookedAt.data.toList.drop 68 = dktX4_isLookedAt_3 := dk_seg dksX4_isLookedAt_2 24 rfl rfl
theorem dX4_isLookedAt_0 : decode cX4_isLookedAt 0 = .ok (.iconst 0, 1) := dk_3 (dk_at dksX4_isLookedAt_0 0 rfl rfl)
theorem dX4_isLookedAt_1 : decode cX4_isLookedAt 1 = .ok (.istore 4, 2) := dk_54 4 (dk_at dksX4_isLookedAt_0 1 rfl rfl)
theorem dX4_isLookedAt_3 : decode cX4_isLookedAt 3 = .ok (.iload 4, 2) := dk_21 4 (dk_at dksX4_isLookedAt_0 3 rfl rfl)
theorem dX4_isLookedAt_5 : decode cX4_isLookedAt 5 = .ok (.aload_n 0, 1) := dk_42 (dk_at dksX4_isLookedAt_0 5 rfl rfl)
theorem dX4_isLookedAt_6 : decode cX4_isLookedAt 6 = .ok (.getfield 247, 3) := dk_180 0 247 (dk_at dksX4_isLookedAt_0 6 rfl rfl)
theorem dX4_isLookedAt_9 : decode cX4_isLookedAt 9 = .ok (.if_icmp .ge 58, 3) := dk_162 0 58 (dk_at dksX4_isLookedAt_0 9 rfl rfl)
theorem dX4_isLookedAt_12 : decode cX4_isLookedAt 12 = .ok (.aload_n 0, 1) := dk_42 (dk_at dksX4_isLookedAt_0 12 rfl rfl)
theorem dX4_isLookedAt_13 : decode cX4_isLookedAt 13 = .ok (.getfield 55, 3) := dk_180 0 55 (dk_at dksX4_isLookedAt_0 13 rfl rfl)
theorem dX4_isLookedAt_16 : decode cX4_isLookedAt 16 = .ok (.iload 4, 2) := dk_21 4 (dk_at dksX4_isLookedAt_0 16 rfl rfl)
theorem dX4_isLookedAt_18 : decode cX4_isLookedAt 18 = .ok (.aaload, 1) := dk_50 (dk_at dksX4_isLookedAt_0 18 rfl rfl)
theorem dX4_isLookedAt_19 : decode cX4_isLookedAt 19 = .ok (.iconst 0, 1) := dk_3 (dk_at dksX4_isLookedAt_0 19 rfl rfl)
theorem dX4_isLookedAt_20 : decode cX4_isLookedAt 20 = .ok (.iaload, 1) := dk_46 (dk_at dksX4_isLookedAt_0 20 rfl rfl)
theorem dX4_isLookedAt_21 : decode cX4_isLookedAt 21 = .ok (.iload_n 1, 1) := dk_27 (dk_at dksX4_isLookedAt_0 21 rfl rfl)
theorem dX4_isLookedAt_22 : decode cX4_isLookedAt 22 = .ok (.if_icmp .ne 39, 3) := dk_160 0 39 (dk_at dksX4_isLookedAt_1 0 rfl rfl)
theorem dX4_isLookedAt_25 : decode cX4_isLookedAt 25 = .ok (.aload_n 0, 1) := dk_42 (dk_at dksX4_isLookedAt_1 3 rfl rfl)
theorem dX4_isLookedAt_26 : decode cX4_isLookedAt 26 = .ok (.getfield 55, 3) := dk_180 0 55 (dk_at dksX4_isLookedAt_1 4 rfl rfl)
theorem dX4_isLookedAt_29 : decode cX4_isLookedAt 29 = .ok (.iload 4, 2) := dk_21 4 (dk_at dksX4_isLookedAt_1 7 rfl rfl)
theorem dX4_isLookedAt_31 : decode cX4_isLookedAt 31 = .ok (.aaload, 1) := dk_50 (dk_at dksX4_isLookedAt_1 9 rfl rfl)
theorem dX4_isLookedAt_32 : decode cX4_isLookedAt 32 = .ok (.iconst 1, 1) := dk_4 (dk_at dksX4_isLookedAt_1 10 rfl rfl)
theorem dX4_isLookedAt_33 : decode cX4_isLookedAt 33 = .ok (.iaload, 1) := dk_46 (dk_at dksX4_isLookedAt_1 11 rfl rfl)
theorem dX4_isLookedAt_34 : decode cX4_isLookedAt 34 = .ok (.iload_n 2, 1) := dk_28 (dk_at dksX4_isLookedAt_1 12 rfl rfl)
theorem dX4_isLookedAt_35 : decode cX4_isLookedAt 35 = .ok (.if_icmp .ne 26, 3) := dk_160 0 26 (dk_at dksX4_isLookedAt_1 13 rfl rfl)
theorem dX4_isLookedAt_38 : decode cX4_isLookedAt 38 = .ok (.aload_n 0, 1) := dk_42 (dk_at dksX4_isLookedAt_1 16 rfl rfl)
theorem dX4_isLookedAt_39 : decode cX4_isLookedAt 39 = .ok (.iload_n 3, 1) := dk_29 (dk_at dksX4_isLookedAt_1 17 rfl rfl)
theorem dX4_isLookedAt_40 : decode cX4_isLookedAt 40 = .ok (.invokevirtual 202, 3) := dk_182 0 202 (dk_at dksX4_isLookedAt_1 18 rfl rfl)
theorem dX4_isLookedAt_43 : decode cX4_isLookedAt 43 = .ok (.aload_n 0, 1) := dk_42 (dk_at dksX4_isLookedAt_1 21 rfl rfl)
theorem dX4_isLookedAt_44 : decode cX4_isLookedAt 44 = .ok (.getfield 55, 3) := dk_180 0 55 (dk_at dksX4_isLookedAt_2 0 rfl rfl)
theorem dX4_isLookedAt_47 : decode cX4_isLookedAt 47 = .ok (.iload 4, 2) := dk_21 4 (dk_at dksX4_isLookedAt_2 3 rfl rfl)
theorem dX4_isLookedAt_49 : decode cX4_isLookedAt 49 = .ok (.aaload, 1) := dk_50 (dk_at dksX4_isLookedAt_2 5 rfl rfl)
theorem dX4_isLookedAt_50 : decode cX4_isLookedAt 50 = .ok (.iconst 2, 1) := dk_5 (dk_at dksX4_isLookedAt_2 6 rfl rfl)
theorem dX4_isLookedAt_51 : decode cX4_isLookedAt 51 = .ok (.iaload, 1) := dk_46 (dk_at dksX4_isLookedAt_2 7 rfl rfl)
theorem dX4_isLookedAt_52 : decode cX4_isLookedAt 52 = .ok (.ishr, 1) := dk_122 (dk_at dksX4_isLookedAt_2 8 rfl rfl)
theorem dX4_isLookedAt_53 : decode cX4_isLookedAt 53 = .ok (.iconst 1, 1) := dk_4 (dk_at dksX4_isLookedAt_2 9 rfl rfl)
theorem dX4_isLookedAt_54 : decode cX4_isLookedAt 54 = .ok (.iand, 1) := dk_126 (dk_at dksX4_isLookedAt_2 10 rfl rfl)
theorem dX4_isLookedAt_55 : decode cX4_isLookedAt 55 = .ok (.iconst 1, 1) := dk_4 (dk_at dksX4_isLookedAt_2 11 rfl rfl)
theorem dX4_isLookedAt_56 : decode cX4_isLookedAt 56 = .ok (.if_icmp .ne 5, 3) := dk_160 0 5 (dk_at dksX4_isLookedAt_2 12 rfl rfl)
theorem dX4_isLookedAt_59 : decode cX4_isLookedAt 59 = .ok (.iconst 1, 1) := dk_4 (dk_at dksX4_isLookedAt_2 15 rfl rfl)
theorem dX4_isLookedAt_60 : decode cX4_isLookedAt 60 = .ok (.ireturn, 1) := dk_172 (dk_at dksX4_isLookedAt_2 16 rfl rfl)
theorem dX4_isLookedAt_61 : decode cX4_isLookedAt 61 = .ok (.iinc 4 1, 3) := dk_132 4 1 (dk_at dksX4_isLookedAt_2 17 rfl rfl)
theorem dX4_isLookedAt_64 : decode cX4_isLookedAt 64 = .ok (.goto (-61), 3) := dk_167 255 195 (dk_at dksX4_isLookedAt_2 20 rfl rfl)
theorem dX4_isLookedAt_67 : decode cX4_isLookedAt 67 = .ok (.iconst 0, 1) := dk_3 (dk_at dksX4_isLookedAt_2 23 rfl rfl)
theorem dX4_isLookedAt_68 : decode cX4_isLookedAt 68 = .ok (.ireturn, 1) := dk_172 (dk_at dksX4_isLookedAt_3 0 rfl rfl)
abbrev cX4_signs : ByteArray := prog_16_method_79_code
def yX4_signs : MethodName := ⟨RX4, "signs", "(II)I"⟩
def dkwX4_signs_9 : List UInt8 := [167, 0, 4, 3, 96, 172]
abbrev dktX4_signs_9 : List UInt8 := dkwX4_signs_9 ++ []
def dkwX4_signs_8 : List UInt8 := [153, 0, 7, 4, 167, 0, 4, 3, 42, 21, 5, 45, 4, 46, 45, 6, 46, 182, 1, 58, 153, 0, 7, 5]
abbrev dktX4_signs_8 : List UInt8 := dkwX4_signs_8 ++ dktX4_signs_9
def dkwX4_signs_7 : List UInt8 := [167, 0, 4, 2, 54, 5, 132, 6, 1, 167, 255, 168, 42, 21, 4, 45, 5, 46, 45, 6, 46, 182, 1, 58]
abbrev dktX4_signs_7 : List UInt8 := dkwX4_signs_7 ++ dktX4_signs_8
def dkwX4_signs_6 : List UInt8 := [2, 54, 4, 25, 7, 4, 46, 45, 5, 46, 160, 0, 20, 25, 7, 3, 46, 154, 0, 10, 25, 7, 5, 46]
abbrev dktX4_signs_6 : List UInt8 := dkwX4_signs_6 ++ dktX4_signs_7
def dkwX4_signs_5 : List UInt8 := [25, 7, 4, 46, 45, 4, 46, 160, 0, 20, 25, 7, 3, 46, 154, 0, 10, 25, 7, 5, 46, 167, 0, 4]
abbrev dktX4_signs_5 : List UInt8 := dkwX4_signs_5 ++ dktX4_signs_6
def dkwX4_signs_4 : List UInt8 := [180, 0, 49, 16, 20, 27, 104, 21, 6, 96, 50, 58, 7, 25, 7, 3, 46, 4, 164, 0, 6, 167, 0, 57]
abbrev dktX4_signs_4 : List UInt8 := dkwX4_signs_4 ++ dktX4_signs_5
def dkwX4_signs_3 : List UInt8 := [46, 5, 159, 0, 5, 3, 172, 2, 54, 4, 2, 54, 5, 3, 54, 6, 21, 6, 28, 162, 0, 88, 42]
abbrev dktX4_signs_3 : List UInt8 := dkwX4_signs_3 ++ dktX4_signs_4
def dkwX4_signs_2 : List UInt8 := [3, 5, 182, 0, 170, 153, 0, 5, 3, 172, 42, 180, 0, 49, 16, 20, 27, 104, 28, 96, 50, 78, 45, 3]
abbrev dktX4_signs_2 : List UInt8 := dkwX4_signs_2 ++ dktX4_signs_3
def dkwX4_signs_1 : List UInt8 := [154, 0, 32, 42, 28, 3, 42, 180, 0, 46, 27, 46, 4, 100, 184, 0, 128, 154, 0, 7, 4, 167, 0, 4]
abbrev dktX4_signs_1 : List UInt8 := dkwX4_signs_1 ++ dktX4_signs_2
def dkwX4_signs_0 : List UInt8 := [42, 3, 181, 0, 94, 42, 42, 27, 182, 0, 235, 154, 0, 7, 4, 167, 0, 4, 3, 4, 182, 0, 170]
abbrev dktX4_signs_0 : List UInt8 := dkwX4_signs_0 ++ dktX4_signs_1
theorem dksX4_signs_0 : cX4_signs.data.toList.drop 0 = dktX4_signs_0 := by decide +kernel
theorem dksX4_signs_1 : cX4_signs.data.toList.drop 23 = dktX4_signs_1 := dk_seg dksX4_signs_0 23 rfl rfl
theorem dksX4_signs_2 : cX4_signs.data.toList.drop 47 = dktX4_signs_2 := dk_seg dksX4_signs_1 24 rfl rfl
theorem dksX4_signs_3 : cX4_signs.data.toList.drop 71 = dktX4_signs_3 := dk_seg dksX4_signs_2 24 rfl rfl
theorem dksX4_signs_4 : cX4_signs.data.toList.drop 94 = dktX4_signs_4 := dk_seg dksX4_signs_3 23 rfl rfl
theorem dksX4_signs_5 : cX4_signs.data.toList.drop 118 = dktX4_signs_5 := dk_seg dksX4_signs_4 24 rfl rfl
theorem dksX4_signs_6 : cX4_signs.data.toList.drop 142 = dktX4_signs_6 := dk_seg dksX4_signs_5 24 rfl rfl
theorem dksX4_signs_7 : cX4_signs.data.toList.drop 166 = dktX4_signs_7 := dk_seg dksX4_signs_6 24 rfl rfl
theorem dksX4_signs_8 : cX4_signs.data.toList.drop 190 = dktX4_signs_8 := dk_seg dksX4_signs_7 24 rfl rfl
theorem dksX4_signs_9 : cX4_signs.data.toList.drop 214 = dktX4_signs_9 := dk_seg dksX4_signs_8 24 rfl rfl
theorem dX4_signs_0 : decode cX4_signs 0 = .ok (.aload_n 0, 1) := dk_42 (dk_at dksX4_signs_0 0 rfl rfl)
theorem dX4_signs_1 : decode cX4_signs 1 = .ok (.iconst 0, 1) := dk_3 (dk_at dksX4_signs_0 1 rfl rfl)
theorem dX4_signs_2 : decode cX4_signs 2 = .ok (.putfield 94, 3) := dk_181 0 94 (dk_at dksX4_signs_0 2 rfl rfl)
theorem dX4_signs_5 : decode cX4_signs 5 = .ok (.aload_n 0, 1) := dk_42 (dk_at dksX4_signs_0 5 rfl rfl)
theorem dX4_signs_6 : decode cX4_signs 6 = .ok (.aload_n 0, 1) := dk_42 (dk_at dksX4_signs_0 6 rfl rfl)
theorem dX4_signs_7 : decode cX4_signs 7 = .ok (.iload_n 1, 1) := dk_27 (dk_at dksX4_signs_0 7 rfl rfl)
theorem dX4_signs_8 : decode cX4_signs 8 = .ok (.invokevirtual 235, 3) := dk_182 0 235 (dk_at dksX4_signs_0 8 rfl rfl)
theorem dX4_signs_11 : decode cX4_signs 11 = .ok (.ifCond .ne 7, 3) := dk_154 0 7 (dk_at dksX4_signs_0 11 rfl rfl)
theorem dX4_signs_14 : decode cX4_signs 14 = .ok (.iconst 1, 1) := dk_4 (dk_at dksX4_signs_0 14 rfl rfl)
theorem dX4_signs_15 : decode cX4_signs 15 = .ok (.goto 4, 3) := dk_167 0 4 (dk_at dksX4_signs_0 15 rfl rfl)
theorem dX4_signs_18 : decode cX4_signs 18 = .ok (.iconst 0, 1) := dk_3 (dk_at dksX4_signs_0 18 rfl rfl)
theorem dX4_signs_19 : decode cX4_signs 19 = .ok (.iconst 1, 1) := dk_4 (dk_at dksX4_signs_0 19 rfl rfl)
theorem dX4_signs_20 : decode cX4_signs 20 = .ok (.invokevirtual 170, 3) := dk_182 0 170 (dk_at dksX4_signs_0 20 rfl rfl)
theorem dX4_signs_23 : decode cX4_signs 23 = .ok (.ifCond .ne 32, 3) := dk_154 0 32 (dk_at dksX4_signs_1 0 rfl rfl)
theorem dX4_signs_26 : decode cX4_signs 26 = .ok (.aload_n 0, 1) := dk_42 (dk_at dksX4_signs_1 3 rfl rfl)
theorem dX4_signs_27 : decode cX4_signs 27 = .ok (.iload_n 2, 1) := dk_28 (dk_at dksX4_signs_1 4 rfl rfl)
theorem dX4_signs_28 : decode cX4_signs 28 = .ok (.iconst 0, 1) := dk_3 (dk_at dksX4_signs_1 5 rfl rfl)
theorem dX4_signs_29 : decode cX4_signs 29 = .ok (.aload_n 0, 1) := dk_42 (dk_at dksX4_signs_1 6 rfl rfl)
theorem dX4_signs_30 : decode cX4_signs 30 = .ok (.getfield 46, 3) := dk_180 0 46 (dk_at dksX4_signs_1 7 rfl rfl)
theorem dX4_signs_33 : decode cX4_signs 33 = .ok (.iload_n 1, 1) := dk_27 (dk_at dksX4_signs_1 10 rfl rfl)
theorem dX4_signs_34 : decode cX4_signs 34 = .ok (.iaload, 1) := dk_46 (dk_at dksX4_signs_1 11 rfl rfl)
theorem dX4_signs_35 : decode cX4_signs 35 = .ok (.iconst 1, 1) := dk_4 (dk_at dksX4_signs_1 12 rfl rfl)
theorem dX4_signs_36 : decode cX4_signs 36 = .ok (.isub, 1) := dk_100 (dk_at dksX4_signs_1 13 rfl rfl)
theorem dX4_signs_37 : decode cX4_signs 37 = .ok (.invokestatic 128, 3) := dk_184 0 128 (dk_at dksX4_signs_1 14 rfl rfl)
theorem dX4_signs_40 : decode cX4_signs 40 = .ok (.ifCond .ne 7, 3) := dk_154 0 7 (dk_at dksX4_signs_1 17 rfl rfl)
theorem dX4_signs_43 : decode cX4_signs 43 = .ok (.iconst 1, 1) := dk_4 (dk_at dksX4_signs_1 20 rfl rfl)
theorem dX4_signs_44 : decode cX4_signs 44 = .ok (.goto 4, 3) := dk_167 0 4 (dk_at dksX4_signs_1 21 rfl rfl)
theorem dX4_signs_47 : decode cX4_signs 47 = .ok (.iconst 0, 1) := dk_3 (dk_at dksX4_signs_2 0 rfl rfl)
theorem dX4_signs_48 : decode cX4_signs 48 = .ok (.iconst 2, 1) := dk_5 (dk_at dksX4_signs_2 1 rfl rfl)
theorem dX4_signs_49 : decode cX4_signs 49 = .ok (.invokevirtual 170, 3) := dk_182 0 170 (dk_at dksX4_signs_2 2 rfl rfl)
theorem dX4_signs_52 : decode cX4_signs 52 = .ok (.ifCond .eq 5, 3) := dk_153 0 5 (dk_at dksX4_signs_2 5 rfl rfl)
theorem dX4_signs_55 : decode cX4_signs 55 = .ok (.iconst 0, 1) := dk_3 (dk_at dksX4_signs_2 8 rfl rfl)
theorem dX4_signs_56 : decode cX4_signs 56 = .ok (.ireturn, 1) := dk_172 (dk_at dksX4_signs_2 9 rfl rfl)
theorem dX4_signs_57 : decode cX4_signs 57 = .ok (.aload_n 0, 1) := dk_42 (dk_at dksX4_signs_2 10 rfl rfl)
theorem dX4_signs_58 : decode cX4_signs 58 = .ok (.getfield 49, 3) := dk_180 0 49 (dk_at dksX4_signs_2 11 rfl rfl)
theorem dX4_signs_61 : decode cX4_signs 61 = .ok (.bipush 20, 2) := dk_16 20 (dk_at dksX4_signs_2 14 rfl rfl)
theorem dX4_signs_63 : decode cX4_signs 63 = .ok (.iload_n 1, 1) := dk_27 (dk_at dksX4_signs_2 16 rfl rfl)
theorem dX4_signs_64 : decode cX4_signs 64 = .ok (.imul, 1) := dk_104 (dk_at dksX4_signs_2 17 rfl rfl)
theorem dX4_signs_65 : decode cX4_signs 65 = .ok (.iload_n 2, 1) := dk_28 (dk_at dksX4_signs_2 18 rfl rfl)
theorem dX4_signs_66 : decode cX4_signs 66 = .ok (.iadd, 1) := dk_96 (dk_at dksX4_signs_2 19 rfl rfl)
theorem dX4_signs_67 : decode cX4_signs 67 = .ok (.aaload, 1) := dk_50 (dk_at dksX4_signs_2 20 rfl rfl)
theorem dX4_signs_68 : decode cX4_signs 68 = .ok (.astore_n 3, 1) := dk_78 (dk_at dksX4_signs_2 21 rfl rfl)
theorem dX4_signs_69 : decode cX4_signs 69 = .ok (.aload_n 3, 1) := dk_45 (dk_at dksX4_signs_2 22 rfl rfl)
theorem dX4_signs_70 : decode cX4_signs 70 = .ok (.iconst 0, 1) := dk_3 (dk_at dksX4_signs_2 23 rfl rfl)
theorem dX4_signs_71 : decode cX4_signs 71 = .ok (.iaload, 1) := dk_46 (dk_at dksX4_signs_3 0 rfl rfl)
theorem dX4_signs_72 : decode cX4_signs 72 = .ok (.iconst 2, 1) := dk_5 (dk_at dksX4_signs_3 1 rfl rfl)
theorem dX4_signs_73 : decode cX4_signs 73 = .ok (.if_icmp .eq 5, 3) := dk_159 0 5 (dk_at dksX4_signs_3 2 rfl rfl)
theorem dX4_signs_76 : decode cX4_signs 76 = .ok (.iconst 0, 1) := dk_3 (dk_at dksX4_signs_3 5 rfl rfl)
theorem dX4_signs_77 : decode cX4_signs 77 = .ok (.ireturn, 1) := dk_172 (dk_at dksX4_signs_3 6 rfl rfl)
theorem dX4_signs_78 : decode cX4_signs 78 = .ok (.iconst (-1), 1) := dk_2 (dk_at dksX4_signs_3 7 rfl rfl)
theorem dX4_signs_79 : decode cX4_signs 79 = .ok (.istore 4, 2) := dk_54 4 (dk_at dksX4_signs_3 8 rfl rfl)
theorem dX4_signs_81 : decode cX4_signs 81 = .ok (.iconst (-1), 1) := dk_2 (dk_at dksX4_signs_3 10 rfl rfl)
theorem dX4_signs_82 : decode cX4_signs 82 = .ok (.istore 5, 2) := dk_54 5 (dk_at dksX4_signs_3 11 rfl rfl)
theorem dX4_signs_84 : decode cX4_signs 84 = .ok (.iconst 0, 1) := dk_3 (dk_at dksX4_signs_3 13 rfl rfl)
theorem dX4_signs_85 : decode cX4_signs 85 = .ok (.istore 6, 2) := dk_54 6 (dk_at dksX4_signs_3 14 rfl rfl)
theorem dX4_signs_87 : decode cX4_signs 87 = .ok (.iload 6, 2) := dk_21 6 (dk_at dksX4_signs_3 16 rfl rfl)
theorem dX4_signs_89 : decode cX4_signs 89 = .ok (.iload_n 2, 1) := dk_28 (dk_at dksX4_signs_3 18 rfl rfl)
theorem dX4_signs_90 : decode cX4_signs 90 = .ok (.if_icmp .ge 88, 3) := dk_162 0 88 (dk_at dksX4_signs_3 19 rfl rfl)
theorem dX4_signs_93 : decode cX4_signs 93 = .ok (.aload_n 0, 1) := dk_42 (dk_at dksX4_signs_3 22 rfl rfl)
theorem dX4_signs_94 : decode cX4_signs 94 = .ok (.getfield 49, 3) := dk_180 0 49 (dk_at dksX4_signs_4 0 rfl rfl)
theorem dX4_signs_97 : decode cX4_signs 97 = .ok (.bipush 20, 2) := dk_16 20 (dk_at dksX4_signs_4 3 rfl rfl)
theorem dX4_signs_99 : decode cX4_signs 99 = .ok (.iload_n 1, 1) := dk_27 (dk_at dksX4_signs_4 5 rfl rfl)
theorem dX4_signs_100 : decode cX4_signs 100 = .ok (.imul, 1) := dk_104 (dk_at dksX4_signs_4 6 rfl rfl)
theorem dX4_signs_101 : decode cX4_signs 101 = .ok (.iload 6, 2) := dk_21 6 (dk_at dksX4_signs_4 7 rfl rfl)
theorem dX4_signs_103 : decode cX4_signs 103 = .ok (.iadd, 1) := dk_96 (dk_at dksX4_signs_4 9 rfl rfl)
theorem dX4_signs_104 : decode cX4_signs 104 = .ok (.aaload, 1) := dk_50 (dk_at dksX4_signs_4 10 rfl rfl)
theorem dX4_signs_105 : decode cX4_signs 105 = .ok (.astore 7, 2) := dk_58 7 (dk_at dksX4_signs_4 11 rfl rfl)
theorem dX4_signs_107 : decode cX4_signs 107 = .ok (.aload 7, 2) := dk_25 7 (dk_at dksX4_signs_4 13 rfl rfl)
theorem dX4_signs_109 : decode cX4_signs 109 = .ok (.iconst 0, 1) := dk_3 (dk_at dksX4_signs_4 15 rfl rfl)
theorem dX4_signs_110 : decode cX4_signs 110 = .ok (.iaload, 1) := dk_46 (dk_at dksX4_signs_4 16 rfl rfl)
theorem dX4_signs_111 : decode cX4_signs 111 = .ok (.iconst 1, 1) := dk_4 (dk_at dksX4_signs_4 17 rfl rfl)
theorem dX4_signs_112 : decode cX4_signs 112 = .ok (.if_icmp .le 6, 3) := dk_164 0 6 (dk_at dksX4_signs_4 18 rfl rfl)
theorem dX4_signs_115 : decode cX4_signs 115 = .ok (.goto 57, 3) := dk_167 0 57 (dk_at dksX4_signs_4 21 rfl rfl)
theorem dX4_signs_118 : decode cX4_signs 118 = .ok (.aload 7, 2) := dk_25 7 (dk_at dksX4_signs_5 0 rfl rfl)
theorem dX4_signs_120 : decode cX4_signs 120 = .ok (.iconst 1, 1) := dk_4 (dk_at dksX4_signs_5 2 rfl rfl)
theorem dX4_signs_121 : decode cX4_signs 121 = .ok (.iaload, 1) := dk_46 (dk_at dksX4_signs_5 3 rfl rfl)
theorem dX4_signs_122 : decode cX4_signs 122 = .ok (.aload_n 3, 1) := dk_45 (dk_at dksX4_signs_5 4 rfl rfl)
theorem dX4_signs_123 : decode cX4_signs 123 = .ok (.iconst 1, 1) := dk_4 (dk_at dksX4_signs_5 5 rfl rfl)
theorem dX4_signs_124 : decode cX4_signs 124 = .ok (.iaload, 1) := dk_46 (dk_at dksX4_signs_5 6 rfl rfl)
theorem dX4_signs_125 : decode cX4_signs 125 = .ok (.if_icmp .ne 20, 3) := dk_160 0 20 (dk_at dksX4_signs_5 7 rfl rfl)
theorem dX4_signs_128 : decode cX4_signs 128 = .ok (.aload 7, 2) := dk_25 7 (dk_at dksX4_signs_5 10 rfl rfl)
theorem dX4_signs_130 : decode cX4_signs 130 = .ok (.iconst 0, 1) := dk_3 (dk_at dksX4_signs_5 12 rfl rfl)
theorem dX4_signs_131 : decode cX4_signs 131 = .ok (.iaload, 1) := dk_46 (dk_at dksX4_signs_5 13 rfl rfl)
theorem dX4_signs_132 : decode cX4_signs 132 = .ok (.ifCond .ne 10, 3) := dk_154 0 10 (dk_at dksX4_signs_5 14 rfl rfl)
theorem dX4_signs_135 : decode cX4_signs 135 = .ok (.aload 7, 2) := dk_25 7 (dk_at dksX4_signs_5 17 rfl rfl)
theorem dX4_signs_137 : decode cX4_signs 137 = .ok (.iconst 2, 1) := dk_5 (dk_at dksX4_signs_5 19 rfl rfl)
theorem dX4_signs_138 : decode cX4_signs 138 = .ok (.iaload, 1) := dk_46 (dk_at dksX4_signs_5 20 rfl rfl)
theorem dX4_signs_139 : decode cX4_signs 139 = .ok (.goto 4, 3) := dk_167 0 4 (dk_at dksX4_signs_5 21 rfl rfl)
theorem dX4_signs_142 : decode cX4_signs 142 = .ok (.iconst (-1), 1) := dk_2 (dk_at dksX4_signs_6 0 rfl rfl)
theorem dX4_signs_143 : decode cX4_signs 143 = .ok (.istore 4, 2) := dk_54 4 (dk_at dksX4_signs_6 1 rfl rfl)
theorem dX4_signs_145 : decode cX4_signs 145 = .ok (.aload 7, 2) := dk_25 7 (dk_at dksX4_signs_6 3 rfl rfl)
theorem dX4_signs_147 : decode cX4_signs 147 = .ok (.iconst 1, 1) := dk_4 (dk_at dksX4_signs_6 5 rfl rfl)
theorem dX4_signs_148 : decode cX4_signs 148 = .ok (.iaload, 1) := dk_46 (dk_at dksX4_signs_6 6 rfl rfl)
theorem dX4_signs_149 : decode cX4_signs 149 = .ok (.aload_n 3, 1) := dk_45 (dk_at dksX4_signs_6 7 rfl rfl)
theorem dX4_signs_150 : decode cX4_signs 150 = .ok (.iconst 2, 1) := dk_5 (dk_at dksX4_signs_6 8 rfl rfl)
theorem dX4_signs_151 : decode cX4_signs 151 = .ok (.iaload, 1) := dk_46 (dk_at dksX4_signs_6 9 rfl rfl)
theorem dX4_signs_152 : decode cX4_signs 152 = .ok (.if_icmp .ne 20, 3) := dk_160 0 20 (dk_at dksX4_signs_6 10 rfl rfl)
theorem dX4_signs_155 : decode cX4_signs 155 = .ok (.aload 7, 2) := dk_25 7 (dk_at dksX4_signs_6 13 rfl rfl)
theorem dX4_signs_157 : decode cX4_signs 157 = .ok (.iconst 0, 1) := dk_3 (dk_at dksX4_signs_6 15 rfl rfl)
theorem dX4_signs_158 : decode cX4_signs 158 = .ok (.iaload, 1) := dk_46 (dk_at dksX4_signs_6 16 rfl rfl)
theorem dX4_signs_159 : decode cX4_signs 159 = .ok (.ifCond .ne 10, 3) := dk_154 0 10 (dk_at dksX4_signs_6 17 rfl rfl)
theorem dX4_signs_162 : decode cX4_signs 162 = .ok (.aload 7, 2) := dk_25 7 (dk_at dksX4_signs_6 20 rfl rfl)
theorem dX4_signs_164 : decode cX4_signs 164 = .ok (.iconst 2, 1) := dk_5 (dk_at dksX4_signs_6 22 rfl rfl)
theorem dX4_signs_165 : decode cX4_signs 165 = .ok (.iaload, 1) := dk_46 (dk_at dksX4_signs_6 23 rfl rfl)
theorem dX4_signs_166 : decode cX4_signs 166 = .ok (.goto 4, 3) := dk_167 0 4 (dk_at dksX4_signs_7 0 rfl rfl)
theorem dX4_signs_169 : decode cX4_signs 169 = .ok (.iconst (-1), 1) := dk_2 (dk_at dksX4_signs_7 3 rfl rfl)
theorem dX4_signs_170 : decode cX4_signs 170 = .ok (.istore 5, 2) := dk_54 5 (dk_at dksX4_signs_7 4 rfl rfl)
theorem dX4_signs_172 : decode cX4_signs 172 = .ok (.iinc 6 1, 3) := dk_132 6 1 (dk_at dksX4_signs_7 6 rfl rfl)
theorem dX4_signs_175 : decode cX4_signs 175 = .ok (.goto (-88), 3) := dk_167 255 168 (dk_at dksX4_signs_7 9 rfl rfl)
theorem dX4_signs_178 : decode cX4_signs 178 = .ok (.aload_n 0, 1) := dk_42 (dk_at dksX4_signs_7 12 rfl rfl)
theorem dX4_signs_179 : decode cX4_signs 179 = .ok (.iload 4, 2) := dk_21 4 (dk_at dksX4_signs_7 13 rfl rfl)
theorem dX4_signs_181 : decode cX4_signs 181 = .ok (.aload_n 3, 1) := dk_45 (dk_at dksX4_signs_7 15 rfl rfl)
theorem dX4_signs_182 : decode cX4_signs 182 = .ok (.iconst 2, 1) := dk_5 (dk_at dksX4_signs_7 16 rfl rfl)
theorem dX4_signs_183 : decode cX4_signs 183 = .ok (.iaload, 1) := dk_46 (dk_at dksX4_signs_7 17 rfl rfl)
theorem dX4_signs_184 : decode cX4_signs 184 = .ok (.aload_n 3, 1) := dk_45 (dk_at dksX4_signs_7 18 rfl rfl)
theorem dX4_signs_185 : decode cX4_signs 185 = .ok (.iconst 3, 1) := dk_6 (dk_at dksX4_signs_7 19 rfl rfl)
theorem dX4_signs_186 : decode cX4_signs 186 = .ok (.iaload, 1) := dk_46 (dk_at dksX4_signs_7 20 rfl rfl)
theorem dX4_signs_187 : decode cX4_signs 187 = .ok (.invokevirtual 314, 3) := dk_182 1 58 (dk_at dksX4_signs_7 21 rfl rfl)
theorem dX4_signs_190 : decode cX4_signs 190 = .ok (.ifCond .eq 7, 3) := dk_153 0 7 (dk_at dksX4_signs_8 0 rfl rfl)
theorem dX4_signs_193 : decode cX4_signs 193 = .ok (.iconst 1, 1) := dk_4 (dk_at dksX4_signs_8 3 rfl rfl)
theorem dX4_signs_194 : decode cX4_signs 194 = .ok (.goto 4, 3) := dk_167 0 4 (dk_at dksX4_signs_8 4 rfl rfl)
theorem dX4_signs_197 : decode cX4_signs 197 = .ok (.iconst 0, 1) := dk_3 (dk_at dksX4_signs_8 7 rfl rfl)
theorem dX4_signs_198 : decode cX4_signs 198 = .ok (.aload_n 0, 1) := dk_42 (dk_at dksX4_signs_8 8 rfl rfl)
theorem dX4_signs_199 : decode cX4_signs 199 = .ok (.iload 5, 2) := dk_21 5 (dk_at dksX4_signs_8 9 rfl rfl)
theorem dX4_signs_201 : decode cX4_signs 201 = .ok (.aload_n 3, 1) := dk_45 (dk_at dksX4_signs_8 11 rfl rfl)
theorem dX4_signs_202 : decode cX4_signs 202 = .ok (.iconst 1, 1) := dk_4 (dk_at dksX4_signs_8 12 rfl rfl)
theorem dX4_signs_203 : decode cX4_signs 203 = .ok (.iaload, 1) := dk_46 (dk_at dksX4_signs_8 13 rfl rfl)
theorem dX4_signs_204 : decode cX4_signs 204 = .ok (.aload_n 3, 1) := dk_45 (dk_at dksX4_signs_8 14 rfl rfl)
theorem dX4_signs_205 : decode cX4_signs 205 = .ok (.iconst 3, 1) := dk_6 (dk_at dksX4_signs_8 15 rfl rfl)
theorem dX4_signs_206 : decode cX4_signs 206 = .ok (.iaload, 1) := dk_46 (dk_at dksX4_signs_8 16 rfl rfl)
theorem dX4_signs_207 : decode cX4_signs 207 = .ok (.invokevirtual 314, 3) := dk_182 1 58 (dk_at dksX4_signs_8 17 rfl rfl)
theorem dX4_signs_210 : decode cX4_signs 210 = .ok (.ifCond .eq 7, 3) := dk_153 0 7 (dk_at dksX4_signs_8 20 rfl rfl)
theorem dX4_signs_213 : decode cX4_signs 213 = .ok (.iconst 2, 1) := dk_5 (dk_at dksX4_signs_8 23 rfl rfl)
theorem dX4_signs_214 : decode cX4_signs 214 = .ok (.goto 4, 3) := dk_167 0 4 (dk_at dksX4_signs_9 0 rfl rfl)
theorem dX4_signs_217 : decode cX4_signs 217 = .ok (.iconst 0, 1) := dk_3 (dk_at dksX4_signs_9 3 rfl rfl)
theorem dX4_signs_218 : decode cX4_signs 218 = .ok (.iadd, 1) := dk_96 (dk_at dksX4_signs_9 4 rfl rfl)
theorem dX4_signs_219 : decode cX4_signs 219 = .ok (.ireturn, 1) := dk_172 (dk_at dksX4_signs_9 5 rfl rfl)
abbrev cX4_isSign : ByteArray := prog_16_method_78_code
def yX4_isSign : MethodName := ⟨RX4, "isSign", "(III)Z"⟩
def dkwX4_isSign_3 : List UInt8 := [46, 46, 158, 0, 5, 4, 172, 132, 4, 1, 167, 255, 177, 3, 172]
abbrev dktX4_isSign_3 : List UInt8 := dkwX4_isSign_3 ++ []
def dkwX4_isSign_2 : List UInt8 := [50, 4, 46, 29, 162, 0, 6, 167, 0, 24, 42, 180, 0, 22, 27, 50, 42, 180, 0, 55, 21, 4, 50, 5]
abbrev dktX4_isSign_2 : List UInt8 := dkwX4_isSign_2 ++ dktX4_isSign_3
def dkwX4_isSign_1 : List UInt8 := [6, 46, 153, 0, 53, 42, 180, 0, 55, 21, 4, 50, 3, 46, 28, 160, 0, 40, 42, 180, 0, 55, 21, 4]
abbrev dktX4_isSign_1 : List UInt8 := dkwX4_isSign_1 ++ dktX4_isSign_2
def dkwX4_isSign_0 : List UInt8 := [3, 54, 4, 21, 4, 42, 180, 0, 247, 162, 0, 76, 27, 2, 159, 0, 65, 42, 180, 0, 55, 21, 4, 50]
abbrev dktX4_isSign_0 : List UInt8 := dkwX4_isSign_0 ++ dktX4_isSign_1
theorem dksX4_isSign_0 : cX4_isSign.data.toList.drop 0 = dktX4_isSign_0 := by decide +kernel
theorem dksX4_isSign_1 : cX4_isSign.data.toList.drop 24 = dktX4_isSign_1 := dk_seg dksX4_isSign_0 24 rfl rfl
theorem dksX4_isSign_2 : cX4_isSign.data.toList.drop 48 = dktX4_isSign_2 := dk_seg dksX4_isSign_1 24 rfl rfl
theorem dksX4_isSign_3 : cX4_isSign.data.toList.drop 72 = dktX4_isSign_3 := dk_seg dksX4_isSign_2 24 rfl rfl
theorem dX4_isSign_0 : decode cX4_isSign 0 = .ok (.iconst 0, 1) := dk_3 (dk_at dksX4_isSign_0 0 rfl rfl)
theorem dX4_isSign_1 : decode cX4_isSign 1 = .ok (.istore 4, 2) := dk_54 4 (dk_at dksX4_isSign_0 1 rfl rfl)
theorem dX4_isSign_3 : decode cX4_isSign 3 = .ok (.iload 4, 2) := dk_21 4 (dk_at dksX4_isSign_0 3 rfl rfl)
theorem dX4_isSign_5 : decode cX4_isSign 5 = .ok (.aload_n 0, 1) := dk_42 (dk_at dksX4_isSign_0 5 rfl rfl)
theorem dX4_isSign_6 : decode cX4_isSign 6 = .ok (.getfield 247, 3) := dk_180 0 247 (dk_at dksX4_isSign_0 6 rfl rfl)
theorem dX4_isSign_9 : decode cX4_isSign 9 = .ok (.if_icmp .ge 76, 3) := dk_162 0 76 (dk_at dksX4_isSign_0 9 rfl rfl)
theorem dX4_isSign_12 : decode cX4_isSign 12 = .ok (.iload_n 1, 1) := dk_27 (dk_at dksX4_isSign_0 12 rfl rfl)
theorem dX4_isSign_13 : decode cX4_isSign 13 = .ok (.iconst (-1), 1) := dk_2 (dk_at dksX4_isSign_0 13 rfl rfl)
theorem dX4_isSign_14 : decode cX4_isSign 14 = .ok (.if_icmp .eq 65, 3) := dk_159 0 65 (dk_at dksX4_isSign_0 14 rfl rfl)
theorem dX4_isSign_17 : decode cX4_isSign 17 = .ok (.aload_n 0, 1) := dk_42 (dk_at dksX4_isSign_0 17 rfl rfl)
theorem dX4_isSign_18 : decode cX4_isSign 18 = .ok (.getfield 55, 3) := dk_180 0 55 (dk_at dksX4_isSign_0 18 rfl rfl)
theorem dX4_isSign_21 : decode cX4_isSign 21 = .ok (.iload 4, 2) := dk_21 4 (dk_at dksX4_isSign_0 21 rfl rfl)
theorem dX4_isSign_23 : decode cX4_isSign 23 = .ok (.aaload, 1) := dk_50 (dk_at dksX4_isSign_0 23 rfl rfl)
theorem dX4_isSign_24 : decode cX4_isSign 24 = .ok (.iconst 3, 1) := dk_6 (dk_at dksX4_isSign_1 0 rfl rfl)
theorem dX4_isSign_25 : decode cX4_isSign 25 = .ok (.iaload, 1) := dk_46 (dk_at dksX4_isSign_1 1 rfl rfl)
theorem dX4_isSign_26 : decode cX4_isSign 26 = .ok (.ifCond .eq 53, 3) := dk_153 0 53 (dk_at dksX4_isSign_1 2 rfl rfl)
theorem dX4_isSign_29 : decode cX4_isSign 29 = .ok (.aload_n 0, 1) := dk_42 (dk_at dksX4_isSign_1 5 rfl rfl)
theorem dX4_isSign_30 : decode cX4_isSign 30 = .ok (.getfield 55, 3) := dk_180 0 55 (dk_at dksX4_isSign_1 6 rfl rfl)
theorem dX4_isSign_33 : decode cX4_isSign 33 = .ok (.iload 4, 2) := dk_21 4 (dk_at dksX4_isSign_1 9 rfl rfl)
theorem dX4_isSign_35 : decode cX4_isSign 35 = .ok (.aaload, 1) := dk_50 (dk_at dksX4_isSign_1 11 rfl rfl)
theorem dX4_isSign_36 : decode cX4_isSign 36 = .ok (.iconst 0, 1) := dk_3 (dk_at dksX4_isSign_1 12 rfl rfl)
theorem dX4_isSign_37 : decode cX4_isSign 37 = .ok (.iaload, 1) := dk_46 (dk_at dksX4_isSign_1 13 rfl rfl)
theorem dX4_isSign_38 : decode cX4_isSign 38 = .ok (.iload_n 2, 1) := dk_28 (dk_at dksX4_isSign_1 14 rfl rfl)
theorem dX4_isSign_39 : decode cX4_isSign 39 = .ok (.if_icmp .ne 40, 3) := dk_160 0 40 (dk_at dksX4_isSign_1 15 rfl rfl)
theorem dX4_isSign_42 : decode cX4_isSign 42 = .ok (.aload_n 0, 1) := dk_42 (dk_at dksX4_isSign_1 18 rfl rfl)
theorem dX4_isSign_43 : decode cX4_isSign 43 = .ok (.getfield 55, 3) := dk_180 0 55 (dk_at dksX4_isSign_1 19 rfl rfl)
theorem dX4_isSign_46 : decode cX4_isSign 46 = .ok (.iload 4, 2) := dk_21 4 (dk_at dksX4_isSign_1 22 rfl rfl)
theorem dX4_isSign_48 : decode cX4_isSign 48 = .ok (.aaload, 1) := dk_50 (dk_at dksX4_isSign_2 0 rfl rfl)
theorem dX4_isSign_49 : decode cX4_isSign 49 = .ok (.iconst 1, 1) := dk_4 (dk_at dksX4_isSign_2 1 rfl rfl)
theorem dX4_isSign_50 : decode cX4_isSign 50 = .ok (.iaload, 1) := dk_46 (dk_at dksX4_isSign_2 2 rfl rfl)
theorem dX4_isSign_51 : decode cX4_isSign 51 = .ok (.iload_n 3, 1) := dk_29 (dk_at dksX4_isSign_2 3 rfl rfl)
theorem dX4_isSign_52 : decode cX4_isSign 52 = .ok (.if_icmp .ge 6, 3) := dk_162 0 6 (dk_at dksX4_isSign_2 4 rfl rfl)
theorem dX4_isSign_55 : decode cX4_isSign 55 = .ok (.goto 24, 3) := dk_167 0 24 (dk_at dksX4_isSign_2 7 rfl rfl)
theorem dX4_isSign_58 : decode cX4_isSign 58 = .ok (.aload_n 0, 1) := dk_42 (dk_at dksX4_isSign_2 10 rfl rfl)
theorem dX4_isSign_59 : decode cX4_isSign 59 = .ok (.getfield 22, 3) := dk_180 0 22 (dk_at dksX4_isSign_2 11 rfl rfl)
theorem dX4_isSign_62 : decode cX4_isSign 62 = .ok (.iload_n 1, 1) := dk_27 (dk_at dksX4_isSign_2 14 rfl rfl)
theorem dX4_isSign_63 : decode cX4_isSign 63 = .ok (.aaload, 1) := dk_50 (dk_at dksX4_isSign_2 15 rfl rfl)
theorem dX4_isSign_64 : decode cX4_isSign 64 = .ok (.aload_n 0, 1) := dk_42 (dk_at dksX4_isSign_2 16 rfl rfl)
theorem dX4_isSign_65 : decode cX4_isSign 65 = .ok (.getfield 55, 3) := dk_180 0 55 (dk_at dksX4_isSign_2 17 rfl rfl)
theorem dX4_isSign_68 : decode cX4_isSign 68 = .ok (.iload 4, 2) := dk_21 4 (dk_at dksX4_isSign_2 20 rfl rfl)
theorem dX4_isSign_70 : decode cX4_isSign 70 = .ok (.aaload, 1) := dk_50 (dk_at dksX4_isSign_2 22 rfl rfl)
theorem dX4_isSign_71 : decode cX4_isSign 71 = .ok (.iconst 2, 1) := dk_5 (dk_at dksX4_isSign_2 23 rfl rfl)
theorem dX4_isSign_72 : decode cX4_isSign 72 = .ok (.iaload, 1) := dk_46 (dk_at dksX4_isSign_3 0 rfl rfl)
theorem dX4_isSign_73 : decode cX4_isSign 73 = .ok (.iaload, 1) := dk_46 (dk_at dksX4_isSign_3 1 rfl rfl)
theorem dX4_isSign_74 : decode cX4_isSign 74 = .ok (.ifCond .le 5, 3) := dk_158 0 5 (dk_at dksX4_isSign_3 2 rfl rfl)
theorem dX4_isSign_77 : decode cX4_isSign 77 = .ok (.iconst 1, 1) := dk_4 (dk_at dksX4_isSign_3 5 rfl rfl)
theorem dX4_isSign_78 : decode cX4_isSign 78 = .ok (.ireturn, 1) := dk_172 (dk_at dksX4_isSign_3 6 rfl rfl)
theorem dX4_isSign_79 : decode cX4_isSign 79 = .ok (.iinc 4 1, 3) := dk_132 4 1 (dk_at dksX4_isSign_3 7 rfl rfl)
theorem dX4_isSign_82 : decode cX4_isSign 82 = .ok (.goto (-79), 3) := dk_167 255 177 (dk_at dksX4_isSign_3 10 rfl rfl)
theorem dX4_isSign_85 : decode cX4_isSign 85 = .ok (.iconst 0, 1) := dk_3 (dk_at dksX4_isSign_3 13 rfl rfl)
theorem dX4_isSign_86 : decode cX4_isSign 86 = .ok (.ireturn, 1) := dk_172 (dk_at dksX4_isSign_3 14 rfl rfl)
abbrev cX4_said : ByteArray := prog_16_method_80_code
def yX4_said : MethodName := ⟨RX4, "said", "(II)I"⟩
def dkwX4_said_3 : List UInt8 := [162, 0, 7, 5, 167, 0, 4, 6, 172]
abbrev dktX4_said_3 : List UInt8 := dkwX4_said_3 ++ []
def dkwX4_said_2 : List UInt8 := [162, 0, 7, 3, 167, 0, 26, 29, 17, 3, 232, 162, 0, 7, 4, 167, 0, 15, 29, 19, 1, 15]
abbrev dktX4_said_2 : List UInt8 := dkwX4_said_2 ++ dktX4_said_3
def dkwX4_said_1 : List UInt8 := [167, 0, 4, 3, 4, 182, 0, 170, 153, 0, 5, 3, 172, 42, 27, 28, 2, 182, 1, 34, 62, 29, 16, 10]
abbrev dktX4_said_1 : List UInt8 := dkwX4_said_1 ++ dktX4_said_2
def dkwX4_said_0 : List UInt8 := [42, 3, 181, 0, 94, 42, 42, 27, 182, 0, 235, 153, 0, 11, 42, 28, 182, 0, 235, 154, 0, 7, 4]
abbrev dktX4_said_0 : List UInt8 := dkwX4_said_0 ++ dktX4_said_1
theorem dksX4_said_0 : cX4_said.data.toList.drop 0 = dktX4_said_0 := by decide +kernel
theorem dksX4_said_1 : cX4_said.data.toList.drop 23 = dktX4_said_1 := dk_seg dksX4_said_0 23 rfl rfl
theorem dksX4_said_2 : cX4_said.data.toList.drop 47 = dktX4_said_2 := dk_seg dksX4_said_1 24 rfl rfl
theorem dksX4_said_3 : cX4_said.data.toList.drop 69 = dktX4_said_3 := dk_seg dksX4_said_2 22 rfl rfl
theorem dX4_said_0 : decode cX4_said 0 = .ok (.aload_n 0, 1) := dk_42 (dk_at dksX4_said_0 0 rfl rfl)
theorem dX4_said_1 : decode cX4_said 1 = .ok (.iconst 0, 1) := dk_3 (dk_at dksX4_said_0 1 rfl rfl)
theorem dX4_said_2 : decode cX4_said 2 = .ok (.putfield 94, 3) := dk_181 0 94 (dk_at dksX4_said_0 2 rfl rfl)
theorem dX4_said_5 : decode cX4_said 5 = .ok (.aload_n 0, 1) := dk_42 (dk_at dksX4_said_0 5 rfl rfl)
theorem dX4_said_6 : decode cX4_said 6 = .ok (.aload_n 0, 1) := dk_42 (dk_at dksX4_said_0 6 rfl rfl)
theorem dX4_said_7 : decode cX4_said 7 = .ok (.iload_n 1, 1) := dk_27 (dk_at dksX4_said_0 7 rfl rfl)
theorem dX4_said_8 : decode cX4_said 8 = .ok (.invokevirtual 235, 3) := dk_182 0 235 (dk_at dksX4_said_0 8 rfl rfl)
theorem dX4_said_11 : decode cX4_said 11 = .ok (.ifCond .eq 11, 3) := dk_153 0 11 (dk_at dksX4_said_0 11 rfl rfl)
theorem dX4_said_14 : decode cX4_said 14 = .ok (.aload_n 0, 1) := dk_42 (dk_at dksX4_said_0 14 rfl rfl)
theorem dX4_said_15 : decode cX4_said 15 = .ok (.iload_n 2, 1) := dk_28 (dk_at dksX4_said_0 15 rfl rfl)
theorem dX4_said_16 : decode cX4_said 16 = .ok (.invokevirtual 235, 3) := dk_182 0 235 (dk_at dksX4_said_0 16 rfl rfl)
theorem dX4_said_19 : decode cX4_said 19 = .ok (.ifCond .ne 7, 3) := dk_154 0 7 (dk_at dksX4_said_0 19 rfl rfl)
theorem dX4_said_22 : decode cX4_said 22 = .ok (.iconst 1, 1) := dk_4 (dk_at dksX4_said_0 22 rfl rfl)
theorem dX4_said_23 : decode cX4_said 23 = .ok (.goto 4, 3) := dk_167 0 4 (dk_at dksX4_said_1 0 rfl rfl)
theorem dX4_said_26 : decode cX4_said 26 = .ok (.iconst 0, 1) := dk_3 (dk_at dksX4_said_1 3 rfl rfl)
theorem dX4_said_27 : decode cX4_said 27 = .ok (.iconst 1, 1) := dk_4 (dk_at dksX4_said_1 4 rfl rfl)
theorem dX4_said_28 : decode cX4_said 28 = .ok (.invokevirtual 170, 3) := dk_182 0 170 (dk_at dksX4_said_1 5 rfl rfl)
theorem dX4_said_31 : decode cX4_said 31 = .ok (.ifCond .eq 5, 3) := dk_153 0 5 (dk_at dksX4_said_1 8 rfl rfl)
theorem dX4_said_34 : decode cX4_said 34 = .ok (.iconst 0, 1) := dk_3 (dk_at dksX4_said_1 11 rfl rfl)
theorem dX4_said_35 : decode cX4_said 35 = .ok (.ireturn, 1) := dk_172 (dk_at dksX4_said_1 12 rfl rfl)
theorem dX4_said_36 : decode cX4_said 36 = .ok (.aload_n 0, 1) := dk_42 (dk_at dksX4_said_1 13 rfl rfl)
theorem dX4_said_37 : decode cX4_said 37 = .ok (.iload_n 1, 1) := dk_27 (dk_at dksX4_said_1 14 rfl rfl)
theorem dX4_said_38 : decode cX4_said 38 = .ok (.iload_n 2, 1) := dk_28 (dk_at dksX4_said_1 15 rfl rfl)
theorem dX4_said_39 : decode cX4_said 39 = .ok (.iconst (-1), 1) := dk_2 (dk_at dksX4_said_1 16 rfl rfl)
theorem dX4_said_40 : decode cX4_said 40 = .ok (.invokevirtual 290, 3) := dk_182 1 34 (dk_at dksX4_said_1 17 rfl rfl)
theorem dX4_said_43 : decode cX4_said 43 = .ok (.istore_n 3, 1) := dk_62 (dk_at dksX4_said_1 20 rfl rfl)
theorem dX4_said_44 : decode cX4_said 44 = .ok (.iload_n 3, 1) := dk_29 (dk_at dksX4_said_1 21 rfl rfl)
theorem dX4_said_45 : decode cX4_said 45 = .ok (.bipush 10, 2) := dk_16 10 (dk_at dksX4_said_1 22 rfl rfl)
theorem dX4_said_47 : decode cX4_said 47 = .ok (.if_icmp .ge 7, 3) := dk_162 0 7 (dk_at dksX4_said_2 0 rfl rfl)
theorem dX4_said_50 : decode cX4_said 50 = .ok (.iconst 0, 1) := dk_3 (dk_at dksX4_said_2 3 rfl rfl)
theorem dX4_said_51 : decode cX4_said 51 = .ok (.goto 26, 3) := dk_167 0 26 (dk_at dksX4_said_2 4 rfl rfl)
theorem dX4_said_54 : decode cX4_said 54 = .ok (.iload_n 3, 1) := dk_29 (dk_at dksX4_said_2 7 rfl rfl)
theorem dX4_said_55 : decode cX4_said 55 = .ok (.sipush 1000, 3) := dk_17 3 232 (dk_at dksX4_said_2 8 rfl rfl)
theorem dX4_said_58 : decode cX4_said 58 = .ok (.if_icmp .ge 7, 3) := dk_162 0 7 (dk_at dksX4_said_2 11 rfl rfl)
theorem dX4_said_61 : decode cX4_said 61 = .ok (.iconst 1, 1) := dk_4 (dk_at dksX4_said_2 14 rfl rfl)
theorem dX4_said_62 : decode cX4_said 62 = .ok (.goto 15, 3) := dk_167 0 15 (dk_at dksX4_said_2 15 rfl rfl)
theorem dX4_said_65 : decode cX4_said 65 = .ok (.iload_n 3, 1) := dk_29 (dk_at dksX4_said_2 18 rfl rfl)
theorem dX4_said_66 : decode cX4_said 66 = .ok (.ldc_w 271, 3) := dk_19 1 15 (dk_at dksX4_said_2 19 rfl rfl)
theorem dX4_said_69 : decode cX4_said 69 = .ok (.if_icmp .ge 7, 3) := dk_162 0 7 (dk_at dksX4_said_3 0 rfl rfl)
theorem dX4_said_72 : decode cX4_said 72 = .ok (.iconst 2, 1) := dk_5 (dk_at dksX4_said_3 3 rfl rfl)
theorem dX4_said_73 : decode cX4_said 73 = .ok (.goto 4, 3) := dk_167 0 4 (dk_at dksX4_said_3 4 rfl rfl)
theorem dX4_said_76 : decode cX4_said 76 = .ok (.iconst 3, 1) := dk_6 (dk_at dksX4_said_3 7 rfl rfl)
theorem dX4_said_77 : decode cX4_said 77 = .ok (.ireturn, 1) := dk_172 (dk_at dksX4_said_3 8 rfl rfl)
abbrev cX4_image : ByteArray := prog_16_method_81_code
def yX4_image : MethodName := ⟨RX4, "image", "()I"⟩
def dkwX4_image_9 : List UInt8 := [172]
abbrev dktX4_image_9 : List UInt8 := dkwX4_image_9 ++ []
def dkwX4_image_8 : List UInt8 := [180, 1, 61, 50, 5, 42, 180, 1, 50, 79, 42, 89, 180, 1, 61, 4, 96, 181, 1, 61, 42, 180, 1, 61]
abbrev dktX4_image_8 : List UInt8 := dkwX4_image_8 ++ dktX4_image_9
def dkwX4_image_7 : List UInt8 := [180, 0, 247, 79, 42, 180, 0, 73, 42, 180, 1, 61, 50, 4, 42, 180, 1, 44, 79, 42, 180, 0, 73, 42]
abbrev dktX4_image_7 : List UInt8 := dkwX4_image_7 ++ dktX4_image_8
def dkwX4_image_6 : List UInt8 := [132, 2, 1, 167, 255, 224, 132, 1, 1, 167, 255, 210, 42, 180, 0, 73, 42, 180, 1, 61, 50, 3, 42]
abbrev dktX4_image_6 : List UInt8 := dkwX4_image_6 ++ dktX4_image_7
def dkwX4_image_5 : List UInt8 := [180, 0, 70, 16, 12, 42, 180, 1, 61, 104, 27, 96, 50, 28, 42, 180, 0, 61, 27, 50, 28, 46, 79]
abbrev dktX4_image_5 : List UInt8 := dkwX4_image_5 ++ dktX4_image_6
def dkwX4_image_4 : List UInt8 := [132, 1, 1, 167, 255, 230, 3, 60, 27, 16, 12, 162, 0, 46, 3, 61, 28, 6, 162, 0, 33, 42]
abbrev dktX4_image_4 : List UInt8 := dkwX4_image_4 ++ dktX4_image_5
def dkwX4_image_3 : List UInt8 := [16, 40, 162, 0, 26, 42, 180, 0, 67, 42, 180, 1, 61, 50, 27, 42, 180, 0, 58, 27, 46, 79]
abbrev dktX4_image_3 : List UInt8 := dkwX4_image_3 ++ dktX4_image_4
def dkwX4_image_2 : List UInt8 := [180, 0, 55, 27, 50, 28, 46, 79, 132, 2, 1, 167, 255, 224, 132, 1, 1, 167, 255, 210, 3, 60, 27]
abbrev dktX4_image_2 : List UInt8 := dkwX4_image_2 ++ dktX4_image_3
def dkwX4_image_1 : List UInt8 := [61, 28, 7, 162, 0, 33, 42, 180, 0, 64, 16, 8, 42, 180, 1, 61, 104, 27, 96, 50, 28, 42]
abbrev dktX4_image_1 : List UInt8 := dkwX4_image_1 ++ dktX4_image_2
def dkwX4_image_0 : List UInt8 := [42, 3, 181, 0, 94, 42, 180, 1, 61, 6, 160, 0, 5, 2, 172, 3, 60, 27, 16, 8, 162, 0, 46, 3]
abbrev dktX4_image_0 : List UInt8 := dkwX4_image_0 ++ dktX4_image_1
theorem dksX4_image_0 : cX4_image.data.toList.drop 0 = dktX4_image_0 := by decide +kernel
theorem dksX4_image_1 : cX4_image.data.toList.drop 24 = dktX4_image_1 := dk_seg dksX4_image_0 24 rfl rfl
theorem dksX4_image_2 : cX4_image.data.toList.drop 46 = dktX4_image_2 := dk_seg dksX4_image_1 22 rfl rfl
theorem dksX4_image_3 : cX4_image.data.toList.drop 69 = dktX4_image_3 := dk_seg dksX4_image_2 23 rfl rfl
theorem dksX4_image_4 : cX4_image.data.toList.drop 91 = dktX4_image_4 := dk_seg dksX4_image_3 22 rfl rfl
theorem dksX4_image_5 : cX4_image.data.toList.drop 113 = dktX4_image_5 := dk_seg dksX4_image_4 22 rfl rfl
theorem dksX4_image_6 : cX4_image.data.toList.drop 136 = dktX4_image_6 := dk_seg dksX4_image_5 23 rfl rfl
theorem dksX4_image_7 : cX4_image.data.toList.drop 159 = dktX4_image_7 := dk_seg dksX4_image_6 23 rfl rfl
theorem dksX4_image_8 : cX4_image.data.toList.drop 183 = dktX4_image_8 := dk_seg dksX4_image_7 24 rfl rfl
theorem dksX4_image_9 : cX4_image.data.toList.drop 207 = dktX4_image_9 := dk_seg dksX4_image_8 24 rfl rfl
theorem dX4_image_0 : decode cX4_image 0 = .ok (.aload_n 0, 1) := dk_42 (dk_at dksX4_image_0 0 rfl rfl)
theorem dX4_image_1 : decode cX4_image 1 = .ok (.iconst 0, 1) := dk_3 (dk_at dksX4_image_0 1 rfl rfl)
theorem dX4_image_2 : decode cX4_image 2 = .ok (.putfield 94, 3) := dk_181 0 94 (dk_at dksX4_image_0 2 rfl rfl)
theorem dX4_image_5 : decode cX4_image 5 = .ok (.aload_n 0, 1) := dk_42 (dk_at dksX4_image_0 5 rfl rfl)
theorem dX4_image_6 : decode cX4_image 6 = .ok (.getfield 317, 3) := dk_180 1 61 (dk_at dksX4_image_0 6 rfl rfl)
theorem dX4_image_9 : decode cX4_image 9 = .ok (.iconst 3, 1) := dk_6 (dk_at dksX4_image_0 9 rfl rfl)
theorem dX4_image_10 : decode cX4_image 10 = .ok (.if_icmp .ne 5, 3) := dk_160 0 5 (dk_at dksX4_image_0 10 rfl rfl)
theorem dX4_image_13 : decode cX4_image 13 = .ok (.iconst (-1), 1) := dk_2 (dk_at dksX4_image_0 13 rfl rfl)
theorem dX4_image_14 : decode cX4_image 14 = .ok (.ireturn, 1) := dk_172 (dk_at dksX4_image_0 14 rfl rfl)
theorem dX4_image_15 : decode cX4_image 15 = .ok (.iconst 0, 1) := dk_3 (dk_at dksX4_image_0 15 rfl rfl)
theorem dX4_image_16 : decode cX4_image 16 = .ok (.istore_n 1, 1) := dk_60 (dk_at dksX4_image_0 16 rfl rfl)
theorem dX4_image_17 : decode cX4_image 17 = .ok (.iload_n 1, 1) := dk_27 (dk_at dksX4_image_0 17 rfl rfl)
theorem dX4_image_18 : decode cX4_image 18 = .ok (.bipush 8, 2) := dk_16 8 (dk_at dksX4_image_0 18 rfl rfl)
theorem dX4_image_20 : decode cX4_image 20 = .ok (.if_icmp .ge 46, 3) := dk_162 0 46 (dk_at dksX4_image_0 20 rfl rfl)
theorem dX4_image_23 : decode cX4_image 23 = .ok (.iconst 0, 1) := dk_3 (dk_at dksX4_image_0 23 rfl rfl)
theorem dX4_image_24 : decode cX4_image 24 = .ok (.istore_n 2, 1) := dk_61 (dk_at dksX4_image_1 0 rfl rfl)
theorem dX4_image_25 : decode cX4_image 25 = .ok (.iload_n 2, 1) := dk_28 (dk_at dksX4_image_1 1 rfl rfl)
theorem dX4_image_26 : decode cX4_image 26 = .ok (.iconst 4, 1) := dk_7 (dk_at dksX4_image_1 2 rfl rfl)
theorem dX4_image_27 : decode cX4_image 27 = .ok (.if_icmp .ge 33, 3) := dk_162 0 33 (dk_at dksX4_image_1 3 rfl rfl)
theorem dX4_image_30 : decode cX4_image 30 = .ok (.aload_n 0, 1) := dk_42 (dk_at dksX4_image_1 6 rfl rfl)
theorem dX4_image_31 : decode cX4_image 31 = .ok (.getfield 64, 3) := dk_180 0 64 (dk_at dksX4_image_1 7 rfl rfl)
theorem dX4_image_34 : decode cX4_image 34 = .ok (.bipush 8, 2) := dk_16 8 (dk_at dksX4_image_1 10 rfl rfl)
theorem dX4_image_36 : decode cX4_image 36 = .ok (.aload_n 0, 1) := dk_42 (dk_at dksX4_image_1 12 rfl rfl)
theorem dX4_image_37 : decode cX4_image 37 = .ok (.getfield 317, 3) := dk_180 1 61 (dk_at dksX4_image_1 13 rfl rfl)
theorem dX4_image_40 : decode cX4_image 40 = .ok (.imul, 1) := dk_104 (dk_at dksX4_image_1 16 rfl rfl)
theorem dX4_image_41 : decode cX4_image 41 = .ok (.iload_n 1, 1) := dk_27 (dk_at dksX4_image_1 17 rfl rfl)
theorem dX4_image_42 : decode cX4_image 42 = .ok (.iadd, 1) := dk_96 (dk_at dksX4_image_1 18 rfl rfl)
theorem dX4_image_43 : decode cX4_image 43 = .ok (.aaload, 1) := dk_50 (dk_at dksX4_image_1 19 rfl rfl)
theorem dX4_image_44 : decode cX4_image 44 = .ok (.iload_n 2, 1) := dk_28 (dk_at dksX4_image_1 20 rfl rfl)
theorem dX4_image_45 : decode cX4_image 45 = .ok (.aload_n 0, 1) := dk_42 (dk_at dksX4_image_1 21 rfl rfl)
theorem dX4_image_46 : decode cX4_image 46 = .ok (.getfield 55, 3) := dk_180 0 55 (dk_at dksX4_image_2 0 rfl rfl)
theorem dX4_image_49 : decode cX4_image 49 = .ok (.iload_n 1, 1) := dk_27 (dk_at dksX4_image_2 3 rfl rfl)
theorem dX4_image_50 : decode cX4_image 50 = .ok (.aaload, 1) := dk_50 (dk_at dksX4_image_2 4 rfl rfl)
theorem dX4_image_51 : decode cX4_image 51 = .ok (.iload_n 2, 1) := dk_28 (dk_at dksX4_image_2 5 rfl rfl)
theorem dX4_image_52 : decode cX4_image 52 = .ok (.iaload, 1) := dk_46 (dk_at dksX4_image_2 6 rfl rfl)
theorem dX4_image_53 : decode cX4_image 53 = .ok (.iastore, 1) := dk_79 (dk_at dksX4_image_2 7 rfl rfl)
theorem dX4_image_54 : decode cX4_image 54 = .ok (.iinc 2 1, 3) := dk_132 2 1 (dk_at dksX4_image_2 8 rfl rfl)
theorem dX4_image_57 : decode cX4_image 57 = .ok (.goto (-32), 3) := dk_167 255 224 (dk_at dksX4_image_2 11 rfl rfl)
theorem dX4_image_60 : decode cX4_image 60 = .ok (.iinc 1 1, 3) := dk_132 1 1 (dk_at dksX4_image_2 14 rfl rfl)
theorem dX4_image_63 : decode cX4_image 63 = .ok (.goto (-46), 3) := dk_167 255 210 (dk_at dksX4_image_2 17 rfl rfl)
theorem dX4_image_66 : decode cX4_image 66 = .ok (.iconst 0, 1) := dk_3 (dk_at dksX4_image_2 20 rfl rfl)
theorem dX4_image_67 : decode cX4_image 67 = .ok (.istore_n 1, 1) := dk_60 (dk_at dksX4_image_2 21 rfl rfl)
theorem dX4_image_68 : decode cX4_image 68 = .ok (.iload_n 1, 1) := dk_27 (dk_at dksX4_image_2 22 rfl rfl)
theorem dX4_image_69 : decode cX4_image 69 = .ok (.bipush 40, 2) := dk_16 40 (dk_at dksX4_image_3 0 rfl rfl)
theorem dX4_image_71 : decode cX4_image 71 = .ok (.if_icmp .ge 26, 3) := dk_162 0 26 (dk_at dksX4_image_3 2 rfl rfl)
theorem dX4_image_74 : decode cX4_image 74 = .ok (.aload_n 0, 1) := dk_42 (dk_at dksX4_image_3 5 rfl rfl)
theorem dX4_image_75 : decode cX4_image 75 = .ok (.getfield 67, 3) := dk_180 0 67 (dk_at dksX4_image_3 6 rfl rfl)
theorem dX4_image_78 : decode cX4_image 78 = .ok (.aload_n 0, 1) := dk_42 (dk_at dksX4_image_3 9 rfl rfl)
theorem dX4_image_79 : decode cX4_image 79 = .ok (.getfield 317, 3) := dk_180 1 61 (dk_at dksX4_image_3 10 rfl rfl)
theorem dX4_image_82 : decode cX4_image 82 = .ok (.aaload, 1) := dk_50 (dk_at dksX4_image_3 13 rfl rfl)
theorem dX4_image_83 : decode cX4_image 83 = .ok (.iload_n 1, 1) := dk_27 (dk_at dksX4_image_3 14 rfl rfl)
theorem dX4_image_84 : decode cX4_image 84 = .ok (.aload_n 0, 1) := dk_42 (dk_at dksX4_image_3 15 rfl rfl)
theorem dX4_image_85 : decode cX4_image 85 = .ok (.getfield 58, 3) := dk_180 0 58 (dk_at dksX4_image_3 16 rfl rfl)
theorem dX4_image_88 : decode cX4_image 88 = .ok (.iload_n 1, 1) := dk_27 (dk_at dksX4_image_3 19 rfl rfl)
theorem dX4_image_89 : decode cX4_image 89 = .ok (.iaload, 1) := dk_46 (dk_at dksX4_image_3 20 rfl rfl)
theorem dX4_image_90 : decode cX4_image 90 = .ok (.iastore, 1) := dk_79 (dk_at dksX4_image_3 21 rfl rfl)
theorem dX4_image_91 : decode cX4_image 91 = .ok (.iinc 1 1, 3) := dk_132 1 1 (dk_at dksX4_image_4 0 rfl rfl)
theorem dX4_image_94 : decode cX4_image 94 = .ok (.goto (-26), 3) := dk_167 255 230 (dk_at dksX4_image_4 3 rfl rfl)
theorem dX4_image_97 : decode cX4_image 97 = .ok (.iconst 0, 1) := dk_3 (dk_at dksX4_image_4 6 rfl rfl)
theorem dX4_image_98 : decode cX4_image 98 = .ok (.istore_n 1, 1) := dk_60 (dk_at dksX4_image_4 7 rfl rfl)
theorem dX4_image_99 : decode cX4_image 99 = .ok (.iload_n 1, 1) := dk_27 (dk_at dksX4_image_4 8 rfl rfl)
theorem dX4_image_100 : decode cX4_image 100 = .ok (.bipush 12, 2) := dk_16 12 (dk_at dksX4_image_4 9 rfl rfl)
theorem dX4_image_102 : decode cX4_image 102 = .ok (.if_icmp .ge 46, 3) := dk_162 0 46 (dk_at dksX4_image_4 11 rfl rfl)
theorem dX4_image_105 : decode cX4_image 105 = .ok (.iconst 0, 1) := dk_3 (dk_at dksX4_image_4 14 rfl rfl)
theorem dX4_image_106 : decode cX4_image 106 = .ok (.istore_n 2, 1) := dk_61 (dk_at dksX4_image_4 15 rfl rfl)
theorem dX4_image_107 : decode cX4_image 107 = .ok (.iload_n 2, 1) := dk_28 (dk_at dksX4_image_4 16 rfl rfl)
theorem dX4_image_108 : decode cX4_image 108 = .ok (.iconst 3, 1) := dk_6 (dk_at dksX4_image_4 17 rfl rfl)
theorem dX4_image_109 : decode cX4_image 109 = .ok (.if_icmp .ge 33, 3) := dk_162 0 33 (dk_at dksX4_image_4 18 rfl rfl)
theorem dX4_image_112 : decode cX4_image 112 = .ok (.aload_n 0, 1) := dk_42 (dk_at dksX4_image_4 21 rfl rfl)
theorem dX4_image_113 : decode cX4_image 113 = .ok (.getfield 70, 3) := dk_180 0 70 (dk_at dksX4_image_5 0 rfl rfl)
theorem dX4_image_116 : decode cX4_image 116 = .ok (.bipush 12, 2) := dk_16 12 (dk_at dksX4_image_5 3 rfl rfl)
theorem dX4_image_118 : decode cX4_image 118 = .ok (.aload_n 0, 1) := dk_42 (dk_at dksX4_image_5 5 rfl rfl)
theorem dX4_image_119 : decode cX4_image 119 = .ok (.getfield 317, 3) := dk_180 1 61 (dk_at dksX4_image_5 6 rfl rfl)
theorem dX4_image_122 : decode cX4_image 122 = .ok (.imul, 1) := dk_104 (dk_at dksX4_image_5 9 rfl rfl)
theorem dX4_image_123 : decode cX4_image 123 = .ok (.iload_n 1, 1) := dk_27 (dk_at dksX4_image_5 10 rfl rfl)
theorem dX4_image_124 : decode cX4_image 124 = .ok (.iadd, 1) := dk_96 (dk_at dksX4_image_5 11 rfl rfl)
theorem dX4_image_125 : decode cX4_image 125 = .ok (.aaload, 1) := dk_50 (dk_at dksX4_image_5 12 rfl rfl)
theorem dX4_image_126 : decode cX4_image 126 = .ok (.iload_n 2, 1) := dk_28 (dk_at dksX4_image_5 13 rfl rfl)
theorem dX4_image_127 : decode cX4_image 127 = .ok (.aload_n 0, 1) := dk_42 (dk_at dksX4_image_5 14 rfl rfl)
theorem dX4_image_128 : decode cX4_image 128 = .ok (.getfield 61, 3) := dk_180 0 61 (dk_at dksX4_image_5 15 rfl rfl)
theorem dX4_image_131 : decode cX4_image 131 = .ok (.iload_n 1, 1) := dk_27 (dk_at dksX4_image_5 18 rfl rfl)
theorem dX4_image_132 : decode cX4_image 132 = .ok (.aaload, 1) := dk_50 (dk_at dksX4_image_5 19 rfl rfl)
theorem dX4_image_133 : decode cX4_image 133 = .ok (.iload_n 2, 1) := dk_28 (dk_at dksX4_image_5 20 rfl rfl)
theorem dX4_image_134 : decode cX4_image 134 = .ok (.iaload, 1) := dk_46 (dk_at dksX4_image_5 21 rfl rfl)
theorem dX4_image_135 : decode cX4_image 135 = .ok (.iastore, 1) := dk_79 (dk_at dksX4_image_5 22 rfl rfl)
theorem dX4_image_136 : decode cX4_image 136 = .ok (.iinc 2 1, 3) := dk_132 2 1 (dk_at dksX4_image_6 0 rfl rfl)
theorem dX4_image_139 : decode cX4_image 139 = .ok (.goto (-32), 3) := dk_167 255 224 (dk_at dksX4_image_6 3 rfl rfl)
theorem dX4_image_142 : decode cX4_image 142 = .ok (.iinc 1 1, 3) := dk_132 1 1 (dk_at dksX4_image_6 6 rfl rfl)
theorem dX4_image_145 : decode cX4_image 145 = .ok (.goto (-46), 3) := dk_167 255 210 (dk_at dksX4_image_6 9 rfl rfl)
theorem dX4_image_148 : decode cX4_image 148 = .ok (.aload_n 0, 1) := dk_42 (dk_at dksX4_image_6 12 rfl rfl)
theorem dX4_image_149 : decode cX4_image 149 = .ok (.getfield 73, 3) := dk_180 0 73 (dk_at dksX4_image_6 13 rfl rfl)
theorem dX4_image_152 : decode cX4_image 152 = .ok (.aload_n 0, 1) := dk_42 (dk_at dksX4_image_6 16 rfl rfl)
theorem dX4_image_153 : decode cX4_image 153 = .ok (.getfield 317, 3) := dk_180 1 61 (dk_at dksX4_image_6 17 rfl rfl)
theorem dX4_image_156 : decode cX4_image 156 = .ok (.aaload, 1) := dk_50 (dk_at dksX4_image_6 20 rfl rfl)
theorem dX4_image_157 : decode cX4_image 157 = .ok (.iconst 0, 1) := dk_3 (dk_at dksX4_image_6 21 rfl rfl)
theorem dX4_image_158 : decode cX4_image 158 = .ok (.aload_n 0, 1) := dk_42 (dk_at dksX4_image_6 22 rfl rfl)
theorem dX4_image_159 : decode cX4_image 159 = .ok (.getfield 247, 3) := dk_180 0 247 (dk_at dksX4_image_7 0 rfl rfl)
theorem dX4_image_162 : decode cX4_image 162 = .ok (.iastore, 1) := dk_79 (dk_at dksX4_image_7 3 rfl rfl)
theorem dX4_image_163 : decode cX4_image 163 = .ok (.aload_n 0, 1) := dk_42 (dk_at dksX4_image_7 4 rfl rfl)
theorem dX4_image_164 : decode cX4_image 164 = .ok (.getfield 73, 3) := dk_180 0 73 (dk_at dksX4_image_7 5 rfl rfl)
theorem dX4_image_167 : decode cX4_image 167 = .ok (.aload_n 0, 1) := dk_42 (dk_at dksX4_image_7 8 rfl rfl)
theorem dX4_image_168 : decode cX4_image 168 = .ok (.getfield 317, 3) := dk_180 1 61 (dk_at dksX4_image_7 9 rfl rfl)
theorem dX4_image_171 : decode cX4_image 171 = .ok (.aaload, 1) := dk_50 (dk_at dksX4_image_7 12 rfl rfl)
theorem dX4_image_172 : decode cX4_image 172 = .ok (.iconst 1, 1) := dk_4 (dk_at dksX4_image_7 13 rfl rfl)
theorem dX4_image_173 : decode cX4_image 173 = .ok (.aload_n 0, 1) := dk_42 (dk_at dksX4_image_7 14 rfl rfl)
theorem dX4_image_174 : decode cX4_image 174 = .ok (.getfield 300, 3) := dk_180 1 44 (dk_at dksX4_image_7 15 rfl rfl)
theorem dX4_image_177 : decode cX4_image 177 = .ok (.iastore, 1) := dk_79 (dk_at dksX4_image_7 18 rfl rfl)
theorem dX4_image_178 : decode cX4_image 178 = .ok (.aload_n 0, 1) := dk_42 (dk_at dksX4_image_7 19 rfl rfl)
theorem dX4_image_179 : decode cX4_image 179 = .ok (.getfield 73, 3) := dk_180 0 73 (dk_at dksX4_image_7 20 rfl rfl)
theorem dX4_image_182 : decode cX4_image 182 = .ok (.aload_n 0, 1) := dk_42 (dk_at dksX4_image_7 23 rfl rfl)
theorem dX4_image_183 : decode cX4_image 183 = .ok (.getfield 317, 3) := dk_180 1 61 (dk_at dksX4_image_8 0 rfl rfl)
theorem dX4_image_186 : decode cX4_image 186 = .ok (.aaload, 1) := dk_50 (dk_at dksX4_image_8 3 rfl rfl)
theorem dX4_image_187 : decode cX4_image 187 = .ok (.iconst 2, 1) := dk_5 (dk_at dksX4_image_8 4 rfl rfl)
theorem dX4_image_188 : decode cX4_image 188 = .ok (.aload_n 0, 1) := dk_42 (dk_at dksX4_image_8 5 rfl rfl)
theorem dX4_image_189 : decode cX4_image 189 = .ok (.getfield 306, 3) := dk_180 1 50 (dk_at dksX4_image_8 6 rfl rfl)
theorem dX4_image_192 : decode cX4_image 192 = .ok (.iastore, 1) := dk_79 (dk_at dksX4_image_8 9 rfl rfl)
theorem dX4_image_193 : decode cX4_image 193 = .ok (.aload_n 0, 1) := dk_42 (dk_at dksX4_image_8 10 rfl rfl)
theorem dX4_image_194 : decode cX4_image 194 = .ok (.dup, 1) := dk_89 (dk_at dksX4_image_8 11 rfl rfl)
theorem dX4_image_195 : decode cX4_image 195 = .ok (.getfield 317, 3) := dk_180 1 61 (dk_at dksX4_image_8 12 rfl rfl)
theorem dX4_image_198 : decode cX4_image 198 = .ok (.iconst 1, 1) := dk_4 (dk_at dksX4_image_8 15 rfl rfl)
theorem dX4_image_199 : decode cX4_image 199 = .ok (.iadd, 1) := dk_96 (dk_at dksX4_image_8 16 rfl rfl)
theorem dX4_image_200 : decode cX4_image 200 = .ok (.putfield 317, 3) := dk_181 1 61 (dk_at dksX4_image_8 17 rfl rfl)
theorem dX4_image_203 : decode cX4_image 203 = .ok (.aload_n 0, 1) := dk_42 (dk_at dksX4_image_8 20 rfl rfl)
theorem dX4_image_204 : decode cX4_image 204 = .ok (.getfield 317, 3) := dk_180 1 61 (dk_at dksX4_image_8 21 rfl rfl)
theorem dX4_image_207 : decode cX4_image 207 = .ok (.ireturn, 1) := dk_172 (dk_at dksX4_image_9 0 rfl rfl)
abbrev cX4_restore : ByteArray := prog_16_method_82_code
def yX4_restore : MethodName := ⟨RX4, "restore", "()I"⟩
def dkwX4_restore_8 : List UInt8 := [42, 42, 180, 0, 73, 42, 180, 1, 61, 50, 5, 46, 181, 1, 50, 42, 180, 1, 61, 172]
abbrev dktX4_restore_8 : List UInt8 := dkwX4_restore_8 ++ []
def dkwX4_restore_7 : List UInt8 := [180, 1, 61, 50, 3, 46, 181, 0, 247, 42, 42, 180, 0, 73, 42, 180, 1, 61, 50, 4, 46, 181, 1, 44]
abbrev dktX4_restore_7 : List UInt8 := dkwX4_restore_7 ++ dktX4_restore_8
def dkwX4_restore_6 : List UInt8 := [50, 28, 46, 79, 132, 2, 1, 167, 255, 224, 132, 1, 1, 167, 255, 210, 42, 42, 180, 0, 73, 42]
abbrev dktX4_restore_6 : List UInt8 := dkwX4_restore_6 ++ dktX4_restore_7
def dkwX4_restore_5 : List UInt8 := [6, 162, 0, 33, 42, 180, 0, 61, 27, 50, 28, 42, 180, 0, 70, 16, 12, 42, 180, 1, 61, 104, 27, 96]
abbrev dktX4_restore_5 : List UInt8 := dkwX4_restore_5 ++ dktX4_restore_6
def dkwX4_restore_4 : List UInt8 := [180, 1, 61, 50, 27, 46, 79, 132, 1, 1, 167, 255, 230, 3, 60, 27, 16, 12, 162, 0, 46, 3, 61, 28]
abbrev dktX4_restore_4 : List UInt8 := dkwX4_restore_4 ++ dktX4_restore_5
def dkwX4_restore_3 : List UInt8 := [132, 1, 1, 167, 255, 210, 3, 60, 27, 16, 40, 162, 0, 26, 42, 180, 0, 58, 27, 42, 180, 0, 67, 42]
abbrev dktX4_restore_3 : List UInt8 := dkwX4_restore_3 ++ dktX4_restore_4
def dkwX4_restore_2 : List UInt8 := [180, 0, 64, 16, 8, 42, 180, 1, 61, 104, 27, 96, 50, 28, 46, 79, 132, 2, 1, 167, 255, 224]
abbrev dktX4_restore_2 : List UInt8 := dkwX4_restore_2 ++ dktX4_restore_3
def dkwX4_restore_1 : List UInt8 := [3, 60, 27, 16, 8, 162, 0, 46, 3, 61, 28, 7, 162, 0, 33, 42, 180, 0, 55, 27, 50, 28, 42]
abbrev dktX4_restore_1 : List UInt8 := dkwX4_restore_1 ++ dktX4_restore_2
def dkwX4_restore_0 : List UInt8 := [42, 3, 181, 0, 94, 42, 180, 1, 61, 154, 0, 5, 2, 172, 42, 89, 180, 1, 61, 4, 100, 181, 1, 61]
abbrev dktX4_restore_0 : List UInt8 := dkwX4_restore_0 ++ dktX4_restore_1
theorem dksX4_restore_0 : cX4_restore.data.toList.drop 0 = dktX4_restore_0 := by decide +kernel
theorem dksX4_restore_1 : cX4_restore.data.toList.drop 24 = dktX4_restore_1 := dk_seg dksX4_restore_0 24 rfl rfl
theorem dksX4_restore_2 : cX4_restore.data.toList.drop 47 = dktX4_restore_2 := dk_seg dksX4_restore_1 23 rfl rfl
theorem dksX4_restore_3 : cX4_restore.data.toList.drop 69 = dktX4_restore_3 := dk_seg dksX4_restore_2 22 rfl rfl
theorem dksX4_restore_4 : cX4_restore.data.toList.drop 93 = dktX4_restore_4 := dk_seg dksX4_restore_3 24 rfl rfl
theorem dksX4_restore_5 : cX4_restore.data.toList.drop 117 = dktX4_restore_5 := dk_seg dksX4_restore_4 24 rfl rfl
theorem dksX4_restore_6 : cX4_restore.data.toList.drop 141 = dktX4_restore_6 := dk_seg dksX4_restore_5 24 rfl rfl
theorem dksX4_restore_7 : cX4_restore.data.toList.drop 163 = dktX4_restore_7 := dk_seg dksX4_restore_6 22 rfl rfl
theorem dksX4_restore_8 : cX4_restore.data.toList.drop 187 = dktX4_restore_8 := dk_seg dksX4_restore_7 24 rfl rfl
theorem dX4_restore_0 : decode cX4_restore 0 = .ok (.aload_n 0, 1) := dk_42 (dk_at dksX4_restore_0 0 rfl rfl)
theorem dX4_restore_1 : decode cX4_restore 1 = .ok (.iconst 0, 1) := dk_3 (dk_at dksX4_restore_0 1 rfl rfl)
theorem dX4_restore_2 : decode cX4_restore 2 = .ok (.putfield 94, 3) := dk_181 0 94 (dk_at dksX4_restore_0 2 rfl rfl)
theorem dX4_restore_5 : decode cX4_restore 5 = .ok (.aload_n 0, 1) := dk_42 (dk_at dksX4_restore_0 5 rfl rfl)
theorem dX4_restore_6 : decode cX4_restore 6 = .ok (.getfield 317, 3) := dk_180 1 61 (dk_at dksX4_restore_0 6 rfl rfl)
theorem dX4_restore_9 : decode cX4_restore 9 = .ok (.ifCond .ne 5, 3) := dk_154 0 5 (dk_at dksX4_restore_0 9 rfl rfl)
theorem dX4_restore_12 : decode cX4_restore 12 = .ok (.iconst (-1), 1) := dk_2 (dk_at dksX4_restore_0 12 rfl rfl)
theorem dX4_restore_13 : decode cX4_restore 13 = .ok (.ireturn, 1) := dk_172 (dk_at dksX4_restore_0 13 rfl rfl)
theorem dX4_restore_14 : decode cX4_restore 14 = .ok (.aload_n 0, 1) := dk_42 (dk_at dksX4_restore_0 14 rfl rfl)
theorem dX4_restore_15 : decode cX4_restore 15 = .ok (.dup, 1) := dk_89 (dk_at dksX4_restore_0 15 rfl rfl)
theorem dX4_restore_16 : decode cX4_restore 16 = .ok (.getfield 317, 3) := dk_180 1 61 (dk_at dksX4_restore_0 16 rfl rfl)
theorem dX4_restore_19 : decode cX4_restore 19 = .ok (.iconst 1, 1) := dk_4 (dk_at dksX4_restore_0 19 rfl rfl)
theorem dX4_restore_20 : decode cX4_restore 20 = .ok (.isub, 1) := dk_100 (dk_at dksX4_restore_0 20 rfl rfl)
theorem dX4_restore_21 : decode cX4_restore 21 = .ok (.putfield 317, 3) := dk_181 1 61 (dk_at dksX4_restore_0 21 rfl rfl)
theorem dX4_restore_24 : decode cX4_restore 24 = .ok (.iconst 0, 1) := dk_3 (dk_at dksX4_restore_1 0 rfl rfl)
theorem dX4_restore_25 : decode cX4_restore 25 = .ok (.istore_n 1, 1) := dk_60 (dk_at dksX4_restore_1 1 rfl rfl)
theorem dX4_restore_26 : decode cX4_restore 26 = .ok (.iload_n 1, 1) := dk_27 (dk_at dksX4_restore_1 2 rfl rfl)
theorem dX4_restore_27 : decode cX4_restore 27 = .ok (.bipush 8, 2) := dk_16 8 (dk_at dksX4_restore_1 3 rfl rfl)
theorem dX4_restore_29 : decode cX4_restore 29 = .ok (.if_icmp .ge 46, 3) := dk_162 0 46 (dk_at dksX4_restore_1 5 rfl rfl)
theorem dX4_restore_32 : decode cX4_restore 32 = .ok (.iconst 0, 1) := dk_3 (dk_at dksX4_restore_1 8 rfl rfl)
theorem dX4_restore_33 : decode cX4_restore 33 = .ok (.istore_n 2, 1) := dk_61 (dk_at dksX4_restore_1 9 rfl rfl)
theorem dX4_restore_34 : decode cX4_restore 34 = .ok (.iload_n 2, 1) := dk_28 (dk_at dksX4_restore_1 10 rfl rfl)
theorem dX4_restore_35 : decode cX4_restore 35 = .ok (.iconst 4, 1) := dk_7 (dk_at dksX4_restore_1 11 rfl rfl)
theorem dX4_restore_36 : decode cX4_restore 36 = .ok (.if_icmp .ge 33, 3) := dk_162 0 33 (dk_at dksX4_restore_1 12 rfl rfl)
theorem dX4_restore_39 : decode cX4_restore 39 = .ok (.aload_n 0, 1) := dk_42 (dk_at dksX4_restore_1 15 rfl rfl)
theorem dX4_restore_40 : decode cX4_restore 40 = .ok (.getfield 55, 3) := dk_180 0 55 (dk_at dksX4_restore_1 16 rfl rfl)
theorem dX4_restore_43 : decode cX4_restore 43 = .ok (.iload_n 1, 1) := dk_27 (dk_at dksX4_restore_1 19 rfl rfl)
theorem dX4_restore_44 : decode cX4_restore 44 = .ok (.aaload, 1) := dk_50 (dk_at dksX4_restore_1 20 rfl rfl)
theorem dX4_restore_45 : decode cX4_restore 45 = .ok (.iload_n 2, 1) := dk_28 (dk_at dksX4_restore_1 21 rfl rfl)
theorem dX4_restore_46 : decode cX4_restore 46 = .ok (.aload_n 0, 1) := dk_42 (dk_at dksX4_restore_1 22 rfl rfl)
theorem dX4_restore_47 : decode cX4_restore 47 = .ok (.getfield 64, 3) := dk_180 0 64 (dk_at dksX4_restore_2 0 rfl rfl)
theorem dX4_restore_50 : decode cX4_restore 50 = .ok (.bipush 8, 2) := dk_16 8 (dk_at dksX4_restore_2 3 rfl rfl)
theorem dX4_restore_52 : decode cX4_restore 52 = .ok (.aload_n 0, 1) := dk_42 (dk_at dksX4_restore_2 5 rfl rfl)
theorem dX4_restore_53 : decode cX4_restore 53 = .ok (.getfield 317, 3) := dk_180 1 61 (dk_at dksX4_restore_2 6 rfl rfl)
theorem dX4_restore_56 : decode cX4_restore 56 = .ok (.imul, 1) := dk_104 (dk_at dksX4_restore_2 9 rfl rfl)
theorem dX4_restore_57 : decode cX4_restore 57 = .ok (.iload_n 1, 1) := dk_27 (dk_at dksX4_restore_2 10 rfl rfl)
theorem dX4_restore_58 : decode cX4_restore 58 = .ok (.iadd, 1) := dk_96 (dk_at dksX4_restore_2 11 rfl rfl)
theorem dX4_restore_59 : decode cX4_restore 59 = .ok (.aaload, 1) := dk_50 (dk_at dksX4_restore_2 12 rfl rfl)
theorem dX4_restore_60 : decode cX4_restore 60 = .ok (.iload_n 2, 1) := dk_28 (dk_at dksX4_restore_2 13 rfl rfl)
theorem dX4_restore_61 : decode cX4_restore 61 = .ok (.iaload, 1) := dk_46 (dk_at dksX4_restore_2 14 rfl rfl)
theorem dX4_restore_62 : decode cX4_restore 62 = .ok (.iastore, 1) := dk_79 (dk_at dksX4_restore_2 15 rfl rfl)
theorem dX4_restore_63 : decode cX4_restore 63 = .ok (.iinc 2 1, 3) := dk_132 2 1 (dk_at dksX4_restore_2 16 rfl rfl)
theorem dX4_restore_66 : decode cX4_restore 66 = .ok (.goto (-32), 3) := dk_167 255 224 (dk_at dksX4_restore_2 19 rfl rfl)
theorem dX4_restore_69 : decode cX4_restore 69 = .ok (.iinc 1 1, 3) := dk_132 1 1 (dk_at dksX4_restore_3 0 rfl rfl)
theorem dX4_restore_72 : decode cX4_restore 72 = .ok (.goto (-46), 3) := dk_167 255 210 (dk_at dksX4_restore_3 3 rfl rfl)
theorem dX4_restore_75 : decode cX4_restore 75 = .ok (.iconst 0, 1) := dk_3 (dk_at dksX4_restore_3 6 rfl rfl)
theorem dX4_restore_76 : decode cX4_restore 76 = .ok (.istore_n 1, 1) := dk_60 (dk_at dksX4_restore_3 7 rfl rfl)
theorem dX4_restore_77 : decode cX4_restore 77 = .ok (.iload_n 1, 1) := dk_27 (dk_at dksX4_restore_3 8 rfl rfl)
theorem dX4_restore_78 : decode cX4_restore 78 = .ok (.bipush 40, 2) := dk_16 40 (dk_at dksX4_restore_3 9 rfl rfl)
theorem dX4_restore_80 : decode cX4_restore 80 = .ok (.if_icmp .ge 26, 3) := dk_162 0 26 (dk_at dksX4_restore_3 11 rfl rfl)
theorem dX4_restore_83 : decode cX4_restore 83 = .ok (.aload_n 0, 1) := dk_42 (dk_at dksX4_restore_3 14 rfl rfl)
theorem dX4_restore_84 : decode cX4_restore 84 = .ok (.getfield 58, 3) := dk_180 0 58 (dk_at dksX4_restore_3 15 rfl rfl)
theorem dX4_restore_87 : decode cX4_restore 87 = .ok (.iload_n 1, 1) := dk_27 (dk_at dksX4_restore_3 18 rfl rfl)
theorem dX4_restore_88 : decode cX4_restore 88 = .ok (.aload_n 0, 1) := dk_42 (dk_at dksX4_restore_3 19 rfl rfl)
theorem dX4_restore_89 : decode cX4_restore 89 = .ok (.getfield 67, 3) := dk_180 0 67 (dk_at dksX4_restore_3 20 rfl rfl)
theorem dX4_restore_92 : decode cX4_restore 92 = .ok (.aload_n 0, 1) := dk_42 (dk_at dksX4_restore_3 23 rfl rfl)
theorem dX4_restore_93 : decode cX4_restore 93 = .ok (.getfield 317, 3) := dk_180 1 61 (dk_at dksX4_restore_4 0 rfl rfl)
theorem dX4_restore_96 : decode cX4_restore 96 = .ok (.aaload, 1) := dk_50 (dk_at dksX4_restore_4 3 rfl rfl)
theorem dX4_restore_97 : decode cX4_restore 97 = .ok (.iload_n 1, 1) := dk_27 (dk_at dksX4_restore_4 4 rfl rfl)
theorem dX4_restore_98 : decode cX4_restore 98 = .ok (.iaload, 1) := dk_46 (dk_at dksX4_restore_4 5 rfl rfl)
theorem dX4_restore_99 : decode cX4_restore 99 = .ok (.iastore, 1) := dk_79 (dk_at dksX4_restore_4 6 rfl rfl)
theorem dX4_restore_100 : decode cX4_restore 100 = .ok (.iinc 1 1, 3) := dk_132 1 1 (dk_at dksX4_restore_4 7 rfl rfl)
theorem dX4_restore_103 : decode cX4_restore 103 = .ok (.goto (-26), 3) := dk_167 255 230 (dk_at dksX4_restore_4 10 rfl rfl)
theorem dX4_restore_106 : decode cX4_restore 106 = .ok (.iconst 0, 1) := dk_3 (dk_at dksX4_restore_4 13 rfl rfl)
theorem dX4_restore_107 : decode cX4_restore 107 = .ok (.istore_n 1, 1) := dk_60 (dk_at dksX4_restore_4 14 rfl rfl)
theorem dX4_restore_108 : decode cX4_restore 108 = .ok (.iload_n 1, 1) := dk_27 (dk_at dksX4_restore_4 15 rfl rfl)
theorem dX4_restore_109 : decode cX4_restore 109 = .ok (.bipush 12, 2) := dk_16 12 (dk_at dksX4_restore_4 16 rfl rfl)
theorem dX4_restore_111 : decode cX4_restore 111 = .ok (.if_icmp .ge 46, 3) := dk_162 0 46 (dk_at dksX4_restore_4 18 rfl rfl)
theorem dX4_restore_114 : decode cX4_restore 114 = .ok (.iconst 0, 1) := dk_3 (dk_at dksX4_restore_4 21 rfl rfl)
theorem dX4_restore_115 : decode cX4_restore 115 = .ok (.istore_n 2, 1) := dk_61 (dk_at dksX4_restore_4 22 rfl rfl)
theorem dX4_restore_116 : decode cX4_restore 116 = .ok (.iload_n 2, 1) := dk_28 (dk_at dksX4_restore_4 23 rfl rfl)
theorem dX4_restore_117 : decode cX4_restore 117 = .ok (.iconst 3, 1) := dk_6 (dk_at dksX4_restore_5 0 rfl rfl)
theorem dX4_restore_118 : decode cX4_restore 118 = .ok (.if_icmp .ge 33, 3) := dk_162 0 33 (dk_at dksX4_restore_5 1 rfl rfl)
theorem dX4_restore_121 : decode cX4_restore 121 = .ok (.aload_n 0, 1) := dk_42 (dk_at dksX4_restore_5 4 rfl rfl)
theorem dX4_restore_122 : decode cX4_restore 122 = .ok (.getfield 61, 3) := dk_180 0 61 (dk_at dksX4_restore_5 5 rfl rfl)
theorem dX4_restore_125 : decode cX4_restore 125 = .ok (.iload_n 1, 1) := dk_27 (dk_at dksX4_restore_5 8 rfl rfl)
theorem dX4_restore_126 : decode cX4_restore 126 = .ok (.aaload, 1) := dk_50 (dk_at dksX4_restore_5 9 rfl rfl)
theorem dX4_restore_127 : decode cX4_restore 127 = .ok (.iload_n 2, 1) := dk_28 (dk_at dksX4_restore_5 10 rfl rfl)
theorem dX4_restore_128 : decode cX4_restore 128 = .ok (.aload_n 0, 1) := dk_42 (dk_at dksX4_restore_5 11 rfl rfl)
theorem dX4_restore_129 : decode cX4_restore 129 = .ok (.getfield 70, 3) := dk_180 0 70 (dk_at dksX4_restore_5 12 rfl rfl)
theorem dX4_restore_132 : decode cX4_restore 132 = .ok (.bipush 12, 2) := dk_16 12 (dk_at dksX4_restore_5 15 rfl rfl)
theorem dX4_restore_134 : decode cX4_restore 134 = .ok (.aload_n 0, 1) := dk_42 (dk_at dksX4_restore_5 17 rfl rfl)
theorem dX4_restore_135 : decode cX4_restore 135 = .ok (.getfield 317, 3) := dk_180 1 61 (dk_at dksX4_restore_5 18 rfl rfl)
theorem dX4_restore_138 : decode cX4_restore 138 = .ok (.imul, 1) := dk_104 (dk_at dksX4_restore_5 21 rfl rfl)
theorem dX4_restore_139 : decode cX4_restore 139 = .ok (.iload_n 1, 1) := dk_27 (dk_at dksX4_restore_5 22 rfl rfl)
theorem dX4_restore_140 : decode cX4_restore 140 = .ok (.iadd, 1) := dk_96 (dk_at dksX4_restore_5 23 rfl rfl)
theorem dX4_restore_141 : decode cX4_restore 141 = .ok (.aaload, 1) := dk_50 (dk_at dksX4_restore_6 0 rfl rfl)
theorem dX4_restore_142 : decode cX4_restore 142 = .ok (.iload_n 2, 1) := dk_28 (dk_at dksX4_restore_6 1 rfl rfl)
theorem dX4_restore_143 : decode cX4_restore 143 = .ok (.iaload, 1) := dk_46 (dk_at dksX4_restore_6 2 rfl rfl)
theorem dX4_restore_144 : decode cX4_restore 144 = .ok (.iastore, 1) := dk_79 (dk_at dksX4_restore_6 3 rfl rfl)
theorem dX4_restore_145 : decode cX4_restore 145 = .ok (.iinc 2 1, 3) := dk_132 2 1 (dk_at dksX4_restore_6 4 rfl rfl)
theorem dX4_restore_148 : decode cX4_restore 148 = .ok (.goto (-32), 3) := dk_167 255 224 (dk_at dksX4_restore_6 7 rfl rfl)
theorem dX4_restore_151 : decode cX4_restore 151 = .ok (.iinc 1 1, 3) := dk_132 1 1 (dk_at dksX4_restore_6 10 rfl rfl)
theorem dX4_restore_154 : decode cX4_restore 154 = .ok (.goto (-46), 3) := dk_167 255 210 (dk_at dksX4_restore_6 13 rfl rfl)
theorem dX4_restore_157 : decode cX4_restore 157 = .ok (.aload_n 0, 1) := dk_42 (dk_at dksX4_restore_6 16 rfl rfl)
theorem dX4_restore_158 : decode cX4_restore 158 = .ok (.aload_n 0, 1) := dk_42 (dk_at dksX4_restore_6 17 rfl rfl)
theorem dX4_restore_159 : decode cX4_restore 159 = .ok (.getfield 73, 3) := dk_180 0 73 (dk_at dksX4_restore_6 18 rfl rfl)
theorem dX4_restore_162 : decode cX4_restore 162 = .ok (.aload_n 0, 1) := dk_42 (dk_at dksX4_restore_6 21 rfl rfl)
theorem dX4_restore_163 : decode cX4_restore 163 = .ok (.getfield 317, 3) := dk_180 1 61 (dk_at dksX4_restore_7 0 rfl rfl)
theorem dX4_restore_166 : decode cX4_restore 166 = .ok (.aaload, 1) := dk_50 (dk_at dksX4_restore_7 3 rfl rfl)
theorem dX4_restore_167 : decode cX4_restore 167 = .ok (.iconst 0, 1) := dk_3 (dk_at dksX4_restore_7 4 rfl rfl)
theorem dX4_restore_168 : decode cX4_restore 168 = .ok (.iaload, 1) := dk_46 (dk_at dksX4_restore_7 5 rfl rfl)
theorem dX4_restore_169 : decode cX4_restore 169 = .ok (.putfield 247, 3) := dk_181 0 247 (dk_at dksX4_restore_7 6 rfl rfl)
theorem dX4_restore_172 : decode cX4_restore 172 = .ok (.aload_n 0, 1) := dk_42 (dk_at dksX4_restore_7 9 rfl rfl)
theorem dX4_restore_173 : decode cX4_restore 173 = .ok (.aload_n 0, 1) := dk_42 (dk_at dksX4_restore_7 10 rfl rfl)
theorem dX4_restore_174 : decode cX4_restore 174 = .ok (.getfield 73, 3) := dk_180 0 73 (dk_at dksX4_restore_7 11 rfl rfl)
theorem dX4_restore_177 : decode cX4_restore 177 = .ok (.aload_n 0, 1) := dk_42 (dk_at dksX4_restore_7 14 rfl rfl)
theorem dX4_restore_178 : decode cX4_restore 178 = .ok (.getfield 317, 3) := dk_180 1 61 (dk_at dksX4_restore_7 15 rfl rfl)
theorem dX4_restore_181 : decode cX4_restore 181 = .ok (.aaload, 1) := dk_50 (dk_at dksX4_restore_7 18 rfl rfl)
theorem dX4_restore_182 : decode cX4_restore 182 = .ok (.iconst 1, 1) := dk_4 (dk_at dksX4_restore_7 19 rfl rfl)
theorem dX4_restore_183 : decode cX4_restore 183 = .ok (.iaload, 1) := dk_46 (dk_at dksX4_restore_7 20 rfl rfl)
theorem dX4_restore_184 : decode cX4_restore 184 = .ok (.putfield 300, 3) := dk_181 1 44 (dk_at dksX4_restore_7 21 rfl rfl)
theorem dX4_restore_187 : decode cX4_restore 187 = .ok (.aload_n 0, 1) := dk_42 (dk_at dksX4_restore_8 0 rfl rfl)
theorem dX4_restore_188 : decode cX4_restore 188 = .ok (.aload_n 0, 1) := dk_42 (dk_at dksX4_restore_8 1 rfl rfl)
theorem dX4_restore_189 : decode cX4_restore 189 = .ok (.getfield 73, 3) := dk_180 0 73 (dk_at dksX4_restore_8 2 rfl rfl)
theorem dX4_restore_192 : decode cX4_restore 192 = .ok (.aload_n 0, 1) := dk_42 (dk_at dksX4_restore_8 5 rfl rfl)
theorem dX4_restore_193 : decode cX4_restore 193 = .ok (.getfield 317, 3) := dk_180 1 61 (dk_at dksX4_restore_8 6 rfl rfl)
theorem dX4_restore_196 : decode cX4_restore 196 = .ok (.aaload, 1) := dk_50 (dk_at dksX4_restore_8 9 rfl rfl)
theorem dX4_restore_197 : decode cX4_restore 197 = .ok (.iconst 2, 1) := dk_5 (dk_at dksX4_restore_8 10 rfl rfl)
theorem dX4_restore_198 : decode cX4_restore 198 = .ok (.iaload, 1) := dk_46 (dk_at dksX4_restore_8 11 rfl rfl)
theorem dX4_restore_199 : decode cX4_restore 199 = .ok (.putfield 306, 3) := dk_181 1 50 (dk_at dksX4_restore_8 12 rfl rfl)
theorem dX4_restore_202 : decode cX4_restore 202 = .ok (.aload_n 0, 1) := dk_42 (dk_at dksX4_restore_8 15 rfl rfl)
theorem dX4_restore_203 : decode cX4_restore 203 = .ok (.getfield 317, 3) := dk_180 1 61 (dk_at dksX4_restore_8 16 rfl rfl)
theorem dX4_restore_206 : decode cX4_restore 206 = .ok (.ireturn, 1) := dk_172 (dk_at dksX4_restore_8 19 rfl rfl)
abbrev cX4_count : ByteArray := prog_16_method_83_code
def yX4_count : MethodName := ⟨RX4, "count", "(I)I"⟩
def dkwX4_count_3 : List UInt8 := [172, 42, 180, 1, 61, 172, 42, 180, 0, 97, 172, 2, 172]
abbrev dktX4_count_3 : List UInt8 := dkwX4_count_3 ++ []
def dkwX4_count_2 : List UInt8 := [42, 180, 0, 180, 172, 42, 180, 0, 196, 172, 42, 180, 0, 247, 172, 42, 180, 1, 44, 172, 42, 180, 1, 50]
abbrev dktX4_count_2 : List UInt8 := dkwX4_count_2 ++ dktX4_count_3
def dkwX4_count_1 : List UInt8 := [170, 0, 0, 0, 0, 77, 0, 0, 0, 0, 0, 0, 0, 6, 0, 0, 0, 42, 0, 0, 0, 47, 0, 0, 0, 52, 0, 0, 0, 57, 0, 0, 0, 62, 0, 0, 0, 67, 0, 0, 0, 72]
abbrev dktX4_count_1 : List UInt8 := dkwX4_count_1 ++ dktX4_count_2
def dkwX4_count_0 : List UInt8 := [42, 3, 181, 0, 94, 27]
abbrev dktX4_count_0 : List UInt8 := dkwX4_count_0 ++ dktX4_count_1
theorem dksX4_count_0 : cX4_count.data.toList.drop 0 = dktX4_count_0 := by decide +kernel
theorem dksX4_count_1 : cX4_count.data.toList.drop 6 = dktX4_count_1 := dk_seg dksX4_count_0 6 rfl rfl
theorem dksX4_count_2 : cX4_count.data.toList.drop 48 = dktX4_count_2 := dk_seg dksX4_count_1 42 rfl rfl
theorem dksX4_count_3 : cX4_count.data.toList.drop 72 = dktX4_count_3 := dk_seg dksX4_count_2 24 rfl rfl
theorem dX4_count_0 : decode cX4_count 0 = .ok (.aload_n 0, 1) := dk_42 (dk_at dksX4_count_0 0 rfl rfl)
theorem dX4_count_1 : decode cX4_count 1 = .ok (.iconst 0, 1) := dk_3 (dk_at dksX4_count_0 1 rfl rfl)
theorem dX4_count_2 : decode cX4_count 2 = .ok (.putfield 94, 3) := dk_181 0 94 (dk_at dksX4_count_0 2 rfl rfl)
theorem dX4_count_5 : decode cX4_count 5 = .ok (.iload_n 1, 1) := dk_27 (dk_at dksX4_count_0 5 rfl rfl)
theorem dX4_count_6 : decode cX4_count 6 = .ok (.tableswitch 77 0 6 #[42, 47, 52, 57, 62, 67, 72], 42) := by decide +kernel
theorem dX4_count_48 : decode cX4_count 48 = .ok (.aload_n 0, 1) := dk_42 (dk_at dksX4_count_2 0 rfl rfl)
theorem dX4_count_49 : decode cX4_count 49 = .ok (.getfield 180, 3) := dk_180 0 180 (dk_at dksX4_count_2 1 rfl rfl)
theorem dX4_count_52 : decode cX4_count 52 = .ok (.ireturn, 1) := dk_172 (dk_at dksX4_count_2 4 rfl rfl)
theorem dX4_count_53 : decode cX4_count 53 = .ok (.aload_n 0, 1) := dk_42 (dk_at dksX4_count_2 5 rfl rfl)
theorem dX4_count_54 : decode cX4_count 54 = .ok (.getfield 196, 3) := dk_180 0 196 (dk_at dksX4_count_2 6 rfl rfl)
theorem dX4_count_57 : decode cX4_count 57 = .ok (.ireturn, 1) := dk_172 (dk_at dksX4_count_2 9 rfl rfl)
theorem dX4_count_58 : decode cX4_count 58 = .ok (.aload_n 0, 1) := dk_42 (dk_at dksX4_count_2 10 rfl rfl)
theorem dX4_count_59 : decode cX4_count 59 = .ok (.getfield 247, 3) := dk_180 0 247 (dk_at dksX4_count_2 11 rfl rfl)
theorem dX4_count_62 : decode cX4_count 62 = .ok (.ireturn, 1) := dk_172 (dk_at dksX4_count_2 14 rfl rfl)
theorem dX4_count_63 : decode cX4_count 63 = .ok (.aload_n 0, 1) := dk_42 (dk_at dksX4_count_2 15 rfl rfl)
theorem dX4_count_64 : decode cX4_count 64 = .ok (.getfield 300, 3) := dk_180 1 44 (dk_at dksX4_count_2 16 rfl rfl)
theorem dX4_count_67 : decode cX4_count 67 = .ok (.ireturn, 1) := dk_172 (dk_at dksX4_count_2 19 rfl rfl)
theorem dX4_count_68 : decode cX4_count 68 = .ok (.aload_n 0, 1) := dk_42 (dk_at dksX4_count_2 20 rfl rfl)
theorem dX4_count_69 : decode cX4_count 69 = .ok (.getfield 306, 3) := dk_180 1 50 (dk_at dksX4_count_2 21 rfl rfl)
theorem dX4_count_72 : decode cX4_count 72 = .ok (.ireturn, 1) := dk_172 (dk_at dksX4_count_3 0 rfl rfl)
theorem dX4_count_73 : decode cX4_count 73 = .ok (.aload_n 0, 1) := dk_42 (dk_at dksX4_count_3 1 rfl rfl)
theorem dX4_count_74 : decode cX4_count 74 = .ok (.getfield 317, 3) := dk_180 1 61 (dk_at dksX4_count_3 2 rfl rfl)
theorem dX4_count_77 : decode cX4_count 77 = .ok (.ireturn, 1) := dk_172 (dk_at dksX4_count_3 5 rfl rfl)
theorem dX4_count_78 : decode cX4_count 78 = .ok (.aload_n 0, 1) := dk_42 (dk_at dksX4_count_3 6 rfl rfl)
theorem dX4_count_79 : decode cX4_count 79 = .ok (.getfield 97, 3) := dk_180 0 97 (dk_at dksX4_count_3 7 rfl rfl)
theorem dX4_count_82 : decode cX4_count 82 = .ok (.ireturn, 1) := dk_172 (dk_at dksX4_count_3 10 rfl rfl)
theorem dX4_count_83 : decode cX4_count 83 = .ok (.iconst (-1), 1) := dk_2 (dk_at dksX4_count_3 11 rfl rfl)
theorem dX4_count_84 : decode cX4_count 84 = .ok (.ireturn, 1) := dk_172 (dk_at dksX4_count_3 12 rfl rfl)
theorem q88 : (Jvm.Cond.initialized "WoolThreadsModel") ∈ lw_all := lw_g (lw_at lw_m1 23 rfl) rfl
theorem q640 : (Jvm.Cond.selects "WoolThreadsModel" ({ cls := "java/lang/Object", name := "getClass", desc := "()Ljava/lang/Class;" } : Jvm.MethodName) ({ cls := "java/lang/Object", name := "getClass", desc := "()Ljava/lang/Class;" } : Jvm.MethodName)) ∈ lw_all := lw_g (lw_at lw_m3 95 rfl) rfl
theorem q1522 : (Jvm.Cond.instantiable "WoolThreadsModel" (50 : Nat)) ∈ lw_all := lw_g (lw_at lw_m7 17 rfl) rfl
theorem q1524 : (Jvm.Cond.instanceMethod ({ cls := "WoolThreadsModel", name := "<init>", desc := "()V" } : Jvm.MethodName)) ∈ lw_all := lw_g (lw_at lw_m7 19 rfl) rfl
theorem q1525 : (Jvm.Cond.code ({ cls := "WoolThreadsModel", name := "<init>", desc := "()V" } : Jvm.MethodName) prog_16_method_1_code (2 : Nat) (Option.none : Option Jvm.ClassFile.FieldType)) ∈ lw_all := lw_g (lw_at lw_m7 20 rfl) rfl
theorem q1526 : (Jvm.Cond.methodLink "WoolThreadsModel" (1 : Nat) ({ cls := "java/lang/Object", name := "<init>", desc := "()V" } : Jvm.MethodName)) ∈ lw_all := lw_g (lw_at lw_m7 21 rfl) rfl
theorem q1527 : (Jvm.Cond.classLink "WoolThreadsModel" (20 : Nat) "[[I") ∈ lw_all := lw_g (lw_at lw_m7 22 rfl) rfl
theorem q1529 : (Jvm.Cond.fieldLink "WoolThreadsModel" (94 : Nat) "WoolThreadsModel" "thrown" "I") ∈ lw_all := lw_g (lw_at lw_m7 24 rfl) rfl
theorem q1530 : (Jvm.Cond.fieldLink "WoolThreadsModel" (97 : Nat) "WoolThreadsModel" "tape" "I") ∈ lw_all := lw_g (lw_at lw_m7 25 rfl) rfl
theorem q1531 : (Jvm.Cond.fieldLink "WoolThreadsModel" (100 : Nat) "WoolThreadsModel" "size" "I") ∈ lw_all := lw_g (lw_at lw_m7 26 rfl) rfl
theorem q1532 : (Jvm.Cond.fieldLink "WoolThreadsModel" (9 : Nat) "WoolThreadsModel" "place" "I") ∈ lw_all := lw_g (lw_at lw_m7 27 rfl) rfl
theorem q1533 : (Jvm.Cond.fieldLink "WoolThreadsModel" (103 : Nat) "WoolThreadsModel" "at" "I") ∈ lw_all := lw_g (lw_at lw_m7 28 rfl) rfl
theorem q1534 : (Jvm.Cond.fieldLink "WoolThreadsModel" (110 : Nat) "WoolThreadsModel" "fault" "I") ∈ lw_all := lw_g (lw_at lw_m7 29 rfl) rfl
theorem q1535 : (Jvm.Cond.fieldLink "WoolThreadsModel" (113 : Nat) "WoolThreadsModel" "faultAt" "I") ∈ lw_all := lw_g (lw_at lw_m7 30 rfl) rfl
theorem q1536 : (Jvm.Cond.fieldLink "WoolThreadsModel" (13 : Nat) "WoolThreadsModel" "fed" "[I") ∈ lw_all := lw_g (lw_at lw_m7 31 rfl) rfl
theorem q1537 : (Jvm.Cond.fieldLink "WoolThreadsModel" (180 : Nat) "WoolThreadsModel" "clauses" "I") ∈ lw_all := lw_g (lw_at lw_m7 32 rfl) rfl
theorem q1538 : (Jvm.Cond.fieldLink "WoolThreadsModel" (183 : Nat) "WoolThreadsModel" "wash" "I") ∈ lw_all := lw_g (lw_at lw_m7 33 rfl) rfl
theorem q1539 : (Jvm.Cond.fieldLink "WoolThreadsModel" (186 : Nat) "WoolThreadsModel" "pass" "I") ∈ lw_all := lw_g (lw_at lw_m7 34 rfl) rfl
theorem q1540 : (Jvm.Cond.fieldLink "WoolThreadsModel" (17 : Nat) "WoolThreadsModel" "take" "I") ∈ lw_all := lw_g (lw_at lw_m7 35 rfl) rfl
theorem q1541 : (Jvm.Cond.fieldLink "WoolThreadsModel" (22 : Nat) "WoolThreadsModel" "shed" "[[I") ∈ lw_all := lw_g (lw_at lw_m7 36 rfl) rfl
theorem q1542 : (Jvm.Cond.fieldLink "WoolThreadsModel" (25 : Nat) "WoolThreadsModel" "hold" "[I") ∈ lw_all := lw_g (lw_at lw_m7 37 rfl) rfl
theorem q1543 : (Jvm.Cond.fieldLink "WoolThreadsModel" (28 : Nat) "WoolThreadsModel" "common" "[I") ∈ lw_all := lw_g (lw_at lw_m7 38 rfl) rfl
theorem q1544 : (Jvm.Cond.fieldLink "WoolThreadsModel" (31 : Nat) "WoolThreadsModel" "near" "[I") ∈ lw_all := lw_g (lw_at lw_m7 39 rfl) rfl
theorem q1545 : (Jvm.Cond.fieldLink "WoolThreadsModel" (147 : Nat) "WoolThreadsModel" "newClauses" "I") ∈ lw_all := lw_g (lw_at lw_m7 40 rfl) rfl
theorem q1546 : (Jvm.Cond.fieldLink "WoolThreadsModel" (161 : Nat) "WoolThreadsModel" "newWash" "I") ∈ lw_all := lw_g (lw_at lw_m7 41 rfl) rfl
theorem q1547 : (Jvm.Cond.fieldLink "WoolThreadsModel" (164 : Nat) "WoolThreadsModel" "newPass" "I") ∈ lw_all := lw_g (lw_at lw_m7 42 rfl) rfl
theorem q1548 : (Jvm.Cond.fieldLink "WoolThreadsModel" (167 : Nat) "WoolThreadsModel" "newTake" "I") ∈ lw_all := lw_g (lw_at lw_m7 43 rfl) rfl
theorem q1549 : (Jvm.Cond.fieldLink "WoolThreadsModel" (34 : Nat) "WoolThreadsModel" "newShed" "[[I") ∈ lw_all := lw_g (lw_at lw_m7 44 rfl) rfl
theorem q1550 : (Jvm.Cond.fieldLink "WoolThreadsModel" (37 : Nat) "WoolThreadsModel" "newHold" "[I") ∈ lw_all := lw_g (lw_at lw_m7 45 rfl) rfl
theorem q1551 : (Jvm.Cond.fieldLink "WoolThreadsModel" (40 : Nat) "WoolThreadsModel" "newCommon" "[I") ∈ lw_all := lw_g (lw_at lw_m7 46 rfl) rfl
theorem q1552 : (Jvm.Cond.fieldLink "WoolThreadsModel" (43 : Nat) "WoolThreadsModel" "newNear" "[I") ∈ lw_all := lw_g (lw_at lw_m7 47 rfl) rfl
theorem q1553 : (Jvm.Cond.fieldLink "WoolThreadsModel" (196 : Nat) "WoolThreadsModel" "stories" "I") ∈ lw_all := lw_g (lw_at lw_m7 48 rfl) rfl
theorem q1554 : (Jvm.Cond.fieldLink "WoolThreadsModel" (46 : Nat) "WoolThreadsModel" "many" "[I") ∈ lw_all := lw_g (lw_at lw_m7 49 rfl) rfl
theorem q1555 : (Jvm.Cond.fieldLink "WoolThreadsModel" (49 : Nat) "WoolThreadsModel" "event" "[[I") ∈ lw_all := lw_g (lw_at lw_m7 50 rfl) rfl
theorem q1556 : (Jvm.Cond.fieldLink "WoolThreadsModel" (52 : Nat) "WoolThreadsModel" "newEvent" "[[I") ∈ lw_all := lw_g (lw_at lw_m7 51 rfl) rfl
theorem q1557 : (Jvm.Cond.fieldLink "WoolThreadsModel" (247 : Nat) "WoolThreadsModel" "finds" "I") ∈ lw_all := lw_g (lw_at lw_m7 52 rfl) rfl
theorem q1558 : (Jvm.Cond.fieldLink "WoolThreadsModel" (300 : Nat) "WoolThreadsModel" "seats" "I") ∈ lw_all := lw_g (lw_at lw_m7 53 rfl) rfl
theorem q1559 : (Jvm.Cond.fieldLink "WoolThreadsModel" (306 : Nat) "WoolThreadsModel" "shops" "I") ∈ lw_all := lw_g (lw_at lw_m7 54 rfl) rfl
theorem q1560 : (Jvm.Cond.fieldLink "WoolThreadsModel" (317 : Nat) "WoolThreadsModel" "images" "I") ∈ lw_all := lw_g (lw_at lw_m7 55 rfl) rfl
theorem q1561 : (Jvm.Cond.fieldLink "WoolThreadsModel" (55 : Nat) "WoolThreadsModel" "find" "[[I") ∈ lw_all := lw_g (lw_at lw_m7 56 rfl) rfl
theorem q1562 : (Jvm.Cond.fieldLink "WoolThreadsModel" (58 : Nat) "WoolThreadsModel" "seat" "[I") ∈ lw_all := lw_g (lw_at lw_m7 57 rfl) rfl
theorem q1563 : (Jvm.Cond.fieldLink "WoolThreadsModel" (61 : Nat) "WoolThreadsModel" "shop" "[[I") ∈ lw_all := lw_g (lw_at lw_m7 58 rfl) rfl
theorem q1564 : (Jvm.Cond.fieldLink "WoolThreadsModel" (64 : Nat) "WoolThreadsModel" "keptFind" "[[I") ∈ lw_all := lw_g (lw_at lw_m7 59 rfl) rfl
theorem q1565 : (Jvm.Cond.fieldLink "WoolThreadsModel" (67 : Nat) "WoolThreadsModel" "keptSeat" "[[I") ∈ lw_all := lw_g (lw_at lw_m7 60 rfl) rfl
theorem q1566 : (Jvm.Cond.fieldLink "WoolThreadsModel" (70 : Nat) "WoolThreadsModel" "keptShop" "[[I") ∈ lw_all := lw_g (lw_at lw_m7 61 rfl) rfl
theorem q1567 : (Jvm.Cond.fieldLink "WoolThreadsModel" (73 : Nat) "WoolThreadsModel" "keptMany" "[[I") ∈ lw_all := lw_g (lw_at lw_m7 62 rfl) rfl
theorem q1568 : (Jvm.Cond.fieldLink "WoolThreadsModel" (76 : Nat) "WoolThreadsModel" "lies" "[[I") ∈ lw_all := lw_g (lw_at lw_m7 63 rfl) rfl
theorem q1569 : (Jvm.Cond.fieldLink "WoolThreadsModel" (79 : Nat) "WoolThreadsModel" "wears" "[I") ∈ lw_all := lw_g (lw_at lw_m7 64 rfl) rfl
theorem q1570 : (Jvm.Cond.fieldLink "WoolThreadsModel" (82 : Nat) "WoolThreadsModel" "leftOut" "I") ∈ lw_all := lw_g (lw_at lw_m7 65 rfl) rfl
theorem q1571 : (Jvm.Cond.fieldLink "WoolThreadsModel" (85 : Nat) "WoolThreadsModel" "extraFrom" "I") ∈ lw_all := lw_g (lw_at lw_m7 66 rfl) rfl
theorem q1572 : (Jvm.Cond.fieldLink "WoolThreadsModel" (232 : Nat) "WoolThreadsModel" "extraTo" "I") ∈ lw_all := lw_g (lw_at lw_m7 67 rfl) rfl
theorem q1573 : (Jvm.Cond.fieldLink "WoolThreadsModel" (229 : Nat) "WoolThreadsModel" "extraHour" "I") ∈ lw_all := lw_g (lw_at lw_m7 68 rfl) rfl
theorem q1574 : (Jvm.Cond.fieldLink "WoolThreadsModel" (88 : Nat) "WoolThreadsModel" "first" "I") ∈ lw_all := lw_g (lw_at lw_m7 69 rfl) rfl
theorem q1575 : (Jvm.Cond.fieldLink "WoolThreadsModel" (212 : Nat) "WoolThreadsModel" "second" "I") ∈ lw_all := lw_g (lw_at lw_m7 70 rfl) rfl
theorem q1576 : (Jvm.Cond.fieldLink "WoolThreadsModel" (205 : Nat) "WoolThreadsModel" "third" "I") ∈ lw_all := lw_g (lw_at lw_m7 71 rfl) rfl
theorem q1577 : (Jvm.Cond.fieldLink "WoolThreadsModel" (91 : Nat) "WoolThreadsModel" "big" "[[I") ∈ lw_all := lw_g (lw_at lw_m7 72 rfl) rfl
theorem q1578 : (Jvm.Cond.fieldLink "WoolThreadsModel" (255 : Nat) "WoolThreadsModel" "scale" "I") ∈ lw_all := lw_g (lw_at lw_m7 73 rfl) rfl
theorem q1579 : (Jvm.Cond.lays "WoolThreadsModel" "WoolThreadsModel" "thrown" "I") ∈ lw_all := lw_g (lw_at lw_m7 74 rfl) rfl
theorem q1580 : (Jvm.Cond.soleField "WoolThreadsModel" "thrown") ∈ lw_all := lw_g (lw_at lw_m7 75 rfl) rfl
theorem q1581 : (Jvm.Cond.lays "WoolThreadsModel" "WoolThreadsModel" "tape" "I") ∈ lw_all := lw_g (lw_at lw_m7 76 rfl) rfl
theorem q1582 : (Jvm.Cond.soleField "WoolThreadsModel" "tape") ∈ lw_all := lw_g (lw_at lw_m7 77 rfl) rfl
theorem q1583 : (Jvm.Cond.lays "WoolThreadsModel" "WoolThreadsModel" "size" "I") ∈ lw_all := lw_g (lw_at lw_m7 78 rfl) rfl
theorem q1584 : (Jvm.Cond.soleField "WoolThreadsModel" "size") ∈ lw_all := lw_g (lw_at lw_m7 79 rfl) rfl
theorem q1585 : (Jvm.Cond.lays "WoolThreadsModel" "WoolThreadsModel" "place" "I") ∈ lw_all := lw_g (lw_at lw_m7 80 rfl) rfl
theorem q1586 : (Jvm.Cond.soleField "WoolThreadsModel" "place") ∈ lw_all := lw_g (lw_at lw_m7 81 rfl) rfl
theorem q1587 : (Jvm.Cond.lays "WoolThreadsModel" "WoolThreadsModel" "at" "I") ∈ lw_all := lw_g (lw_at lw_m7 82 rfl) rfl
theorem q1588 : (Jvm.Cond.soleField "WoolThreadsModel" "at") ∈ lw_all := lw_g (lw_at lw_m7 83 rfl) rfl
theorem q1589 : (Jvm.Cond.lays "WoolThreadsModel" "WoolThreadsModel" "fault" "I") ∈ lw_all := lw_g (lw_at lw_m7 84 rfl) rfl
theorem q1590 : (Jvm.Cond.soleField "WoolThreadsModel" "fault") ∈ lw_all := lw_g (lw_at lw_m7 85 rfl) rfl
theorem q1591 : (Jvm.Cond.lays "WoolThreadsModel" "WoolThreadsModel" "faultAt" "I") ∈ lw_all := lw_g (lw_at lw_m7 86 rfl) rfl
theorem q1592 : (Jvm.Cond.soleField "WoolThreadsModel" "faultAt") ∈ lw_all := lw_g (lw_at lw_m7 87 rfl) rfl
theorem q1593 : (Jvm.Cond.laysFinal "WoolThreadsModel" "WoolThreadsModel" "fed" "[I") ∈ lw_all := lw_g (lw_at lw_m7 88 rfl) rfl
theorem q1594 : (Jvm.Cond.soleField "WoolThreadsModel" "fed") ∈ lw_all := lw_g (lw_at lw_m7 89 rfl) rfl
theorem q1595 : (Jvm.Cond.lays "WoolThreadsModel" "WoolThreadsModel" "clauses" "I") ∈ lw_all := lw_g (lw_at lw_m7 90 rfl) rfl
theorem q1596 : (Jvm.Cond.soleField "WoolThreadsModel" "clauses") ∈ lw_all := lw_g (lw_at lw_m7 91 rfl) rfl
theorem q1597 : (Jvm.Cond.lays "WoolThreadsModel" "WoolThreadsModel" "wash" "I") ∈ lw_all := lw_g (lw_at lw_m7 92 rfl) rfl
theorem q1598 : (Jvm.Cond.soleField "WoolThreadsModel" "wash") ∈ lw_all := lw_g (lw_at lw_m7 93 rfl) rfl
theorem q1599 : (Jvm.Cond.lays "WoolThreadsModel" "WoolThreadsModel" "pass" "I") ∈ lw_all := lw_g (lw_at lw_m7 94 rfl) rfl
theorem q1600 : (Jvm.Cond.soleField "WoolThreadsModel" "pass") ∈ lw_all := lw_g (lw_at lw_m7 95 rfl) rfl
theorem q1601 : (Jvm.Cond.lays "WoolThreadsModel" "WoolThreadsModel" "take" "I") ∈ lw_all := lw_g (lw_at lw_m7 96 rfl) rfl
theorem q1602 : (Jvm.Cond.soleField "WoolThreadsModel" "take") ∈ lw_all := lw_g (lw_at lw_m7 97 rfl) rfl
theorem q1603 : (Jvm.Cond.laysFinal "WoolThreadsModel" "WoolThreadsModel" "shed" "[[I") ∈ lw_all := lw_g (lw_at lw_m7 98 rfl) rfl
theorem q1604 : (Jvm.Cond.soleField "WoolThreadsModel" "shed") ∈ lw_all := lw_g (lw_at lw_m7 99 rfl) rfl
theorem q1605 : (Jvm.Cond.laysFinal "WoolThreadsModel" "WoolThreadsModel" "hold" "[I") ∈ lw_all := lw_g (lw_at lw_m7 100 rfl) rfl
theorem q1606 : (Jvm.Cond.soleField "WoolThreadsModel" "hold") ∈ lw_all := lw_g (lw_at lw_m7 101 rfl) rfl
theorem q1607 : (Jvm.Cond.laysFinal "WoolThreadsModel" "WoolThreadsModel" "common" "[I") ∈ lw_all := lw_g (lw_at lw_m7 102 rfl) rfl
theorem q1608 : (Jvm.Cond.soleField "WoolThreadsModel" "common") ∈ lw_all := lw_g (lw_at lw_m7 103 rfl) rfl
theorem q1609 : (Jvm.Cond.laysFinal "WoolThreadsModel" "WoolThreadsModel" "near" "[I") ∈ lw_all := lw_g (lw_at lw_m7 104 rfl) rfl
theorem q1610 : (Jvm.Cond.soleField "WoolThreadsModel" "near") ∈ lw_all := lw_g (lw_at lw_m7 105 rfl) rfl
theorem q1611 : (Jvm.Cond.lays "WoolThreadsModel" "WoolThreadsModel" "newClauses" "I") ∈ lw_all := lw_g (lw_at lw_m7 106 rfl) rfl
theorem q1612 : (Jvm.Cond.soleField "WoolThreadsModel" "newClauses") ∈ lw_all := lw_g (lw_at lw_m7 107 rfl) rfl
theorem q1613 : (Jvm.Cond.lays "WoolThreadsModel" "WoolThreadsModel" "newWash" "I") ∈ lw_all := lw_g (lw_at lw_m7 108 rfl) rfl
theorem q1614 : (Jvm.Cond.soleField "WoolThreadsModel" "newWash") ∈ lw_all := lw_g (lw_at lw_m7 109 rfl) rfl
theorem q1615 : (Jvm.Cond.lays "WoolThreadsModel" "WoolThreadsModel" "newPass" "I") ∈ lw_all := lw_g (lw_at lw_m7 110 rfl) rfl
theorem q1616 : (Jvm.Cond.soleField "WoolThreadsModel" "newPass") ∈ lw_all := lw_g (lw_at lw_m7 111 rfl) rfl
theorem q1617 : (Jvm.Cond.lays "WoolThreadsModel" "WoolThreadsModel" "newTake" "I") ∈ lw_all := lw_g (lw_at lw_m7 112 rfl) rfl
theorem q1618 : (Jvm.Cond.soleField "WoolThreadsModel" "newTake") ∈ lw_all := lw_g (lw_at lw_m7 113 rfl) rfl
theorem q1619 : (Jvm.Cond.laysFinal "WoolThreadsModel" "WoolThreadsModel" "newShed" "[[I") ∈ lw_all := lw_g (lw_at lw_m7 114 rfl) rfl
theorem q1620 : (Jvm.Cond.soleField "WoolThreadsModel" "newShed") ∈ lw_all := lw_g (lw_at lw_m7 115 rfl) rfl
theorem q1621 : (Jvm.Cond.laysFinal "WoolThreadsModel" "WoolThreadsModel" "newHold" "[I") ∈ lw_all := lw_g (lw_at lw_m7 116 rfl) rfl
theorem q1622 : (Jvm.Cond.soleField "WoolThreadsModel" "newHold") ∈ lw_all := lw_g (lw_at lw_m7 117 rfl) rfl
theorem q1623 : (Jvm.Cond.laysFinal "WoolThreadsModel" "WoolThreadsModel" "newCommon" "[I") ∈ lw_all := lw_g (lw_at lw_m7 118 rfl) rfl
theorem q1624 : (Jvm.Cond.soleField "WoolThreadsModel" "newCommon") ∈ lw_all := lw_g (lw_at lw_m7 119 rfl) rfl
theorem q1625 : (Jvm.Cond.laysFinal "WoolThreadsModel" "WoolThreadsModel" "newNear" "[I") ∈ lw_all := lw_g (lw_at lw_m7 120 rfl) rfl
theorem q1626 : (Jvm.Cond.soleField "WoolThreadsModel" "newNear") ∈ lw_all := lw_g (lw_at lw_m7 121 rfl) rfl
theorem q1627 : (Jvm.Cond.lays "WoolThreadsModel" "WoolThreadsModel" "stories" "I") ∈ lw_all := lw_g (lw_at lw_m7 122 rfl) rfl
theorem q1628 : (Jvm.Cond.soleField "WoolThreadsModel" "stories") ∈ lw_all := lw_g (lw_at lw_m7 123 rfl) rfl
theorem q1629 : (Jvm.Cond.laysFinal "WoolThreadsModel" "WoolThreadsModel" "many" "[I") ∈ lw_all := lw_g (lw_at lw_m7 124 rfl) rfl
theorem q1630 : (Jvm.Cond.soleField "WoolThreadsModel" "many") ∈ lw_all := lw_g (lw_at lw_m7 125 rfl) rfl
theorem q1631 : (Jvm.Cond.laysFinal "WoolThreadsModel" "WoolThreadsModel" "event" "[[I") ∈ lw_all := lw_g (lw_at lw_m7 126 rfl) rfl
theorem q1632 : (Jvm.Cond.soleField "WoolThreadsModel" "event") ∈ lw_all := lw_g (lw_at lw_m7 127 rfl) rfl
theorem q1633 : (Jvm.Cond.laysFinal "WoolThreadsModel" "WoolThreadsModel" "newEvent" "[[I") ∈ lw_all := lw_g (lw_at lw_m7 128 rfl) rfl
theorem q1634 : (Jvm.Cond.soleField "WoolThreadsModel" "newEvent") ∈ lw_all := lw_g (lw_at lw_m7 129 rfl) rfl
theorem q1635 : (Jvm.Cond.lays "WoolThreadsModel" "WoolThreadsModel" "finds" "I") ∈ lw_all := lw_g (lw_at lw_m7 130 rfl) rfl
theorem q1636 : (Jvm.Cond.soleField "WoolThreadsModel" "finds") ∈ lw_all := lw_g (lw_at lw_m7 131 rfl) rfl
theorem q1637 : (Jvm.Cond.lays "WoolThreadsModel" "WoolThreadsModel" "seats" "I") ∈ lw_all := lw_g (lw_at lw_m7 132 rfl) rfl
theorem q1638 : (Jvm.Cond.soleField "WoolThreadsModel" "seats") ∈ lw_all := lw_g (lw_at lw_m7 133 rfl) rfl
theorem q1639 : (Jvm.Cond.lays "WoolThreadsModel" "WoolThreadsModel" "shops" "I") ∈ lw_all := lw_g (lw_at lw_m7 134 rfl) rfl
theorem q1640 : (Jvm.Cond.soleField "WoolThreadsModel" "shops") ∈ lw_all := lw_g (lw_at lw_m7 135 rfl) rfl
theorem q1641 : (Jvm.Cond.lays "WoolThreadsModel" "WoolThreadsModel" "images" "I") ∈ lw_all := lw_g (lw_at lw_m7 136 rfl) rfl
theorem q1642 : (Jvm.Cond.soleField "WoolThreadsModel" "images") ∈ lw_all := lw_g (lw_at lw_m7 137 rfl) rfl
theorem q1643 : (Jvm.Cond.laysFinal "WoolThreadsModel" "WoolThreadsModel" "find" "[[I") ∈ lw_all := lw_g (lw_at lw_m7 138 rfl) rfl
theorem q1644 : (Jvm.Cond.soleField "WoolThreadsModel" "find") ∈ lw_all := lw_g (lw_at lw_m7 139 rfl) rfl
theorem q1645 : (Jvm.Cond.laysFinal "WoolThreadsModel" "WoolThreadsModel" "seat" "[I") ∈ lw_all := lw_g (lw_at lw_m7 140 rfl) rfl
theorem q1646 : (Jvm.Cond.soleField "WoolThreadsModel" "seat") ∈ lw_all := lw_g (lw_at lw_m7 141 rfl) rfl
theorem q1647 : (Jvm.Cond.laysFinal "WoolThreadsModel" "WoolThreadsModel" "shop" "[[I") ∈ lw_all := lw_g (lw_at lw_m7 142 rfl) rfl
theorem q1648 : (Jvm.Cond.soleField "WoolThreadsModel" "shop") ∈ lw_all := lw_g (lw_at lw_m7 143 rfl) rfl
theorem q1649 : (Jvm.Cond.laysFinal "WoolThreadsModel" "WoolThreadsModel" "keptFind" "[[I") ∈ lw_all := lw_g (lw_at lw_m7 144 rfl) rfl
theorem q1650 : (Jvm.Cond.soleField "WoolThreadsModel" "keptFind") ∈ lw_all := lw_g (lw_at lw_m7 145 rfl) rfl
theorem q1651 : (Jvm.Cond.laysFinal "WoolThreadsModel" "WoolThreadsModel" "keptSeat" "[[I") ∈ lw_all := lw_g (lw_at lw_m7 146 rfl) rfl
theorem q1652 : (Jvm.Cond.soleField "WoolThreadsModel" "keptSeat") ∈ lw_all := lw_g (lw_at lw_m7 147 rfl) rfl
theorem q1653 : (Jvm.Cond.laysFinal "WoolThreadsModel" "WoolThreadsModel" "keptShop" "[[I") ∈ lw_all := lw_g (lw_at lw_m7 148 rfl) rfl
theorem q1654 : (Jvm.Cond.soleField "WoolThreadsModel" "keptShop") ∈ lw_all := lw_g (lw_at lw_m7 149 rfl) rfl
theorem q1655 : (Jvm.Cond.laysFinal "WoolThreadsModel" "WoolThreadsModel" "keptMany" "[[I") ∈ lw_all := lw_g (lw_at lw_m7 150 rfl) rfl
theorem q1656 : (Jvm.Cond.soleField "WoolThreadsModel" "keptMany") ∈ lw_all := lw_g (lw_at lw_m7 151 rfl) rfl
theorem q1657 : (Jvm.Cond.laysFinal "WoolThreadsModel" "WoolThreadsModel" "lies" "[[I") ∈ lw_all := lw_g (lw_at lw_m7 152 rfl) rfl
theorem q1658 : (Jvm.Cond.soleField "WoolThreadsModel" "lies") ∈ lw_all := lw_g (lw_at lw_m7 153 rfl) rfl
theorem q1659 : (Jvm.Cond.laysFinal "WoolThreadsModel" "WoolThreadsModel" "wears" "[I") ∈ lw_all := lw_g (lw_at lw_m7 154 rfl) rfl
theorem q1660 : (Jvm.Cond.soleField "WoolThreadsModel" "wears") ∈ lw_all := lw_g (lw_at lw_m7 155 rfl) rfl
theorem q1661 : (Jvm.Cond.lays "WoolThreadsModel" "WoolThreadsModel" "leftOut" "I") ∈ lw_all := lw_g (lw_at lw_m7 156 rfl) rfl
theorem q1662 : (Jvm.Cond.soleField "WoolThreadsModel" "leftOut") ∈ lw_all := lw_g (lw_at lw_m7 157 rfl) rfl
theorem q1663 : (Jvm.Cond.lays "WoolThreadsModel" "WoolThreadsModel" "extraFrom" "I") ∈ lw_all := lw_g (lw_at lw_m7 158 rfl) rfl
theorem q1664 : (Jvm.Cond.soleField "WoolThreadsModel" "extraFrom") ∈ lw_all := lw_g (lw_at lw_m7 159 rfl) rfl
theorem q1665 : (Jvm.Cond.lays "WoolThreadsModel" "WoolThreadsModel" "extraTo" "I") ∈ lw_all := lw_g (lw_at lw_m7 160 rfl) rfl
theorem q1666 : (Jvm.Cond.soleField "WoolThreadsModel" "extraTo") ∈ lw_all := lw_g (lw_at lw_m7 161 rfl) rfl
theorem q1667 : (Jvm.Cond.lays "WoolThreadsModel" "WoolThreadsModel" "extraHour" "I") ∈ lw_all := lw_g (lw_at lw_m7 162 rfl) rfl
theorem q1668 : (Jvm.Cond.soleField "WoolThreadsModel" "extraHour") ∈ lw_all := lw_g (lw_at lw_m7 163 rfl) rfl
theorem q1669 : (Jvm.Cond.lays "WoolThreadsModel" "WoolThreadsModel" "first" "I") ∈ lw_all := lw_g (lw_at lw_m7 164 rfl) rfl
theorem q1670 : (Jvm.Cond.soleField "WoolThreadsModel" "first") ∈ lw_all := lw_g (lw_at lw_m7 165 rfl) rfl
theorem q1671 : (Jvm.Cond.lays "WoolThreadsModel" "WoolThreadsModel" "second" "I") ∈ lw_all := lw_g (lw_at lw_m7 166 rfl) rfl
theorem q1672 : (Jvm.Cond.soleField "WoolThreadsModel" "second") ∈ lw_all := lw_g (lw_at lw_m7 167 rfl) rfl
theorem q1673 : (Jvm.Cond.lays "WoolThreadsModel" "WoolThreadsModel" "third" "I") ∈ lw_all := lw_g (lw_at lw_m7 168 rfl) rfl
theorem q1674 : (Jvm.Cond.soleField "WoolThreadsModel" "third") ∈ lw_all := lw_g (lw_at lw_m7 169 rfl) rfl
theorem q1675 : (Jvm.Cond.laysFinal "WoolThreadsModel" "WoolThreadsModel" "big" "[[I") ∈ lw_all := lw_g (lw_at lw_m7 170 rfl) rfl
theorem q1676 : (Jvm.Cond.soleField "WoolThreadsModel" "big") ∈ lw_all := lw_g (lw_at lw_m7 171 rfl) rfl
theorem q1677 : (Jvm.Cond.lays "WoolThreadsModel" "WoolThreadsModel" "scale" "I") ∈ lw_all := lw_g (lw_at lw_m7 172 rfl) rfl
theorem q1678 : (Jvm.Cond.soleField "WoolThreadsModel" "scale") ∈ lw_all := lw_g (lw_at lw_m7 173 rfl) rfl
theorem q1679 : (Jvm.Cond.superclass "WoolThreadsModel" "java/lang/Object") ∈ lw_all := lw_g (lw_at lw_m7 174 rfl) rfl
theorem q1681 : (Jvm.Cond.instanceMethod ({ cls := "WoolThreadsModel", name := "thrown", desc := "()I" } : Jvm.MethodName)) ∈ lw_all := lw_g (lw_at lw_m7 176 rfl) rfl
theorem q1682 : (Jvm.Cond.selects "WoolThreadsModel" ({ cls := "WoolThreadsModel", name := "thrown", desc := "()I" } : Jvm.MethodName) ({ cls := "WoolThreadsModel", name := "thrown", desc := "()I" } : Jvm.MethodName)) ∈ lw_all := lw_g (lw_at lw_m7 177 rfl) rfl
theorem q1683 : (Jvm.Cond.code ({ cls := "WoolThreadsModel", name := "thrown", desc := "()I" } : Jvm.MethodName) prog_16_method_2_code (1 : Nat) (Option.some Jvm.ClassFile.FieldType.int)) ∈ lw_all := lw_g (lw_at lw_m7 178 rfl) rfl
theorem q1685 : (Jvm.Cond.instanceMethod ({ cls := "WoolThreadsModel", name := "feed", desc := "(IIIII)I" } : Jvm.MethodName)) ∈ lw_all := lw_g (lw_at lw_m7 180 rfl) rfl
theorem q1686 : (Jvm.Cond.selects "WoolThreadsModel" ({ cls := "WoolThreadsModel", name := "feed", desc := "(IIIII)I" } : Jvm.MethodName) ({ cls := "WoolThreadsModel", name := "feed", desc := "(IIIII)I" } : Jvm.MethodName)) ∈ lw_all := lw_g (lw_at lw_m7 181 rfl) rfl
theorem q1687 : (Jvm.Cond.code ({ cls := "WoolThreadsModel", name := "feed", desc := "(IIIII)I" } : Jvm.MethodName) prog_16_method_6_code (8 : Nat) (Option.some Jvm.ClassFile.FieldType.int)) ∈ lw_all := lw_g (lw_at lw_m7 182 rfl) rfl
theorem q1689 : (Jvm.Cond.instanceMethod ({ cls := "WoolThreadsModel", name := "law", desc := "(I)I" } : Jvm.MethodName)) ∈ lw_all := lw_g (lw_at lw_m7 184 rfl) rfl
theorem q1690 : (Jvm.Cond.selects "WoolThreadsModel" ({ cls := "WoolThreadsModel", name := "law", desc := "(I)I" } : Jvm.MethodName) ({ cls := "WoolThreadsModel", name := "law", desc := "(I)I" } : Jvm.MethodName)) ∈ lw_all := lw_g (lw_at lw_m7 185 rfl) rfl
theorem q1691 : (Jvm.Cond.code ({ cls := "WoolThreadsModel", name := "law", desc := "(I)I" } : Jvm.MethodName) prog_16_method_20_code (4 : Nat) (Option.some Jvm.ClassFile.FieldType.int)) ∈ lw_all := lw_g (lw_at lw_m7 186 rfl) rfl
theorem q1692 : (Jvm.Cond.methodLink "WoolThreadsModel" (128 : Nat) ({ cls := "WoolThreadsModel", name := "in", desc := "(III)Z" } : Jvm.MethodName)) ∈ lw_all := lw_g (lw_at lw_m7 187 rfl) rfl
theorem q1693 : (Jvm.Cond.static ({ cls := "WoolThreadsModel", name := "in", desc := "(III)Z" } : Jvm.MethodName)) ∈ lw_all := lw_g (lw_at lw_m7 188 rfl) rfl
theorem q1694 : (Jvm.Cond.code ({ cls := "WoolThreadsModel", name := "in", desc := "(III)Z" } : Jvm.MethodName) prog_16_method_4_code (3 : Nat) (Option.some Jvm.ClassFile.FieldType.boolean)) ∈ lw_all := lw_g (lw_at lw_m7 189 rfl) rfl
theorem q1695 : (Jvm.Cond.methodLink "WoolThreadsModel" (170 : Nat) ({ cls := "WoolThreadsModel", name := "bad", desc := "(ZI)Z" } : Jvm.MethodName)) ∈ lw_all := lw_g (lw_at lw_m7 190 rfl) rfl
theorem q1696 : (Jvm.Cond.privateMethod ({ cls := "WoolThreadsModel", name := "bad", desc := "(ZI)Z" } : Jvm.MethodName)) ∈ lw_tbl := lw_at lw_m7 191 rfl
theorem q1697 : (Jvm.Cond.instanceMethod ({ cls := "WoolThreadsModel", name := "bad", desc := "(ZI)Z" } : Jvm.MethodName)) ∈ lw_all := lw_g (lw_at lw_m7 192 rfl) rfl
theorem q1698 : (Jvm.Cond.code ({ cls := "WoolThreadsModel", name := "bad", desc := "(ZI)Z" } : Jvm.MethodName) prog_16_method_3_code (3 : Nat) (Option.some Jvm.ClassFile.FieldType.boolean)) ∈ lw_all := lw_g (lw_at lw_m7 193 rfl) rfl
theorem q1699 : (Jvm.Cond.methodLink "WoolThreadsModel" (174 : Nat) ({ cls := "WoolThreadsModel", name := "begins", desc := "(I)V" } : Jvm.MethodName)) ∈ lw_all := lw_g (lw_at lw_m7 194 rfl) rfl
theorem q1700 : (Jvm.Cond.privateMethod ({ cls := "WoolThreadsModel", name := "begins", desc := "(I)V" } : Jvm.MethodName)) ∈ lw_tbl := lw_at lw_m7 195 rfl
theorem q1701 : (Jvm.Cond.instanceMethod ({ cls := "WoolThreadsModel", name := "begins", desc := "(I)V" } : Jvm.MethodName)) ∈ lw_all := lw_g (lw_at lw_m7 196 rfl) rfl
theorem q1702 : (Jvm.Cond.code ({ cls := "WoolThreadsModel", name := "begins", desc := "(I)V" } : Jvm.MethodName) prog_16_method_19_code (2 : Nat) (Option.none : Option Jvm.ClassFile.FieldType)) ∈ lw_all := lw_g (lw_at lw_m7 197 rfl) rfl
theorem q1703 : (Jvm.Cond.methodLink "WoolThreadsModel" (116 : Nat) ({ cls := "WoolThreadsModel", name := "blanks", desc := "()V" } : Jvm.MethodName)) ∈ lw_all := lw_g (lw_at lw_m7 198 rfl) rfl
theorem q1704 : (Jvm.Cond.privateMethod ({ cls := "WoolThreadsModel", name := "blanks", desc := "()V" } : Jvm.MethodName)) ∈ lw_tbl := lw_at lw_m7 199 rfl
theorem q1705 : (Jvm.Cond.instanceMethod ({ cls := "WoolThreadsModel", name := "blanks", desc := "()V" } : Jvm.MethodName)) ∈ lw_all := lw_g (lw_at lw_m7 200 rfl) rfl
theorem q1706 : (Jvm.Cond.code ({ cls := "WoolThreadsModel", name := "blanks", desc := "()V" } : Jvm.MethodName) prog_16_method_8_code (1 : Nat) (Option.none : Option Jvm.ClassFile.FieldType)) ∈ lw_all := lw_g (lw_at lw_m7 201 rfl) rfl
theorem q1707 : (Jvm.Cond.methodLink "WoolThreadsModel" (106 : Nat) ({ cls := "WoolThreadsModel", name := "byteAt", desc := "(I)I" } : Jvm.MethodName)) ∈ lw_all := lw_g (lw_at lw_m7 202 rfl) rfl
theorem q1708 : (Jvm.Cond.privateMethod ({ cls := "WoolThreadsModel", name := "byteAt", desc := "(I)I" } : Jvm.MethodName)) ∈ lw_tbl := lw_at lw_m7 203 rfl
theorem q1709 : (Jvm.Cond.instanceMethod ({ cls := "WoolThreadsModel", name := "byteAt", desc := "(I)I" } : Jvm.MethodName)) ∈ lw_all := lw_g (lw_at lw_m7 204 rfl) rfl
theorem q1710 : (Jvm.Cond.code ({ cls := "WoolThreadsModel", name := "byteAt", desc := "(I)I" } : Jvm.MethodName) prog_16_method_7_code (2 : Nat) (Option.some Jvm.ClassFile.FieldType.int)) ∈ lw_all := lw_g (lw_at lw_m7 205 rfl) rfl
theorem q1711 : (Jvm.Cond.methodLink "WoolThreadsModel" (177 : Nat) ({ cls := "WoolThreadsModel", name := "clause", desc := "()V" } : Jvm.MethodName)) ∈ lw_all := lw_g (lw_at lw_m7 206 rfl) rfl
theorem q1712 : (Jvm.Cond.privateMethod ({ cls := "WoolThreadsModel", name := "clause", desc := "()V" } : Jvm.MethodName)) ∈ lw_tbl := lw_at lw_m7 207 rfl
theorem q1713 : (Jvm.Cond.instanceMethod ({ cls := "WoolThreadsModel", name := "clause", desc := "()V" } : Jvm.MethodName)) ∈ lw_all := lw_g (lw_at lw_m7 208 rfl) rfl
theorem q1714 : (Jvm.Cond.code ({ cls := "WoolThreadsModel", name := "clause", desc := "()V" } : Jvm.MethodName) prog_16_method_18_code (5 : Nat) (Option.none : Option Jvm.ClassFile.FieldType)) ∈ lw_all := lw_g (lw_at lw_m7 209 rfl) rfl
theorem q1715 : (Jvm.Cond.methodLink "WoolThreadsModel" (144 : Nat) ({ cls := "WoolThreadsModel", name := "clauseHere", desc := "()I" } : Jvm.MethodName)) ∈ lw_all := lw_g (lw_at lw_m7 210 rfl) rfl
theorem q1716 : (Jvm.Cond.privateMethod ({ cls := "WoolThreadsModel", name := "clauseHere", desc := "()I" } : Jvm.MethodName)) ∈ lw_tbl := lw_at lw_m7 211 rfl
theorem q1717 : (Jvm.Cond.instanceMethod ({ cls := "WoolThreadsModel", name := "clauseHere", desc := "()I" } : Jvm.MethodName)) ∈ lw_all := lw_g (lw_at lw_m7 212 rfl) rfl
theorem q1718 : (Jvm.Cond.code ({ cls := "WoolThreadsModel", name := "clauseHere", desc := "()I" } : Jvm.MethodName) prog_16_method_17_code (1 : Nat) (Option.some Jvm.ClassFile.FieldType.int)) ∈ lw_all := lw_g (lw_at lw_m7 213 rfl) rfl
theorem q1719 : (Jvm.Cond.methodLink "WoolThreadsModel" (140 : Nat) ({ cls := "WoolThreadsModel", name := "isWord", desc := "(IIIIII)Z" } : Jvm.MethodName)) ∈ lw_all := lw_g (lw_at lw_m7 214 rfl) rfl
theorem q1720 : (Jvm.Cond.privateMethod ({ cls := "WoolThreadsModel", name := "isWord", desc := "(IIIIII)Z" } : Jvm.MethodName)) ∈ lw_tbl := lw_at lw_m7 215 rfl
theorem q1721 : (Jvm.Cond.instanceMethod ({ cls := "WoolThreadsModel", name := "isWord", desc := "(IIIIII)Z" } : Jvm.MethodName)) ∈ lw_all := lw_g (lw_at lw_m7 216 rfl) rfl
theorem q1722 : (Jvm.Cond.code ({ cls := "WoolThreadsModel", name := "isWord", desc := "(IIIIII)Z" } : Jvm.MethodName) prog_16_method_14_code (7 : Nat) (Option.some Jvm.ClassFile.FieldType.boolean)) ∈ lw_all := lw_g (lw_at lw_m7 217 rfl) rfl
theorem q1723 : (Jvm.Cond.methodLink "WoolThreadsModel" (132 : Nat) ({ cls := "WoolThreadsModel", name := "wordHere", desc := "()I" } : Jvm.MethodName)) ∈ lw_all := lw_g (lw_at lw_m7 218 rfl) rfl
theorem q1724 : (Jvm.Cond.privateMethod ({ cls := "WoolThreadsModel", name := "wordHere", desc := "()I" } : Jvm.MethodName)) ∈ lw_tbl := lw_at lw_m7 219 rfl
theorem q1725 : (Jvm.Cond.instanceMethod ({ cls := "WoolThreadsModel", name := "wordHere", desc := "()I" } : Jvm.MethodName)) ∈ lw_all := lw_g (lw_at lw_m7 220 rfl) rfl
theorem q1726 : (Jvm.Cond.code ({ cls := "WoolThreadsModel", name := "wordHere", desc := "()I" } : Jvm.MethodName) prog_16_method_12_code (3 : Nat) (Option.some Jvm.ClassFile.FieldType.int)) ∈ lw_all := lw_g (lw_at lw_m7 221 rfl) rfl
theorem q1727 : (Jvm.Cond.methodLink "WoolThreadsModel" (136 : Nat) ({ cls := "WoolThreadsModel", name := "word", desc := "(IIIIII)I" } : Jvm.MethodName)) ∈ lw_all := lw_g (lw_at lw_m7 222 rfl) rfl
theorem q1728 : (Jvm.Cond.static ({ cls := "WoolThreadsModel", name := "word", desc := "(IIIIII)I" } : Jvm.MethodName)) ∈ lw_all := lw_g (lw_at lw_m7 223 rfl) rfl
theorem q1729 : (Jvm.Cond.code ({ cls := "WoolThreadsModel", name := "word", desc := "(IIIIII)I" } : Jvm.MethodName) prog_16_method_13_code (7 : Nat) (Option.some Jvm.ClassFile.FieldType.int)) ∈ lw_all := lw_g (lw_at lw_m7 224 rfl) rfl
theorem q1730 : (Jvm.Cond.methodLink "WoolThreadsModel" (123 : Nat) ({ cls := "WoolThreadsModel", name := "wrong", desc := "(II)V" } : Jvm.MethodName)) ∈ lw_all := lw_g (lw_at lw_m7 225 rfl) rfl
theorem q1731 : (Jvm.Cond.privateMethod ({ cls := "WoolThreadsModel", name := "wrong", desc := "(II)V" } : Jvm.MethodName)) ∈ lw_tbl := lw_at lw_m7 226 rfl
theorem q1732 : (Jvm.Cond.instanceMethod ({ cls := "WoolThreadsModel", name := "wrong", desc := "(II)V" } : Jvm.MethodName)) ∈ lw_all := lw_g (lw_at lw_m7 227 rfl) rfl
theorem q1733 : (Jvm.Cond.code ({ cls := "WoolThreadsModel", name := "wrong", desc := "(II)V" } : Jvm.MethodName) prog_16_method_9_code (3 : Nat) (Option.none : Option Jvm.ClassFile.FieldType)) ∈ lw_all := lw_g (lw_at lw_m7 228 rfl) rfl
theorem q1734 : (Jvm.Cond.methodLink "WoolThreadsModel" (150 : Nat) ({ cls := "WoolThreadsModel", name := "skipWord", desc := "()V" } : Jvm.MethodName)) ∈ lw_all := lw_g (lw_at lw_m7 229 rfl) rfl
theorem q1735 : (Jvm.Cond.privateMethod ({ cls := "WoolThreadsModel", name := "skipWord", desc := "()V" } : Jvm.MethodName)) ∈ lw_tbl := lw_at lw_m7 230 rfl
theorem q1736 : (Jvm.Cond.instanceMethod ({ cls := "WoolThreadsModel", name := "skipWord", desc := "()V" } : Jvm.MethodName)) ∈ lw_all := lw_g (lw_at lw_m7 231 rfl) rfl
theorem q1737 : (Jvm.Cond.code ({ cls := "WoolThreadsModel", name := "skipWord", desc := "()V" } : Jvm.MethodName) prog_16_method_15_code (1 : Nat) (Option.none : Option Jvm.ClassFile.FieldType)) ∈ lw_all := lw_g (lw_at lw_m7 232 rfl) rfl
theorem q1738 : (Jvm.Cond.methodLink "WoolThreadsModel" (153 : Nat) ({ cls := "WoolThreadsModel", name := "number", desc := "(III)I" } : Jvm.MethodName)) ∈ lw_all := lw_g (lw_at lw_m7 233 rfl) rfl
theorem q1739 : (Jvm.Cond.privateMethod ({ cls := "WoolThreadsModel", name := "number", desc := "(III)I" } : Jvm.MethodName)) ∈ lw_tbl := lw_at lw_m7 234 rfl
theorem q1740 : (Jvm.Cond.instanceMethod ({ cls := "WoolThreadsModel", name := "number", desc := "(III)I" } : Jvm.MethodName)) ∈ lw_all := lw_g (lw_at lw_m7 235 rfl) rfl
theorem q1741 : (Jvm.Cond.code ({ cls := "WoolThreadsModel", name := "number", desc := "(III)I" } : Jvm.MethodName) prog_16_method_11_code (6 : Nat) (Option.some Jvm.ClassFile.FieldType.int)) ∈ lw_all := lw_g (lw_at lw_m7 236 rfl) rfl
theorem q1742 : (Jvm.Cond.methodLink "WoolThreadsModel" (119 : Nat) ({ cls := "WoolThreadsModel", name := "isDigit", desc := "(I)Z" } : Jvm.MethodName)) ∈ lw_all := lw_g (lw_at lw_m7 237 rfl) rfl
theorem q1743 : (Jvm.Cond.static ({ cls := "WoolThreadsModel", name := "isDigit", desc := "(I)Z" } : Jvm.MethodName)) ∈ lw_all := lw_g (lw_at lw_m7 238 rfl) rfl
theorem q1744 : (Jvm.Cond.code ({ cls := "WoolThreadsModel", name := "isDigit", desc := "(I)Z" } : Jvm.MethodName) prog_16_method_10_code (1 : Nat) (Option.some Jvm.ClassFile.FieldType.boolean)) ∈ lw_all := lw_g (lw_at lw_m7 239 rfl) rfl
theorem q1745 : (Jvm.Cond.constant "WoolThreadsModel" (127 : Nat) (100000 : Int32)) ∈ lw_all := lw_g (lw_at lw_m8 0 rfl) rfl
theorem q1746 : (Jvm.Cond.methodLink "WoolThreadsModel" (157 : Nat) ({ cls := "WoolThreadsModel", name := "sign", desc := "(I)V" } : Jvm.MethodName)) ∈ lw_all := lw_g (lw_at lw_m8 1 rfl) rfl
theorem q1747 : (Jvm.Cond.privateMethod ({ cls := "WoolThreadsModel", name := "sign", desc := "(I)V" } : Jvm.MethodName)) ∈ lw_tbl := lw_at lw_m8 2 rfl
theorem q1748 : (Jvm.Cond.instanceMethod ({ cls := "WoolThreadsModel", name := "sign", desc := "(I)V" } : Jvm.MethodName)) ∈ lw_all := lw_g (lw_at lw_m8 3 rfl) rfl
theorem q1749 : (Jvm.Cond.code ({ cls := "WoolThreadsModel", name := "sign", desc := "(I)V" } : Jvm.MethodName) prog_16_method_16_code (2 : Nat) (Option.none : Option Jvm.ClassFile.FieldType)) ∈ lw_all := lw_g (lw_at lw_m8 4 rfl) rfl
theorem q1751 : (Jvm.Cond.instanceMethod ({ cls := "WoolThreadsModel", name := "story", desc := "(I)I" } : Jvm.MethodName)) ∈ lw_all := lw_g (lw_at lw_m8 6 rfl) rfl
theorem q1752 : (Jvm.Cond.selects "WoolThreadsModel" ({ cls := "WoolThreadsModel", name := "story", desc := "(I)I" } : Jvm.MethodName) ({ cls := "WoolThreadsModel", name := "story", desc := "(I)I" } : Jvm.MethodName)) ∈ lw_all := lw_g (lw_at lw_m8 7 rfl) rfl
theorem q1753 : (Jvm.Cond.code ({ cls := "WoolThreadsModel", name := "story", desc := "(I)I" } : Jvm.MethodName) prog_16_method_23_code (5 : Nat) (Option.some Jvm.ClassFile.FieldType.int)) ∈ lw_all := lw_g (lw_at lw_m8 8 rfl) rfl
theorem q1754 : (Jvm.Cond.methodLink "WoolThreadsModel" (192 : Nat) ({ cls := "WoolThreadsModel", name := "less", desc := "(II)I" } : Jvm.MethodName)) ∈ lw_all := lw_g (lw_at lw_m8 9 rfl) rfl
theorem q1755 : (Jvm.Cond.static ({ cls := "WoolThreadsModel", name := "less", desc := "(II)I" } : Jvm.MethodName)) ∈ lw_all := lw_g (lw_at lw_m8 10 rfl) rfl
theorem q1756 : (Jvm.Cond.code ({ cls := "WoolThreadsModel", name := "less", desc := "(II)I" } : Jvm.MethodName) prog_16_method_5_code (2 : Nat) (Option.some Jvm.ClassFile.FieldType.int)) ∈ lw_all := lw_g (lw_at lw_m8 11 rfl) rfl
theorem q1757 : (Jvm.Cond.methodLink "WoolThreadsModel" (199 : Nat) ({ cls := "WoolThreadsModel", name := "eventAt", desc := "(I)V" } : Jvm.MethodName)) ∈ lw_all := lw_g (lw_at lw_m8 12 rfl) rfl
theorem q1758 : (Jvm.Cond.privateMethod ({ cls := "WoolThreadsModel", name := "eventAt", desc := "(I)V" } : Jvm.MethodName)) ∈ lw_tbl := lw_at lw_m8 13 rfl
theorem q1759 : (Jvm.Cond.instanceMethod ({ cls := "WoolThreadsModel", name := "eventAt", desc := "(I)V" } : Jvm.MethodName)) ∈ lw_all := lw_g (lw_at lw_m8 14 rfl) rfl
theorem q1760 : (Jvm.Cond.code ({ cls := "WoolThreadsModel", name := "eventAt", desc := "(I)V" } : Jvm.MethodName) prog_16_method_22_code (5 : Nat) (Option.none : Option Jvm.ClassFile.FieldType)) ∈ lw_all := lw_g (lw_at lw_m8 15 rfl) rfl
theorem q1761 : (Jvm.Cond.methodLink "WoolThreadsModel" (189 : Nat) ({ cls := "WoolThreadsModel", name := "eventHere", desc := "()I" } : Jvm.MethodName)) ∈ lw_all := lw_g (lw_at lw_m8 16 rfl) rfl
theorem q1762 : (Jvm.Cond.privateMethod ({ cls := "WoolThreadsModel", name := "eventHere", desc := "()I" } : Jvm.MethodName)) ∈ lw_tbl := lw_at lw_m8 17 rfl
theorem q1763 : (Jvm.Cond.instanceMethod ({ cls := "WoolThreadsModel", name := "eventHere", desc := "()I" } : Jvm.MethodName)) ∈ lw_all := lw_g (lw_at lw_m8 18 rfl) rfl
theorem q1764 : (Jvm.Cond.code ({ cls := "WoolThreadsModel", name := "eventHere", desc := "()I" } : Jvm.MethodName) prog_16_method_21_code (1 : Nat) (Option.some Jvm.ClassFile.FieldType.int)) ∈ lw_all := lw_g (lw_at lw_m8 19 rfl) rfl
theorem q1766 : (Jvm.Cond.instanceMethod ({ cls := "WoolThreadsModel", name := "fault", desc := "()I" } : Jvm.MethodName)) ∈ lw_all := lw_g (lw_at lw_m8 21 rfl) rfl
theorem q1767 : (Jvm.Cond.selects "WoolThreadsModel" ({ cls := "WoolThreadsModel", name := "fault", desc := "()I" } : Jvm.MethodName) ({ cls := "WoolThreadsModel", name := "fault", desc := "()I" } : Jvm.MethodName)) ∈ lw_all := lw_g (lw_at lw_m8 22 rfl) rfl
theorem q1768 : (Jvm.Cond.code ({ cls := "WoolThreadsModel", name := "fault", desc := "()I" } : Jvm.MethodName) prog_16_method_24_code (1 : Nat) (Option.some Jvm.ClassFile.FieldType.int)) ∈ lw_all := lw_g (lw_at lw_m8 23 rfl) rfl
theorem q1770 : (Jvm.Cond.instanceMethod ({ cls := "WoolThreadsModel", name := "sheds", desc := "(II)I" } : Jvm.MethodName)) ∈ lw_all := lw_g (lw_at lw_m8 25 rfl) rfl
theorem q1771 : (Jvm.Cond.selects "WoolThreadsModel" ({ cls := "WoolThreadsModel", name := "sheds", desc := "(II)I" } : Jvm.MethodName) ({ cls := "WoolThreadsModel", name := "sheds", desc := "(II)I" } : Jvm.MethodName)) ∈ lw_all := lw_g (lw_at lw_m8 26 rfl) rfl
theorem q1772 : (Jvm.Cond.code ({ cls := "WoolThreadsModel", name := "sheds", desc := "(II)I" } : Jvm.MethodName) prog_16_method_25_code (3 : Nat) (Option.some Jvm.ClassFile.FieldType.int)) ∈ lw_all := lw_g (lw_at lw_m8 27 rfl) rfl
theorem q1774 : (Jvm.Cond.instanceMethod ({ cls := "WoolThreadsModel", name := "told", desc := "(II)I" } : Jvm.MethodName)) ∈ lw_all := lw_g (lw_at lw_m8 29 rfl) rfl
theorem q1775 : (Jvm.Cond.selects "WoolThreadsModel" ({ cls := "WoolThreadsModel", name := "told", desc := "(II)I" } : Jvm.MethodName) ({ cls := "WoolThreadsModel", name := "told", desc := "(II)I" } : Jvm.MethodName)) ∈ lw_all := lw_g (lw_at lw_m8 30 rfl) rfl
theorem q1776 : (Jvm.Cond.code ({ cls := "WoolThreadsModel", name := "told", desc := "(II)I" } : Jvm.MethodName) prog_16_method_26_code (3 : Nat) (Option.some Jvm.ClassFile.FieldType.int)) ∈ lw_all := lw_g (lw_at lw_m8 31 rfl) rfl
theorem q1778 : (Jvm.Cond.instanceMethod ({ cls := "WoolThreadsModel", name := "alike", desc := "(I)I" } : Jvm.MethodName)) ∈ lw_all := lw_g (lw_at lw_m8 33 rfl) rfl
theorem q1779 : (Jvm.Cond.selects "WoolThreadsModel" ({ cls := "WoolThreadsModel", name := "alike", desc := "(I)I" } : Jvm.MethodName) ({ cls := "WoolThreadsModel", name := "alike", desc := "(I)I" } : Jvm.MethodName)) ∈ lw_all := lw_g (lw_at lw_m8 34 rfl) rfl
theorem q1780 : (Jvm.Cond.code ({ cls := "WoolThreadsModel", name := "alike", desc := "(I)I" } : Jvm.MethodName) prog_16_method_28_code (2 : Nat) (Option.some Jvm.ClassFile.FieldType.int)) ∈ lw_all := lw_g (lw_at lw_m8 35 rfl) rfl
theorem q1781 : (Jvm.Cond.methodLink "WoolThreadsModel" (202 : Nat) ({ cls := "WoolThreadsModel", name := "alikeOf", desc := "(I)I" } : Jvm.MethodName)) ∈ lw_all := lw_g (lw_at lw_m8 36 rfl) rfl
theorem q1782 : (Jvm.Cond.privateMethod ({ cls := "WoolThreadsModel", name := "alikeOf", desc := "(I)I" } : Jvm.MethodName)) ∈ lw_tbl := lw_at lw_m8 37 rfl
theorem q1783 : (Jvm.Cond.instanceMethod ({ cls := "WoolThreadsModel", name := "alikeOf", desc := "(I)I" } : Jvm.MethodName)) ∈ lw_all := lw_g (lw_at lw_m8 38 rfl) rfl
theorem q1784 : (Jvm.Cond.code ({ cls := "WoolThreadsModel", name := "alikeOf", desc := "(I)I" } : Jvm.MethodName) prog_16_method_27_code (5 : Nat) (Option.some Jvm.ClassFile.FieldType.int)) ∈ lw_all := lw_g (lw_at lw_m8 39 rfl) rfl
theorem q1786 : (Jvm.Cond.instanceMethod ({ cls := "WoolThreadsModel", name := "lies", desc := "(IIII)I" } : Jvm.MethodName)) ∈ lw_all := lw_g (lw_at lw_m8 41 rfl) rfl
theorem q1787 : (Jvm.Cond.selects "WoolThreadsModel" ({ cls := "WoolThreadsModel", name := "lies", desc := "(IIII)I" } : Jvm.MethodName) ({ cls := "WoolThreadsModel", name := "lies", desc := "(IIII)I" } : Jvm.MethodName)) ∈ lw_all := lw_g (lw_at lw_m8 42 rfl) rfl
theorem q1788 : (Jvm.Cond.code ({ cls := "WoolThreadsModel", name := "lies", desc := "(IIII)I" } : Jvm.MethodName) prog_16_method_38_code (5 : Nat) (Option.some Jvm.ClassFile.FieldType.int)) ∈ lw_all := lw_g (lw_at lw_m8 43 rfl) rfl
theorem q1789 : (Jvm.Cond.methodLink "WoolThreadsModel" (235 : Nat) ({ cls := "WoolThreadsModel", name := "isStory", desc := "(I)Z" } : Jvm.MethodName)) ∈ lw_all := lw_g (lw_at lw_m8 44 rfl) rfl
theorem q1790 : (Jvm.Cond.privateMethod ({ cls := "WoolThreadsModel", name := "isStory", desc := "(I)Z" } : Jvm.MethodName)) ∈ lw_tbl := lw_at lw_m8 45 rfl
theorem q1791 : (Jvm.Cond.instanceMethod ({ cls := "WoolThreadsModel", name := "isStory", desc := "(I)Z" } : Jvm.MethodName)) ∈ lw_all := lw_g (lw_at lw_m8 46 rfl) rfl
theorem q1792 : (Jvm.Cond.code ({ cls := "WoolThreadsModel", name := "isStory", desc := "(I)Z" } : Jvm.MethodName) prog_16_method_36_code (2 : Nat) (Option.some Jvm.ClassFile.FieldType.boolean)) ∈ lw_all := lw_g (lw_at lw_m8 47 rfl) rfl
theorem q1793 : (Jvm.Cond.methodLink "WoolThreadsModel" (238 : Nat) ({ cls := "WoolThreadsModel", name := "badPlace", desc := "(IIII)Z" } : Jvm.MethodName)) ∈ lw_all := lw_g (lw_at lw_m8 48 rfl) rfl
theorem q1794 : (Jvm.Cond.privateMethod ({ cls := "WoolThreadsModel", name := "badPlace", desc := "(IIII)Z" } : Jvm.MethodName)) ∈ lw_tbl := lw_at lw_m8 49 rfl
theorem q1795 : (Jvm.Cond.instanceMethod ({ cls := "WoolThreadsModel", name := "badPlace", desc := "(IIII)Z" } : Jvm.MethodName)) ∈ lw_all := lw_g (lw_at lw_m8 50 rfl) rfl
theorem q1796 : (Jvm.Cond.code ({ cls := "WoolThreadsModel", name := "badPlace", desc := "(IIII)Z" } : Jvm.MethodName) prog_16_method_37_code (5 : Nat) (Option.some Jvm.ClassFile.FieldType.boolean)) ∈ lw_all := lw_g (lw_at lw_m8 51 rfl) rfl
theorem q1797 : (Jvm.Cond.methodLink "WoolThreadsModel" (241 : Nat) ({ cls := "WoolThreadsModel", name := "runs", desc := "(II)V" } : Jvm.MethodName)) ∈ lw_all := lw_g (lw_at lw_m8 52 rfl) rfl
theorem q1798 : (Jvm.Cond.privateMethod ({ cls := "WoolThreadsModel", name := "runs", desc := "(II)V" } : Jvm.MethodName)) ∈ lw_tbl := lw_at lw_m8 53 rfl
theorem q1799 : (Jvm.Cond.instanceMethod ({ cls := "WoolThreadsModel", name := "runs", desc := "(II)V" } : Jvm.MethodName)) ∈ lw_all := lw_g (lw_at lw_m8 54 rfl) rfl
theorem q1800 : (Jvm.Cond.code ({ cls := "WoolThreadsModel", name := "runs", desc := "(II)V" } : Jvm.MethodName) prog_16_method_34_code (7 : Nat) (Option.none : Option Jvm.ClassFile.FieldType)) ∈ lw_all := lw_g (lw_at lw_m8 55 rfl) rfl
theorem q1801 : (Jvm.Cond.methodLink "WoolThreadsModel" (221 : Nat) ({ cls := "WoolThreadsModel", name := "comes", desc := "(I[I)Z" } : Jvm.MethodName)) ∈ lw_all := lw_g (lw_at lw_m8 56 rfl) rfl
theorem q1802 : (Jvm.Cond.privateMethod ({ cls := "WoolThreadsModel", name := "comes", desc := "(I[I)Z" } : Jvm.MethodName)) ∈ lw_tbl := lw_at lw_m8 57 rfl
theorem q1803 : (Jvm.Cond.instanceMethod ({ cls := "WoolThreadsModel", name := "comes", desc := "(I[I)Z" } : Jvm.MethodName)) ∈ lw_all := lw_g (lw_at lw_m8 58 rfl) rfl
theorem q1804 : (Jvm.Cond.code ({ cls := "WoolThreadsModel", name := "comes", desc := "(I[I)Z" } : Jvm.MethodName) prog_16_method_31_code (3 : Nat) (Option.some Jvm.ClassFile.FieldType.boolean)) ∈ lw_all := lw_g (lw_at lw_m8 59 rfl) rfl
theorem q1805 : (Jvm.Cond.methodLink "WoolThreadsModel" (208 : Nat) ({ cls := "WoolThreadsModel", name := "areTwo", desc := "(IIII)Z" } : Jvm.MethodName)) ∈ lw_all := lw_g (lw_at lw_m8 60 rfl) rfl
theorem q1806 : (Jvm.Cond.static ({ cls := "WoolThreadsModel", name := "areTwo", desc := "(IIII)Z" } : Jvm.MethodName)) ∈ lw_all := lw_g (lw_at lw_m8 61 rfl) rfl
theorem q1807 : (Jvm.Cond.code ({ cls := "WoolThreadsModel", name := "areTwo", desc := "(IIII)Z" } : Jvm.MethodName) prog_16_method_30_code (4 : Nat) (Option.some Jvm.ClassFile.FieldType.boolean)) ∈ lw_all := lw_g (lw_at lw_m8 62 rfl) rfl
theorem q1808 : (Jvm.Cond.methodLink "WoolThreadsModel" (225 : Nat) ({ cls := "WoolThreadsModel", name := "does", desc := "([I)V" } : Jvm.MethodName)) ∈ lw_all := lw_g (lw_at lw_m8 63 rfl) rfl
theorem q1809 : (Jvm.Cond.privateMethod ({ cls := "WoolThreadsModel", name := "does", desc := "([I)V" } : Jvm.MethodName)) ∈ lw_tbl := lw_at lw_m8 64 rfl
theorem q1810 : (Jvm.Cond.instanceMethod ({ cls := "WoolThreadsModel", name := "does", desc := "([I)V" } : Jvm.MethodName)) ∈ lw_all := lw_g (lw_at lw_m8 65 rfl) rfl
theorem q1811 : (Jvm.Cond.code ({ cls := "WoolThreadsModel", name := "does", desc := "([I)V" } : Jvm.MethodName) prog_16_method_32_code (3 : Nat) (Option.none : Option Jvm.ClassFile.FieldType)) ∈ lw_all := lw_g (lw_at lw_m8 66 rfl) rfl
theorem q1812 : (Jvm.Cond.methodLink "WoolThreadsModel" (215 : Nat) ({ cls := "WoolThreadsModel", name := "touches", desc := "(II)V" } : Jvm.MethodName)) ∈ lw_all := lw_g (lw_at lw_m8 67 rfl) rfl
theorem q1813 : (Jvm.Cond.privateMethod ({ cls := "WoolThreadsModel", name := "touches", desc := "(II)V" } : Jvm.MethodName)) ∈ lw_tbl := lw_at lw_m8 68 rfl
theorem q1814 : (Jvm.Cond.instanceMethod ({ cls := "WoolThreadsModel", name := "touches", desc := "(II)V" } : Jvm.MethodName)) ∈ lw_all := lw_g (lw_at lw_m8 69 rfl) rfl
theorem q1815 : (Jvm.Cond.code ({ cls := "WoolThreadsModel", name := "touches", desc := "(II)V" } : Jvm.MethodName) prog_16_method_29_code (10 : Nat) (Option.none : Option Jvm.ClassFile.FieldType)) ∈ lw_all := lw_g (lw_at lw_m8 70 rfl) rfl
theorem q1816 : (Jvm.Cond.methodLink "WoolThreadsModel" (218 : Nat) ({ cls := "WoolThreadsModel", name := "stays", desc := "(II)V" } : Jvm.MethodName)) ∈ lw_all := lw_g (lw_at lw_m8 71 rfl) rfl
theorem q1817 : (Jvm.Cond.privateMethod ({ cls := "WoolThreadsModel", name := "stays", desc := "(II)V" } : Jvm.MethodName)) ∈ lw_tbl := lw_at lw_m8 72 rfl
theorem q1818 : (Jvm.Cond.instanceMethod ({ cls := "WoolThreadsModel", name := "stays", desc := "(II)V" } : Jvm.MethodName)) ∈ lw_all := lw_g (lw_at lw_m8 73 rfl) rfl
theorem q1819 : (Jvm.Cond.code ({ cls := "WoolThreadsModel", name := "stays", desc := "(II)V" } : Jvm.MethodName) prog_16_method_33_code (4 : Nat) (Option.none : Option Jvm.ClassFile.FieldType)) ∈ lw_all := lw_g (lw_at lw_m8 74 rfl) rfl
theorem q1821 : (Jvm.Cond.instanceMethod ({ cls := "WoolThreadsModel", name := "pile", desc := "(IIII)I" } : Jvm.MethodName)) ∈ lw_all := lw_g (lw_at lw_m8 76 rfl) rfl
theorem q1822 : (Jvm.Cond.selects "WoolThreadsModel" ({ cls := "WoolThreadsModel", name := "pile", desc := "(IIII)I" } : Jvm.MethodName) ({ cls := "WoolThreadsModel", name := "pile", desc := "(IIII)I" } : Jvm.MethodName)) ∈ lw_all := lw_g (lw_at lw_m8 77 rfl) rfl
theorem q1823 : (Jvm.Cond.code ({ cls := "WoolThreadsModel", name := "pile", desc := "(IIII)I" } : Jvm.MethodName) prog_16_method_40_code (5 : Nat) (Option.some Jvm.ClassFile.FieldType.int)) ∈ lw_all := lw_g (lw_at lw_m8 78 rfl) rfl
theorem q1824 : (Jvm.Cond.methodLink "WoolThreadsModel" (244 : Nat) ({ cls := "WoolThreadsModel", name := "pileAt", desc := "(II)I" } : Jvm.MethodName)) ∈ lw_all := lw_g (lw_at lw_m8 79 rfl) rfl
theorem q1825 : (Jvm.Cond.privateMethod ({ cls := "WoolThreadsModel", name := "pileAt", desc := "(II)I" } : Jvm.MethodName)) ∈ lw_tbl := lw_at lw_m8 80 rfl
theorem q1826 : (Jvm.Cond.instanceMethod ({ cls := "WoolThreadsModel", name := "pileAt", desc := "(II)I" } : Jvm.MethodName)) ∈ lw_all := lw_g (lw_at lw_m8 81 rfl) rfl
theorem q1827 : (Jvm.Cond.code ({ cls := "WoolThreadsModel", name := "pileAt", desc := "(II)I" } : Jvm.MethodName) prog_16_method_39_code (6 : Nat) (Option.some Jvm.ClassFile.FieldType.int)) ∈ lw_all := lw_g (lw_at lw_m8 82 rfl) rfl
theorem q1829 : (Jvm.Cond.instanceMethod ({ cls := "WoolThreadsModel", name := "wears", desc := "(III)I" } : Jvm.MethodName)) ∈ lw_all := lw_g (lw_at lw_m8 84 rfl) rfl
theorem q1830 : (Jvm.Cond.selects "WoolThreadsModel" ({ cls := "WoolThreadsModel", name := "wears", desc := "(III)I" } : Jvm.MethodName) ({ cls := "WoolThreadsModel", name := "wears", desc := "(III)I" } : Jvm.MethodName)) ∈ lw_all := lw_g (lw_at lw_m8 85 rfl) rfl
theorem q1831 : (Jvm.Cond.code ({ cls := "WoolThreadsModel", name := "wears", desc := "(III)I" } : Jvm.MethodName) prog_16_method_41_code (4 : Nat) (Option.some Jvm.ClassFile.FieldType.int)) ∈ lw_all := lw_g (lw_at lw_m8 86 rfl) rfl
theorem q1833 : (Jvm.Cond.instanceMethod ({ cls := "WoolThreadsModel", name := "find", desc := "(IIII)I" } : Jvm.MethodName)) ∈ lw_all := lw_g (lw_at lw_m8 88 rfl) rfl
theorem q1834 : (Jvm.Cond.selects "WoolThreadsModel" ({ cls := "WoolThreadsModel", name := "find", desc := "(IIII)I" } : Jvm.MethodName) ({ cls := "WoolThreadsModel", name := "find", desc := "(IIII)I" } : Jvm.MethodName)) ∈ lw_all := lw_g (lw_at lw_m8 89 rfl) rfl
theorem q1835 : (Jvm.Cond.code ({ cls := "WoolThreadsModel", name := "find", desc := "(IIII)I" } : Jvm.MethodName) prog_16_method_42_code (5 : Nat) (Option.some Jvm.ClassFile.FieldType.int)) ∈ lw_all := lw_g (lw_at lw_m8 90 rfl) rfl
theorem q1837 : (Jvm.Cond.instanceMethod ({ cls := "WoolThreadsModel", name := "found", desc := "(II)I" } : Jvm.MethodName)) ∈ lw_all := lw_g (lw_at lw_m8 92 rfl) rfl
theorem q1838 : (Jvm.Cond.selects "WoolThreadsModel" ({ cls := "WoolThreadsModel", name := "found", desc := "(II)I" } : Jvm.MethodName) ({ cls := "WoolThreadsModel", name := "found", desc := "(II)I" } : Jvm.MethodName)) ∈ lw_all := lw_g (lw_at lw_m8 93 rfl) rfl
theorem q1839 : (Jvm.Cond.code ({ cls := "WoolThreadsModel", name := "found", desc := "(II)I" } : Jvm.MethodName) prog_16_method_44_code (3 : Nat) (Option.some Jvm.ClassFile.FieldType.int)) ∈ lw_all := lw_g (lw_at lw_m8 94 rfl) rfl
theorem q1840 : (Jvm.Cond.methodLink "WoolThreadsModel" (250 : Nat) ({ cls := "WoolThreadsModel", name := "isFind", desc := "(I)Z" } : Jvm.MethodName)) ∈ lw_all := lw_g (lw_at lw_m8 95 rfl) rfl
theorem q1841 : (Jvm.Cond.privateMethod ({ cls := "WoolThreadsModel", name := "isFind", desc := "(I)Z" } : Jvm.MethodName)) ∈ lw_tbl := lw_at lw_m8 96 rfl
theorem q1842 : (Jvm.Cond.instanceMethod ({ cls := "WoolThreadsModel", name := "isFind", desc := "(I)Z" } : Jvm.MethodName)) ∈ lw_all := lw_g (lw_at lw_m8 97 rfl) rfl
theorem q1843 : (Jvm.Cond.code ({ cls := "WoolThreadsModel", name := "isFind", desc := "(I)Z" } : Jvm.MethodName) prog_16_method_43_code (2 : Nat) (Option.some Jvm.ClassFile.FieldType.boolean)) ∈ lw_all := lw_g (lw_at lw_m8 98 rfl) rfl
theorem q1845 : (Jvm.Cond.instanceMethod ({ cls := "WoolThreadsModel", name := "drop", desc := "(I)I" } : Jvm.MethodName)) ∈ lw_all := lw_g (lw_at lw_m8 100 rfl) rfl
theorem q1846 : (Jvm.Cond.selects "WoolThreadsModel" ({ cls := "WoolThreadsModel", name := "drop", desc := "(I)I" } : Jvm.MethodName) ({ cls := "WoolThreadsModel", name := "drop", desc := "(I)I" } : Jvm.MethodName)) ∈ lw_all := lw_g (lw_at lw_m8 101 rfl) rfl
theorem q1847 : (Jvm.Cond.code ({ cls := "WoolThreadsModel", name := "drop", desc := "(I)I" } : Jvm.MethodName) prog_16_method_45_code (4 : Nat) (Option.some Jvm.ClassFile.FieldType.int)) ∈ lw_all := lw_g (lw_at lw_m8 102 rfl) rfl
theorem q1849 : (Jvm.Cond.instanceMethod ({ cls := "WoolThreadsModel", name := "scale", desc := "(I)I" } : Jvm.MethodName)) ∈ lw_all := lw_g (lw_at lw_m8 104 rfl) rfl
theorem q1850 : (Jvm.Cond.selects "WoolThreadsModel" ({ cls := "WoolThreadsModel", name := "scale", desc := "(I)I" } : Jvm.MethodName) ({ cls := "WoolThreadsModel", name := "scale", desc := "(I)I" } : Jvm.MethodName)) ∈ lw_all := lw_g (lw_at lw_m8 105 rfl) rfl
theorem q1851 : (Jvm.Cond.code ({ cls := "WoolThreadsModel", name := "scale", desc := "(I)I" } : Jvm.MethodName) prog_16_method_54_code (2 : Nat) (Option.some Jvm.ClassFile.FieldType.int)) ∈ lw_all := lw_g (lw_at lw_m8 106 rfl) rfl
theorem q1852 : (Jvm.Cond.methodLink "WoolThreadsModel" (275 : Nat) ({ cls := "WoolThreadsModel", name := "numbers", desc := "(III)V" } : Jvm.MethodName)) ∈ lw_all := lw_g (lw_at lw_m8 107 rfl) rfl
theorem q1853 : (Jvm.Cond.privateMethod ({ cls := "WoolThreadsModel", name := "numbers", desc := "(III)V" } : Jvm.MethodName)) ∈ lw_tbl := lw_at lw_m8 108 rfl
theorem q1854 : (Jvm.Cond.instanceMethod ({ cls := "WoolThreadsModel", name := "numbers", desc := "(III)V" } : Jvm.MethodName)) ∈ lw_all := lw_g (lw_at lw_m8 109 rfl) rfl
theorem q1855 : (Jvm.Cond.code ({ cls := "WoolThreadsModel", name := "numbers", desc := "(III)V" } : Jvm.MethodName) prog_16_method_49_code (5 : Nat) (Option.none : Option Jvm.ClassFile.FieldType)) ∈ lw_all := lw_g (lw_at lw_m8 110 rfl) rfl
theorem q1856 : (Jvm.Cond.methodLink "WoolThreadsModel" (264 : Nat) ({ cls := "WoolThreadsModel", name := "countsIn", desc := "(III)V" } : Jvm.MethodName)) ∈ lw_all := lw_g (lw_at lw_m8 111 rfl) rfl
theorem q1857 : (Jvm.Cond.privateMethod ({ cls := "WoolThreadsModel", name := "countsIn", desc := "(III)V" } : Jvm.MethodName)) ∈ lw_tbl := lw_at lw_m8 112 rfl
theorem q1858 : (Jvm.Cond.instanceMethod ({ cls := "WoolThreadsModel", name := "countsIn", desc := "(III)V" } : Jvm.MethodName)) ∈ lw_all := lw_g (lw_at lw_m8 113 rfl) rfl
theorem q1859 : (Jvm.Cond.code ({ cls := "WoolThreadsModel", name := "countsIn", desc := "(III)V" } : Jvm.MethodName) prog_16_method_48_code (5 : Nat) (Option.none : Option Jvm.ClassFile.FieldType)) ∈ lw_all := lw_g (lw_at lw_m8 114 rfl) rfl
theorem q1860 : (Jvm.Cond.methodLink "WoolThreadsModel" (258 : Nat) ({ cls := "WoolThreadsModel", name := "times", desc := "(II)V" } : Jvm.MethodName)) ∈ lw_all := lw_g (lw_at lw_m8 115 rfl) rfl
theorem q1861 : (Jvm.Cond.privateMethod ({ cls := "WoolThreadsModel", name := "times", desc := "(II)V" } : Jvm.MethodName)) ∈ lw_tbl := lw_at lw_m8 116 rfl
theorem q1862 : (Jvm.Cond.instanceMethod ({ cls := "WoolThreadsModel", name := "times", desc := "(II)V" } : Jvm.MethodName)) ∈ lw_all := lw_g (lw_at lw_m8 117 rfl) rfl
theorem q1863 : (Jvm.Cond.code ({ cls := "WoolThreadsModel", name := "times", desc := "(II)V" } : Jvm.MethodName) prog_16_method_46_code (8 : Nat) (Option.none : Option Jvm.ClassFile.FieldType)) ∈ lw_all := lw_g (lw_at lw_m8 118 rfl) rfl
theorem q1864 : (Jvm.Cond.constantLong "WoolThreadsModel" (253 : Nat) (10000 : Int64)) ∈ lw_all := lw_g (lw_at lw_m8 119 rfl) rfl
theorem q1865 : (Jvm.Cond.methodLink "WoolThreadsModel" (261 : Nat) ({ cls := "WoolThreadsModel", name := "parts", desc := "(II)V" } : Jvm.MethodName)) ∈ lw_all := lw_g (lw_at lw_m8 120 rfl) rfl
theorem q1866 : (Jvm.Cond.privateMethod ({ cls := "WoolThreadsModel", name := "parts", desc := "(II)V" } : Jvm.MethodName)) ∈ lw_tbl := lw_at lw_m8 121 rfl
theorem q1867 : (Jvm.Cond.instanceMethod ({ cls := "WoolThreadsModel", name := "parts", desc := "(II)V" } : Jvm.MethodName)) ∈ lw_all := lw_g (lw_at lw_m8 122 rfl) rfl
theorem q1868 : (Jvm.Cond.code ({ cls := "WoolThreadsModel", name := "parts", desc := "(II)V" } : Jvm.MethodName) prog_16_method_47_code (6 : Nat) (Option.none : Option Jvm.ClassFile.FieldType)) ∈ lw_all := lw_g (lw_at lw_m8 123 rfl) rfl
theorem q1870 : (Jvm.Cond.instanceMethod ({ cls := "WoolThreadsModel", name := "digits", desc := "(I)I" } : Jvm.MethodName)) ∈ lw_all := lw_g (lw_at lw_m8 125 rfl) rfl
theorem q1871 : (Jvm.Cond.selects "WoolThreadsModel" ({ cls := "WoolThreadsModel", name := "digits", desc := "(I)I" } : Jvm.MethodName) ({ cls := "WoolThreadsModel", name := "digits", desc := "(I)I" } : Jvm.MethodName)) ∈ lw_all := lw_g (lw_at lw_m8 126 rfl) rfl
theorem q1872 : (Jvm.Cond.code ({ cls := "WoolThreadsModel", name := "digits", desc := "(I)I" } : Jvm.MethodName) prog_16_method_56_code (2 : Nat) (Option.some Jvm.ClassFile.FieldType.int)) ∈ lw_all := lw_g (lw_at lw_m8 127 rfl) rfl
theorem q1873 : (Jvm.Cond.methodLink "WoolThreadsModel" (278 : Nat) ({ cls := "WoolThreadsModel", name := "digitsNow", desc := "()I" } : Jvm.MethodName)) ∈ lw_all := lw_g (lw_at lw_m8 128 rfl) rfl
theorem q1874 : (Jvm.Cond.privateMethod ({ cls := "WoolThreadsModel", name := "digitsNow", desc := "()I" } : Jvm.MethodName)) ∈ lw_tbl := lw_at lw_m8 129 rfl
theorem q1875 : (Jvm.Cond.instanceMethod ({ cls := "WoolThreadsModel", name := "digitsNow", desc := "()I" } : Jvm.MethodName)) ∈ lw_all := lw_g (lw_at lw_m8 130 rfl) rfl
theorem q1876 : (Jvm.Cond.code ({ cls := "WoolThreadsModel", name := "digitsNow", desc := "()I" } : Jvm.MethodName) prog_16_method_55_code (4 : Nat) (Option.some Jvm.ClassFile.FieldType.int)) ∈ lw_all := lw_g (lw_at lw_m8 131 rfl) rfl
theorem q1878 : (Jvm.Cond.instanceMethod ({ cls := "WoolThreadsModel", name := "digit", desc := "(II)I" } : Jvm.MethodName)) ∈ lw_all := lw_g (lw_at lw_m8 133 rfl) rfl
theorem q1879 : (Jvm.Cond.selects "WoolThreadsModel" ({ cls := "WoolThreadsModel", name := "digit", desc := "(II)I" } : Jvm.MethodName) ({ cls := "WoolThreadsModel", name := "digit", desc := "(II)I" } : Jvm.MethodName)) ∈ lw_all := lw_g (lw_at lw_m8 134 rfl) rfl
theorem q1880 : (Jvm.Cond.code ({ cls := "WoolThreadsModel", name := "digit", desc := "(II)I" } : Jvm.MethodName) prog_16_method_57_code (5 : Nat) (Option.some Jvm.ClassFile.FieldType.int)) ∈ lw_all := lw_g (lw_at lw_m8 135 rfl) rfl
theorem q1882 : (Jvm.Cond.instanceMethod ({ cls := "WoolThreadsModel", name := "weighed", desc := "(II)I" } : Jvm.MethodName)) ∈ lw_all := lw_g (lw_at lw_m8 137 rfl) rfl
theorem q1883 : (Jvm.Cond.selects "WoolThreadsModel" ({ cls := "WoolThreadsModel", name := "weighed", desc := "(II)I" } : Jvm.MethodName) ({ cls := "WoolThreadsModel", name := "weighed", desc := "(II)I" } : Jvm.MethodName)) ∈ lw_all := lw_g (lw_at lw_m8 138 rfl) rfl
theorem q1884 : (Jvm.Cond.code ({ cls := "WoolThreadsModel", name := "weighed", desc := "(II)I" } : Jvm.MethodName) prog_16_method_59_code (3 : Nat) (Option.some Jvm.ClassFile.FieldType.int)) ∈ lw_all := lw_g (lw_at lw_m8 139 rfl) rfl
theorem q1885 : (Jvm.Cond.methodLink "WoolThreadsModel" (284 : Nat) ({ cls := "WoolThreadsModel", name := "two", desc := "(III)V" } : Jvm.MethodName)) ∈ lw_all := lw_g (lw_at lw_m8 140 rfl) rfl
theorem q1886 : (Jvm.Cond.privateMethod ({ cls := "WoolThreadsModel", name := "two", desc := "(III)V" } : Jvm.MethodName)) ∈ lw_tbl := lw_at lw_m8 141 rfl
theorem q1887 : (Jvm.Cond.instanceMethod ({ cls := "WoolThreadsModel", name := "two", desc := "(III)V" } : Jvm.MethodName)) ∈ lw_all := lw_g (lw_at lw_m8 142 rfl) rfl
theorem q1888 : (Jvm.Cond.code ({ cls := "WoolThreadsModel", name := "two", desc := "(III)V" } : Jvm.MethodName) prog_16_method_58_code (5 : Nat) (Option.none : Option Jvm.ClassFile.FieldType)) ∈ lw_all := lw_g (lw_at lw_m8 143 rfl) rfl
theorem q1889 : (Jvm.Cond.methodLink "WoolThreadsModel" (281 : Nat) ({ cls := "WoolThreadsModel", name := "levels", desc := "(II)V" } : Jvm.MethodName)) ∈ lw_all := lw_g (lw_at lw_m8 144 rfl) rfl
theorem q1890 : (Jvm.Cond.privateMethod ({ cls := "WoolThreadsModel", name := "levels", desc := "(II)V" } : Jvm.MethodName)) ∈ lw_tbl := lw_at lw_m8 145 rfl
theorem q1891 : (Jvm.Cond.instanceMethod ({ cls := "WoolThreadsModel", name := "levels", desc := "(II)V" } : Jvm.MethodName)) ∈ lw_all := lw_g (lw_at lw_m8 146 rfl) rfl
theorem q1892 : (Jvm.Cond.code ({ cls := "WoolThreadsModel", name := "levels", desc := "(II)V" } : Jvm.MethodName) prog_16_method_52_code (4 : Nat) (Option.none : Option Jvm.ClassFile.FieldType)) ∈ lw_all := lw_g (lw_at lw_m8 147 rfl) rfl
theorem q1893 : (Jvm.Cond.methodLink "WoolThreadsModel" (272 : Nat) ({ cls := "WoolThreadsModel", name := "compare", desc := "(II)I" } : Jvm.MethodName)) ∈ lw_all := lw_g (lw_at lw_m8 148 rfl) rfl
theorem q1894 : (Jvm.Cond.privateMethod ({ cls := "WoolThreadsModel", name := "compare", desc := "(II)I" } : Jvm.MethodName)) ∈ lw_tbl := lw_at lw_m8 149 rfl
theorem q1895 : (Jvm.Cond.instanceMethod ({ cls := "WoolThreadsModel", name := "compare", desc := "(II)I" } : Jvm.MethodName)) ∈ lw_all := lw_g (lw_at lw_m8 150 rfl) rfl
theorem q1896 : (Jvm.Cond.code ({ cls := "WoolThreadsModel", name := "compare", desc := "(II)I" } : Jvm.MethodName) prog_16_method_51_code (4 : Nat) (Option.some Jvm.ClassFile.FieldType.int)) ∈ lw_all := lw_g (lw_at lw_m8 151 rfl) rfl
theorem q1898 : (Jvm.Cond.instanceMethod ({ cls := "WoolThreadsModel", name := "worth", desc := "(II)I" } : Jvm.MethodName)) ∈ lw_all := lw_g (lw_at lw_m8 153 rfl) rfl
theorem q1899 : (Jvm.Cond.selects "WoolThreadsModel" ({ cls := "WoolThreadsModel", name := "worth", desc := "(II)I" } : Jvm.MethodName) ({ cls := "WoolThreadsModel", name := "worth", desc := "(II)I" } : Jvm.MethodName)) ∈ lw_all := lw_g (lw_at lw_m8 154 rfl) rfl
theorem q1900 : (Jvm.Cond.code ({ cls := "WoolThreadsModel", name := "worth", desc := "(II)I" } : Jvm.MethodName) prog_16_method_61_code (3 : Nat) (Option.some Jvm.ClassFile.FieldType.int)) ∈ lw_all := lw_g (lw_at lw_m8 155 rfl) rfl
theorem q1901 : (Jvm.Cond.methodLink "WoolThreadsModel" (290 : Nat) ({ cls := "WoolThreadsModel", name := "worthOf", desc := "(III)I" } : Jvm.MethodName)) ∈ lw_all := lw_g (lw_at lw_m8 156 rfl) rfl
theorem q1902 : (Jvm.Cond.privateMethod ({ cls := "WoolThreadsModel", name := "worthOf", desc := "(III)I" } : Jvm.MethodName)) ∈ lw_tbl := lw_at lw_m8 157 rfl
theorem q1903 : (Jvm.Cond.instanceMethod ({ cls := "WoolThreadsModel", name := "worthOf", desc := "(III)I" } : Jvm.MethodName)) ∈ lw_all := lw_g (lw_at lw_m8 158 rfl) rfl
theorem q1904 : (Jvm.Cond.code ({ cls := "WoolThreadsModel", name := "worthOf", desc := "(III)I" } : Jvm.MethodName) prog_16_method_60_code (4 : Nat) (Option.some Jvm.ClassFile.FieldType.int)) ∈ lw_all := lw_g (lw_at lw_m8 159 rfl) rfl
theorem q1905 : (Jvm.Cond.methodLink "WoolThreadsModel" (287 : Nat) ({ cls := "WoolThreadsModel", name := "worthNow", desc := "()I" } : Jvm.MethodName)) ∈ lw_all := lw_g (lw_at lw_m8 160 rfl) rfl
theorem q1906 : (Jvm.Cond.privateMethod ({ cls := "WoolThreadsModel", name := "worthNow", desc := "()I" } : Jvm.MethodName)) ∈ lw_tbl := lw_at lw_m8 161 rfl
theorem q1907 : (Jvm.Cond.instanceMethod ({ cls := "WoolThreadsModel", name := "worthNow", desc := "()I" } : Jvm.MethodName)) ∈ lw_all := lw_g (lw_at lw_m8 162 rfl) rfl
theorem q1908 : (Jvm.Cond.code ({ cls := "WoolThreadsModel", name := "worthNow", desc := "()I" } : Jvm.MethodName) prog_16_method_53_code (5 : Nat) (Option.some Jvm.ClassFile.FieldType.int)) ∈ lw_all := lw_g (lw_at lw_m8 163 rfl) rfl
theorem q1909 : (Jvm.Cond.methodLink "WoolThreadsModel" (268 : Nat) ({ cls := "WoolThreadsModel", name := "isNothing", desc := "(I)Z" } : Jvm.MethodName)) ∈ lw_all := lw_g (lw_at lw_m8 164 rfl) rfl
theorem q1910 : (Jvm.Cond.privateMethod ({ cls := "WoolThreadsModel", name := "isNothing", desc := "(I)Z" } : Jvm.MethodName)) ∈ lw_tbl := lw_at lw_m8 165 rfl
theorem q1911 : (Jvm.Cond.instanceMethod ({ cls := "WoolThreadsModel", name := "isNothing", desc := "(I)Z" } : Jvm.MethodName)) ∈ lw_all := lw_g (lw_at lw_m8 166 rfl) rfl
theorem q1912 : (Jvm.Cond.code ({ cls := "WoolThreadsModel", name := "isNothing", desc := "(I)Z" } : Jvm.MethodName) prog_16_method_50_code (3 : Nat) (Option.some Jvm.ClassFile.FieldType.boolean)) ∈ lw_all := lw_g (lw_at lw_m8 167 rfl) rfl
theorem q1913 : (Jvm.Cond.constant "WoolThreadsModel" (271 : Nat) (1000000 : Int32)) ∈ lw_all := lw_g (lw_at lw_m8 168 rfl) rfl
theorem q1915 : (Jvm.Cond.instanceMethod ({ cls := "WoolThreadsModel", name := "part", desc := "(III)I" } : Jvm.MethodName)) ∈ lw_all := lw_g (lw_at lw_m8 170 rfl) rfl
theorem q1916 : (Jvm.Cond.selects "WoolThreadsModel" ({ cls := "WoolThreadsModel", name := "part", desc := "(III)I" } : Jvm.MethodName) ({ cls := "WoolThreadsModel", name := "part", desc := "(III)I" } : Jvm.MethodName)) ∈ lw_all := lw_g (lw_at lw_m8 171 rfl) rfl
theorem q1917 : (Jvm.Cond.code ({ cls := "WoolThreadsModel", name := "part", desc := "(III)I" } : Jvm.MethodName) prog_16_method_62_code (4 : Nat) (Option.some Jvm.ClassFile.FieldType.int)) ∈ lw_all := lw_g (lw_at lw_m8 172 rfl) rfl
theorem q1919 : (Jvm.Cond.instanceMethod ({ cls := "WoolThreadsModel", name := "events", desc := "(I)I" } : Jvm.MethodName)) ∈ lw_all := lw_g (lw_at lw_m8 174 rfl) rfl
theorem q1920 : (Jvm.Cond.selects "WoolThreadsModel" ({ cls := "WoolThreadsModel", name := "events", desc := "(I)I" } : Jvm.MethodName) ({ cls := "WoolThreadsModel", name := "events", desc := "(I)I" } : Jvm.MethodName)) ∈ lw_all := lw_g (lw_at lw_m8 175 rfl) rfl
theorem q1921 : (Jvm.Cond.code ({ cls := "WoolThreadsModel", name := "events", desc := "(I)I" } : Jvm.MethodName) prog_16_method_63_code (2 : Nat) (Option.some Jvm.ClassFile.FieldType.int)) ∈ lw_all := lw_g (lw_at lw_m8 176 rfl) rfl
theorem q1923 : (Jvm.Cond.instanceMethod ({ cls := "WoolThreadsModel", name := "counts", desc := "(II)I" } : Jvm.MethodName)) ∈ lw_all := lw_g (lw_at lw_m8 178 rfl) rfl
theorem q1924 : (Jvm.Cond.selects "WoolThreadsModel" ({ cls := "WoolThreadsModel", name := "counts", desc := "(II)I" } : Jvm.MethodName) ({ cls := "WoolThreadsModel", name := "counts", desc := "(II)I" } : Jvm.MethodName)) ∈ lw_all := lw_g (lw_at lw_m8 179 rfl) rfl
theorem q1925 : (Jvm.Cond.code ({ cls := "WoolThreadsModel", name := "counts", desc := "(II)I" } : Jvm.MethodName) prog_16_method_64_code (4 : Nat) (Option.some Jvm.ClassFile.FieldType.int)) ∈ lw_all := lw_g (lw_at lw_m8 180 rfl) rfl
theorem q1926 : (Jvm.Cond.methodLink "WoolThreadsModel" (293 : Nat) ({ cls := "WoolThreadsModel", name := "plain", desc := "()V" } : Jvm.MethodName)) ∈ lw_all := lw_g (lw_at lw_m8 181 rfl) rfl
theorem q1927 : (Jvm.Cond.privateMethod ({ cls := "WoolThreadsModel", name := "plain", desc := "()V" } : Jvm.MethodName)) ∈ lw_tbl := lw_at lw_m8 182 rfl
theorem q1928 : (Jvm.Cond.instanceMethod ({ cls := "WoolThreadsModel", name := "plain", desc := "()V" } : Jvm.MethodName)) ∈ lw_all := lw_g (lw_at lw_m8 183 rfl) rfl
theorem q1929 : (Jvm.Cond.code ({ cls := "WoolThreadsModel", name := "plain", desc := "()V" } : Jvm.MethodName) prog_16_method_35_code (1 : Nat) (Option.none : Option Jvm.ClassFile.FieldType)) ∈ lw_all := lw_g (lw_at lw_m8 184 rfl) rfl
theorem q1931 : (Jvm.Cond.instanceMethod ({ cls := "WoolThreadsModel", name := "needed", desc := "(II)I" } : Jvm.MethodName)) ∈ lw_all := lw_g (lw_at lw_m8 186 rfl) rfl
theorem q1932 : (Jvm.Cond.selects "WoolThreadsModel" ({ cls := "WoolThreadsModel", name := "needed", desc := "(II)I" } : Jvm.MethodName) ({ cls := "WoolThreadsModel", name := "needed", desc := "(II)I" } : Jvm.MethodName)) ∈ lw_all := lw_g (lw_at lw_m8 187 rfl) rfl
theorem q1933 : (Jvm.Cond.code ({ cls := "WoolThreadsModel", name := "needed", desc := "(II)I" } : Jvm.MethodName) prog_16_method_65_code (5 : Nat) (Option.some Jvm.ClassFile.FieldType.int)) ∈ lw_all := lw_g (lw_at lw_m8 188 rfl) rfl
theorem q1935 : (Jvm.Cond.instanceMethod ({ cls := "WoolThreadsModel", name := "byWay", desc := "(IIIIII)I" } : Jvm.MethodName)) ∈ lw_all := lw_g (lw_at lw_m8 190 rfl) rfl
theorem q1936 : (Jvm.Cond.selects "WoolThreadsModel" ({ cls := "WoolThreadsModel", name := "byWay", desc := "(IIIIII)I" } : Jvm.MethodName) ({ cls := "WoolThreadsModel", name := "byWay", desc := "(IIIIII)I" } : Jvm.MethodName)) ∈ lw_all := lw_g (lw_at lw_m8 191 rfl) rfl
theorem q1937 : (Jvm.Cond.code ({ cls := "WoolThreadsModel", name := "byWay", desc := "(IIIIII)I" } : Jvm.MethodName) prog_16_method_66_code (7 : Nat) (Option.some Jvm.ClassFile.FieldType.int)) ∈ lw_all := lw_g (lw_at lw_m8 192 rfl) rfl
theorem q1939 : (Jvm.Cond.instanceMethod ({ cls := "WoolThreadsModel", name := "bench", desc := "(IIII)I" } : Jvm.MethodName)) ∈ lw_all := lw_g (lw_at lw_m8 194 rfl) rfl
theorem q1940 : (Jvm.Cond.selects "WoolThreadsModel" ({ cls := "WoolThreadsModel", name := "bench", desc := "(IIII)I" } : Jvm.MethodName) ({ cls := "WoolThreadsModel", name := "bench", desc := "(IIII)I" } : Jvm.MethodName)) ∈ lw_all := lw_g (lw_at lw_m8 195 rfl) rfl
theorem q1941 : (Jvm.Cond.code ({ cls := "WoolThreadsModel", name := "bench", desc := "(IIII)I" } : Jvm.MethodName) prog_16_method_67_code (6 : Nat) (Option.some Jvm.ClassFile.FieldType.int)) ∈ lw_all := lw_g (lw_at lw_m8 196 rfl) rfl
theorem q1943 : (Jvm.Cond.instanceMethod ({ cls := "WoolThreadsModel", name := "after", desc := "(IIIZ)I" } : Jvm.MethodName)) ∈ lw_all := lw_g (lw_at lw_m8 198 rfl) rfl
theorem q1944 : (Jvm.Cond.selects "WoolThreadsModel" ({ cls := "WoolThreadsModel", name := "after", desc := "(IIIZ)I" } : Jvm.MethodName) ({ cls := "WoolThreadsModel", name := "after", desc := "(IIIZ)I" } : Jvm.MethodName)) ∈ lw_all := lw_g (lw_at lw_m8 199 rfl) rfl
theorem q1945 : (Jvm.Cond.code ({ cls := "WoolThreadsModel", name := "after", desc := "(IIIZ)I" } : Jvm.MethodName) prog_16_method_69_code (9 : Nat) (Option.some Jvm.ClassFile.FieldType.int)) ∈ lw_all := lw_g (lw_at lw_m8 200 rfl) rfl
theorem q1946 : (Jvm.Cond.methodLink "WoolThreadsModel" (296 : Nat) ({ cls := "WoolThreadsModel", name := "leftBehind", desc := "(III)I" } : Jvm.MethodName)) ∈ lw_all := lw_g (lw_at lw_m8 201 rfl) rfl
theorem q1947 : (Jvm.Cond.privateMethod ({ cls := "WoolThreadsModel", name := "leftBehind", desc := "(III)I" } : Jvm.MethodName)) ∈ lw_tbl := lw_at lw_m8 202 rfl
theorem q1948 : (Jvm.Cond.instanceMethod ({ cls := "WoolThreadsModel", name := "leftBehind", desc := "(III)I" } : Jvm.MethodName)) ∈ lw_all := lw_g (lw_at lw_m8 203 rfl) rfl
theorem q1949 : (Jvm.Cond.code ({ cls := "WoolThreadsModel", name := "leftBehind", desc := "(III)I" } : Jvm.MethodName) prog_16_method_68_code (6 : Nat) (Option.some Jvm.ClassFile.FieldType.int)) ∈ lw_all := lw_g (lw_at lw_m8 204 rfl) rfl
theorem q1950 : (Jvm.Cond.constant "WoolThreadsModel" (299 : Nat) (99999 : Int32)) ∈ lw_all := lw_g (lw_at lw_m8 205 rfl) rfl
theorem q1952 : (Jvm.Cond.instanceMethod ({ cls := "WoolThreadsModel", name := "seat", desc := "(I)I" } : Jvm.MethodName)) ∈ lw_all := lw_g (lw_at lw_m8 207 rfl) rfl
theorem q1953 : (Jvm.Cond.selects "WoolThreadsModel" ({ cls := "WoolThreadsModel", name := "seat", desc := "(I)I" } : Jvm.MethodName) ({ cls := "WoolThreadsModel", name := "seat", desc := "(I)I" } : Jvm.MethodName)) ∈ lw_all := lw_g (lw_at lw_m8 208 rfl) rfl
theorem q1954 : (Jvm.Cond.code ({ cls := "WoolThreadsModel", name := "seat", desc := "(I)I" } : Jvm.MethodName) prog_16_method_70_code (2 : Nat) (Option.some Jvm.ClassFile.FieldType.int)) ∈ lw_all := lw_g (lw_at lw_m8 209 rfl) rfl
theorem q1956 : (Jvm.Cond.instanceMethod ({ cls := "WoolThreadsModel", name := "share", desc := "(I)I" } : Jvm.MethodName)) ∈ lw_all := lw_g (lw_at lw_m8 211 rfl) rfl
theorem q1957 : (Jvm.Cond.selects "WoolThreadsModel" ({ cls := "WoolThreadsModel", name := "share", desc := "(I)I" } : Jvm.MethodName) ({ cls := "WoolThreadsModel", name := "share", desc := "(I)I" } : Jvm.MethodName)) ∈ lw_all := lw_g (lw_at lw_m8 212 rfl) rfl
theorem q1958 : (Jvm.Cond.code ({ cls := "WoolThreadsModel", name := "share", desc := "(I)I" } : Jvm.MethodName) prog_16_method_72_code (2 : Nat) (Option.some Jvm.ClassFile.FieldType.int)) ∈ lw_all := lw_g (lw_at lw_m8 213 rfl) rfl
theorem q1959 : (Jvm.Cond.methodLink "WoolThreadsModel" (303 : Nat) ({ cls := "WoolThreadsModel", name := "onSeats", desc := "(II)I" } : Jvm.MethodName)) ∈ lw_all := lw_g (lw_at lw_m8 214 rfl) rfl
theorem q1960 : (Jvm.Cond.privateMethod ({ cls := "WoolThreadsModel", name := "onSeats", desc := "(II)I" } : Jvm.MethodName)) ∈ lw_tbl := lw_at lw_m8 215 rfl
theorem q1961 : (Jvm.Cond.instanceMethod ({ cls := "WoolThreadsModel", name := "onSeats", desc := "(II)I" } : Jvm.MethodName)) ∈ lw_all := lw_g (lw_at lw_m8 216 rfl) rfl
theorem q1962 : (Jvm.Cond.code ({ cls := "WoolThreadsModel", name := "onSeats", desc := "(II)I" } : Jvm.MethodName) prog_16_method_71_code (5 : Nat) (Option.some Jvm.ClassFile.FieldType.int)) ∈ lw_all := lw_g (lw_at lw_m8 217 rfl) rfl
theorem q1964 : (Jvm.Cond.instanceMethod ({ cls := "WoolThreadsModel", name := "together", desc := "(II)I" } : Jvm.MethodName)) ∈ lw_all := lw_g (lw_at lw_m8 219 rfl) rfl
theorem q1965 : (Jvm.Cond.selects "WoolThreadsModel" ({ cls := "WoolThreadsModel", name := "together", desc := "(II)I" } : Jvm.MethodName) ({ cls := "WoolThreadsModel", name := "together", desc := "(II)I" } : Jvm.MethodName)) ∈ lw_all := lw_g (lw_at lw_m8 220 rfl) rfl
theorem q1966 : (Jvm.Cond.code ({ cls := "WoolThreadsModel", name := "together", desc := "(II)I" } : Jvm.MethodName) prog_16_method_73_code (3 : Nat) (Option.some Jvm.ClassFile.FieldType.int)) ∈ lw_all := lw_g (lw_at lw_m8 221 rfl) rfl
theorem q1968 : (Jvm.Cond.instanceMethod ({ cls := "WoolThreadsModel", name := "shop", desc := "(III)I" } : Jvm.MethodName)) ∈ lw_all := lw_g (lw_at lw_m8 223 rfl) rfl
theorem q1969 : (Jvm.Cond.selects "WoolThreadsModel" ({ cls := "WoolThreadsModel", name := "shop", desc := "(III)I" } : Jvm.MethodName) ({ cls := "WoolThreadsModel", name := "shop", desc := "(III)I" } : Jvm.MethodName)) ∈ lw_all := lw_g (lw_at lw_m8 224 rfl) rfl
theorem q1970 : (Jvm.Cond.code ({ cls := "WoolThreadsModel", name := "shop", desc := "(III)I" } : Jvm.MethodName) prog_16_method_74_code (4 : Nat) (Option.some Jvm.ClassFile.FieldType.int)) ∈ lw_all := lw_g (lw_at lw_m8 225 rfl) rfl
theorem q1972 : (Jvm.Cond.instanceMethod ({ cls := "WoolThreadsModel", name := "rare", desc := "(II)I" } : Jvm.MethodName)) ∈ lw_all := lw_g (lw_at lw_m8 227 rfl) rfl
theorem q1973 : (Jvm.Cond.selects "WoolThreadsModel" ({ cls := "WoolThreadsModel", name := "rare", desc := "(II)I" } : Jvm.MethodName) ({ cls := "WoolThreadsModel", name := "rare", desc := "(II)I" } : Jvm.MethodName)) ∈ lw_all := lw_g (lw_at lw_m8 228 rfl) rfl
theorem q1974 : (Jvm.Cond.code ({ cls := "WoolThreadsModel", name := "rare", desc := "(II)I" } : Jvm.MethodName) prog_16_method_75_code (11 : Nat) (Option.some Jvm.ClassFile.FieldType.int)) ∈ lw_all := lw_g (lw_at lw_m8 229 rfl) rfl
theorem q1975 : (Jvm.Cond.constantLong "WoolThreadsModel" (309 : Nat) (1000 : Int64)) ∈ lw_all := lw_g (lw_at lw_m8 230 rfl) rfl
theorem q1977 : (Jvm.Cond.instanceMethod ({ cls := "WoolThreadsModel", name := "next", desc := "(III)I" } : Jvm.MethodName)) ∈ lw_all := lw_g (lw_at lw_m8 232 rfl) rfl
theorem q1978 : (Jvm.Cond.selects "WoolThreadsModel" ({ cls := "WoolThreadsModel", name := "next", desc := "(III)I" } : Jvm.MethodName) ({ cls := "WoolThreadsModel", name := "next", desc := "(III)I" } : Jvm.MethodName)) ∈ lw_all := lw_g (lw_at lw_m8 233 rfl) rfl
theorem q1979 : (Jvm.Cond.code ({ cls := "WoolThreadsModel", name := "next", desc := "(III)I" } : Jvm.MethodName) prog_16_method_77_code (10 : Nat) (Option.some Jvm.ClassFile.FieldType.int)) ∈ lw_all := lw_g (lw_at lw_m8 234 rfl) rfl
theorem q1980 : (Jvm.Cond.methodLink "WoolThreadsModel" (311 : Nat) ({ cls := "WoolThreadsModel", name := "isLookedAt", desc := "(III)Z" } : Jvm.MethodName)) ∈ lw_all := lw_g (lw_at lw_m8 235 rfl) rfl
theorem q1981 : (Jvm.Cond.privateMethod ({ cls := "WoolThreadsModel", name := "isLookedAt", desc := "(III)Z" } : Jvm.MethodName)) ∈ lw_tbl := lw_at lw_m8 236 rfl
theorem q1982 : (Jvm.Cond.instanceMethod ({ cls := "WoolThreadsModel", name := "isLookedAt", desc := "(III)Z" } : Jvm.MethodName)) ∈ lw_all := lw_g (lw_at lw_m8 237 rfl) rfl
theorem q1983 : (Jvm.Cond.code ({ cls := "WoolThreadsModel", name := "isLookedAt", desc := "(III)Z" } : Jvm.MethodName) prog_16_method_76_code (5 : Nat) (Option.some Jvm.ClassFile.FieldType.boolean)) ∈ lw_all := lw_g (lw_at lw_m8 238 rfl) rfl
theorem q1985 : (Jvm.Cond.instanceMethod ({ cls := "WoolThreadsModel", name := "signs", desc := "(II)I" } : Jvm.MethodName)) ∈ lw_all := lw_g (lw_at lw_m9 0 rfl) rfl
theorem q1986 : (Jvm.Cond.selects "WoolThreadsModel" ({ cls := "WoolThreadsModel", name := "signs", desc := "(II)I" } : Jvm.MethodName) ({ cls := "WoolThreadsModel", name := "signs", desc := "(II)I" } : Jvm.MethodName)) ∈ lw_all := lw_g (lw_at lw_m9 1 rfl) rfl
theorem q1987 : (Jvm.Cond.code ({ cls := "WoolThreadsModel", name := "signs", desc := "(II)I" } : Jvm.MethodName) prog_16_method_79_code (8 : Nat) (Option.some Jvm.ClassFile.FieldType.int)) ∈ lw_all := lw_g (lw_at lw_m9 2 rfl) rfl
theorem q1988 : (Jvm.Cond.methodLink "WoolThreadsModel" (314 : Nat) ({ cls := "WoolThreadsModel", name := "isSign", desc := "(III)Z" } : Jvm.MethodName)) ∈ lw_all := lw_g (lw_at lw_m9 3 rfl) rfl
theorem q1989 : (Jvm.Cond.privateMethod ({ cls := "WoolThreadsModel", name := "isSign", desc := "(III)Z" } : Jvm.MethodName)) ∈ lw_tbl := lw_at lw_m9 4 rfl
theorem q1990 : (Jvm.Cond.instanceMethod ({ cls := "WoolThreadsModel", name := "isSign", desc := "(III)Z" } : Jvm.MethodName)) ∈ lw_all := lw_g (lw_at lw_m9 5 rfl) rfl
theorem q1991 : (Jvm.Cond.code ({ cls := "WoolThreadsModel", name := "isSign", desc := "(III)Z" } : Jvm.MethodName) prog_16_method_78_code (5 : Nat) (Option.some Jvm.ClassFile.FieldType.boolean)) ∈ lw_all := lw_g (lw_at lw_m9 6 rfl) rfl
theorem q1993 : (Jvm.Cond.instanceMethod ({ cls := "WoolThreadsModel", name := "said", desc := "(II)I" } : Jvm.MethodName)) ∈ lw_all := lw_g (lw_at lw_m9 8 rfl) rfl
theorem q1994 : (Jvm.Cond.selects "WoolThreadsModel" ({ cls := "WoolThreadsModel", name := "said", desc := "(II)I" } : Jvm.MethodName) ({ cls := "WoolThreadsModel", name := "said", desc := "(II)I" } : Jvm.MethodName)) ∈ lw_all := lw_g (lw_at lw_m9 9 rfl) rfl
theorem q1995 : (Jvm.Cond.code ({ cls := "WoolThreadsModel", name := "said", desc := "(II)I" } : Jvm.MethodName) prog_16_method_80_code (4 : Nat) (Option.some Jvm.ClassFile.FieldType.int)) ∈ lw_all := lw_g (lw_at lw_m9 10 rfl) rfl
theorem q1997 : (Jvm.Cond.instanceMethod ({ cls := "WoolThreadsModel", name := "image", desc := "()I" } : Jvm.MethodName)) ∈ lw_all := lw_g (lw_at lw_m9 12 rfl) rfl
theorem q1998 : (Jvm.Cond.selects "WoolThreadsModel" ({ cls := "WoolThreadsModel", name := "image", desc := "()I" } : Jvm.MethodName) ({ cls := "WoolThreadsModel", name := "image", desc := "()I" } : Jvm.MethodName)) ∈ lw_all := lw_g (lw_at lw_m9 13 rfl) rfl
theorem q1999 : (Jvm.Cond.code ({ cls := "WoolThreadsModel", name := "image", desc := "()I" } : Jvm.MethodName) prog_16_method_81_code (3 : Nat) (Option.some Jvm.ClassFile.FieldType.int)) ∈ lw_all := lw_g (lw_at lw_m9 14 rfl) rfl
theorem q2001 : (Jvm.Cond.instanceMethod ({ cls := "WoolThreadsModel", name := "restore", desc := "()I" } : Jvm.MethodName)) ∈ lw_all := lw_g (lw_at lw_m9 16 rfl) rfl
theorem q2002 : (Jvm.Cond.selects "WoolThreadsModel" ({ cls := "WoolThreadsModel", name := "restore", desc := "()I" } : Jvm.MethodName) ({ cls := "WoolThreadsModel", name := "restore", desc := "()I" } : Jvm.MethodName)) ∈ lw_all := lw_g (lw_at lw_m9 17 rfl) rfl
theorem q2003 : (Jvm.Cond.code ({ cls := "WoolThreadsModel", name := "restore", desc := "()I" } : Jvm.MethodName) prog_16_method_82_code (3 : Nat) (Option.some Jvm.ClassFile.FieldType.int)) ∈ lw_all := lw_g (lw_at lw_m9 18 rfl) rfl
theorem q2005 : (Jvm.Cond.instanceMethod ({ cls := "WoolThreadsModel", name := "count", desc := "(I)I" } : Jvm.MethodName)) ∈ lw_all := lw_g (lw_at lw_m9 20 rfl) rfl
theorem q2006 : (Jvm.Cond.selects "WoolThreadsModel" ({ cls := "WoolThreadsModel", name := "count", desc := "(I)I" } : Jvm.MethodName) ({ cls := "WoolThreadsModel", name := "count", desc := "(I)I" } : Jvm.MethodName)) ∈ lw_all := lw_g (lw_at lw_m9 21 rfl) rfl
theorem q2007 : (Jvm.Cond.code ({ cls := "WoolThreadsModel", name := "count", desc := "(I)I" } : Jvm.MethodName) prog_16_method_83_code (2 : Nat) (Option.some Jvm.ClassFile.FieldType.int)) ∈ lw_all := lw_g (lw_at lw_m9 22 rfl) rfl
theorem q2032 : (Jvm.Cond.castable "WoolThreadsModel" "java/lang/Object") ∈ lw_tbl := lw_at lw_m9 47 rfl
theorem in_X4 : ∀ w ∈ wsX40, w ∈ lw_all := lw_in wsX40 [1579, 1581, 1583, 1585, 1587, 1589, 1591, 1593, 1595, 1597, 1599, 1601, 1603, 1605, 1607, 1609, 1611, 1613, 1615, 1617, 1619, 1621, 1623, 1625, 1627, 1629, 1631, 1633, 1635, 1637, 1639, 1641, 1643, 1645, 1647, 1649, 1651, 1653, 1655, 1657, 1659, 1661, 1663, 1665, 1667, 1669, 1671, 1673, 1675, 1677] (by decide +kernel) (by decide +kernel)
