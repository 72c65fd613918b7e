section
/-! WoolThreads$Law -/
set_option maxRecDepth 100000
def RX2 : String := "WoolThreads$Law"
def TX2 : u_T := fun k => match k with
  | 0 => ("WoolThreads$Law", "shed", "[I", true)
  | 1 => ("WoolThreads$Law", "hold", "[I", true)
  | 2 => ("WoolThreads$Law", "common", "[I", true)
  | 3 => ("WoolThreads$Law", "alike", "[I", true)
  | 4 => ("WoolThreads$Law", "wash", "I", false)
  | 5 => ("WoolThreads$Law", "pass", "I", false)
  | 6 => ("WoolThreads$Law", "take", "I", false)
  | _ => ("WoolThreads$Law", "clauses", "I", false)
def tyX2 : Nat → FieldType := fun k => match k with
  | 0 => .array .int
  | 1 => .array .int
  | 2 => .array .int
  | 3 => .array .int
  | 4 => .int
  | 5 => .int
  | 6 => .int
  | _ => .int
abbrev wsX20 : List Cond := u_ws RX2 TX2 8
theorem nmX2 : ∀ a, a < 8 → ∀ b, b < 8 → a ≠ b → (TX2 a).2.1 ≠ (TX2 b).2.1 := by decide +kernel
theorem tyX2_ok : ∀ k, k < 8 → parseFieldDescriptor (TX2 k).2.2.1 = some (tyX2 k) := by decide +kernel
abbrev cX2_init : ByteArray := prog_5_method_1_code
def yX2_init : MethodName := ⟨RX2, "<init>", "()V"⟩
def dkwX2_init_3 : List UInt8 := [167, 255, 230, 177]
abbrev dktX2_init_3 : List UInt8 := dkwX2_init_3 ++ []
def dkwX2_init_2 : List UInt8 := [162, 0, 26, 42, 180, 0, 15, 27, 16, 16, 79, 42, 180, 0, 21, 27, 4, 27, 120, 79, 132, 1, 1]
abbrev dktX2_init_2 : List UInt8 := dkwX2_init_2 ++ dktX2_init_3
def dkwX2_init_1 : List UInt8 := [188, 10, 181, 0, 18, 42, 16, 10, 188, 10, 181, 0, 21, 42, 16, 8, 181, 0, 24, 3, 60, 27, 16, 10]
abbrev dktX2_init_1 : List UInt8 := dkwX2_init_1 ++ dktX2_init_2
def dkwX2_init_0 : List UInt8 := [42, 183, 0, 3, 42, 16, 80, 188, 10, 181, 0, 9, 42, 16, 10, 188, 10, 181, 0, 15, 42, 16, 10]
abbrev dktX2_init_0 : List UInt8 := dkwX2_init_0 ++ dktX2_init_1
theorem dksX2_init_0 : cX2_init.data.toList.drop 0 = dktX2_init_0 := by decide +kernel
theorem dksX2_init_1 : cX2_init.data.toList.drop 23 = dktX2_init_1 := dk_seg dksX2_init_0 23 rfl rfl
theorem dksX2_init_2 : cX2_init.data.toList.drop 47 = dktX2_init_2 := dk_seg dksX2_init_1 24 rfl rfl
theorem dksX2_init_3 : cX2_init.data.toList.drop 70 = dktX2_init_3 := dk_seg dksX2_init_2 23 rfl rfl
theorem dX2_init_0 : decode cX2_init 0 = .ok (.aload_n 0, 1) := dk_42 (dk_at dksX2_init_0 0 rfl rfl)
theorem dX2_init_1 : decode cX2_init 1 = .ok (.invokespecial 3, 3) := dk_183 0 3 (dk_at dksX2_init_0 1 rfl rfl)
theorem dX2_init_4 : decode cX2_init 4 = .ok (.aload_n 0, 1) := dk_42 (dk_at dksX2_init_0 4 rfl rfl)
theorem dX2_init_5 : decode cX2_init 5 = .ok (.bipush 80, 2) := dk_16 80 (dk_at dksX2_init_0 5 rfl rfl)
theorem dX2_init_7 : decode cX2_init 7 = .ok (.newarray .int, 2) := dk_188_10 (dk_at dksX2_init_0 7 rfl rfl)
theorem dX2_init_9 : decode cX2_init 9 = .ok (.putfield 9, 3) := dk_181 0 9 (dk_at dksX2_init_0 9 rfl rfl)
theorem dX2_init_12 : decode cX2_init 12 = .ok (.aload_n 0, 1) := dk_42 (dk_at dksX2_init_0 12 rfl rfl)
theorem dX2_init_13 : decode cX2_init 13 = .ok (.bipush 10, 2) := dk_16 10 (dk_at dksX2_init_0 13 rfl rfl)
theorem dX2_init_15 : decode cX2_init 15 = .ok (.newarray .int, 2) := dk_188_10 (dk_at dksX2_init_0 15 rfl rfl)
theorem dX2_init_17 : decode cX2_init 17 = .ok (.putfield 15, 3) := dk_181 0 15 (dk_at dksX2_init_0 17 rfl rfl)
theorem dX2_init_20 : decode cX2_init 20 = .ok (.aload_n 0, 1) := dk_42 (dk_at dksX2_init_0 20 rfl rfl)
theorem dX2_init_21 : decode cX2_init 21 = .ok (.bipush 10, 2) := dk_16 10 (dk_at dksX2_init_0 21 rfl rfl)
theorem dX2_init_23 : decode cX2_init 23 = .ok (.newarray .int, 2) := dk_188_10 (dk_at dksX2_init_1 0 rfl rfl)
theorem dX2_init_25 : decode cX2_init 25 = .ok (.putfield 18, 3) := dk_181 0 18 (dk_at dksX2_init_1 2 rfl rfl)
theorem dX2_init_28 : decode cX2_init 28 = .ok (.aload_n 0, 1) := dk_42 (dk_at dksX2_init_1 5 rfl rfl)
theorem dX2_init_29 : decode cX2_init 29 = .ok (.bipush 10, 2) := dk_16 10 (dk_at dksX2_init_1 6 rfl rfl)
theorem dX2_init_31 : decode cX2_init 31 = .ok (.newarray .int, 2) := dk_188_10 (dk_at dksX2_init_1 8 rfl rfl)
theorem dX2_init_33 : decode cX2_init 33 = .ok (.putfield 21, 3) := dk_181 0 21 (dk_at dksX2_init_1 10 rfl rfl)
theorem dX2_init_36 : decode cX2_init 36 = .ok (.aload_n 0, 1) := dk_42 (dk_at dksX2_init_1 13 rfl rfl)
theorem dX2_init_37 : decode cX2_init 37 = .ok (.bipush 8, 2) := dk_16 8 (dk_at dksX2_init_1 14 rfl rfl)
theorem dX2_init_39 : decode cX2_init 39 = .ok (.putfield 24, 3) := dk_181 0 24 (dk_at dksX2_init_1 16 rfl rfl)
theorem dX2_init_42 : decode cX2_init 42 = .ok (.iconst 0, 1) := dk_3 (dk_at dksX2_init_1 19 rfl rfl)
theorem dX2_init_43 : decode cX2_init 43 = .ok (.istore_n 1, 1) := dk_60 (dk_at dksX2_init_1 20 rfl rfl)
theorem dX2_init_44 : decode cX2_init 44 = .ok (.iload_n 1, 1) := dk_27 (dk_at dksX2_init_1 21 rfl rfl)
theorem dX2_init_45 : decode cX2_init 45 = .ok (.bipush 10, 2) := dk_16 10 (dk_at dksX2_init_1 22 rfl rfl)
theorem dX2_init_47 : decode cX2_init 47 = .ok (.if_icmp .ge 26, 3) := dk_162 0 26 (dk_at dksX2_init_2 0 rfl rfl)
theorem dX2_init_50 : decode cX2_init 50 = .ok (.aload_n 0, 1) := dk_42 (dk_at dksX2_init_2 3 rfl rfl)
theorem dX2_init_51 : decode cX2_init 51 = .ok (.getfield 15, 3) := dk_180 0 15 (dk_at dksX2_init_2 4 rfl rfl)
theorem dX2_init_54 : decode cX2_init 54 = .ok (.iload_n 1, 1) := dk_27 (dk_at dksX2_init_2 7 rfl rfl)
theorem dX2_init_55 : decode cX2_init 55 = .ok (.bipush 16, 2) := dk_16 16 (dk_at dksX2_init_2 8 rfl rfl)
theorem dX2_init_57 : decode cX2_init 57 = .ok (.iastore, 1) := dk_79 (dk_at dksX2_init_2 10 rfl rfl)
theorem dX2_init_58 : decode cX2_init 58 = .ok (.aload_n 0, 1) := dk_42 (dk_at dksX2_init_2 11 rfl rfl)
theorem dX2_init_59 : decode cX2_init 59 = .ok (.getfield 21, 3) := dk_180 0 21 (dk_at dksX2_init_2 12 rfl rfl)
theorem dX2_init_62 : decode cX2_init 62 = .ok (.iload_n 1, 1) := dk_27 (dk_at dksX2_init_2 15 rfl rfl)
theorem dX2_init_63 : decode cX2_init 63 = .ok (.iconst 1, 1) := dk_4 (dk_at dksX2_init_2 16 rfl rfl)
theorem dX2_init_64 : decode cX2_init 64 = .ok (.iload_n 1, 1) := dk_27 (dk_at dksX2_init_2 17 rfl rfl)
theorem dX2_init_65 : decode cX2_init 65 = .ok (.ishl, 1) := dk_120 (dk_at dksX2_init_2 18 rfl rfl)
theorem dX2_init_66 : decode cX2_init 66 = .ok (.iastore, 1) := dk_79 (dk_at dksX2_init_2 19 rfl rfl)
theorem dX2_init_67 : decode cX2_init 67 = .ok (.iinc 1 1, 3) := dk_132 1 1 (dk_at dksX2_init_2 20 rfl rfl)
theorem dX2_init_70 : decode cX2_init 70 = .ok (.goto (-26), 3) := dk_167 255 230 (dk_at dksX2_init_3 0 rfl rfl)
theorem dX2_init_73 : decode cX2_init 73 = .ok (.return_, 1) := dk_177 (dk_at dksX2_init_3 3 rfl rfl)
abbrev cX2_joins : ByteArray := prog_5_method_2_code
def yX2_joins : MethodName := ⟨RX2, "joins", "(II)V"⟩
def dkwX2_joins_2 : List UInt8 := [177]
abbrev dktX2_joins_2 : List UInt8 := dkwX2_joins_2 ++ []
def dkwX2_joins_1 : List UInt8 := [29, 21, 4, 122, 4, 126, 4, 160, 0, 11, 42, 180, 0, 21, 21, 4, 29, 79, 132, 4, 1, 167, 255, 228]
abbrev dktX2_joins_1 : List UInt8 := dkwX2_joins_1 ++ dktX2_joins_2
def dkwX2_joins_0 : List UInt8 := [42, 180, 0, 21, 27, 46, 42, 180, 0, 21, 28, 46, 128, 62, 3, 54, 4, 21, 4, 16, 10, 162, 0, 27]
abbrev dktX2_joins_0 : List UInt8 := dkwX2_joins_0 ++ dktX2_joins_1
theorem dksX2_joins_0 : cX2_joins.data.toList.drop 0 = dktX2_joins_0 := by decide +kernel
theorem dksX2_joins_1 : cX2_joins.data.toList.drop 24 = dktX2_joins_1 := dk_seg dksX2_joins_0 24 rfl rfl
theorem dksX2_joins_2 : cX2_joins.data.toList.drop 48 = dktX2_joins_2 := dk_seg dksX2_joins_1 24 rfl rfl
theorem dX2_joins_0 : decode cX2_joins 0 = .ok (.aload_n 0, 1) := dk_42 (dk_at dksX2_joins_0 0 rfl rfl)
theorem dX2_joins_1 : decode cX2_joins 1 = .ok (.getfield 21, 3) := dk_180 0 21 (dk_at dksX2_joins_0 1 rfl rfl)
theorem dX2_joins_4 : decode cX2_joins 4 = .ok (.iload_n 1, 1) := dk_27 (dk_at dksX2_joins_0 4 rfl rfl)
theorem dX2_joins_5 : decode cX2_joins 5 = .ok (.iaload, 1) := dk_46 (dk_at dksX2_joins_0 5 rfl rfl)
theorem dX2_joins_6 : decode cX2_joins 6 = .ok (.aload_n 0, 1) := dk_42 (dk_at dksX2_joins_0 6 rfl rfl)
theorem dX2_joins_7 : decode cX2_joins 7 = .ok (.getfield 21, 3) := dk_180 0 21 (dk_at dksX2_joins_0 7 rfl rfl)
theorem dX2_joins_10 : decode cX2_joins 10 = .ok (.iload_n 2, 1) := dk_28 (dk_at dksX2_joins_0 10 rfl rfl)
theorem dX2_joins_11 : decode cX2_joins 11 = .ok (.iaload, 1) := dk_46 (dk_at dksX2_joins_0 11 rfl rfl)
theorem dX2_joins_12 : decode cX2_joins 12 = .ok (.ior, 1) := dk_128 (dk_at dksX2_joins_0 12 rfl rfl)
theorem dX2_joins_13 : decode cX2_joins 13 = .ok (.istore_n 3, 1) := dk_62 (dk_at dksX2_joins_0 13 rfl rfl)
theorem dX2_joins_14 : decode cX2_joins 14 = .ok (.iconst 0, 1) := dk_3 (dk_at dksX2_joins_0 14 rfl rfl)
theorem dX2_joins_15 : decode cX2_joins 15 = .ok (.istore 4, 2) := dk_54 4 (dk_at dksX2_joins_0 15 rfl rfl)
theorem dX2_joins_17 : decode cX2_joins 17 = .ok (.iload 4, 2) := dk_21 4 (dk_at dksX2_joins_0 17 rfl rfl)
theorem dX2_joins_19 : decode cX2_joins 19 = .ok (.bipush 10, 2) := dk_16 10 (dk_at dksX2_joins_0 19 rfl rfl)
theorem dX2_joins_21 : decode cX2_joins 21 = .ok (.if_icmp .ge 27, 3) := dk_162 0 27 (dk_at dksX2_joins_0 21 rfl rfl)
theorem dX2_joins_24 : decode cX2_joins 24 = .ok (.iload_n 3, 1) := dk_29 (dk_at dksX2_joins_1 0 rfl rfl)
theorem dX2_joins_25 : decode cX2_joins 25 = .ok (.iload 4, 2) := dk_21 4 (dk_at dksX2_joins_1 1 rfl rfl)
theorem dX2_joins_27 : decode cX2_joins 27 = .ok (.ishr, 1) := dk_122 (dk_at dksX2_joins_1 3 rfl rfl)
theorem dX2_joins_28 : decode cX2_joins 28 = .ok (.iconst 1, 1) := dk_4 (dk_at dksX2_joins_1 4 rfl rfl)
theorem dX2_joins_29 : decode cX2_joins 29 = .ok (.iand, 1) := dk_126 (dk_at dksX2_joins_1 5 rfl rfl)
theorem dX2_joins_30 : decode cX2_joins 30 = .ok (.iconst 1, 1) := dk_4 (dk_at dksX2_joins_1 6 rfl rfl)
theorem dX2_joins_31 : decode cX2_joins 31 = .ok (.if_icmp .ne 11, 3) := dk_160 0 11 (dk_at dksX2_joins_1 7 rfl rfl)
theorem dX2_joins_34 : decode cX2_joins 34 = .ok (.aload_n 0, 1) := dk_42 (dk_at dksX2_joins_1 10 rfl rfl)
theorem dX2_joins_35 : decode cX2_joins 35 = .ok (.getfield 21, 3) := dk_180 0 21 (dk_at dksX2_joins_1 11 rfl rfl)
theorem dX2_joins_38 : decode cX2_joins 38 = .ok (.iload 4, 2) := dk_21 4 (dk_at dksX2_joins_1 14 rfl rfl)
theorem dX2_joins_40 : decode cX2_joins 40 = .ok (.iload_n 3, 1) := dk_29 (dk_at dksX2_joins_1 16 rfl rfl)
theorem dX2_joins_41 : decode cX2_joins 41 = .ok (.iastore, 1) := dk_79 (dk_at dksX2_joins_1 17 rfl rfl)
theorem dX2_joins_42 : decode cX2_joins 42 = .ok (.iinc 4 1, 3) := dk_132 4 1 (dk_at dksX2_joins_1 18 rfl rfl)
theorem dX2_joins_45 : decode cX2_joins 45 = .ok (.goto (-28), 3) := dk_167 255 228 (dk_at dksX2_joins_1 21 rfl rfl)
theorem dX2_joins_48 : decode cX2_joins 48 = .ok (.return_, 1) := dk_177 (dk_at dksX2_joins_2 0 rfl rfl)
theorem q67 : (Jvm.Cond.initialized "WoolThreads$Law") ∈ lw_all := lw_g (lw_at lw_m1 2 rfl) rfl
theorem q113 : (Jvm.Cond.instantiable "WoolThreads$Law" (8 : Nat)) ∈ lw_all := lw_g (lw_at lw_m1 48 rfl) rfl
theorem q115 : (Jvm.Cond.instanceMethod ({ cls := "WoolThreads$Law", name := "<init>", desc := "()V" } : Jvm.MethodName)) ∈ lw_all := lw_g (lw_at lw_m1 50 rfl) rfl
theorem q116 : (Jvm.Cond.code ({ cls := "WoolThreads$Law", name := "<init>", desc := "()V" } : Jvm.MethodName) prog_5_method_1_code (2 : Nat) (Option.none : Option Jvm.ClassFile.FieldType)) ∈ lw_all := lw_g (lw_at lw_m1 51 rfl) rfl
theorem q117 : (Jvm.Cond.methodLink "WoolThreads$Law" (3 : Nat) ({ cls := "java/lang/Object", name := "<init>", desc := "()V" } : Jvm.MethodName)) ∈ lw_all := lw_g (lw_at lw_m1 52 rfl) rfl
theorem q118 : (Jvm.Cond.fieldLink "WoolThreads$Law" (9 : Nat) "WoolThreads$Law" "shed" "[I") ∈ lw_all := lw_g (lw_at lw_m1 53 rfl) rfl
theorem q122 : (Jvm.Cond.fieldLink "WoolThreads$Law" (15 : Nat) "WoolThreads$Law" "hold" "[I") ∈ lw_all := lw_g (lw_at lw_m1 57 rfl) rfl
theorem q126 : (Jvm.Cond.fieldLink "WoolThreads$Law" (18 : Nat) "WoolThreads$Law" "common" "[I") ∈ lw_all := lw_g (lw_at lw_m1 61 rfl) rfl
theorem q130 : (Jvm.Cond.fieldLink "WoolThreads$Law" (21 : Nat) "WoolThreads$Law" "alike" "[I") ∈ lw_all := lw_g (lw_at lw_m1 65 rfl) rfl
theorem q139 : (Jvm.Cond.fieldLink "WoolThreads$Law" (24 : Nat) "WoolThreads$Law" "take" "I") ∈ lw_all := lw_g (lw_at lw_m1 74 rfl) rfl
theorem q145 : (Jvm.Cond.laysFinal "WoolThreads$Law" "WoolThreads$Law" "shed" "[I") ∈ lw_all := lw_g (lw_at lw_m1 80 rfl) rfl
theorem q146 : (Jvm.Cond.soleField "WoolThreads$Law" "shed") ∈ lw_all := lw_g (lw_at lw_m1 81 rfl) rfl
theorem q147 : (Jvm.Cond.laysFinal "WoolThreads$Law" "WoolThreads$Law" "hold" "[I") ∈ lw_all := lw_g (lw_at lw_m1 82 rfl) rfl
theorem q148 : (Jvm.Cond.soleField "WoolThreads$Law" "hold") ∈ lw_all := lw_g (lw_at lw_m1 83 rfl) rfl
theorem q149 : (Jvm.Cond.laysFinal "WoolThreads$Law" "WoolThreads$Law" "common" "[I") ∈ lw_all := lw_g (lw_at lw_m1 84 rfl) rfl
theorem q150 : (Jvm.Cond.soleField "WoolThreads$Law" "common") ∈ lw_all := lw_g (lw_at lw_m1 85 rfl) rfl
theorem q151 : (Jvm.Cond.laysFinal "WoolThreads$Law" "WoolThreads$Law" "alike" "[I") ∈ lw_all := lw_g (lw_at lw_m1 86 rfl) rfl
theorem q152 : (Jvm.Cond.soleField "WoolThreads$Law" "alike") ∈ lw_all := lw_g (lw_at lw_m1 87 rfl) rfl
theorem q153 : (Jvm.Cond.lays "WoolThreads$Law" "WoolThreads$Law" "wash" "I") ∈ lw_all := lw_g (lw_at lw_m1 88 rfl) rfl
theorem q154 : (Jvm.Cond.soleField "WoolThreads$Law" "wash") ∈ lw_all := lw_g (lw_at lw_m1 89 rfl) rfl
theorem q155 : (Jvm.Cond.lays "WoolThreads$Law" "WoolThreads$Law" "pass" "I") ∈ lw_all := lw_g (lw_at lw_m1 90 rfl) rfl
theorem q156 : (Jvm.Cond.soleField "WoolThreads$Law" "pass") ∈ lw_all := lw_g (lw_at lw_m1 91 rfl) rfl
theorem q157 : (Jvm.Cond.lays "WoolThreads$Law" "WoolThreads$Law" "take" "I") ∈ lw_all := lw_g (lw_at lw_m1 92 rfl) rfl
theorem q158 : (Jvm.Cond.soleField "WoolThreads$Law" "take") ∈ lw_all := lw_g (lw_at lw_m1 93 rfl) rfl
theorem q159 : (Jvm.Cond.lays "WoolThreads$Law" "WoolThreads$Law" "clauses" "I") ∈ lw_all := lw_g (lw_at lw_m1 94 rfl) rfl
theorem q160 : (Jvm.Cond.soleField "WoolThreads$Law" "clauses") ∈ lw_all := lw_g (lw_at lw_m1 95 rfl) rfl
theorem q161 : (Jvm.Cond.superclass "WoolThreads$Law" "java/lang/Object") ∈ lw_all := lw_g (lw_at lw_m1 96 rfl) rfl
theorem q630 : (Jvm.Cond.selects "WoolThreads$Law" ({ cls := "java/lang/Object", name := "getClass", desc := "()Ljava/lang/Class;" } : Jvm.MethodName) ({ cls := "java/lang/Object", name := "getClass", desc := "()Ljava/lang/Class;" } : Jvm.MethodName)) ∈ lw_all := lw_g (lw_at lw_m3 85 rfl) rfl
theorem q870 : (Jvm.Cond.instanceMethod ({ cls := "WoolThreads$Law", name := "joins", desc := "(II)V" } : Jvm.MethodName)) ∈ lw_all := lw_g (lw_at lw_m4 85 rfl) rfl
theorem q871 : (Jvm.Cond.selects "WoolThreads$Law" ({ cls := "WoolThreads$Law", name := "joins", desc := "(II)V" } : Jvm.MethodName) ({ cls := "WoolThreads$Law", name := "joins", desc := "(II)V" } : Jvm.MethodName)) ∈ lw_all := lw_g (lw_at lw_m4 86 rfl) rfl
theorem q872 : (Jvm.Cond.code ({ cls := "WoolThreads$Law", name := "joins", desc := "(II)V" } : Jvm.MethodName) prog_5_method_2_code (5 : Nat) (Option.none : Option Jvm.ClassFile.FieldType)) ∈ lw_all := lw_g (lw_at lw_m4 87 rfl) rfl
theorem q2027 : (Jvm.Cond.castable "WoolThreads$Law" "java/lang/Object") ∈ lw_tbl := lw_at lw_m9 42 rfl
theorem in_X2 : ∀ w ∈ wsX20, w ∈ lw_all := lw_in wsX20 [145, 147, 149, 151, 153, 155, 157, 159] (by decide +kernel) (by decide +kernel)
end
section
/-! WoolThreads$State -/
set_option maxRecDepth 100000
def RX3 : String := "WoolThreads$State"
def TX3 : u_T := fun k => match k with
  | 0 => ("WoolThreads$State", "finds", "Ljava/util/ArrayList;", true)
  | 1 => ("WoolThreads$State", "shops", "Ljava/util/ArrayList;", true)
  | 2 => ("WoolThreads$State", "seats", "[I", true)
  | _ => ("WoolThreads$State", "seatMany", "I", false)
def tyX3 : Nat → FieldType := fun k => match k with
  | 0 => .object "java/util/ArrayList"
  | 1 => .object "java/util/ArrayList"
  | 2 => .array .int
  | _ => .int
abbrev wsX30 : List Cond := u_ws RX3 TX3 4
theorem nmX3 : ∀ a, a < 4 → ∀ b, b < 4 → a ≠ b → (TX3 a).2.1 ≠ (TX3 b).2.1 := by decide +kernel
theorem tyX3_ok : ∀ k, k < 4 → parseFieldDescriptor (TX3 k).2.2.1 = some (tyX3 k) := by decide +kernel
abbrev cX3_init : ByteArray := prog_10_method_1_code
def yX3_init : MethodName := ⟨RX3, "<init>", "()V"⟩
def dkwX3_init_1 : List UInt8 := [183, 0, 11, 181, 0, 20, 42, 16, 40, 188, 10, 181, 0, 23, 177]
abbrev dktX3_init_1 : List UInt8 := dkwX3_init_1 ++ []
def dkwX3_init_0 : List UInt8 := [42, 183, 0, 3, 42, 187, 0, 9, 89, 5, 183, 0, 11, 181, 0, 14, 42, 187, 0, 9, 89, 5]
abbrev dktX3_init_0 : List UInt8 := dkwX3_init_0 ++ dktX3_init_1
theorem dksX3_init_0 : cX3_init.data.toList.drop 0 = dktX3_init_0 := by decide +kernel
theorem dksX3_init_1 : cX3_init.data.toList.drop 22 = dktX3_init_1 := dk_seg dksX3_init_0 22 rfl rfl
theorem dX3_init_0 : decode cX3_init 0 = .ok (.aload_n 0, 1) := dk_42 (dk_at dksX3_init_0 0 rfl rfl)
theorem dX3_init_1 : decode cX3_init 1 = .ok (.invokespecial 3, 3) := dk_183 0 3 (dk_at dksX3_init_0 1 rfl rfl)
theorem dX3_init_4 : decode cX3_init 4 = .ok (.aload_n 0, 1) := dk_42 (dk_at dksX3_init_0 4 rfl rfl)
theorem dX3_init_5 : decode cX3_init 5 = .ok (.new 9, 3) := dk_187 0 9 (dk_at dksX3_init_0 5 rfl rfl)
theorem dX3_init_8 : decode cX3_init 8 = .ok (.dup, 1) := dk_89 (dk_at dksX3_init_0 8 rfl rfl)
theorem dX3_init_9 : decode cX3_init 9 = .ok (.iconst 2, 1) := dk_5 (dk_at dksX3_init_0 9 rfl rfl)
theorem dX3_init_10 : decode cX3_init 10 = .ok (.invokespecial 11, 3) := dk_183 0 11 (dk_at dksX3_init_0 10 rfl rfl)
theorem dX3_init_13 : decode cX3_init 13 = .ok (.putfield 14, 3) := dk_181 0 14 (dk_at dksX3_init_0 13 rfl rfl)
theorem dX3_init_16 : decode cX3_init 16 = .ok (.aload_n 0, 1) := dk_42 (dk_at dksX3_init_0 16 rfl rfl)
theorem dX3_init_17 : decode cX3_init 17 = .ok (.new 9, 3) := dk_187 0 9 (dk_at dksX3_init_0 17 rfl rfl)
theorem dX3_init_20 : decode cX3_init 20 = .ok (.dup, 1) := dk_89 (dk_at dksX3_init_0 20 rfl rfl)
theorem dX3_init_21 : decode cX3_init 21 = .ok (.iconst 2, 1) := dk_5 (dk_at dksX3_init_0 21 rfl rfl)
theorem dX3_init_22 : decode cX3_init 22 = .ok (.invokespecial 11, 3) := dk_183 0 11 (dk_at dksX3_init_1 0 rfl rfl)
theorem dX3_init_25 : decode cX3_init 25 = .ok (.putfield 20, 3) := dk_181 0 20 (dk_at dksX3_init_1 3 rfl rfl)
theorem dX3_init_28 : decode cX3_init 28 = .ok (.aload_n 0, 1) := dk_42 (dk_at dksX3_init_1 6 rfl rfl)
theorem dX3_init_29 : decode cX3_init 29 = .ok (.bipush 40, 2) := dk_16 40 (dk_at dksX3_init_1 7 rfl rfl)
theorem dX3_init_31 : decode cX3_init 31 = .ok (.newarray .int, 2) := dk_188_10 (dk_at dksX3_init_1 9 rfl rfl)
theorem dX3_init_33 : decode cX3_init 33 = .ok (.putfield 23, 3) := dk_181 0 23 (dk_at dksX3_init_1 11 rfl rfl)
theorem dX3_init_36 : decode cX3_init 36 = .ok (.return_, 1) := dk_177 (dk_at dksX3_init_1 14 rfl rfl)
abbrev cX3_like : ByteArray := prog_10_method_2_code
def yX3_like : MethodName := ⟨RX3, "like", "()LWoolThreads$State;"⟩
def dkwX3_like_4 : List UInt8 := [180, 0, 23, 3, 16, 40, 184, 0, 44, 43, 42, 180, 0, 50, 181, 0, 50, 43, 176]
abbrev dktX3_like_4 : List UInt8 := dkwX3_like_4 ++ []
def dkwX3_like_3 : List UInt8 := [182, 0, 32, 192, 0, 42, 182, 0, 38, 87, 132, 2, 1, 167, 255, 223, 42, 180, 0, 23, 3, 43]
abbrev dktX3_like_3 : List UInt8 := dkwX3_like_3 ++ dktX3_like_4
def dkwX3_like_2 : List UInt8 := [3, 61, 28, 42, 180, 0, 20, 182, 0, 28, 162, 0, 28, 43, 180, 0, 20, 42, 180, 0, 20, 28]
abbrev dktX3_like_2 : List UInt8 := dkwX3_like_2 ++ dktX3_like_3
def dkwX3_like_1 : List UInt8 := [180, 0, 14, 42, 180, 0, 14, 28, 182, 0, 32, 192, 0, 36, 182, 0, 38, 87, 132, 2, 1, 167, 255, 223]
abbrev dktX3_like_1 : List UInt8 := dkwX3_like_1 ++ dktX3_like_2
def dkwX3_like_0 : List UInt8 := [187, 0, 15, 89, 183, 0, 27, 76, 3, 61, 28, 42, 180, 0, 14, 182, 0, 28, 162, 0, 28, 43]
abbrev dktX3_like_0 : List UInt8 := dkwX3_like_0 ++ dktX3_like_1
theorem dksX3_like_0 : cX3_like.data.toList.drop 0 = dktX3_like_0 := by decide +kernel
theorem dksX3_like_1 : cX3_like.data.toList.drop 22 = dktX3_like_1 := dk_seg dksX3_like_0 22 rfl rfl
theorem dksX3_like_2 : cX3_like.data.toList.drop 46 = dktX3_like_2 := dk_seg dksX3_like_1 24 rfl rfl
theorem dksX3_like_3 : cX3_like.data.toList.drop 68 = dktX3_like_3 := dk_seg dksX3_like_2 22 rfl rfl
theorem dksX3_like_4 : cX3_like.data.toList.drop 90 = dktX3_like_4 := dk_seg dksX3_like_3 22 rfl rfl
theorem dX3_like_0 : decode cX3_like 0 = .ok (.new 15, 3) := dk_187 0 15 (dk_at dksX3_like_0 0 rfl rfl)
theorem dX3_like_3 : decode cX3_like 3 = .ok (.dup, 1) := dk_89 (dk_at dksX3_like_0 3 rfl rfl)
theorem dX3_like_4 : decode cX3_like 4 = .ok (.invokespecial 27, 3) := dk_183 0 27 (dk_at dksX3_like_0 4 rfl rfl)
theorem dX3_like_7 : decode cX3_like 7 = .ok (.astore_n 1, 1) := dk_76 (dk_at dksX3_like_0 7 rfl rfl)
theorem dX3_like_8 : decode cX3_like 8 = .ok (.iconst 0, 1) := dk_3 (dk_at dksX3_like_0 8 rfl rfl)
theorem dX3_like_9 : decode cX3_like 9 = .ok (.istore_n 2, 1) := dk_61 (dk_at dksX3_like_0 9 rfl rfl)
theorem dX3_like_10 : decode cX3_like 10 = .ok (.iload_n 2, 1) := dk_28 (dk_at dksX3_like_0 10 rfl rfl)
theorem dX3_like_11 : decode cX3_like 11 = .ok (.aload_n 0, 1) := dk_42 (dk_at dksX3_like_0 11 rfl rfl)
theorem dX3_like_12 : decode cX3_like 12 = .ok (.getfield 14, 3) := dk_180 0 14 (dk_at dksX3_like_0 12 rfl rfl)
theorem dX3_like_15 : decode cX3_like 15 = .ok (.invokevirtual 28, 3) := dk_182 0 28 (dk_at dksX3_like_0 15 rfl rfl)
theorem dX3_like_18 : decode cX3_like 18 = .ok (.if_icmp .ge 28, 3) := dk_162 0 28 (dk_at dksX3_like_0 18 rfl rfl)
theorem dX3_like_21 : decode cX3_like 21 = .ok (.aload_n 1, 1) := dk_43 (dk_at dksX3_like_0 21 rfl rfl)
theorem dX3_like_22 : decode cX3_like 22 = .ok (.getfield 14, 3) := dk_180 0 14 (dk_at dksX3_like_1 0 rfl rfl)
theorem dX3_like_25 : decode cX3_like 25 = .ok (.aload_n 0, 1) := dk_42 (dk_at dksX3_like_1 3 rfl rfl)
theorem dX3_like_26 : decode cX3_like 26 = .ok (.getfield 14, 3) := dk_180 0 14 (dk_at dksX3_like_1 4 rfl rfl)
theorem dX3_like_29 : decode cX3_like 29 = .ok (.iload_n 2, 1) := dk_28 (dk_at dksX3_like_1 7 rfl rfl)
theorem dX3_like_30 : decode cX3_like 30 = .ok (.invokevirtual 32, 3) := dk_182 0 32 (dk_at dksX3_like_1 8 rfl rfl)
theorem dX3_like_33 : decode cX3_like 33 = .ok (.checkcast 36, 3) := dk_192 0 36 (dk_at dksX3_like_1 11 rfl rfl)
theorem dX3_like_36 : decode cX3_like 36 = .ok (.invokevirtual 38, 3) := dk_182 0 38 (dk_at dksX3_like_1 14 rfl rfl)
theorem dX3_like_39 : decode cX3_like 39 = .ok (.pop, 1) := dk_87 (dk_at dksX3_like_1 17 rfl rfl)
theorem dX3_like_40 : decode cX3_like 40 = .ok (.iinc 2 1, 3) := dk_132 2 1 (dk_at dksX3_like_1 18 rfl rfl)
theorem dX3_like_43 : decode cX3_like 43 = .ok (.goto (-33), 3) := dk_167 255 223 (dk_at dksX3_like_1 21 rfl rfl)
theorem dX3_like_46 : decode cX3_like 46 = .ok (.iconst 0, 1) := dk_3 (dk_at dksX3_like_2 0 rfl rfl)
theorem dX3_like_47 : decode cX3_like 47 = .ok (.istore_n 2, 1) := dk_61 (dk_at dksX3_like_2 1 rfl rfl)
theorem dX3_like_48 : decode cX3_like 48 = .ok (.iload_n 2, 1) := dk_28 (dk_at dksX3_like_2 2 rfl rfl)
theorem dX3_like_49 : decode cX3_like 49 = .ok (.aload_n 0, 1) := dk_42 (dk_at dksX3_like_2 3 rfl rfl)
theorem dX3_like_50 : decode cX3_like 50 = .ok (.getfield 20, 3) := dk_180 0 20 (dk_at dksX3_like_2 4 rfl rfl)
theorem dX3_like_53 : decode cX3_like 53 = .ok (.invokevirtual 28, 3) := dk_182 0 28 (dk_at dksX3_like_2 7 rfl rfl)
theorem dX3_like_56 : decode cX3_like 56 = .ok (.if_icmp .ge 28, 3) := dk_162 0 28 (dk_at dksX3_like_2 10 rfl rfl)
theorem dX3_like_59 : decode cX3_like 59 = .ok (.aload_n 1, 1) := dk_43 (dk_at dksX3_like_2 13 rfl rfl)
theorem dX3_like_60 : decode cX3_like 60 = .ok (.getfield 20, 3) := dk_180 0 20 (dk_at dksX3_like_2 14 rfl rfl)
theorem dX3_like_63 : decode cX3_like 63 = .ok (.aload_n 0, 1) := dk_42 (dk_at dksX3_like_2 17 rfl rfl)
theorem dX3_like_64 : decode cX3_like 64 = .ok (.getfield 20, 3) := dk_180 0 20 (dk_at dksX3_like_2 18 rfl rfl)
theorem dX3_like_67 : decode cX3_like 67 = .ok (.iload_n 2, 1) := dk_28 (dk_at dksX3_like_2 21 rfl rfl)
theorem dX3_like_68 : decode cX3_like 68 = .ok (.invokevirtual 32, 3) := dk_182 0 32 (dk_at dksX3_like_3 0 rfl rfl)
theorem dX3_like_71 : decode cX3_like 71 = .ok (.checkcast 42, 3) := dk_192 0 42 (dk_at dksX3_like_3 3 rfl rfl)
theorem dX3_like_74 : decode cX3_like 74 = .ok (.invokevirtual 38, 3) := dk_182 0 38 (dk_at dksX3_like_3 6 rfl rfl)
theorem dX3_like_77 : decode cX3_like 77 = .ok (.pop, 1) := dk_87 (dk_at dksX3_like_3 9 rfl rfl)
theorem dX3_like_78 : decode cX3_like 78 = .ok (.iinc 2 1, 3) := dk_132 2 1 (dk_at dksX3_like_3 10 rfl rfl)
theorem dX3_like_81 : decode cX3_like 81 = .ok (.goto (-33), 3) := dk_167 255 223 (dk_at dksX3_like_3 13 rfl rfl)
theorem dX3_like_84 : decode cX3_like 84 = .ok (.aload_n 0, 1) := dk_42 (dk_at dksX3_like_3 16 rfl rfl)
theorem dX3_like_85 : decode cX3_like 85 = .ok (.getfield 23, 3) := dk_180 0 23 (dk_at dksX3_like_3 17 rfl rfl)
theorem dX3_like_88 : decode cX3_like 88 = .ok (.iconst 0, 1) := dk_3 (dk_at dksX3_like_3 20 rfl rfl)
theorem dX3_like_89 : decode cX3_like 89 = .ok (.aload_n 1, 1) := dk_43 (dk_at dksX3_like_3 21 rfl rfl)
theorem dX3_like_90 : decode cX3_like 90 = .ok (.getfield 23, 3) := dk_180 0 23 (dk_at dksX3_like_4 0 rfl rfl)
theorem dX3_like_93 : decode cX3_like 93 = .ok (.iconst 0, 1) := dk_3 (dk_at dksX3_like_4 3 rfl rfl)
theorem dX3_like_94 : decode cX3_like 94 = .ok (.bipush 40, 2) := dk_16 40 (dk_at dksX3_like_4 4 rfl rfl)
theorem dX3_like_96 : decode cX3_like 96 = .ok (.invokestatic 44, 3) := dk_184 0 44 (dk_at dksX3_like_4 6 rfl rfl)
theorem dX3_like_99 : decode cX3_like 99 = .ok (.aload_n 1, 1) := dk_43 (dk_at dksX3_like_4 9 rfl rfl)
theorem dX3_like_100 : decode cX3_like 100 = .ok (.aload_n 0, 1) := dk_42 (dk_at dksX3_like_4 10 rfl rfl)
theorem dX3_like_101 : decode cX3_like 101 = .ok (.getfield 50, 3) := dk_180 0 50 (dk_at dksX3_like_4 11 rfl rfl)
theorem dX3_like_104 : decode cX3_like 104 = .ok (.putfield 50, 3) := dk_181 0 50 (dk_at dksX3_like_4 14 rfl rfl)
theorem dX3_like_107 : decode cX3_like 107 = .ok (.aload_n 1, 1) := dk_43 (dk_at dksX3_like_4 17 rfl rfl)
theorem dX3_like_108 : decode cX3_like 108 = .ok (.areturn, 1) := dk_176 (dk_at dksX3_like_4 18 rfl rfl)
abbrev cX3_seatsOf : ByteArray := prog_10_method_3_code
def yX3_seatsOf : MethodName := ⟨RX3, "seatsOf", "(I)I"⟩
def dkwX3_seatsOf_1 : List UInt8 := [160, 0, 7, 4, 167, 0, 4, 3, 96, 61, 132, 3, 1, 167, 255, 225, 28, 172]
abbrev dktX3_seatsOf_1 : List UInt8 := dkwX3_seatsOf_1 ++ []
def dkwX3_seatsOf_0 : List UInt8 := [3, 61, 3, 62, 29, 42, 180, 0, 50, 162, 0, 29, 28, 42, 180, 0, 23, 29, 46, 27, 126, 27]
abbrev dktX3_seatsOf_0 : List UInt8 := dkwX3_seatsOf_0 ++ dktX3_seatsOf_1
theorem dksX3_seatsOf_0 : cX3_seatsOf.data.toList.drop 0 = dktX3_seatsOf_0 := by decide +kernel
theorem dksX3_seatsOf_1 : cX3_seatsOf.data.toList.drop 22 = dktX3_seatsOf_1 := dk_seg dksX3_seatsOf_0 22 rfl rfl
theorem dX3_seatsOf_0 : decode cX3_seatsOf 0 = .ok (.iconst 0, 1) := dk_3 (dk_at dksX3_seatsOf_0 0 rfl rfl)
theorem dX3_seatsOf_1 : decode cX3_seatsOf 1 = .ok (.istore_n 2, 1) := dk_61 (dk_at dksX3_seatsOf_0 1 rfl rfl)
theorem dX3_seatsOf_2 : decode cX3_seatsOf 2 = .ok (.iconst 0, 1) := dk_3 (dk_at dksX3_seatsOf_0 2 rfl rfl)
theorem dX3_seatsOf_3 : decode cX3_seatsOf 3 = .ok (.istore_n 3, 1) := dk_62 (dk_at dksX3_seatsOf_0 3 rfl rfl)
theorem dX3_seatsOf_4 : decode cX3_seatsOf 4 = .ok (.iload_n 3, 1) := dk_29 (dk_at dksX3_seatsOf_0 4 rfl rfl)
theorem dX3_seatsOf_5 : decode cX3_seatsOf 5 = .ok (.aload_n 0, 1) := dk_42 (dk_at dksX3_seatsOf_0 5 rfl rfl)
theorem dX3_seatsOf_6 : decode cX3_seatsOf 6 = .ok (.getfield 50, 3) := dk_180 0 50 (dk_at dksX3_seatsOf_0 6 rfl rfl)
theorem dX3_seatsOf_9 : decode cX3_seatsOf 9 = .ok (.if_icmp .ge 29, 3) := dk_162 0 29 (dk_at dksX3_seatsOf_0 9 rfl rfl)
theorem dX3_seatsOf_12 : decode cX3_seatsOf 12 = .ok (.iload_n 2, 1) := dk_28 (dk_at dksX3_seatsOf_0 12 rfl rfl)
theorem dX3_seatsOf_13 : decode cX3_seatsOf 13 = .ok (.aload_n 0, 1) := dk_42 (dk_at dksX3_seatsOf_0 13 rfl rfl)
theorem dX3_seatsOf_14 : decode cX3_seatsOf 14 = .ok (.getfield 23, 3) := dk_180 0 23 (dk_at dksX3_seatsOf_0 14 rfl rfl)
theorem dX3_seatsOf_17 : decode cX3_seatsOf 17 = .ok (.iload_n 3, 1) := dk_29 (dk_at dksX3_seatsOf_0 17 rfl rfl)
theorem dX3_seatsOf_18 : decode cX3_seatsOf 18 = .ok (.iaload, 1) := dk_46 (dk_at dksX3_seatsOf_0 18 rfl rfl)
theorem dX3_seatsOf_19 : decode cX3_seatsOf 19 = .ok (.iload_n 1, 1) := dk_27 (dk_at dksX3_seatsOf_0 19 rfl rfl)
theorem dX3_seatsOf_20 : decode cX3_seatsOf 20 = .ok (.iand, 1) := dk_126 (dk_at dksX3_seatsOf_0 20 rfl rfl)
theorem dX3_seatsOf_21 : decode cX3_seatsOf 21 = .ok (.iload_n 1, 1) := dk_27 (dk_at dksX3_seatsOf_0 21 rfl rfl)
theorem dX3_seatsOf_22 : decode cX3_seatsOf 22 = .ok (.if_icmp .ne 7, 3) := dk_160 0 7 (dk_at dksX3_seatsOf_1 0 rfl rfl)
theorem dX3_seatsOf_25 : decode cX3_seatsOf 25 = .ok (.iconst 1, 1) := dk_4 (dk_at dksX3_seatsOf_1 3 rfl rfl)
theorem dX3_seatsOf_26 : decode cX3_seatsOf 26 = .ok (.goto 4, 3) := dk_167 0 4 (dk_at dksX3_seatsOf_1 4 rfl rfl)
theorem dX3_seatsOf_29 : decode cX3_seatsOf 29 = .ok (.iconst 0, 1) := dk_3 (dk_at dksX3_seatsOf_1 7 rfl rfl)
theorem dX3_seatsOf_30 : decode cX3_seatsOf 30 = .ok (.iadd, 1) := dk_96 (dk_at dksX3_seatsOf_1 8 rfl rfl)
theorem dX3_seatsOf_31 : decode cX3_seatsOf 31 = .ok (.istore_n 2, 1) := dk_61 (dk_at dksX3_seatsOf_1 9 rfl rfl)
theorem dX3_seatsOf_32 : decode cX3_seatsOf 32 = .ok (.iinc 3 1, 3) := dk_132 3 1 (dk_at dksX3_seatsOf_1 10 rfl rfl)
theorem dX3_seatsOf_35 : decode cX3_seatsOf 35 = .ok (.goto (-31), 3) := dk_167 255 225 (dk_at dksX3_seatsOf_1 13 rfl rfl)
theorem dX3_seatsOf_38 : decode cX3_seatsOf 38 = .ok (.iload_n 2, 1) := dk_28 (dk_at dksX3_seatsOf_1 16 rfl rfl)
theorem dX3_seatsOf_39 : decode cX3_seatsOf 39 = .ok (.ireturn, 1) := dk_172 (dk_at dksX3_seatsOf_1 17 rfl rfl)
theorem q68 : (Jvm.Cond.initialized "WoolThreads$State") ∈ lw_all := lw_g (lw_at lw_m1 3 rfl) rfl
theorem q164 : (Jvm.Cond.instantiable "WoolThreads$State" (4 : Nat)) ∈ lw_all := lw_g (lw_at lw_m1 99 rfl) rfl
theorem q166 : (Jvm.Cond.instanceMethod ({ cls := "WoolThreads$State", name := "<init>", desc := "()V" } : Jvm.MethodName)) ∈ lw_all := lw_g (lw_at lw_m1 101 rfl) rfl
theorem q167 : (Jvm.Cond.code ({ cls := "WoolThreads$State", name := "<init>", desc := "()V" } : Jvm.MethodName) prog_10_method_1_code (1 : Nat) (Option.none : Option Jvm.ClassFile.FieldType)) ∈ lw_all := lw_g (lw_at lw_m1 102 rfl) rfl
theorem q168 : (Jvm.Cond.methodLink "WoolThreads$State" (3 : Nat) ({ cls := "java/lang/Object", name := "<init>", desc := "()V" } : Jvm.MethodName)) ∈ lw_all := lw_g (lw_at lw_m1 103 rfl) rfl
theorem q169 : (Jvm.Cond.classLink "WoolThreads$State" (9 : Nat) "java/util/ArrayList") ∈ lw_all := lw_g (lw_at lw_m1 104 rfl) rfl
theorem q171 : (Jvm.Cond.methodLink "WoolThreads$State" (11 : Nat) ({ cls := "java/util/ArrayList", name := "<init>", desc := "(I)V" } : Jvm.MethodName)) ∈ lw_all := lw_g (lw_at lw_m1 106 rfl) rfl
theorem q513 : (Jvm.Cond.fieldLink "WoolThreads$State" (14 : Nat) "WoolThreads$State" "finds" "Ljava/util/ArrayList;") ∈ lw_all := lw_g (lw_at lw_m2 208 rfl) rfl
theorem q516 : (Jvm.Cond.fieldLink "WoolThreads$State" (20 : Nat) "WoolThreads$State" "shops" "Ljava/util/ArrayList;") ∈ lw_all := lw_g (lw_at lw_m2 211 rfl) rfl
theorem q518 : (Jvm.Cond.fieldLink "WoolThreads$State" (23 : Nat) "WoolThreads$State" "seats" "[I") ∈ lw_all := lw_g (lw_at lw_m2 213 rfl) rfl
theorem q520 : (Jvm.Cond.fieldLink "WoolThreads$State" (50 : Nat) "WoolThreads$State" "seatMany" "I") ∈ lw_all := lw_g (lw_at lw_m2 215 rfl) rfl
theorem q522 : (Jvm.Cond.laysFinal "WoolThreads$State" "WoolThreads$State" "finds" "Ljava/util/ArrayList;") ∈ lw_all := lw_g (lw_at lw_m2 217 rfl) rfl
theorem q523 : (Jvm.Cond.soleField "WoolThreads$State" "finds") ∈ lw_all := lw_g (lw_at lw_m2 218 rfl) rfl
theorem q524 : (Jvm.Cond.laysFinal "WoolThreads$State" "WoolThreads$State" "shops" "Ljava/util/ArrayList;") ∈ lw_all := lw_g (lw_at lw_m2 219 rfl) rfl
theorem q525 : (Jvm.Cond.soleField "WoolThreads$State" "shops") ∈ lw_all := lw_g (lw_at lw_m2 220 rfl) rfl
theorem q526 : (Jvm.Cond.laysFinal "WoolThreads$State" "WoolThreads$State" "seats" "[I") ∈ lw_all := lw_g (lw_at lw_m2 221 rfl) rfl
theorem q527 : (Jvm.Cond.soleField "WoolThreads$State" "seats") ∈ lw_all := lw_g (lw_at lw_m2 222 rfl) rfl
theorem q528 : (Jvm.Cond.lays "WoolThreads$State" "WoolThreads$State" "seatMany" "I") ∈ lw_all := lw_g (lw_at lw_m2 223 rfl) rfl
theorem q529 : (Jvm.Cond.soleField "WoolThreads$State" "seatMany") ∈ lw_all := lw_g (lw_at lw_m2 224 rfl) rfl
theorem q530 : (Jvm.Cond.superclass "WoolThreads$State" "java/lang/Object") ∈ lw_all := lw_g (lw_at lw_m2 225 rfl) rfl
theorem q578 : (Jvm.Cond.instanceMethod ({ cls := "WoolThreads$State", name := "like", desc := "()LWoolThreads$State;" } : Jvm.MethodName)) ∈ lw_all := lw_g (lw_at lw_m3 33 rfl) rfl
theorem q579 : (Jvm.Cond.selects "WoolThreads$State" ({ cls := "WoolThreads$State", name := "like", desc := "()LWoolThreads$State;" } : Jvm.MethodName) ({ cls := "WoolThreads$State", name := "like", desc := "()LWoolThreads$State;" } : Jvm.MethodName)) ∈ lw_all := lw_g (lw_at lw_m3 34 rfl) rfl
theorem q580 : (Jvm.Cond.code ({ cls := "WoolThreads$State", name := "like", desc := "()LWoolThreads$State;" } : Jvm.MethodName) prog_10_method_2_code (3 : Nat) (Option.some (Jvm.ClassFile.FieldType.object "WoolThreads$State"))) ∈ lw_all := lw_g (lw_at lw_m3 35 rfl) rfl
theorem q581 : (Jvm.Cond.classLink "WoolThreads$State" (15 : Nat) "WoolThreads$State") ∈ lw_all := lw_g (lw_at lw_m3 36 rfl) rfl
theorem q582 : (Jvm.Cond.methodLink "WoolThreads$State" (27 : Nat) ({ cls := "WoolThreads$State", name := "<init>", desc := "()V" } : Jvm.MethodName)) ∈ lw_all := lw_g (lw_at lw_m3 37 rfl) rfl
theorem q583 : (Jvm.Cond.methodLink "WoolThreads$State" (28 : Nat) ({ cls := "java/util/ArrayList", name := "size", desc := "()I" } : Jvm.MethodName)) ∈ lw_all := lw_g (lw_at lw_m3 38 rfl) rfl
theorem q587 : (Jvm.Cond.methodLink "WoolThreads$State" (32 : Nat) ({ cls := "java/util/ArrayList", name := "get", desc := "(I)Ljava/lang/Object;" } : Jvm.MethodName)) ∈ lw_all := lw_g (lw_at lw_m3 42 rfl) rfl
theorem q601 : (Jvm.Cond.classLink "WoolThreads$State" (36 : Nat) "WoolThreads$Find") ∈ lw_all := lw_g (lw_at lw_m3 56 rfl) rfl
theorem q602 : (Jvm.Cond.methodLink "WoolThreads$State" (38 : Nat) ({ cls := "java/util/ArrayList", name := "add", desc := "(Ljava/lang/Object;)Z" } : Jvm.MethodName)) ∈ lw_all := lw_g (lw_at lw_m3 57 rfl) rfl
theorem q635 : (Jvm.Cond.selects "WoolThreads$State" ({ cls := "java/lang/Object", name := "getClass", desc := "()Ljava/lang/Class;" } : Jvm.MethodName) ({ cls := "java/lang/Object", name := "getClass", desc := "()Ljava/lang/Class;" } : Jvm.MethodName)) ∈ lw_all := lw_g (lw_at lw_m3 90 rfl) rfl
theorem q656 : (Jvm.Cond.classLink "WoolThreads$State" (42 : Nat) "WoolThreads$Shop") ∈ lw_all := lw_g (lw_at lw_m3 111 rfl) rfl
theorem q657 : (Jvm.Cond.methodLink "WoolThreads$State" (44 : Nat) ({ cls := "java/lang/System", name := "arraycopy", desc := "(Ljava/lang/Object;ILjava/lang/Object;II)V" } : Jvm.MethodName)) ∈ lw_all := lw_g (lw_at lw_m3 112 rfl) rfl
theorem q1440 : (Jvm.Cond.instanceMethod ({ cls := "WoolThreads$State", name := "seatsOf", desc := "(I)I" } : Jvm.MethodName)) ∈ lw_all := lw_g (lw_at lw_m6 175 rfl) rfl
theorem q1441 : (Jvm.Cond.selects "WoolThreads$State" ({ cls := "WoolThreads$State", name := "seatsOf", desc := "(I)I" } : Jvm.MethodName) ({ cls := "WoolThreads$State", name := "seatsOf", desc := "(I)I" } : Jvm.MethodName)) ∈ lw_all := lw_g (lw_at lw_m6 176 rfl) rfl
theorem q1442 : (Jvm.Cond.code ({ cls := "WoolThreads$State", name := "seatsOf", desc := "(I)I" } : Jvm.MethodName) prog_10_method_3_code (4 : Nat) (Option.some Jvm.ClassFile.FieldType.int)) ∈ lw_all := lw_g (lw_at lw_m6 177 rfl) rfl
theorem q2025 : (Jvm.Cond.castable "WoolThreads$State" "java/lang/Object") ∈ lw_tbl := lw_at lw_m9 40 rfl
theorem in_X3 : ∀ w ∈ wsX30, w ∈ lw_all := lw_in wsX30 [522, 524, 526, 528] (by decide +kernel) (by decide +kernel)
end
section
/-! WoolThreads$Reader -/
set_option maxRecDepth 100000
def RX5 : String := "WoolThreads$Reader"
def TX5 : u_T := fun k => match k with
  | 0 => ("WoolThreads$Reader", "text", "[B", true)
  | 1 => ("WoolThreads$Reader", "size", "I", true)
  | 2 => ("WoolThreads$Reader", "next", "I", false)
  | _ => ("WoolThreads$Reader", "from", "I", false)
def tyX5 : Nat → FieldType := fun k => match k with
  | 0 => .array .byte
  | 1 => .int
  | 2 => .int
  | _ => .int
abbrev wsX50 : List Cond := u_ws RX5 TX5 4
theorem nmX5 : ∀ a, a < 4 → ∀ b, b < 4 → a ≠ b → (TX5 a).2.1 ≠ (TX5 b).2.1 := by decide +kernel
theorem tyX5_ok : ∀ k, k < 4 → parseFieldDescriptor (TX5 k).2.2.1 = some (tyX5 k) := by decide +kernel
abbrev cX5_init : ByteArray := prog_6_method_1_code
def yX5_init : MethodName := ⟨RX5, "<init>", "([BI)V"⟩
def dkwX5_init_0 : List UInt8 := [42, 183, 0, 3, 42, 43, 181, 0, 9, 42, 28, 181, 0, 15, 177]
abbrev dktX5_init_0 : List UInt8 := dkwX5_init_0 ++ []
theorem dksX5_init_0 : cX5_init.data.toList.drop 0 = dktX5_init_0 := by decide +kernel
theorem dX5_init_0 : decode cX5_init 0 = .ok (.aload_n 0, 1) := dk_42 (dk_at dksX5_init_0 0 rfl rfl)
theorem dX5_init_1 : decode cX5_init 1 = .ok (.invokespecial 3, 3) := dk_183 0 3 (dk_at dksX5_init_0 1 rfl rfl)
theorem dX5_init_4 : decode cX5_init 4 = .ok (.aload_n 0, 1) := dk_42 (dk_at dksX5_init_0 4 rfl rfl)
theorem dX5_init_5 : decode cX5_init 5 = .ok (.aload_n 1, 1) := dk_43 (dk_at dksX5_init_0 5 rfl rfl)
theorem dX5_init_6 : decode cX5_init 6 = .ok (.putfield 9, 3) := dk_181 0 9 (dk_at dksX5_init_0 6 rfl rfl)
theorem dX5_init_9 : decode cX5_init 9 = .ok (.aload_n 0, 1) := dk_42 (dk_at dksX5_init_0 9 rfl rfl)
theorem dX5_init_10 : decode cX5_init 10 = .ok (.iload_n 2, 1) := dk_28 (dk_at dksX5_init_0 10 rfl rfl)
theorem dX5_init_11 : decode cX5_init 11 = .ok (.putfield 15, 3) := dk_181 0 15 (dk_at dksX5_init_0 11 rfl rfl)
theorem dX5_init_14 : decode cX5_init 14 = .ok (.return_, 1) := dk_177 (dk_at dksX5_init_0 14 rfl rfl)
abbrev cX5_law : ByteArray := prog_6_method_9_code
def yX5_law : MethodName := ⟨RX5, "law", "()LWoolThreads$Law;"⟩
def dkwX5_law_2 : List UInt8 := [182, 0, 22, 87, 167, 255, 219, 43, 176]
abbrev dktX5_law_2 : List UInt8 := dkwX5_law_2 ++ []
def dkwX5_law_1 : List UInt8 := [42, 43, 182, 0, 74, 42, 16, 59, 182, 0, 78, 43, 89, 180, 0, 82, 4, 96, 181, 0, 82, 42]
abbrev dktX5_law_1 : List UInt8 := dkwX5_law_1 ++ dktX5_law_2
def dkwX5_law_0 : List UInt8 := [187, 0, 71, 89, 183, 0, 73, 76, 42, 182, 0, 22, 87, 42, 180, 0, 19, 42, 180, 0, 15, 162, 0, 32]
abbrev dktX5_law_0 : List UInt8 := dkwX5_law_0 ++ dktX5_law_1
theorem dksX5_law_0 : cX5_law.data.toList.drop 0 = dktX5_law_0 := by decide +kernel
theorem dksX5_law_1 : cX5_law.data.toList.drop 24 = dktX5_law_1 := dk_seg dksX5_law_0 24 rfl rfl
theorem dksX5_law_2 : cX5_law.data.toList.drop 46 = dktX5_law_2 := dk_seg dksX5_law_1 22 rfl rfl
theorem dX5_law_0 : decode cX5_law 0 = .ok (.new 71, 3) := dk_187 0 71 (dk_at dksX5_law_0 0 rfl rfl)
theorem dX5_law_3 : decode cX5_law 3 = .ok (.dup, 1) := dk_89 (dk_at dksX5_law_0 3 rfl rfl)
theorem dX5_law_4 : decode cX5_law 4 = .ok (.invokespecial 73, 3) := dk_183 0 73 (dk_at dksX5_law_0 4 rfl rfl)
theorem dX5_law_7 : decode cX5_law 7 = .ok (.astore_n 1, 1) := dk_76 (dk_at dksX5_law_0 7 rfl rfl)
theorem dX5_law_8 : decode cX5_law 8 = .ok (.aload_n 0, 1) := dk_42 (dk_at dksX5_law_0 8 rfl rfl)
theorem dX5_law_9 : decode cX5_law 9 = .ok (.invokevirtual 22, 3) := dk_182 0 22 (dk_at dksX5_law_0 9 rfl rfl)
theorem dX5_law_12 : decode cX5_law 12 = .ok (.pop, 1) := dk_87 (dk_at dksX5_law_0 12 rfl rfl)
theorem dX5_law_13 : decode cX5_law 13 = .ok (.aload_n 0, 1) := dk_42 (dk_at dksX5_law_0 13 rfl rfl)
theorem dX5_law_14 : decode cX5_law 14 = .ok (.getfield 19, 3) := dk_180 0 19 (dk_at dksX5_law_0 14 rfl rfl)
theorem dX5_law_17 : decode cX5_law 17 = .ok (.aload_n 0, 1) := dk_42 (dk_at dksX5_law_0 17 rfl rfl)
theorem dX5_law_18 : decode cX5_law 18 = .ok (.getfield 15, 3) := dk_180 0 15 (dk_at dksX5_law_0 18 rfl rfl)
theorem dX5_law_21 : decode cX5_law 21 = .ok (.if_icmp .ge 32, 3) := dk_162 0 32 (dk_at dksX5_law_0 21 rfl rfl)
theorem dX5_law_24 : decode cX5_law 24 = .ok (.aload_n 0, 1) := dk_42 (dk_at dksX5_law_1 0 rfl rfl)
theorem dX5_law_25 : decode cX5_law 25 = .ok (.aload_n 1, 1) := dk_43 (dk_at dksX5_law_1 1 rfl rfl)
theorem dX5_law_26 : decode cX5_law 26 = .ok (.invokevirtual 74, 3) := dk_182 0 74 (dk_at dksX5_law_1 2 rfl rfl)
theorem dX5_law_29 : decode cX5_law 29 = .ok (.aload_n 0, 1) := dk_42 (dk_at dksX5_law_1 5 rfl rfl)
theorem dX5_law_30 : decode cX5_law 30 = .ok (.bipush 59, 2) := dk_16 59 (dk_at dksX5_law_1 6 rfl rfl)
theorem dX5_law_32 : decode cX5_law 32 = .ok (.invokevirtual 78, 3) := dk_182 0 78 (dk_at dksX5_law_1 8 rfl rfl)
theorem dX5_law_35 : decode cX5_law 35 = .ok (.aload_n 1, 1) := dk_43 (dk_at dksX5_law_1 11 rfl rfl)
theorem dX5_law_36 : decode cX5_law 36 = .ok (.dup, 1) := dk_89 (dk_at dksX5_law_1 12 rfl rfl)
theorem dX5_law_37 : decode cX5_law 37 = .ok (.getfield 82, 3) := dk_180 0 82 (dk_at dksX5_law_1 13 rfl rfl)
theorem dX5_law_40 : decode cX5_law 40 = .ok (.iconst 1, 1) := dk_4 (dk_at dksX5_law_1 16 rfl rfl)
theorem dX5_law_41 : decode cX5_law 41 = .ok (.iadd, 1) := dk_96 (dk_at dksX5_law_1 17 rfl rfl)
theorem dX5_law_42 : decode cX5_law 42 = .ok (.putfield 82, 3) := dk_181 0 82 (dk_at dksX5_law_1 18 rfl rfl)
theorem dX5_law_45 : decode cX5_law 45 = .ok (.aload_n 0, 1) := dk_42 (dk_at dksX5_law_1 21 rfl rfl)
theorem dX5_law_46 : decode cX5_law 46 = .ok (.invokevirtual 22, 3) := dk_182 0 22 (dk_at dksX5_law_2 0 rfl rfl)
theorem dX5_law_49 : decode cX5_law 49 = .ok (.pop, 1) := dk_87 (dk_at dksX5_law_2 3 rfl rfl)
theorem dX5_law_50 : decode cX5_law 50 = .ok (.goto (-37), 3) := dk_167 255 219 (dk_at dksX5_law_2 4 rfl rfl)
theorem dX5_law_53 : decode cX5_law 53 = .ok (.aload_n 1, 1) := dk_43 (dk_at dksX5_law_2 7 rfl rfl)
theorem dX5_law_54 : decode cX5_law 54 = .ok (.areturn, 1) := dk_176 (dk_at dksX5_law_2 8 rfl rfl)
abbrev cX5_sign : ByteArray := prog_6_method_2_code
def yX5_sign : MethodName := ⟨RX5, "sign", "()I"⟩
def dkwX5_sign_2 : List UInt8 := [162, 0, 15, 42, 180, 0, 9, 42, 180, 0, 19, 51, 167, 0, 4, 3, 172]
abbrev dktX5_sign_2 : List UInt8 := dkwX5_sign_2 ++ []
def dkwX5_sign_1 : List UInt8 := [160, 0, 16, 42, 89, 180, 0, 19, 4, 96, 181, 0, 19, 167, 255, 221, 42, 180, 0, 19, 42, 180, 0, 15]
abbrev dktX5_sign_1 : List UInt8 := dkwX5_sign_1 ++ dktX5_sign_2
def dkwX5_sign_0 : List UInt8 := [42, 180, 0, 19, 42, 180, 0, 15, 162, 0, 30, 42, 180, 0, 9, 42, 180, 0, 19, 51, 16, 32]
abbrev dktX5_sign_0 : List UInt8 := dkwX5_sign_0 ++ dktX5_sign_1
theorem dksX5_sign_0 : cX5_sign.data.toList.drop 0 = dktX5_sign_0 := by decide +kernel
theorem dksX5_sign_1 : cX5_sign.data.toList.drop 22 = dktX5_sign_1 := dk_seg dksX5_sign_0 22 rfl rfl
theorem dksX5_sign_2 : cX5_sign.data.toList.drop 46 = dktX5_sign_2 := dk_seg dksX5_sign_1 24 rfl rfl
theorem dX5_sign_0 : decode cX5_sign 0 = .ok (.aload_n 0, 1) := dk_42 (dk_at dksX5_sign_0 0 rfl rfl)
theorem dX5_sign_1 : decode cX5_sign 1 = .ok (.getfield 19, 3) := dk_180 0 19 (dk_at dksX5_sign_0 1 rfl rfl)
theorem dX5_sign_4 : decode cX5_sign 4 = .ok (.aload_n 0, 1) := dk_42 (dk_at dksX5_sign_0 4 rfl rfl)
theorem dX5_sign_5 : decode cX5_sign 5 = .ok (.getfield 15, 3) := dk_180 0 15 (dk_at dksX5_sign_0 5 rfl rfl)
theorem dX5_sign_8 : decode cX5_sign 8 = .ok (.if_icmp .ge 30, 3) := dk_162 0 30 (dk_at dksX5_sign_0 8 rfl rfl)
theorem dX5_sign_11 : decode cX5_sign 11 = .ok (.aload_n 0, 1) := dk_42 (dk_at dksX5_sign_0 11 rfl rfl)
theorem dX5_sign_12 : decode cX5_sign 12 = .ok (.getfield 9, 3) := dk_180 0 9 (dk_at dksX5_sign_0 12 rfl rfl)
theorem dX5_sign_15 : decode cX5_sign 15 = .ok (.aload_n 0, 1) := dk_42 (dk_at dksX5_sign_0 15 rfl rfl)
theorem dX5_sign_16 : decode cX5_sign 16 = .ok (.getfield 19, 3) := dk_180 0 19 (dk_at dksX5_sign_0 16 rfl rfl)
theorem dX5_sign_19 : decode cX5_sign 19 = .ok (.baload, 1) := dk_51 (dk_at dksX5_sign_0 19 rfl rfl)
theorem dX5_sign_20 : decode cX5_sign 20 = .ok (.bipush 32, 2) := dk_16 32 (dk_at dksX5_sign_0 20 rfl rfl)
theorem dX5_sign_22 : decode cX5_sign 22 = .ok (.if_icmp .ne 16, 3) := dk_160 0 16 (dk_at dksX5_sign_1 0 rfl rfl)
theorem dX5_sign_25 : decode cX5_sign 25 = .ok (.aload_n 0, 1) := dk_42 (dk_at dksX5_sign_1 3 rfl rfl)
theorem dX5_sign_26 : decode cX5_sign 26 = .ok (.dup, 1) := dk_89 (dk_at dksX5_sign_1 4 rfl rfl)
theorem dX5_sign_27 : decode cX5_sign 27 = .ok (.getfield 19, 3) := dk_180 0 19 (dk_at dksX5_sign_1 5 rfl rfl)
theorem dX5_sign_30 : decode cX5_sign 30 = .ok (.iconst 1, 1) := dk_4 (dk_at dksX5_sign_1 8 rfl rfl)
theorem dX5_sign_31 : decode cX5_sign 31 = .ok (.iadd, 1) := dk_96 (dk_at dksX5_sign_1 9 rfl rfl)
theorem dX5_sign_32 : decode cX5_sign 32 = .ok (.putfield 19, 3) := dk_181 0 19 (dk_at dksX5_sign_1 10 rfl rfl)
theorem dX5_sign_35 : decode cX5_sign 35 = .ok (.goto (-35), 3) := dk_167 255 221 (dk_at dksX5_sign_1 13 rfl rfl)
theorem dX5_sign_38 : decode cX5_sign 38 = .ok (.aload_n 0, 1) := dk_42 (dk_at dksX5_sign_1 16 rfl rfl)
theorem dX5_sign_39 : decode cX5_sign 39 = .ok (.getfield 19, 3) := dk_180 0 19 (dk_at dksX5_sign_1 17 rfl rfl)
theorem dX5_sign_42 : decode cX5_sign 42 = .ok (.aload_n 0, 1) := dk_42 (dk_at dksX5_sign_1 20 rfl rfl)
theorem dX5_sign_43 : decode cX5_sign 43 = .ok (.getfield 15, 3) := dk_180 0 15 (dk_at dksX5_sign_1 21 rfl rfl)
theorem dX5_sign_46 : decode cX5_sign 46 = .ok (.if_icmp .ge 15, 3) := dk_162 0 15 (dk_at dksX5_sign_2 0 rfl rfl)
theorem dX5_sign_49 : decode cX5_sign 49 = .ok (.aload_n 0, 1) := dk_42 (dk_at dksX5_sign_2 3 rfl rfl)
theorem dX5_sign_50 : decode cX5_sign 50 = .ok (.getfield 9, 3) := dk_180 0 9 (dk_at dksX5_sign_2 4 rfl rfl)
theorem dX5_sign_53 : decode cX5_sign 53 = .ok (.aload_n 0, 1) := dk_42 (dk_at dksX5_sign_2 7 rfl rfl)
theorem dX5_sign_54 : decode cX5_sign 54 = .ok (.getfield 19, 3) := dk_180 0 19 (dk_at dksX5_sign_2 8 rfl rfl)
theorem dX5_sign_57 : decode cX5_sign 57 = .ok (.baload, 1) := dk_51 (dk_at dksX5_sign_2 11 rfl rfl)
theorem dX5_sign_58 : decode cX5_sign 58 = .ok (.goto 4, 3) := dk_167 0 4 (dk_at dksX5_sign_2 12 rfl rfl)
theorem dX5_sign_61 : decode cX5_sign 61 = .ok (.iconst 0, 1) := dk_3 (dk_at dksX5_sign_2 15 rfl rfl)
theorem dX5_sign_62 : decode cX5_sign 62 = .ok (.ireturn, 1) := dk_172 (dk_at dksX5_sign_2 16 rfl rfl)
abbrev cX5_clause : ByteArray := prog_6_method_10_code
def yX5_clause : MethodName := ⟨RX5, "clause", "(LWoolThreads$Law;)V"⟩
def dkwX5_clause_23 : List UInt8 := [182, 0, 68, 181, 0, 119, 177]
abbrev dktX5_clause_23 : List UInt8 := dkwX5_clause_23 ++ []
def dkwX5_clause_22 : List UInt8 := [182, 0, 68, 181, 0, 115, 177, 43, 42, 3, 16, 8, 182, 0, 68, 181, 0, 117, 177, 43, 42, 4, 16, 15]
abbrev dktX5_clause_22 : List UInt8 := dkwX5_clause_22 ++ dktX5_clause_23
def dkwX5_clause_21 : List UInt8 := [54, 5, 43, 21, 5, 42, 21, 5, 16, 10, 182, 0, 109, 182, 0, 112, 177, 43, 42, 3, 16, 16]
abbrev dktX5_clause_21 : List UInt8 := dkwX5_clause_21 ++ dktX5_clause_22
def dkwX5_clause_20 : List UInt8 := [54, 5, 43, 180, 0, 107, 21, 5, 42, 3, 16, 20, 182, 0, 68, 79, 177, 42, 3, 16, 9, 182, 0, 68]
abbrev dktX5_clause_20 : List UInt8 := dkwX5_clause_20 ++ dktX5_clause_21
def dkwX5_clause_19 : List UInt8 := [54, 5, 43, 180, 0, 105, 21, 5, 42, 3, 16, 16, 182, 0, 68, 79, 177, 42, 3, 16, 9, 182, 0, 68]
abbrev dktX5_clause_19 : List UInt8 := dkwX5_clause_19 ++ dktX5_clause_20
def dkwX5_clause_18 : List UInt8 := [21, 5, 104, 21, 6, 96, 42, 3, 17, 0, 200, 182, 0, 68, 79, 177, 42, 3, 16, 9, 182, 0, 68]
abbrev dktX5_clause_18 : List UInt8 := dkwX5_clause_18 ++ dktX5_clause_19
def dkwX5_clause_17 : List UInt8 := [42, 3, 16, 7, 182, 0, 68, 54, 5, 42, 3, 16, 9, 182, 0, 68, 54, 6, 43, 180, 0, 102, 16, 10]
abbrev dktX5_clause_17 : List UInt8 := dkwX5_clause_17 ++ dktX5_clause_18
def dkwX5_clause_16 : List UInt8 := [170, 0, 0, 0, 0, 0, 175, 0, 0, 0, 0, 0, 0, 0, 5, 0, 0, 0, 39, 0, 0, 0, 79, 0, 0, 0, 103, 0, 0, 0, 127, 0, 0, 0, 151, 0, 0, 0, 163]
abbrev dktX5_clause_16 : List UInt8 := dkwX5_clause_16 ++ dktX5_clause_17
def dkwX5_clause_15 : List UInt8 := [167, 0, 15, 45, 18, 94, 182, 0, 52, 153, 0, 6, 8, 54, 4, 21, 4]
abbrev dktX5_clause_15 : List UInt8 := dkwX5_clause_15 ++ dktX5_clause_16
def dkwX5_clause_14 : List UInt8 := [182, 0, 52, 153, 0, 36, 6, 54, 4, 167, 0, 30, 45, 18, 92, 182, 0, 52, 153, 0, 21, 7, 54, 4]
abbrev dktX5_clause_14 : List UInt8 := dkwX5_clause_14 ++ dktX5_clause_15
def dkwX5_clause_13 : List UInt8 := [4, 54, 4, 167, 0, 60, 45, 18, 100, 182, 0, 52, 153, 0, 51, 5, 54, 4, 167, 0, 45, 45, 18, 98]
abbrev dktX5_clause_13 : List UInt8 := dkwX5_clause_13 ++ dktX5_clause_14
def dkwX5_clause_12 : List UInt8 := [45, 18, 88, 182, 0, 52, 153, 0, 81, 3, 54, 4, 167, 0, 75, 45, 18, 90, 182, 0, 52, 153, 0, 66]
abbrev dktX5_clause_12 : List UInt8 := dkwX5_clause_12 ++ dktX5_clause_13
def dkwX5_clause_11 : List UInt8 := [171, 0, 0, 0, 0, 0, 0, 147, 0, 0, 0, 6, 175, 63, 41, 235, 0, 0, 0, 90, 0, 48, 244, 191, 0, 0, 0, 75, 0, 52, 100, 17, 0, 0, 0, 135, 0, 53, 217, 180, 0, 0, 0, 60, 0, 55, 146, 159, 0, 0, 0, 120, 5, 137, 151, 120, 0, 0, 0, 105]
abbrev dktX5_clause_11 : List UInt8 := dkwX5_clause_11 ++ dktX5_clause_12
def dkwX5_clause_10 : List UInt8 := [54, 4, 45, 182, 0, 85]
abbrev dktX5_clause_10 : List UInt8 := dkwX5_clause_10 ++ dktX5_clause_11
def dkwX5_clause_9 : List UInt8 := [180, 0, 19, 183, 0, 42, 191, 42, 89, 180, 0, 19, 44, 182, 0, 58, 96, 181, 0, 19, 44, 78, 2]
abbrev dktX5_clause_9 : List UInt8 := dkwX5_clause_9 ++ dktX5_clause_10
def dkwX5_clause_8 : List UInt8 := [167, 0, 8, 42, 182, 0, 45, 191, 43, 180, 0, 82, 16, 24, 160, 0, 16, 187, 0, 40, 89, 6, 42]
abbrev dktX5_clause_8 : List UInt8 := dkwX5_clause_8 ++ dktX5_clause_9
def dkwX5_clause_7 : List UInt8 := [170, 0, 0, 0, 0, 0, 46, 0, 0, 0, 0, 0, 0, 0, 6, 0, 0, 0, 43, 0, 0, 0, 43, 0, 0, 0, 43, 0, 0, 0, 43, 0, 0, 0, 43, 0, 0, 0, 43, 0, 0, 0, 43]
abbrev dktX5_clause_7 : List UInt8 := dkwX5_clause_7 ++ dktX5_clause_8
def dkwX5_clause_6 : List UInt8 := [153, 0, 7, 16, 6, 54, 4, 21, 4]
abbrev dktX5_clause_6 : List UInt8 := dkwX5_clause_6 ++ dktX5_clause_7
def dkwX5_clause_5 : List UInt8 := [167, 0, 31, 45, 18, 98, 182, 0, 52, 153, 0, 22, 8, 54, 4, 167, 0, 16, 45, 18, 100, 182, 0, 52]
abbrev dktX5_clause_5 : List UInt8 := dkwX5_clause_5 ++ dktX5_clause_6
def dkwX5_clause_4 : List UInt8 := [182, 0, 52, 153, 0, 52, 6, 54, 4, 167, 0, 46, 45, 18, 96, 182, 0, 52, 153, 0, 37, 7, 54, 4]
abbrev dktX5_clause_4 : List UInt8 := dkwX5_clause_4 ++ dktX5_clause_5
def dkwX5_clause_3 : List UInt8 := [4, 54, 4, 167, 0, 76, 45, 18, 92, 182, 0, 52, 153, 0, 67, 5, 54, 4, 167, 0, 61, 45, 18, 94]
abbrev dktX5_clause_3 : List UInt8 := dkwX5_clause_3 ++ dktX5_clause_4
def dkwX5_clause_2 : List UInt8 := [45, 18, 88, 182, 0, 52, 153, 0, 97, 3, 54, 4, 167, 0, 91, 45, 18, 90, 182, 0, 52, 153, 0, 82]
abbrev dktX5_clause_2 : List UInt8 := dkwX5_clause_2 ++ dktX5_clause_3
def dkwX5_clause_1 : List UInt8 := [171, 0, 0, 0, 0, 169, 0, 0, 0, 7, 175, 63, 41, 235, 0, 0, 0, 156, 0, 48, 244, 191, 0, 0, 0, 81, 0, 52, 100, 17, 0, 0, 0, 111, 0, 53, 217, 180, 0, 0, 0, 66, 0, 54, 52, 135, 0, 0, 0, 126, 0, 55, 146, 159, 0, 0, 0, 96, 5, 137, 151, 120, 0, 0, 0, 141]
abbrev dktX5_clause_1 : List UInt8 := dkwX5_clause_1 ++ dktX5_clause_2
def dkwX5_clause_0 : List UInt8 := [42, 182, 0, 49, 77, 44, 78, 2, 54, 4, 45, 182, 0, 85]
abbrev dktX5_clause_0 : List UInt8 := dkwX5_clause_0 ++ dktX5_clause_1
theorem dksX5_clause_0 : cX5_clause.data.toList.drop 0 = dktX5_clause_0 := by decide +kernel
theorem dksX5_clause_1 : cX5_clause.data.toList.drop 14 = dktX5_clause_1 := dk_seg dksX5_clause_0 14 rfl rfl
theorem dksX5_clause_2 : cX5_clause.data.toList.drop 80 = dktX5_clause_2 := dk_seg dksX5_clause_1 66 rfl rfl
theorem dksX5_clause_3 : cX5_clause.data.toList.drop 104 = dktX5_clause_3 := dk_seg dksX5_clause_2 24 rfl rfl
theorem dksX5_clause_4 : cX5_clause.data.toList.drop 128 = dktX5_clause_4 := dk_seg dksX5_clause_3 24 rfl rfl
theorem dksX5_clause_5 : cX5_clause.data.toList.drop 152 = dktX5_clause_5 := dk_seg dksX5_clause_4 24 rfl rfl
theorem dksX5_clause_6 : cX5_clause.data.toList.drop 176 = dktX5_clause_6 := dk_seg dksX5_clause_5 24 rfl rfl
theorem dksX5_clause_7 : cX5_clause.data.toList.drop 185 = dktX5_clause_7 := dk_seg dksX5_clause_6 9 rfl rfl
theorem dksX5_clause_8 : cX5_clause.data.toList.drop 228 = dktX5_clause_8 := dk_seg dksX5_clause_7 43 rfl rfl
theorem dksX5_clause_9 : cX5_clause.data.toList.drop 251 = dktX5_clause_9 := dk_seg dksX5_clause_8 23 rfl rfl
theorem dksX5_clause_10 : cX5_clause.data.toList.drop 274 = dktX5_clause_10 := dk_seg dksX5_clause_9 23 rfl rfl
theorem dksX5_clause_11 : cX5_clause.data.toList.drop 280 = dktX5_clause_11 := dk_seg dksX5_clause_10 6 rfl rfl
theorem dksX5_clause_12 : cX5_clause.data.toList.drop 340 = dktX5_clause_12 := dk_seg dksX5_clause_11 60 rfl rfl
theorem dksX5_clause_13 : cX5_clause.data.toList.drop 364 = dktX5_clause_13 := dk_seg dksX5_clause_12 24 rfl rfl
theorem dksX5_clause_14 : cX5_clause.data.toList.drop 388 = dktX5_clause_14 := dk_seg dksX5_clause_13 24 rfl rfl
theorem dksX5_clause_15 : cX5_clause.data.toList.drop 412 = dktX5_clause_15 := dk_seg dksX5_clause_14 24 rfl rfl
theorem dksX5_clause_16 : cX5_clause.data.toList.drop 429 = dktX5_clause_16 := dk_seg dksX5_clause_15 17 rfl rfl
theorem dksX5_clause_17 : cX5_clause.data.toList.drop 468 = dktX5_clause_17 := dk_seg dksX5_clause_16 39 rfl rfl
theorem dksX5_clause_18 : cX5_clause.data.toList.drop 492 = dktX5_clause_18 := dk_seg dksX5_clause_17 24 rfl rfl
theorem dksX5_clause_19 : cX5_clause.data.toList.drop 515 = dktX5_clause_19 := dk_seg dksX5_clause_18 23 rfl rfl
theorem dksX5_clause_20 : cX5_clause.data.toList.drop 539 = dktX5_clause_20 := dk_seg dksX5_clause_19 24 rfl rfl
theorem dksX5_clause_21 : cX5_clause.data.toList.drop 563 = dktX5_clause_21 := dk_seg dksX5_clause_20 24 rfl rfl
theorem dksX5_clause_22 : cX5_clause.data.toList.drop 585 = dktX5_clause_22 := dk_seg dksX5_clause_21 22 rfl rfl
theorem dksX5_clause_23 : cX5_clause.data.toList.drop 609 = dktX5_clause_23 := dk_seg dksX5_clause_22 24 rfl rfl
theorem dX5_clause_0 : decode cX5_clause 0 = .ok (.aload_n 0, 1) := dk_42 (dk_at dksX5_clause_0 0 rfl rfl)
theorem dX5_clause_1 : decode cX5_clause 1 = .ok (.invokevirtual 49, 3) := dk_182 0 49 (dk_at dksX5_clause_0 1 rfl rfl)
theorem dX5_clause_4 : decode cX5_clause 4 = .ok (.astore_n 2, 1) := dk_77 (dk_at dksX5_clause_0 4 rfl rfl)
theorem dX5_clause_5 : decode cX5_clause 5 = .ok (.aload_n 2, 1) := dk_44 (dk_at dksX5_clause_0 5 rfl rfl)
theorem dX5_clause_6 : decode cX5_clause 6 = .ok (.astore_n 3, 1) := dk_78 (dk_at dksX5_clause_0 6 rfl rfl)
theorem dX5_clause_7 : decode cX5_clause 7 = .ok (.iconst (-1), 1) := dk_2 (dk_at dksX5_clause_0 7 rfl rfl)
theorem dX5_clause_8 : decode cX5_clause 8 = .ok (.istore 4, 2) := dk_54 4 (dk_at dksX5_clause_0 8 rfl rfl)
theorem dX5_clause_10 : decode cX5_clause 10 = .ok (.aload_n 3, 1) := dk_45 (dk_at dksX5_clause_0 10 rfl rfl)
theorem dX5_clause_11 : decode cX5_clause 11 = .ok (.invokevirtual 85, 3) := dk_182 0 85 (dk_at dksX5_clause_0 11 rfl rfl)
theorem dX5_clause_14 : decode cX5_clause 14 = .ok (.lookupswitch 169 #[(-1354814997, 156), (3208383, 81), (3433489, 111), (3529140, 66), (3552391, 126), (3642015, 96), (92903288, 141)], 66) := by decide +kernel
theorem dX5_clause_80 : decode cX5_clause 80 = .ok (.aload_n 3, 1) := dk_45 (dk_at dksX5_clause_2 0 rfl rfl)
theorem dX5_clause_81 : decode cX5_clause 81 = .ok (.ldc 88, 2) := dk_18 88 (dk_at dksX5_clause_2 1 rfl rfl)
theorem dX5_clause_83 : decode cX5_clause 83 = .ok (.invokevirtual 52, 3) := dk_182 0 52 (dk_at dksX5_clause_2 3 rfl rfl)
theorem dX5_clause_86 : decode cX5_clause 86 = .ok (.ifCond .eq 97, 3) := dk_153 0 97 (dk_at dksX5_clause_2 6 rfl rfl)
theorem dX5_clause_89 : decode cX5_clause 89 = .ok (.iconst 0, 1) := dk_3 (dk_at dksX5_clause_2 9 rfl rfl)
theorem dX5_clause_90 : decode cX5_clause 90 = .ok (.istore 4, 2) := dk_54 4 (dk_at dksX5_clause_2 10 rfl rfl)
theorem dX5_clause_92 : decode cX5_clause 92 = .ok (.goto 91, 3) := dk_167 0 91 (dk_at dksX5_clause_2 12 rfl rfl)
theorem dX5_clause_95 : decode cX5_clause 95 = .ok (.aload_n 3, 1) := dk_45 (dk_at dksX5_clause_2 15 rfl rfl)
theorem dX5_clause_96 : decode cX5_clause 96 = .ok (.ldc 90, 2) := dk_18 90 (dk_at dksX5_clause_2 16 rfl rfl)
theorem dX5_clause_98 : decode cX5_clause 98 = .ok (.invokevirtual 52, 3) := dk_182 0 52 (dk_at dksX5_clause_2 18 rfl rfl)
theorem dX5_clause_101 : decode cX5_clause 101 = .ok (.ifCond .eq 82, 3) := dk_153 0 82 (dk_at dksX5_clause_2 21 rfl rfl)
theorem dX5_clause_104 : decode cX5_clause 104 = .ok (.iconst 1, 1) := dk_4 (dk_at dksX5_clause_3 0 rfl rfl)
theorem dX5_clause_105 : decode cX5_clause 105 = .ok (.istore 4, 2) := dk_54 4 (dk_at dksX5_clause_3 1 rfl rfl)
theorem dX5_clause_107 : decode cX5_clause 107 = .ok (.goto 76, 3) := dk_167 0 76 (dk_at dksX5_clause_3 3 rfl rfl)
theorem dX5_clause_110 : decode cX5_clause 110 = .ok (.aload_n 3, 1) := dk_45 (dk_at dksX5_clause_3 6 rfl rfl)
theorem dX5_clause_111 : decode cX5_clause 111 = .ok (.ldc 92, 2) := dk_18 92 (dk_at dksX5_clause_3 7 rfl rfl)
theorem dX5_clause_113 : decode cX5_clause 113 = .ok (.invokevirtual 52, 3) := dk_182 0 52 (dk_at dksX5_clause_3 9 rfl rfl)
theorem dX5_clause_116 : decode cX5_clause 116 = .ok (.ifCond .eq 67, 3) := dk_153 0 67 (dk_at dksX5_clause_3 12 rfl rfl)
theorem dX5_clause_119 : decode cX5_clause 119 = .ok (.iconst 2, 1) := dk_5 (dk_at dksX5_clause_3 15 rfl rfl)
theorem dX5_clause_120 : decode cX5_clause 120 = .ok (.istore 4, 2) := dk_54 4 (dk_at dksX5_clause_3 16 rfl rfl)
theorem dX5_clause_122 : decode cX5_clause 122 = .ok (.goto 61, 3) := dk_167 0 61 (dk_at dksX5_clause_3 18 rfl rfl)
theorem dX5_clause_125 : decode cX5_clause 125 = .ok (.aload_n 3, 1) := dk_45 (dk_at dksX5_clause_3 21 rfl rfl)
theorem dX5_clause_126 : decode cX5_clause 126 = .ok (.ldc 94, 2) := dk_18 94 (dk_at dksX5_clause_3 22 rfl rfl)
theorem dX5_clause_128 : decode cX5_clause 128 = .ok (.invokevirtual 52, 3) := dk_182 0 52 (dk_at dksX5_clause_4 0 rfl rfl)
theorem dX5_clause_131 : decode cX5_clause 131 = .ok (.ifCond .eq 52, 3) := dk_153 0 52 (dk_at dksX5_clause_4 3 rfl rfl)
theorem dX5_clause_134 : decode cX5_clause 134 = .ok (.iconst 3, 1) := dk_6 (dk_at dksX5_clause_4 6 rfl rfl)
theorem dX5_clause_135 : decode cX5_clause 135 = .ok (.istore 4, 2) := dk_54 4 (dk_at dksX5_clause_4 7 rfl rfl)
theorem dX5_clause_137 : decode cX5_clause 137 = .ok (.goto 46, 3) := dk_167 0 46 (dk_at dksX5_clause_4 9 rfl rfl)
theorem dX5_clause_140 : decode cX5_clause 140 = .ok (.aload_n 3, 1) := dk_45 (dk_at dksX5_clause_4 12 rfl rfl)
theorem dX5_clause_141 : decode cX5_clause 141 = .ok (.ldc 96, 2) := dk_18 96 (dk_at dksX5_clause_4 13 rfl rfl)
theorem dX5_clause_143 : decode cX5_clause 143 = .ok (.invokevirtual 52, 3) := dk_182 0 52 (dk_at dksX5_clause_4 15 rfl rfl)
theorem dX5_clause_146 : decode cX5_clause 146 = .ok (.ifCond .eq 37, 3) := dk_153 0 37 (dk_at dksX5_clause_4 18 rfl rfl)
theorem dX5_clause_149 : decode cX5_clause 149 = .ok (.iconst 4, 1) := dk_7 (dk_at dksX5_clause_4 21 rfl rfl)
theorem dX5_clause_150 : decode cX5_clause 150 = .ok (.istore 4, 2) := dk_54 4 (dk_at dksX5_clause_4 22 rfl rfl)
theorem dX5_clause_152 : decode cX5_clause 152 = .ok (.goto 31, 3) := dk_167 0 31 (dk_at dksX5_clause_5 0 rfl rfl)
theorem dX5_clause_155 : decode cX5_clause 155 = .ok (.aload_n 3, 1) := dk_45 (dk_at dksX5_clause_5 3 rfl rfl)
theorem dX5_clause_156 : decode cX5_clause 156 = .ok (.ldc 98, 2) := dk_18 98 (dk_at dksX5_clause_5 4 rfl rfl)
theorem dX5_clause_158 : decode cX5_clause 158 = .ok (.invokevirtual 52, 3) := dk_182 0 52 (dk_at dksX5_clause_5 6 rfl rfl)
theorem dX5_clause_161 : decode cX5_clause 161 = .ok (.ifCond .eq 22, 3) := dk_153 0 22 (dk_at dksX5_clause_5 9 rfl rfl)
theorem dX5_clause_164 : decode cX5_clause 164 = .ok (.iconst 5, 1) := dk_8 (dk_at dksX5_clause_5 12 rfl rfl)
theorem dX5_clause_165 : decode cX5_clause 165 = .ok (.istore 4, 2) := dk_54 4 (dk_at dksX5_clause_5 13 rfl rfl)
theorem dX5_clause_167 : decode cX5_clause 167 = .ok (.goto 16, 3) := dk_167 0 16 (dk_at dksX5_clause_5 15 rfl rfl)
theorem dX5_clause_170 : decode cX5_clause 170 = .ok (.aload_n 3, 1) := dk_45 (dk_at dksX5_clause_5 18 rfl rfl)
theorem dX5_clause_171 : decode cX5_clause 171 = .ok (.ldc 100, 2) := dk_18 100 (dk_at dksX5_clause_5 19 rfl rfl)
theorem dX5_clause_173 : decode cX5_clause 173 = .ok (.invokevirtual 52, 3) := dk_182 0 52 (dk_at dksX5_clause_5 21 rfl rfl)
theorem dX5_clause_176 : decode cX5_clause 176 = .ok (.ifCond .eq 7, 3) := dk_153 0 7 (dk_at dksX5_clause_6 0 rfl rfl)
theorem dX5_clause_179 : decode cX5_clause 179 = .ok (.bipush 6, 2) := dk_16 6 (dk_at dksX5_clause_6 3 rfl rfl)
theorem dX5_clause_181 : decode cX5_clause 181 = .ok (.istore 4, 2) := dk_54 4 (dk_at dksX5_clause_6 5 rfl rfl)
theorem dX5_clause_183 : decode cX5_clause 183 = .ok (.iload 4, 2) := dk_21 4 (dk_at dksX5_clause_6 7 rfl rfl)
theorem dX5_clause_185 : decode cX5_clause 185 = .ok (.tableswitch 46 0 6 #[43, 43, 43, 43, 43, 43, 43], 43) := by decide +kernel
theorem dX5_clause_228 : decode cX5_clause 228 = .ok (.goto 8, 3) := dk_167 0 8 (dk_at dksX5_clause_8 0 rfl rfl)
theorem dX5_clause_231 : decode cX5_clause 231 = .ok (.aload_n 0, 1) := dk_42 (dk_at dksX5_clause_8 3 rfl rfl)
theorem dX5_clause_232 : decode cX5_clause 232 = .ok (.invokevirtual 45, 3) := dk_182 0 45 (dk_at dksX5_clause_8 4 rfl rfl)
theorem dX5_clause_235 : decode cX5_clause 235 = .ok (.athrow, 1) := dk_191 (dk_at dksX5_clause_8 7 rfl rfl)
theorem dX5_clause_236 : decode cX5_clause 236 = .ok (.aload_n 1, 1) := dk_43 (dk_at dksX5_clause_8 8 rfl rfl)
theorem dX5_clause_237 : decode cX5_clause 237 = .ok (.getfield 82, 3) := dk_180 0 82 (dk_at dksX5_clause_8 9 rfl rfl)
theorem dX5_clause_240 : decode cX5_clause 240 = .ok (.bipush 24, 2) := dk_16 24 (dk_at dksX5_clause_8 12 rfl rfl)
theorem dX5_clause_242 : decode cX5_clause 242 = .ok (.if_icmp .ne 16, 3) := dk_160 0 16 (dk_at dksX5_clause_8 14 rfl rfl)
theorem dX5_clause_245 : decode cX5_clause 245 = .ok (.new 40, 3) := dk_187 0 40 (dk_at dksX5_clause_8 17 rfl rfl)
theorem dX5_clause_248 : decode cX5_clause 248 = .ok (.dup, 1) := dk_89 (dk_at dksX5_clause_8 20 rfl rfl)
theorem dX5_clause_249 : decode cX5_clause 249 = .ok (.iconst 3, 1) := dk_6 (dk_at dksX5_clause_8 21 rfl rfl)
theorem dX5_clause_250 : decode cX5_clause 250 = .ok (.aload_n 0, 1) := dk_42 (dk_at dksX5_clause_8 22 rfl rfl)
theorem dX5_clause_251 : decode cX5_clause 251 = .ok (.getfield 19, 3) := dk_180 0 19 (dk_at dksX5_clause_9 0 rfl rfl)
theorem dX5_clause_254 : decode cX5_clause 254 = .ok (.invokespecial 42, 3) := dk_183 0 42 (dk_at dksX5_clause_9 3 rfl rfl)
theorem dX5_clause_257 : decode cX5_clause 257 = .ok (.athrow, 1) := dk_191 (dk_at dksX5_clause_9 6 rfl rfl)
theorem dX5_clause_258 : decode cX5_clause 258 = .ok (.aload_n 0, 1) := dk_42 (dk_at dksX5_clause_9 7 rfl rfl)
theorem dX5_clause_259 : decode cX5_clause 259 = .ok (.dup, 1) := dk_89 (dk_at dksX5_clause_9 8 rfl rfl)
theorem dX5_clause_260 : decode cX5_clause 260 = .ok (.getfield 19, 3) := dk_180 0 19 (dk_at dksX5_clause_9 9 rfl rfl)
theorem dX5_clause_263 : decode cX5_clause 263 = .ok (.aload_n 2, 1) := dk_44 (dk_at dksX5_clause_9 12 rfl rfl)
theorem dX5_clause_264 : decode cX5_clause 264 = .ok (.invokevirtual 58, 3) := dk_182 0 58 (dk_at dksX5_clause_9 13 rfl rfl)
theorem dX5_clause_267 : decode cX5_clause 267 = .ok (.iadd, 1) := dk_96 (dk_at dksX5_clause_9 16 rfl rfl)
theorem dX5_clause_268 : decode cX5_clause 268 = .ok (.putfield 19, 3) := dk_181 0 19 (dk_at dksX5_clause_9 17 rfl rfl)
theorem dX5_clause_271 : decode cX5_clause 271 = .ok (.aload_n 2, 1) := dk_44 (dk_at dksX5_clause_9 20 rfl rfl)
theorem dX5_clause_272 : decode cX5_clause 272 = .ok (.astore_n 3, 1) := dk_78 (dk_at dksX5_clause_9 21 rfl rfl)
theorem dX5_clause_273 : decode cX5_clause 273 = .ok (.iconst (-1), 1) := dk_2 (dk_at dksX5_clause_9 22 rfl rfl)
theorem dX5_clause_274 : decode cX5_clause 274 = .ok (.istore 4, 2) := dk_54 4 (dk_at dksX5_clause_10 0 rfl rfl)
theorem dX5_clause_276 : decode cX5_clause 276 = .ok (.aload_n 3, 1) := dk_45 (dk_at dksX5_clause_10 2 rfl rfl)
theorem dX5_clause_277 : decode cX5_clause 277 = .ok (.invokevirtual 85, 3) := dk_182 0 85 (dk_at dksX5_clause_10 3 rfl rfl)
theorem dX5_clause_280 : decode cX5_clause 280 = .ok (.lookupswitch 147 #[(-1354814997, 90), (3208383, 75), (3433489, 135), (3529140, 60), (3642015, 120), (92903288, 105)], 60) := by decide +kernel
theorem dX5_clause_340 : decode cX5_clause 340 = .ok (.aload_n 3, 1) := dk_45 (dk_at dksX5_clause_12 0 rfl rfl)
theorem dX5_clause_341 : decode cX5_clause 341 = .ok (.ldc 88, 2) := dk_18 88 (dk_at dksX5_clause_12 1 rfl rfl)
theorem dX5_clause_343 : decode cX5_clause 343 = .ok (.invokevirtual 52, 3) := dk_182 0 52 (dk_at dksX5_clause_12 3 rfl rfl)
theorem dX5_clause_346 : decode cX5_clause 346 = .ok (.ifCond .eq 81, 3) := dk_153 0 81 (dk_at dksX5_clause_12 6 rfl rfl)
theorem dX5_clause_349 : decode cX5_clause 349 = .ok (.iconst 0, 1) := dk_3 (dk_at dksX5_clause_12 9 rfl rfl)
theorem dX5_clause_350 : decode cX5_clause 350 = .ok (.istore 4, 2) := dk_54 4 (dk_at dksX5_clause_12 10 rfl rfl)
theorem dX5_clause_352 : decode cX5_clause 352 = .ok (.goto 75, 3) := dk_167 0 75 (dk_at dksX5_clause_12 12 rfl rfl)
theorem dX5_clause_355 : decode cX5_clause 355 = .ok (.aload_n 3, 1) := dk_45 (dk_at dksX5_clause_12 15 rfl rfl)
theorem dX5_clause_356 : decode cX5_clause 356 = .ok (.ldc 90, 2) := dk_18 90 (dk_at dksX5_clause_12 16 rfl rfl)
theorem dX5_clause_358 : decode cX5_clause 358 = .ok (.invokevirtual 52, 3) := dk_182 0 52 (dk_at dksX5_clause_12 18 rfl rfl)
theorem dX5_clause_361 : decode cX5_clause 361 = .ok (.ifCond .eq 66, 3) := dk_153 0 66 (dk_at dksX5_clause_12 21 rfl rfl)
theorem dX5_clause_364 : decode cX5_clause 364 = .ok (.iconst 1, 1) := dk_4 (dk_at dksX5_clause_13 0 rfl rfl)
theorem dX5_clause_365 : decode cX5_clause 365 = .ok (.istore 4, 2) := dk_54 4 (dk_at dksX5_clause_13 1 rfl rfl)
theorem dX5_clause_367 : decode cX5_clause 367 = .ok (.goto 60, 3) := dk_167 0 60 (dk_at dksX5_clause_13 3 rfl rfl)
theorem dX5_clause_370 : decode cX5_clause 370 = .ok (.aload_n 3, 1) := dk_45 (dk_at dksX5_clause_13 6 rfl rfl)
theorem dX5_clause_371 : decode cX5_clause 371 = .ok (.ldc 100, 2) := dk_18 100 (dk_at dksX5_clause_13 7 rfl rfl)
theorem dX5_clause_373 : decode cX5_clause 373 = .ok (.invokevirtual 52, 3) := dk_182 0 52 (dk_at dksX5_clause_13 9 rfl rfl)
theorem dX5_clause_376 : decode cX5_clause 376 = .ok (.ifCond .eq 51, 3) := dk_153 0 51 (dk_at dksX5_clause_13 12 rfl rfl)
theorem dX5_clause_379 : decode cX5_clause 379 = .ok (.iconst 2, 1) := dk_5 (dk_at dksX5_clause_13 15 rfl rfl)
theorem dX5_clause_380 : decode cX5_clause 380 = .ok (.istore 4, 2) := dk_54 4 (dk_at dksX5_clause_13 16 rfl rfl)
theorem dX5_clause_382 : decode cX5_clause 382 = .ok (.goto 45, 3) := dk_167 0 45 (dk_at dksX5_clause_13 18 rfl rfl)
theorem dX5_clause_385 : decode cX5_clause 385 = .ok (.aload_n 3, 1) := dk_45 (dk_at dksX5_clause_13 21 rfl rfl)
theorem dX5_clause_386 : decode cX5_clause 386 = .ok (.ldc 98, 2) := dk_18 98 (dk_at dksX5_clause_13 22 rfl rfl)
theorem dX5_clause_388 : decode cX5_clause 388 = .ok (.invokevirtual 52, 3) := dk_182 0 52 (dk_at dksX5_clause_14 0 rfl rfl)
theorem dX5_clause_391 : decode cX5_clause 391 = .ok (.ifCond .eq 36, 3) := dk_153 0 36 (dk_at dksX5_clause_14 3 rfl rfl)
theorem dX5_clause_394 : decode cX5_clause 394 = .ok (.iconst 3, 1) := dk_6 (dk_at dksX5_clause_14 6 rfl rfl)
theorem dX5_clause_395 : decode cX5_clause 395 = .ok (.istore 4, 2) := dk_54 4 (dk_at dksX5_clause_14 7 rfl rfl)
theorem dX5_clause_397 : decode cX5_clause 397 = .ok (.goto 30, 3) := dk_167 0 30 (dk_at dksX5_clause_14 9 rfl rfl)
theorem dX5_clause_400 : decode cX5_clause 400 = .ok (.aload_n 3, 1) := dk_45 (dk_at dksX5_clause_14 12 rfl rfl)
theorem dX5_clause_401 : decode cX5_clause 401 = .ok (.ldc 92, 2) := dk_18 92 (dk_at dksX5_clause_14 13 rfl rfl)
theorem dX5_clause_403 : decode cX5_clause 403 = .ok (.invokevirtual 52, 3) := dk_182 0 52 (dk_at dksX5_clause_14 15 rfl rfl)
theorem dX5_clause_406 : decode cX5_clause 406 = .ok (.ifCond .eq 21, 3) := dk_153 0 21 (dk_at dksX5_clause_14 18 rfl rfl)
theorem dX5_clause_409 : decode cX5_clause 409 = .ok (.iconst 4, 1) := dk_7 (dk_at dksX5_clause_14 21 rfl rfl)
theorem dX5_clause_410 : decode cX5_clause 410 = .ok (.istore 4, 2) := dk_54 4 (dk_at dksX5_clause_14 22 rfl rfl)
theorem dX5_clause_412 : decode cX5_clause 412 = .ok (.goto 15, 3) := dk_167 0 15 (dk_at dksX5_clause_15 0 rfl rfl)
theorem dX5_clause_415 : decode cX5_clause 415 = .ok (.aload_n 3, 1) := dk_45 (dk_at dksX5_clause_15 3 rfl rfl)
theorem dX5_clause_416 : decode cX5_clause 416 = .ok (.ldc 94, 2) := dk_18 94 (dk_at dksX5_clause_15 4 rfl rfl)
theorem dX5_clause_418 : decode cX5_clause 418 = .ok (.invokevirtual 52, 3) := dk_182 0 52 (dk_at dksX5_clause_15 6 rfl rfl)
theorem dX5_clause_421 : decode cX5_clause 421 = .ok (.ifCond .eq 6, 3) := dk_153 0 6 (dk_at dksX5_clause_15 9 rfl rfl)
theorem dX5_clause_424 : decode cX5_clause 424 = .ok (.iconst 5, 1) := dk_8 (dk_at dksX5_clause_15 12 rfl rfl)
theorem dX5_clause_425 : decode cX5_clause 425 = .ok (.istore 4, 2) := dk_54 4 (dk_at dksX5_clause_15 13 rfl rfl)
theorem dX5_clause_427 : decode cX5_clause 427 = .ok (.iload 4, 2) := dk_21 4 (dk_at dksX5_clause_15 15 rfl rfl)
theorem dX5_clause_429 : decode cX5_clause 429 = .ok (.tableswitch 175 0 5 #[39, 79, 103, 127, 151, 163], 39) := by decide +kernel
theorem dX5_clause_468 : decode cX5_clause 468 = .ok (.aload_n 0, 1) := dk_42 (dk_at dksX5_clause_17 0 rfl rfl)
theorem dX5_clause_469 : decode cX5_clause 469 = .ok (.iconst 0, 1) := dk_3 (dk_at dksX5_clause_17 1 rfl rfl)
theorem dX5_clause_470 : decode cX5_clause 470 = .ok (.bipush 7, 2) := dk_16 7 (dk_at dksX5_clause_17 2 rfl rfl)
theorem dX5_clause_472 : decode cX5_clause 472 = .ok (.invokevirtual 68, 3) := dk_182 0 68 (dk_at dksX5_clause_17 4 rfl rfl)
theorem dX5_clause_475 : decode cX5_clause 475 = .ok (.istore 5, 2) := dk_54 5 (dk_at dksX5_clause_17 7 rfl rfl)
theorem dX5_clause_477 : decode cX5_clause 477 = .ok (.aload_n 0, 1) := dk_42 (dk_at dksX5_clause_17 9 rfl rfl)
theorem dX5_clause_478 : decode cX5_clause 478 = .ok (.iconst 0, 1) := dk_3 (dk_at dksX5_clause_17 10 rfl rfl)
theorem dX5_clause_479 : decode cX5_clause 479 = .ok (.bipush 9, 2) := dk_16 9 (dk_at dksX5_clause_17 11 rfl rfl)
theorem dX5_clause_481 : decode cX5_clause 481 = .ok (.invokevirtual 68, 3) := dk_182 0 68 (dk_at dksX5_clause_17 13 rfl rfl)
theorem dX5_clause_484 : decode cX5_clause 484 = .ok (.istore 6, 2) := dk_54 6 (dk_at dksX5_clause_17 16 rfl rfl)
theorem dX5_clause_486 : decode cX5_clause 486 = .ok (.aload_n 1, 1) := dk_43 (dk_at dksX5_clause_17 18 rfl rfl)
theorem dX5_clause_487 : decode cX5_clause 487 = .ok (.getfield 102, 3) := dk_180 0 102 (dk_at dksX5_clause_17 19 rfl rfl)
theorem dX5_clause_490 : decode cX5_clause 490 = .ok (.bipush 10, 2) := dk_16 10 (dk_at dksX5_clause_17 22 rfl rfl)
theorem dX5_clause_492 : decode cX5_clause 492 = .ok (.iload 5, 2) := dk_21 5 (dk_at dksX5_clause_18 0 rfl rfl)
theorem dX5_clause_494 : decode cX5_clause 494 = .ok (.imul, 1) := dk_104 (dk_at dksX5_clause_18 2 rfl rfl)
theorem dX5_clause_495 : decode cX5_clause 495 = .ok (.iload 6, 2) := dk_21 6 (dk_at dksX5_clause_18 3 rfl rfl)
theorem dX5_clause_497 : decode cX5_clause 497 = .ok (.iadd, 1) := dk_96 (dk_at dksX5_clause_18 5 rfl rfl)
theorem dX5_clause_498 : decode cX5_clause 498 = .ok (.aload_n 0, 1) := dk_42 (dk_at dksX5_clause_18 6 rfl rfl)
theorem dX5_clause_499 : decode cX5_clause 499 = .ok (.iconst 0, 1) := dk_3 (dk_at dksX5_clause_18 7 rfl rfl)
theorem dX5_clause_500 : decode cX5_clause 500 = .ok (.sipush 200, 3) := dk_17 0 200 (dk_at dksX5_clause_18 8 rfl rfl)
theorem dX5_clause_503 : decode cX5_clause 503 = .ok (.invokevirtual 68, 3) := dk_182 0 68 (dk_at dksX5_clause_18 11 rfl rfl)
theorem dX5_clause_506 : decode cX5_clause 506 = .ok (.iastore, 1) := dk_79 (dk_at dksX5_clause_18 14 rfl rfl)
theorem dX5_clause_507 : decode cX5_clause 507 = .ok (.return_, 1) := dk_177 (dk_at dksX5_clause_18 15 rfl rfl)
theorem dX5_clause_508 : decode cX5_clause 508 = .ok (.aload_n 0, 1) := dk_42 (dk_at dksX5_clause_18 16 rfl rfl)
theorem dX5_clause_509 : decode cX5_clause 509 = .ok (.iconst 0, 1) := dk_3 (dk_at dksX5_clause_18 17 rfl rfl)
theorem dX5_clause_510 : decode cX5_clause 510 = .ok (.bipush 9, 2) := dk_16 9 (dk_at dksX5_clause_18 18 rfl rfl)
theorem dX5_clause_512 : decode cX5_clause 512 = .ok (.invokevirtual 68, 3) := dk_182 0 68 (dk_at dksX5_clause_18 20 rfl rfl)
theorem dX5_clause_515 : decode cX5_clause 515 = .ok (.istore 5, 2) := dk_54 5 (dk_at dksX5_clause_19 0 rfl rfl)
theorem dX5_clause_517 : decode cX5_clause 517 = .ok (.aload_n 1, 1) := dk_43 (dk_at dksX5_clause_19 2 rfl rfl)
theorem dX5_clause_518 : decode cX5_clause 518 = .ok (.getfield 105, 3) := dk_180 0 105 (dk_at dksX5_clause_19 3 rfl rfl)
theorem dX5_clause_521 : decode cX5_clause 521 = .ok (.iload 5, 2) := dk_21 5 (dk_at dksX5_clause_19 6 rfl rfl)
theorem dX5_clause_523 : decode cX5_clause 523 = .ok (.aload_n 0, 1) := dk_42 (dk_at dksX5_clause_19 8 rfl rfl)
theorem dX5_clause_524 : decode cX5_clause 524 = .ok (.iconst 0, 1) := dk_3 (dk_at dksX5_clause_19 9 rfl rfl)
theorem dX5_clause_525 : decode cX5_clause 525 = .ok (.bipush 16, 2) := dk_16 16 (dk_at dksX5_clause_19 10 rfl rfl)
theorem dX5_clause_527 : decode cX5_clause 527 = .ok (.invokevirtual 68, 3) := dk_182 0 68 (dk_at dksX5_clause_19 12 rfl rfl)
theorem dX5_clause_530 : decode cX5_clause 530 = .ok (.iastore, 1) := dk_79 (dk_at dksX5_clause_19 15 rfl rfl)
theorem dX5_clause_531 : decode cX5_clause 531 = .ok (.return_, 1) := dk_177 (dk_at dksX5_clause_19 16 rfl rfl)
theorem dX5_clause_532 : decode cX5_clause 532 = .ok (.aload_n 0, 1) := dk_42 (dk_at dksX5_clause_19 17 rfl rfl)
theorem dX5_clause_533 : decode cX5_clause 533 = .ok (.iconst 0, 1) := dk_3 (dk_at dksX5_clause_19 18 rfl rfl)
theorem dX5_clause_534 : decode cX5_clause 534 = .ok (.bipush 9, 2) := dk_16 9 (dk_at dksX5_clause_19 19 rfl rfl)
theorem dX5_clause_536 : decode cX5_clause 536 = .ok (.invokevirtual 68, 3) := dk_182 0 68 (dk_at dksX5_clause_19 21 rfl rfl)
theorem dX5_clause_539 : decode cX5_clause 539 = .ok (.istore 5, 2) := dk_54 5 (dk_at dksX5_clause_20 0 rfl rfl)
theorem dX5_clause_541 : decode cX5_clause 541 = .ok (.aload_n 1, 1) := dk_43 (dk_at dksX5_clause_20 2 rfl rfl)
theorem dX5_clause_542 : decode cX5_clause 542 = .ok (.getfield 107, 3) := dk_180 0 107 (dk_at dksX5_clause_20 3 rfl rfl)
theorem dX5_clause_545 : decode cX5_clause 545 = .ok (.iload 5, 2) := dk_21 5 (dk_at dksX5_clause_20 6 rfl rfl)
theorem dX5_clause_547 : decode cX5_clause 547 = .ok (.aload_n 0, 1) := dk_42 (dk_at dksX5_clause_20 8 rfl rfl)
theorem dX5_clause_548 : decode cX5_clause 548 = .ok (.iconst 0, 1) := dk_3 (dk_at dksX5_clause_20 9 rfl rfl)
theorem dX5_clause_549 : decode cX5_clause 549 = .ok (.bipush 20, 2) := dk_16 20 (dk_at dksX5_clause_20 10 rfl rfl)
theorem dX5_clause_551 : decode cX5_clause 551 = .ok (.invokevirtual 68, 3) := dk_182 0 68 (dk_at dksX5_clause_20 12 rfl rfl)
theorem dX5_clause_554 : decode cX5_clause 554 = .ok (.iastore, 1) := dk_79 (dk_at dksX5_clause_20 15 rfl rfl)
theorem dX5_clause_555 : decode cX5_clause 555 = .ok (.return_, 1) := dk_177 (dk_at dksX5_clause_20 16 rfl rfl)
theorem dX5_clause_556 : decode cX5_clause 556 = .ok (.aload_n 0, 1) := dk_42 (dk_at dksX5_clause_20 17 rfl rfl)
theorem dX5_clause_557 : decode cX5_clause 557 = .ok (.iconst 0, 1) := dk_3 (dk_at dksX5_clause_20 18 rfl rfl)
theorem dX5_clause_558 : decode cX5_clause 558 = .ok (.bipush 9, 2) := dk_16 9 (dk_at dksX5_clause_20 19 rfl rfl)
theorem dX5_clause_560 : decode cX5_clause 560 = .ok (.invokevirtual 68, 3) := dk_182 0 68 (dk_at dksX5_clause_20 21 rfl rfl)
theorem dX5_clause_563 : decode cX5_clause 563 = .ok (.istore 5, 2) := dk_54 5 (dk_at dksX5_clause_21 0 rfl rfl)
theorem dX5_clause_565 : decode cX5_clause 565 = .ok (.aload_n 1, 1) := dk_43 (dk_at dksX5_clause_21 2 rfl rfl)
theorem dX5_clause_566 : decode cX5_clause 566 = .ok (.iload 5, 2) := dk_21 5 (dk_at dksX5_clause_21 3 rfl rfl)
theorem dX5_clause_568 : decode cX5_clause 568 = .ok (.aload_n 0, 1) := dk_42 (dk_at dksX5_clause_21 5 rfl rfl)
theorem dX5_clause_569 : decode cX5_clause 569 = .ok (.iload 5, 2) := dk_21 5 (dk_at dksX5_clause_21 6 rfl rfl)
theorem dX5_clause_571 : decode cX5_clause 571 = .ok (.bipush 10, 2) := dk_16 10 (dk_at dksX5_clause_21 8 rfl rfl)
theorem dX5_clause_573 : decode cX5_clause 573 = .ok (.invokevirtual 109, 3) := dk_182 0 109 (dk_at dksX5_clause_21 10 rfl rfl)
theorem dX5_clause_576 : decode cX5_clause 576 = .ok (.invokevirtual 112, 3) := dk_182 0 112 (dk_at dksX5_clause_21 13 rfl rfl)
theorem dX5_clause_579 : decode cX5_clause 579 = .ok (.return_, 1) := dk_177 (dk_at dksX5_clause_21 16 rfl rfl)
theorem dX5_clause_580 : decode cX5_clause 580 = .ok (.aload_n 1, 1) := dk_43 (dk_at dksX5_clause_21 17 rfl rfl)
theorem dX5_clause_581 : decode cX5_clause 581 = .ok (.aload_n 0, 1) := dk_42 (dk_at dksX5_clause_21 18 rfl rfl)
theorem dX5_clause_582 : decode cX5_clause 582 = .ok (.iconst 0, 1) := dk_3 (dk_at dksX5_clause_21 19 rfl rfl)
theorem dX5_clause_583 : decode cX5_clause 583 = .ok (.bipush 16, 2) := dk_16 16 (dk_at dksX5_clause_21 20 rfl rfl)
theorem dX5_clause_585 : decode cX5_clause 585 = .ok (.invokevirtual 68, 3) := dk_182 0 68 (dk_at dksX5_clause_22 0 rfl rfl)
theorem dX5_clause_588 : decode cX5_clause 588 = .ok (.putfield 115, 3) := dk_181 0 115 (dk_at dksX5_clause_22 3 rfl rfl)
theorem dX5_clause_591 : decode cX5_clause 591 = .ok (.return_, 1) := dk_177 (dk_at dksX5_clause_22 6 rfl rfl)
theorem dX5_clause_592 : decode cX5_clause 592 = .ok (.aload_n 1, 1) := dk_43 (dk_at dksX5_clause_22 7 rfl rfl)
theorem dX5_clause_593 : decode cX5_clause 593 = .ok (.aload_n 0, 1) := dk_42 (dk_at dksX5_clause_22 8 rfl rfl)
theorem dX5_clause_594 : decode cX5_clause 594 = .ok (.iconst 0, 1) := dk_3 (dk_at dksX5_clause_22 9 rfl rfl)
theorem dX5_clause_595 : decode cX5_clause 595 = .ok (.bipush 8, 2) := dk_16 8 (dk_at dksX5_clause_22 10 rfl rfl)
theorem dX5_clause_597 : decode cX5_clause 597 = .ok (.invokevirtual 68, 3) := dk_182 0 68 (dk_at dksX5_clause_22 12 rfl rfl)
theorem dX5_clause_600 : decode cX5_clause 600 = .ok (.putfield 117, 3) := dk_181 0 117 (dk_at dksX5_clause_22 15 rfl rfl)
theorem dX5_clause_603 : decode cX5_clause 603 = .ok (.return_, 1) := dk_177 (dk_at dksX5_clause_22 18 rfl rfl)
theorem dX5_clause_604 : decode cX5_clause 604 = .ok (.aload_n 1, 1) := dk_43 (dk_at dksX5_clause_22 19 rfl rfl)
theorem dX5_clause_605 : decode cX5_clause 605 = .ok (.aload_n 0, 1) := dk_42 (dk_at dksX5_clause_22 20 rfl rfl)
theorem dX5_clause_606 : decode cX5_clause 606 = .ok (.iconst 1, 1) := dk_4 (dk_at dksX5_clause_22 21 rfl rfl)
theorem dX5_clause_607 : decode cX5_clause 607 = .ok (.bipush 15, 2) := dk_16 15 (dk_at dksX5_clause_22 22 rfl rfl)
theorem dX5_clause_609 : decode cX5_clause 609 = .ok (.invokevirtual 68, 3) := dk_182 0 68 (dk_at dksX5_clause_23 0 rfl rfl)
theorem dX5_clause_612 : decode cX5_clause 612 = .ok (.putfield 119, 3) := dk_181 0 119 (dk_at dksX5_clause_23 3 rfl rfl)
theorem dX5_clause_615 : decode cX5_clause 615 = .ok (.return_, 1) := dk_177 (dk_at dksX5_clause_23 6 rfl rfl)
abbrev cX5_word : ByteArray := prog_6_method_3_code
def yX5_word : MethodName := ⟨RX5, "word", "()Ljava/lang/String;"⟩
def dkwX5_word_3 : List UInt8 := [132, 2, 1, 167, 255, 202, 43, 182, 0, 36, 176]
abbrev dktX5_word_3 : List UInt8 := dkwX5_word_3 ++ []
def dkwX5_word_2 : List UInt8 := [163, 0, 30, 43, 182, 0, 29, 16, 7, 162, 0, 21, 43, 42, 180, 0, 9, 28, 51, 146, 182, 0, 32, 87]
abbrev dktX5_word_2 : List UInt8 := dkwX5_word_2 ++ dktX5_word_3
def dkwX5_word_1 : List UInt8 := [162, 0, 52, 42, 180, 0, 9, 28, 51, 16, 97, 161, 0, 41, 42, 180, 0, 9, 28, 51, 16, 122]
abbrev dktX5_word_1 : List UInt8 := dkwX5_word_1 ++ dktX5_word_2
def dkwX5_word_0 : List UInt8 := [42, 182, 0, 22, 87, 187, 0, 26, 89, 183, 0, 28, 76, 42, 180, 0, 19, 61, 28, 42, 180, 0, 15]
abbrev dktX5_word_0 : List UInt8 := dkwX5_word_0 ++ dktX5_word_1
theorem dksX5_word_0 : cX5_word.data.toList.drop 0 = dktX5_word_0 := by decide +kernel
theorem dksX5_word_1 : cX5_word.data.toList.drop 23 = dktX5_word_1 := dk_seg dksX5_word_0 23 rfl rfl
theorem dksX5_word_2 : cX5_word.data.toList.drop 45 = dktX5_word_2 := dk_seg dksX5_word_1 22 rfl rfl
theorem dksX5_word_3 : cX5_word.data.toList.drop 69 = dktX5_word_3 := dk_seg dksX5_word_2 24 rfl rfl
theorem dX5_word_0 : decode cX5_word 0 = .ok (.aload_n 0, 1) := dk_42 (dk_at dksX5_word_0 0 rfl rfl)
theorem dX5_word_1 : decode cX5_word 1 = .ok (.invokevirtual 22, 3) := dk_182 0 22 (dk_at dksX5_word_0 1 rfl rfl)
theorem dX5_word_4 : decode cX5_word 4 = .ok (.pop, 1) := dk_87 (dk_at dksX5_word_0 4 rfl rfl)
theorem dX5_word_5 : decode cX5_word 5 = .ok (.new 26, 3) := dk_187 0 26 (dk_at dksX5_word_0 5 rfl rfl)
theorem dX5_word_8 : decode cX5_word 8 = .ok (.dup, 1) := dk_89 (dk_at dksX5_word_0 8 rfl rfl)
theorem dX5_word_9 : decode cX5_word 9 = .ok (.invokespecial 28, 3) := dk_183 0 28 (dk_at dksX5_word_0 9 rfl rfl)
theorem dX5_word_12 : decode cX5_word 12 = .ok (.astore_n 1, 1) := dk_76 (dk_at dksX5_word_0 12 rfl rfl)
theorem dX5_word_13 : decode cX5_word 13 = .ok (.aload_n 0, 1) := dk_42 (dk_at dksX5_word_0 13 rfl rfl)
theorem dX5_word_14 : decode cX5_word 14 = .ok (.getfield 19, 3) := dk_180 0 19 (dk_at dksX5_word_0 14 rfl rfl)
theorem dX5_word_17 : decode cX5_word 17 = .ok (.istore_n 2, 1) := dk_61 (dk_at dksX5_word_0 17 rfl rfl)
theorem dX5_word_18 : decode cX5_word 18 = .ok (.iload_n 2, 1) := dk_28 (dk_at dksX5_word_0 18 rfl rfl)
theorem dX5_word_19 : decode cX5_word 19 = .ok (.aload_n 0, 1) := dk_42 (dk_at dksX5_word_0 19 rfl rfl)
theorem dX5_word_20 : decode cX5_word 20 = .ok (.getfield 15, 3) := dk_180 0 15 (dk_at dksX5_word_0 20 rfl rfl)
theorem dX5_word_23 : decode cX5_word 23 = .ok (.if_icmp .ge 52, 3) := dk_162 0 52 (dk_at dksX5_word_1 0 rfl rfl)
theorem dX5_word_26 : decode cX5_word 26 = .ok (.aload_n 0, 1) := dk_42 (dk_at dksX5_word_1 3 rfl rfl)
theorem dX5_word_27 : decode cX5_word 27 = .ok (.getfield 9, 3) := dk_180 0 9 (dk_at dksX5_word_1 4 rfl rfl)
theorem dX5_word_30 : decode cX5_word 30 = .ok (.iload_n 2, 1) := dk_28 (dk_at dksX5_word_1 7 rfl rfl)
theorem dX5_word_31 : decode cX5_word 31 = .ok (.baload, 1) := dk_51 (dk_at dksX5_word_1 8 rfl rfl)
theorem dX5_word_32 : decode cX5_word 32 = .ok (.bipush 97, 2) := dk_16 97 (dk_at dksX5_word_1 9 rfl rfl)
theorem dX5_word_34 : decode cX5_word 34 = .ok (.if_icmp .lt 41, 3) := dk_161 0 41 (dk_at dksX5_word_1 11 rfl rfl)
theorem dX5_word_37 : decode cX5_word 37 = .ok (.aload_n 0, 1) := dk_42 (dk_at dksX5_word_1 14 rfl rfl)
theorem dX5_word_38 : decode cX5_word 38 = .ok (.getfield 9, 3) := dk_180 0 9 (dk_at dksX5_word_1 15 rfl rfl)
theorem dX5_word_41 : decode cX5_word 41 = .ok (.iload_n 2, 1) := dk_28 (dk_at dksX5_word_1 18 rfl rfl)
theorem dX5_word_42 : decode cX5_word 42 = .ok (.baload, 1) := dk_51 (dk_at dksX5_word_1 19 rfl rfl)
theorem dX5_word_43 : decode cX5_word 43 = .ok (.bipush 122, 2) := dk_16 122 (dk_at dksX5_word_1 20 rfl rfl)
theorem dX5_word_45 : decode cX5_word 45 = .ok (.if_icmp .gt 30, 3) := dk_163 0 30 (dk_at dksX5_word_2 0 rfl rfl)
theorem dX5_word_48 : decode cX5_word 48 = .ok (.aload_n 1, 1) := dk_43 (dk_at dksX5_word_2 3 rfl rfl)
theorem dX5_word_49 : decode cX5_word 49 = .ok (.invokevirtual 29, 3) := dk_182 0 29 (dk_at dksX5_word_2 4 rfl rfl)
theorem dX5_word_52 : decode cX5_word 52 = .ok (.bipush 7, 2) := dk_16 7 (dk_at dksX5_word_2 7 rfl rfl)
theorem dX5_word_54 : decode cX5_word 54 = .ok (.if_icmp .ge 21, 3) := dk_162 0 21 (dk_at dksX5_word_2 9 rfl rfl)
theorem dX5_word_57 : decode cX5_word 57 = .ok (.aload_n 1, 1) := dk_43 (dk_at dksX5_word_2 12 rfl rfl)
theorem dX5_word_58 : decode cX5_word 58 = .ok (.aload_n 0, 1) := dk_42 (dk_at dksX5_word_2 13 rfl rfl)
theorem dX5_word_59 : decode cX5_word 59 = .ok (.getfield 9, 3) := dk_180 0 9 (dk_at dksX5_word_2 14 rfl rfl)
theorem dX5_word_62 : decode cX5_word 62 = .ok (.iload_n 2, 1) := dk_28 (dk_at dksX5_word_2 17 rfl rfl)
theorem dX5_word_63 : decode cX5_word 63 = .ok (.baload, 1) := dk_51 (dk_at dksX5_word_2 18 rfl rfl)
theorem dX5_word_64 : decode cX5_word 64 = .ok (.i2c, 1) := dk_146 (dk_at dksX5_word_2 19 rfl rfl)
theorem dX5_word_65 : decode cX5_word 65 = .ok (.invokevirtual 32, 3) := dk_182 0 32 (dk_at dksX5_word_2 20 rfl rfl)
theorem dX5_word_68 : decode cX5_word 68 = .ok (.pop, 1) := dk_87 (dk_at dksX5_word_2 23 rfl rfl)
theorem dX5_word_69 : decode cX5_word 69 = .ok (.iinc 2 1, 3) := dk_132 2 1 (dk_at dksX5_word_3 0 rfl rfl)
theorem dX5_word_72 : decode cX5_word 72 = .ok (.goto (-54), 3) := dk_167 255 202 (dk_at dksX5_word_3 3 rfl rfl)
theorem dX5_word_75 : decode cX5_word 75 = .ok (.aload_n 1, 1) := dk_43 (dk_at dksX5_word_3 6 rfl rfl)
theorem dX5_word_76 : decode cX5_word 76 = .ok (.invokevirtual 36, 3) := dk_182 0 36 (dk_at dksX5_word_3 7 rfl rfl)
theorem dX5_word_79 : decode cX5_word 79 = .ok (.areturn, 1) := dk_176 (dk_at dksX5_word_3 10 rfl rfl)
abbrev cX5_wrong : ByteArray := prog_6_method_4_code
def yX5_wrong : MethodName := ⟨RX5, "wrong", "()LWoolThreads$Wrong;"⟩
def dkwX5_wrong_0 : List UInt8 := [187, 0, 40, 89, 4, 42, 180, 0, 19, 183, 0, 42, 176]
abbrev dktX5_wrong_0 : List UInt8 := dkwX5_wrong_0 ++ []
theorem dksX5_wrong_0 : cX5_wrong.data.toList.drop 0 = dktX5_wrong_0 := by decide +kernel
theorem dX5_wrong_0 : decode cX5_wrong 0 = .ok (.new 40, 3) := dk_187 0 40 (dk_at dksX5_wrong_0 0 rfl rfl)
theorem dX5_wrong_3 : decode cX5_wrong 3 = .ok (.dup, 1) := dk_89 (dk_at dksX5_wrong_0 3 rfl rfl)
theorem dX5_wrong_4 : decode cX5_wrong 4 = .ok (.iconst 1, 1) := dk_4 (dk_at dksX5_wrong_0 4 rfl rfl)
theorem dX5_wrong_5 : decode cX5_wrong 5 = .ok (.aload_n 0, 1) := dk_42 (dk_at dksX5_wrong_0 5 rfl rfl)
theorem dX5_wrong_6 : decode cX5_wrong 6 = .ok (.getfield 19, 3) := dk_180 0 19 (dk_at dksX5_wrong_0 6 rfl rfl)
theorem dX5_wrong_9 : decode cX5_wrong 9 = .ok (.invokespecial 42, 3) := dk_183 0 42 (dk_at dksX5_wrong_0 9 rfl rfl)
theorem dX5_wrong_12 : decode cX5_wrong 12 = .ok (.areturn, 1) := dk_176 (dk_at dksX5_wrong_0 12 rfl rfl)
abbrev cX5_number : ByteArray := prog_6_method_7_code
def yX5_number : MethodName := ⟨RX5, "number", "(II)I"⟩
def dkwX5_number_5 : List UInt8 := [164, 0, 16, 187, 0, 40, 89, 5, 42, 180, 0, 59, 183, 0, 42, 191, 21, 4, 172]
abbrev dktX5_number_5 : List UInt8 := dkwX5_number_5 ++ []
def dkwX5_number_4 : List UInt8 := [54, 4, 42, 89, 180, 0, 19, 4, 96, 181, 0, 19, 167, 255, 181, 21, 4, 27, 161, 0, 9, 21, 4, 28]
abbrev dktX5_number_4 : List UInt8 := dkwX5_number_4 ++ dktX5_number_5
def dkwX5_number_3 : List UInt8 := [16, 10, 21, 4, 104, 42, 180, 0, 9, 42, 180, 0, 19, 51, 96, 16, 48, 100, 17, 3, 232, 184, 0, 62]
abbrev dktX5_number_3 : List UInt8 := dkwX5_number_3 ++ dktX5_number_4
def dkwX5_number_2 : List UInt8 := [42, 180, 0, 19, 51, 16, 48, 161, 0, 56, 42, 180, 0, 9, 42, 180, 0, 19, 51, 16, 57, 163, 0, 42]
abbrev dktX5_number_2 : List UInt8 := dkwX5_number_2 ++ dktX5_number_3
def dkwX5_number_1 : List UInt8 := [180, 0, 19, 181, 0, 59, 3, 54, 4, 42, 180, 0, 19, 42, 180, 0, 15, 162, 0, 70, 42, 180, 0, 9]
abbrev dktX5_number_1 : List UInt8 := dkwX5_number_1 ++ dktX5_number_2
def dkwX5_number_0 : List UInt8 := [42, 182, 0, 22, 62, 29, 16, 48, 161, 0, 9, 29, 16, 57, 164, 0, 8, 42, 182, 0, 45, 191, 42, 42]
abbrev dktX5_number_0 : List UInt8 := dkwX5_number_0 ++ dktX5_number_1
theorem dksX5_number_0 : cX5_number.data.toList.drop 0 = dktX5_number_0 := by decide +kernel
theorem dksX5_number_1 : cX5_number.data.toList.drop 24 = dktX5_number_1 := dk_seg dksX5_number_0 24 rfl rfl
theorem dksX5_number_2 : cX5_number.data.toList.drop 48 = dktX5_number_2 := dk_seg dksX5_number_1 24 rfl rfl
theorem dksX5_number_3 : cX5_number.data.toList.drop 72 = dktX5_number_3 := dk_seg dksX5_number_2 24 rfl rfl
theorem dksX5_number_4 : cX5_number.data.toList.drop 96 = dktX5_number_4 := dk_seg dksX5_number_3 24 rfl rfl
theorem dksX5_number_5 : cX5_number.data.toList.drop 120 = dktX5_number_5 := dk_seg dksX5_number_4 24 rfl rfl
theorem dX5_number_0 : decode cX5_number 0 = .ok (.aload_n 0, 1) := dk_42 (dk_at dksX5_number_0 0 rfl rfl)
theorem dX5_number_1 : decode cX5_number 1 = .ok (.invokevirtual 22, 3) := dk_182 0 22 (dk_at dksX5_number_0 1 rfl rfl)
theorem dX5_number_4 : decode cX5_number 4 = .ok (.istore_n 3, 1) := dk_62 (dk_at dksX5_number_0 4 rfl rfl)
theorem dX5_number_5 : decode cX5_number 5 = .ok (.iload_n 3, 1) := dk_29 (dk_at dksX5_number_0 5 rfl rfl)
theorem dX5_number_6 : decode cX5_number 6 = .ok (.bipush 48, 2) := dk_16 48 (dk_at dksX5_number_0 6 rfl rfl)
theorem dX5_number_8 : decode cX5_number 8 = .ok (.if_icmp .lt 9, 3) := dk_161 0 9 (dk_at dksX5_number_0 8 rfl rfl)
theorem dX5_number_11 : decode cX5_number 11 = .ok (.iload_n 3, 1) := dk_29 (dk_at dksX5_number_0 11 rfl rfl)
theorem dX5_number_12 : decode cX5_number 12 = .ok (.bipush 57, 2) := dk_16 57 (dk_at dksX5_number_0 12 rfl rfl)
theorem dX5_number_14 : decode cX5_number 14 = .ok (.if_icmp .le 8, 3) := dk_164 0 8 (dk_at dksX5_number_0 14 rfl rfl)
theorem dX5_number_17 : decode cX5_number 17 = .ok (.aload_n 0, 1) := dk_42 (dk_at dksX5_number_0 17 rfl rfl)
theorem dX5_number_18 : decode cX5_number 18 = .ok (.invokevirtual 45, 3) := dk_182 0 45 (dk_at dksX5_number_0 18 rfl rfl)
theorem dX5_number_21 : decode cX5_number 21 = .ok (.athrow, 1) := dk_191 (dk_at dksX5_number_0 21 rfl rfl)
theorem dX5_number_22 : decode cX5_number 22 = .ok (.aload_n 0, 1) := dk_42 (dk_at dksX5_number_0 22 rfl rfl)
theorem dX5_number_23 : decode cX5_number 23 = .ok (.aload_n 0, 1) := dk_42 (dk_at dksX5_number_0 23 rfl rfl)
theorem dX5_number_24 : decode cX5_number 24 = .ok (.getfield 19, 3) := dk_180 0 19 (dk_at dksX5_number_1 0 rfl rfl)
theorem dX5_number_27 : decode cX5_number 27 = .ok (.putfield 59, 3) := dk_181 0 59 (dk_at dksX5_number_1 3 rfl rfl)
theorem dX5_number_30 : decode cX5_number 30 = .ok (.iconst 0, 1) := dk_3 (dk_at dksX5_number_1 6 rfl rfl)
theorem dX5_number_31 : decode cX5_number 31 = .ok (.istore 4, 2) := dk_54 4 (dk_at dksX5_number_1 7 rfl rfl)
theorem dX5_number_33 : decode cX5_number 33 = .ok (.aload_n 0, 1) := dk_42 (dk_at dksX5_number_1 9 rfl rfl)
theorem dX5_number_34 : decode cX5_number 34 = .ok (.getfield 19, 3) := dk_180 0 19 (dk_at dksX5_number_1 10 rfl rfl)
theorem dX5_number_37 : decode cX5_number 37 = .ok (.aload_n 0, 1) := dk_42 (dk_at dksX5_number_1 13 rfl rfl)
theorem dX5_number_38 : decode cX5_number 38 = .ok (.getfield 15, 3) := dk_180 0 15 (dk_at dksX5_number_1 14 rfl rfl)
theorem dX5_number_41 : decode cX5_number 41 = .ok (.if_icmp .ge 70, 3) := dk_162 0 70 (dk_at dksX5_number_1 17 rfl rfl)
theorem dX5_number_44 : decode cX5_number 44 = .ok (.aload_n 0, 1) := dk_42 (dk_at dksX5_number_1 20 rfl rfl)
theorem dX5_number_45 : decode cX5_number 45 = .ok (.getfield 9, 3) := dk_180 0 9 (dk_at dksX5_number_1 21 rfl rfl)
theorem dX5_number_48 : decode cX5_number 48 = .ok (.aload_n 0, 1) := dk_42 (dk_at dksX5_number_2 0 rfl rfl)
theorem dX5_number_49 : decode cX5_number 49 = .ok (.getfield 19, 3) := dk_180 0 19 (dk_at dksX5_number_2 1 rfl rfl)
theorem dX5_number_52 : decode cX5_number 52 = .ok (.baload, 1) := dk_51 (dk_at dksX5_number_2 4 rfl rfl)
theorem dX5_number_53 : decode cX5_number 53 = .ok (.bipush 48, 2) := dk_16 48 (dk_at dksX5_number_2 5 rfl rfl)
theorem dX5_number_55 : decode cX5_number 55 = .ok (.if_icmp .lt 56, 3) := dk_161 0 56 (dk_at dksX5_number_2 7 rfl rfl)
theorem dX5_number_58 : decode cX5_number 58 = .ok (.aload_n 0, 1) := dk_42 (dk_at dksX5_number_2 10 rfl rfl)
theorem dX5_number_59 : decode cX5_number 59 = .ok (.getfield 9, 3) := dk_180 0 9 (dk_at dksX5_number_2 11 rfl rfl)
theorem dX5_number_62 : decode cX5_number 62 = .ok (.aload_n 0, 1) := dk_42 (dk_at dksX5_number_2 14 rfl rfl)
theorem dX5_number_63 : decode cX5_number 63 = .ok (.getfield 19, 3) := dk_180 0 19 (dk_at dksX5_number_2 15 rfl rfl)
theorem dX5_number_66 : decode cX5_number 66 = .ok (.baload, 1) := dk_51 (dk_at dksX5_number_2 18 rfl rfl)
theorem dX5_number_67 : decode cX5_number 67 = .ok (.bipush 57, 2) := dk_16 57 (dk_at dksX5_number_2 19 rfl rfl)
theorem dX5_number_69 : decode cX5_number 69 = .ok (.if_icmp .gt 42, 3) := dk_163 0 42 (dk_at dksX5_number_2 21 rfl rfl)
theorem dX5_number_72 : decode cX5_number 72 = .ok (.bipush 10, 2) := dk_16 10 (dk_at dksX5_number_3 0 rfl rfl)
theorem dX5_number_74 : decode cX5_number 74 = .ok (.iload 4, 2) := dk_21 4 (dk_at dksX5_number_3 2 rfl rfl)
theorem dX5_number_76 : decode cX5_number 76 = .ok (.imul, 1) := dk_104 (dk_at dksX5_number_3 4 rfl rfl)
theorem dX5_number_77 : decode cX5_number 77 = .ok (.aload_n 0, 1) := dk_42 (dk_at dksX5_number_3 5 rfl rfl)
theorem dX5_number_78 : decode cX5_number 78 = .ok (.getfield 9, 3) := dk_180 0 9 (dk_at dksX5_number_3 6 rfl rfl)
theorem dX5_number_81 : decode cX5_number 81 = .ok (.aload_n 0, 1) := dk_42 (dk_at dksX5_number_3 9 rfl rfl)
theorem dX5_number_82 : decode cX5_number 82 = .ok (.getfield 19, 3) := dk_180 0 19 (dk_at dksX5_number_3 10 rfl rfl)
theorem dX5_number_85 : decode cX5_number 85 = .ok (.baload, 1) := dk_51 (dk_at dksX5_number_3 13 rfl rfl)
theorem dX5_number_86 : decode cX5_number 86 = .ok (.iadd, 1) := dk_96 (dk_at dksX5_number_3 14 rfl rfl)
theorem dX5_number_87 : decode cX5_number 87 = .ok (.bipush 48, 2) := dk_16 48 (dk_at dksX5_number_3 15 rfl rfl)
theorem dX5_number_89 : decode cX5_number 89 = .ok (.isub, 1) := dk_100 (dk_at dksX5_number_3 17 rfl rfl)
theorem dX5_number_90 : decode cX5_number 90 = .ok (.sipush 1000, 3) := dk_17 3 232 (dk_at dksX5_number_3 18 rfl rfl)
theorem dX5_number_93 : decode cX5_number 93 = .ok (.invokestatic 62, 3) := dk_184 0 62 (dk_at dksX5_number_3 21 rfl rfl)
theorem dX5_number_96 : decode cX5_number 96 = .ok (.istore 4, 2) := dk_54 4 (dk_at dksX5_number_4 0 rfl rfl)
theorem dX5_number_98 : decode cX5_number 98 = .ok (.aload_n 0, 1) := dk_42 (dk_at dksX5_number_4 2 rfl rfl)
theorem dX5_number_99 : decode cX5_number 99 = .ok (.dup, 1) := dk_89 (dk_at dksX5_number_4 3 rfl rfl)
theorem dX5_number_100 : decode cX5_number 100 = .ok (.getfield 19, 3) := dk_180 0 19 (dk_at dksX5_number_4 4 rfl rfl)
theorem dX5_number_103 : decode cX5_number 103 = .ok (.iconst 1, 1) := dk_4 (dk_at dksX5_number_4 7 rfl rfl)
theorem dX5_number_104 : decode cX5_number 104 = .ok (.iadd, 1) := dk_96 (dk_at dksX5_number_4 8 rfl rfl)
theorem dX5_number_105 : decode cX5_number 105 = .ok (.putfield 19, 3) := dk_181 0 19 (dk_at dksX5_number_4 9 rfl rfl)
theorem dX5_number_108 : decode cX5_number 108 = .ok (.goto (-75), 3) := dk_167 255 181 (dk_at dksX5_number_4 12 rfl rfl)
theorem dX5_number_111 : decode cX5_number 111 = .ok (.iload 4, 2) := dk_21 4 (dk_at dksX5_number_4 15 rfl rfl)
theorem dX5_number_113 : decode cX5_number 113 = .ok (.iload_n 1, 1) := dk_27 (dk_at dksX5_number_4 17 rfl rfl)
theorem dX5_number_114 : decode cX5_number 114 = .ok (.if_icmp .lt 9, 3) := dk_161 0 9 (dk_at dksX5_number_4 18 rfl rfl)
theorem dX5_number_117 : decode cX5_number 117 = .ok (.iload 4, 2) := dk_21 4 (dk_at dksX5_number_4 21 rfl rfl)
theorem dX5_number_119 : decode cX5_number 119 = .ok (.iload_n 2, 1) := dk_28 (dk_at dksX5_number_4 23 rfl rfl)
theorem dX5_number_120 : decode cX5_number 120 = .ok (.if_icmp .le 16, 3) := dk_164 0 16 (dk_at dksX5_number_5 0 rfl rfl)
theorem dX5_number_123 : decode cX5_number 123 = .ok (.new 40, 3) := dk_187 0 40 (dk_at dksX5_number_5 3 rfl rfl)
theorem dX5_number_126 : decode cX5_number 126 = .ok (.dup, 1) := dk_89 (dk_at dksX5_number_5 6 rfl rfl)
theorem dX5_number_127 : decode cX5_number 127 = .ok (.iconst 2, 1) := dk_5 (dk_at dksX5_number_5 7 rfl rfl)
theorem dX5_number_128 : decode cX5_number 128 = .ok (.aload_n 0, 1) := dk_42 (dk_at dksX5_number_5 8 rfl rfl)
theorem dX5_number_129 : decode cX5_number 129 = .ok (.getfield 59, 3) := dk_180 0 59 (dk_at dksX5_number_5 9 rfl rfl)
theorem dX5_number_132 : decode cX5_number 132 = .ok (.invokespecial 42, 3) := dk_183 0 42 (dk_at dksX5_number_5 12 rfl rfl)
theorem dX5_number_135 : decode cX5_number 135 = .ok (.athrow, 1) := dk_191 (dk_at dksX5_number_5 15 rfl rfl)
theorem dX5_number_136 : decode cX5_number 136 = .ok (.iload 4, 2) := dk_21 4 (dk_at dksX5_number_5 16 rfl rfl)
theorem dX5_number_138 : decode cX5_number 138 = .ok (.ireturn, 1) := dk_172 (dk_at dksX5_number_5 18 rfl rfl)
abbrev cX5_other : ByteArray := prog_6_method_8_code
def yX5_other : MethodName := ⟨RX5, "other", "(II)I"⟩
def dkwX5_other_1 : List UInt8 := [183, 0, 42, 191, 29, 172]
abbrev dktX5_other_1 : List UInt8 := dkwX5_other_1 ++ []
def dkwX5_other_0 : List UInt8 := [42, 3, 28, 4, 100, 182, 0, 68, 62, 29, 27, 160, 0, 16, 187, 0, 40, 89, 5, 42, 180, 0, 59]
abbrev dktX5_other_0 : List UInt8 := dkwX5_other_0 ++ dktX5_other_1
theorem dksX5_other_0 : cX5_other.data.toList.drop 0 = dktX5_other_0 := by decide +kernel
theorem dksX5_other_1 : cX5_other.data.toList.drop 23 = dktX5_other_1 := dk_seg dksX5_other_0 23 rfl rfl
theorem dX5_other_0 : decode cX5_other 0 = .ok (.aload_n 0, 1) := dk_42 (dk_at dksX5_other_0 0 rfl rfl)
theorem dX5_other_1 : decode cX5_other 1 = .ok (.iconst 0, 1) := dk_3 (dk_at dksX5_other_0 1 rfl rfl)
theorem dX5_other_2 : decode cX5_other 2 = .ok (.iload_n 2, 1) := dk_28 (dk_at dksX5_other_0 2 rfl rfl)
theorem dX5_other_3 : decode cX5_other 3 = .ok (.iconst 1, 1) := dk_4 (dk_at dksX5_other_0 3 rfl rfl)
theorem dX5_other_4 : decode cX5_other 4 = .ok (.isub, 1) := dk_100 (dk_at dksX5_other_0 4 rfl rfl)
theorem dX5_other_5 : decode cX5_other 5 = .ok (.invokevirtual 68, 3) := dk_182 0 68 (dk_at dksX5_other_0 5 rfl rfl)
theorem dX5_other_8 : decode cX5_other 8 = .ok (.istore_n 3, 1) := dk_62 (dk_at dksX5_other_0 8 rfl rfl)
theorem dX5_other_9 : decode cX5_other 9 = .ok (.iload_n 3, 1) := dk_29 (dk_at dksX5_other_0 9 rfl rfl)
theorem dX5_other_10 : decode cX5_other 10 = .ok (.iload_n 1, 1) := dk_27 (dk_at dksX5_other_0 10 rfl rfl)
theorem dX5_other_11 : decode cX5_other 11 = .ok (.if_icmp .ne 16, 3) := dk_160 0 16 (dk_at dksX5_other_0 11 rfl rfl)
theorem dX5_other_14 : decode cX5_other 14 = .ok (.new 40, 3) := dk_187 0 40 (dk_at dksX5_other_0 14 rfl rfl)
theorem dX5_other_17 : decode cX5_other 17 = .ok (.dup, 1) := dk_89 (dk_at dksX5_other_0 17 rfl rfl)
theorem dX5_other_18 : decode cX5_other 18 = .ok (.iconst 2, 1) := dk_5 (dk_at dksX5_other_0 18 rfl rfl)
theorem dX5_other_19 : decode cX5_other 19 = .ok (.aload_n 0, 1) := dk_42 (dk_at dksX5_other_0 19 rfl rfl)
theorem dX5_other_20 : decode cX5_other 20 = .ok (.getfield 59, 3) := dk_180 0 59 (dk_at dksX5_other_0 20 rfl rfl)
theorem dX5_other_23 : decode cX5_other 23 = .ok (.invokespecial 42, 3) := dk_183 0 42 (dk_at dksX5_other_1 0 rfl rfl)
theorem dX5_other_26 : decode cX5_other 26 = .ok (.athrow, 1) := dk_191 (dk_at dksX5_other_1 3 rfl rfl)
theorem dX5_other_27 : decode cX5_other 27 = .ok (.iload_n 3, 1) := dk_29 (dk_at dksX5_other_1 4 rfl rfl)
theorem dX5_other_28 : decode cX5_other 28 = .ok (.ireturn, 1) := dk_172 (dk_at dksX5_other_1 5 rfl rfl)
abbrev cX5_need : ByteArray := prog_6_method_5_code
def yX5_need : MethodName := ⟨RX5, "need", "(I)V"⟩
def dkwX5_need_0 : List UInt8 := [42, 182, 0, 22, 27, 159, 0, 8, 42, 182, 0, 45, 191, 42, 89, 180, 0, 19, 4, 96, 181, 0, 19, 177]
abbrev dktX5_need_0 : List UInt8 := dkwX5_need_0 ++ []
theorem dksX5_need_0 : cX5_need.data.toList.drop 0 = dktX5_need_0 := by decide +kernel
theorem dX5_need_0 : decode cX5_need 0 = .ok (.aload_n 0, 1) := dk_42 (dk_at dksX5_need_0 0 rfl rfl)
theorem dX5_need_1 : decode cX5_need 1 = .ok (.invokevirtual 22, 3) := dk_182 0 22 (dk_at dksX5_need_0 1 rfl rfl)
theorem dX5_need_4 : decode cX5_need 4 = .ok (.iload_n 1, 1) := dk_27 (dk_at dksX5_need_0 4 rfl rfl)
theorem dX5_need_5 : decode cX5_need 5 = .ok (.if_icmp .eq 8, 3) := dk_159 0 8 (dk_at dksX5_need_0 5 rfl rfl)
theorem dX5_need_8 : decode cX5_need 8 = .ok (.aload_n 0, 1) := dk_42 (dk_at dksX5_need_0 8 rfl rfl)
theorem dX5_need_9 : decode cX5_need 9 = .ok (.invokevirtual 45, 3) := dk_182 0 45 (dk_at dksX5_need_0 9 rfl rfl)
theorem dX5_need_12 : decode cX5_need 12 = .ok (.athrow, 1) := dk_191 (dk_at dksX5_need_0 12 rfl rfl)
theorem dX5_need_13 : decode cX5_need 13 = .ok (.aload_n 0, 1) := dk_42 (dk_at dksX5_need_0 13 rfl rfl)
theorem dX5_need_14 : decode cX5_need 14 = .ok (.dup, 1) := dk_89 (dk_at dksX5_need_0 14 rfl rfl)
theorem dX5_need_15 : decode cX5_need 15 = .ok (.getfield 19, 3) := dk_180 0 19 (dk_at dksX5_need_0 15 rfl rfl)
theorem dX5_need_18 : decode cX5_need 18 = .ok (.iconst 1, 1) := dk_4 (dk_at dksX5_need_0 18 rfl rfl)
theorem dX5_need_19 : decode cX5_need 19 = .ok (.iadd, 1) := dk_96 (dk_at dksX5_need_0 19 rfl rfl)
theorem dX5_need_20 : decode cX5_need 20 = .ok (.putfield 19, 3) := dk_181 0 19 (dk_at dksX5_need_0 20 rfl rfl)
theorem dX5_need_23 : decode cX5_need 23 = .ok (.return_, 1) := dk_177 (dk_at dksX5_need_0 23 rfl rfl)
abbrev cX5_story : ByteArray := prog_6_method_11_code
def yX5_story : MethodName := ⟨RX5, "story", "()Ljava/util/ArrayList;"⟩
def dkwX5_story_2 : List UInt8 := [167, 255, 224, 43, 176]
abbrev dktX5_story_2 : List UInt8 := dkwX5_story_2 ++ []
def dkwX5_story_1 : List UInt8 := [162, 0, 27, 43, 42, 43, 182, 0, 125, 182, 0, 129, 87, 42, 16, 59, 182, 0, 78, 42, 182, 0, 22, 87]
abbrev dktX5_story_1 : List UInt8 := dkwX5_story_1 ++ dktX5_story_2
def dkwX5_story_0 : List UInt8 := [187, 0, 121, 89, 7, 183, 0, 123, 76, 42, 182, 0, 22, 87, 42, 180, 0, 19, 42, 180, 0, 15]
abbrev dktX5_story_0 : List UInt8 := dkwX5_story_0 ++ dktX5_story_1
theorem dksX5_story_0 : cX5_story.data.toList.drop 0 = dktX5_story_0 := by decide +kernel
theorem dksX5_story_1 : cX5_story.data.toList.drop 22 = dktX5_story_1 := dk_seg dksX5_story_0 22 rfl rfl
theorem dksX5_story_2 : cX5_story.data.toList.drop 46 = dktX5_story_2 := dk_seg dksX5_story_1 24 rfl rfl
theorem dX5_story_0 : decode cX5_story 0 = .ok (.new 121, 3) := dk_187 0 121 (dk_at dksX5_story_0 0 rfl rfl)
theorem dX5_story_3 : decode cX5_story 3 = .ok (.dup, 1) := dk_89 (dk_at dksX5_story_0 3 rfl rfl)
theorem dX5_story_4 : decode cX5_story 4 = .ok (.iconst 4, 1) := dk_7 (dk_at dksX5_story_0 4 rfl rfl)
theorem dX5_story_5 : decode cX5_story 5 = .ok (.invokespecial 123, 3) := dk_183 0 123 (dk_at dksX5_story_0 5 rfl rfl)
theorem dX5_story_8 : decode cX5_story 8 = .ok (.astore_n 1, 1) := dk_76 (dk_at dksX5_story_0 8 rfl rfl)
theorem dX5_story_9 : decode cX5_story 9 = .ok (.aload_n 0, 1) := dk_42 (dk_at dksX5_story_0 9 rfl rfl)
theorem dX5_story_10 : decode cX5_story 10 = .ok (.invokevirtual 22, 3) := dk_182 0 22 (dk_at dksX5_story_0 10 rfl rfl)
theorem dX5_story_13 : decode cX5_story 13 = .ok (.pop, 1) := dk_87 (dk_at dksX5_story_0 13 rfl rfl)
theorem dX5_story_14 : decode cX5_story 14 = .ok (.aload_n 0, 1) := dk_42 (dk_at dksX5_story_0 14 rfl rfl)
theorem dX5_story_15 : decode cX5_story 15 = .ok (.getfield 19, 3) := dk_180 0 19 (dk_at dksX5_story_0 15 rfl rfl)
theorem dX5_story_18 : decode cX5_story 18 = .ok (.aload_n 0, 1) := dk_42 (dk_at dksX5_story_0 18 rfl rfl)
theorem dX5_story_19 : decode cX5_story 19 = .ok (.getfield 15, 3) := dk_180 0 15 (dk_at dksX5_story_0 19 rfl rfl)
theorem dX5_story_22 : decode cX5_story 22 = .ok (.if_icmp .ge 27, 3) := dk_162 0 27 (dk_at dksX5_story_1 0 rfl rfl)
theorem dX5_story_25 : decode cX5_story 25 = .ok (.aload_n 1, 1) := dk_43 (dk_at dksX5_story_1 3 rfl rfl)
theorem dX5_story_26 : decode cX5_story 26 = .ok (.aload_n 0, 1) := dk_42 (dk_at dksX5_story_1 4 rfl rfl)
theorem dX5_story_27 : decode cX5_story 27 = .ok (.aload_n 1, 1) := dk_43 (dk_at dksX5_story_1 5 rfl rfl)
theorem dX5_story_28 : decode cX5_story 28 = .ok (.invokevirtual 125, 3) := dk_182 0 125 (dk_at dksX5_story_1 6 rfl rfl)
theorem dX5_story_31 : decode cX5_story 31 = .ok (.invokevirtual 129, 3) := dk_182 0 129 (dk_at dksX5_story_1 9 rfl rfl)
theorem dX5_story_34 : decode cX5_story 34 = .ok (.pop, 1) := dk_87 (dk_at dksX5_story_1 12 rfl rfl)
theorem dX5_story_35 : decode cX5_story 35 = .ok (.aload_n 0, 1) := dk_42 (dk_at dksX5_story_1 13 rfl rfl)
theorem dX5_story_36 : decode cX5_story 36 = .ok (.bipush 59, 2) := dk_16 59 (dk_at dksX5_story_1 14 rfl rfl)
theorem dX5_story_38 : decode cX5_story 38 = .ok (.invokevirtual 78, 3) := dk_182 0 78 (dk_at dksX5_story_1 16 rfl rfl)
theorem dX5_story_41 : decode cX5_story 41 = .ok (.aload_n 0, 1) := dk_42 (dk_at dksX5_story_1 19 rfl rfl)
theorem dX5_story_42 : decode cX5_story 42 = .ok (.invokevirtual 22, 3) := dk_182 0 22 (dk_at dksX5_story_1 20 rfl rfl)
theorem dX5_story_45 : decode cX5_story 45 = .ok (.pop, 1) := dk_87 (dk_at dksX5_story_1 23 rfl rfl)
theorem dX5_story_46 : decode cX5_story 46 = .ok (.goto (-32), 3) := dk_167 255 224 (dk_at dksX5_story_2 0 rfl rfl)
theorem dX5_story_49 : decode cX5_story 49 = .ok (.aload_n 1, 1) := dk_43 (dk_at dksX5_story_2 3 rfl rfl)
theorem dX5_story_50 : decode cX5_story 50 = .ok (.areturn, 1) := dk_176 (dk_at dksX5_story_2 4 rfl rfl)
abbrev cX5_event : ByteArray := prog_6_method_13_code
def yX5_event : MethodName := ⟨RX5, "event", "(Ljava/util/ArrayList;)LWoolThreads$Event;"⟩
def dkwX5_event_19 : List UInt8 := [21, 6, 42, 43, 182, 0, 163, 183, 0, 174, 176]
abbrev dktX5_event_19 : List UInt8 := dkwX5_event_19 ++ []
def dkwX5_event_18 : List UInt8 := [42, 43, 182, 0, 163, 183, 0, 174, 176, 42, 3, 16, 16, 182, 0, 68, 54, 6, 187, 0, 172, 89, 29]
abbrev dktX5_event_18 : List UInt8 := dkwX5_event_18 ++ dktX5_event_19
def dkwX5_event_17 : List UInt8 := [54, 6, 187, 0, 169, 89, 29, 21, 6, 42, 43, 182, 0, 163, 183, 0, 171, 176, 187, 0, 172, 89, 29, 2]
abbrev dktX5_event_17 : List UInt8 := dkwX5_event_17 ++ dktX5_event_18
def dkwX5_event_16 : List UInt8 := [176, 187, 0, 161, 89, 29, 2, 42, 43, 182, 0, 163, 183, 0, 166, 176, 42, 29, 16, 10, 182, 0, 109]
abbrev dktX5_event_16 : List UInt8 := dkwX5_event_16 ++ dktX5_event_17
def dkwX5_event_15 : List UInt8 := [42, 3, 16, 7, 182, 0, 68, 54, 6, 187, 0, 161, 89, 29, 21, 6, 42, 43, 182, 0, 163, 183, 0, 166]
abbrev dktX5_event_15 : List UInt8 := dkwX5_event_15 ++ dktX5_event_16
def dkwX5_event_14 : List UInt8 := [170, 0, 0, 0, 109, 0, 0, 0, 0, 0, 0, 0, 3, 0, 0, 0, 29, 0, 0, 0, 54, 0, 0, 0, 69, 0, 0, 0, 94]
abbrev dktX5_event_14 : List UInt8 := dkwX5_event_14 ++ dktX5_event_15
def dkwX5_event_13 : List UInt8 := [167, 0, 16, 25, 4, 18, 92, 182, 0, 52, 153, 0, 6, 6, 54, 5, 21, 5]
abbrev dktX5_event_13 : List UInt8 := dkwX5_event_13 ++ dktX5_event_14
def dkwX5_event_12 : List UInt8 := [153, 0, 38, 4, 54, 5, 167, 0, 32, 25, 4, 18, 157, 182, 0, 52, 153, 0, 22, 5, 54, 5]
abbrev dktX5_event_12 : List UInt8 := dkwX5_event_12 ++ dktX5_event_13
def dkwX5_event_11 : List UInt8 := [25, 4, 18, 153, 182, 0, 52, 153, 0, 54, 3, 54, 5, 167, 0, 48, 25, 4, 18, 155, 182, 0, 52]
abbrev dktX5_event_11 : List UInt8 := dkwX5_event_11 ++ dktX5_event_12
def dkwX5_event_10 : List UInt8 := [171, 0, 0, 0, 0, 103, 0, 0, 0, 4, 0, 46, 6, 178, 0, 0, 0, 58, 0, 55, 146, 159, 0, 0, 0, 90, 0, 55, 159, 127, 0, 0, 0, 42, 6, 150, 223, 63, 0, 0, 0, 74]
abbrev dktX5_event_10 : List UInt8 := dkwX5_event_10 ++ dktX5_event_11
def dkwX5_event_9 : List UInt8 := [182, 0, 68, 62, 44, 58, 4, 2, 54, 5, 25, 4, 182, 0, 85]
abbrev dktX5_event_9 : List UInt8 := dkwX5_event_9 ++ dktX5_event_10
def dkwX5_event_8 : List UInt8 := [180, 0, 19, 183, 0, 42, 191, 42, 89, 180, 0, 19, 44, 182, 0, 58, 96, 181, 0, 19, 42, 3, 16, 9]
abbrev dktX5_event_8 : List UInt8 := dkwX5_event_8 ++ dktX5_event_9
def dkwX5_event_7 : List UInt8 := [167, 0, 8, 42, 182, 0, 45, 191, 43, 182, 0, 142, 16, 20, 160, 0, 16, 187, 0, 40, 89, 6, 42]
abbrev dktX5_event_7 : List UInt8 := dkwX5_event_7 ++ dktX5_event_8
def dkwX5_event_6 : List UInt8 := [170, 0, 0, 0, 0, 37, 0, 0, 0, 0, 0, 0, 0, 4, 0, 0, 0, 34, 0, 0, 0, 34, 0, 0, 0, 34, 0, 0, 0, 34, 0, 0, 0, 34]
abbrev dktX5_event_6 : List UInt8 := dkwX5_event_6 ++ dktX5_event_7
def dkwX5_event_5 : List UInt8 := [21, 4]
abbrev dktX5_event_5 : List UInt8 := dkwX5_event_5 ++ dktX5_event_6
def dkwX5_event_4 : List UInt8 := [182, 0, 52, 153, 0, 21, 6, 54, 4, 167, 0, 15, 45, 18, 159, 182, 0, 52, 153, 0, 6, 7, 54, 4]
abbrev dktX5_event_4 : List UInt8 := dkwX5_event_4 ++ dktX5_event_5
def dkwX5_event_3 : List UInt8 := [4, 54, 4, 167, 0, 45, 45, 18, 157, 182, 0, 52, 153, 0, 36, 5, 54, 4, 167, 0, 30, 45, 18, 92]
abbrev dktX5_event_3 : List UInt8 := dkwX5_event_3 ++ dktX5_event_4
def dkwX5_event_2 : List UInt8 := [45, 18, 153, 182, 0, 52, 153, 0, 66, 3, 54, 4, 167, 0, 60, 45, 18, 155, 182, 0, 52, 153, 0, 51]
abbrev dktX5_event_2 : List UInt8 := dkwX5_event_2 ++ dktX5_event_3
def dkwX5_event_1 : List UInt8 := [171, 0, 0, 0, 0, 122, 0, 0, 0, 5, 0, 46, 6, 178, 0, 0, 0, 65, 0, 55, 146, 159, 0, 0, 0, 95, 0, 55, 159, 127, 0, 0, 0, 50, 6, 133, 79, 6, 0, 0, 0, 110, 6, 150, 223, 63, 0, 0, 0, 80]
abbrev dktX5_event_1 : List UInt8 := dkwX5_event_1 ++ dktX5_event_2
def dkwX5_event_0 : List UInt8 := [42, 182, 0, 49, 77, 44, 78, 2, 54, 4, 45, 182, 0, 85]
abbrev dktX5_event_0 : List UInt8 := dkwX5_event_0 ++ dktX5_event_1
theorem dksX5_event_0 : cX5_event.data.toList.drop 0 = dktX5_event_0 := by decide +kernel
theorem dksX5_event_1 : cX5_event.data.toList.drop 14 = dktX5_event_1 := dk_seg dksX5_event_0 14 rfl rfl
theorem dksX5_event_2 : cX5_event.data.toList.drop 64 = dktX5_event_2 := dk_seg dksX5_event_1 50 rfl rfl
theorem dksX5_event_3 : cX5_event.data.toList.drop 88 = dktX5_event_3 := dk_seg dksX5_event_2 24 rfl rfl
theorem dksX5_event_4 : cX5_event.data.toList.drop 112 = dktX5_event_4 := dk_seg dksX5_event_3 24 rfl rfl
theorem dksX5_event_5 : cX5_event.data.toList.drop 136 = dktX5_event_5 := dk_seg dksX5_event_4 24 rfl rfl
theorem dksX5_event_6 : cX5_event.data.toList.drop 138 = dktX5_event_6 := dk_seg dksX5_event_5 2 rfl rfl
theorem dksX5_event_7 : cX5_event.data.toList.drop 172 = dktX5_event_7 := dk_seg dksX5_event_6 34 rfl rfl
theorem dksX5_event_8 : cX5_event.data.toList.drop 195 = dktX5_event_8 := dk_seg dksX5_event_7 23 rfl rfl
theorem dksX5_event_9 : cX5_event.data.toList.drop 219 = dktX5_event_9 := dk_seg dksX5_event_8 24 rfl rfl
theorem dksX5_event_10 : cX5_event.data.toList.drop 234 = dktX5_event_10 := dk_seg dksX5_event_9 15 rfl rfl
theorem dksX5_event_11 : cX5_event.data.toList.drop 276 = dktX5_event_11 := dk_seg dksX5_event_10 42 rfl rfl
theorem dksX5_event_12 : cX5_event.data.toList.drop 299 = dktX5_event_12 := dk_seg dksX5_event_11 23 rfl rfl
theorem dksX5_event_13 : cX5_event.data.toList.drop 321 = dktX5_event_13 := dk_seg dksX5_event_12 22 rfl rfl
theorem dksX5_event_14 : cX5_event.data.toList.drop 339 = dktX5_event_14 := dk_seg dksX5_event_13 18 rfl rfl
theorem dksX5_event_15 : cX5_event.data.toList.drop 368 = dktX5_event_15 := dk_seg dksX5_event_14 29 rfl rfl
theorem dksX5_event_16 : cX5_event.data.toList.drop 392 = dktX5_event_16 := dk_seg dksX5_event_15 24 rfl rfl
theorem dksX5_event_17 : cX5_event.data.toList.drop 415 = dktX5_event_17 := dk_seg dksX5_event_16 23 rfl rfl
theorem dksX5_event_18 : cX5_event.data.toList.drop 439 = dktX5_event_18 := dk_seg dksX5_event_17 24 rfl rfl
theorem dksX5_event_19 : cX5_event.data.toList.drop 462 = dktX5_event_19 := dk_seg dksX5_event_18 23 rfl rfl
theorem dX5_event_0 : decode cX5_event 0 = .ok (.aload_n 0, 1) := dk_42 (dk_at dksX5_event_0 0 rfl rfl)
theorem dX5_event_1 : decode cX5_event 1 = .ok (.invokevirtual 49, 3) := dk_182 0 49 (dk_at dksX5_event_0 1 rfl rfl)
theorem dX5_event_4 : decode cX5_event 4 = .ok (.astore_n 2, 1) := dk_77 (dk_at dksX5_event_0 4 rfl rfl)
theorem dX5_event_5 : decode cX5_event 5 = .ok (.aload_n 2, 1) := dk_44 (dk_at dksX5_event_0 5 rfl rfl)
theorem dX5_event_6 : decode cX5_event 6 = .ok (.astore_n 3, 1) := dk_78 (dk_at dksX5_event_0 6 rfl rfl)
theorem dX5_event_7 : decode cX5_event 7 = .ok (.iconst (-1), 1) := dk_2 (dk_at dksX5_event_0 7 rfl rfl)
theorem dX5_event_8 : decode cX5_event 8 = .ok (.istore 4, 2) := dk_54 4 (dk_at dksX5_event_0 8 rfl rfl)
theorem dX5_event_10 : decode cX5_event 10 = .ok (.aload_n 3, 1) := dk_45 (dk_at dksX5_event_0 10 rfl rfl)
theorem dX5_event_11 : decode cX5_event 11 = .ok (.invokevirtual 85, 3) := dk_182 0 85 (dk_at dksX5_event_0 11 rfl rfl)
theorem dX5_event_14 : decode cX5_event 14 = .ok (.lookupswitch 122 #[(3016370, 65), (3642015, 95), (3645311, 50), (109399814, 110), (110550847, 80)], 50) := by decide +kernel
theorem dX5_event_64 : decode cX5_event 64 = .ok (.aload_n 3, 1) := dk_45 (dk_at dksX5_event_2 0 rfl rfl)
theorem dX5_event_65 : decode cX5_event 65 = .ok (.ldc 153, 2) := dk_18 153 (dk_at dksX5_event_2 1 rfl rfl)
theorem dX5_event_67 : decode cX5_event 67 = .ok (.invokevirtual 52, 3) := dk_182 0 52 (dk_at dksX5_event_2 3 rfl rfl)
theorem dX5_event_70 : decode cX5_event 70 = .ok (.ifCond .eq 66, 3) := dk_153 0 66 (dk_at dksX5_event_2 6 rfl rfl)
theorem dX5_event_73 : decode cX5_event 73 = .ok (.iconst 0, 1) := dk_3 (dk_at dksX5_event_2 9 rfl rfl)
theorem dX5_event_74 : decode cX5_event 74 = .ok (.istore 4, 2) := dk_54 4 (dk_at dksX5_event_2 10 rfl rfl)
theorem dX5_event_76 : decode cX5_event 76 = .ok (.goto 60, 3) := dk_167 0 60 (dk_at dksX5_event_2 12 rfl rfl)
theorem dX5_event_79 : decode cX5_event 79 = .ok (.aload_n 3, 1) := dk_45 (dk_at dksX5_event_2 15 rfl rfl)
theorem dX5_event_80 : decode cX5_event 80 = .ok (.ldc 155, 2) := dk_18 155 (dk_at dksX5_event_2 16 rfl rfl)
theorem dX5_event_82 : decode cX5_event 82 = .ok (.invokevirtual 52, 3) := dk_182 0 52 (dk_at dksX5_event_2 18 rfl rfl)
theorem dX5_event_85 : decode cX5_event 85 = .ok (.ifCond .eq 51, 3) := dk_153 0 51 (dk_at dksX5_event_2 21 rfl rfl)
theorem dX5_event_88 : decode cX5_event 88 = .ok (.iconst 1, 1) := dk_4 (dk_at dksX5_event_3 0 rfl rfl)
theorem dX5_event_89 : decode cX5_event 89 = .ok (.istore 4, 2) := dk_54 4 (dk_at dksX5_event_3 1 rfl rfl)
theorem dX5_event_91 : decode cX5_event 91 = .ok (.goto 45, 3) := dk_167 0 45 (dk_at dksX5_event_3 3 rfl rfl)
theorem dX5_event_94 : decode cX5_event 94 = .ok (.aload_n 3, 1) := dk_45 (dk_at dksX5_event_3 6 rfl rfl)
theorem dX5_event_95 : decode cX5_event 95 = .ok (.ldc 157, 2) := dk_18 157 (dk_at dksX5_event_3 7 rfl rfl)
theorem dX5_event_97 : decode cX5_event 97 = .ok (.invokevirtual 52, 3) := dk_182 0 52 (dk_at dksX5_event_3 9 rfl rfl)
theorem dX5_event_100 : decode cX5_event 100 = .ok (.ifCond .eq 36, 3) := dk_153 0 36 (dk_at dksX5_event_3 12 rfl rfl)
theorem dX5_event_103 : decode cX5_event 103 = .ok (.iconst 2, 1) := dk_5 (dk_at dksX5_event_3 15 rfl rfl)
theorem dX5_event_104 : decode cX5_event 104 = .ok (.istore 4, 2) := dk_54 4 (dk_at dksX5_event_3 16 rfl rfl)
theorem dX5_event_106 : decode cX5_event 106 = .ok (.goto 30, 3) := dk_167 0 30 (dk_at dksX5_event_3 18 rfl rfl)
theorem dX5_event_109 : decode cX5_event 109 = .ok (.aload_n 3, 1) := dk_45 (dk_at dksX5_event_3 21 rfl rfl)
theorem dX5_event_110 : decode cX5_event 110 = .ok (.ldc 92, 2) := dk_18 92 (dk_at dksX5_event_3 22 rfl rfl)
theorem dX5_event_112 : decode cX5_event 112 = .ok (.invokevirtual 52, 3) := dk_182 0 52 (dk_at dksX5_event_4 0 rfl rfl)
theorem dX5_event_115 : decode cX5_event 115 = .ok (.ifCond .eq 21, 3) := dk_153 0 21 (dk_at dksX5_event_4 3 rfl rfl)
theorem dX5_event_118 : decode cX5_event 118 = .ok (.iconst 3, 1) := dk_6 (dk_at dksX5_event_4 6 rfl rfl)
theorem dX5_event_119 : decode cX5_event 119 = .ok (.istore 4, 2) := dk_54 4 (dk_at dksX5_event_4 7 rfl rfl)
theorem dX5_event_121 : decode cX5_event 121 = .ok (.goto 15, 3) := dk_167 0 15 (dk_at dksX5_event_4 9 rfl rfl)
theorem dX5_event_124 : decode cX5_event 124 = .ok (.aload_n 3, 1) := dk_45 (dk_at dksX5_event_4 12 rfl rfl)
theorem dX5_event_125 : decode cX5_event 125 = .ok (.ldc 159, 2) := dk_18 159 (dk_at dksX5_event_4 13 rfl rfl)
theorem dX5_event_127 : decode cX5_event 127 = .ok (.invokevirtual 52, 3) := dk_182 0 52 (dk_at dksX5_event_4 15 rfl rfl)
theorem dX5_event_130 : decode cX5_event 130 = .ok (.ifCond .eq 6, 3) := dk_153 0 6 (dk_at dksX5_event_4 18 rfl rfl)
theorem dX5_event_133 : decode cX5_event 133 = .ok (.iconst 4, 1) := dk_7 (dk_at dksX5_event_4 21 rfl rfl)
theorem dX5_event_134 : decode cX5_event 134 = .ok (.istore 4, 2) := dk_54 4 (dk_at dksX5_event_4 22 rfl rfl)
theorem dX5_event_136 : decode cX5_event 136 = .ok (.iload 4, 2) := dk_21 4 (dk_at dksX5_event_5 0 rfl rfl)
theorem dX5_event_138 : decode cX5_event 138 = .ok (.tableswitch 37 0 4 #[34, 34, 34, 34, 34], 34) := by decide +kernel
theorem dX5_event_172 : decode cX5_event 172 = .ok (.goto 8, 3) := dk_167 0 8 (dk_at dksX5_event_7 0 rfl rfl)
theorem dX5_event_175 : decode cX5_event 175 = .ok (.aload_n 0, 1) := dk_42 (dk_at dksX5_event_7 3 rfl rfl)
theorem dX5_event_176 : decode cX5_event 176 = .ok (.invokevirtual 45, 3) := dk_182 0 45 (dk_at dksX5_event_7 4 rfl rfl)
theorem dX5_event_179 : decode cX5_event 179 = .ok (.athrow, 1) := dk_191 (dk_at dksX5_event_7 7 rfl rfl)
theorem dX5_event_180 : decode cX5_event 180 = .ok (.aload_n 1, 1) := dk_43 (dk_at dksX5_event_7 8 rfl rfl)
theorem dX5_event_181 : decode cX5_event 181 = .ok (.invokevirtual 142, 3) := dk_182 0 142 (dk_at dksX5_event_7 9 rfl rfl)
theorem dX5_event_184 : decode cX5_event 184 = .ok (.bipush 20, 2) := dk_16 20 (dk_at dksX5_event_7 12 rfl rfl)
theorem dX5_event_186 : decode cX5_event 186 = .ok (.if_icmp .ne 16, 3) := dk_160 0 16 (dk_at dksX5_event_7 14 rfl rfl)
theorem dX5_event_189 : decode cX5_event 189 = .ok (.new 40, 3) := dk_187 0 40 (dk_at dksX5_event_7 17 rfl rfl)
theorem dX5_event_192 : decode cX5_event 192 = .ok (.dup, 1) := dk_89 (dk_at dksX5_event_7 20 rfl rfl)
theorem dX5_event_193 : decode cX5_event 193 = .ok (.iconst 3, 1) := dk_6 (dk_at dksX5_event_7 21 rfl rfl)
theorem dX5_event_194 : decode cX5_event 194 = .ok (.aload_n 0, 1) := dk_42 (dk_at dksX5_event_7 22 rfl rfl)
theorem dX5_event_195 : decode cX5_event 195 = .ok (.getfield 19, 3) := dk_180 0 19 (dk_at dksX5_event_8 0 rfl rfl)
theorem dX5_event_198 : decode cX5_event 198 = .ok (.invokespecial 42, 3) := dk_183 0 42 (dk_at dksX5_event_8 3 rfl rfl)
theorem dX5_event_201 : decode cX5_event 201 = .ok (.athrow, 1) := dk_191 (dk_at dksX5_event_8 6 rfl rfl)
theorem dX5_event_202 : decode cX5_event 202 = .ok (.aload_n 0, 1) := dk_42 (dk_at dksX5_event_8 7 rfl rfl)
theorem dX5_event_203 : decode cX5_event 203 = .ok (.dup, 1) := dk_89 (dk_at dksX5_event_8 8 rfl rfl)
theorem dX5_event_204 : decode cX5_event 204 = .ok (.getfield 19, 3) := dk_180 0 19 (dk_at dksX5_event_8 9 rfl rfl)
theorem dX5_event_207 : decode cX5_event 207 = .ok (.aload_n 2, 1) := dk_44 (dk_at dksX5_event_8 12 rfl rfl)
theorem dX5_event_208 : decode cX5_event 208 = .ok (.invokevirtual 58, 3) := dk_182 0 58 (dk_at dksX5_event_8 13 rfl rfl)
theorem dX5_event_211 : decode cX5_event 211 = .ok (.iadd, 1) := dk_96 (dk_at dksX5_event_8 16 rfl rfl)
theorem dX5_event_212 : decode cX5_event 212 = .ok (.putfield 19, 3) := dk_181 0 19 (dk_at dksX5_event_8 17 rfl rfl)
theorem dX5_event_215 : decode cX5_event 215 = .ok (.aload_n 0, 1) := dk_42 (dk_at dksX5_event_8 20 rfl rfl)
theorem dX5_event_216 : decode cX5_event 216 = .ok (.iconst 0, 1) := dk_3 (dk_at dksX5_event_8 21 rfl rfl)
theorem dX5_event_217 : decode cX5_event 217 = .ok (.bipush 9, 2) := dk_16 9 (dk_at dksX5_event_8 22 rfl rfl)
theorem dX5_event_219 : decode cX5_event 219 = .ok (.invokevirtual 68, 3) := dk_182 0 68 (dk_at dksX5_event_9 0 rfl rfl)
theorem dX5_event_222 : decode cX5_event 222 = .ok (.istore_n 3, 1) := dk_62 (dk_at dksX5_event_9 3 rfl rfl)
theorem dX5_event_223 : decode cX5_event 223 = .ok (.aload_n 2, 1) := dk_44 (dk_at dksX5_event_9 4 rfl rfl)
theorem dX5_event_224 : decode cX5_event 224 = .ok (.astore 4, 2) := dk_58 4 (dk_at dksX5_event_9 5 rfl rfl)
theorem dX5_event_226 : decode cX5_event 226 = .ok (.iconst (-1), 1) := dk_2 (dk_at dksX5_event_9 7 rfl rfl)
theorem dX5_event_227 : decode cX5_event 227 = .ok (.istore 5, 2) := dk_54 5 (dk_at dksX5_event_9 8 rfl rfl)
theorem dX5_event_229 : decode cX5_event 229 = .ok (.aload 4, 2) := dk_25 4 (dk_at dksX5_event_9 10 rfl rfl)
theorem dX5_event_231 : decode cX5_event 231 = .ok (.invokevirtual 85, 3) := dk_182 0 85 (dk_at dksX5_event_9 12 rfl rfl)
theorem dX5_event_234 : decode cX5_event 234 = .ok (.lookupswitch 103 #[(3016370, 58), (3642015, 90), (3645311, 42), (110550847, 74)], 42) := by decide +kernel
theorem dX5_event_276 : decode cX5_event 276 = .ok (.aload 4, 2) := dk_25 4 (dk_at dksX5_event_11 0 rfl rfl)
theorem dX5_event_278 : decode cX5_event 278 = .ok (.ldc 153, 2) := dk_18 153 (dk_at dksX5_event_11 2 rfl rfl)
theorem dX5_event_280 : decode cX5_event 280 = .ok (.invokevirtual 52, 3) := dk_182 0 52 (dk_at dksX5_event_11 4 rfl rfl)
theorem dX5_event_283 : decode cX5_event 283 = .ok (.ifCond .eq 54, 3) := dk_153 0 54 (dk_at dksX5_event_11 7 rfl rfl)
theorem dX5_event_286 : decode cX5_event 286 = .ok (.iconst 0, 1) := dk_3 (dk_at dksX5_event_11 10 rfl rfl)
theorem dX5_event_287 : decode cX5_event 287 = .ok (.istore 5, 2) := dk_54 5 (dk_at dksX5_event_11 11 rfl rfl)
theorem dX5_event_289 : decode cX5_event 289 = .ok (.goto 48, 3) := dk_167 0 48 (dk_at dksX5_event_11 13 rfl rfl)
theorem dX5_event_292 : decode cX5_event 292 = .ok (.aload 4, 2) := dk_25 4 (dk_at dksX5_event_11 16 rfl rfl)
theorem dX5_event_294 : decode cX5_event 294 = .ok (.ldc 155, 2) := dk_18 155 (dk_at dksX5_event_11 18 rfl rfl)
theorem dX5_event_296 : decode cX5_event 296 = .ok (.invokevirtual 52, 3) := dk_182 0 52 (dk_at dksX5_event_11 20 rfl rfl)
theorem dX5_event_299 : decode cX5_event 299 = .ok (.ifCond .eq 38, 3) := dk_153 0 38 (dk_at dksX5_event_12 0 rfl rfl)
theorem dX5_event_302 : decode cX5_event 302 = .ok (.iconst 1, 1) := dk_4 (dk_at dksX5_event_12 3 rfl rfl)
theorem dX5_event_303 : decode cX5_event 303 = .ok (.istore 5, 2) := dk_54 5 (dk_at dksX5_event_12 4 rfl rfl)
theorem dX5_event_305 : decode cX5_event 305 = .ok (.goto 32, 3) := dk_167 0 32 (dk_at dksX5_event_12 6 rfl rfl)
theorem dX5_event_308 : decode cX5_event 308 = .ok (.aload 4, 2) := dk_25 4 (dk_at dksX5_event_12 9 rfl rfl)
theorem dX5_event_310 : decode cX5_event 310 = .ok (.ldc 157, 2) := dk_18 157 (dk_at dksX5_event_12 11 rfl rfl)
theorem dX5_event_312 : decode cX5_event 312 = .ok (.invokevirtual 52, 3) := dk_182 0 52 (dk_at dksX5_event_12 13 rfl rfl)
theorem dX5_event_315 : decode cX5_event 315 = .ok (.ifCond .eq 22, 3) := dk_153 0 22 (dk_at dksX5_event_12 16 rfl rfl)
theorem dX5_event_318 : decode cX5_event 318 = .ok (.iconst 2, 1) := dk_5 (dk_at dksX5_event_12 19 rfl rfl)
theorem dX5_event_319 : decode cX5_event 319 = .ok (.istore 5, 2) := dk_54 5 (dk_at dksX5_event_12 20 rfl rfl)
theorem dX5_event_321 : decode cX5_event 321 = .ok (.goto 16, 3) := dk_167 0 16 (dk_at dksX5_event_13 0 rfl rfl)
theorem dX5_event_324 : decode cX5_event 324 = .ok (.aload 4, 2) := dk_25 4 (dk_at dksX5_event_13 3 rfl rfl)
theorem dX5_event_326 : decode cX5_event 326 = .ok (.ldc 92, 2) := dk_18 92 (dk_at dksX5_event_13 5 rfl rfl)
theorem dX5_event_328 : decode cX5_event 328 = .ok (.invokevirtual 52, 3) := dk_182 0 52 (dk_at dksX5_event_13 7 rfl rfl)
theorem dX5_event_331 : decode cX5_event 331 = .ok (.ifCond .eq 6, 3) := dk_153 0 6 (dk_at dksX5_event_13 10 rfl rfl)
theorem dX5_event_334 : decode cX5_event 334 = .ok (.iconst 3, 1) := dk_6 (dk_at dksX5_event_13 13 rfl rfl)
theorem dX5_event_335 : decode cX5_event 335 = .ok (.istore 5, 2) := dk_54 5 (dk_at dksX5_event_13 14 rfl rfl)
theorem dX5_event_337 : decode cX5_event 337 = .ok (.iload 5, 2) := dk_21 5 (dk_at dksX5_event_13 16 rfl rfl)
theorem dX5_event_339 : decode cX5_event 339 = .ok (.tableswitch 109 0 3 #[29, 54, 69, 94], 29) := by decide +kernel
theorem dX5_event_368 : decode cX5_event 368 = .ok (.aload_n 0, 1) := dk_42 (dk_at dksX5_event_15 0 rfl rfl)
theorem dX5_event_369 : decode cX5_event 369 = .ok (.iconst 0, 1) := dk_3 (dk_at dksX5_event_15 1 rfl rfl)
theorem dX5_event_370 : decode cX5_event 370 = .ok (.bipush 7, 2) := dk_16 7 (dk_at dksX5_event_15 2 rfl rfl)
theorem dX5_event_372 : decode cX5_event 372 = .ok (.invokevirtual 68, 3) := dk_182 0 68 (dk_at dksX5_event_15 4 rfl rfl)
theorem dX5_event_375 : decode cX5_event 375 = .ok (.istore 6, 2) := dk_54 6 (dk_at dksX5_event_15 7 rfl rfl)
theorem dX5_event_377 : decode cX5_event 377 = .ok (.new 161, 3) := dk_187 0 161 (dk_at dksX5_event_15 9 rfl rfl)
theorem dX5_event_380 : decode cX5_event 380 = .ok (.dup, 1) := dk_89 (dk_at dksX5_event_15 12 rfl rfl)
theorem dX5_event_381 : decode cX5_event 381 = .ok (.iload_n 3, 1) := dk_29 (dk_at dksX5_event_15 13 rfl rfl)
theorem dX5_event_382 : decode cX5_event 382 = .ok (.iload 6, 2) := dk_21 6 (dk_at dksX5_event_15 14 rfl rfl)
theorem dX5_event_384 : decode cX5_event 384 = .ok (.aload_n 0, 1) := dk_42 (dk_at dksX5_event_15 16 rfl rfl)
theorem dX5_event_385 : decode cX5_event 385 = .ok (.aload_n 1, 1) := dk_43 (dk_at dksX5_event_15 17 rfl rfl)
theorem dX5_event_386 : decode cX5_event 386 = .ok (.invokevirtual 163, 3) := dk_182 0 163 (dk_at dksX5_event_15 18 rfl rfl)
theorem dX5_event_389 : decode cX5_event 389 = .ok (.invokespecial 166, 3) := dk_183 0 166 (dk_at dksX5_event_15 21 rfl rfl)
theorem dX5_event_392 : decode cX5_event 392 = .ok (.areturn, 1) := dk_176 (dk_at dksX5_event_16 0 rfl rfl)
theorem dX5_event_393 : decode cX5_event 393 = .ok (.new 161, 3) := dk_187 0 161 (dk_at dksX5_event_16 1 rfl rfl)
theorem dX5_event_396 : decode cX5_event 396 = .ok (.dup, 1) := dk_89 (dk_at dksX5_event_16 4 rfl rfl)
theorem dX5_event_397 : decode cX5_event 397 = .ok (.iload_n 3, 1) := dk_29 (dk_at dksX5_event_16 5 rfl rfl)
theorem dX5_event_398 : decode cX5_event 398 = .ok (.iconst (-1), 1) := dk_2 (dk_at dksX5_event_16 6 rfl rfl)
theorem dX5_event_399 : decode cX5_event 399 = .ok (.aload_n 0, 1) := dk_42 (dk_at dksX5_event_16 7 rfl rfl)
theorem dX5_event_400 : decode cX5_event 400 = .ok (.aload_n 1, 1) := dk_43 (dk_at dksX5_event_16 8 rfl rfl)
theorem dX5_event_401 : decode cX5_event 401 = .ok (.invokevirtual 163, 3) := dk_182 0 163 (dk_at dksX5_event_16 9 rfl rfl)
theorem dX5_event_404 : decode cX5_event 404 = .ok (.invokespecial 166, 3) := dk_183 0 166 (dk_at dksX5_event_16 12 rfl rfl)
theorem dX5_event_407 : decode cX5_event 407 = .ok (.areturn, 1) := dk_176 (dk_at dksX5_event_16 15 rfl rfl)
theorem dX5_event_408 : decode cX5_event 408 = .ok (.aload_n 0, 1) := dk_42 (dk_at dksX5_event_16 16 rfl rfl)
theorem dX5_event_409 : decode cX5_event 409 = .ok (.iload_n 3, 1) := dk_29 (dk_at dksX5_event_16 17 rfl rfl)
theorem dX5_event_410 : decode cX5_event 410 = .ok (.bipush 10, 2) := dk_16 10 (dk_at dksX5_event_16 18 rfl rfl)
theorem dX5_event_412 : decode cX5_event 412 = .ok (.invokevirtual 109, 3) := dk_182 0 109 (dk_at dksX5_event_16 20 rfl rfl)
theorem dX5_event_415 : decode cX5_event 415 = .ok (.istore 6, 2) := dk_54 6 (dk_at dksX5_event_17 0 rfl rfl)
theorem dX5_event_417 : decode cX5_event 417 = .ok (.new 169, 3) := dk_187 0 169 (dk_at dksX5_event_17 2 rfl rfl)
theorem dX5_event_420 : decode cX5_event 420 = .ok (.dup, 1) := dk_89 (dk_at dksX5_event_17 5 rfl rfl)
theorem dX5_event_421 : decode cX5_event 421 = .ok (.iload_n 3, 1) := dk_29 (dk_at dksX5_event_17 6 rfl rfl)
theorem dX5_event_422 : decode cX5_event 422 = .ok (.iload 6, 2) := dk_21 6 (dk_at dksX5_event_17 7 rfl rfl)
theorem dX5_event_424 : decode cX5_event 424 = .ok (.aload_n 0, 1) := dk_42 (dk_at dksX5_event_17 9 rfl rfl)
theorem dX5_event_425 : decode cX5_event 425 = .ok (.aload_n 1, 1) := dk_43 (dk_at dksX5_event_17 10 rfl rfl)
theorem dX5_event_426 : decode cX5_event 426 = .ok (.invokevirtual 163, 3) := dk_182 0 163 (dk_at dksX5_event_17 11 rfl rfl)
theorem dX5_event_429 : decode cX5_event 429 = .ok (.invokespecial 171, 3) := dk_183 0 171 (dk_at dksX5_event_17 14 rfl rfl)
theorem dX5_event_432 : decode cX5_event 432 = .ok (.areturn, 1) := dk_176 (dk_at dksX5_event_17 17 rfl rfl)
theorem dX5_event_433 : decode cX5_event 433 = .ok (.new 172, 3) := dk_187 0 172 (dk_at dksX5_event_17 18 rfl rfl)
theorem dX5_event_436 : decode cX5_event 436 = .ok (.dup, 1) := dk_89 (dk_at dksX5_event_17 21 rfl rfl)
theorem dX5_event_437 : decode cX5_event 437 = .ok (.iload_n 3, 1) := dk_29 (dk_at dksX5_event_17 22 rfl rfl)
theorem dX5_event_438 : decode cX5_event 438 = .ok (.iconst (-1), 1) := dk_2 (dk_at dksX5_event_17 23 rfl rfl)
theorem dX5_event_439 : decode cX5_event 439 = .ok (.aload_n 0, 1) := dk_42 (dk_at dksX5_event_18 0 rfl rfl)
theorem dX5_event_440 : decode cX5_event 440 = .ok (.aload_n 1, 1) := dk_43 (dk_at dksX5_event_18 1 rfl rfl)
theorem dX5_event_441 : decode cX5_event 441 = .ok (.invokevirtual 163, 3) := dk_182 0 163 (dk_at dksX5_event_18 2 rfl rfl)
theorem dX5_event_444 : decode cX5_event 444 = .ok (.invokespecial 174, 3) := dk_183 0 174 (dk_at dksX5_event_18 5 rfl rfl)
theorem dX5_event_447 : decode cX5_event 447 = .ok (.areturn, 1) := dk_176 (dk_at dksX5_event_18 8 rfl rfl)
theorem dX5_event_448 : decode cX5_event 448 = .ok (.aload_n 0, 1) := dk_42 (dk_at dksX5_event_18 9 rfl rfl)
theorem dX5_event_449 : decode cX5_event 449 = .ok (.iconst 0, 1) := dk_3 (dk_at dksX5_event_18 10 rfl rfl)
theorem dX5_event_450 : decode cX5_event 450 = .ok (.bipush 16, 2) := dk_16 16 (dk_at dksX5_event_18 11 rfl rfl)
theorem dX5_event_452 : decode cX5_event 452 = .ok (.invokevirtual 68, 3) := dk_182 0 68 (dk_at dksX5_event_18 13 rfl rfl)
theorem dX5_event_455 : decode cX5_event 455 = .ok (.istore 6, 2) := dk_54 6 (dk_at dksX5_event_18 16 rfl rfl)
theorem dX5_event_457 : decode cX5_event 457 = .ok (.new 172, 3) := dk_187 0 172 (dk_at dksX5_event_18 18 rfl rfl)
theorem dX5_event_460 : decode cX5_event 460 = .ok (.dup, 1) := dk_89 (dk_at dksX5_event_18 21 rfl rfl)
theorem dX5_event_461 : decode cX5_event 461 = .ok (.iload_n 3, 1) := dk_29 (dk_at dksX5_event_18 22 rfl rfl)
theorem dX5_event_462 : decode cX5_event 462 = .ok (.iload 6, 2) := dk_21 6 (dk_at dksX5_event_19 0 rfl rfl)
theorem dX5_event_464 : decode cX5_event 464 = .ok (.aload_n 0, 1) := dk_42 (dk_at dksX5_event_19 2 rfl rfl)
theorem dX5_event_465 : decode cX5_event 465 = .ok (.aload_n 1, 1) := dk_43 (dk_at dksX5_event_19 3 rfl rfl)
theorem dX5_event_466 : decode cX5_event 466 = .ok (.invokevirtual 163, 3) := dk_182 0 163 (dk_at dksX5_event_19 4 rfl rfl)
theorem dX5_event_469 : decode cX5_event 469 = .ok (.invokespecial 174, 3) := dk_183 0 174 (dk_at dksX5_event_19 7 rfl rfl)
theorem dX5_event_472 : decode cX5_event 472 = .ok (.areturn, 1) := dk_176 (dk_at dksX5_event_19 10 rfl rfl)
abbrev cX5_at : ByteArray := prog_6_method_12_code
def yX5_at : MethodName := ⟨RX5, "at", "(Ljava/util/ArrayList;)I"⟩
def dkwX5_at_2 : List UInt8 := [180, 0, 59, 183, 0, 42, 191, 28, 172]
abbrev dktX5_at_2 : List UInt8 := dkwX5_at_2 ++ []
def dkwX5_at_1 : List UInt8 := [182, 0, 142, 4, 100, 182, 0, 144, 192, 0, 148, 180, 0, 150, 162, 0, 16, 187, 0, 40, 89, 6, 42]
abbrev dktX5_at_1 : List UInt8 := dkwX5_at_1 ++ dktX5_at_2
def dkwX5_at_0 : List UInt8 := [42, 18, 132, 182, 0, 134, 42, 3, 16, 99, 182, 0, 68, 61, 43, 182, 0, 138, 154, 0, 36, 28, 43, 43]
abbrev dktX5_at_0 : List UInt8 := dkwX5_at_0 ++ dktX5_at_1
theorem dksX5_at_0 : cX5_at.data.toList.drop 0 = dktX5_at_0 := by decide +kernel
theorem dksX5_at_1 : cX5_at.data.toList.drop 24 = dktX5_at_1 := dk_seg dksX5_at_0 24 rfl rfl
theorem dksX5_at_2 : cX5_at.data.toList.drop 47 = dktX5_at_2 := dk_seg dksX5_at_1 23 rfl rfl
theorem dX5_at_0 : decode cX5_at 0 = .ok (.aload_n 0, 1) := dk_42 (dk_at dksX5_at_0 0 rfl rfl)
theorem dX5_at_1 : decode cX5_at 1 = .ok (.ldc 132, 2) := dk_18 132 (dk_at dksX5_at_0 1 rfl rfl)
theorem dX5_at_3 : decode cX5_at 3 = .ok (.invokevirtual 134, 3) := dk_182 0 134 (dk_at dksX5_at_0 3 rfl rfl)
theorem dX5_at_6 : decode cX5_at 6 = .ok (.aload_n 0, 1) := dk_42 (dk_at dksX5_at_0 6 rfl rfl)
theorem dX5_at_7 : decode cX5_at 7 = .ok (.iconst 0, 1) := dk_3 (dk_at dksX5_at_0 7 rfl rfl)
theorem dX5_at_8 : decode cX5_at 8 = .ok (.bipush 99, 2) := dk_16 99 (dk_at dksX5_at_0 8 rfl rfl)
theorem dX5_at_10 : decode cX5_at 10 = .ok (.invokevirtual 68, 3) := dk_182 0 68 (dk_at dksX5_at_0 10 rfl rfl)
theorem dX5_at_13 : decode cX5_at 13 = .ok (.istore_n 2, 1) := dk_61 (dk_at dksX5_at_0 13 rfl rfl)
theorem dX5_at_14 : decode cX5_at 14 = .ok (.aload_n 1, 1) := dk_43 (dk_at dksX5_at_0 14 rfl rfl)
theorem dX5_at_15 : decode cX5_at 15 = .ok (.invokevirtual 138, 3) := dk_182 0 138 (dk_at dksX5_at_0 15 rfl rfl)
theorem dX5_at_18 : decode cX5_at 18 = .ok (.ifCond .ne 36, 3) := dk_154 0 36 (dk_at dksX5_at_0 18 rfl rfl)
theorem dX5_at_21 : decode cX5_at 21 = .ok (.iload_n 2, 1) := dk_28 (dk_at dksX5_at_0 21 rfl rfl)
theorem dX5_at_22 : decode cX5_at 22 = .ok (.aload_n 1, 1) := dk_43 (dk_at dksX5_at_0 22 rfl rfl)
theorem dX5_at_23 : decode cX5_at 23 = .ok (.aload_n 1, 1) := dk_43 (dk_at dksX5_at_0 23 rfl rfl)
theorem dX5_at_24 : decode cX5_at 24 = .ok (.invokevirtual 142, 3) := dk_182 0 142 (dk_at dksX5_at_1 0 rfl rfl)
theorem dX5_at_27 : decode cX5_at 27 = .ok (.iconst 1, 1) := dk_4 (dk_at dksX5_at_1 3 rfl rfl)
theorem dX5_at_28 : decode cX5_at 28 = .ok (.isub, 1) := dk_100 (dk_at dksX5_at_1 4 rfl rfl)
theorem dX5_at_29 : decode cX5_at 29 = .ok (.invokevirtual 144, 3) := dk_182 0 144 (dk_at dksX5_at_1 5 rfl rfl)
theorem dX5_at_32 : decode cX5_at 32 = .ok (.checkcast 148, 3) := dk_192 0 148 (dk_at dksX5_at_1 8 rfl rfl)
theorem dX5_at_35 : decode cX5_at 35 = .ok (.getfield 150, 3) := dk_180 0 150 (dk_at dksX5_at_1 11 rfl rfl)
theorem dX5_at_38 : decode cX5_at 38 = .ok (.if_icmp .ge 16, 3) := dk_162 0 16 (dk_at dksX5_at_1 14 rfl rfl)
theorem dX5_at_41 : decode cX5_at 41 = .ok (.new 40, 3) := dk_187 0 40 (dk_at dksX5_at_1 17 rfl rfl)
theorem dX5_at_44 : decode cX5_at 44 = .ok (.dup, 1) := dk_89 (dk_at dksX5_at_1 20 rfl rfl)
theorem dX5_at_45 : decode cX5_at 45 = .ok (.iconst 3, 1) := dk_6 (dk_at dksX5_at_1 21 rfl rfl)
theorem dX5_at_46 : decode cX5_at 46 = .ok (.aload_n 0, 1) := dk_42 (dk_at dksX5_at_1 22 rfl rfl)
theorem dX5_at_47 : decode cX5_at 47 = .ok (.getfield 59, 3) := dk_180 0 59 (dk_at dksX5_at_2 0 rfl rfl)
theorem dX5_at_50 : decode cX5_at 50 = .ok (.invokespecial 42, 3) := dk_183 0 42 (dk_at dksX5_at_2 3 rfl rfl)
theorem dX5_at_53 : decode cX5_at 53 = .ok (.athrow, 1) := dk_191 (dk_at dksX5_at_2 6 rfl rfl)
theorem dX5_at_54 : decode cX5_at 54 = .ok (.iload_n 2, 1) := dk_28 (dk_at dksX5_at_2 7 rfl rfl)
theorem dX5_at_55 : decode cX5_at 55 = .ok (.ireturn, 1) := dk_172 (dk_at dksX5_at_2 8 rfl rfl)
abbrev cX5_needWord : ByteArray := prog_6_method_6_code
def yX5_needWord : MethodName := ⟨RX5, "needWord", "(Ljava/lang/String;)V"⟩
def dkwX5_needWord_1 : List UInt8 := [182, 0, 58, 96, 181, 0, 19, 177]
abbrev dktX5_needWord_1 : List UInt8 := dkwX5_needWord_1 ++ []
def dkwX5_needWord_0 : List UInt8 := [42, 182, 0, 49, 43, 182, 0, 52, 154, 0, 8, 42, 182, 0, 45, 191, 42, 89, 180, 0, 19, 43]
abbrev dktX5_needWord_0 : List UInt8 := dkwX5_needWord_0 ++ dktX5_needWord_1
theorem dksX5_needWord_0 : cX5_needWord.data.toList.drop 0 = dktX5_needWord_0 := by decide +kernel
theorem dksX5_needWord_1 : cX5_needWord.data.toList.drop 22 = dktX5_needWord_1 := dk_seg dksX5_needWord_0 22 rfl rfl
theorem dX5_needWord_0 : decode cX5_needWord 0 = .ok (.aload_n 0, 1) := dk_42 (dk_at dksX5_needWord_0 0 rfl rfl)
theorem dX5_needWord_1 : decode cX5_needWord 1 = .ok (.invokevirtual 49, 3) := dk_182 0 49 (dk_at dksX5_needWord_0 1 rfl rfl)
theorem dX5_needWord_4 : decode cX5_needWord 4 = .ok (.aload_n 1, 1) := dk_43 (dk_at dksX5_needWord_0 4 rfl rfl)
theorem dX5_needWord_5 : decode cX5_needWord 5 = .ok (.invokevirtual 52, 3) := dk_182 0 52 (dk_at dksX5_needWord_0 5 rfl rfl)
theorem dX5_needWord_8 : decode cX5_needWord 8 = .ok (.ifCond .ne 8, 3) := dk_154 0 8 (dk_at dksX5_needWord_0 8 rfl rfl)
theorem dX5_needWord_11 : decode cX5_needWord 11 = .ok (.aload_n 0, 1) := dk_42 (dk_at dksX5_needWord_0 11 rfl rfl)
theorem dX5_needWord_12 : decode cX5_needWord 12 = .ok (.invokevirtual 45, 3) := dk_182 0 45 (dk_at dksX5_needWord_0 12 rfl rfl)
theorem dX5_needWord_15 : decode cX5_needWord 15 = .ok (.athrow, 1) := dk_191 (dk_at dksX5_needWord_0 15 rfl rfl)
theorem dX5_needWord_16 : decode cX5_needWord 16 = .ok (.aload_n 0, 1) := dk_42 (dk_at dksX5_needWord_0 16 rfl rfl)
theorem dX5_needWord_17 : decode cX5_needWord 17 = .ok (.dup, 1) := dk_89 (dk_at dksX5_needWord_0 17 rfl rfl)
theorem dX5_needWord_18 : decode cX5_needWord 18 = .ok (.getfield 19, 3) := dk_180 0 19 (dk_at dksX5_needWord_0 18 rfl rfl)
theorem dX5_needWord_21 : decode cX5_needWord 21 = .ok (.aload_n 1, 1) := dk_43 (dk_at dksX5_needWord_0 21 rfl rfl)
theorem dX5_needWord_22 : decode cX5_needWord 22 = .ok (.invokevirtual 58, 3) := dk_182 0 58 (dk_at dksX5_needWord_1 0 rfl rfl)
theorem dX5_needWord_25 : decode cX5_needWord 25 = .ok (.iadd, 1) := dk_96 (dk_at dksX5_needWord_1 3 rfl rfl)
theorem dX5_needWord_26 : decode cX5_needWord 26 = .ok (.putfield 19, 3) := dk_181 0 19 (dk_at dksX5_needWord_1 4 rfl rfl)
theorem dX5_needWord_29 : decode cX5_needWord 29 = .ok (.return_, 1) := dk_177 (dk_at dksX5_needWord_1 7 rfl rfl)
theorem q89 : (Jvm.Cond.initialized "WoolThreads$Reader") ∈ lw_all := lw_g (lw_at lw_m1 24 rfl) rfl
theorem q120 : (Jvm.Cond.fieldLinkNest "WoolThreads$Reader" (102 : Nat) "WoolThreads$Law" "shed" "[I" "WoolThreads") ∈ lw_tbl := lw_at lw_m1 55 rfl
theorem q124 : (Jvm.Cond.fieldLinkNest "WoolThreads$Reader" (105 : Nat) "WoolThreads$Law" "hold" "[I" "WoolThreads") ∈ lw_tbl := lw_at lw_m1 59 rfl
theorem q128 : (Jvm.Cond.fieldLinkNest "WoolThreads$Reader" (107 : Nat) "WoolThreads$Law" "common" "[I" "WoolThreads") ∈ lw_tbl := lw_at lw_m1 63 rfl
theorem q134 : (Jvm.Cond.fieldLinkNest "WoolThreads$Reader" (115 : Nat) "WoolThreads$Law" "wash" "I" "WoolThreads") ∈ lw_tbl := lw_at lw_m1 69 rfl
theorem q137 : (Jvm.Cond.fieldLinkNest "WoolThreads$Reader" (117 : Nat) "WoolThreads$Law" "pass" "I" "WoolThreads") ∈ lw_tbl := lw_at lw_m1 72 rfl
theorem q141 : (Jvm.Cond.fieldLinkNest "WoolThreads$Reader" (119 : Nat) "WoolThreads$Law" "take" "I" "WoolThreads") ∈ lw_tbl := lw_at lw_m1 76 rfl
theorem q143 : (Jvm.Cond.fieldLinkNest "WoolThreads$Reader" (82 : Nat) "WoolThreads$Law" "clauses" "I" "WoolThreads") ∈ lw_tbl := lw_at lw_m1 78 rfl
theorem q631 : (Jvm.Cond.selects "WoolThreads$Reader" ({ cls := "java/lang/Object", name := "getClass", desc := "()Ljava/lang/Class;" } : Jvm.MethodName) ({ cls := "java/lang/Object", name := "getClass", desc := "()Ljava/lang/Class;" } : Jvm.MethodName)) ∈ lw_all := lw_g (lw_at lw_m3 86 rfl) rfl
theorem q691 : (Jvm.Cond.instantiable "WoolThreads$Reader" (4 : Nat)) ∈ lw_all := lw_g (lw_at lw_m3 146 rfl) rfl
theorem q693 : (Jvm.Cond.instanceMethod ({ cls := "WoolThreads$Reader", name := "<init>", desc := "([BI)V" } : Jvm.MethodName)) ∈ lw_all := lw_g (lw_at lw_m3 148 rfl) rfl
theorem q694 : (Jvm.Cond.code ({ cls := "WoolThreads$Reader", name := "<init>", desc := "([BI)V" } : Jvm.MethodName) prog_6_method_1_code (3 : Nat) (Option.none : Option Jvm.ClassFile.FieldType)) ∈ lw_all := lw_g (lw_at lw_m3 149 rfl) rfl
theorem q695 : (Jvm.Cond.methodLink "WoolThreads$Reader" (3 : Nat) ({ cls := "java/lang/Object", name := "<init>", desc := "()V" } : Jvm.MethodName)) ∈ lw_all := lw_g (lw_at lw_m3 150 rfl) rfl
theorem q696 : (Jvm.Cond.fieldLink "WoolThreads$Reader" (9 : Nat) "WoolThreads$Reader" "text" "[B") ∈ lw_all := lw_g (lw_at lw_m3 151 rfl) rfl
theorem q697 : (Jvm.Cond.fieldLink "WoolThreads$Reader" (15 : Nat) "WoolThreads$Reader" "size" "I") ∈ lw_all := lw_g (lw_at lw_m3 152 rfl) rfl
theorem q698 : (Jvm.Cond.fieldLink "WoolThreads$Reader" (19 : Nat) "WoolThreads$Reader" "next" "I") ∈ lw_all := lw_g (lw_at lw_m3 153 rfl) rfl
theorem q699 : (Jvm.Cond.fieldLink "WoolThreads$Reader" (59 : Nat) "WoolThreads$Reader" "from" "I") ∈ lw_all := lw_g (lw_at lw_m3 154 rfl) rfl
theorem q700 : (Jvm.Cond.laysFinal "WoolThreads$Reader" "WoolThreads$Reader" "text" "[B") ∈ lw_all := lw_g (lw_at lw_m3 155 rfl) rfl
theorem q701 : (Jvm.Cond.soleField "WoolThreads$Reader" "text") ∈ lw_all := lw_g (lw_at lw_m3 156 rfl) rfl
theorem q702 : (Jvm.Cond.laysFinal "WoolThreads$Reader" "WoolThreads$Reader" "size" "I") ∈ lw_all := lw_g (lw_at lw_m3 157 rfl) rfl
theorem q703 : (Jvm.Cond.soleField "WoolThreads$Reader" "size") ∈ lw_all := lw_g (lw_at lw_m3 158 rfl) rfl
theorem q704 : (Jvm.Cond.lays "WoolThreads$Reader" "WoolThreads$Reader" "next" "I") ∈ lw_all := lw_g (lw_at lw_m3 159 rfl) rfl
theorem q705 : (Jvm.Cond.soleField "WoolThreads$Reader" "next") ∈ lw_all := lw_g (lw_at lw_m3 160 rfl) rfl
theorem q706 : (Jvm.Cond.lays "WoolThreads$Reader" "WoolThreads$Reader" "from" "I") ∈ lw_all := lw_g (lw_at lw_m3 161 rfl) rfl
theorem q707 : (Jvm.Cond.soleField "WoolThreads$Reader" "from") ∈ lw_all := lw_g (lw_at lw_m3 162 rfl) rfl
theorem q708 : (Jvm.Cond.superclass "WoolThreads$Reader" "java/lang/Object") ∈ lw_all := lw_g (lw_at lw_m3 163 rfl) rfl
theorem q710 : (Jvm.Cond.instanceMethod ({ cls := "WoolThreads$Reader", name := "law", desc := "()LWoolThreads$Law;" } : Jvm.MethodName)) ∈ lw_all := lw_g (lw_at lw_m3 165 rfl) rfl
theorem q711 : (Jvm.Cond.selects "WoolThreads$Reader" ({ cls := "WoolThreads$Reader", name := "law", desc := "()LWoolThreads$Law;" } : Jvm.MethodName) ({ cls := "WoolThreads$Reader", name := "law", desc := "()LWoolThreads$Law;" } : Jvm.MethodName)) ∈ lw_all := lw_g (lw_at lw_m3 166 rfl) rfl
theorem q712 : (Jvm.Cond.code ({ cls := "WoolThreads$Reader", name := "law", desc := "()LWoolThreads$Law;" } : Jvm.MethodName) prog_6_method_9_code (2 : Nat) (Option.some (Jvm.ClassFile.FieldType.object "WoolThreads$Law"))) ∈ lw_all := lw_g (lw_at lw_m3 167 rfl) rfl
theorem q713 : (Jvm.Cond.classLink "WoolThreads$Reader" (71 : Nat) "WoolThreads$Law") ∈ lw_all := lw_g (lw_at lw_m3 168 rfl) rfl
theorem q714 : (Jvm.Cond.methodLink "WoolThreads$Reader" (73 : Nat) ({ cls := "WoolThreads$Law", name := "<init>", desc := "()V" } : Jvm.MethodName)) ∈ lw_all := lw_g (lw_at lw_m3 169 rfl) rfl
theorem q715 : (Jvm.Cond.methodLink "WoolThreads$Reader" (22 : Nat) ({ cls := "WoolThreads$Reader", name := "sign", desc := "()I" } : Jvm.MethodName)) ∈ lw_all := lw_g (lw_at lw_m3 170 rfl) rfl
theorem q716 : (Jvm.Cond.privateMethod ({ cls := "WoolThreads$Reader", name := "sign", desc := "()I" } : Jvm.MethodName)) ∈ lw_tbl := lw_at lw_m3 171 rfl
theorem q717 : (Jvm.Cond.instanceMethod ({ cls := "WoolThreads$Reader", name := "sign", desc := "()I" } : Jvm.MethodName)) ∈ lw_all := lw_g (lw_at lw_m3 172 rfl) rfl
theorem q718 : (Jvm.Cond.code ({ cls := "WoolThreads$Reader", name := "sign", desc := "()I" } : Jvm.MethodName) prog_6_method_2_code (1 : Nat) (Option.some Jvm.ClassFile.FieldType.int)) ∈ lw_all := lw_g (lw_at lw_m3 173 rfl) rfl
theorem q719 : (Jvm.Cond.methodLink "WoolThreads$Reader" (74 : Nat) ({ cls := "WoolThreads$Reader", name := "clause", desc := "(LWoolThreads$Law;)V" } : Jvm.MethodName)) ∈ lw_all := lw_g (lw_at lw_m3 174 rfl) rfl
theorem q720 : (Jvm.Cond.privateMethod ({ cls := "WoolThreads$Reader", name := "clause", desc := "(LWoolThreads$Law;)V" } : Jvm.MethodName)) ∈ lw_tbl := lw_at lw_m3 175 rfl
theorem q721 : (Jvm.Cond.instanceMethod ({ cls := "WoolThreads$Reader", name := "clause", desc := "(LWoolThreads$Law;)V" } : Jvm.MethodName)) ∈ lw_all := lw_g (lw_at lw_m3 176 rfl) rfl
theorem q722 : (Jvm.Cond.code ({ cls := "WoolThreads$Reader", name := "clause", desc := "(LWoolThreads$Law;)V" } : Jvm.MethodName) prog_6_method_10_code (7 : Nat) (Option.none : Option Jvm.ClassFile.FieldType)) ∈ lw_all := lw_g (lw_at lw_m3 177 rfl) rfl
theorem q723 : (Jvm.Cond.methodLink "WoolThreads$Reader" (49 : Nat) ({ cls := "WoolThreads$Reader", name := "word", desc := "()Ljava/lang/String;" } : Jvm.MethodName)) ∈ lw_all := lw_g (lw_at lw_m3 178 rfl) rfl
theorem q724 : (Jvm.Cond.privateMethod ({ cls := "WoolThreads$Reader", name := "word", desc := "()Ljava/lang/String;" } : Jvm.MethodName)) ∈ lw_tbl := lw_at lw_m3 179 rfl
theorem q725 : (Jvm.Cond.instanceMethod ({ cls := "WoolThreads$Reader", name := "word", desc := "()Ljava/lang/String;" } : Jvm.MethodName)) ∈ lw_all := lw_g (lw_at lw_m3 180 rfl) rfl
theorem q726 : (Jvm.Cond.code ({ cls := "WoolThreads$Reader", name := "word", desc := "()Ljava/lang/String;" } : Jvm.MethodName) prog_6_method_3_code (3 : Nat) (Option.some (Jvm.ClassFile.FieldType.object "java/lang/String"))) ∈ lw_all := lw_g (lw_at lw_m3 181 rfl) rfl
theorem q727 : (Jvm.Cond.classLink "WoolThreads$Reader" (26 : Nat) "java/lang/StringBuilder") ∈ lw_all := lw_g (lw_at lw_m3 182 rfl) rfl
theorem q728 : (Jvm.Cond.methodLink "WoolThreads$Reader" (28 : Nat) ({ cls := "java/lang/StringBuilder", name := "<init>", desc := "()V" } : Jvm.MethodName)) ∈ lw_all := lw_g (lw_at lw_m3 183 rfl) rfl
theorem q729 : (Jvm.Cond.methodLink "WoolThreads$Reader" (29 : Nat) ({ cls := "java/lang/StringBuilder", name := "length", desc := "()I" } : Jvm.MethodName)) ∈ lw_all := lw_g (lw_at lw_m3 184 rfl) rfl
theorem q730 : (Jvm.Cond.methodLink "WoolThreads$Reader" (32 : Nat) ({ cls := "java/lang/StringBuilder", name := "append", desc := "(C)Ljava/lang/StringBuilder;" } : Jvm.MethodName)) ∈ lw_all := lw_g (lw_at lw_m3 185 rfl) rfl
theorem q750 : (Jvm.Cond.methodLink "WoolThreads$Reader" (36 : Nat) ({ cls := "java/lang/StringBuilder", name := "toString", desc := "()Ljava/lang/String;" } : Jvm.MethodName)) ∈ lw_all := lw_g (lw_at lw_m3 205 rfl) rfl
theorem q751 : (Jvm.Cond.methodLink "WoolThreads$Reader" (85 : Nat) ({ cls := "java/lang/String", name := "hashCode", desc := "()I" } : Jvm.MethodName)) ∈ lw_all := lw_g (lw_at lw_m3 206 rfl) rfl
theorem q812 : (Jvm.Cond.stringRef "WoolThreads$Reader" (88 : Nat) "shed") ∈ lw_tbl := lw_at lw_m4 27 rfl
theorem q813 : (Jvm.Cond.methodLink "WoolThreads$Reader" (52 : Nat) ({ cls := "java/lang/String", name := "equals", desc := "(Ljava/lang/Object;)Z" } : Jvm.MethodName)) ∈ lw_all := lw_g (lw_at lw_m4 28 rfl) rfl
theorem q821 : (Jvm.Cond.stringRef "WoolThreads$Reader" (90 : Nat) "hold") ∈ lw_tbl := lw_at lw_m4 36 rfl
theorem q822 : (Jvm.Cond.stringRef "WoolThreads$Reader" (92 : Nat) "wash") ∈ lw_tbl := lw_at lw_m4 37 rfl
theorem q823 : (Jvm.Cond.stringRef "WoolThreads$Reader" (94 : Nat) "pass") ∈ lw_tbl := lw_at lw_m4 38 rfl
theorem q824 : (Jvm.Cond.stringRef "WoolThreads$Reader" (96 : Nat) "take") ∈ lw_tbl := lw_at lw_m4 39 rfl
theorem q825 : (Jvm.Cond.stringRef "WoolThreads$Reader" (98 : Nat) "alike") ∈ lw_tbl := lw_at lw_m4 40 rfl
theorem q826 : (Jvm.Cond.stringRef "WoolThreads$Reader" (100 : Nat) "common") ∈ lw_tbl := lw_at lw_m4 41 rfl
theorem q827 : (Jvm.Cond.methodLink "WoolThreads$Reader" (45 : Nat) ({ cls := "WoolThreads$Reader", name := "wrong", desc := "()LWoolThreads$Wrong;" } : Jvm.MethodName)) ∈ lw_all := lw_g (lw_at lw_m4 42 rfl) rfl
theorem q828 : (Jvm.Cond.privateMethod ({ cls := "WoolThreads$Reader", name := "wrong", desc := "()LWoolThreads$Wrong;" } : Jvm.MethodName)) ∈ lw_tbl := lw_at lw_m4 43 rfl
theorem q829 : (Jvm.Cond.instanceMethod ({ cls := "WoolThreads$Reader", name := "wrong", desc := "()LWoolThreads$Wrong;" } : Jvm.MethodName)) ∈ lw_all := lw_g (lw_at lw_m4 44 rfl) rfl
theorem q830 : (Jvm.Cond.code ({ cls := "WoolThreads$Reader", name := "wrong", desc := "()LWoolThreads$Wrong;" } : Jvm.MethodName) prog_6_method_4_code (1 : Nat) (Option.some (Jvm.ClassFile.FieldType.object "WoolThreads$Wrong"))) ∈ lw_all := lw_g (lw_at lw_m4 45 rfl) rfl
theorem q831 : (Jvm.Cond.classLink "WoolThreads$Reader" (40 : Nat) "WoolThreads$Wrong") ∈ lw_all := lw_g (lw_at lw_m4 46 rfl) rfl
theorem q840 : (Jvm.Cond.methodLink "WoolThreads$Reader" (42 : Nat) ({ cls := "WoolThreads$Wrong", name := "<init>", desc := "(II)V" } : Jvm.MethodName)) ∈ lw_all := lw_g (lw_at lw_m4 55 rfl) rfl
theorem q859 : (Jvm.Cond.methodLink "WoolThreads$Reader" (58 : Nat) ({ cls := "java/lang/String", name := "length", desc := "()I" } : Jvm.MethodName)) ∈ lw_all := lw_g (lw_at lw_m4 74 rfl) rfl
theorem q860 : (Jvm.Cond.methodLink "WoolThreads$Reader" (68 : Nat) ({ cls := "WoolThreads$Reader", name := "number", desc := "(II)I" } : Jvm.MethodName)) ∈ lw_all := lw_g (lw_at lw_m4 75 rfl) rfl
theorem q861 : (Jvm.Cond.privateMethod ({ cls := "WoolThreads$Reader", name := "number", desc := "(II)I" } : Jvm.MethodName)) ∈ lw_tbl := lw_at lw_m4 76 rfl
theorem q862 : (Jvm.Cond.instanceMethod ({ cls := "WoolThreads$Reader", name := "number", desc := "(II)I" } : Jvm.MethodName)) ∈ lw_all := lw_g (lw_at lw_m4 77 rfl) rfl
theorem q863 : (Jvm.Cond.code ({ cls := "WoolThreads$Reader", name := "number", desc := "(II)I" } : Jvm.MethodName) prog_6_method_7_code (5 : Nat) (Option.some Jvm.ClassFile.FieldType.int)) ∈ lw_all := lw_g (lw_at lw_m4 78 rfl) rfl
theorem q864 : (Jvm.Cond.methodLink "WoolThreads$Reader" (62 : Nat) ({ cls := "java/lang/Math", name := "min", desc := "(II)I" } : Jvm.MethodName)) ∈ lw_all := lw_g (lw_at lw_m4 79 rfl) rfl
theorem q865 : (Jvm.Cond.methodLink "WoolThreads$Reader" (109 : Nat) ({ cls := "WoolThreads$Reader", name := "other", desc := "(II)I" } : Jvm.MethodName)) ∈ lw_all := lw_g (lw_at lw_m4 80 rfl) rfl
theorem q866 : (Jvm.Cond.privateMethod ({ cls := "WoolThreads$Reader", name := "other", desc := "(II)I" } : Jvm.MethodName)) ∈ lw_tbl := lw_at lw_m4 81 rfl
theorem q867 : (Jvm.Cond.instanceMethod ({ cls := "WoolThreads$Reader", name := "other", desc := "(II)I" } : Jvm.MethodName)) ∈ lw_all := lw_g (lw_at lw_m4 82 rfl) rfl
theorem q868 : (Jvm.Cond.code ({ cls := "WoolThreads$Reader", name := "other", desc := "(II)I" } : Jvm.MethodName) prog_6_method_8_code (4 : Nat) (Option.some Jvm.ClassFile.FieldType.int)) ∈ lw_all := lw_g (lw_at lw_m4 83 rfl) rfl
theorem q869 : (Jvm.Cond.methodLink "WoolThreads$Reader" (112 : Nat) ({ cls := "WoolThreads$Law", name := "joins", desc := "(II)V" } : Jvm.MethodName)) ∈ lw_all := lw_g (lw_at lw_m4 84 rfl) rfl
theorem q873 : (Jvm.Cond.methodLink "WoolThreads$Reader" (78 : Nat) ({ cls := "WoolThreads$Reader", name := "need", desc := "(I)V" } : Jvm.MethodName)) ∈ lw_all := lw_g (lw_at lw_m4 88 rfl) rfl
theorem q874 : (Jvm.Cond.privateMethod ({ cls := "WoolThreads$Reader", name := "need", desc := "(I)V" } : Jvm.MethodName)) ∈ lw_tbl := lw_at lw_m4 89 rfl
theorem q875 : (Jvm.Cond.instanceMethod ({ cls := "WoolThreads$Reader", name := "need", desc := "(I)V" } : Jvm.MethodName)) ∈ lw_all := lw_g (lw_at lw_m4 90 rfl) rfl
theorem q876 : (Jvm.Cond.code ({ cls := "WoolThreads$Reader", name := "need", desc := "(I)V" } : Jvm.MethodName) prog_6_method_5_code (2 : Nat) (Option.none : Option Jvm.ClassFile.FieldType)) ∈ lw_all := lw_g (lw_at lw_m4 91 rfl) rfl
theorem q885 : (Jvm.Cond.instanceMethod ({ cls := "WoolThreads$Reader", name := "story", desc := "()Ljava/util/ArrayList;" } : Jvm.MethodName)) ∈ lw_all := lw_g (lw_at lw_m4 100 rfl) rfl
theorem q886 : (Jvm.Cond.selects "WoolThreads$Reader" ({ cls := "WoolThreads$Reader", name := "story", desc := "()Ljava/util/ArrayList;" } : Jvm.MethodName) ({ cls := "WoolThreads$Reader", name := "story", desc := "()Ljava/util/ArrayList;" } : Jvm.MethodName)) ∈ lw_all := lw_g (lw_at lw_m4 101 rfl) rfl
theorem q887 : (Jvm.Cond.code ({ cls := "WoolThreads$Reader", name := "story", desc := "()Ljava/util/ArrayList;" } : Jvm.MethodName) prog_6_method_11_code (2 : Nat) (Option.some (Jvm.ClassFile.FieldType.object "java/util/ArrayList"))) ∈ lw_all := lw_g (lw_at lw_m4 102 rfl) rfl
theorem q888 : (Jvm.Cond.classLink "WoolThreads$Reader" (121 : Nat) "java/util/ArrayList") ∈ lw_all := lw_g (lw_at lw_m4 103 rfl) rfl
theorem q889 : (Jvm.Cond.methodLink "WoolThreads$Reader" (123 : Nat) ({ cls := "java/util/ArrayList", name := "<init>", desc := "(I)V" } : Jvm.MethodName)) ∈ lw_all := lw_g (lw_at lw_m4 104 rfl) rfl
theorem q890 : (Jvm.Cond.methodLink "WoolThreads$Reader" (125 : Nat) ({ cls := "WoolThreads$Reader", name := "event", desc := "(Ljava/util/ArrayList;)LWoolThreads$Event;" } : Jvm.MethodName)) ∈ lw_all := lw_g (lw_at lw_m4 105 rfl) rfl
theorem q891 : (Jvm.Cond.privateMethod ({ cls := "WoolThreads$Reader", name := "event", desc := "(Ljava/util/ArrayList;)LWoolThreads$Event;" } : Jvm.MethodName)) ∈ lw_tbl := lw_at lw_m4 106 rfl
theorem q892 : (Jvm.Cond.instanceMethod ({ cls := "WoolThreads$Reader", name := "event", desc := "(Ljava/util/ArrayList;)LWoolThreads$Event;" } : Jvm.MethodName)) ∈ lw_all := lw_g (lw_at lw_m4 107 rfl) rfl
theorem q893 : (Jvm.Cond.code ({ cls := "WoolThreads$Reader", name := "event", desc := "(Ljava/util/ArrayList;)LWoolThreads$Event;" } : Jvm.MethodName) prog_6_method_13_code (7 : Nat) (Option.some (Jvm.ClassFile.FieldType.object "WoolThreads$Event"))) ∈ lw_all := lw_g (lw_at lw_m4 108 rfl) rfl
theorem q894 : (Jvm.Cond.stringRef "WoolThreads$Reader" (153 : Nat) "wear") ∈ lw_tbl := lw_at lw_m4 109 rfl
theorem q895 : (Jvm.Cond.stringRef "WoolThreads$Reader" (155 : Nat) "bare") ∈ lw_tbl := lw_at lw_m4 110 rfl
theorem q896 : (Jvm.Cond.stringRef "WoolThreads$Reader" (157 : Nat) "touch") ∈ lw_tbl := lw_at lw_m4 111 rfl
theorem q897 : (Jvm.Cond.stringRef "WoolThreads$Reader" (159 : Nat) "shake") ∈ lw_tbl := lw_at lw_m4 112 rfl
theorem q898 : (Jvm.Cond.methodLink "WoolThreads$Reader" (142 : Nat) ({ cls := "java/util/ArrayList", name := "size", desc := "()I" } : Jvm.MethodName)) ∈ lw_all := lw_g (lw_at lw_m4 113 rfl) rfl
theorem q899 : (Jvm.Cond.classLink "WoolThreads$Reader" (161 : Nat) "WoolThreads$Wear") ∈ lw_all := lw_g (lw_at lw_m4 114 rfl) rfl
theorem q901 : (Jvm.Cond.methodLink "WoolThreads$Reader" (163 : Nat) ({ cls := "WoolThreads$Reader", name := "at", desc := "(Ljava/util/ArrayList;)I" } : Jvm.MethodName)) ∈ lw_all := lw_g (lw_at lw_m4 116 rfl) rfl
theorem q902 : (Jvm.Cond.privateMethod ({ cls := "WoolThreads$Reader", name := "at", desc := "(Ljava/util/ArrayList;)I" } : Jvm.MethodName)) ∈ lw_tbl := lw_at lw_m4 117 rfl
theorem q903 : (Jvm.Cond.instanceMethod ({ cls := "WoolThreads$Reader", name := "at", desc := "(Ljava/util/ArrayList;)I" } : Jvm.MethodName)) ∈ lw_all := lw_g (lw_at lw_m4 118 rfl) rfl
theorem q904 : (Jvm.Cond.code ({ cls := "WoolThreads$Reader", name := "at", desc := "(Ljava/util/ArrayList;)I" } : Jvm.MethodName) prog_6_method_12_code (3 : Nat) (Option.some Jvm.ClassFile.FieldType.int)) ∈ lw_all := lw_g (lw_at lw_m4 119 rfl) rfl
theorem q905 : (Jvm.Cond.stringRef "WoolThreads$Reader" (132 : Nat) "at") ∈ lw_tbl := lw_at lw_m4 120 rfl
theorem q906 : (Jvm.Cond.methodLink "WoolThreads$Reader" (134 : Nat) ({ cls := "WoolThreads$Reader", name := "needWord", desc := "(Ljava/lang/String;)V" } : Jvm.MethodName)) ∈ lw_all := lw_g (lw_at lw_m4 121 rfl) rfl
theorem q907 : (Jvm.Cond.privateMethod ({ cls := "WoolThreads$Reader", name := "needWord", desc := "(Ljava/lang/String;)V" } : Jvm.MethodName)) ∈ lw_tbl := lw_at lw_m4 122 rfl
theorem q908 : (Jvm.Cond.instanceMethod ({ cls := "WoolThreads$Reader", name := "needWord", desc := "(Ljava/lang/String;)V" } : Jvm.MethodName)) ∈ lw_all := lw_g (lw_at lw_m4 123 rfl) rfl
theorem q909 : (Jvm.Cond.code ({ cls := "WoolThreads$Reader", name := "needWord", desc := "(Ljava/lang/String;)V" } : Jvm.MethodName) prog_6_method_6_code (2 : Nat) (Option.none : Option Jvm.ClassFile.FieldType)) ∈ lw_all := lw_g (lw_at lw_m4 124 rfl) rfl
theorem q910 : (Jvm.Cond.methodLink "WoolThreads$Reader" (138 : Nat) ({ cls := "java/util/ArrayList", name := "isEmpty", desc := "()Z" } : Jvm.MethodName)) ∈ lw_all := lw_g (lw_at lw_m4 125 rfl) rfl
theorem q914 : (Jvm.Cond.methodLink "WoolThreads$Reader" (144 : Nat) ({ cls := "java/util/ArrayList", name := "get", desc := "(I)Ljava/lang/Object;" } : Jvm.MethodName)) ∈ lw_all := lw_g (lw_at lw_m4 129 rfl) rfl
theorem q915 : (Jvm.Cond.classLink "WoolThreads$Reader" (148 : Nat) "WoolThreads$Event") ∈ lw_all := lw_g (lw_at lw_m4 130 rfl) rfl
theorem q916 : (Jvm.Cond.methodLink "WoolThreads$Reader" (166 : Nat) ({ cls := "WoolThreads$Wear", name := "<init>", desc := "(III)V" } : Jvm.MethodName)) ∈ lw_all := lw_g (lw_at lw_m4 131 rfl) rfl
theorem q934 : (Jvm.Cond.fieldLink "WoolThreads$Reader" (150 : Nat) "WoolThreads$Event" "hour" "I") ∈ lw_all := lw_g (lw_at lw_m4 149 rfl) rfl
theorem q944 : (Jvm.Cond.classLink "WoolThreads$Reader" (169 : Nat) "WoolThreads$Touch") ∈ lw_all := lw_g (lw_at lw_m4 159 rfl) rfl
theorem q946 : (Jvm.Cond.methodLink "WoolThreads$Reader" (171 : Nat) ({ cls := "WoolThreads$Touch", name := "<init>", desc := "(III)V" } : Jvm.MethodName)) ∈ lw_all := lw_g (lw_at lw_m4 161 rfl) rfl
theorem q957 : (Jvm.Cond.classLink "WoolThreads$Reader" (172 : Nat) "WoolThreads$Stay") ∈ lw_all := lw_g (lw_at lw_m4 172 rfl) rfl
theorem q959 : (Jvm.Cond.methodLink "WoolThreads$Reader" (174 : Nat) ({ cls := "WoolThreads$Stay", name := "<init>", desc := "(III)V" } : Jvm.MethodName)) ∈ lw_all := lw_g (lw_at lw_m4 174 rfl) rfl
theorem q969 : (Jvm.Cond.methodLink "WoolThreads$Reader" (129 : Nat) ({ cls := "java/util/ArrayList", name := "add", desc := "(Ljava/lang/Object;)Z" } : Jvm.MethodName)) ∈ lw_all := lw_g (lw_at lw_m4 184 rfl) rfl
theorem q2033 : (Jvm.Cond.castable "WoolThreads$Reader" "java/lang/Object") ∈ lw_tbl := lw_at lw_m9 48 rfl
theorem in_X5 : ∀ w ∈ wsX50, w ∈ lw_all := lw_in wsX50 [700, 702, 704, 706] (by decide +kernel) (by decide +kernel)
end
section
/-! WoolThreads$Wrong -/
set_option maxRecDepth 100000
def RX6 : String := "WoolThreads$Wrong"
def TX6 : u_T := fun k => match k with
  | 0 => ("java/lang/Throwable", "cause", "Ljava/lang/Throwable;", false)
  | 1 => ("java/lang/Throwable", "stackTrace", "[Ljava/lang/StackTraceElement;", false)
  | 2 => ("java/lang/Throwable", "suppressedExceptions", "Ljava/util/List;", false)
  | 3 => ("java/lang/Throwable", "detailMessage", "Ljava/lang/String;", false)
  | 4 => ("java/lang/Throwable", "backtrace", "Ljava/lang/Object;", false)
  | 5 => ("java/lang/Throwable", "depth", "I", false)
  | 6 => ("WoolThreads$Wrong", "kind", "I", true)
  | _ => ("WoolThreads$Wrong", "place", "I", true)
def tyX6 : Nat → FieldType := fun k => match k with
  | 0 => .object "java/lang/Throwable"
  | 1 => .array (.object "java/lang/StackTraceElement")
  | 2 => .object "java/util/List"
  | 3 => .object "java/lang/String"
  | 4 => .object "java/lang/Object"
  | 5 => .int
  | 6 => .int
  | _ => .int
abbrev wsX60 : List Cond := u_ws RX6 TX6 8
theorem nmX6 : ∀ a, a < 8 → ∀ b, b < 8 → a ≠ b → (TX6 a).2.1 ≠ (TX6 b).2.1 := by decide +kernel
theorem tyX6_ok : ∀ k, k < 8 → parseFieldDescriptor (TX6 k).2.2.1 = some (tyX6 k) := by decide +kernel
abbrev cX6_init : ByteArray := prog_14_method_1_code
def yX6_init : MethodName := ⟨RX6, "<init>", "(II)V"⟩
def dkwX6_init_0 : List UInt8 := [42, 1, 1, 3, 3, 183, 0, 1, 42, 27, 181, 0, 7, 42, 28, 181, 0, 13, 177]
abbrev dktX6_init_0 : List UInt8 := dkwX6_init_0 ++ []
theorem dksX6_init_0 : cX6_init.data.toList.drop 0 = dktX6_init_0 := by decide +kernel
theorem dX6_init_0 : decode cX6_init 0 = .ok (.aload_n 0, 1) := dk_42 (dk_at dksX6_init_0 0 rfl rfl)
theorem dX6_init_1 : decode cX6_init 1 = .ok (.aconst_null, 1) := dk_1 (dk_at dksX6_init_0 1 rfl rfl)
theorem dX6_init_2 : decode cX6_init 2 = .ok (.aconst_null, 1) := dk_1 (dk_at dksX6_init_0 2 rfl rfl)
theorem dX6_init_3 : decode cX6_init 3 = .ok (.iconst 0, 1) := dk_3 (dk_at dksX6_init_0 3 rfl rfl)
theorem dX6_init_4 : decode cX6_init 4 = .ok (.iconst 0, 1) := dk_3 (dk_at dksX6_init_0 4 rfl rfl)
theorem dX6_init_5 : decode cX6_init 5 = .ok (.invokespecial 1, 3) := dk_183 0 1 (dk_at dksX6_init_0 5 rfl rfl)
theorem dX6_init_8 : decode cX6_init 8 = .ok (.aload_n 0, 1) := dk_42 (dk_at dksX6_init_0 8 rfl rfl)
theorem dX6_init_9 : decode cX6_init 9 = .ok (.iload_n 1, 1) := dk_27 (dk_at dksX6_init_0 9 rfl rfl)
theorem dX6_init_10 : decode cX6_init 10 = .ok (.putfield 7, 3) := dk_181 0 7 (dk_at dksX6_init_0 10 rfl rfl)
theorem dX6_init_13 : decode cX6_init 13 = .ok (.aload_n 0, 1) := dk_42 (dk_at dksX6_init_0 13 rfl rfl)
theorem dX6_init_14 : decode cX6_init 14 = .ok (.iload_n 2, 1) := dk_28 (dk_at dksX6_init_0 14 rfl rfl)
theorem dX6_init_15 : decode cX6_init 15 = .ok (.putfield 13, 3) := dk_181 0 13 (dk_at dksX6_init_0 15 rfl rfl)
theorem dX6_init_18 : decode cX6_init 18 = .ok (.return_, 1) := dk_177 (dk_at dksX6_init_0 18 rfl rfl)
theorem q90 : (Jvm.Cond.initialized "WoolThreads$Wrong") ∈ lw_all := lw_g (lw_at lw_m1 25 rfl) rfl
theorem q218 : (Jvm.Cond.selects "WoolThreads$Wrong" ({ cls := "java/lang/Throwable", name := "fillInStackTrace", desc := "()Ljava/lang/Throwable;" } : Jvm.MethodName) ({ cls := "java/lang/Throwable", name := "fillInStackTrace", desc := "()Ljava/lang/Throwable;" } : Jvm.MethodName)) ∈ lw_all := lw_g (lw_at lw_m1 153 rfl) rfl
theorem q639 : (Jvm.Cond.selects "WoolThreads$Wrong" ({ cls := "java/lang/Object", name := "getClass", desc := "()Ljava/lang/Class;" } : Jvm.MethodName) ({ cls := "java/lang/Object", name := "getClass", desc := "()Ljava/lang/Class;" } : Jvm.MethodName)) ∈ lw_all := lw_g (lw_at lw_m3 94 rfl) rfl
theorem q832 : (Jvm.Cond.instantiable "WoolThreads$Wrong" (8 : Nat)) ∈ lw_all := lw_g (lw_at lw_m4 47 rfl) rfl
theorem q833 : (Jvm.Cond.castable "WoolThreads$Wrong" "WoolThreads$Wrong") ∈ lw_tbl := lw_at lw_m4 48 rfl
theorem q834 : (Jvm.Cond.selects "WoolThreads$Wrong" ({ cls := "java/lang/Throwable", name := "fillInStackTrace", desc := "(I)Ljava/lang/Throwable;" } : Jvm.MethodName) ({ cls := "java/lang/Throwable", name := "fillInStackTrace", desc := "(I)Ljava/lang/Throwable;" } : Jvm.MethodName)) ∈ lw_all := lw_g (lw_at lw_m4 49 rfl) rfl
theorem q835 : (Jvm.Cond.lays "WoolThreads$Wrong" "java/lang/Throwable" "cause" "Ljava/lang/Throwable;") ∈ lw_all := lw_g (lw_at lw_m4 50 rfl) rfl
theorem q836 : (Jvm.Cond.lays "WoolThreads$Wrong" "java/lang/Throwable" "stackTrace" "[Ljava/lang/StackTraceElement;") ∈ lw_all := lw_g (lw_at lw_m4 51 rfl) rfl
theorem q837 : (Jvm.Cond.lays "WoolThreads$Wrong" "java/lang/Throwable" "suppressedExceptions" "Ljava/util/List;") ∈ lw_all := lw_g (lw_at lw_m4 52 rfl) rfl
theorem q838 : (Jvm.Cond.lays "WoolThreads$Wrong" "java/lang/Throwable" "detailMessage" "Ljava/lang/String;") ∈ lw_all := lw_g (lw_at lw_m4 53 rfl) rfl
theorem q839 : (Jvm.Cond.lays "WoolThreads$Wrong" "java/lang/Throwable" "backtrace" "Ljava/lang/Object;") ∈ lw_all := lw_g (lw_at lw_m4 54 rfl) rfl
theorem q841 : (Jvm.Cond.instanceMethod ({ cls := "WoolThreads$Wrong", name := "<init>", desc := "(II)V" } : Jvm.MethodName)) ∈ lw_all := lw_g (lw_at lw_m4 56 rfl) rfl
theorem q842 : (Jvm.Cond.code ({ cls := "WoolThreads$Wrong", name := "<init>", desc := "(II)V" } : Jvm.MethodName) prog_14_method_1_code (3 : Nat) (Option.none : Option Jvm.ClassFile.FieldType)) ∈ lw_all := lw_g (lw_at lw_m4 57 rfl) rfl
theorem q843 : (Jvm.Cond.methodLink "WoolThreads$Wrong" (1 : Nat) ({ cls := "java/lang/Exception", name := "<init>", desc := "(Ljava/lang/String;Ljava/lang/Throwable;ZZ)V" } : Jvm.MethodName)) ∈ lw_all := lw_g (lw_at lw_m4 58 rfl) rfl
theorem q849 : (Jvm.Cond.fieldLink "WoolThreads$Wrong" (7 : Nat) "WoolThreads$Wrong" "kind" "I") ∈ lw_all := lw_g (lw_at lw_m4 64 rfl) rfl
theorem q851 : (Jvm.Cond.fieldLink "WoolThreads$Wrong" (13 : Nat) "WoolThreads$Wrong" "place" "I") ∈ lw_all := lw_g (lw_at lw_m4 66 rfl) rfl
theorem q853 : (Jvm.Cond.laysFinal "WoolThreads$Wrong" "WoolThreads$Wrong" "kind" "I") ∈ lw_all := lw_g (lw_at lw_m4 68 rfl) rfl
theorem q854 : (Jvm.Cond.soleField "WoolThreads$Wrong" "kind") ∈ lw_all := lw_g (lw_at lw_m4 69 rfl) rfl
theorem q855 : (Jvm.Cond.laysFinal "WoolThreads$Wrong" "WoolThreads$Wrong" "place" "I") ∈ lw_all := lw_g (lw_at lw_m4 70 rfl) rfl
theorem q856 : (Jvm.Cond.soleField "WoolThreads$Wrong" "place") ∈ lw_all := lw_g (lw_at lw_m4 71 rfl) rfl
theorem q857 : (Jvm.Cond.lays "WoolThreads$Wrong" "java/lang/Throwable" "depth" "I") ∈ lw_all := lw_g (lw_at lw_m4 72 rfl) rfl
theorem q858 : (Jvm.Cond.superclass "WoolThreads$Wrong" "java/lang/Exception") ∈ lw_all := lw_g (lw_at lw_m4 73 rfl) rfl
theorem q2035 : (Jvm.Cond.castable "WoolThreads$Wrong" "java/lang/Object") ∈ lw_tbl := lw_at lw_m9 50 rfl
theorem in_X6 : ∀ w ∈ wsX60, w ∈ lw_all := lw_in wsX60 [835, 836, 837, 838, 839, 857, 853, 855] (by decide +kernel) (by decide +kernel)
end
section
/-! WoolThreads$Event -/
set_option maxRecDepth 100000
def RX7 : String := "WoolThreads$Event"
abbrev cX7_init : ByteArray := prog_2_method_1_code
def yX7_init : MethodName := ⟨RX7, "<init>", "(II)V"⟩
def dkwX7_init_0 : List UInt8 := [42, 183, 0, 1, 42, 27, 181, 0, 7, 42, 28, 181, 0, 13, 177]
abbrev dktX7_init_0 : List UInt8 := dkwX7_init_0 ++ []
theorem dksX7_init_0 : cX7_init.data.toList.drop 0 = dktX7_init_0 := by decide +kernel
theorem dX7_init_0 : decode cX7_init 0 = .ok (.aload_n 0, 1) := dk_42 (dk_at dksX7_init_0 0 rfl rfl)
theorem dX7_init_1 : decode cX7_init 1 = .ok (.invokespecial 1, 3) := dk_183 0 1 (dk_at dksX7_init_0 1 rfl rfl)
theorem dX7_init_4 : decode cX7_init 4 = .ok (.aload_n 0, 1) := dk_42 (dk_at dksX7_init_0 4 rfl rfl)
theorem dX7_init_5 : decode cX7_init 5 = .ok (.iload_n 1, 1) := dk_27 (dk_at dksX7_init_0 5 rfl rfl)
theorem dX7_init_6 : decode cX7_init 6 = .ok (.putfield 7, 3) := dk_181 0 7 (dk_at dksX7_init_0 6 rfl rfl)
theorem dX7_init_9 : decode cX7_init 9 = .ok (.aload_n 0, 1) := dk_42 (dk_at dksX7_init_0 9 rfl rfl)
theorem dX7_init_10 : decode cX7_init 10 = .ok (.iload_n 2, 1) := dk_28 (dk_at dksX7_init_0 10 rfl rfl)
theorem dX7_init_11 : decode cX7_init 11 = .ok (.putfield 13, 3) := dk_181 0 13 (dk_at dksX7_init_0 11 rfl rfl)
theorem dX7_init_14 : decode cX7_init 14 = .ok (.return_, 1) := dk_177 (dk_at dksX7_init_0 14 rfl rfl)
abbrev cX7_isTouch : ByteArray := prog_2_method_3_code
def yX7_isTouch : MethodName := ⟨RX7, "isTouch", "(II)Z"⟩
theorem dX7_isTouch_0 : decode cX7_isTouch 0 = .ok (.iconst 0, 1) := by decide +kernel
theorem dX7_isTouch_1 : decode cX7_isTouch 1 = .ok (.ireturn, 1) := by decide +kernel
theorem q91 : (Jvm.Cond.initialized "WoolThreads$Event") ∈ lw_all := lw_g (lw_at lw_m1 26 rfl) rfl
theorem q920 : (Jvm.Cond.instanceMethod ({ cls := "WoolThreads$Event", name := "<init>", desc := "(II)V" } : Jvm.MethodName)) ∈ lw_all := lw_g (lw_at lw_m4 135 rfl) rfl
theorem q921 : (Jvm.Cond.code ({ cls := "WoolThreads$Event", name := "<init>", desc := "(II)V" } : Jvm.MethodName) prog_2_method_1_code (3 : Nat) (Option.none : Option Jvm.ClassFile.FieldType)) ∈ lw_all := lw_g (lw_at lw_m4 136 rfl) rfl
theorem q922 : (Jvm.Cond.methodLink "WoolThreads$Event" (1 : Nat) ({ cls := "java/lang/Object", name := "<init>", desc := "()V" } : Jvm.MethodName)) ∈ lw_all := lw_g (lw_at lw_m4 137 rfl) rfl
theorem q924 : (Jvm.Cond.fieldLink "WoolThreads$Event" (7 : Nat) "WoolThreads$Event" "place" "I") ∈ lw_all := lw_g (lw_at lw_m4 139 rfl) rfl
theorem q932 : (Jvm.Cond.fieldLink "WoolThreads$Event" (13 : Nat) "WoolThreads$Event" "hour" "I") ∈ lw_all := lw_g (lw_at lw_m4 147 rfl) rfl
theorem q940 : (Jvm.Cond.soleField "WoolThreads$Event" "place") ∈ lw_all := lw_g (lw_at lw_m4 155 rfl) rfl
theorem q942 : (Jvm.Cond.soleField "WoolThreads$Event" "hour") ∈ lw_all := lw_g (lw_at lw_m4 157 rfl) rfl
theorem q1104 : (Jvm.Cond.instanceMethod ({ cls := "WoolThreads$Event", name := "isTouch", desc := "(II)Z" } : Jvm.MethodName)) ∈ lw_all := lw_g (lw_at lw_m5 79 rfl) rfl
theorem q1105 : (Jvm.Cond.sameMethod "WoolThreads$Event" "WoolThreads$Event" "isTouch" "(II)Z") ∈ lw_all := lw_g (lw_at lw_m5 80 rfl) rfl
theorem q1111 : (Jvm.Cond.code ({ cls := "WoolThreads$Event", name := "isTouch", desc := "(II)Z" } : Jvm.MethodName) prog_2_method_3_code (3 : Nat) (Option.some Jvm.ClassFile.FieldType.boolean)) ∈ lw_all := lw_g (lw_at lw_m5 86 rfl) rfl
theorem q1113 : (Jvm.Cond.declares ({ cls := "WoolThreads$Event", name := "does", desc := "(LWoolThreads$Scene;)V" } : Jvm.MethodName)) ∈ lw_tbl := lw_at lw_m5 88 rfl
theorem q1114 : (Jvm.Cond.sameMethod "WoolThreads$Event" "WoolThreads$Event" "does" "(LWoolThreads$Scene;)V") ∈ lw_all := lw_g (lw_at lw_m5 89 rfl) rfl
end
section
/-! WoolThreads$Wear -/
set_option maxRecDepth 100000
def RX8 : String := "WoolThreads$Wear"
def TX8 : u_T := fun k => match k with
  | 0 => ("WoolThreads$Event", "place", "I", true)
  | 1 => ("WoolThreads$Event", "hour", "I", true)
  | _ => ("WoolThreads$Wear", "garment", "I", true)
def tyX8 : Nat → FieldType := fun k => match k with
  | 0 => .int
  | 1 => .int
  | _ => .int
abbrev wsX80 : List Cond := u_ws RX8 TX8 3
theorem nmX8 : ∀ a, a < 3 → ∀ b, b < 3 → a ≠ b → (TX8 a).2.1 ≠ (TX8 b).2.1 := by decide +kernel
theorem tyX8_ok : ∀ k, k < 3 → parseFieldDescriptor (TX8 k).2.2.1 = some (tyX8 k) := by decide +kernel
abbrev cX8_init : ByteArray := prog_13_method_1_code
def yX8_init : MethodName := ⟨RX8, "<init>", "(III)V"⟩
def dkwX8_init_0 : List UInt8 := [42, 27, 29, 183, 0, 1, 42, 28, 181, 0, 7, 177]
abbrev dktX8_init_0 : List UInt8 := dkwX8_init_0 ++ []
theorem dksX8_init_0 : cX8_init.data.toList.drop 0 = dktX8_init_0 := by decide +kernel
theorem dX8_init_0 : decode cX8_init 0 = .ok (.aload_n 0, 1) := dk_42 (dk_at dksX8_init_0 0 rfl rfl)
theorem dX8_init_1 : decode cX8_init 1 = .ok (.iload_n 1, 1) := dk_27 (dk_at dksX8_init_0 1 rfl rfl)
theorem dX8_init_2 : decode cX8_init 2 = .ok (.iload_n 3, 1) := dk_29 (dk_at dksX8_init_0 2 rfl rfl)
theorem dX8_init_3 : decode cX8_init 3 = .ok (.invokespecial 1, 3) := dk_183 0 1 (dk_at dksX8_init_0 3 rfl rfl)
theorem dX8_init_6 : decode cX8_init 6 = .ok (.aload_n 0, 1) := dk_42 (dk_at dksX8_init_0 6 rfl rfl)
theorem dX8_init_7 : decode cX8_init 7 = .ok (.iload_n 2, 1) := dk_28 (dk_at dksX8_init_0 7 rfl rfl)
theorem dX8_init_8 : decode cX8_init 8 = .ok (.putfield 7, 3) := dk_181 0 7 (dk_at dksX8_init_0 8 rfl rfl)
theorem dX8_init_11 : decode cX8_init 11 = .ok (.return_, 1) := dk_177 (dk_at dksX8_init_0 11 rfl rfl)
abbrev cX8_does : ByteArray := prog_13_method_2_code
def yX8_does : MethodName := ⟨RX8, "does", "(LWoolThreads$Scene;)V"⟩
def dkwX8_does_0 : List UInt8 := [43, 180, 0, 13, 42, 180, 0, 19, 42, 180, 0, 7, 79, 177]
abbrev dktX8_does_0 : List UInt8 := dkwX8_does_0 ++ []
theorem dksX8_does_0 : cX8_does.data.toList.drop 0 = dktX8_does_0 := by decide +kernel
theorem dX8_does_0 : decode cX8_does 0 = .ok (.aload_n 1, 1) := dk_43 (dk_at dksX8_does_0 0 rfl rfl)
theorem dX8_does_1 : decode cX8_does 1 = .ok (.getfield 13, 3) := dk_180 0 13 (dk_at dksX8_does_0 1 rfl rfl)
theorem dX8_does_4 : decode cX8_does 4 = .ok (.aload_n 0, 1) := dk_42 (dk_at dksX8_does_0 4 rfl rfl)
theorem dX8_does_5 : decode cX8_does 5 = .ok (.getfield 19, 3) := dk_180 0 19 (dk_at dksX8_does_0 5 rfl rfl)
theorem dX8_does_8 : decode cX8_does 8 = .ok (.aload_n 0, 1) := dk_42 (dk_at dksX8_does_0 8 rfl rfl)
theorem dX8_does_9 : decode cX8_does 9 = .ok (.getfield 7, 3) := dk_180 0 7 (dk_at dksX8_does_0 9 rfl rfl)
theorem dX8_does_12 : decode cX8_does 12 = .ok (.iastore, 1) := dk_79 (dk_at dksX8_does_0 12 rfl rfl)
theorem dX8_does_13 : decode cX8_does 13 = .ok (.return_, 1) := dk_177 (dk_at dksX8_does_0 13 rfl rfl)
theorem q92 : (Jvm.Cond.initialized "WoolThreads$Wear") ∈ lw_all := lw_g (lw_at lw_m1 27 rfl) rfl
theorem q638 : (Jvm.Cond.selects "WoolThreads$Wear" ({ cls := "java/lang/Object", name := "getClass", desc := "()Ljava/lang/Class;" } : Jvm.MethodName) ({ cls := "java/lang/Object", name := "getClass", desc := "()Ljava/lang/Class;" } : Jvm.MethodName)) ∈ lw_all := lw_g (lw_at lw_m3 93 rfl) rfl
theorem q900 : (Jvm.Cond.instantiable "WoolThreads$Wear" (3 : Nat)) ∈ lw_all := lw_g (lw_at lw_m4 115 rfl) rfl
theorem q917 : (Jvm.Cond.instanceMethod ({ cls := "WoolThreads$Wear", name := "<init>", desc := "(III)V" } : Jvm.MethodName)) ∈ lw_all := lw_g (lw_at lw_m4 132 rfl) rfl
theorem q918 : (Jvm.Cond.code ({ cls := "WoolThreads$Wear", name := "<init>", desc := "(III)V" } : Jvm.MethodName) prog_13_method_1_code (4 : Nat) (Option.none : Option Jvm.ClassFile.FieldType)) ∈ lw_all := lw_g (lw_at lw_m4 133 rfl) rfl
theorem q919 : (Jvm.Cond.methodLink "WoolThreads$Wear" (1 : Nat) ({ cls := "WoolThreads$Event", name := "<init>", desc := "(II)V" } : Jvm.MethodName)) ∈ lw_all := lw_g (lw_at lw_m4 134 rfl) rfl
theorem q923 : (Jvm.Cond.fieldLink "WoolThreads$Wear" (7 : Nat) "WoolThreads$Wear" "garment" "I") ∈ lw_all := lw_g (lw_at lw_m4 138 rfl) rfl
theorem q929 : (Jvm.Cond.fieldLink "WoolThreads$Wear" (19 : Nat) "WoolThreads$Wear" "place" "I") ∈ lw_all := lw_g (lw_at lw_m4 144 rfl) rfl
theorem q930 : (Jvm.Cond.sameField "WoolThreads$Wear" "WoolThreads$Event" "place" "I") ∈ lw_all := lw_g (lw_at lw_m4 145 rfl) rfl
theorem q937 : (Jvm.Cond.laysFinal "WoolThreads$Wear" "WoolThreads$Wear" "garment" "I") ∈ lw_all := lw_g (lw_at lw_m4 152 rfl) rfl
theorem q938 : (Jvm.Cond.soleField "WoolThreads$Wear" "garment") ∈ lw_all := lw_g (lw_at lw_m4 153 rfl) rfl
theorem q939 : (Jvm.Cond.laysFinal "WoolThreads$Wear" "WoolThreads$Event" "place" "I") ∈ lw_all := lw_g (lw_at lw_m4 154 rfl) rfl
theorem q941 : (Jvm.Cond.laysFinal "WoolThreads$Wear" "WoolThreads$Event" "hour" "I") ∈ lw_all := lw_g (lw_at lw_m4 156 rfl) rfl
theorem q943 : (Jvm.Cond.superclass "WoolThreads$Wear" "WoolThreads$Event") ∈ lw_all := lw_g (lw_at lw_m4 158 rfl) rfl
theorem q1082 : (Jvm.Cond.fieldLinkNest "WoolThreads$Wear" (13 : Nat) "WoolThreads$Scene" "wears" "[I" "WoolThreads") ∈ lw_tbl := lw_at lw_m5 57 rfl
theorem q1110 : (Jvm.Cond.selects "WoolThreads$Wear" ({ cls := "WoolThreads$Event", name := "isTouch", desc := "(II)Z" } : Jvm.MethodName) ({ cls := "WoolThreads$Event", name := "isTouch", desc := "(II)Z" } : Jvm.MethodName)) ∈ lw_all := lw_g (lw_at lw_m5 85 rfl) rfl
theorem q1134 : (Jvm.Cond.selects "WoolThreads$Wear" ({ cls := "WoolThreads$Event", name := "does", desc := "(LWoolThreads$Scene;)V" } : Jvm.MethodName) ({ cls := "WoolThreads$Wear", name := "does", desc := "(LWoolThreads$Scene;)V" } : Jvm.MethodName)) ∈ lw_all := lw_g (lw_at lw_m5 109 rfl) rfl
theorem q1135 : (Jvm.Cond.instanceMethod ({ cls := "WoolThreads$Wear", name := "does", desc := "(LWoolThreads$Scene;)V" } : Jvm.MethodName)) ∈ lw_all := lw_g (lw_at lw_m5 110 rfl) rfl
theorem q1136 : (Jvm.Cond.code ({ cls := "WoolThreads$Wear", name := "does", desc := "(LWoolThreads$Scene;)V" } : Jvm.MethodName) prog_13_method_2_code (2 : Nat) (Option.none : Option Jvm.ClassFile.FieldType)) ∈ lw_all := lw_g (lw_at lw_m5 111 rfl) rfl
theorem q2024 : (Jvm.Cond.castable "WoolThreads$Wear" "WoolThreads$Event") ∈ lw_tbl := lw_at lw_m9 39 rfl
theorem q2036 : (Jvm.Cond.castable "WoolThreads$Wear" "java/lang/Object") ∈ lw_tbl := lw_at lw_m9 51 rfl
theorem in_X8 : ∀ w ∈ wsX80, w ∈ lw_all := lw_in wsX80 [939, 941, 937] (by decide +kernel) (by decide +kernel)
end
section
/-! WoolThreads$Touch -/
set_option maxRecDepth 100000
def RX9 : String := "WoolThreads$Touch"
def TX9 : u_T := fun k => match k with
  | 0 => ("WoolThreads$Event", "place", "I", true)
  | 1 => ("WoolThreads$Event", "hour", "I", true)
  | _ => ("WoolThreads$Touch", "other", "I", true)
def tyX9 : Nat → FieldType := fun k => match k with
  | 0 => .int
  | 1 => .int
  | _ => .int
abbrev wsX90 : List Cond := u_ws RX9 TX9 3
theorem nmX9 : ∀ a, a < 3 → ∀ b, b < 3 → a ≠ b → (TX9 a).2.1 ≠ (TX9 b).2.1 := by decide +kernel
theorem tyX9_ok : ∀ k, k < 3 → parseFieldDescriptor (TX9 k).2.2.1 = some (tyX9 k) := by decide +kernel
abbrev cX9_init : ByteArray := prog_12_method_1_code
def yX9_init : MethodName := ⟨RX9, "<init>", "(III)V"⟩
def dkwX9_init_0 : List UInt8 := [42, 27, 29, 183, 0, 1, 42, 28, 181, 0, 7, 177]
abbrev dktX9_init_0 : List UInt8 := dkwX9_init_0 ++ []
theorem dksX9_init_0 : cX9_init.data.toList.drop 0 = dktX9_init_0 := by decide +kernel
theorem dX9_init_0 : decode cX9_init 0 = .ok (.aload_n 0, 1) := dk_42 (dk_at dksX9_init_0 0 rfl rfl)
theorem dX9_init_1 : decode cX9_init 1 = .ok (.iload_n 1, 1) := dk_27 (dk_at dksX9_init_0 1 rfl rfl)
theorem dX9_init_2 : decode cX9_init 2 = .ok (.iload_n 3, 1) := dk_29 (dk_at dksX9_init_0 2 rfl rfl)
theorem dX9_init_3 : decode cX9_init 3 = .ok (.invokespecial 1, 3) := dk_183 0 1 (dk_at dksX9_init_0 3 rfl rfl)
theorem dX9_init_6 : decode cX9_init 6 = .ok (.aload_n 0, 1) := dk_42 (dk_at dksX9_init_0 6 rfl rfl)
theorem dX9_init_7 : decode cX9_init 7 = .ok (.iload_n 2, 1) := dk_28 (dk_at dksX9_init_0 7 rfl rfl)
theorem dX9_init_8 : decode cX9_init 8 = .ok (.putfield 7, 3) := dk_181 0 7 (dk_at dksX9_init_0 8 rfl rfl)
theorem dX9_init_11 : decode cX9_init 11 = .ok (.return_, 1) := dk_177 (dk_at dksX9_init_0 11 rfl rfl)
abbrev cX9_isTouch : ByteArray := prog_12_method_3_code
def yX9_isTouch : MethodName := ⟨RX9, "isTouch", "(II)Z"⟩
def dkwX9_isTouch_1 : List UInt8 := [42, 180, 0, 7, 27, 160, 0, 7, 4, 167, 0, 4, 3, 172]
abbrev dktX9_isTouch_1 : List UInt8 := dkwX9_isTouch_1 ++ []
def dkwX9_isTouch_0 : List UInt8 := [42, 180, 0, 13, 27, 160, 0, 11, 42, 180, 0, 7, 28, 159, 0, 19, 42, 180, 0, 13, 28, 160, 0, 15]
abbrev dktX9_isTouch_0 : List UInt8 := dkwX9_isTouch_0 ++ dktX9_isTouch_1
theorem dksX9_isTouch_0 : cX9_isTouch.data.toList.drop 0 = dktX9_isTouch_0 := by decide +kernel
theorem dksX9_isTouch_1 : cX9_isTouch.data.toList.drop 24 = dktX9_isTouch_1 := dk_seg dksX9_isTouch_0 24 rfl rfl
theorem dX9_isTouch_0 : decode cX9_isTouch 0 = .ok (.aload_n 0, 1) := dk_42 (dk_at dksX9_isTouch_0 0 rfl rfl)
theorem dX9_isTouch_1 : decode cX9_isTouch 1 = .ok (.getfield 13, 3) := dk_180 0 13 (dk_at dksX9_isTouch_0 1 rfl rfl)
theorem dX9_isTouch_4 : decode cX9_isTouch 4 = .ok (.iload_n 1, 1) := dk_27 (dk_at dksX9_isTouch_0 4 rfl rfl)
theorem dX9_isTouch_5 : decode cX9_isTouch 5 = .ok (.if_icmp .ne 11, 3) := dk_160 0 11 (dk_at dksX9_isTouch_0 5 rfl rfl)
theorem dX9_isTouch_8 : decode cX9_isTouch 8 = .ok (.aload_n 0, 1) := dk_42 (dk_at dksX9_isTouch_0 8 rfl rfl)
theorem dX9_isTouch_9 : decode cX9_isTouch 9 = .ok (.getfield 7, 3) := dk_180 0 7 (dk_at dksX9_isTouch_0 9 rfl rfl)
theorem dX9_isTouch_12 : decode cX9_isTouch 12 = .ok (.iload_n 2, 1) := dk_28 (dk_at dksX9_isTouch_0 12 rfl rfl)
theorem dX9_isTouch_13 : decode cX9_isTouch 13 = .ok (.if_icmp .eq 19, 3) := dk_159 0 19 (dk_at dksX9_isTouch_0 13 rfl rfl)
theorem dX9_isTouch_16 : decode cX9_isTouch 16 = .ok (.aload_n 0, 1) := dk_42 (dk_at dksX9_isTouch_0 16 rfl rfl)
theorem dX9_isTouch_17 : decode cX9_isTouch 17 = .ok (.getfield 13, 3) := dk_180 0 13 (dk_at dksX9_isTouch_0 17 rfl rfl)
theorem dX9_isTouch_20 : decode cX9_isTouch 20 = .ok (.iload_n 2, 1) := dk_28 (dk_at dksX9_isTouch_0 20 rfl rfl)
theorem dX9_isTouch_21 : decode cX9_isTouch 21 = .ok (.if_icmp .ne 15, 3) := dk_160 0 15 (dk_at dksX9_isTouch_0 21 rfl rfl)
theorem dX9_isTouch_24 : decode cX9_isTouch 24 = .ok (.aload_n 0, 1) := dk_42 (dk_at dksX9_isTouch_1 0 rfl rfl)
theorem dX9_isTouch_25 : decode cX9_isTouch 25 = .ok (.getfield 7, 3) := dk_180 0 7 (dk_at dksX9_isTouch_1 1 rfl rfl)
theorem dX9_isTouch_28 : decode cX9_isTouch 28 = .ok (.iload_n 1, 1) := dk_27 (dk_at dksX9_isTouch_1 4 rfl rfl)
theorem dX9_isTouch_29 : decode cX9_isTouch 29 = .ok (.if_icmp .ne 7, 3) := dk_160 0 7 (dk_at dksX9_isTouch_1 5 rfl rfl)
theorem dX9_isTouch_32 : decode cX9_isTouch 32 = .ok (.iconst 1, 1) := dk_4 (dk_at dksX9_isTouch_1 8 rfl rfl)
theorem dX9_isTouch_33 : decode cX9_isTouch 33 = .ok (.goto 4, 3) := dk_167 0 4 (dk_at dksX9_isTouch_1 9 rfl rfl)
theorem dX9_isTouch_36 : decode cX9_isTouch 36 = .ok (.iconst 0, 1) := dk_3 (dk_at dksX9_isTouch_1 12 rfl rfl)
theorem dX9_isTouch_37 : decode cX9_isTouch 37 = .ok (.ireturn, 1) := dk_172 (dk_at dksX9_isTouch_1 13 rfl rfl)
abbrev cX9_does : ByteArray := prog_12_method_2_code
def yX9_does : MethodName := ⟨RX9, "does", "(LWoolThreads$Scene;)V"⟩
def dkwX9_does_0 : List UInt8 := [43, 42, 180, 0, 13, 42, 180, 0, 7, 182, 0, 16, 177]
abbrev dktX9_does_0 : List UInt8 := dkwX9_does_0 ++ []
theorem dksX9_does_0 : cX9_does.data.toList.drop 0 = dktX9_does_0 := by decide +kernel
theorem dX9_does_0 : decode cX9_does 0 = .ok (.aload_n 1, 1) := dk_43 (dk_at dksX9_does_0 0 rfl rfl)
theorem dX9_does_1 : decode cX9_does 1 = .ok (.aload_n 0, 1) := dk_42 (dk_at dksX9_does_0 1 rfl rfl)
theorem dX9_does_2 : decode cX9_does 2 = .ok (.getfield 13, 3) := dk_180 0 13 (dk_at dksX9_does_0 2 rfl rfl)
theorem dX9_does_5 : decode cX9_does 5 = .ok (.aload_n 0, 1) := dk_42 (dk_at dksX9_does_0 5 rfl rfl)
theorem dX9_does_6 : decode cX9_does 6 = .ok (.getfield 7, 3) := dk_180 0 7 (dk_at dksX9_does_0 6 rfl rfl)
theorem dX9_does_9 : decode cX9_does 9 = .ok (.invokevirtual 16, 3) := dk_182 0 16 (dk_at dksX9_does_0 9 rfl rfl)
theorem dX9_does_12 : decode cX9_does 12 = .ok (.return_, 1) := dk_177 (dk_at dksX9_does_0 12 rfl rfl)
theorem q94 : (Jvm.Cond.initialized "WoolThreads$Touch") ∈ lw_all := lw_g (lw_at lw_m1 29 rfl) rfl
theorem q637 : (Jvm.Cond.selects "WoolThreads$Touch" ({ cls := "java/lang/Object", name := "getClass", desc := "()Ljava/lang/Class;" } : Jvm.MethodName) ({ cls := "java/lang/Object", name := "getClass", desc := "()Ljava/lang/Class;" } : Jvm.MethodName)) ∈ lw_all := lw_g (lw_at lw_m3 92 rfl) rfl
theorem q927 : (Jvm.Cond.fieldLink "WoolThreads$Touch" (13 : Nat) "WoolThreads$Touch" "place" "I") ∈ lw_all := lw_g (lw_at lw_m4 142 rfl) rfl
theorem q928 : (Jvm.Cond.sameField "WoolThreads$Touch" "WoolThreads$Event" "place" "I") ∈ lw_all := lw_g (lw_at lw_m4 143 rfl) rfl
theorem q936 : (Jvm.Cond.sameField "WoolThreads$Touch" "WoolThreads$Event" "hour" "I") ∈ lw_all := lw_g (lw_at lw_m4 151 rfl) rfl
theorem q945 : (Jvm.Cond.instantiable "WoolThreads$Touch" (3 : Nat)) ∈ lw_all := lw_g (lw_at lw_m4 160 rfl) rfl
theorem q947 : (Jvm.Cond.instanceMethod ({ cls := "WoolThreads$Touch", name := "<init>", desc := "(III)V" } : Jvm.MethodName)) ∈ lw_all := lw_g (lw_at lw_m4 162 rfl) rfl
theorem q948 : (Jvm.Cond.code ({ cls := "WoolThreads$Touch", name := "<init>", desc := "(III)V" } : Jvm.MethodName) prog_12_method_1_code (4 : Nat) (Option.none : Option Jvm.ClassFile.FieldType)) ∈ lw_all := lw_g (lw_at lw_m4 163 rfl) rfl
theorem q949 : (Jvm.Cond.methodLink "WoolThreads$Touch" (1 : Nat) ({ cls := "WoolThreads$Event", name := "<init>", desc := "(II)V" } : Jvm.MethodName)) ∈ lw_all := lw_g (lw_at lw_m4 164 rfl) rfl
theorem q950 : (Jvm.Cond.fieldLink "WoolThreads$Touch" (7 : Nat) "WoolThreads$Touch" "other" "I") ∈ lw_all := lw_g (lw_at lw_m4 165 rfl) rfl
theorem q952 : (Jvm.Cond.laysFinal "WoolThreads$Touch" "WoolThreads$Touch" "other" "I") ∈ lw_all := lw_g (lw_at lw_m4 167 rfl) rfl
theorem q953 : (Jvm.Cond.soleField "WoolThreads$Touch" "other") ∈ lw_all := lw_g (lw_at lw_m4 168 rfl) rfl
theorem q954 : (Jvm.Cond.laysFinal "WoolThreads$Touch" "WoolThreads$Event" "place" "I") ∈ lw_all := lw_g (lw_at lw_m4 169 rfl) rfl
theorem q955 : (Jvm.Cond.laysFinal "WoolThreads$Touch" "WoolThreads$Event" "hour" "I") ∈ lw_all := lw_g (lw_at lw_m4 170 rfl) rfl
theorem q956 : (Jvm.Cond.superclass "WoolThreads$Touch" "WoolThreads$Event") ∈ lw_all := lw_g (lw_at lw_m4 171 rfl) rfl
theorem q1107 : (Jvm.Cond.selects "WoolThreads$Touch" ({ cls := "WoolThreads$Event", name := "isTouch", desc := "(II)Z" } : Jvm.MethodName) ({ cls := "WoolThreads$Touch", name := "isTouch", desc := "(II)Z" } : Jvm.MethodName)) ∈ lw_all := lw_g (lw_at lw_m5 82 rfl) rfl
theorem q1108 : (Jvm.Cond.instanceMethod ({ cls := "WoolThreads$Touch", name := "isTouch", desc := "(II)Z" } : Jvm.MethodName)) ∈ lw_all := lw_g (lw_at lw_m5 83 rfl) rfl
theorem q1109 : (Jvm.Cond.code ({ cls := "WoolThreads$Touch", name := "isTouch", desc := "(II)Z" } : Jvm.MethodName) prog_12_method_3_code (3 : Nat) (Option.some Jvm.ClassFile.FieldType.boolean)) ∈ lw_all := lw_g (lw_at lw_m5 84 rfl) rfl
theorem q1122 : (Jvm.Cond.selects "WoolThreads$Touch" ({ cls := "WoolThreads$Event", name := "does", desc := "(LWoolThreads$Scene;)V" } : Jvm.MethodName) ({ cls := "WoolThreads$Touch", name := "does", desc := "(LWoolThreads$Scene;)V" } : Jvm.MethodName)) ∈ lw_all := lw_g (lw_at lw_m5 97 rfl) rfl
theorem q1123 : (Jvm.Cond.instanceMethod ({ cls := "WoolThreads$Touch", name := "does", desc := "(LWoolThreads$Scene;)V" } : Jvm.MethodName)) ∈ lw_all := lw_g (lw_at lw_m5 98 rfl) rfl
theorem q1124 : (Jvm.Cond.code ({ cls := "WoolThreads$Touch", name := "does", desc := "(LWoolThreads$Scene;)V" } : Jvm.MethodName) prog_12_method_2_code (2 : Nat) (Option.none : Option Jvm.ClassFile.FieldType)) ∈ lw_all := lw_g (lw_at lw_m5 99 rfl) rfl
theorem q1125 : (Jvm.Cond.methodLink "WoolThreads$Touch" (16 : Nat) ({ cls := "WoolThreads$Scene", name := "touch", desc := "(II)V" } : Jvm.MethodName)) ∈ lw_all := lw_g (lw_at lw_m5 100 rfl) rfl
theorem q2023 : (Jvm.Cond.castable "WoolThreads$Touch" "WoolThreads$Event") ∈ lw_tbl := lw_at lw_m9 38 rfl
theorem q2037 : (Jvm.Cond.castable "WoolThreads$Touch" "java/lang/Object") ∈ lw_tbl := lw_at lw_m9 52 rfl
theorem in_X9 : ∀ w ∈ wsX90, w ∈ lw_all := lw_in wsX90 [954, 955, 952] (by decide +kernel) (by decide +kernel)
end
section
/-! WoolThreads$Stay -/
set_option maxRecDepth 100000
def RX10 : String := "WoolThreads$Stay"
def TX10 : u_T := fun k => match k with
  | 0 => ("WoolThreads$Event", "place", "I", true)
  | 1 => ("WoolThreads$Event", "hour", "I", true)
  | _ => ("WoolThreads$Stay", "of", "I", true)
def tyX10 : Nat → FieldType := fun k => match k with
  | 0 => .int
  | 1 => .int
  | _ => .int
abbrev wsX100 : List Cond := u_ws RX10 TX10 3
theorem nmX10 : ∀ a, a < 3 → ∀ b, b < 3 → a ≠ b → (TX10 a).2.1 ≠ (TX10 b).2.1 := by decide +kernel
theorem tyX10_ok : ∀ k, k < 3 → parseFieldDescriptor (TX10 k).2.2.1 = some (tyX10 k) := by decide +kernel
abbrev cX10_init : ByteArray := prog_11_method_1_code
def yX10_init : MethodName := ⟨RX10, "<init>", "(III)V"⟩
def dkwX10_init_0 : List UInt8 := [42, 27, 29, 183, 0, 3, 42, 28, 181, 0, 9, 177]
abbrev dktX10_init_0 : List UInt8 := dkwX10_init_0 ++ []
theorem dksX10_init_0 : cX10_init.data.toList.drop 0 = dktX10_init_0 := by decide +kernel
theorem dX10_init_0 : decode cX10_init 0 = .ok (.aload_n 0, 1) := dk_42 (dk_at dksX10_init_0 0 rfl rfl)
theorem dX10_init_1 : decode cX10_init 1 = .ok (.iload_n 1, 1) := dk_27 (dk_at dksX10_init_0 1 rfl rfl)
theorem dX10_init_2 : decode cX10_init 2 = .ok (.iload_n 3, 1) := dk_29 (dk_at dksX10_init_0 2 rfl rfl)
theorem dX10_init_3 : decode cX10_init 3 = .ok (.invokespecial 3, 3) := dk_183 0 3 (dk_at dksX10_init_0 3 rfl rfl)
theorem dX10_init_6 : decode cX10_init 6 = .ok (.aload_n 0, 1) := dk_42 (dk_at dksX10_init_0 6 rfl rfl)
theorem dX10_init_7 : decode cX10_init 7 = .ok (.iload_n 2, 1) := dk_28 (dk_at dksX10_init_0 7 rfl rfl)
theorem dX10_init_8 : decode cX10_init 8 = .ok (.putfield 9, 3) := dk_181 0 9 (dk_at dksX10_init_0 8 rfl rfl)
theorem dX10_init_11 : decode cX10_init 11 = .ok (.return_, 1) := dk_177 (dk_at dksX10_init_0 11 rfl rfl)
abbrev cX10_does : ByteArray := prog_11_method_2_code
def yX10_does : MethodName := ⟨RX10, "does", "(LWoolThreads$Scene;)V"⟩
def dkwX10_does_1 : List UInt8 := [180, 0, 9, 182, 0, 29, 177]
abbrev dktX10_does_1 : List UInt8 := dkwX10_does_1 ++ []
def dkwX10_does_0 : List UInt8 := [43, 42, 180, 0, 15, 42, 180, 0, 9, 2, 160, 0, 13, 43, 180, 0, 18, 180, 0, 24, 167, 0, 7, 42]
abbrev dktX10_does_0 : List UInt8 := dkwX10_does_0 ++ dktX10_does_1
theorem dksX10_does_0 : cX10_does.data.toList.drop 0 = dktX10_does_0 := by decide +kernel
theorem dksX10_does_1 : cX10_does.data.toList.drop 24 = dktX10_does_1 := dk_seg dksX10_does_0 24 rfl rfl
theorem dX10_does_0 : decode cX10_does 0 = .ok (.aload_n 1, 1) := dk_43 (dk_at dksX10_does_0 0 rfl rfl)
theorem dX10_does_1 : decode cX10_does 1 = .ok (.aload_n 0, 1) := dk_42 (dk_at dksX10_does_0 1 rfl rfl)
theorem dX10_does_2 : decode cX10_does 2 = .ok (.getfield 15, 3) := dk_180 0 15 (dk_at dksX10_does_0 2 rfl rfl)
theorem dX10_does_5 : decode cX10_does 5 = .ok (.aload_n 0, 1) := dk_42 (dk_at dksX10_does_0 5 rfl rfl)
theorem dX10_does_6 : decode cX10_does 6 = .ok (.getfield 9, 3) := dk_180 0 9 (dk_at dksX10_does_0 6 rfl rfl)
theorem dX10_does_9 : decode cX10_does 9 = .ok (.iconst (-1), 1) := dk_2 (dk_at dksX10_does_0 9 rfl rfl)
theorem dX10_does_10 : decode cX10_does 10 = .ok (.if_icmp .ne 13, 3) := dk_160 0 13 (dk_at dksX10_does_0 10 rfl rfl)
theorem dX10_does_13 : decode cX10_does 13 = .ok (.aload_n 1, 1) := dk_43 (dk_at dksX10_does_0 13 rfl rfl)
theorem dX10_does_14 : decode cX10_does 14 = .ok (.getfield 18, 3) := dk_180 0 18 (dk_at dksX10_does_0 14 rfl rfl)
theorem dX10_does_17 : decode cX10_does 17 = .ok (.getfield 24, 3) := dk_180 0 24 (dk_at dksX10_does_0 17 rfl rfl)
theorem dX10_does_20 : decode cX10_does 20 = .ok (.goto 7, 3) := dk_167 0 7 (dk_at dksX10_does_0 20 rfl rfl)
theorem dX10_does_23 : decode cX10_does 23 = .ok (.aload_n 0, 1) := dk_42 (dk_at dksX10_does_0 23 rfl rfl)
theorem dX10_does_24 : decode cX10_does 24 = .ok (.getfield 9, 3) := dk_180 0 9 (dk_at dksX10_does_1 0 rfl rfl)
theorem dX10_does_27 : decode cX10_does 27 = .ok (.invokevirtual 29, 3) := dk_182 0 29 (dk_at dksX10_does_1 3 rfl rfl)
theorem dX10_does_30 : decode cX10_does 30 = .ok (.return_, 1) := dk_177 (dk_at dksX10_does_1 6 rfl rfl)
theorem q95 : (Jvm.Cond.initialized "WoolThreads$Stay") ∈ lw_all := lw_g (lw_at lw_m1 30 rfl) rfl
theorem q133 : (Jvm.Cond.fieldLinkNest "WoolThreads$Stay" (24 : Nat) "WoolThreads$Law" "wash" "I" "WoolThreads") ∈ lw_tbl := lw_at lw_m1 68 rfl
theorem q636 : (Jvm.Cond.selects "WoolThreads$Stay" ({ cls := "java/lang/Object", name := "getClass", desc := "()Ljava/lang/Class;" } : Jvm.MethodName) ({ cls := "java/lang/Object", name := "getClass", desc := "()Ljava/lang/Class;" } : Jvm.MethodName)) ∈ lw_all := lw_g (lw_at lw_m3 91 rfl) rfl
theorem q925 : (Jvm.Cond.fieldLink "WoolThreads$Stay" (15 : Nat) "WoolThreads$Stay" "place" "I") ∈ lw_all := lw_g (lw_at lw_m4 140 rfl) rfl
theorem q926 : (Jvm.Cond.sameField "WoolThreads$Stay" "WoolThreads$Event" "place" "I") ∈ lw_all := lw_g (lw_at lw_m4 141 rfl) rfl
theorem q958 : (Jvm.Cond.instantiable "WoolThreads$Stay" (3 : Nat)) ∈ lw_all := lw_g (lw_at lw_m4 173 rfl) rfl
theorem q960 : (Jvm.Cond.instanceMethod ({ cls := "WoolThreads$Stay", name := "<init>", desc := "(III)V" } : Jvm.MethodName)) ∈ lw_all := lw_g (lw_at lw_m4 175 rfl) rfl
theorem q961 : (Jvm.Cond.code ({ cls := "WoolThreads$Stay", name := "<init>", desc := "(III)V" } : Jvm.MethodName) prog_11_method_1_code (4 : Nat) (Option.none : Option Jvm.ClassFile.FieldType)) ∈ lw_all := lw_g (lw_at lw_m4 176 rfl) rfl
theorem q962 : (Jvm.Cond.methodLink "WoolThreads$Stay" (3 : Nat) ({ cls := "WoolThreads$Event", name := "<init>", desc := "(II)V" } : Jvm.MethodName)) ∈ lw_all := lw_g (lw_at lw_m4 177 rfl) rfl
theorem q963 : (Jvm.Cond.fieldLink "WoolThreads$Stay" (9 : Nat) "WoolThreads$Stay" "of" "I") ∈ lw_all := lw_g (lw_at lw_m4 178 rfl) rfl
theorem q964 : (Jvm.Cond.laysFinal "WoolThreads$Stay" "WoolThreads$Stay" "of" "I") ∈ lw_all := lw_g (lw_at lw_m4 179 rfl) rfl
theorem q965 : (Jvm.Cond.soleField "WoolThreads$Stay" "of") ∈ lw_all := lw_g (lw_at lw_m4 180 rfl) rfl
theorem q966 : (Jvm.Cond.laysFinal "WoolThreads$Stay" "WoolThreads$Event" "place" "I") ∈ lw_all := lw_g (lw_at lw_m4 181 rfl) rfl
theorem q967 : (Jvm.Cond.laysFinal "WoolThreads$Stay" "WoolThreads$Event" "hour" "I") ∈ lw_all := lw_g (lw_at lw_m4 182 rfl) rfl
theorem q968 : (Jvm.Cond.superclass "WoolThreads$Stay" "WoolThreads$Event") ∈ lw_all := lw_g (lw_at lw_m4 183 rfl) rfl
theorem q1078 : (Jvm.Cond.fieldLinkNest "WoolThreads$Stay" (18 : Nat) "WoolThreads$Scene" "law" "LWoolThreads$Law;" "WoolThreads") ∈ lw_tbl := lw_at lw_m5 53 rfl
theorem q1106 : (Jvm.Cond.selects "WoolThreads$Stay" ({ cls := "WoolThreads$Event", name := "isTouch", desc := "(II)Z" } : Jvm.MethodName) ({ cls := "WoolThreads$Event", name := "isTouch", desc := "(II)Z" } : Jvm.MethodName)) ∈ lw_all := lw_g (lw_at lw_m5 81 rfl) rfl
theorem q1115 : (Jvm.Cond.selects "WoolThreads$Stay" ({ cls := "WoolThreads$Event", name := "does", desc := "(LWoolThreads$Scene;)V" } : Jvm.MethodName) ({ cls := "WoolThreads$Stay", name := "does", desc := "(LWoolThreads$Scene;)V" } : Jvm.MethodName)) ∈ lw_all := lw_g (lw_at lw_m5 90 rfl) rfl
theorem q1116 : (Jvm.Cond.instanceMethod ({ cls := "WoolThreads$Stay", name := "does", desc := "(LWoolThreads$Scene;)V" } : Jvm.MethodName)) ∈ lw_all := lw_g (lw_at lw_m5 91 rfl) rfl
theorem q1117 : (Jvm.Cond.code ({ cls := "WoolThreads$Stay", name := "does", desc := "(LWoolThreads$Scene;)V" } : Jvm.MethodName) prog_11_method_2_code (2 : Nat) (Option.none : Option Jvm.ClassFile.FieldType)) ∈ lw_all := lw_g (lw_at lw_m5 92 rfl) rfl
theorem q1118 : (Jvm.Cond.methodLink "WoolThreads$Stay" (29 : Nat) ({ cls := "WoolThreads$Scene", name := "stay", desc := "(II)V" } : Jvm.MethodName)) ∈ lw_all := lw_g (lw_at lw_m5 93 rfl) rfl
theorem q2022 : (Jvm.Cond.castable "WoolThreads$Stay" "WoolThreads$Event") ∈ lw_tbl := lw_at lw_m9 37 rfl
theorem q2038 : (Jvm.Cond.castable "WoolThreads$Stay" "java/lang/Object") ∈ lw_tbl := lw_at lw_m9 53 rfl
theorem in_X10 : ∀ w ∈ wsX100, w ∈ lw_all := lw_in wsX100 [966, 967, 964] (by decide +kernel) (by decide +kernel)
end
section
/-! WoolThreads$Run -/
set_option maxRecDepth 100000
def RX11 : String := "WoolThreads$Run"
def TX11 : u_T := fun k => match k with
  | 0 => ("WoolThreads$Run", "events", "Ljava/util/ArrayList;", true)
  | 1 => ("WoolThreads$Run", "without", "I", false)
  | 2 => ("WoolThreads$Run", "more", "LWoolThreads$Event;", false)
  | 3 => ("WoolThreads$Run", "first", "I", false)
  | 4 => ("WoolThreads$Run", "second", "I", false)
  | 5 => ("WoolThreads$Run", "third", "I", false)
  | _ => ("WoolThreads$Run", "this$0", "LWoolThreads;", true)
def tyX11 : Nat → FieldType := fun k => match k with
  | 0 => .object "java/util/ArrayList"
  | 1 => .int
  | 2 => .object "WoolThreads$Event"
  | 3 => .int
  | 4 => .int
  | 5 => .int
  | _ => .object "WoolThreads"
abbrev wsX110 : List Cond := u_ws RX11 TX11 7
theorem nmX11 : ∀ a, a < 7 → ∀ b, b < 7 → a ≠ b → (TX11 a).2.1 ≠ (TX11 b).2.1 := by decide +kernel
theorem tyX11_ok : ∀ k, k < 7 → parseFieldDescriptor (TX11 k).2.2.1 = some (tyX11 k) := by decide +kernel
abbrev cX11_init : ByteArray := prog_7_method_1_code
def yX11_init : MethodName := ⟨RX11, "<init>", "(LWoolThreads;Ljava/util/ArrayList;)V"⟩
def dkwX11_init_1 : List UInt8 := [177]
abbrev dktX11_init_1 : List UInt8 := dkwX11_init_1 ++ []
def dkwX11_init_0 : List UInt8 := [42, 43, 181, 0, 3, 42, 183, 0, 9, 42, 2, 181, 0, 15, 42, 2, 181, 0, 19, 42, 44, 181, 0, 22]
abbrev dktX11_init_0 : List UInt8 := dkwX11_init_0 ++ dktX11_init_1
theorem dksX11_init_0 : cX11_init.data.toList.drop 0 = dktX11_init_0 := by decide +kernel
theorem dksX11_init_1 : cX11_init.data.toList.drop 24 = dktX11_init_1 := dk_seg dksX11_init_0 24 rfl rfl
theorem dX11_init_0 : decode cX11_init 0 = .ok (.aload_n 0, 1) := dk_42 (dk_at dksX11_init_0 0 rfl rfl)
theorem dX11_init_1 : decode cX11_init 1 = .ok (.aload_n 1, 1) := dk_43 (dk_at dksX11_init_0 1 rfl rfl)
theorem dX11_init_2 : decode cX11_init 2 = .ok (.putfield 3, 3) := dk_181 0 3 (dk_at dksX11_init_0 2 rfl rfl)
theorem dX11_init_5 : decode cX11_init 5 = .ok (.aload_n 0, 1) := dk_42 (dk_at dksX11_init_0 5 rfl rfl)
theorem dX11_init_6 : decode cX11_init 6 = .ok (.invokespecial 9, 3) := dk_183 0 9 (dk_at dksX11_init_0 6 rfl rfl)
theorem dX11_init_9 : decode cX11_init 9 = .ok (.aload_n 0, 1) := dk_42 (dk_at dksX11_init_0 9 rfl rfl)
theorem dX11_init_10 : decode cX11_init 10 = .ok (.iconst (-1), 1) := dk_2 (dk_at dksX11_init_0 10 rfl rfl)
theorem dX11_init_11 : decode cX11_init 11 = .ok (.putfield 15, 3) := dk_181 0 15 (dk_at dksX11_init_0 11 rfl rfl)
theorem dX11_init_14 : decode cX11_init 14 = .ok (.aload_n 0, 1) := dk_42 (dk_at dksX11_init_0 14 rfl rfl)
theorem dX11_init_15 : decode cX11_init 15 = .ok (.iconst (-1), 1) := dk_2 (dk_at dksX11_init_0 15 rfl rfl)
theorem dX11_init_16 : decode cX11_init 16 = .ok (.putfield 19, 3) := dk_181 0 19 (dk_at dksX11_init_0 16 rfl rfl)
theorem dX11_init_19 : decode cX11_init 19 = .ok (.aload_n 0, 1) := dk_42 (dk_at dksX11_init_0 19 rfl rfl)
theorem dX11_init_20 : decode cX11_init 20 = .ok (.aload_n 2, 1) := dk_44 (dk_at dksX11_init_0 20 rfl rfl)
theorem dX11_init_21 : decode cX11_init 21 = .ok (.putfield 22, 3) := dk_181 0 22 (dk_at dksX11_init_0 21 rfl rfl)
theorem dX11_init_24 : decode cX11_init 24 = .ok (.return_, 1) := dk_177 (dk_at dksX11_init_1 0 rfl rfl)
abbrev cX11_at : ByteArray := prog_7_method_4_code
def yX11_at : MethodName := ⟨RX11, "at", "(I)LWoolThreads$Scene;"⟩
def dkwX11_at_0 : List UInt8 := [42, 27, 2, 182, 0, 76, 176]
abbrev dktX11_at_0 : List UInt8 := dkwX11_at_0 ++ []
theorem dksX11_at_0 : cX11_at.data.toList.drop 0 = dktX11_at_0 := by decide +kernel
theorem dX11_at_0 : decode cX11_at 0 = .ok (.aload_n 0, 1) := dk_42 (dk_at dksX11_at_0 0 rfl rfl)
theorem dX11_at_1 : decode cX11_at 1 = .ok (.iload_n 1, 1) := dk_27 (dk_at dksX11_at_0 1 rfl rfl)
theorem dX11_at_2 : decode cX11_at 2 = .ok (.iconst (-1), 1) := dk_2 (dk_at dksX11_at_0 2 rfl rfl)
theorem dX11_at_3 : decode cX11_at 3 = .ok (.invokevirtual 76, 3) := dk_182 0 76 (dk_at dksX11_at_0 3 rfl rfl)
theorem dX11_at_6 : decode cX11_at 6 = .ok (.areturn, 1) := dk_176 (dk_at dksX11_at_0 6 rfl rfl)
abbrev cX11_at_2 : ByteArray := prog_7_method_3_code
def yX11_at_2 : MethodName := ⟨RX11, "at", "(II)LWoolThreads$Scene;"⟩
def dkwX11_at_2_5 : List UInt8 := [180, 0, 62, 21, 5, 160, 0, 11, 42, 180, 0, 72, 45, 182, 0, 68, 132, 5, 1, 167, 255, 140, 45, 176]
abbrev dktX11_at_2_5 : List UInt8 := dkwX11_at_2_5 ++ []
def dkwX11_at_2_4 : List UInt8 := [192, 0, 32, 45, 182, 0, 68, 132, 4, 1, 167, 255, 188, 42, 180, 0, 72, 198, 0, 23, 42, 180, 0, 72]
abbrev dktX11_at_2_4 : List UInt8 := dkwX11_at_2_4 ++ dktX11_at_2_5
def dkwX11_at_2_3 : List UInt8 := [160, 0, 5, 45, 176, 42, 21, 4, 182, 0, 64, 154, 0, 19, 42, 180, 0, 22, 21, 4, 182, 0, 26]
abbrev dktX11_at_2_3 : List UInt8 := dkwX11_at_2_3 ++ dktX11_at_2_4
def dkwX11_at_2_2 : List UInt8 := [42, 180, 0, 22, 21, 4, 182, 0, 26, 192, 0, 32, 180, 0, 62, 21, 5, 160, 0, 42, 21, 4, 28]
abbrev dktX11_at_2_2 : List UInt8 := dkwX11_at_2_2 ++ dktX11_at_2_3
def dkwX11_at_2_1 : List UInt8 := [163, 0, 116, 21, 5, 158, 0, 7, 45, 182, 0, 55, 21, 4, 42, 180, 0, 22, 182, 0, 58, 162, 0, 62]
abbrev dktX11_at_2_1 : List UInt8 := dkwX11_at_2_1 ++ dktX11_at_2_2
def dkwX11_at_2_0 : List UInt8 := [187, 0, 46, 89, 42, 180, 0, 3, 180, 0, 48, 183, 0, 52, 78, 3, 54, 4, 3, 54, 5, 21, 5, 27]
abbrev dktX11_at_2_0 : List UInt8 := dkwX11_at_2_0 ++ dktX11_at_2_1
theorem dksX11_at_2_0 : cX11_at_2.data.toList.drop 0 = dktX11_at_2_0 := by decide +kernel
theorem dksX11_at_2_1 : cX11_at_2.data.toList.drop 24 = dktX11_at_2_1 := dk_seg dksX11_at_2_0 24 rfl rfl
theorem dksX11_at_2_2 : cX11_at_2.data.toList.drop 48 = dktX11_at_2_2 := dk_seg dksX11_at_2_1 24 rfl rfl
theorem dksX11_at_2_3 : cX11_at_2.data.toList.drop 71 = dktX11_at_2_3 := dk_seg dksX11_at_2_2 23 rfl rfl
theorem dksX11_at_2_4 : cX11_at_2.data.toList.drop 94 = dktX11_at_2_4 := dk_seg dksX11_at_2_3 23 rfl rfl
theorem dksX11_at_2_5 : cX11_at_2.data.toList.drop 118 = dktX11_at_2_5 := dk_seg dksX11_at_2_4 24 rfl rfl
theorem dX11_at_2_0 : decode cX11_at_2 0 = .ok (.new 46, 3) := dk_187 0 46 (dk_at dksX11_at_2_0 0 rfl rfl)
theorem dX11_at_2_3 : decode cX11_at_2 3 = .ok (.dup, 1) := dk_89 (dk_at dksX11_at_2_0 3 rfl rfl)
theorem dX11_at_2_4 : decode cX11_at_2 4 = .ok (.aload_n 0, 1) := dk_42 (dk_at dksX11_at_2_0 4 rfl rfl)
theorem dX11_at_2_5 : decode cX11_at_2 5 = .ok (.getfield 3, 3) := dk_180 0 3 (dk_at dksX11_at_2_0 5 rfl rfl)
theorem dX11_at_2_8 : decode cX11_at_2 8 = .ok (.getfield 48, 3) := dk_180 0 48 (dk_at dksX11_at_2_0 8 rfl rfl)
theorem dX11_at_2_11 : decode cX11_at_2 11 = .ok (.invokespecial 52, 3) := dk_183 0 52 (dk_at dksX11_at_2_0 11 rfl rfl)
theorem dX11_at_2_14 : decode cX11_at_2 14 = .ok (.astore_n 3, 1) := dk_78 (dk_at dksX11_at_2_0 14 rfl rfl)
theorem dX11_at_2_15 : decode cX11_at_2 15 = .ok (.iconst 0, 1) := dk_3 (dk_at dksX11_at_2_0 15 rfl rfl)
theorem dX11_at_2_16 : decode cX11_at_2 16 = .ok (.istore 4, 2) := dk_54 4 (dk_at dksX11_at_2_0 16 rfl rfl)
theorem dX11_at_2_18 : decode cX11_at_2 18 = .ok (.iconst 0, 1) := dk_3 (dk_at dksX11_at_2_0 18 rfl rfl)
theorem dX11_at_2_19 : decode cX11_at_2 19 = .ok (.istore 5, 2) := dk_54 5 (dk_at dksX11_at_2_0 19 rfl rfl)
theorem dX11_at_2_21 : decode cX11_at_2 21 = .ok (.iload 5, 2) := dk_21 5 (dk_at dksX11_at_2_0 21 rfl rfl)
theorem dX11_at_2_23 : decode cX11_at_2 23 = .ok (.iload_n 1, 1) := dk_27 (dk_at dksX11_at_2_0 23 rfl rfl)
theorem dX11_at_2_24 : decode cX11_at_2 24 = .ok (.if_icmp .gt 116, 3) := dk_163 0 116 (dk_at dksX11_at_2_1 0 rfl rfl)
theorem dX11_at_2_27 : decode cX11_at_2 27 = .ok (.iload 5, 2) := dk_21 5 (dk_at dksX11_at_2_1 3 rfl rfl)
theorem dX11_at_2_29 : decode cX11_at_2 29 = .ok (.ifCond .le 7, 3) := dk_158 0 7 (dk_at dksX11_at_2_1 5 rfl rfl)
theorem dX11_at_2_32 : decode cX11_at_2 32 = .ok (.aload_n 3, 1) := dk_45 (dk_at dksX11_at_2_1 8 rfl rfl)
theorem dX11_at_2_33 : decode cX11_at_2 33 = .ok (.invokevirtual 55, 3) := dk_182 0 55 (dk_at dksX11_at_2_1 9 rfl rfl)
theorem dX11_at_2_36 : decode cX11_at_2 36 = .ok (.iload 4, 2) := dk_21 4 (dk_at dksX11_at_2_1 12 rfl rfl)
theorem dX11_at_2_38 : decode cX11_at_2 38 = .ok (.aload_n 0, 1) := dk_42 (dk_at dksX11_at_2_1 14 rfl rfl)
theorem dX11_at_2_39 : decode cX11_at_2 39 = .ok (.getfield 22, 3) := dk_180 0 22 (dk_at dksX11_at_2_1 15 rfl rfl)
theorem dX11_at_2_42 : decode cX11_at_2 42 = .ok (.invokevirtual 58, 3) := dk_182 0 58 (dk_at dksX11_at_2_1 18 rfl rfl)
theorem dX11_at_2_45 : decode cX11_at_2 45 = .ok (.if_icmp .ge 62, 3) := dk_162 0 62 (dk_at dksX11_at_2_1 21 rfl rfl)
theorem dX11_at_2_48 : decode cX11_at_2 48 = .ok (.aload_n 0, 1) := dk_42 (dk_at dksX11_at_2_2 0 rfl rfl)
theorem dX11_at_2_49 : decode cX11_at_2 49 = .ok (.getfield 22, 3) := dk_180 0 22 (dk_at dksX11_at_2_2 1 rfl rfl)
theorem dX11_at_2_52 : decode cX11_at_2 52 = .ok (.iload 4, 2) := dk_21 4 (dk_at dksX11_at_2_2 4 rfl rfl)
theorem dX11_at_2_54 : decode cX11_at_2 54 = .ok (.invokevirtual 26, 3) := dk_182 0 26 (dk_at dksX11_at_2_2 6 rfl rfl)
theorem dX11_at_2_57 : decode cX11_at_2 57 = .ok (.checkcast 32, 3) := dk_192 0 32 (dk_at dksX11_at_2_2 9 rfl rfl)
theorem dX11_at_2_60 : decode cX11_at_2 60 = .ok (.getfield 62, 3) := dk_180 0 62 (dk_at dksX11_at_2_2 12 rfl rfl)
theorem dX11_at_2_63 : decode cX11_at_2 63 = .ok (.iload 5, 2) := dk_21 5 (dk_at dksX11_at_2_2 15 rfl rfl)
theorem dX11_at_2_65 : decode cX11_at_2 65 = .ok (.if_icmp .ne 42, 3) := dk_160 0 42 (dk_at dksX11_at_2_2 17 rfl rfl)
theorem dX11_at_2_68 : decode cX11_at_2 68 = .ok (.iload 4, 2) := dk_21 4 (dk_at dksX11_at_2_2 20 rfl rfl)
theorem dX11_at_2_70 : decode cX11_at_2 70 = .ok (.iload_n 2, 1) := dk_28 (dk_at dksX11_at_2_2 22 rfl rfl)
theorem dX11_at_2_71 : decode cX11_at_2 71 = .ok (.if_icmp .ne 5, 3) := dk_160 0 5 (dk_at dksX11_at_2_3 0 rfl rfl)
theorem dX11_at_2_74 : decode cX11_at_2 74 = .ok (.aload_n 3, 1) := dk_45 (dk_at dksX11_at_2_3 3 rfl rfl)
theorem dX11_at_2_75 : decode cX11_at_2 75 = .ok (.areturn, 1) := dk_176 (dk_at dksX11_at_2_3 4 rfl rfl)
theorem dX11_at_2_76 : decode cX11_at_2 76 = .ok (.aload_n 0, 1) := dk_42 (dk_at dksX11_at_2_3 5 rfl rfl)
theorem dX11_at_2_77 : decode cX11_at_2 77 = .ok (.iload 4, 2) := dk_21 4 (dk_at dksX11_at_2_3 6 rfl rfl)
theorem dX11_at_2_79 : decode cX11_at_2 79 = .ok (.invokevirtual 64, 3) := dk_182 0 64 (dk_at dksX11_at_2_3 8 rfl rfl)
theorem dX11_at_2_82 : decode cX11_at_2 82 = .ok (.ifCond .ne 19, 3) := dk_154 0 19 (dk_at dksX11_at_2_3 11 rfl rfl)
theorem dX11_at_2_85 : decode cX11_at_2 85 = .ok (.aload_n 0, 1) := dk_42 (dk_at dksX11_at_2_3 14 rfl rfl)
theorem dX11_at_2_86 : decode cX11_at_2 86 = .ok (.getfield 22, 3) := dk_180 0 22 (dk_at dksX11_at_2_3 15 rfl rfl)
theorem dX11_at_2_89 : decode cX11_at_2 89 = .ok (.iload 4, 2) := dk_21 4 (dk_at dksX11_at_2_3 18 rfl rfl)
theorem dX11_at_2_91 : decode cX11_at_2 91 = .ok (.invokevirtual 26, 3) := dk_182 0 26 (dk_at dksX11_at_2_3 20 rfl rfl)
theorem dX11_at_2_94 : decode cX11_at_2 94 = .ok (.checkcast 32, 3) := dk_192 0 32 (dk_at dksX11_at_2_4 0 rfl rfl)
theorem dX11_at_2_97 : decode cX11_at_2 97 = .ok (.aload_n 3, 1) := dk_45 (dk_at dksX11_at_2_4 3 rfl rfl)
theorem dX11_at_2_98 : decode cX11_at_2 98 = .ok (.invokevirtual 68, 3) := dk_182 0 68 (dk_at dksX11_at_2_4 4 rfl rfl)
theorem dX11_at_2_101 : decode cX11_at_2 101 = .ok (.iinc 4 1, 3) := dk_132 4 1 (dk_at dksX11_at_2_4 7 rfl rfl)
theorem dX11_at_2_104 : decode cX11_at_2 104 = .ok (.goto (-68), 3) := dk_167 255 188 (dk_at dksX11_at_2_4 10 rfl rfl)
theorem dX11_at_2_107 : decode cX11_at_2 107 = .ok (.aload_n 0, 1) := dk_42 (dk_at dksX11_at_2_4 13 rfl rfl)
theorem dX11_at_2_108 : decode cX11_at_2 108 = .ok (.getfield 72, 3) := dk_180 0 72 (dk_at dksX11_at_2_4 14 rfl rfl)
theorem dX11_at_2_111 : decode cX11_at_2 111 = .ok (.ifnull 23, 3) := dk_198 0 23 (dk_at dksX11_at_2_4 17 rfl rfl)
theorem dX11_at_2_114 : decode cX11_at_2 114 = .ok (.aload_n 0, 1) := dk_42 (dk_at dksX11_at_2_4 20 rfl rfl)
theorem dX11_at_2_115 : decode cX11_at_2 115 = .ok (.getfield 72, 3) := dk_180 0 72 (dk_at dksX11_at_2_4 21 rfl rfl)
theorem dX11_at_2_118 : decode cX11_at_2 118 = .ok (.getfield 62, 3) := dk_180 0 62 (dk_at dksX11_at_2_5 0 rfl rfl)
theorem dX11_at_2_121 : decode cX11_at_2 121 = .ok (.iload 5, 2) := dk_21 5 (dk_at dksX11_at_2_5 3 rfl rfl)
theorem dX11_at_2_123 : decode cX11_at_2 123 = .ok (.if_icmp .ne 11, 3) := dk_160 0 11 (dk_at dksX11_at_2_5 5 rfl rfl)
theorem dX11_at_2_126 : decode cX11_at_2 126 = .ok (.aload_n 0, 1) := dk_42 (dk_at dksX11_at_2_5 8 rfl rfl)
theorem dX11_at_2_127 : decode cX11_at_2 127 = .ok (.getfield 72, 3) := dk_180 0 72 (dk_at dksX11_at_2_5 9 rfl rfl)
theorem dX11_at_2_130 : decode cX11_at_2 130 = .ok (.aload_n 3, 1) := dk_45 (dk_at dksX11_at_2_5 12 rfl rfl)
theorem dX11_at_2_131 : decode cX11_at_2 131 = .ok (.invokevirtual 68, 3) := dk_182 0 68 (dk_at dksX11_at_2_5 13 rfl rfl)
theorem dX11_at_2_134 : decode cX11_at_2 134 = .ok (.iinc 5 1, 3) := dk_132 5 1 (dk_at dksX11_at_2_5 16 rfl rfl)
theorem dX11_at_2_137 : decode cX11_at_2 137 = .ok (.goto (-116), 3) := dk_167 255 140 (dk_at dksX11_at_2_5 19 rfl rfl)
theorem dX11_at_2_140 : decode cX11_at_2 140 = .ok (.aload_n 3, 1) := dk_45 (dk_at dksX11_at_2_5 22 rfl rfl)
theorem dX11_at_2_141 : decode cX11_at_2 141 = .ok (.areturn, 1) := dk_176 (dk_at dksX11_at_2_5 23 rfl rfl)
abbrev cX11_isLeftOut : ByteArray := prog_7_method_2_code
def yX11_isLeftOut : MethodName := ⟨RX11, "isLeftOut", "(I)Z"⟩
def dkwX11_isLeftOut_3 : List UInt8 := [167, 0, 4, 3, 172]
abbrev dktX11_isLeftOut_3 : List UInt8 := dkwX11_isLeftOut_3 ++ []
def dkwX11_isLeftOut_2 : List UInt8 := [182, 0, 39, 154, 0, 22, 44, 42, 180, 0, 36, 42, 180, 0, 43, 182, 0, 39, 154, 0, 7, 4]
abbrev dktX11_isLeftOut_2 : List UInt8 := dkwX11_isLeftOut_2 ++ dktX11_isLeftOut_3
def dkwX11_isLeftOut_1 : List UInt8 := [180, 0, 19, 2, 159, 0, 44, 44, 193, 0, 34, 153, 0, 37, 44, 42, 180, 0, 36, 42, 180, 0, 19]
abbrev dktX11_isLeftOut_1 : List UInt8 := dkwX11_isLeftOut_1 ++ dktX11_isLeftOut_2
def dkwX11_isLeftOut_0 : List UInt8 := [42, 180, 0, 22, 27, 182, 0, 26, 192, 0, 32, 77, 27, 42, 180, 0, 15, 160, 0, 5, 4, 172, 42]
abbrev dktX11_isLeftOut_0 : List UInt8 := dkwX11_isLeftOut_0 ++ dktX11_isLeftOut_1
theorem dksX11_isLeftOut_0 : cX11_isLeftOut.data.toList.drop 0 = dktX11_isLeftOut_0 := by decide +kernel
theorem dksX11_isLeftOut_1 : cX11_isLeftOut.data.toList.drop 23 = dktX11_isLeftOut_1 := dk_seg dksX11_isLeftOut_0 23 rfl rfl
theorem dksX11_isLeftOut_2 : cX11_isLeftOut.data.toList.drop 46 = dktX11_isLeftOut_2 := dk_seg dksX11_isLeftOut_1 23 rfl rfl
theorem dksX11_isLeftOut_3 : cX11_isLeftOut.data.toList.drop 68 = dktX11_isLeftOut_3 := dk_seg dksX11_isLeftOut_2 22 rfl rfl
theorem dX11_isLeftOut_0 : decode cX11_isLeftOut 0 = .ok (.aload_n 0, 1) := dk_42 (dk_at dksX11_isLeftOut_0 0 rfl rfl)
theorem dX11_isLeftOut_1 : decode cX11_isLeftOut 1 = .ok (.getfield 22, 3) := dk_180 0 22 (dk_at dksX11_isLeftOut_0 1 rfl rfl)
theorem dX11_isLeftOut_4 : decode cX11_isLeftOut 4 = .ok (.iload_n 1, 1) := dk_27 (dk_at dksX11_isLeftOut_0 4 rfl rfl)
theorem dX11_isLeftOut_5 : decode cX11_isLeftOut 5 = .ok (.invokevirtual 26, 3) := dk_182 0 26 (dk_at dksX11_isLeftOut_0 5 rfl rfl)
theorem dX11_isLeftOut_8 : decode cX11_isLeftOut 8 = .ok (.checkcast 32, 3) := dk_192 0 32 (dk_at dksX11_isLeftOut_0 8 rfl rfl)
theorem dX11_isLeftOut_11 : decode cX11_isLeftOut 11 = .ok (.astore_n 2, 1) := dk_77 (dk_at dksX11_isLeftOut_0 11 rfl rfl)
theorem dX11_isLeftOut_12 : decode cX11_isLeftOut 12 = .ok (.iload_n 1, 1) := dk_27 (dk_at dksX11_isLeftOut_0 12 rfl rfl)
theorem dX11_isLeftOut_13 : decode cX11_isLeftOut 13 = .ok (.aload_n 0, 1) := dk_42 (dk_at dksX11_isLeftOut_0 13 rfl rfl)
theorem dX11_isLeftOut_14 : decode cX11_isLeftOut 14 = .ok (.getfield 15, 3) := dk_180 0 15 (dk_at dksX11_isLeftOut_0 14 rfl rfl)
theorem dX11_isLeftOut_17 : decode cX11_isLeftOut 17 = .ok (.if_icmp .ne 5, 3) := dk_160 0 5 (dk_at dksX11_isLeftOut_0 17 rfl rfl)
theorem dX11_isLeftOut_20 : decode cX11_isLeftOut 20 = .ok (.iconst 1, 1) := dk_4 (dk_at dksX11_isLeftOut_0 20 rfl rfl)
theorem dX11_isLeftOut_21 : decode cX11_isLeftOut 21 = .ok (.ireturn, 1) := dk_172 (dk_at dksX11_isLeftOut_0 21 rfl rfl)
theorem dX11_isLeftOut_22 : decode cX11_isLeftOut 22 = .ok (.aload_n 0, 1) := dk_42 (dk_at dksX11_isLeftOut_0 22 rfl rfl)
theorem dX11_isLeftOut_23 : decode cX11_isLeftOut 23 = .ok (.getfield 19, 3) := dk_180 0 19 (dk_at dksX11_isLeftOut_1 0 rfl rfl)
theorem dX11_isLeftOut_26 : decode cX11_isLeftOut 26 = .ok (.iconst (-1), 1) := dk_2 (dk_at dksX11_isLeftOut_1 3 rfl rfl)
theorem dX11_isLeftOut_27 : decode cX11_isLeftOut 27 = .ok (.if_icmp .eq 44, 3) := dk_159 0 44 (dk_at dksX11_isLeftOut_1 4 rfl rfl)
theorem dX11_isLeftOut_30 : decode cX11_isLeftOut 30 = .ok (.aload_n 2, 1) := dk_44 (dk_at dksX11_isLeftOut_1 7 rfl rfl)
theorem dX11_isLeftOut_31 : decode cX11_isLeftOut 31 = .ok (.instanceof 34, 3) := dk_193 0 34 (dk_at dksX11_isLeftOut_1 8 rfl rfl)
theorem dX11_isLeftOut_34 : decode cX11_isLeftOut 34 = .ok (.ifCond .eq 37, 3) := dk_153 0 37 (dk_at dksX11_isLeftOut_1 11 rfl rfl)
theorem dX11_isLeftOut_37 : decode cX11_isLeftOut 37 = .ok (.aload_n 2, 1) := dk_44 (dk_at dksX11_isLeftOut_1 14 rfl rfl)
theorem dX11_isLeftOut_38 : decode cX11_isLeftOut 38 = .ok (.aload_n 0, 1) := dk_42 (dk_at dksX11_isLeftOut_1 15 rfl rfl)
theorem dX11_isLeftOut_39 : decode cX11_isLeftOut 39 = .ok (.getfield 36, 3) := dk_180 0 36 (dk_at dksX11_isLeftOut_1 16 rfl rfl)
theorem dX11_isLeftOut_42 : decode cX11_isLeftOut 42 = .ok (.aload_n 0, 1) := dk_42 (dk_at dksX11_isLeftOut_1 19 rfl rfl)
theorem dX11_isLeftOut_43 : decode cX11_isLeftOut 43 = .ok (.getfield 19, 3) := dk_180 0 19 (dk_at dksX11_isLeftOut_1 20 rfl rfl)
theorem dX11_isLeftOut_46 : decode cX11_isLeftOut 46 = .ok (.invokevirtual 39, 3) := dk_182 0 39 (dk_at dksX11_isLeftOut_2 0 rfl rfl)
theorem dX11_isLeftOut_49 : decode cX11_isLeftOut 49 = .ok (.ifCond .ne 22, 3) := dk_154 0 22 (dk_at dksX11_isLeftOut_2 3 rfl rfl)
theorem dX11_isLeftOut_52 : decode cX11_isLeftOut 52 = .ok (.aload_n 2, 1) := dk_44 (dk_at dksX11_isLeftOut_2 6 rfl rfl)
theorem dX11_isLeftOut_53 : decode cX11_isLeftOut 53 = .ok (.aload_n 0, 1) := dk_42 (dk_at dksX11_isLeftOut_2 7 rfl rfl)
theorem dX11_isLeftOut_54 : decode cX11_isLeftOut 54 = .ok (.getfield 36, 3) := dk_180 0 36 (dk_at dksX11_isLeftOut_2 8 rfl rfl)
theorem dX11_isLeftOut_57 : decode cX11_isLeftOut 57 = .ok (.aload_n 0, 1) := dk_42 (dk_at dksX11_isLeftOut_2 11 rfl rfl)
theorem dX11_isLeftOut_58 : decode cX11_isLeftOut 58 = .ok (.getfield 43, 3) := dk_180 0 43 (dk_at dksX11_isLeftOut_2 12 rfl rfl)
theorem dX11_isLeftOut_61 : decode cX11_isLeftOut 61 = .ok (.invokevirtual 39, 3) := dk_182 0 39 (dk_at dksX11_isLeftOut_2 15 rfl rfl)
theorem dX11_isLeftOut_64 : decode cX11_isLeftOut 64 = .ok (.ifCond .ne 7, 3) := dk_154 0 7 (dk_at dksX11_isLeftOut_2 18 rfl rfl)
theorem dX11_isLeftOut_67 : decode cX11_isLeftOut 67 = .ok (.iconst 1, 1) := dk_4 (dk_at dksX11_isLeftOut_2 21 rfl rfl)
theorem dX11_isLeftOut_68 : decode cX11_isLeftOut 68 = .ok (.goto 4, 3) := dk_167 0 4 (dk_at dksX11_isLeftOut_3 0 rfl rfl)
theorem dX11_isLeftOut_71 : decode cX11_isLeftOut 71 = .ok (.iconst 0, 1) := dk_3 (dk_at dksX11_isLeftOut_3 3 rfl rfl)
theorem dX11_isLeftOut_72 : decode cX11_isLeftOut 72 = .ok (.ireturn, 1) := dk_172 (dk_at dksX11_isLeftOut_3 4 rfl rfl)
abbrev cX11_scale : ByteArray := prog_7_method_8_code
def yX11_scale : MethodName := ⟨RX11, "scale", "(I)I"⟩
def dkwX11_scale_2 : List UInt8 := [192, 0, 81, 182, 0, 96, 96, 61, 132, 3, 1, 167, 255, 202, 28, 172]
abbrev dktX11_scale_2 : List UInt8 := dkwX11_scale_2 ++ []
def dkwX11_scale_1 : List UInt8 := [159, 0, 8, 27, 29, 160, 0, 27, 28, 42, 42, 180, 0, 3, 180, 0, 118, 180, 0, 122, 29, 182, 0, 26]
abbrev dktX11_scale_1 : List UInt8 := dkwX11_scale_1 ++ dktX11_scale_2
def dkwX11_scale_0 : List UInt8 := [3, 61, 3, 62, 29, 42, 180, 0, 3, 180, 0, 118, 180, 0, 122, 182, 0, 58, 162, 0, 43, 27, 2]
abbrev dktX11_scale_0 : List UInt8 := dkwX11_scale_0 ++ dktX11_scale_1
theorem dksX11_scale_0 : cX11_scale.data.toList.drop 0 = dktX11_scale_0 := by decide +kernel
theorem dksX11_scale_1 : cX11_scale.data.toList.drop 23 = dktX11_scale_1 := dk_seg dksX11_scale_0 23 rfl rfl
theorem dksX11_scale_2 : cX11_scale.data.toList.drop 47 = dktX11_scale_2 := dk_seg dksX11_scale_1 24 rfl rfl
theorem dX11_scale_0 : decode cX11_scale 0 = .ok (.iconst 0, 1) := dk_3 (dk_at dksX11_scale_0 0 rfl rfl)
theorem dX11_scale_1 : decode cX11_scale 1 = .ok (.istore_n 2, 1) := dk_61 (dk_at dksX11_scale_0 1 rfl rfl)
theorem dX11_scale_2 : decode cX11_scale 2 = .ok (.iconst 0, 1) := dk_3 (dk_at dksX11_scale_0 2 rfl rfl)
theorem dX11_scale_3 : decode cX11_scale 3 = .ok (.istore_n 3, 1) := dk_62 (dk_at dksX11_scale_0 3 rfl rfl)
theorem dX11_scale_4 : decode cX11_scale 4 = .ok (.iload_n 3, 1) := dk_29 (dk_at dksX11_scale_0 4 rfl rfl)
theorem dX11_scale_5 : decode cX11_scale 5 = .ok (.aload_n 0, 1) := dk_42 (dk_at dksX11_scale_0 5 rfl rfl)
theorem dX11_scale_6 : decode cX11_scale 6 = .ok (.getfield 3, 3) := dk_180 0 3 (dk_at dksX11_scale_0 6 rfl rfl)
theorem dX11_scale_9 : decode cX11_scale 9 = .ok (.getfield 118, 3) := dk_180 0 118 (dk_at dksX11_scale_0 9 rfl rfl)
theorem dX11_scale_12 : decode cX11_scale 12 = .ok (.getfield 122, 3) := dk_180 0 122 (dk_at dksX11_scale_0 12 rfl rfl)
theorem dX11_scale_15 : decode cX11_scale 15 = .ok (.invokevirtual 58, 3) := dk_182 0 58 (dk_at dksX11_scale_0 15 rfl rfl)
theorem dX11_scale_18 : decode cX11_scale 18 = .ok (.if_icmp .ge 43, 3) := dk_162 0 43 (dk_at dksX11_scale_0 18 rfl rfl)
theorem dX11_scale_21 : decode cX11_scale 21 = .ok (.iload_n 1, 1) := dk_27 (dk_at dksX11_scale_0 21 rfl rfl)
theorem dX11_scale_22 : decode cX11_scale 22 = .ok (.iconst (-1), 1) := dk_2 (dk_at dksX11_scale_0 22 rfl rfl)
theorem dX11_scale_23 : decode cX11_scale 23 = .ok (.if_icmp .eq 8, 3) := dk_159 0 8 (dk_at dksX11_scale_1 0 rfl rfl)
theorem dX11_scale_26 : decode cX11_scale 26 = .ok (.iload_n 1, 1) := dk_27 (dk_at dksX11_scale_1 3 rfl rfl)
theorem dX11_scale_27 : decode cX11_scale 27 = .ok (.iload_n 3, 1) := dk_29 (dk_at dksX11_scale_1 4 rfl rfl)
theorem dX11_scale_28 : decode cX11_scale 28 = .ok (.if_icmp .ne 27, 3) := dk_160 0 27 (dk_at dksX11_scale_1 5 rfl rfl)
theorem dX11_scale_31 : decode cX11_scale 31 = .ok (.iload_n 2, 1) := dk_28 (dk_at dksX11_scale_1 8 rfl rfl)
theorem dX11_scale_32 : decode cX11_scale 32 = .ok (.aload_n 0, 1) := dk_42 (dk_at dksX11_scale_1 9 rfl rfl)
theorem dX11_scale_33 : decode cX11_scale 33 = .ok (.aload_n 0, 1) := dk_42 (dk_at dksX11_scale_1 10 rfl rfl)
theorem dX11_scale_34 : decode cX11_scale 34 = .ok (.getfield 3, 3) := dk_180 0 3 (dk_at dksX11_scale_1 11 rfl rfl)
theorem dX11_scale_37 : decode cX11_scale 37 = .ok (.getfield 118, 3) := dk_180 0 118 (dk_at dksX11_scale_1 14 rfl rfl)
theorem dX11_scale_40 : decode cX11_scale 40 = .ok (.getfield 122, 3) := dk_180 0 122 (dk_at dksX11_scale_1 17 rfl rfl)
theorem dX11_scale_43 : decode cX11_scale 43 = .ok (.iload_n 3, 1) := dk_29 (dk_at dksX11_scale_1 20 rfl rfl)
theorem dX11_scale_44 : decode cX11_scale 44 = .ok (.invokevirtual 26, 3) := dk_182 0 26 (dk_at dksX11_scale_1 21 rfl rfl)
theorem dX11_scale_47 : decode cX11_scale 47 = .ok (.checkcast 81, 3) := dk_192 0 81 (dk_at dksX11_scale_2 0 rfl rfl)
theorem dX11_scale_50 : decode cX11_scale 50 = .ok (.invokevirtual 96, 3) := dk_182 0 96 (dk_at dksX11_scale_2 3 rfl rfl)
theorem dX11_scale_53 : decode cX11_scale 53 = .ok (.iadd, 1) := dk_96 (dk_at dksX11_scale_2 6 rfl rfl)
theorem dX11_scale_54 : decode cX11_scale 54 = .ok (.istore_n 2, 1) := dk_61 (dk_at dksX11_scale_2 7 rfl rfl)
theorem dX11_scale_55 : decode cX11_scale 55 = .ok (.iinc 3 1, 3) := dk_132 3 1 (dk_at dksX11_scale_2 8 rfl rfl)
theorem dX11_scale_58 : decode cX11_scale 58 = .ok (.goto (-54), 3) := dk_167 255 202 (dk_at dksX11_scale_2 11 rfl rfl)
theorem dX11_scale_61 : decode cX11_scale 61 = .ok (.iload_n 2, 1) := dk_28 (dk_at dksX11_scale_2 14 rfl rfl)
theorem dX11_scale_62 : decode cX11_scale 62 = .ok (.ireturn, 1) := dk_172 (dk_at dksX11_scale_2 15 rfl rfl)
abbrev cX11_pile : ByteArray := prog_7_method_5_code
def yX11_pile : MethodName := ⟨RX11, "pile", "(LWoolThreads$Find;)I"⟩
def dkwX11_pile_0 : List UInt8 := [42, 43, 180, 0, 80, 182, 0, 83, 43, 180, 0, 86, 43, 180, 0, 89, 182, 0, 92, 172]
abbrev dktX11_pile_0 : List UInt8 := dkwX11_pile_0 ++ []
theorem dksX11_pile_0 : cX11_pile.data.toList.drop 0 = dktX11_pile_0 := by decide +kernel
theorem dX11_pile_0 : decode cX11_pile 0 = .ok (.aload_n 0, 1) := dk_42 (dk_at dksX11_pile_0 0 rfl rfl)
theorem dX11_pile_1 : decode cX11_pile 1 = .ok (.aload_n 1, 1) := dk_43 (dk_at dksX11_pile_0 1 rfl rfl)
theorem dX11_pile_2 : decode cX11_pile 2 = .ok (.getfield 80, 3) := dk_180 0 80 (dk_at dksX11_pile_0 2 rfl rfl)
theorem dX11_pile_5 : decode cX11_pile 5 = .ok (.invokevirtual 83, 3) := dk_182 0 83 (dk_at dksX11_pile_0 5 rfl rfl)
theorem dX11_pile_8 : decode cX11_pile 8 = .ok (.aload_n 1, 1) := dk_43 (dk_at dksX11_pile_0 8 rfl rfl)
theorem dX11_pile_9 : decode cX11_pile 9 = .ok (.getfield 86, 3) := dk_180 0 86 (dk_at dksX11_pile_0 9 rfl rfl)
theorem dX11_pile_12 : decode cX11_pile 12 = .ok (.aload_n 1, 1) := dk_43 (dk_at dksX11_pile_0 12 rfl rfl)
theorem dX11_pile_13 : decode cX11_pile 13 = .ok (.getfield 89, 3) := dk_180 0 89 (dk_at dksX11_pile_0 13 rfl rfl)
theorem dX11_pile_16 : decode cX11_pile 16 = .ok (.invokevirtual 92, 3) := dk_182 0 92 (dk_at dksX11_pile_0 16 rfl rfl)
theorem dX11_pile_19 : decode cX11_pile 19 = .ok (.ireturn, 1) := dk_172 (dk_at dksX11_pile_0 19 rfl rfl)
abbrev cX11_number : ByteArray := prog_7_method_7_code
def yX11_number : MethodName := ⟨RX11, "number", "(I)LWoolThreads$Great;"⟩
def dkwX11_number_2 : List UInt8 := [180, 0, 118, 180, 0, 122, 29, 182, 0, 26, 192, 0, 81, 182, 0, 127, 132, 3, 1, 167, 255, 204, 44, 176]
abbrev dktX11_number_2 : List UInt8 := dkwX11_number_2 ++ []
def dkwX11_number_1 : List UInt8 := [182, 0, 58, 162, 0, 41, 27, 2, 159, 0, 8, 27, 29, 160, 0, 25, 42, 44, 42, 180, 0, 3]
abbrev dktX11_number_1 : List UInt8 := dkwX11_number_1 ++ dktX11_number_2
def dkwX11_number_0 : List UInt8 := [187, 0, 103, 89, 4, 183, 0, 116, 77, 3, 62, 29, 42, 180, 0, 3, 180, 0, 118, 180, 0, 122]
abbrev dktX11_number_0 : List UInt8 := dkwX11_number_0 ++ dktX11_number_1
theorem dksX11_number_0 : cX11_number.data.toList.drop 0 = dktX11_number_0 := by decide +kernel
theorem dksX11_number_1 : cX11_number.data.toList.drop 22 = dktX11_number_1 := dk_seg dksX11_number_0 22 rfl rfl
theorem dksX11_number_2 : cX11_number.data.toList.drop 44 = dktX11_number_2 := dk_seg dksX11_number_1 22 rfl rfl
theorem dX11_number_0 : decode cX11_number 0 = .ok (.new 103, 3) := dk_187 0 103 (dk_at dksX11_number_0 0 rfl rfl)
theorem dX11_number_3 : decode cX11_number 3 = .ok (.dup, 1) := dk_89 (dk_at dksX11_number_0 3 rfl rfl)
theorem dX11_number_4 : decode cX11_number 4 = .ok (.iconst 1, 1) := dk_4 (dk_at dksX11_number_0 4 rfl rfl)
theorem dX11_number_5 : decode cX11_number 5 = .ok (.invokespecial 116, 3) := dk_183 0 116 (dk_at dksX11_number_0 5 rfl rfl)
theorem dX11_number_8 : decode cX11_number 8 = .ok (.astore_n 2, 1) := dk_77 (dk_at dksX11_number_0 8 rfl rfl)
theorem dX11_number_9 : decode cX11_number 9 = .ok (.iconst 0, 1) := dk_3 (dk_at dksX11_number_0 9 rfl rfl)
theorem dX11_number_10 : decode cX11_number 10 = .ok (.istore_n 3, 1) := dk_62 (dk_at dksX11_number_0 10 rfl rfl)
theorem dX11_number_11 : decode cX11_number 11 = .ok (.iload_n 3, 1) := dk_29 (dk_at dksX11_number_0 11 rfl rfl)
theorem dX11_number_12 : decode cX11_number 12 = .ok (.aload_n 0, 1) := dk_42 (dk_at dksX11_number_0 12 rfl rfl)
theorem dX11_number_13 : decode cX11_number 13 = .ok (.getfield 3, 3) := dk_180 0 3 (dk_at dksX11_number_0 13 rfl rfl)
theorem dX11_number_16 : decode cX11_number 16 = .ok (.getfield 118, 3) := dk_180 0 118 (dk_at dksX11_number_0 16 rfl rfl)
theorem dX11_number_19 : decode cX11_number 19 = .ok (.getfield 122, 3) := dk_180 0 122 (dk_at dksX11_number_0 19 rfl rfl)
theorem dX11_number_22 : decode cX11_number 22 = .ok (.invokevirtual 58, 3) := dk_182 0 58 (dk_at dksX11_number_1 0 rfl rfl)
theorem dX11_number_25 : decode cX11_number 25 = .ok (.if_icmp .ge 41, 3) := dk_162 0 41 (dk_at dksX11_number_1 3 rfl rfl)
theorem dX11_number_28 : decode cX11_number 28 = .ok (.iload_n 1, 1) := dk_27 (dk_at dksX11_number_1 6 rfl rfl)
theorem dX11_number_29 : decode cX11_number 29 = .ok (.iconst (-1), 1) := dk_2 (dk_at dksX11_number_1 7 rfl rfl)
theorem dX11_number_30 : decode cX11_number 30 = .ok (.if_icmp .eq 8, 3) := dk_159 0 8 (dk_at dksX11_number_1 8 rfl rfl)
theorem dX11_number_33 : decode cX11_number 33 = .ok (.iload_n 1, 1) := dk_27 (dk_at dksX11_number_1 11 rfl rfl)
theorem dX11_number_34 : decode cX11_number 34 = .ok (.iload_n 3, 1) := dk_29 (dk_at dksX11_number_1 12 rfl rfl)
theorem dX11_number_35 : decode cX11_number 35 = .ok (.if_icmp .ne 25, 3) := dk_160 0 25 (dk_at dksX11_number_1 13 rfl rfl)
theorem dX11_number_38 : decode cX11_number 38 = .ok (.aload_n 0, 1) := dk_42 (dk_at dksX11_number_1 16 rfl rfl)
theorem dX11_number_39 : decode cX11_number 39 = .ok (.aload_n 2, 1) := dk_44 (dk_at dksX11_number_1 17 rfl rfl)
theorem dX11_number_40 : decode cX11_number 40 = .ok (.aload_n 0, 1) := dk_42 (dk_at dksX11_number_1 18 rfl rfl)
theorem dX11_number_41 : decode cX11_number 41 = .ok (.getfield 3, 3) := dk_180 0 3 (dk_at dksX11_number_1 19 rfl rfl)
theorem dX11_number_44 : decode cX11_number 44 = .ok (.getfield 118, 3) := dk_180 0 118 (dk_at dksX11_number_2 0 rfl rfl)
theorem dX11_number_47 : decode cX11_number 47 = .ok (.getfield 122, 3) := dk_180 0 122 (dk_at dksX11_number_2 3 rfl rfl)
theorem dX11_number_50 : decode cX11_number 50 = .ok (.iload_n 3, 1) := dk_29 (dk_at dksX11_number_2 6 rfl rfl)
theorem dX11_number_51 : decode cX11_number 51 = .ok (.invokevirtual 26, 3) := dk_182 0 26 (dk_at dksX11_number_2 7 rfl rfl)
theorem dX11_number_54 : decode cX11_number 54 = .ok (.checkcast 81, 3) := dk_192 0 81 (dk_at dksX11_number_2 10 rfl rfl)
theorem dX11_number_57 : decode cX11_number 57 = .ok (.invokevirtual 127, 3) := dk_182 0 127 (dk_at dksX11_number_2 13 rfl rfl)
theorem dX11_number_60 : decode cX11_number 60 = .ok (.iinc 3 1, 3) := dk_132 3 1 (dk_at dksX11_number_2 16 rfl rfl)
theorem dX11_number_63 : decode cX11_number 63 = .ok (.goto (-52), 3) := dk_167 255 204 (dk_at dksX11_number_2 19 rfl rfl)
theorem dX11_number_66 : decode cX11_number 66 = .ok (.aload_n 2, 1) := dk_44 (dk_at dksX11_number_2 22 rfl rfl)
theorem dX11_number_67 : decode cX11_number 67 = .ok (.areturn, 1) := dk_176 (dk_at dksX11_number_2 23 rfl rfl)
abbrev cX11_times : ByteArray := prog_7_method_6_code
def yX11_times : MethodName := ⟨RX11, "times", "(LWoolThreads$Great;LWoolThreads$Find;)V"⟩
def dkwX11_times_5 : List UInt8 := [182, 0, 102, 132, 4, 1, 167, 255, 230, 177]
abbrev dktX11_times_5 : List UInt8 := dkwX11_times_5 ++ []
def dkwX11_times_4 : List UInt8 := [54, 4, 21, 4, 29, 162, 0, 26, 43, 16, 16, 42, 180, 0, 3, 180, 0, 48, 180, 0, 111, 100]
abbrev dktX11_times_4 : List UInt8 := dkwX11_times_4 ++ dktX11_times_5
def dkwX11_times_3 : List UInt8 := [42, 180, 0, 3, 180, 0, 48, 180, 0, 111, 182, 0, 102, 132, 4, 1, 167, 255, 230, 44, 180, 0, 99]
abbrev dktX11_times_3 : List UInt8 := dkwX11_times_3 ++ dktX11_times_4
def dkwX11_times_2 : List UInt8 := [21, 4, 182, 0, 108, 132, 4, 1, 167, 255, 225, 3, 54, 4, 21, 4, 44, 180, 0, 99, 162, 0, 23, 43]
abbrev dktX11_times_2 : List UInt8 := dkwX11_times_2 ++ dktX11_times_3
def dkwX11_times_1 : List UInt8 := [21, 4, 44, 180, 0, 99, 163, 0, 28, 43, 29, 44, 180, 0, 99, 100, 21, 4, 96, 182, 0, 102, 43]
abbrev dktX11_times_1 : List UInt8 := dkwX11_times_1 ++ dktX11_times_2
def dkwX11_times_0 : List UInt8 := [42, 44, 182, 0, 96, 62, 44, 180, 0, 99, 29, 164, 0, 9, 43, 3, 182, 0, 102, 177, 4, 54, 4]
abbrev dktX11_times_0 : List UInt8 := dkwX11_times_0 ++ dktX11_times_1
theorem dksX11_times_0 : cX11_times.data.toList.drop 0 = dktX11_times_0 := by decide +kernel
theorem dksX11_times_1 : cX11_times.data.toList.drop 23 = dktX11_times_1 := dk_seg dksX11_times_0 23 rfl rfl
theorem dksX11_times_2 : cX11_times.data.toList.drop 46 = dktX11_times_2 := dk_seg dksX11_times_1 23 rfl rfl
theorem dksX11_times_3 : cX11_times.data.toList.drop 70 = dktX11_times_3 := dk_seg dksX11_times_2 24 rfl rfl
theorem dksX11_times_4 : cX11_times.data.toList.drop 93 = dktX11_times_4 := dk_seg dksX11_times_3 23 rfl rfl
theorem dksX11_times_5 : cX11_times.data.toList.drop 115 = dktX11_times_5 := dk_seg dksX11_times_4 22 rfl rfl
theorem dX11_times_0 : decode cX11_times 0 = .ok (.aload_n 0, 1) := dk_42 (dk_at dksX11_times_0 0 rfl rfl)
theorem dX11_times_1 : decode cX11_times 1 = .ok (.aload_n 2, 1) := dk_44 (dk_at dksX11_times_0 1 rfl rfl)
theorem dX11_times_2 : decode cX11_times 2 = .ok (.invokevirtual 96, 3) := dk_182 0 96 (dk_at dksX11_times_0 2 rfl rfl)
theorem dX11_times_5 : decode cX11_times 5 = .ok (.istore_n 3, 1) := dk_62 (dk_at dksX11_times_0 5 rfl rfl)
theorem dX11_times_6 : decode cX11_times 6 = .ok (.aload_n 2, 1) := dk_44 (dk_at dksX11_times_0 6 rfl rfl)
theorem dX11_times_7 : decode cX11_times 7 = .ok (.getfield 99, 3) := dk_180 0 99 (dk_at dksX11_times_0 7 rfl rfl)
theorem dX11_times_10 : decode cX11_times 10 = .ok (.iload_n 3, 1) := dk_29 (dk_at dksX11_times_0 10 rfl rfl)
theorem dX11_times_11 : decode cX11_times 11 = .ok (.if_icmp .le 9, 3) := dk_164 0 9 (dk_at dksX11_times_0 11 rfl rfl)
theorem dX11_times_14 : decode cX11_times 14 = .ok (.aload_n 1, 1) := dk_43 (dk_at dksX11_times_0 14 rfl rfl)
theorem dX11_times_15 : decode cX11_times 15 = .ok (.iconst 0, 1) := dk_3 (dk_at dksX11_times_0 15 rfl rfl)
theorem dX11_times_16 : decode cX11_times 16 = .ok (.invokevirtual 102, 3) := dk_182 0 102 (dk_at dksX11_times_0 16 rfl rfl)
theorem dX11_times_19 : decode cX11_times 19 = .ok (.return_, 1) := dk_177 (dk_at dksX11_times_0 19 rfl rfl)
theorem dX11_times_20 : decode cX11_times 20 = .ok (.iconst 1, 1) := dk_4 (dk_at dksX11_times_0 20 rfl rfl)
theorem dX11_times_21 : decode cX11_times 21 = .ok (.istore 4, 2) := dk_54 4 (dk_at dksX11_times_0 21 rfl rfl)
theorem dX11_times_23 : decode cX11_times 23 = .ok (.iload 4, 2) := dk_21 4 (dk_at dksX11_times_1 0 rfl rfl)
theorem dX11_times_25 : decode cX11_times 25 = .ok (.aload_n 2, 1) := dk_44 (dk_at dksX11_times_1 2 rfl rfl)
theorem dX11_times_26 : decode cX11_times 26 = .ok (.getfield 99, 3) := dk_180 0 99 (dk_at dksX11_times_1 3 rfl rfl)
theorem dX11_times_29 : decode cX11_times 29 = .ok (.if_icmp .gt 28, 3) := dk_163 0 28 (dk_at dksX11_times_1 6 rfl rfl)
theorem dX11_times_32 : decode cX11_times 32 = .ok (.aload_n 1, 1) := dk_43 (dk_at dksX11_times_1 9 rfl rfl)
theorem dX11_times_33 : decode cX11_times 33 = .ok (.iload_n 3, 1) := dk_29 (dk_at dksX11_times_1 10 rfl rfl)
theorem dX11_times_34 : decode cX11_times 34 = .ok (.aload_n 2, 1) := dk_44 (dk_at dksX11_times_1 11 rfl rfl)
theorem dX11_times_35 : decode cX11_times 35 = .ok (.getfield 99, 3) := dk_180 0 99 (dk_at dksX11_times_1 12 rfl rfl)
theorem dX11_times_38 : decode cX11_times 38 = .ok (.isub, 1) := dk_100 (dk_at dksX11_times_1 15 rfl rfl)
theorem dX11_times_39 : decode cX11_times 39 = .ok (.iload 4, 2) := dk_21 4 (dk_at dksX11_times_1 16 rfl rfl)
theorem dX11_times_41 : decode cX11_times 41 = .ok (.iadd, 1) := dk_96 (dk_at dksX11_times_1 18 rfl rfl)
theorem dX11_times_42 : decode cX11_times 42 = .ok (.invokevirtual 102, 3) := dk_182 0 102 (dk_at dksX11_times_1 19 rfl rfl)
theorem dX11_times_45 : decode cX11_times 45 = .ok (.aload_n 1, 1) := dk_43 (dk_at dksX11_times_1 22 rfl rfl)
theorem dX11_times_46 : decode cX11_times 46 = .ok (.iload 4, 2) := dk_21 4 (dk_at dksX11_times_2 0 rfl rfl)
theorem dX11_times_48 : decode cX11_times 48 = .ok (.invokevirtual 108, 3) := dk_182 0 108 (dk_at dksX11_times_2 2 rfl rfl)
theorem dX11_times_51 : decode cX11_times 51 = .ok (.iinc 4 1, 3) := dk_132 4 1 (dk_at dksX11_times_2 5 rfl rfl)
theorem dX11_times_54 : decode cX11_times 54 = .ok (.goto (-31), 3) := dk_167 255 225 (dk_at dksX11_times_2 8 rfl rfl)
theorem dX11_times_57 : decode cX11_times 57 = .ok (.iconst 0, 1) := dk_3 (dk_at dksX11_times_2 11 rfl rfl)
theorem dX11_times_58 : decode cX11_times 58 = .ok (.istore 4, 2) := dk_54 4 (dk_at dksX11_times_2 12 rfl rfl)
theorem dX11_times_60 : decode cX11_times 60 = .ok (.iload 4, 2) := dk_21 4 (dk_at dksX11_times_2 14 rfl rfl)
theorem dX11_times_62 : decode cX11_times 62 = .ok (.aload_n 2, 1) := dk_44 (dk_at dksX11_times_2 16 rfl rfl)
theorem dX11_times_63 : decode cX11_times 63 = .ok (.getfield 99, 3) := dk_180 0 99 (dk_at dksX11_times_2 17 rfl rfl)
theorem dX11_times_66 : decode cX11_times 66 = .ok (.if_icmp .ge 23, 3) := dk_162 0 23 (dk_at dksX11_times_2 20 rfl rfl)
theorem dX11_times_69 : decode cX11_times 69 = .ok (.aload_n 1, 1) := dk_43 (dk_at dksX11_times_2 23 rfl rfl)
theorem dX11_times_70 : decode cX11_times 70 = .ok (.aload_n 0, 1) := dk_42 (dk_at dksX11_times_3 0 rfl rfl)
theorem dX11_times_71 : decode cX11_times 71 = .ok (.getfield 3, 3) := dk_180 0 3 (dk_at dksX11_times_3 1 rfl rfl)
theorem dX11_times_74 : decode cX11_times 74 = .ok (.getfield 48, 3) := dk_180 0 48 (dk_at dksX11_times_3 4 rfl rfl)
theorem dX11_times_77 : decode cX11_times 77 = .ok (.getfield 111, 3) := dk_180 0 111 (dk_at dksX11_times_3 7 rfl rfl)
theorem dX11_times_80 : decode cX11_times 80 = .ok (.invokevirtual 102, 3) := dk_182 0 102 (dk_at dksX11_times_3 10 rfl rfl)
theorem dX11_times_83 : decode cX11_times 83 = .ok (.iinc 4 1, 3) := dk_132 4 1 (dk_at dksX11_times_3 13 rfl rfl)
theorem dX11_times_86 : decode cX11_times 86 = .ok (.goto (-26), 3) := dk_167 255 230 (dk_at dksX11_times_3 16 rfl rfl)
theorem dX11_times_89 : decode cX11_times 89 = .ok (.aload_n 2, 1) := dk_44 (dk_at dksX11_times_3 19 rfl rfl)
theorem dX11_times_90 : decode cX11_times 90 = .ok (.getfield 99, 3) := dk_180 0 99 (dk_at dksX11_times_3 20 rfl rfl)
theorem dX11_times_93 : decode cX11_times 93 = .ok (.istore 4, 2) := dk_54 4 (dk_at dksX11_times_4 0 rfl rfl)
theorem dX11_times_95 : decode cX11_times 95 = .ok (.iload 4, 2) := dk_21 4 (dk_at dksX11_times_4 2 rfl rfl)
theorem dX11_times_97 : decode cX11_times 97 = .ok (.iload_n 3, 1) := dk_29 (dk_at dksX11_times_4 4 rfl rfl)
theorem dX11_times_98 : decode cX11_times 98 = .ok (.if_icmp .ge 26, 3) := dk_162 0 26 (dk_at dksX11_times_4 5 rfl rfl)
theorem dX11_times_101 : decode cX11_times 101 = .ok (.aload_n 1, 1) := dk_43 (dk_at dksX11_times_4 8 rfl rfl)
theorem dX11_times_102 : decode cX11_times 102 = .ok (.bipush 16, 2) := dk_16 16 (dk_at dksX11_times_4 9 rfl rfl)
theorem dX11_times_104 : decode cX11_times 104 = .ok (.aload_n 0, 1) := dk_42 (dk_at dksX11_times_4 11 rfl rfl)
theorem dX11_times_105 : decode cX11_times 105 = .ok (.getfield 3, 3) := dk_180 0 3 (dk_at dksX11_times_4 12 rfl rfl)
theorem dX11_times_108 : decode cX11_times 108 = .ok (.getfield 48, 3) := dk_180 0 48 (dk_at dksX11_times_4 15 rfl rfl)
theorem dX11_times_111 : decode cX11_times 111 = .ok (.getfield 111, 3) := dk_180 0 111 (dk_at dksX11_times_4 18 rfl rfl)
theorem dX11_times_114 : decode cX11_times 114 = .ok (.isub, 1) := dk_100 (dk_at dksX11_times_4 21 rfl rfl)
theorem dX11_times_115 : decode cX11_times 115 = .ok (.invokevirtual 102, 3) := dk_182 0 102 (dk_at dksX11_times_5 0 rfl rfl)
theorem dX11_times_118 : decode cX11_times 118 = .ok (.iinc 4 1, 3) := dk_132 4 1 (dk_at dksX11_times_5 3 rfl rfl)
theorem dX11_times_121 : decode cX11_times 121 = .ok (.goto (-26), 3) := dk_167 255 230 (dk_at dksX11_times_5 6 rfl rfl)
theorem dX11_times_124 : decode cX11_times 124 = .ok (.return_, 1) := dk_177 (dk_at dksX11_times_5 9 rfl rfl)
theorem q97 : (Jvm.Cond.initialized "WoolThreads$Run") ∈ lw_all := lw_g (lw_at lw_m1 32 rfl) rfl
theorem q140 : (Jvm.Cond.fieldLinkNest "WoolThreads$Run" (111 : Nat) "WoolThreads$Law" "take" "I" "WoolThreads") ∈ lw_tbl := lw_at lw_m1 75 rfl
theorem q514 : (Jvm.Cond.fieldLinkNest "WoolThreads$Run" (122 : Nat) "WoolThreads$State" "finds" "Ljava/util/ArrayList;" "WoolThreads") ∈ lw_tbl := lw_at lw_m2 209 rfl
theorem q535 : (Jvm.Cond.fieldLinkNest "WoolThreads$Run" (48 : Nat) "WoolThreads" "law" "LWoolThreads$Law;" "WoolThreads") ∈ lw_tbl := lw_at lw_m2 230 rfl
theorem q537 : (Jvm.Cond.fieldLinkNest "WoolThreads$Run" (118 : Nat) "WoolThreads" "state" "LWoolThreads$State;" "WoolThreads") ∈ lw_tbl := lw_at lw_m2 232 rfl
theorem q632 : (Jvm.Cond.selects "WoolThreads$Run" ({ cls := "java/lang/Object", name := "getClass", desc := "()Ljava/lang/Class;" } : Jvm.MethodName) ({ cls := "java/lang/Object", name := "getClass", desc := "()Ljava/lang/Class;" } : Jvm.MethodName)) ∈ lw_all := lw_g (lw_at lw_m3 87 rfl) rfl
theorem q933 : (Jvm.Cond.fieldLink "WoolThreads$Run" (62 : Nat) "WoolThreads$Event" "hour" "I") ∈ lw_all := lw_g (lw_at lw_m4 148 rfl) rfl
theorem q1023 : (Jvm.Cond.instantiable "WoolThreads$Run" (7 : Nat)) ∈ lw_all := lw_g (lw_at lw_m4 238 rfl) rfl
theorem q1026 : (Jvm.Cond.instanceMethod ({ cls := "WoolThreads$Run", name := "<init>", desc := "(LWoolThreads;Ljava/util/ArrayList;)V" } : Jvm.MethodName)) ∈ lw_all := lw_g (lw_at lw_m5 1 rfl) rfl
theorem q1027 : (Jvm.Cond.code ({ cls := "WoolThreads$Run", name := "<init>", desc := "(LWoolThreads;Ljava/util/ArrayList;)V" } : Jvm.MethodName) prog_7_method_1_code (3 : Nat) (Option.none : Option Jvm.ClassFile.FieldType)) ∈ lw_all := lw_g (lw_at lw_m5 2 rfl) rfl
theorem q1028 : (Jvm.Cond.methodLink "WoolThreads$Run" (9 : Nat) ({ cls := "java/lang/Object", name := "<init>", desc := "()V" } : Jvm.MethodName)) ∈ lw_all := lw_g (lw_at lw_m5 3 rfl) rfl
theorem q1029 : (Jvm.Cond.fieldLink "WoolThreads$Run" (22 : Nat) "WoolThreads$Run" "events" "Ljava/util/ArrayList;") ∈ lw_all := lw_g (lw_at lw_m5 4 rfl) rfl
theorem q1031 : (Jvm.Cond.fieldLink "WoolThreads$Run" (15 : Nat) "WoolThreads$Run" "without" "I") ∈ lw_all := lw_g (lw_at lw_m5 6 rfl) rfl
theorem q1033 : (Jvm.Cond.fieldLink "WoolThreads$Run" (72 : Nat) "WoolThreads$Run" "more" "LWoolThreads$Event;") ∈ lw_all := lw_g (lw_at lw_m5 8 rfl) rfl
theorem q1035 : (Jvm.Cond.fieldLink "WoolThreads$Run" (19 : Nat) "WoolThreads$Run" "first" "I") ∈ lw_all := lw_g (lw_at lw_m5 10 rfl) rfl
theorem q1037 : (Jvm.Cond.fieldLink "WoolThreads$Run" (43 : Nat) "WoolThreads$Run" "second" "I") ∈ lw_all := lw_g (lw_at lw_m5 12 rfl) rfl
theorem q1039 : (Jvm.Cond.fieldLink "WoolThreads$Run" (36 : Nat) "WoolThreads$Run" "third" "I") ∈ lw_all := lw_g (lw_at lw_m5 14 rfl) rfl
theorem q1041 : (Jvm.Cond.fieldLink "WoolThreads$Run" (3 : Nat) "WoolThreads$Run" "this$0" "LWoolThreads;") ∈ lw_all := lw_g (lw_at lw_m5 16 rfl) rfl
theorem q1042 : (Jvm.Cond.laysFinal "WoolThreads$Run" "WoolThreads$Run" "events" "Ljava/util/ArrayList;") ∈ lw_all := lw_g (lw_at lw_m5 17 rfl) rfl
theorem q1043 : (Jvm.Cond.soleField "WoolThreads$Run" "events") ∈ lw_all := lw_g (lw_at lw_m5 18 rfl) rfl
theorem q1044 : (Jvm.Cond.lays "WoolThreads$Run" "WoolThreads$Run" "without" "I") ∈ lw_all := lw_g (lw_at lw_m5 19 rfl) rfl
theorem q1045 : (Jvm.Cond.soleField "WoolThreads$Run" "without") ∈ lw_all := lw_g (lw_at lw_m5 20 rfl) rfl
theorem q1046 : (Jvm.Cond.lays "WoolThreads$Run" "WoolThreads$Run" "more" "LWoolThreads$Event;") ∈ lw_all := lw_g (lw_at lw_m5 21 rfl) rfl
theorem q1047 : (Jvm.Cond.soleField "WoolThreads$Run" "more") ∈ lw_all := lw_g (lw_at lw_m5 22 rfl) rfl
theorem q1048 : (Jvm.Cond.lays "WoolThreads$Run" "WoolThreads$Run" "first" "I") ∈ lw_all := lw_g (lw_at lw_m5 23 rfl) rfl
theorem q1049 : (Jvm.Cond.soleField "WoolThreads$Run" "first") ∈ lw_all := lw_g (lw_at lw_m5 24 rfl) rfl
theorem q1050 : (Jvm.Cond.lays "WoolThreads$Run" "WoolThreads$Run" "second" "I") ∈ lw_all := lw_g (lw_at lw_m5 25 rfl) rfl
theorem q1051 : (Jvm.Cond.soleField "WoolThreads$Run" "second") ∈ lw_all := lw_g (lw_at lw_m5 26 rfl) rfl
theorem q1052 : (Jvm.Cond.lays "WoolThreads$Run" "WoolThreads$Run" "third" "I") ∈ lw_all := lw_g (lw_at lw_m5 27 rfl) rfl
theorem q1053 : (Jvm.Cond.soleField "WoolThreads$Run" "third") ∈ lw_all := lw_g (lw_at lw_m5 28 rfl) rfl
theorem q1054 : (Jvm.Cond.laysFinal "WoolThreads$Run" "WoolThreads$Run" "this$0" "LWoolThreads;") ∈ lw_all := lw_g (lw_at lw_m5 29 rfl) rfl
theorem q1055 : (Jvm.Cond.soleField "WoolThreads$Run" "this$0") ∈ lw_all := lw_g (lw_at lw_m5 30 rfl) rfl
theorem q1056 : (Jvm.Cond.superclass "WoolThreads$Run" "java/lang/Object") ∈ lw_all := lw_g (lw_at lw_m5 31 rfl) rfl
theorem q1064 : (Jvm.Cond.instanceMethod ({ cls := "WoolThreads$Run", name := "at", desc := "(I)LWoolThreads$Scene;" } : Jvm.MethodName)) ∈ lw_all := lw_g (lw_at lw_m5 39 rfl) rfl
theorem q1065 : (Jvm.Cond.selects "WoolThreads$Run" ({ cls := "WoolThreads$Run", name := "at", desc := "(I)LWoolThreads$Scene;" } : Jvm.MethodName) ({ cls := "WoolThreads$Run", name := "at", desc := "(I)LWoolThreads$Scene;" } : Jvm.MethodName)) ∈ lw_all := lw_g (lw_at lw_m5 40 rfl) rfl
theorem q1066 : (Jvm.Cond.code ({ cls := "WoolThreads$Run", name := "at", desc := "(I)LWoolThreads$Scene;" } : Jvm.MethodName) prog_7_method_4_code (2 : Nat) (Option.some (Jvm.ClassFile.FieldType.object "WoolThreads$Scene"))) ∈ lw_all := lw_g (lw_at lw_m5 41 rfl) rfl
theorem q1067 : (Jvm.Cond.methodLink "WoolThreads$Run" (76 : Nat) ({ cls := "WoolThreads$Run", name := "at", desc := "(II)LWoolThreads$Scene;" } : Jvm.MethodName)) ∈ lw_all := lw_g (lw_at lw_m5 42 rfl) rfl
theorem q1068 : (Jvm.Cond.instanceMethod ({ cls := "WoolThreads$Run", name := "at", desc := "(II)LWoolThreads$Scene;" } : Jvm.MethodName)) ∈ lw_all := lw_g (lw_at lw_m5 43 rfl) rfl
theorem q1069 : (Jvm.Cond.selects "WoolThreads$Run" ({ cls := "WoolThreads$Run", name := "at", desc := "(II)LWoolThreads$Scene;" } : Jvm.MethodName) ({ cls := "WoolThreads$Run", name := "at", desc := "(II)LWoolThreads$Scene;" } : Jvm.MethodName)) ∈ lw_all := lw_g (lw_at lw_m5 44 rfl) rfl
theorem q1070 : (Jvm.Cond.code ({ cls := "WoolThreads$Run", name := "at", desc := "(II)LWoolThreads$Scene;" } : Jvm.MethodName) prog_7_method_3_code (6 : Nat) (Option.some (Jvm.ClassFile.FieldType.object "WoolThreads$Scene"))) ∈ lw_all := lw_g (lw_at lw_m5 45 rfl) rfl
theorem q1071 : (Jvm.Cond.classLink "WoolThreads$Run" (46 : Nat) "WoolThreads$Scene") ∈ lw_all := lw_g (lw_at lw_m5 46 rfl) rfl
theorem q1073 : (Jvm.Cond.methodLink "WoolThreads$Run" (52 : Nat) ({ cls := "WoolThreads$Scene", name := "<init>", desc := "(LWoolThreads$Law;)V" } : Jvm.MethodName)) ∈ lw_all := lw_g (lw_at lw_m5 48 rfl) rfl
theorem q1091 : (Jvm.Cond.methodLink "WoolThreads$Run" (55 : Nat) ({ cls := "WoolThreads$Scene", name := "hour", desc := "()V" } : Jvm.MethodName)) ∈ lw_all := lw_g (lw_at lw_m5 66 rfl) rfl
theorem q1095 : (Jvm.Cond.methodLink "WoolThreads$Run" (58 : Nat) ({ cls := "java/util/ArrayList", name := "size", desc := "()I" } : Jvm.MethodName)) ∈ lw_all := lw_g (lw_at lw_m5 70 rfl) rfl
theorem q1096 : (Jvm.Cond.methodLink "WoolThreads$Run" (26 : Nat) ({ cls := "java/util/ArrayList", name := "get", desc := "(I)Ljava/lang/Object;" } : Jvm.MethodName)) ∈ lw_all := lw_g (lw_at lw_m5 71 rfl) rfl
theorem q1097 : (Jvm.Cond.classLink "WoolThreads$Run" (32 : Nat) "WoolThreads$Event") ∈ lw_all := lw_g (lw_at lw_m5 72 rfl) rfl
theorem q1098 : (Jvm.Cond.methodLink "WoolThreads$Run" (64 : Nat) ({ cls := "WoolThreads$Run", name := "isLeftOut", desc := "(I)Z" } : Jvm.MethodName)) ∈ lw_all := lw_g (lw_at lw_m5 73 rfl) rfl
theorem q1099 : (Jvm.Cond.privateMethod ({ cls := "WoolThreads$Run", name := "isLeftOut", desc := "(I)Z" } : Jvm.MethodName)) ∈ lw_tbl := lw_at lw_m5 74 rfl
theorem q1100 : (Jvm.Cond.instanceMethod ({ cls := "WoolThreads$Run", name := "isLeftOut", desc := "(I)Z" } : Jvm.MethodName)) ∈ lw_all := lw_g (lw_at lw_m5 75 rfl) rfl
theorem q1101 : (Jvm.Cond.code ({ cls := "WoolThreads$Run", name := "isLeftOut", desc := "(I)Z" } : Jvm.MethodName) prog_7_method_2_code (3 : Nat) (Option.some Jvm.ClassFile.FieldType.boolean)) ∈ lw_all := lw_g (lw_at lw_m5 76 rfl) rfl
theorem q1102 : (Jvm.Cond.classLink "WoolThreads$Run" (34 : Nat) "WoolThreads$Touch") ∈ lw_all := lw_g (lw_at lw_m5 77 rfl) rfl
theorem q1103 : (Jvm.Cond.methodLink "WoolThreads$Run" (39 : Nat) ({ cls := "WoolThreads$Event", name := "isTouch", desc := "(II)Z" } : Jvm.MethodName)) ∈ lw_all := lw_g (lw_at lw_m5 78 rfl) rfl
theorem q1112 : (Jvm.Cond.methodLink "WoolThreads$Run" (68 : Nat) ({ cls := "WoolThreads$Event", name := "does", desc := "(LWoolThreads$Scene;)V" } : Jvm.MethodName)) ∈ lw_all := lw_g (lw_at lw_m5 87 rfl) rfl
theorem q1169 : (Jvm.Cond.fieldLinkNest "WoolThreads$Run" (86 : Nat) "WoolThreads$Find" "place" "I" "WoolThreads") ∈ lw_tbl := lw_at lw_m5 144 rfl
theorem q1172 : (Jvm.Cond.fieldLinkNest "WoolThreads$Run" (80 : Nat) "WoolThreads$Find" "hour" "I" "WoolThreads") ∈ lw_tbl := lw_at lw_m5 147 rfl
theorem q1175 : (Jvm.Cond.fieldLinkNest "WoolThreads$Run" (89 : Nat) "WoolThreads$Find" "sort" "I" "WoolThreads") ∈ lw_tbl := lw_at lw_m5 150 rfl
theorem q1178 : (Jvm.Cond.fieldLinkNest "WoolThreads$Run" (99 : Nat) "WoolThreads$Find" "many" "I" "WoolThreads") ∈ lw_tbl := lw_at lw_m5 153 rfl
theorem q1258 : (Jvm.Cond.instanceMethod ({ cls := "WoolThreads$Run", name := "scale", desc := "(I)I" } : Jvm.MethodName)) ∈ lw_all := lw_g (lw_at lw_m5 233 rfl) rfl
theorem q1259 : (Jvm.Cond.selects "WoolThreads$Run" ({ cls := "WoolThreads$Run", name := "scale", desc := "(I)I" } : Jvm.MethodName) ({ cls := "WoolThreads$Run", name := "scale", desc := "(I)I" } : Jvm.MethodName)) ∈ lw_all := lw_g (lw_at lw_m5 234 rfl) rfl
theorem q1260 : (Jvm.Cond.code ({ cls := "WoolThreads$Run", name := "scale", desc := "(I)I" } : Jvm.MethodName) prog_7_method_8_code (4 : Nat) (Option.some Jvm.ClassFile.FieldType.int)) ∈ lw_all := lw_g (lw_at lw_m5 235 rfl) rfl
theorem q1261 : (Jvm.Cond.classLink "WoolThreads$Run" (81 : Nat) "WoolThreads$Find") ∈ lw_all := lw_g (lw_at lw_m5 236 rfl) rfl
theorem q1262 : (Jvm.Cond.methodLink "WoolThreads$Run" (96 : Nat) ({ cls := "WoolThreads$Run", name := "pile", desc := "(LWoolThreads$Find;)I" } : Jvm.MethodName)) ∈ lw_all := lw_g (lw_at lw_m5 237 rfl) rfl
theorem q1263 : (Jvm.Cond.instanceMethod ({ cls := "WoolThreads$Run", name := "pile", desc := "(LWoolThreads$Find;)I" } : Jvm.MethodName)) ∈ lw_all := lw_g (lw_at lw_m5 238 rfl) rfl
theorem q1264 : (Jvm.Cond.selects "WoolThreads$Run" ({ cls := "WoolThreads$Run", name := "pile", desc := "(LWoolThreads$Find;)I" } : Jvm.MethodName) ({ cls := "WoolThreads$Run", name := "pile", desc := "(LWoolThreads$Find;)I" } : Jvm.MethodName)) ∈ lw_all := lw_g (lw_at lw_m5 239 rfl) rfl
theorem q1265 : (Jvm.Cond.code ({ cls := "WoolThreads$Run", name := "pile", desc := "(LWoolThreads$Find;)I" } : Jvm.MethodName) prog_7_method_5_code (2 : Nat) (Option.some Jvm.ClassFile.FieldType.int)) ∈ lw_all := lw_g (lw_at lw_m6 0 rfl) rfl
theorem q1266 : (Jvm.Cond.methodLink "WoolThreads$Run" (83 : Nat) ({ cls := "WoolThreads$Run", name := "at", desc := "(I)LWoolThreads$Scene;" } : Jvm.MethodName)) ∈ lw_all := lw_g (lw_at lw_m6 1 rfl) rfl
theorem q1267 : (Jvm.Cond.methodLink "WoolThreads$Run" (92 : Nat) ({ cls := "WoolThreads$Scene", name := "pile", desc := "(II)I" } : Jvm.MethodName)) ∈ lw_all := lw_g (lw_at lw_m6 2 rfl) rfl
theorem q1276 : (Jvm.Cond.instanceMethod ({ cls := "WoolThreads$Run", name := "number", desc := "(I)LWoolThreads$Great;" } : Jvm.MethodName)) ∈ lw_all := lw_g (lw_at lw_m6 11 rfl) rfl
theorem q1277 : (Jvm.Cond.selects "WoolThreads$Run" ({ cls := "WoolThreads$Run", name := "number", desc := "(I)LWoolThreads$Great;" } : Jvm.MethodName) ({ cls := "WoolThreads$Run", name := "number", desc := "(I)LWoolThreads$Great;" } : Jvm.MethodName)) ∈ lw_all := lw_g (lw_at lw_m6 12 rfl) rfl
theorem q1278 : (Jvm.Cond.code ({ cls := "WoolThreads$Run", name := "number", desc := "(I)LWoolThreads$Great;" } : Jvm.MethodName) prog_7_method_7_code (4 : Nat) (Option.some (Jvm.ClassFile.FieldType.object "WoolThreads$Great"))) ∈ lw_all := lw_g (lw_at lw_m6 13 rfl) rfl
theorem q1279 : (Jvm.Cond.classLink "WoolThreads$Run" (103 : Nat) "WoolThreads$Great") ∈ lw_all := lw_g (lw_at lw_m6 14 rfl) rfl
theorem q1281 : (Jvm.Cond.methodLink "WoolThreads$Run" (116 : Nat) ({ cls := "WoolThreads$Great", name := "<init>", desc := "(I)V" } : Jvm.MethodName)) ∈ lw_all := lw_g (lw_at lw_m6 16 rfl) rfl
theorem q1296 : (Jvm.Cond.methodLink "WoolThreads$Run" (127 : Nat) ({ cls := "WoolThreads$Run", name := "times", desc := "(LWoolThreads$Great;LWoolThreads$Find;)V" } : Jvm.MethodName)) ∈ lw_all := lw_g (lw_at lw_m6 31 rfl) rfl
theorem q1297 : (Jvm.Cond.privateMethod ({ cls := "WoolThreads$Run", name := "times", desc := "(LWoolThreads$Great;LWoolThreads$Find;)V" } : Jvm.MethodName)) ∈ lw_tbl := lw_at lw_m6 32 rfl
theorem q1298 : (Jvm.Cond.instanceMethod ({ cls := "WoolThreads$Run", name := "times", desc := "(LWoolThreads$Great;LWoolThreads$Find;)V" } : Jvm.MethodName)) ∈ lw_all := lw_g (lw_at lw_m6 33 rfl) rfl
theorem q1299 : (Jvm.Cond.code ({ cls := "WoolThreads$Run", name := "times", desc := "(LWoolThreads$Great;LWoolThreads$Find;)V" } : Jvm.MethodName) prog_7_method_6_code (5 : Nat) (Option.none : Option Jvm.ClassFile.FieldType)) ∈ lw_all := lw_g (lw_at lw_m6 34 rfl) rfl
theorem q1300 : (Jvm.Cond.methodLink "WoolThreads$Run" (102 : Nat) ({ cls := "WoolThreads$Great", name := "times", desc := "(I)V" } : Jvm.MethodName)) ∈ lw_all := lw_g (lw_at lw_m6 35 rfl) rfl
theorem q1305 : (Jvm.Cond.methodLink "WoolThreads$Run" (108 : Nat) ({ cls := "WoolThreads$Great", name := "by", desc := "(I)V" } : Jvm.MethodName)) ∈ lw_all := lw_g (lw_at lw_m6 40 rfl) rfl
theorem q2040 : (Jvm.Cond.castable "WoolThreads$Run" "java/lang/Object") ∈ lw_tbl := lw_at lw_m9 55 rfl
theorem in_X11 : ∀ w ∈ wsX110, w ∈ lw_all := lw_in wsX110 [1042, 1044, 1046, 1048, 1050, 1052, 1054] (by decide +kernel) (by decide +kernel)
end
section
/-! WoolThreads$Scene -/
set_option maxRecDepth 100000
def RX12 : String := "WoolThreads$Scene"
def TX12 : u_T := fun k => match k with
  | 0 => ("WoolThreads$Scene", "law", "LWoolThreads$Law;", true)
  | 1 => ("WoolThreads$Scene", "lies", "[I", true)
  | _ => ("WoolThreads$Scene", "wears", "[I", true)
def tyX12 : Nat → FieldType := fun k => match k with
  | 0 => .object "WoolThreads$Law"
  | 1 => .array .int
  | _ => .array .int
abbrev wsX120 : List Cond := u_ws RX12 TX12 3
theorem nmX12 : ∀ a, a < 3 → ∀ b, b < 3 → a ≠ b → (TX12 a).2.1 ≠ (TX12 b).2.1 := by decide +kernel
theorem tyX12_ok : ∀ k, k < 3 → parseFieldDescriptor (TX12 k).2.2.1 = some (tyX12 k) := by decide +kernel
abbrev cX12_init : ByteArray := prog_8_method_1_code
def yX12_init : MethodName := ⟨RX12, "<init>", "(LWoolThreads$Law;)V"⟩
def dkwX12_init_2 : List UInt8 := [177]
abbrev dktX12_init_2 : List UInt8 := dkwX12_init_2 ++ []
def dkwX12_init_1 : List UInt8 := [181, 0, 18, 3, 61, 28, 16, 10, 162, 0, 16, 42, 180, 0, 15, 28, 2, 79, 132, 2, 1, 167, 255, 240]
abbrev dktX12_init_1 : List UInt8 := dkwX12_init_1 ++ dktX12_init_2
def dkwX12_init_0 : List UInt8 := [42, 183, 0, 3, 42, 16, 100, 188, 10, 181, 0, 9, 42, 16, 10, 188, 10, 181, 0, 15, 42, 43]
abbrev dktX12_init_0 : List UInt8 := dkwX12_init_0 ++ dktX12_init_1
theorem dksX12_init_0 : cX12_init.data.toList.drop 0 = dktX12_init_0 := by decide +kernel
theorem dksX12_init_1 : cX12_init.data.toList.drop 22 = dktX12_init_1 := dk_seg dksX12_init_0 22 rfl rfl
theorem dksX12_init_2 : cX12_init.data.toList.drop 46 = dktX12_init_2 := dk_seg dksX12_init_1 24 rfl rfl
theorem dX12_init_0 : decode cX12_init 0 = .ok (.aload_n 0, 1) := dk_42 (dk_at dksX12_init_0 0 rfl rfl)
theorem dX12_init_1 : decode cX12_init 1 = .ok (.invokespecial 3, 3) := dk_183 0 3 (dk_at dksX12_init_0 1 rfl rfl)
theorem dX12_init_4 : decode cX12_init 4 = .ok (.aload_n 0, 1) := dk_42 (dk_at dksX12_init_0 4 rfl rfl)
theorem dX12_init_5 : decode cX12_init 5 = .ok (.bipush 100, 2) := dk_16 100 (dk_at dksX12_init_0 5 rfl rfl)
theorem dX12_init_7 : decode cX12_init 7 = .ok (.newarray .int, 2) := dk_188_10 (dk_at dksX12_init_0 7 rfl rfl)
theorem dX12_init_9 : decode cX12_init 9 = .ok (.putfield 9, 3) := dk_181 0 9 (dk_at dksX12_init_0 9 rfl rfl)
theorem dX12_init_12 : decode cX12_init 12 = .ok (.aload_n 0, 1) := dk_42 (dk_at dksX12_init_0 12 rfl rfl)
theorem dX12_init_13 : decode cX12_init 13 = .ok (.bipush 10, 2) := dk_16 10 (dk_at dksX12_init_0 13 rfl rfl)
theorem dX12_init_15 : decode cX12_init 15 = .ok (.newarray .int, 2) := dk_188_10 (dk_at dksX12_init_0 15 rfl rfl)
theorem dX12_init_17 : decode cX12_init 17 = .ok (.putfield 15, 3) := dk_181 0 15 (dk_at dksX12_init_0 17 rfl rfl)
theorem dX12_init_20 : decode cX12_init 20 = .ok (.aload_n 0, 1) := dk_42 (dk_at dksX12_init_0 20 rfl rfl)
theorem dX12_init_21 : decode cX12_init 21 = .ok (.aload_n 1, 1) := dk_43 (dk_at dksX12_init_0 21 rfl rfl)
theorem dX12_init_22 : decode cX12_init 22 = .ok (.putfield 18, 3) := dk_181 0 18 (dk_at dksX12_init_1 0 rfl rfl)
theorem dX12_init_25 : decode cX12_init 25 = .ok (.iconst 0, 1) := dk_3 (dk_at dksX12_init_1 3 rfl rfl)
theorem dX12_init_26 : decode cX12_init 26 = .ok (.istore_n 2, 1) := dk_61 (dk_at dksX12_init_1 4 rfl rfl)
theorem dX12_init_27 : decode cX12_init 27 = .ok (.iload_n 2, 1) := dk_28 (dk_at dksX12_init_1 5 rfl rfl)
theorem dX12_init_28 : decode cX12_init 28 = .ok (.bipush 10, 2) := dk_16 10 (dk_at dksX12_init_1 6 rfl rfl)
theorem dX12_init_30 : decode cX12_init 30 = .ok (.if_icmp .ge 16, 3) := dk_162 0 16 (dk_at dksX12_init_1 8 rfl rfl)
theorem dX12_init_33 : decode cX12_init 33 = .ok (.aload_n 0, 1) := dk_42 (dk_at dksX12_init_1 11 rfl rfl)
theorem dX12_init_34 : decode cX12_init 34 = .ok (.getfield 15, 3) := dk_180 0 15 (dk_at dksX12_init_1 12 rfl rfl)
theorem dX12_init_37 : decode cX12_init 37 = .ok (.iload_n 2, 1) := dk_28 (dk_at dksX12_init_1 15 rfl rfl)
theorem dX12_init_38 : decode cX12_init 38 = .ok (.iconst (-1), 1) := dk_2 (dk_at dksX12_init_1 16 rfl rfl)
theorem dX12_init_39 : decode cX12_init 39 = .ok (.iastore, 1) := dk_79 (dk_at dksX12_init_1 17 rfl rfl)
theorem dX12_init_40 : decode cX12_init 40 = .ok (.iinc 2 1, 3) := dk_132 2 1 (dk_at dksX12_init_1 18 rfl rfl)
theorem dX12_init_43 : decode cX12_init 43 = .ok (.goto (-16), 3) := dk_167 255 240 (dk_at dksX12_init_1 21 rfl rfl)
theorem dX12_init_46 : decode cX12_init 46 = .ok (.return_, 1) := dk_177 (dk_at dksX12_init_2 0 rfl rfl)
abbrev cX12_hour : ByteArray := prog_8_method_5_code
def yX12_hour : MethodName := ⟨RX12, "hour", "()V"⟩
def dkwX12_hour_1 : List UInt8 := [180, 0, 40, 27, 16, 10, 112, 46, 104, 16, 16, 108, 79, 132, 1, 1, 167, 255, 219, 177]
abbrev dktX12_hour_1 : List UInt8 := dkwX12_hour_1 ++ []
def dkwX12_hour_0 : List UInt8 := [3, 60, 27, 16, 100, 162, 0, 37, 42, 180, 0, 9, 27, 42, 180, 0, 9, 27, 46, 42, 180, 0, 18]
abbrev dktX12_hour_0 : List UInt8 := dkwX12_hour_0 ++ dktX12_hour_1
theorem dksX12_hour_0 : cX12_hour.data.toList.drop 0 = dktX12_hour_0 := by decide +kernel
theorem dksX12_hour_1 : cX12_hour.data.toList.drop 23 = dktX12_hour_1 := dk_seg dksX12_hour_0 23 rfl rfl
theorem dX12_hour_0 : decode cX12_hour 0 = .ok (.iconst 0, 1) := dk_3 (dk_at dksX12_hour_0 0 rfl rfl)
theorem dX12_hour_1 : decode cX12_hour 1 = .ok (.istore_n 1, 1) := dk_60 (dk_at dksX12_hour_0 1 rfl rfl)
theorem dX12_hour_2 : decode cX12_hour 2 = .ok (.iload_n 1, 1) := dk_27 (dk_at dksX12_hour_0 2 rfl rfl)
theorem dX12_hour_3 : decode cX12_hour 3 = .ok (.bipush 100, 2) := dk_16 100 (dk_at dksX12_hour_0 3 rfl rfl)
theorem dX12_hour_5 : decode cX12_hour 5 = .ok (.if_icmp .ge 37, 3) := dk_162 0 37 (dk_at dksX12_hour_0 5 rfl rfl)
theorem dX12_hour_8 : decode cX12_hour 8 = .ok (.aload_n 0, 1) := dk_42 (dk_at dksX12_hour_0 8 rfl rfl)
theorem dX12_hour_9 : decode cX12_hour 9 = .ok (.getfield 9, 3) := dk_180 0 9 (dk_at dksX12_hour_0 9 rfl rfl)
theorem dX12_hour_12 : decode cX12_hour 12 = .ok (.iload_n 1, 1) := dk_27 (dk_at dksX12_hour_0 12 rfl rfl)
theorem dX12_hour_13 : decode cX12_hour 13 = .ok (.aload_n 0, 1) := dk_42 (dk_at dksX12_hour_0 13 rfl rfl)
theorem dX12_hour_14 : decode cX12_hour 14 = .ok (.getfield 9, 3) := dk_180 0 9 (dk_at dksX12_hour_0 14 rfl rfl)
theorem dX12_hour_17 : decode cX12_hour 17 = .ok (.iload_n 1, 1) := dk_27 (dk_at dksX12_hour_0 17 rfl rfl)
theorem dX12_hour_18 : decode cX12_hour 18 = .ok (.iaload, 1) := dk_46 (dk_at dksX12_hour_0 18 rfl rfl)
theorem dX12_hour_19 : decode cX12_hour 19 = .ok (.aload_n 0, 1) := dk_42 (dk_at dksX12_hour_0 19 rfl rfl)
theorem dX12_hour_20 : decode cX12_hour 20 = .ok (.getfield 18, 3) := dk_180 0 18 (dk_at dksX12_hour_0 20 rfl rfl)
theorem dX12_hour_23 : decode cX12_hour 23 = .ok (.getfield 40, 3) := dk_180 0 40 (dk_at dksX12_hour_1 0 rfl rfl)
theorem dX12_hour_26 : decode cX12_hour 26 = .ok (.iload_n 1, 1) := dk_27 (dk_at dksX12_hour_1 3 rfl rfl)
theorem dX12_hour_27 : decode cX12_hour 27 = .ok (.bipush 10, 2) := dk_16 10 (dk_at dksX12_hour_1 4 rfl rfl)
theorem dX12_hour_29 : decode cX12_hour 29 = .ok (.irem, 1) := dk_112 (dk_at dksX12_hour_1 6 rfl rfl)
theorem dX12_hour_30 : decode cX12_hour 30 = .ok (.iaload, 1) := dk_46 (dk_at dksX12_hour_1 7 rfl rfl)
theorem dX12_hour_31 : decode cX12_hour 31 = .ok (.imul, 1) := dk_104 (dk_at dksX12_hour_1 8 rfl rfl)
theorem dX12_hour_32 : decode cX12_hour 32 = .ok (.bipush 16, 2) := dk_16 16 (dk_at dksX12_hour_1 9 rfl rfl)
theorem dX12_hour_34 : decode cX12_hour 34 = .ok (.idiv, 1) := dk_108 (dk_at dksX12_hour_1 11 rfl rfl)
theorem dX12_hour_35 : decode cX12_hour 35 = .ok (.iastore, 1) := dk_79 (dk_at dksX12_hour_1 12 rfl rfl)
theorem dX12_hour_36 : decode cX12_hour 36 = .ok (.iinc 1 1, 3) := dk_132 1 1 (dk_at dksX12_hour_1 13 rfl rfl)
theorem dX12_hour_39 : decode cX12_hour 39 = .ok (.goto (-37), 3) := dk_167 255 219 (dk_at dksX12_hour_1 16 rfl rfl)
theorem dX12_hour_42 : decode cX12_hour 42 = .ok (.return_, 1) := dk_177 (dk_at dksX12_hour_1 19 rfl rfl)
abbrev cX12_stay : ByteArray := prog_8_method_4_code
def yX12_stay : MethodName := ⟨RX12, "stay", "(II)V"⟩
def dkwX12_stay_1 : List UInt8 := [27, 104, 29, 96, 46, 28, 104, 16, 16, 108, 79, 132, 3, 1, 167, 255, 220, 177]
abbrev dktX12_stay_1 : List UInt8 := dkwX12_stay_1 ++ []
def dkwX12_stay_0 : List UInt8 := [3, 62, 29, 16, 10, 162, 0, 36, 42, 180, 0, 9, 16, 10, 27, 104, 29, 96, 42, 180, 0, 9, 16, 10]
abbrev dktX12_stay_0 : List UInt8 := dkwX12_stay_0 ++ dktX12_stay_1
theorem dksX12_stay_0 : cX12_stay.data.toList.drop 0 = dktX12_stay_0 := by decide +kernel
theorem dksX12_stay_1 : cX12_stay.data.toList.drop 24 = dktX12_stay_1 := dk_seg dksX12_stay_0 24 rfl rfl
theorem dX12_stay_0 : decode cX12_stay 0 = .ok (.iconst 0, 1) := dk_3 (dk_at dksX12_stay_0 0 rfl rfl)
theorem dX12_stay_1 : decode cX12_stay 1 = .ok (.istore_n 3, 1) := dk_62 (dk_at dksX12_stay_0 1 rfl rfl)
theorem dX12_stay_2 : decode cX12_stay 2 = .ok (.iload_n 3, 1) := dk_29 (dk_at dksX12_stay_0 2 rfl rfl)
theorem dX12_stay_3 : decode cX12_stay 3 = .ok (.bipush 10, 2) := dk_16 10 (dk_at dksX12_stay_0 3 rfl rfl)
theorem dX12_stay_5 : decode cX12_stay 5 = .ok (.if_icmp .ge 36, 3) := dk_162 0 36 (dk_at dksX12_stay_0 5 rfl rfl)
theorem dX12_stay_8 : decode cX12_stay 8 = .ok (.aload_n 0, 1) := dk_42 (dk_at dksX12_stay_0 8 rfl rfl)
theorem dX12_stay_9 : decode cX12_stay 9 = .ok (.getfield 9, 3) := dk_180 0 9 (dk_at dksX12_stay_0 9 rfl rfl)
theorem dX12_stay_12 : decode cX12_stay 12 = .ok (.bipush 10, 2) := dk_16 10 (dk_at dksX12_stay_0 12 rfl rfl)
theorem dX12_stay_14 : decode cX12_stay 14 = .ok (.iload_n 1, 1) := dk_27 (dk_at dksX12_stay_0 14 rfl rfl)
theorem dX12_stay_15 : decode cX12_stay 15 = .ok (.imul, 1) := dk_104 (dk_at dksX12_stay_0 15 rfl rfl)
theorem dX12_stay_16 : decode cX12_stay 16 = .ok (.iload_n 3, 1) := dk_29 (dk_at dksX12_stay_0 16 rfl rfl)
theorem dX12_stay_17 : decode cX12_stay 17 = .ok (.iadd, 1) := dk_96 (dk_at dksX12_stay_0 17 rfl rfl)
theorem dX12_stay_18 : decode cX12_stay 18 = .ok (.aload_n 0, 1) := dk_42 (dk_at dksX12_stay_0 18 rfl rfl)
theorem dX12_stay_19 : decode cX12_stay 19 = .ok (.getfield 9, 3) := dk_180 0 9 (dk_at dksX12_stay_0 19 rfl rfl)
theorem dX12_stay_22 : decode cX12_stay 22 = .ok (.bipush 10, 2) := dk_16 10 (dk_at dksX12_stay_0 22 rfl rfl)
theorem dX12_stay_24 : decode cX12_stay 24 = .ok (.iload_n 1, 1) := dk_27 (dk_at dksX12_stay_1 0 rfl rfl)
theorem dX12_stay_25 : decode cX12_stay 25 = .ok (.imul, 1) := dk_104 (dk_at dksX12_stay_1 1 rfl rfl)
theorem dX12_stay_26 : decode cX12_stay 26 = .ok (.iload_n 3, 1) := dk_29 (dk_at dksX12_stay_1 2 rfl rfl)
theorem dX12_stay_27 : decode cX12_stay 27 = .ok (.iadd, 1) := dk_96 (dk_at dksX12_stay_1 3 rfl rfl)
theorem dX12_stay_28 : decode cX12_stay 28 = .ok (.iaload, 1) := dk_46 (dk_at dksX12_stay_1 4 rfl rfl)
theorem dX12_stay_29 : decode cX12_stay 29 = .ok (.iload_n 2, 1) := dk_28 (dk_at dksX12_stay_1 5 rfl rfl)
theorem dX12_stay_30 : decode cX12_stay 30 = .ok (.imul, 1) := dk_104 (dk_at dksX12_stay_1 6 rfl rfl)
theorem dX12_stay_31 : decode cX12_stay 31 = .ok (.bipush 16, 2) := dk_16 16 (dk_at dksX12_stay_1 7 rfl rfl)
theorem dX12_stay_33 : decode cX12_stay 33 = .ok (.idiv, 1) := dk_108 (dk_at dksX12_stay_1 9 rfl rfl)
theorem dX12_stay_34 : decode cX12_stay 34 = .ok (.iastore, 1) := dk_79 (dk_at dksX12_stay_1 10 rfl rfl)
theorem dX12_stay_35 : decode cX12_stay 35 = .ok (.iinc 3 1, 3) := dk_132 3 1 (dk_at dksX12_stay_1 11 rfl rfl)
theorem dX12_stay_38 : decode cX12_stay 38 = .ok (.goto (-36), 3) := dk_167 255 220 (dk_at dksX12_stay_1 14 rfl rfl)
theorem dX12_stay_41 : decode cX12_stay 41 = .ok (.return_, 1) := dk_177 (dk_at dksX12_stay_1 17 rfl rfl)
abbrev cX12_touch : ByteArray := prog_8_method_3_code
def yX12_touch : MethodName := ⟨RX12, "touch", "(II)V"⟩
def dkwX12_touch_5 : List UInt8 := [96, 42, 27, 29, 182, 0, 31, 96, 184, 0, 35, 79, 132, 3, 1, 167, 255, 127, 177]
abbrev dktX12_touch_5 : List UInt8 := dkwX12_touch_5 ++ []
def dkwX12_touch_4 : List UInt8 := [184, 0, 35, 79, 42, 180, 0, 9, 16, 10, 28, 104, 29, 96, 17, 39, 15, 21, 5, 21, 7, 100, 21, 6]
abbrev dktX12_touch_4 : List UInt8 := dkwX12_touch_4 ++ dktX12_touch_5
def dkwX12_touch_3 : List UInt8 := [27, 104, 29, 96, 17, 39, 15, 21, 4, 21, 6, 100, 21, 7, 96, 42, 28, 29, 182, 0, 31, 96]
abbrev dktX12_touch_3 : List UInt8 := dkwX12_touch_3 ++ dktX12_touch_4
def dkwX12_touch_2 : List UInt8 := [108, 54, 6, 21, 5, 42, 180, 0, 18, 180, 0, 27, 104, 16, 16, 108, 54, 7, 42, 180, 0, 9, 16, 10]
abbrev dktX12_touch_2 : List UInt8 := dkwX12_touch_2 ++ dktX12_touch_3
def dkwX12_touch_1 : List UInt8 := [180, 0, 9, 16, 10, 28, 104, 29, 96, 46, 54, 5, 21, 4, 42, 180, 0, 18, 180, 0, 27, 104, 16, 16]
abbrev dktX12_touch_1 : List UInt8 := dkwX12_touch_1 ++ dktX12_touch_2
def dkwX12_touch_0 : List UInt8 := [3, 62, 29, 16, 10, 162, 0, 129, 42, 180, 0, 9, 16, 10, 27, 104, 29, 96, 46, 54, 4, 42]
abbrev dktX12_touch_0 : List UInt8 := dkwX12_touch_0 ++ dktX12_touch_1
theorem dksX12_touch_0 : cX12_touch.data.toList.drop 0 = dktX12_touch_0 := by decide +kernel
theorem dksX12_touch_1 : cX12_touch.data.toList.drop 22 = dktX12_touch_1 := dk_seg dksX12_touch_0 22 rfl rfl
theorem dksX12_touch_2 : cX12_touch.data.toList.drop 46 = dktX12_touch_2 := dk_seg dksX12_touch_1 24 rfl rfl
theorem dksX12_touch_3 : cX12_touch.data.toList.drop 70 = dktX12_touch_3 := dk_seg dksX12_touch_2 24 rfl rfl
theorem dksX12_touch_4 : cX12_touch.data.toList.drop 92 = dktX12_touch_4 := dk_seg dksX12_touch_3 22 rfl rfl
theorem dksX12_touch_5 : cX12_touch.data.toList.drop 116 = dktX12_touch_5 := dk_seg dksX12_touch_4 24 rfl rfl
theorem dX12_touch_0 : decode cX12_touch 0 = .ok (.iconst 0, 1) := dk_3 (dk_at dksX12_touch_0 0 rfl rfl)
theorem dX12_touch_1 : decode cX12_touch 1 = .ok (.istore_n 3, 1) := dk_62 (dk_at dksX12_touch_0 1 rfl rfl)
theorem dX12_touch_2 : decode cX12_touch 2 = .ok (.iload_n 3, 1) := dk_29 (dk_at dksX12_touch_0 2 rfl rfl)
theorem dX12_touch_3 : decode cX12_touch 3 = .ok (.bipush 10, 2) := dk_16 10 (dk_at dksX12_touch_0 3 rfl rfl)
theorem dX12_touch_5 : decode cX12_touch 5 = .ok (.if_icmp .ge 129, 3) := dk_162 0 129 (dk_at dksX12_touch_0 5 rfl rfl)
theorem dX12_touch_8 : decode cX12_touch 8 = .ok (.aload_n 0, 1) := dk_42 (dk_at dksX12_touch_0 8 rfl rfl)
theorem dX12_touch_9 : decode cX12_touch 9 = .ok (.getfield 9, 3) := dk_180 0 9 (dk_at dksX12_touch_0 9 rfl rfl)
theorem dX12_touch_12 : decode cX12_touch 12 = .ok (.bipush 10, 2) := dk_16 10 (dk_at dksX12_touch_0 12 rfl rfl)
theorem dX12_touch_14 : decode cX12_touch 14 = .ok (.iload_n 1, 1) := dk_27 (dk_at dksX12_touch_0 14 rfl rfl)
theorem dX12_touch_15 : decode cX12_touch 15 = .ok (.imul, 1) := dk_104 (dk_at dksX12_touch_0 15 rfl rfl)
theorem dX12_touch_16 : decode cX12_touch 16 = .ok (.iload_n 3, 1) := dk_29 (dk_at dksX12_touch_0 16 rfl rfl)
theorem dX12_touch_17 : decode cX12_touch 17 = .ok (.iadd, 1) := dk_96 (dk_at dksX12_touch_0 17 rfl rfl)
theorem dX12_touch_18 : decode cX12_touch 18 = .ok (.iaload, 1) := dk_46 (dk_at dksX12_touch_0 18 rfl rfl)
theorem dX12_touch_19 : decode cX12_touch 19 = .ok (.istore 4, 2) := dk_54 4 (dk_at dksX12_touch_0 19 rfl rfl)
theorem dX12_touch_21 : decode cX12_touch 21 = .ok (.aload_n 0, 1) := dk_42 (dk_at dksX12_touch_0 21 rfl rfl)
theorem dX12_touch_22 : decode cX12_touch 22 = .ok (.getfield 9, 3) := dk_180 0 9 (dk_at dksX12_touch_1 0 rfl rfl)
theorem dX12_touch_25 : decode cX12_touch 25 = .ok (.bipush 10, 2) := dk_16 10 (dk_at dksX12_touch_1 3 rfl rfl)
theorem dX12_touch_27 : decode cX12_touch 27 = .ok (.iload_n 2, 1) := dk_28 (dk_at dksX12_touch_1 5 rfl rfl)
theorem dX12_touch_28 : decode cX12_touch 28 = .ok (.imul, 1) := dk_104 (dk_at dksX12_touch_1 6 rfl rfl)
theorem dX12_touch_29 : decode cX12_touch 29 = .ok (.iload_n 3, 1) := dk_29 (dk_at dksX12_touch_1 7 rfl rfl)
theorem dX12_touch_30 : decode cX12_touch 30 = .ok (.iadd, 1) := dk_96 (dk_at dksX12_touch_1 8 rfl rfl)
theorem dX12_touch_31 : decode cX12_touch 31 = .ok (.iaload, 1) := dk_46 (dk_at dksX12_touch_1 9 rfl rfl)
theorem dX12_touch_32 : decode cX12_touch 32 = .ok (.istore 5, 2) := dk_54 5 (dk_at dksX12_touch_1 10 rfl rfl)
theorem dX12_touch_34 : decode cX12_touch 34 = .ok (.iload 4, 2) := dk_21 4 (dk_at dksX12_touch_1 12 rfl rfl)
theorem dX12_touch_36 : decode cX12_touch 36 = .ok (.aload_n 0, 1) := dk_42 (dk_at dksX12_touch_1 14 rfl rfl)
theorem dX12_touch_37 : decode cX12_touch 37 = .ok (.getfield 18, 3) := dk_180 0 18 (dk_at dksX12_touch_1 15 rfl rfl)
theorem dX12_touch_40 : decode cX12_touch 40 = .ok (.getfield 27, 3) := dk_180 0 27 (dk_at dksX12_touch_1 18 rfl rfl)
theorem dX12_touch_43 : decode cX12_touch 43 = .ok (.imul, 1) := dk_104 (dk_at dksX12_touch_1 21 rfl rfl)
theorem dX12_touch_44 : decode cX12_touch 44 = .ok (.bipush 16, 2) := dk_16 16 (dk_at dksX12_touch_1 22 rfl rfl)
theorem dX12_touch_46 : decode cX12_touch 46 = .ok (.idiv, 1) := dk_108 (dk_at dksX12_touch_2 0 rfl rfl)
theorem dX12_touch_47 : decode cX12_touch 47 = .ok (.istore 6, 2) := dk_54 6 (dk_at dksX12_touch_2 1 rfl rfl)
theorem dX12_touch_49 : decode cX12_touch 49 = .ok (.iload 5, 2) := dk_21 5 (dk_at dksX12_touch_2 3 rfl rfl)
theorem dX12_touch_51 : decode cX12_touch 51 = .ok (.aload_n 0, 1) := dk_42 (dk_at dksX12_touch_2 5 rfl rfl)
theorem dX12_touch_52 : decode cX12_touch 52 = .ok (.getfield 18, 3) := dk_180 0 18 (dk_at dksX12_touch_2 6 rfl rfl)
theorem dX12_touch_55 : decode cX12_touch 55 = .ok (.getfield 27, 3) := dk_180 0 27 (dk_at dksX12_touch_2 9 rfl rfl)
theorem dX12_touch_58 : decode cX12_touch 58 = .ok (.imul, 1) := dk_104 (dk_at dksX12_touch_2 12 rfl rfl)
theorem dX12_touch_59 : decode cX12_touch 59 = .ok (.bipush 16, 2) := dk_16 16 (dk_at dksX12_touch_2 13 rfl rfl)
theorem dX12_touch_61 : decode cX12_touch 61 = .ok (.idiv, 1) := dk_108 (dk_at dksX12_touch_2 15 rfl rfl)
theorem dX12_touch_62 : decode cX12_touch 62 = .ok (.istore 7, 2) := dk_54 7 (dk_at dksX12_touch_2 16 rfl rfl)
theorem dX12_touch_64 : decode cX12_touch 64 = .ok (.aload_n 0, 1) := dk_42 (dk_at dksX12_touch_2 18 rfl rfl)
theorem dX12_touch_65 : decode cX12_touch 65 = .ok (.getfield 9, 3) := dk_180 0 9 (dk_at dksX12_touch_2 19 rfl rfl)
theorem dX12_touch_68 : decode cX12_touch 68 = .ok (.bipush 10, 2) := dk_16 10 (dk_at dksX12_touch_2 22 rfl rfl)
theorem dX12_touch_70 : decode cX12_touch 70 = .ok (.iload_n 1, 1) := dk_27 (dk_at dksX12_touch_3 0 rfl rfl)
theorem dX12_touch_71 : decode cX12_touch 71 = .ok (.imul, 1) := dk_104 (dk_at dksX12_touch_3 1 rfl rfl)
theorem dX12_touch_72 : decode cX12_touch 72 = .ok (.iload_n 3, 1) := dk_29 (dk_at dksX12_touch_3 2 rfl rfl)
theorem dX12_touch_73 : decode cX12_touch 73 = .ok (.iadd, 1) := dk_96 (dk_at dksX12_touch_3 3 rfl rfl)
theorem dX12_touch_74 : decode cX12_touch 74 = .ok (.sipush 9999, 3) := dk_17 39 15 (dk_at dksX12_touch_3 4 rfl rfl)
theorem dX12_touch_77 : decode cX12_touch 77 = .ok (.iload 4, 2) := dk_21 4 (dk_at dksX12_touch_3 7 rfl rfl)
theorem dX12_touch_79 : decode cX12_touch 79 = .ok (.iload 6, 2) := dk_21 6 (dk_at dksX12_touch_3 9 rfl rfl)
theorem dX12_touch_81 : decode cX12_touch 81 = .ok (.isub, 1) := dk_100 (dk_at dksX12_touch_3 11 rfl rfl)
theorem dX12_touch_82 : decode cX12_touch 82 = .ok (.iload 7, 2) := dk_21 7 (dk_at dksX12_touch_3 12 rfl rfl)
theorem dX12_touch_84 : decode cX12_touch 84 = .ok (.iadd, 1) := dk_96 (dk_at dksX12_touch_3 14 rfl rfl)
theorem dX12_touch_85 : decode cX12_touch 85 = .ok (.aload_n 0, 1) := dk_42 (dk_at dksX12_touch_3 15 rfl rfl)
theorem dX12_touch_86 : decode cX12_touch 86 = .ok (.iload_n 2, 1) := dk_28 (dk_at dksX12_touch_3 16 rfl rfl)
theorem dX12_touch_87 : decode cX12_touch 87 = .ok (.iload_n 3, 1) := dk_29 (dk_at dksX12_touch_3 17 rfl rfl)
theorem dX12_touch_88 : decode cX12_touch 88 = .ok (.invokevirtual 31, 3) := dk_182 0 31 (dk_at dksX12_touch_3 18 rfl rfl)
theorem dX12_touch_91 : decode cX12_touch 91 = .ok (.iadd, 1) := dk_96 (dk_at dksX12_touch_3 21 rfl rfl)
theorem dX12_touch_92 : decode cX12_touch 92 = .ok (.invokestatic 35, 3) := dk_184 0 35 (dk_at dksX12_touch_4 0 rfl rfl)
theorem dX12_touch_95 : decode cX12_touch 95 = .ok (.iastore, 1) := dk_79 (dk_at dksX12_touch_4 3 rfl rfl)
theorem dX12_touch_96 : decode cX12_touch 96 = .ok (.aload_n 0, 1) := dk_42 (dk_at dksX12_touch_4 4 rfl rfl)
theorem dX12_touch_97 : decode cX12_touch 97 = .ok (.getfield 9, 3) := dk_180 0 9 (dk_at dksX12_touch_4 5 rfl rfl)
theorem dX12_touch_100 : decode cX12_touch 100 = .ok (.bipush 10, 2) := dk_16 10 (dk_at dksX12_touch_4 8 rfl rfl)
theorem dX12_touch_102 : decode cX12_touch 102 = .ok (.iload_n 2, 1) := dk_28 (dk_at dksX12_touch_4 10 rfl rfl)
theorem dX12_touch_103 : decode cX12_touch 103 = .ok (.imul, 1) := dk_104 (dk_at dksX12_touch_4 11 rfl rfl)
theorem dX12_touch_104 : decode cX12_touch 104 = .ok (.iload_n 3, 1) := dk_29 (dk_at dksX12_touch_4 12 rfl rfl)
theorem dX12_touch_105 : decode cX12_touch 105 = .ok (.iadd, 1) := dk_96 (dk_at dksX12_touch_4 13 rfl rfl)
theorem dX12_touch_106 : decode cX12_touch 106 = .ok (.sipush 9999, 3) := dk_17 39 15 (dk_at dksX12_touch_4 14 rfl rfl)
theorem dX12_touch_109 : decode cX12_touch 109 = .ok (.iload 5, 2) := dk_21 5 (dk_at dksX12_touch_4 17 rfl rfl)
theorem dX12_touch_111 : decode cX12_touch 111 = .ok (.iload 7, 2) := dk_21 7 (dk_at dksX12_touch_4 19 rfl rfl)
theorem dX12_touch_113 : decode cX12_touch 113 = .ok (.isub, 1) := dk_100 (dk_at dksX12_touch_4 21 rfl rfl)
theorem dX12_touch_114 : decode cX12_touch 114 = .ok (.iload 6, 2) := dk_21 6 (dk_at dksX12_touch_4 22 rfl rfl)
theorem dX12_touch_116 : decode cX12_touch 116 = .ok (.iadd, 1) := dk_96 (dk_at dksX12_touch_5 0 rfl rfl)
theorem dX12_touch_117 : decode cX12_touch 117 = .ok (.aload_n 0, 1) := dk_42 (dk_at dksX12_touch_5 1 rfl rfl)
theorem dX12_touch_118 : decode cX12_touch 118 = .ok (.iload_n 1, 1) := dk_27 (dk_at dksX12_touch_5 2 rfl rfl)
theorem dX12_touch_119 : decode cX12_touch 119 = .ok (.iload_n 3, 1) := dk_29 (dk_at dksX12_touch_5 3 rfl rfl)
theorem dX12_touch_120 : decode cX12_touch 120 = .ok (.invokevirtual 31, 3) := dk_182 0 31 (dk_at dksX12_touch_5 4 rfl rfl)
theorem dX12_touch_123 : decode cX12_touch 123 = .ok (.iadd, 1) := dk_96 (dk_at dksX12_touch_5 7 rfl rfl)
theorem dX12_touch_124 : decode cX12_touch 124 = .ok (.invokestatic 35, 3) := dk_184 0 35 (dk_at dksX12_touch_5 8 rfl rfl)
theorem dX12_touch_127 : decode cX12_touch 127 = .ok (.iastore, 1) := dk_79 (dk_at dksX12_touch_5 11 rfl rfl)
theorem dX12_touch_128 : decode cX12_touch 128 = .ok (.iinc 3 1, 3) := dk_132 3 1 (dk_at dksX12_touch_5 12 rfl rfl)
theorem dX12_touch_131 : decode cX12_touch 131 = .ok (.goto (-129), 3) := dk_167 255 127 (dk_at dksX12_touch_5 15 rfl rfl)
theorem dX12_touch_134 : decode cX12_touch 134 = .ok (.return_, 1) := dk_177 (dk_at dksX12_touch_5 18 rfl rfl)
abbrev cX12_shedBy : ByteArray := prog_8_method_2_code
def yX12_shedBy : MethodName := ⟨RX12, "shedBy", "(II)I"⟩
def dkwX12_shedBy_1 : List UInt8 := [180, 0, 15, 27, 46, 104, 28, 96, 46, 172]
abbrev dktX12_shedBy_1 : List UInt8 := dkwX12_shedBy_1 ++ []
def dkwX12_shedBy_0 : List UInt8 := [42, 180, 0, 15, 27, 46, 2, 160, 0, 7, 3, 167, 0, 22, 42, 180, 0, 18, 180, 0, 22, 16, 10, 42]
abbrev dktX12_shedBy_0 : List UInt8 := dkwX12_shedBy_0 ++ dktX12_shedBy_1
theorem dksX12_shedBy_0 : cX12_shedBy.data.toList.drop 0 = dktX12_shedBy_0 := by decide +kernel
theorem dksX12_shedBy_1 : cX12_shedBy.data.toList.drop 24 = dktX12_shedBy_1 := dk_seg dksX12_shedBy_0 24 rfl rfl
theorem dX12_shedBy_0 : decode cX12_shedBy 0 = .ok (.aload_n 0, 1) := dk_42 (dk_at dksX12_shedBy_0 0 rfl rfl)
theorem dX12_shedBy_1 : decode cX12_shedBy 1 = .ok (.getfield 15, 3) := dk_180 0 15 (dk_at dksX12_shedBy_0 1 rfl rfl)
theorem dX12_shedBy_4 : decode cX12_shedBy 4 = .ok (.iload_n 1, 1) := dk_27 (dk_at dksX12_shedBy_0 4 rfl rfl)
theorem dX12_shedBy_5 : decode cX12_shedBy 5 = .ok (.iaload, 1) := dk_46 (dk_at dksX12_shedBy_0 5 rfl rfl)
theorem dX12_shedBy_6 : decode cX12_shedBy 6 = .ok (.iconst (-1), 1) := dk_2 (dk_at dksX12_shedBy_0 6 rfl rfl)
theorem dX12_shedBy_7 : decode cX12_shedBy 7 = .ok (.if_icmp .ne 7, 3) := dk_160 0 7 (dk_at dksX12_shedBy_0 7 rfl rfl)
theorem dX12_shedBy_10 : decode cX12_shedBy 10 = .ok (.iconst 0, 1) := dk_3 (dk_at dksX12_shedBy_0 10 rfl rfl)
theorem dX12_shedBy_11 : decode cX12_shedBy 11 = .ok (.goto 22, 3) := dk_167 0 22 (dk_at dksX12_shedBy_0 11 rfl rfl)
theorem dX12_shedBy_14 : decode cX12_shedBy 14 = .ok (.aload_n 0, 1) := dk_42 (dk_at dksX12_shedBy_0 14 rfl rfl)
theorem dX12_shedBy_15 : decode cX12_shedBy 15 = .ok (.getfield 18, 3) := dk_180 0 18 (dk_at dksX12_shedBy_0 15 rfl rfl)
theorem dX12_shedBy_18 : decode cX12_shedBy 18 = .ok (.getfield 22, 3) := dk_180 0 22 (dk_at dksX12_shedBy_0 18 rfl rfl)
theorem dX12_shedBy_21 : decode cX12_shedBy 21 = .ok (.bipush 10, 2) := dk_16 10 (dk_at dksX12_shedBy_0 21 rfl rfl)
theorem dX12_shedBy_23 : decode cX12_shedBy 23 = .ok (.aload_n 0, 1) := dk_42 (dk_at dksX12_shedBy_0 23 rfl rfl)
theorem dX12_shedBy_24 : decode cX12_shedBy 24 = .ok (.getfield 15, 3) := dk_180 0 15 (dk_at dksX12_shedBy_1 0 rfl rfl)
theorem dX12_shedBy_27 : decode cX12_shedBy 27 = .ok (.iload_n 1, 1) := dk_27 (dk_at dksX12_shedBy_1 3 rfl rfl)
theorem dX12_shedBy_28 : decode cX12_shedBy 28 = .ok (.iaload, 1) := dk_46 (dk_at dksX12_shedBy_1 4 rfl rfl)
theorem dX12_shedBy_29 : decode cX12_shedBy 29 = .ok (.imul, 1) := dk_104 (dk_at dksX12_shedBy_1 5 rfl rfl)
theorem dX12_shedBy_30 : decode cX12_shedBy 30 = .ok (.iload_n 2, 1) := dk_28 (dk_at dksX12_shedBy_1 6 rfl rfl)
theorem dX12_shedBy_31 : decode cX12_shedBy 31 = .ok (.iadd, 1) := dk_96 (dk_at dksX12_shedBy_1 7 rfl rfl)
theorem dX12_shedBy_32 : decode cX12_shedBy 32 = .ok (.iaload, 1) := dk_46 (dk_at dksX12_shedBy_1 8 rfl rfl)
theorem dX12_shedBy_33 : decode cX12_shedBy 33 = .ok (.ireturn, 1) := dk_172 (dk_at dksX12_shedBy_1 9 rfl rfl)
abbrev cX12_pile : ByteArray := prog_8_method_6_code
def yX12_pile : MethodName := ⟨RX12, "pile", "(II)I"⟩
def dkwX12_pile_2 : List UInt8 := [180, 0, 46, 21, 4, 46, 96, 96, 62, 132, 4, 1, 167, 255, 202, 16, 60, 29, 184, 0, 35, 172]
abbrev dktX12_pile_2 : List UInt8 := dkwX12_pile_2 ++ []
def dkwX12_pile_1 : List UInt8 := [4, 126, 4, 160, 0, 29, 29, 42, 180, 0, 9, 16, 10, 27, 104, 21, 4, 96, 46, 42, 180, 0, 18]
abbrev dktX12_pile_1 : List UInt8 := dkwX12_pile_1 ++ dktX12_pile_2
def dkwX12_pile_0 : List UInt8 := [3, 62, 3, 54, 4, 21, 4, 16, 10, 162, 0, 53, 42, 180, 0, 18, 180, 0, 43, 28, 46, 21, 4, 122]
abbrev dktX12_pile_0 : List UInt8 := dkwX12_pile_0 ++ dktX12_pile_1
theorem dksX12_pile_0 : cX12_pile.data.toList.drop 0 = dktX12_pile_0 := by decide +kernel
theorem dksX12_pile_1 : cX12_pile.data.toList.drop 24 = dktX12_pile_1 := dk_seg dksX12_pile_0 24 rfl rfl
theorem dksX12_pile_2 : cX12_pile.data.toList.drop 47 = dktX12_pile_2 := dk_seg dksX12_pile_1 23 rfl rfl
theorem dX12_pile_0 : decode cX12_pile 0 = .ok (.iconst 0, 1) := dk_3 (dk_at dksX12_pile_0 0 rfl rfl)
theorem dX12_pile_1 : decode cX12_pile 1 = .ok (.istore_n 3, 1) := dk_62 (dk_at dksX12_pile_0 1 rfl rfl)
theorem dX12_pile_2 : decode cX12_pile 2 = .ok (.iconst 0, 1) := dk_3 (dk_at dksX12_pile_0 2 rfl rfl)
theorem dX12_pile_3 : decode cX12_pile 3 = .ok (.istore 4, 2) := dk_54 4 (dk_at dksX12_pile_0 3 rfl rfl)
theorem dX12_pile_5 : decode cX12_pile 5 = .ok (.iload 4, 2) := dk_21 4 (dk_at dksX12_pile_0 5 rfl rfl)
theorem dX12_pile_7 : decode cX12_pile 7 = .ok (.bipush 10, 2) := dk_16 10 (dk_at dksX12_pile_0 7 rfl rfl)
theorem dX12_pile_9 : decode cX12_pile 9 = .ok (.if_icmp .ge 53, 3) := dk_162 0 53 (dk_at dksX12_pile_0 9 rfl rfl)
theorem dX12_pile_12 : decode cX12_pile 12 = .ok (.aload_n 0, 1) := dk_42 (dk_at dksX12_pile_0 12 rfl rfl)
theorem dX12_pile_13 : decode cX12_pile 13 = .ok (.getfield 18, 3) := dk_180 0 18 (dk_at dksX12_pile_0 13 rfl rfl)
theorem dX12_pile_16 : decode cX12_pile 16 = .ok (.getfield 43, 3) := dk_180 0 43 (dk_at dksX12_pile_0 16 rfl rfl)
theorem dX12_pile_19 : decode cX12_pile 19 = .ok (.iload_n 2, 1) := dk_28 (dk_at dksX12_pile_0 19 rfl rfl)
theorem dX12_pile_20 : decode cX12_pile 20 = .ok (.iaload, 1) := dk_46 (dk_at dksX12_pile_0 20 rfl rfl)
theorem dX12_pile_21 : decode cX12_pile 21 = .ok (.iload 4, 2) := dk_21 4 (dk_at dksX12_pile_0 21 rfl rfl)
theorem dX12_pile_23 : decode cX12_pile 23 = .ok (.ishr, 1) := dk_122 (dk_at dksX12_pile_0 23 rfl rfl)
theorem dX12_pile_24 : decode cX12_pile 24 = .ok (.iconst 1, 1) := dk_4 (dk_at dksX12_pile_1 0 rfl rfl)
theorem dX12_pile_25 : decode cX12_pile 25 = .ok (.iand, 1) := dk_126 (dk_at dksX12_pile_1 1 rfl rfl)
theorem dX12_pile_26 : decode cX12_pile 26 = .ok (.iconst 1, 1) := dk_4 (dk_at dksX12_pile_1 2 rfl rfl)
theorem dX12_pile_27 : decode cX12_pile 27 = .ok (.if_icmp .ne 29, 3) := dk_160 0 29 (dk_at dksX12_pile_1 3 rfl rfl)
theorem dX12_pile_30 : decode cX12_pile 30 = .ok (.iload_n 3, 1) := dk_29 (dk_at dksX12_pile_1 6 rfl rfl)
theorem dX12_pile_31 : decode cX12_pile 31 = .ok (.aload_n 0, 1) := dk_42 (dk_at dksX12_pile_1 7 rfl rfl)
theorem dX12_pile_32 : decode cX12_pile 32 = .ok (.getfield 9, 3) := dk_180 0 9 (dk_at dksX12_pile_1 8 rfl rfl)
theorem dX12_pile_35 : decode cX12_pile 35 = .ok (.bipush 10, 2) := dk_16 10 (dk_at dksX12_pile_1 11 rfl rfl)
theorem dX12_pile_37 : decode cX12_pile 37 = .ok (.iload_n 1, 1) := dk_27 (dk_at dksX12_pile_1 13 rfl rfl)
theorem dX12_pile_38 : decode cX12_pile 38 = .ok (.imul, 1) := dk_104 (dk_at dksX12_pile_1 14 rfl rfl)
theorem dX12_pile_39 : decode cX12_pile 39 = .ok (.iload 4, 2) := dk_21 4 (dk_at dksX12_pile_1 15 rfl rfl)
theorem dX12_pile_41 : decode cX12_pile 41 = .ok (.iadd, 1) := dk_96 (dk_at dksX12_pile_1 17 rfl rfl)
theorem dX12_pile_42 : decode cX12_pile 42 = .ok (.iaload, 1) := dk_46 (dk_at dksX12_pile_1 18 rfl rfl)
theorem dX12_pile_43 : decode cX12_pile 43 = .ok (.aload_n 0, 1) := dk_42 (dk_at dksX12_pile_1 19 rfl rfl)
theorem dX12_pile_44 : decode cX12_pile 44 = .ok (.getfield 18, 3) := dk_180 0 18 (dk_at dksX12_pile_1 20 rfl rfl)
theorem dX12_pile_47 : decode cX12_pile 47 = .ok (.getfield 46, 3) := dk_180 0 46 (dk_at dksX12_pile_2 0 rfl rfl)
theorem dX12_pile_50 : decode cX12_pile 50 = .ok (.iload 4, 2) := dk_21 4 (dk_at dksX12_pile_2 3 rfl rfl)
theorem dX12_pile_52 : decode cX12_pile 52 = .ok (.iaload, 1) := dk_46 (dk_at dksX12_pile_2 5 rfl rfl)
theorem dX12_pile_53 : decode cX12_pile 53 = .ok (.iadd, 1) := dk_96 (dk_at dksX12_pile_2 6 rfl rfl)
theorem dX12_pile_54 : decode cX12_pile 54 = .ok (.iadd, 1) := dk_96 (dk_at dksX12_pile_2 7 rfl rfl)
theorem dX12_pile_55 : decode cX12_pile 55 = .ok (.istore_n 3, 1) := dk_62 (dk_at dksX12_pile_2 8 rfl rfl)
theorem dX12_pile_56 : decode cX12_pile 56 = .ok (.iinc 4 1, 3) := dk_132 4 1 (dk_at dksX12_pile_2 9 rfl rfl)
theorem dX12_pile_59 : decode cX12_pile 59 = .ok (.goto (-54), 3) := dk_167 255 202 (dk_at dksX12_pile_2 12 rfl rfl)
theorem dX12_pile_62 : decode cX12_pile 62 = .ok (.bipush 60, 2) := dk_16 60 (dk_at dksX12_pile_2 15 rfl rfl)
theorem dX12_pile_64 : decode cX12_pile 64 = .ok (.iload_n 3, 1) := dk_29 (dk_at dksX12_pile_2 17 rfl rfl)
theorem dX12_pile_65 : decode cX12_pile 65 = .ok (.invokestatic 35, 3) := dk_184 0 35 (dk_at dksX12_pile_2 18 rfl rfl)
theorem dX12_pile_68 : decode cX12_pile 68 = .ok (.ireturn, 1) := dk_172 (dk_at dksX12_pile_2 21 rfl rfl)
theorem q98 : (Jvm.Cond.initialized "WoolThreads$Scene") ∈ lw_all := lw_g (lw_at lw_m1 33 rfl) rfl
theorem q119 : (Jvm.Cond.fieldLinkNest "WoolThreads$Scene" (22 : Nat) "WoolThreads$Law" "shed" "[I" "WoolThreads") ∈ lw_tbl := lw_at lw_m1 54 rfl
theorem q123 : (Jvm.Cond.fieldLinkNest "WoolThreads$Scene" (40 : Nat) "WoolThreads$Law" "hold" "[I" "WoolThreads") ∈ lw_tbl := lw_at lw_m1 58 rfl
theorem q127 : (Jvm.Cond.fieldLinkNest "WoolThreads$Scene" (46 : Nat) "WoolThreads$Law" "common" "[I" "WoolThreads") ∈ lw_tbl := lw_at lw_m1 62 rfl
theorem q131 : (Jvm.Cond.fieldLinkNest "WoolThreads$Scene" (43 : Nat) "WoolThreads$Law" "alike" "[I" "WoolThreads") ∈ lw_tbl := lw_at lw_m1 66 rfl
theorem q136 : (Jvm.Cond.fieldLinkNest "WoolThreads$Scene" (27 : Nat) "WoolThreads$Law" "pass" "I" "WoolThreads") ∈ lw_tbl := lw_at lw_m1 71 rfl
theorem q633 : (Jvm.Cond.selects "WoolThreads$Scene" ({ cls := "java/lang/Object", name := "getClass", desc := "()Ljava/lang/Class;" } : Jvm.MethodName) ({ cls := "java/lang/Object", name := "getClass", desc := "()Ljava/lang/Class;" } : Jvm.MethodName)) ∈ lw_all := lw_g (lw_at lw_m3 88 rfl) rfl
theorem q1072 : (Jvm.Cond.instantiable "WoolThreads$Scene" (3 : Nat)) ∈ lw_all := lw_g (lw_at lw_m5 47 rfl) rfl
theorem q1074 : (Jvm.Cond.instanceMethod ({ cls := "WoolThreads$Scene", name := "<init>", desc := "(LWoolThreads$Law;)V" } : Jvm.MethodName)) ∈ lw_all := lw_g (lw_at lw_m5 49 rfl) rfl
theorem q1075 : (Jvm.Cond.code ({ cls := "WoolThreads$Scene", name := "<init>", desc := "(LWoolThreads$Law;)V" } : Jvm.MethodName) prog_8_method_1_code (3 : Nat) (Option.none : Option Jvm.ClassFile.FieldType)) ∈ lw_all := lw_g (lw_at lw_m5 50 rfl) rfl
theorem q1076 : (Jvm.Cond.methodLink "WoolThreads$Scene" (3 : Nat) ({ cls := "java/lang/Object", name := "<init>", desc := "()V" } : Jvm.MethodName)) ∈ lw_all := lw_g (lw_at lw_m5 51 rfl) rfl
theorem q1077 : (Jvm.Cond.fieldLink "WoolThreads$Scene" (18 : Nat) "WoolThreads$Scene" "law" "LWoolThreads$Law;") ∈ lw_all := lw_g (lw_at lw_m5 52 rfl) rfl
theorem q1079 : (Jvm.Cond.fieldLink "WoolThreads$Scene" (9 : Nat) "WoolThreads$Scene" "lies" "[I") ∈ lw_all := lw_g (lw_at lw_m5 54 rfl) rfl
theorem q1081 : (Jvm.Cond.fieldLink "WoolThreads$Scene" (15 : Nat) "WoolThreads$Scene" "wears" "[I") ∈ lw_all := lw_g (lw_at lw_m5 56 rfl) rfl
theorem q1084 : (Jvm.Cond.laysFinal "WoolThreads$Scene" "WoolThreads$Scene" "law" "LWoolThreads$Law;") ∈ lw_all := lw_g (lw_at lw_m5 59 rfl) rfl
theorem q1085 : (Jvm.Cond.soleField "WoolThreads$Scene" "law") ∈ lw_all := lw_g (lw_at lw_m5 60 rfl) rfl
theorem q1086 : (Jvm.Cond.laysFinal "WoolThreads$Scene" "WoolThreads$Scene" "lies" "[I") ∈ lw_all := lw_g (lw_at lw_m5 61 rfl) rfl
theorem q1087 : (Jvm.Cond.soleField "WoolThreads$Scene" "lies") ∈ lw_all := lw_g (lw_at lw_m5 62 rfl) rfl
theorem q1088 : (Jvm.Cond.laysFinal "WoolThreads$Scene" "WoolThreads$Scene" "wears" "[I") ∈ lw_all := lw_g (lw_at lw_m5 63 rfl) rfl
theorem q1089 : (Jvm.Cond.soleField "WoolThreads$Scene" "wears") ∈ lw_all := lw_g (lw_at lw_m5 64 rfl) rfl
theorem q1090 : (Jvm.Cond.superclass "WoolThreads$Scene" "java/lang/Object") ∈ lw_all := lw_g (lw_at lw_m5 65 rfl) rfl
theorem q1092 : (Jvm.Cond.instanceMethod ({ cls := "WoolThreads$Scene", name := "hour", desc := "()V" } : Jvm.MethodName)) ∈ lw_all := lw_g (lw_at lw_m5 67 rfl) rfl
theorem q1093 : (Jvm.Cond.selects "WoolThreads$Scene" ({ cls := "WoolThreads$Scene", name := "hour", desc := "()V" } : Jvm.MethodName) ({ cls := "WoolThreads$Scene", name := "hour", desc := "()V" } : Jvm.MethodName)) ∈ lw_all := lw_g (lw_at lw_m5 68 rfl) rfl
theorem q1094 : (Jvm.Cond.code ({ cls := "WoolThreads$Scene", name := "hour", desc := "()V" } : Jvm.MethodName) prog_8_method_5_code (2 : Nat) (Option.none : Option Jvm.ClassFile.FieldType)) ∈ lw_all := lw_g (lw_at lw_m5 69 rfl) rfl
theorem q1119 : (Jvm.Cond.instanceMethod ({ cls := "WoolThreads$Scene", name := "stay", desc := "(II)V" } : Jvm.MethodName)) ∈ lw_all := lw_g (lw_at lw_m5 94 rfl) rfl
theorem q1120 : (Jvm.Cond.selects "WoolThreads$Scene" ({ cls := "WoolThreads$Scene", name := "stay", desc := "(II)V" } : Jvm.MethodName) ({ cls := "WoolThreads$Scene", name := "stay", desc := "(II)V" } : Jvm.MethodName)) ∈ lw_all := lw_g (lw_at lw_m5 95 rfl) rfl
theorem q1121 : (Jvm.Cond.code ({ cls := "WoolThreads$Scene", name := "stay", desc := "(II)V" } : Jvm.MethodName) prog_8_method_4_code (4 : Nat) (Option.none : Option Jvm.ClassFile.FieldType)) ∈ lw_all := lw_g (lw_at lw_m5 96 rfl) rfl
theorem q1126 : (Jvm.Cond.instanceMethod ({ cls := "WoolThreads$Scene", name := "touch", desc := "(II)V" } : Jvm.MethodName)) ∈ lw_all := lw_g (lw_at lw_m5 101 rfl) rfl
theorem q1127 : (Jvm.Cond.selects "WoolThreads$Scene" ({ cls := "WoolThreads$Scene", name := "touch", desc := "(II)V" } : Jvm.MethodName) ({ cls := "WoolThreads$Scene", name := "touch", desc := "(II)V" } : Jvm.MethodName)) ∈ lw_all := lw_g (lw_at lw_m5 102 rfl) rfl
theorem q1128 : (Jvm.Cond.code ({ cls := "WoolThreads$Scene", name := "touch", desc := "(II)V" } : Jvm.MethodName) prog_8_method_3_code (8 : Nat) (Option.none : Option Jvm.ClassFile.FieldType)) ∈ lw_all := lw_g (lw_at lw_m5 103 rfl) rfl
theorem q1129 : (Jvm.Cond.methodLink "WoolThreads$Scene" (31 : Nat) ({ cls := "WoolThreads$Scene", name := "shedBy", desc := "(II)I" } : Jvm.MethodName)) ∈ lw_all := lw_g (lw_at lw_m5 104 rfl) rfl
theorem q1130 : (Jvm.Cond.instanceMethod ({ cls := "WoolThreads$Scene", name := "shedBy", desc := "(II)I" } : Jvm.MethodName)) ∈ lw_all := lw_g (lw_at lw_m5 105 rfl) rfl
theorem q1131 : (Jvm.Cond.selects "WoolThreads$Scene" ({ cls := "WoolThreads$Scene", name := "shedBy", desc := "(II)I" } : Jvm.MethodName) ({ cls := "WoolThreads$Scene", name := "shedBy", desc := "(II)I" } : Jvm.MethodName)) ∈ lw_all := lw_g (lw_at lw_m5 106 rfl) rfl
theorem q1132 : (Jvm.Cond.code ({ cls := "WoolThreads$Scene", name := "shedBy", desc := "(II)I" } : Jvm.MethodName) prog_8_method_2_code (3 : Nat) (Option.some Jvm.ClassFile.FieldType.int)) ∈ lw_all := lw_g (lw_at lw_m5 107 rfl) rfl
theorem q1133 : (Jvm.Cond.methodLink "WoolThreads$Scene" (35 : Nat) ({ cls := "java/lang/Math", name := "min", desc := "(II)I" } : Jvm.MethodName)) ∈ lw_all := lw_g (lw_at lw_m5 108 rfl) rfl
theorem q1145 : (Jvm.Cond.instanceMethod ({ cls := "WoolThreads$Scene", name := "pile", desc := "(II)I" } : Jvm.MethodName)) ∈ lw_all := lw_g (lw_at lw_m5 120 rfl) rfl
theorem q1146 : (Jvm.Cond.selects "WoolThreads$Scene" ({ cls := "WoolThreads$Scene", name := "pile", desc := "(II)I" } : Jvm.MethodName) ({ cls := "WoolThreads$Scene", name := "pile", desc := "(II)I" } : Jvm.MethodName)) ∈ lw_all := lw_g (lw_at lw_m5 121 rfl) rfl
theorem q1147 : (Jvm.Cond.code ({ cls := "WoolThreads$Scene", name := "pile", desc := "(II)I" } : Jvm.MethodName) prog_8_method_6_code (5 : Nat) (Option.some Jvm.ClassFile.FieldType.int)) ∈ lw_all := lw_g (lw_at lw_m5 122 rfl) rfl
theorem q2041 : (Jvm.Cond.castable "WoolThreads$Scene" "java/lang/Object") ∈ lw_tbl := lw_at lw_m9 56 rfl
theorem in_X12 : ∀ w ∈ wsX120, w ∈ lw_all := lw_in wsX120 [1084, 1086, 1088] (by decide +kernel) (by decide +kernel)
end
section
/-! WoolThreads$Find -/
set_option maxRecDepth 100000
def RX13 : String := "WoolThreads$Find"
def TX13 : u_T := fun k => match k with
  | 0 => ("WoolThreads$Find", "place", "I", true)
  | 1 => ("WoolThreads$Find", "hour", "I", true)
  | 2 => ("WoolThreads$Find", "sort", "I", true)
  | _ => ("WoolThreads$Find", "many", "I", true)
def tyX13 : Nat → FieldType := fun k => match k with
  | 0 => .int
  | 1 => .int
  | 2 => .int
  | _ => .int
abbrev wsX130 : List Cond := u_ws RX13 TX13 4
theorem nmX13 : ∀ a, a < 4 → ∀ b, b < 4 → a ≠ b → (TX13 a).2.1 ≠ (TX13 b).2.1 := by decide +kernel
theorem tyX13_ok : ∀ k, k < 4 → parseFieldDescriptor (TX13 k).2.2.1 = some (tyX13 k) := by decide +kernel
abbrev cX13_init : ByteArray := prog_3_method_1_code
def yX13_init : MethodName := ⟨RX13, "<init>", "(IIII)V"⟩
def dkwX13_init_1 : List UInt8 := [181, 0, 19, 177]
abbrev dktX13_init_1 : List UInt8 := dkwX13_init_1 ++ []
def dkwX13_init_0 : List UInt8 := [42, 183, 0, 1, 42, 27, 181, 0, 7, 42, 28, 181, 0, 13, 42, 29, 181, 0, 16, 42, 21, 4]
abbrev dktX13_init_0 : List UInt8 := dkwX13_init_0 ++ dktX13_init_1
theorem dksX13_init_0 : cX13_init.data.toList.drop 0 = dktX13_init_0 := by decide +kernel
theorem dksX13_init_1 : cX13_init.data.toList.drop 22 = dktX13_init_1 := dk_seg dksX13_init_0 22 rfl rfl
theorem dX13_init_0 : decode cX13_init 0 = .ok (.aload_n 0, 1) := dk_42 (dk_at dksX13_init_0 0 rfl rfl)
theorem dX13_init_1 : decode cX13_init 1 = .ok (.invokespecial 1, 3) := dk_183 0 1 (dk_at dksX13_init_0 1 rfl rfl)
theorem dX13_init_4 : decode cX13_init 4 = .ok (.aload_n 0, 1) := dk_42 (dk_at dksX13_init_0 4 rfl rfl)
theorem dX13_init_5 : decode cX13_init 5 = .ok (.iload_n 1, 1) := dk_27 (dk_at dksX13_init_0 5 rfl rfl)
theorem dX13_init_6 : decode cX13_init 6 = .ok (.putfield 7, 3) := dk_181 0 7 (dk_at dksX13_init_0 6 rfl rfl)
theorem dX13_init_9 : decode cX13_init 9 = .ok (.aload_n 0, 1) := dk_42 (dk_at dksX13_init_0 9 rfl rfl)
theorem dX13_init_10 : decode cX13_init 10 = .ok (.iload_n 2, 1) := dk_28 (dk_at dksX13_init_0 10 rfl rfl)
theorem dX13_init_11 : decode cX13_init 11 = .ok (.putfield 13, 3) := dk_181 0 13 (dk_at dksX13_init_0 11 rfl rfl)
theorem dX13_init_14 : decode cX13_init 14 = .ok (.aload_n 0, 1) := dk_42 (dk_at dksX13_init_0 14 rfl rfl)
theorem dX13_init_15 : decode cX13_init 15 = .ok (.iload_n 3, 1) := dk_29 (dk_at dksX13_init_0 15 rfl rfl)
theorem dX13_init_16 : decode cX13_init 16 = .ok (.putfield 16, 3) := dk_181 0 16 (dk_at dksX13_init_0 16 rfl rfl)
theorem dX13_init_19 : decode cX13_init 19 = .ok (.aload_n 0, 1) := dk_42 (dk_at dksX13_init_0 19 rfl rfl)
theorem dX13_init_20 : decode cX13_init 20 = .ok (.iload 4, 2) := dk_21 4 (dk_at dksX13_init_0 20 rfl rfl)
theorem dX13_init_22 : decode cX13_init 22 = .ok (.putfield 19, 3) := dk_181 0 19 (dk_at dksX13_init_1 0 rfl rfl)
theorem dX13_init_25 : decode cX13_init 25 = .ok (.return_, 1) := dk_177 (dk_at dksX13_init_1 3 rfl rfl)
theorem q99 : (Jvm.Cond.initialized "WoolThreads$Find") ∈ lw_all := lw_g (lw_at lw_m1 34 rfl) rfl
theorem q628 : (Jvm.Cond.selects "WoolThreads$Find" ({ cls := "java/lang/Object", name := "getClass", desc := "()Ljava/lang/Class;" } : Jvm.MethodName) ({ cls := "java/lang/Object", name := "getClass", desc := "()Ljava/lang/Class;" } : Jvm.MethodName)) ∈ lw_all := lw_g (lw_at lw_m3 83 rfl) rfl
theorem q1163 : (Jvm.Cond.instantiable "WoolThreads$Find" (4 : Nat)) ∈ lw_all := lw_g (lw_at lw_m5 138 rfl) rfl
theorem q1165 : (Jvm.Cond.instanceMethod ({ cls := "WoolThreads$Find", name := "<init>", desc := "(IIII)V" } : Jvm.MethodName)) ∈ lw_all := lw_g (lw_at lw_m5 140 rfl) rfl
theorem q1166 : (Jvm.Cond.code ({ cls := "WoolThreads$Find", name := "<init>", desc := "(IIII)V" } : Jvm.MethodName) prog_3_method_1_code (5 : Nat) (Option.none : Option Jvm.ClassFile.FieldType)) ∈ lw_all := lw_g (lw_at lw_m5 141 rfl) rfl
theorem q1167 : (Jvm.Cond.methodLink "WoolThreads$Find" (1 : Nat) ({ cls := "java/lang/Object", name := "<init>", desc := "()V" } : Jvm.MethodName)) ∈ lw_all := lw_g (lw_at lw_m5 142 rfl) rfl
theorem q1168 : (Jvm.Cond.fieldLink "WoolThreads$Find" (7 : Nat) "WoolThreads$Find" "place" "I") ∈ lw_all := lw_g (lw_at lw_m5 143 rfl) rfl
theorem q1171 : (Jvm.Cond.fieldLink "WoolThreads$Find" (13 : Nat) "WoolThreads$Find" "hour" "I") ∈ lw_all := lw_g (lw_at lw_m5 146 rfl) rfl
theorem q1174 : (Jvm.Cond.fieldLink "WoolThreads$Find" (16 : Nat) "WoolThreads$Find" "sort" "I") ∈ lw_all := lw_g (lw_at lw_m5 149 rfl) rfl
theorem q1177 : (Jvm.Cond.fieldLink "WoolThreads$Find" (19 : Nat) "WoolThreads$Find" "many" "I") ∈ lw_all := lw_g (lw_at lw_m5 152 rfl) rfl
theorem q1180 : (Jvm.Cond.laysFinal "WoolThreads$Find" "WoolThreads$Find" "place" "I") ∈ lw_all := lw_g (lw_at lw_m5 155 rfl) rfl
theorem q1181 : (Jvm.Cond.soleField "WoolThreads$Find" "place") ∈ lw_all := lw_g (lw_at lw_m5 156 rfl) rfl
theorem q1182 : (Jvm.Cond.laysFinal "WoolThreads$Find" "WoolThreads$Find" "hour" "I") ∈ lw_all := lw_g (lw_at lw_m5 157 rfl) rfl
theorem q1183 : (Jvm.Cond.soleField "WoolThreads$Find" "hour") ∈ lw_all := lw_g (lw_at lw_m5 158 rfl) rfl
theorem q1184 : (Jvm.Cond.laysFinal "WoolThreads$Find" "WoolThreads$Find" "sort" "I") ∈ lw_all := lw_g (lw_at lw_m5 159 rfl) rfl
theorem q1185 : (Jvm.Cond.soleField "WoolThreads$Find" "sort") ∈ lw_all := lw_g (lw_at lw_m5 160 rfl) rfl
theorem q1186 : (Jvm.Cond.laysFinal "WoolThreads$Find" "WoolThreads$Find" "many" "I") ∈ lw_all := lw_g (lw_at lw_m5 161 rfl) rfl
theorem q1187 : (Jvm.Cond.soleField "WoolThreads$Find" "many") ∈ lw_all := lw_g (lw_at lw_m5 162 rfl) rfl
theorem q1188 : (Jvm.Cond.superclass "WoolThreads$Find" "java/lang/Object") ∈ lw_all := lw_g (lw_at lw_m5 163 rfl) rfl
theorem q2042 : (Jvm.Cond.castable "WoolThreads$Find" "java/lang/Object") ∈ lw_tbl := lw_at lw_m9 57 rfl
theorem in_X13 : ∀ w ∈ wsX130, w ∈ lw_all := lw_in wsX130 [1180, 1182, 1184, 1186] (by decide +kernel) (by decide +kernel)
end
section
/-! WoolThreads$Great -/
set_option maxRecDepth 100000
def RX14 : String := "WoolThreads$Great"
def TX14 : u_T := fun k => match k with
  | 0 => ("WoolThreads$Great", "d", "[I", true)
  | _ => ("WoolThreads$Great", "size", "I", false)
def tyX14 : Nat → FieldType := fun k => match k with
  | 0 => .array .int
  | _ => .int
abbrev wsX140 : List Cond := u_ws RX14 TX14 2
theorem nmX14 : ∀ a, a < 2 → ∀ b, b < 2 → a ≠ b → (TX14 a).2.1 ≠ (TX14 b).2.1 := by decide +kernel
theorem tyX14_ok : ∀ k, k < 2 → parseFieldDescriptor (TX14 k).2.2.1 = some (tyX14 k) := by decide +kernel
abbrev cX14_init : ByteArray := prog_4_method_1_code
def yX14_init : MethodName := ⟨RX14, "<init>", "(I)V"⟩
def dkwX14_init_2 : List UInt8 := [5, 27, 17, 39, 16, 108, 17, 39, 16, 108, 79, 42, 6, 181, 0, 13, 42, 182, 0, 17, 177]
abbrev dktX14_init_2 : List UInt8 := dkwX14_init_2 ++ []
def dkwX14_init_1 : List UInt8 := [17, 39, 16, 112, 79, 42, 180, 0, 9, 4, 27, 17, 39, 16, 108, 17, 39, 16, 112, 79, 42, 180, 0, 9]
abbrev dktX14_init_1 : List UInt8 := dkwX14_init_1 ++ dktX14_init_2
def dkwX14_init_0 : List UInt8 := [42, 183, 0, 1, 42, 17, 1, 54, 188, 10, 181, 0, 9, 42, 4, 181, 0, 13, 42, 180, 0, 9, 3, 27]
abbrev dktX14_init_0 : List UInt8 := dkwX14_init_0 ++ dktX14_init_1
theorem dksX14_init_0 : cX14_init.data.toList.drop 0 = dktX14_init_0 := by decide +kernel
theorem dksX14_init_1 : cX14_init.data.toList.drop 24 = dktX14_init_1 := dk_seg dksX14_init_0 24 rfl rfl
theorem dksX14_init_2 : cX14_init.data.toList.drop 48 = dktX14_init_2 := dk_seg dksX14_init_1 24 rfl rfl
theorem dX14_init_0 : decode cX14_init 0 = .ok (.aload_n 0, 1) := dk_42 (dk_at dksX14_init_0 0 rfl rfl)
theorem dX14_init_1 : decode cX14_init 1 = .ok (.invokespecial 1, 3) := dk_183 0 1 (dk_at dksX14_init_0 1 rfl rfl)
theorem dX14_init_4 : decode cX14_init 4 = .ok (.aload_n 0, 1) := dk_42 (dk_at dksX14_init_0 4 rfl rfl)
theorem dX14_init_5 : decode cX14_init 5 = .ok (.sipush 310, 3) := dk_17 1 54 (dk_at dksX14_init_0 5 rfl rfl)
theorem dX14_init_8 : decode cX14_init 8 = .ok (.newarray .int, 2) := dk_188_10 (dk_at dksX14_init_0 8 rfl rfl)
theorem dX14_init_10 : decode cX14_init 10 = .ok (.putfield 9, 3) := dk_181 0 9 (dk_at dksX14_init_0 10 rfl rfl)
theorem dX14_init_13 : decode cX14_init 13 = .ok (.aload_n 0, 1) := dk_42 (dk_at dksX14_init_0 13 rfl rfl)
theorem dX14_init_14 : decode cX14_init 14 = .ok (.iconst 1, 1) := dk_4 (dk_at dksX14_init_0 14 rfl rfl)
theorem dX14_init_15 : decode cX14_init 15 = .ok (.putfield 13, 3) := dk_181 0 13 (dk_at dksX14_init_0 15 rfl rfl)
theorem dX14_init_18 : decode cX14_init 18 = .ok (.aload_n 0, 1) := dk_42 (dk_at dksX14_init_0 18 rfl rfl)
theorem dX14_init_19 : decode cX14_init 19 = .ok (.getfield 9, 3) := dk_180 0 9 (dk_at dksX14_init_0 19 rfl rfl)
theorem dX14_init_22 : decode cX14_init 22 = .ok (.iconst 0, 1) := dk_3 (dk_at dksX14_init_0 22 rfl rfl)
theorem dX14_init_23 : decode cX14_init 23 = .ok (.iload_n 1, 1) := dk_27 (dk_at dksX14_init_0 23 rfl rfl)
theorem dX14_init_24 : decode cX14_init 24 = .ok (.sipush 10000, 3) := dk_17 39 16 (dk_at dksX14_init_1 0 rfl rfl)
theorem dX14_init_27 : decode cX14_init 27 = .ok (.irem, 1) := dk_112 (dk_at dksX14_init_1 3 rfl rfl)
theorem dX14_init_28 : decode cX14_init 28 = .ok (.iastore, 1) := dk_79 (dk_at dksX14_init_1 4 rfl rfl)
theorem dX14_init_29 : decode cX14_init 29 = .ok (.aload_n 0, 1) := dk_42 (dk_at dksX14_init_1 5 rfl rfl)
theorem dX14_init_30 : decode cX14_init 30 = .ok (.getfield 9, 3) := dk_180 0 9 (dk_at dksX14_init_1 6 rfl rfl)
theorem dX14_init_33 : decode cX14_init 33 = .ok (.iconst 1, 1) := dk_4 (dk_at dksX14_init_1 9 rfl rfl)
theorem dX14_init_34 : decode cX14_init 34 = .ok (.iload_n 1, 1) := dk_27 (dk_at dksX14_init_1 10 rfl rfl)
theorem dX14_init_35 : decode cX14_init 35 = .ok (.sipush 10000, 3) := dk_17 39 16 (dk_at dksX14_init_1 11 rfl rfl)
theorem dX14_init_38 : decode cX14_init 38 = .ok (.idiv, 1) := dk_108 (dk_at dksX14_init_1 14 rfl rfl)
theorem dX14_init_39 : decode cX14_init 39 = .ok (.sipush 10000, 3) := dk_17 39 16 (dk_at dksX14_init_1 15 rfl rfl)
theorem dX14_init_42 : decode cX14_init 42 = .ok (.irem, 1) := dk_112 (dk_at dksX14_init_1 18 rfl rfl)
theorem dX14_init_43 : decode cX14_init 43 = .ok (.iastore, 1) := dk_79 (dk_at dksX14_init_1 19 rfl rfl)
theorem dX14_init_44 : decode cX14_init 44 = .ok (.aload_n 0, 1) := dk_42 (dk_at dksX14_init_1 20 rfl rfl)
theorem dX14_init_45 : decode cX14_init 45 = .ok (.getfield 9, 3) := dk_180 0 9 (dk_at dksX14_init_1 21 rfl rfl)
theorem dX14_init_48 : decode cX14_init 48 = .ok (.iconst 2, 1) := dk_5 (dk_at dksX14_init_2 0 rfl rfl)
theorem dX14_init_49 : decode cX14_init 49 = .ok (.iload_n 1, 1) := dk_27 (dk_at dksX14_init_2 1 rfl rfl)
theorem dX14_init_50 : decode cX14_init 50 = .ok (.sipush 10000, 3) := dk_17 39 16 (dk_at dksX14_init_2 2 rfl rfl)
theorem dX14_init_53 : decode cX14_init 53 = .ok (.idiv, 1) := dk_108 (dk_at dksX14_init_2 5 rfl rfl)
theorem dX14_init_54 : decode cX14_init 54 = .ok (.sipush 10000, 3) := dk_17 39 16 (dk_at dksX14_init_2 6 rfl rfl)
theorem dX14_init_57 : decode cX14_init 57 = .ok (.idiv, 1) := dk_108 (dk_at dksX14_init_2 9 rfl rfl)
theorem dX14_init_58 : decode cX14_init 58 = .ok (.iastore, 1) := dk_79 (dk_at dksX14_init_2 10 rfl rfl)
theorem dX14_init_59 : decode cX14_init 59 = .ok (.aload_n 0, 1) := dk_42 (dk_at dksX14_init_2 11 rfl rfl)
theorem dX14_init_60 : decode cX14_init 60 = .ok (.iconst 3, 1) := dk_6 (dk_at dksX14_init_2 12 rfl rfl)
theorem dX14_init_61 : decode cX14_init 61 = .ok (.putfield 13, 3) := dk_181 0 13 (dk_at dksX14_init_2 13 rfl rfl)
theorem dX14_init_64 : decode cX14_init 64 = .ok (.aload_n 0, 1) := dk_42 (dk_at dksX14_init_2 16 rfl rfl)
theorem dX14_init_65 : decode cX14_init 65 = .ok (.invokevirtual 17, 3) := dk_182 0 17 (dk_at dksX14_init_2 17 rfl rfl)
theorem dX14_init_68 : decode cX14_init 68 = .ok (.return_, 1) := dk_177 (dk_at dksX14_init_2 20 rfl rfl)
abbrev cX14_trim : ByteArray := prog_4_method_2_code
def yX14_trim : MethodName := ⟨RX14, "trim", "()V"⟩
def dkwX14_trim_1 : List UInt8 := [180, 0, 13, 4, 100, 181, 0, 13, 167, 255, 224, 177]
abbrev dktX14_trim_1 : List UInt8 := dkwX14_trim_1 ++ []
def dkwX14_trim_0 : List UInt8 := [42, 180, 0, 13, 4, 164, 0, 30, 42, 180, 0, 9, 42, 180, 0, 13, 4, 100, 46, 154, 0, 16, 42, 89]
abbrev dktX14_trim_0 : List UInt8 := dkwX14_trim_0 ++ dktX14_trim_1
theorem dksX14_trim_0 : cX14_trim.data.toList.drop 0 = dktX14_trim_0 := by decide +kernel
theorem dksX14_trim_1 : cX14_trim.data.toList.drop 24 = dktX14_trim_1 := dk_seg dksX14_trim_0 24 rfl rfl
theorem dX14_trim_0 : decode cX14_trim 0 = .ok (.aload_n 0, 1) := dk_42 (dk_at dksX14_trim_0 0 rfl rfl)
theorem dX14_trim_1 : decode cX14_trim 1 = .ok (.getfield 13, 3) := dk_180 0 13 (dk_at dksX14_trim_0 1 rfl rfl)
theorem dX14_trim_4 : decode cX14_trim 4 = .ok (.iconst 1, 1) := dk_4 (dk_at dksX14_trim_0 4 rfl rfl)
theorem dX14_trim_5 : decode cX14_trim 5 = .ok (.if_icmp .le 30, 3) := dk_164 0 30 (dk_at dksX14_trim_0 5 rfl rfl)
theorem dX14_trim_8 : decode cX14_trim 8 = .ok (.aload_n 0, 1) := dk_42 (dk_at dksX14_trim_0 8 rfl rfl)
theorem dX14_trim_9 : decode cX14_trim 9 = .ok (.getfield 9, 3) := dk_180 0 9 (dk_at dksX14_trim_0 9 rfl rfl)
theorem dX14_trim_12 : decode cX14_trim 12 = .ok (.aload_n 0, 1) := dk_42 (dk_at dksX14_trim_0 12 rfl rfl)
theorem dX14_trim_13 : decode cX14_trim 13 = .ok (.getfield 13, 3) := dk_180 0 13 (dk_at dksX14_trim_0 13 rfl rfl)
theorem dX14_trim_16 : decode cX14_trim 16 = .ok (.iconst 1, 1) := dk_4 (dk_at dksX14_trim_0 16 rfl rfl)
theorem dX14_trim_17 : decode cX14_trim 17 = .ok (.isub, 1) := dk_100 (dk_at dksX14_trim_0 17 rfl rfl)
theorem dX14_trim_18 : decode cX14_trim 18 = .ok (.iaload, 1) := dk_46 (dk_at dksX14_trim_0 18 rfl rfl)
theorem dX14_trim_19 : decode cX14_trim 19 = .ok (.ifCond .ne 16, 3) := dk_154 0 16 (dk_at dksX14_trim_0 19 rfl rfl)
theorem dX14_trim_22 : decode cX14_trim 22 = .ok (.aload_n 0, 1) := dk_42 (dk_at dksX14_trim_0 22 rfl rfl)
theorem dX14_trim_23 : decode cX14_trim 23 = .ok (.dup, 1) := dk_89 (dk_at dksX14_trim_0 23 rfl rfl)
theorem dX14_trim_24 : decode cX14_trim 24 = .ok (.getfield 13, 3) := dk_180 0 13 (dk_at dksX14_trim_1 0 rfl rfl)
theorem dX14_trim_27 : decode cX14_trim 27 = .ok (.iconst 1, 1) := dk_4 (dk_at dksX14_trim_1 3 rfl rfl)
theorem dX14_trim_28 : decode cX14_trim 28 = .ok (.isub, 1) := dk_100 (dk_at dksX14_trim_1 4 rfl rfl)
theorem dX14_trim_29 : decode cX14_trim 29 = .ok (.putfield 13, 3) := dk_181 0 13 (dk_at dksX14_trim_1 5 rfl rfl)
theorem dX14_trim_32 : decode cX14_trim 32 = .ok (.goto (-32), 3) := dk_167 255 224 (dk_at dksX14_trim_1 8 rfl rfl)
theorem dX14_trim_35 : decode cX14_trim 35 = .ok (.return_, 1) := dk_177 (dk_at dksX14_trim_1 11 rfl rfl)
abbrev cX14_times : ByteArray := prog_4_method_4_code
def yX14_times : MethodName := ⟨RX14, "times", "(I)V"⟩
def dkwX14_times_4 : List UInt8 := [182, 0, 17, 177]
abbrev dktX14_times_4 : List UInt8 := dkwX14_times_4 ++ []
def dkwX14_times_3 : List UInt8 := [113, 136, 79, 42, 89, 180, 0, 13, 4, 96, 181, 0, 13, 32, 20, 0, 20, 109, 65, 167, 255, 219, 42]
abbrev dktX14_times_3 : List UInt8 := dkwX14_times_3 ++ dktX14_times_4
def dkwX14_times_2 : List UInt8 := [132, 4, 1, 167, 255, 211, 32, 9, 148, 158, 0, 37, 42, 180, 0, 9, 42, 180, 0, 13, 32, 20, 0, 20]
abbrev dktX14_times_2 : List UInt8 := dkwX14_times_2 ++ dktX14_times_3
def dkwX14_times_1 : List UInt8 := [133, 105, 97, 65, 42, 180, 0, 9, 21, 4, 32, 20, 0, 20, 113, 136, 79, 32, 20, 0, 20, 109, 65]
abbrev dktX14_times_1 : List UInt8 := dkwX14_times_1 ++ dktX14_times_2
def dkwX14_times_0 : List UInt8 := [9, 65, 3, 54, 4, 21, 4, 42, 180, 0, 13, 162, 0, 42, 32, 42, 180, 0, 9, 21, 4, 46, 133, 27]
abbrev dktX14_times_0 : List UInt8 := dkwX14_times_0 ++ dktX14_times_1
theorem dksX14_times_0 : cX14_times.data.toList.drop 0 = dktX14_times_0 := by decide +kernel
theorem dksX14_times_1 : cX14_times.data.toList.drop 24 = dktX14_times_1 := dk_seg dksX14_times_0 24 rfl rfl
theorem dksX14_times_2 : cX14_times.data.toList.drop 47 = dktX14_times_2 := dk_seg dksX14_times_1 23 rfl rfl
theorem dksX14_times_3 : cX14_times.data.toList.drop 71 = dktX14_times_3 := dk_seg dksX14_times_2 24 rfl rfl
theorem dksX14_times_4 : cX14_times.data.toList.drop 94 = dktX14_times_4 := dk_seg dksX14_times_3 23 rfl rfl
theorem dX14_times_0 : decode cX14_times 0 = .ok (.lconst 0, 1) := dk_9 (dk_at dksX14_times_0 0 rfl rfl)
theorem dX14_times_1 : decode cX14_times 1 = .ok (.lstore_n 2, 1) := dk_65 (dk_at dksX14_times_0 1 rfl rfl)
theorem dX14_times_2 : decode cX14_times 2 = .ok (.iconst 0, 1) := dk_3 (dk_at dksX14_times_0 2 rfl rfl)
theorem dX14_times_3 : decode cX14_times 3 = .ok (.istore 4, 2) := dk_54 4 (dk_at dksX14_times_0 3 rfl rfl)
theorem dX14_times_5 : decode cX14_times 5 = .ok (.iload 4, 2) := dk_21 4 (dk_at dksX14_times_0 5 rfl rfl)
theorem dX14_times_7 : decode cX14_times 7 = .ok (.aload_n 0, 1) := dk_42 (dk_at dksX14_times_0 7 rfl rfl)
theorem dX14_times_8 : decode cX14_times 8 = .ok (.getfield 13, 3) := dk_180 0 13 (dk_at dksX14_times_0 8 rfl rfl)
theorem dX14_times_11 : decode cX14_times 11 = .ok (.if_icmp .ge 42, 3) := dk_162 0 42 (dk_at dksX14_times_0 11 rfl rfl)
theorem dX14_times_14 : decode cX14_times 14 = .ok (.lload_n 2, 1) := dk_32 (dk_at dksX14_times_0 14 rfl rfl)
theorem dX14_times_15 : decode cX14_times 15 = .ok (.aload_n 0, 1) := dk_42 (dk_at dksX14_times_0 15 rfl rfl)
theorem dX14_times_16 : decode cX14_times 16 = .ok (.getfield 9, 3) := dk_180 0 9 (dk_at dksX14_times_0 16 rfl rfl)
theorem dX14_times_19 : decode cX14_times 19 = .ok (.iload 4, 2) := dk_21 4 (dk_at dksX14_times_0 19 rfl rfl)
theorem dX14_times_21 : decode cX14_times 21 = .ok (.iaload, 1) := dk_46 (dk_at dksX14_times_0 21 rfl rfl)
theorem dX14_times_22 : decode cX14_times 22 = .ok (.i2l, 1) := dk_133 (dk_at dksX14_times_0 22 rfl rfl)
theorem dX14_times_23 : decode cX14_times 23 = .ok (.iload_n 1, 1) := dk_27 (dk_at dksX14_times_0 23 rfl rfl)
theorem dX14_times_24 : decode cX14_times 24 = .ok (.i2l, 1) := dk_133 (dk_at dksX14_times_1 0 rfl rfl)
theorem dX14_times_25 : decode cX14_times 25 = .ok (.lmul, 1) := dk_105 (dk_at dksX14_times_1 1 rfl rfl)
theorem dX14_times_26 : decode cX14_times 26 = .ok (.ladd, 1) := dk_97 (dk_at dksX14_times_1 2 rfl rfl)
theorem dX14_times_27 : decode cX14_times 27 = .ok (.lstore_n 2, 1) := dk_65 (dk_at dksX14_times_1 3 rfl rfl)
theorem dX14_times_28 : decode cX14_times 28 = .ok (.aload_n 0, 1) := dk_42 (dk_at dksX14_times_1 4 rfl rfl)
theorem dX14_times_29 : decode cX14_times 29 = .ok (.getfield 9, 3) := dk_180 0 9 (dk_at dksX14_times_1 5 rfl rfl)
theorem dX14_times_32 : decode cX14_times 32 = .ok (.iload 4, 2) := dk_21 4 (dk_at dksX14_times_1 8 rfl rfl)
theorem dX14_times_34 : decode cX14_times 34 = .ok (.lload_n 2, 1) := dk_32 (dk_at dksX14_times_1 10 rfl rfl)
theorem dX14_times_35 : decode cX14_times 35 = .ok (.ldc2_w 20, 3) := dk_20 0 20 (dk_at dksX14_times_1 11 rfl rfl)
theorem dX14_times_38 : decode cX14_times 38 = .ok (.lrem, 1) := dk_113 (dk_at dksX14_times_1 14 rfl rfl)
theorem dX14_times_39 : decode cX14_times 39 = .ok (.l2i, 1) := dk_136 (dk_at dksX14_times_1 15 rfl rfl)
theorem dX14_times_40 : decode cX14_times 40 = .ok (.iastore, 1) := dk_79 (dk_at dksX14_times_1 16 rfl rfl)
theorem dX14_times_41 : decode cX14_times 41 = .ok (.lload_n 2, 1) := dk_32 (dk_at dksX14_times_1 17 rfl rfl)
theorem dX14_times_42 : decode cX14_times 42 = .ok (.ldc2_w 20, 3) := dk_20 0 20 (dk_at dksX14_times_1 18 rfl rfl)
theorem dX14_times_45 : decode cX14_times 45 = .ok (.ldiv, 1) := dk_109 (dk_at dksX14_times_1 21 rfl rfl)
theorem dX14_times_46 : decode cX14_times 46 = .ok (.lstore_n 2, 1) := dk_65 (dk_at dksX14_times_1 22 rfl rfl)
theorem dX14_times_47 : decode cX14_times 47 = .ok (.iinc 4 1, 3) := dk_132 4 1 (dk_at dksX14_times_2 0 rfl rfl)
theorem dX14_times_50 : decode cX14_times 50 = .ok (.goto (-45), 3) := dk_167 255 211 (dk_at dksX14_times_2 3 rfl rfl)
theorem dX14_times_53 : decode cX14_times 53 = .ok (.lload_n 2, 1) := dk_32 (dk_at dksX14_times_2 6 rfl rfl)
theorem dX14_times_54 : decode cX14_times 54 = .ok (.lconst 0, 1) := dk_9 (dk_at dksX14_times_2 7 rfl rfl)
theorem dX14_times_55 : decode cX14_times 55 = .ok (.lcmp, 1) := dk_148 (dk_at dksX14_times_2 8 rfl rfl)
theorem dX14_times_56 : decode cX14_times 56 = .ok (.ifCond .le 37, 3) := dk_158 0 37 (dk_at dksX14_times_2 9 rfl rfl)
theorem dX14_times_59 : decode cX14_times 59 = .ok (.aload_n 0, 1) := dk_42 (dk_at dksX14_times_2 12 rfl rfl)
theorem dX14_times_60 : decode cX14_times 60 = .ok (.getfield 9, 3) := dk_180 0 9 (dk_at dksX14_times_2 13 rfl rfl)
theorem dX14_times_63 : decode cX14_times 63 = .ok (.aload_n 0, 1) := dk_42 (dk_at dksX14_times_2 16 rfl rfl)
theorem dX14_times_64 : decode cX14_times 64 = .ok (.getfield 13, 3) := dk_180 0 13 (dk_at dksX14_times_2 17 rfl rfl)
theorem dX14_times_67 : decode cX14_times 67 = .ok (.lload_n 2, 1) := dk_32 (dk_at dksX14_times_2 20 rfl rfl)
theorem dX14_times_68 : decode cX14_times 68 = .ok (.ldc2_w 20, 3) := dk_20 0 20 (dk_at dksX14_times_2 21 rfl rfl)
theorem dX14_times_71 : decode cX14_times 71 = .ok (.lrem, 1) := dk_113 (dk_at dksX14_times_3 0 rfl rfl)
theorem dX14_times_72 : decode cX14_times 72 = .ok (.l2i, 1) := dk_136 (dk_at dksX14_times_3 1 rfl rfl)
theorem dX14_times_73 : decode cX14_times 73 = .ok (.iastore, 1) := dk_79 (dk_at dksX14_times_3 2 rfl rfl)
theorem dX14_times_74 : decode cX14_times 74 = .ok (.aload_n 0, 1) := dk_42 (dk_at dksX14_times_3 3 rfl rfl)
theorem dX14_times_75 : decode cX14_times 75 = .ok (.dup, 1) := dk_89 (dk_at dksX14_times_3 4 rfl rfl)
theorem dX14_times_76 : decode cX14_times 76 = .ok (.getfield 13, 3) := dk_180 0 13 (dk_at dksX14_times_3 5 rfl rfl)
theorem dX14_times_79 : decode cX14_times 79 = .ok (.iconst 1, 1) := dk_4 (dk_at dksX14_times_3 8 rfl rfl)
theorem dX14_times_80 : decode cX14_times 80 = .ok (.iadd, 1) := dk_96 (dk_at dksX14_times_3 9 rfl rfl)
theorem dX14_times_81 : decode cX14_times 81 = .ok (.putfield 13, 3) := dk_181 0 13 (dk_at dksX14_times_3 10 rfl rfl)
theorem dX14_times_84 : decode cX14_times 84 = .ok (.lload_n 2, 1) := dk_32 (dk_at dksX14_times_3 13 rfl rfl)
theorem dX14_times_85 : decode cX14_times 85 = .ok (.ldc2_w 20, 3) := dk_20 0 20 (dk_at dksX14_times_3 14 rfl rfl)
theorem dX14_times_88 : decode cX14_times 88 = .ok (.ldiv, 1) := dk_109 (dk_at dksX14_times_3 17 rfl rfl)
theorem dX14_times_89 : decode cX14_times 89 = .ok (.lstore_n 2, 1) := dk_65 (dk_at dksX14_times_3 18 rfl rfl)
theorem dX14_times_90 : decode cX14_times 90 = .ok (.goto (-37), 3) := dk_167 255 219 (dk_at dksX14_times_3 19 rfl rfl)
theorem dX14_times_93 : decode cX14_times 93 = .ok (.aload_n 0, 1) := dk_42 (dk_at dksX14_times_3 22 rfl rfl)
theorem dX14_times_94 : decode cX14_times 94 = .ok (.invokevirtual 17, 3) := dk_182 0 17 (dk_at dksX14_times_4 0 rfl rfl)
theorem dX14_times_97 : decode cX14_times 97 = .ok (.return_, 1) := dk_177 (dk_at dksX14_times_4 3 rfl rfl)
abbrev cX14_by : ByteArray := prog_4_method_5_code
def yX14_by : MethodName := ⟨RX14, "by", "(I)V"⟩
def dkwX14_by_2 : List UInt8 := [132, 4, 255, 167, 255, 216, 42, 182, 0, 17, 177]
abbrev dktX14_by_2 : List UInt8 := dkwX14_by_2 ++ []
def dkwX14_by_1 : List UInt8 := [21, 4, 46, 133, 97, 65, 42, 180, 0, 9, 21, 4, 32, 27, 133, 109, 136, 79, 32, 27, 133, 113, 65]
abbrev dktX14_by_1 : List UInt8 := dkwX14_by_1 ++ dktX14_by_2
def dkwX14_by_0 : List UInt8 := [9, 65, 42, 180, 0, 13, 4, 100, 54, 4, 21, 4, 155, 0, 41, 32, 20, 0, 20, 105, 42, 180, 0, 9]
abbrev dktX14_by_0 : List UInt8 := dkwX14_by_0 ++ dktX14_by_1
theorem dksX14_by_0 : cX14_by.data.toList.drop 0 = dktX14_by_0 := by decide +kernel
theorem dksX14_by_1 : cX14_by.data.toList.drop 24 = dktX14_by_1 := dk_seg dksX14_by_0 24 rfl rfl
theorem dksX14_by_2 : cX14_by.data.toList.drop 47 = dktX14_by_2 := dk_seg dksX14_by_1 23 rfl rfl
theorem dX14_by_0 : decode cX14_by 0 = .ok (.lconst 0, 1) := dk_9 (dk_at dksX14_by_0 0 rfl rfl)
theorem dX14_by_1 : decode cX14_by 1 = .ok (.lstore_n 2, 1) := dk_65 (dk_at dksX14_by_0 1 rfl rfl)
theorem dX14_by_2 : decode cX14_by 2 = .ok (.aload_n 0, 1) := dk_42 (dk_at dksX14_by_0 2 rfl rfl)
theorem dX14_by_3 : decode cX14_by 3 = .ok (.getfield 13, 3) := dk_180 0 13 (dk_at dksX14_by_0 3 rfl rfl)
theorem dX14_by_6 : decode cX14_by 6 = .ok (.iconst 1, 1) := dk_4 (dk_at dksX14_by_0 6 rfl rfl)
theorem dX14_by_7 : decode cX14_by 7 = .ok (.isub, 1) := dk_100 (dk_at dksX14_by_0 7 rfl rfl)
theorem dX14_by_8 : decode cX14_by 8 = .ok (.istore 4, 2) := dk_54 4 (dk_at dksX14_by_0 8 rfl rfl)
theorem dX14_by_10 : decode cX14_by 10 = .ok (.iload 4, 2) := dk_21 4 (dk_at dksX14_by_0 10 rfl rfl)
theorem dX14_by_12 : decode cX14_by 12 = .ok (.ifCond .lt 41, 3) := dk_155 0 41 (dk_at dksX14_by_0 12 rfl rfl)
theorem dX14_by_15 : decode cX14_by 15 = .ok (.lload_n 2, 1) := dk_32 (dk_at dksX14_by_0 15 rfl rfl)
theorem dX14_by_16 : decode cX14_by 16 = .ok (.ldc2_w 20, 3) := dk_20 0 20 (dk_at dksX14_by_0 16 rfl rfl)
theorem dX14_by_19 : decode cX14_by 19 = .ok (.lmul, 1) := dk_105 (dk_at dksX14_by_0 19 rfl rfl)
theorem dX14_by_20 : decode cX14_by 20 = .ok (.aload_n 0, 1) := dk_42 (dk_at dksX14_by_0 20 rfl rfl)
theorem dX14_by_21 : decode cX14_by 21 = .ok (.getfield 9, 3) := dk_180 0 9 (dk_at dksX14_by_0 21 rfl rfl)
theorem dX14_by_24 : decode cX14_by 24 = .ok (.iload 4, 2) := dk_21 4 (dk_at dksX14_by_1 0 rfl rfl)
theorem dX14_by_26 : decode cX14_by 26 = .ok (.iaload, 1) := dk_46 (dk_at dksX14_by_1 2 rfl rfl)
theorem dX14_by_27 : decode cX14_by 27 = .ok (.i2l, 1) := dk_133 (dk_at dksX14_by_1 3 rfl rfl)
theorem dX14_by_28 : decode cX14_by 28 = .ok (.ladd, 1) := dk_97 (dk_at dksX14_by_1 4 rfl rfl)
theorem dX14_by_29 : decode cX14_by 29 = .ok (.lstore_n 2, 1) := dk_65 (dk_at dksX14_by_1 5 rfl rfl)
theorem dX14_by_30 : decode cX14_by 30 = .ok (.aload_n 0, 1) := dk_42 (dk_at dksX14_by_1 6 rfl rfl)
theorem dX14_by_31 : decode cX14_by 31 = .ok (.getfield 9, 3) := dk_180 0 9 (dk_at dksX14_by_1 7 rfl rfl)
theorem dX14_by_34 : decode cX14_by 34 = .ok (.iload 4, 2) := dk_21 4 (dk_at dksX14_by_1 10 rfl rfl)
theorem dX14_by_36 : decode cX14_by 36 = .ok (.lload_n 2, 1) := dk_32 (dk_at dksX14_by_1 12 rfl rfl)
theorem dX14_by_37 : decode cX14_by 37 = .ok (.iload_n 1, 1) := dk_27 (dk_at dksX14_by_1 13 rfl rfl)
theorem dX14_by_38 : decode cX14_by 38 = .ok (.i2l, 1) := dk_133 (dk_at dksX14_by_1 14 rfl rfl)
theorem dX14_by_39 : decode cX14_by 39 = .ok (.ldiv, 1) := dk_109 (dk_at dksX14_by_1 15 rfl rfl)
theorem dX14_by_40 : decode cX14_by 40 = .ok (.l2i, 1) := dk_136 (dk_at dksX14_by_1 16 rfl rfl)
theorem dX14_by_41 : decode cX14_by 41 = .ok (.iastore, 1) := dk_79 (dk_at dksX14_by_1 17 rfl rfl)
theorem dX14_by_42 : decode cX14_by 42 = .ok (.lload_n 2, 1) := dk_32 (dk_at dksX14_by_1 18 rfl rfl)
theorem dX14_by_43 : decode cX14_by 43 = .ok (.iload_n 1, 1) := dk_27 (dk_at dksX14_by_1 19 rfl rfl)
theorem dX14_by_44 : decode cX14_by 44 = .ok (.i2l, 1) := dk_133 (dk_at dksX14_by_1 20 rfl rfl)
theorem dX14_by_45 : decode cX14_by 45 = .ok (.lrem, 1) := dk_113 (dk_at dksX14_by_1 21 rfl rfl)
theorem dX14_by_46 : decode cX14_by 46 = .ok (.lstore_n 2, 1) := dk_65 (dk_at dksX14_by_1 22 rfl rfl)
theorem dX14_by_47 : decode cX14_by 47 = .ok (.iinc 4 (-1), 3) := dk_132 4 255 (dk_at dksX14_by_2 0 rfl rfl)
theorem dX14_by_50 : decode cX14_by 50 = .ok (.goto (-40), 3) := dk_167 255 216 (dk_at dksX14_by_2 3 rfl rfl)
theorem dX14_by_53 : decode cX14_by 53 = .ok (.aload_n 0, 1) := dk_42 (dk_at dksX14_by_2 6 rfl rfl)
theorem dX14_by_54 : decode cX14_by 54 = .ok (.invokevirtual 17, 3) := dk_182 0 17 (dk_at dksX14_by_2 7 rfl rfl)
theorem dX14_by_57 : decode cX14_by 57 = .ok (.return_, 1) := dk_177 (dk_at dksX14_by_2 10 rfl rfl)
abbrev cX14_digits : ByteArray := prog_4_method_8_code
def yX14_digits : MethodName := ⟨RX14, "digits", "()I"⟩
def dkwX14_digits_2 : List UInt8 := [167, 0, 4, 4, 96, 172]
abbrev dktX14_digits_2 : List UInt8 := dkwX14_digits_2 ++ []
def dkwX14_digits_1 : List UInt8 := [164, 0, 7, 7, 167, 0, 24, 27, 16, 99, 164, 0, 7, 6, 167, 0, 14, 27, 16, 9, 164, 0, 7, 5]
abbrev dktX14_digits_1 : List UInt8 := dkwX14_digits_1 ++ dktX14_digits_2
def dkwX14_digits_0 : List UInt8 := [42, 180, 0, 9, 42, 180, 0, 13, 4, 100, 46, 60, 7, 42, 180, 0, 13, 4, 100, 104, 27, 17, 3, 231]
abbrev dktX14_digits_0 : List UInt8 := dkwX14_digits_0 ++ dktX14_digits_1
theorem dksX14_digits_0 : cX14_digits.data.toList.drop 0 = dktX14_digits_0 := by decide +kernel
theorem dksX14_digits_1 : cX14_digits.data.toList.drop 24 = dktX14_digits_1 := dk_seg dksX14_digits_0 24 rfl rfl
theorem dksX14_digits_2 : cX14_digits.data.toList.drop 48 = dktX14_digits_2 := dk_seg dksX14_digits_1 24 rfl rfl
theorem dX14_digits_0 : decode cX14_digits 0 = .ok (.aload_n 0, 1) := dk_42 (dk_at dksX14_digits_0 0 rfl rfl)
theorem dX14_digits_1 : decode cX14_digits 1 = .ok (.getfield 9, 3) := dk_180 0 9 (dk_at dksX14_digits_0 1 rfl rfl)
theorem dX14_digits_4 : decode cX14_digits 4 = .ok (.aload_n 0, 1) := dk_42 (dk_at dksX14_digits_0 4 rfl rfl)
theorem dX14_digits_5 : decode cX14_digits 5 = .ok (.getfield 13, 3) := dk_180 0 13 (dk_at dksX14_digits_0 5 rfl rfl)
theorem dX14_digits_8 : decode cX14_digits 8 = .ok (.iconst 1, 1) := dk_4 (dk_at dksX14_digits_0 8 rfl rfl)
theorem dX14_digits_9 : decode cX14_digits 9 = .ok (.isub, 1) := dk_100 (dk_at dksX14_digits_0 9 rfl rfl)
theorem dX14_digits_10 : decode cX14_digits 10 = .ok (.iaload, 1) := dk_46 (dk_at dksX14_digits_0 10 rfl rfl)
theorem dX14_digits_11 : decode cX14_digits 11 = .ok (.istore_n 1, 1) := dk_60 (dk_at dksX14_digits_0 11 rfl rfl)
theorem dX14_digits_12 : decode cX14_digits 12 = .ok (.iconst 4, 1) := dk_7 (dk_at dksX14_digits_0 12 rfl rfl)
theorem dX14_digits_13 : decode cX14_digits 13 = .ok (.aload_n 0, 1) := dk_42 (dk_at dksX14_digits_0 13 rfl rfl)
theorem dX14_digits_14 : decode cX14_digits 14 = .ok (.getfield 13, 3) := dk_180 0 13 (dk_at dksX14_digits_0 14 rfl rfl)
theorem dX14_digits_17 : decode cX14_digits 17 = .ok (.iconst 1, 1) := dk_4 (dk_at dksX14_digits_0 17 rfl rfl)
theorem dX14_digits_18 : decode cX14_digits 18 = .ok (.isub, 1) := dk_100 (dk_at dksX14_digits_0 18 rfl rfl)
theorem dX14_digits_19 : decode cX14_digits 19 = .ok (.imul, 1) := dk_104 (dk_at dksX14_digits_0 19 rfl rfl)
theorem dX14_digits_20 : decode cX14_digits 20 = .ok (.iload_n 1, 1) := dk_27 (dk_at dksX14_digits_0 20 rfl rfl)
theorem dX14_digits_21 : decode cX14_digits 21 = .ok (.sipush 999, 3) := dk_17 3 231 (dk_at dksX14_digits_0 21 rfl rfl)
theorem dX14_digits_24 : decode cX14_digits 24 = .ok (.if_icmp .le 7, 3) := dk_164 0 7 (dk_at dksX14_digits_1 0 rfl rfl)
theorem dX14_digits_27 : decode cX14_digits 27 = .ok (.iconst 4, 1) := dk_7 (dk_at dksX14_digits_1 3 rfl rfl)
theorem dX14_digits_28 : decode cX14_digits 28 = .ok (.goto 24, 3) := dk_167 0 24 (dk_at dksX14_digits_1 4 rfl rfl)
theorem dX14_digits_31 : decode cX14_digits 31 = .ok (.iload_n 1, 1) := dk_27 (dk_at dksX14_digits_1 7 rfl rfl)
theorem dX14_digits_32 : decode cX14_digits 32 = .ok (.bipush 99, 2) := dk_16 99 (dk_at dksX14_digits_1 8 rfl rfl)
theorem dX14_digits_34 : decode cX14_digits 34 = .ok (.if_icmp .le 7, 3) := dk_164 0 7 (dk_at dksX14_digits_1 10 rfl rfl)
theorem dX14_digits_37 : decode cX14_digits 37 = .ok (.iconst 3, 1) := dk_6 (dk_at dksX14_digits_1 13 rfl rfl)
theorem dX14_digits_38 : decode cX14_digits 38 = .ok (.goto 14, 3) := dk_167 0 14 (dk_at dksX14_digits_1 14 rfl rfl)
theorem dX14_digits_41 : decode cX14_digits 41 = .ok (.iload_n 1, 1) := dk_27 (dk_at dksX14_digits_1 17 rfl rfl)
theorem dX14_digits_42 : decode cX14_digits 42 = .ok (.bipush 9, 2) := dk_16 9 (dk_at dksX14_digits_1 18 rfl rfl)
theorem dX14_digits_44 : decode cX14_digits 44 = .ok (.if_icmp .le 7, 3) := dk_164 0 7 (dk_at dksX14_digits_1 20 rfl rfl)
theorem dX14_digits_47 : decode cX14_digits 47 = .ok (.iconst 2, 1) := dk_5 (dk_at dksX14_digits_1 23 rfl rfl)
theorem dX14_digits_48 : decode cX14_digits 48 = .ok (.goto 4, 3) := dk_167 0 4 (dk_at dksX14_digits_2 0 rfl rfl)
theorem dX14_digits_51 : decode cX14_digits 51 = .ok (.iconst 1, 1) := dk_4 (dk_at dksX14_digits_2 3 rfl rfl)
theorem dX14_digits_52 : decode cX14_digits 52 = .ok (.iadd, 1) := dk_96 (dk_at dksX14_digits_2 4 rfl rfl)
theorem dX14_digits_53 : decode cX14_digits 53 = .ok (.ireturn, 1) := dk_172 (dk_at dksX14_digits_2 5 rfl rfl)
abbrev cX14_digit : ByteArray := prog_4_method_9_code
def yX14_digit : MethodName := ⟨RX14, "digit", "(I)I"⟩
def dkwX14_digit_1 : List UInt8 := [132, 3, 1, 167, 255, 241, 28, 16, 10, 112, 172]
abbrev dktX14_digit_1 : List UInt8 := dkwX14_digit_1 ++ []
def dkwX14_digit_0 : List UInt8 := [42, 180, 0, 9, 27, 7, 108, 46, 61, 3, 62, 29, 27, 7, 112, 162, 0, 14, 28, 16, 10, 108, 61]
abbrev dktX14_digit_0 : List UInt8 := dkwX14_digit_0 ++ dktX14_digit_1
theorem dksX14_digit_0 : cX14_digit.data.toList.drop 0 = dktX14_digit_0 := by decide +kernel
theorem dksX14_digit_1 : cX14_digit.data.toList.drop 23 = dktX14_digit_1 := dk_seg dksX14_digit_0 23 rfl rfl
theorem dX14_digit_0 : decode cX14_digit 0 = .ok (.aload_n 0, 1) := dk_42 (dk_at dksX14_digit_0 0 rfl rfl)
theorem dX14_digit_1 : decode cX14_digit 1 = .ok (.getfield 9, 3) := dk_180 0 9 (dk_at dksX14_digit_0 1 rfl rfl)
theorem dX14_digit_4 : decode cX14_digit 4 = .ok (.iload_n 1, 1) := dk_27 (dk_at dksX14_digit_0 4 rfl rfl)
theorem dX14_digit_5 : decode cX14_digit 5 = .ok (.iconst 4, 1) := dk_7 (dk_at dksX14_digit_0 5 rfl rfl)
theorem dX14_digit_6 : decode cX14_digit 6 = .ok (.idiv, 1) := dk_108 (dk_at dksX14_digit_0 6 rfl rfl)
theorem dX14_digit_7 : decode cX14_digit 7 = .ok (.iaload, 1) := dk_46 (dk_at dksX14_digit_0 7 rfl rfl)
theorem dX14_digit_8 : decode cX14_digit 8 = .ok (.istore_n 2, 1) := dk_61 (dk_at dksX14_digit_0 8 rfl rfl)
theorem dX14_digit_9 : decode cX14_digit 9 = .ok (.iconst 0, 1) := dk_3 (dk_at dksX14_digit_0 9 rfl rfl)
theorem dX14_digit_10 : decode cX14_digit 10 = .ok (.istore_n 3, 1) := dk_62 (dk_at dksX14_digit_0 10 rfl rfl)
theorem dX14_digit_11 : decode cX14_digit 11 = .ok (.iload_n 3, 1) := dk_29 (dk_at dksX14_digit_0 11 rfl rfl)
theorem dX14_digit_12 : decode cX14_digit 12 = .ok (.iload_n 1, 1) := dk_27 (dk_at dksX14_digit_0 12 rfl rfl)
theorem dX14_digit_13 : decode cX14_digit 13 = .ok (.iconst 4, 1) := dk_7 (dk_at dksX14_digit_0 13 rfl rfl)
theorem dX14_digit_14 : decode cX14_digit 14 = .ok (.irem, 1) := dk_112 (dk_at dksX14_digit_0 14 rfl rfl)
theorem dX14_digit_15 : decode cX14_digit 15 = .ok (.if_icmp .ge 14, 3) := dk_162 0 14 (dk_at dksX14_digit_0 15 rfl rfl)
theorem dX14_digit_18 : decode cX14_digit 18 = .ok (.iload_n 2, 1) := dk_28 (dk_at dksX14_digit_0 18 rfl rfl)
theorem dX14_digit_19 : decode cX14_digit 19 = .ok (.bipush 10, 2) := dk_16 10 (dk_at dksX14_digit_0 19 rfl rfl)
theorem dX14_digit_21 : decode cX14_digit 21 = .ok (.idiv, 1) := dk_108 (dk_at dksX14_digit_0 21 rfl rfl)
theorem dX14_digit_22 : decode cX14_digit 22 = .ok (.istore_n 2, 1) := dk_61 (dk_at dksX14_digit_0 22 rfl rfl)
theorem dX14_digit_23 : decode cX14_digit 23 = .ok (.iinc 3 1, 3) := dk_132 3 1 (dk_at dksX14_digit_1 0 rfl rfl)
theorem dX14_digit_26 : decode cX14_digit 26 = .ok (.goto (-15), 3) := dk_167 255 241 (dk_at dksX14_digit_1 3 rfl rfl)
theorem dX14_digit_29 : decode cX14_digit 29 = .ok (.iload_n 2, 1) := dk_28 (dk_at dksX14_digit_1 6 rfl rfl)
theorem dX14_digit_30 : decode cX14_digit 30 = .ok (.bipush 10, 2) := dk_16 10 (dk_at dksX14_digit_1 7 rfl rfl)
theorem dX14_digit_32 : decode cX14_digit 32 = .ok (.irem, 1) := dk_112 (dk_at dksX14_digit_1 9 rfl rfl)
theorem dX14_digit_33 : decode cX14_digit 33 = .ok (.ireturn, 1) := dk_172 (dk_at dksX14_digit_1 10 rfl rfl)
abbrev cX14_compareTo : ByteArray := prog_4_method_7_code
def yX14_compareTo : MethodName := ⟨RX14, "compareTo", "(LWoolThreads$Great;)I"⟩
def dkwX14_compareTo_3 : List UInt8 := [167, 0, 4, 2, 172, 132, 2, 255, 167, 255, 213, 3, 172]
abbrev dktX14_compareTo_3 : List UInt8 := dkwX14_compareTo_3 ++ []
def dkwX14_compareTo_2 : List UInt8 := [180, 0, 9, 28, 46, 159, 0, 24, 42, 180, 0, 9, 28, 46, 43, 180, 0, 9, 28, 46, 164, 0, 7, 4]
abbrev dktX14_compareTo_2 : List UInt8 := dkwX14_compareTo_2 ++ dktX14_compareTo_3
def dkwX14_compareTo_1 : List UInt8 := [167, 0, 4, 2, 172, 42, 180, 0, 13, 4, 100, 61, 28, 155, 0, 45, 42, 180, 0, 9, 28, 46, 43]
abbrev dktX14_compareTo_1 : List UInt8 := dkwX14_compareTo_1 ++ dktX14_compareTo_2
def dkwX14_compareTo_0 : List UInt8 := [42, 180, 0, 13, 43, 180, 0, 13, 159, 0, 20, 42, 180, 0, 13, 43, 180, 0, 13, 164, 0, 7, 4]
abbrev dktX14_compareTo_0 : List UInt8 := dkwX14_compareTo_0 ++ dktX14_compareTo_1
theorem dksX14_compareTo_0 : cX14_compareTo.data.toList.drop 0 = dktX14_compareTo_0 := by decide +kernel
theorem dksX14_compareTo_1 : cX14_compareTo.data.toList.drop 23 = dktX14_compareTo_1 := dk_seg dksX14_compareTo_0 23 rfl rfl
theorem dksX14_compareTo_2 : cX14_compareTo.data.toList.drop 46 = dktX14_compareTo_2 := dk_seg dksX14_compareTo_1 23 rfl rfl
theorem dksX14_compareTo_3 : cX14_compareTo.data.toList.drop 70 = dktX14_compareTo_3 := dk_seg dksX14_compareTo_2 24 rfl rfl
theorem dX14_compareTo_0 : decode cX14_compareTo 0 = .ok (.aload_n 0, 1) := dk_42 (dk_at dksX14_compareTo_0 0 rfl rfl)
theorem dX14_compareTo_1 : decode cX14_compareTo 1 = .ok (.getfield 13, 3) := dk_180 0 13 (dk_at dksX14_compareTo_0 1 rfl rfl)
theorem dX14_compareTo_4 : decode cX14_compareTo 4 = .ok (.aload_n 1, 1) := dk_43 (dk_at dksX14_compareTo_0 4 rfl rfl)
theorem dX14_compareTo_5 : decode cX14_compareTo 5 = .ok (.getfield 13, 3) := dk_180 0 13 (dk_at dksX14_compareTo_0 5 rfl rfl)
theorem dX14_compareTo_8 : decode cX14_compareTo 8 = .ok (.if_icmp .eq 20, 3) := dk_159 0 20 (dk_at dksX14_compareTo_0 8 rfl rfl)
theorem dX14_compareTo_11 : decode cX14_compareTo 11 = .ok (.aload_n 0, 1) := dk_42 (dk_at dksX14_compareTo_0 11 rfl rfl)
theorem dX14_compareTo_12 : decode cX14_compareTo 12 = .ok (.getfield 13, 3) := dk_180 0 13 (dk_at dksX14_compareTo_0 12 rfl rfl)
theorem dX14_compareTo_15 : decode cX14_compareTo 15 = .ok (.aload_n 1, 1) := dk_43 (dk_at dksX14_compareTo_0 15 rfl rfl)
theorem dX14_compareTo_16 : decode cX14_compareTo 16 = .ok (.getfield 13, 3) := dk_180 0 13 (dk_at dksX14_compareTo_0 16 rfl rfl)
theorem dX14_compareTo_19 : decode cX14_compareTo 19 = .ok (.if_icmp .le 7, 3) := dk_164 0 7 (dk_at dksX14_compareTo_0 19 rfl rfl)
theorem dX14_compareTo_22 : decode cX14_compareTo 22 = .ok (.iconst 1, 1) := dk_4 (dk_at dksX14_compareTo_0 22 rfl rfl)
theorem dX14_compareTo_23 : decode cX14_compareTo 23 = .ok (.goto 4, 3) := dk_167 0 4 (dk_at dksX14_compareTo_1 0 rfl rfl)
theorem dX14_compareTo_26 : decode cX14_compareTo 26 = .ok (.iconst (-1), 1) := dk_2 (dk_at dksX14_compareTo_1 3 rfl rfl)
theorem dX14_compareTo_27 : decode cX14_compareTo 27 = .ok (.ireturn, 1) := dk_172 (dk_at dksX14_compareTo_1 4 rfl rfl)
theorem dX14_compareTo_28 : decode cX14_compareTo 28 = .ok (.aload_n 0, 1) := dk_42 (dk_at dksX14_compareTo_1 5 rfl rfl)
theorem dX14_compareTo_29 : decode cX14_compareTo 29 = .ok (.getfield 13, 3) := dk_180 0 13 (dk_at dksX14_compareTo_1 6 rfl rfl)
theorem dX14_compareTo_32 : decode cX14_compareTo 32 = .ok (.iconst 1, 1) := dk_4 (dk_at dksX14_compareTo_1 9 rfl rfl)
theorem dX14_compareTo_33 : decode cX14_compareTo 33 = .ok (.isub, 1) := dk_100 (dk_at dksX14_compareTo_1 10 rfl rfl)
theorem dX14_compareTo_34 : decode cX14_compareTo 34 = .ok (.istore_n 2, 1) := dk_61 (dk_at dksX14_compareTo_1 11 rfl rfl)
theorem dX14_compareTo_35 : decode cX14_compareTo 35 = .ok (.iload_n 2, 1) := dk_28 (dk_at dksX14_compareTo_1 12 rfl rfl)
theorem dX14_compareTo_36 : decode cX14_compareTo 36 = .ok (.ifCond .lt 45, 3) := dk_155 0 45 (dk_at dksX14_compareTo_1 13 rfl rfl)
theorem dX14_compareTo_39 : decode cX14_compareTo 39 = .ok (.aload_n 0, 1) := dk_42 (dk_at dksX14_compareTo_1 16 rfl rfl)
theorem dX14_compareTo_40 : decode cX14_compareTo 40 = .ok (.getfield 9, 3) := dk_180 0 9 (dk_at dksX14_compareTo_1 17 rfl rfl)
theorem dX14_compareTo_43 : decode cX14_compareTo 43 = .ok (.iload_n 2, 1) := dk_28 (dk_at dksX14_compareTo_1 20 rfl rfl)
theorem dX14_compareTo_44 : decode cX14_compareTo 44 = .ok (.iaload, 1) := dk_46 (dk_at dksX14_compareTo_1 21 rfl rfl)
theorem dX14_compareTo_45 : decode cX14_compareTo 45 = .ok (.aload_n 1, 1) := dk_43 (dk_at dksX14_compareTo_1 22 rfl rfl)
theorem dX14_compareTo_46 : decode cX14_compareTo 46 = .ok (.getfield 9, 3) := dk_180 0 9 (dk_at dksX14_compareTo_2 0 rfl rfl)
theorem dX14_compareTo_49 : decode cX14_compareTo 49 = .ok (.iload_n 2, 1) := dk_28 (dk_at dksX14_compareTo_2 3 rfl rfl)
theorem dX14_compareTo_50 : decode cX14_compareTo 50 = .ok (.iaload, 1) := dk_46 (dk_at dksX14_compareTo_2 4 rfl rfl)
theorem dX14_compareTo_51 : decode cX14_compareTo 51 = .ok (.if_icmp .eq 24, 3) := dk_159 0 24 (dk_at dksX14_compareTo_2 5 rfl rfl)
theorem dX14_compareTo_54 : decode cX14_compareTo 54 = .ok (.aload_n 0, 1) := dk_42 (dk_at dksX14_compareTo_2 8 rfl rfl)
theorem dX14_compareTo_55 : decode cX14_compareTo 55 = .ok (.getfield 9, 3) := dk_180 0 9 (dk_at dksX14_compareTo_2 9 rfl rfl)
theorem dX14_compareTo_58 : decode cX14_compareTo 58 = .ok (.iload_n 2, 1) := dk_28 (dk_at dksX14_compareTo_2 12 rfl rfl)
theorem dX14_compareTo_59 : decode cX14_compareTo 59 = .ok (.iaload, 1) := dk_46 (dk_at dksX14_compareTo_2 13 rfl rfl)
theorem dX14_compareTo_60 : decode cX14_compareTo 60 = .ok (.aload_n 1, 1) := dk_43 (dk_at dksX14_compareTo_2 14 rfl rfl)
theorem dX14_compareTo_61 : decode cX14_compareTo 61 = .ok (.getfield 9, 3) := dk_180 0 9 (dk_at dksX14_compareTo_2 15 rfl rfl)
theorem dX14_compareTo_64 : decode cX14_compareTo 64 = .ok (.iload_n 2, 1) := dk_28 (dk_at dksX14_compareTo_2 18 rfl rfl)
theorem dX14_compareTo_65 : decode cX14_compareTo 65 = .ok (.iaload, 1) := dk_46 (dk_at dksX14_compareTo_2 19 rfl rfl)
theorem dX14_compareTo_66 : decode cX14_compareTo 66 = .ok (.if_icmp .le 7, 3) := dk_164 0 7 (dk_at dksX14_compareTo_2 20 rfl rfl)
theorem dX14_compareTo_69 : decode cX14_compareTo 69 = .ok (.iconst 1, 1) := dk_4 (dk_at dksX14_compareTo_2 23 rfl rfl)
theorem dX14_compareTo_70 : decode cX14_compareTo 70 = .ok (.goto 4, 3) := dk_167 0 4 (dk_at dksX14_compareTo_3 0 rfl rfl)
theorem dX14_compareTo_73 : decode cX14_compareTo 73 = .ok (.iconst (-1), 1) := dk_2 (dk_at dksX14_compareTo_3 3 rfl rfl)
theorem dX14_compareTo_74 : decode cX14_compareTo 74 = .ok (.ireturn, 1) := dk_172 (dk_at dksX14_compareTo_3 4 rfl rfl)
theorem dX14_compareTo_75 : decode cX14_compareTo 75 = .ok (.iinc 2 (-1), 3) := dk_132 2 255 (dk_at dksX14_compareTo_3 5 rfl rfl)
theorem dX14_compareTo_78 : decode cX14_compareTo 78 = .ok (.goto (-43), 3) := dk_167 255 213 (dk_at dksX14_compareTo_3 8 rfl rfl)
theorem dX14_compareTo_81 : decode cX14_compareTo 81 = .ok (.iconst 0, 1) := dk_3 (dk_at dksX14_compareTo_3 11 rfl rfl)
theorem dX14_compareTo_82 : decode cX14_compareTo 82 = .ok (.ireturn, 1) := dk_172 (dk_at dksX14_compareTo_3 12 rfl rfl)
abbrev cX14_isZero : ByteArray := prog_4_method_3_code
def yX14_isZero : MethodName := ⟨RX14, "isZero", "()Z"⟩
def dkwX14_isZero_0 : List UInt8 := [42, 180, 0, 13, 4, 160, 0, 16, 42, 180, 0, 9, 3, 46, 154, 0, 7, 4, 167, 0, 4, 3, 172]
abbrev dktX14_isZero_0 : List UInt8 := dkwX14_isZero_0 ++ []
theorem dksX14_isZero_0 : cX14_isZero.data.toList.drop 0 = dktX14_isZero_0 := by decide +kernel
theorem dX14_isZero_0 : decode cX14_isZero 0 = .ok (.aload_n 0, 1) := dk_42 (dk_at dksX14_isZero_0 0 rfl rfl)
theorem dX14_isZero_1 : decode cX14_isZero 1 = .ok (.getfield 13, 3) := dk_180 0 13 (dk_at dksX14_isZero_0 1 rfl rfl)
theorem dX14_isZero_4 : decode cX14_isZero 4 = .ok (.iconst 1, 1) := dk_4 (dk_at dksX14_isZero_0 4 rfl rfl)
theorem dX14_isZero_5 : decode cX14_isZero 5 = .ok (.if_icmp .ne 16, 3) := dk_160 0 16 (dk_at dksX14_isZero_0 5 rfl rfl)
theorem dX14_isZero_8 : decode cX14_isZero 8 = .ok (.aload_n 0, 1) := dk_42 (dk_at dksX14_isZero_0 8 rfl rfl)
theorem dX14_isZero_9 : decode cX14_isZero 9 = .ok (.getfield 9, 3) := dk_180 0 9 (dk_at dksX14_isZero_0 9 rfl rfl)
theorem dX14_isZero_12 : decode cX14_isZero 12 = .ok (.iconst 0, 1) := dk_3 (dk_at dksX14_isZero_0 12 rfl rfl)
theorem dX14_isZero_13 : decode cX14_isZero 13 = .ok (.iaload, 1) := dk_46 (dk_at dksX14_isZero_0 13 rfl rfl)
theorem dX14_isZero_14 : decode cX14_isZero 14 = .ok (.ifCond .ne 7, 3) := dk_154 0 7 (dk_at dksX14_isZero_0 14 rfl rfl)
theorem dX14_isZero_17 : decode cX14_isZero 17 = .ok (.iconst 1, 1) := dk_4 (dk_at dksX14_isZero_0 17 rfl rfl)
theorem dX14_isZero_18 : decode cX14_isZero 18 = .ok (.goto 4, 3) := dk_167 0 4 (dk_at dksX14_isZero_0 18 rfl rfl)
theorem dX14_isZero_21 : decode cX14_isZero 21 = .ok (.iconst 0, 1) := dk_3 (dk_at dksX14_isZero_0 21 rfl rfl)
theorem dX14_isZero_22 : decode cX14_isZero 22 = .ok (.ireturn, 1) := dk_172 (dk_at dksX14_isZero_0 22 rfl rfl)
abbrev cX14_become : ByteArray := prog_4_method_6_code
def yX14_become : MethodName := ⟨RX14, "become", "(LWoolThreads$Great;)V"⟩
def dkwX14_become_1 : List UInt8 := [181, 0, 13, 177]
abbrev dktX14_become_1 : List UInt8 := dkwX14_become_1 ++ []
def dkwX14_become_0 : List UInt8 := [43, 180, 0, 9, 3, 42, 180, 0, 9, 3, 43, 180, 0, 13, 184, 0, 22, 42, 43, 180, 0, 13]
abbrev dktX14_become_0 : List UInt8 := dkwX14_become_0 ++ dktX14_become_1
theorem dksX14_become_0 : cX14_become.data.toList.drop 0 = dktX14_become_0 := by decide +kernel
theorem dksX14_become_1 : cX14_become.data.toList.drop 22 = dktX14_become_1 := dk_seg dksX14_become_0 22 rfl rfl
theorem dX14_become_0 : decode cX14_become 0 = .ok (.aload_n 1, 1) := dk_43 (dk_at dksX14_become_0 0 rfl rfl)
theorem dX14_become_1 : decode cX14_become 1 = .ok (.getfield 9, 3) := dk_180 0 9 (dk_at dksX14_become_0 1 rfl rfl)
theorem dX14_become_4 : decode cX14_become 4 = .ok (.iconst 0, 1) := dk_3 (dk_at dksX14_become_0 4 rfl rfl)
theorem dX14_become_5 : decode cX14_become 5 = .ok (.aload_n 0, 1) := dk_42 (dk_at dksX14_become_0 5 rfl rfl)
theorem dX14_become_6 : decode cX14_become 6 = .ok (.getfield 9, 3) := dk_180 0 9 (dk_at dksX14_become_0 6 rfl rfl)
theorem dX14_become_9 : decode cX14_become 9 = .ok (.iconst 0, 1) := dk_3 (dk_at dksX14_become_0 9 rfl rfl)
theorem dX14_become_10 : decode cX14_become 10 = .ok (.aload_n 1, 1) := dk_43 (dk_at dksX14_become_0 10 rfl rfl)
theorem dX14_become_11 : decode cX14_become 11 = .ok (.getfield 13, 3) := dk_180 0 13 (dk_at dksX14_become_0 11 rfl rfl)
theorem dX14_become_14 : decode cX14_become 14 = .ok (.invokestatic 22, 3) := dk_184 0 22 (dk_at dksX14_become_0 14 rfl rfl)
theorem dX14_become_17 : decode cX14_become 17 = .ok (.aload_n 0, 1) := dk_42 (dk_at dksX14_become_0 17 rfl rfl)
theorem dX14_become_18 : decode cX14_become 18 = .ok (.aload_n 1, 1) := dk_43 (dk_at dksX14_become_0 18 rfl rfl)
theorem dX14_become_19 : decode cX14_become 19 = .ok (.getfield 13, 3) := dk_180 0 13 (dk_at dksX14_become_0 19 rfl rfl)
theorem dX14_become_22 : decode cX14_become 22 = .ok (.putfield 13, 3) := dk_181 0 13 (dk_at dksX14_become_1 0 rfl rfl)
theorem dX14_become_25 : decode cX14_become 25 = .ok (.return_, 1) := dk_177 (dk_at dksX14_become_1 3 rfl rfl)
theorem q102 : (Jvm.Cond.initialized "WoolThreads$Great") ∈ lw_all := lw_g (lw_at lw_m1 37 rfl) rfl
theorem q629 : (Jvm.Cond.selects "WoolThreads$Great" ({ cls := "java/lang/Object", name := "getClass", desc := "()Ljava/lang/Class;" } : Jvm.MethodName) ({ cls := "java/lang/Object", name := "getClass", desc := "()Ljava/lang/Class;" } : Jvm.MethodName)) ∈ lw_all := lw_g (lw_at lw_m3 84 rfl) rfl
theorem q1280 : (Jvm.Cond.instantiable "WoolThreads$Great" (2 : Nat)) ∈ lw_all := lw_g (lw_at lw_m6 15 rfl) rfl
theorem q1282 : (Jvm.Cond.instanceMethod ({ cls := "WoolThreads$Great", name := "<init>", desc := "(I)V" } : Jvm.MethodName)) ∈ lw_all := lw_g (lw_at lw_m6 17 rfl) rfl
theorem q1283 : (Jvm.Cond.code ({ cls := "WoolThreads$Great", name := "<init>", desc := "(I)V" } : Jvm.MethodName) prog_4_method_1_code (2 : Nat) (Option.none : Option Jvm.ClassFile.FieldType)) ∈ lw_all := lw_g (lw_at lw_m6 18 rfl) rfl
theorem q1284 : (Jvm.Cond.methodLink "WoolThreads$Great" (1 : Nat) ({ cls := "java/lang/Object", name := "<init>", desc := "()V" } : Jvm.MethodName)) ∈ lw_all := lw_g (lw_at lw_m6 19 rfl) rfl
theorem q1285 : (Jvm.Cond.methodLink "WoolThreads$Great" (17 : Nat) ({ cls := "WoolThreads$Great", name := "trim", desc := "()V" } : Jvm.MethodName)) ∈ lw_all := lw_g (lw_at lw_m6 20 rfl) rfl
theorem q1286 : (Jvm.Cond.privateMethod ({ cls := "WoolThreads$Great", name := "trim", desc := "()V" } : Jvm.MethodName)) ∈ lw_tbl := lw_at lw_m6 21 rfl
theorem q1287 : (Jvm.Cond.instanceMethod ({ cls := "WoolThreads$Great", name := "trim", desc := "()V" } : Jvm.MethodName)) ∈ lw_all := lw_g (lw_at lw_m6 22 rfl) rfl
theorem q1288 : (Jvm.Cond.code ({ cls := "WoolThreads$Great", name := "trim", desc := "()V" } : Jvm.MethodName) prog_4_method_2_code (1 : Nat) (Option.none : Option Jvm.ClassFile.FieldType)) ∈ lw_all := lw_g (lw_at lw_m6 23 rfl) rfl
theorem q1289 : (Jvm.Cond.fieldLink "WoolThreads$Great" (9 : Nat) "WoolThreads$Great" "d" "[I") ∈ lw_all := lw_g (lw_at lw_m6 24 rfl) rfl
theorem q1290 : (Jvm.Cond.fieldLink "WoolThreads$Great" (13 : Nat) "WoolThreads$Great" "size" "I") ∈ lw_all := lw_g (lw_at lw_m6 25 rfl) rfl
theorem q1291 : (Jvm.Cond.laysFinal "WoolThreads$Great" "WoolThreads$Great" "d" "[I") ∈ lw_all := lw_g (lw_at lw_m6 26 rfl) rfl
theorem q1292 : (Jvm.Cond.soleField "WoolThreads$Great" "d") ∈ lw_all := lw_g (lw_at lw_m6 27 rfl) rfl
theorem q1293 : (Jvm.Cond.lays "WoolThreads$Great" "WoolThreads$Great" "size" "I") ∈ lw_all := lw_g (lw_at lw_m6 28 rfl) rfl
theorem q1294 : (Jvm.Cond.soleField "WoolThreads$Great" "size") ∈ lw_all := lw_g (lw_at lw_m6 29 rfl) rfl
theorem q1295 : (Jvm.Cond.superclass "WoolThreads$Great" "java/lang/Object") ∈ lw_all := lw_g (lw_at lw_m6 30 rfl) rfl
theorem q1301 : (Jvm.Cond.instanceMethod ({ cls := "WoolThreads$Great", name := "times", desc := "(I)V" } : Jvm.MethodName)) ∈ lw_all := lw_g (lw_at lw_m6 36 rfl) rfl
theorem q1302 : (Jvm.Cond.selects "WoolThreads$Great" ({ cls := "WoolThreads$Great", name := "times", desc := "(I)V" } : Jvm.MethodName) ({ cls := "WoolThreads$Great", name := "times", desc := "(I)V" } : Jvm.MethodName)) ∈ lw_all := lw_g (lw_at lw_m6 37 rfl) rfl
theorem q1303 : (Jvm.Cond.code ({ cls := "WoolThreads$Great", name := "times", desc := "(I)V" } : Jvm.MethodName) prog_4_method_4_code (5 : Nat) (Option.none : Option Jvm.ClassFile.FieldType)) ∈ lw_all := lw_g (lw_at lw_m6 38 rfl) rfl
theorem q1304 : (Jvm.Cond.constantLong "WoolThreads$Great" (20 : Nat) (10000 : Int64)) ∈ lw_all := lw_g (lw_at lw_m6 39 rfl) rfl
theorem q1306 : (Jvm.Cond.instanceMethod ({ cls := "WoolThreads$Great", name := "by", desc := "(I)V" } : Jvm.MethodName)) ∈ lw_all := lw_g (lw_at lw_m6 41 rfl) rfl
theorem q1307 : (Jvm.Cond.selects "WoolThreads$Great" ({ cls := "WoolThreads$Great", name := "by", desc := "(I)V" } : Jvm.MethodName) ({ cls := "WoolThreads$Great", name := "by", desc := "(I)V" } : Jvm.MethodName)) ∈ lw_all := lw_g (lw_at lw_m6 42 rfl) rfl
theorem q1308 : (Jvm.Cond.code ({ cls := "WoolThreads$Great", name := "by", desc := "(I)V" } : Jvm.MethodName) prog_4_method_5_code (5 : Nat) (Option.none : Option Jvm.ClassFile.FieldType)) ∈ lw_all := lw_g (lw_at lw_m6 43 rfl) rfl
theorem q1310 : (Jvm.Cond.instanceMethod ({ cls := "WoolThreads$Great", name := "digits", desc := "()I" } : Jvm.MethodName)) ∈ lw_all := lw_g (lw_at lw_m6 45 rfl) rfl
theorem q1311 : (Jvm.Cond.selects "WoolThreads$Great" ({ cls := "WoolThreads$Great", name := "digits", desc := "()I" } : Jvm.MethodName) ({ cls := "WoolThreads$Great", name := "digits", desc := "()I" } : Jvm.MethodName)) ∈ lw_all := lw_g (lw_at lw_m6 46 rfl) rfl
theorem q1312 : (Jvm.Cond.code ({ cls := "WoolThreads$Great", name := "digits", desc := "()I" } : Jvm.MethodName) prog_4_method_8_code (2 : Nat) (Option.some Jvm.ClassFile.FieldType.int)) ∈ lw_all := lw_g (lw_at lw_m6 47 rfl) rfl
theorem q1321 : (Jvm.Cond.instanceMethod ({ cls := "WoolThreads$Great", name := "digit", desc := "(I)I" } : Jvm.MethodName)) ∈ lw_all := lw_g (lw_at lw_m6 56 rfl) rfl
theorem q1322 : (Jvm.Cond.selects "WoolThreads$Great" ({ cls := "WoolThreads$Great", name := "digit", desc := "(I)I" } : Jvm.MethodName) ({ cls := "WoolThreads$Great", name := "digit", desc := "(I)I" } : Jvm.MethodName)) ∈ lw_all := lw_g (lw_at lw_m6 57 rfl) rfl
theorem q1323 : (Jvm.Cond.code ({ cls := "WoolThreads$Great", name := "digit", desc := "(I)I" } : Jvm.MethodName) prog_4_method_9_code (4 : Nat) (Option.some Jvm.ClassFile.FieldType.int)) ∈ lw_all := lw_g (lw_at lw_m6 58 rfl) rfl
theorem q1336 : (Jvm.Cond.instanceMethod ({ cls := "WoolThreads$Great", name := "compareTo", desc := "(LWoolThreads$Great;)I" } : Jvm.MethodName)) ∈ lw_all := lw_g (lw_at lw_m6 71 rfl) rfl
theorem q1337 : (Jvm.Cond.selects "WoolThreads$Great" ({ cls := "WoolThreads$Great", name := "compareTo", desc := "(LWoolThreads$Great;)I" } : Jvm.MethodName) ({ cls := "WoolThreads$Great", name := "compareTo", desc := "(LWoolThreads$Great;)I" } : Jvm.MethodName)) ∈ lw_all := lw_g (lw_at lw_m6 72 rfl) rfl
theorem q1338 : (Jvm.Cond.code ({ cls := "WoolThreads$Great", name := "compareTo", desc := "(LWoolThreads$Great;)I" } : Jvm.MethodName) prog_4_method_7_code (3 : Nat) (Option.some Jvm.ClassFile.FieldType.int)) ∈ lw_all := lw_g (lw_at lw_m6 73 rfl) rfl
theorem q1350 : (Jvm.Cond.instanceMethod ({ cls := "WoolThreads$Great", name := "isZero", desc := "()Z" } : Jvm.MethodName)) ∈ lw_all := lw_g (lw_at lw_m6 85 rfl) rfl
theorem q1351 : (Jvm.Cond.selects "WoolThreads$Great" ({ cls := "WoolThreads$Great", name := "isZero", desc := "()Z" } : Jvm.MethodName) ({ cls := "WoolThreads$Great", name := "isZero", desc := "()Z" } : Jvm.MethodName)) ∈ lw_all := lw_g (lw_at lw_m6 86 rfl) rfl
theorem q1352 : (Jvm.Cond.code ({ cls := "WoolThreads$Great", name := "isZero", desc := "()Z" } : Jvm.MethodName) prog_4_method_3_code (1 : Nat) (Option.some Jvm.ClassFile.FieldType.boolean)) ∈ lw_all := lw_g (lw_at lw_m6 87 rfl) rfl
theorem q1357 : (Jvm.Cond.instanceMethod ({ cls := "WoolThreads$Great", name := "become", desc := "(LWoolThreads$Great;)V" } : Jvm.MethodName)) ∈ lw_all := lw_g (lw_at lw_m6 92 rfl) rfl
theorem q1358 : (Jvm.Cond.selects "WoolThreads$Great" ({ cls := "WoolThreads$Great", name := "become", desc := "(LWoolThreads$Great;)V" } : Jvm.MethodName) ({ cls := "WoolThreads$Great", name := "become", desc := "(LWoolThreads$Great;)V" } : Jvm.MethodName)) ∈ lw_all := lw_g (lw_at lw_m6 93 rfl) rfl
theorem q1359 : (Jvm.Cond.code ({ cls := "WoolThreads$Great", name := "become", desc := "(LWoolThreads$Great;)V" } : Jvm.MethodName) prog_4_method_6_code (2 : Nat) (Option.none : Option Jvm.ClassFile.FieldType)) ∈ lw_all := lw_g (lw_at lw_m6 94 rfl) rfl
theorem q1360 : (Jvm.Cond.methodLink "WoolThreads$Great" (22 : Nat) ({ cls := "java/lang/System", name := "arraycopy", desc := "(Ljava/lang/Object;ILjava/lang/Object;II)V" } : Jvm.MethodName)) ∈ lw_all := lw_g (lw_at lw_m6 95 rfl) rfl
theorem q2045 : (Jvm.Cond.castable "WoolThreads$Great" "java/lang/Object") ∈ lw_tbl := lw_at lw_m9 60 rfl
theorem in_X14 : ∀ w ∈ wsX140, w ∈ lw_all := lw_in wsX140 [1291, 1293] (by decide +kernel) (by decide +kernel)
end
section
/-! WoolThreads$Shop -/
set_option maxRecDepth 100000
def RX15 : String := "WoolThreads$Shop"
def TX15 : u_T := fun k => match k with
  | 0 => ("WoolThreads$Shop", "sort", "I", true)
  | 1 => ("WoolThreads$Shop", "sold", "I", true)
  | _ => ("WoolThreads$Shop", "all", "I", true)
def tyX15 : Nat → FieldType := fun k => match k with
  | 0 => .int
  | 1 => .int
  | _ => .int
abbrev wsX150 : List Cond := u_ws RX15 TX15 3
theorem nmX15 : ∀ a, a < 3 → ∀ b, b < 3 → a ≠ b → (TX15 a).2.1 ≠ (TX15 b).2.1 := by decide +kernel
theorem tyX15_ok : ∀ k, k < 3 → parseFieldDescriptor (TX15 k).2.2.1 = some (tyX15 k) := by decide +kernel
abbrev cX15_init : ByteArray := prog_9_method_1_code
def yX15_init : MethodName := ⟨RX15, "<init>", "(III)V"⟩
def dkwX15_init_0 : List UInt8 := [42, 183, 0, 1, 42, 27, 181, 0, 7, 42, 28, 181, 0, 13, 42, 29, 181, 0, 16, 177]
abbrev dktX15_init_0 : List UInt8 := dkwX15_init_0 ++ []
theorem dksX15_init_0 : cX15_init.data.toList.drop 0 = dktX15_init_0 := by decide +kernel
theorem dX15_init_0 : decode cX15_init 0 = .ok (.aload_n 0, 1) := dk_42 (dk_at dksX15_init_0 0 rfl rfl)
theorem dX15_init_1 : decode cX15_init 1 = .ok (.invokespecial 1, 3) := dk_183 0 1 (dk_at dksX15_init_0 1 rfl rfl)
theorem dX15_init_4 : decode cX15_init 4 = .ok (.aload_n 0, 1) := dk_42 (dk_at dksX15_init_0 4 rfl rfl)
theorem dX15_init_5 : decode cX15_init 5 = .ok (.iload_n 1, 1) := dk_27 (dk_at dksX15_init_0 5 rfl rfl)
theorem dX15_init_6 : decode cX15_init 6 = .ok (.putfield 7, 3) := dk_181 0 7 (dk_at dksX15_init_0 6 rfl rfl)
theorem dX15_init_9 : decode cX15_init 9 = .ok (.aload_n 0, 1) := dk_42 (dk_at dksX15_init_0 9 rfl rfl)
theorem dX15_init_10 : decode cX15_init 10 = .ok (.iload_n 2, 1) := dk_28 (dk_at dksX15_init_0 10 rfl rfl)
theorem dX15_init_11 : decode cX15_init 11 = .ok (.putfield 13, 3) := dk_181 0 13 (dk_at dksX15_init_0 11 rfl rfl)
theorem dX15_init_14 : decode cX15_init 14 = .ok (.aload_n 0, 1) := dk_42 (dk_at dksX15_init_0 14 rfl rfl)
theorem dX15_init_15 : decode cX15_init 15 = .ok (.iload_n 3, 1) := dk_29 (dk_at dksX15_init_0 15 rfl rfl)
theorem dX15_init_16 : decode cX15_init 16 = .ok (.putfield 16, 3) := dk_181 0 16 (dk_at dksX15_init_0 16 rfl rfl)
theorem dX15_init_19 : decode cX15_init 19 = .ok (.return_, 1) := dk_177 (dk_at dksX15_init_0 19 rfl rfl)
theorem q103 : (Jvm.Cond.initialized "WoolThreads$Shop") ∈ lw_all := lw_g (lw_at lw_m1 38 rfl) rfl
theorem q634 : (Jvm.Cond.selects "WoolThreads$Shop" ({ cls := "java/lang/Object", name := "getClass", desc := "()Ljava/lang/Class;" } : Jvm.MethodName) ({ cls := "java/lang/Object", name := "getClass", desc := "()Ljava/lang/Class;" } : Jvm.MethodName)) ∈ lw_all := lw_g (lw_at lw_m3 89 rfl) rfl
theorem q1458 : (Jvm.Cond.instantiable "WoolThreads$Shop" (3 : Nat)) ∈ lw_all := lw_g (lw_at lw_m6 193 rfl) rfl
theorem q1460 : (Jvm.Cond.instanceMethod ({ cls := "WoolThreads$Shop", name := "<init>", desc := "(III)V" } : Jvm.MethodName)) ∈ lw_all := lw_g (lw_at lw_m6 195 rfl) rfl
theorem q1461 : (Jvm.Cond.code ({ cls := "WoolThreads$Shop", name := "<init>", desc := "(III)V" } : Jvm.MethodName) prog_9_method_1_code (4 : Nat) (Option.none : Option Jvm.ClassFile.FieldType)) ∈ lw_all := lw_g (lw_at lw_m6 196 rfl) rfl
theorem q1462 : (Jvm.Cond.methodLink "WoolThreads$Shop" (1 : Nat) ({ cls := "java/lang/Object", name := "<init>", desc := "()V" } : Jvm.MethodName)) ∈ lw_all := lw_g (lw_at lw_m6 197 rfl) rfl
theorem q1463 : (Jvm.Cond.fieldLink "WoolThreads$Shop" (7 : Nat) "WoolThreads$Shop" "sort" "I") ∈ lw_all := lw_g (lw_at lw_m6 198 rfl) rfl
theorem q1465 : (Jvm.Cond.fieldLink "WoolThreads$Shop" (13 : Nat) "WoolThreads$Shop" "sold" "I") ∈ lw_all := lw_g (lw_at lw_m6 200 rfl) rfl
theorem q1467 : (Jvm.Cond.fieldLink "WoolThreads$Shop" (16 : Nat) "WoolThreads$Shop" "all" "I") ∈ lw_all := lw_g (lw_at lw_m6 202 rfl) rfl
theorem q1469 : (Jvm.Cond.laysFinal "WoolThreads$Shop" "WoolThreads$Shop" "sort" "I") ∈ lw_all := lw_g (lw_at lw_m6 204 rfl) rfl
theorem q1470 : (Jvm.Cond.soleField "WoolThreads$Shop" "sort") ∈ lw_all := lw_g (lw_at lw_m6 205 rfl) rfl
theorem q1471 : (Jvm.Cond.laysFinal "WoolThreads$Shop" "WoolThreads$Shop" "sold" "I") ∈ lw_all := lw_g (lw_at lw_m6 206 rfl) rfl
theorem q1472 : (Jvm.Cond.soleField "WoolThreads$Shop" "sold") ∈ lw_all := lw_g (lw_at lw_m6 207 rfl) rfl
theorem q1473 : (Jvm.Cond.laysFinal "WoolThreads$Shop" "WoolThreads$Shop" "all" "I") ∈ lw_all := lw_g (lw_at lw_m6 208 rfl) rfl
theorem q1474 : (Jvm.Cond.soleField "WoolThreads$Shop" "all") ∈ lw_all := lw_g (lw_at lw_m6 209 rfl) rfl
theorem q1475 : (Jvm.Cond.superclass "WoolThreads$Shop" "java/lang/Object") ∈ lw_all := lw_g (lw_at lw_m6 210 rfl) rfl
theorem q2046 : (Jvm.Cond.castable "WoolThreads$Shop" "java/lang/Object") ∈ lw_tbl := lw_at lw_m9 61 rfl
theorem in_X15 : ∀ w ∈ wsX150, w ∈ lw_all := lw_in wsX150 [1469, 1471, 1473] (by decide +kernel) (by decide +kernel)
end
