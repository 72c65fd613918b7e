section
/-! WoolThreads -/
set_option maxRecDepth 100000
def RX1 : String := "WoolThreads"
def TX1 : u_T := fun k => match k with
  | 0 => ("WoolThreads", "law", "LWoolThreads$Law;", false)
  | 1 => ("WoolThreads", "state", "LWoolThreads$State;", false)
  | 2 => ("WoolThreads", "taped", "I", false)
  | 3 => ("WoolThreads", "faultAt", "I", false)
  | 4 => ("WoolThreads", "imageMany", "I", false)
  | 5 => ("WoolThreads", "tape", "[B", true)
  | 6 => ("WoolThreads", "stories", "Ljava/util/ArrayList;", true)
  | _ => ("WoolThreads", "images", "[LWoolThreads$State;", true)
def tyX1 : Nat → FieldType := fun k => match k with
  | 0 => .object "WoolThreads$Law"
  | 1 => .object "WoolThreads$State"
  | 2 => .int
  | 3 => .int
  | 4 => .int
  | 5 => .array .byte
  | 6 => .object "java/util/ArrayList"
  | _ => .array (.object "WoolThreads$State")
abbrev wsX10 : List Cond := u_ws RX1 TX1 8
theorem nmX1 : ∀ a, a < 8 → ∀ b, b < 8 → a ≠ b → (TX1 a).2.1 ≠ (TX1 b).2.1 := by decide +kernel
theorem tyX1_ok : ∀ k, k < 8 → parseFieldDescriptor (TX1 k).2.2.1 = some (tyX1 k) := by decide +kernel
abbrev cX1_init : ByteArray := prog_1_method_1_code
def yX1_init : MethodName := ⟨RX1, "<init>", "()V"⟩
def dkwX1_init_2 : List UInt8 := [183, 0, 33, 181, 0, 36, 42, 6, 189, 0, 16, 181, 0, 40, 177]
abbrev dktX1_init_2 : List UInt8 := dkwX1_init_2 ++ []
def dkwX1_init_1 : List UInt8 := [181, 0, 19, 42, 2, 181, 0, 23, 42, 17, 1, 144, 188, 8, 181, 0, 27, 42, 187, 0, 31, 89, 4]
abbrev dktX1_init_1 : List UInt8 := dkwX1_init_1 ++ dktX1_init_2
def dkwX1_init_0 : List UInt8 := [42, 183, 0, 1, 42, 187, 0, 7, 89, 183, 0, 9, 181, 0, 10, 42, 187, 0, 16, 89, 183, 0, 18]
abbrev dktX1_init_0 : List UInt8 := dkwX1_init_0 ++ dktX1_init_1
theorem dksX1_init_0 : cX1_init.data.toList.drop 0 = dktX1_init_0 := by decide +kernel
theorem dksX1_init_1 : cX1_init.data.toList.drop 23 = dktX1_init_1 := dk_seg dksX1_init_0 23 rfl rfl
theorem dksX1_init_2 : cX1_init.data.toList.drop 46 = dktX1_init_2 := dk_seg dksX1_init_1 23 rfl rfl
theorem dX1_init_0 : decode cX1_init 0 = .ok (.aload_n 0, 1) := dk_42 (dk_at dksX1_init_0 0 rfl rfl)
theorem dX1_init_1 : decode cX1_init 1 = .ok (.invokespecial 1, 3) := dk_183 0 1 (dk_at dksX1_init_0 1 rfl rfl)
theorem dX1_init_4 : decode cX1_init 4 = .ok (.aload_n 0, 1) := dk_42 (dk_at dksX1_init_0 4 rfl rfl)
theorem dX1_init_5 : decode cX1_init 5 = .ok (.new 7, 3) := dk_187 0 7 (dk_at dksX1_init_0 5 rfl rfl)
theorem dX1_init_8 : decode cX1_init 8 = .ok (.dup, 1) := dk_89 (dk_at dksX1_init_0 8 rfl rfl)
theorem dX1_init_9 : decode cX1_init 9 = .ok (.invokespecial 9, 3) := dk_183 0 9 (dk_at dksX1_init_0 9 rfl rfl)
theorem dX1_init_12 : decode cX1_init 12 = .ok (.putfield 10, 3) := dk_181 0 10 (dk_at dksX1_init_0 12 rfl rfl)
theorem dX1_init_15 : decode cX1_init 15 = .ok (.aload_n 0, 1) := dk_42 (dk_at dksX1_init_0 15 rfl rfl)
theorem dX1_init_16 : decode cX1_init 16 = .ok (.new 16, 3) := dk_187 0 16 (dk_at dksX1_init_0 16 rfl rfl)
theorem dX1_init_19 : decode cX1_init 19 = .ok (.dup, 1) := dk_89 (dk_at dksX1_init_0 19 rfl rfl)
theorem dX1_init_20 : decode cX1_init 20 = .ok (.invokespecial 18, 3) := dk_183 0 18 (dk_at dksX1_init_0 20 rfl rfl)
theorem dX1_init_23 : decode cX1_init 23 = .ok (.putfield 19, 3) := dk_181 0 19 (dk_at dksX1_init_1 0 rfl rfl)
theorem dX1_init_26 : decode cX1_init 26 = .ok (.aload_n 0, 1) := dk_42 (dk_at dksX1_init_1 3 rfl rfl)
theorem dX1_init_27 : decode cX1_init 27 = .ok (.iconst (-1), 1) := dk_2 (dk_at dksX1_init_1 4 rfl rfl)
theorem dX1_init_28 : decode cX1_init 28 = .ok (.putfield 23, 3) := dk_181 0 23 (dk_at dksX1_init_1 5 rfl rfl)
theorem dX1_init_31 : decode cX1_init 31 = .ok (.aload_n 0, 1) := dk_42 (dk_at dksX1_init_1 8 rfl rfl)
theorem dX1_init_32 : decode cX1_init 32 = .ok (.sipush 400, 3) := dk_17 1 144 (dk_at dksX1_init_1 9 rfl rfl)
theorem dX1_init_35 : decode cX1_init 35 = .ok (.newarray .byte, 2) := dk_188_8 (dk_at dksX1_init_1 12 rfl rfl)
theorem dX1_init_37 : decode cX1_init 37 = .ok (.putfield 27, 3) := dk_181 0 27 (dk_at dksX1_init_1 14 rfl rfl)
theorem dX1_init_40 : decode cX1_init 40 = .ok (.aload_n 0, 1) := dk_42 (dk_at dksX1_init_1 17 rfl rfl)
theorem dX1_init_41 : decode cX1_init 41 = .ok (.new 31, 3) := dk_187 0 31 (dk_at dksX1_init_1 18 rfl rfl)
theorem dX1_init_44 : decode cX1_init 44 = .ok (.dup, 1) := dk_89 (dk_at dksX1_init_1 21 rfl rfl)
theorem dX1_init_45 : decode cX1_init 45 = .ok (.iconst 1, 1) := dk_4 (dk_at dksX1_init_1 22 rfl rfl)
theorem dX1_init_46 : decode cX1_init 46 = .ok (.invokespecial 33, 3) := dk_183 0 33 (dk_at dksX1_init_2 0 rfl rfl)
theorem dX1_init_49 : decode cX1_init 49 = .ok (.putfield 36, 3) := dk_181 0 36 (dk_at dksX1_init_2 3 rfl rfl)
theorem dX1_init_52 : decode cX1_init 52 = .ok (.aload_n 0, 1) := dk_42 (dk_at dksX1_init_2 6 rfl rfl)
theorem dX1_init_53 : decode cX1_init 53 = .ok (.iconst 3, 1) := dk_6 (dk_at dksX1_init_2 7 rfl rfl)
theorem dX1_init_54 : decode cX1_init 54 = .ok (.anewarray 16, 3) := dk_189 0 16 (dk_at dksX1_init_2 8 rfl rfl)
theorem dX1_init_57 : decode cX1_init 57 = .ok (.putfield 40, 3) := dk_181 0 40 (dk_at dksX1_init_2 11 rfl rfl)
theorem dX1_init_60 : decode cX1_init 60 = .ok (.return_, 1) := dk_177 (dk_at dksX1_init_2 14 rfl rfl)
abbrev cX1_feed : ByteArray := prog_1_method_7_code
def yX1_feed : MethodName := ⟨RX1, "feed", "(IIIII)I"⟩
def dkwX1_feed_2 : List UInt8 := [172]
abbrev dktX1_feed_2 : List UInt8 := dkwX1_feed_2 ++ []
def dkwX1_feed_1 : List UInt8 := [182, 0, 66, 42, 29, 182, 0, 66, 42, 21, 4, 182, 0, 66, 42, 21, 5, 182, 0, 66, 42, 180, 0, 63]
abbrev dktX1_feed_1 : List UInt8 := dkwX1_feed_1 ++ dktX1_feed_2
def dkwX1_feed_0 : List UInt8 := [42, 180, 0, 63, 16, 20, 96, 17, 1, 144, 164, 0, 5, 2, 172, 42, 27, 182, 0, 66, 42, 28]
abbrev dktX1_feed_0 : List UInt8 := dkwX1_feed_0 ++ dktX1_feed_1
theorem dksX1_feed_0 : cX1_feed.data.toList.drop 0 = dktX1_feed_0 := by decide +kernel
theorem dksX1_feed_1 : cX1_feed.data.toList.drop 22 = dktX1_feed_1 := dk_seg dksX1_feed_0 22 rfl rfl
theorem dksX1_feed_2 : cX1_feed.data.toList.drop 46 = dktX1_feed_2 := dk_seg dksX1_feed_1 24 rfl rfl
theorem dX1_feed_0 : decode cX1_feed 0 = .ok (.aload_n 0, 1) := dk_42 (dk_at dksX1_feed_0 0 rfl rfl)
theorem dX1_feed_1 : decode cX1_feed 1 = .ok (.getfield 63, 3) := dk_180 0 63 (dk_at dksX1_feed_0 1 rfl rfl)
theorem dX1_feed_4 : decode cX1_feed 4 = .ok (.bipush 20, 2) := dk_16 20 (dk_at dksX1_feed_0 4 rfl rfl)
theorem dX1_feed_6 : decode cX1_feed 6 = .ok (.iadd, 1) := dk_96 (dk_at dksX1_feed_0 6 rfl rfl)
theorem dX1_feed_7 : decode cX1_feed 7 = .ok (.sipush 400, 3) := dk_17 1 144 (dk_at dksX1_feed_0 7 rfl rfl)
theorem dX1_feed_10 : decode cX1_feed 10 = .ok (.if_icmp .le 5, 3) := dk_164 0 5 (dk_at dksX1_feed_0 10 rfl rfl)
theorem dX1_feed_13 : decode cX1_feed 13 = .ok (.iconst (-1), 1) := dk_2 (dk_at dksX1_feed_0 13 rfl rfl)
theorem dX1_feed_14 : decode cX1_feed 14 = .ok (.ireturn, 1) := dk_172 (dk_at dksX1_feed_0 14 rfl rfl)
theorem dX1_feed_15 : decode cX1_feed 15 = .ok (.aload_n 0, 1) := dk_42 (dk_at dksX1_feed_0 15 rfl rfl)
theorem dX1_feed_16 : decode cX1_feed 16 = .ok (.iload_n 1, 1) := dk_27 (dk_at dksX1_feed_0 16 rfl rfl)
theorem dX1_feed_17 : decode cX1_feed 17 = .ok (.invokevirtual 66, 3) := dk_182 0 66 (dk_at dksX1_feed_0 17 rfl rfl)
theorem dX1_feed_20 : decode cX1_feed 20 = .ok (.aload_n 0, 1) := dk_42 (dk_at dksX1_feed_0 20 rfl rfl)
theorem dX1_feed_21 : decode cX1_feed 21 = .ok (.iload_n 2, 1) := dk_28 (dk_at dksX1_feed_0 21 rfl rfl)
theorem dX1_feed_22 : decode cX1_feed 22 = .ok (.invokevirtual 66, 3) := dk_182 0 66 (dk_at dksX1_feed_1 0 rfl rfl)
theorem dX1_feed_25 : decode cX1_feed 25 = .ok (.aload_n 0, 1) := dk_42 (dk_at dksX1_feed_1 3 rfl rfl)
theorem dX1_feed_26 : decode cX1_feed 26 = .ok (.iload_n 3, 1) := dk_29 (dk_at dksX1_feed_1 4 rfl rfl)
theorem dX1_feed_27 : decode cX1_feed 27 = .ok (.invokevirtual 66, 3) := dk_182 0 66 (dk_at dksX1_feed_1 5 rfl rfl)
theorem dX1_feed_30 : decode cX1_feed 30 = .ok (.aload_n 0, 1) := dk_42 (dk_at dksX1_feed_1 8 rfl rfl)
theorem dX1_feed_31 : decode cX1_feed 31 = .ok (.iload 4, 2) := dk_21 4 (dk_at dksX1_feed_1 9 rfl rfl)
theorem dX1_feed_33 : decode cX1_feed 33 = .ok (.invokevirtual 66, 3) := dk_182 0 66 (dk_at dksX1_feed_1 11 rfl rfl)
theorem dX1_feed_36 : decode cX1_feed 36 = .ok (.aload_n 0, 1) := dk_42 (dk_at dksX1_feed_1 14 rfl rfl)
theorem dX1_feed_37 : decode cX1_feed 37 = .ok (.iload 5, 2) := dk_21 5 (dk_at dksX1_feed_1 15 rfl rfl)
theorem dX1_feed_39 : decode cX1_feed 39 = .ok (.invokevirtual 66, 3) := dk_182 0 66 (dk_at dksX1_feed_1 17 rfl rfl)
theorem dX1_feed_42 : decode cX1_feed 42 = .ok (.aload_n 0, 1) := dk_42 (dk_at dksX1_feed_1 20 rfl rfl)
theorem dX1_feed_43 : decode cX1_feed 43 = .ok (.getfield 63, 3) := dk_180 0 63 (dk_at dksX1_feed_1 21 rfl rfl)
theorem dX1_feed_46 : decode cX1_feed 46 = .ok (.ireturn, 1) := dk_172 (dk_at dksX1_feed_2 0 rfl rfl)
abbrev cX1_put : ByteArray := prog_1_method_8_code
def yX1_put : MethodName := ⟨RX1, "put", "(I)V"⟩
def dkwX1_put_1 : List UInt8 := [180, 0, 63, 4, 96, 181, 0, 63, 132, 2, 248, 167, 255, 226, 177]
abbrev dktX1_put_1 : List UInt8 := dkwX1_put_1 ++ []
def dkwX1_put_0 : List UInt8 := [16, 24, 61, 28, 155, 0, 32, 42, 180, 0, 27, 42, 180, 0, 63, 27, 28, 122, 145, 84, 42, 89]
abbrev dktX1_put_0 : List UInt8 := dkwX1_put_0 ++ dktX1_put_1
theorem dksX1_put_0 : cX1_put.data.toList.drop 0 = dktX1_put_0 := by decide +kernel
theorem dksX1_put_1 : cX1_put.data.toList.drop 22 = dktX1_put_1 := dk_seg dksX1_put_0 22 rfl rfl
theorem dX1_put_0 : decode cX1_put 0 = .ok (.bipush 24, 2) := dk_16 24 (dk_at dksX1_put_0 0 rfl rfl)
theorem dX1_put_2 : decode cX1_put 2 = .ok (.istore_n 2, 1) := dk_61 (dk_at dksX1_put_0 2 rfl rfl)
theorem dX1_put_3 : decode cX1_put 3 = .ok (.iload_n 2, 1) := dk_28 (dk_at dksX1_put_0 3 rfl rfl)
theorem dX1_put_4 : decode cX1_put 4 = .ok (.ifCond .lt 32, 3) := dk_155 0 32 (dk_at dksX1_put_0 4 rfl rfl)
theorem dX1_put_7 : decode cX1_put 7 = .ok (.aload_n 0, 1) := dk_42 (dk_at dksX1_put_0 7 rfl rfl)
theorem dX1_put_8 : decode cX1_put 8 = .ok (.getfield 27, 3) := dk_180 0 27 (dk_at dksX1_put_0 8 rfl rfl)
theorem dX1_put_11 : decode cX1_put 11 = .ok (.aload_n 0, 1) := dk_42 (dk_at dksX1_put_0 11 rfl rfl)
theorem dX1_put_12 : decode cX1_put 12 = .ok (.getfield 63, 3) := dk_180 0 63 (dk_at dksX1_put_0 12 rfl rfl)
theorem dX1_put_15 : decode cX1_put 15 = .ok (.iload_n 1, 1) := dk_27 (dk_at dksX1_put_0 15 rfl rfl)
theorem dX1_put_16 : decode cX1_put 16 = .ok (.iload_n 2, 1) := dk_28 (dk_at dksX1_put_0 16 rfl rfl)
theorem dX1_put_17 : decode cX1_put 17 = .ok (.ishr, 1) := dk_122 (dk_at dksX1_put_0 17 rfl rfl)
theorem dX1_put_18 : decode cX1_put 18 = .ok (.i2b, 1) := dk_145 (dk_at dksX1_put_0 18 rfl rfl)
theorem dX1_put_19 : decode cX1_put 19 = .ok (.bastore, 1) := dk_84 (dk_at dksX1_put_0 19 rfl rfl)
theorem dX1_put_20 : decode cX1_put 20 = .ok (.aload_n 0, 1) := dk_42 (dk_at dksX1_put_0 20 rfl rfl)
theorem dX1_put_21 : decode cX1_put 21 = .ok (.dup, 1) := dk_89 (dk_at dksX1_put_0 21 rfl rfl)
theorem dX1_put_22 : decode cX1_put 22 = .ok (.getfield 63, 3) := dk_180 0 63 (dk_at dksX1_put_1 0 rfl rfl)
theorem dX1_put_25 : decode cX1_put 25 = .ok (.iconst 1, 1) := dk_4 (dk_at dksX1_put_1 3 rfl rfl)
theorem dX1_put_26 : decode cX1_put 26 = .ok (.iadd, 1) := dk_96 (dk_at dksX1_put_1 4 rfl rfl)
theorem dX1_put_27 : decode cX1_put 27 = .ok (.putfield 63, 3) := dk_181 0 63 (dk_at dksX1_put_1 5 rfl rfl)
theorem dX1_put_30 : decode cX1_put 30 = .ok (.iinc 2 (-8), 3) := dk_132 2 248 (dk_at dksX1_put_1 8 rfl rfl)
theorem dX1_put_33 : decode cX1_put 33 = .ok (.goto (-30), 3) := dk_167 255 226 (dk_at dksX1_put_1 11 rfl rfl)
theorem dX1_put_36 : decode cX1_put 36 = .ok (.return_, 1) := dk_177 (dk_at dksX1_put_1 14 rfl rfl)
abbrev cX1_fault : ByteArray := prog_1_method_11_code
def yX1_fault : MethodName := ⟨RX1, "fault", "()I"⟩
theorem dX1_fault_0 : decode cX1_fault 0 = .ok (.aload_n 0, 1) := by decide +kernel
theorem dX1_fault_1 : decode cX1_fault 1 = .ok (.getfield 23, 3) := by decide +kernel
theorem dX1_fault_4 : decode cX1_fault 4 = .ok (.ireturn, 1) := by decide +kernel
abbrev cX1_image : ByteArray := prog_1_method_49_code
def yX1_image : MethodName := ⟨RX1, "image", "()I"⟩
def dkwX1_image_1 : List UInt8 := [182, 1, 61, 83, 42, 89, 180, 1, 58, 4, 96, 181, 1, 58, 42, 180, 1, 58, 172]
abbrev dktX1_image_1 : List UInt8 := dkwX1_image_1 ++ []
def dkwX1_image_0 : List UInt8 := [42, 180, 1, 58, 6, 160, 0, 5, 2, 172, 42, 180, 0, 40, 42, 180, 1, 58, 42, 180, 0, 19]
abbrev dktX1_image_0 : List UInt8 := dkwX1_image_0 ++ dktX1_image_1
theorem dksX1_image_0 : cX1_image.data.toList.drop 0 = dktX1_image_0 := by decide +kernel
theorem dksX1_image_1 : cX1_image.data.toList.drop 22 = dktX1_image_1 := dk_seg dksX1_image_0 22 rfl rfl
theorem dX1_image_0 : decode cX1_image 0 = .ok (.aload_n 0, 1) := dk_42 (dk_at dksX1_image_0 0 rfl rfl)
theorem dX1_image_1 : decode cX1_image 1 = .ok (.getfield 314, 3) := dk_180 1 58 (dk_at dksX1_image_0 1 rfl rfl)
theorem dX1_image_4 : decode cX1_image 4 = .ok (.iconst 3, 1) := dk_6 (dk_at dksX1_image_0 4 rfl rfl)
theorem dX1_image_5 : decode cX1_image 5 = .ok (.if_icmp .ne 5, 3) := dk_160 0 5 (dk_at dksX1_image_0 5 rfl rfl)
theorem dX1_image_8 : decode cX1_image 8 = .ok (.iconst (-1), 1) := dk_2 (dk_at dksX1_image_0 8 rfl rfl)
theorem dX1_image_9 : decode cX1_image 9 = .ok (.ireturn, 1) := dk_172 (dk_at dksX1_image_0 9 rfl rfl)
theorem dX1_image_10 : decode cX1_image 10 = .ok (.aload_n 0, 1) := dk_42 (dk_at dksX1_image_0 10 rfl rfl)
theorem dX1_image_11 : decode cX1_image 11 = .ok (.getfield 40, 3) := dk_180 0 40 (dk_at dksX1_image_0 11 rfl rfl)
theorem dX1_image_14 : decode cX1_image 14 = .ok (.aload_n 0, 1) := dk_42 (dk_at dksX1_image_0 14 rfl rfl)
theorem dX1_image_15 : decode cX1_image 15 = .ok (.getfield 314, 3) := dk_180 1 58 (dk_at dksX1_image_0 15 rfl rfl)
theorem dX1_image_18 : decode cX1_image 18 = .ok (.aload_n 0, 1) := dk_42 (dk_at dksX1_image_0 18 rfl rfl)
theorem dX1_image_19 : decode cX1_image 19 = .ok (.getfield 19, 3) := dk_180 0 19 (dk_at dksX1_image_0 19 rfl rfl)
theorem dX1_image_22 : decode cX1_image 22 = .ok (.invokevirtual 317, 3) := dk_182 1 61 (dk_at dksX1_image_1 0 rfl rfl)
theorem dX1_image_25 : decode cX1_image 25 = .ok (.aastore, 1) := dk_83 (dk_at dksX1_image_1 3 rfl rfl)
theorem dX1_image_26 : decode cX1_image 26 = .ok (.aload_n 0, 1) := dk_42 (dk_at dksX1_image_1 4 rfl rfl)
theorem dX1_image_27 : decode cX1_image 27 = .ok (.dup, 1) := dk_89 (dk_at dksX1_image_1 5 rfl rfl)
theorem dX1_image_28 : decode cX1_image 28 = .ok (.getfield 314, 3) := dk_180 1 58 (dk_at dksX1_image_1 6 rfl rfl)
theorem dX1_image_31 : decode cX1_image 31 = .ok (.iconst 1, 1) := dk_4 (dk_at dksX1_image_1 9 rfl rfl)
theorem dX1_image_32 : decode cX1_image 32 = .ok (.iadd, 1) := dk_96 (dk_at dksX1_image_1 10 rfl rfl)
theorem dX1_image_33 : decode cX1_image 33 = .ok (.putfield 314, 3) := dk_181 1 58 (dk_at dksX1_image_1 11 rfl rfl)
theorem dX1_image_36 : decode cX1_image 36 = .ok (.aload_n 0, 1) := dk_42 (dk_at dksX1_image_1 14 rfl rfl)
theorem dX1_image_37 : decode cX1_image 37 = .ok (.getfield 314, 3) := dk_180 1 58 (dk_at dksX1_image_1 15 rfl rfl)
theorem dX1_image_40 : decode cX1_image 40 = .ok (.ireturn, 1) := dk_172 (dk_at dksX1_image_1 18 rfl rfl)
abbrev cX1_restore : ByteArray := prog_1_method_50_code
def yX1_restore : MethodName := ⟨RX1, "restore", "()I"⟩
def dkwX1_restore_1 : List UInt8 := [42, 180, 1, 58, 50, 181, 0, 19, 42, 180, 0, 40, 42, 180, 1, 58, 1, 83, 42, 180, 1, 58, 172]
abbrev dktX1_restore_1 : List UInt8 := dkwX1_restore_1 ++ []
def dkwX1_restore_0 : List UInt8 := [42, 180, 1, 58, 154, 0, 5, 2, 172, 42, 89, 180, 1, 58, 4, 100, 181, 1, 58, 42, 42, 180, 0, 40]
abbrev dktX1_restore_0 : List UInt8 := dkwX1_restore_0 ++ dktX1_restore_1
theorem dksX1_restore_0 : cX1_restore.data.toList.drop 0 = dktX1_restore_0 := by decide +kernel
theorem dksX1_restore_1 : cX1_restore.data.toList.drop 24 = dktX1_restore_1 := dk_seg dksX1_restore_0 24 rfl rfl
theorem dX1_restore_0 : decode cX1_restore 0 = .ok (.aload_n 0, 1) := dk_42 (dk_at dksX1_restore_0 0 rfl rfl)
theorem dX1_restore_1 : decode cX1_restore 1 = .ok (.getfield 314, 3) := dk_180 1 58 (dk_at dksX1_restore_0 1 rfl rfl)
theorem dX1_restore_4 : decode cX1_restore 4 = .ok (.ifCond .ne 5, 3) := dk_154 0 5 (dk_at dksX1_restore_0 4 rfl rfl)
theorem dX1_restore_7 : decode cX1_restore 7 = .ok (.iconst (-1), 1) := dk_2 (dk_at dksX1_restore_0 7 rfl rfl)
theorem dX1_restore_8 : decode cX1_restore 8 = .ok (.ireturn, 1) := dk_172 (dk_at dksX1_restore_0 8 rfl rfl)
theorem dX1_restore_9 : decode cX1_restore 9 = .ok (.aload_n 0, 1) := dk_42 (dk_at dksX1_restore_0 9 rfl rfl)
theorem dX1_restore_10 : decode cX1_restore 10 = .ok (.dup, 1) := dk_89 (dk_at dksX1_restore_0 10 rfl rfl)
theorem dX1_restore_11 : decode cX1_restore 11 = .ok (.getfield 314, 3) := dk_180 1 58 (dk_at dksX1_restore_0 11 rfl rfl)
theorem dX1_restore_14 : decode cX1_restore 14 = .ok (.iconst 1, 1) := dk_4 (dk_at dksX1_restore_0 14 rfl rfl)
theorem dX1_restore_15 : decode cX1_restore 15 = .ok (.isub, 1) := dk_100 (dk_at dksX1_restore_0 15 rfl rfl)
theorem dX1_restore_16 : decode cX1_restore 16 = .ok (.putfield 314, 3) := dk_181 1 58 (dk_at dksX1_restore_0 16 rfl rfl)
theorem dX1_restore_19 : decode cX1_restore 19 = .ok (.aload_n 0, 1) := dk_42 (dk_at dksX1_restore_0 19 rfl rfl)
theorem dX1_restore_20 : decode cX1_restore 20 = .ok (.aload_n 0, 1) := dk_42 (dk_at dksX1_restore_0 20 rfl rfl)
theorem dX1_restore_21 : decode cX1_restore 21 = .ok (.getfield 40, 3) := dk_180 0 40 (dk_at dksX1_restore_0 21 rfl rfl)
theorem dX1_restore_24 : decode cX1_restore 24 = .ok (.aload_n 0, 1) := dk_42 (dk_at dksX1_restore_1 0 rfl rfl)
theorem dX1_restore_25 : decode cX1_restore 25 = .ok (.getfield 314, 3) := dk_180 1 58 (dk_at dksX1_restore_1 1 rfl rfl)
theorem dX1_restore_28 : decode cX1_restore 28 = .ok (.aaload, 1) := dk_50 (dk_at dksX1_restore_1 4 rfl rfl)
theorem dX1_restore_29 : decode cX1_restore 29 = .ok (.putfield 19, 3) := dk_181 0 19 (dk_at dksX1_restore_1 5 rfl rfl)
theorem dX1_restore_32 : decode cX1_restore 32 = .ok (.aload_n 0, 1) := dk_42 (dk_at dksX1_restore_1 8 rfl rfl)
theorem dX1_restore_33 : decode cX1_restore 33 = .ok (.getfield 40, 3) := dk_180 0 40 (dk_at dksX1_restore_1 9 rfl rfl)
theorem dX1_restore_36 : decode cX1_restore 36 = .ok (.aload_n 0, 1) := dk_42 (dk_at dksX1_restore_1 12 rfl rfl)
theorem dX1_restore_37 : decode cX1_restore 37 = .ok (.getfield 314, 3) := dk_180 1 58 (dk_at dksX1_restore_1 13 rfl rfl)
theorem dX1_restore_40 : decode cX1_restore 40 = .ok (.aconst_null, 1) := dk_1 (dk_at dksX1_restore_1 16 rfl rfl)
theorem dX1_restore_41 : decode cX1_restore 41 = .ok (.aastore, 1) := dk_83 (dk_at dksX1_restore_1 17 rfl rfl)
theorem dX1_restore_42 : decode cX1_restore 42 = .ok (.aload_n 0, 1) := dk_42 (dk_at dksX1_restore_1 18 rfl rfl)
theorem dX1_restore_43 : decode cX1_restore 43 = .ok (.getfield 314, 3) := dk_180 1 58 (dk_at dksX1_restore_1 19 rfl rfl)
theorem dX1_restore_46 : decode cX1_restore 46 = .ok (.ireturn, 1) := dk_172 (dk_at dksX1_restore_1 22 rfl rfl)
abbrev cX1_count : ByteArray := prog_1_method_51_code
def yX1_count : MethodName := ⟨RX1, "count", "(I)I"⟩
def dkwX1_count_4 : List UInt8 := [180, 1, 58, 172, 42, 180, 0, 63, 172, 2, 172]
abbrev dktX1_count_4 : List UInt8 := dkwX1_count_4 ++ []
def dkwX1_count_3 : List UInt8 := [182, 0, 47, 172, 42, 180, 0, 19, 180, 1, 2, 172, 42, 180, 0, 19, 180, 1, 11, 182, 0, 47, 172, 42]
abbrev dktX1_count_3 : List UInt8 := dkwX1_count_3 ++ dktX1_count_4
def dkwX1_count_2 : List UInt8 := [42, 180, 0, 10, 180, 0, 81, 172, 42, 180, 0, 36, 182, 0, 47, 172, 42, 180, 0, 19, 180, 0, 152]
abbrev dktX1_count_2 : List UInt8 := dkwX1_count_2 ++ dktX1_count_3
def dkwX1_count_1 : List UInt8 := [170, 0, 0, 0, 0, 0, 99, 0, 0, 0, 0, 0, 0, 0, 6, 0, 0, 0, 43, 0, 0, 0, 51, 0, 0, 0, 59, 0, 0, 0, 70, 0, 0, 0, 78, 0, 0, 0, 89, 0, 0, 0, 94]
abbrev dktX1_count_1 : List UInt8 := dkwX1_count_1 ++ dktX1_count_2
def dkwX1_count_0 : List UInt8 := [27]
abbrev dktX1_count_0 : List UInt8 := dkwX1_count_0 ++ dktX1_count_1
theorem dksX1_count_0 : cX1_count.data.toList.drop 0 = dktX1_count_0 := by decide +kernel
theorem dksX1_count_1 : cX1_count.data.toList.drop 1 = dktX1_count_1 := dk_seg dksX1_count_0 1 rfl rfl
theorem dksX1_count_2 : cX1_count.data.toList.drop 44 = dktX1_count_2 := dk_seg dksX1_count_1 43 rfl rfl
theorem dksX1_count_3 : cX1_count.data.toList.drop 67 = dktX1_count_3 := dk_seg dksX1_count_2 23 rfl rfl
theorem dksX1_count_4 : cX1_count.data.toList.drop 91 = dktX1_count_4 := dk_seg dksX1_count_3 24 rfl rfl
theorem dX1_count_0 : decode cX1_count 0 = .ok (.iload_n 1, 1) := dk_27 (dk_at dksX1_count_0 0 rfl rfl)
theorem dX1_count_1 : decode cX1_count 1 = .ok (.tableswitch 99 0 6 #[43, 51, 59, 70, 78, 89, 94], 43) := by decide +kernel
theorem dX1_count_44 : decode cX1_count 44 = .ok (.aload_n 0, 1) := dk_42 (dk_at dksX1_count_2 0 rfl rfl)
theorem dX1_count_45 : decode cX1_count 45 = .ok (.getfield 10, 3) := dk_180 0 10 (dk_at dksX1_count_2 1 rfl rfl)
theorem dX1_count_48 : decode cX1_count 48 = .ok (.getfield 81, 3) := dk_180 0 81 (dk_at dksX1_count_2 4 rfl rfl)
theorem dX1_count_51 : decode cX1_count 51 = .ok (.ireturn, 1) := dk_172 (dk_at dksX1_count_2 7 rfl rfl)
theorem dX1_count_52 : decode cX1_count 52 = .ok (.aload_n 0, 1) := dk_42 (dk_at dksX1_count_2 8 rfl rfl)
theorem dX1_count_53 : decode cX1_count 53 = .ok (.getfield 36, 3) := dk_180 0 36 (dk_at dksX1_count_2 9 rfl rfl)
theorem dX1_count_56 : decode cX1_count 56 = .ok (.invokevirtual 47, 3) := dk_182 0 47 (dk_at dksX1_count_2 12 rfl rfl)
theorem dX1_count_59 : decode cX1_count 59 = .ok (.ireturn, 1) := dk_172 (dk_at dksX1_count_2 15 rfl rfl)
theorem dX1_count_60 : decode cX1_count 60 = .ok (.aload_n 0, 1) := dk_42 (dk_at dksX1_count_2 16 rfl rfl)
theorem dX1_count_61 : decode cX1_count 61 = .ok (.getfield 19, 3) := dk_180 0 19 (dk_at dksX1_count_2 17 rfl rfl)
theorem dX1_count_64 : decode cX1_count 64 = .ok (.getfield 152, 3) := dk_180 0 152 (dk_at dksX1_count_2 20 rfl rfl)
theorem dX1_count_67 : decode cX1_count 67 = .ok (.invokevirtual 47, 3) := dk_182 0 47 (dk_at dksX1_count_3 0 rfl rfl)
theorem dX1_count_70 : decode cX1_count 70 = .ok (.ireturn, 1) := dk_172 (dk_at dksX1_count_3 3 rfl rfl)
theorem dX1_count_71 : decode cX1_count 71 = .ok (.aload_n 0, 1) := dk_42 (dk_at dksX1_count_3 4 rfl rfl)
theorem dX1_count_72 : decode cX1_count 72 = .ok (.getfield 19, 3) := dk_180 0 19 (dk_at dksX1_count_3 5 rfl rfl)
theorem dX1_count_75 : decode cX1_count 75 = .ok (.getfield 258, 3) := dk_180 1 2 (dk_at dksX1_count_3 8 rfl rfl)
theorem dX1_count_78 : decode cX1_count 78 = .ok (.ireturn, 1) := dk_172 (dk_at dksX1_count_3 11 rfl rfl)
theorem dX1_count_79 : decode cX1_count 79 = .ok (.aload_n 0, 1) := dk_42 (dk_at dksX1_count_3 12 rfl rfl)
theorem dX1_count_80 : decode cX1_count 80 = .ok (.getfield 19, 3) := dk_180 0 19 (dk_at dksX1_count_3 13 rfl rfl)
theorem dX1_count_83 : decode cX1_count 83 = .ok (.getfield 267, 3) := dk_180 1 11 (dk_at dksX1_count_3 16 rfl rfl)
theorem dX1_count_86 : decode cX1_count 86 = .ok (.invokevirtual 47, 3) := dk_182 0 47 (dk_at dksX1_count_3 19 rfl rfl)
theorem dX1_count_89 : decode cX1_count 89 = .ok (.ireturn, 1) := dk_172 (dk_at dksX1_count_3 22 rfl rfl)
theorem dX1_count_90 : decode cX1_count 90 = .ok (.aload_n 0, 1) := dk_42 (dk_at dksX1_count_3 23 rfl rfl)
theorem dX1_count_91 : decode cX1_count 91 = .ok (.getfield 314, 3) := dk_180 1 58 (dk_at dksX1_count_4 0 rfl rfl)
theorem dX1_count_94 : decode cX1_count 94 = .ok (.ireturn, 1) := dk_172 (dk_at dksX1_count_4 3 rfl rfl)
theorem dX1_count_95 : decode cX1_count 95 = .ok (.aload_n 0, 1) := dk_42 (dk_at dksX1_count_4 4 rfl rfl)
theorem dX1_count_96 : decode cX1_count 96 = .ok (.getfield 63, 3) := dk_180 0 63 (dk_at dksX1_count_4 5 rfl rfl)
theorem dX1_count_99 : decode cX1_count 99 = .ok (.ireturn, 1) := dk_172 (dk_at dksX1_count_4 8 rfl rfl)
theorem dX1_count_100 : decode cX1_count 100 = .ok (.iconst (-1), 1) := dk_2 (dk_at dksX1_count_4 9 rfl rfl)
theorem dX1_count_101 : decode cX1_count 101 = .ok (.ireturn, 1) := dk_172 (dk_at dksX1_count_4 10 rfl rfl)
abbrev cX1_law : ByteArray := prog_1_method_9_code
def yX1_law : MethodName := ⟨RX1, "law", "(I)I"⟩
def dkwX1_law_3 : List UInt8 := [180, 0, 89, 16, 10, 100, 62, 42, 3, 181, 0, 63, 29, 172, 58, 4, 42, 3, 181, 0, 63, 25, 4, 191]
abbrev dktX1_law_3 : List UInt8 := dkwX1_law_3 ++ []
def dkwX1_law_2 : List UInt8 := [180, 0, 10, 180, 0, 81, 61, 42, 3, 181, 0, 63, 28, 172, 77, 42, 44, 180, 0, 86, 181, 0, 23, 44]
abbrev dktX1_law_2 : List UInt8 := dkwX1_law_2 ++ dktX1_law_3
def dkwX1_law_1 : List UInt8 := [181, 0, 23, 42, 187, 0, 73, 89, 42, 180, 0, 27, 27, 183, 0, 75, 182, 0, 78, 181, 0, 10, 42]
abbrev dktX1_law_1 : List UInt8 := dkwX1_law_1 ++ dktX1_law_2
def dkwX1_law_0 : List UInt8 := [27, 155, 0, 15, 27, 42, 180, 0, 63, 163, 0, 7, 4, 167, 0, 4, 3, 184, 0, 69, 42, 2]
abbrev dktX1_law_0 : List UInt8 := dkwX1_law_0 ++ dktX1_law_1
theorem dksX1_law_0 : cX1_law.data.toList.drop 0 = dktX1_law_0 := by decide +kernel
theorem dksX1_law_1 : cX1_law.data.toList.drop 22 = dktX1_law_1 := dk_seg dksX1_law_0 22 rfl rfl
theorem dksX1_law_2 : cX1_law.data.toList.drop 45 = dktX1_law_2 := dk_seg dksX1_law_1 23 rfl rfl
theorem dksX1_law_3 : cX1_law.data.toList.drop 69 = dktX1_law_3 := dk_seg dksX1_law_2 24 rfl rfl
theorem dX1_law_0 : decode cX1_law 0 = .ok (.iload_n 1, 1) := dk_27 (dk_at dksX1_law_0 0 rfl rfl)
theorem dX1_law_1 : decode cX1_law 1 = .ok (.ifCond .lt 15, 3) := dk_155 0 15 (dk_at dksX1_law_0 1 rfl rfl)
theorem dX1_law_4 : decode cX1_law 4 = .ok (.iload_n 1, 1) := dk_27 (dk_at dksX1_law_0 4 rfl rfl)
theorem dX1_law_5 : decode cX1_law 5 = .ok (.aload_n 0, 1) := dk_42 (dk_at dksX1_law_0 5 rfl rfl)
theorem dX1_law_6 : decode cX1_law 6 = .ok (.getfield 63, 3) := dk_180 0 63 (dk_at dksX1_law_0 6 rfl rfl)
theorem dX1_law_9 : decode cX1_law 9 = .ok (.if_icmp .gt 7, 3) := dk_163 0 7 (dk_at dksX1_law_0 9 rfl rfl)
theorem dX1_law_12 : decode cX1_law 12 = .ok (.iconst 1, 1) := dk_4 (dk_at dksX1_law_0 12 rfl rfl)
theorem dX1_law_13 : decode cX1_law 13 = .ok (.goto 4, 3) := dk_167 0 4 (dk_at dksX1_law_0 13 rfl rfl)
theorem dX1_law_16 : decode cX1_law 16 = .ok (.iconst 0, 1) := dk_3 (dk_at dksX1_law_0 16 rfl rfl)
theorem dX1_law_17 : decode cX1_law 17 = .ok (.invokestatic 69, 3) := dk_184 0 69 (dk_at dksX1_law_0 17 rfl rfl)
theorem dX1_law_20 : decode cX1_law 20 = .ok (.aload_n 0, 1) := dk_42 (dk_at dksX1_law_0 20 rfl rfl)
theorem dX1_law_21 : decode cX1_law 21 = .ok (.iconst (-1), 1) := dk_2 (dk_at dksX1_law_0 21 rfl rfl)
theorem dX1_law_22 : decode cX1_law 22 = .ok (.putfield 23, 3) := dk_181 0 23 (dk_at dksX1_law_1 0 rfl rfl)
theorem dX1_law_25 : decode cX1_law 25 = .ok (.aload_n 0, 1) := dk_42 (dk_at dksX1_law_1 3 rfl rfl)
theorem dX1_law_26 : decode cX1_law 26 = .ok (.new 73, 3) := dk_187 0 73 (dk_at dksX1_law_1 4 rfl rfl)
theorem dX1_law_29 : decode cX1_law 29 = .ok (.dup, 1) := dk_89 (dk_at dksX1_law_1 7 rfl rfl)
theorem dX1_law_30 : decode cX1_law 30 = .ok (.aload_n 0, 1) := dk_42 (dk_at dksX1_law_1 8 rfl rfl)
theorem dX1_law_31 : decode cX1_law 31 = .ok (.getfield 27, 3) := dk_180 0 27 (dk_at dksX1_law_1 9 rfl rfl)
theorem dX1_law_34 : decode cX1_law 34 = .ok (.iload_n 1, 1) := dk_27 (dk_at dksX1_law_1 12 rfl rfl)
theorem dX1_law_35 : decode cX1_law 35 = .ok (.invokespecial 75, 3) := dk_183 0 75 (dk_at dksX1_law_1 13 rfl rfl)
theorem dX1_law_38 : decode cX1_law 38 = .ok (.invokevirtual 78, 3) := dk_182 0 78 (dk_at dksX1_law_1 16 rfl rfl)
theorem dX1_law_41 : decode cX1_law 41 = .ok (.putfield 10, 3) := dk_181 0 10 (dk_at dksX1_law_1 19 rfl rfl)
theorem dX1_law_44 : decode cX1_law 44 = .ok (.aload_n 0, 1) := dk_42 (dk_at dksX1_law_1 22 rfl rfl)
theorem dX1_law_45 : decode cX1_law 45 = .ok (.getfield 10, 3) := dk_180 0 10 (dk_at dksX1_law_2 0 rfl rfl)
theorem dX1_law_48 : decode cX1_law 48 = .ok (.getfield 81, 3) := dk_180 0 81 (dk_at dksX1_law_2 3 rfl rfl)
theorem dX1_law_51 : decode cX1_law 51 = .ok (.istore_n 2, 1) := dk_61 (dk_at dksX1_law_2 6 rfl rfl)
theorem dX1_law_52 : decode cX1_law 52 = .ok (.aload_n 0, 1) := dk_42 (dk_at dksX1_law_2 7 rfl rfl)
theorem dX1_law_53 : decode cX1_law 53 = .ok (.iconst 0, 1) := dk_3 (dk_at dksX1_law_2 8 rfl rfl)
theorem dX1_law_54 : decode cX1_law 54 = .ok (.putfield 63, 3) := dk_181 0 63 (dk_at dksX1_law_2 9 rfl rfl)
theorem dX1_law_57 : decode cX1_law 57 = .ok (.iload_n 2, 1) := dk_28 (dk_at dksX1_law_2 12 rfl rfl)
theorem dX1_law_58 : decode cX1_law 58 = .ok (.ireturn, 1) := dk_172 (dk_at dksX1_law_2 13 rfl rfl)
theorem dX1_law_59 : decode cX1_law 59 = .ok (.astore_n 2, 1) := dk_77 (dk_at dksX1_law_2 14 rfl rfl)
theorem dX1_law_60 : decode cX1_law 60 = .ok (.aload_n 0, 1) := dk_42 (dk_at dksX1_law_2 15 rfl rfl)
theorem dX1_law_61 : decode cX1_law 61 = .ok (.aload_n 2, 1) := dk_44 (dk_at dksX1_law_2 16 rfl rfl)
theorem dX1_law_62 : decode cX1_law 62 = .ok (.getfield 86, 3) := dk_180 0 86 (dk_at dksX1_law_2 17 rfl rfl)
theorem dX1_law_65 : decode cX1_law 65 = .ok (.putfield 23, 3) := dk_181 0 23 (dk_at dksX1_law_2 20 rfl rfl)
theorem dX1_law_68 : decode cX1_law 68 = .ok (.aload_n 2, 1) := dk_44 (dk_at dksX1_law_2 23 rfl rfl)
theorem dX1_law_69 : decode cX1_law 69 = .ok (.getfield 89, 3) := dk_180 0 89 (dk_at dksX1_law_3 0 rfl rfl)
theorem dX1_law_72 : decode cX1_law 72 = .ok (.bipush 10, 2) := dk_16 10 (dk_at dksX1_law_3 3 rfl rfl)
theorem dX1_law_74 : decode cX1_law 74 = .ok (.isub, 1) := dk_100 (dk_at dksX1_law_3 5 rfl rfl)
theorem dX1_law_75 : decode cX1_law 75 = .ok (.istore_n 3, 1) := dk_62 (dk_at dksX1_law_3 6 rfl rfl)
theorem dX1_law_76 : decode cX1_law 76 = .ok (.aload_n 0, 1) := dk_42 (dk_at dksX1_law_3 7 rfl rfl)
theorem dX1_law_77 : decode cX1_law 77 = .ok (.iconst 0, 1) := dk_3 (dk_at dksX1_law_3 8 rfl rfl)
theorem dX1_law_78 : decode cX1_law 78 = .ok (.putfield 63, 3) := dk_181 0 63 (dk_at dksX1_law_3 9 rfl rfl)
theorem dX1_law_81 : decode cX1_law 81 = .ok (.iload_n 3, 1) := dk_29 (dk_at dksX1_law_3 12 rfl rfl)
theorem dX1_law_82 : decode cX1_law 82 = .ok (.ireturn, 1) := dk_172 (dk_at dksX1_law_3 13 rfl rfl)
theorem dX1_law_83 : decode cX1_law 83 = .ok (.astore 4, 2) := dk_58 4 (dk_at dksX1_law_3 14 rfl rfl)
theorem dX1_law_85 : decode cX1_law 85 = .ok (.aload_n 0, 1) := dk_42 (dk_at dksX1_law_3 16 rfl rfl)
theorem dX1_law_86 : decode cX1_law 86 = .ok (.iconst 0, 1) := dk_3 (dk_at dksX1_law_3 17 rfl rfl)
theorem dX1_law_87 : decode cX1_law 87 = .ok (.putfield 63, 3) := dk_181 0 63 (dk_at dksX1_law_3 18 rfl rfl)
theorem dX1_law_90 : decode cX1_law 90 = .ok (.aload 4, 2) := dk_25 4 (dk_at dksX1_law_3 21 rfl rfl)
theorem dX1_law_92 : decode cX1_law 92 = .ok (.athrow, 1) := dk_191 (dk_at dksX1_law_3 23 rfl rfl)
abbrev cX1_need : ByteArray := prog_1_method_2_code
def yX1_need : MethodName := ⟨RX1, "need", "(Z)V"⟩
def dkwX1_need_0 : List UInt8 := [26, 154, 0, 11, 187, 0, 44, 89, 183, 0, 46, 191, 177]
abbrev dktX1_need_0 : List UInt8 := dkwX1_need_0 ++ []
theorem dksX1_need_0 : cX1_need.data.toList.drop 0 = dktX1_need_0 := by decide +kernel
theorem dX1_need_0 : decode cX1_need 0 = .ok (.iload_n 0, 1) := dk_26 (dk_at dksX1_need_0 0 rfl rfl)
theorem dX1_need_1 : decode cX1_need 1 = .ok (.ifCond .ne 11, 3) := dk_154 0 11 (dk_at dksX1_need_0 1 rfl rfl)
theorem dX1_need_4 : decode cX1_need 4 = .ok (.new 44, 3) := dk_187 0 44 (dk_at dksX1_need_0 4 rfl rfl)
theorem dX1_need_7 : decode cX1_need 7 = .ok (.dup, 1) := dk_89 (dk_at dksX1_need_0 7 rfl rfl)
theorem dX1_need_8 : decode cX1_need 8 = .ok (.invokespecial 46, 3) := dk_183 0 46 (dk_at dksX1_need_0 8 rfl rfl)
theorem dX1_need_11 : decode cX1_need 11 = .ok (.athrow, 1) := dk_191 (dk_at dksX1_need_0 11 rfl rfl)
theorem dX1_need_12 : decode cX1_need 12 = .ok (.return_, 1) := dk_177 (dk_at dksX1_need_0 12 rfl rfl)
abbrev cX1_story : ByteArray := prog_1_method_10_code
def yX1_story : MethodName := ⟨RX1, "story", "(I)I"⟩
def dkwX1_story_5 : List UInt8 := [3, 181, 0, 63, 25, 4, 191]
abbrev dktX1_story_5 : List UInt8 := dkwX1_story_5 ++ []
def dkwX1_story_4 : List UInt8 := [180, 0, 86, 181, 0, 23, 44, 180, 0, 89, 16, 10, 100, 62, 42, 3, 181, 0, 63, 29, 172, 58, 4, 42]
abbrev dktX1_story_4 : List UInt8 := dkwX1_story_4 ++ dktX1_story_5
def dkwX1_story_3 : List UInt8 := [182, 0, 96, 87, 42, 180, 0, 36, 182, 0, 47, 4, 100, 61, 42, 3, 181, 0, 63, 28, 172, 77, 42, 44]
abbrev dktX1_story_3 : List UInt8 := dkwX1_story_3 ++ dktX1_story_4
def dkwX1_story_2 : List UInt8 := [181, 0, 63, 28, 172, 42, 180, 0, 36, 187, 0, 73, 89, 42, 180, 0, 27, 27, 183, 0, 75, 182, 0, 92]
abbrev dktX1_story_2 : List UInt8 := dkwX1_story_2 ++ dktX1_story_3
def dkwX1_story_1 : List UInt8 := [184, 0, 69, 42, 2, 181, 0, 23, 42, 180, 0, 36, 182, 0, 47, 7, 160, 0, 12, 2, 61, 42, 3]
abbrev dktX1_story_1 : List UInt8 := dkwX1_story_1 ++ dktX1_story_2
def dkwX1_story_0 : List UInt8 := [27, 155, 0, 22, 27, 42, 180, 0, 63, 163, 0, 14, 27, 17, 1, 44, 163, 0, 7, 4, 167, 0, 4, 3]
abbrev dktX1_story_0 : List UInt8 := dkwX1_story_0 ++ dktX1_story_1
theorem dksX1_story_0 : cX1_story.data.toList.drop 0 = dktX1_story_0 := by decide +kernel
theorem dksX1_story_1 : cX1_story.data.toList.drop 24 = dktX1_story_1 := dk_seg dksX1_story_0 24 rfl rfl
theorem dksX1_story_2 : cX1_story.data.toList.drop 47 = dktX1_story_2 := dk_seg dksX1_story_1 23 rfl rfl
theorem dksX1_story_3 : cX1_story.data.toList.drop 71 = dktX1_story_3 := dk_seg dksX1_story_2 24 rfl rfl
theorem dksX1_story_4 : cX1_story.data.toList.drop 95 = dktX1_story_4 := dk_seg dksX1_story_3 24 rfl rfl
theorem dksX1_story_5 : cX1_story.data.toList.drop 119 = dktX1_story_5 := dk_seg dksX1_story_4 24 rfl rfl
theorem dX1_story_0 : decode cX1_story 0 = .ok (.iload_n 1, 1) := dk_27 (dk_at dksX1_story_0 0 rfl rfl)
theorem dX1_story_1 : decode cX1_story 1 = .ok (.ifCond .lt 22, 3) := dk_155 0 22 (dk_at dksX1_story_0 1 rfl rfl)
theorem dX1_story_4 : decode cX1_story 4 = .ok (.iload_n 1, 1) := dk_27 (dk_at dksX1_story_0 4 rfl rfl)
theorem dX1_story_5 : decode cX1_story 5 = .ok (.aload_n 0, 1) := dk_42 (dk_at dksX1_story_0 5 rfl rfl)
theorem dX1_story_6 : decode cX1_story 6 = .ok (.getfield 63, 3) := dk_180 0 63 (dk_at dksX1_story_0 6 rfl rfl)
theorem dX1_story_9 : decode cX1_story 9 = .ok (.if_icmp .gt 14, 3) := dk_163 0 14 (dk_at dksX1_story_0 9 rfl rfl)
theorem dX1_story_12 : decode cX1_story 12 = .ok (.iload_n 1, 1) := dk_27 (dk_at dksX1_story_0 12 rfl rfl)
theorem dX1_story_13 : decode cX1_story 13 = .ok (.sipush 300, 3) := dk_17 1 44 (dk_at dksX1_story_0 13 rfl rfl)
theorem dX1_story_16 : decode cX1_story 16 = .ok (.if_icmp .gt 7, 3) := dk_163 0 7 (dk_at dksX1_story_0 16 rfl rfl)
theorem dX1_story_19 : decode cX1_story 19 = .ok (.iconst 1, 1) := dk_4 (dk_at dksX1_story_0 19 rfl rfl)
theorem dX1_story_20 : decode cX1_story 20 = .ok (.goto 4, 3) := dk_167 0 4 (dk_at dksX1_story_0 20 rfl rfl)
theorem dX1_story_23 : decode cX1_story 23 = .ok (.iconst 0, 1) := dk_3 (dk_at dksX1_story_0 23 rfl rfl)
theorem dX1_story_24 : decode cX1_story 24 = .ok (.invokestatic 69, 3) := dk_184 0 69 (dk_at dksX1_story_1 0 rfl rfl)
theorem dX1_story_27 : decode cX1_story 27 = .ok (.aload_n 0, 1) := dk_42 (dk_at dksX1_story_1 3 rfl rfl)
theorem dX1_story_28 : decode cX1_story 28 = .ok (.iconst (-1), 1) := dk_2 (dk_at dksX1_story_1 4 rfl rfl)
theorem dX1_story_29 : decode cX1_story 29 = .ok (.putfield 23, 3) := dk_181 0 23 (dk_at dksX1_story_1 5 rfl rfl)
theorem dX1_story_32 : decode cX1_story 32 = .ok (.aload_n 0, 1) := dk_42 (dk_at dksX1_story_1 8 rfl rfl)
theorem dX1_story_33 : decode cX1_story 33 = .ok (.getfield 36, 3) := dk_180 0 36 (dk_at dksX1_story_1 9 rfl rfl)
theorem dX1_story_36 : decode cX1_story 36 = .ok (.invokevirtual 47, 3) := dk_182 0 47 (dk_at dksX1_story_1 12 rfl rfl)
theorem dX1_story_39 : decode cX1_story 39 = .ok (.iconst 4, 1) := dk_7 (dk_at dksX1_story_1 15 rfl rfl)
theorem dX1_story_40 : decode cX1_story 40 = .ok (.if_icmp .ne 12, 3) := dk_160 0 12 (dk_at dksX1_story_1 16 rfl rfl)
theorem dX1_story_43 : decode cX1_story 43 = .ok (.iconst (-1), 1) := dk_2 (dk_at dksX1_story_1 19 rfl rfl)
theorem dX1_story_44 : decode cX1_story 44 = .ok (.istore_n 2, 1) := dk_61 (dk_at dksX1_story_1 20 rfl rfl)
theorem dX1_story_45 : decode cX1_story 45 = .ok (.aload_n 0, 1) := dk_42 (dk_at dksX1_story_1 21 rfl rfl)
theorem dX1_story_46 : decode cX1_story 46 = .ok (.iconst 0, 1) := dk_3 (dk_at dksX1_story_1 22 rfl rfl)
theorem dX1_story_47 : decode cX1_story 47 = .ok (.putfield 63, 3) := dk_181 0 63 (dk_at dksX1_story_2 0 rfl rfl)
theorem dX1_story_50 : decode cX1_story 50 = .ok (.iload_n 2, 1) := dk_28 (dk_at dksX1_story_2 3 rfl rfl)
theorem dX1_story_51 : decode cX1_story 51 = .ok (.ireturn, 1) := dk_172 (dk_at dksX1_story_2 4 rfl rfl)
theorem dX1_story_52 : decode cX1_story 52 = .ok (.aload_n 0, 1) := dk_42 (dk_at dksX1_story_2 5 rfl rfl)
theorem dX1_story_53 : decode cX1_story 53 = .ok (.getfield 36, 3) := dk_180 0 36 (dk_at dksX1_story_2 6 rfl rfl)
theorem dX1_story_56 : decode cX1_story 56 = .ok (.new 73, 3) := dk_187 0 73 (dk_at dksX1_story_2 9 rfl rfl)
theorem dX1_story_59 : decode cX1_story 59 = .ok (.dup, 1) := dk_89 (dk_at dksX1_story_2 12 rfl rfl)
theorem dX1_story_60 : decode cX1_story 60 = .ok (.aload_n 0, 1) := dk_42 (dk_at dksX1_story_2 13 rfl rfl)
theorem dX1_story_61 : decode cX1_story 61 = .ok (.getfield 27, 3) := dk_180 0 27 (dk_at dksX1_story_2 14 rfl rfl)
theorem dX1_story_64 : decode cX1_story 64 = .ok (.iload_n 1, 1) := dk_27 (dk_at dksX1_story_2 17 rfl rfl)
theorem dX1_story_65 : decode cX1_story 65 = .ok (.invokespecial 75, 3) := dk_183 0 75 (dk_at dksX1_story_2 18 rfl rfl)
theorem dX1_story_68 : decode cX1_story 68 = .ok (.invokevirtual 92, 3) := dk_182 0 92 (dk_at dksX1_story_2 21 rfl rfl)
theorem dX1_story_71 : decode cX1_story 71 = .ok (.invokevirtual 96, 3) := dk_182 0 96 (dk_at dksX1_story_3 0 rfl rfl)
theorem dX1_story_74 : decode cX1_story 74 = .ok (.pop, 1) := dk_87 (dk_at dksX1_story_3 3 rfl rfl)
theorem dX1_story_75 : decode cX1_story 75 = .ok (.aload_n 0, 1) := dk_42 (dk_at dksX1_story_3 4 rfl rfl)
theorem dX1_story_76 : decode cX1_story 76 = .ok (.getfield 36, 3) := dk_180 0 36 (dk_at dksX1_story_3 5 rfl rfl)
theorem dX1_story_79 : decode cX1_story 79 = .ok (.invokevirtual 47, 3) := dk_182 0 47 (dk_at dksX1_story_3 8 rfl rfl)
theorem dX1_story_82 : decode cX1_story 82 = .ok (.iconst 1, 1) := dk_4 (dk_at dksX1_story_3 11 rfl rfl)
theorem dX1_story_83 : decode cX1_story 83 = .ok (.isub, 1) := dk_100 (dk_at dksX1_story_3 12 rfl rfl)
theorem dX1_story_84 : decode cX1_story 84 = .ok (.istore_n 2, 1) := dk_61 (dk_at dksX1_story_3 13 rfl rfl)
theorem dX1_story_85 : decode cX1_story 85 = .ok (.aload_n 0, 1) := dk_42 (dk_at dksX1_story_3 14 rfl rfl)
theorem dX1_story_86 : decode cX1_story 86 = .ok (.iconst 0, 1) := dk_3 (dk_at dksX1_story_3 15 rfl rfl)
theorem dX1_story_87 : decode cX1_story 87 = .ok (.putfield 63, 3) := dk_181 0 63 (dk_at dksX1_story_3 16 rfl rfl)
theorem dX1_story_90 : decode cX1_story 90 = .ok (.iload_n 2, 1) := dk_28 (dk_at dksX1_story_3 19 rfl rfl)
theorem dX1_story_91 : decode cX1_story 91 = .ok (.ireturn, 1) := dk_172 (dk_at dksX1_story_3 20 rfl rfl)
theorem dX1_story_92 : decode cX1_story 92 = .ok (.astore_n 2, 1) := dk_77 (dk_at dksX1_story_3 21 rfl rfl)
theorem dX1_story_93 : decode cX1_story 93 = .ok (.aload_n 0, 1) := dk_42 (dk_at dksX1_story_3 22 rfl rfl)
theorem dX1_story_94 : decode cX1_story 94 = .ok (.aload_n 2, 1) := dk_44 (dk_at dksX1_story_3 23 rfl rfl)
theorem dX1_story_95 : decode cX1_story 95 = .ok (.getfield 86, 3) := dk_180 0 86 (dk_at dksX1_story_4 0 rfl rfl)
theorem dX1_story_98 : decode cX1_story 98 = .ok (.putfield 23, 3) := dk_181 0 23 (dk_at dksX1_story_4 3 rfl rfl)
theorem dX1_story_101 : decode cX1_story 101 = .ok (.aload_n 2, 1) := dk_44 (dk_at dksX1_story_4 6 rfl rfl)
theorem dX1_story_102 : decode cX1_story 102 = .ok (.getfield 89, 3) := dk_180 0 89 (dk_at dksX1_story_4 7 rfl rfl)
theorem dX1_story_105 : decode cX1_story 105 = .ok (.bipush 10, 2) := dk_16 10 (dk_at dksX1_story_4 10 rfl rfl)
theorem dX1_story_107 : decode cX1_story 107 = .ok (.isub, 1) := dk_100 (dk_at dksX1_story_4 12 rfl rfl)
theorem dX1_story_108 : decode cX1_story 108 = .ok (.istore_n 3, 1) := dk_62 (dk_at dksX1_story_4 13 rfl rfl)
theorem dX1_story_109 : decode cX1_story 109 = .ok (.aload_n 0, 1) := dk_42 (dk_at dksX1_story_4 14 rfl rfl)
theorem dX1_story_110 : decode cX1_story 110 = .ok (.iconst 0, 1) := dk_3 (dk_at dksX1_story_4 15 rfl rfl)
theorem dX1_story_111 : decode cX1_story 111 = .ok (.putfield 63, 3) := dk_181 0 63 (dk_at dksX1_story_4 16 rfl rfl)
theorem dX1_story_114 : decode cX1_story 114 = .ok (.iload_n 3, 1) := dk_29 (dk_at dksX1_story_4 19 rfl rfl)
theorem dX1_story_115 : decode cX1_story 115 = .ok (.ireturn, 1) := dk_172 (dk_at dksX1_story_4 20 rfl rfl)
theorem dX1_story_116 : decode cX1_story 116 = .ok (.astore 4, 2) := dk_58 4 (dk_at dksX1_story_4 21 rfl rfl)
theorem dX1_story_118 : decode cX1_story 118 = .ok (.aload_n 0, 1) := dk_42 (dk_at dksX1_story_4 23 rfl rfl)
theorem dX1_story_119 : decode cX1_story 119 = .ok (.iconst 0, 1) := dk_3 (dk_at dksX1_story_5 0 rfl rfl)
theorem dX1_story_120 : decode cX1_story 120 = .ok (.putfield 63, 3) := dk_181 0 63 (dk_at dksX1_story_5 1 rfl rfl)
theorem dX1_story_123 : decode cX1_story 123 = .ok (.aload 4, 2) := dk_25 4 (dk_at dksX1_story_5 4 rfl rfl)
theorem dX1_story_125 : decode cX1_story 125 = .ok (.athrow, 1) := dk_191 (dk_at dksX1_story_5 6 rfl rfl)
abbrev cX1_sheds : ByteArray := prog_1_method_12_code
def yX1_sheds : MethodName := ⟨RX1, "sheds", "(II)I"⟩
def dkwX1_sheds_1 : List UInt8 := [184, 0, 69, 42, 180, 0, 10, 180, 0, 104, 16, 10, 27, 104, 28, 96, 46, 172]
abbrev dktX1_sheds_1 : List UInt8 := dkwX1_sheds_1 ++ []
def dkwX1_sheds_0 : List UInt8 := [27, 155, 0, 20, 27, 16, 8, 162, 0, 14, 28, 184, 0, 100, 153, 0, 7, 4, 167, 0, 4, 3]
abbrev dktX1_sheds_0 : List UInt8 := dkwX1_sheds_0 ++ dktX1_sheds_1
theorem dksX1_sheds_0 : cX1_sheds.data.toList.drop 0 = dktX1_sheds_0 := by decide +kernel
theorem dksX1_sheds_1 : cX1_sheds.data.toList.drop 22 = dktX1_sheds_1 := dk_seg dksX1_sheds_0 22 rfl rfl
theorem dX1_sheds_0 : decode cX1_sheds 0 = .ok (.iload_n 1, 1) := dk_27 (dk_at dksX1_sheds_0 0 rfl rfl)
theorem dX1_sheds_1 : decode cX1_sheds 1 = .ok (.ifCond .lt 20, 3) := dk_155 0 20 (dk_at dksX1_sheds_0 1 rfl rfl)
theorem dX1_sheds_4 : decode cX1_sheds 4 = .ok (.iload_n 1, 1) := dk_27 (dk_at dksX1_sheds_0 4 rfl rfl)
theorem dX1_sheds_5 : decode cX1_sheds 5 = .ok (.bipush 8, 2) := dk_16 8 (dk_at dksX1_sheds_0 5 rfl rfl)
theorem dX1_sheds_7 : decode cX1_sheds 7 = .ok (.if_icmp .ge 14, 3) := dk_162 0 14 (dk_at dksX1_sheds_0 7 rfl rfl)
theorem dX1_sheds_10 : decode cX1_sheds 10 = .ok (.iload_n 2, 1) := dk_28 (dk_at dksX1_sheds_0 10 rfl rfl)
theorem dX1_sheds_11 : decode cX1_sheds 11 = .ok (.invokestatic 100, 3) := dk_184 0 100 (dk_at dksX1_sheds_0 11 rfl rfl)
theorem dX1_sheds_14 : decode cX1_sheds 14 = .ok (.ifCond .eq 7, 3) := dk_153 0 7 (dk_at dksX1_sheds_0 14 rfl rfl)
theorem dX1_sheds_17 : decode cX1_sheds 17 = .ok (.iconst 1, 1) := dk_4 (dk_at dksX1_sheds_0 17 rfl rfl)
theorem dX1_sheds_18 : decode cX1_sheds 18 = .ok (.goto 4, 3) := dk_167 0 4 (dk_at dksX1_sheds_0 18 rfl rfl)
theorem dX1_sheds_21 : decode cX1_sheds 21 = .ok (.iconst 0, 1) := dk_3 (dk_at dksX1_sheds_0 21 rfl rfl)
theorem dX1_sheds_22 : decode cX1_sheds 22 = .ok (.invokestatic 69, 3) := dk_184 0 69 (dk_at dksX1_sheds_1 0 rfl rfl)
theorem dX1_sheds_25 : decode cX1_sheds 25 = .ok (.aload_n 0, 1) := dk_42 (dk_at dksX1_sheds_1 3 rfl rfl)
theorem dX1_sheds_26 : decode cX1_sheds 26 = .ok (.getfield 10, 3) := dk_180 0 10 (dk_at dksX1_sheds_1 4 rfl rfl)
theorem dX1_sheds_29 : decode cX1_sheds 29 = .ok (.getfield 104, 3) := dk_180 0 104 (dk_at dksX1_sheds_1 7 rfl rfl)
theorem dX1_sheds_32 : decode cX1_sheds 32 = .ok (.bipush 10, 2) := dk_16 10 (dk_at dksX1_sheds_1 10 rfl rfl)
theorem dX1_sheds_34 : decode cX1_sheds 34 = .ok (.iload_n 1, 1) := dk_27 (dk_at dksX1_sheds_1 12 rfl rfl)
theorem dX1_sheds_35 : decode cX1_sheds 35 = .ok (.imul, 1) := dk_104 (dk_at dksX1_sheds_1 13 rfl rfl)
theorem dX1_sheds_36 : decode cX1_sheds 36 = .ok (.iload_n 2, 1) := dk_28 (dk_at dksX1_sheds_1 14 rfl rfl)
theorem dX1_sheds_37 : decode cX1_sheds 37 = .ok (.iadd, 1) := dk_96 (dk_at dksX1_sheds_1 15 rfl rfl)
theorem dX1_sheds_38 : decode cX1_sheds 38 = .ok (.iaload, 1) := dk_46 (dk_at dksX1_sheds_1 16 rfl rfl)
theorem dX1_sheds_39 : decode cX1_sheds 39 = .ok (.ireturn, 1) := dk_172 (dk_at dksX1_sheds_1 17 rfl rfl)
abbrev cX1_isSort : ByteArray := prog_1_method_3_code
def yX1_isSort : MethodName := ⟨RX1, "isSort", "(I)Z"⟩
def dkwX1_isSort_0 : List UInt8 := [26, 155, 0, 13, 26, 16, 10, 162, 0, 7, 4, 167, 0, 4, 3, 172]
abbrev dktX1_isSort_0 : List UInt8 := dkwX1_isSort_0 ++ []
theorem dksX1_isSort_0 : cX1_isSort.data.toList.drop 0 = dktX1_isSort_0 := by decide +kernel
theorem dX1_isSort_0 : decode cX1_isSort 0 = .ok (.iload_n 0, 1) := dk_26 (dk_at dksX1_isSort_0 0 rfl rfl)
theorem dX1_isSort_1 : decode cX1_isSort 1 = .ok (.ifCond .lt 13, 3) := dk_155 0 13 (dk_at dksX1_isSort_0 1 rfl rfl)
theorem dX1_isSort_4 : decode cX1_isSort 4 = .ok (.iload_n 0, 1) := dk_26 (dk_at dksX1_isSort_0 4 rfl rfl)
theorem dX1_isSort_5 : decode cX1_isSort 5 = .ok (.bipush 10, 2) := dk_16 10 (dk_at dksX1_isSort_0 5 rfl rfl)
theorem dX1_isSort_7 : decode cX1_isSort 7 = .ok (.if_icmp .ge 7, 3) := dk_162 0 7 (dk_at dksX1_isSort_0 7 rfl rfl)
theorem dX1_isSort_10 : decode cX1_isSort 10 = .ok (.iconst 1, 1) := dk_4 (dk_at dksX1_isSort_0 10 rfl rfl)
theorem dX1_isSort_11 : decode cX1_isSort 11 = .ok (.goto 4, 3) := dk_167 0 4 (dk_at dksX1_isSort_0 11 rfl rfl)
theorem dX1_isSort_14 : decode cX1_isSort 14 = .ok (.iconst 0, 1) := dk_3 (dk_at dksX1_isSort_0 14 rfl rfl)
theorem dX1_isSort_15 : decode cX1_isSort 15 = .ok (.ireturn, 1) := dk_172 (dk_at dksX1_isSort_0 15 rfl rfl)
abbrev cX1_told : ByteArray := prog_1_method_13_code
def yX1_told : MethodName := ⟨RX1, "told", "(II)I"⟩
def dkwX1_told_4 : List UInt8 := [180, 0, 114, 172, 42, 180, 0, 10, 180, 0, 117, 172, 42, 180, 0, 10, 180, 0, 120, 172]
abbrev dktX1_told_4 : List UInt8 := dkwX1_told_4 ++ []
def dkwX1_told_3 : List UInt8 := [42, 180, 0, 10, 180, 0, 108, 27, 46, 172, 42, 180, 0, 10, 180, 0, 111, 27, 46, 172, 42, 180, 0, 10]
abbrev dktX1_told_3 : List UInt8 := dkwX1_told_3 ++ dktX1_told_4
def dkwX1_told_2 : List UInt8 := [170, 0, 0, 0, 0, 0, 67, 0, 0, 0, 0, 0, 0, 0, 3, 0, 0, 0, 31, 0, 0, 0, 41, 0, 0, 0, 51, 0, 0, 0, 59]
abbrev dktX1_told_2 : List UInt8 := dkwX1_told_2 ++ dktX1_told_3
def dkwX1_told_1 : List UInt8 := [28]
abbrev dktX1_told_1 : List UInt8 := dkwX1_told_1 ++ dktX1_told_2
def dkwX1_told_0 : List UInt8 := [27, 184, 0, 100, 153, 0, 16, 28, 155, 0, 12, 28, 7, 163, 0, 7, 4, 167, 0, 4, 3, 184, 0, 69]
abbrev dktX1_told_0 : List UInt8 := dkwX1_told_0 ++ dktX1_told_1
theorem dksX1_told_0 : cX1_told.data.toList.drop 0 = dktX1_told_0 := by decide +kernel
theorem dksX1_told_1 : cX1_told.data.toList.drop 24 = dktX1_told_1 := dk_seg dksX1_told_0 24 rfl rfl
theorem dksX1_told_2 : cX1_told.data.toList.drop 25 = dktX1_told_2 := dk_seg dksX1_told_1 1 rfl rfl
theorem dksX1_told_3 : cX1_told.data.toList.drop 56 = dktX1_told_3 := dk_seg dksX1_told_2 31 rfl rfl
theorem dksX1_told_4 : cX1_told.data.toList.drop 80 = dktX1_told_4 := dk_seg dksX1_told_3 24 rfl rfl
theorem dX1_told_0 : decode cX1_told 0 = .ok (.iload_n 1, 1) := dk_27 (dk_at dksX1_told_0 0 rfl rfl)
theorem dX1_told_1 : decode cX1_told 1 = .ok (.invokestatic 100, 3) := dk_184 0 100 (dk_at dksX1_told_0 1 rfl rfl)
theorem dX1_told_4 : decode cX1_told 4 = .ok (.ifCond .eq 16, 3) := dk_153 0 16 (dk_at dksX1_told_0 4 rfl rfl)
theorem dX1_told_7 : decode cX1_told 7 = .ok (.iload_n 2, 1) := dk_28 (dk_at dksX1_told_0 7 rfl rfl)
theorem dX1_told_8 : decode cX1_told 8 = .ok (.ifCond .lt 12, 3) := dk_155 0 12 (dk_at dksX1_told_0 8 rfl rfl)
theorem dX1_told_11 : decode cX1_told 11 = .ok (.iload_n 2, 1) := dk_28 (dk_at dksX1_told_0 11 rfl rfl)
theorem dX1_told_12 : decode cX1_told 12 = .ok (.iconst 4, 1) := dk_7 (dk_at dksX1_told_0 12 rfl rfl)
theorem dX1_told_13 : decode cX1_told 13 = .ok (.if_icmp .gt 7, 3) := dk_163 0 7 (dk_at dksX1_told_0 13 rfl rfl)
theorem dX1_told_16 : decode cX1_told 16 = .ok (.iconst 1, 1) := dk_4 (dk_at dksX1_told_0 16 rfl rfl)
theorem dX1_told_17 : decode cX1_told 17 = .ok (.goto 4, 3) := dk_167 0 4 (dk_at dksX1_told_0 17 rfl rfl)
theorem dX1_told_20 : decode cX1_told 20 = .ok (.iconst 0, 1) := dk_3 (dk_at dksX1_told_0 20 rfl rfl)
theorem dX1_told_21 : decode cX1_told 21 = .ok (.invokestatic 69, 3) := dk_184 0 69 (dk_at dksX1_told_0 21 rfl rfl)
theorem dX1_told_24 : decode cX1_told 24 = .ok (.iload_n 2, 1) := dk_28 (dk_at dksX1_told_1 0 rfl rfl)
theorem dX1_told_25 : decode cX1_told 25 = .ok (.tableswitch 67 0 3 #[31, 41, 51, 59], 31) := by decide +kernel
theorem dX1_told_56 : decode cX1_told 56 = .ok (.aload_n 0, 1) := dk_42 (dk_at dksX1_told_3 0 rfl rfl)
theorem dX1_told_57 : decode cX1_told 57 = .ok (.getfield 10, 3) := dk_180 0 10 (dk_at dksX1_told_3 1 rfl rfl)
theorem dX1_told_60 : decode cX1_told 60 = .ok (.getfield 108, 3) := dk_180 0 108 (dk_at dksX1_told_3 4 rfl rfl)
theorem dX1_told_63 : decode cX1_told 63 = .ok (.iload_n 1, 1) := dk_27 (dk_at dksX1_told_3 7 rfl rfl)
theorem dX1_told_64 : decode cX1_told 64 = .ok (.iaload, 1) := dk_46 (dk_at dksX1_told_3 8 rfl rfl)
theorem dX1_told_65 : decode cX1_told 65 = .ok (.ireturn, 1) := dk_172 (dk_at dksX1_told_3 9 rfl rfl)
theorem dX1_told_66 : decode cX1_told 66 = .ok (.aload_n 0, 1) := dk_42 (dk_at dksX1_told_3 10 rfl rfl)
theorem dX1_told_67 : decode cX1_told 67 = .ok (.getfield 10, 3) := dk_180 0 10 (dk_at dksX1_told_3 11 rfl rfl)
theorem dX1_told_70 : decode cX1_told 70 = .ok (.getfield 111, 3) := dk_180 0 111 (dk_at dksX1_told_3 14 rfl rfl)
theorem dX1_told_73 : decode cX1_told 73 = .ok (.iload_n 1, 1) := dk_27 (dk_at dksX1_told_3 17 rfl rfl)
theorem dX1_told_74 : decode cX1_told 74 = .ok (.iaload, 1) := dk_46 (dk_at dksX1_told_3 18 rfl rfl)
theorem dX1_told_75 : decode cX1_told 75 = .ok (.ireturn, 1) := dk_172 (dk_at dksX1_told_3 19 rfl rfl)
theorem dX1_told_76 : decode cX1_told 76 = .ok (.aload_n 0, 1) := dk_42 (dk_at dksX1_told_3 20 rfl rfl)
theorem dX1_told_77 : decode cX1_told 77 = .ok (.getfield 10, 3) := dk_180 0 10 (dk_at dksX1_told_3 21 rfl rfl)
theorem dX1_told_80 : decode cX1_told 80 = .ok (.getfield 114, 3) := dk_180 0 114 (dk_at dksX1_told_4 0 rfl rfl)
theorem dX1_told_83 : decode cX1_told 83 = .ok (.ireturn, 1) := dk_172 (dk_at dksX1_told_4 3 rfl rfl)
theorem dX1_told_84 : decode cX1_told 84 = .ok (.aload_n 0, 1) := dk_42 (dk_at dksX1_told_4 4 rfl rfl)
theorem dX1_told_85 : decode cX1_told 85 = .ok (.getfield 10, 3) := dk_180 0 10 (dk_at dksX1_told_4 5 rfl rfl)
theorem dX1_told_88 : decode cX1_told 88 = .ok (.getfield 117, 3) := dk_180 0 117 (dk_at dksX1_told_4 8 rfl rfl)
theorem dX1_told_91 : decode cX1_told 91 = .ok (.ireturn, 1) := dk_172 (dk_at dksX1_told_4 11 rfl rfl)
theorem dX1_told_92 : decode cX1_told 92 = .ok (.aload_n 0, 1) := dk_42 (dk_at dksX1_told_4 12 rfl rfl)
theorem dX1_told_93 : decode cX1_told 93 = .ok (.getfield 10, 3) := dk_180 0 10 (dk_at dksX1_told_4 13 rfl rfl)
theorem dX1_told_96 : decode cX1_told 96 = .ok (.getfield 120, 3) := dk_180 0 120 (dk_at dksX1_told_4 16 rfl rfl)
theorem dX1_told_99 : decode cX1_told 99 = .ok (.ireturn, 1) := dk_172 (dk_at dksX1_told_4 19 rfl rfl)
abbrev cX1_alike : ByteArray := prog_1_method_14_code
def yX1_alike : MethodName := ⟨RX1, "alike", "(I)I"⟩
def dkwX1_alike_0 : List UInt8 := [27, 184, 0, 100, 184, 0, 69, 42, 180, 0, 10, 180, 0, 123, 27, 46, 172]
abbrev dktX1_alike_0 : List UInt8 := dkwX1_alike_0 ++ []
theorem dksX1_alike_0 : cX1_alike.data.toList.drop 0 = dktX1_alike_0 := by decide +kernel
theorem dX1_alike_0 : decode cX1_alike 0 = .ok (.iload_n 1, 1) := dk_27 (dk_at dksX1_alike_0 0 rfl rfl)
theorem dX1_alike_1 : decode cX1_alike 1 = .ok (.invokestatic 100, 3) := dk_184 0 100 (dk_at dksX1_alike_0 1 rfl rfl)
theorem dX1_alike_4 : decode cX1_alike 4 = .ok (.invokestatic 69, 3) := dk_184 0 69 (dk_at dksX1_alike_0 4 rfl rfl)
theorem dX1_alike_7 : decode cX1_alike 7 = .ok (.aload_n 0, 1) := dk_42 (dk_at dksX1_alike_0 7 rfl rfl)
theorem dX1_alike_8 : decode cX1_alike 8 = .ok (.getfield 10, 3) := dk_180 0 10 (dk_at dksX1_alike_0 8 rfl rfl)
theorem dX1_alike_11 : decode cX1_alike 11 = .ok (.getfield 123, 3) := dk_180 0 123 (dk_at dksX1_alike_0 11 rfl rfl)
theorem dX1_alike_14 : decode cX1_alike 14 = .ok (.iload_n 1, 1) := dk_27 (dk_at dksX1_alike_0 14 rfl rfl)
theorem dX1_alike_15 : decode cX1_alike 15 = .ok (.iaload, 1) := dk_46 (dk_at dksX1_alike_0 15 rfl rfl)
theorem dX1_alike_16 : decode cX1_alike 16 = .ok (.ireturn, 1) := dk_172 (dk_at dksX1_alike_0 16 rfl rfl)
abbrev cX1_lies : ByteArray := prog_1_method_15_code
def yX1_lies : MethodName := ⟨RX1, "lies", "(IIII)I"⟩
def dkwX1_lies_2 : List UInt8 := [16, 10, 28, 104, 29, 96, 46, 172]
abbrev dktX1_lies_2 : List UInt8 := dkwX1_lies_2 ++ []
def dkwX1_lies_1 : List UInt8 := [184, 0, 133, 153, 0, 7, 4, 167, 0, 4, 3, 184, 0, 69, 25, 5, 21, 4, 182, 0, 136, 180, 0, 140]
abbrev dktX1_lies_1 : List UInt8 := dkwX1_lies_1 ++ dktX1_lies_2
def dkwX1_lies_0 : List UInt8 := [42, 27, 182, 0, 126, 58, 5, 28, 184, 0, 130, 153, 0, 22, 29, 184, 0, 100, 153, 0, 15, 21, 4]
abbrev dktX1_lies_0 : List UInt8 := dkwX1_lies_0 ++ dktX1_lies_1
theorem dksX1_lies_0 : cX1_lies.data.toList.drop 0 = dktX1_lies_0 := by decide +kernel
theorem dksX1_lies_1 : cX1_lies.data.toList.drop 23 = dktX1_lies_1 := dk_seg dksX1_lies_0 23 rfl rfl
theorem dksX1_lies_2 : cX1_lies.data.toList.drop 47 = dktX1_lies_2 := dk_seg dksX1_lies_1 24 rfl rfl
theorem dX1_lies_0 : decode cX1_lies 0 = .ok (.aload_n 0, 1) := dk_42 (dk_at dksX1_lies_0 0 rfl rfl)
theorem dX1_lies_1 : decode cX1_lies 1 = .ok (.iload_n 1, 1) := dk_27 (dk_at dksX1_lies_0 1 rfl rfl)
theorem dX1_lies_2 : decode cX1_lies 2 = .ok (.invokevirtual 126, 3) := dk_182 0 126 (dk_at dksX1_lies_0 2 rfl rfl)
theorem dX1_lies_5 : decode cX1_lies 5 = .ok (.astore 5, 2) := dk_58 5 (dk_at dksX1_lies_0 5 rfl rfl)
theorem dX1_lies_7 : decode cX1_lies 7 = .ok (.iload_n 2, 1) := dk_28 (dk_at dksX1_lies_0 7 rfl rfl)
theorem dX1_lies_8 : decode cX1_lies 8 = .ok (.invokestatic 130, 3) := dk_184 0 130 (dk_at dksX1_lies_0 8 rfl rfl)
theorem dX1_lies_11 : decode cX1_lies 11 = .ok (.ifCond .eq 22, 3) := dk_153 0 22 (dk_at dksX1_lies_0 11 rfl rfl)
theorem dX1_lies_14 : decode cX1_lies 14 = .ok (.iload_n 3, 1) := dk_29 (dk_at dksX1_lies_0 14 rfl rfl)
theorem dX1_lies_15 : decode cX1_lies 15 = .ok (.invokestatic 100, 3) := dk_184 0 100 (dk_at dksX1_lies_0 15 rfl rfl)
theorem dX1_lies_18 : decode cX1_lies 18 = .ok (.ifCond .eq 15, 3) := dk_153 0 15 (dk_at dksX1_lies_0 18 rfl rfl)
theorem dX1_lies_21 : decode cX1_lies 21 = .ok (.iload 4, 2) := dk_21 4 (dk_at dksX1_lies_0 21 rfl rfl)
theorem dX1_lies_23 : decode cX1_lies 23 = .ok (.invokestatic 133, 3) := dk_184 0 133 (dk_at dksX1_lies_1 0 rfl rfl)
theorem dX1_lies_26 : decode cX1_lies 26 = .ok (.ifCond .eq 7, 3) := dk_153 0 7 (dk_at dksX1_lies_1 3 rfl rfl)
theorem dX1_lies_29 : decode cX1_lies 29 = .ok (.iconst 1, 1) := dk_4 (dk_at dksX1_lies_1 6 rfl rfl)
theorem dX1_lies_30 : decode cX1_lies 30 = .ok (.goto 4, 3) := dk_167 0 4 (dk_at dksX1_lies_1 7 rfl rfl)
theorem dX1_lies_33 : decode cX1_lies 33 = .ok (.iconst 0, 1) := dk_3 (dk_at dksX1_lies_1 10 rfl rfl)
theorem dX1_lies_34 : decode cX1_lies 34 = .ok (.invokestatic 69, 3) := dk_184 0 69 (dk_at dksX1_lies_1 11 rfl rfl)
theorem dX1_lies_37 : decode cX1_lies 37 = .ok (.aload 5, 2) := dk_25 5 (dk_at dksX1_lies_1 14 rfl rfl)
theorem dX1_lies_39 : decode cX1_lies 39 = .ok (.iload 4, 2) := dk_21 4 (dk_at dksX1_lies_1 16 rfl rfl)
theorem dX1_lies_41 : decode cX1_lies 41 = .ok (.invokevirtual 136, 3) := dk_182 0 136 (dk_at dksX1_lies_1 18 rfl rfl)
theorem dX1_lies_44 : decode cX1_lies 44 = .ok (.getfield 140, 3) := dk_180 0 140 (dk_at dksX1_lies_1 21 rfl rfl)
theorem dX1_lies_47 : decode cX1_lies 47 = .ok (.bipush 10, 2) := dk_16 10 (dk_at dksX1_lies_2 0 rfl rfl)
theorem dX1_lies_49 : decode cX1_lies 49 = .ok (.iload_n 2, 1) := dk_28 (dk_at dksX1_lies_2 2 rfl rfl)
theorem dX1_lies_50 : decode cX1_lies 50 = .ok (.imul, 1) := dk_104 (dk_at dksX1_lies_2 3 rfl rfl)
theorem dX1_lies_51 : decode cX1_lies 51 = .ok (.iload_n 3, 1) := dk_29 (dk_at dksX1_lies_2 4 rfl rfl)
theorem dX1_lies_52 : decode cX1_lies 52 = .ok (.iadd, 1) := dk_96 (dk_at dksX1_lies_2 5 rfl rfl)
theorem dX1_lies_53 : decode cX1_lies 53 = .ok (.iaload, 1) := dk_46 (dk_at dksX1_lies_2 6 rfl rfl)
theorem dX1_lies_54 : decode cX1_lies 54 = .ok (.ireturn, 1) := dk_172 (dk_at dksX1_lies_2 7 rfl rfl)
abbrev cX1_run : ByteArray := prog_1_method_6_code
def yX1_run : MethodName := ⟨RX1, "run", "(I)LWoolThreads$Run;"⟩
def dkwX1_run_1 : List UInt8 := [187, 0, 54, 89, 42, 42, 180, 0, 36, 27, 182, 0, 56, 192, 0, 31, 183, 0, 60, 176]
abbrev dktX1_run_1 : List UInt8 := dkwX1_run_1 ++ []
def dkwX1_run_0 : List UInt8 := [27, 155, 0, 14, 27, 42, 180, 0, 36, 182, 0, 47, 161, 0, 11, 187, 0, 51, 89, 183, 0, 53, 191]
abbrev dktX1_run_0 : List UInt8 := dkwX1_run_0 ++ dktX1_run_1
theorem dksX1_run_0 : cX1_run.data.toList.drop 0 = dktX1_run_0 := by decide +kernel
theorem dksX1_run_1 : cX1_run.data.toList.drop 23 = dktX1_run_1 := dk_seg dksX1_run_0 23 rfl rfl
theorem dX1_run_0 : decode cX1_run 0 = .ok (.iload_n 1, 1) := dk_27 (dk_at dksX1_run_0 0 rfl rfl)
theorem dX1_run_1 : decode cX1_run 1 = .ok (.ifCond .lt 14, 3) := dk_155 0 14 (dk_at dksX1_run_0 1 rfl rfl)
theorem dX1_run_4 : decode cX1_run 4 = .ok (.iload_n 1, 1) := dk_27 (dk_at dksX1_run_0 4 rfl rfl)
theorem dX1_run_5 : decode cX1_run 5 = .ok (.aload_n 0, 1) := dk_42 (dk_at dksX1_run_0 5 rfl rfl)
theorem dX1_run_6 : decode cX1_run 6 = .ok (.getfield 36, 3) := dk_180 0 36 (dk_at dksX1_run_0 6 rfl rfl)
theorem dX1_run_9 : decode cX1_run 9 = .ok (.invokevirtual 47, 3) := dk_182 0 47 (dk_at dksX1_run_0 9 rfl rfl)
theorem dX1_run_12 : decode cX1_run 12 = .ok (.if_icmp .lt 11, 3) := dk_161 0 11 (dk_at dksX1_run_0 12 rfl rfl)
theorem dX1_run_15 : decode cX1_run 15 = .ok (.new 51, 3) := dk_187 0 51 (dk_at dksX1_run_0 15 rfl rfl)
theorem dX1_run_18 : decode cX1_run 18 = .ok (.dup, 1) := dk_89 (dk_at dksX1_run_0 18 rfl rfl)
theorem dX1_run_19 : decode cX1_run 19 = .ok (.invokespecial 53, 3) := dk_183 0 53 (dk_at dksX1_run_0 19 rfl rfl)
theorem dX1_run_22 : decode cX1_run 22 = .ok (.athrow, 1) := dk_191 (dk_at dksX1_run_0 22 rfl rfl)
theorem dX1_run_23 : decode cX1_run 23 = .ok (.new 54, 3) := dk_187 0 54 (dk_at dksX1_run_1 0 rfl rfl)
theorem dX1_run_26 : decode cX1_run 26 = .ok (.dup, 1) := dk_89 (dk_at dksX1_run_1 3 rfl rfl)
theorem dX1_run_27 : decode cX1_run 27 = .ok (.aload_n 0, 1) := dk_42 (dk_at dksX1_run_1 4 rfl rfl)
theorem dX1_run_28 : decode cX1_run 28 = .ok (.aload_n 0, 1) := dk_42 (dk_at dksX1_run_1 5 rfl rfl)
theorem dX1_run_29 : decode cX1_run 29 = .ok (.getfield 36, 3) := dk_180 0 36 (dk_at dksX1_run_1 6 rfl rfl)
theorem dX1_run_32 : decode cX1_run 32 = .ok (.iload_n 1, 1) := dk_27 (dk_at dksX1_run_1 9 rfl rfl)
theorem dX1_run_33 : decode cX1_run 33 = .ok (.invokevirtual 56, 3) := dk_182 0 56 (dk_at dksX1_run_1 10 rfl rfl)
theorem dX1_run_36 : decode cX1_run 36 = .ok (.checkcast 31, 3) := dk_192 0 31 (dk_at dksX1_run_1 13 rfl rfl)
theorem dX1_run_39 : decode cX1_run 39 = .ok (.invokespecial 60, 3) := dk_183 0 60 (dk_at dksX1_run_1 16 rfl rfl)
theorem dX1_run_42 : decode cX1_run 42 = .ok (.areturn, 1) := dk_176 (dk_at dksX1_run_1 19 rfl rfl)
abbrev cX1_isPlace : ByteArray := prog_1_method_4_code
def yX1_isPlace : MethodName := ⟨RX1, "isPlace", "(I)Z"⟩
def dkwX1_isPlace_0 : List UInt8 := [26, 155, 0, 13, 26, 16, 10, 162, 0, 7, 4, 167, 0, 4, 3, 172]
abbrev dktX1_isPlace_0 : List UInt8 := dkwX1_isPlace_0 ++ []
theorem dksX1_isPlace_0 : cX1_isPlace.data.toList.drop 0 = dktX1_isPlace_0 := by decide +kernel
theorem dX1_isPlace_0 : decode cX1_isPlace 0 = .ok (.iload_n 0, 1) := dk_26 (dk_at dksX1_isPlace_0 0 rfl rfl)
theorem dX1_isPlace_1 : decode cX1_isPlace 1 = .ok (.ifCond .lt 13, 3) := dk_155 0 13 (dk_at dksX1_isPlace_0 1 rfl rfl)
theorem dX1_isPlace_4 : decode cX1_isPlace 4 = .ok (.iload_n 0, 1) := dk_26 (dk_at dksX1_isPlace_0 4 rfl rfl)
theorem dX1_isPlace_5 : decode cX1_isPlace 5 = .ok (.bipush 10, 2) := dk_16 10 (dk_at dksX1_isPlace_0 5 rfl rfl)
theorem dX1_isPlace_7 : decode cX1_isPlace 7 = .ok (.if_icmp .ge 7, 3) := dk_162 0 7 (dk_at dksX1_isPlace_0 7 rfl rfl)
theorem dX1_isPlace_10 : decode cX1_isPlace 10 = .ok (.iconst 1, 1) := dk_4 (dk_at dksX1_isPlace_0 10 rfl rfl)
theorem dX1_isPlace_11 : decode cX1_isPlace 11 = .ok (.goto 4, 3) := dk_167 0 4 (dk_at dksX1_isPlace_0 11 rfl rfl)
theorem dX1_isPlace_14 : decode cX1_isPlace 14 = .ok (.iconst 0, 1) := dk_3 (dk_at dksX1_isPlace_0 14 rfl rfl)
theorem dX1_isPlace_15 : decode cX1_isPlace 15 = .ok (.ireturn, 1) := dk_172 (dk_at dksX1_isPlace_0 15 rfl rfl)
abbrev cX1_isHour : ByteArray := prog_1_method_5_code
def yX1_isHour : MethodName := ⟨RX1, "isHour", "(I)Z"⟩
def dkwX1_isHour_0 : List UInt8 := [26, 155, 0, 13, 26, 16, 99, 163, 0, 7, 4, 167, 0, 4, 3, 172]
abbrev dktX1_isHour_0 : List UInt8 := dkwX1_isHour_0 ++ []
theorem dksX1_isHour_0 : cX1_isHour.data.toList.drop 0 = dktX1_isHour_0 := by decide +kernel
theorem dX1_isHour_0 : decode cX1_isHour 0 = .ok (.iload_n 0, 1) := dk_26 (dk_at dksX1_isHour_0 0 rfl rfl)
theorem dX1_isHour_1 : decode cX1_isHour 1 = .ok (.ifCond .lt 13, 3) := dk_155 0 13 (dk_at dksX1_isHour_0 1 rfl rfl)
theorem dX1_isHour_4 : decode cX1_isHour 4 = .ok (.iload_n 0, 1) := dk_26 (dk_at dksX1_isHour_0 4 rfl rfl)
theorem dX1_isHour_5 : decode cX1_isHour 5 = .ok (.bipush 99, 2) := dk_16 99 (dk_at dksX1_isHour_0 5 rfl rfl)
theorem dX1_isHour_7 : decode cX1_isHour 7 = .ok (.if_icmp .gt 7, 3) := dk_163 0 7 (dk_at dksX1_isHour_0 7 rfl rfl)
theorem dX1_isHour_10 : decode cX1_isHour 10 = .ok (.iconst 1, 1) := dk_4 (dk_at dksX1_isHour_0 10 rfl rfl)
theorem dX1_isHour_11 : decode cX1_isHour 11 = .ok (.goto 4, 3) := dk_167 0 4 (dk_at dksX1_isHour_0 11 rfl rfl)
theorem dX1_isHour_14 : decode cX1_isHour 14 = .ok (.iconst 0, 1) := dk_3 (dk_at dksX1_isHour_0 14 rfl rfl)
theorem dX1_isHour_15 : decode cX1_isHour 15 = .ok (.ireturn, 1) := dk_172 (dk_at dksX1_isHour_0 15 rfl rfl)
abbrev cX1_pile : ByteArray := prog_1_method_16_code
def yX1_pile : MethodName := ⟨RX1, "pile", "(IIII)I"⟩
def dkwX1_pile_2 : List UInt8 := [182, 0, 145, 172]
abbrev dktX1_pile_2 : List UInt8 := dkwX1_pile_2 ++ []
def dkwX1_pile_1 : List UInt8 := [184, 0, 133, 153, 0, 7, 4, 167, 0, 4, 3, 184, 0, 69, 25, 5, 21, 4, 182, 0, 136, 28, 29]
abbrev dktX1_pile_1 : List UInt8 := dkwX1_pile_1 ++ dktX1_pile_2
def dkwX1_pile_0 : List UInt8 := [42, 27, 182, 0, 126, 58, 5, 28, 184, 0, 130, 153, 0, 22, 29, 184, 0, 100, 153, 0, 15, 21, 4]
abbrev dktX1_pile_0 : List UInt8 := dkwX1_pile_0 ++ dktX1_pile_1
theorem dksX1_pile_0 : cX1_pile.data.toList.drop 0 = dktX1_pile_0 := by decide +kernel
theorem dksX1_pile_1 : cX1_pile.data.toList.drop 23 = dktX1_pile_1 := dk_seg dksX1_pile_0 23 rfl rfl
theorem dksX1_pile_2 : cX1_pile.data.toList.drop 46 = dktX1_pile_2 := dk_seg dksX1_pile_1 23 rfl rfl
theorem dX1_pile_0 : decode cX1_pile 0 = .ok (.aload_n 0, 1) := dk_42 (dk_at dksX1_pile_0 0 rfl rfl)
theorem dX1_pile_1 : decode cX1_pile 1 = .ok (.iload_n 1, 1) := dk_27 (dk_at dksX1_pile_0 1 rfl rfl)
theorem dX1_pile_2 : decode cX1_pile 2 = .ok (.invokevirtual 126, 3) := dk_182 0 126 (dk_at dksX1_pile_0 2 rfl rfl)
theorem dX1_pile_5 : decode cX1_pile 5 = .ok (.astore 5, 2) := dk_58 5 (dk_at dksX1_pile_0 5 rfl rfl)
theorem dX1_pile_7 : decode cX1_pile 7 = .ok (.iload_n 2, 1) := dk_28 (dk_at dksX1_pile_0 7 rfl rfl)
theorem dX1_pile_8 : decode cX1_pile 8 = .ok (.invokestatic 130, 3) := dk_184 0 130 (dk_at dksX1_pile_0 8 rfl rfl)
theorem dX1_pile_11 : decode cX1_pile 11 = .ok (.ifCond .eq 22, 3) := dk_153 0 22 (dk_at dksX1_pile_0 11 rfl rfl)
theorem dX1_pile_14 : decode cX1_pile 14 = .ok (.iload_n 3, 1) := dk_29 (dk_at dksX1_pile_0 14 rfl rfl)
theorem dX1_pile_15 : decode cX1_pile 15 = .ok (.invokestatic 100, 3) := dk_184 0 100 (dk_at dksX1_pile_0 15 rfl rfl)
theorem dX1_pile_18 : decode cX1_pile 18 = .ok (.ifCond .eq 15, 3) := dk_153 0 15 (dk_at dksX1_pile_0 18 rfl rfl)
theorem dX1_pile_21 : decode cX1_pile 21 = .ok (.iload 4, 2) := dk_21 4 (dk_at dksX1_pile_0 21 rfl rfl)
theorem dX1_pile_23 : decode cX1_pile 23 = .ok (.invokestatic 133, 3) := dk_184 0 133 (dk_at dksX1_pile_1 0 rfl rfl)
theorem dX1_pile_26 : decode cX1_pile 26 = .ok (.ifCond .eq 7, 3) := dk_153 0 7 (dk_at dksX1_pile_1 3 rfl rfl)
theorem dX1_pile_29 : decode cX1_pile 29 = .ok (.iconst 1, 1) := dk_4 (dk_at dksX1_pile_1 6 rfl rfl)
theorem dX1_pile_30 : decode cX1_pile 30 = .ok (.goto 4, 3) := dk_167 0 4 (dk_at dksX1_pile_1 7 rfl rfl)
theorem dX1_pile_33 : decode cX1_pile 33 = .ok (.iconst 0, 1) := dk_3 (dk_at dksX1_pile_1 10 rfl rfl)
theorem dX1_pile_34 : decode cX1_pile 34 = .ok (.invokestatic 69, 3) := dk_184 0 69 (dk_at dksX1_pile_1 11 rfl rfl)
theorem dX1_pile_37 : decode cX1_pile 37 = .ok (.aload 5, 2) := dk_25 5 (dk_at dksX1_pile_1 14 rfl rfl)
theorem dX1_pile_39 : decode cX1_pile 39 = .ok (.iload 4, 2) := dk_21 4 (dk_at dksX1_pile_1 16 rfl rfl)
theorem dX1_pile_41 : decode cX1_pile 41 = .ok (.invokevirtual 136, 3) := dk_182 0 136 (dk_at dksX1_pile_1 18 rfl rfl)
theorem dX1_pile_44 : decode cX1_pile 44 = .ok (.iload_n 2, 1) := dk_28 (dk_at dksX1_pile_1 21 rfl rfl)
theorem dX1_pile_45 : decode cX1_pile 45 = .ok (.iload_n 3, 1) := dk_29 (dk_at dksX1_pile_1 22 rfl rfl)
theorem dX1_pile_46 : decode cX1_pile 46 = .ok (.invokevirtual 145, 3) := dk_182 0 145 (dk_at dksX1_pile_2 0 rfl rfl)
theorem dX1_pile_49 : decode cX1_pile 49 = .ok (.ireturn, 1) := dk_172 (dk_at dksX1_pile_2 3 rfl rfl)
abbrev cX1_wears : ByteArray := prog_1_method_17_code
def yX1_wears : MethodName := ⟨RX1, "wears", "(III)I"⟩
def dkwX1_wears_1 : List UInt8 := [167, 0, 4, 3, 184, 0, 69, 25, 4, 29, 182, 0, 136, 180, 0, 149, 28, 46, 172]
abbrev dktX1_wears_1 : List UInt8 := dkwX1_wears_1 ++ []
def dkwX1_wears_0 : List UInt8 := [42, 27, 182, 0, 126, 58, 4, 28, 184, 0, 130, 153, 0, 14, 29, 184, 0, 133, 153, 0, 7, 4]
abbrev dktX1_wears_0 : List UInt8 := dkwX1_wears_0 ++ dktX1_wears_1
theorem dksX1_wears_0 : cX1_wears.data.toList.drop 0 = dktX1_wears_0 := by decide +kernel
theorem dksX1_wears_1 : cX1_wears.data.toList.drop 22 = dktX1_wears_1 := dk_seg dksX1_wears_0 22 rfl rfl
theorem dX1_wears_0 : decode cX1_wears 0 = .ok (.aload_n 0, 1) := dk_42 (dk_at dksX1_wears_0 0 rfl rfl)
theorem dX1_wears_1 : decode cX1_wears 1 = .ok (.iload_n 1, 1) := dk_27 (dk_at dksX1_wears_0 1 rfl rfl)
theorem dX1_wears_2 : decode cX1_wears 2 = .ok (.invokevirtual 126, 3) := dk_182 0 126 (dk_at dksX1_wears_0 2 rfl rfl)
theorem dX1_wears_5 : decode cX1_wears 5 = .ok (.astore 4, 2) := dk_58 4 (dk_at dksX1_wears_0 5 rfl rfl)
theorem dX1_wears_7 : decode cX1_wears 7 = .ok (.iload_n 2, 1) := dk_28 (dk_at dksX1_wears_0 7 rfl rfl)
theorem dX1_wears_8 : decode cX1_wears 8 = .ok (.invokestatic 130, 3) := dk_184 0 130 (dk_at dksX1_wears_0 8 rfl rfl)
theorem dX1_wears_11 : decode cX1_wears 11 = .ok (.ifCond .eq 14, 3) := dk_153 0 14 (dk_at dksX1_wears_0 11 rfl rfl)
theorem dX1_wears_14 : decode cX1_wears 14 = .ok (.iload_n 3, 1) := dk_29 (dk_at dksX1_wears_0 14 rfl rfl)
theorem dX1_wears_15 : decode cX1_wears 15 = .ok (.invokestatic 133, 3) := dk_184 0 133 (dk_at dksX1_wears_0 15 rfl rfl)
theorem dX1_wears_18 : decode cX1_wears 18 = .ok (.ifCond .eq 7, 3) := dk_153 0 7 (dk_at dksX1_wears_0 18 rfl rfl)
theorem dX1_wears_21 : decode cX1_wears 21 = .ok (.iconst 1, 1) := dk_4 (dk_at dksX1_wears_0 21 rfl rfl)
theorem dX1_wears_22 : decode cX1_wears 22 = .ok (.goto 4, 3) := dk_167 0 4 (dk_at dksX1_wears_1 0 rfl rfl)
theorem dX1_wears_25 : decode cX1_wears 25 = .ok (.iconst 0, 1) := dk_3 (dk_at dksX1_wears_1 3 rfl rfl)
theorem dX1_wears_26 : decode cX1_wears 26 = .ok (.invokestatic 69, 3) := dk_184 0 69 (dk_at dksX1_wears_1 4 rfl rfl)
theorem dX1_wears_29 : decode cX1_wears 29 = .ok (.aload 4, 2) := dk_25 4 (dk_at dksX1_wears_1 7 rfl rfl)
theorem dX1_wears_31 : decode cX1_wears 31 = .ok (.iload_n 3, 1) := dk_29 (dk_at dksX1_wears_1 9 rfl rfl)
theorem dX1_wears_32 : decode cX1_wears 32 = .ok (.invokevirtual 136, 3) := dk_182 0 136 (dk_at dksX1_wears_1 10 rfl rfl)
theorem dX1_wears_35 : decode cX1_wears 35 = .ok (.getfield 149, 3) := dk_180 0 149 (dk_at dksX1_wears_1 13 rfl rfl)
theorem dX1_wears_38 : decode cX1_wears 38 = .ok (.iload_n 2, 1) := dk_28 (dk_at dksX1_wears_1 16 rfl rfl)
theorem dX1_wears_39 : decode cX1_wears 39 = .ok (.iaload, 1) := dk_46 (dk_at dksX1_wears_1 17 rfl rfl)
theorem dX1_wears_40 : decode cX1_wears 40 = .ok (.ireturn, 1) := dk_172 (dk_at dksX1_wears_1 18 rfl rfl)
abbrev cX1_find : ByteArray := prog_1_method_18_code
def yX1_find : MethodName := ⟨RX1, "find", "(IIII)I"⟩
def dkwX1_find_4 : List UInt8 := [172]
abbrev dktX1_find_4 : List UInt8 := dkwX1_find_4 ++ []
def dkwX1_find_3 : List UInt8 := [27, 28, 29, 21, 4, 183, 0, 157, 182, 0, 96, 87, 42, 180, 0, 19, 180, 0, 152, 182, 0, 47, 4, 100]
abbrev dktX1_find_3 : List UInt8 := dkwX1_find_3 ++ dktX1_find_4
def dkwX1_find_2 : List UInt8 := [180, 0, 152, 182, 0, 47, 16, 8, 160, 0, 5, 2, 172, 42, 180, 0, 19, 180, 0, 152, 187, 0, 155, 89]
abbrev dktX1_find_2 : List UInt8 := dkwX1_find_2 ++ dktX1_find_3
def dkwX1_find_1 : List UInt8 := [155, 0, 14, 21, 4, 16, 60, 163, 0, 7, 4, 167, 0, 4, 3, 184, 0, 69, 42, 180, 0, 19]
abbrev dktX1_find_1 : List UInt8 := dkwX1_find_1 ++ dktX1_find_2
def dkwX1_find_0 : List UInt8 := [27, 184, 0, 130, 153, 0, 33, 28, 184, 0, 133, 153, 0, 26, 29, 184, 0, 100, 153, 0, 19, 21, 4]
abbrev dktX1_find_0 : List UInt8 := dkwX1_find_0 ++ dktX1_find_1
theorem dksX1_find_0 : cX1_find.data.toList.drop 0 = dktX1_find_0 := by decide +kernel
theorem dksX1_find_1 : cX1_find.data.toList.drop 23 = dktX1_find_1 := dk_seg dksX1_find_0 23 rfl rfl
theorem dksX1_find_2 : cX1_find.data.toList.drop 45 = dktX1_find_2 := dk_seg dksX1_find_1 22 rfl rfl
theorem dksX1_find_3 : cX1_find.data.toList.drop 69 = dktX1_find_3 := dk_seg dksX1_find_2 24 rfl rfl
theorem dksX1_find_4 : cX1_find.data.toList.drop 93 = dktX1_find_4 := dk_seg dksX1_find_3 24 rfl rfl
theorem dX1_find_0 : decode cX1_find 0 = .ok (.iload_n 1, 1) := dk_27 (dk_at dksX1_find_0 0 rfl rfl)
theorem dX1_find_1 : decode cX1_find 1 = .ok (.invokestatic 130, 3) := dk_184 0 130 (dk_at dksX1_find_0 1 rfl rfl)
theorem dX1_find_4 : decode cX1_find 4 = .ok (.ifCond .eq 33, 3) := dk_153 0 33 (dk_at dksX1_find_0 4 rfl rfl)
theorem dX1_find_7 : decode cX1_find 7 = .ok (.iload_n 2, 1) := dk_28 (dk_at dksX1_find_0 7 rfl rfl)
theorem dX1_find_8 : decode cX1_find 8 = .ok (.invokestatic 133, 3) := dk_184 0 133 (dk_at dksX1_find_0 8 rfl rfl)
theorem dX1_find_11 : decode cX1_find 11 = .ok (.ifCond .eq 26, 3) := dk_153 0 26 (dk_at dksX1_find_0 11 rfl rfl)
theorem dX1_find_14 : decode cX1_find 14 = .ok (.iload_n 3, 1) := dk_29 (dk_at dksX1_find_0 14 rfl rfl)
theorem dX1_find_15 : decode cX1_find 15 = .ok (.invokestatic 100, 3) := dk_184 0 100 (dk_at dksX1_find_0 15 rfl rfl)
theorem dX1_find_18 : decode cX1_find 18 = .ok (.ifCond .eq 19, 3) := dk_153 0 19 (dk_at dksX1_find_0 18 rfl rfl)
theorem dX1_find_21 : decode cX1_find 21 = .ok (.iload 4, 2) := dk_21 4 (dk_at dksX1_find_0 21 rfl rfl)
theorem dX1_find_23 : decode cX1_find 23 = .ok (.ifCond .lt 14, 3) := dk_155 0 14 (dk_at dksX1_find_1 0 rfl rfl)
theorem dX1_find_26 : decode cX1_find 26 = .ok (.iload 4, 2) := dk_21 4 (dk_at dksX1_find_1 3 rfl rfl)
theorem dX1_find_28 : decode cX1_find 28 = .ok (.bipush 60, 2) := dk_16 60 (dk_at dksX1_find_1 5 rfl rfl)
theorem dX1_find_30 : decode cX1_find 30 = .ok (.if_icmp .gt 7, 3) := dk_163 0 7 (dk_at dksX1_find_1 7 rfl rfl)
theorem dX1_find_33 : decode cX1_find 33 = .ok (.iconst 1, 1) := dk_4 (dk_at dksX1_find_1 10 rfl rfl)
theorem dX1_find_34 : decode cX1_find 34 = .ok (.goto 4, 3) := dk_167 0 4 (dk_at dksX1_find_1 11 rfl rfl)
theorem dX1_find_37 : decode cX1_find 37 = .ok (.iconst 0, 1) := dk_3 (dk_at dksX1_find_1 14 rfl rfl)
theorem dX1_find_38 : decode cX1_find 38 = .ok (.invokestatic 69, 3) := dk_184 0 69 (dk_at dksX1_find_1 15 rfl rfl)
theorem dX1_find_41 : decode cX1_find 41 = .ok (.aload_n 0, 1) := dk_42 (dk_at dksX1_find_1 18 rfl rfl)
theorem dX1_find_42 : decode cX1_find 42 = .ok (.getfield 19, 3) := dk_180 0 19 (dk_at dksX1_find_1 19 rfl rfl)
theorem dX1_find_45 : decode cX1_find 45 = .ok (.getfield 152, 3) := dk_180 0 152 (dk_at dksX1_find_2 0 rfl rfl)
theorem dX1_find_48 : decode cX1_find 48 = .ok (.invokevirtual 47, 3) := dk_182 0 47 (dk_at dksX1_find_2 3 rfl rfl)
theorem dX1_find_51 : decode cX1_find 51 = .ok (.bipush 8, 2) := dk_16 8 (dk_at dksX1_find_2 6 rfl rfl)
theorem dX1_find_53 : decode cX1_find 53 = .ok (.if_icmp .ne 5, 3) := dk_160 0 5 (dk_at dksX1_find_2 8 rfl rfl)
theorem dX1_find_56 : decode cX1_find 56 = .ok (.iconst (-1), 1) := dk_2 (dk_at dksX1_find_2 11 rfl rfl)
theorem dX1_find_57 : decode cX1_find 57 = .ok (.ireturn, 1) := dk_172 (dk_at dksX1_find_2 12 rfl rfl)
theorem dX1_find_58 : decode cX1_find 58 = .ok (.aload_n 0, 1) := dk_42 (dk_at dksX1_find_2 13 rfl rfl)
theorem dX1_find_59 : decode cX1_find 59 = .ok (.getfield 19, 3) := dk_180 0 19 (dk_at dksX1_find_2 14 rfl rfl)
theorem dX1_find_62 : decode cX1_find 62 = .ok (.getfield 152, 3) := dk_180 0 152 (dk_at dksX1_find_2 17 rfl rfl)
theorem dX1_find_65 : decode cX1_find 65 = .ok (.new 155, 3) := dk_187 0 155 (dk_at dksX1_find_2 20 rfl rfl)
theorem dX1_find_68 : decode cX1_find 68 = .ok (.dup, 1) := dk_89 (dk_at dksX1_find_2 23 rfl rfl)
theorem dX1_find_69 : decode cX1_find 69 = .ok (.iload_n 1, 1) := dk_27 (dk_at dksX1_find_3 0 rfl rfl)
theorem dX1_find_70 : decode cX1_find 70 = .ok (.iload_n 2, 1) := dk_28 (dk_at dksX1_find_3 1 rfl rfl)
theorem dX1_find_71 : decode cX1_find 71 = .ok (.iload_n 3, 1) := dk_29 (dk_at dksX1_find_3 2 rfl rfl)
theorem dX1_find_72 : decode cX1_find 72 = .ok (.iload 4, 2) := dk_21 4 (dk_at dksX1_find_3 3 rfl rfl)
theorem dX1_find_74 : decode cX1_find 74 = .ok (.invokespecial 157, 3) := dk_183 0 157 (dk_at dksX1_find_3 5 rfl rfl)
theorem dX1_find_77 : decode cX1_find 77 = .ok (.invokevirtual 96, 3) := dk_182 0 96 (dk_at dksX1_find_3 8 rfl rfl)
theorem dX1_find_80 : decode cX1_find 80 = .ok (.pop, 1) := dk_87 (dk_at dksX1_find_3 11 rfl rfl)
theorem dX1_find_81 : decode cX1_find 81 = .ok (.aload_n 0, 1) := dk_42 (dk_at dksX1_find_3 12 rfl rfl)
theorem dX1_find_82 : decode cX1_find 82 = .ok (.getfield 19, 3) := dk_180 0 19 (dk_at dksX1_find_3 13 rfl rfl)
theorem dX1_find_85 : decode cX1_find 85 = .ok (.getfield 152, 3) := dk_180 0 152 (dk_at dksX1_find_3 16 rfl rfl)
theorem dX1_find_88 : decode cX1_find 88 = .ok (.invokevirtual 47, 3) := dk_182 0 47 (dk_at dksX1_find_3 19 rfl rfl)
theorem dX1_find_91 : decode cX1_find 91 = .ok (.iconst 1, 1) := dk_4 (dk_at dksX1_find_3 22 rfl rfl)
theorem dX1_find_92 : decode cX1_find 92 = .ok (.isub, 1) := dk_100 (dk_at dksX1_find_3 23 rfl rfl)
theorem dX1_find_93 : decode cX1_find 93 = .ok (.ireturn, 1) := dk_172 (dk_at dksX1_find_4 0 rfl rfl)
abbrev cX1_found : ByteArray := prog_1_method_20_code
def yX1_found : MethodName := ⟨RX1, "found", "(II)I"⟩
def dkwX1_found_2 : List UInt8 := [160, 0, 10, 45, 180, 0, 171, 167, 0, 7, 45, 180, 0, 174, 172]
abbrev dktX1_found_2 : List UInt8 := dkwX1_found_2 ++ []
def dkwX1_found_1 : List UInt8 := [154, 0, 10, 45, 180, 0, 167, 167, 0, 31, 28, 4, 160, 0, 10, 45, 180, 0, 168, 167, 0, 19, 28, 5]
abbrev dktX1_found_1 : List UInt8 := dkwX1_found_1 ++ dktX1_found_2
def dkwX1_found_0 : List UInt8 := [42, 27, 182, 0, 163, 78, 28, 155, 0, 12, 28, 6, 163, 0, 7, 4, 167, 0, 4, 3, 184, 0, 69, 28]
abbrev dktX1_found_0 : List UInt8 := dkwX1_found_0 ++ dktX1_found_1
theorem dksX1_found_0 : cX1_found.data.toList.drop 0 = dktX1_found_0 := by decide +kernel
theorem dksX1_found_1 : cX1_found.data.toList.drop 24 = dktX1_found_1 := dk_seg dksX1_found_0 24 rfl rfl
theorem dksX1_found_2 : cX1_found.data.toList.drop 48 = dktX1_found_2 := dk_seg dksX1_found_1 24 rfl rfl
theorem dX1_found_0 : decode cX1_found 0 = .ok (.aload_n 0, 1) := dk_42 (dk_at dksX1_found_0 0 rfl rfl)
theorem dX1_found_1 : decode cX1_found 1 = .ok (.iload_n 1, 1) := dk_27 (dk_at dksX1_found_0 1 rfl rfl)
theorem dX1_found_2 : decode cX1_found 2 = .ok (.invokevirtual 163, 3) := dk_182 0 163 (dk_at dksX1_found_0 2 rfl rfl)
theorem dX1_found_5 : decode cX1_found 5 = .ok (.astore_n 3, 1) := dk_78 (dk_at dksX1_found_0 5 rfl rfl)
theorem dX1_found_6 : decode cX1_found 6 = .ok (.iload_n 2, 1) := dk_28 (dk_at dksX1_found_0 6 rfl rfl)
theorem dX1_found_7 : decode cX1_found 7 = .ok (.ifCond .lt 12, 3) := dk_155 0 12 (dk_at dksX1_found_0 7 rfl rfl)
theorem dX1_found_10 : decode cX1_found 10 = .ok (.iload_n 2, 1) := dk_28 (dk_at dksX1_found_0 10 rfl rfl)
theorem dX1_found_11 : decode cX1_found 11 = .ok (.iconst 3, 1) := dk_6 (dk_at dksX1_found_0 11 rfl rfl)
theorem dX1_found_12 : decode cX1_found 12 = .ok (.if_icmp .gt 7, 3) := dk_163 0 7 (dk_at dksX1_found_0 12 rfl rfl)
theorem dX1_found_15 : decode cX1_found 15 = .ok (.iconst 1, 1) := dk_4 (dk_at dksX1_found_0 15 rfl rfl)
theorem dX1_found_16 : decode cX1_found 16 = .ok (.goto 4, 3) := dk_167 0 4 (dk_at dksX1_found_0 16 rfl rfl)
theorem dX1_found_19 : decode cX1_found 19 = .ok (.iconst 0, 1) := dk_3 (dk_at dksX1_found_0 19 rfl rfl)
theorem dX1_found_20 : decode cX1_found 20 = .ok (.invokestatic 69, 3) := dk_184 0 69 (dk_at dksX1_found_0 20 rfl rfl)
theorem dX1_found_23 : decode cX1_found 23 = .ok (.iload_n 2, 1) := dk_28 (dk_at dksX1_found_0 23 rfl rfl)
theorem dX1_found_24 : decode cX1_found 24 = .ok (.ifCond .ne 10, 3) := dk_154 0 10 (dk_at dksX1_found_1 0 rfl rfl)
theorem dX1_found_27 : decode cX1_found 27 = .ok (.aload_n 3, 1) := dk_45 (dk_at dksX1_found_1 3 rfl rfl)
theorem dX1_found_28 : decode cX1_found 28 = .ok (.getfield 167, 3) := dk_180 0 167 (dk_at dksX1_found_1 4 rfl rfl)
theorem dX1_found_31 : decode cX1_found 31 = .ok (.goto 31, 3) := dk_167 0 31 (dk_at dksX1_found_1 7 rfl rfl)
theorem dX1_found_34 : decode cX1_found 34 = .ok (.iload_n 2, 1) := dk_28 (dk_at dksX1_found_1 10 rfl rfl)
theorem dX1_found_35 : decode cX1_found 35 = .ok (.iconst 1, 1) := dk_4 (dk_at dksX1_found_1 11 rfl rfl)
theorem dX1_found_36 : decode cX1_found 36 = .ok (.if_icmp .ne 10, 3) := dk_160 0 10 (dk_at dksX1_found_1 12 rfl rfl)
theorem dX1_found_39 : decode cX1_found 39 = .ok (.aload_n 3, 1) := dk_45 (dk_at dksX1_found_1 15 rfl rfl)
theorem dX1_found_40 : decode cX1_found 40 = .ok (.getfield 168, 3) := dk_180 0 168 (dk_at dksX1_found_1 16 rfl rfl)
theorem dX1_found_43 : decode cX1_found 43 = .ok (.goto 19, 3) := dk_167 0 19 (dk_at dksX1_found_1 19 rfl rfl)
theorem dX1_found_46 : decode cX1_found 46 = .ok (.iload_n 2, 1) := dk_28 (dk_at dksX1_found_1 22 rfl rfl)
theorem dX1_found_47 : decode cX1_found 47 = .ok (.iconst 2, 1) := dk_5 (dk_at dksX1_found_1 23 rfl rfl)
theorem dX1_found_48 : decode cX1_found 48 = .ok (.if_icmp .ne 10, 3) := dk_160 0 10 (dk_at dksX1_found_2 0 rfl rfl)
theorem dX1_found_51 : decode cX1_found 51 = .ok (.aload_n 3, 1) := dk_45 (dk_at dksX1_found_2 3 rfl rfl)
theorem dX1_found_52 : decode cX1_found 52 = .ok (.getfield 171, 3) := dk_180 0 171 (dk_at dksX1_found_2 4 rfl rfl)
theorem dX1_found_55 : decode cX1_found 55 = .ok (.goto 7, 3) := dk_167 0 7 (dk_at dksX1_found_2 7 rfl rfl)
theorem dX1_found_58 : decode cX1_found 58 = .ok (.aload_n 3, 1) := dk_45 (dk_at dksX1_found_2 10 rfl rfl)
theorem dX1_found_59 : decode cX1_found 59 = .ok (.getfield 174, 3) := dk_180 0 174 (dk_at dksX1_found_2 11 rfl rfl)
theorem dX1_found_62 : decode cX1_found 62 = .ok (.ireturn, 1) := dk_172 (dk_at dksX1_found_2 14 rfl rfl)
abbrev cX1_findOf : ByteArray := prog_1_method_19_code
def yX1_findOf : MethodName := ⟨RX1, "findOf", "(I)LWoolThreads$Find;"⟩
def dkwX1_findOf_1 : List UInt8 := [183, 0, 162, 191, 42, 180, 0, 19, 180, 0, 152, 27, 182, 0, 56, 192, 0, 155, 176]
abbrev dktX1_findOf_1 : List UInt8 := dkwX1_findOf_1 ++ []
def dkwX1_findOf_0 : List UInt8 := [27, 155, 0, 17, 27, 42, 180, 0, 19, 180, 0, 152, 182, 0, 47, 161, 0, 11, 187, 0, 160, 89]
abbrev dktX1_findOf_0 : List UInt8 := dkwX1_findOf_0 ++ dktX1_findOf_1
theorem dksX1_findOf_0 : cX1_findOf.data.toList.drop 0 = dktX1_findOf_0 := by decide +kernel
theorem dksX1_findOf_1 : cX1_findOf.data.toList.drop 22 = dktX1_findOf_1 := dk_seg dksX1_findOf_0 22 rfl rfl
theorem dX1_findOf_0 : decode cX1_findOf 0 = .ok (.iload_n 1, 1) := dk_27 (dk_at dksX1_findOf_0 0 rfl rfl)
theorem dX1_findOf_1 : decode cX1_findOf 1 = .ok (.ifCond .lt 17, 3) := dk_155 0 17 (dk_at dksX1_findOf_0 1 rfl rfl)
theorem dX1_findOf_4 : decode cX1_findOf 4 = .ok (.iload_n 1, 1) := dk_27 (dk_at dksX1_findOf_0 4 rfl rfl)
theorem dX1_findOf_5 : decode cX1_findOf 5 = .ok (.aload_n 0, 1) := dk_42 (dk_at dksX1_findOf_0 5 rfl rfl)
theorem dX1_findOf_6 : decode cX1_findOf 6 = .ok (.getfield 19, 3) := dk_180 0 19 (dk_at dksX1_findOf_0 6 rfl rfl)
theorem dX1_findOf_9 : decode cX1_findOf 9 = .ok (.getfield 152, 3) := dk_180 0 152 (dk_at dksX1_findOf_0 9 rfl rfl)
theorem dX1_findOf_12 : decode cX1_findOf 12 = .ok (.invokevirtual 47, 3) := dk_182 0 47 (dk_at dksX1_findOf_0 12 rfl rfl)
theorem dX1_findOf_15 : decode cX1_findOf 15 = .ok (.if_icmp .lt 11, 3) := dk_161 0 11 (dk_at dksX1_findOf_0 15 rfl rfl)
theorem dX1_findOf_18 : decode cX1_findOf 18 = .ok (.new 160, 3) := dk_187 0 160 (dk_at dksX1_findOf_0 18 rfl rfl)
theorem dX1_findOf_21 : decode cX1_findOf 21 = .ok (.dup, 1) := dk_89 (dk_at dksX1_findOf_0 21 rfl rfl)
theorem dX1_findOf_22 : decode cX1_findOf 22 = .ok (.invokespecial 162, 3) := dk_183 0 162 (dk_at dksX1_findOf_1 0 rfl rfl)
theorem dX1_findOf_25 : decode cX1_findOf 25 = .ok (.athrow, 1) := dk_191 (dk_at dksX1_findOf_1 3 rfl rfl)
theorem dX1_findOf_26 : decode cX1_findOf 26 = .ok (.aload_n 0, 1) := dk_42 (dk_at dksX1_findOf_1 4 rfl rfl)
theorem dX1_findOf_27 : decode cX1_findOf 27 = .ok (.getfield 19, 3) := dk_180 0 19 (dk_at dksX1_findOf_1 5 rfl rfl)
theorem dX1_findOf_30 : decode cX1_findOf 30 = .ok (.getfield 152, 3) := dk_180 0 152 (dk_at dksX1_findOf_1 8 rfl rfl)
theorem dX1_findOf_33 : decode cX1_findOf 33 = .ok (.iload_n 1, 1) := dk_27 (dk_at dksX1_findOf_1 11 rfl rfl)
theorem dX1_findOf_34 : decode cX1_findOf 34 = .ok (.invokevirtual 56, 3) := dk_182 0 56 (dk_at dksX1_findOf_1 12 rfl rfl)
theorem dX1_findOf_37 : decode cX1_findOf 37 = .ok (.checkcast 155, 3) := dk_192 0 155 (dk_at dksX1_findOf_1 15 rfl rfl)
theorem dX1_findOf_40 : decode cX1_findOf 40 = .ok (.areturn, 1) := dk_176 (dk_at dksX1_findOf_1 18 rfl rfl)
abbrev cX1_drop : ByteArray := prog_1_method_21_code
def yX1_drop : MethodName := ⟨RX1, "drop", "(I)I"⟩
def dkwX1_drop_1 : List UInt8 := [180, 0, 152, 182, 0, 47, 172]
abbrev dktX1_drop_1 : List UInt8 := dkwX1_drop_1 ++ []
def dkwX1_drop_0 : List UInt8 := [42, 27, 182, 0, 163, 87, 42, 180, 0, 19, 180, 0, 152, 27, 182, 0, 177, 87, 42, 180, 0, 19]
abbrev dktX1_drop_0 : List UInt8 := dkwX1_drop_0 ++ dktX1_drop_1
theorem dksX1_drop_0 : cX1_drop.data.toList.drop 0 = dktX1_drop_0 := by decide +kernel
theorem dksX1_drop_1 : cX1_drop.data.toList.drop 22 = dktX1_drop_1 := dk_seg dksX1_drop_0 22 rfl rfl
theorem dX1_drop_0 : decode cX1_drop 0 = .ok (.aload_n 0, 1) := dk_42 (dk_at dksX1_drop_0 0 rfl rfl)
theorem dX1_drop_1 : decode cX1_drop 1 = .ok (.iload_n 1, 1) := dk_27 (dk_at dksX1_drop_0 1 rfl rfl)
theorem dX1_drop_2 : decode cX1_drop 2 = .ok (.invokevirtual 163, 3) := dk_182 0 163 (dk_at dksX1_drop_0 2 rfl rfl)
theorem dX1_drop_5 : decode cX1_drop 5 = .ok (.pop, 1) := dk_87 (dk_at dksX1_drop_0 5 rfl rfl)
theorem dX1_drop_6 : decode cX1_drop 6 = .ok (.aload_n 0, 1) := dk_42 (dk_at dksX1_drop_0 6 rfl rfl)
theorem dX1_drop_7 : decode cX1_drop 7 = .ok (.getfield 19, 3) := dk_180 0 19 (dk_at dksX1_drop_0 7 rfl rfl)
theorem dX1_drop_10 : decode cX1_drop 10 = .ok (.getfield 152, 3) := dk_180 0 152 (dk_at dksX1_drop_0 10 rfl rfl)
theorem dX1_drop_13 : decode cX1_drop 13 = .ok (.iload_n 1, 1) := dk_27 (dk_at dksX1_drop_0 13 rfl rfl)
theorem dX1_drop_14 : decode cX1_drop 14 = .ok (.invokevirtual 177, 3) := dk_182 0 177 (dk_at dksX1_drop_0 14 rfl rfl)
theorem dX1_drop_17 : decode cX1_drop 17 = .ok (.pop, 1) := dk_87 (dk_at dksX1_drop_0 17 rfl rfl)
theorem dX1_drop_18 : decode cX1_drop 18 = .ok (.aload_n 0, 1) := dk_42 (dk_at dksX1_drop_0 18 rfl rfl)
theorem dX1_drop_19 : decode cX1_drop 19 = .ok (.getfield 19, 3) := dk_180 0 19 (dk_at dksX1_drop_0 19 rfl rfl)
theorem dX1_drop_22 : decode cX1_drop 22 = .ok (.getfield 152, 3) := dk_180 0 152 (dk_at dksX1_drop_1 0 rfl rfl)
theorem dX1_drop_25 : decode cX1_drop 25 = .ok (.invokevirtual 47, 3) := dk_182 0 47 (dk_at dksX1_drop_1 3 rfl rfl)
theorem dX1_drop_28 : decode cX1_drop 28 = .ok (.ireturn, 1) := dk_172 (dk_at dksX1_drop_1 6 rfl rfl)
abbrev cX1_scale : ByteArray := prog_1_method_22_code
def yX1_scale : MethodName := ⟨RX1, "scale", "(I)I"⟩
def dkwX1_scale_0 : List UInt8 := [42, 27, 182, 0, 126, 2, 182, 0, 180, 172]
abbrev dktX1_scale_0 : List UInt8 := dkwX1_scale_0 ++ []
theorem dksX1_scale_0 : cX1_scale.data.toList.drop 0 = dktX1_scale_0 := by decide +kernel
theorem dX1_scale_0 : decode cX1_scale 0 = .ok (.aload_n 0, 1) := dk_42 (dk_at dksX1_scale_0 0 rfl rfl)
theorem dX1_scale_1 : decode cX1_scale 1 = .ok (.iload_n 1, 1) := dk_27 (dk_at dksX1_scale_0 1 rfl rfl)
theorem dX1_scale_2 : decode cX1_scale 2 = .ok (.invokevirtual 126, 3) := dk_182 0 126 (dk_at dksX1_scale_0 2 rfl rfl)
theorem dX1_scale_5 : decode cX1_scale 5 = .ok (.iconst (-1), 1) := dk_2 (dk_at dksX1_scale_0 5 rfl rfl)
theorem dX1_scale_6 : decode cX1_scale 6 = .ok (.invokevirtual 180, 3) := dk_182 0 180 (dk_at dksX1_scale_0 6 rfl rfl)
theorem dX1_scale_9 : decode cX1_scale 9 = .ok (.ireturn, 1) := dk_172 (dk_at dksX1_scale_0 9 rfl rfl)
abbrev cX1_digits : ByteArray := prog_1_method_23_code
def yX1_digits : MethodName := ⟨RX1, "digits", "(I)I"⟩
def dkwX1_digits_0 : List UInt8 := [42, 27, 182, 0, 126, 2, 182, 0, 184, 182, 0, 188, 172]
abbrev dktX1_digits_0 : List UInt8 := dkwX1_digits_0 ++ []
theorem dksX1_digits_0 : cX1_digits.data.toList.drop 0 = dktX1_digits_0 := by decide +kernel
theorem dX1_digits_0 : decode cX1_digits 0 = .ok (.aload_n 0, 1) := dk_42 (dk_at dksX1_digits_0 0 rfl rfl)
theorem dX1_digits_1 : decode cX1_digits 1 = .ok (.iload_n 1, 1) := dk_27 (dk_at dksX1_digits_0 1 rfl rfl)
theorem dX1_digits_2 : decode cX1_digits 2 = .ok (.invokevirtual 126, 3) := dk_182 0 126 (dk_at dksX1_digits_0 2 rfl rfl)
theorem dX1_digits_5 : decode cX1_digits 5 = .ok (.iconst (-1), 1) := dk_2 (dk_at dksX1_digits_0 5 rfl rfl)
theorem dX1_digits_6 : decode cX1_digits 6 = .ok (.invokevirtual 184, 3) := dk_182 0 184 (dk_at dksX1_digits_0 6 rfl rfl)
theorem dX1_digits_9 : decode cX1_digits 9 = .ok (.invokevirtual 188, 3) := dk_182 0 188 (dk_at dksX1_digits_0 9 rfl rfl)
theorem dX1_digits_12 : decode cX1_digits 12 = .ok (.ireturn, 1) := dk_172 (dk_at dksX1_digits_0 12 rfl rfl)
abbrev cX1_digit : ByteArray := prog_1_method_24_code
def yX1_digit : MethodName := ⟨RX1, "digit", "(II)I"⟩
def dkwX1_digit_1 : List UInt8 := [167, 0, 8, 45, 28, 182, 0, 193, 172]
abbrev dktX1_digit_1 : List UInt8 := dkwX1_digit_1 ++ []
def dkwX1_digit_0 : List UInt8 := [42, 27, 182, 0, 126, 2, 182, 0, 184, 78, 28, 155, 0, 11, 28, 45, 182, 0, 188, 161, 0, 7, 2]
abbrev dktX1_digit_0 : List UInt8 := dkwX1_digit_0 ++ dktX1_digit_1
theorem dksX1_digit_0 : cX1_digit.data.toList.drop 0 = dktX1_digit_0 := by decide +kernel
theorem dksX1_digit_1 : cX1_digit.data.toList.drop 23 = dktX1_digit_1 := dk_seg dksX1_digit_0 23 rfl rfl
theorem dX1_digit_0 : decode cX1_digit 0 = .ok (.aload_n 0, 1) := dk_42 (dk_at dksX1_digit_0 0 rfl rfl)
theorem dX1_digit_1 : decode cX1_digit 1 = .ok (.iload_n 1, 1) := dk_27 (dk_at dksX1_digit_0 1 rfl rfl)
theorem dX1_digit_2 : decode cX1_digit 2 = .ok (.invokevirtual 126, 3) := dk_182 0 126 (dk_at dksX1_digit_0 2 rfl rfl)
theorem dX1_digit_5 : decode cX1_digit 5 = .ok (.iconst (-1), 1) := dk_2 (dk_at dksX1_digit_0 5 rfl rfl)
theorem dX1_digit_6 : decode cX1_digit 6 = .ok (.invokevirtual 184, 3) := dk_182 0 184 (dk_at dksX1_digit_0 6 rfl rfl)
theorem dX1_digit_9 : decode cX1_digit 9 = .ok (.astore_n 3, 1) := dk_78 (dk_at dksX1_digit_0 9 rfl rfl)
theorem dX1_digit_10 : decode cX1_digit 10 = .ok (.iload_n 2, 1) := dk_28 (dk_at dksX1_digit_0 10 rfl rfl)
theorem dX1_digit_11 : decode cX1_digit 11 = .ok (.ifCond .lt 11, 3) := dk_155 0 11 (dk_at dksX1_digit_0 11 rfl rfl)
theorem dX1_digit_14 : decode cX1_digit 14 = .ok (.iload_n 2, 1) := dk_28 (dk_at dksX1_digit_0 14 rfl rfl)
theorem dX1_digit_15 : decode cX1_digit 15 = .ok (.aload_n 3, 1) := dk_45 (dk_at dksX1_digit_0 15 rfl rfl)
theorem dX1_digit_16 : decode cX1_digit 16 = .ok (.invokevirtual 188, 3) := dk_182 0 188 (dk_at dksX1_digit_0 16 rfl rfl)
theorem dX1_digit_19 : decode cX1_digit 19 = .ok (.if_icmp .lt 7, 3) := dk_161 0 7 (dk_at dksX1_digit_0 19 rfl rfl)
theorem dX1_digit_22 : decode cX1_digit 22 = .ok (.iconst (-1), 1) := dk_2 (dk_at dksX1_digit_0 22 rfl rfl)
theorem dX1_digit_23 : decode cX1_digit 23 = .ok (.goto 8, 3) := dk_167 0 8 (dk_at dksX1_digit_1 0 rfl rfl)
theorem dX1_digit_26 : decode cX1_digit 26 = .ok (.aload_n 3, 1) := dk_45 (dk_at dksX1_digit_1 3 rfl rfl)
theorem dX1_digit_27 : decode cX1_digit 27 = .ok (.iload_n 2, 1) := dk_28 (dk_at dksX1_digit_1 4 rfl rfl)
theorem dX1_digit_28 : decode cX1_digit 28 = .ok (.invokevirtual 193, 3) := dk_182 0 193 (dk_at dksX1_digit_1 5 rfl rfl)
theorem dX1_digit_31 : decode cX1_digit 31 = .ok (.ireturn, 1) := dk_172 (dk_at dksX1_digit_1 8 rfl rfl)
abbrev cX1_weighed : ByteArray := prog_1_method_26_code
def yX1_weighed : MethodName := ⟨RX1, "weighed", "(II)I"⟩
def dkwX1_weighed_1 : List UInt8 := [184, 0, 199, 182, 0, 203, 172]
abbrev dktX1_weighed_1 : List UInt8 := dkwX1_weighed_1 ++ []
def dkwX1_weighed_0 : List UInt8 := [42, 27, 182, 0, 126, 78, 42, 28, 182, 0, 126, 58, 4, 45, 25, 4, 2, 184, 0, 199, 25, 4, 45, 2]
abbrev dktX1_weighed_0 : List UInt8 := dkwX1_weighed_0 ++ dktX1_weighed_1
theorem dksX1_weighed_0 : cX1_weighed.data.toList.drop 0 = dktX1_weighed_0 := by decide +kernel
theorem dksX1_weighed_1 : cX1_weighed.data.toList.drop 24 = dktX1_weighed_1 := dk_seg dksX1_weighed_0 24 rfl rfl
theorem dX1_weighed_0 : decode cX1_weighed 0 = .ok (.aload_n 0, 1) := dk_42 (dk_at dksX1_weighed_0 0 rfl rfl)
theorem dX1_weighed_1 : decode cX1_weighed 1 = .ok (.iload_n 1, 1) := dk_27 (dk_at dksX1_weighed_0 1 rfl rfl)
theorem dX1_weighed_2 : decode cX1_weighed 2 = .ok (.invokevirtual 126, 3) := dk_182 0 126 (dk_at dksX1_weighed_0 2 rfl rfl)
theorem dX1_weighed_5 : decode cX1_weighed 5 = .ok (.astore_n 3, 1) := dk_78 (dk_at dksX1_weighed_0 5 rfl rfl)
theorem dX1_weighed_6 : decode cX1_weighed 6 = .ok (.aload_n 0, 1) := dk_42 (dk_at dksX1_weighed_0 6 rfl rfl)
theorem dX1_weighed_7 : decode cX1_weighed 7 = .ok (.iload_n 2, 1) := dk_28 (dk_at dksX1_weighed_0 7 rfl rfl)
theorem dX1_weighed_8 : decode cX1_weighed 8 = .ok (.invokevirtual 126, 3) := dk_182 0 126 (dk_at dksX1_weighed_0 8 rfl rfl)
theorem dX1_weighed_11 : decode cX1_weighed 11 = .ok (.astore 4, 2) := dk_58 4 (dk_at dksX1_weighed_0 11 rfl rfl)
theorem dX1_weighed_13 : decode cX1_weighed 13 = .ok (.aload_n 3, 1) := dk_45 (dk_at dksX1_weighed_0 13 rfl rfl)
theorem dX1_weighed_14 : decode cX1_weighed 14 = .ok (.aload 4, 2) := dk_25 4 (dk_at dksX1_weighed_0 14 rfl rfl)
theorem dX1_weighed_16 : decode cX1_weighed 16 = .ok (.iconst (-1), 1) := dk_2 (dk_at dksX1_weighed_0 16 rfl rfl)
theorem dX1_weighed_17 : decode cX1_weighed 17 = .ok (.invokestatic 199, 3) := dk_184 0 199 (dk_at dksX1_weighed_0 17 rfl rfl)
theorem dX1_weighed_20 : decode cX1_weighed 20 = .ok (.aload 4, 2) := dk_25 4 (dk_at dksX1_weighed_0 20 rfl rfl)
theorem dX1_weighed_22 : decode cX1_weighed 22 = .ok (.aload_n 3, 1) := dk_45 (dk_at dksX1_weighed_0 22 rfl rfl)
theorem dX1_weighed_23 : decode cX1_weighed 23 = .ok (.iconst (-1), 1) := dk_2 (dk_at dksX1_weighed_0 23 rfl rfl)
theorem dX1_weighed_24 : decode cX1_weighed 24 = .ok (.invokestatic 199, 3) := dk_184 0 199 (dk_at dksX1_weighed_1 0 rfl rfl)
theorem dX1_weighed_27 : decode cX1_weighed 27 = .ok (.invokevirtual 203, 3) := dk_182 0 203 (dk_at dksX1_weighed_1 3 rfl rfl)
theorem dX1_weighed_30 : decode cX1_weighed 30 = .ok (.ireturn, 1) := dk_172 (dk_at dksX1_weighed_1 6 rfl rfl)
abbrev cX1_scaled : ByteArray := prog_1_method_25_code
def yX1_scaled : MethodName := ⟨RX1, "scaled", "(LWoolThreads$Run;LWoolThreads$Run;I)LWoolThreads$Great;"⟩
def dkwX1_scaled_1 : List UInt8 := [132, 4, 255, 167, 255, 242, 45, 176]
abbrev dktX1_scaled_1 : List UInt8 := dkwX1_scaled_1 ++ []
def dkwX1_scaled_0 : List UInt8 := [42, 28, 182, 0, 184, 78, 43, 28, 182, 0, 180, 54, 4, 21, 4, 158, 0, 15, 45, 16, 16, 182, 0, 196]
abbrev dktX1_scaled_0 : List UInt8 := dkwX1_scaled_0 ++ dktX1_scaled_1
theorem dksX1_scaled_0 : cX1_scaled.data.toList.drop 0 = dktX1_scaled_0 := by decide +kernel
theorem dksX1_scaled_1 : cX1_scaled.data.toList.drop 24 = dktX1_scaled_1 := dk_seg dksX1_scaled_0 24 rfl rfl
theorem dX1_scaled_0 : decode cX1_scaled 0 = .ok (.aload_n 0, 1) := dk_42 (dk_at dksX1_scaled_0 0 rfl rfl)
theorem dX1_scaled_1 : decode cX1_scaled 1 = .ok (.iload_n 2, 1) := dk_28 (dk_at dksX1_scaled_0 1 rfl rfl)
theorem dX1_scaled_2 : decode cX1_scaled 2 = .ok (.invokevirtual 184, 3) := dk_182 0 184 (dk_at dksX1_scaled_0 2 rfl rfl)
theorem dX1_scaled_5 : decode cX1_scaled 5 = .ok (.astore_n 3, 1) := dk_78 (dk_at dksX1_scaled_0 5 rfl rfl)
theorem dX1_scaled_6 : decode cX1_scaled 6 = .ok (.aload_n 1, 1) := dk_43 (dk_at dksX1_scaled_0 6 rfl rfl)
theorem dX1_scaled_7 : decode cX1_scaled 7 = .ok (.iload_n 2, 1) := dk_28 (dk_at dksX1_scaled_0 7 rfl rfl)
theorem dX1_scaled_8 : decode cX1_scaled 8 = .ok (.invokevirtual 180, 3) := dk_182 0 180 (dk_at dksX1_scaled_0 8 rfl rfl)
theorem dX1_scaled_11 : decode cX1_scaled 11 = .ok (.istore 4, 2) := dk_54 4 (dk_at dksX1_scaled_0 11 rfl rfl)
theorem dX1_scaled_13 : decode cX1_scaled 13 = .ok (.iload 4, 2) := dk_21 4 (dk_at dksX1_scaled_0 13 rfl rfl)
theorem dX1_scaled_15 : decode cX1_scaled 15 = .ok (.ifCond .le 15, 3) := dk_158 0 15 (dk_at dksX1_scaled_0 15 rfl rfl)
theorem dX1_scaled_18 : decode cX1_scaled 18 = .ok (.aload_n 3, 1) := dk_45 (dk_at dksX1_scaled_0 18 rfl rfl)
theorem dX1_scaled_19 : decode cX1_scaled 19 = .ok (.bipush 16, 2) := dk_16 16 (dk_at dksX1_scaled_0 19 rfl rfl)
theorem dX1_scaled_21 : decode cX1_scaled 21 = .ok (.invokevirtual 196, 3) := dk_182 0 196 (dk_at dksX1_scaled_0 21 rfl rfl)
theorem dX1_scaled_24 : decode cX1_scaled 24 = .ok (.iinc 4 (-1), 3) := dk_132 4 255 (dk_at dksX1_scaled_1 0 rfl rfl)
theorem dX1_scaled_27 : decode cX1_scaled 27 = .ok (.goto (-14), 3) := dk_167 255 242 (dk_at dksX1_scaled_1 3 rfl rfl)
theorem dX1_scaled_30 : decode cX1_scaled 30 = .ok (.aload_n 3, 1) := dk_45 (dk_at dksX1_scaled_1 6 rfl rfl)
theorem dX1_scaled_31 : decode cX1_scaled 31 = .ok (.areturn, 1) := dk_176 (dk_at dksX1_scaled_1 7 rfl rfl)
abbrev cX1_worth : ByteArray := prog_1_method_28_code
def yX1_worth : MethodName := ⟨RX1, "worth", "(II)I"⟩
def dkwX1_worth_0 : List UInt8 := [42, 27, 182, 0, 126, 78, 42, 28, 182, 0, 126, 58, 4, 45, 25, 4, 2, 184, 0, 217, 172]
abbrev dktX1_worth_0 : List UInt8 := dkwX1_worth_0 ++ []
theorem dksX1_worth_0 : cX1_worth.data.toList.drop 0 = dktX1_worth_0 := by decide +kernel
theorem dX1_worth_0 : decode cX1_worth 0 = .ok (.aload_n 0, 1) := dk_42 (dk_at dksX1_worth_0 0 rfl rfl)
theorem dX1_worth_1 : decode cX1_worth 1 = .ok (.iload_n 1, 1) := dk_27 (dk_at dksX1_worth_0 1 rfl rfl)
theorem dX1_worth_2 : decode cX1_worth 2 = .ok (.invokevirtual 126, 3) := dk_182 0 126 (dk_at dksX1_worth_0 2 rfl rfl)
theorem dX1_worth_5 : decode cX1_worth 5 = .ok (.astore_n 3, 1) := dk_78 (dk_at dksX1_worth_0 5 rfl rfl)
theorem dX1_worth_6 : decode cX1_worth 6 = .ok (.aload_n 0, 1) := dk_42 (dk_at dksX1_worth_0 6 rfl rfl)
theorem dX1_worth_7 : decode cX1_worth 7 = .ok (.iload_n 2, 1) := dk_28 (dk_at dksX1_worth_0 7 rfl rfl)
theorem dX1_worth_8 : decode cX1_worth 8 = .ok (.invokevirtual 126, 3) := dk_182 0 126 (dk_at dksX1_worth_0 8 rfl rfl)
theorem dX1_worth_11 : decode cX1_worth 11 = .ok (.astore 4, 2) := dk_58 4 (dk_at dksX1_worth_0 11 rfl rfl)
theorem dX1_worth_13 : decode cX1_worth 13 = .ok (.aload_n 3, 1) := dk_45 (dk_at dksX1_worth_0 13 rfl rfl)
theorem dX1_worth_14 : decode cX1_worth 14 = .ok (.aload 4, 2) := dk_25 4 (dk_at dksX1_worth_0 14 rfl rfl)
theorem dX1_worth_16 : decode cX1_worth 16 = .ok (.iconst (-1), 1) := dk_2 (dk_at dksX1_worth_0 16 rfl rfl)
theorem dX1_worth_17 : decode cX1_worth 17 = .ok (.invokestatic 217, 3) := dk_184 0 217 (dk_at dksX1_worth_0 17 rfl rfl)
theorem dX1_worth_20 : decode cX1_worth 20 = .ok (.ireturn, 1) := dk_172 (dk_at dksX1_worth_0 20 rfl rfl)
abbrev cX1_worthOf : ByteArray := prog_1_method_27_code
def yX1_worthOf : MethodName := ⟨RX1, "worthOf", "(LWoolThreads$Run;LWoolThreads$Run;I)I"⟩
def dkwX1_worthOf_4 : List UInt8 := [21, 8, 54, 6, 167, 0, 9, 21, 8, 4, 100, 54, 7, 167, 255, 202, 21, 6, 172]
abbrev dktX1_worthOf_4 : List UInt8 := dkwX1_worthOf_4 ++ []
def dkwX1_worthOf_3 : List UInt8 := [25, 5, 25, 4, 182, 0, 213, 25, 5, 21, 8, 182, 0, 196, 45, 25, 5, 182, 0, 203, 155, 0, 10]
abbrev dktX1_worthOf_3 : List UInt8 := dkwX1_worthOf_3 ++ dktX1_worthOf_4
def dkwX1_worthOf_2 : List UInt8 := [54, 6, 18, 211, 54, 7, 21, 6, 21, 7, 162, 0, 53, 21, 6, 21, 7, 96, 4, 96, 5, 108, 54, 8]
abbrev dktX1_worthOf_2 : List UInt8 := dkwX1_worthOf_2 ++ dktX1_worthOf_3
def dkwX1_worthOf_1 : List UInt8 := [182, 0, 207, 153, 0, 7, 3, 167, 0, 5, 18, 211, 172, 187, 0, 189, 89, 3, 183, 0, 212, 58, 5, 3]
abbrev dktX1_worthOf_1 : List UInt8 := dkwX1_worthOf_1 ++ dktX1_worthOf_2
def dkwX1_worthOf_0 : List UInt8 := [42, 43, 28, 184, 0, 199, 78, 43, 42, 28, 184, 0, 199, 58, 4, 25, 4, 182, 0, 207, 153, 0, 17, 45]
abbrev dktX1_worthOf_0 : List UInt8 := dkwX1_worthOf_0 ++ dktX1_worthOf_1
theorem dksX1_worthOf_0 : cX1_worthOf.data.toList.drop 0 = dktX1_worthOf_0 := by decide +kernel
theorem dksX1_worthOf_1 : cX1_worthOf.data.toList.drop 24 = dktX1_worthOf_1 := dk_seg dksX1_worthOf_0 24 rfl rfl
theorem dksX1_worthOf_2 : cX1_worthOf.data.toList.drop 48 = dktX1_worthOf_2 := dk_seg dksX1_worthOf_1 24 rfl rfl
theorem dksX1_worthOf_3 : cX1_worthOf.data.toList.drop 72 = dktX1_worthOf_3 := dk_seg dksX1_worthOf_2 24 rfl rfl
theorem dksX1_worthOf_4 : cX1_worthOf.data.toList.drop 95 = dktX1_worthOf_4 := dk_seg dksX1_worthOf_3 23 rfl rfl
theorem dX1_worthOf_0 : decode cX1_worthOf 0 = .ok (.aload_n 0, 1) := dk_42 (dk_at dksX1_worthOf_0 0 rfl rfl)
theorem dX1_worthOf_1 : decode cX1_worthOf 1 = .ok (.aload_n 1, 1) := dk_43 (dk_at dksX1_worthOf_0 1 rfl rfl)
theorem dX1_worthOf_2 : decode cX1_worthOf 2 = .ok (.iload_n 2, 1) := dk_28 (dk_at dksX1_worthOf_0 2 rfl rfl)
theorem dX1_worthOf_3 : decode cX1_worthOf 3 = .ok (.invokestatic 199, 3) := dk_184 0 199 (dk_at dksX1_worthOf_0 3 rfl rfl)
theorem dX1_worthOf_6 : decode cX1_worthOf 6 = .ok (.astore_n 3, 1) := dk_78 (dk_at dksX1_worthOf_0 6 rfl rfl)
theorem dX1_worthOf_7 : decode cX1_worthOf 7 = .ok (.aload_n 1, 1) := dk_43 (dk_at dksX1_worthOf_0 7 rfl rfl)
theorem dX1_worthOf_8 : decode cX1_worthOf 8 = .ok (.aload_n 0, 1) := dk_42 (dk_at dksX1_worthOf_0 8 rfl rfl)
theorem dX1_worthOf_9 : decode cX1_worthOf 9 = .ok (.iload_n 2, 1) := dk_28 (dk_at dksX1_worthOf_0 9 rfl rfl)
theorem dX1_worthOf_10 : decode cX1_worthOf 10 = .ok (.invokestatic 199, 3) := dk_184 0 199 (dk_at dksX1_worthOf_0 10 rfl rfl)
theorem dX1_worthOf_13 : decode cX1_worthOf 13 = .ok (.astore 4, 2) := dk_58 4 (dk_at dksX1_worthOf_0 13 rfl rfl)
theorem dX1_worthOf_15 : decode cX1_worthOf 15 = .ok (.aload 4, 2) := dk_25 4 (dk_at dksX1_worthOf_0 15 rfl rfl)
theorem dX1_worthOf_17 : decode cX1_worthOf 17 = .ok (.invokevirtual 207, 3) := dk_182 0 207 (dk_at dksX1_worthOf_0 17 rfl rfl)
theorem dX1_worthOf_20 : decode cX1_worthOf 20 = .ok (.ifCond .eq 17, 3) := dk_153 0 17 (dk_at dksX1_worthOf_0 20 rfl rfl)
theorem dX1_worthOf_23 : decode cX1_worthOf 23 = .ok (.aload_n 3, 1) := dk_45 (dk_at dksX1_worthOf_0 23 rfl rfl)
theorem dX1_worthOf_24 : decode cX1_worthOf 24 = .ok (.invokevirtual 207, 3) := dk_182 0 207 (dk_at dksX1_worthOf_1 0 rfl rfl)
theorem dX1_worthOf_27 : decode cX1_worthOf 27 = .ok (.ifCond .eq 7, 3) := dk_153 0 7 (dk_at dksX1_worthOf_1 3 rfl rfl)
theorem dX1_worthOf_30 : decode cX1_worthOf 30 = .ok (.iconst 0, 1) := dk_3 (dk_at dksX1_worthOf_1 6 rfl rfl)
theorem dX1_worthOf_31 : decode cX1_worthOf 31 = .ok (.goto 5, 3) := dk_167 0 5 (dk_at dksX1_worthOf_1 7 rfl rfl)
theorem dX1_worthOf_34 : decode cX1_worthOf 34 = .ok (.ldc 211, 2) := dk_18 211 (dk_at dksX1_worthOf_1 10 rfl rfl)
theorem dX1_worthOf_36 : decode cX1_worthOf 36 = .ok (.ireturn, 1) := dk_172 (dk_at dksX1_worthOf_1 12 rfl rfl)
theorem dX1_worthOf_37 : decode cX1_worthOf 37 = .ok (.new 189, 3) := dk_187 0 189 (dk_at dksX1_worthOf_1 13 rfl rfl)
theorem dX1_worthOf_40 : decode cX1_worthOf 40 = .ok (.dup, 1) := dk_89 (dk_at dksX1_worthOf_1 16 rfl rfl)
theorem dX1_worthOf_41 : decode cX1_worthOf 41 = .ok (.iconst 0, 1) := dk_3 (dk_at dksX1_worthOf_1 17 rfl rfl)
theorem dX1_worthOf_42 : decode cX1_worthOf 42 = .ok (.invokespecial 212, 3) := dk_183 0 212 (dk_at dksX1_worthOf_1 18 rfl rfl)
theorem dX1_worthOf_45 : decode cX1_worthOf 45 = .ok (.astore 5, 2) := dk_58 5 (dk_at dksX1_worthOf_1 21 rfl rfl)
theorem dX1_worthOf_47 : decode cX1_worthOf 47 = .ok (.iconst 0, 1) := dk_3 (dk_at dksX1_worthOf_1 23 rfl rfl)
theorem dX1_worthOf_48 : decode cX1_worthOf 48 = .ok (.istore 6, 2) := dk_54 6 (dk_at dksX1_worthOf_2 0 rfl rfl)
theorem dX1_worthOf_50 : decode cX1_worthOf 50 = .ok (.ldc 211, 2) := dk_18 211 (dk_at dksX1_worthOf_2 2 rfl rfl)
theorem dX1_worthOf_52 : decode cX1_worthOf 52 = .ok (.istore 7, 2) := dk_54 7 (dk_at dksX1_worthOf_2 4 rfl rfl)
theorem dX1_worthOf_54 : decode cX1_worthOf 54 = .ok (.iload 6, 2) := dk_21 6 (dk_at dksX1_worthOf_2 6 rfl rfl)
theorem dX1_worthOf_56 : decode cX1_worthOf 56 = .ok (.iload 7, 2) := dk_21 7 (dk_at dksX1_worthOf_2 8 rfl rfl)
theorem dX1_worthOf_58 : decode cX1_worthOf 58 = .ok (.if_icmp .ge 53, 3) := dk_162 0 53 (dk_at dksX1_worthOf_2 10 rfl rfl)
theorem dX1_worthOf_61 : decode cX1_worthOf 61 = .ok (.iload 6, 2) := dk_21 6 (dk_at dksX1_worthOf_2 13 rfl rfl)
theorem dX1_worthOf_63 : decode cX1_worthOf 63 = .ok (.iload 7, 2) := dk_21 7 (dk_at dksX1_worthOf_2 15 rfl rfl)
theorem dX1_worthOf_65 : decode cX1_worthOf 65 = .ok (.iadd, 1) := dk_96 (dk_at dksX1_worthOf_2 17 rfl rfl)
theorem dX1_worthOf_66 : decode cX1_worthOf 66 = .ok (.iconst 1, 1) := dk_4 (dk_at dksX1_worthOf_2 18 rfl rfl)
theorem dX1_worthOf_67 : decode cX1_worthOf 67 = .ok (.iadd, 1) := dk_96 (dk_at dksX1_worthOf_2 19 rfl rfl)
theorem dX1_worthOf_68 : decode cX1_worthOf 68 = .ok (.iconst 2, 1) := dk_5 (dk_at dksX1_worthOf_2 20 rfl rfl)
theorem dX1_worthOf_69 : decode cX1_worthOf 69 = .ok (.idiv, 1) := dk_108 (dk_at dksX1_worthOf_2 21 rfl rfl)
theorem dX1_worthOf_70 : decode cX1_worthOf 70 = .ok (.istore 8, 2) := dk_54 8 (dk_at dksX1_worthOf_2 22 rfl rfl)
theorem dX1_worthOf_72 : decode cX1_worthOf 72 = .ok (.aload 5, 2) := dk_25 5 (dk_at dksX1_worthOf_3 0 rfl rfl)
theorem dX1_worthOf_74 : decode cX1_worthOf 74 = .ok (.aload 4, 2) := dk_25 4 (dk_at dksX1_worthOf_3 2 rfl rfl)
theorem dX1_worthOf_76 : decode cX1_worthOf 76 = .ok (.invokevirtual 213, 3) := dk_182 0 213 (dk_at dksX1_worthOf_3 4 rfl rfl)
theorem dX1_worthOf_79 : decode cX1_worthOf 79 = .ok (.aload 5, 2) := dk_25 5 (dk_at dksX1_worthOf_3 7 rfl rfl)
theorem dX1_worthOf_81 : decode cX1_worthOf 81 = .ok (.iload 8, 2) := dk_21 8 (dk_at dksX1_worthOf_3 9 rfl rfl)
theorem dX1_worthOf_83 : decode cX1_worthOf 83 = .ok (.invokevirtual 196, 3) := dk_182 0 196 (dk_at dksX1_worthOf_3 11 rfl rfl)
theorem dX1_worthOf_86 : decode cX1_worthOf 86 = .ok (.aload_n 3, 1) := dk_45 (dk_at dksX1_worthOf_3 14 rfl rfl)
theorem dX1_worthOf_87 : decode cX1_worthOf 87 = .ok (.aload 5, 2) := dk_25 5 (dk_at dksX1_worthOf_3 15 rfl rfl)
theorem dX1_worthOf_89 : decode cX1_worthOf 89 = .ok (.invokevirtual 203, 3) := dk_182 0 203 (dk_at dksX1_worthOf_3 17 rfl rfl)
theorem dX1_worthOf_92 : decode cX1_worthOf 92 = .ok (.ifCond .lt 10, 3) := dk_155 0 10 (dk_at dksX1_worthOf_3 20 rfl rfl)
theorem dX1_worthOf_95 : decode cX1_worthOf 95 = .ok (.iload 8, 2) := dk_21 8 (dk_at dksX1_worthOf_4 0 rfl rfl)
theorem dX1_worthOf_97 : decode cX1_worthOf 97 = .ok (.istore 6, 2) := dk_54 6 (dk_at dksX1_worthOf_4 2 rfl rfl)
theorem dX1_worthOf_99 : decode cX1_worthOf 99 = .ok (.goto 9, 3) := dk_167 0 9 (dk_at dksX1_worthOf_4 4 rfl rfl)
theorem dX1_worthOf_102 : decode cX1_worthOf 102 = .ok (.iload 8, 2) := dk_21 8 (dk_at dksX1_worthOf_4 7 rfl rfl)
theorem dX1_worthOf_104 : decode cX1_worthOf 104 = .ok (.iconst 1, 1) := dk_4 (dk_at dksX1_worthOf_4 9 rfl rfl)
theorem dX1_worthOf_105 : decode cX1_worthOf 105 = .ok (.isub, 1) := dk_100 (dk_at dksX1_worthOf_4 10 rfl rfl)
theorem dX1_worthOf_106 : decode cX1_worthOf 106 = .ok (.istore 7, 2) := dk_54 7 (dk_at dksX1_worthOf_4 11 rfl rfl)
theorem dX1_worthOf_108 : decode cX1_worthOf 108 = .ok (.goto (-54), 3) := dk_167 255 202 (dk_at dksX1_worthOf_4 13 rfl rfl)
theorem dX1_worthOf_111 : decode cX1_worthOf 111 = .ok (.iload 6, 2) := dk_21 6 (dk_at dksX1_worthOf_4 16 rfl rfl)
theorem dX1_worthOf_113 : decode cX1_worthOf 113 = .ok (.ireturn, 1) := dk_172 (dk_at dksX1_worthOf_4 18 rfl rfl)
abbrev cX1_part : ByteArray := prog_1_method_29_code
def yX1_part : MethodName := ⟨RX1, "part", "(III)I"⟩
def dkwX1_part_1 : List UInt8 := [29, 184, 0, 217, 172]
abbrev dktX1_part_1 : List UInt8 := dkwX1_part_1 ++ []
def dkwX1_part_0 : List UInt8 := [42, 27, 182, 0, 126, 58, 4, 42, 28, 182, 0, 126, 58, 5, 42, 29, 182, 0, 163, 87, 25, 4, 25, 5]
abbrev dktX1_part_0 : List UInt8 := dkwX1_part_0 ++ dktX1_part_1
theorem dksX1_part_0 : cX1_part.data.toList.drop 0 = dktX1_part_0 := by decide +kernel
theorem dksX1_part_1 : cX1_part.data.toList.drop 24 = dktX1_part_1 := dk_seg dksX1_part_0 24 rfl rfl
theorem dX1_part_0 : decode cX1_part 0 = .ok (.aload_n 0, 1) := dk_42 (dk_at dksX1_part_0 0 rfl rfl)
theorem dX1_part_1 : decode cX1_part 1 = .ok (.iload_n 1, 1) := dk_27 (dk_at dksX1_part_0 1 rfl rfl)
theorem dX1_part_2 : decode cX1_part 2 = .ok (.invokevirtual 126, 3) := dk_182 0 126 (dk_at dksX1_part_0 2 rfl rfl)
theorem dX1_part_5 : decode cX1_part 5 = .ok (.astore 4, 2) := dk_58 4 (dk_at dksX1_part_0 5 rfl rfl)
theorem dX1_part_7 : decode cX1_part 7 = .ok (.aload_n 0, 1) := dk_42 (dk_at dksX1_part_0 7 rfl rfl)
theorem dX1_part_8 : decode cX1_part 8 = .ok (.iload_n 2, 1) := dk_28 (dk_at dksX1_part_0 8 rfl rfl)
theorem dX1_part_9 : decode cX1_part 9 = .ok (.invokevirtual 126, 3) := dk_182 0 126 (dk_at dksX1_part_0 9 rfl rfl)
theorem dX1_part_12 : decode cX1_part 12 = .ok (.astore 5, 2) := dk_58 5 (dk_at dksX1_part_0 12 rfl rfl)
theorem dX1_part_14 : decode cX1_part 14 = .ok (.aload_n 0, 1) := dk_42 (dk_at dksX1_part_0 14 rfl rfl)
theorem dX1_part_15 : decode cX1_part 15 = .ok (.iload_n 3, 1) := dk_29 (dk_at dksX1_part_0 15 rfl rfl)
theorem dX1_part_16 : decode cX1_part 16 = .ok (.invokevirtual 163, 3) := dk_182 0 163 (dk_at dksX1_part_0 16 rfl rfl)
theorem dX1_part_19 : decode cX1_part 19 = .ok (.pop, 1) := dk_87 (dk_at dksX1_part_0 19 rfl rfl)
theorem dX1_part_20 : decode cX1_part 20 = .ok (.aload 4, 2) := dk_25 4 (dk_at dksX1_part_0 20 rfl rfl)
theorem dX1_part_22 : decode cX1_part 22 = .ok (.aload 5, 2) := dk_25 5 (dk_at dksX1_part_0 22 rfl rfl)
theorem dX1_part_24 : decode cX1_part 24 = .ok (.iload_n 3, 1) := dk_29 (dk_at dksX1_part_1 0 rfl rfl)
theorem dX1_part_25 : decode cX1_part 25 = .ok (.invokestatic 217, 3) := dk_184 0 217 (dk_at dksX1_part_1 1 rfl rfl)
theorem dX1_part_28 : decode cX1_part 28 = .ok (.ireturn, 1) := dk_172 (dk_at dksX1_part_1 4 rfl rfl)
abbrev cX1_events : ByteArray := prog_1_method_30_code
def yX1_events : MethodName := ⟨RX1, "events", "(I)I"⟩
def dkwX1_events_0 : List UInt8 := [42, 27, 182, 0, 126, 180, 0, 221, 182, 0, 47, 172]
abbrev dktX1_events_0 : List UInt8 := dkwX1_events_0 ++ []
theorem dksX1_events_0 : cX1_events.data.toList.drop 0 = dktX1_events_0 := by decide +kernel
theorem dX1_events_0 : decode cX1_events 0 = .ok (.aload_n 0, 1) := dk_42 (dk_at dksX1_events_0 0 rfl rfl)
theorem dX1_events_1 : decode cX1_events 1 = .ok (.iload_n 1, 1) := dk_27 (dk_at dksX1_events_0 1 rfl rfl)
theorem dX1_events_2 : decode cX1_events 2 = .ok (.invokevirtual 126, 3) := dk_182 0 126 (dk_at dksX1_events_0 2 rfl rfl)
theorem dX1_events_5 : decode cX1_events 5 = .ok (.getfield 221, 3) := dk_180 0 221 (dk_at dksX1_events_0 5 rfl rfl)
theorem dX1_events_8 : decode cX1_events 8 = .ok (.invokevirtual 47, 3) := dk_182 0 47 (dk_at dksX1_events_0 8 rfl rfl)
theorem dX1_events_11 : decode cX1_events 11 = .ok (.ireturn, 1) := dk_172 (dk_at dksX1_events_0 11 rfl rfl)
abbrev cX1_counts : ByteArray := prog_1_method_33_code
def yX1_counts : MethodName := ⟨RX1, "counts", "(II)I"⟩
def dkwX1_counts_0 : List UInt8 := [42, 27, 182, 0, 126, 78, 45, 28, 184, 0, 227, 45, 42, 45, 28, 182, 0, 231, 2, 184, 0, 217, 172]
abbrev dktX1_counts_0 : List UInt8 := dkwX1_counts_0 ++ []
theorem dksX1_counts_0 : cX1_counts.data.toList.drop 0 = dktX1_counts_0 := by decide +kernel
theorem dX1_counts_0 : decode cX1_counts 0 = .ok (.aload_n 0, 1) := dk_42 (dk_at dksX1_counts_0 0 rfl rfl)
theorem dX1_counts_1 : decode cX1_counts 1 = .ok (.iload_n 1, 1) := dk_27 (dk_at dksX1_counts_0 1 rfl rfl)
theorem dX1_counts_2 : decode cX1_counts 2 = .ok (.invokevirtual 126, 3) := dk_182 0 126 (dk_at dksX1_counts_0 2 rfl rfl)
theorem dX1_counts_5 : decode cX1_counts 5 = .ok (.astore_n 3, 1) := dk_78 (dk_at dksX1_counts_0 5 rfl rfl)
theorem dX1_counts_6 : decode cX1_counts 6 = .ok (.aload_n 3, 1) := dk_45 (dk_at dksX1_counts_0 6 rfl rfl)
theorem dX1_counts_7 : decode cX1_counts 7 = .ok (.iload_n 2, 1) := dk_28 (dk_at dksX1_counts_0 7 rfl rfl)
theorem dX1_counts_8 : decode cX1_counts 8 = .ok (.invokestatic 227, 3) := dk_184 0 227 (dk_at dksX1_counts_0 8 rfl rfl)
theorem dX1_counts_11 : decode cX1_counts 11 = .ok (.aload_n 3, 1) := dk_45 (dk_at dksX1_counts_0 11 rfl rfl)
theorem dX1_counts_12 : decode cX1_counts 12 = .ok (.aload_n 0, 1) := dk_42 (dk_at dksX1_counts_0 12 rfl rfl)
theorem dX1_counts_13 : decode cX1_counts 13 = .ok (.aload_n 3, 1) := dk_45 (dk_at dksX1_counts_0 13 rfl rfl)
theorem dX1_counts_14 : decode cX1_counts 14 = .ok (.iload_n 2, 1) := dk_28 (dk_at dksX1_counts_0 14 rfl rfl)
theorem dX1_counts_15 : decode cX1_counts 15 = .ok (.invokevirtual 231, 3) := dk_182 0 231 (dk_at dksX1_counts_0 15 rfl rfl)
theorem dX1_counts_18 : decode cX1_counts 18 = .ok (.iconst (-1), 1) := dk_2 (dk_at dksX1_counts_0 18 rfl rfl)
theorem dX1_counts_19 : decode cX1_counts 19 = .ok (.invokestatic 217, 3) := dk_184 0 217 (dk_at dksX1_counts_0 19 rfl rfl)
theorem dX1_counts_22 : decode cX1_counts 22 = .ok (.ireturn, 1) := dk_172 (dk_at dksX1_counts_0 22 rfl rfl)
abbrev cX1_isEvent : ByteArray := prog_1_method_31_code
def yX1_isEvent : MethodName := ⟨RX1, "isEvent", "(LWoolThreads$Run;I)V"⟩
def dkwX1_isEvent_0 : List UInt8 := [27, 155, 0, 14, 27, 42, 180, 0, 221, 182, 0, 47, 161, 0, 11, 187, 0, 160, 89, 183, 0, 162, 191, 177]
abbrev dktX1_isEvent_0 : List UInt8 := dkwX1_isEvent_0 ++ []
theorem dksX1_isEvent_0 : cX1_isEvent.data.toList.drop 0 = dktX1_isEvent_0 := by decide +kernel
theorem dX1_isEvent_0 : decode cX1_isEvent 0 = .ok (.iload_n 1, 1) := dk_27 (dk_at dksX1_isEvent_0 0 rfl rfl)
theorem dX1_isEvent_1 : decode cX1_isEvent 1 = .ok (.ifCond .lt 14, 3) := dk_155 0 14 (dk_at dksX1_isEvent_0 1 rfl rfl)
theorem dX1_isEvent_4 : decode cX1_isEvent 4 = .ok (.iload_n 1, 1) := dk_27 (dk_at dksX1_isEvent_0 4 rfl rfl)
theorem dX1_isEvent_5 : decode cX1_isEvent 5 = .ok (.aload_n 0, 1) := dk_42 (dk_at dksX1_isEvent_0 5 rfl rfl)
theorem dX1_isEvent_6 : decode cX1_isEvent 6 = .ok (.getfield 221, 3) := dk_180 0 221 (dk_at dksX1_isEvent_0 6 rfl rfl)
theorem dX1_isEvent_9 : decode cX1_isEvent 9 = .ok (.invokevirtual 47, 3) := dk_182 0 47 (dk_at dksX1_isEvent_0 9 rfl rfl)
theorem dX1_isEvent_12 : decode cX1_isEvent 12 = .ok (.if_icmp .lt 11, 3) := dk_161 0 11 (dk_at dksX1_isEvent_0 12 rfl rfl)
theorem dX1_isEvent_15 : decode cX1_isEvent 15 = .ok (.new 160, 3) := dk_187 0 160 (dk_at dksX1_isEvent_0 15 rfl rfl)
theorem dX1_isEvent_18 : decode cX1_isEvent 18 = .ok (.dup, 1) := dk_89 (dk_at dksX1_isEvent_0 18 rfl rfl)
theorem dX1_isEvent_19 : decode cX1_isEvent 19 = .ok (.invokespecial 162, 3) := dk_183 0 162 (dk_at dksX1_isEvent_0 19 rfl rfl)
theorem dX1_isEvent_22 : decode cX1_isEvent 22 = .ok (.athrow, 1) := dk_191 (dk_at dksX1_isEvent_0 22 rfl rfl)
theorem dX1_isEvent_23 : decode cX1_isEvent 23 = .ok (.return_, 1) := dk_177 (dk_at dksX1_isEvent_0 23 rfl rfl)
abbrev cX1_without : ByteArray := prog_1_method_32_code
def yX1_without : MethodName := ⟨RX1, "without", "(LWoolThreads$Run;I)LWoolThreads$Run;"⟩
def dkwX1_without_0 : List UInt8 := [187, 0, 54, 89, 42, 43, 180, 0, 221, 183, 0, 60, 78, 45, 28, 181, 0, 224, 45, 176]
abbrev dktX1_without_0 : List UInt8 := dkwX1_without_0 ++ []
theorem dksX1_without_0 : cX1_without.data.toList.drop 0 = dktX1_without_0 := by decide +kernel
theorem dX1_without_0 : decode cX1_without 0 = .ok (.new 54, 3) := dk_187 0 54 (dk_at dksX1_without_0 0 rfl rfl)
theorem dX1_without_3 : decode cX1_without 3 = .ok (.dup, 1) := dk_89 (dk_at dksX1_without_0 3 rfl rfl)
theorem dX1_without_4 : decode cX1_without 4 = .ok (.aload_n 0, 1) := dk_42 (dk_at dksX1_without_0 4 rfl rfl)
theorem dX1_without_5 : decode cX1_without 5 = .ok (.aload_n 1, 1) := dk_43 (dk_at dksX1_without_0 5 rfl rfl)
theorem dX1_without_6 : decode cX1_without 6 = .ok (.getfield 221, 3) := dk_180 0 221 (dk_at dksX1_without_0 6 rfl rfl)
theorem dX1_without_9 : decode cX1_without 9 = .ok (.invokespecial 60, 3) := dk_183 0 60 (dk_at dksX1_without_0 9 rfl rfl)
theorem dX1_without_12 : decode cX1_without 12 = .ok (.astore_n 3, 1) := dk_78 (dk_at dksX1_without_0 12 rfl rfl)
theorem dX1_without_13 : decode cX1_without 13 = .ok (.aload_n 3, 1) := dk_45 (dk_at dksX1_without_0 13 rfl rfl)
theorem dX1_without_14 : decode cX1_without 14 = .ok (.iload_n 2, 1) := dk_28 (dk_at dksX1_without_0 14 rfl rfl)
theorem dX1_without_15 : decode cX1_without 15 = .ok (.putfield 224, 3) := dk_181 0 224 (dk_at dksX1_without_0 15 rfl rfl)
theorem dX1_without_18 : decode cX1_without 18 = .ok (.aload_n 3, 1) := dk_45 (dk_at dksX1_without_0 18 rfl rfl)
theorem dX1_without_19 : decode cX1_without 19 = .ok (.areturn, 1) := dk_176 (dk_at dksX1_without_0 19 rfl rfl)
abbrev cX1_needed : ByteArray := prog_1_method_34_code
def yX1_needed : MethodName := ⟨RX1, "needed", "(II)I"⟩
def dkwX1_needed_3 : List UInt8 := [132, 5, 1, 167, 255, 209, 2, 172]
abbrev dktX1_needed_3 : List UInt8 := dkwX1_needed_3 ++ []
def dkwX1_needed_2 : List UInt8 := [182, 0, 184, 182, 0, 207, 154, 0, 6, 167, 0, 15, 21, 4, 28, 160, 0, 6, 21, 5, 172, 132, 4, 1]
abbrev dktX1_needed_2 : List UInt8 := dkwX1_needed_2 ++ dktX1_needed_3
def dkwX1_needed_1 : List UInt8 := [54, 5, 21, 5, 45, 180, 0, 221, 182, 0, 47, 162, 0, 41, 42, 45, 21, 5, 182, 0, 231, 2]
abbrev dktX1_needed_1 : List UInt8 := dkwX1_needed_1 ++ dktX1_needed_2
def dkwX1_needed_0 : List UInt8 := [42, 27, 182, 0, 126, 78, 45, 2, 182, 0, 184, 182, 0, 207, 153, 0, 5, 2, 172, 3, 54, 4, 3]
abbrev dktX1_needed_0 : List UInt8 := dkwX1_needed_0 ++ dktX1_needed_1
theorem dksX1_needed_0 : cX1_needed.data.toList.drop 0 = dktX1_needed_0 := by decide +kernel
theorem dksX1_needed_1 : cX1_needed.data.toList.drop 23 = dktX1_needed_1 := dk_seg dksX1_needed_0 23 rfl rfl
theorem dksX1_needed_2 : cX1_needed.data.toList.drop 45 = dktX1_needed_2 := dk_seg dksX1_needed_1 22 rfl rfl
theorem dksX1_needed_3 : cX1_needed.data.toList.drop 69 = dktX1_needed_3 := dk_seg dksX1_needed_2 24 rfl rfl
theorem dX1_needed_0 : decode cX1_needed 0 = .ok (.aload_n 0, 1) := dk_42 (dk_at dksX1_needed_0 0 rfl rfl)
theorem dX1_needed_1 : decode cX1_needed 1 = .ok (.iload_n 1, 1) := dk_27 (dk_at dksX1_needed_0 1 rfl rfl)
theorem dX1_needed_2 : decode cX1_needed 2 = .ok (.invokevirtual 126, 3) := dk_182 0 126 (dk_at dksX1_needed_0 2 rfl rfl)
theorem dX1_needed_5 : decode cX1_needed 5 = .ok (.astore_n 3, 1) := dk_78 (dk_at dksX1_needed_0 5 rfl rfl)
theorem dX1_needed_6 : decode cX1_needed 6 = .ok (.aload_n 3, 1) := dk_45 (dk_at dksX1_needed_0 6 rfl rfl)
theorem dX1_needed_7 : decode cX1_needed 7 = .ok (.iconst (-1), 1) := dk_2 (dk_at dksX1_needed_0 7 rfl rfl)
theorem dX1_needed_8 : decode cX1_needed 8 = .ok (.invokevirtual 184, 3) := dk_182 0 184 (dk_at dksX1_needed_0 8 rfl rfl)
theorem dX1_needed_11 : decode cX1_needed 11 = .ok (.invokevirtual 207, 3) := dk_182 0 207 (dk_at dksX1_needed_0 11 rfl rfl)
theorem dX1_needed_14 : decode cX1_needed 14 = .ok (.ifCond .eq 5, 3) := dk_153 0 5 (dk_at dksX1_needed_0 14 rfl rfl)
theorem dX1_needed_17 : decode cX1_needed 17 = .ok (.iconst (-1), 1) := dk_2 (dk_at dksX1_needed_0 17 rfl rfl)
theorem dX1_needed_18 : decode cX1_needed 18 = .ok (.ireturn, 1) := dk_172 (dk_at dksX1_needed_0 18 rfl rfl)
theorem dX1_needed_19 : decode cX1_needed 19 = .ok (.iconst 0, 1) := dk_3 (dk_at dksX1_needed_0 19 rfl rfl)
theorem dX1_needed_20 : decode cX1_needed 20 = .ok (.istore 4, 2) := dk_54 4 (dk_at dksX1_needed_0 20 rfl rfl)
theorem dX1_needed_22 : decode cX1_needed 22 = .ok (.iconst 0, 1) := dk_3 (dk_at dksX1_needed_0 22 rfl rfl)
theorem dX1_needed_23 : decode cX1_needed 23 = .ok (.istore 5, 2) := dk_54 5 (dk_at dksX1_needed_1 0 rfl rfl)
theorem dX1_needed_25 : decode cX1_needed 25 = .ok (.iload 5, 2) := dk_21 5 (dk_at dksX1_needed_1 2 rfl rfl)
theorem dX1_needed_27 : decode cX1_needed 27 = .ok (.aload_n 3, 1) := dk_45 (dk_at dksX1_needed_1 4 rfl rfl)
theorem dX1_needed_28 : decode cX1_needed 28 = .ok (.getfield 221, 3) := dk_180 0 221 (dk_at dksX1_needed_1 5 rfl rfl)
theorem dX1_needed_31 : decode cX1_needed 31 = .ok (.invokevirtual 47, 3) := dk_182 0 47 (dk_at dksX1_needed_1 8 rfl rfl)
theorem dX1_needed_34 : decode cX1_needed 34 = .ok (.if_icmp .ge 41, 3) := dk_162 0 41 (dk_at dksX1_needed_1 11 rfl rfl)
theorem dX1_needed_37 : decode cX1_needed 37 = .ok (.aload_n 0, 1) := dk_42 (dk_at dksX1_needed_1 14 rfl rfl)
theorem dX1_needed_38 : decode cX1_needed 38 = .ok (.aload_n 3, 1) := dk_45 (dk_at dksX1_needed_1 15 rfl rfl)
theorem dX1_needed_39 : decode cX1_needed 39 = .ok (.iload 5, 2) := dk_21 5 (dk_at dksX1_needed_1 16 rfl rfl)
theorem dX1_needed_41 : decode cX1_needed 41 = .ok (.invokevirtual 231, 3) := dk_182 0 231 (dk_at dksX1_needed_1 18 rfl rfl)
theorem dX1_needed_44 : decode cX1_needed 44 = .ok (.iconst (-1), 1) := dk_2 (dk_at dksX1_needed_1 21 rfl rfl)
theorem dX1_needed_45 : decode cX1_needed 45 = .ok (.invokevirtual 184, 3) := dk_182 0 184 (dk_at dksX1_needed_2 0 rfl rfl)
theorem dX1_needed_48 : decode cX1_needed 48 = .ok (.invokevirtual 207, 3) := dk_182 0 207 (dk_at dksX1_needed_2 3 rfl rfl)
theorem dX1_needed_51 : decode cX1_needed 51 = .ok (.ifCond .ne 6, 3) := dk_154 0 6 (dk_at dksX1_needed_2 6 rfl rfl)
theorem dX1_needed_54 : decode cX1_needed 54 = .ok (.goto 15, 3) := dk_167 0 15 (dk_at dksX1_needed_2 9 rfl rfl)
theorem dX1_needed_57 : decode cX1_needed 57 = .ok (.iload 4, 2) := dk_21 4 (dk_at dksX1_needed_2 12 rfl rfl)
theorem dX1_needed_59 : decode cX1_needed 59 = .ok (.iload_n 2, 1) := dk_28 (dk_at dksX1_needed_2 14 rfl rfl)
theorem dX1_needed_60 : decode cX1_needed 60 = .ok (.if_icmp .ne 6, 3) := dk_160 0 6 (dk_at dksX1_needed_2 15 rfl rfl)
theorem dX1_needed_63 : decode cX1_needed 63 = .ok (.iload 5, 2) := dk_21 5 (dk_at dksX1_needed_2 18 rfl rfl)
theorem dX1_needed_65 : decode cX1_needed 65 = .ok (.ireturn, 1) := dk_172 (dk_at dksX1_needed_2 20 rfl rfl)
theorem dX1_needed_66 : decode cX1_needed 66 = .ok (.iinc 4 1, 3) := dk_132 4 1 (dk_at dksX1_needed_2 21 rfl rfl)
theorem dX1_needed_69 : decode cX1_needed 69 = .ok (.iinc 5 1, 3) := dk_132 5 1 (dk_at dksX1_needed_3 0 rfl rfl)
theorem dX1_needed_72 : decode cX1_needed 72 = .ok (.goto (-47), 3) := dk_167 255 209 (dk_at dksX1_needed_3 3 rfl rfl)
theorem dX1_needed_75 : decode cX1_needed 75 = .ok (.iconst (-1), 1) := dk_2 (dk_at dksX1_needed_3 6 rfl rfl)
theorem dX1_needed_76 : decode cX1_needed 76 = .ok (.ireturn, 1) := dk_172 (dk_at dksX1_needed_3 7 rfl rfl)
abbrev cX1_byWay : ByteArray := prog_1_method_35_code
def yX1_byWay : MethodName := ⟨RX1, "byWay", "(IIIIII)I"⟩
def dkwX1_byWay_4 : List UInt8 := [182, 0, 136, 180, 0, 140, 16, 10, 29, 104, 21, 5, 96, 46, 172]
abbrev dktX1_byWay_4 : List UInt8 := dkwX1_byWay_4 ++ []
def dkwX1_byWay_3 : List UInt8 := [25, 7, 28, 181, 0, 234, 25, 7, 29, 181, 0, 237, 25, 7, 21, 4, 181, 0, 240, 25, 7, 21, 6]
abbrev dktX1_byWay_3 : List UInt8 := dkwX1_byWay_3 ++ dktX1_byWay_4
def dkwX1_byWay_2 : List UInt8 := [21, 5, 184, 0, 100, 153, 0, 15, 21, 6, 184, 0, 133, 153, 0, 7, 4, 167, 0, 4, 3, 184, 0, 69]
abbrev dktX1_byWay_2 : List UInt8 := dkwX1_byWay_2 ++ dktX1_byWay_3
def dkwX1_byWay_1 : List UInt8 := [184, 0, 130, 153, 0, 40, 28, 29, 159, 0, 35, 28, 21, 4, 159, 0, 29, 29, 21, 4, 159, 0, 23]
abbrev dktX1_byWay_1 : List UInt8 := dkwX1_byWay_1 ++ dktX1_byWay_2
def dkwX1_byWay_0 : List UInt8 := [42, 27, 182, 0, 126, 58, 7, 28, 184, 0, 130, 153, 0, 55, 29, 184, 0, 130, 153, 0, 48, 21, 4]
abbrev dktX1_byWay_0 : List UInt8 := dkwX1_byWay_0 ++ dktX1_byWay_1
theorem dksX1_byWay_0 : cX1_byWay.data.toList.drop 0 = dktX1_byWay_0 := by decide +kernel
theorem dksX1_byWay_1 : cX1_byWay.data.toList.drop 23 = dktX1_byWay_1 := dk_seg dksX1_byWay_0 23 rfl rfl
theorem dksX1_byWay_2 : cX1_byWay.data.toList.drop 46 = dktX1_byWay_2 := dk_seg dksX1_byWay_1 23 rfl rfl
theorem dksX1_byWay_3 : cX1_byWay.data.toList.drop 70 = dktX1_byWay_3 := dk_seg dksX1_byWay_2 24 rfl rfl
theorem dksX1_byWay_4 : cX1_byWay.data.toList.drop 93 = dktX1_byWay_4 := dk_seg dksX1_byWay_3 23 rfl rfl
theorem dX1_byWay_0 : decode cX1_byWay 0 = .ok (.aload_n 0, 1) := dk_42 (dk_at dksX1_byWay_0 0 rfl rfl)
theorem dX1_byWay_1 : decode cX1_byWay 1 = .ok (.iload_n 1, 1) := dk_27 (dk_at dksX1_byWay_0 1 rfl rfl)
theorem dX1_byWay_2 : decode cX1_byWay 2 = .ok (.invokevirtual 126, 3) := dk_182 0 126 (dk_at dksX1_byWay_0 2 rfl rfl)
theorem dX1_byWay_5 : decode cX1_byWay 5 = .ok (.astore 7, 2) := dk_58 7 (dk_at dksX1_byWay_0 5 rfl rfl)
theorem dX1_byWay_7 : decode cX1_byWay 7 = .ok (.iload_n 2, 1) := dk_28 (dk_at dksX1_byWay_0 7 rfl rfl)
theorem dX1_byWay_8 : decode cX1_byWay 8 = .ok (.invokestatic 130, 3) := dk_184 0 130 (dk_at dksX1_byWay_0 8 rfl rfl)
theorem dX1_byWay_11 : decode cX1_byWay 11 = .ok (.ifCond .eq 55, 3) := dk_153 0 55 (dk_at dksX1_byWay_0 11 rfl rfl)
theorem dX1_byWay_14 : decode cX1_byWay 14 = .ok (.iload_n 3, 1) := dk_29 (dk_at dksX1_byWay_0 14 rfl rfl)
theorem dX1_byWay_15 : decode cX1_byWay 15 = .ok (.invokestatic 130, 3) := dk_184 0 130 (dk_at dksX1_byWay_0 15 rfl rfl)
theorem dX1_byWay_18 : decode cX1_byWay 18 = .ok (.ifCond .eq 48, 3) := dk_153 0 48 (dk_at dksX1_byWay_0 18 rfl rfl)
theorem dX1_byWay_21 : decode cX1_byWay 21 = .ok (.iload 4, 2) := dk_21 4 (dk_at dksX1_byWay_0 21 rfl rfl)
theorem dX1_byWay_23 : decode cX1_byWay 23 = .ok (.invokestatic 130, 3) := dk_184 0 130 (dk_at dksX1_byWay_1 0 rfl rfl)
theorem dX1_byWay_26 : decode cX1_byWay 26 = .ok (.ifCond .eq 40, 3) := dk_153 0 40 (dk_at dksX1_byWay_1 3 rfl rfl)
theorem dX1_byWay_29 : decode cX1_byWay 29 = .ok (.iload_n 2, 1) := dk_28 (dk_at dksX1_byWay_1 6 rfl rfl)
theorem dX1_byWay_30 : decode cX1_byWay 30 = .ok (.iload_n 3, 1) := dk_29 (dk_at dksX1_byWay_1 7 rfl rfl)
theorem dX1_byWay_31 : decode cX1_byWay 31 = .ok (.if_icmp .eq 35, 3) := dk_159 0 35 (dk_at dksX1_byWay_1 8 rfl rfl)
theorem dX1_byWay_34 : decode cX1_byWay 34 = .ok (.iload_n 2, 1) := dk_28 (dk_at dksX1_byWay_1 11 rfl rfl)
theorem dX1_byWay_35 : decode cX1_byWay 35 = .ok (.iload 4, 2) := dk_21 4 (dk_at dksX1_byWay_1 12 rfl rfl)
theorem dX1_byWay_37 : decode cX1_byWay 37 = .ok (.if_icmp .eq 29, 3) := dk_159 0 29 (dk_at dksX1_byWay_1 14 rfl rfl)
theorem dX1_byWay_40 : decode cX1_byWay 40 = .ok (.iload_n 3, 1) := dk_29 (dk_at dksX1_byWay_1 17 rfl rfl)
theorem dX1_byWay_41 : decode cX1_byWay 41 = .ok (.iload 4, 2) := dk_21 4 (dk_at dksX1_byWay_1 18 rfl rfl)
theorem dX1_byWay_43 : decode cX1_byWay 43 = .ok (.if_icmp .eq 23, 3) := dk_159 0 23 (dk_at dksX1_byWay_1 20 rfl rfl)
theorem dX1_byWay_46 : decode cX1_byWay 46 = .ok (.iload 5, 2) := dk_21 5 (dk_at dksX1_byWay_2 0 rfl rfl)
theorem dX1_byWay_48 : decode cX1_byWay 48 = .ok (.invokestatic 100, 3) := dk_184 0 100 (dk_at dksX1_byWay_2 2 rfl rfl)
theorem dX1_byWay_51 : decode cX1_byWay 51 = .ok (.ifCond .eq 15, 3) := dk_153 0 15 (dk_at dksX1_byWay_2 5 rfl rfl)
theorem dX1_byWay_54 : decode cX1_byWay 54 = .ok (.iload 6, 2) := dk_21 6 (dk_at dksX1_byWay_2 8 rfl rfl)
theorem dX1_byWay_56 : decode cX1_byWay 56 = .ok (.invokestatic 133, 3) := dk_184 0 133 (dk_at dksX1_byWay_2 10 rfl rfl)
theorem dX1_byWay_59 : decode cX1_byWay 59 = .ok (.ifCond .eq 7, 3) := dk_153 0 7 (dk_at dksX1_byWay_2 13 rfl rfl)
theorem dX1_byWay_62 : decode cX1_byWay 62 = .ok (.iconst 1, 1) := dk_4 (dk_at dksX1_byWay_2 16 rfl rfl)
theorem dX1_byWay_63 : decode cX1_byWay 63 = .ok (.goto 4, 3) := dk_167 0 4 (dk_at dksX1_byWay_2 17 rfl rfl)
theorem dX1_byWay_66 : decode cX1_byWay 66 = .ok (.iconst 0, 1) := dk_3 (dk_at dksX1_byWay_2 20 rfl rfl)
theorem dX1_byWay_67 : decode cX1_byWay 67 = .ok (.invokestatic 69, 3) := dk_184 0 69 (dk_at dksX1_byWay_2 21 rfl rfl)
theorem dX1_byWay_70 : decode cX1_byWay 70 = .ok (.aload 7, 2) := dk_25 7 (dk_at dksX1_byWay_3 0 rfl rfl)
theorem dX1_byWay_72 : decode cX1_byWay 72 = .ok (.iload_n 2, 1) := dk_28 (dk_at dksX1_byWay_3 2 rfl rfl)
theorem dX1_byWay_73 : decode cX1_byWay 73 = .ok (.putfield 234, 3) := dk_181 0 234 (dk_at dksX1_byWay_3 3 rfl rfl)
theorem dX1_byWay_76 : decode cX1_byWay 76 = .ok (.aload 7, 2) := dk_25 7 (dk_at dksX1_byWay_3 6 rfl rfl)
theorem dX1_byWay_78 : decode cX1_byWay 78 = .ok (.iload_n 3, 1) := dk_29 (dk_at dksX1_byWay_3 8 rfl rfl)
theorem dX1_byWay_79 : decode cX1_byWay 79 = .ok (.putfield 237, 3) := dk_181 0 237 (dk_at dksX1_byWay_3 9 rfl rfl)
theorem dX1_byWay_82 : decode cX1_byWay 82 = .ok (.aload 7, 2) := dk_25 7 (dk_at dksX1_byWay_3 12 rfl rfl)
theorem dX1_byWay_84 : decode cX1_byWay 84 = .ok (.iload 4, 2) := dk_21 4 (dk_at dksX1_byWay_3 14 rfl rfl)
theorem dX1_byWay_86 : decode cX1_byWay 86 = .ok (.putfield 240, 3) := dk_181 0 240 (dk_at dksX1_byWay_3 16 rfl rfl)
theorem dX1_byWay_89 : decode cX1_byWay 89 = .ok (.aload 7, 2) := dk_25 7 (dk_at dksX1_byWay_3 19 rfl rfl)
theorem dX1_byWay_91 : decode cX1_byWay 91 = .ok (.iload 6, 2) := dk_21 6 (dk_at dksX1_byWay_3 21 rfl rfl)
theorem dX1_byWay_93 : decode cX1_byWay 93 = .ok (.invokevirtual 136, 3) := dk_182 0 136 (dk_at dksX1_byWay_4 0 rfl rfl)
theorem dX1_byWay_96 : decode cX1_byWay 96 = .ok (.getfield 140, 3) := dk_180 0 140 (dk_at dksX1_byWay_4 3 rfl rfl)
theorem dX1_byWay_99 : decode cX1_byWay 99 = .ok (.bipush 10, 2) := dk_16 10 (dk_at dksX1_byWay_4 6 rfl rfl)
theorem dX1_byWay_101 : decode cX1_byWay 101 = .ok (.iload_n 3, 1) := dk_29 (dk_at dksX1_byWay_4 8 rfl rfl)
theorem dX1_byWay_102 : decode cX1_byWay 102 = .ok (.imul, 1) := dk_104 (dk_at dksX1_byWay_4 9 rfl rfl)
theorem dX1_byWay_103 : decode cX1_byWay 103 = .ok (.iload 5, 2) := dk_21 5 (dk_at dksX1_byWay_4 10 rfl rfl)
theorem dX1_byWay_105 : decode cX1_byWay 105 = .ok (.iadd, 1) := dk_96 (dk_at dksX1_byWay_4 12 rfl rfl)
theorem dX1_byWay_106 : decode cX1_byWay 106 = .ok (.iaload, 1) := dk_46 (dk_at dksX1_byWay_4 13 rfl rfl)
theorem dX1_byWay_107 : decode cX1_byWay 107 = .ok (.ireturn, 1) := dk_172 (dk_at dksX1_byWay_4 14 rfl rfl)
abbrev cX1_bench : ByteArray := prog_1_method_36_code
def yX1_bench : MethodName := ⟨RX1, "bench", "(IIII)I"⟩
def dkwX1_bench_3 : List UInt8 := [181, 0, 248, 25, 6, 25, 5, 2, 184, 0, 217, 172]
abbrev dktX1_bench_3 : List UInt8 := dkwX1_bench_3 ++ []
def dkwX1_bench_2 : List UInt8 := [25, 5, 180, 0, 221, 183, 0, 60, 58, 6, 25, 6, 187, 0, 243, 89, 28, 29, 21, 4, 183, 0, 245]
abbrev dktX1_bench_2 : List UInt8 := dkwX1_bench_2 ++ dktX1_bench_3
def dkwX1_bench_1 : List UInt8 := [159, 0, 15, 21, 4, 184, 0, 133, 153, 0, 7, 4, 167, 0, 4, 3, 184, 0, 69, 187, 0, 54, 89, 42]
abbrev dktX1_bench_1 : List UInt8 := dkwX1_bench_1 ++ dktX1_bench_2
def dkwX1_bench_0 : List UInt8 := [42, 27, 182, 0, 126, 58, 5, 28, 184, 0, 130, 153, 0, 27, 29, 184, 0, 130, 153, 0, 20, 28, 29]
abbrev dktX1_bench_0 : List UInt8 := dkwX1_bench_0 ++ dktX1_bench_1
theorem dksX1_bench_0 : cX1_bench.data.toList.drop 0 = dktX1_bench_0 := by decide +kernel
theorem dksX1_bench_1 : cX1_bench.data.toList.drop 23 = dktX1_bench_1 := dk_seg dksX1_bench_0 23 rfl rfl
theorem dksX1_bench_2 : cX1_bench.data.toList.drop 47 = dktX1_bench_2 := dk_seg dksX1_bench_1 24 rfl rfl
theorem dksX1_bench_3 : cX1_bench.data.toList.drop 70 = dktX1_bench_3 := dk_seg dksX1_bench_2 23 rfl rfl
theorem dX1_bench_0 : decode cX1_bench 0 = .ok (.aload_n 0, 1) := dk_42 (dk_at dksX1_bench_0 0 rfl rfl)
theorem dX1_bench_1 : decode cX1_bench 1 = .ok (.iload_n 1, 1) := dk_27 (dk_at dksX1_bench_0 1 rfl rfl)
theorem dX1_bench_2 : decode cX1_bench 2 = .ok (.invokevirtual 126, 3) := dk_182 0 126 (dk_at dksX1_bench_0 2 rfl rfl)
theorem dX1_bench_5 : decode cX1_bench 5 = .ok (.astore 5, 2) := dk_58 5 (dk_at dksX1_bench_0 5 rfl rfl)
theorem dX1_bench_7 : decode cX1_bench 7 = .ok (.iload_n 2, 1) := dk_28 (dk_at dksX1_bench_0 7 rfl rfl)
theorem dX1_bench_8 : decode cX1_bench 8 = .ok (.invokestatic 130, 3) := dk_184 0 130 (dk_at dksX1_bench_0 8 rfl rfl)
theorem dX1_bench_11 : decode cX1_bench 11 = .ok (.ifCond .eq 27, 3) := dk_153 0 27 (dk_at dksX1_bench_0 11 rfl rfl)
theorem dX1_bench_14 : decode cX1_bench 14 = .ok (.iload_n 3, 1) := dk_29 (dk_at dksX1_bench_0 14 rfl rfl)
theorem dX1_bench_15 : decode cX1_bench 15 = .ok (.invokestatic 130, 3) := dk_184 0 130 (dk_at dksX1_bench_0 15 rfl rfl)
theorem dX1_bench_18 : decode cX1_bench 18 = .ok (.ifCond .eq 20, 3) := dk_153 0 20 (dk_at dksX1_bench_0 18 rfl rfl)
theorem dX1_bench_21 : decode cX1_bench 21 = .ok (.iload_n 2, 1) := dk_28 (dk_at dksX1_bench_0 21 rfl rfl)
theorem dX1_bench_22 : decode cX1_bench 22 = .ok (.iload_n 3, 1) := dk_29 (dk_at dksX1_bench_0 22 rfl rfl)
theorem dX1_bench_23 : decode cX1_bench 23 = .ok (.if_icmp .eq 15, 3) := dk_159 0 15 (dk_at dksX1_bench_1 0 rfl rfl)
theorem dX1_bench_26 : decode cX1_bench 26 = .ok (.iload 4, 2) := dk_21 4 (dk_at dksX1_bench_1 3 rfl rfl)
theorem dX1_bench_28 : decode cX1_bench 28 = .ok (.invokestatic 133, 3) := dk_184 0 133 (dk_at dksX1_bench_1 5 rfl rfl)
theorem dX1_bench_31 : decode cX1_bench 31 = .ok (.ifCond .eq 7, 3) := dk_153 0 7 (dk_at dksX1_bench_1 8 rfl rfl)
theorem dX1_bench_34 : decode cX1_bench 34 = .ok (.iconst 1, 1) := dk_4 (dk_at dksX1_bench_1 11 rfl rfl)
theorem dX1_bench_35 : decode cX1_bench 35 = .ok (.goto 4, 3) := dk_167 0 4 (dk_at dksX1_bench_1 12 rfl rfl)
theorem dX1_bench_38 : decode cX1_bench 38 = .ok (.iconst 0, 1) := dk_3 (dk_at dksX1_bench_1 15 rfl rfl)
theorem dX1_bench_39 : decode cX1_bench 39 = .ok (.invokestatic 69, 3) := dk_184 0 69 (dk_at dksX1_bench_1 16 rfl rfl)
theorem dX1_bench_42 : decode cX1_bench 42 = .ok (.new 54, 3) := dk_187 0 54 (dk_at dksX1_bench_1 19 rfl rfl)
theorem dX1_bench_45 : decode cX1_bench 45 = .ok (.dup, 1) := dk_89 (dk_at dksX1_bench_1 22 rfl rfl)
theorem dX1_bench_46 : decode cX1_bench 46 = .ok (.aload_n 0, 1) := dk_42 (dk_at dksX1_bench_1 23 rfl rfl)
theorem dX1_bench_47 : decode cX1_bench 47 = .ok (.aload 5, 2) := dk_25 5 (dk_at dksX1_bench_2 0 rfl rfl)
theorem dX1_bench_49 : decode cX1_bench 49 = .ok (.getfield 221, 3) := dk_180 0 221 (dk_at dksX1_bench_2 2 rfl rfl)
theorem dX1_bench_52 : decode cX1_bench 52 = .ok (.invokespecial 60, 3) := dk_183 0 60 (dk_at dksX1_bench_2 5 rfl rfl)
theorem dX1_bench_55 : decode cX1_bench 55 = .ok (.astore 6, 2) := dk_58 6 (dk_at dksX1_bench_2 8 rfl rfl)
theorem dX1_bench_57 : decode cX1_bench 57 = .ok (.aload 6, 2) := dk_25 6 (dk_at dksX1_bench_2 10 rfl rfl)
theorem dX1_bench_59 : decode cX1_bench 59 = .ok (.new 243, 3) := dk_187 0 243 (dk_at dksX1_bench_2 12 rfl rfl)
theorem dX1_bench_62 : decode cX1_bench 62 = .ok (.dup, 1) := dk_89 (dk_at dksX1_bench_2 15 rfl rfl)
theorem dX1_bench_63 : decode cX1_bench 63 = .ok (.iload_n 2, 1) := dk_28 (dk_at dksX1_bench_2 16 rfl rfl)
theorem dX1_bench_64 : decode cX1_bench 64 = .ok (.iload_n 3, 1) := dk_29 (dk_at dksX1_bench_2 17 rfl rfl)
theorem dX1_bench_65 : decode cX1_bench 65 = .ok (.iload 4, 2) := dk_21 4 (dk_at dksX1_bench_2 18 rfl rfl)
theorem dX1_bench_67 : decode cX1_bench 67 = .ok (.invokespecial 245, 3) := dk_183 0 245 (dk_at dksX1_bench_2 20 rfl rfl)
theorem dX1_bench_70 : decode cX1_bench 70 = .ok (.putfield 248, 3) := dk_181 0 248 (dk_at dksX1_bench_3 0 rfl rfl)
theorem dX1_bench_73 : decode cX1_bench 73 = .ok (.aload 6, 2) := dk_25 6 (dk_at dksX1_bench_3 3 rfl rfl)
theorem dX1_bench_75 : decode cX1_bench 75 = .ok (.aload 5, 2) := dk_25 5 (dk_at dksX1_bench_3 5 rfl rfl)
theorem dX1_bench_77 : decode cX1_bench 77 = .ok (.iconst (-1), 1) := dk_2 (dk_at dksX1_bench_3 7 rfl rfl)
theorem dX1_bench_78 : decode cX1_bench 78 = .ok (.invokestatic 217, 3) := dk_184 0 217 (dk_at dksX1_bench_3 8 rfl rfl)
theorem dX1_bench_81 : decode cX1_bench 81 = .ok (.ireturn, 1) := dk_172 (dk_at dksX1_bench_3 11 rfl rfl)
abbrev cX1_after : ByteArray := prog_1_method_38_code
def yX1_after : MethodName := ⟨RX1, "after", "(IIIZ)I"⟩
def dkwX1_after_7 : List UInt8 := [21, 7, 172]
abbrev dktX1_after_7 : List UInt8 := dkwX1_after_7 ++ []
def dkwX1_after_6 : List UInt8 := [21, 7, 19, 1, 1, 163, 0, 15, 42, 27, 21, 7, 29, 182, 0, 253, 28, 159, 0, 7, 2, 167, 0, 5]
abbrev dktX1_after_6 : List UInt8 := dkwX1_after_6 ++ dktX1_after_7
def dkwX1_after_5 : List UInt8 := [167, 255, 197, 21, 4, 153, 0, 10, 21, 5, 4, 100, 167, 0, 5, 21, 5, 54, 7, 21, 7, 155, 0, 23]
abbrev dktX1_after_5 : List UInt8 := dkwX1_after_5 ++ dktX1_after_6
def dkwX1_after_4 : List UInt8 := [167, 0, 9, 21, 8, 28, 161, 0, 10, 21, 7, 54, 6, 167, 0, 9, 21, 7, 4, 96, 54, 5]
abbrev dktX1_after_4 : List UInt8 := dkwX1_after_4 ++ dktX1_after_5
def dkwX1_after_3 : List UInt8 := [54, 7, 42, 27, 21, 7, 29, 182, 0, 253, 54, 8, 21, 4, 153, 0, 12, 21, 8, 28, 164, 0, 19]
abbrev dktX1_after_3 : List UInt8 := dkwX1_after_3 ++ dktX1_after_4
def dkwX1_after_2 : List UInt8 := [184, 0, 69, 3, 54, 5, 18, 252, 54, 6, 21, 5, 21, 6, 162, 0, 58, 21, 5, 21, 6, 96, 5, 108]
abbrev dktX1_after_2 : List UInt8 := dkwX1_after_2 ++ dktX1_after_3
def dkwX1_after_1 : List UInt8 := [16, 60, 163, 0, 19, 42, 180, 0, 10, 180, 0, 108, 27, 46, 158, 0, 7, 4, 167, 0, 4, 3]
abbrev dktX1_after_1 : List UInt8 := dkwX1_after_1 ++ dktX1_after_2
def dkwX1_after_0 : List UInt8 := [27, 184, 0, 100, 153, 0, 40, 28, 155, 0, 36, 28, 17, 39, 15, 163, 0, 29, 29, 155, 0, 25, 29]
abbrev dktX1_after_0 : List UInt8 := dkwX1_after_0 ++ dktX1_after_1
theorem dksX1_after_0 : cX1_after.data.toList.drop 0 = dktX1_after_0 := by decide +kernel
theorem dksX1_after_1 : cX1_after.data.toList.drop 23 = dktX1_after_1 := dk_seg dksX1_after_0 23 rfl rfl
theorem dksX1_after_2 : cX1_after.data.toList.drop 45 = dktX1_after_2 := dk_seg dksX1_after_1 22 rfl rfl
theorem dksX1_after_3 : cX1_after.data.toList.drop 69 = dktX1_after_3 := dk_seg dksX1_after_2 24 rfl rfl
theorem dksX1_after_4 : cX1_after.data.toList.drop 92 = dktX1_after_4 := dk_seg dksX1_after_3 23 rfl rfl
theorem dksX1_after_5 : cX1_after.data.toList.drop 114 = dktX1_after_5 := dk_seg dksX1_after_4 22 rfl rfl
theorem dksX1_after_6 : cX1_after.data.toList.drop 138 = dktX1_after_6 := dk_seg dksX1_after_5 24 rfl rfl
theorem dksX1_after_7 : cX1_after.data.toList.drop 162 = dktX1_after_7 := dk_seg dksX1_after_6 24 rfl rfl
theorem dX1_after_0 : decode cX1_after 0 = .ok (.iload_n 1, 1) := dk_27 (dk_at dksX1_after_0 0 rfl rfl)
theorem dX1_after_1 : decode cX1_after 1 = .ok (.invokestatic 100, 3) := dk_184 0 100 (dk_at dksX1_after_0 1 rfl rfl)
theorem dX1_after_4 : decode cX1_after 4 = .ok (.ifCond .eq 40, 3) := dk_153 0 40 (dk_at dksX1_after_0 4 rfl rfl)
theorem dX1_after_7 : decode cX1_after 7 = .ok (.iload_n 2, 1) := dk_28 (dk_at dksX1_after_0 7 rfl rfl)
theorem dX1_after_8 : decode cX1_after 8 = .ok (.ifCond .lt 36, 3) := dk_155 0 36 (dk_at dksX1_after_0 8 rfl rfl)
theorem dX1_after_11 : decode cX1_after 11 = .ok (.iload_n 2, 1) := dk_28 (dk_at dksX1_after_0 11 rfl rfl)
theorem dX1_after_12 : decode cX1_after 12 = .ok (.sipush 9999, 3) := dk_17 39 15 (dk_at dksX1_after_0 12 rfl rfl)
theorem dX1_after_15 : decode cX1_after 15 = .ok (.if_icmp .gt 29, 3) := dk_163 0 29 (dk_at dksX1_after_0 15 rfl rfl)
theorem dX1_after_18 : decode cX1_after 18 = .ok (.iload_n 3, 1) := dk_29 (dk_at dksX1_after_0 18 rfl rfl)
theorem dX1_after_19 : decode cX1_after 19 = .ok (.ifCond .lt 25, 3) := dk_155 0 25 (dk_at dksX1_after_0 19 rfl rfl)
theorem dX1_after_22 : decode cX1_after 22 = .ok (.iload_n 3, 1) := dk_29 (dk_at dksX1_after_0 22 rfl rfl)
theorem dX1_after_23 : decode cX1_after 23 = .ok (.bipush 60, 2) := dk_16 60 (dk_at dksX1_after_1 0 rfl rfl)
theorem dX1_after_25 : decode cX1_after 25 = .ok (.if_icmp .gt 19, 3) := dk_163 0 19 (dk_at dksX1_after_1 2 rfl rfl)
theorem dX1_after_28 : decode cX1_after 28 = .ok (.aload_n 0, 1) := dk_42 (dk_at dksX1_after_1 5 rfl rfl)
theorem dX1_after_29 : decode cX1_after 29 = .ok (.getfield 10, 3) := dk_180 0 10 (dk_at dksX1_after_1 6 rfl rfl)
theorem dX1_after_32 : decode cX1_after 32 = .ok (.getfield 108, 3) := dk_180 0 108 (dk_at dksX1_after_1 9 rfl rfl)
theorem dX1_after_35 : decode cX1_after 35 = .ok (.iload_n 1, 1) := dk_27 (dk_at dksX1_after_1 12 rfl rfl)
theorem dX1_after_36 : decode cX1_after 36 = .ok (.iaload, 1) := dk_46 (dk_at dksX1_after_1 13 rfl rfl)
theorem dX1_after_37 : decode cX1_after 37 = .ok (.ifCond .le 7, 3) := dk_158 0 7 (dk_at dksX1_after_1 14 rfl rfl)
theorem dX1_after_40 : decode cX1_after 40 = .ok (.iconst 1, 1) := dk_4 (dk_at dksX1_after_1 17 rfl rfl)
theorem dX1_after_41 : decode cX1_after 41 = .ok (.goto 4, 3) := dk_167 0 4 (dk_at dksX1_after_1 18 rfl rfl)
theorem dX1_after_44 : decode cX1_after 44 = .ok (.iconst 0, 1) := dk_3 (dk_at dksX1_after_1 21 rfl rfl)
theorem dX1_after_45 : decode cX1_after 45 = .ok (.invokestatic 69, 3) := dk_184 0 69 (dk_at dksX1_after_2 0 rfl rfl)
theorem dX1_after_48 : decode cX1_after 48 = .ok (.iconst 0, 1) := dk_3 (dk_at dksX1_after_2 3 rfl rfl)
theorem dX1_after_49 : decode cX1_after 49 = .ok (.istore 5, 2) := dk_54 5 (dk_at dksX1_after_2 4 rfl rfl)
theorem dX1_after_51 : decode cX1_after 51 = .ok (.ldc 252, 2) := dk_18 252 (dk_at dksX1_after_2 6 rfl rfl)
theorem dX1_after_53 : decode cX1_after 53 = .ok (.istore 6, 2) := dk_54 6 (dk_at dksX1_after_2 8 rfl rfl)
theorem dX1_after_55 : decode cX1_after 55 = .ok (.iload 5, 2) := dk_21 5 (dk_at dksX1_after_2 10 rfl rfl)
theorem dX1_after_57 : decode cX1_after 57 = .ok (.iload 6, 2) := dk_21 6 (dk_at dksX1_after_2 12 rfl rfl)
theorem dX1_after_59 : decode cX1_after 59 = .ok (.if_icmp .ge 58, 3) := dk_162 0 58 (dk_at dksX1_after_2 14 rfl rfl)
theorem dX1_after_62 : decode cX1_after 62 = .ok (.iload 5, 2) := dk_21 5 (dk_at dksX1_after_2 17 rfl rfl)
theorem dX1_after_64 : decode cX1_after 64 = .ok (.iload 6, 2) := dk_21 6 (dk_at dksX1_after_2 19 rfl rfl)
theorem dX1_after_66 : decode cX1_after 66 = .ok (.iadd, 1) := dk_96 (dk_at dksX1_after_2 21 rfl rfl)
theorem dX1_after_67 : decode cX1_after 67 = .ok (.iconst 2, 1) := dk_5 (dk_at dksX1_after_2 22 rfl rfl)
theorem dX1_after_68 : decode cX1_after 68 = .ok (.idiv, 1) := dk_108 (dk_at dksX1_after_2 23 rfl rfl)
theorem dX1_after_69 : decode cX1_after 69 = .ok (.istore 7, 2) := dk_54 7 (dk_at dksX1_after_3 0 rfl rfl)
theorem dX1_after_71 : decode cX1_after 71 = .ok (.aload_n 0, 1) := dk_42 (dk_at dksX1_after_3 2 rfl rfl)
theorem dX1_after_72 : decode cX1_after 72 = .ok (.iload_n 1, 1) := dk_27 (dk_at dksX1_after_3 3 rfl rfl)
theorem dX1_after_73 : decode cX1_after 73 = .ok (.iload 7, 2) := dk_21 7 (dk_at dksX1_after_3 4 rfl rfl)
theorem dX1_after_75 : decode cX1_after 75 = .ok (.iload_n 3, 1) := dk_29 (dk_at dksX1_after_3 6 rfl rfl)
theorem dX1_after_76 : decode cX1_after 76 = .ok (.invokevirtual 253, 3) := dk_182 0 253 (dk_at dksX1_after_3 7 rfl rfl)
theorem dX1_after_79 : decode cX1_after 79 = .ok (.istore 8, 2) := dk_54 8 (dk_at dksX1_after_3 10 rfl rfl)
theorem dX1_after_81 : decode cX1_after 81 = .ok (.iload 4, 2) := dk_21 4 (dk_at dksX1_after_3 12 rfl rfl)
theorem dX1_after_83 : decode cX1_after 83 = .ok (.ifCond .eq 12, 3) := dk_153 0 12 (dk_at dksX1_after_3 14 rfl rfl)
theorem dX1_after_86 : decode cX1_after 86 = .ok (.iload 8, 2) := dk_21 8 (dk_at dksX1_after_3 17 rfl rfl)
theorem dX1_after_88 : decode cX1_after 88 = .ok (.iload_n 2, 1) := dk_28 (dk_at dksX1_after_3 19 rfl rfl)
theorem dX1_after_89 : decode cX1_after 89 = .ok (.if_icmp .le 19, 3) := dk_164 0 19 (dk_at dksX1_after_3 20 rfl rfl)
theorem dX1_after_92 : decode cX1_after 92 = .ok (.goto 9, 3) := dk_167 0 9 (dk_at dksX1_after_4 0 rfl rfl)
theorem dX1_after_95 : decode cX1_after 95 = .ok (.iload 8, 2) := dk_21 8 (dk_at dksX1_after_4 3 rfl rfl)
theorem dX1_after_97 : decode cX1_after 97 = .ok (.iload_n 2, 1) := dk_28 (dk_at dksX1_after_4 5 rfl rfl)
theorem dX1_after_98 : decode cX1_after 98 = .ok (.if_icmp .lt 10, 3) := dk_161 0 10 (dk_at dksX1_after_4 6 rfl rfl)
theorem dX1_after_101 : decode cX1_after 101 = .ok (.iload 7, 2) := dk_21 7 (dk_at dksX1_after_4 9 rfl rfl)
theorem dX1_after_103 : decode cX1_after 103 = .ok (.istore 6, 2) := dk_54 6 (dk_at dksX1_after_4 11 rfl rfl)
theorem dX1_after_105 : decode cX1_after 105 = .ok (.goto 9, 3) := dk_167 0 9 (dk_at dksX1_after_4 13 rfl rfl)
theorem dX1_after_108 : decode cX1_after 108 = .ok (.iload 7, 2) := dk_21 7 (dk_at dksX1_after_4 16 rfl rfl)
theorem dX1_after_110 : decode cX1_after 110 = .ok (.iconst 1, 1) := dk_4 (dk_at dksX1_after_4 18 rfl rfl)
theorem dX1_after_111 : decode cX1_after 111 = .ok (.iadd, 1) := dk_96 (dk_at dksX1_after_4 19 rfl rfl)
theorem dX1_after_112 : decode cX1_after 112 = .ok (.istore 5, 2) := dk_54 5 (dk_at dksX1_after_4 20 rfl rfl)
theorem dX1_after_114 : decode cX1_after 114 = .ok (.goto (-59), 3) := dk_167 255 197 (dk_at dksX1_after_5 0 rfl rfl)
theorem dX1_after_117 : decode cX1_after 117 = .ok (.iload 4, 2) := dk_21 4 (dk_at dksX1_after_5 3 rfl rfl)
theorem dX1_after_119 : decode cX1_after 119 = .ok (.ifCond .eq 10, 3) := dk_153 0 10 (dk_at dksX1_after_5 5 rfl rfl)
theorem dX1_after_122 : decode cX1_after 122 = .ok (.iload 5, 2) := dk_21 5 (dk_at dksX1_after_5 8 rfl rfl)
theorem dX1_after_124 : decode cX1_after 124 = .ok (.iconst 1, 1) := dk_4 (dk_at dksX1_after_5 10 rfl rfl)
theorem dX1_after_125 : decode cX1_after 125 = .ok (.isub, 1) := dk_100 (dk_at dksX1_after_5 11 rfl rfl)
theorem dX1_after_126 : decode cX1_after 126 = .ok (.goto 5, 3) := dk_167 0 5 (dk_at dksX1_after_5 12 rfl rfl)
theorem dX1_after_129 : decode cX1_after 129 = .ok (.iload 5, 2) := dk_21 5 (dk_at dksX1_after_5 15 rfl rfl)
theorem dX1_after_131 : decode cX1_after 131 = .ok (.istore 7, 2) := dk_54 7 (dk_at dksX1_after_5 17 rfl rfl)
theorem dX1_after_133 : decode cX1_after 133 = .ok (.iload 7, 2) := dk_21 7 (dk_at dksX1_after_5 19 rfl rfl)
theorem dX1_after_135 : decode cX1_after 135 = .ok (.ifCond .lt 23, 3) := dk_155 0 23 (dk_at dksX1_after_5 21 rfl rfl)
theorem dX1_after_138 : decode cX1_after 138 = .ok (.iload 7, 2) := dk_21 7 (dk_at dksX1_after_6 0 rfl rfl)
theorem dX1_after_140 : decode cX1_after 140 = .ok (.ldc_w 257, 3) := dk_19 1 1 (dk_at dksX1_after_6 2 rfl rfl)
theorem dX1_after_143 : decode cX1_after 143 = .ok (.if_icmp .gt 15, 3) := dk_163 0 15 (dk_at dksX1_after_6 5 rfl rfl)
theorem dX1_after_146 : decode cX1_after 146 = .ok (.aload_n 0, 1) := dk_42 (dk_at dksX1_after_6 8 rfl rfl)
theorem dX1_after_147 : decode cX1_after 147 = .ok (.iload_n 1, 1) := dk_27 (dk_at dksX1_after_6 9 rfl rfl)
theorem dX1_after_148 : decode cX1_after 148 = .ok (.iload 7, 2) := dk_21 7 (dk_at dksX1_after_6 10 rfl rfl)
theorem dX1_after_150 : decode cX1_after 150 = .ok (.iload_n 3, 1) := dk_29 (dk_at dksX1_after_6 12 rfl rfl)
theorem dX1_after_151 : decode cX1_after 151 = .ok (.invokevirtual 253, 3) := dk_182 0 253 (dk_at dksX1_after_6 13 rfl rfl)
theorem dX1_after_154 : decode cX1_after 154 = .ok (.iload_n 2, 1) := dk_28 (dk_at dksX1_after_6 16 rfl rfl)
theorem dX1_after_155 : decode cX1_after 155 = .ok (.if_icmp .eq 7, 3) := dk_159 0 7 (dk_at dksX1_after_6 17 rfl rfl)
theorem dX1_after_158 : decode cX1_after 158 = .ok (.iconst (-1), 1) := dk_2 (dk_at dksX1_after_6 20 rfl rfl)
theorem dX1_after_159 : decode cX1_after 159 = .ok (.goto 5, 3) := dk_167 0 5 (dk_at dksX1_after_6 21 rfl rfl)
theorem dX1_after_162 : decode cX1_after 162 = .ok (.iload 7, 2) := dk_21 7 (dk_at dksX1_after_7 0 rfl rfl)
theorem dX1_after_164 : decode cX1_after 164 = .ok (.ireturn, 1) := dk_172 (dk_at dksX1_after_7 2 rfl rfl)
abbrev cX1_leftOf : ByteArray := prog_1_method_37_code
def yX1_leftOf : MethodName := ⟨RX1, "leftOf", "(III)I"⟩
def dkwX1_leftOf_1 : List UInt8 := [16, 16, 108, 54, 4, 132, 5, 1, 167, 255, 230, 21, 4, 172]
abbrev dktX1_leftOf_1 : List UInt8 := dkwX1_leftOf_1 ++ []
def dkwX1_leftOf_0 : List UInt8 := [28, 54, 4, 3, 54, 5, 21, 5, 29, 162, 0, 26, 21, 4, 42, 180, 0, 10, 180, 0, 108, 27, 46, 104]
abbrev dktX1_leftOf_0 : List UInt8 := dkwX1_leftOf_0 ++ dktX1_leftOf_1
theorem dksX1_leftOf_0 : cX1_leftOf.data.toList.drop 0 = dktX1_leftOf_0 := by decide +kernel
theorem dksX1_leftOf_1 : cX1_leftOf.data.toList.drop 24 = dktX1_leftOf_1 := dk_seg dksX1_leftOf_0 24 rfl rfl
theorem dX1_leftOf_0 : decode cX1_leftOf 0 = .ok (.iload_n 2, 1) := dk_28 (dk_at dksX1_leftOf_0 0 rfl rfl)
theorem dX1_leftOf_1 : decode cX1_leftOf 1 = .ok (.istore 4, 2) := dk_54 4 (dk_at dksX1_leftOf_0 1 rfl rfl)
theorem dX1_leftOf_3 : decode cX1_leftOf 3 = .ok (.iconst 0, 1) := dk_3 (dk_at dksX1_leftOf_0 3 rfl rfl)
theorem dX1_leftOf_4 : decode cX1_leftOf 4 = .ok (.istore 5, 2) := dk_54 5 (dk_at dksX1_leftOf_0 4 rfl rfl)
theorem dX1_leftOf_6 : decode cX1_leftOf 6 = .ok (.iload 5, 2) := dk_21 5 (dk_at dksX1_leftOf_0 6 rfl rfl)
theorem dX1_leftOf_8 : decode cX1_leftOf 8 = .ok (.iload_n 3, 1) := dk_29 (dk_at dksX1_leftOf_0 8 rfl rfl)
theorem dX1_leftOf_9 : decode cX1_leftOf 9 = .ok (.if_icmp .ge 26, 3) := dk_162 0 26 (dk_at dksX1_leftOf_0 9 rfl rfl)
theorem dX1_leftOf_12 : decode cX1_leftOf 12 = .ok (.iload 4, 2) := dk_21 4 (dk_at dksX1_leftOf_0 12 rfl rfl)
theorem dX1_leftOf_14 : decode cX1_leftOf 14 = .ok (.aload_n 0, 1) := dk_42 (dk_at dksX1_leftOf_0 14 rfl rfl)
theorem dX1_leftOf_15 : decode cX1_leftOf 15 = .ok (.getfield 10, 3) := dk_180 0 10 (dk_at dksX1_leftOf_0 15 rfl rfl)
theorem dX1_leftOf_18 : decode cX1_leftOf 18 = .ok (.getfield 108, 3) := dk_180 0 108 (dk_at dksX1_leftOf_0 18 rfl rfl)
theorem dX1_leftOf_21 : decode cX1_leftOf 21 = .ok (.iload_n 1, 1) := dk_27 (dk_at dksX1_leftOf_0 21 rfl rfl)
theorem dX1_leftOf_22 : decode cX1_leftOf 22 = .ok (.iaload, 1) := dk_46 (dk_at dksX1_leftOf_0 22 rfl rfl)
theorem dX1_leftOf_23 : decode cX1_leftOf 23 = .ok (.imul, 1) := dk_104 (dk_at dksX1_leftOf_0 23 rfl rfl)
theorem dX1_leftOf_24 : decode cX1_leftOf 24 = .ok (.bipush 16, 2) := dk_16 16 (dk_at dksX1_leftOf_1 0 rfl rfl)
theorem dX1_leftOf_26 : decode cX1_leftOf 26 = .ok (.idiv, 1) := dk_108 (dk_at dksX1_leftOf_1 2 rfl rfl)
theorem dX1_leftOf_27 : decode cX1_leftOf 27 = .ok (.istore 4, 2) := dk_54 4 (dk_at dksX1_leftOf_1 3 rfl rfl)
theorem dX1_leftOf_29 : decode cX1_leftOf 29 = .ok (.iinc 5 1, 3) := dk_132 5 1 (dk_at dksX1_leftOf_1 5 rfl rfl)
theorem dX1_leftOf_32 : decode cX1_leftOf 32 = .ok (.goto (-26), 3) := dk_167 255 230 (dk_at dksX1_leftOf_1 8 rfl rfl)
theorem dX1_leftOf_35 : decode cX1_leftOf 35 = .ok (.iload 4, 2) := dk_21 4 (dk_at dksX1_leftOf_1 11 rfl rfl)
theorem dX1_leftOf_37 : decode cX1_leftOf 37 = .ok (.ireturn, 1) := dk_172 (dk_at dksX1_leftOf_1 13 rfl rfl)
abbrev cX1_seat : ByteArray := prog_1_method_39_code
def yX1_seat : MethodName := ⟨RX1, "seat", "(I)I"⟩
def dkwX1_seat_2 : List UInt8 := [27, 79, 42, 180, 0, 19, 89, 180, 1, 2, 4, 96, 181, 1, 2, 42, 180, 0, 19, 180, 1, 2, 172]
abbrev dktX1_seat_2 : List UInt8 := dkwX1_seat_2 ++ []
def dkwX1_seat_1 : List UInt8 := [180, 1, 2, 16, 40, 160, 0, 5, 2, 172, 42, 180, 0, 19, 180, 1, 5, 42, 180, 0, 19, 180, 1, 2]
abbrev dktX1_seat_1 : List UInt8 := dkwX1_seat_1 ++ dktX1_seat_2
def dkwX1_seat_0 : List UInt8 := [27, 155, 0, 14, 27, 17, 4, 0, 162, 0, 7, 4, 167, 0, 4, 3, 184, 0, 69, 42, 180, 0, 19]
abbrev dktX1_seat_0 : List UInt8 := dkwX1_seat_0 ++ dktX1_seat_1
theorem dksX1_seat_0 : cX1_seat.data.toList.drop 0 = dktX1_seat_0 := by decide +kernel
theorem dksX1_seat_1 : cX1_seat.data.toList.drop 23 = dktX1_seat_1 := dk_seg dksX1_seat_0 23 rfl rfl
theorem dksX1_seat_2 : cX1_seat.data.toList.drop 47 = dktX1_seat_2 := dk_seg dksX1_seat_1 24 rfl rfl
theorem dX1_seat_0 : decode cX1_seat 0 = .ok (.iload_n 1, 1) := dk_27 (dk_at dksX1_seat_0 0 rfl rfl)
theorem dX1_seat_1 : decode cX1_seat 1 = .ok (.ifCond .lt 14, 3) := dk_155 0 14 (dk_at dksX1_seat_0 1 rfl rfl)
theorem dX1_seat_4 : decode cX1_seat 4 = .ok (.iload_n 1, 1) := dk_27 (dk_at dksX1_seat_0 4 rfl rfl)
theorem dX1_seat_5 : decode cX1_seat 5 = .ok (.sipush 1024, 3) := dk_17 4 0 (dk_at dksX1_seat_0 5 rfl rfl)
theorem dX1_seat_8 : decode cX1_seat 8 = .ok (.if_icmp .ge 7, 3) := dk_162 0 7 (dk_at dksX1_seat_0 8 rfl rfl)
theorem dX1_seat_11 : decode cX1_seat 11 = .ok (.iconst 1, 1) := dk_4 (dk_at dksX1_seat_0 11 rfl rfl)
theorem dX1_seat_12 : decode cX1_seat 12 = .ok (.goto 4, 3) := dk_167 0 4 (dk_at dksX1_seat_0 12 rfl rfl)
theorem dX1_seat_15 : decode cX1_seat 15 = .ok (.iconst 0, 1) := dk_3 (dk_at dksX1_seat_0 15 rfl rfl)
theorem dX1_seat_16 : decode cX1_seat 16 = .ok (.invokestatic 69, 3) := dk_184 0 69 (dk_at dksX1_seat_0 16 rfl rfl)
theorem dX1_seat_19 : decode cX1_seat 19 = .ok (.aload_n 0, 1) := dk_42 (dk_at dksX1_seat_0 19 rfl rfl)
theorem dX1_seat_20 : decode cX1_seat 20 = .ok (.getfield 19, 3) := dk_180 0 19 (dk_at dksX1_seat_0 20 rfl rfl)
theorem dX1_seat_23 : decode cX1_seat 23 = .ok (.getfield 258, 3) := dk_180 1 2 (dk_at dksX1_seat_1 0 rfl rfl)
theorem dX1_seat_26 : decode cX1_seat 26 = .ok (.bipush 40, 2) := dk_16 40 (dk_at dksX1_seat_1 3 rfl rfl)
theorem dX1_seat_28 : decode cX1_seat 28 = .ok (.if_icmp .ne 5, 3) := dk_160 0 5 (dk_at dksX1_seat_1 5 rfl rfl)
theorem dX1_seat_31 : decode cX1_seat 31 = .ok (.iconst (-1), 1) := dk_2 (dk_at dksX1_seat_1 8 rfl rfl)
theorem dX1_seat_32 : decode cX1_seat 32 = .ok (.ireturn, 1) := dk_172 (dk_at dksX1_seat_1 9 rfl rfl)
theorem dX1_seat_33 : decode cX1_seat 33 = .ok (.aload_n 0, 1) := dk_42 (dk_at dksX1_seat_1 10 rfl rfl)
theorem dX1_seat_34 : decode cX1_seat 34 = .ok (.getfield 19, 3) := dk_180 0 19 (dk_at dksX1_seat_1 11 rfl rfl)
theorem dX1_seat_37 : decode cX1_seat 37 = .ok (.getfield 261, 3) := dk_180 1 5 (dk_at dksX1_seat_1 14 rfl rfl)
theorem dX1_seat_40 : decode cX1_seat 40 = .ok (.aload_n 0, 1) := dk_42 (dk_at dksX1_seat_1 17 rfl rfl)
theorem dX1_seat_41 : decode cX1_seat 41 = .ok (.getfield 19, 3) := dk_180 0 19 (dk_at dksX1_seat_1 18 rfl rfl)
theorem dX1_seat_44 : decode cX1_seat 44 = .ok (.getfield 258, 3) := dk_180 1 2 (dk_at dksX1_seat_1 21 rfl rfl)
theorem dX1_seat_47 : decode cX1_seat 47 = .ok (.iload_n 1, 1) := dk_27 (dk_at dksX1_seat_2 0 rfl rfl)
theorem dX1_seat_48 : decode cX1_seat 48 = .ok (.iastore, 1) := dk_79 (dk_at dksX1_seat_2 1 rfl rfl)
theorem dX1_seat_49 : decode cX1_seat 49 = .ok (.aload_n 0, 1) := dk_42 (dk_at dksX1_seat_2 2 rfl rfl)
theorem dX1_seat_50 : decode cX1_seat 50 = .ok (.getfield 19, 3) := dk_180 0 19 (dk_at dksX1_seat_2 3 rfl rfl)
theorem dX1_seat_53 : decode cX1_seat 53 = .ok (.dup, 1) := dk_89 (dk_at dksX1_seat_2 6 rfl rfl)
theorem dX1_seat_54 : decode cX1_seat 54 = .ok (.getfield 258, 3) := dk_180 1 2 (dk_at dksX1_seat_2 7 rfl rfl)
theorem dX1_seat_57 : decode cX1_seat 57 = .ok (.iconst 1, 1) := dk_4 (dk_at dksX1_seat_2 10 rfl rfl)
theorem dX1_seat_58 : decode cX1_seat 58 = .ok (.iadd, 1) := dk_96 (dk_at dksX1_seat_2 11 rfl rfl)
theorem dX1_seat_59 : decode cX1_seat 59 = .ok (.putfield 258, 3) := dk_181 1 2 (dk_at dksX1_seat_2 12 rfl rfl)
theorem dX1_seat_62 : decode cX1_seat 62 = .ok (.aload_n 0, 1) := dk_42 (dk_at dksX1_seat_2 15 rfl rfl)
theorem dX1_seat_63 : decode cX1_seat 63 = .ok (.getfield 19, 3) := dk_180 0 19 (dk_at dksX1_seat_2 16 rfl rfl)
theorem dX1_seat_66 : decode cX1_seat 66 = .ok (.getfield 258, 3) := dk_180 1 2 (dk_at dksX1_seat_2 19 rfl rfl)
theorem dX1_seat_69 : decode cX1_seat 69 = .ok (.ireturn, 1) := dk_172 (dk_at dksX1_seat_2 22 rfl rfl)
abbrev cX1_share : ByteArray := prog_1_method_40_code
def yX1_share : MethodName := ⟨RX1, "share", "(I)I"⟩
def dkwX1_share_0 : List UInt8 := [27, 184, 0, 100, 184, 0, 69, 42, 180, 0, 19, 4, 27, 120, 182, 1, 8, 172]
abbrev dktX1_share_0 : List UInt8 := dkwX1_share_0 ++ []
theorem dksX1_share_0 : cX1_share.data.toList.drop 0 = dktX1_share_0 := by decide +kernel
theorem dX1_share_0 : decode cX1_share 0 = .ok (.iload_n 1, 1) := dk_27 (dk_at dksX1_share_0 0 rfl rfl)
theorem dX1_share_1 : decode cX1_share 1 = .ok (.invokestatic 100, 3) := dk_184 0 100 (dk_at dksX1_share_0 1 rfl rfl)
theorem dX1_share_4 : decode cX1_share 4 = .ok (.invokestatic 69, 3) := dk_184 0 69 (dk_at dksX1_share_0 4 rfl rfl)
theorem dX1_share_7 : decode cX1_share 7 = .ok (.aload_n 0, 1) := dk_42 (dk_at dksX1_share_0 7 rfl rfl)
theorem dX1_share_8 : decode cX1_share 8 = .ok (.getfield 19, 3) := dk_180 0 19 (dk_at dksX1_share_0 8 rfl rfl)
theorem dX1_share_11 : decode cX1_share 11 = .ok (.iconst 1, 1) := dk_4 (dk_at dksX1_share_0 11 rfl rfl)
theorem dX1_share_12 : decode cX1_share 12 = .ok (.iload_n 1, 1) := dk_27 (dk_at dksX1_share_0 12 rfl rfl)
theorem dX1_share_13 : decode cX1_share 13 = .ok (.ishl, 1) := dk_120 (dk_at dksX1_share_0 13 rfl rfl)
theorem dX1_share_14 : decode cX1_share 14 = .ok (.invokevirtual 264, 3) := dk_182 1 8 (dk_at dksX1_share_0 14 rfl rfl)
theorem dX1_share_17 : decode cX1_share 17 = .ok (.ireturn, 1) := dk_172 (dk_at dksX1_share_0 17 rfl rfl)
abbrev cX1_together : ByteArray := prog_1_method_41_code
def yX1_together : MethodName := ⟨RX1, "together", "(II)I"⟩
def dkwX1_together_2 : List UInt8 := [180, 0, 19, 4, 27, 120, 182, 1, 8, 42, 180, 0, 19, 4, 28, 120, 182, 1, 8, 104, 100, 172]
abbrev dktX1_together_2 : List UInt8 := dkwX1_together_2 ++ []
def dkwX1_together_1 : List UInt8 := [180, 0, 19, 4, 27, 120, 4, 28, 120, 128, 182, 1, 8, 42, 180, 0, 19, 180, 1, 2, 104, 42]
abbrev dktX1_together_1 : List UInt8 := dkwX1_together_1 ++ dktX1_together_2
def dkwX1_together_0 : List UInt8 := [27, 184, 0, 100, 153, 0, 14, 28, 184, 0, 100, 153, 0, 7, 4, 167, 0, 4, 3, 184, 0, 69, 42]
abbrev dktX1_together_0 : List UInt8 := dkwX1_together_0 ++ dktX1_together_1
theorem dksX1_together_0 : cX1_together.data.toList.drop 0 = dktX1_together_0 := by decide +kernel
theorem dksX1_together_1 : cX1_together.data.toList.drop 23 = dktX1_together_1 := dk_seg dksX1_together_0 23 rfl rfl
theorem dksX1_together_2 : cX1_together.data.toList.drop 45 = dktX1_together_2 := dk_seg dksX1_together_1 22 rfl rfl
theorem dX1_together_0 : decode cX1_together 0 = .ok (.iload_n 1, 1) := dk_27 (dk_at dksX1_together_0 0 rfl rfl)
theorem dX1_together_1 : decode cX1_together 1 = .ok (.invokestatic 100, 3) := dk_184 0 100 (dk_at dksX1_together_0 1 rfl rfl)
theorem dX1_together_4 : decode cX1_together 4 = .ok (.ifCond .eq 14, 3) := dk_153 0 14 (dk_at dksX1_together_0 4 rfl rfl)
theorem dX1_together_7 : decode cX1_together 7 = .ok (.iload_n 2, 1) := dk_28 (dk_at dksX1_together_0 7 rfl rfl)
theorem dX1_together_8 : decode cX1_together 8 = .ok (.invokestatic 100, 3) := dk_184 0 100 (dk_at dksX1_together_0 8 rfl rfl)
theorem dX1_together_11 : decode cX1_together 11 = .ok (.ifCond .eq 7, 3) := dk_153 0 7 (dk_at dksX1_together_0 11 rfl rfl)
theorem dX1_together_14 : decode cX1_together 14 = .ok (.iconst 1, 1) := dk_4 (dk_at dksX1_together_0 14 rfl rfl)
theorem dX1_together_15 : decode cX1_together 15 = .ok (.goto 4, 3) := dk_167 0 4 (dk_at dksX1_together_0 15 rfl rfl)
theorem dX1_together_18 : decode cX1_together 18 = .ok (.iconst 0, 1) := dk_3 (dk_at dksX1_together_0 18 rfl rfl)
theorem dX1_together_19 : decode cX1_together 19 = .ok (.invokestatic 69, 3) := dk_184 0 69 (dk_at dksX1_together_0 19 rfl rfl)
theorem dX1_together_22 : decode cX1_together 22 = .ok (.aload_n 0, 1) := dk_42 (dk_at dksX1_together_0 22 rfl rfl)
theorem dX1_together_23 : decode cX1_together 23 = .ok (.getfield 19, 3) := dk_180 0 19 (dk_at dksX1_together_1 0 rfl rfl)
theorem dX1_together_26 : decode cX1_together 26 = .ok (.iconst 1, 1) := dk_4 (dk_at dksX1_together_1 3 rfl rfl)
theorem dX1_together_27 : decode cX1_together 27 = .ok (.iload_n 1, 1) := dk_27 (dk_at dksX1_together_1 4 rfl rfl)
theorem dX1_together_28 : decode cX1_together 28 = .ok (.ishl, 1) := dk_120 (dk_at dksX1_together_1 5 rfl rfl)
theorem dX1_together_29 : decode cX1_together 29 = .ok (.iconst 1, 1) := dk_4 (dk_at dksX1_together_1 6 rfl rfl)
theorem dX1_together_30 : decode cX1_together 30 = .ok (.iload_n 2, 1) := dk_28 (dk_at dksX1_together_1 7 rfl rfl)
theorem dX1_together_31 : decode cX1_together 31 = .ok (.ishl, 1) := dk_120 (dk_at dksX1_together_1 8 rfl rfl)
theorem dX1_together_32 : decode cX1_together 32 = .ok (.ior, 1) := dk_128 (dk_at dksX1_together_1 9 rfl rfl)
theorem dX1_together_33 : decode cX1_together 33 = .ok (.invokevirtual 264, 3) := dk_182 1 8 (dk_at dksX1_together_1 10 rfl rfl)
theorem dX1_together_36 : decode cX1_together 36 = .ok (.aload_n 0, 1) := dk_42 (dk_at dksX1_together_1 13 rfl rfl)
theorem dX1_together_37 : decode cX1_together 37 = .ok (.getfield 19, 3) := dk_180 0 19 (dk_at dksX1_together_1 14 rfl rfl)
theorem dX1_together_40 : decode cX1_together 40 = .ok (.getfield 258, 3) := dk_180 1 2 (dk_at dksX1_together_1 17 rfl rfl)
theorem dX1_together_43 : decode cX1_together 43 = .ok (.imul, 1) := dk_104 (dk_at dksX1_together_1 20 rfl rfl)
theorem dX1_together_44 : decode cX1_together 44 = .ok (.aload_n 0, 1) := dk_42 (dk_at dksX1_together_1 21 rfl rfl)
theorem dX1_together_45 : decode cX1_together 45 = .ok (.getfield 19, 3) := dk_180 0 19 (dk_at dksX1_together_2 0 rfl rfl)
theorem dX1_together_48 : decode cX1_together 48 = .ok (.iconst 1, 1) := dk_4 (dk_at dksX1_together_2 3 rfl rfl)
theorem dX1_together_49 : decode cX1_together 49 = .ok (.iload_n 1, 1) := dk_27 (dk_at dksX1_together_2 4 rfl rfl)
theorem dX1_together_50 : decode cX1_together 50 = .ok (.ishl, 1) := dk_120 (dk_at dksX1_together_2 5 rfl rfl)
theorem dX1_together_51 : decode cX1_together 51 = .ok (.invokevirtual 264, 3) := dk_182 1 8 (dk_at dksX1_together_2 6 rfl rfl)
theorem dX1_together_54 : decode cX1_together 54 = .ok (.aload_n 0, 1) := dk_42 (dk_at dksX1_together_2 9 rfl rfl)
theorem dX1_together_55 : decode cX1_together 55 = .ok (.getfield 19, 3) := dk_180 0 19 (dk_at dksX1_together_2 10 rfl rfl)
theorem dX1_together_58 : decode cX1_together 58 = .ok (.iconst 1, 1) := dk_4 (dk_at dksX1_together_2 13 rfl rfl)
theorem dX1_together_59 : decode cX1_together 59 = .ok (.iload_n 2, 1) := dk_28 (dk_at dksX1_together_2 14 rfl rfl)
theorem dX1_together_60 : decode cX1_together 60 = .ok (.ishl, 1) := dk_120 (dk_at dksX1_together_2 15 rfl rfl)
theorem dX1_together_61 : decode cX1_together 61 = .ok (.invokevirtual 264, 3) := dk_182 1 8 (dk_at dksX1_together_2 16 rfl rfl)
theorem dX1_together_64 : decode cX1_together 64 = .ok (.imul, 1) := dk_104 (dk_at dksX1_together_2 19 rfl rfl)
theorem dX1_together_65 : decode cX1_together 65 = .ok (.isub, 1) := dk_100 (dk_at dksX1_together_2 20 rfl rfl)
theorem dX1_together_66 : decode cX1_together 66 = .ok (.ireturn, 1) := dk_172 (dk_at dksX1_together_2 21 rfl rfl)
abbrev cX1_shop : ByteArray := prog_1_method_42_code
def yX1_shop : MethodName := ⟨RX1, "shop", "(III)I"⟩
def dkwX1_shop_3 : List UInt8 := [182, 0, 96, 87, 42, 180, 0, 19, 180, 1, 11, 182, 0, 47, 172]
abbrev dktX1_shop_3 : List UInt8 := dkwX1_shop_3 ++ []
def dkwX1_shop_2 : List UInt8 := [160, 0, 5, 2, 172, 42, 180, 0, 19, 180, 1, 11, 187, 1, 14, 89, 27, 28, 29, 183, 1, 16]
abbrev dktX1_shop_2 : List UInt8 := dkwX1_shop_2 ++ dktX1_shop_3
def dkwX1_shop_1 : List UInt8 := [163, 0, 7, 4, 167, 0, 4, 3, 184, 0, 69, 42, 180, 0, 19, 180, 1, 11, 182, 0, 47, 16, 12]
abbrev dktX1_shop_1 : List UInt8 := dkwX1_shop_1 ++ dktX1_shop_2
def dkwX1_shop_0 : List UInt8 := [27, 184, 0, 100, 153, 0, 27, 28, 155, 0, 23, 28, 29, 163, 0, 18, 29, 4, 161, 0, 13, 29, 18, 211]
abbrev dktX1_shop_0 : List UInt8 := dkwX1_shop_0 ++ dktX1_shop_1
theorem dksX1_shop_0 : cX1_shop.data.toList.drop 0 = dktX1_shop_0 := by decide +kernel
theorem dksX1_shop_1 : cX1_shop.data.toList.drop 24 = dktX1_shop_1 := dk_seg dksX1_shop_0 24 rfl rfl
theorem dksX1_shop_2 : cX1_shop.data.toList.drop 47 = dktX1_shop_2 := dk_seg dksX1_shop_1 23 rfl rfl
theorem dksX1_shop_3 : cX1_shop.data.toList.drop 69 = dktX1_shop_3 := dk_seg dksX1_shop_2 22 rfl rfl
theorem dX1_shop_0 : decode cX1_shop 0 = .ok (.iload_n 1, 1) := dk_27 (dk_at dksX1_shop_0 0 rfl rfl)
theorem dX1_shop_1 : decode cX1_shop 1 = .ok (.invokestatic 100, 3) := dk_184 0 100 (dk_at dksX1_shop_0 1 rfl rfl)
theorem dX1_shop_4 : decode cX1_shop 4 = .ok (.ifCond .eq 27, 3) := dk_153 0 27 (dk_at dksX1_shop_0 4 rfl rfl)
theorem dX1_shop_7 : decode cX1_shop 7 = .ok (.iload_n 2, 1) := dk_28 (dk_at dksX1_shop_0 7 rfl rfl)
theorem dX1_shop_8 : decode cX1_shop 8 = .ok (.ifCond .lt 23, 3) := dk_155 0 23 (dk_at dksX1_shop_0 8 rfl rfl)
theorem dX1_shop_11 : decode cX1_shop 11 = .ok (.iload_n 2, 1) := dk_28 (dk_at dksX1_shop_0 11 rfl rfl)
theorem dX1_shop_12 : decode cX1_shop 12 = .ok (.iload_n 3, 1) := dk_29 (dk_at dksX1_shop_0 12 rfl rfl)
theorem dX1_shop_13 : decode cX1_shop 13 = .ok (.if_icmp .gt 18, 3) := dk_163 0 18 (dk_at dksX1_shop_0 13 rfl rfl)
theorem dX1_shop_16 : decode cX1_shop 16 = .ok (.iload_n 3, 1) := dk_29 (dk_at dksX1_shop_0 16 rfl rfl)
theorem dX1_shop_17 : decode cX1_shop 17 = .ok (.iconst 1, 1) := dk_4 (dk_at dksX1_shop_0 17 rfl rfl)
theorem dX1_shop_18 : decode cX1_shop 18 = .ok (.if_icmp .lt 13, 3) := dk_161 0 13 (dk_at dksX1_shop_0 18 rfl rfl)
theorem dX1_shop_21 : decode cX1_shop 21 = .ok (.iload_n 3, 1) := dk_29 (dk_at dksX1_shop_0 21 rfl rfl)
theorem dX1_shop_22 : decode cX1_shop 22 = .ok (.ldc 211, 2) := dk_18 211 (dk_at dksX1_shop_0 22 rfl rfl)
theorem dX1_shop_24 : decode cX1_shop 24 = .ok (.if_icmp .gt 7, 3) := dk_163 0 7 (dk_at dksX1_shop_1 0 rfl rfl)
theorem dX1_shop_27 : decode cX1_shop 27 = .ok (.iconst 1, 1) := dk_4 (dk_at dksX1_shop_1 3 rfl rfl)
theorem dX1_shop_28 : decode cX1_shop 28 = .ok (.goto 4, 3) := dk_167 0 4 (dk_at dksX1_shop_1 4 rfl rfl)
theorem dX1_shop_31 : decode cX1_shop 31 = .ok (.iconst 0, 1) := dk_3 (dk_at dksX1_shop_1 7 rfl rfl)
theorem dX1_shop_32 : decode cX1_shop 32 = .ok (.invokestatic 69, 3) := dk_184 0 69 (dk_at dksX1_shop_1 8 rfl rfl)
theorem dX1_shop_35 : decode cX1_shop 35 = .ok (.aload_n 0, 1) := dk_42 (dk_at dksX1_shop_1 11 rfl rfl)
theorem dX1_shop_36 : decode cX1_shop 36 = .ok (.getfield 19, 3) := dk_180 0 19 (dk_at dksX1_shop_1 12 rfl rfl)
theorem dX1_shop_39 : decode cX1_shop 39 = .ok (.getfield 267, 3) := dk_180 1 11 (dk_at dksX1_shop_1 15 rfl rfl)
theorem dX1_shop_42 : decode cX1_shop 42 = .ok (.invokevirtual 47, 3) := dk_182 0 47 (dk_at dksX1_shop_1 18 rfl rfl)
theorem dX1_shop_45 : decode cX1_shop 45 = .ok (.bipush 12, 2) := dk_16 12 (dk_at dksX1_shop_1 21 rfl rfl)
theorem dX1_shop_47 : decode cX1_shop 47 = .ok (.if_icmp .ne 5, 3) := dk_160 0 5 (dk_at dksX1_shop_2 0 rfl rfl)
theorem dX1_shop_50 : decode cX1_shop 50 = .ok (.iconst (-1), 1) := dk_2 (dk_at dksX1_shop_2 3 rfl rfl)
theorem dX1_shop_51 : decode cX1_shop 51 = .ok (.ireturn, 1) := dk_172 (dk_at dksX1_shop_2 4 rfl rfl)
theorem dX1_shop_52 : decode cX1_shop 52 = .ok (.aload_n 0, 1) := dk_42 (dk_at dksX1_shop_2 5 rfl rfl)
theorem dX1_shop_53 : decode cX1_shop 53 = .ok (.getfield 19, 3) := dk_180 0 19 (dk_at dksX1_shop_2 6 rfl rfl)
theorem dX1_shop_56 : decode cX1_shop 56 = .ok (.getfield 267, 3) := dk_180 1 11 (dk_at dksX1_shop_2 9 rfl rfl)
theorem dX1_shop_59 : decode cX1_shop 59 = .ok (.new 270, 3) := dk_187 1 14 (dk_at dksX1_shop_2 12 rfl rfl)
theorem dX1_shop_62 : decode cX1_shop 62 = .ok (.dup, 1) := dk_89 (dk_at dksX1_shop_2 15 rfl rfl)
theorem dX1_shop_63 : decode cX1_shop 63 = .ok (.iload_n 1, 1) := dk_27 (dk_at dksX1_shop_2 16 rfl rfl)
theorem dX1_shop_64 : decode cX1_shop 64 = .ok (.iload_n 2, 1) := dk_28 (dk_at dksX1_shop_2 17 rfl rfl)
theorem dX1_shop_65 : decode cX1_shop 65 = .ok (.iload_n 3, 1) := dk_29 (dk_at dksX1_shop_2 18 rfl rfl)
theorem dX1_shop_66 : decode cX1_shop 66 = .ok (.invokespecial 272, 3) := dk_183 1 16 (dk_at dksX1_shop_2 19 rfl rfl)
theorem dX1_shop_69 : decode cX1_shop 69 = .ok (.invokevirtual 96, 3) := dk_182 0 96 (dk_at dksX1_shop_3 0 rfl rfl)
theorem dX1_shop_72 : decode cX1_shop 72 = .ok (.pop, 1) := dk_87 (dk_at dksX1_shop_3 3 rfl rfl)
theorem dX1_shop_73 : decode cX1_shop 73 = .ok (.aload_n 0, 1) := dk_42 (dk_at dksX1_shop_3 4 rfl rfl)
theorem dX1_shop_74 : decode cX1_shop 74 = .ok (.getfield 19, 3) := dk_180 0 19 (dk_at dksX1_shop_3 5 rfl rfl)
theorem dX1_shop_77 : decode cX1_shop 77 = .ok (.getfield 267, 3) := dk_180 1 11 (dk_at dksX1_shop_3 8 rfl rfl)
theorem dX1_shop_80 : decode cX1_shop 80 = .ok (.invokevirtual 47, 3) := dk_182 0 47 (dk_at dksX1_shop_3 11 rfl rfl)
theorem dX1_shop_83 : decode cX1_shop 83 = .ok (.ireturn, 1) := dk_172 (dk_at dksX1_shop_3 14 rfl rfl)
abbrev cX1_rare : ByteArray := prog_1_method_43_code
def yX1_rare : MethodName := ⟨RX1, "rare", "(II)I"⟩
def dkwX1_rare_8 : List UInt8 := [21, 7, 167, 0, 5, 21, 8, 172]
abbrev dktX1_rare_8 : List UInt8 := dkwX1_rare_8 ++ []
def dkwX1_rare_7 : List UInt8 := [2, 172, 28, 154, 0, 15, 20, 1, 24, 33, 105, 22, 5, 109, 136, 167, 0, 15, 28, 4, 160, 0, 8]
abbrev dktX1_rare_7 : List UInt8 := dkwX1_rare_7 ++ dktX1_rare_8
def dkwX1_rare_6 : List UInt8 := [54, 7, 21, 8, 21, 11, 184, 1, 31, 54, 8, 132, 9, 1, 167, 255, 140, 22, 5, 9, 148, 154, 0, 5]
abbrev dktX1_rare_6 : List UInt8 := dkwX1_rare_6 ++ dktX1_rare_7
def dkwX1_rare_5 : List UInt8 := [133, 109, 136, 54, 11, 21, 7, 2, 160, 0, 8, 21, 11, 167, 0, 10, 21, 7, 21, 11, 184, 1, 26]
abbrev dktX1_rare_5 : List UInt8 := dkwX1_rare_5 ++ dktX1_rare_6
def dkwX1_rare_4 : List UInt8 := [25, 10, 180, 1, 21, 133, 97, 55, 5, 20, 1, 24, 25, 10, 180, 1, 18, 133, 105, 25, 10, 180, 1, 21]
abbrev dktX1_rare_4 : List UInt8 := dkwX1_rare_4 ++ dktX1_rare_5
def dkwX1_rare_3 : List UInt8 := [25, 10, 180, 1, 17, 27, 159, 0, 6, 167, 0, 72, 33, 25, 10, 180, 1, 18, 133, 97, 66, 22, 5]
abbrev dktX1_rare_3 : List UInt8 := dkwX1_rare_3 ++ dktX1_rare_4
def dkwX1_rare_2 : List UInt8 := [182, 0, 47, 162, 0, 107, 42, 180, 0, 19, 180, 1, 11, 21, 9, 182, 0, 56, 192, 1, 14, 58, 10]
abbrev dktX1_rare_2 : List UInt8 := dkwX1_rare_2 ++ dktX1_rare_3
def dkwX1_rare_1 : List UInt8 := [9, 66, 9, 55, 5, 2, 54, 7, 2, 54, 8, 3, 54, 9, 21, 9, 42, 180, 0, 19, 180, 1, 11]
abbrev dktX1_rare_1 : List UInt8 := dkwX1_rare_1 ++ dktX1_rare_2
def dkwX1_rare_0 : List UInt8 := [27, 184, 0, 100, 153, 0, 16, 28, 155, 0, 12, 28, 5, 163, 0, 7, 4, 167, 0, 4, 3, 184, 0, 69]
abbrev dktX1_rare_0 : List UInt8 := dkwX1_rare_0 ++ dktX1_rare_1
theorem dksX1_rare_0 : cX1_rare.data.toList.drop 0 = dktX1_rare_0 := by decide +kernel
theorem dksX1_rare_1 : cX1_rare.data.toList.drop 24 = dktX1_rare_1 := dk_seg dksX1_rare_0 24 rfl rfl
theorem dksX1_rare_2 : cX1_rare.data.toList.drop 47 = dktX1_rare_2 := dk_seg dksX1_rare_1 23 rfl rfl
theorem dksX1_rare_3 : cX1_rare.data.toList.drop 70 = dktX1_rare_3 := dk_seg dksX1_rare_2 23 rfl rfl
theorem dksX1_rare_4 : cX1_rare.data.toList.drop 93 = dktX1_rare_4 := dk_seg dksX1_rare_3 23 rfl rfl
theorem dksX1_rare_5 : cX1_rare.data.toList.drop 117 = dktX1_rare_5 := dk_seg dksX1_rare_4 24 rfl rfl
theorem dksX1_rare_6 : cX1_rare.data.toList.drop 140 = dktX1_rare_6 := dk_seg dksX1_rare_5 23 rfl rfl
theorem dksX1_rare_7 : cX1_rare.data.toList.drop 164 = dktX1_rare_7 := dk_seg dksX1_rare_6 24 rfl rfl
theorem dksX1_rare_8 : cX1_rare.data.toList.drop 187 = dktX1_rare_8 := dk_seg dksX1_rare_7 23 rfl rfl
theorem dX1_rare_0 : decode cX1_rare 0 = .ok (.iload_n 1, 1) := dk_27 (dk_at dksX1_rare_0 0 rfl rfl)
theorem dX1_rare_1 : decode cX1_rare 1 = .ok (.invokestatic 100, 3) := dk_184 0 100 (dk_at dksX1_rare_0 1 rfl rfl)
theorem dX1_rare_4 : decode cX1_rare 4 = .ok (.ifCond .eq 16, 3) := dk_153 0 16 (dk_at dksX1_rare_0 4 rfl rfl)
theorem dX1_rare_7 : decode cX1_rare 7 = .ok (.iload_n 2, 1) := dk_28 (dk_at dksX1_rare_0 7 rfl rfl)
theorem dX1_rare_8 : decode cX1_rare 8 = .ok (.ifCond .lt 12, 3) := dk_155 0 12 (dk_at dksX1_rare_0 8 rfl rfl)
theorem dX1_rare_11 : decode cX1_rare 11 = .ok (.iload_n 2, 1) := dk_28 (dk_at dksX1_rare_0 11 rfl rfl)
theorem dX1_rare_12 : decode cX1_rare 12 = .ok (.iconst 2, 1) := dk_5 (dk_at dksX1_rare_0 12 rfl rfl)
theorem dX1_rare_13 : decode cX1_rare 13 = .ok (.if_icmp .gt 7, 3) := dk_163 0 7 (dk_at dksX1_rare_0 13 rfl rfl)
theorem dX1_rare_16 : decode cX1_rare 16 = .ok (.iconst 1, 1) := dk_4 (dk_at dksX1_rare_0 16 rfl rfl)
theorem dX1_rare_17 : decode cX1_rare 17 = .ok (.goto 4, 3) := dk_167 0 4 (dk_at dksX1_rare_0 17 rfl rfl)
theorem dX1_rare_20 : decode cX1_rare 20 = .ok (.iconst 0, 1) := dk_3 (dk_at dksX1_rare_0 20 rfl rfl)
theorem dX1_rare_21 : decode cX1_rare 21 = .ok (.invokestatic 69, 3) := dk_184 0 69 (dk_at dksX1_rare_0 21 rfl rfl)
theorem dX1_rare_24 : decode cX1_rare 24 = .ok (.lconst 0, 1) := dk_9 (dk_at dksX1_rare_1 0 rfl rfl)
theorem dX1_rare_25 : decode cX1_rare 25 = .ok (.lstore_n 3, 1) := dk_66 (dk_at dksX1_rare_1 1 rfl rfl)
theorem dX1_rare_26 : decode cX1_rare 26 = .ok (.lconst 0, 1) := dk_9 (dk_at dksX1_rare_1 2 rfl rfl)
theorem dX1_rare_27 : decode cX1_rare 27 = .ok (.lstore 5, 2) := dk_55 5 (dk_at dksX1_rare_1 3 rfl rfl)
theorem dX1_rare_29 : decode cX1_rare 29 = .ok (.iconst (-1), 1) := dk_2 (dk_at dksX1_rare_1 5 rfl rfl)
theorem dX1_rare_30 : decode cX1_rare 30 = .ok (.istore 7, 2) := dk_54 7 (dk_at dksX1_rare_1 6 rfl rfl)
theorem dX1_rare_32 : decode cX1_rare 32 = .ok (.iconst (-1), 1) := dk_2 (dk_at dksX1_rare_1 8 rfl rfl)
theorem dX1_rare_33 : decode cX1_rare 33 = .ok (.istore 8, 2) := dk_54 8 (dk_at dksX1_rare_1 9 rfl rfl)
theorem dX1_rare_35 : decode cX1_rare 35 = .ok (.iconst 0, 1) := dk_3 (dk_at dksX1_rare_1 11 rfl rfl)
theorem dX1_rare_36 : decode cX1_rare 36 = .ok (.istore 9, 2) := dk_54 9 (dk_at dksX1_rare_1 12 rfl rfl)
theorem dX1_rare_38 : decode cX1_rare 38 = .ok (.iload 9, 2) := dk_21 9 (dk_at dksX1_rare_1 14 rfl rfl)
theorem dX1_rare_40 : decode cX1_rare 40 = .ok (.aload_n 0, 1) := dk_42 (dk_at dksX1_rare_1 16 rfl rfl)
theorem dX1_rare_41 : decode cX1_rare 41 = .ok (.getfield 19, 3) := dk_180 0 19 (dk_at dksX1_rare_1 17 rfl rfl)
theorem dX1_rare_44 : decode cX1_rare 44 = .ok (.getfield 267, 3) := dk_180 1 11 (dk_at dksX1_rare_1 20 rfl rfl)
theorem dX1_rare_47 : decode cX1_rare 47 = .ok (.invokevirtual 47, 3) := dk_182 0 47 (dk_at dksX1_rare_2 0 rfl rfl)
theorem dX1_rare_50 : decode cX1_rare 50 = .ok (.if_icmp .ge 107, 3) := dk_162 0 107 (dk_at dksX1_rare_2 3 rfl rfl)
theorem dX1_rare_53 : decode cX1_rare 53 = .ok (.aload_n 0, 1) := dk_42 (dk_at dksX1_rare_2 6 rfl rfl)
theorem dX1_rare_54 : decode cX1_rare 54 = .ok (.getfield 19, 3) := dk_180 0 19 (dk_at dksX1_rare_2 7 rfl rfl)
theorem dX1_rare_57 : decode cX1_rare 57 = .ok (.getfield 267, 3) := dk_180 1 11 (dk_at dksX1_rare_2 10 rfl rfl)
theorem dX1_rare_60 : decode cX1_rare 60 = .ok (.iload 9, 2) := dk_21 9 (dk_at dksX1_rare_2 13 rfl rfl)
theorem dX1_rare_62 : decode cX1_rare 62 = .ok (.invokevirtual 56, 3) := dk_182 0 56 (dk_at dksX1_rare_2 15 rfl rfl)
theorem dX1_rare_65 : decode cX1_rare 65 = .ok (.checkcast 270, 3) := dk_192 1 14 (dk_at dksX1_rare_2 18 rfl rfl)
theorem dX1_rare_68 : decode cX1_rare 68 = .ok (.astore 10, 2) := dk_58 10 (dk_at dksX1_rare_2 21 rfl rfl)
theorem dX1_rare_70 : decode cX1_rare 70 = .ok (.aload 10, 2) := dk_25 10 (dk_at dksX1_rare_3 0 rfl rfl)
theorem dX1_rare_72 : decode cX1_rare 72 = .ok (.getfield 273, 3) := dk_180 1 17 (dk_at dksX1_rare_3 2 rfl rfl)
theorem dX1_rare_75 : decode cX1_rare 75 = .ok (.iload_n 1, 1) := dk_27 (dk_at dksX1_rare_3 5 rfl rfl)
theorem dX1_rare_76 : decode cX1_rare 76 = .ok (.if_icmp .eq 6, 3) := dk_159 0 6 (dk_at dksX1_rare_3 6 rfl rfl)
theorem dX1_rare_79 : decode cX1_rare 79 = .ok (.goto 72, 3) := dk_167 0 72 (dk_at dksX1_rare_3 9 rfl rfl)
theorem dX1_rare_82 : decode cX1_rare 82 = .ok (.lload_n 3, 1) := dk_33 (dk_at dksX1_rare_3 12 rfl rfl)
theorem dX1_rare_83 : decode cX1_rare 83 = .ok (.aload 10, 2) := dk_25 10 (dk_at dksX1_rare_3 13 rfl rfl)
theorem dX1_rare_85 : decode cX1_rare 85 = .ok (.getfield 274, 3) := dk_180 1 18 (dk_at dksX1_rare_3 15 rfl rfl)
theorem dX1_rare_88 : decode cX1_rare 88 = .ok (.i2l, 1) := dk_133 (dk_at dksX1_rare_3 18 rfl rfl)
theorem dX1_rare_89 : decode cX1_rare 89 = .ok (.ladd, 1) := dk_97 (dk_at dksX1_rare_3 19 rfl rfl)
theorem dX1_rare_90 : decode cX1_rare 90 = .ok (.lstore_n 3, 1) := dk_66 (dk_at dksX1_rare_3 20 rfl rfl)
theorem dX1_rare_91 : decode cX1_rare 91 = .ok (.lload 5, 2) := dk_22 5 (dk_at dksX1_rare_3 21 rfl rfl)
theorem dX1_rare_93 : decode cX1_rare 93 = .ok (.aload 10, 2) := dk_25 10 (dk_at dksX1_rare_4 0 rfl rfl)
theorem dX1_rare_95 : decode cX1_rare 95 = .ok (.getfield 277, 3) := dk_180 1 21 (dk_at dksX1_rare_4 2 rfl rfl)
theorem dX1_rare_98 : decode cX1_rare 98 = .ok (.i2l, 1) := dk_133 (dk_at dksX1_rare_4 5 rfl rfl)
theorem dX1_rare_99 : decode cX1_rare 99 = .ok (.ladd, 1) := dk_97 (dk_at dksX1_rare_4 6 rfl rfl)
theorem dX1_rare_100 : decode cX1_rare 100 = .ok (.lstore 5, 2) := dk_55 5 (dk_at dksX1_rare_4 7 rfl rfl)
theorem dX1_rare_102 : decode cX1_rare 102 = .ok (.ldc2_w 280, 3) := dk_20 1 24 (dk_at dksX1_rare_4 9 rfl rfl)
theorem dX1_rare_105 : decode cX1_rare 105 = .ok (.aload 10, 2) := dk_25 10 (dk_at dksX1_rare_4 12 rfl rfl)
theorem dX1_rare_107 : decode cX1_rare 107 = .ok (.getfield 274, 3) := dk_180 1 18 (dk_at dksX1_rare_4 14 rfl rfl)
theorem dX1_rare_110 : decode cX1_rare 110 = .ok (.i2l, 1) := dk_133 (dk_at dksX1_rare_4 17 rfl rfl)
theorem dX1_rare_111 : decode cX1_rare 111 = .ok (.lmul, 1) := dk_105 (dk_at dksX1_rare_4 18 rfl rfl)
theorem dX1_rare_112 : decode cX1_rare 112 = .ok (.aload 10, 2) := dk_25 10 (dk_at dksX1_rare_4 19 rfl rfl)
theorem dX1_rare_114 : decode cX1_rare 114 = .ok (.getfield 277, 3) := dk_180 1 21 (dk_at dksX1_rare_4 21 rfl rfl)
theorem dX1_rare_117 : decode cX1_rare 117 = .ok (.i2l, 1) := dk_133 (dk_at dksX1_rare_5 0 rfl rfl)
theorem dX1_rare_118 : decode cX1_rare 118 = .ok (.ldiv, 1) := dk_109 (dk_at dksX1_rare_5 1 rfl rfl)
theorem dX1_rare_119 : decode cX1_rare 119 = .ok (.l2i, 1) := dk_136 (dk_at dksX1_rare_5 2 rfl rfl)
theorem dX1_rare_120 : decode cX1_rare 120 = .ok (.istore 11, 2) := dk_54 11 (dk_at dksX1_rare_5 3 rfl rfl)
theorem dX1_rare_122 : decode cX1_rare 122 = .ok (.iload 7, 2) := dk_21 7 (dk_at dksX1_rare_5 5 rfl rfl)
theorem dX1_rare_124 : decode cX1_rare 124 = .ok (.iconst (-1), 1) := dk_2 (dk_at dksX1_rare_5 7 rfl rfl)
theorem dX1_rare_125 : decode cX1_rare 125 = .ok (.if_icmp .ne 8, 3) := dk_160 0 8 (dk_at dksX1_rare_5 8 rfl rfl)
theorem dX1_rare_128 : decode cX1_rare 128 = .ok (.iload 11, 2) := dk_21 11 (dk_at dksX1_rare_5 11 rfl rfl)
theorem dX1_rare_130 : decode cX1_rare 130 = .ok (.goto 10, 3) := dk_167 0 10 (dk_at dksX1_rare_5 13 rfl rfl)
theorem dX1_rare_133 : decode cX1_rare 133 = .ok (.iload 7, 2) := dk_21 7 (dk_at dksX1_rare_5 16 rfl rfl)
theorem dX1_rare_135 : decode cX1_rare 135 = .ok (.iload 11, 2) := dk_21 11 (dk_at dksX1_rare_5 18 rfl rfl)
theorem dX1_rare_137 : decode cX1_rare 137 = .ok (.invokestatic 282, 3) := dk_184 1 26 (dk_at dksX1_rare_5 20 rfl rfl)
theorem dX1_rare_140 : decode cX1_rare 140 = .ok (.istore 7, 2) := dk_54 7 (dk_at dksX1_rare_6 0 rfl rfl)
theorem dX1_rare_142 : decode cX1_rare 142 = .ok (.iload 8, 2) := dk_21 8 (dk_at dksX1_rare_6 2 rfl rfl)
theorem dX1_rare_144 : decode cX1_rare 144 = .ok (.iload 11, 2) := dk_21 11 (dk_at dksX1_rare_6 4 rfl rfl)
theorem dX1_rare_146 : decode cX1_rare 146 = .ok (.invokestatic 287, 3) := dk_184 1 31 (dk_at dksX1_rare_6 6 rfl rfl)
theorem dX1_rare_149 : decode cX1_rare 149 = .ok (.istore 8, 2) := dk_54 8 (dk_at dksX1_rare_6 9 rfl rfl)
theorem dX1_rare_151 : decode cX1_rare 151 = .ok (.iinc 9 1, 3) := dk_132 9 1 (dk_at dksX1_rare_6 11 rfl rfl)
theorem dX1_rare_154 : decode cX1_rare 154 = .ok (.goto (-116), 3) := dk_167 255 140 (dk_at dksX1_rare_6 14 rfl rfl)
theorem dX1_rare_157 : decode cX1_rare 157 = .ok (.lload 5, 2) := dk_22 5 (dk_at dksX1_rare_6 17 rfl rfl)
theorem dX1_rare_159 : decode cX1_rare 159 = .ok (.lconst 0, 1) := dk_9 (dk_at dksX1_rare_6 19 rfl rfl)
theorem dX1_rare_160 : decode cX1_rare 160 = .ok (.lcmp, 1) := dk_148 (dk_at dksX1_rare_6 20 rfl rfl)
theorem dX1_rare_161 : decode cX1_rare 161 = .ok (.ifCond .ne 5, 3) := dk_154 0 5 (dk_at dksX1_rare_6 21 rfl rfl)
theorem dX1_rare_164 : decode cX1_rare 164 = .ok (.iconst (-1), 1) := dk_2 (dk_at dksX1_rare_7 0 rfl rfl)
theorem dX1_rare_165 : decode cX1_rare 165 = .ok (.ireturn, 1) := dk_172 (dk_at dksX1_rare_7 1 rfl rfl)
theorem dX1_rare_166 : decode cX1_rare 166 = .ok (.iload_n 2, 1) := dk_28 (dk_at dksX1_rare_7 2 rfl rfl)
theorem dX1_rare_167 : decode cX1_rare 167 = .ok (.ifCond .ne 15, 3) := dk_154 0 15 (dk_at dksX1_rare_7 3 rfl rfl)
theorem dX1_rare_170 : decode cX1_rare 170 = .ok (.ldc2_w 280, 3) := dk_20 1 24 (dk_at dksX1_rare_7 6 rfl rfl)
theorem dX1_rare_173 : decode cX1_rare 173 = .ok (.lload_n 3, 1) := dk_33 (dk_at dksX1_rare_7 9 rfl rfl)
theorem dX1_rare_174 : decode cX1_rare 174 = .ok (.lmul, 1) := dk_105 (dk_at dksX1_rare_7 10 rfl rfl)
theorem dX1_rare_175 : decode cX1_rare 175 = .ok (.lload 5, 2) := dk_22 5 (dk_at dksX1_rare_7 11 rfl rfl)
theorem dX1_rare_177 : decode cX1_rare 177 = .ok (.ldiv, 1) := dk_109 (dk_at dksX1_rare_7 13 rfl rfl)
theorem dX1_rare_178 : decode cX1_rare 178 = .ok (.l2i, 1) := dk_136 (dk_at dksX1_rare_7 14 rfl rfl)
theorem dX1_rare_179 : decode cX1_rare 179 = .ok (.goto 15, 3) := dk_167 0 15 (dk_at dksX1_rare_7 15 rfl rfl)
theorem dX1_rare_182 : decode cX1_rare 182 = .ok (.iload_n 2, 1) := dk_28 (dk_at dksX1_rare_7 18 rfl rfl)
theorem dX1_rare_183 : decode cX1_rare 183 = .ok (.iconst 1, 1) := dk_4 (dk_at dksX1_rare_7 19 rfl rfl)
theorem dX1_rare_184 : decode cX1_rare 184 = .ok (.if_icmp .ne 8, 3) := dk_160 0 8 (dk_at dksX1_rare_7 20 rfl rfl)
theorem dX1_rare_187 : decode cX1_rare 187 = .ok (.iload 7, 2) := dk_21 7 (dk_at dksX1_rare_8 0 rfl rfl)
theorem dX1_rare_189 : decode cX1_rare 189 = .ok (.goto 5, 3) := dk_167 0 5 (dk_at dksX1_rare_8 2 rfl rfl)
theorem dX1_rare_192 : decode cX1_rare 192 = .ok (.iload 8, 2) := dk_21 8 (dk_at dksX1_rare_8 5 rfl rfl)
theorem dX1_rare_194 : decode cX1_rare 194 = .ok (.ireturn, 1) := dk_172 (dk_at dksX1_rare_8 7 rfl rfl)
abbrev cX1_next : ByteArray := prog_1_method_45_code
def yX1_next : MethodName := ⟨RX1, "next", "(III)I"⟩
def dkwX1_next_6 : List UInt8 := [21, 8, 172]
abbrev dktX1_next_6 : List UInt8 := dkwX1_next_6 ++ []
def dkwX1_next_5 : List UInt8 := [16, 10, 21, 10, 104, 96, 21, 11, 96, 54, 8, 132, 11, 1, 167, 255, 180, 132, 10, 1, 167, 255, 164]
abbrev dktX1_next_5 : List UInt8 := dkwX1_next_5 ++ dktX1_next_6
def dkwX1_next_4 : List UInt8 := [21, 10, 21, 11, 29, 182, 1, 37, 153, 0, 6, 167, 0, 23, 21, 12, 54, 9, 16, 100, 21, 12, 104]
abbrev dktX1_next_4 : List UInt8 := dkwX1_next_4 ++ dktX1_next_5
def dkwX1_next_3 : List UInt8 := [25, 7, 21, 10, 21, 11, 182, 0, 145, 100, 184, 1, 34, 54, 12, 21, 12, 21, 9, 164, 0, 38, 42]
abbrev dktX1_next_3 : List UInt8 := dkwX1_next_3 ++ dktX1_next_4
def dkwX1_next_2 : List UInt8 := [16, 10, 162, 0, 91, 3, 54, 11, 21, 11, 16, 10, 162, 0, 75, 25, 6, 21, 10, 21, 11, 182, 0, 145]
abbrev dktX1_next_2 : List UInt8 := dkwX1_next_2 ++ dktX1_next_3
def dkwX1_next_1 : List UInt8 := [182, 0, 136, 58, 6, 25, 5, 29, 182, 0, 136, 58, 7, 2, 54, 8, 3, 54, 9, 3, 54, 10, 21, 10]
abbrev dktX1_next_1 : List UInt8 := dkwX1_next_1 ++ dktX1_next_2
def dkwX1_next_0 : List UInt8 := [42, 27, 182, 0, 126, 58, 4, 42, 28, 182, 0, 126, 58, 5, 29, 184, 0, 133, 184, 0, 69, 25, 4, 29]
abbrev dktX1_next_0 : List UInt8 := dkwX1_next_0 ++ dktX1_next_1
theorem dksX1_next_0 : cX1_next.data.toList.drop 0 = dktX1_next_0 := by decide +kernel
theorem dksX1_next_1 : cX1_next.data.toList.drop 24 = dktX1_next_1 := dk_seg dksX1_next_0 24 rfl rfl
theorem dksX1_next_2 : cX1_next.data.toList.drop 48 = dktX1_next_2 := dk_seg dksX1_next_1 24 rfl rfl
theorem dksX1_next_3 : cX1_next.data.toList.drop 72 = dktX1_next_3 := dk_seg dksX1_next_2 24 rfl rfl
theorem dksX1_next_4 : cX1_next.data.toList.drop 95 = dktX1_next_4 := dk_seg dksX1_next_3 23 rfl rfl
theorem dksX1_next_5 : cX1_next.data.toList.drop 118 = dktX1_next_5 := dk_seg dksX1_next_4 23 rfl rfl
theorem dksX1_next_6 : cX1_next.data.toList.drop 141 = dktX1_next_6 := dk_seg dksX1_next_5 23 rfl rfl
theorem dX1_next_0 : decode cX1_next 0 = .ok (.aload_n 0, 1) := dk_42 (dk_at dksX1_next_0 0 rfl rfl)
theorem dX1_next_1 : decode cX1_next 1 = .ok (.iload_n 1, 1) := dk_27 (dk_at dksX1_next_0 1 rfl rfl)
theorem dX1_next_2 : decode cX1_next 2 = .ok (.invokevirtual 126, 3) := dk_182 0 126 (dk_at dksX1_next_0 2 rfl rfl)
theorem dX1_next_5 : decode cX1_next 5 = .ok (.astore 4, 2) := dk_58 4 (dk_at dksX1_next_0 5 rfl rfl)
theorem dX1_next_7 : decode cX1_next 7 = .ok (.aload_n 0, 1) := dk_42 (dk_at dksX1_next_0 7 rfl rfl)
theorem dX1_next_8 : decode cX1_next 8 = .ok (.iload_n 2, 1) := dk_28 (dk_at dksX1_next_0 8 rfl rfl)
theorem dX1_next_9 : decode cX1_next 9 = .ok (.invokevirtual 126, 3) := dk_182 0 126 (dk_at dksX1_next_0 9 rfl rfl)
theorem dX1_next_12 : decode cX1_next 12 = .ok (.astore 5, 2) := dk_58 5 (dk_at dksX1_next_0 12 rfl rfl)
theorem dX1_next_14 : decode cX1_next 14 = .ok (.iload_n 3, 1) := dk_29 (dk_at dksX1_next_0 14 rfl rfl)
theorem dX1_next_15 : decode cX1_next 15 = .ok (.invokestatic 133, 3) := dk_184 0 133 (dk_at dksX1_next_0 15 rfl rfl)
theorem dX1_next_18 : decode cX1_next 18 = .ok (.invokestatic 69, 3) := dk_184 0 69 (dk_at dksX1_next_0 18 rfl rfl)
theorem dX1_next_21 : decode cX1_next 21 = .ok (.aload 4, 2) := dk_25 4 (dk_at dksX1_next_0 21 rfl rfl)
theorem dX1_next_23 : decode cX1_next 23 = .ok (.iload_n 3, 1) := dk_29 (dk_at dksX1_next_0 23 rfl rfl)
theorem dX1_next_24 : decode cX1_next 24 = .ok (.invokevirtual 136, 3) := dk_182 0 136 (dk_at dksX1_next_1 0 rfl rfl)
theorem dX1_next_27 : decode cX1_next 27 = .ok (.astore 6, 2) := dk_58 6 (dk_at dksX1_next_1 3 rfl rfl)
theorem dX1_next_29 : decode cX1_next 29 = .ok (.aload 5, 2) := dk_25 5 (dk_at dksX1_next_1 5 rfl rfl)
theorem dX1_next_31 : decode cX1_next 31 = .ok (.iload_n 3, 1) := dk_29 (dk_at dksX1_next_1 7 rfl rfl)
theorem dX1_next_32 : decode cX1_next 32 = .ok (.invokevirtual 136, 3) := dk_182 0 136 (dk_at dksX1_next_1 8 rfl rfl)
theorem dX1_next_35 : decode cX1_next 35 = .ok (.astore 7, 2) := dk_58 7 (dk_at dksX1_next_1 11 rfl rfl)
theorem dX1_next_37 : decode cX1_next 37 = .ok (.iconst (-1), 1) := dk_2 (dk_at dksX1_next_1 13 rfl rfl)
theorem dX1_next_38 : decode cX1_next 38 = .ok (.istore 8, 2) := dk_54 8 (dk_at dksX1_next_1 14 rfl rfl)
theorem dX1_next_40 : decode cX1_next 40 = .ok (.iconst 0, 1) := dk_3 (dk_at dksX1_next_1 16 rfl rfl)
theorem dX1_next_41 : decode cX1_next 41 = .ok (.istore 9, 2) := dk_54 9 (dk_at dksX1_next_1 17 rfl rfl)
theorem dX1_next_43 : decode cX1_next 43 = .ok (.iconst 0, 1) := dk_3 (dk_at dksX1_next_1 19 rfl rfl)
theorem dX1_next_44 : decode cX1_next 44 = .ok (.istore 10, 2) := dk_54 10 (dk_at dksX1_next_1 20 rfl rfl)
theorem dX1_next_46 : decode cX1_next 46 = .ok (.iload 10, 2) := dk_21 10 (dk_at dksX1_next_1 22 rfl rfl)
theorem dX1_next_48 : decode cX1_next 48 = .ok (.bipush 10, 2) := dk_16 10 (dk_at dksX1_next_2 0 rfl rfl)
theorem dX1_next_50 : decode cX1_next 50 = .ok (.if_icmp .ge 91, 3) := dk_162 0 91 (dk_at dksX1_next_2 2 rfl rfl)
theorem dX1_next_53 : decode cX1_next 53 = .ok (.iconst 0, 1) := dk_3 (dk_at dksX1_next_2 5 rfl rfl)
theorem dX1_next_54 : decode cX1_next 54 = .ok (.istore 11, 2) := dk_54 11 (dk_at dksX1_next_2 6 rfl rfl)
theorem dX1_next_56 : decode cX1_next 56 = .ok (.iload 11, 2) := dk_21 11 (dk_at dksX1_next_2 8 rfl rfl)
theorem dX1_next_58 : decode cX1_next 58 = .ok (.bipush 10, 2) := dk_16 10 (dk_at dksX1_next_2 10 rfl rfl)
theorem dX1_next_60 : decode cX1_next 60 = .ok (.if_icmp .ge 75, 3) := dk_162 0 75 (dk_at dksX1_next_2 12 rfl rfl)
theorem dX1_next_63 : decode cX1_next 63 = .ok (.aload 6, 2) := dk_25 6 (dk_at dksX1_next_2 15 rfl rfl)
theorem dX1_next_65 : decode cX1_next 65 = .ok (.iload 10, 2) := dk_21 10 (dk_at dksX1_next_2 17 rfl rfl)
theorem dX1_next_67 : decode cX1_next 67 = .ok (.iload 11, 2) := dk_21 11 (dk_at dksX1_next_2 19 rfl rfl)
theorem dX1_next_69 : decode cX1_next 69 = .ok (.invokevirtual 145, 3) := dk_182 0 145 (dk_at dksX1_next_2 21 rfl rfl)
theorem dX1_next_72 : decode cX1_next 72 = .ok (.aload 7, 2) := dk_25 7 (dk_at dksX1_next_3 0 rfl rfl)
theorem dX1_next_74 : decode cX1_next 74 = .ok (.iload 10, 2) := dk_21 10 (dk_at dksX1_next_3 2 rfl rfl)
theorem dX1_next_76 : decode cX1_next 76 = .ok (.iload 11, 2) := dk_21 11 (dk_at dksX1_next_3 4 rfl rfl)
theorem dX1_next_78 : decode cX1_next 78 = .ok (.invokevirtual 145, 3) := dk_182 0 145 (dk_at dksX1_next_3 6 rfl rfl)
theorem dX1_next_81 : decode cX1_next 81 = .ok (.isub, 1) := dk_100 (dk_at dksX1_next_3 9 rfl rfl)
theorem dX1_next_82 : decode cX1_next 82 = .ok (.invokestatic 290, 3) := dk_184 1 34 (dk_at dksX1_next_3 10 rfl rfl)
theorem dX1_next_85 : decode cX1_next 85 = .ok (.istore 12, 2) := dk_54 12 (dk_at dksX1_next_3 13 rfl rfl)
theorem dX1_next_87 : decode cX1_next 87 = .ok (.iload 12, 2) := dk_21 12 (dk_at dksX1_next_3 15 rfl rfl)
theorem dX1_next_89 : decode cX1_next 89 = .ok (.iload 9, 2) := dk_21 9 (dk_at dksX1_next_3 17 rfl rfl)
theorem dX1_next_91 : decode cX1_next 91 = .ok (.if_icmp .le 38, 3) := dk_164 0 38 (dk_at dksX1_next_3 19 rfl rfl)
theorem dX1_next_94 : decode cX1_next 94 = .ok (.aload_n 0, 1) := dk_42 (dk_at dksX1_next_3 22 rfl rfl)
theorem dX1_next_95 : decode cX1_next 95 = .ok (.iload 10, 2) := dk_21 10 (dk_at dksX1_next_4 0 rfl rfl)
theorem dX1_next_97 : decode cX1_next 97 = .ok (.iload 11, 2) := dk_21 11 (dk_at dksX1_next_4 2 rfl rfl)
theorem dX1_next_99 : decode cX1_next 99 = .ok (.iload_n 3, 1) := dk_29 (dk_at dksX1_next_4 4 rfl rfl)
theorem dX1_next_100 : decode cX1_next 100 = .ok (.invokevirtual 293, 3) := dk_182 1 37 (dk_at dksX1_next_4 5 rfl rfl)
theorem dX1_next_103 : decode cX1_next 103 = .ok (.ifCond .eq 6, 3) := dk_153 0 6 (dk_at dksX1_next_4 8 rfl rfl)
theorem dX1_next_106 : decode cX1_next 106 = .ok (.goto 23, 3) := dk_167 0 23 (dk_at dksX1_next_4 11 rfl rfl)
theorem dX1_next_109 : decode cX1_next 109 = .ok (.iload 12, 2) := dk_21 12 (dk_at dksX1_next_4 14 rfl rfl)
theorem dX1_next_111 : decode cX1_next 111 = .ok (.istore 9, 2) := dk_54 9 (dk_at dksX1_next_4 16 rfl rfl)
theorem dX1_next_113 : decode cX1_next 113 = .ok (.bipush 100, 2) := dk_16 100 (dk_at dksX1_next_4 18 rfl rfl)
theorem dX1_next_115 : decode cX1_next 115 = .ok (.iload 12, 2) := dk_21 12 (dk_at dksX1_next_4 20 rfl rfl)
theorem dX1_next_117 : decode cX1_next 117 = .ok (.imul, 1) := dk_104 (dk_at dksX1_next_4 22 rfl rfl)
theorem dX1_next_118 : decode cX1_next 118 = .ok (.bipush 10, 2) := dk_16 10 (dk_at dksX1_next_5 0 rfl rfl)
theorem dX1_next_120 : decode cX1_next 120 = .ok (.iload 10, 2) := dk_21 10 (dk_at dksX1_next_5 2 rfl rfl)
theorem dX1_next_122 : decode cX1_next 122 = .ok (.imul, 1) := dk_104 (dk_at dksX1_next_5 4 rfl rfl)
theorem dX1_next_123 : decode cX1_next 123 = .ok (.iadd, 1) := dk_96 (dk_at dksX1_next_5 5 rfl rfl)
theorem dX1_next_124 : decode cX1_next 124 = .ok (.iload 11, 2) := dk_21 11 (dk_at dksX1_next_5 6 rfl rfl)
theorem dX1_next_126 : decode cX1_next 126 = .ok (.iadd, 1) := dk_96 (dk_at dksX1_next_5 8 rfl rfl)
theorem dX1_next_127 : decode cX1_next 127 = .ok (.istore 8, 2) := dk_54 8 (dk_at dksX1_next_5 9 rfl rfl)
theorem dX1_next_129 : decode cX1_next 129 = .ok (.iinc 11 1, 3) := dk_132 11 1 (dk_at dksX1_next_5 11 rfl rfl)
theorem dX1_next_132 : decode cX1_next 132 = .ok (.goto (-76), 3) := dk_167 255 180 (dk_at dksX1_next_5 14 rfl rfl)
theorem dX1_next_135 : decode cX1_next 135 = .ok (.iinc 10 1, 3) := dk_132 10 1 (dk_at dksX1_next_5 17 rfl rfl)
theorem dX1_next_138 : decode cX1_next 138 = .ok (.goto (-92), 3) := dk_167 255 164 (dk_at dksX1_next_5 20 rfl rfl)
theorem dX1_next_141 : decode cX1_next 141 = .ok (.iload 8, 2) := dk_21 8 (dk_at dksX1_next_6 0 rfl rfl)
theorem dX1_next_143 : decode cX1_next 143 = .ok (.ireturn, 1) := dk_172 (dk_at dksX1_next_6 2 rfl rfl)
abbrev cX1_isLooked : ByteArray := prog_1_method_44_code
def yX1_isLooked : MethodName := ⟨RX1, "isLooked", "(III)Z"⟩
def dkwX1_isLooked_3 : List UInt8 := [4, 160, 0, 5, 4, 172, 132, 4, 1, 167, 255, 180, 3, 172]
abbrev dktX1_isLooked_3 : List UInt8 := dkwX1_isLooked_3 ++ []
def dkwX1_isLooked_2 : List UInt8 := [180, 0, 168, 29, 160, 0, 26, 42, 180, 0, 10, 180, 0, 123, 28, 46, 25, 5, 180, 0, 171, 122, 4, 126]
abbrev dktX1_isLooked_2 : List UInt8 := dkwX1_isLooked_2 ++ dktX1_isLooked_3
def dkwX1_isLooked_1 : List UInt8 := [180, 0, 152, 21, 4, 182, 0, 56, 192, 0, 155, 58, 5, 25, 5, 180, 0, 167, 27, 160, 0, 35, 25, 5]
abbrev dktX1_isLooked_1 : List UInt8 := dkwX1_isLooked_1 ++ dktX1_isLooked_2
def dkwX1_isLooked_0 : List UInt8 := [3, 54, 4, 21, 4, 42, 180, 0, 19, 180, 0, 152, 182, 0, 47, 162, 0, 67, 42, 180, 0, 19]
abbrev dktX1_isLooked_0 : List UInt8 := dkwX1_isLooked_0 ++ dktX1_isLooked_1
theorem dksX1_isLooked_0 : cX1_isLooked.data.toList.drop 0 = dktX1_isLooked_0 := by decide +kernel
theorem dksX1_isLooked_1 : cX1_isLooked.data.toList.drop 22 = dktX1_isLooked_1 := dk_seg dksX1_isLooked_0 22 rfl rfl
theorem dksX1_isLooked_2 : cX1_isLooked.data.toList.drop 46 = dktX1_isLooked_2 := dk_seg dksX1_isLooked_1 24 rfl rfl
theorem dksX1_isLooked_3 : cX1_isLooked.data.toList.drop 70 = dktX1_isLooked_3 := dk_seg dksX1_isLooked_2 24 rfl rfl
theorem dX1_isLooked_0 : decode cX1_isLooked 0 = .ok (.iconst 0, 1) := dk_3 (dk_at dksX1_isLooked_0 0 rfl rfl)
theorem dX1_isLooked_1 : decode cX1_isLooked 1 = .ok (.istore 4, 2) := dk_54 4 (dk_at dksX1_isLooked_0 1 rfl rfl)
theorem dX1_isLooked_3 : decode cX1_isLooked 3 = .ok (.iload 4, 2) := dk_21 4 (dk_at dksX1_isLooked_0 3 rfl rfl)
theorem dX1_isLooked_5 : decode cX1_isLooked 5 = .ok (.aload_n 0, 1) := dk_42 (dk_at dksX1_isLooked_0 5 rfl rfl)
theorem dX1_isLooked_6 : decode cX1_isLooked 6 = .ok (.getfield 19, 3) := dk_180 0 19 (dk_at dksX1_isLooked_0 6 rfl rfl)
theorem dX1_isLooked_9 : decode cX1_isLooked 9 = .ok (.getfield 152, 3) := dk_180 0 152 (dk_at dksX1_isLooked_0 9 rfl rfl)
theorem dX1_isLooked_12 : decode cX1_isLooked 12 = .ok (.invokevirtual 47, 3) := dk_182 0 47 (dk_at dksX1_isLooked_0 12 rfl rfl)
theorem dX1_isLooked_15 : decode cX1_isLooked 15 = .ok (.if_icmp .ge 67, 3) := dk_162 0 67 (dk_at dksX1_isLooked_0 15 rfl rfl)
theorem dX1_isLooked_18 : decode cX1_isLooked 18 = .ok (.aload_n 0, 1) := dk_42 (dk_at dksX1_isLooked_0 18 rfl rfl)
theorem dX1_isLooked_19 : decode cX1_isLooked 19 = .ok (.getfield 19, 3) := dk_180 0 19 (dk_at dksX1_isLooked_0 19 rfl rfl)
theorem dX1_isLooked_22 : decode cX1_isLooked 22 = .ok (.getfield 152, 3) := dk_180 0 152 (dk_at dksX1_isLooked_1 0 rfl rfl)
theorem dX1_isLooked_25 : decode cX1_isLooked 25 = .ok (.iload 4, 2) := dk_21 4 (dk_at dksX1_isLooked_1 3 rfl rfl)
theorem dX1_isLooked_27 : decode cX1_isLooked 27 = .ok (.invokevirtual 56, 3) := dk_182 0 56 (dk_at dksX1_isLooked_1 5 rfl rfl)
theorem dX1_isLooked_30 : decode cX1_isLooked 30 = .ok (.checkcast 155, 3) := dk_192 0 155 (dk_at dksX1_isLooked_1 8 rfl rfl)
theorem dX1_isLooked_33 : decode cX1_isLooked 33 = .ok (.astore 5, 2) := dk_58 5 (dk_at dksX1_isLooked_1 11 rfl rfl)
theorem dX1_isLooked_35 : decode cX1_isLooked 35 = .ok (.aload 5, 2) := dk_25 5 (dk_at dksX1_isLooked_1 13 rfl rfl)
theorem dX1_isLooked_37 : decode cX1_isLooked 37 = .ok (.getfield 167, 3) := dk_180 0 167 (dk_at dksX1_isLooked_1 15 rfl rfl)
theorem dX1_isLooked_40 : decode cX1_isLooked 40 = .ok (.iload_n 1, 1) := dk_27 (dk_at dksX1_isLooked_1 18 rfl rfl)
theorem dX1_isLooked_41 : decode cX1_isLooked 41 = .ok (.if_icmp .ne 35, 3) := dk_160 0 35 (dk_at dksX1_isLooked_1 19 rfl rfl)
theorem dX1_isLooked_44 : decode cX1_isLooked 44 = .ok (.aload 5, 2) := dk_25 5 (dk_at dksX1_isLooked_1 22 rfl rfl)
theorem dX1_isLooked_46 : decode cX1_isLooked 46 = .ok (.getfield 168, 3) := dk_180 0 168 (dk_at dksX1_isLooked_2 0 rfl rfl)
theorem dX1_isLooked_49 : decode cX1_isLooked 49 = .ok (.iload_n 3, 1) := dk_29 (dk_at dksX1_isLooked_2 3 rfl rfl)
theorem dX1_isLooked_50 : decode cX1_isLooked 50 = .ok (.if_icmp .ne 26, 3) := dk_160 0 26 (dk_at dksX1_isLooked_2 4 rfl rfl)
theorem dX1_isLooked_53 : decode cX1_isLooked 53 = .ok (.aload_n 0, 1) := dk_42 (dk_at dksX1_isLooked_2 7 rfl rfl)
theorem dX1_isLooked_54 : decode cX1_isLooked 54 = .ok (.getfield 10, 3) := dk_180 0 10 (dk_at dksX1_isLooked_2 8 rfl rfl)
theorem dX1_isLooked_57 : decode cX1_isLooked 57 = .ok (.getfield 123, 3) := dk_180 0 123 (dk_at dksX1_isLooked_2 11 rfl rfl)
theorem dX1_isLooked_60 : decode cX1_isLooked 60 = .ok (.iload_n 2, 1) := dk_28 (dk_at dksX1_isLooked_2 14 rfl rfl)
theorem dX1_isLooked_61 : decode cX1_isLooked 61 = .ok (.iaload, 1) := dk_46 (dk_at dksX1_isLooked_2 15 rfl rfl)
theorem dX1_isLooked_62 : decode cX1_isLooked 62 = .ok (.aload 5, 2) := dk_25 5 (dk_at dksX1_isLooked_2 16 rfl rfl)
theorem dX1_isLooked_64 : decode cX1_isLooked 64 = .ok (.getfield 171, 3) := dk_180 0 171 (dk_at dksX1_isLooked_2 18 rfl rfl)
theorem dX1_isLooked_67 : decode cX1_isLooked 67 = .ok (.ishr, 1) := dk_122 (dk_at dksX1_isLooked_2 21 rfl rfl)
theorem dX1_isLooked_68 : decode cX1_isLooked 68 = .ok (.iconst 1, 1) := dk_4 (dk_at dksX1_isLooked_2 22 rfl rfl)
theorem dX1_isLooked_69 : decode cX1_isLooked 69 = .ok (.iand, 1) := dk_126 (dk_at dksX1_isLooked_2 23 rfl rfl)
theorem dX1_isLooked_70 : decode cX1_isLooked 70 = .ok (.iconst 1, 1) := dk_4 (dk_at dksX1_isLooked_3 0 rfl rfl)
theorem dX1_isLooked_71 : decode cX1_isLooked 71 = .ok (.if_icmp .ne 5, 3) := dk_160 0 5 (dk_at dksX1_isLooked_3 1 rfl rfl)
theorem dX1_isLooked_74 : decode cX1_isLooked 74 = .ok (.iconst 1, 1) := dk_4 (dk_at dksX1_isLooked_3 4 rfl rfl)
theorem dX1_isLooked_75 : decode cX1_isLooked 75 = .ok (.ireturn, 1) := dk_172 (dk_at dksX1_isLooked_3 5 rfl rfl)
theorem dX1_isLooked_76 : decode cX1_isLooked 76 = .ok (.iinc 4 1, 3) := dk_132 4 1 (dk_at dksX1_isLooked_3 6 rfl rfl)
theorem dX1_isLooked_79 : decode cX1_isLooked 79 = .ok (.goto (-76), 3) := dk_167 255 180 (dk_at dksX1_isLooked_3 9 rfl rfl)
theorem dX1_isLooked_82 : decode cX1_isLooked 82 = .ok (.iconst 0, 1) := dk_3 (dk_at dksX1_isLooked_3 12 rfl rfl)
theorem dX1_isLooked_83 : decode cX1_isLooked 83 = .ok (.ireturn, 1) := dk_172 (dk_at dksX1_isLooked_3 13 rfl rfl)
abbrev cX1_signs : ByteArray := prog_1_method_47_code
def yX1_signs : MethodName := ⟨RX1, "signs", "(II)I"⟩
def dkwX1_signs_4 : List UInt8 := [25, 5, 180, 1, 46, 182, 1, 54, 153, 0, 7, 5, 167, 0, 4, 3, 96, 172]
abbrev dktX1_signs_4 : List UInt8 := dkwX1_signs_4 ++ []
def dkwX1_signs_3 : List UInt8 := [182, 1, 54, 153, 0, 7, 4, 167, 0, 4, 3, 42, 25, 6, 25, 5, 180, 1, 51, 25, 5, 180, 1, 50]
abbrev dktX1_signs_3 : List UInt8 := dkwX1_signs_3 ++ dktX1_signs_4
def dkwX1_signs_2 : List UInt8 := [182, 1, 47, 58, 6, 42, 25, 6, 25, 5, 180, 1, 50, 25, 5, 180, 1, 51, 25, 5, 180, 1, 46]
abbrev dktX1_signs_2 : List UInt8 := dkwX1_signs_2 ++ dktX1_signs_3
def dkwX1_signs_1 : List UInt8 := [25, 4, 193, 0, 243, 154, 0, 5, 3, 172, 25, 4, 192, 0, 243, 58, 5, 45, 25, 5, 180, 1, 46, 28]
abbrev dktX1_signs_1 : List UInt8 := dkwX1_signs_1 ++ dktX1_signs_2
def dkwX1_signs_0 : List UInt8 := [42, 27, 182, 0, 126, 78, 45, 28, 184, 0, 227, 45, 180, 0, 221, 28, 182, 0, 56, 192, 1, 44, 58, 4]
abbrev dktX1_signs_0 : List UInt8 := dkwX1_signs_0 ++ dktX1_signs_1
theorem dksX1_signs_0 : cX1_signs.data.toList.drop 0 = dktX1_signs_0 := by decide +kernel
theorem dksX1_signs_1 : cX1_signs.data.toList.drop 24 = dktX1_signs_1 := dk_seg dksX1_signs_0 24 rfl rfl
theorem dksX1_signs_2 : cX1_signs.data.toList.drop 48 = dktX1_signs_2 := dk_seg dksX1_signs_1 24 rfl rfl
theorem dksX1_signs_3 : cX1_signs.data.toList.drop 71 = dktX1_signs_3 := dk_seg dksX1_signs_2 23 rfl rfl
theorem dksX1_signs_4 : cX1_signs.data.toList.drop 95 = dktX1_signs_4 := dk_seg dksX1_signs_3 24 rfl rfl
theorem dX1_signs_0 : decode cX1_signs 0 = .ok (.aload_n 0, 1) := dk_42 (dk_at dksX1_signs_0 0 rfl rfl)
theorem dX1_signs_1 : decode cX1_signs 1 = .ok (.iload_n 1, 1) := dk_27 (dk_at dksX1_signs_0 1 rfl rfl)
theorem dX1_signs_2 : decode cX1_signs 2 = .ok (.invokevirtual 126, 3) := dk_182 0 126 (dk_at dksX1_signs_0 2 rfl rfl)
theorem dX1_signs_5 : decode cX1_signs 5 = .ok (.astore_n 3, 1) := dk_78 (dk_at dksX1_signs_0 5 rfl rfl)
theorem dX1_signs_6 : decode cX1_signs 6 = .ok (.aload_n 3, 1) := dk_45 (dk_at dksX1_signs_0 6 rfl rfl)
theorem dX1_signs_7 : decode cX1_signs 7 = .ok (.iload_n 2, 1) := dk_28 (dk_at dksX1_signs_0 7 rfl rfl)
theorem dX1_signs_8 : decode cX1_signs 8 = .ok (.invokestatic 227, 3) := dk_184 0 227 (dk_at dksX1_signs_0 8 rfl rfl)
theorem dX1_signs_11 : decode cX1_signs 11 = .ok (.aload_n 3, 1) := dk_45 (dk_at dksX1_signs_0 11 rfl rfl)
theorem dX1_signs_12 : decode cX1_signs 12 = .ok (.getfield 221, 3) := dk_180 0 221 (dk_at dksX1_signs_0 12 rfl rfl)
theorem dX1_signs_15 : decode cX1_signs 15 = .ok (.iload_n 2, 1) := dk_28 (dk_at dksX1_signs_0 15 rfl rfl)
theorem dX1_signs_16 : decode cX1_signs 16 = .ok (.invokevirtual 56, 3) := dk_182 0 56 (dk_at dksX1_signs_0 16 rfl rfl)
theorem dX1_signs_19 : decode cX1_signs 19 = .ok (.checkcast 300, 3) := dk_192 1 44 (dk_at dksX1_signs_0 19 rfl rfl)
theorem dX1_signs_22 : decode cX1_signs 22 = .ok (.astore 4, 2) := dk_58 4 (dk_at dksX1_signs_0 22 rfl rfl)
theorem dX1_signs_24 : decode cX1_signs 24 = .ok (.aload 4, 2) := dk_25 4 (dk_at dksX1_signs_1 0 rfl rfl)
theorem dX1_signs_26 : decode cX1_signs 26 = .ok (.instanceof 243, 3) := dk_193 0 243 (dk_at dksX1_signs_1 2 rfl rfl)
theorem dX1_signs_29 : decode cX1_signs 29 = .ok (.ifCond .ne 5, 3) := dk_154 0 5 (dk_at dksX1_signs_1 5 rfl rfl)
theorem dX1_signs_32 : decode cX1_signs 32 = .ok (.iconst 0, 1) := dk_3 (dk_at dksX1_signs_1 8 rfl rfl)
theorem dX1_signs_33 : decode cX1_signs 33 = .ok (.ireturn, 1) := dk_172 (dk_at dksX1_signs_1 9 rfl rfl)
theorem dX1_signs_34 : decode cX1_signs 34 = .ok (.aload 4, 2) := dk_25 4 (dk_at dksX1_signs_1 10 rfl rfl)
theorem dX1_signs_36 : decode cX1_signs 36 = .ok (.checkcast 243, 3) := dk_192 0 243 (dk_at dksX1_signs_1 12 rfl rfl)
theorem dX1_signs_39 : decode cX1_signs 39 = .ok (.astore 5, 2) := dk_58 5 (dk_at dksX1_signs_1 15 rfl rfl)
theorem dX1_signs_41 : decode cX1_signs 41 = .ok (.aload_n 3, 1) := dk_45 (dk_at dksX1_signs_1 17 rfl rfl)
theorem dX1_signs_42 : decode cX1_signs 42 = .ok (.aload 5, 2) := dk_25 5 (dk_at dksX1_signs_1 18 rfl rfl)
theorem dX1_signs_44 : decode cX1_signs 44 = .ok (.getfield 302, 3) := dk_180 1 46 (dk_at dksX1_signs_1 20 rfl rfl)
theorem dX1_signs_47 : decode cX1_signs 47 = .ok (.iload_n 2, 1) := dk_28 (dk_at dksX1_signs_1 23 rfl rfl)
theorem dX1_signs_48 : decode cX1_signs 48 = .ok (.invokevirtual 303, 3) := dk_182 1 47 (dk_at dksX1_signs_2 0 rfl rfl)
theorem dX1_signs_51 : decode cX1_signs 51 = .ok (.astore 6, 2) := dk_58 6 (dk_at dksX1_signs_2 3 rfl rfl)
theorem dX1_signs_53 : decode cX1_signs 53 = .ok (.aload_n 0, 1) := dk_42 (dk_at dksX1_signs_2 5 rfl rfl)
theorem dX1_signs_54 : decode cX1_signs 54 = .ok (.aload 6, 2) := dk_25 6 (dk_at dksX1_signs_2 6 rfl rfl)
theorem dX1_signs_56 : decode cX1_signs 56 = .ok (.aload 5, 2) := dk_25 5 (dk_at dksX1_signs_2 8 rfl rfl)
theorem dX1_signs_58 : decode cX1_signs 58 = .ok (.getfield 306, 3) := dk_180 1 50 (dk_at dksX1_signs_2 10 rfl rfl)
theorem dX1_signs_61 : decode cX1_signs 61 = .ok (.aload 5, 2) := dk_25 5 (dk_at dksX1_signs_2 13 rfl rfl)
theorem dX1_signs_63 : decode cX1_signs 63 = .ok (.getfield 307, 3) := dk_180 1 51 (dk_at dksX1_signs_2 15 rfl rfl)
theorem dX1_signs_66 : decode cX1_signs 66 = .ok (.aload 5, 2) := dk_25 5 (dk_at dksX1_signs_2 18 rfl rfl)
theorem dX1_signs_68 : decode cX1_signs 68 = .ok (.getfield 302, 3) := dk_180 1 46 (dk_at dksX1_signs_2 20 rfl rfl)
theorem dX1_signs_71 : decode cX1_signs 71 = .ok (.invokevirtual 310, 3) := dk_182 1 54 (dk_at dksX1_signs_3 0 rfl rfl)
theorem dX1_signs_74 : decode cX1_signs 74 = .ok (.ifCond .eq 7, 3) := dk_153 0 7 (dk_at dksX1_signs_3 3 rfl rfl)
theorem dX1_signs_77 : decode cX1_signs 77 = .ok (.iconst 1, 1) := dk_4 (dk_at dksX1_signs_3 6 rfl rfl)
theorem dX1_signs_78 : decode cX1_signs 78 = .ok (.goto 4, 3) := dk_167 0 4 (dk_at dksX1_signs_3 7 rfl rfl)
theorem dX1_signs_81 : decode cX1_signs 81 = .ok (.iconst 0, 1) := dk_3 (dk_at dksX1_signs_3 10 rfl rfl)
theorem dX1_signs_82 : decode cX1_signs 82 = .ok (.aload_n 0, 1) := dk_42 (dk_at dksX1_signs_3 11 rfl rfl)
theorem dX1_signs_83 : decode cX1_signs 83 = .ok (.aload 6, 2) := dk_25 6 (dk_at dksX1_signs_3 12 rfl rfl)
theorem dX1_signs_85 : decode cX1_signs 85 = .ok (.aload 5, 2) := dk_25 5 (dk_at dksX1_signs_3 14 rfl rfl)
theorem dX1_signs_87 : decode cX1_signs 87 = .ok (.getfield 307, 3) := dk_180 1 51 (dk_at dksX1_signs_3 16 rfl rfl)
theorem dX1_signs_90 : decode cX1_signs 90 = .ok (.aload 5, 2) := dk_25 5 (dk_at dksX1_signs_3 19 rfl rfl)
theorem dX1_signs_92 : decode cX1_signs 92 = .ok (.getfield 306, 3) := dk_180 1 50 (dk_at dksX1_signs_3 21 rfl rfl)
theorem dX1_signs_95 : decode cX1_signs 95 = .ok (.aload 5, 2) := dk_25 5 (dk_at dksX1_signs_4 0 rfl rfl)
theorem dX1_signs_97 : decode cX1_signs 97 = .ok (.getfield 302, 3) := dk_180 1 46 (dk_at dksX1_signs_4 2 rfl rfl)
theorem dX1_signs_100 : decode cX1_signs 100 = .ok (.invokevirtual 310, 3) := dk_182 1 54 (dk_at dksX1_signs_4 5 rfl rfl)
theorem dX1_signs_103 : decode cX1_signs 103 = .ok (.ifCond .eq 7, 3) := dk_153 0 7 (dk_at dksX1_signs_4 8 rfl rfl)
theorem dX1_signs_106 : decode cX1_signs 106 = .ok (.iconst 2, 1) := dk_5 (dk_at dksX1_signs_4 11 rfl rfl)
theorem dX1_signs_107 : decode cX1_signs 107 = .ok (.goto 4, 3) := dk_167 0 4 (dk_at dksX1_signs_4 12 rfl rfl)
theorem dX1_signs_110 : decode cX1_signs 110 = .ok (.iconst 0, 1) := dk_3 (dk_at dksX1_signs_4 15 rfl rfl)
theorem dX1_signs_111 : decode cX1_signs 111 = .ok (.iadd, 1) := dk_96 (dk_at dksX1_signs_4 16 rfl rfl)
theorem dX1_signs_112 : decode cX1_signs 112 = .ok (.ireturn, 1) := dk_172 (dk_at dksX1_signs_4 17 rfl rfl)
abbrev cX1_isSign : ByteArray := prog_1_method_46_code
def yX1_isSign : MethodName := ⟨RX1, "isSign", "(LWoolThreads$Scene;III)Z"⟩
def dkwX1_isSign_3 : List UInt8 := [182, 1, 41, 158, 0, 5, 4, 172, 132, 5, 1, 167, 255, 179, 3, 172]
abbrev dktX1_isSign_3 : List UInt8 := dkwX1_isSign_3 ++ []
def dkwX1_isSign_2 : List UInt8 := [180, 0, 168, 21, 4, 161, 0, 26, 25, 6, 180, 0, 174, 158, 0, 18, 43, 28, 25, 6, 180, 0, 171]
abbrev dktX1_isSign_2 : List UInt8 := dkwX1_isSign_2 ++ dktX1_isSign_3
def dkwX1_isSign_1 : List UInt8 := [180, 0, 152, 21, 5, 182, 0, 56, 192, 0, 155, 58, 6, 25, 6, 180, 0, 167, 29, 160, 0, 36, 25, 6]
abbrev dktX1_isSign_1 : List UInt8 := dkwX1_isSign_1 ++ dktX1_isSign_2
def dkwX1_isSign_0 : List UInt8 := [3, 54, 5, 21, 5, 42, 180, 0, 19, 180, 0, 152, 182, 0, 47, 162, 0, 68, 42, 180, 0, 19]
abbrev dktX1_isSign_0 : List UInt8 := dkwX1_isSign_0 ++ dktX1_isSign_1
theorem dksX1_isSign_0 : cX1_isSign.data.toList.drop 0 = dktX1_isSign_0 := by decide +kernel
theorem dksX1_isSign_1 : cX1_isSign.data.toList.drop 22 = dktX1_isSign_1 := dk_seg dksX1_isSign_0 22 rfl rfl
theorem dksX1_isSign_2 : cX1_isSign.data.toList.drop 46 = dktX1_isSign_2 := dk_seg dksX1_isSign_1 24 rfl rfl
theorem dksX1_isSign_3 : cX1_isSign.data.toList.drop 69 = dktX1_isSign_3 := dk_seg dksX1_isSign_2 23 rfl rfl
theorem dX1_isSign_0 : decode cX1_isSign 0 = .ok (.iconst 0, 1) := dk_3 (dk_at dksX1_isSign_0 0 rfl rfl)
theorem dX1_isSign_1 : decode cX1_isSign 1 = .ok (.istore 5, 2) := dk_54 5 (dk_at dksX1_isSign_0 1 rfl rfl)
theorem dX1_isSign_3 : decode cX1_isSign 3 = .ok (.iload 5, 2) := dk_21 5 (dk_at dksX1_isSign_0 3 rfl rfl)
theorem dX1_isSign_5 : decode cX1_isSign 5 = .ok (.aload_n 0, 1) := dk_42 (dk_at dksX1_isSign_0 5 rfl rfl)
theorem dX1_isSign_6 : decode cX1_isSign 6 = .ok (.getfield 19, 3) := dk_180 0 19 (dk_at dksX1_isSign_0 6 rfl rfl)
theorem dX1_isSign_9 : decode cX1_isSign 9 = .ok (.getfield 152, 3) := dk_180 0 152 (dk_at dksX1_isSign_0 9 rfl rfl)
theorem dX1_isSign_12 : decode cX1_isSign 12 = .ok (.invokevirtual 47, 3) := dk_182 0 47 (dk_at dksX1_isSign_0 12 rfl rfl)
theorem dX1_isSign_15 : decode cX1_isSign 15 = .ok (.if_icmp .ge 68, 3) := dk_162 0 68 (dk_at dksX1_isSign_0 15 rfl rfl)
theorem dX1_isSign_18 : decode cX1_isSign 18 = .ok (.aload_n 0, 1) := dk_42 (dk_at dksX1_isSign_0 18 rfl rfl)
theorem dX1_isSign_19 : decode cX1_isSign 19 = .ok (.getfield 19, 3) := dk_180 0 19 (dk_at dksX1_isSign_0 19 rfl rfl)
theorem dX1_isSign_22 : decode cX1_isSign 22 = .ok (.getfield 152, 3) := dk_180 0 152 (dk_at dksX1_isSign_1 0 rfl rfl)
theorem dX1_isSign_25 : decode cX1_isSign 25 = .ok (.iload 5, 2) := dk_21 5 (dk_at dksX1_isSign_1 3 rfl rfl)
theorem dX1_isSign_27 : decode cX1_isSign 27 = .ok (.invokevirtual 56, 3) := dk_182 0 56 (dk_at dksX1_isSign_1 5 rfl rfl)
theorem dX1_isSign_30 : decode cX1_isSign 30 = .ok (.checkcast 155, 3) := dk_192 0 155 (dk_at dksX1_isSign_1 8 rfl rfl)
theorem dX1_isSign_33 : decode cX1_isSign 33 = .ok (.astore 6, 2) := dk_58 6 (dk_at dksX1_isSign_1 11 rfl rfl)
theorem dX1_isSign_35 : decode cX1_isSign 35 = .ok (.aload 6, 2) := dk_25 6 (dk_at dksX1_isSign_1 13 rfl rfl)
theorem dX1_isSign_37 : decode cX1_isSign 37 = .ok (.getfield 167, 3) := dk_180 0 167 (dk_at dksX1_isSign_1 15 rfl rfl)
theorem dX1_isSign_40 : decode cX1_isSign 40 = .ok (.iload_n 3, 1) := dk_29 (dk_at dksX1_isSign_1 18 rfl rfl)
theorem dX1_isSign_41 : decode cX1_isSign 41 = .ok (.if_icmp .ne 36, 3) := dk_160 0 36 (dk_at dksX1_isSign_1 19 rfl rfl)
theorem dX1_isSign_44 : decode cX1_isSign 44 = .ok (.aload 6, 2) := dk_25 6 (dk_at dksX1_isSign_1 22 rfl rfl)
theorem dX1_isSign_46 : decode cX1_isSign 46 = .ok (.getfield 168, 3) := dk_180 0 168 (dk_at dksX1_isSign_2 0 rfl rfl)
theorem dX1_isSign_49 : decode cX1_isSign 49 = .ok (.iload 4, 2) := dk_21 4 (dk_at dksX1_isSign_2 3 rfl rfl)
theorem dX1_isSign_51 : decode cX1_isSign 51 = .ok (.if_icmp .lt 26, 3) := dk_161 0 26 (dk_at dksX1_isSign_2 5 rfl rfl)
theorem dX1_isSign_54 : decode cX1_isSign 54 = .ok (.aload 6, 2) := dk_25 6 (dk_at dksX1_isSign_2 8 rfl rfl)
theorem dX1_isSign_56 : decode cX1_isSign 56 = .ok (.getfield 174, 3) := dk_180 0 174 (dk_at dksX1_isSign_2 10 rfl rfl)
theorem dX1_isSign_59 : decode cX1_isSign 59 = .ok (.ifCond .le 18, 3) := dk_158 0 18 (dk_at dksX1_isSign_2 13 rfl rfl)
theorem dX1_isSign_62 : decode cX1_isSign 62 = .ok (.aload_n 1, 1) := dk_43 (dk_at dksX1_isSign_2 16 rfl rfl)
theorem dX1_isSign_63 : decode cX1_isSign 63 = .ok (.iload_n 2, 1) := dk_28 (dk_at dksX1_isSign_2 17 rfl rfl)
theorem dX1_isSign_64 : decode cX1_isSign 64 = .ok (.aload 6, 2) := dk_25 6 (dk_at dksX1_isSign_2 18 rfl rfl)
theorem dX1_isSign_66 : decode cX1_isSign 66 = .ok (.getfield 171, 3) := dk_180 0 171 (dk_at dksX1_isSign_2 20 rfl rfl)
theorem dX1_isSign_69 : decode cX1_isSign 69 = .ok (.invokevirtual 297, 3) := dk_182 1 41 (dk_at dksX1_isSign_3 0 rfl rfl)
theorem dX1_isSign_72 : decode cX1_isSign 72 = .ok (.ifCond .le 5, 3) := dk_158 0 5 (dk_at dksX1_isSign_3 3 rfl rfl)
theorem dX1_isSign_75 : decode cX1_isSign 75 = .ok (.iconst 1, 1) := dk_4 (dk_at dksX1_isSign_3 6 rfl rfl)
theorem dX1_isSign_76 : decode cX1_isSign 76 = .ok (.ireturn, 1) := dk_172 (dk_at dksX1_isSign_3 7 rfl rfl)
theorem dX1_isSign_77 : decode cX1_isSign 77 = .ok (.iinc 5 1, 3) := dk_132 5 1 (dk_at dksX1_isSign_3 8 rfl rfl)
theorem dX1_isSign_80 : decode cX1_isSign 80 = .ok (.goto (-77), 3) := dk_167 255 179 (dk_at dksX1_isSign_3 11 rfl rfl)
theorem dX1_isSign_83 : decode cX1_isSign 83 = .ok (.iconst 0, 1) := dk_3 (dk_at dksX1_isSign_3 14 rfl rfl)
theorem dX1_isSign_84 : decode cX1_isSign 84 = .ok (.ireturn, 1) := dk_172 (dk_at dksX1_isSign_3 15 rfl rfl)
abbrev cX1_said : ByteArray := prog_1_method_48_code
def yX1_said : MethodName := ⟨RX1, "said", "(II)I"⟩
def dkwX1_said_2 : List UInt8 := [16, 10, 161, 0, 7, 4, 167, 0, 4, 3, 172]
abbrev dktX1_said_2 : List UInt8 := dkwX1_said_2 ++ []
def dkwX1_said_1 : List UInt8 := [18, 211, 161, 0, 7, 6, 167, 0, 27, 21, 5, 17, 3, 232, 161, 0, 7, 5, 167, 0, 15, 21, 5]
abbrev dktX1_said_1 : List UInt8 := dkwX1_said_1 ++ dktX1_said_2
def dkwX1_said_0 : List UInt8 := [42, 27, 182, 0, 126, 78, 42, 28, 182, 0, 126, 58, 4, 45, 25, 4, 2, 184, 0, 217, 54, 5, 21, 5]
abbrev dktX1_said_0 : List UInt8 := dkwX1_said_0 ++ dktX1_said_1
theorem dksX1_said_0 : cX1_said.data.toList.drop 0 = dktX1_said_0 := by decide +kernel
theorem dksX1_said_1 : cX1_said.data.toList.drop 24 = dktX1_said_1 := dk_seg dksX1_said_0 24 rfl rfl
theorem dksX1_said_2 : cX1_said.data.toList.drop 47 = dktX1_said_2 := dk_seg dksX1_said_1 23 rfl rfl
theorem dX1_said_0 : decode cX1_said 0 = .ok (.aload_n 0, 1) := dk_42 (dk_at dksX1_said_0 0 rfl rfl)
theorem dX1_said_1 : decode cX1_said 1 = .ok (.iload_n 1, 1) := dk_27 (dk_at dksX1_said_0 1 rfl rfl)
theorem dX1_said_2 : decode cX1_said 2 = .ok (.invokevirtual 126, 3) := dk_182 0 126 (dk_at dksX1_said_0 2 rfl rfl)
theorem dX1_said_5 : decode cX1_said 5 = .ok (.astore_n 3, 1) := dk_78 (dk_at dksX1_said_0 5 rfl rfl)
theorem dX1_said_6 : decode cX1_said 6 = .ok (.aload_n 0, 1) := dk_42 (dk_at dksX1_said_0 6 rfl rfl)
theorem dX1_said_7 : decode cX1_said 7 = .ok (.iload_n 2, 1) := dk_28 (dk_at dksX1_said_0 7 rfl rfl)
theorem dX1_said_8 : decode cX1_said 8 = .ok (.invokevirtual 126, 3) := dk_182 0 126 (dk_at dksX1_said_0 8 rfl rfl)
theorem dX1_said_11 : decode cX1_said 11 = .ok (.astore 4, 2) := dk_58 4 (dk_at dksX1_said_0 11 rfl rfl)
theorem dX1_said_13 : decode cX1_said 13 = .ok (.aload_n 3, 1) := dk_45 (dk_at dksX1_said_0 13 rfl rfl)
theorem dX1_said_14 : decode cX1_said 14 = .ok (.aload 4, 2) := dk_25 4 (dk_at dksX1_said_0 14 rfl rfl)
theorem dX1_said_16 : decode cX1_said 16 = .ok (.iconst (-1), 1) := dk_2 (dk_at dksX1_said_0 16 rfl rfl)
theorem dX1_said_17 : decode cX1_said 17 = .ok (.invokestatic 217, 3) := dk_184 0 217 (dk_at dksX1_said_0 17 rfl rfl)
theorem dX1_said_20 : decode cX1_said 20 = .ok (.istore 5, 2) := dk_54 5 (dk_at dksX1_said_0 20 rfl rfl)
theorem dX1_said_22 : decode cX1_said 22 = .ok (.iload 5, 2) := dk_21 5 (dk_at dksX1_said_0 22 rfl rfl)
theorem dX1_said_24 : decode cX1_said 24 = .ok (.ldc 211, 2) := dk_18 211 (dk_at dksX1_said_1 0 rfl rfl)
theorem dX1_said_26 : decode cX1_said 26 = .ok (.if_icmp .lt 7, 3) := dk_161 0 7 (dk_at dksX1_said_1 2 rfl rfl)
theorem dX1_said_29 : decode cX1_said 29 = .ok (.iconst 3, 1) := dk_6 (dk_at dksX1_said_1 5 rfl rfl)
theorem dX1_said_30 : decode cX1_said 30 = .ok (.goto 27, 3) := dk_167 0 27 (dk_at dksX1_said_1 6 rfl rfl)
theorem dX1_said_33 : decode cX1_said 33 = .ok (.iload 5, 2) := dk_21 5 (dk_at dksX1_said_1 9 rfl rfl)
theorem dX1_said_35 : decode cX1_said 35 = .ok (.sipush 1000, 3) := dk_17 3 232 (dk_at dksX1_said_1 11 rfl rfl)
theorem dX1_said_38 : decode cX1_said 38 = .ok (.if_icmp .lt 7, 3) := dk_161 0 7 (dk_at dksX1_said_1 14 rfl rfl)
theorem dX1_said_41 : decode cX1_said 41 = .ok (.iconst 2, 1) := dk_5 (dk_at dksX1_said_1 17 rfl rfl)
theorem dX1_said_42 : decode cX1_said 42 = .ok (.goto 15, 3) := dk_167 0 15 (dk_at dksX1_said_1 18 rfl rfl)
theorem dX1_said_45 : decode cX1_said 45 = .ok (.iload 5, 2) := dk_21 5 (dk_at dksX1_said_1 21 rfl rfl)
theorem dX1_said_47 : decode cX1_said 47 = .ok (.bipush 10, 2) := dk_16 10 (dk_at dksX1_said_2 0 rfl rfl)
theorem dX1_said_49 : decode cX1_said 49 = .ok (.if_icmp .lt 7, 3) := dk_161 0 7 (dk_at dksX1_said_2 2 rfl rfl)
theorem dX1_said_52 : decode cX1_said 52 = .ok (.iconst 1, 1) := dk_4 (dk_at dksX1_said_2 5 rfl rfl)
theorem dX1_said_53 : decode cX1_said 53 = .ok (.goto 4, 3) := dk_167 0 4 (dk_at dksX1_said_2 6 rfl rfl)
theorem dX1_said_56 : decode cX1_said 56 = .ok (.iconst 0, 1) := dk_3 (dk_at dksX1_said_2 9 rfl rfl)
theorem dX1_said_57 : decode cX1_said 57 = .ok (.ireturn, 1) := dk_172 (dk_at dksX1_said_2 10 rfl rfl)
theorem q66 : (Jvm.Cond.initialized "WoolThreads") ∈ lw_all := lw_g (lw_at lw_m1 1 rfl) rfl
theorem q105 : (Jvm.Cond.instantiable "WoolThreads" (8 : Nat)) ∈ lw_all := lw_g (lw_at lw_m1 40 rfl) rfl
theorem q107 : (Jvm.Cond.instanceMethod ({ cls := "WoolThreads", name := "<init>", desc := "()V" } : Jvm.MethodName)) ∈ lw_all := lw_g (lw_at lw_m1 42 rfl) rfl
theorem q108 : (Jvm.Cond.code ({ cls := "WoolThreads", name := "<init>", desc := "()V" } : Jvm.MethodName) prog_1_method_1_code (1 : Nat) (Option.none : Option Jvm.ClassFile.FieldType)) ∈ lw_all := lw_g (lw_at lw_m1 43 rfl) rfl
theorem q109 : (Jvm.Cond.methodLink "WoolThreads" (1 : Nat) ({ cls := "java/lang/Object", name := "<init>", desc := "()V" } : Jvm.MethodName)) ∈ lw_all := lw_g (lw_at lw_m1 44 rfl) rfl
theorem q112 : (Jvm.Cond.classLink "WoolThreads" (7 : Nat) "WoolThreads$Law") ∈ lw_all := lw_g (lw_at lw_m1 47 rfl) rfl
theorem q114 : (Jvm.Cond.methodLink "WoolThreads" (9 : Nat) ({ cls := "WoolThreads$Law", name := "<init>", desc := "()V" } : Jvm.MethodName)) ∈ lw_all := lw_g (lw_at lw_m1 49 rfl) rfl
theorem q121 : (Jvm.Cond.fieldLinkNest "WoolThreads" (104 : Nat) "WoolThreads$Law" "shed" "[I" "WoolThreads") ∈ lw_tbl := lw_at lw_m1 56 rfl
theorem q125 : (Jvm.Cond.fieldLinkNest "WoolThreads" (108 : Nat) "WoolThreads$Law" "hold" "[I" "WoolThreads") ∈ lw_tbl := lw_at lw_m1 60 rfl
theorem q129 : (Jvm.Cond.fieldLinkNest "WoolThreads" (111 : Nat) "WoolThreads$Law" "common" "[I" "WoolThreads") ∈ lw_tbl := lw_at lw_m1 64 rfl
theorem q132 : (Jvm.Cond.fieldLinkNest "WoolThreads" (123 : Nat) "WoolThreads$Law" "alike" "[I" "WoolThreads") ∈ lw_tbl := lw_at lw_m1 67 rfl
theorem q135 : (Jvm.Cond.fieldLinkNest "WoolThreads" (114 : Nat) "WoolThreads$Law" "wash" "I" "WoolThreads") ∈ lw_tbl := lw_at lw_m1 70 rfl
theorem q138 : (Jvm.Cond.fieldLinkNest "WoolThreads" (117 : Nat) "WoolThreads$Law" "pass" "I" "WoolThreads") ∈ lw_tbl := lw_at lw_m1 73 rfl
theorem q142 : (Jvm.Cond.fieldLinkNest "WoolThreads" (120 : Nat) "WoolThreads$Law" "take" "I" "WoolThreads") ∈ lw_tbl := lw_at lw_m1 77 rfl
theorem q144 : (Jvm.Cond.fieldLinkNest "WoolThreads" (81 : Nat) "WoolThreads$Law" "clauses" "I" "WoolThreads") ∈ lw_tbl := lw_at lw_m1 79 rfl
theorem q163 : (Jvm.Cond.classLink "WoolThreads" (16 : Nat) "WoolThreads$State") ∈ lw_all := lw_g (lw_at lw_m1 98 rfl) rfl
theorem q165 : (Jvm.Cond.methodLinkNest "WoolThreads" (18 : Nat) ({ cls := "WoolThreads$State", name := "<init>", desc := "()V" } : Jvm.MethodName) "WoolThreads") ∈ lw_tbl := lw_at lw_m1 100 rfl
theorem q515 : (Jvm.Cond.fieldLinkNest "WoolThreads" (152 : Nat) "WoolThreads$State" "finds" "Ljava/util/ArrayList;" "WoolThreads") ∈ lw_tbl := lw_at lw_m2 210 rfl
theorem q517 : (Jvm.Cond.fieldLinkNest "WoolThreads" (267 : Nat) "WoolThreads$State" "shops" "Ljava/util/ArrayList;" "WoolThreads") ∈ lw_tbl := lw_at lw_m2 212 rfl
theorem q519 : (Jvm.Cond.fieldLinkNest "WoolThreads" (261 : Nat) "WoolThreads$State" "seats" "[I" "WoolThreads") ∈ lw_tbl := lw_at lw_m2 214 rfl
theorem q521 : (Jvm.Cond.fieldLinkNest "WoolThreads" (258 : Nat) "WoolThreads$State" "seatMany" "I" "WoolThreads") ∈ lw_tbl := lw_at lw_m2 216 rfl
theorem q531 : (Jvm.Cond.classLink "WoolThreads" (31 : Nat) "java/util/ArrayList") ∈ lw_all := lw_g (lw_at lw_m2 226 rfl) rfl
theorem q532 : (Jvm.Cond.methodLink "WoolThreads" (33 : Nat) ({ cls := "java/util/ArrayList", name := "<init>", desc := "(I)V" } : Jvm.MethodName)) ∈ lw_all := lw_g (lw_at lw_m2 227 rfl) rfl
theorem q534 : (Jvm.Cond.fieldLink "WoolThreads" (10 : Nat) "WoolThreads" "law" "LWoolThreads$Law;") ∈ lw_all := lw_g (lw_at lw_m2 229 rfl) rfl
theorem q536 : (Jvm.Cond.fieldLink "WoolThreads" (19 : Nat) "WoolThreads" "state" "LWoolThreads$State;") ∈ lw_all := lw_g (lw_at lw_m2 231 rfl) rfl
theorem q538 : (Jvm.Cond.fieldLink "WoolThreads" (63 : Nat) "WoolThreads" "taped" "I") ∈ lw_all := lw_g (lw_at lw_m2 233 rfl) rfl
theorem q539 : (Jvm.Cond.fieldLink "WoolThreads" (23 : Nat) "WoolThreads" "faultAt" "I") ∈ lw_all := lw_g (lw_at lw_m2 234 rfl) rfl
theorem q540 : (Jvm.Cond.fieldLink "WoolThreads" (314 : Nat) "WoolThreads" "imageMany" "I") ∈ lw_all := lw_g (lw_at lw_m2 235 rfl) rfl
theorem q541 : (Jvm.Cond.fieldLink "WoolThreads" (27 : Nat) "WoolThreads" "tape" "[B") ∈ lw_all := lw_g (lw_at lw_m2 236 rfl) rfl
theorem q542 : (Jvm.Cond.fieldLink "WoolThreads" (36 : Nat) "WoolThreads" "stories" "Ljava/util/ArrayList;") ∈ lw_all := lw_g (lw_at lw_m2 237 rfl) rfl
theorem q543 : (Jvm.Cond.fieldLink "WoolThreads" (40 : Nat) "WoolThreads" "images" "[LWoolThreads$State;") ∈ lw_all := lw_g (lw_at lw_m2 238 rfl) rfl
theorem q544 : (Jvm.Cond.lays "WoolThreads" "WoolThreads" "law" "LWoolThreads$Law;") ∈ lw_all := lw_g (lw_at lw_m2 239 rfl) rfl
theorem q545 : (Jvm.Cond.soleField "WoolThreads" "law") ∈ lw_all := lw_g (lw_at lw_m3 0 rfl) rfl
theorem q546 : (Jvm.Cond.lays "WoolThreads" "WoolThreads" "state" "LWoolThreads$State;") ∈ lw_all := lw_g (lw_at lw_m3 1 rfl) rfl
theorem q547 : (Jvm.Cond.soleField "WoolThreads" "state") ∈ lw_all := lw_g (lw_at lw_m3 2 rfl) rfl
theorem q548 : (Jvm.Cond.lays "WoolThreads" "WoolThreads" "taped" "I") ∈ lw_all := lw_g (lw_at lw_m3 3 rfl) rfl
theorem q549 : (Jvm.Cond.soleField "WoolThreads" "taped") ∈ lw_all := lw_g (lw_at lw_m3 4 rfl) rfl
theorem q550 : (Jvm.Cond.lays "WoolThreads" "WoolThreads" "faultAt" "I") ∈ lw_all := lw_g (lw_at lw_m3 5 rfl) rfl
theorem q551 : (Jvm.Cond.soleField "WoolThreads" "faultAt") ∈ lw_all := lw_g (lw_at lw_m3 6 rfl) rfl
theorem q552 : (Jvm.Cond.lays "WoolThreads" "WoolThreads" "imageMany" "I") ∈ lw_all := lw_g (lw_at lw_m3 7 rfl) rfl
theorem q553 : (Jvm.Cond.soleField "WoolThreads" "imageMany") ∈ lw_all := lw_g (lw_at lw_m3 8 rfl) rfl
theorem q554 : (Jvm.Cond.laysFinal "WoolThreads" "WoolThreads" "tape" "[B") ∈ lw_all := lw_g (lw_at lw_m3 9 rfl) rfl
theorem q555 : (Jvm.Cond.soleField "WoolThreads" "tape") ∈ lw_all := lw_g (lw_at lw_m3 10 rfl) rfl
theorem q556 : (Jvm.Cond.laysFinal "WoolThreads" "WoolThreads" "stories" "Ljava/util/ArrayList;") ∈ lw_all := lw_g (lw_at lw_m3 11 rfl) rfl
theorem q557 : (Jvm.Cond.soleField "WoolThreads" "stories") ∈ lw_all := lw_g (lw_at lw_m3 12 rfl) rfl
theorem q558 : (Jvm.Cond.laysFinal "WoolThreads" "WoolThreads" "images" "[LWoolThreads$State;") ∈ lw_all := lw_g (lw_at lw_m3 13 rfl) rfl
theorem q559 : (Jvm.Cond.soleField "WoolThreads" "images") ∈ lw_all := lw_g (lw_at lw_m3 14 rfl) rfl
theorem q560 : (Jvm.Cond.superclass "WoolThreads" "java/lang/Object") ∈ lw_all := lw_g (lw_at lw_m3 15 rfl) rfl
theorem q562 : (Jvm.Cond.instanceMethod ({ cls := "WoolThreads", name := "feed", desc := "(IIIII)I" } : Jvm.MethodName)) ∈ lw_all := lw_g (lw_at lw_m3 17 rfl) rfl
theorem q563 : (Jvm.Cond.selects "WoolThreads" ({ cls := "WoolThreads", name := "feed", desc := "(IIIII)I" } : Jvm.MethodName) ({ cls := "WoolThreads", name := "feed", desc := "(IIIII)I" } : Jvm.MethodName)) ∈ lw_all := lw_g (lw_at lw_m3 18 rfl) rfl
theorem q564 : (Jvm.Cond.code ({ cls := "WoolThreads", name := "feed", desc := "(IIIII)I" } : Jvm.MethodName) prog_1_method_7_code (6 : Nat) (Option.some Jvm.ClassFile.FieldType.int)) ∈ lw_all := lw_g (lw_at lw_m3 19 rfl) rfl
theorem q565 : (Jvm.Cond.methodLink "WoolThreads" (66 : Nat) ({ cls := "WoolThreads", name := "put", desc := "(I)V" } : Jvm.MethodName)) ∈ lw_all := lw_g (lw_at lw_m3 20 rfl) rfl
theorem q566 : (Jvm.Cond.privateMethod ({ cls := "WoolThreads", name := "put", desc := "(I)V" } : Jvm.MethodName)) ∈ lw_tbl := lw_at lw_m3 21 rfl
theorem q567 : (Jvm.Cond.instanceMethod ({ cls := "WoolThreads", name := "put", desc := "(I)V" } : Jvm.MethodName)) ∈ lw_all := lw_g (lw_at lw_m3 22 rfl) rfl
theorem q568 : (Jvm.Cond.code ({ cls := "WoolThreads", name := "put", desc := "(I)V" } : Jvm.MethodName) prog_1_method_8_code (3 : Nat) (Option.none : Option Jvm.ClassFile.FieldType)) ∈ lw_all := lw_g (lw_at lw_m3 23 rfl) rfl
theorem q570 : (Jvm.Cond.instanceMethod ({ cls := "WoolThreads", name := "fault", desc := "()I" } : Jvm.MethodName)) ∈ lw_all := lw_g (lw_at lw_m3 25 rfl) rfl
theorem q571 : (Jvm.Cond.selects "WoolThreads" ({ cls := "WoolThreads", name := "fault", desc := "()I" } : Jvm.MethodName) ({ cls := "WoolThreads", name := "fault", desc := "()I" } : Jvm.MethodName)) ∈ lw_all := lw_g (lw_at lw_m3 26 rfl) rfl
theorem q572 : (Jvm.Cond.code ({ cls := "WoolThreads", name := "fault", desc := "()I" } : Jvm.MethodName) prog_1_method_11_code (1 : Nat) (Option.some Jvm.ClassFile.FieldType.int)) ∈ lw_all := lw_g (lw_at lw_m3 27 rfl) rfl
theorem q574 : (Jvm.Cond.instanceMethod ({ cls := "WoolThreads", name := "image", desc := "()I" } : Jvm.MethodName)) ∈ lw_all := lw_g (lw_at lw_m3 29 rfl) rfl
theorem q575 : (Jvm.Cond.selects "WoolThreads" ({ cls := "WoolThreads", name := "image", desc := "()I" } : Jvm.MethodName) ({ cls := "WoolThreads", name := "image", desc := "()I" } : Jvm.MethodName)) ∈ lw_all := lw_g (lw_at lw_m3 30 rfl) rfl
theorem q576 : (Jvm.Cond.code ({ cls := "WoolThreads", name := "image", desc := "()I" } : Jvm.MethodName) prog_1_method_49_code (1 : Nat) (Option.some Jvm.ClassFile.FieldType.int)) ∈ lw_all := lw_g (lw_at lw_m3 31 rfl) rfl
theorem q577 : (Jvm.Cond.methodLink "WoolThreads" (317 : Nat) ({ cls := "WoolThreads$State", name := "like", desc := "()LWoolThreads$State;" } : Jvm.MethodName)) ∈ lw_all := lw_g (lw_at lw_m3 32 rfl) rfl
theorem q627 : (Jvm.Cond.selects "WoolThreads" ({ cls := "java/lang/Object", name := "getClass", desc := "()Ljava/lang/Class;" } : Jvm.MethodName) ({ cls := "java/lang/Object", name := "getClass", desc := "()Ljava/lang/Class;" } : Jvm.MethodName)) ∈ lw_all := lw_g (lw_at lw_m3 82 rfl) rfl
theorem q659 : (Jvm.Cond.instanceMethod ({ cls := "WoolThreads", name := "restore", desc := "()I" } : Jvm.MethodName)) ∈ lw_all := lw_g (lw_at lw_m3 114 rfl) rfl
theorem q660 : (Jvm.Cond.selects "WoolThreads" ({ cls := "WoolThreads", name := "restore", desc := "()I" } : Jvm.MethodName) ({ cls := "WoolThreads", name := "restore", desc := "()I" } : Jvm.MethodName)) ∈ lw_all := lw_g (lw_at lw_m3 115 rfl) rfl
theorem q661 : (Jvm.Cond.code ({ cls := "WoolThreads", name := "restore", desc := "()I" } : Jvm.MethodName) prog_1_method_50_code (1 : Nat) (Option.some Jvm.ClassFile.FieldType.int)) ∈ lw_all := lw_g (lw_at lw_m3 116 rfl) rfl
theorem q663 : (Jvm.Cond.instanceMethod ({ cls := "WoolThreads", name := "count", desc := "(I)I" } : Jvm.MethodName)) ∈ lw_all := lw_g (lw_at lw_m3 118 rfl) rfl
theorem q664 : (Jvm.Cond.selects "WoolThreads" ({ cls := "WoolThreads", name := "count", desc := "(I)I" } : Jvm.MethodName) ({ cls := "WoolThreads", name := "count", desc := "(I)I" } : Jvm.MethodName)) ∈ lw_all := lw_g (lw_at lw_m3 119 rfl) rfl
theorem q665 : (Jvm.Cond.code ({ cls := "WoolThreads", name := "count", desc := "(I)I" } : Jvm.MethodName) prog_1_method_51_code (2 : Nat) (Option.some Jvm.ClassFile.FieldType.int)) ∈ lw_all := lw_g (lw_at lw_m3 120 rfl) rfl
theorem q666 : (Jvm.Cond.methodLink "WoolThreads" (47 : Nat) ({ cls := "java/util/ArrayList", name := "size", desc := "()I" } : Jvm.MethodName)) ∈ lw_all := lw_g (lw_at lw_m3 121 rfl) rfl
theorem q672 : (Jvm.Cond.instanceMethod ({ cls := "WoolThreads", name := "law", desc := "(I)I" } : Jvm.MethodName)) ∈ lw_all := lw_g (lw_at lw_m3 127 rfl) rfl
theorem q673 : (Jvm.Cond.selects "WoolThreads" ({ cls := "WoolThreads", name := "law", desc := "(I)I" } : Jvm.MethodName) ({ cls := "WoolThreads", name := "law", desc := "(I)I" } : Jvm.MethodName)) ∈ lw_all := lw_g (lw_at lw_m3 128 rfl) rfl
theorem q674 : (Jvm.Cond.codeWith ({ cls := "WoolThreads", name := "law", desc := "(I)I" } : Jvm.MethodName) prog_1_method_9_code (5 : Nat) (Option.some Jvm.ClassFile.FieldType.int) [((20 : Nat), (52 : Nat), (59 : Nat), (84 : Nat)), ((20 : Nat), (52 : Nat), (83 : Nat), (0 : Nat)), ((59 : Nat), (76 : Nat), (83 : Nat), (0 : Nat)), ((83 : Nat), (85 : Nat), (83 : Nat), (0 : Nat))]) ∈ lw_all := lw_g (lw_at lw_m3 129 rfl) rfl
theorem q675 : (Jvm.Cond.classLink "WoolThreads" (84 : Nat) "WoolThreads$Wrong") ∈ lw_all := lw_g (lw_at lw_m3 130 rfl) rfl
theorem q676 : (Jvm.Cond.methodLink "WoolThreads" (69 : Nat) ({ cls := "WoolThreads", name := "need", desc := "(Z)V" } : Jvm.MethodName)) ∈ lw_all := lw_g (lw_at lw_m3 131 rfl) rfl
theorem q677 : (Jvm.Cond.static ({ cls := "WoolThreads", name := "need", desc := "(Z)V" } : Jvm.MethodName)) ∈ lw_all := lw_g (lw_at lw_m3 132 rfl) rfl
theorem q678 : (Jvm.Cond.code ({ cls := "WoolThreads", name := "need", desc := "(Z)V" } : Jvm.MethodName) prog_1_method_2_code (1 : Nat) (Option.none : Option Jvm.ClassFile.FieldType)) ∈ lw_all := lw_g (lw_at lw_m3 133 rfl) rfl
theorem q679 : (Jvm.Cond.classLink "WoolThreads" (44 : Nat) "java/lang/IllegalArgumentException") ∈ lw_all := lw_g (lw_at lw_m3 134 rfl) rfl
theorem q680 : (Jvm.Cond.methodLink "WoolThreads" (46 : Nat) ({ cls := "java/lang/IllegalArgumentException", name := "<init>", desc := "()V" } : Jvm.MethodName)) ∈ lw_all := lw_g (lw_at lw_m3 135 rfl) rfl
theorem q690 : (Jvm.Cond.classLink "WoolThreads" (73 : Nat) "WoolThreads$Reader") ∈ lw_all := lw_g (lw_at lw_m3 145 rfl) rfl
theorem q692 : (Jvm.Cond.methodLink "WoolThreads" (75 : Nat) ({ cls := "WoolThreads$Reader", name := "<init>", desc := "([BI)V" } : Jvm.MethodName)) ∈ lw_all := lw_g (lw_at lw_m3 147 rfl) rfl
theorem q709 : (Jvm.Cond.methodLink "WoolThreads" (78 : Nat) ({ cls := "WoolThreads$Reader", name := "law", desc := "()LWoolThreads$Law;" } : Jvm.MethodName)) ∈ lw_all := lw_g (lw_at lw_m3 164 rfl) rfl
theorem q850 : (Jvm.Cond.fieldLinkNest "WoolThreads" (89 : Nat) "WoolThreads$Wrong" "kind" "I" "WoolThreads") ∈ lw_tbl := lw_at lw_m4 65 rfl
theorem q852 : (Jvm.Cond.fieldLinkNest "WoolThreads" (86 : Nat) "WoolThreads$Wrong" "place" "I" "WoolThreads") ∈ lw_tbl := lw_at lw_m4 67 rfl
theorem q881 : (Jvm.Cond.instanceMethod ({ cls := "WoolThreads", name := "story", desc := "(I)I" } : Jvm.MethodName)) ∈ lw_all := lw_g (lw_at lw_m4 96 rfl) rfl
theorem q882 : (Jvm.Cond.selects "WoolThreads" ({ cls := "WoolThreads", name := "story", desc := "(I)I" } : Jvm.MethodName) ({ cls := "WoolThreads", name := "story", desc := "(I)I" } : Jvm.MethodName)) ∈ lw_all := lw_g (lw_at lw_m4 97 rfl) rfl
theorem q883 : (Jvm.Cond.codeWith ({ cls := "WoolThreads", name := "story", desc := "(I)I" } : Jvm.MethodName) prog_1_method_10_code (5 : Nat) (Option.some Jvm.ClassFile.FieldType.int) [((27 : Nat), (45 : Nat), (92 : Nat), (84 : Nat)), ((52 : Nat), (85 : Nat), (92 : Nat), (84 : Nat)), ((27 : Nat), (45 : Nat), (116 : Nat), (0 : Nat)), ((52 : Nat), (85 : Nat), (116 : Nat), (0 : Nat)), ((92 : Nat), (109 : Nat), (116 : Nat), (0 : Nat)), ((116 : Nat), (118 : Nat), (116 : Nat), (0 : Nat))]) ∈ lw_all := lw_g (lw_at lw_m4 98 rfl) rfl
theorem q884 : (Jvm.Cond.methodLink "WoolThreads" (92 : Nat) ({ cls := "WoolThreads$Reader", name := "story", desc := "()Ljava/util/ArrayList;" } : Jvm.MethodName)) ∈ lw_all := lw_g (lw_at lw_m4 99 rfl) rfl
theorem q931 : (Jvm.Cond.fieldLink "WoolThreads" (306 : Nat) "WoolThreads$Touch" "place" "I") ∈ lw_all := lw_g (lw_at lw_m4 146 rfl) rfl
theorem q935 : (Jvm.Cond.fieldLink "WoolThreads" (302 : Nat) "WoolThreads$Touch" "hour" "I") ∈ lw_all := lw_g (lw_at lw_m4 150 rfl) rfl
theorem q951 : (Jvm.Cond.fieldLinkNest "WoolThreads" (307 : Nat) "WoolThreads$Touch" "other" "I" "WoolThreads") ∈ lw_tbl := lw_at lw_m4 166 rfl
theorem q970 : (Jvm.Cond.methodLink "WoolThreads" (96 : Nat) ({ cls := "java/util/ArrayList", name := "add", desc := "(Ljava/lang/Object;)Z" } : Jvm.MethodName)) ∈ lw_all := lw_g (lw_at lw_m4 185 rfl) rfl
theorem q975 : (Jvm.Cond.instanceMethod ({ cls := "WoolThreads", name := "sheds", desc := "(II)I" } : Jvm.MethodName)) ∈ lw_all := lw_g (lw_at lw_m4 190 rfl) rfl
theorem q976 : (Jvm.Cond.selects "WoolThreads" ({ cls := "WoolThreads", name := "sheds", desc := "(II)I" } : Jvm.MethodName) ({ cls := "WoolThreads", name := "sheds", desc := "(II)I" } : Jvm.MethodName)) ∈ lw_all := lw_g (lw_at lw_m4 191 rfl) rfl
theorem q977 : (Jvm.Cond.code ({ cls := "WoolThreads", name := "sheds", desc := "(II)I" } : Jvm.MethodName) prog_1_method_12_code (3 : Nat) (Option.some Jvm.ClassFile.FieldType.int)) ∈ lw_all := lw_g (lw_at lw_m4 192 rfl) rfl
theorem q978 : (Jvm.Cond.methodLink "WoolThreads" (100 : Nat) ({ cls := "WoolThreads", name := "isSort", desc := "(I)Z" } : Jvm.MethodName)) ∈ lw_all := lw_g (lw_at lw_m4 193 rfl) rfl
theorem q979 : (Jvm.Cond.static ({ cls := "WoolThreads", name := "isSort", desc := "(I)Z" } : Jvm.MethodName)) ∈ lw_all := lw_g (lw_at lw_m4 194 rfl) rfl
theorem q980 : (Jvm.Cond.code ({ cls := "WoolThreads", name := "isSort", desc := "(I)Z" } : Jvm.MethodName) prog_1_method_3_code (1 : Nat) (Option.some Jvm.ClassFile.FieldType.boolean)) ∈ lw_all := lw_g (lw_at lw_m4 195 rfl) rfl
theorem q985 : (Jvm.Cond.instanceMethod ({ cls := "WoolThreads", name := "told", desc := "(II)I" } : Jvm.MethodName)) ∈ lw_all := lw_g (lw_at lw_m4 200 rfl) rfl
theorem q986 : (Jvm.Cond.selects "WoolThreads" ({ cls := "WoolThreads", name := "told", desc := "(II)I" } : Jvm.MethodName) ({ cls := "WoolThreads", name := "told", desc := "(II)I" } : Jvm.MethodName)) ∈ lw_all := lw_g (lw_at lw_m4 201 rfl) rfl
theorem q987 : (Jvm.Cond.code ({ cls := "WoolThreads", name := "told", desc := "(II)I" } : Jvm.MethodName) prog_1_method_13_code (3 : Nat) (Option.some Jvm.ClassFile.FieldType.int)) ∈ lw_all := lw_g (lw_at lw_m4 202 rfl) rfl
theorem q992 : (Jvm.Cond.instanceMethod ({ cls := "WoolThreads", name := "alike", desc := "(I)I" } : Jvm.MethodName)) ∈ lw_all := lw_g (lw_at lw_m4 207 rfl) rfl
theorem q993 : (Jvm.Cond.selects "WoolThreads" ({ cls := "WoolThreads", name := "alike", desc := "(I)I" } : Jvm.MethodName) ({ cls := "WoolThreads", name := "alike", desc := "(I)I" } : Jvm.MethodName)) ∈ lw_all := lw_g (lw_at lw_m4 208 rfl) rfl
theorem q994 : (Jvm.Cond.code ({ cls := "WoolThreads", name := "alike", desc := "(I)I" } : Jvm.MethodName) prog_1_method_14_code (2 : Nat) (Option.some Jvm.ClassFile.FieldType.int)) ∈ lw_all := lw_g (lw_at lw_m4 209 rfl) rfl
theorem q1000 : (Jvm.Cond.instanceMethod ({ cls := "WoolThreads", name := "lies", desc := "(IIII)I" } : Jvm.MethodName)) ∈ lw_all := lw_g (lw_at lw_m4 215 rfl) rfl
theorem q1001 : (Jvm.Cond.selects "WoolThreads" ({ cls := "WoolThreads", name := "lies", desc := "(IIII)I" } : Jvm.MethodName) ({ cls := "WoolThreads", name := "lies", desc := "(IIII)I" } : Jvm.MethodName)) ∈ lw_all := lw_g (lw_at lw_m4 216 rfl) rfl
theorem q1002 : (Jvm.Cond.code ({ cls := "WoolThreads", name := "lies", desc := "(IIII)I" } : Jvm.MethodName) prog_1_method_15_code (6 : Nat) (Option.some Jvm.ClassFile.FieldType.int)) ∈ lw_all := lw_g (lw_at lw_m4 217 rfl) rfl
theorem q1003 : (Jvm.Cond.methodLink "WoolThreads" (126 : Nat) ({ cls := "WoolThreads", name := "run", desc := "(I)LWoolThreads$Run;" } : Jvm.MethodName)) ∈ lw_all := lw_g (lw_at lw_m4 218 rfl) rfl
theorem q1004 : (Jvm.Cond.privateMethod ({ cls := "WoolThreads", name := "run", desc := "(I)LWoolThreads$Run;" } : Jvm.MethodName)) ∈ lw_tbl := lw_at lw_m4 219 rfl
theorem q1005 : (Jvm.Cond.instanceMethod ({ cls := "WoolThreads", name := "run", desc := "(I)LWoolThreads$Run;" } : Jvm.MethodName)) ∈ lw_all := lw_g (lw_at lw_m4 220 rfl) rfl
theorem q1006 : (Jvm.Cond.code ({ cls := "WoolThreads", name := "run", desc := "(I)LWoolThreads$Run;" } : Jvm.MethodName) prog_1_method_6_code (2 : Nat) (Option.some (Jvm.ClassFile.FieldType.object "WoolThreads$Run"))) ∈ lw_all := lw_g (lw_at lw_m4 221 rfl) rfl
theorem q1007 : (Jvm.Cond.classLink "WoolThreads" (51 : Nat) "java/util/NoSuchElementException") ∈ lw_all := lw_g (lw_at lw_m4 222 rfl) rfl
theorem q1016 : (Jvm.Cond.methodLink "WoolThreads" (53 : Nat) ({ cls := "java/util/NoSuchElementException", name := "<init>", desc := "()V" } : Jvm.MethodName)) ∈ lw_all := lw_g (lw_at lw_m4 231 rfl) rfl
theorem q1022 : (Jvm.Cond.classLink "WoolThreads" (54 : Nat) "WoolThreads$Run") ∈ lw_all := lw_g (lw_at lw_m4 237 rfl) rfl
theorem q1024 : (Jvm.Cond.methodLink "WoolThreads" (56 : Nat) ({ cls := "java/util/ArrayList", name := "get", desc := "(I)Ljava/lang/Object;" } : Jvm.MethodName)) ∈ lw_all := lw_g (lw_at lw_m4 239 rfl) rfl
theorem q1025 : (Jvm.Cond.methodLink "WoolThreads" (60 : Nat) ({ cls := "WoolThreads$Run", name := "<init>", desc := "(LWoolThreads;Ljava/util/ArrayList;)V" } : Jvm.MethodName)) ∈ lw_all := lw_g (lw_at lw_m5 0 rfl) rfl
theorem q1030 : (Jvm.Cond.fieldLinkNest "WoolThreads" (221 : Nat) "WoolThreads$Run" "events" "Ljava/util/ArrayList;" "WoolThreads") ∈ lw_tbl := lw_at lw_m5 5 rfl
theorem q1032 : (Jvm.Cond.fieldLinkNest "WoolThreads" (224 : Nat) "WoolThreads$Run" "without" "I" "WoolThreads") ∈ lw_tbl := lw_at lw_m5 7 rfl
theorem q1034 : (Jvm.Cond.fieldLinkNest "WoolThreads" (248 : Nat) "WoolThreads$Run" "more" "LWoolThreads$Event;" "WoolThreads") ∈ lw_tbl := lw_at lw_m5 9 rfl
theorem q1036 : (Jvm.Cond.fieldLinkNest "WoolThreads" (234 : Nat) "WoolThreads$Run" "first" "I" "WoolThreads") ∈ lw_tbl := lw_at lw_m5 11 rfl
theorem q1038 : (Jvm.Cond.fieldLinkNest "WoolThreads" (237 : Nat) "WoolThreads$Run" "second" "I" "WoolThreads") ∈ lw_tbl := lw_at lw_m5 13 rfl
theorem q1040 : (Jvm.Cond.fieldLinkNest "WoolThreads" (240 : Nat) "WoolThreads$Run" "third" "I" "WoolThreads") ∈ lw_tbl := lw_at lw_m5 15 rfl
theorem q1057 : (Jvm.Cond.methodLink "WoolThreads" (130 : Nat) ({ cls := "WoolThreads", name := "isPlace", desc := "(I)Z" } : Jvm.MethodName)) ∈ lw_all := lw_g (lw_at lw_m5 32 rfl) rfl
theorem q1058 : (Jvm.Cond.static ({ cls := "WoolThreads", name := "isPlace", desc := "(I)Z" } : Jvm.MethodName)) ∈ lw_all := lw_g (lw_at lw_m5 33 rfl) rfl
theorem q1059 : (Jvm.Cond.code ({ cls := "WoolThreads", name := "isPlace", desc := "(I)Z" } : Jvm.MethodName) prog_1_method_4_code (1 : Nat) (Option.some Jvm.ClassFile.FieldType.boolean)) ∈ lw_all := lw_g (lw_at lw_m5 34 rfl) rfl
theorem q1060 : (Jvm.Cond.methodLink "WoolThreads" (133 : Nat) ({ cls := "WoolThreads", name := "isHour", desc := "(I)Z" } : Jvm.MethodName)) ∈ lw_all := lw_g (lw_at lw_m5 35 rfl) rfl
theorem q1061 : (Jvm.Cond.static ({ cls := "WoolThreads", name := "isHour", desc := "(I)Z" } : Jvm.MethodName)) ∈ lw_all := lw_g (lw_at lw_m5 36 rfl) rfl
theorem q1062 : (Jvm.Cond.code ({ cls := "WoolThreads", name := "isHour", desc := "(I)Z" } : Jvm.MethodName) prog_1_method_5_code (1 : Nat) (Option.some Jvm.ClassFile.FieldType.boolean)) ∈ lw_all := lw_g (lw_at lw_m5 37 rfl) rfl
theorem q1063 : (Jvm.Cond.methodLink "WoolThreads" (136 : Nat) ({ cls := "WoolThreads$Run", name := "at", desc := "(I)LWoolThreads$Scene;" } : Jvm.MethodName)) ∈ lw_all := lw_g (lw_at lw_m5 38 rfl) rfl
theorem q1080 : (Jvm.Cond.fieldLinkNest "WoolThreads" (140 : Nat) "WoolThreads$Scene" "lies" "[I" "WoolThreads") ∈ lw_tbl := lw_at lw_m5 55 rfl
theorem q1083 : (Jvm.Cond.fieldLinkNest "WoolThreads" (149 : Nat) "WoolThreads$Scene" "wears" "[I" "WoolThreads") ∈ lw_tbl := lw_at lw_m5 58 rfl
theorem q1141 : (Jvm.Cond.instanceMethod ({ cls := "WoolThreads", name := "pile", desc := "(IIII)I" } : Jvm.MethodName)) ∈ lw_all := lw_g (lw_at lw_m5 116 rfl) rfl
theorem q1142 : (Jvm.Cond.selects "WoolThreads" ({ cls := "WoolThreads", name := "pile", desc := "(IIII)I" } : Jvm.MethodName) ({ cls := "WoolThreads", name := "pile", desc := "(IIII)I" } : Jvm.MethodName)) ∈ lw_all := lw_g (lw_at lw_m5 117 rfl) rfl
theorem q1143 : (Jvm.Cond.code ({ cls := "WoolThreads", name := "pile", desc := "(IIII)I" } : Jvm.MethodName) prog_1_method_16_code (6 : Nat) (Option.some Jvm.ClassFile.FieldType.int)) ∈ lw_all := lw_g (lw_at lw_m5 118 rfl) rfl
theorem q1144 : (Jvm.Cond.methodLink "WoolThreads" (145 : Nat) ({ cls := "WoolThreads$Scene", name := "pile", desc := "(II)I" } : Jvm.MethodName)) ∈ lw_all := lw_g (lw_at lw_m5 119 rfl) rfl
theorem q1152 : (Jvm.Cond.instanceMethod ({ cls := "WoolThreads", name := "wears", desc := "(III)I" } : Jvm.MethodName)) ∈ lw_all := lw_g (lw_at lw_m5 127 rfl) rfl
theorem q1153 : (Jvm.Cond.selects "WoolThreads" ({ cls := "WoolThreads", name := "wears", desc := "(III)I" } : Jvm.MethodName) ({ cls := "WoolThreads", name := "wears", desc := "(III)I" } : Jvm.MethodName)) ∈ lw_all := lw_g (lw_at lw_m5 128 rfl) rfl
theorem q1154 : (Jvm.Cond.code ({ cls := "WoolThreads", name := "wears", desc := "(III)I" } : Jvm.MethodName) prog_1_method_17_code (5 : Nat) (Option.some Jvm.ClassFile.FieldType.int)) ∈ lw_all := lw_g (lw_at lw_m5 129 rfl) rfl
theorem q1159 : (Jvm.Cond.instanceMethod ({ cls := "WoolThreads", name := "find", desc := "(IIII)I" } : Jvm.MethodName)) ∈ lw_all := lw_g (lw_at lw_m5 134 rfl) rfl
theorem q1160 : (Jvm.Cond.selects "WoolThreads" ({ cls := "WoolThreads", name := "find", desc := "(IIII)I" } : Jvm.MethodName) ({ cls := "WoolThreads", name := "find", desc := "(IIII)I" } : Jvm.MethodName)) ∈ lw_all := lw_g (lw_at lw_m5 135 rfl) rfl
theorem q1161 : (Jvm.Cond.code ({ cls := "WoolThreads", name := "find", desc := "(IIII)I" } : Jvm.MethodName) prog_1_method_18_code (5 : Nat) (Option.some Jvm.ClassFile.FieldType.int)) ∈ lw_all := lw_g (lw_at lw_m5 136 rfl) rfl
theorem q1162 : (Jvm.Cond.classLink "WoolThreads" (155 : Nat) "WoolThreads$Find") ∈ lw_all := lw_g (lw_at lw_m5 137 rfl) rfl
theorem q1164 : (Jvm.Cond.methodLink "WoolThreads" (157 : Nat) ({ cls := "WoolThreads$Find", name := "<init>", desc := "(IIII)V" } : Jvm.MethodName)) ∈ lw_all := lw_g (lw_at lw_m5 139 rfl) rfl
theorem q1170 : (Jvm.Cond.fieldLinkNest "WoolThreads" (167 : Nat) "WoolThreads$Find" "place" "I" "WoolThreads") ∈ lw_tbl := lw_at lw_m5 145 rfl
theorem q1173 : (Jvm.Cond.fieldLinkNest "WoolThreads" (168 : Nat) "WoolThreads$Find" "hour" "I" "WoolThreads") ∈ lw_tbl := lw_at lw_m5 148 rfl
theorem q1176 : (Jvm.Cond.fieldLinkNest "WoolThreads" (171 : Nat) "WoolThreads$Find" "sort" "I" "WoolThreads") ∈ lw_tbl := lw_at lw_m5 151 rfl
theorem q1179 : (Jvm.Cond.fieldLinkNest "WoolThreads" (174 : Nat) "WoolThreads$Find" "many" "I" "WoolThreads") ∈ lw_tbl := lw_at lw_m5 154 rfl
theorem q1212 : (Jvm.Cond.instanceMethod ({ cls := "WoolThreads", name := "found", desc := "(II)I" } : Jvm.MethodName)) ∈ lw_all := lw_g (lw_at lw_m5 187 rfl) rfl
theorem q1213 : (Jvm.Cond.selects "WoolThreads" ({ cls := "WoolThreads", name := "found", desc := "(II)I" } : Jvm.MethodName) ({ cls := "WoolThreads", name := "found", desc := "(II)I" } : Jvm.MethodName)) ∈ lw_all := lw_g (lw_at lw_m5 188 rfl) rfl
theorem q1214 : (Jvm.Cond.code ({ cls := "WoolThreads", name := "found", desc := "(II)I" } : Jvm.MethodName) prog_1_method_20_code (4 : Nat) (Option.some Jvm.ClassFile.FieldType.int)) ∈ lw_all := lw_g (lw_at lw_m5 189 rfl) rfl
theorem q1215 : (Jvm.Cond.methodLink "WoolThreads" (163 : Nat) ({ cls := "WoolThreads", name := "findOf", desc := "(I)LWoolThreads$Find;" } : Jvm.MethodName)) ∈ lw_all := lw_g (lw_at lw_m5 190 rfl) rfl
theorem q1216 : (Jvm.Cond.privateMethod ({ cls := "WoolThreads", name := "findOf", desc := "(I)LWoolThreads$Find;" } : Jvm.MethodName)) ∈ lw_tbl := lw_at lw_m5 191 rfl
theorem q1217 : (Jvm.Cond.instanceMethod ({ cls := "WoolThreads", name := "findOf", desc := "(I)LWoolThreads$Find;" } : Jvm.MethodName)) ∈ lw_all := lw_g (lw_at lw_m5 192 rfl) rfl
theorem q1218 : (Jvm.Cond.code ({ cls := "WoolThreads", name := "findOf", desc := "(I)LWoolThreads$Find;" } : Jvm.MethodName) prog_1_method_19_code (2 : Nat) (Option.some (Jvm.ClassFile.FieldType.object "WoolThreads$Find"))) ∈ lw_all := lw_g (lw_at lw_m5 193 rfl) rfl
theorem q1219 : (Jvm.Cond.classLink "WoolThreads" (160 : Nat) "java/lang/IndexOutOfBoundsException") ∈ lw_all := lw_g (lw_at lw_m5 194 rfl) rfl
theorem q1228 : (Jvm.Cond.methodLink "WoolThreads" (162 : Nat) ({ cls := "java/lang/IndexOutOfBoundsException", name := "<init>", desc := "()V" } : Jvm.MethodName)) ∈ lw_all := lw_g (lw_at lw_m5 203 rfl) rfl
theorem q1238 : (Jvm.Cond.instanceMethod ({ cls := "WoolThreads", name := "drop", desc := "(I)I" } : Jvm.MethodName)) ∈ lw_all := lw_g (lw_at lw_m5 213 rfl) rfl
theorem q1239 : (Jvm.Cond.selects "WoolThreads" ({ cls := "WoolThreads", name := "drop", desc := "(I)I" } : Jvm.MethodName) ({ cls := "WoolThreads", name := "drop", desc := "(I)I" } : Jvm.MethodName)) ∈ lw_all := lw_g (lw_at lw_m5 214 rfl) rfl
theorem q1240 : (Jvm.Cond.code ({ cls := "WoolThreads", name := "drop", desc := "(I)I" } : Jvm.MethodName) prog_1_method_21_code (2 : Nat) (Option.some Jvm.ClassFile.FieldType.int)) ∈ lw_all := lw_g (lw_at lw_m5 215 rfl) rfl
theorem q1241 : (Jvm.Cond.methodLink "WoolThreads" (177 : Nat) ({ cls := "java/util/ArrayList", name := "remove", desc := "(I)Ljava/lang/Object;" } : Jvm.MethodName)) ∈ lw_all := lw_g (lw_at lw_m5 216 rfl) rfl
theorem q1254 : (Jvm.Cond.instanceMethod ({ cls := "WoolThreads", name := "scale", desc := "(I)I" } : Jvm.MethodName)) ∈ lw_all := lw_g (lw_at lw_m5 229 rfl) rfl
theorem q1255 : (Jvm.Cond.selects "WoolThreads" ({ cls := "WoolThreads", name := "scale", desc := "(I)I" } : Jvm.MethodName) ({ cls := "WoolThreads", name := "scale", desc := "(I)I" } : Jvm.MethodName)) ∈ lw_all := lw_g (lw_at lw_m5 230 rfl) rfl
theorem q1256 : (Jvm.Cond.code ({ cls := "WoolThreads", name := "scale", desc := "(I)I" } : Jvm.MethodName) prog_1_method_22_code (2 : Nat) (Option.some Jvm.ClassFile.FieldType.int)) ∈ lw_all := lw_g (lw_at lw_m5 231 rfl) rfl
theorem q1257 : (Jvm.Cond.methodLink "WoolThreads" (180 : Nat) ({ cls := "WoolThreads$Run", name := "scale", desc := "(I)I" } : Jvm.MethodName)) ∈ lw_all := lw_g (lw_at lw_m5 232 rfl) rfl
theorem q1272 : (Jvm.Cond.instanceMethod ({ cls := "WoolThreads", name := "digits", desc := "(I)I" } : Jvm.MethodName)) ∈ lw_all := lw_g (lw_at lw_m6 7 rfl) rfl
theorem q1273 : (Jvm.Cond.selects "WoolThreads" ({ cls := "WoolThreads", name := "digits", desc := "(I)I" } : Jvm.MethodName) ({ cls := "WoolThreads", name := "digits", desc := "(I)I" } : Jvm.MethodName)) ∈ lw_all := lw_g (lw_at lw_m6 8 rfl) rfl
theorem q1274 : (Jvm.Cond.code ({ cls := "WoolThreads", name := "digits", desc := "(I)I" } : Jvm.MethodName) prog_1_method_23_code (2 : Nat) (Option.some Jvm.ClassFile.FieldType.int)) ∈ lw_all := lw_g (lw_at lw_m6 9 rfl) rfl
theorem q1275 : (Jvm.Cond.methodLink "WoolThreads" (184 : Nat) ({ cls := "WoolThreads$Run", name := "number", desc := "(I)LWoolThreads$Great;" } : Jvm.MethodName)) ∈ lw_all := lw_g (lw_at lw_m6 10 rfl) rfl
theorem q1309 : (Jvm.Cond.methodLink "WoolThreads" (188 : Nat) ({ cls := "WoolThreads$Great", name := "digits", desc := "()I" } : Jvm.MethodName)) ∈ lw_all := lw_g (lw_at lw_m6 44 rfl) rfl
theorem q1317 : (Jvm.Cond.instanceMethod ({ cls := "WoolThreads", name := "digit", desc := "(II)I" } : Jvm.MethodName)) ∈ lw_all := lw_g (lw_at lw_m6 52 rfl) rfl
theorem q1318 : (Jvm.Cond.selects "WoolThreads" ({ cls := "WoolThreads", name := "digit", desc := "(II)I" } : Jvm.MethodName) ({ cls := "WoolThreads", name := "digit", desc := "(II)I" } : Jvm.MethodName)) ∈ lw_all := lw_g (lw_at lw_m6 53 rfl) rfl
theorem q1319 : (Jvm.Cond.code ({ cls := "WoolThreads", name := "digit", desc := "(II)I" } : Jvm.MethodName) prog_1_method_24_code (4 : Nat) (Option.some Jvm.ClassFile.FieldType.int)) ∈ lw_all := lw_g (lw_at lw_m6 54 rfl) rfl
theorem q1320 : (Jvm.Cond.methodLink "WoolThreads" (193 : Nat) ({ cls := "WoolThreads$Great", name := "digit", desc := "(I)I" } : Jvm.MethodName)) ∈ lw_all := lw_g (lw_at lw_m6 55 rfl) rfl
theorem q1328 : (Jvm.Cond.instanceMethod ({ cls := "WoolThreads", name := "weighed", desc := "(II)I" } : Jvm.MethodName)) ∈ lw_all := lw_g (lw_at lw_m6 63 rfl) rfl
theorem q1329 : (Jvm.Cond.selects "WoolThreads" ({ cls := "WoolThreads", name := "weighed", desc := "(II)I" } : Jvm.MethodName) ({ cls := "WoolThreads", name := "weighed", desc := "(II)I" } : Jvm.MethodName)) ∈ lw_all := lw_g (lw_at lw_m6 64 rfl) rfl
theorem q1330 : (Jvm.Cond.code ({ cls := "WoolThreads", name := "weighed", desc := "(II)I" } : Jvm.MethodName) prog_1_method_26_code (5 : Nat) (Option.some Jvm.ClassFile.FieldType.int)) ∈ lw_all := lw_g (lw_at lw_m6 65 rfl) rfl
theorem q1331 : (Jvm.Cond.methodLink "WoolThreads" (199 : Nat) ({ cls := "WoolThreads", name := "scaled", desc := "(LWoolThreads$Run;LWoolThreads$Run;I)LWoolThreads$Great;" } : Jvm.MethodName)) ∈ lw_all := lw_g (lw_at lw_m6 66 rfl) rfl
theorem q1332 : (Jvm.Cond.static ({ cls := "WoolThreads", name := "scaled", desc := "(LWoolThreads$Run;LWoolThreads$Run;I)LWoolThreads$Great;" } : Jvm.MethodName)) ∈ lw_all := lw_g (lw_at lw_m6 67 rfl) rfl
theorem q1333 : (Jvm.Cond.code ({ cls := "WoolThreads", name := "scaled", desc := "(LWoolThreads$Run;LWoolThreads$Run;I)LWoolThreads$Great;" } : Jvm.MethodName) prog_1_method_25_code (5 : Nat) (Option.some (Jvm.ClassFile.FieldType.object "WoolThreads$Great"))) ∈ lw_all := lw_g (lw_at lw_m6 68 rfl) rfl
theorem q1334 : (Jvm.Cond.methodLink "WoolThreads" (196 : Nat) ({ cls := "WoolThreads$Great", name := "times", desc := "(I)V" } : Jvm.MethodName)) ∈ lw_all := lw_g (lw_at lw_m6 69 rfl) rfl
theorem q1335 : (Jvm.Cond.methodLink "WoolThreads" (203 : Nat) ({ cls := "WoolThreads$Great", name := "compareTo", desc := "(LWoolThreads$Great;)I" } : Jvm.MethodName)) ∈ lw_all := lw_g (lw_at lw_m6 70 rfl) rfl
theorem q1343 : (Jvm.Cond.instanceMethod ({ cls := "WoolThreads", name := "worth", desc := "(II)I" } : Jvm.MethodName)) ∈ lw_all := lw_g (lw_at lw_m6 78 rfl) rfl
theorem q1344 : (Jvm.Cond.selects "WoolThreads" ({ cls := "WoolThreads", name := "worth", desc := "(II)I" } : Jvm.MethodName) ({ cls := "WoolThreads", name := "worth", desc := "(II)I" } : Jvm.MethodName)) ∈ lw_all := lw_g (lw_at lw_m6 79 rfl) rfl
theorem q1345 : (Jvm.Cond.code ({ cls := "WoolThreads", name := "worth", desc := "(II)I" } : Jvm.MethodName) prog_1_method_28_code (5 : Nat) (Option.some Jvm.ClassFile.FieldType.int)) ∈ lw_all := lw_g (lw_at lw_m6 80 rfl) rfl
theorem q1346 : (Jvm.Cond.methodLink "WoolThreads" (217 : Nat) ({ cls := "WoolThreads", name := "worthOf", desc := "(LWoolThreads$Run;LWoolThreads$Run;I)I" } : Jvm.MethodName)) ∈ lw_all := lw_g (lw_at lw_m6 81 rfl) rfl
theorem q1347 : (Jvm.Cond.static ({ cls := "WoolThreads", name := "worthOf", desc := "(LWoolThreads$Run;LWoolThreads$Run;I)I" } : Jvm.MethodName)) ∈ lw_all := lw_g (lw_at lw_m6 82 rfl) rfl
theorem q1348 : (Jvm.Cond.code ({ cls := "WoolThreads", name := "worthOf", desc := "(LWoolThreads$Run;LWoolThreads$Run;I)I" } : Jvm.MethodName) prog_1_method_27_code (9 : Nat) (Option.some Jvm.ClassFile.FieldType.int)) ∈ lw_all := lw_g (lw_at lw_m6 83 rfl) rfl
theorem q1349 : (Jvm.Cond.methodLink "WoolThreads" (207 : Nat) ({ cls := "WoolThreads$Great", name := "isZero", desc := "()Z" } : Jvm.MethodName)) ∈ lw_all := lw_g (lw_at lw_m6 84 rfl) rfl
theorem q1353 : (Jvm.Cond.constant "WoolThreads" (211 : Nat) (1000000 : Int32)) ∈ lw_all := lw_g (lw_at lw_m6 88 rfl) rfl
theorem q1354 : (Jvm.Cond.classLink "WoolThreads" (189 : Nat) "WoolThreads$Great") ∈ lw_all := lw_g (lw_at lw_m6 89 rfl) rfl
theorem q1355 : (Jvm.Cond.methodLink "WoolThreads" (212 : Nat) ({ cls := "WoolThreads$Great", name := "<init>", desc := "(I)V" } : Jvm.MethodName)) ∈ lw_all := lw_g (lw_at lw_m6 90 rfl) rfl
theorem q1356 : (Jvm.Cond.methodLink "WoolThreads" (213 : Nat) ({ cls := "WoolThreads$Great", name := "become", desc := "(LWoolThreads$Great;)V" } : Jvm.MethodName)) ∈ lw_all := lw_g (lw_at lw_m6 91 rfl) rfl
theorem q1365 : (Jvm.Cond.instanceMethod ({ cls := "WoolThreads", name := "part", desc := "(III)I" } : Jvm.MethodName)) ∈ lw_all := lw_g (lw_at lw_m6 100 rfl) rfl
theorem q1366 : (Jvm.Cond.selects "WoolThreads" ({ cls := "WoolThreads", name := "part", desc := "(III)I" } : Jvm.MethodName) ({ cls := "WoolThreads", name := "part", desc := "(III)I" } : Jvm.MethodName)) ∈ lw_all := lw_g (lw_at lw_m6 101 rfl) rfl
theorem q1367 : (Jvm.Cond.code ({ cls := "WoolThreads", name := "part", desc := "(III)I" } : Jvm.MethodName) prog_1_method_29_code (6 : Nat) (Option.some Jvm.ClassFile.FieldType.int)) ∈ lw_all := lw_g (lw_at lw_m6 102 rfl) rfl
theorem q1372 : (Jvm.Cond.instanceMethod ({ cls := "WoolThreads", name := "events", desc := "(I)I" } : Jvm.MethodName)) ∈ lw_all := lw_g (lw_at lw_m6 107 rfl) rfl
theorem q1373 : (Jvm.Cond.selects "WoolThreads" ({ cls := "WoolThreads", name := "events", desc := "(I)I" } : Jvm.MethodName) ({ cls := "WoolThreads", name := "events", desc := "(I)I" } : Jvm.MethodName)) ∈ lw_all := lw_g (lw_at lw_m6 108 rfl) rfl
theorem q1374 : (Jvm.Cond.code ({ cls := "WoolThreads", name := "events", desc := "(I)I" } : Jvm.MethodName) prog_1_method_30_code (2 : Nat) (Option.some Jvm.ClassFile.FieldType.int)) ∈ lw_all := lw_g (lw_at lw_m6 109 rfl) rfl
theorem q1379 : (Jvm.Cond.instanceMethod ({ cls := "WoolThreads", name := "counts", desc := "(II)I" } : Jvm.MethodName)) ∈ lw_all := lw_g (lw_at lw_m6 114 rfl) rfl
theorem q1380 : (Jvm.Cond.selects "WoolThreads" ({ cls := "WoolThreads", name := "counts", desc := "(II)I" } : Jvm.MethodName) ({ cls := "WoolThreads", name := "counts", desc := "(II)I" } : Jvm.MethodName)) ∈ lw_all := lw_g (lw_at lw_m6 115 rfl) rfl
theorem q1381 : (Jvm.Cond.code ({ cls := "WoolThreads", name := "counts", desc := "(II)I" } : Jvm.MethodName) prog_1_method_33_code (4 : Nat) (Option.some Jvm.ClassFile.FieldType.int)) ∈ lw_all := lw_g (lw_at lw_m6 116 rfl) rfl
theorem q1382 : (Jvm.Cond.methodLink "WoolThreads" (227 : Nat) ({ cls := "WoolThreads", name := "isEvent", desc := "(LWoolThreads$Run;I)V" } : Jvm.MethodName)) ∈ lw_all := lw_g (lw_at lw_m6 117 rfl) rfl
theorem q1383 : (Jvm.Cond.static ({ cls := "WoolThreads", name := "isEvent", desc := "(LWoolThreads$Run;I)V" } : Jvm.MethodName)) ∈ lw_all := lw_g (lw_at lw_m6 118 rfl) rfl
theorem q1384 : (Jvm.Cond.code ({ cls := "WoolThreads", name := "isEvent", desc := "(LWoolThreads$Run;I)V" } : Jvm.MethodName) prog_1_method_31_code (2 : Nat) (Option.none : Option Jvm.ClassFile.FieldType)) ∈ lw_all := lw_g (lw_at lw_m6 119 rfl) rfl
theorem q1385 : (Jvm.Cond.methodLink "WoolThreads" (231 : Nat) ({ cls := "WoolThreads", name := "without", desc := "(LWoolThreads$Run;I)LWoolThreads$Run;" } : Jvm.MethodName)) ∈ lw_all := lw_g (lw_at lw_m6 120 rfl) rfl
theorem q1386 : (Jvm.Cond.privateMethod ({ cls := "WoolThreads", name := "without", desc := "(LWoolThreads$Run;I)LWoolThreads$Run;" } : Jvm.MethodName)) ∈ lw_tbl := lw_at lw_m6 121 rfl
theorem q1387 : (Jvm.Cond.instanceMethod ({ cls := "WoolThreads", name := "without", desc := "(LWoolThreads$Run;I)LWoolThreads$Run;" } : Jvm.MethodName)) ∈ lw_all := lw_g (lw_at lw_m6 122 rfl) rfl
theorem q1388 : (Jvm.Cond.code ({ cls := "WoolThreads", name := "without", desc := "(LWoolThreads$Run;I)LWoolThreads$Run;" } : Jvm.MethodName) prog_1_method_32_code (4 : Nat) (Option.some (Jvm.ClassFile.FieldType.object "WoolThreads$Run"))) ∈ lw_all := lw_g (lw_at lw_m6 123 rfl) rfl
theorem q1393 : (Jvm.Cond.instanceMethod ({ cls := "WoolThreads", name := "needed", desc := "(II)I" } : Jvm.MethodName)) ∈ lw_all := lw_g (lw_at lw_m6 128 rfl) rfl
theorem q1394 : (Jvm.Cond.selects "WoolThreads" ({ cls := "WoolThreads", name := "needed", desc := "(II)I" } : Jvm.MethodName) ({ cls := "WoolThreads", name := "needed", desc := "(II)I" } : Jvm.MethodName)) ∈ lw_all := lw_g (lw_at lw_m6 129 rfl) rfl
theorem q1395 : (Jvm.Cond.code ({ cls := "WoolThreads", name := "needed", desc := "(II)I" } : Jvm.MethodName) prog_1_method_34_code (6 : Nat) (Option.some Jvm.ClassFile.FieldType.int)) ∈ lw_all := lw_g (lw_at lw_m6 130 rfl) rfl
theorem q1400 : (Jvm.Cond.instanceMethod ({ cls := "WoolThreads", name := "byWay", desc := "(IIIIII)I" } : Jvm.MethodName)) ∈ lw_all := lw_g (lw_at lw_m6 135 rfl) rfl
theorem q1401 : (Jvm.Cond.selects "WoolThreads" ({ cls := "WoolThreads", name := "byWay", desc := "(IIIIII)I" } : Jvm.MethodName) ({ cls := "WoolThreads", name := "byWay", desc := "(IIIIII)I" } : Jvm.MethodName)) ∈ lw_all := lw_g (lw_at lw_m6 136 rfl) rfl
theorem q1402 : (Jvm.Cond.code ({ cls := "WoolThreads", name := "byWay", desc := "(IIIIII)I" } : Jvm.MethodName) prog_1_method_35_code (8 : Nat) (Option.some Jvm.ClassFile.FieldType.int)) ∈ lw_all := lw_g (lw_at lw_m6 137 rfl) rfl
theorem q1407 : (Jvm.Cond.instanceMethod ({ cls := "WoolThreads", name := "bench", desc := "(IIII)I" } : Jvm.MethodName)) ∈ lw_all := lw_g (lw_at lw_m6 142 rfl) rfl
theorem q1408 : (Jvm.Cond.selects "WoolThreads" ({ cls := "WoolThreads", name := "bench", desc := "(IIII)I" } : Jvm.MethodName) ({ cls := "WoolThreads", name := "bench", desc := "(IIII)I" } : Jvm.MethodName)) ∈ lw_all := lw_g (lw_at lw_m6 143 rfl) rfl
theorem q1409 : (Jvm.Cond.code ({ cls := "WoolThreads", name := "bench", desc := "(IIII)I" } : Jvm.MethodName) prog_1_method_36_code (7 : Nat) (Option.some Jvm.ClassFile.FieldType.int)) ∈ lw_all := lw_g (lw_at lw_m6 144 rfl) rfl
theorem q1410 : (Jvm.Cond.classLink "WoolThreads" (243 : Nat) "WoolThreads$Touch") ∈ lw_all := lw_g (lw_at lw_m6 145 rfl) rfl
theorem q1411 : (Jvm.Cond.methodLink "WoolThreads" (245 : Nat) ({ cls := "WoolThreads$Touch", name := "<init>", desc := "(III)V" } : Jvm.MethodName)) ∈ lw_all := lw_g (lw_at lw_m6 146 rfl) rfl
theorem q1416 : (Jvm.Cond.instanceMethod ({ cls := "WoolThreads", name := "after", desc := "(IIIZ)I" } : Jvm.MethodName)) ∈ lw_all := lw_g (lw_at lw_m6 151 rfl) rfl
theorem q1417 : (Jvm.Cond.selects "WoolThreads" ({ cls := "WoolThreads", name := "after", desc := "(IIIZ)I" } : Jvm.MethodName) ({ cls := "WoolThreads", name := "after", desc := "(IIIZ)I" } : Jvm.MethodName)) ∈ lw_all := lw_g (lw_at lw_m6 152 rfl) rfl
theorem q1418 : (Jvm.Cond.code ({ cls := "WoolThreads", name := "after", desc := "(IIIZ)I" } : Jvm.MethodName) prog_1_method_38_code (9 : Nat) (Option.some Jvm.ClassFile.FieldType.int)) ∈ lw_all := lw_g (lw_at lw_m6 153 rfl) rfl
theorem q1419 : (Jvm.Cond.constant "WoolThreads" (252 : Nat) (100000 : Int32)) ∈ lw_all := lw_g (lw_at lw_m6 154 rfl) rfl
theorem q1420 : (Jvm.Cond.methodLink "WoolThreads" (253 : Nat) ({ cls := "WoolThreads", name := "leftOf", desc := "(III)I" } : Jvm.MethodName)) ∈ lw_all := lw_g (lw_at lw_m6 155 rfl) rfl
theorem q1421 : (Jvm.Cond.privateMethod ({ cls := "WoolThreads", name := "leftOf", desc := "(III)I" } : Jvm.MethodName)) ∈ lw_tbl := lw_at lw_m6 156 rfl
theorem q1422 : (Jvm.Cond.instanceMethod ({ cls := "WoolThreads", name := "leftOf", desc := "(III)I" } : Jvm.MethodName)) ∈ lw_all := lw_g (lw_at lw_m6 157 rfl) rfl
theorem q1423 : (Jvm.Cond.code ({ cls := "WoolThreads", name := "leftOf", desc := "(III)I" } : Jvm.MethodName) prog_1_method_37_code (6 : Nat) (Option.some Jvm.ClassFile.FieldType.int)) ∈ lw_all := lw_g (lw_at lw_m6 158 rfl) rfl
theorem q1424 : (Jvm.Cond.constant "WoolThreads" (257 : Nat) (99999 : Int32)) ∈ lw_all := lw_g (lw_at lw_m6 159 rfl) rfl
theorem q1429 : (Jvm.Cond.instanceMethod ({ cls := "WoolThreads", name := "seat", desc := "(I)I" } : Jvm.MethodName)) ∈ lw_all := lw_g (lw_at lw_m6 164 rfl) rfl
theorem q1430 : (Jvm.Cond.selects "WoolThreads" ({ cls := "WoolThreads", name := "seat", desc := "(I)I" } : Jvm.MethodName) ({ cls := "WoolThreads", name := "seat", desc := "(I)I" } : Jvm.MethodName)) ∈ lw_all := lw_g (lw_at lw_m6 165 rfl) rfl
theorem q1431 : (Jvm.Cond.code ({ cls := "WoolThreads", name := "seat", desc := "(I)I" } : Jvm.MethodName) prog_1_method_39_code (2 : Nat) (Option.some Jvm.ClassFile.FieldType.int)) ∈ lw_all := lw_g (lw_at lw_m6 166 rfl) rfl
theorem q1436 : (Jvm.Cond.instanceMethod ({ cls := "WoolThreads", name := "share", desc := "(I)I" } : Jvm.MethodName)) ∈ lw_all := lw_g (lw_at lw_m6 171 rfl) rfl
theorem q1437 : (Jvm.Cond.selects "WoolThreads" ({ cls := "WoolThreads", name := "share", desc := "(I)I" } : Jvm.MethodName) ({ cls := "WoolThreads", name := "share", desc := "(I)I" } : Jvm.MethodName)) ∈ lw_all := lw_g (lw_at lw_m6 172 rfl) rfl
theorem q1438 : (Jvm.Cond.code ({ cls := "WoolThreads", name := "share", desc := "(I)I" } : Jvm.MethodName) prog_1_method_40_code (2 : Nat) (Option.some Jvm.ClassFile.FieldType.int)) ∈ lw_all := lw_g (lw_at lw_m6 173 rfl) rfl
theorem q1439 : (Jvm.Cond.methodLink "WoolThreads" (264 : Nat) ({ cls := "WoolThreads$State", name := "seatsOf", desc := "(I)I" } : Jvm.MethodName)) ∈ lw_all := lw_g (lw_at lw_m6 174 rfl) rfl
theorem q1447 : (Jvm.Cond.instanceMethod ({ cls := "WoolThreads", name := "together", desc := "(II)I" } : Jvm.MethodName)) ∈ lw_all := lw_g (lw_at lw_m6 182 rfl) rfl
theorem q1448 : (Jvm.Cond.selects "WoolThreads" ({ cls := "WoolThreads", name := "together", desc := "(II)I" } : Jvm.MethodName) ({ cls := "WoolThreads", name := "together", desc := "(II)I" } : Jvm.MethodName)) ∈ lw_all := lw_g (lw_at lw_m6 183 rfl) rfl
theorem q1449 : (Jvm.Cond.code ({ cls := "WoolThreads", name := "together", desc := "(II)I" } : Jvm.MethodName) prog_1_method_41_code (3 : Nat) (Option.some Jvm.ClassFile.FieldType.int)) ∈ lw_all := lw_g (lw_at lw_m6 184 rfl) rfl
theorem q1454 : (Jvm.Cond.instanceMethod ({ cls := "WoolThreads", name := "shop", desc := "(III)I" } : Jvm.MethodName)) ∈ lw_all := lw_g (lw_at lw_m6 189 rfl) rfl
theorem q1455 : (Jvm.Cond.selects "WoolThreads" ({ cls := "WoolThreads", name := "shop", desc := "(III)I" } : Jvm.MethodName) ({ cls := "WoolThreads", name := "shop", desc := "(III)I" } : Jvm.MethodName)) ∈ lw_all := lw_g (lw_at lw_m6 190 rfl) rfl
theorem q1456 : (Jvm.Cond.code ({ cls := "WoolThreads", name := "shop", desc := "(III)I" } : Jvm.MethodName) prog_1_method_42_code (4 : Nat) (Option.some Jvm.ClassFile.FieldType.int)) ∈ lw_all := lw_g (lw_at lw_m6 191 rfl) rfl
theorem q1457 : (Jvm.Cond.classLink "WoolThreads" (270 : Nat) "WoolThreads$Shop") ∈ lw_all := lw_g (lw_at lw_m6 192 rfl) rfl
theorem q1459 : (Jvm.Cond.methodLink "WoolThreads" (272 : Nat) ({ cls := "WoolThreads$Shop", name := "<init>", desc := "(III)V" } : Jvm.MethodName)) ∈ lw_all := lw_g (lw_at lw_m6 194 rfl) rfl
theorem q1464 : (Jvm.Cond.fieldLinkNest "WoolThreads" (273 : Nat) "WoolThreads$Shop" "sort" "I" "WoolThreads") ∈ lw_tbl := lw_at lw_m6 199 rfl
theorem q1466 : (Jvm.Cond.fieldLinkNest "WoolThreads" (274 : Nat) "WoolThreads$Shop" "sold" "I" "WoolThreads") ∈ lw_tbl := lw_at lw_m6 201 rfl
theorem q1468 : (Jvm.Cond.fieldLinkNest "WoolThreads" (277 : Nat) "WoolThreads$Shop" "all" "I" "WoolThreads") ∈ lw_tbl := lw_at lw_m6 203 rfl
theorem q1480 : (Jvm.Cond.instanceMethod ({ cls := "WoolThreads", name := "rare", desc := "(II)I" } : Jvm.MethodName)) ∈ lw_all := lw_g (lw_at lw_m6 215 rfl) rfl
theorem q1481 : (Jvm.Cond.selects "WoolThreads" ({ cls := "WoolThreads", name := "rare", desc := "(II)I" } : Jvm.MethodName) ({ cls := "WoolThreads", name := "rare", desc := "(II)I" } : Jvm.MethodName)) ∈ lw_all := lw_g (lw_at lw_m6 216 rfl) rfl
theorem q1482 : (Jvm.Cond.code ({ cls := "WoolThreads", name := "rare", desc := "(II)I" } : Jvm.MethodName) prog_1_method_43_code (12 : Nat) (Option.some Jvm.ClassFile.FieldType.int)) ∈ lw_all := lw_g (lw_at lw_m6 217 rfl) rfl
theorem q1483 : (Jvm.Cond.constantLong "WoolThreads" (280 : Nat) (1000 : Int64)) ∈ lw_all := lw_g (lw_at lw_m6 218 rfl) rfl
theorem q1484 : (Jvm.Cond.methodLink "WoolThreads" (282 : Nat) ({ cls := "java/lang/Math", name := "min", desc := "(II)I" } : Jvm.MethodName)) ∈ lw_all := lw_g (lw_at lw_m6 219 rfl) rfl
theorem q1485 : (Jvm.Cond.methodLink "WoolThreads" (287 : Nat) ({ cls := "java/lang/Math", name := "max", desc := "(II)I" } : Jvm.MethodName)) ∈ lw_all := lw_g (lw_at lw_m6 220 rfl) rfl
theorem q1490 : (Jvm.Cond.instanceMethod ({ cls := "WoolThreads", name := "next", desc := "(III)I" } : Jvm.MethodName)) ∈ lw_all := lw_g (lw_at lw_m6 225 rfl) rfl
theorem q1491 : (Jvm.Cond.selects "WoolThreads" ({ cls := "WoolThreads", name := "next", desc := "(III)I" } : Jvm.MethodName) ({ cls := "WoolThreads", name := "next", desc := "(III)I" } : Jvm.MethodName)) ∈ lw_all := lw_g (lw_at lw_m6 226 rfl) rfl
theorem q1492 : (Jvm.Cond.code ({ cls := "WoolThreads", name := "next", desc := "(III)I" } : Jvm.MethodName) prog_1_method_45_code (13 : Nat) (Option.some Jvm.ClassFile.FieldType.int)) ∈ lw_all := lw_g (lw_at lw_m6 227 rfl) rfl
theorem q1493 : (Jvm.Cond.methodLink "WoolThreads" (290 : Nat) ({ cls := "java/lang/Math", name := "abs", desc := "(I)I" } : Jvm.MethodName)) ∈ lw_all := lw_g (lw_at lw_m6 228 rfl) rfl
theorem q1496 : (Jvm.Cond.methodLink "WoolThreads" (293 : Nat) ({ cls := "WoolThreads", name := "isLooked", desc := "(III)Z" } : Jvm.MethodName)) ∈ lw_all := lw_g (lw_at lw_m6 231 rfl) rfl
theorem q1497 : (Jvm.Cond.privateMethod ({ cls := "WoolThreads", name := "isLooked", desc := "(III)Z" } : Jvm.MethodName)) ∈ lw_tbl := lw_at lw_m6 232 rfl
theorem q1498 : (Jvm.Cond.instanceMethod ({ cls := "WoolThreads", name := "isLooked", desc := "(III)Z" } : Jvm.MethodName)) ∈ lw_all := lw_g (lw_at lw_m6 233 rfl) rfl
theorem q1499 : (Jvm.Cond.code ({ cls := "WoolThreads", name := "isLooked", desc := "(III)Z" } : Jvm.MethodName) prog_1_method_44_code (6 : Nat) (Option.some Jvm.ClassFile.FieldType.boolean)) ∈ lw_all := lw_g (lw_at lw_m6 234 rfl) rfl
theorem q1504 : (Jvm.Cond.instanceMethod ({ cls := "WoolThreads", name := "signs", desc := "(II)I" } : Jvm.MethodName)) ∈ lw_all := lw_g (lw_at lw_m6 239 rfl) rfl
theorem q1505 : (Jvm.Cond.selects "WoolThreads" ({ cls := "WoolThreads", name := "signs", desc := "(II)I" } : Jvm.MethodName) ({ cls := "WoolThreads", name := "signs", desc := "(II)I" } : Jvm.MethodName)) ∈ lw_all := lw_g (lw_at lw_m7 0 rfl) rfl
theorem q1506 : (Jvm.Cond.code ({ cls := "WoolThreads", name := "signs", desc := "(II)I" } : Jvm.MethodName) prog_1_method_47_code (7 : Nat) (Option.some Jvm.ClassFile.FieldType.int)) ∈ lw_all := lw_g (lw_at lw_m7 1 rfl) rfl
theorem q1507 : (Jvm.Cond.classLink "WoolThreads" (300 : Nat) "WoolThreads$Event") ∈ lw_all := lw_g (lw_at lw_m7 2 rfl) rfl
theorem q1508 : (Jvm.Cond.methodLink "WoolThreads" (303 : Nat) ({ cls := "WoolThreads$Run", name := "at", desc := "(II)LWoolThreads$Scene;" } : Jvm.MethodName)) ∈ lw_all := lw_g (lw_at lw_m7 3 rfl) rfl
theorem q1509 : (Jvm.Cond.methodLink "WoolThreads" (310 : Nat) ({ cls := "WoolThreads", name := "isSign", desc := "(LWoolThreads$Scene;III)Z" } : Jvm.MethodName)) ∈ lw_all := lw_g (lw_at lw_m7 4 rfl) rfl
theorem q1510 : (Jvm.Cond.privateMethod ({ cls := "WoolThreads", name := "isSign", desc := "(LWoolThreads$Scene;III)Z" } : Jvm.MethodName)) ∈ lw_tbl := lw_at lw_m7 5 rfl
theorem q1511 : (Jvm.Cond.instanceMethod ({ cls := "WoolThreads", name := "isSign", desc := "(LWoolThreads$Scene;III)Z" } : Jvm.MethodName)) ∈ lw_all := lw_g (lw_at lw_m7 6 rfl) rfl
theorem q1512 : (Jvm.Cond.code ({ cls := "WoolThreads", name := "isSign", desc := "(LWoolThreads$Scene;III)Z" } : Jvm.MethodName) prog_1_method_46_code (7 : Nat) (Option.some Jvm.ClassFile.FieldType.boolean)) ∈ lw_all := lw_g (lw_at lw_m7 7 rfl) rfl
theorem q1513 : (Jvm.Cond.methodLink "WoolThreads" (297 : Nat) ({ cls := "WoolThreads$Scene", name := "shedBy", desc := "(II)I" } : Jvm.MethodName)) ∈ lw_all := lw_g (lw_at lw_m7 8 rfl) rfl
theorem q1518 : (Jvm.Cond.instanceMethod ({ cls := "WoolThreads", name := "said", desc := "(II)I" } : Jvm.MethodName)) ∈ lw_all := lw_g (lw_at lw_m7 13 rfl) rfl
theorem q1519 : (Jvm.Cond.selects "WoolThreads" ({ cls := "WoolThreads", name := "said", desc := "(II)I" } : Jvm.MethodName) ({ cls := "WoolThreads", name := "said", desc := "(II)I" } : Jvm.MethodName)) ∈ lw_all := lw_g (lw_at lw_m7 14 rfl) rfl
theorem q1520 : (Jvm.Cond.code ({ cls := "WoolThreads", name := "said", desc := "(II)I" } : Jvm.MethodName) prog_1_method_48_code (6 : Nat) (Option.some Jvm.ClassFile.FieldType.int)) ∈ lw_all := lw_g (lw_at lw_m7 15 rfl) rfl
theorem q2026 : (Jvm.Cond.castable "WoolThreads" "java/lang/Object") ∈ lw_tbl := lw_at lw_m9 41 rfl
theorem in_X1 : ∀ w ∈ wsX10, w ∈ lw_all := lw_in wsX10 [544, 546, 548, 550, 552, 554, 556, 558] (by decide +kernel) (by decide +kernel)
end
