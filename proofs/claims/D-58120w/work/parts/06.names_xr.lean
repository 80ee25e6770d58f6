/-! SungSlides$Song -/
set_option maxRecDepth 100000
def RX1 : String := "SungSlides$Song"
def TX1 : u_T := fun k => match k with
  | 0 => ("SungSlides$Song", "syllables", "Ljava/util/List;", true)
  | 1 => ("SungSlides$Song", "sung", "[I", true)
  | _ => ("SungSlides$Song", "settings", "[I", true)
def tyX1 : Nat → FieldType := fun k => match k with
  | 0 => .object "java/util/List"
  | 1 => .array .int
  | _ => .array .int
abbrev wsX10 : List Cond := u_ws RX1 TX1 3
theorem nmX1 : ∀ a, a < 3 → ∀ b, b < 3 → a ≠ b → (TX1 a).2.1 ≠ (TX1 b).2.1 := by decide +kernel
theorem tyX1_ok : ∀ k, k < 3 → parseFieldDescriptor (TX1 k).2.2.1 = some (tyX1 k) := by decide +kernel
abbrev cX1_init : ByteArray := prog_6_method_1_code
def yX1_init : MethodName := ⟨RX1, "<init>", "()V"⟩
def dkwX1_init_2 : List UInt8 := [2, 79, 132, 1, 1, 167, 255, 239, 177]
abbrev dktX1_init_2 : List UInt8 := dkwX1_init_2 ++ []
def dkwX1_init_1 : List UInt8 := [3, 79, 89, 7, 16, 50, 79, 183, 0, 3, 3, 60, 27, 17, 2, 88, 162, 0, 16, 42, 180, 0, 9, 27]
abbrev dktX1_init_1 : List UInt8 := dkwX1_init_1 ++ dktX1_init_2
def dkwX1_init_0 : List UInt8 := [42, 17, 2, 88, 188, 10, 8, 188, 10, 89, 3, 16, 16, 79, 89, 4, 4, 79, 89, 5, 5, 79, 89, 6]
abbrev dktX1_init_0 : List UInt8 := dkwX1_init_0 ++ dktX1_init_1
theorem dksX1_init_0 : cX1_init.data.toList.drop 0 = dktX1_init_0 := by decide +kernel
theorem dksX1_init_1 : cX1_init.data.toList.drop 24 = dktX1_init_1 := dk_seg dksX1_init_0 24 rfl rfl
theorem dksX1_init_2 : cX1_init.data.toList.drop 48 = dktX1_init_2 := dk_seg dksX1_init_1 24 rfl rfl
theorem dX1_init_0 : decode cX1_init 0 = .ok (.aload_n 0, 1) := dk_42 (dk_at dksX1_init_0 0 rfl rfl)
theorem dX1_init_1 : decode cX1_init 1 = .ok (.sipush 600, 3) := dk_17 2 88 (dk_at dksX1_init_0 1 rfl rfl)
theorem dX1_init_4 : decode cX1_init 4 = .ok (.newarray .int, 2) := dk_188_10 (dk_at dksX1_init_0 4 rfl rfl)
theorem dX1_init_6 : decode cX1_init 6 = .ok (.iconst 5, 1) := dk_8 (dk_at dksX1_init_0 6 rfl rfl)
theorem dX1_init_7 : decode cX1_init 7 = .ok (.newarray .int, 2) := dk_188_10 (dk_at dksX1_init_0 7 rfl rfl)
theorem dX1_init_9 : decode cX1_init 9 = .ok (.dup, 1) := dk_89 (dk_at dksX1_init_0 9 rfl rfl)
theorem dX1_init_10 : decode cX1_init 10 = .ok (.iconst 0, 1) := dk_3 (dk_at dksX1_init_0 10 rfl rfl)
theorem dX1_init_11 : decode cX1_init 11 = .ok (.bipush 16, 2) := dk_16 16 (dk_at dksX1_init_0 11 rfl rfl)
theorem dX1_init_13 : decode cX1_init 13 = .ok (.iastore, 1) := dk_79 (dk_at dksX1_init_0 13 rfl rfl)
theorem dX1_init_14 : decode cX1_init 14 = .ok (.dup, 1) := dk_89 (dk_at dksX1_init_0 14 rfl rfl)
theorem dX1_init_15 : decode cX1_init 15 = .ok (.iconst 1, 1) := dk_4 (dk_at dksX1_init_0 15 rfl rfl)
theorem dX1_init_16 : decode cX1_init 16 = .ok (.iconst 1, 1) := dk_4 (dk_at dksX1_init_0 16 rfl rfl)
theorem dX1_init_17 : decode cX1_init 17 = .ok (.iastore, 1) := dk_79 (dk_at dksX1_init_0 17 rfl rfl)
theorem dX1_init_18 : decode cX1_init 18 = .ok (.dup, 1) := dk_89 (dk_at dksX1_init_0 18 rfl rfl)
theorem dX1_init_19 : decode cX1_init 19 = .ok (.iconst 2, 1) := dk_5 (dk_at dksX1_init_0 19 rfl rfl)
theorem dX1_init_20 : decode cX1_init 20 = .ok (.iconst 2, 1) := dk_5 (dk_at dksX1_init_0 20 rfl rfl)
theorem dX1_init_21 : decode cX1_init 21 = .ok (.iastore, 1) := dk_79 (dk_at dksX1_init_0 21 rfl rfl)
theorem dX1_init_22 : decode cX1_init 22 = .ok (.dup, 1) := dk_89 (dk_at dksX1_init_0 22 rfl rfl)
theorem dX1_init_23 : decode cX1_init 23 = .ok (.iconst 3, 1) := dk_6 (dk_at dksX1_init_0 23 rfl rfl)
theorem dX1_init_24 : decode cX1_init 24 = .ok (.iconst 0, 1) := dk_3 (dk_at dksX1_init_1 0 rfl rfl)
theorem dX1_init_25 : decode cX1_init 25 = .ok (.iastore, 1) := dk_79 (dk_at dksX1_init_1 1 rfl rfl)
theorem dX1_init_26 : decode cX1_init 26 = .ok (.dup, 1) := dk_89 (dk_at dksX1_init_1 2 rfl rfl)
theorem dX1_init_27 : decode cX1_init 27 = .ok (.iconst 4, 1) := dk_7 (dk_at dksX1_init_1 3 rfl rfl)
theorem dX1_init_28 : decode cX1_init 28 = .ok (.bipush 50, 2) := dk_16 50 (dk_at dksX1_init_1 4 rfl rfl)
theorem dX1_init_30 : decode cX1_init 30 = .ok (.iastore, 1) := dk_79 (dk_at dksX1_init_1 6 rfl rfl)
theorem dX1_init_31 : decode cX1_init 31 = .ok (.invokespecial 3, 3) := dk_183 0 3 (dk_at dksX1_init_1 7 rfl rfl)
theorem dX1_init_34 : decode cX1_init 34 = .ok (.iconst 0, 1) := dk_3 (dk_at dksX1_init_1 10 rfl rfl)
theorem dX1_init_35 : decode cX1_init 35 = .ok (.istore_n 1, 1) := dk_60 (dk_at dksX1_init_1 11 rfl rfl)
theorem dX1_init_36 : decode cX1_init 36 = .ok (.iload_n 1, 1) := dk_27 (dk_at dksX1_init_1 12 rfl rfl)
theorem dX1_init_37 : decode cX1_init 37 = .ok (.sipush 600, 3) := dk_17 2 88 (dk_at dksX1_init_1 13 rfl rfl)
theorem dX1_init_40 : decode cX1_init 40 = .ok (.if_icmp .ge 16, 3) := dk_162 0 16 (dk_at dksX1_init_1 16 rfl rfl)
theorem dX1_init_43 : decode cX1_init 43 = .ok (.aload_n 0, 1) := dk_42 (dk_at dksX1_init_1 19 rfl rfl)
theorem dX1_init_44 : decode cX1_init 44 = .ok (.getfield 9, 3) := dk_180 0 9 (dk_at dksX1_init_1 20 rfl rfl)
theorem dX1_init_47 : decode cX1_init 47 = .ok (.iload_n 1, 1) := dk_27 (dk_at dksX1_init_1 23 rfl rfl)
theorem dX1_init_48 : decode cX1_init 48 = .ok (.iconst (-1), 1) := dk_2 (dk_at dksX1_init_2 0 rfl rfl)
theorem dX1_init_49 : decode cX1_init 49 = .ok (.iastore, 1) := dk_79 (dk_at dksX1_init_2 1 rfl rfl)
theorem dX1_init_50 : decode cX1_init 50 = .ok (.iinc 1 1, 3) := dk_132 1 1 (dk_at dksX1_init_2 2 rfl rfl)
theorem dX1_init_53 : decode cX1_init 53 = .ok (.goto (-17), 3) := dk_167 255 239 (dk_at dksX1_init_2 5 rfl rfl)
theorem dX1_init_56 : decode cX1_init 56 = .ok (.return_, 1) := dk_177 (dk_at dksX1_init_2 8 rfl rfl)
abbrev cX1_init_2 : ByteArray := prog_6_method_2_code
def yX1_init_2 : MethodName := ⟨RX1, "<init>", "([I[I)V"⟩
def dkwX1_init_2_1 : List UInt8 := [181, 0, 25, 177]
abbrev dktX1_init_2_1 : List UInt8 := dkwX1_init_2_1 ++ []
def dkwX1_init_2_0 : List UInt8 := [42, 183, 0, 13, 42, 187, 0, 18, 89, 183, 0, 20, 181, 0, 21, 42, 43, 181, 0, 9, 42, 44]
abbrev dktX1_init_2_0 : List UInt8 := dkwX1_init_2_0 ++ dktX1_init_2_1
theorem dksX1_init_2_0 : cX1_init_2.data.toList.drop 0 = dktX1_init_2_0 := by decide +kernel
theorem dksX1_init_2_1 : cX1_init_2.data.toList.drop 22 = dktX1_init_2_1 := dk_seg dksX1_init_2_0 22 rfl rfl
theorem dX1_init_2_0 : decode cX1_init_2 0 = .ok (.aload_n 0, 1) := dk_42 (dk_at dksX1_init_2_0 0 rfl rfl)
theorem dX1_init_2_1 : decode cX1_init_2 1 = .ok (.invokespecial 13, 3) := dk_183 0 13 (dk_at dksX1_init_2_0 1 rfl rfl)
theorem dX1_init_2_4 : decode cX1_init_2 4 = .ok (.aload_n 0, 1) := dk_42 (dk_at dksX1_init_2_0 4 rfl rfl)
theorem dX1_init_2_5 : decode cX1_init_2 5 = .ok (.new 18, 3) := dk_187 0 18 (dk_at dksX1_init_2_0 5 rfl rfl)
theorem dX1_init_2_8 : decode cX1_init_2 8 = .ok (.dup, 1) := dk_89 (dk_at dksX1_init_2_0 8 rfl rfl)
theorem dX1_init_2_9 : decode cX1_init_2 9 = .ok (.invokespecial 20, 3) := dk_183 0 20 (dk_at dksX1_init_2_0 9 rfl rfl)
theorem dX1_init_2_12 : decode cX1_init_2 12 = .ok (.putfield 21, 3) := dk_181 0 21 (dk_at dksX1_init_2_0 12 rfl rfl)
theorem dX1_init_2_15 : decode cX1_init_2 15 = .ok (.aload_n 0, 1) := dk_42 (dk_at dksX1_init_2_0 15 rfl rfl)
theorem dX1_init_2_16 : decode cX1_init_2 16 = .ok (.aload_n 1, 1) := dk_43 (dk_at dksX1_init_2_0 16 rfl rfl)
theorem dX1_init_2_17 : decode cX1_init_2 17 = .ok (.putfield 9, 3) := dk_181 0 9 (dk_at dksX1_init_2_0 17 rfl rfl)
theorem dX1_init_2_20 : decode cX1_init_2 20 = .ok (.aload_n 0, 1) := dk_42 (dk_at dksX1_init_2_0 20 rfl rfl)
theorem dX1_init_2_21 : decode cX1_init_2 21 = .ok (.aload_n 2, 1) := dk_44 (dk_at dksX1_init_2_0 21 rfl rfl)
theorem dX1_init_2_22 : decode cX1_init_2 22 = .ok (.putfield 25, 3) := dk_181 0 25 (dk_at dksX1_init_2_1 0 rfl rfl)
theorem dX1_init_2_25 : decode cX1_init_2 25 = .ok (.return_, 1) := dk_177 (dk_at dksX1_init_2_1 3 rfl rfl)
abbrev cX1_copy : ByteArray := prog_6_method_3_code
def yX1_copy : MethodName := ⟨RX1, "copy", "()LSungSlides$Song;"⟩
def dkwX1_copy_3 : List UInt8 := [176]
abbrev dktX1_copy_3 : List UInt8 := dkwX1_copy_3 ++ []
def dkwX1_copy_2 : List UInt8 := [185, 0, 45, 1, 0, 192, 0, 48, 78, 43, 180, 0, 21, 45, 185, 0, 50, 2, 0, 87, 167, 255, 226, 43]
abbrev dktX1_copy_2 : List UInt8 := dkwX1_copy_2 ++ dktX1_copy_3
def dkwX1_copy_1 : List UInt8 := [183, 0, 3, 76, 42, 180, 0, 21, 185, 0, 33, 1, 0, 77, 44, 185, 0, 39, 1, 0, 153, 0, 27, 44]
abbrev dktX1_copy_1 : List UInt8 := dkwX1_copy_1 ++ dktX1_copy_2
def dkwX1_copy_0 : List UInt8 := [187, 0, 4, 89, 42, 180, 0, 9, 182, 0, 28, 192, 0, 29, 42, 180, 0, 25, 182, 0, 28, 192, 0, 29]
abbrev dktX1_copy_0 : List UInt8 := dkwX1_copy_0 ++ dktX1_copy_1
theorem dksX1_copy_0 : cX1_copy.data.toList.drop 0 = dktX1_copy_0 := by decide +kernel
theorem dksX1_copy_1 : cX1_copy.data.toList.drop 24 = dktX1_copy_1 := dk_seg dksX1_copy_0 24 rfl rfl
theorem dksX1_copy_2 : cX1_copy.data.toList.drop 48 = dktX1_copy_2 := dk_seg dksX1_copy_1 24 rfl rfl
theorem dksX1_copy_3 : cX1_copy.data.toList.drop 72 = dktX1_copy_3 := dk_seg dksX1_copy_2 24 rfl rfl
theorem dX1_copy_0 : decode cX1_copy 0 = .ok (.new 4, 3) := dk_187 0 4 (dk_at dksX1_copy_0 0 rfl rfl)
theorem dX1_copy_3 : decode cX1_copy 3 = .ok (.dup, 1) := dk_89 (dk_at dksX1_copy_0 3 rfl rfl)
theorem dX1_copy_4 : decode cX1_copy 4 = .ok (.aload_n 0, 1) := dk_42 (dk_at dksX1_copy_0 4 rfl rfl)
theorem dX1_copy_5 : decode cX1_copy 5 = .ok (.getfield 9, 3) := dk_180 0 9 (dk_at dksX1_copy_0 5 rfl rfl)
theorem dX1_copy_8 : decode cX1_copy 8 = .ok (.invokevirtual 28, 3) := dk_182 0 28 (dk_at dksX1_copy_0 8 rfl rfl)
theorem dX1_copy_11 : decode cX1_copy 11 = .ok (.checkcast 29, 3) := dk_192 0 29 (dk_at dksX1_copy_0 11 rfl rfl)
theorem dX1_copy_14 : decode cX1_copy 14 = .ok (.aload_n 0, 1) := dk_42 (dk_at dksX1_copy_0 14 rfl rfl)
theorem dX1_copy_15 : decode cX1_copy 15 = .ok (.getfield 25, 3) := dk_180 0 25 (dk_at dksX1_copy_0 15 rfl rfl)
theorem dX1_copy_18 : decode cX1_copy 18 = .ok (.invokevirtual 28, 3) := dk_182 0 28 (dk_at dksX1_copy_0 18 rfl rfl)
theorem dX1_copy_21 : decode cX1_copy 21 = .ok (.checkcast 29, 3) := dk_192 0 29 (dk_at dksX1_copy_0 21 rfl rfl)
theorem dX1_copy_24 : decode cX1_copy 24 = .ok (.invokespecial 3, 3) := dk_183 0 3 (dk_at dksX1_copy_1 0 rfl rfl)
theorem dX1_copy_27 : decode cX1_copy 27 = .ok (.astore_n 1, 1) := dk_76 (dk_at dksX1_copy_1 3 rfl rfl)
theorem dX1_copy_28 : decode cX1_copy 28 = .ok (.aload_n 0, 1) := dk_42 (dk_at dksX1_copy_1 4 rfl rfl)
theorem dX1_copy_29 : decode cX1_copy 29 = .ok (.getfield 21, 3) := dk_180 0 21 (dk_at dksX1_copy_1 5 rfl rfl)
theorem dX1_copy_32 : decode cX1_copy 32 = .ok (.invokeinterface 33 1, 5) := by decide +kernel
theorem dX1_copy_37 : decode cX1_copy 37 = .ok (.astore_n 2, 1) := dk_77 (dk_at dksX1_copy_1 13 rfl rfl)
theorem dX1_copy_38 : decode cX1_copy 38 = .ok (.aload_n 2, 1) := dk_44 (dk_at dksX1_copy_1 14 rfl rfl)
theorem dX1_copy_39 : decode cX1_copy 39 = .ok (.invokeinterface 39 1, 5) := by decide +kernel
theorem dX1_copy_44 : decode cX1_copy 44 = .ok (.ifCond .eq 27, 3) := dk_153 0 27 (dk_at dksX1_copy_1 20 rfl rfl)
theorem dX1_copy_47 : decode cX1_copy 47 = .ok (.aload_n 2, 1) := dk_44 (dk_at dksX1_copy_1 23 rfl rfl)
theorem dX1_copy_48 : decode cX1_copy 48 = .ok (.invokeinterface 45 1, 5) := by decide +kernel
theorem dX1_copy_53 : decode cX1_copy 53 = .ok (.checkcast 48, 3) := dk_192 0 48 (dk_at dksX1_copy_2 5 rfl rfl)
theorem dX1_copy_56 : decode cX1_copy 56 = .ok (.astore_n 3, 1) := dk_78 (dk_at dksX1_copy_2 8 rfl rfl)
theorem dX1_copy_57 : decode cX1_copy 57 = .ok (.aload_n 1, 1) := dk_43 (dk_at dksX1_copy_2 9 rfl rfl)
theorem dX1_copy_58 : decode cX1_copy 58 = .ok (.getfield 21, 3) := dk_180 0 21 (dk_at dksX1_copy_2 10 rfl rfl)
theorem dX1_copy_61 : decode cX1_copy 61 = .ok (.aload_n 3, 1) := dk_45 (dk_at dksX1_copy_2 13 rfl rfl)
theorem dX1_copy_62 : decode cX1_copy 62 = .ok (.invokeinterface 50 2, 5) := by decide +kernel
theorem dX1_copy_67 : decode cX1_copy 67 = .ok (.pop, 1) := dk_87 (dk_at dksX1_copy_2 19 rfl rfl)
theorem dX1_copy_68 : decode cX1_copy 68 = .ok (.goto (-30), 3) := dk_167 255 226 (dk_at dksX1_copy_2 20 rfl rfl)
theorem dX1_copy_71 : decode cX1_copy 71 = .ok (.aload_n 1, 1) := dk_43 (dk_at dksX1_copy_2 23 rfl rfl)
theorem dX1_copy_72 : decode cX1_copy 72 = .ok (.areturn, 1) := dk_176 (dk_at dksX1_copy_3 0 rfl rfl)
abbrev cX1_add : ByteArray := prog_6_method_7_code
def yX1_add : MethodName := ⟨RX1, "add", "(LSungSlides$Plan;)V"⟩
def dkwX1_add_4 : List UInt8 := [183, 0, 100, 185, 0, 50, 2, 0, 87, 177]
abbrev dktX1_add_4 : List UInt8 := dkwX1_add_4 ++ []
def dkwX1_add_3 : List UInt8 := [62, 42, 180, 0, 21, 187, 0, 48, 89, 28, 43, 180, 0, 81, 43, 180, 0, 94, 43, 180, 0, 97, 29]
abbrev dktX1_add_3 : List UInt8 := dkwX1_add_3 ++ dktX1_add_4
def dkwX1_add_2 : List UInt8 := [180, 0, 21, 185, 0, 58, 1, 0, 153, 0, 10, 42, 182, 0, 91, 167, 0, 9, 42, 182, 0, 91, 4, 100]
abbrev dktX1_add_2 : List UInt8 := dkwX1_add_2 ++ dktX1_add_3
def dkwX1_add_1 : List UInt8 := [96, 17, 2, 88, 164, 0, 11, 187, 0, 84, 89, 183, 0, 86, 191, 43, 180, 0, 87, 154, 0, 15, 42]
abbrev dktX1_add_1 : List UInt8 := dkwX1_add_1 ++ dktX1_add_2
def dkwX1_add_0 : List UInt8 := [42, 182, 0, 75, 43, 180, 0, 76, 96, 61, 42, 182, 0, 61, 16, 40, 159, 0, 15, 28, 43, 180, 0, 81]
abbrev dktX1_add_0 : List UInt8 := dkwX1_add_0 ++ dktX1_add_1
theorem dksX1_add_0 : cX1_add.data.toList.drop 0 = dktX1_add_0 := by decide +kernel
theorem dksX1_add_1 : cX1_add.data.toList.drop 24 = dktX1_add_1 := dk_seg dksX1_add_0 24 rfl rfl
theorem dksX1_add_2 : cX1_add.data.toList.drop 47 = dktX1_add_2 := dk_seg dksX1_add_1 23 rfl rfl
theorem dksX1_add_3 : cX1_add.data.toList.drop 71 = dktX1_add_3 := dk_seg dksX1_add_2 24 rfl rfl
theorem dksX1_add_4 : cX1_add.data.toList.drop 94 = dktX1_add_4 := dk_seg dksX1_add_3 23 rfl rfl
theorem dX1_add_0 : decode cX1_add 0 = .ok (.aload_n 0, 1) := dk_42 (dk_at dksX1_add_0 0 rfl rfl)
theorem dX1_add_1 : decode cX1_add 1 = .ok (.invokevirtual 75, 3) := dk_182 0 75 (dk_at dksX1_add_0 1 rfl rfl)
theorem dX1_add_4 : decode cX1_add 4 = .ok (.aload_n 1, 1) := dk_43 (dk_at dksX1_add_0 4 rfl rfl)
theorem dX1_add_5 : decode cX1_add 5 = .ok (.getfield 76, 3) := dk_180 0 76 (dk_at dksX1_add_0 5 rfl rfl)
theorem dX1_add_8 : decode cX1_add 8 = .ok (.iadd, 1) := dk_96 (dk_at dksX1_add_0 8 rfl rfl)
theorem dX1_add_9 : decode cX1_add 9 = .ok (.istore_n 2, 1) := dk_61 (dk_at dksX1_add_0 9 rfl rfl)
theorem dX1_add_10 : decode cX1_add 10 = .ok (.aload_n 0, 1) := dk_42 (dk_at dksX1_add_0 10 rfl rfl)
theorem dX1_add_11 : decode cX1_add 11 = .ok (.invokevirtual 61, 3) := dk_182 0 61 (dk_at dksX1_add_0 11 rfl rfl)
theorem dX1_add_14 : decode cX1_add 14 = .ok (.bipush 40, 2) := dk_16 40 (dk_at dksX1_add_0 14 rfl rfl)
theorem dX1_add_16 : decode cX1_add 16 = .ok (.if_icmp .eq 15, 3) := dk_159 0 15 (dk_at dksX1_add_0 16 rfl rfl)
theorem dX1_add_19 : decode cX1_add 19 = .ok (.iload_n 2, 1) := dk_28 (dk_at dksX1_add_0 19 rfl rfl)
theorem dX1_add_20 : decode cX1_add 20 = .ok (.aload_n 1, 1) := dk_43 (dk_at dksX1_add_0 20 rfl rfl)
theorem dX1_add_21 : decode cX1_add 21 = .ok (.getfield 81, 3) := dk_180 0 81 (dk_at dksX1_add_0 21 rfl rfl)
theorem dX1_add_24 : decode cX1_add 24 = .ok (.iadd, 1) := dk_96 (dk_at dksX1_add_1 0 rfl rfl)
theorem dX1_add_25 : decode cX1_add 25 = .ok (.sipush 600, 3) := dk_17 2 88 (dk_at dksX1_add_1 1 rfl rfl)
theorem dX1_add_28 : decode cX1_add 28 = .ok (.if_icmp .le 11, 3) := dk_164 0 11 (dk_at dksX1_add_1 4 rfl rfl)
theorem dX1_add_31 : decode cX1_add 31 = .ok (.new 84, 3) := dk_187 0 84 (dk_at dksX1_add_1 7 rfl rfl)
theorem dX1_add_34 : decode cX1_add 34 = .ok (.dup, 1) := dk_89 (dk_at dksX1_add_1 10 rfl rfl)
theorem dX1_add_35 : decode cX1_add 35 = .ok (.invokespecial 86, 3) := dk_183 0 86 (dk_at dksX1_add_1 11 rfl rfl)
theorem dX1_add_38 : decode cX1_add 38 = .ok (.athrow, 1) := dk_191 (dk_at dksX1_add_1 14 rfl rfl)
theorem dX1_add_39 : decode cX1_add 39 = .ok (.aload_n 1, 1) := dk_43 (dk_at dksX1_add_1 15 rfl rfl)
theorem dX1_add_40 : decode cX1_add 40 = .ok (.getfield 87, 3) := dk_180 0 87 (dk_at dksX1_add_1 16 rfl rfl)
theorem dX1_add_43 : decode cX1_add 43 = .ok (.ifCond .ne 15, 3) := dk_154 0 15 (dk_at dksX1_add_1 19 rfl rfl)
theorem dX1_add_46 : decode cX1_add 46 = .ok (.aload_n 0, 1) := dk_42 (dk_at dksX1_add_1 22 rfl rfl)
theorem dX1_add_47 : decode cX1_add 47 = .ok (.getfield 21, 3) := dk_180 0 21 (dk_at dksX1_add_2 0 rfl rfl)
theorem dX1_add_50 : decode cX1_add 50 = .ok (.invokeinterface 58 1, 5) := by decide +kernel
theorem dX1_add_55 : decode cX1_add 55 = .ok (.ifCond .eq 10, 3) := dk_153 0 10 (dk_at dksX1_add_2 8 rfl rfl)
theorem dX1_add_58 : decode cX1_add 58 = .ok (.aload_n 0, 1) := dk_42 (dk_at dksX1_add_2 11 rfl rfl)
theorem dX1_add_59 : decode cX1_add 59 = .ok (.invokevirtual 91, 3) := dk_182 0 91 (dk_at dksX1_add_2 12 rfl rfl)
theorem dX1_add_62 : decode cX1_add 62 = .ok (.goto 9, 3) := dk_167 0 9 (dk_at dksX1_add_2 15 rfl rfl)
theorem dX1_add_65 : decode cX1_add 65 = .ok (.aload_n 0, 1) := dk_42 (dk_at dksX1_add_2 18 rfl rfl)
theorem dX1_add_66 : decode cX1_add 66 = .ok (.invokevirtual 91, 3) := dk_182 0 91 (dk_at dksX1_add_2 19 rfl rfl)
theorem dX1_add_69 : decode cX1_add 69 = .ok (.iconst 1, 1) := dk_4 (dk_at dksX1_add_2 22 rfl rfl)
theorem dX1_add_70 : decode cX1_add 70 = .ok (.isub, 1) := dk_100 (dk_at dksX1_add_2 23 rfl rfl)
theorem dX1_add_71 : decode cX1_add 71 = .ok (.istore_n 3, 1) := dk_62 (dk_at dksX1_add_3 0 rfl rfl)
theorem dX1_add_72 : decode cX1_add 72 = .ok (.aload_n 0, 1) := dk_42 (dk_at dksX1_add_3 1 rfl rfl)
theorem dX1_add_73 : decode cX1_add 73 = .ok (.getfield 21, 3) := dk_180 0 21 (dk_at dksX1_add_3 2 rfl rfl)
theorem dX1_add_76 : decode cX1_add 76 = .ok (.new 48, 3) := dk_187 0 48 (dk_at dksX1_add_3 5 rfl rfl)
theorem dX1_add_79 : decode cX1_add 79 = .ok (.dup, 1) := dk_89 (dk_at dksX1_add_3 8 rfl rfl)
theorem dX1_add_80 : decode cX1_add 80 = .ok (.iload_n 2, 1) := dk_28 (dk_at dksX1_add_3 9 rfl rfl)
theorem dX1_add_81 : decode cX1_add 81 = .ok (.aload_n 1, 1) := dk_43 (dk_at dksX1_add_3 10 rfl rfl)
theorem dX1_add_82 : decode cX1_add 82 = .ok (.getfield 81, 3) := dk_180 0 81 (dk_at dksX1_add_3 11 rfl rfl)
theorem dX1_add_85 : decode cX1_add 85 = .ok (.aload_n 1, 1) := dk_43 (dk_at dksX1_add_3 14 rfl rfl)
theorem dX1_add_86 : decode cX1_add 86 = .ok (.getfield 94, 3) := dk_180 0 94 (dk_at dksX1_add_3 15 rfl rfl)
theorem dX1_add_89 : decode cX1_add 89 = .ok (.aload_n 1, 1) := dk_43 (dk_at dksX1_add_3 18 rfl rfl)
theorem dX1_add_90 : decode cX1_add 90 = .ok (.getfield 97, 3) := dk_180 0 97 (dk_at dksX1_add_3 19 rfl rfl)
theorem dX1_add_93 : decode cX1_add 93 = .ok (.iload_n 3, 1) := dk_29 (dk_at dksX1_add_3 22 rfl rfl)
theorem dX1_add_94 : decode cX1_add 94 = .ok (.invokespecial 100, 3) := dk_183 0 100 (dk_at dksX1_add_4 0 rfl rfl)
theorem dX1_add_97 : decode cX1_add 97 = .ok (.invokeinterface 50 2, 5) := by decide +kernel
theorem dX1_add_102 : decode cX1_add 102 = .ok (.pop, 1) := dk_87 (dk_at dksX1_add_4 8 rfl rfl)
theorem dX1_add_103 : decode cX1_add 103 = .ok (.return_, 1) := dk_177 (dk_at dksX1_add_4 9 rfl rfl)
abbrev cX1_end : ByteArray := prog_6_method_5_code
def yX1_end : MethodName := ⟨RX1, "end", "()I"⟩
def dkwX1_end_1 : List UInt8 := [4, 100, 185, 0, 64, 2, 0, 192, 0, 48, 182, 0, 68, 172]
abbrev dktX1_end_1 : List UInt8 := dkwX1_end_1 ++ []
def dkwX1_end_0 : List UInt8 := [42, 180, 0, 21, 185, 0, 58, 1, 0, 153, 0, 7, 3, 167, 0, 24, 42, 180, 0, 21, 42, 182, 0, 61]
abbrev dktX1_end_0 : List UInt8 := dkwX1_end_0 ++ dktX1_end_1
theorem dksX1_end_0 : cX1_end.data.toList.drop 0 = dktX1_end_0 := by decide +kernel
theorem dksX1_end_1 : cX1_end.data.toList.drop 24 = dktX1_end_1 := dk_seg dksX1_end_0 24 rfl rfl
theorem dX1_end_0 : decode cX1_end 0 = .ok (.aload_n 0, 1) := dk_42 (dk_at dksX1_end_0 0 rfl rfl)
theorem dX1_end_1 : decode cX1_end 1 = .ok (.getfield 21, 3) := dk_180 0 21 (dk_at dksX1_end_0 1 rfl rfl)
theorem dX1_end_4 : decode cX1_end 4 = .ok (.invokeinterface 58 1, 5) := by decide +kernel
theorem dX1_end_9 : decode cX1_end 9 = .ok (.ifCond .eq 7, 3) := dk_153 0 7 (dk_at dksX1_end_0 9 rfl rfl)
theorem dX1_end_12 : decode cX1_end 12 = .ok (.iconst 0, 1) := dk_3 (dk_at dksX1_end_0 12 rfl rfl)
theorem dX1_end_13 : decode cX1_end 13 = .ok (.goto 24, 3) := dk_167 0 24 (dk_at dksX1_end_0 13 rfl rfl)
theorem dX1_end_16 : decode cX1_end 16 = .ok (.aload_n 0, 1) := dk_42 (dk_at dksX1_end_0 16 rfl rfl)
theorem dX1_end_17 : decode cX1_end 17 = .ok (.getfield 21, 3) := dk_180 0 21 (dk_at dksX1_end_0 17 rfl rfl)
theorem dX1_end_20 : decode cX1_end 20 = .ok (.aload_n 0, 1) := dk_42 (dk_at dksX1_end_0 20 rfl rfl)
theorem dX1_end_21 : decode cX1_end 21 = .ok (.invokevirtual 61, 3) := dk_182 0 61 (dk_at dksX1_end_0 21 rfl rfl)
theorem dX1_end_24 : decode cX1_end 24 = .ok (.iconst 1, 1) := dk_4 (dk_at dksX1_end_1 0 rfl rfl)
theorem dX1_end_25 : decode cX1_end 25 = .ok (.isub, 1) := dk_100 (dk_at dksX1_end_1 1 rfl rfl)
theorem dX1_end_26 : decode cX1_end 26 = .ok (.invokeinterface 64 2, 5) := by decide +kernel
theorem dX1_end_31 : decode cX1_end 31 = .ok (.checkcast 48, 3) := dk_192 0 48 (dk_at dksX1_end_1 7 rfl rfl)
theorem dX1_end_34 : decode cX1_end 34 = .ok (.invokevirtual 68, 3) := dk_182 0 68 (dk_at dksX1_end_1 10 rfl rfl)
theorem dX1_end_37 : decode cX1_end 37 = .ok (.ireturn, 1) := dk_172 (dk_at dksX1_end_1 13 rfl rfl)
abbrev cX1_many : ByteArray := prog_6_method_4_code
def yX1_many : MethodName := ⟨RX1, "many", "()I"⟩
def dkwX1_many_0 : List UInt8 := [42, 180, 0, 21, 185, 0, 54, 1, 0, 172]
abbrev dktX1_many_0 : List UInt8 := dkwX1_many_0 ++ []
theorem dksX1_many_0 : cX1_many.data.toList.drop 0 = dktX1_many_0 := by decide +kernel
theorem dX1_many_0 : decode cX1_many 0 = .ok (.aload_n 0, 1) := dk_42 (dk_at dksX1_many_0 0 rfl rfl)
theorem dX1_many_1 : decode cX1_many 1 = .ok (.getfield 21, 3) := dk_180 0 21 (dk_at dksX1_many_0 1 rfl rfl)
theorem dX1_many_4 : decode cX1_many 4 = .ok (.invokeinterface 54 1, 5) := by decide +kernel
theorem dX1_many_9 : decode cX1_many 9 = .ok (.ireturn, 1) := dk_172 (dk_at dksX1_many_0 9 rfl rfl)
abbrev cX1_phrases : ByteArray := prog_6_method_6_code
def yX1_phrases : MethodName := ⟨RX1, "phrases", "()I"⟩
def dkwX1_phrases_1 : List UInt8 := [4, 100, 185, 0, 64, 2, 0, 192, 0, 48, 180, 0, 71, 4, 96, 172]
abbrev dktX1_phrases_1 : List UInt8 := dkwX1_phrases_1 ++ []
def dkwX1_phrases_0 : List UInt8 := [42, 180, 0, 21, 185, 0, 58, 1, 0, 153, 0, 7, 3, 167, 0, 26, 42, 180, 0, 21, 42, 182, 0, 61]
abbrev dktX1_phrases_0 : List UInt8 := dkwX1_phrases_0 ++ dktX1_phrases_1
theorem dksX1_phrases_0 : cX1_phrases.data.toList.drop 0 = dktX1_phrases_0 := by decide +kernel
theorem dksX1_phrases_1 : cX1_phrases.data.toList.drop 24 = dktX1_phrases_1 := dk_seg dksX1_phrases_0 24 rfl rfl
theorem dX1_phrases_0 : decode cX1_phrases 0 = .ok (.aload_n 0, 1) := dk_42 (dk_at dksX1_phrases_0 0 rfl rfl)
theorem dX1_phrases_1 : decode cX1_phrases 1 = .ok (.getfield 21, 3) := dk_180 0 21 (dk_at dksX1_phrases_0 1 rfl rfl)
theorem dX1_phrases_4 : decode cX1_phrases 4 = .ok (.invokeinterface 58 1, 5) := by decide +kernel
theorem dX1_phrases_9 : decode cX1_phrases 9 = .ok (.ifCond .eq 7, 3) := dk_153 0 7 (dk_at dksX1_phrases_0 9 rfl rfl)
theorem dX1_phrases_12 : decode cX1_phrases 12 = .ok (.iconst 0, 1) := dk_3 (dk_at dksX1_phrases_0 12 rfl rfl)
theorem dX1_phrases_13 : decode cX1_phrases 13 = .ok (.goto 26, 3) := dk_167 0 26 (dk_at dksX1_phrases_0 13 rfl rfl)
theorem dX1_phrases_16 : decode cX1_phrases 16 = .ok (.aload_n 0, 1) := dk_42 (dk_at dksX1_phrases_0 16 rfl rfl)
theorem dX1_phrases_17 : decode cX1_phrases 17 = .ok (.getfield 21, 3) := dk_180 0 21 (dk_at dksX1_phrases_0 17 rfl rfl)
theorem dX1_phrases_20 : decode cX1_phrases 20 = .ok (.aload_n 0, 1) := dk_42 (dk_at dksX1_phrases_0 20 rfl rfl)
theorem dX1_phrases_21 : decode cX1_phrases 21 = .ok (.invokevirtual 61, 3) := dk_182 0 61 (dk_at dksX1_phrases_0 21 rfl rfl)
theorem dX1_phrases_24 : decode cX1_phrases 24 = .ok (.iconst 1, 1) := dk_4 (dk_at dksX1_phrases_1 0 rfl rfl)
theorem dX1_phrases_25 : decode cX1_phrases 25 = .ok (.isub, 1) := dk_100 (dk_at dksX1_phrases_1 1 rfl rfl)
theorem dX1_phrases_26 : decode cX1_phrases 26 = .ok (.invokeinterface 64 2, 5) := by decide +kernel
theorem dX1_phrases_31 : decode cX1_phrases 31 = .ok (.checkcast 48, 3) := dk_192 0 48 (dk_at dksX1_phrases_1 7 rfl rfl)
theorem dX1_phrases_34 : decode cX1_phrases 34 = .ok (.getfield 71, 3) := dk_180 0 71 (dk_at dksX1_phrases_1 10 rfl rfl)
theorem dX1_phrases_37 : decode cX1_phrases 37 = .ok (.iconst 1, 1) := dk_4 (dk_at dksX1_phrases_1 13 rfl rfl)
theorem dX1_phrases_38 : decode cX1_phrases 38 = .ok (.iadd, 1) := dk_96 (dk_at dksX1_phrases_1 14 rfl rfl)
theorem dX1_phrases_39 : decode cX1_phrases 39 = .ok (.ireturn, 1) := dk_172 (dk_at dksX1_phrases_1 15 rfl rfl)
abbrev cX1_at : ByteArray := prog_6_method_8_code
def yX1_at : MethodName := ⟨RX1, "at", "(I)LSungSlides$Syllable;"⟩
def dkwX1_at_2 : List UInt8 := [153, 0, 5, 45, 176, 167, 255, 218, 1, 176]
abbrev dktX1_at_2 : List UInt8 := dkwX1_at_2 ++ []
def dkwX1_at_1 : List UInt8 := [185, 0, 45, 1, 0, 192, 0, 48, 78, 27, 45, 180, 0, 103, 45, 182, 0, 68, 4, 100, 184, 0, 106]
abbrev dktX1_at_1 : List UInt8 := dkwX1_at_1 ++ dktX1_at_2
def dkwX1_at_0 : List UInt8 := [42, 180, 0, 21, 185, 0, 33, 1, 0, 77, 44, 185, 0, 39, 1, 0, 153, 0, 35, 44]
abbrev dktX1_at_0 : List UInt8 := dkwX1_at_0 ++ dktX1_at_1
theorem dksX1_at_0 : cX1_at.data.toList.drop 0 = dktX1_at_0 := by decide +kernel
theorem dksX1_at_1 : cX1_at.data.toList.drop 20 = dktX1_at_1 := dk_seg dksX1_at_0 20 rfl rfl
theorem dksX1_at_2 : cX1_at.data.toList.drop 43 = dktX1_at_2 := dk_seg dksX1_at_1 23 rfl rfl
theorem dX1_at_0 : decode cX1_at 0 = .ok (.aload_n 0, 1) := dk_42 (dk_at dksX1_at_0 0 rfl rfl)
theorem dX1_at_1 : decode cX1_at 1 = .ok (.getfield 21, 3) := dk_180 0 21 (dk_at dksX1_at_0 1 rfl rfl)
theorem dX1_at_4 : decode cX1_at 4 = .ok (.invokeinterface 33 1, 5) := by decide +kernel
theorem dX1_at_9 : decode cX1_at 9 = .ok (.astore_n 2, 1) := dk_77 (dk_at dksX1_at_0 9 rfl rfl)
theorem dX1_at_10 : decode cX1_at 10 = .ok (.aload_n 2, 1) := dk_44 (dk_at dksX1_at_0 10 rfl rfl)
theorem dX1_at_11 : decode cX1_at 11 = .ok (.invokeinterface 39 1, 5) := by decide +kernel
theorem dX1_at_16 : decode cX1_at 16 = .ok (.ifCond .eq 35, 3) := dk_153 0 35 (dk_at dksX1_at_0 16 rfl rfl)
theorem dX1_at_19 : decode cX1_at 19 = .ok (.aload_n 2, 1) := dk_44 (dk_at dksX1_at_0 19 rfl rfl)
theorem dX1_at_20 : decode cX1_at 20 = .ok (.invokeinterface 45 1, 5) := by decide +kernel
theorem dX1_at_25 : decode cX1_at 25 = .ok (.checkcast 48, 3) := dk_192 0 48 (dk_at dksX1_at_1 5 rfl rfl)
theorem dX1_at_28 : decode cX1_at 28 = .ok (.astore_n 3, 1) := dk_78 (dk_at dksX1_at_1 8 rfl rfl)
theorem dX1_at_29 : decode cX1_at 29 = .ok (.iload_n 1, 1) := dk_27 (dk_at dksX1_at_1 9 rfl rfl)
theorem dX1_at_30 : decode cX1_at 30 = .ok (.aload_n 3, 1) := dk_45 (dk_at dksX1_at_1 10 rfl rfl)
theorem dX1_at_31 : decode cX1_at 31 = .ok (.getfield 103, 3) := dk_180 0 103 (dk_at dksX1_at_1 11 rfl rfl)
theorem dX1_at_34 : decode cX1_at 34 = .ok (.aload_n 3, 1) := dk_45 (dk_at dksX1_at_1 14 rfl rfl)
theorem dX1_at_35 : decode cX1_at 35 = .ok (.invokevirtual 68, 3) := dk_182 0 68 (dk_at dksX1_at_1 15 rfl rfl)
theorem dX1_at_38 : decode cX1_at 38 = .ok (.iconst 1, 1) := dk_4 (dk_at dksX1_at_1 18 rfl rfl)
theorem dX1_at_39 : decode cX1_at 39 = .ok (.isub, 1) := dk_100 (dk_at dksX1_at_1 19 rfl rfl)
theorem dX1_at_40 : decode cX1_at 40 = .ok (.invokestatic 106, 3) := dk_184 0 106 (dk_at dksX1_at_1 20 rfl rfl)
theorem dX1_at_43 : decode cX1_at 43 = .ok (.ifCond .eq 5, 3) := dk_153 0 5 (dk_at dksX1_at_2 0 rfl rfl)
theorem dX1_at_46 : decode cX1_at 46 = .ok (.aload_n 3, 1) := dk_45 (dk_at dksX1_at_2 3 rfl rfl)
theorem dX1_at_47 : decode cX1_at 47 = .ok (.areturn, 1) := dk_176 (dk_at dksX1_at_2 4 rfl rfl)
theorem dX1_at_48 : decode cX1_at 48 = .ok (.goto (-38), 3) := dk_167 255 218 (dk_at dksX1_at_2 5 rfl rfl)
theorem dX1_at_51 : decode cX1_at 51 = .ok (.aconst_null, 1) := dk_1 (dk_at dksX1_at_2 8 rfl rfl)
theorem dX1_at_52 : decode cX1_at 52 = .ok (.areturn, 1) := dk_176 (dk_at dksX1_at_2 9 rfl rfl)
theorem q56 : (Jvm.Cond.initialized "SungSlides$Song") ∈ lw_all := lw_g (lw_at lw_m1 2 rfl) rfl
theorem q84 : (Jvm.Cond.instantiable "SungSlides$Song" (3 : Nat)) ∈ lw_all := lw_g (lw_at lw_m1 30 rfl) rfl
theorem q86 : (Jvm.Cond.instanceMethod ({ cls := "SungSlides$Song", name := "<init>", desc := "()V" } : Jvm.MethodName)) ∈ lw_all := lw_g (lw_at lw_m1 32 rfl) rfl
theorem q87 : (Jvm.Cond.code ({ cls := "SungSlides$Song", name := "<init>", desc := "()V" } : Jvm.MethodName) prog_6_method_1_code (2 : Nat) (Option.none : Option Jvm.ClassFile.FieldType)) ∈ lw_all := lw_g (lw_at lw_m1 33 rfl) rfl
theorem q88 : (Jvm.Cond.methodLink "SungSlides$Song" (3 : Nat) ({ cls := "SungSlides$Song", name := "<init>", desc := "([I[I)V" } : Jvm.MethodName)) ∈ lw_all := lw_g (lw_at lw_m1 34 rfl) rfl
theorem q89 : (Jvm.Cond.instanceMethod ({ cls := "SungSlides$Song", name := "<init>", desc := "([I[I)V" } : Jvm.MethodName)) ∈ lw_all := lw_g (lw_at lw_m1 35 rfl) rfl
theorem q90 : (Jvm.Cond.code ({ cls := "SungSlides$Song", name := "<init>", desc := "([I[I)V" } : Jvm.MethodName) prog_6_method_2_code (3 : Nat) (Option.none : Option Jvm.ClassFile.FieldType)) ∈ lw_all := lw_g (lw_at lw_m1 36 rfl) rfl
theorem q91 : (Jvm.Cond.methodLink "SungSlides$Song" (13 : Nat) ({ cls := "java/lang/Object", name := "<init>", desc := "()V" } : Jvm.MethodName)) ∈ lw_all := lw_g (lw_at lw_m1 37 rfl) rfl
theorem q92 : (Jvm.Cond.classLink "SungSlides$Song" (18 : Nat) "java/util/ArrayList") ∈ lw_all := lw_g (lw_at lw_m1 38 rfl) rfl
theorem q94 : (Jvm.Cond.methodLink "SungSlides$Song" (20 : Nat) ({ cls := "java/util/ArrayList", name := "<init>", desc := "()V" } : Jvm.MethodName)) ∈ lw_all := lw_g (lw_at lw_m1 40 rfl) rfl
theorem q122 : (Jvm.Cond.fieldLink "SungSlides$Song" (21 : Nat) "SungSlides$Song" "syllables" "Ljava/util/List;") ∈ lw_all := lw_g (lw_at lw_m1 68 rfl) rfl
theorem q125 : (Jvm.Cond.fieldLink "SungSlides$Song" (9 : Nat) "SungSlides$Song" "sung" "[I") ∈ lw_all := lw_g (lw_at lw_m1 71 rfl) rfl
theorem q127 : (Jvm.Cond.fieldLink "SungSlides$Song" (25 : Nat) "SungSlides$Song" "settings" "[I") ∈ lw_all := lw_g (lw_at lw_m1 73 rfl) rfl
theorem q130 : (Jvm.Cond.laysFinal "SungSlides$Song" "SungSlides$Song" "syllables" "Ljava/util/List;") ∈ lw_all := lw_g (lw_at lw_m1 76 rfl) rfl
theorem q131 : (Jvm.Cond.soleField "SungSlides$Song" "syllables") ∈ lw_all := lw_g (lw_at lw_m1 77 rfl) rfl
theorem q132 : (Jvm.Cond.laysFinal "SungSlides$Song" "SungSlides$Song" "sung" "[I") ∈ lw_all := lw_g (lw_at lw_m1 78 rfl) rfl
theorem q133 : (Jvm.Cond.soleField "SungSlides$Song" "sung") ∈ lw_all := lw_g (lw_at lw_m1 79 rfl) rfl
theorem q134 : (Jvm.Cond.laysFinal "SungSlides$Song" "SungSlides$Song" "settings" "[I") ∈ lw_all := lw_g (lw_at lw_m1 80 rfl) rfl
theorem q135 : (Jvm.Cond.soleField "SungSlides$Song" "settings") ∈ lw_all := lw_g (lw_at lw_m1 81 rfl) rfl
theorem q136 : (Jvm.Cond.superclass "SungSlides$Song" "java/lang/Object") ∈ lw_all := lw_g (lw_at lw_m1 82 rfl) rfl
theorem q170 : (Jvm.Cond.fieldLinkNest "SungSlides$Song" (76 : Nat) "SungSlides$Plan" "rest" "I" "SungSlides") ∈ lw_tbl := lw_at lw_m1 116 rfl
theorem q172 : (Jvm.Cond.fieldLinkNest "SungSlides$Song" (94 : Nat) "SungSlides$Plan" "pitch" "I" "SungSlides") ∈ lw_tbl := lw_at lw_m1 118 rfl
theorem q174 : (Jvm.Cond.fieldLinkNest "SungSlides$Song" (97 : Nat) "SungSlides$Plan" "endPitch" "I" "SungSlides") ∈ lw_tbl := lw_at lw_m1 120 rfl
theorem q176 : (Jvm.Cond.fieldLinkNest "SungSlides$Song" (81 : Nat) "SungSlides$Plan" "length" "I" "SungSlides") ∈ lw_tbl := lw_at lw_m1 122 rfl
theorem q178 : (Jvm.Cond.fieldLinkNest "SungSlides$Song" (87 : Nat) "SungSlides$Plan" "isFirst" "Z" "SungSlides") ∈ lw_tbl := lw_at lw_m1 124 rfl
theorem q202 : (Jvm.Cond.instanceMethod ({ cls := "SungSlides$Song", name := "copy", desc := "()LSungSlides$Song;" } : Jvm.MethodName)) ∈ lw_all := lw_g (lw_at lw_m1 148 rfl) rfl
theorem q203 : (Jvm.Cond.selects "SungSlides$Song" ({ cls := "SungSlides$Song", name := "copy", desc := "()LSungSlides$Song;" } : Jvm.MethodName) ({ cls := "SungSlides$Song", name := "copy", desc := "()LSungSlides$Song;" } : Jvm.MethodName)) ∈ lw_all := lw_g (lw_at lw_m1 149 rfl) rfl
theorem q204 : (Jvm.Cond.code ({ cls := "SungSlides$Song", name := "copy", desc := "()LSungSlides$Song;" } : Jvm.MethodName) prog_6_method_3_code (4 : Nat) (Option.some (Jvm.ClassFile.FieldType.object "SungSlides$Song"))) ∈ lw_all := lw_g (lw_at lw_m1 150 rfl) rfl
theorem q205 : (Jvm.Cond.classLink "SungSlides$Song" (4 : Nat) "SungSlides$Song") ∈ lw_all := lw_g (lw_at lw_m1 151 rfl) rfl
theorem q206 : (Jvm.Cond.methodLink "SungSlides$Song" (28 : Nat) ({ cls := "[I", name := "clone", desc := "()Ljava/lang/Object;" } : Jvm.MethodName)) ∈ lw_all := lw_g (lw_at lw_m1 152 rfl) rfl
theorem q212 : (Jvm.Cond.classLink "SungSlides$Song" (29 : Nat) "[I") ∈ lw_all := lw_g (lw_at lw_m1 158 rfl) rfl
theorem q213 : (Jvm.Cond.interfaceEntry "SungSlides$Song" (33 : Nat)) ∈ lw_tbl := lw_at lw_m1 159 rfl
theorem q214 : (Jvm.Cond.methodLink "SungSlides$Song" (33 : Nat) ({ cls := "java/util/List", name := "iterator", desc := "()Ljava/util/Iterator;" } : Jvm.MethodName)) ∈ lw_all := lw_g (lw_at lw_m1 160 rfl) rfl
theorem q242 : (Jvm.Cond.interfaceEntry "SungSlides$Song" (39 : Nat)) ∈ lw_tbl := lw_at lw_m1 188 rfl
theorem q243 : (Jvm.Cond.methodLink "SungSlides$Song" (39 : Nat) ({ cls := "java/util/Iterator", name := "hasNext", desc := "()Z" } : Jvm.MethodName)) ∈ lw_all := lw_g (lw_at lw_m1 189 rfl) rfl
theorem q252 : (Jvm.Cond.interfaceEntry "SungSlides$Song" (45 : Nat)) ∈ lw_tbl := lw_at lw_m1 198 rfl
theorem q253 : (Jvm.Cond.methodLink "SungSlides$Song" (45 : Nat) ({ cls := "java/util/Iterator", name := "next", desc := "()Ljava/lang/Object;" } : Jvm.MethodName)) ∈ lw_all := lw_g (lw_at lw_m1 199 rfl) rfl
theorem q265 : (Jvm.Cond.classLink "SungSlides$Song" (48 : Nat) "SungSlides$Syllable") ∈ lw_all := lw_g (lw_at lw_m1 211 rfl) rfl
theorem q266 : (Jvm.Cond.interfaceEntry "SungSlides$Song" (50 : Nat)) ∈ lw_tbl := lw_at lw_m1 212 rfl
theorem q267 : (Jvm.Cond.methodLink "SungSlides$Song" (50 : Nat) ({ cls := "java/util/List", name := "add", desc := "(Ljava/lang/Object;)Z" } : Jvm.MethodName)) ∈ lw_all := lw_g (lw_at lw_m1 213 rfl) rfl
theorem q308 : (Jvm.Cond.selects "SungSlides$Song" ({ cls := "java/lang/Object", name := "getClass", desc := "()Ljava/lang/Class;" } : Jvm.MethodName) ({ cls := "java/lang/Object", name := "getClass", desc := "()Ljava/lang/Class;" } : Jvm.MethodName)) ∈ lw_all := lw_g (lw_at lw_m2 14 rfl) rfl
theorem q329 : (Jvm.Cond.instanceMethod ({ cls := "SungSlides$Song", name := "add", desc := "(LSungSlides$Plan;)V" } : Jvm.MethodName)) ∈ lw_all := lw_g (lw_at lw_m2 35 rfl) rfl
theorem q330 : (Jvm.Cond.selects "SungSlides$Song" ({ cls := "SungSlides$Song", name := "add", desc := "(LSungSlides$Plan;)V" } : Jvm.MethodName) ({ cls := "SungSlides$Song", name := "add", desc := "(LSungSlides$Plan;)V" } : Jvm.MethodName)) ∈ lw_all := lw_g (lw_at lw_m2 36 rfl) rfl
theorem q331 : (Jvm.Cond.code ({ cls := "SungSlides$Song", name := "add", desc := "(LSungSlides$Plan;)V" } : Jvm.MethodName) prog_6_method_7_code (4 : Nat) (Option.none : Option Jvm.ClassFile.FieldType)) ∈ lw_all := lw_g (lw_at lw_m2 37 rfl) rfl
theorem q332 : (Jvm.Cond.methodLink "SungSlides$Song" (75 : Nat) ({ cls := "SungSlides$Song", name := "end", desc := "()I" } : Jvm.MethodName)) ∈ lw_all := lw_g (lw_at lw_m2 38 rfl) rfl
theorem q333 : (Jvm.Cond.instanceMethod ({ cls := "SungSlides$Song", name := "end", desc := "()I" } : Jvm.MethodName)) ∈ lw_all := lw_g (lw_at lw_m2 39 rfl) rfl
theorem q334 : (Jvm.Cond.selects "SungSlides$Song" ({ cls := "SungSlides$Song", name := "end", desc := "()I" } : Jvm.MethodName) ({ cls := "SungSlides$Song", name := "end", desc := "()I" } : Jvm.MethodName)) ∈ lw_all := lw_g (lw_at lw_m2 40 rfl) rfl
theorem q335 : (Jvm.Cond.code ({ cls := "SungSlides$Song", name := "end", desc := "()I" } : Jvm.MethodName) prog_6_method_5_code (1 : Nat) (Option.some Jvm.ClassFile.FieldType.int)) ∈ lw_all := lw_g (lw_at lw_m2 41 rfl) rfl
theorem q336 : (Jvm.Cond.interfaceEntry "SungSlides$Song" (58 : Nat)) ∈ lw_tbl := lw_at lw_m2 42 rfl
theorem q337 : (Jvm.Cond.methodLink "SungSlides$Song" (58 : Nat) ({ cls := "java/util/List", name := "isEmpty", desc := "()Z" } : Jvm.MethodName)) ∈ lw_all := lw_g (lw_at lw_m2 43 rfl) rfl
theorem q345 : (Jvm.Cond.methodLink "SungSlides$Song" (61 : Nat) ({ cls := "SungSlides$Song", name := "many", desc := "()I" } : Jvm.MethodName)) ∈ lw_all := lw_g (lw_at lw_m2 51 rfl) rfl
theorem q346 : (Jvm.Cond.instanceMethod ({ cls := "SungSlides$Song", name := "many", desc := "()I" } : Jvm.MethodName)) ∈ lw_all := lw_g (lw_at lw_m2 52 rfl) rfl
theorem q347 : (Jvm.Cond.selects "SungSlides$Song" ({ cls := "SungSlides$Song", name := "many", desc := "()I" } : Jvm.MethodName) ({ cls := "SungSlides$Song", name := "many", desc := "()I" } : Jvm.MethodName)) ∈ lw_all := lw_g (lw_at lw_m2 53 rfl) rfl
theorem q348 : (Jvm.Cond.code ({ cls := "SungSlides$Song", name := "many", desc := "()I" } : Jvm.MethodName) prog_6_method_4_code (1 : Nat) (Option.some Jvm.ClassFile.FieldType.int)) ∈ lw_all := lw_g (lw_at lw_m2 54 rfl) rfl
theorem q349 : (Jvm.Cond.interfaceEntry "SungSlides$Song" (54 : Nat)) ∈ lw_tbl := lw_at lw_m2 55 rfl
theorem q350 : (Jvm.Cond.methodLink "SungSlides$Song" (54 : Nat) ({ cls := "java/util/List", name := "size", desc := "()I" } : Jvm.MethodName)) ∈ lw_all := lw_g (lw_at lw_m2 56 rfl) rfl
theorem q358 : (Jvm.Cond.interfaceEntry "SungSlides$Song" (64 : Nat)) ∈ lw_tbl := lw_at lw_m2 64 rfl
theorem q359 : (Jvm.Cond.methodLink "SungSlides$Song" (64 : Nat) ({ cls := "java/util/List", name := "get", desc := "(I)Ljava/lang/Object;" } : Jvm.MethodName)) ∈ lw_all := lw_g (lw_at lw_m2 65 rfl) rfl
theorem q377 : (Jvm.Cond.methodLink "SungSlides$Song" (68 : Nat) ({ cls := "SungSlides$Syllable", name := "end", desc := "()I" } : Jvm.MethodName)) ∈ lw_all := lw_g (lw_at lw_m2 83 rfl) rfl
theorem q381 : (Jvm.Cond.classLink "SungSlides$Song" (84 : Nat) "SungSlides$NoRoom") ∈ lw_all := lw_g (lw_at lw_m2 87 rfl) rfl
theorem q418 : (Jvm.Cond.methodLinkNest "SungSlides$Song" (86 : Nat) ({ cls := "SungSlides$NoRoom", name := "<init>", desc := "()V" } : Jvm.MethodName) "SungSlides") ∈ lw_tbl := lw_at lw_m2 124 rfl
theorem q437 : (Jvm.Cond.methodLink "SungSlides$Song" (91 : Nat) ({ cls := "SungSlides$Song", name := "phrases", desc := "()I" } : Jvm.MethodName)) ∈ lw_all := lw_g (lw_at lw_m2 143 rfl) rfl
theorem q438 : (Jvm.Cond.instanceMethod ({ cls := "SungSlides$Song", name := "phrases", desc := "()I" } : Jvm.MethodName)) ∈ lw_all := lw_g (lw_at lw_m2 144 rfl) rfl
theorem q439 : (Jvm.Cond.selects "SungSlides$Song" ({ cls := "SungSlides$Song", name := "phrases", desc := "()I" } : Jvm.MethodName) ({ cls := "SungSlides$Song", name := "phrases", desc := "()I" } : Jvm.MethodName)) ∈ lw_all := lw_g (lw_at lw_m2 145 rfl) rfl
theorem q440 : (Jvm.Cond.code ({ cls := "SungSlides$Song", name := "phrases", desc := "()I" } : Jvm.MethodName) prog_6_method_6_code (1 : Nat) (Option.some Jvm.ClassFile.FieldType.int)) ∈ lw_all := lw_g (lw_at lw_m2 146 rfl) rfl
theorem q442 : (Jvm.Cond.methodLink "SungSlides$Song" (100 : Nat) ({ cls := "SungSlides$Syllable", name := "<init>", desc := "(IIIII)V" } : Jvm.MethodName)) ∈ lw_all := lw_g (lw_at lw_m2 148 rfl) rfl
theorem q449 : (Jvm.Cond.fieldLinkNest "SungSlides$Song" (103 : Nat) "SungSlides$Syllable" "begin" "I" "SungSlides") ∈ lw_tbl := lw_at lw_m2 155 rfl
theorem q458 : (Jvm.Cond.fieldLinkNest "SungSlides$Song" (71 : Nat) "SungSlides$Syllable" "phrase" "I" "SungSlides") ∈ lw_tbl := lw_at lw_m2 164 rfl
theorem q728 : (Jvm.Cond.instanceMethod ({ cls := "SungSlides$Song", name := "at", desc := "(I)LSungSlides$Syllable;" } : Jvm.MethodName)) ∈ lw_all := lw_g (lw_at lw_m3 194 rfl) rfl
theorem q729 : (Jvm.Cond.selects "SungSlides$Song" ({ cls := "SungSlides$Song", name := "at", desc := "(I)LSungSlides$Syllable;" } : Jvm.MethodName) ({ cls := "SungSlides$Song", name := "at", desc := "(I)LSungSlides$Syllable;" } : Jvm.MethodName)) ∈ lw_all := lw_g (lw_at lw_m3 195 rfl) rfl
theorem q730 : (Jvm.Cond.code ({ cls := "SungSlides$Song", name := "at", desc := "(I)LSungSlides$Syllable;" } : Jvm.MethodName) prog_6_method_8_code (4 : Nat) (Option.some (Jvm.ClassFile.FieldType.object "SungSlides$Syllable"))) ∈ lw_all := lw_g (lw_at lw_m3 196 rfl) rfl
theorem q731 : (Jvm.Cond.methodLinkNest "SungSlides$Song" (106 : Nat) ({ cls := "SungSlides", name := "isBetween", desc := "(III)Z" } : Jvm.MethodName) "SungSlides") ∈ lw_tbl := lw_at lw_m3 197 rfl
theorem q1111 : (Jvm.Cond.castable "SungSlides$Song" "java/lang/Object") ∈ lw_tbl := lw_at lw_m5 97 rfl
theorem in_X1 : ∀ w ∈ wsX10, w ∈ lw_all := lw_in wsX10 [130, 132, 134] (by decide +kernel) (by decide +kernel)
/-! SungSlides$Plan -/
set_option maxRecDepth 100000
def RX3 : String := "SungSlides$Plan"
def TX3 : u_T := fun k => match k with
  | 0 => ("SungSlides$Plan", "rest", "I", true)
  | 1 => ("SungSlides$Plan", "pitch", "I", true)
  | 2 => ("SungSlides$Plan", "endPitch", "I", true)
  | 3 => ("SungSlides$Plan", "length", "I", true)
  | _ => ("SungSlides$Plan", "isFirst", "Z", true)
def tyX3 : Nat → FieldType := fun k => match k with
  | 0 => .int
  | 1 => .int
  | 2 => .int
  | 3 => .int
  | _ => .boolean
abbrev wsX30 : List Cond := u_ws RX3 TX3 5
theorem nmX3 : ∀ a, a < 5 → ∀ b, b < 5 → a ≠ b → (TX3 a).2.1 ≠ (TX3 b).2.1 := by decide +kernel
theorem tyX3_ok : ∀ k, k < 5 → parseFieldDescriptor (TX3 k).2.2.1 = some (tyX3 k) := by decide +kernel
abbrev cX3_init : ByteArray := prog_4_method_1_code
def yX3_init : MethodName := ⟨RX3, "<init>", "(IIIIZ)V"⟩
def dkwX3_init_1 : List UInt8 := [181, 0, 21, 42, 21, 5, 181, 0, 24, 177]
abbrev dktX3_init_1 : List UInt8 := dkwX3_init_1 ++ []
def dkwX3_init_0 : List UInt8 := [42, 183, 0, 3, 42, 27, 181, 0, 9, 42, 28, 181, 0, 15, 42, 29, 181, 0, 18, 42, 21, 4]
abbrev dktX3_init_0 : List UInt8 := dkwX3_init_0 ++ dktX3_init_1
theorem dksX3_init_0 : cX3_init.data.toList.drop 0 = dktX3_init_0 := by decide +kernel
theorem dksX3_init_1 : cX3_init.data.toList.drop 22 = dktX3_init_1 := dk_seg dksX3_init_0 22 rfl rfl
theorem dX3_init_0 : decode cX3_init 0 = .ok (.aload_n 0, 1) := dk_42 (dk_at dksX3_init_0 0 rfl rfl)
theorem dX3_init_1 : decode cX3_init 1 = .ok (.invokespecial 3, 3) := dk_183 0 3 (dk_at dksX3_init_0 1 rfl rfl)
theorem dX3_init_4 : decode cX3_init 4 = .ok (.aload_n 0, 1) := dk_42 (dk_at dksX3_init_0 4 rfl rfl)
theorem dX3_init_5 : decode cX3_init 5 = .ok (.iload_n 1, 1) := dk_27 (dk_at dksX3_init_0 5 rfl rfl)
theorem dX3_init_6 : decode cX3_init 6 = .ok (.putfield 9, 3) := dk_181 0 9 (dk_at dksX3_init_0 6 rfl rfl)
theorem dX3_init_9 : decode cX3_init 9 = .ok (.aload_n 0, 1) := dk_42 (dk_at dksX3_init_0 9 rfl rfl)
theorem dX3_init_10 : decode cX3_init 10 = .ok (.iload_n 2, 1) := dk_28 (dk_at dksX3_init_0 10 rfl rfl)
theorem dX3_init_11 : decode cX3_init 11 = .ok (.putfield 15, 3) := dk_181 0 15 (dk_at dksX3_init_0 11 rfl rfl)
theorem dX3_init_14 : decode cX3_init 14 = .ok (.aload_n 0, 1) := dk_42 (dk_at dksX3_init_0 14 rfl rfl)
theorem dX3_init_15 : decode cX3_init 15 = .ok (.iload_n 3, 1) := dk_29 (dk_at dksX3_init_0 15 rfl rfl)
theorem dX3_init_16 : decode cX3_init 16 = .ok (.putfield 18, 3) := dk_181 0 18 (dk_at dksX3_init_0 16 rfl rfl)
theorem dX3_init_19 : decode cX3_init 19 = .ok (.aload_n 0, 1) := dk_42 (dk_at dksX3_init_0 19 rfl rfl)
theorem dX3_init_20 : decode cX3_init 20 = .ok (.iload 4, 2) := dk_21 4 (dk_at dksX3_init_0 20 rfl rfl)
theorem dX3_init_22 : decode cX3_init 22 = .ok (.putfield 21, 3) := dk_181 0 21 (dk_at dksX3_init_1 0 rfl rfl)
theorem dX3_init_25 : decode cX3_init 25 = .ok (.aload_n 0, 1) := dk_42 (dk_at dksX3_init_1 3 rfl rfl)
theorem dX3_init_26 : decode cX3_init 26 = .ok (.iload 5, 2) := dk_21 5 (dk_at dksX3_init_1 4 rfl rfl)
theorem dX3_init_28 : decode cX3_init 28 = .ok (.putfield 24, 3) := dk_181 0 24 (dk_at dksX3_init_1 6 rfl rfl)
theorem dX3_init_31 : decode cX3_init 31 = .ok (.return_, 1) := dk_177 (dk_at dksX3_init_1 9 rfl rfl)
abbrev cX3_isRight : ByteArray := prog_4_method_2_code
def yX3_isRight : MethodName := ⟨RX3, "isRight", "()Z"⟩
def dkwX3_isRight_2 : List UInt8 := [167, 0, 4, 3, 172]
abbrev dktX3_isRight_2 : List UInt8 := dkwX3_isRight_2 ++ []
def dkwX3_isRight_1 : List UInt8 := [180, 0, 18, 184, 0, 32, 153, 0, 20, 42, 180, 0, 21, 4, 16, 32, 184, 0, 28, 153, 0, 7, 4]
abbrev dktX3_isRight_1 : List UInt8 := dkwX3_isRight_1 ++ dktX3_isRight_2
def dkwX3_isRight_0 : List UInt8 := [42, 180, 0, 9, 3, 16, 32, 184, 0, 28, 153, 0, 40, 42, 180, 0, 15, 184, 0, 32, 153, 0, 30, 42]
abbrev dktX3_isRight_0 : List UInt8 := dkwX3_isRight_0 ++ dktX3_isRight_1
theorem dksX3_isRight_0 : cX3_isRight.data.toList.drop 0 = dktX3_isRight_0 := by decide +kernel
theorem dksX3_isRight_1 : cX3_isRight.data.toList.drop 24 = dktX3_isRight_1 := dk_seg dksX3_isRight_0 24 rfl rfl
theorem dksX3_isRight_2 : cX3_isRight.data.toList.drop 47 = dktX3_isRight_2 := dk_seg dksX3_isRight_1 23 rfl rfl
theorem dX3_isRight_0 : decode cX3_isRight 0 = .ok (.aload_n 0, 1) := dk_42 (dk_at dksX3_isRight_0 0 rfl rfl)
theorem dX3_isRight_1 : decode cX3_isRight 1 = .ok (.getfield 9, 3) := dk_180 0 9 (dk_at dksX3_isRight_0 1 rfl rfl)
theorem dX3_isRight_4 : decode cX3_isRight 4 = .ok (.iconst 0, 1) := dk_3 (dk_at dksX3_isRight_0 4 rfl rfl)
theorem dX3_isRight_5 : decode cX3_isRight 5 = .ok (.bipush 32, 2) := dk_16 32 (dk_at dksX3_isRight_0 5 rfl rfl)
theorem dX3_isRight_7 : decode cX3_isRight 7 = .ok (.invokestatic 28, 3) := dk_184 0 28 (dk_at dksX3_isRight_0 7 rfl rfl)
theorem dX3_isRight_10 : decode cX3_isRight 10 = .ok (.ifCond .eq 40, 3) := dk_153 0 40 (dk_at dksX3_isRight_0 10 rfl rfl)
theorem dX3_isRight_13 : decode cX3_isRight 13 = .ok (.aload_n 0, 1) := dk_42 (dk_at dksX3_isRight_0 13 rfl rfl)
theorem dX3_isRight_14 : decode cX3_isRight 14 = .ok (.getfield 15, 3) := dk_180 0 15 (dk_at dksX3_isRight_0 14 rfl rfl)
theorem dX3_isRight_17 : decode cX3_isRight 17 = .ok (.invokestatic 32, 3) := dk_184 0 32 (dk_at dksX3_isRight_0 17 rfl rfl)
theorem dX3_isRight_20 : decode cX3_isRight 20 = .ok (.ifCond .eq 30, 3) := dk_153 0 30 (dk_at dksX3_isRight_0 20 rfl rfl)
theorem dX3_isRight_23 : decode cX3_isRight 23 = .ok (.aload_n 0, 1) := dk_42 (dk_at dksX3_isRight_0 23 rfl rfl)
theorem dX3_isRight_24 : decode cX3_isRight 24 = .ok (.getfield 18, 3) := dk_180 0 18 (dk_at dksX3_isRight_1 0 rfl rfl)
theorem dX3_isRight_27 : decode cX3_isRight 27 = .ok (.invokestatic 32, 3) := dk_184 0 32 (dk_at dksX3_isRight_1 3 rfl rfl)
theorem dX3_isRight_30 : decode cX3_isRight 30 = .ok (.ifCond .eq 20, 3) := dk_153 0 20 (dk_at dksX3_isRight_1 6 rfl rfl)
theorem dX3_isRight_33 : decode cX3_isRight 33 = .ok (.aload_n 0, 1) := dk_42 (dk_at dksX3_isRight_1 9 rfl rfl)
theorem dX3_isRight_34 : decode cX3_isRight 34 = .ok (.getfield 21, 3) := dk_180 0 21 (dk_at dksX3_isRight_1 10 rfl rfl)
theorem dX3_isRight_37 : decode cX3_isRight 37 = .ok (.iconst 1, 1) := dk_4 (dk_at dksX3_isRight_1 13 rfl rfl)
theorem dX3_isRight_38 : decode cX3_isRight 38 = .ok (.bipush 32, 2) := dk_16 32 (dk_at dksX3_isRight_1 14 rfl rfl)
theorem dX3_isRight_40 : decode cX3_isRight 40 = .ok (.invokestatic 28, 3) := dk_184 0 28 (dk_at dksX3_isRight_1 16 rfl rfl)
theorem dX3_isRight_43 : decode cX3_isRight 43 = .ok (.ifCond .eq 7, 3) := dk_153 0 7 (dk_at dksX3_isRight_1 19 rfl rfl)
theorem dX3_isRight_46 : decode cX3_isRight 46 = .ok (.iconst 1, 1) := dk_4 (dk_at dksX3_isRight_1 22 rfl rfl)
theorem dX3_isRight_47 : decode cX3_isRight 47 = .ok (.goto 4, 3) := dk_167 0 4 (dk_at dksX3_isRight_2 0 rfl rfl)
theorem dX3_isRight_50 : decode cX3_isRight 50 = .ok (.iconst 0, 1) := dk_3 (dk_at dksX3_isRight_2 3 rfl rfl)
theorem dX3_isRight_51 : decode cX3_isRight 51 = .ok (.ireturn, 1) := dk_172 (dk_at dksX3_isRight_2 4 rfl rfl)
theorem q61 : (Jvm.Cond.initialized "SungSlides$Plan") ∈ lw_all := lw_g (lw_at lw_m1 7 rfl) rfl
theorem q164 : (Jvm.Cond.instantiable "SungSlides$Plan" (5 : Nat)) ∈ lw_all := lw_g (lw_at lw_m1 110 rfl) rfl
theorem q166 : (Jvm.Cond.instanceMethod ({ cls := "SungSlides$Plan", name := "<init>", desc := "(IIIIZ)V" } : Jvm.MethodName)) ∈ lw_all := lw_g (lw_at lw_m1 112 rfl) rfl
theorem q167 : (Jvm.Cond.code ({ cls := "SungSlides$Plan", name := "<init>", desc := "(IIIIZ)V" } : Jvm.MethodName) prog_4_method_1_code (6 : Nat) (Option.none : Option Jvm.ClassFile.FieldType)) ∈ lw_all := lw_g (lw_at lw_m1 113 rfl) rfl
theorem q168 : (Jvm.Cond.methodLink "SungSlides$Plan" (3 : Nat) ({ cls := "java/lang/Object", name := "<init>", desc := "()V" } : Jvm.MethodName)) ∈ lw_all := lw_g (lw_at lw_m1 114 rfl) rfl
theorem q169 : (Jvm.Cond.fieldLink "SungSlides$Plan" (9 : Nat) "SungSlides$Plan" "rest" "I") ∈ lw_all := lw_g (lw_at lw_m1 115 rfl) rfl
theorem q171 : (Jvm.Cond.fieldLink "SungSlides$Plan" (15 : Nat) "SungSlides$Plan" "pitch" "I") ∈ lw_all := lw_g (lw_at lw_m1 117 rfl) rfl
theorem q173 : (Jvm.Cond.fieldLink "SungSlides$Plan" (18 : Nat) "SungSlides$Plan" "endPitch" "I") ∈ lw_all := lw_g (lw_at lw_m1 119 rfl) rfl
theorem q175 : (Jvm.Cond.fieldLink "SungSlides$Plan" (21 : Nat) "SungSlides$Plan" "length" "I") ∈ lw_all := lw_g (lw_at lw_m1 121 rfl) rfl
theorem q177 : (Jvm.Cond.fieldLink "SungSlides$Plan" (24 : Nat) "SungSlides$Plan" "isFirst" "Z") ∈ lw_all := lw_g (lw_at lw_m1 123 rfl) rfl
theorem q179 : (Jvm.Cond.laysFinal "SungSlides$Plan" "SungSlides$Plan" "rest" "I") ∈ lw_all := lw_g (lw_at lw_m1 125 rfl) rfl
theorem q180 : (Jvm.Cond.soleField "SungSlides$Plan" "rest") ∈ lw_all := lw_g (lw_at lw_m1 126 rfl) rfl
theorem q181 : (Jvm.Cond.laysFinal "SungSlides$Plan" "SungSlides$Plan" "pitch" "I") ∈ lw_all := lw_g (lw_at lw_m1 127 rfl) rfl
theorem q182 : (Jvm.Cond.soleField "SungSlides$Plan" "pitch") ∈ lw_all := lw_g (lw_at lw_m1 128 rfl) rfl
theorem q183 : (Jvm.Cond.laysFinal "SungSlides$Plan" "SungSlides$Plan" "endPitch" "I") ∈ lw_all := lw_g (lw_at lw_m1 129 rfl) rfl
theorem q184 : (Jvm.Cond.soleField "SungSlides$Plan" "endPitch") ∈ lw_all := lw_g (lw_at lw_m1 130 rfl) rfl
theorem q185 : (Jvm.Cond.laysFinal "SungSlides$Plan" "SungSlides$Plan" "length" "I") ∈ lw_all := lw_g (lw_at lw_m1 131 rfl) rfl
theorem q186 : (Jvm.Cond.soleField "SungSlides$Plan" "length") ∈ lw_all := lw_g (lw_at lw_m1 132 rfl) rfl
theorem q187 : (Jvm.Cond.laysFinal "SungSlides$Plan" "SungSlides$Plan" "isFirst" "Z") ∈ lw_all := lw_g (lw_at lw_m1 133 rfl) rfl
theorem q188 : (Jvm.Cond.soleField "SungSlides$Plan" "isFirst") ∈ lw_all := lw_g (lw_at lw_m1 134 rfl) rfl
theorem q189 : (Jvm.Cond.superclass "SungSlides$Plan" "java/lang/Object") ∈ lw_all := lw_g (lw_at lw_m1 135 rfl) rfl
theorem q191 : (Jvm.Cond.instanceMethod ({ cls := "SungSlides$Plan", name := "isRight", desc := "()Z" } : Jvm.MethodName)) ∈ lw_all := lw_g (lw_at lw_m1 137 rfl) rfl
theorem q192 : (Jvm.Cond.selects "SungSlides$Plan" ({ cls := "SungSlides$Plan", name := "isRight", desc := "()Z" } : Jvm.MethodName) ({ cls := "SungSlides$Plan", name := "isRight", desc := "()Z" } : Jvm.MethodName)) ∈ lw_all := lw_g (lw_at lw_m1 138 rfl) rfl
theorem q193 : (Jvm.Cond.code ({ cls := "SungSlides$Plan", name := "isRight", desc := "()Z" } : Jvm.MethodName) prog_4_method_2_code (1 : Nat) (Option.some Jvm.ClassFile.FieldType.boolean)) ∈ lw_all := lw_g (lw_at lw_m1 139 rfl) rfl
theorem q194 : (Jvm.Cond.methodLinkNest "SungSlides$Plan" (28 : Nat) ({ cls := "SungSlides", name := "isBetween", desc := "(III)Z" } : Jvm.MethodName) "SungSlides") ∈ lw_tbl := lw_at lw_m1 140 rfl
theorem q197 : (Jvm.Cond.methodLinkNest "SungSlides$Plan" (32 : Nat) ({ cls := "SungSlides", name := "isPitch", desc := "(I)Z" } : Jvm.MethodName) "SungSlides") ∈ lw_tbl := lw_at lw_m1 143 rfl
theorem q306 : (Jvm.Cond.selects "SungSlides$Plan" ({ cls := "java/lang/Object", name := "getClass", desc := "()Ljava/lang/Class;" } : Jvm.MethodName) ({ cls := "java/lang/Object", name := "getClass", desc := "()Ljava/lang/Class;" } : Jvm.MethodName)) ∈ lw_all := lw_g (lw_at lw_m2 12 rfl) rfl
theorem q1114 : (Jvm.Cond.castable "SungSlides$Plan" "java/lang/Object") ∈ lw_tbl := lw_at lw_m5 100 rfl
theorem in_X3 : ∀ w ∈ wsX30, w ∈ lw_all := lw_in wsX30 [179, 181, 183, 185, 187] (by decide +kernel) (by decide +kernel)
/-! SungSlides$NoRoom -/
set_option maxRecDepth 100000
def RX4 : String := "SungSlides$NoRoom"
def TX4 : u_T := fun k => match k with
  | 0 => ("java/lang/Throwable", "cause", "Ljava/lang/Throwable;", false)
  | 1 => ("java/lang/Throwable", "stackTrace", "[Ljava/lang/StackTraceElement;", false)
  | 2 => ("java/lang/Throwable", "suppressedExceptions", "Ljava/util/List;", false)
  | 3 => ("java/lang/Throwable", "detailMessage", "Ljava/lang/String;", false)
  | 4 => ("java/lang/Throwable", "backtrace", "Ljava/lang/Object;", false)
  | _ => ("java/lang/Throwable", "depth", "I", false)
def tyX4 : Nat → FieldType := fun k => match k with
  | 0 => .object "java/lang/Throwable"
  | 1 => .array (.object "java/lang/StackTraceElement")
  | 2 => .object "java/util/List"
  | 3 => .object "java/lang/String"
  | 4 => .object "java/lang/Object"
  | _ => .int
abbrev wsX40 : List Cond := u_ws RX4 TX4 6
theorem nmX4 : ∀ a, a < 6 → ∀ b, b < 6 → a ≠ b → (TX4 a).2.1 ≠ (TX4 b).2.1 := by decide +kernel
theorem tyX4_ok : ∀ k, k < 6 → parseFieldDescriptor (TX4 k).2.2.1 = some (tyX4 k) := by decide +kernel
abbrev cX4_init : ByteArray := prog_3_method_1_code
def yX4_init : MethodName := ⟨RX4, "<init>", "()V"⟩
theorem dX4_init_0 : decode cX4_init 0 = .ok (.aload_n 0, 1) := by decide +kernel
theorem dX4_init_1 : decode cX4_init 1 = .ok (.invokespecial 1, 3) := by decide +kernel
theorem dX4_init_4 : decode cX4_init 4 = .ok (.return_, 1) := by decide +kernel
theorem q71 : (Jvm.Cond.initialized "SungSlides$NoRoom") ∈ lw_all := lw_g (lw_at lw_m1 17 rfl) rfl
theorem q305 : (Jvm.Cond.selects "SungSlides$NoRoom" ({ cls := "java/lang/Object", name := "getClass", desc := "()Ljava/lang/Class;" } : Jvm.MethodName) ({ cls := "java/lang/Object", name := "getClass", desc := "()Ljava/lang/Class;" } : Jvm.MethodName)) ∈ lw_all := lw_g (lw_at lw_m2 11 rfl) rfl
theorem q382 : (Jvm.Cond.instantiable "SungSlides$NoRoom" (6 : Nat)) ∈ lw_all := lw_g (lw_at lw_m2 88 rfl) rfl
theorem q383 : (Jvm.Cond.castable "SungSlides$NoRoom" "SungSlides$NoRoom") ∈ lw_tbl := lw_at lw_m2 89 rfl
theorem q388 : (Jvm.Cond.selects "SungSlides$NoRoom" ({ cls := "java/lang/Throwable", name := "fillInStackTrace", desc := "(I)Ljava/lang/Throwable;" } : Jvm.MethodName) ({ cls := "java/lang/Throwable", name := "fillInStackTrace", desc := "(I)Ljava/lang/Throwable;" } : Jvm.MethodName)) ∈ lw_all := lw_g (lw_at lw_m2 94 rfl) rfl
theorem q389 : (Jvm.Cond.selects "SungSlides$NoRoom" ({ cls := "java/lang/Throwable", name := "fillInStackTrace", desc := "()Ljava/lang/Throwable;" } : Jvm.MethodName) ({ cls := "java/lang/Throwable", name := "fillInStackTrace", desc := "()Ljava/lang/Throwable;" } : Jvm.MethodName)) ∈ lw_all := lw_g (lw_at lw_m2 95 rfl) rfl
theorem q390 : (Jvm.Cond.lays "SungSlides$NoRoom" "java/lang/Throwable" "cause" "Ljava/lang/Throwable;") ∈ lw_all := lw_g (lw_at lw_m2 96 rfl) rfl
theorem q392 : (Jvm.Cond.lays "SungSlides$NoRoom" "java/lang/Throwable" "stackTrace" "[Ljava/lang/StackTraceElement;") ∈ lw_all := lw_g (lw_at lw_m2 98 rfl) rfl
theorem q394 : (Jvm.Cond.lays "SungSlides$NoRoom" "java/lang/Throwable" "suppressedExceptions" "Ljava/util/List;") ∈ lw_all := lw_g (lw_at lw_m2 100 rfl) rfl
theorem q396 : (Jvm.Cond.lays "SungSlides$NoRoom" "java/lang/Throwable" "detailMessage" "Ljava/lang/String;") ∈ lw_all := lw_g (lw_at lw_m2 102 rfl) rfl
theorem q398 : (Jvm.Cond.lays "SungSlides$NoRoom" "java/lang/Throwable" "backtrace" "Ljava/lang/Object;") ∈ lw_all := lw_g (lw_at lw_m2 104 rfl) rfl
theorem q419 : (Jvm.Cond.instanceMethod ({ cls := "SungSlides$NoRoom", name := "<init>", desc := "()V" } : Jvm.MethodName)) ∈ lw_all := lw_g (lw_at lw_m2 125 rfl) rfl
theorem q420 : (Jvm.Cond.code ({ cls := "SungSlides$NoRoom", name := "<init>", desc := "()V" } : Jvm.MethodName) prog_3_method_1_code (1 : Nat) (Option.none : Option Jvm.ClassFile.FieldType)) ∈ lw_all := lw_g (lw_at lw_m2 126 rfl) rfl
theorem q421 : (Jvm.Cond.methodLink "SungSlides$NoRoom" (1 : Nat) ({ cls := "java/lang/Exception", name := "<init>", desc := "()V" } : Jvm.MethodName)) ∈ lw_all := lw_g (lw_at lw_m2 127 rfl) rfl
theorem q433 : (Jvm.Cond.lays "SungSlides$NoRoom" "java/lang/Throwable" "depth" "I") ∈ lw_all := lw_g (lw_at lw_m2 139 rfl) rfl
theorem q436 : (Jvm.Cond.superclass "SungSlides$NoRoom" "java/lang/Exception") ∈ lw_all := lw_g (lw_at lw_m2 142 rfl) rfl
theorem q1116 : (Jvm.Cond.castable "SungSlides$NoRoom" "java/lang/Object") ∈ lw_tbl := lw_at lw_m5 102 rfl
theorem in_X4 : ∀ w ∈ wsX40, w ∈ lw_all := lw_in wsX40 [390, 392, 394, 396, 398, 433] (by decide +kernel) (by decide +kernel)
/-! SungSlides$Syllable -/
set_option maxRecDepth 100000
def RX5 : String := "SungSlides$Syllable"
def TX5 : u_T := fun k => match k with
  | 0 => ("SungSlides$Syllable", "begin", "I", true)
  | 1 => ("SungSlides$Syllable", "length", "I", true)
  | 2 => ("SungSlides$Syllable", "pitch", "I", true)
  | 3 => ("SungSlides$Syllable", "endPitch", "I", true)
  | _ => ("SungSlides$Syllable", "phrase", "I", true)
def tyX5 : Nat → FieldType := fun k => match k with
  | 0 => .int
  | 1 => .int
  | 2 => .int
  | 3 => .int
  | _ => .int
abbrev wsX50 : List Cond := u_ws RX5 TX5 5
theorem nmX5 : ∀ a, a < 5 → ∀ b, b < 5 → a ≠ b → (TX5 a).2.1 ≠ (TX5 b).2.1 := by decide +kernel
theorem tyX5_ok : ∀ k, k < 5 → parseFieldDescriptor (TX5 k).2.2.1 = some (tyX5 k) := by decide +kernel
abbrev cX5_end : ByteArray := prog_7_method_2_code
def yX5_end : MethodName := ⟨RX5, "end", "()I"⟩
def dkwX5_end_0 : List UInt8 := [42, 180, 0, 7, 42, 180, 0, 13, 96, 172]
abbrev dktX5_end_0 : List UInt8 := dkwX5_end_0 ++ []
theorem dksX5_end_0 : cX5_end.data.toList.drop 0 = dktX5_end_0 := by decide +kernel
theorem dX5_end_0 : decode cX5_end 0 = .ok (.aload_n 0, 1) := dk_42 (dk_at dksX5_end_0 0 rfl rfl)
theorem dX5_end_1 : decode cX5_end 1 = .ok (.getfield 7, 3) := dk_180 0 7 (dk_at dksX5_end_0 1 rfl rfl)
theorem dX5_end_4 : decode cX5_end 4 = .ok (.aload_n 0, 1) := dk_42 (dk_at dksX5_end_0 4 rfl rfl)
theorem dX5_end_5 : decode cX5_end 5 = .ok (.getfield 13, 3) := dk_180 0 13 (dk_at dksX5_end_0 5 rfl rfl)
theorem dX5_end_8 : decode cX5_end 8 = .ok (.iadd, 1) := dk_96 (dk_at dksX5_end_0 8 rfl rfl)
theorem dX5_end_9 : decode cX5_end 9 = .ok (.ireturn, 1) := dk_172 (dk_at dksX5_end_0 9 rfl rfl)
abbrev cX5_init : ByteArray := prog_7_method_1_code
def yX5_init : MethodName := ⟨RX5, "<init>", "(IIIII)V"⟩
def dkwX5_init_1 : List UInt8 := [181, 0, 19, 42, 21, 5, 181, 0, 22, 177]
abbrev dktX5_init_1 : List UInt8 := dkwX5_init_1 ++ []
def dkwX5_init_0 : List UInt8 := [42, 183, 0, 1, 42, 27, 181, 0, 7, 42, 28, 181, 0, 13, 42, 29, 181, 0, 16, 42, 21, 4]
abbrev dktX5_init_0 : List UInt8 := dkwX5_init_0 ++ dktX5_init_1
theorem dksX5_init_0 : cX5_init.data.toList.drop 0 = dktX5_init_0 := by decide +kernel
theorem dksX5_init_1 : cX5_init.data.toList.drop 22 = dktX5_init_1 := dk_seg dksX5_init_0 22 rfl rfl
theorem dX5_init_0 : decode cX5_init 0 = .ok (.aload_n 0, 1) := dk_42 (dk_at dksX5_init_0 0 rfl rfl)
theorem dX5_init_1 : decode cX5_init 1 = .ok (.invokespecial 1, 3) := dk_183 0 1 (dk_at dksX5_init_0 1 rfl rfl)
theorem dX5_init_4 : decode cX5_init 4 = .ok (.aload_n 0, 1) := dk_42 (dk_at dksX5_init_0 4 rfl rfl)
theorem dX5_init_5 : decode cX5_init 5 = .ok (.iload_n 1, 1) := dk_27 (dk_at dksX5_init_0 5 rfl rfl)
theorem dX5_init_6 : decode cX5_init 6 = .ok (.putfield 7, 3) := dk_181 0 7 (dk_at dksX5_init_0 6 rfl rfl)
theorem dX5_init_9 : decode cX5_init 9 = .ok (.aload_n 0, 1) := dk_42 (dk_at dksX5_init_0 9 rfl rfl)
theorem dX5_init_10 : decode cX5_init 10 = .ok (.iload_n 2, 1) := dk_28 (dk_at dksX5_init_0 10 rfl rfl)
theorem dX5_init_11 : decode cX5_init 11 = .ok (.putfield 13, 3) := dk_181 0 13 (dk_at dksX5_init_0 11 rfl rfl)
theorem dX5_init_14 : decode cX5_init 14 = .ok (.aload_n 0, 1) := dk_42 (dk_at dksX5_init_0 14 rfl rfl)
theorem dX5_init_15 : decode cX5_init 15 = .ok (.iload_n 3, 1) := dk_29 (dk_at dksX5_init_0 15 rfl rfl)
theorem dX5_init_16 : decode cX5_init 16 = .ok (.putfield 16, 3) := dk_181 0 16 (dk_at dksX5_init_0 16 rfl rfl)
theorem dX5_init_19 : decode cX5_init 19 = .ok (.aload_n 0, 1) := dk_42 (dk_at dksX5_init_0 19 rfl rfl)
theorem dX5_init_20 : decode cX5_init 20 = .ok (.iload 4, 2) := dk_21 4 (dk_at dksX5_init_0 20 rfl rfl)
theorem dX5_init_22 : decode cX5_init 22 = .ok (.putfield 19, 3) := dk_181 0 19 (dk_at dksX5_init_1 0 rfl rfl)
theorem dX5_init_25 : decode cX5_init 25 = .ok (.aload_n 0, 1) := dk_42 (dk_at dksX5_init_1 3 rfl rfl)
theorem dX5_init_26 : decode cX5_init 26 = .ok (.iload 5, 2) := dk_21 5 (dk_at dksX5_init_1 4 rfl rfl)
theorem dX5_init_28 : decode cX5_init 28 = .ok (.putfield 22, 3) := dk_181 0 22 (dk_at dksX5_init_1 6 rfl rfl)
theorem dX5_init_31 : decode cX5_init 31 = .ok (.return_, 1) := dk_177 (dk_at dksX5_init_1 9 rfl rfl)
abbrev cX5_wanted : ByteArray := prog_7_method_3_code
def yX5_wanted : MethodName := ⟨RX5, "wanted", "(I)I"⟩
def dkwX5_wanted_1 : List UInt8 := [180, 0, 16, 100, 27, 42, 180, 0, 7, 100, 104, 42, 180, 0, 13, 4, 100, 108, 96, 172]
abbrev dktX5_wanted_1 : List UInt8 := dkwX5_wanted_1 ++ []
def dkwX5_wanted_0 : List UInt8 := [42, 180, 0, 13, 4, 160, 0, 10, 42, 180, 0, 16, 167, 0, 31, 42, 180, 0, 16, 42, 180, 0, 19, 42]
abbrev dktX5_wanted_0 : List UInt8 := dkwX5_wanted_0 ++ dktX5_wanted_1
theorem dksX5_wanted_0 : cX5_wanted.data.toList.drop 0 = dktX5_wanted_0 := by decide +kernel
theorem dksX5_wanted_1 : cX5_wanted.data.toList.drop 24 = dktX5_wanted_1 := dk_seg dksX5_wanted_0 24 rfl rfl
theorem dX5_wanted_0 : decode cX5_wanted 0 = .ok (.aload_n 0, 1) := dk_42 (dk_at dksX5_wanted_0 0 rfl rfl)
theorem dX5_wanted_1 : decode cX5_wanted 1 = .ok (.getfield 13, 3) := dk_180 0 13 (dk_at dksX5_wanted_0 1 rfl rfl)
theorem dX5_wanted_4 : decode cX5_wanted 4 = .ok (.iconst 1, 1) := dk_4 (dk_at dksX5_wanted_0 4 rfl rfl)
theorem dX5_wanted_5 : decode cX5_wanted 5 = .ok (.if_icmp .ne 10, 3) := dk_160 0 10 (dk_at dksX5_wanted_0 5 rfl rfl)
theorem dX5_wanted_8 : decode cX5_wanted 8 = .ok (.aload_n 0, 1) := dk_42 (dk_at dksX5_wanted_0 8 rfl rfl)
theorem dX5_wanted_9 : decode cX5_wanted 9 = .ok (.getfield 16, 3) := dk_180 0 16 (dk_at dksX5_wanted_0 9 rfl rfl)
theorem dX5_wanted_12 : decode cX5_wanted 12 = .ok (.goto 31, 3) := dk_167 0 31 (dk_at dksX5_wanted_0 12 rfl rfl)
theorem dX5_wanted_15 : decode cX5_wanted 15 = .ok (.aload_n 0, 1) := dk_42 (dk_at dksX5_wanted_0 15 rfl rfl)
theorem dX5_wanted_16 : decode cX5_wanted 16 = .ok (.getfield 16, 3) := dk_180 0 16 (dk_at dksX5_wanted_0 16 rfl rfl)
theorem dX5_wanted_19 : decode cX5_wanted 19 = .ok (.aload_n 0, 1) := dk_42 (dk_at dksX5_wanted_0 19 rfl rfl)
theorem dX5_wanted_20 : decode cX5_wanted 20 = .ok (.getfield 19, 3) := dk_180 0 19 (dk_at dksX5_wanted_0 20 rfl rfl)
theorem dX5_wanted_23 : decode cX5_wanted 23 = .ok (.aload_n 0, 1) := dk_42 (dk_at dksX5_wanted_0 23 rfl rfl)
theorem dX5_wanted_24 : decode cX5_wanted 24 = .ok (.getfield 16, 3) := dk_180 0 16 (dk_at dksX5_wanted_1 0 rfl rfl)
theorem dX5_wanted_27 : decode cX5_wanted 27 = .ok (.isub, 1) := dk_100 (dk_at dksX5_wanted_1 3 rfl rfl)
theorem dX5_wanted_28 : decode cX5_wanted 28 = .ok (.iload_n 1, 1) := dk_27 (dk_at dksX5_wanted_1 4 rfl rfl)
theorem dX5_wanted_29 : decode cX5_wanted 29 = .ok (.aload_n 0, 1) := dk_42 (dk_at dksX5_wanted_1 5 rfl rfl)
theorem dX5_wanted_30 : decode cX5_wanted 30 = .ok (.getfield 7, 3) := dk_180 0 7 (dk_at dksX5_wanted_1 6 rfl rfl)
theorem dX5_wanted_33 : decode cX5_wanted 33 = .ok (.isub, 1) := dk_100 (dk_at dksX5_wanted_1 9 rfl rfl)
theorem dX5_wanted_34 : decode cX5_wanted 34 = .ok (.imul, 1) := dk_104 (dk_at dksX5_wanted_1 10 rfl rfl)
theorem dX5_wanted_35 : decode cX5_wanted 35 = .ok (.aload_n 0, 1) := dk_42 (dk_at dksX5_wanted_1 11 rfl rfl)
theorem dX5_wanted_36 : decode cX5_wanted 36 = .ok (.getfield 13, 3) := dk_180 0 13 (dk_at dksX5_wanted_1 12 rfl rfl)
theorem dX5_wanted_39 : decode cX5_wanted 39 = .ok (.iconst 1, 1) := dk_4 (dk_at dksX5_wanted_1 15 rfl rfl)
theorem dX5_wanted_40 : decode cX5_wanted 40 = .ok (.isub, 1) := dk_100 (dk_at dksX5_wanted_1 16 rfl rfl)
theorem dX5_wanted_41 : decode cX5_wanted 41 = .ok (.idiv, 1) := dk_108 (dk_at dksX5_wanted_1 17 rfl rfl)
theorem dX5_wanted_42 : decode cX5_wanted 42 = .ok (.iadd, 1) := dk_96 (dk_at dksX5_wanted_1 18 rfl rfl)
theorem dX5_wanted_43 : decode cX5_wanted 43 = .ok (.ireturn, 1) := dk_172 (dk_at dksX5_wanted_1 19 rfl rfl)
theorem q72 : (Jvm.Cond.initialized "SungSlides$Syllable") ∈ lw_all := lw_g (lw_at lw_m1 18 rfl) rfl
theorem q309 : (Jvm.Cond.selects "SungSlides$Syllable" ({ cls := "java/lang/Object", name := "getClass", desc := "()Ljava/lang/Class;" } : Jvm.MethodName) ({ cls := "java/lang/Object", name := "getClass", desc := "()Ljava/lang/Class;" } : Jvm.MethodName)) ∈ lw_all := lw_g (lw_at lw_m2 15 rfl) rfl
theorem q378 : (Jvm.Cond.instanceMethod ({ cls := "SungSlides$Syllable", name := "end", desc := "()I" } : Jvm.MethodName)) ∈ lw_all := lw_g (lw_at lw_m2 84 rfl) rfl
theorem q379 : (Jvm.Cond.selects "SungSlides$Syllable" ({ cls := "SungSlides$Syllable", name := "end", desc := "()I" } : Jvm.MethodName) ({ cls := "SungSlides$Syllable", name := "end", desc := "()I" } : Jvm.MethodName)) ∈ lw_all := lw_g (lw_at lw_m2 85 rfl) rfl
theorem q380 : (Jvm.Cond.code ({ cls := "SungSlides$Syllable", name := "end", desc := "()I" } : Jvm.MethodName) prog_7_method_2_code (1 : Nat) (Option.some Jvm.ClassFile.FieldType.int)) ∈ lw_all := lw_g (lw_at lw_m2 86 rfl) rfl
theorem q441 : (Jvm.Cond.instantiable "SungSlides$Syllable" (5 : Nat)) ∈ lw_all := lw_g (lw_at lw_m2 147 rfl) rfl
theorem q443 : (Jvm.Cond.instanceMethod ({ cls := "SungSlides$Syllable", name := "<init>", desc := "(IIIII)V" } : Jvm.MethodName)) ∈ lw_all := lw_g (lw_at lw_m2 149 rfl) rfl
theorem q444 : (Jvm.Cond.code ({ cls := "SungSlides$Syllable", name := "<init>", desc := "(IIIII)V" } : Jvm.MethodName) prog_7_method_1_code (6 : Nat) (Option.none : Option Jvm.ClassFile.FieldType)) ∈ lw_all := lw_g (lw_at lw_m2 150 rfl) rfl
theorem q445 : (Jvm.Cond.methodLink "SungSlides$Syllable" (1 : Nat) ({ cls := "java/lang/Object", name := "<init>", desc := "()V" } : Jvm.MethodName)) ∈ lw_all := lw_g (lw_at lw_m2 151 rfl) rfl
theorem q446 : (Jvm.Cond.fieldLink "SungSlides$Syllable" (7 : Nat) "SungSlides$Syllable" "begin" "I") ∈ lw_all := lw_g (lw_at lw_m2 152 rfl) rfl
theorem q450 : (Jvm.Cond.fieldLink "SungSlides$Syllable" (13 : Nat) "SungSlides$Syllable" "length" "I") ∈ lw_all := lw_g (lw_at lw_m2 156 rfl) rfl
theorem q453 : (Jvm.Cond.fieldLink "SungSlides$Syllable" (16 : Nat) "SungSlides$Syllable" "pitch" "I") ∈ lw_all := lw_g (lw_at lw_m2 159 rfl) rfl
theorem q455 : (Jvm.Cond.fieldLink "SungSlides$Syllable" (19 : Nat) "SungSlides$Syllable" "endPitch" "I") ∈ lw_all := lw_g (lw_at lw_m2 161 rfl) rfl
theorem q457 : (Jvm.Cond.fieldLink "SungSlides$Syllable" (22 : Nat) "SungSlides$Syllable" "phrase" "I") ∈ lw_all := lw_g (lw_at lw_m2 163 rfl) rfl
theorem q461 : (Jvm.Cond.laysFinal "SungSlides$Syllable" "SungSlides$Syllable" "begin" "I") ∈ lw_all := lw_g (lw_at lw_m2 167 rfl) rfl
theorem q462 : (Jvm.Cond.soleField "SungSlides$Syllable" "begin") ∈ lw_all := lw_g (lw_at lw_m2 168 rfl) rfl
theorem q463 : (Jvm.Cond.laysFinal "SungSlides$Syllable" "SungSlides$Syllable" "length" "I") ∈ lw_all := lw_g (lw_at lw_m2 169 rfl) rfl
theorem q464 : (Jvm.Cond.soleField "SungSlides$Syllable" "length") ∈ lw_all := lw_g (lw_at lw_m2 170 rfl) rfl
theorem q465 : (Jvm.Cond.laysFinal "SungSlides$Syllable" "SungSlides$Syllable" "pitch" "I") ∈ lw_all := lw_g (lw_at lw_m2 171 rfl) rfl
theorem q466 : (Jvm.Cond.soleField "SungSlides$Syllable" "pitch") ∈ lw_all := lw_g (lw_at lw_m2 172 rfl) rfl
theorem q467 : (Jvm.Cond.laysFinal "SungSlides$Syllable" "SungSlides$Syllable" "endPitch" "I") ∈ lw_all := lw_g (lw_at lw_m2 173 rfl) rfl
theorem q468 : (Jvm.Cond.soleField "SungSlides$Syllable" "endPitch") ∈ lw_all := lw_g (lw_at lw_m2 174 rfl) rfl
theorem q469 : (Jvm.Cond.laysFinal "SungSlides$Syllable" "SungSlides$Syllable" "phrase" "I") ∈ lw_all := lw_g (lw_at lw_m2 175 rfl) rfl
theorem q470 : (Jvm.Cond.soleField "SungSlides$Syllable" "phrase") ∈ lw_all := lw_g (lw_at lw_m2 176 rfl) rfl
theorem q471 : (Jvm.Cond.superclass "SungSlides$Syllable" "java/lang/Object") ∈ lw_all := lw_g (lw_at lw_m2 177 rfl) rfl
theorem q646 : (Jvm.Cond.instanceMethod ({ cls := "SungSlides$Syllable", name := "wanted", desc := "(I)I" } : Jvm.MethodName)) ∈ lw_all := lw_g (lw_at lw_m3 112 rfl) rfl
theorem q647 : (Jvm.Cond.selects "SungSlides$Syllable" ({ cls := "SungSlides$Syllable", name := "wanted", desc := "(I)I" } : Jvm.MethodName) ({ cls := "SungSlides$Syllable", name := "wanted", desc := "(I)I" } : Jvm.MethodName)) ∈ lw_all := lw_g (lw_at lw_m3 113 rfl) rfl
theorem q648 : (Jvm.Cond.code ({ cls := "SungSlides$Syllable", name := "wanted", desc := "(I)I" } : Jvm.MethodName) prog_7_method_3_code (2 : Nat) (Option.some Jvm.ClassFile.FieldType.int)) ∈ lw_all := lw_g (lw_at lw_m3 114 rfl) rfl
theorem q1117 : (Jvm.Cond.castable "SungSlides$Syllable" "java/lang/Object") ∈ lw_tbl := lw_at lw_m5 103 rfl
theorem in_X5 : ∀ w ∈ wsX50, w ∈ lw_all := lw_in wsX50 [461, 463, 465, 467, 469] (by decide +kernel) (by decide +kernel)
/-! SungSlides$Reader -/
set_option maxRecDepth 100000
def RX6 : String := "SungSlides$Reader"
def TX6 : u_T := fun k => match k with
  | 0 => ("SungSlides$Reader", "plans", "Ljava/util/List;", true)
  | 1 => ("SungSlides$Reader", "at", "I", false)
  | _ => ("SungSlides$Reader", "this$0", "LSungSlides;", true)
def tyX6 : Nat → FieldType := fun k => match k with
  | 0 => .object "java/util/List"
  | 1 => .int
  | _ => .object "SungSlides"
abbrev wsX60 : List Cond := u_ws RX6 TX6 3
theorem nmX6 : ∀ a, a < 3 → ∀ b, b < 3 → a ≠ b → (TX6 a).2.1 ≠ (TX6 b).2.1 := by decide +kernel
theorem tyX6_ok : ∀ k, k < 3 → parseFieldDescriptor (TX6 k).2.2.1 = some (tyX6 k) := by decide +kernel
abbrev cX6_init : ByteArray := prog_5_method_1_code
def yX6_init : MethodName := ⟨RX6, "<init>", "(LSungSlides;)V"⟩
def dkwX6_init_0 : List UInt8 := [42, 43, 181, 0, 3, 42, 183, 0, 9, 42, 187, 0, 15, 89, 183, 0, 17, 181, 0, 18, 177]
abbrev dktX6_init_0 : List UInt8 := dkwX6_init_0 ++ []
theorem dksX6_init_0 : cX6_init.data.toList.drop 0 = dktX6_init_0 := by decide +kernel
theorem dX6_init_0 : decode cX6_init 0 = .ok (.aload_n 0, 1) := dk_42 (dk_at dksX6_init_0 0 rfl rfl)
theorem dX6_init_1 : decode cX6_init 1 = .ok (.aload_n 1, 1) := dk_43 (dk_at dksX6_init_0 1 rfl rfl)
theorem dX6_init_2 : decode cX6_init 2 = .ok (.putfield 3, 3) := dk_181 0 3 (dk_at dksX6_init_0 2 rfl rfl)
theorem dX6_init_5 : decode cX6_init 5 = .ok (.aload_n 0, 1) := dk_42 (dk_at dksX6_init_0 5 rfl rfl)
theorem dX6_init_6 : decode cX6_init 6 = .ok (.invokespecial 9, 3) := dk_183 0 9 (dk_at dksX6_init_0 6 rfl rfl)
theorem dX6_init_9 : decode cX6_init 9 = .ok (.aload_n 0, 1) := dk_42 (dk_at dksX6_init_0 9 rfl rfl)
theorem dX6_init_10 : decode cX6_init 10 = .ok (.new 15, 3) := dk_187 0 15 (dk_at dksX6_init_0 10 rfl rfl)
theorem dX6_init_13 : decode cX6_init 13 = .ok (.dup, 1) := dk_89 (dk_at dksX6_init_0 13 rfl rfl)
theorem dX6_init_14 : decode cX6_init 14 = .ok (.invokespecial 17, 3) := dk_183 0 17 (dk_at dksX6_init_0 14 rfl rfl)
theorem dX6_init_17 : decode cX6_init 17 = .ok (.putfield 18, 3) := dk_181 0 18 (dk_at dksX6_init_0 17 rfl rfl)
theorem dX6_init_20 : decode cX6_init 20 = .ok (.return_, 1) := dk_177 (dk_at dksX6_init_0 20 rfl rfl)
abbrev cX6_read : ByteArray := prog_5_method_6_code
def yX6_read : MethodName := ⟨RX6, "read", "()I"⟩
def dkwX6_read_3 : List UInt8 := [180, 0, 22, 172]
abbrev dktX6_read_3 : List UInt8 := dkwX6_read_3 ++ []
def dkwX6_read_2 : List UInt8 := [167, 255, 213, 42, 180, 0, 22, 42, 180, 0, 3, 180, 0, 26, 160, 0, 8, 16, 251, 167, 0, 7, 42]
abbrev dktX6_read_2 : List UInt8 := dkwX6_read_2 ++ dktX6_read_3
def dkwX6_read_1 : List UInt8 := [182, 0, 37, 60, 27, 154, 0, 12, 42, 16, 44, 182, 0, 37, 153, 0, 7, 4, 167, 0, 4, 3, 61]
abbrev dktX6_read_1 : List UInt8 := dkwX6_read_1 ++ dktX6_read_2
def dkwX6_read_0 : List UInt8 := [4, 60, 4, 61, 28, 153, 0, 45, 42, 27, 182, 0, 55, 154, 0, 8, 42, 180, 0, 22, 172, 42, 16, 47]
abbrev dktX6_read_0 : List UInt8 := dkwX6_read_0 ++ dktX6_read_1
theorem dksX6_read_0 : cX6_read.data.toList.drop 0 = dktX6_read_0 := by decide +kernel
theorem dksX6_read_1 : cX6_read.data.toList.drop 24 = dktX6_read_1 := dk_seg dksX6_read_0 24 rfl rfl
theorem dksX6_read_2 : cX6_read.data.toList.drop 47 = dktX6_read_2 := dk_seg dksX6_read_1 23 rfl rfl
theorem dksX6_read_3 : cX6_read.data.toList.drop 70 = dktX6_read_3 := dk_seg dksX6_read_2 23 rfl rfl
theorem dX6_read_0 : decode cX6_read 0 = .ok (.iconst 1, 1) := dk_4 (dk_at dksX6_read_0 0 rfl rfl)
theorem dX6_read_1 : decode cX6_read 1 = .ok (.istore_n 1, 1) := dk_60 (dk_at dksX6_read_0 1 rfl rfl)
theorem dX6_read_2 : decode cX6_read 2 = .ok (.iconst 1, 1) := dk_4 (dk_at dksX6_read_0 2 rfl rfl)
theorem dX6_read_3 : decode cX6_read 3 = .ok (.istore_n 2, 1) := dk_61 (dk_at dksX6_read_0 3 rfl rfl)
theorem dX6_read_4 : decode cX6_read 4 = .ok (.iload_n 2, 1) := dk_28 (dk_at dksX6_read_0 4 rfl rfl)
theorem dX6_read_5 : decode cX6_read 5 = .ok (.ifCond .eq 45, 3) := dk_153 0 45 (dk_at dksX6_read_0 5 rfl rfl)
theorem dX6_read_8 : decode cX6_read 8 = .ok (.aload_n 0, 1) := dk_42 (dk_at dksX6_read_0 8 rfl rfl)
theorem dX6_read_9 : decode cX6_read 9 = .ok (.iload_n 1, 1) := dk_27 (dk_at dksX6_read_0 9 rfl rfl)
theorem dX6_read_10 : decode cX6_read 10 = .ok (.invokevirtual 55, 3) := dk_182 0 55 (dk_at dksX6_read_0 10 rfl rfl)
theorem dX6_read_13 : decode cX6_read 13 = .ok (.ifCond .ne 8, 3) := dk_154 0 8 (dk_at dksX6_read_0 13 rfl rfl)
theorem dX6_read_16 : decode cX6_read 16 = .ok (.aload_n 0, 1) := dk_42 (dk_at dksX6_read_0 16 rfl rfl)
theorem dX6_read_17 : decode cX6_read 17 = .ok (.getfield 22, 3) := dk_180 0 22 (dk_at dksX6_read_0 17 rfl rfl)
theorem dX6_read_20 : decode cX6_read 20 = .ok (.ireturn, 1) := dk_172 (dk_at dksX6_read_0 20 rfl rfl)
theorem dX6_read_21 : decode cX6_read 21 = .ok (.aload_n 0, 1) := dk_42 (dk_at dksX6_read_0 21 rfl rfl)
theorem dX6_read_22 : decode cX6_read 22 = .ok (.bipush 47, 2) := dk_16 47 (dk_at dksX6_read_0 22 rfl rfl)
theorem dX6_read_24 : decode cX6_read 24 = .ok (.invokevirtual 37, 3) := dk_182 0 37 (dk_at dksX6_read_1 0 rfl rfl)
theorem dX6_read_27 : decode cX6_read 27 = .ok (.istore_n 1, 1) := dk_60 (dk_at dksX6_read_1 3 rfl rfl)
theorem dX6_read_28 : decode cX6_read 28 = .ok (.iload_n 1, 1) := dk_27 (dk_at dksX6_read_1 4 rfl rfl)
theorem dX6_read_29 : decode cX6_read 29 = .ok (.ifCond .ne 12, 3) := dk_154 0 12 (dk_at dksX6_read_1 5 rfl rfl)
theorem dX6_read_32 : decode cX6_read 32 = .ok (.aload_n 0, 1) := dk_42 (dk_at dksX6_read_1 8 rfl rfl)
theorem dX6_read_33 : decode cX6_read 33 = .ok (.bipush 44, 2) := dk_16 44 (dk_at dksX6_read_1 9 rfl rfl)
theorem dX6_read_35 : decode cX6_read 35 = .ok (.invokevirtual 37, 3) := dk_182 0 37 (dk_at dksX6_read_1 11 rfl rfl)
theorem dX6_read_38 : decode cX6_read 38 = .ok (.ifCond .eq 7, 3) := dk_153 0 7 (dk_at dksX6_read_1 14 rfl rfl)
theorem dX6_read_41 : decode cX6_read 41 = .ok (.iconst 1, 1) := dk_4 (dk_at dksX6_read_1 17 rfl rfl)
theorem dX6_read_42 : decode cX6_read 42 = .ok (.goto 4, 3) := dk_167 0 4 (dk_at dksX6_read_1 18 rfl rfl)
theorem dX6_read_45 : decode cX6_read 45 = .ok (.iconst 0, 1) := dk_3 (dk_at dksX6_read_1 21 rfl rfl)
theorem dX6_read_46 : decode cX6_read 46 = .ok (.istore_n 2, 1) := dk_61 (dk_at dksX6_read_1 22 rfl rfl)
theorem dX6_read_47 : decode cX6_read 47 = .ok (.goto (-43), 3) := dk_167 255 213 (dk_at dksX6_read_2 0 rfl rfl)
theorem dX6_read_50 : decode cX6_read 50 = .ok (.aload_n 0, 1) := dk_42 (dk_at dksX6_read_2 3 rfl rfl)
theorem dX6_read_51 : decode cX6_read 51 = .ok (.getfield 22, 3) := dk_180 0 22 (dk_at dksX6_read_2 4 rfl rfl)
theorem dX6_read_54 : decode cX6_read 54 = .ok (.aload_n 0, 1) := dk_42 (dk_at dksX6_read_2 7 rfl rfl)
theorem dX6_read_55 : decode cX6_read 55 = .ok (.getfield 3, 3) := dk_180 0 3 (dk_at dksX6_read_2 8 rfl rfl)
theorem dX6_read_58 : decode cX6_read 58 = .ok (.getfield 26, 3) := dk_180 0 26 (dk_at dksX6_read_2 11 rfl rfl)
theorem dX6_read_61 : decode cX6_read 61 = .ok (.if_icmp .ne 8, 3) := dk_160 0 8 (dk_at dksX6_read_2 14 rfl rfl)
theorem dX6_read_64 : decode cX6_read 64 = .ok (.bipush (-5), 2) := dk_16 251 (dk_at dksX6_read_2 17 rfl rfl)
theorem dX6_read_66 : decode cX6_read 66 = .ok (.goto 7, 3) := dk_167 0 7 (dk_at dksX6_read_2 19 rfl rfl)
theorem dX6_read_69 : decode cX6_read 69 = .ok (.aload_n 0, 1) := dk_42 (dk_at dksX6_read_2 22 rfl rfl)
theorem dX6_read_70 : decode cX6_read 70 = .ok (.getfield 22, 3) := dk_180 0 22 (dk_at dksX6_read_3 0 rfl rfl)
theorem dX6_read_73 : decode cX6_read 73 = .ok (.ireturn, 1) := dk_172 (dk_at dksX6_read_3 3 rfl rfl)
abbrev cX6_syllable : ByteArray := prog_5_method_5_code
def yX6_syllable : MethodName := ⟨RX6, "syllable", "(Z)Z"⟩
def dkwX6_syllable_5 : List UInt8 := [185, 0, 49, 2, 0, 87, 21, 5, 16, 251, 159, 0, 7, 4, 167, 0, 4, 3, 172]
abbrev dktX6_syllable_5 : List UInt8 := dkwX6_syllable_5 ++ []
def dkwX6_syllable_4 : List UInt8 := [54, 5, 42, 180, 0, 18, 187, 0, 44, 89, 28, 29, 21, 4, 21, 5, 27, 183, 0, 46]
abbrev dktX6_syllable_4 : List UInt8 := dkwX6_syllable_4 ++ dktX6_syllable_5
def dkwX6_syllable_3 : List UInt8 := [16, 251, 159, 0, 12, 42, 16, 58, 182, 0, 37, 154, 0, 5, 3, 172, 42, 16, 49, 16, 32, 182, 0, 40]
abbrev dktX6_syllable_3 : List UInt8 := dkwX6_syllable_3 ++ dktX6_syllable_4
def dkwX6_syllable_2 : List UInt8 := [16, 45, 182, 0, 37, 154, 0, 7, 29, 167, 0, 11, 42, 16, 48, 16, 60, 182, 0, 40, 54, 4, 21, 4]
abbrev dktX6_syllable_2 : List UInt8 := dkwX6_syllable_2 ++ dktX6_syllable_3
def dkwX6_syllable_1 : List UInt8 := [16, 251, 160, 0, 5, 3, 172, 42, 16, 48, 16, 60, 182, 0, 40, 62, 29, 16, 251, 159, 0, 12, 42]
abbrev dktX6_syllable_1 : List UInt8 := dkwX6_syllable_1 ++ dktX6_syllable_2
def dkwX6_syllable_0 : List UInt8 := [42, 16, 46, 182, 0, 37, 153, 0, 14, 42, 16, 49, 16, 32, 182, 0, 40, 167, 0, 4, 3, 61, 28]
abbrev dktX6_syllable_0 : List UInt8 := dkwX6_syllable_0 ++ dktX6_syllable_1
theorem dksX6_syllable_0 : cX6_syllable.data.toList.drop 0 = dktX6_syllable_0 := by decide +kernel
theorem dksX6_syllable_1 : cX6_syllable.data.toList.drop 23 = dktX6_syllable_1 := dk_seg dksX6_syllable_0 23 rfl rfl
theorem dksX6_syllable_2 : cX6_syllable.data.toList.drop 46 = dktX6_syllable_2 := dk_seg dksX6_syllable_1 23 rfl rfl
theorem dksX6_syllable_3 : cX6_syllable.data.toList.drop 70 = dktX6_syllable_3 := dk_seg dksX6_syllable_2 24 rfl rfl
theorem dksX6_syllable_4 : cX6_syllable.data.toList.drop 94 = dktX6_syllable_4 := dk_seg dksX6_syllable_3 24 rfl rfl
theorem dksX6_syllable_5 : cX6_syllable.data.toList.drop 114 = dktX6_syllable_5 := dk_seg dksX6_syllable_4 20 rfl rfl
theorem dX6_syllable_0 : decode cX6_syllable 0 = .ok (.aload_n 0, 1) := dk_42 (dk_at dksX6_syllable_0 0 rfl rfl)
theorem dX6_syllable_1 : decode cX6_syllable 1 = .ok (.bipush 46, 2) := dk_16 46 (dk_at dksX6_syllable_0 1 rfl rfl)
theorem dX6_syllable_3 : decode cX6_syllable 3 = .ok (.invokevirtual 37, 3) := dk_182 0 37 (dk_at dksX6_syllable_0 3 rfl rfl)
theorem dX6_syllable_6 : decode cX6_syllable 6 = .ok (.ifCond .eq 14, 3) := dk_153 0 14 (dk_at dksX6_syllable_0 6 rfl rfl)
theorem dX6_syllable_9 : decode cX6_syllable 9 = .ok (.aload_n 0, 1) := dk_42 (dk_at dksX6_syllable_0 9 rfl rfl)
theorem dX6_syllable_10 : decode cX6_syllable 10 = .ok (.bipush 49, 2) := dk_16 49 (dk_at dksX6_syllable_0 10 rfl rfl)
theorem dX6_syllable_12 : decode cX6_syllable 12 = .ok (.bipush 32, 2) := dk_16 32 (dk_at dksX6_syllable_0 12 rfl rfl)
theorem dX6_syllable_14 : decode cX6_syllable 14 = .ok (.invokevirtual 40, 3) := dk_182 0 40 (dk_at dksX6_syllable_0 14 rfl rfl)
theorem dX6_syllable_17 : decode cX6_syllable 17 = .ok (.goto 4, 3) := dk_167 0 4 (dk_at dksX6_syllable_0 17 rfl rfl)
theorem dX6_syllable_20 : decode cX6_syllable 20 = .ok (.iconst 0, 1) := dk_3 (dk_at dksX6_syllable_0 20 rfl rfl)
theorem dX6_syllable_21 : decode cX6_syllable 21 = .ok (.istore_n 2, 1) := dk_61 (dk_at dksX6_syllable_0 21 rfl rfl)
theorem dX6_syllable_22 : decode cX6_syllable 22 = .ok (.iload_n 2, 1) := dk_28 (dk_at dksX6_syllable_0 22 rfl rfl)
theorem dX6_syllable_23 : decode cX6_syllable 23 = .ok (.bipush (-5), 2) := dk_16 251 (dk_at dksX6_syllable_1 0 rfl rfl)
theorem dX6_syllable_25 : decode cX6_syllable 25 = .ok (.if_icmp .ne 5, 3) := dk_160 0 5 (dk_at dksX6_syllable_1 2 rfl rfl)
theorem dX6_syllable_28 : decode cX6_syllable 28 = .ok (.iconst 0, 1) := dk_3 (dk_at dksX6_syllable_1 5 rfl rfl)
theorem dX6_syllable_29 : decode cX6_syllable 29 = .ok (.ireturn, 1) := dk_172 (dk_at dksX6_syllable_1 6 rfl rfl)
theorem dX6_syllable_30 : decode cX6_syllable 30 = .ok (.aload_n 0, 1) := dk_42 (dk_at dksX6_syllable_1 7 rfl rfl)
theorem dX6_syllable_31 : decode cX6_syllable 31 = .ok (.bipush 48, 2) := dk_16 48 (dk_at dksX6_syllable_1 8 rfl rfl)
theorem dX6_syllable_33 : decode cX6_syllable 33 = .ok (.bipush 60, 2) := dk_16 60 (dk_at dksX6_syllable_1 10 rfl rfl)
theorem dX6_syllable_35 : decode cX6_syllable 35 = .ok (.invokevirtual 40, 3) := dk_182 0 40 (dk_at dksX6_syllable_1 12 rfl rfl)
theorem dX6_syllable_38 : decode cX6_syllable 38 = .ok (.istore_n 3, 1) := dk_62 (dk_at dksX6_syllable_1 15 rfl rfl)
theorem dX6_syllable_39 : decode cX6_syllable 39 = .ok (.iload_n 3, 1) := dk_29 (dk_at dksX6_syllable_1 16 rfl rfl)
theorem dX6_syllable_40 : decode cX6_syllable 40 = .ok (.bipush (-5), 2) := dk_16 251 (dk_at dksX6_syllable_1 17 rfl rfl)
theorem dX6_syllable_42 : decode cX6_syllable 42 = .ok (.if_icmp .eq 12, 3) := dk_159 0 12 (dk_at dksX6_syllable_1 19 rfl rfl)
theorem dX6_syllable_45 : decode cX6_syllable 45 = .ok (.aload_n 0, 1) := dk_42 (dk_at dksX6_syllable_1 22 rfl rfl)
theorem dX6_syllable_46 : decode cX6_syllable 46 = .ok (.bipush 45, 2) := dk_16 45 (dk_at dksX6_syllable_2 0 rfl rfl)
theorem dX6_syllable_48 : decode cX6_syllable 48 = .ok (.invokevirtual 37, 3) := dk_182 0 37 (dk_at dksX6_syllable_2 2 rfl rfl)
theorem dX6_syllable_51 : decode cX6_syllable 51 = .ok (.ifCond .ne 7, 3) := dk_154 0 7 (dk_at dksX6_syllable_2 5 rfl rfl)
theorem dX6_syllable_54 : decode cX6_syllable 54 = .ok (.iload_n 3, 1) := dk_29 (dk_at dksX6_syllable_2 8 rfl rfl)
theorem dX6_syllable_55 : decode cX6_syllable 55 = .ok (.goto 11, 3) := dk_167 0 11 (dk_at dksX6_syllable_2 9 rfl rfl)
theorem dX6_syllable_58 : decode cX6_syllable 58 = .ok (.aload_n 0, 1) := dk_42 (dk_at dksX6_syllable_2 12 rfl rfl)
theorem dX6_syllable_59 : decode cX6_syllable 59 = .ok (.bipush 48, 2) := dk_16 48 (dk_at dksX6_syllable_2 13 rfl rfl)
theorem dX6_syllable_61 : decode cX6_syllable 61 = .ok (.bipush 60, 2) := dk_16 60 (dk_at dksX6_syllable_2 15 rfl rfl)
theorem dX6_syllable_63 : decode cX6_syllable 63 = .ok (.invokevirtual 40, 3) := dk_182 0 40 (dk_at dksX6_syllable_2 17 rfl rfl)
theorem dX6_syllable_66 : decode cX6_syllable 66 = .ok (.istore 4, 2) := dk_54 4 (dk_at dksX6_syllable_2 20 rfl rfl)
theorem dX6_syllable_68 : decode cX6_syllable 68 = .ok (.iload 4, 2) := dk_21 4 (dk_at dksX6_syllable_2 22 rfl rfl)
theorem dX6_syllable_70 : decode cX6_syllable 70 = .ok (.bipush (-5), 2) := dk_16 251 (dk_at dksX6_syllable_3 0 rfl rfl)
theorem dX6_syllable_72 : decode cX6_syllable 72 = .ok (.if_icmp .eq 12, 3) := dk_159 0 12 (dk_at dksX6_syllable_3 2 rfl rfl)
theorem dX6_syllable_75 : decode cX6_syllable 75 = .ok (.aload_n 0, 1) := dk_42 (dk_at dksX6_syllable_3 5 rfl rfl)
theorem dX6_syllable_76 : decode cX6_syllable 76 = .ok (.bipush 58, 2) := dk_16 58 (dk_at dksX6_syllable_3 6 rfl rfl)
theorem dX6_syllable_78 : decode cX6_syllable 78 = .ok (.invokevirtual 37, 3) := dk_182 0 37 (dk_at dksX6_syllable_3 8 rfl rfl)
theorem dX6_syllable_81 : decode cX6_syllable 81 = .ok (.ifCond .ne 5, 3) := dk_154 0 5 (dk_at dksX6_syllable_3 11 rfl rfl)
theorem dX6_syllable_84 : decode cX6_syllable 84 = .ok (.iconst 0, 1) := dk_3 (dk_at dksX6_syllable_3 14 rfl rfl)
theorem dX6_syllable_85 : decode cX6_syllable 85 = .ok (.ireturn, 1) := dk_172 (dk_at dksX6_syllable_3 15 rfl rfl)
theorem dX6_syllable_86 : decode cX6_syllable 86 = .ok (.aload_n 0, 1) := dk_42 (dk_at dksX6_syllable_3 16 rfl rfl)
theorem dX6_syllable_87 : decode cX6_syllable 87 = .ok (.bipush 49, 2) := dk_16 49 (dk_at dksX6_syllable_3 17 rfl rfl)
theorem dX6_syllable_89 : decode cX6_syllable 89 = .ok (.bipush 32, 2) := dk_16 32 (dk_at dksX6_syllable_3 19 rfl rfl)
theorem dX6_syllable_91 : decode cX6_syllable 91 = .ok (.invokevirtual 40, 3) := dk_182 0 40 (dk_at dksX6_syllable_3 21 rfl rfl)
theorem dX6_syllable_94 : decode cX6_syllable 94 = .ok (.istore 5, 2) := dk_54 5 (dk_at dksX6_syllable_4 0 rfl rfl)
theorem dX6_syllable_96 : decode cX6_syllable 96 = .ok (.aload_n 0, 1) := dk_42 (dk_at dksX6_syllable_4 2 rfl rfl)
theorem dX6_syllable_97 : decode cX6_syllable 97 = .ok (.getfield 18, 3) := dk_180 0 18 (dk_at dksX6_syllable_4 3 rfl rfl)
theorem dX6_syllable_100 : decode cX6_syllable 100 = .ok (.new 44, 3) := dk_187 0 44 (dk_at dksX6_syllable_4 6 rfl rfl)
theorem dX6_syllable_103 : decode cX6_syllable 103 = .ok (.dup, 1) := dk_89 (dk_at dksX6_syllable_4 9 rfl rfl)
theorem dX6_syllable_104 : decode cX6_syllable 104 = .ok (.iload_n 2, 1) := dk_28 (dk_at dksX6_syllable_4 10 rfl rfl)
theorem dX6_syllable_105 : decode cX6_syllable 105 = .ok (.iload_n 3, 1) := dk_29 (dk_at dksX6_syllable_4 11 rfl rfl)
theorem dX6_syllable_106 : decode cX6_syllable 106 = .ok (.iload 4, 2) := dk_21 4 (dk_at dksX6_syllable_4 12 rfl rfl)
theorem dX6_syllable_108 : decode cX6_syllable 108 = .ok (.iload 5, 2) := dk_21 5 (dk_at dksX6_syllable_4 14 rfl rfl)
theorem dX6_syllable_110 : decode cX6_syllable 110 = .ok (.iload_n 1, 1) := dk_27 (dk_at dksX6_syllable_4 16 rfl rfl)
theorem dX6_syllable_111 : decode cX6_syllable 111 = .ok (.invokespecial 46, 3) := dk_183 0 46 (dk_at dksX6_syllable_4 17 rfl rfl)
theorem dX6_syllable_114 : decode cX6_syllable 114 = .ok (.invokeinterface 49 2, 5) := by decide +kernel
theorem dX6_syllable_119 : decode cX6_syllable 119 = .ok (.pop, 1) := dk_87 (dk_at dksX6_syllable_5 5 rfl rfl)
theorem dX6_syllable_120 : decode cX6_syllable 120 = .ok (.iload 5, 2) := dk_21 5 (dk_at dksX6_syllable_5 6 rfl rfl)
theorem dX6_syllable_122 : decode cX6_syllable 122 = .ok (.bipush (-5), 2) := dk_16 251 (dk_at dksX6_syllable_5 8 rfl rfl)
theorem dX6_syllable_124 : decode cX6_syllable 124 = .ok (.if_icmp .eq 7, 3) := dk_159 0 7 (dk_at dksX6_syllable_5 10 rfl rfl)
theorem dX6_syllable_127 : decode cX6_syllable 127 = .ok (.iconst 1, 1) := dk_4 (dk_at dksX6_syllable_5 13 rfl rfl)
theorem dX6_syllable_128 : decode cX6_syllable 128 = .ok (.goto 4, 3) := dk_167 0 4 (dk_at dksX6_syllable_5 14 rfl rfl)
theorem dX6_syllable_131 : decode cX6_syllable 131 = .ok (.iconst 0, 1) := dk_3 (dk_at dksX6_syllable_5 17 rfl rfl)
theorem dX6_syllable_132 : decode cX6_syllable 132 = .ok (.ireturn, 1) := dk_172 (dk_at dksX6_syllable_5 18 rfl rfl)
abbrev cX6_takes : ByteArray := prog_5_method_2_code
def yX6_takes : MethodName := ⟨RX6, "takes", "(C)Z"⟩
def dkwX6_takes_2 : List UInt8 := [96, 181, 0, 22, 28, 172]
abbrev dktX6_takes_2 : List UInt8 := dkwX6_takes_2 ++ []
def dkwX6_takes_1 : List UInt8 := [180, 0, 22, 52, 27, 160, 0, 7, 4, 167, 0, 4, 3, 61, 28, 153, 0, 13, 42, 89, 180, 0, 22, 4]
abbrev dktX6_takes_1 : List UInt8 := dkwX6_takes_1 ++ dktX6_takes_2
def dkwX6_takes_0 : List UInt8 := [42, 180, 0, 22, 42, 180, 0, 3, 180, 0, 26, 162, 0, 23, 42, 180, 0, 3, 180, 0, 29, 42]
abbrev dktX6_takes_0 : List UInt8 := dkwX6_takes_0 ++ dktX6_takes_1
theorem dksX6_takes_0 : cX6_takes.data.toList.drop 0 = dktX6_takes_0 := by decide +kernel
theorem dksX6_takes_1 : cX6_takes.data.toList.drop 22 = dktX6_takes_1 := dk_seg dksX6_takes_0 22 rfl rfl
theorem dksX6_takes_2 : cX6_takes.data.toList.drop 46 = dktX6_takes_2 := dk_seg dksX6_takes_1 24 rfl rfl
theorem dX6_takes_0 : decode cX6_takes 0 = .ok (.aload_n 0, 1) := dk_42 (dk_at dksX6_takes_0 0 rfl rfl)
theorem dX6_takes_1 : decode cX6_takes 1 = .ok (.getfield 22, 3) := dk_180 0 22 (dk_at dksX6_takes_0 1 rfl rfl)
theorem dX6_takes_4 : decode cX6_takes 4 = .ok (.aload_n 0, 1) := dk_42 (dk_at dksX6_takes_0 4 rfl rfl)
theorem dX6_takes_5 : decode cX6_takes 5 = .ok (.getfield 3, 3) := dk_180 0 3 (dk_at dksX6_takes_0 5 rfl rfl)
theorem dX6_takes_8 : decode cX6_takes 8 = .ok (.getfield 26, 3) := dk_180 0 26 (dk_at dksX6_takes_0 8 rfl rfl)
theorem dX6_takes_11 : decode cX6_takes 11 = .ok (.if_icmp .ge 23, 3) := dk_162 0 23 (dk_at dksX6_takes_0 11 rfl rfl)
theorem dX6_takes_14 : decode cX6_takes 14 = .ok (.aload_n 0, 1) := dk_42 (dk_at dksX6_takes_0 14 rfl rfl)
theorem dX6_takes_15 : decode cX6_takes 15 = .ok (.getfield 3, 3) := dk_180 0 3 (dk_at dksX6_takes_0 15 rfl rfl)
theorem dX6_takes_18 : decode cX6_takes 18 = .ok (.getfield 29, 3) := dk_180 0 29 (dk_at dksX6_takes_0 18 rfl rfl)
theorem dX6_takes_21 : decode cX6_takes 21 = .ok (.aload_n 0, 1) := dk_42 (dk_at dksX6_takes_0 21 rfl rfl)
theorem dX6_takes_22 : decode cX6_takes 22 = .ok (.getfield 22, 3) := dk_180 0 22 (dk_at dksX6_takes_1 0 rfl rfl)
theorem dX6_takes_25 : decode cX6_takes 25 = .ok (.caload, 1) := dk_52 (dk_at dksX6_takes_1 3 rfl rfl)
theorem dX6_takes_26 : decode cX6_takes 26 = .ok (.iload_n 1, 1) := dk_27 (dk_at dksX6_takes_1 4 rfl rfl)
theorem dX6_takes_27 : decode cX6_takes 27 = .ok (.if_icmp .ne 7, 3) := dk_160 0 7 (dk_at dksX6_takes_1 5 rfl rfl)
theorem dX6_takes_30 : decode cX6_takes 30 = .ok (.iconst 1, 1) := dk_4 (dk_at dksX6_takes_1 8 rfl rfl)
theorem dX6_takes_31 : decode cX6_takes 31 = .ok (.goto 4, 3) := dk_167 0 4 (dk_at dksX6_takes_1 9 rfl rfl)
theorem dX6_takes_34 : decode cX6_takes 34 = .ok (.iconst 0, 1) := dk_3 (dk_at dksX6_takes_1 12 rfl rfl)
theorem dX6_takes_35 : decode cX6_takes 35 = .ok (.istore_n 2, 1) := dk_61 (dk_at dksX6_takes_1 13 rfl rfl)
theorem dX6_takes_36 : decode cX6_takes 36 = .ok (.iload_n 2, 1) := dk_28 (dk_at dksX6_takes_1 14 rfl rfl)
theorem dX6_takes_37 : decode cX6_takes 37 = .ok (.ifCond .eq 13, 3) := dk_153 0 13 (dk_at dksX6_takes_1 15 rfl rfl)
theorem dX6_takes_40 : decode cX6_takes 40 = .ok (.aload_n 0, 1) := dk_42 (dk_at dksX6_takes_1 18 rfl rfl)
theorem dX6_takes_41 : decode cX6_takes 41 = .ok (.dup, 1) := dk_89 (dk_at dksX6_takes_1 19 rfl rfl)
theorem dX6_takes_42 : decode cX6_takes 42 = .ok (.getfield 22, 3) := dk_180 0 22 (dk_at dksX6_takes_1 20 rfl rfl)
theorem dX6_takes_45 : decode cX6_takes 45 = .ok (.iconst 1, 1) := dk_4 (dk_at dksX6_takes_1 23 rfl rfl)
theorem dX6_takes_46 : decode cX6_takes 46 = .ok (.iadd, 1) := dk_96 (dk_at dksX6_takes_2 0 rfl rfl)
theorem dX6_takes_47 : decode cX6_takes 47 = .ok (.putfield 22, 3) := dk_181 0 22 (dk_at dksX6_takes_2 1 rfl rfl)
theorem dX6_takes_50 : decode cX6_takes 50 = .ok (.iload_n 2, 1) := dk_28 (dk_at dksX6_takes_2 4 rfl rfl)
theorem dX6_takes_51 : decode cX6_takes 51 = .ok (.ireturn, 1) := dk_172 (dk_at dksX6_takes_2 5 rfl rfl)
abbrev cX6_number : ByteArray := prog_5_method_4_code
def yX6_number : MethodName := ⟨RX6, "number", "(CI)I"⟩
def dkwX6_number_4 : List UInt8 := [42, 89, 180, 0, 22, 4, 96, 181, 0, 22, 29, 172]
abbrev dktX6_number_4 : List UInt8 := dkwX6_number_4 ++ []
def dkwX6_number_3 : List UInt8 := [163, 0, 34, 16, 10, 29, 104, 42, 180, 0, 3, 180, 0, 29, 42, 180, 0, 22, 52, 96, 16, 48, 100, 62]
abbrev dktX6_number_3 : List UInt8 := dkwX6_number_3 ++ dktX6_number_4
def dkwX6_number_2 : List UInt8 := [153, 0, 58, 16, 10, 29, 104, 42, 180, 0, 3, 180, 0, 29, 42, 180, 0, 22, 52, 96, 16, 48, 100, 28]
abbrev dktX6_number_2 : List UInt8 := dkwX6_number_2 ++ dktX6_number_3
def dkwX6_number_1 : List UInt8 := [16, 48, 100, 62, 42, 89, 180, 0, 22, 4, 96, 181, 0, 22, 29, 158, 0, 67, 42, 16, 48, 182, 0, 33]
abbrev dktX6_number_1 : List UInt8 := dkwX6_number_1 ++ dktX6_number_2
def dkwX6_number_0 : List UInt8 := [42, 27, 182, 0, 33, 154, 0, 6, 16, 251, 172, 42, 180, 0, 3, 180, 0, 29, 42, 180, 0, 22, 52]
abbrev dktX6_number_0 : List UInt8 := dkwX6_number_0 ++ dktX6_number_1
theorem dksX6_number_0 : cX6_number.data.toList.drop 0 = dktX6_number_0 := by decide +kernel
theorem dksX6_number_1 : cX6_number.data.toList.drop 23 = dktX6_number_1 := dk_seg dksX6_number_0 23 rfl rfl
theorem dksX6_number_2 : cX6_number.data.toList.drop 47 = dktX6_number_2 := dk_seg dksX6_number_1 24 rfl rfl
theorem dksX6_number_3 : cX6_number.data.toList.drop 71 = dktX6_number_3 := dk_seg dksX6_number_2 24 rfl rfl
theorem dksX6_number_4 : cX6_number.data.toList.drop 95 = dktX6_number_4 := dk_seg dksX6_number_3 24 rfl rfl
theorem dX6_number_0 : decode cX6_number 0 = .ok (.aload_n 0, 1) := dk_42 (dk_at dksX6_number_0 0 rfl rfl)
theorem dX6_number_1 : decode cX6_number 1 = .ok (.iload_n 1, 1) := dk_27 (dk_at dksX6_number_0 1 rfl rfl)
theorem dX6_number_2 : decode cX6_number 2 = .ok (.invokevirtual 33, 3) := dk_182 0 33 (dk_at dksX6_number_0 2 rfl rfl)
theorem dX6_number_5 : decode cX6_number 5 = .ok (.ifCond .ne 6, 3) := dk_154 0 6 (dk_at dksX6_number_0 5 rfl rfl)
theorem dX6_number_8 : decode cX6_number 8 = .ok (.bipush (-5), 2) := dk_16 251 (dk_at dksX6_number_0 8 rfl rfl)
theorem dX6_number_10 : decode cX6_number 10 = .ok (.ireturn, 1) := dk_172 (dk_at dksX6_number_0 10 rfl rfl)
theorem dX6_number_11 : decode cX6_number 11 = .ok (.aload_n 0, 1) := dk_42 (dk_at dksX6_number_0 11 rfl rfl)
theorem dX6_number_12 : decode cX6_number 12 = .ok (.getfield 3, 3) := dk_180 0 3 (dk_at dksX6_number_0 12 rfl rfl)
theorem dX6_number_15 : decode cX6_number 15 = .ok (.getfield 29, 3) := dk_180 0 29 (dk_at dksX6_number_0 15 rfl rfl)
theorem dX6_number_18 : decode cX6_number 18 = .ok (.aload_n 0, 1) := dk_42 (dk_at dksX6_number_0 18 rfl rfl)
theorem dX6_number_19 : decode cX6_number 19 = .ok (.getfield 22, 3) := dk_180 0 22 (dk_at dksX6_number_0 19 rfl rfl)
theorem dX6_number_22 : decode cX6_number 22 = .ok (.caload, 1) := dk_52 (dk_at dksX6_number_0 22 rfl rfl)
theorem dX6_number_23 : decode cX6_number 23 = .ok (.bipush 48, 2) := dk_16 48 (dk_at dksX6_number_1 0 rfl rfl)
theorem dX6_number_25 : decode cX6_number 25 = .ok (.isub, 1) := dk_100 (dk_at dksX6_number_1 2 rfl rfl)
theorem dX6_number_26 : decode cX6_number 26 = .ok (.istore_n 3, 1) := dk_62 (dk_at dksX6_number_1 3 rfl rfl)
theorem dX6_number_27 : decode cX6_number 27 = .ok (.aload_n 0, 1) := dk_42 (dk_at dksX6_number_1 4 rfl rfl)
theorem dX6_number_28 : decode cX6_number 28 = .ok (.dup, 1) := dk_89 (dk_at dksX6_number_1 5 rfl rfl)
theorem dX6_number_29 : decode cX6_number 29 = .ok (.getfield 22, 3) := dk_180 0 22 (dk_at dksX6_number_1 6 rfl rfl)
theorem dX6_number_32 : decode cX6_number 32 = .ok (.iconst 1, 1) := dk_4 (dk_at dksX6_number_1 9 rfl rfl)
theorem dX6_number_33 : decode cX6_number 33 = .ok (.iadd, 1) := dk_96 (dk_at dksX6_number_1 10 rfl rfl)
theorem dX6_number_34 : decode cX6_number 34 = .ok (.putfield 22, 3) := dk_181 0 22 (dk_at dksX6_number_1 11 rfl rfl)
theorem dX6_number_37 : decode cX6_number 37 = .ok (.iload_n 3, 1) := dk_29 (dk_at dksX6_number_1 14 rfl rfl)
theorem dX6_number_38 : decode cX6_number 38 = .ok (.ifCond .le 67, 3) := dk_158 0 67 (dk_at dksX6_number_1 15 rfl rfl)
theorem dX6_number_41 : decode cX6_number 41 = .ok (.aload_n 0, 1) := dk_42 (dk_at dksX6_number_1 18 rfl rfl)
theorem dX6_number_42 : decode cX6_number 42 = .ok (.bipush 48, 2) := dk_16 48 (dk_at dksX6_number_1 19 rfl rfl)
theorem dX6_number_44 : decode cX6_number 44 = .ok (.invokevirtual 33, 3) := dk_182 0 33 (dk_at dksX6_number_1 21 rfl rfl)
theorem dX6_number_47 : decode cX6_number 47 = .ok (.ifCond .eq 58, 3) := dk_153 0 58 (dk_at dksX6_number_2 0 rfl rfl)
theorem dX6_number_50 : decode cX6_number 50 = .ok (.bipush 10, 2) := dk_16 10 (dk_at dksX6_number_2 3 rfl rfl)
theorem dX6_number_52 : decode cX6_number 52 = .ok (.iload_n 3, 1) := dk_29 (dk_at dksX6_number_2 5 rfl rfl)
theorem dX6_number_53 : decode cX6_number 53 = .ok (.imul, 1) := dk_104 (dk_at dksX6_number_2 6 rfl rfl)
theorem dX6_number_54 : decode cX6_number 54 = .ok (.aload_n 0, 1) := dk_42 (dk_at dksX6_number_2 7 rfl rfl)
theorem dX6_number_55 : decode cX6_number 55 = .ok (.getfield 3, 3) := dk_180 0 3 (dk_at dksX6_number_2 8 rfl rfl)
theorem dX6_number_58 : decode cX6_number 58 = .ok (.getfield 29, 3) := dk_180 0 29 (dk_at dksX6_number_2 11 rfl rfl)
theorem dX6_number_61 : decode cX6_number 61 = .ok (.aload_n 0, 1) := dk_42 (dk_at dksX6_number_2 14 rfl rfl)
theorem dX6_number_62 : decode cX6_number 62 = .ok (.getfield 22, 3) := dk_180 0 22 (dk_at dksX6_number_2 15 rfl rfl)
theorem dX6_number_65 : decode cX6_number 65 = .ok (.caload, 1) := dk_52 (dk_at dksX6_number_2 18 rfl rfl)
theorem dX6_number_66 : decode cX6_number 66 = .ok (.iadd, 1) := dk_96 (dk_at dksX6_number_2 19 rfl rfl)
theorem dX6_number_67 : decode cX6_number 67 = .ok (.bipush 48, 2) := dk_16 48 (dk_at dksX6_number_2 20 rfl rfl)
theorem dX6_number_69 : decode cX6_number 69 = .ok (.isub, 1) := dk_100 (dk_at dksX6_number_2 22 rfl rfl)
theorem dX6_number_70 : decode cX6_number 70 = .ok (.iload_n 2, 1) := dk_28 (dk_at dksX6_number_2 23 rfl rfl)
theorem dX6_number_71 : decode cX6_number 71 = .ok (.if_icmp .gt 34, 3) := dk_163 0 34 (dk_at dksX6_number_3 0 rfl rfl)
theorem dX6_number_74 : decode cX6_number 74 = .ok (.bipush 10, 2) := dk_16 10 (dk_at dksX6_number_3 3 rfl rfl)
theorem dX6_number_76 : decode cX6_number 76 = .ok (.iload_n 3, 1) := dk_29 (dk_at dksX6_number_3 5 rfl rfl)
theorem dX6_number_77 : decode cX6_number 77 = .ok (.imul, 1) := dk_104 (dk_at dksX6_number_3 6 rfl rfl)
theorem dX6_number_78 : decode cX6_number 78 = .ok (.aload_n 0, 1) := dk_42 (dk_at dksX6_number_3 7 rfl rfl)
theorem dX6_number_79 : decode cX6_number 79 = .ok (.getfield 3, 3) := dk_180 0 3 (dk_at dksX6_number_3 8 rfl rfl)
theorem dX6_number_82 : decode cX6_number 82 = .ok (.getfield 29, 3) := dk_180 0 29 (dk_at dksX6_number_3 11 rfl rfl)
theorem dX6_number_85 : decode cX6_number 85 = .ok (.aload_n 0, 1) := dk_42 (dk_at dksX6_number_3 14 rfl rfl)
theorem dX6_number_86 : decode cX6_number 86 = .ok (.getfield 22, 3) := dk_180 0 22 (dk_at dksX6_number_3 15 rfl rfl)
theorem dX6_number_89 : decode cX6_number 89 = .ok (.caload, 1) := dk_52 (dk_at dksX6_number_3 18 rfl rfl)
theorem dX6_number_90 : decode cX6_number 90 = .ok (.iadd, 1) := dk_96 (dk_at dksX6_number_3 19 rfl rfl)
theorem dX6_number_91 : decode cX6_number 91 = .ok (.bipush 48, 2) := dk_16 48 (dk_at dksX6_number_3 20 rfl rfl)
theorem dX6_number_93 : decode cX6_number 93 = .ok (.isub, 1) := dk_100 (dk_at dksX6_number_3 22 rfl rfl)
theorem dX6_number_94 : decode cX6_number 94 = .ok (.istore_n 3, 1) := dk_62 (dk_at dksX6_number_3 23 rfl rfl)
theorem dX6_number_95 : decode cX6_number 95 = .ok (.aload_n 0, 1) := dk_42 (dk_at dksX6_number_4 0 rfl rfl)
theorem dX6_number_96 : decode cX6_number 96 = .ok (.dup, 1) := dk_89 (dk_at dksX6_number_4 1 rfl rfl)
theorem dX6_number_97 : decode cX6_number 97 = .ok (.getfield 22, 3) := dk_180 0 22 (dk_at dksX6_number_4 2 rfl rfl)
theorem dX6_number_100 : decode cX6_number 100 = .ok (.iconst 1, 1) := dk_4 (dk_at dksX6_number_4 5 rfl rfl)
theorem dX6_number_101 : decode cX6_number 101 = .ok (.iadd, 1) := dk_96 (dk_at dksX6_number_4 6 rfl rfl)
theorem dX6_number_102 : decode cX6_number 102 = .ok (.putfield 22, 3) := dk_181 0 22 (dk_at dksX6_number_4 7 rfl rfl)
theorem dX6_number_105 : decode cX6_number 105 = .ok (.iload_n 3, 1) := dk_29 (dk_at dksX6_number_4 10 rfl rfl)
theorem dX6_number_106 : decode cX6_number 106 = .ok (.ireturn, 1) := dk_172 (dk_at dksX6_number_4 11 rfl rfl)
abbrev cX6_isDigit : ByteArray := prog_5_method_3_code
def yX6_isDigit : MethodName := ⟨RX6, "isDigit", "(C)Z"⟩
def dkwX6_isDigit_2 : List UInt8 := [163, 0, 7, 4, 167, 0, 4, 3, 172]
abbrev dktX6_isDigit_2 : List UInt8 := dkwX6_isDigit_2 ++ []
def dkwX6_isDigit_1 : List UInt8 := [180, 0, 22, 52, 27, 161, 0, 24, 42, 180, 0, 3, 180, 0, 29, 42, 180, 0, 22, 52, 16, 57]
abbrev dktX6_isDigit_1 : List UInt8 := dkwX6_isDigit_1 ++ dktX6_isDigit_2
def dkwX6_isDigit_0 : List UInt8 := [42, 180, 0, 22, 42, 180, 0, 3, 180, 0, 26, 162, 0, 40, 42, 180, 0, 3, 180, 0, 29, 42]
abbrev dktX6_isDigit_0 : List UInt8 := dkwX6_isDigit_0 ++ dktX6_isDigit_1
theorem dksX6_isDigit_0 : cX6_isDigit.data.toList.drop 0 = dktX6_isDigit_0 := by decide +kernel
theorem dksX6_isDigit_1 : cX6_isDigit.data.toList.drop 22 = dktX6_isDigit_1 := dk_seg dksX6_isDigit_0 22 rfl rfl
theorem dksX6_isDigit_2 : cX6_isDigit.data.toList.drop 44 = dktX6_isDigit_2 := dk_seg dksX6_isDigit_1 22 rfl rfl
theorem dX6_isDigit_0 : decode cX6_isDigit 0 = .ok (.aload_n 0, 1) := dk_42 (dk_at dksX6_isDigit_0 0 rfl rfl)
theorem dX6_isDigit_1 : decode cX6_isDigit 1 = .ok (.getfield 22, 3) := dk_180 0 22 (dk_at dksX6_isDigit_0 1 rfl rfl)
theorem dX6_isDigit_4 : decode cX6_isDigit 4 = .ok (.aload_n 0, 1) := dk_42 (dk_at dksX6_isDigit_0 4 rfl rfl)
theorem dX6_isDigit_5 : decode cX6_isDigit 5 = .ok (.getfield 3, 3) := dk_180 0 3 (dk_at dksX6_isDigit_0 5 rfl rfl)
theorem dX6_isDigit_8 : decode cX6_isDigit 8 = .ok (.getfield 26, 3) := dk_180 0 26 (dk_at dksX6_isDigit_0 8 rfl rfl)
theorem dX6_isDigit_11 : decode cX6_isDigit 11 = .ok (.if_icmp .ge 40, 3) := dk_162 0 40 (dk_at dksX6_isDigit_0 11 rfl rfl)
theorem dX6_isDigit_14 : decode cX6_isDigit 14 = .ok (.aload_n 0, 1) := dk_42 (dk_at dksX6_isDigit_0 14 rfl rfl)
theorem dX6_isDigit_15 : decode cX6_isDigit 15 = .ok (.getfield 3, 3) := dk_180 0 3 (dk_at dksX6_isDigit_0 15 rfl rfl)
theorem dX6_isDigit_18 : decode cX6_isDigit 18 = .ok (.getfield 29, 3) := dk_180 0 29 (dk_at dksX6_isDigit_0 18 rfl rfl)
theorem dX6_isDigit_21 : decode cX6_isDigit 21 = .ok (.aload_n 0, 1) := dk_42 (dk_at dksX6_isDigit_0 21 rfl rfl)
theorem dX6_isDigit_22 : decode cX6_isDigit 22 = .ok (.getfield 22, 3) := dk_180 0 22 (dk_at dksX6_isDigit_1 0 rfl rfl)
theorem dX6_isDigit_25 : decode cX6_isDigit 25 = .ok (.caload, 1) := dk_52 (dk_at dksX6_isDigit_1 3 rfl rfl)
theorem dX6_isDigit_26 : decode cX6_isDigit 26 = .ok (.iload_n 1, 1) := dk_27 (dk_at dksX6_isDigit_1 4 rfl rfl)
theorem dX6_isDigit_27 : decode cX6_isDigit 27 = .ok (.if_icmp .lt 24, 3) := dk_161 0 24 (dk_at dksX6_isDigit_1 5 rfl rfl)
theorem dX6_isDigit_30 : decode cX6_isDigit 30 = .ok (.aload_n 0, 1) := dk_42 (dk_at dksX6_isDigit_1 8 rfl rfl)
theorem dX6_isDigit_31 : decode cX6_isDigit 31 = .ok (.getfield 3, 3) := dk_180 0 3 (dk_at dksX6_isDigit_1 9 rfl rfl)
theorem dX6_isDigit_34 : decode cX6_isDigit 34 = .ok (.getfield 29, 3) := dk_180 0 29 (dk_at dksX6_isDigit_1 12 rfl rfl)
theorem dX6_isDigit_37 : decode cX6_isDigit 37 = .ok (.aload_n 0, 1) := dk_42 (dk_at dksX6_isDigit_1 15 rfl rfl)
theorem dX6_isDigit_38 : decode cX6_isDigit 38 = .ok (.getfield 22, 3) := dk_180 0 22 (dk_at dksX6_isDigit_1 16 rfl rfl)
theorem dX6_isDigit_41 : decode cX6_isDigit 41 = .ok (.caload, 1) := dk_52 (dk_at dksX6_isDigit_1 19 rfl rfl)
theorem dX6_isDigit_42 : decode cX6_isDigit 42 = .ok (.bipush 57, 2) := dk_16 57 (dk_at dksX6_isDigit_1 20 rfl rfl)
theorem dX6_isDigit_44 : decode cX6_isDigit 44 = .ok (.if_icmp .gt 7, 3) := dk_163 0 7 (dk_at dksX6_isDigit_2 0 rfl rfl)
theorem dX6_isDigit_47 : decode cX6_isDigit 47 = .ok (.iconst 1, 1) := dk_4 (dk_at dksX6_isDigit_2 3 rfl rfl)
theorem dX6_isDigit_48 : decode cX6_isDigit 48 = .ok (.goto 4, 3) := dk_167 0 4 (dk_at dksX6_isDigit_2 4 rfl rfl)
theorem dX6_isDigit_51 : decode cX6_isDigit 51 = .ok (.iconst 0, 1) := dk_3 (dk_at dksX6_isDigit_2 7 rfl rfl)
theorem dX6_isDigit_52 : decode cX6_isDigit 52 = .ok (.ireturn, 1) := dk_172 (dk_at dksX6_isDigit_2 8 rfl rfl)
theorem q73 : (Jvm.Cond.initialized "SungSlides$Reader") ∈ lw_all := lw_g (lw_at lw_m1 19 rfl) rfl
theorem q142 : (Jvm.Cond.fieldLinkNest "SungSlides$Reader" (29 : Nat) "SungSlides" "text" "[C" "SungSlides") ∈ lw_tbl := lw_at lw_m1 88 rfl
theorem q144 : (Jvm.Cond.fieldLinkNest "SungSlides$Reader" (26 : Nat) "SungSlides" "length" "I" "SungSlides") ∈ lw_tbl := lw_at lw_m1 90 rfl
theorem q307 : (Jvm.Cond.selects "SungSlides$Reader" ({ cls := "java/lang/Object", name := "getClass", desc := "()Ljava/lang/Class;" } : Jvm.MethodName) ({ cls := "java/lang/Object", name := "getClass", desc := "()Ljava/lang/Class;" } : Jvm.MethodName)) ∈ lw_all := lw_g (lw_at lw_m2 13 rfl) rfl
theorem q509 : (Jvm.Cond.instantiable "SungSlides$Reader" (3 : Nat)) ∈ lw_all := lw_g (lw_at lw_m2 215 rfl) rfl
theorem q511 : (Jvm.Cond.instanceMethod ({ cls := "SungSlides$Reader", name := "<init>", desc := "(LSungSlides;)V" } : Jvm.MethodName)) ∈ lw_all := lw_g (lw_at lw_m2 217 rfl) rfl
theorem q512 : (Jvm.Cond.code ({ cls := "SungSlides$Reader", name := "<init>", desc := "(LSungSlides;)V" } : Jvm.MethodName) prog_5_method_1_code (2 : Nat) (Option.none : Option Jvm.ClassFile.FieldType)) ∈ lw_all := lw_g (lw_at lw_m2 218 rfl) rfl
theorem q513 : (Jvm.Cond.methodLink "SungSlides$Reader" (9 : Nat) ({ cls := "java/lang/Object", name := "<init>", desc := "()V" } : Jvm.MethodName)) ∈ lw_all := lw_g (lw_at lw_m2 219 rfl) rfl
theorem q514 : (Jvm.Cond.classLink "SungSlides$Reader" (15 : Nat) "java/util/ArrayList") ∈ lw_all := lw_g (lw_at lw_m2 220 rfl) rfl
theorem q515 : (Jvm.Cond.methodLink "SungSlides$Reader" (17 : Nat) ({ cls := "java/util/ArrayList", name := "<init>", desc := "()V" } : Jvm.MethodName)) ∈ lw_all := lw_g (lw_at lw_m2 221 rfl) rfl
theorem q516 : (Jvm.Cond.fieldLink "SungSlides$Reader" (18 : Nat) "SungSlides$Reader" "plans" "Ljava/util/List;") ∈ lw_all := lw_g (lw_at lw_m2 222 rfl) rfl
theorem q518 : (Jvm.Cond.fieldLink "SungSlides$Reader" (22 : Nat) "SungSlides$Reader" "at" "I") ∈ lw_all := lw_g (lw_at lw_m2 224 rfl) rfl
theorem q519 : (Jvm.Cond.fieldLink "SungSlides$Reader" (3 : Nat) "SungSlides$Reader" "this$0" "LSungSlides;") ∈ lw_all := lw_g (lw_at lw_m2 225 rfl) rfl
theorem q520 : (Jvm.Cond.laysFinal "SungSlides$Reader" "SungSlides$Reader" "plans" "Ljava/util/List;") ∈ lw_all := lw_g (lw_at lw_m2 226 rfl) rfl
theorem q521 : (Jvm.Cond.soleField "SungSlides$Reader" "plans") ∈ lw_all := lw_g (lw_at lw_m2 227 rfl) rfl
theorem q522 : (Jvm.Cond.lays "SungSlides$Reader" "SungSlides$Reader" "at" "I") ∈ lw_all := lw_g (lw_at lw_m2 228 rfl) rfl
theorem q523 : (Jvm.Cond.soleField "SungSlides$Reader" "at") ∈ lw_all := lw_g (lw_at lw_m2 229 rfl) rfl
theorem q524 : (Jvm.Cond.laysFinal "SungSlides$Reader" "SungSlides$Reader" "this$0" "LSungSlides;") ∈ lw_all := lw_g (lw_at lw_m2 230 rfl) rfl
theorem q525 : (Jvm.Cond.soleField "SungSlides$Reader" "this$0") ∈ lw_all := lw_g (lw_at lw_m2 231 rfl) rfl
theorem q526 : (Jvm.Cond.superclass "SungSlides$Reader" "java/lang/Object") ∈ lw_all := lw_g (lw_at lw_m2 232 rfl) rfl
theorem q528 : (Jvm.Cond.instanceMethod ({ cls := "SungSlides$Reader", name := "read", desc := "()I" } : Jvm.MethodName)) ∈ lw_all := lw_g (lw_at lw_m2 234 rfl) rfl
theorem q529 : (Jvm.Cond.selects "SungSlides$Reader" ({ cls := "SungSlides$Reader", name := "read", desc := "()I" } : Jvm.MethodName) ({ cls := "SungSlides$Reader", name := "read", desc := "()I" } : Jvm.MethodName)) ∈ lw_all := lw_g (lw_at lw_m2 235 rfl) rfl
theorem q530 : (Jvm.Cond.code ({ cls := "SungSlides$Reader", name := "read", desc := "()I" } : Jvm.MethodName) prog_5_method_6_code (3 : Nat) (Option.some Jvm.ClassFile.FieldType.int)) ∈ lw_all := lw_g (lw_at lw_m2 236 rfl) rfl
theorem q531 : (Jvm.Cond.methodLink "SungSlides$Reader" (55 : Nat) ({ cls := "SungSlides$Reader", name := "syllable", desc := "(Z)Z" } : Jvm.MethodName)) ∈ lw_all := lw_g (lw_at lw_m2 237 rfl) rfl
theorem q532 : (Jvm.Cond.privateMethod ({ cls := "SungSlides$Reader", name := "syllable", desc := "(Z)Z" } : Jvm.MethodName)) ∈ lw_tbl := lw_at lw_m2 238 rfl
theorem q533 : (Jvm.Cond.instanceMethod ({ cls := "SungSlides$Reader", name := "syllable", desc := "(Z)Z" } : Jvm.MethodName)) ∈ lw_all := lw_g (lw_at lw_m2 239 rfl) rfl
theorem q534 : (Jvm.Cond.code ({ cls := "SungSlides$Reader", name := "syllable", desc := "(Z)Z" } : Jvm.MethodName) prog_5_method_5_code (6 : Nat) (Option.some Jvm.ClassFile.FieldType.boolean)) ∈ lw_all := lw_g (lw_at lw_m3 0 rfl) rfl
theorem q535 : (Jvm.Cond.methodLink "SungSlides$Reader" (37 : Nat) ({ cls := "SungSlides$Reader", name := "takes", desc := "(C)Z" } : Jvm.MethodName)) ∈ lw_all := lw_g (lw_at lw_m3 1 rfl) rfl
theorem q536 : (Jvm.Cond.privateMethod ({ cls := "SungSlides$Reader", name := "takes", desc := "(C)Z" } : Jvm.MethodName)) ∈ lw_tbl := lw_at lw_m3 2 rfl
theorem q537 : (Jvm.Cond.instanceMethod ({ cls := "SungSlides$Reader", name := "takes", desc := "(C)Z" } : Jvm.MethodName)) ∈ lw_all := lw_g (lw_at lw_m3 3 rfl) rfl
theorem q538 : (Jvm.Cond.code ({ cls := "SungSlides$Reader", name := "takes", desc := "(C)Z" } : Jvm.MethodName) prog_5_method_2_code (3 : Nat) (Option.some Jvm.ClassFile.FieldType.boolean)) ∈ lw_all := lw_g (lw_at lw_m3 4 rfl) rfl
theorem q539 : (Jvm.Cond.methodLink "SungSlides$Reader" (40 : Nat) ({ cls := "SungSlides$Reader", name := "number", desc := "(CI)I" } : Jvm.MethodName)) ∈ lw_all := lw_g (lw_at lw_m3 5 rfl) rfl
theorem q540 : (Jvm.Cond.privateMethod ({ cls := "SungSlides$Reader", name := "number", desc := "(CI)I" } : Jvm.MethodName)) ∈ lw_tbl := lw_at lw_m3 6 rfl
theorem q541 : (Jvm.Cond.instanceMethod ({ cls := "SungSlides$Reader", name := "number", desc := "(CI)I" } : Jvm.MethodName)) ∈ lw_all := lw_g (lw_at lw_m3 7 rfl) rfl
theorem q542 : (Jvm.Cond.code ({ cls := "SungSlides$Reader", name := "number", desc := "(CI)I" } : Jvm.MethodName) prog_5_method_4_code (4 : Nat) (Option.some Jvm.ClassFile.FieldType.int)) ∈ lw_all := lw_g (lw_at lw_m3 8 rfl) rfl
theorem q543 : (Jvm.Cond.methodLink "SungSlides$Reader" (33 : Nat) ({ cls := "SungSlides$Reader", name := "isDigit", desc := "(C)Z" } : Jvm.MethodName)) ∈ lw_all := lw_g (lw_at lw_m3 9 rfl) rfl
theorem q544 : (Jvm.Cond.privateMethod ({ cls := "SungSlides$Reader", name := "isDigit", desc := "(C)Z" } : Jvm.MethodName)) ∈ lw_tbl := lw_at lw_m3 10 rfl
theorem q545 : (Jvm.Cond.instanceMethod ({ cls := "SungSlides$Reader", name := "isDigit", desc := "(C)Z" } : Jvm.MethodName)) ∈ lw_all := lw_g (lw_at lw_m3 11 rfl) rfl
theorem q546 : (Jvm.Cond.code ({ cls := "SungSlides$Reader", name := "isDigit", desc := "(C)Z" } : Jvm.MethodName) prog_5_method_3_code (2 : Nat) (Option.some Jvm.ClassFile.FieldType.boolean)) ∈ lw_all := lw_g (lw_at lw_m3 12 rfl) rfl
theorem q547 : (Jvm.Cond.classLink "SungSlides$Reader" (44 : Nat) "SungSlides$Plan") ∈ lw_all := lw_g (lw_at lw_m3 13 rfl) rfl
theorem q548 : (Jvm.Cond.methodLink "SungSlides$Reader" (46 : Nat) ({ cls := "SungSlides$Plan", name := "<init>", desc := "(IIIIZ)V" } : Jvm.MethodName)) ∈ lw_all := lw_g (lw_at lw_m3 14 rfl) rfl
theorem q549 : (Jvm.Cond.interfaceEntry "SungSlides$Reader" (49 : Nat)) ∈ lw_tbl := lw_at lw_m3 15 rfl
theorem q550 : (Jvm.Cond.methodLink "SungSlides$Reader" (49 : Nat) ({ cls := "java/util/List", name := "add", desc := "(Ljava/lang/Object;)Z" } : Jvm.MethodName)) ∈ lw_all := lw_g (lw_at lw_m3 16 rfl) rfl
theorem q1118 : (Jvm.Cond.castable "SungSlides$Reader" "java/lang/Object") ∈ lw_tbl := lw_at lw_m5 104 rfl
theorem in_X6 : ∀ w ∈ wsX60, w ∈ lw_all := lw_in wsX60 [520, 522, 524] (by decide +kernel) (by decide +kernel)
/-! SungSlides$Judge -/
set_option maxRecDepth 100000
def RX7 : String := "SungSlides$Judge"
def TX7 : u_T := fun k => match k with
  | 0 => ("SungSlides$Judge", "song", "LSungSlides$Song;", true)
  | 1 => ("SungSlides$Judge", "matching", "[I", true)
  | 2 => ("SungSlides$Judge", "onsets", "[I", true)
  | 3 => ("SungSlides$Judge", "reasons", "[I", true)
  | 4 => ("SungSlides$Judge", "rows", "[I", true)
  | 5 => ("SungSlides$Judge", "points", "[I", true)
  | _ => ("SungSlides$Judge", "sung", "[I", false)
def tyX7 : Nat → FieldType := fun k => match k with
  | 0 => .object "SungSlides$Song"
  | 1 => .array .int
  | 2 => .array .int
  | 3 => .array .int
  | 4 => .array .int
  | 5 => .array .int
  | _ => .array .int
abbrev wsX70 : List Cond := u_ws RX7 TX7 7
theorem nmX7 : ∀ a, a < 7 → ∀ b, b < 7 → a ≠ b → (TX7 a).2.1 ≠ (TX7 b).2.1 := by decide +kernel
theorem tyX7_ok : ∀ k, k < 7 → parseFieldDescriptor (TX7 k).2.2.1 = some (tyX7 k) := by decide +kernel
abbrev cX7_init : ByteArray := prog_2_method_1_code
def yX7_init : MethodName := ⟨RX7, "<init>", "(LSungSlides$Song;)V"⟩
def dkwX7_init_2 : List UInt8 := [181, 0, 27, 177]
abbrev dktX7_init_2 : List UInt8 := dkwX7_init_2 ++ []
def dkwX7_init_1 : List UInt8 := [188, 10, 181, 0, 18, 42, 16, 40, 188, 10, 181, 0, 21, 42, 16, 40, 188, 10, 181, 0, 24, 42, 43]
abbrev dktX7_init_1 : List UInt8 := dkwX7_init_1 ++ dktX7_init_2
def dkwX7_init_0 : List UInt8 := [42, 183, 0, 3, 42, 16, 40, 188, 10, 181, 0, 9, 42, 16, 40, 188, 10, 181, 0, 15, 42, 16, 40]
abbrev dktX7_init_0 : List UInt8 := dkwX7_init_0 ++ dktX7_init_1
theorem dksX7_init_0 : cX7_init.data.toList.drop 0 = dktX7_init_0 := by decide +kernel
theorem dksX7_init_1 : cX7_init.data.toList.drop 23 = dktX7_init_1 := dk_seg dksX7_init_0 23 rfl rfl
theorem dksX7_init_2 : cX7_init.data.toList.drop 46 = dktX7_init_2 := dk_seg dksX7_init_1 23 rfl rfl
theorem dX7_init_0 : decode cX7_init 0 = .ok (.aload_n 0, 1) := dk_42 (dk_at dksX7_init_0 0 rfl rfl)
theorem dX7_init_1 : decode cX7_init 1 = .ok (.invokespecial 3, 3) := dk_183 0 3 (dk_at dksX7_init_0 1 rfl rfl)
theorem dX7_init_4 : decode cX7_init 4 = .ok (.aload_n 0, 1) := dk_42 (dk_at dksX7_init_0 4 rfl rfl)
theorem dX7_init_5 : decode cX7_init 5 = .ok (.bipush 40, 2) := dk_16 40 (dk_at dksX7_init_0 5 rfl rfl)
theorem dX7_init_7 : decode cX7_init 7 = .ok (.newarray .int, 2) := dk_188_10 (dk_at dksX7_init_0 7 rfl rfl)
theorem dX7_init_9 : decode cX7_init 9 = .ok (.putfield 9, 3) := dk_181 0 9 (dk_at dksX7_init_0 9 rfl rfl)
theorem dX7_init_12 : decode cX7_init 12 = .ok (.aload_n 0, 1) := dk_42 (dk_at dksX7_init_0 12 rfl rfl)
theorem dX7_init_13 : decode cX7_init 13 = .ok (.bipush 40, 2) := dk_16 40 (dk_at dksX7_init_0 13 rfl rfl)
theorem dX7_init_15 : decode cX7_init 15 = .ok (.newarray .int, 2) := dk_188_10 (dk_at dksX7_init_0 15 rfl rfl)
theorem dX7_init_17 : decode cX7_init 17 = .ok (.putfield 15, 3) := dk_181 0 15 (dk_at dksX7_init_0 17 rfl rfl)
theorem dX7_init_20 : decode cX7_init 20 = .ok (.aload_n 0, 1) := dk_42 (dk_at dksX7_init_0 20 rfl rfl)
theorem dX7_init_21 : decode cX7_init 21 = .ok (.bipush 40, 2) := dk_16 40 (dk_at dksX7_init_0 21 rfl rfl)
theorem dX7_init_23 : decode cX7_init 23 = .ok (.newarray .int, 2) := dk_188_10 (dk_at dksX7_init_1 0 rfl rfl)
theorem dX7_init_25 : decode cX7_init 25 = .ok (.putfield 18, 3) := dk_181 0 18 (dk_at dksX7_init_1 2 rfl rfl)
theorem dX7_init_28 : decode cX7_init 28 = .ok (.aload_n 0, 1) := dk_42 (dk_at dksX7_init_1 5 rfl rfl)
theorem dX7_init_29 : decode cX7_init 29 = .ok (.bipush 40, 2) := dk_16 40 (dk_at dksX7_init_1 6 rfl rfl)
theorem dX7_init_31 : decode cX7_init 31 = .ok (.newarray .int, 2) := dk_188_10 (dk_at dksX7_init_1 8 rfl rfl)
theorem dX7_init_33 : decode cX7_init 33 = .ok (.putfield 21, 3) := dk_181 0 21 (dk_at dksX7_init_1 10 rfl rfl)
theorem dX7_init_36 : decode cX7_init 36 = .ok (.aload_n 0, 1) := dk_42 (dk_at dksX7_init_1 13 rfl rfl)
theorem dX7_init_37 : decode cX7_init 37 = .ok (.bipush 40, 2) := dk_16 40 (dk_at dksX7_init_1 14 rfl rfl)
theorem dX7_init_39 : decode cX7_init 39 = .ok (.newarray .int, 2) := dk_188_10 (dk_at dksX7_init_1 16 rfl rfl)
theorem dX7_init_41 : decode cX7_init 41 = .ok (.putfield 24, 3) := dk_181 0 24 (dk_at dksX7_init_1 18 rfl rfl)
theorem dX7_init_44 : decode cX7_init 44 = .ok (.aload_n 0, 1) := dk_42 (dk_at dksX7_init_1 21 rfl rfl)
theorem dX7_init_45 : decode cX7_init 45 = .ok (.aload_n 1, 1) := dk_43 (dk_at dksX7_init_1 22 rfl rfl)
theorem dX7_init_46 : decode cX7_init 46 = .ok (.putfield 27, 3) := dk_181 0 27 (dk_at dksX7_init_2 0 rfl rfl)
theorem dX7_init_49 : decode cX7_init 49 = .ok (.return_, 1) := dk_177 (dk_at dksX7_init_2 3 rfl rfl)
abbrev cX7_run : ByteArray := prog_2_method_9_code
def yX7_run : MethodName := ⟨RX7, "run", "([I)LSungSlides$Judge;"⟩
def dkwX7_run_1 : List UInt8 := [132, 2, 1, 167, 255, 237, 42, 176]
abbrev dktX7_run_1 : List UInt8 := dkwX7_run_1 ++ []
def dkwX7_run_0 : List UInt8 := [42, 43, 181, 0, 35, 3, 61, 28, 42, 180, 0, 27, 182, 0, 107, 162, 0, 14, 42, 28, 182, 0, 110]
abbrev dktX7_run_0 : List UInt8 := dkwX7_run_0 ++ dktX7_run_1
theorem dksX7_run_0 : cX7_run.data.toList.drop 0 = dktX7_run_0 := by decide +kernel
theorem dksX7_run_1 : cX7_run.data.toList.drop 23 = dktX7_run_1 := dk_seg dksX7_run_0 23 rfl rfl
theorem dX7_run_0 : decode cX7_run 0 = .ok (.aload_n 0, 1) := dk_42 (dk_at dksX7_run_0 0 rfl rfl)
theorem dX7_run_1 : decode cX7_run 1 = .ok (.aload_n 1, 1) := dk_43 (dk_at dksX7_run_0 1 rfl rfl)
theorem dX7_run_2 : decode cX7_run 2 = .ok (.putfield 35, 3) := dk_181 0 35 (dk_at dksX7_run_0 2 rfl rfl)
theorem dX7_run_5 : decode cX7_run 5 = .ok (.iconst 0, 1) := dk_3 (dk_at dksX7_run_0 5 rfl rfl)
theorem dX7_run_6 : decode cX7_run 6 = .ok (.istore_n 2, 1) := dk_61 (dk_at dksX7_run_0 6 rfl rfl)
theorem dX7_run_7 : decode cX7_run 7 = .ok (.iload_n 2, 1) := dk_28 (dk_at dksX7_run_0 7 rfl rfl)
theorem dX7_run_8 : decode cX7_run 8 = .ok (.aload_n 0, 1) := dk_42 (dk_at dksX7_run_0 8 rfl rfl)
theorem dX7_run_9 : decode cX7_run 9 = .ok (.getfield 27, 3) := dk_180 0 27 (dk_at dksX7_run_0 9 rfl rfl)
theorem dX7_run_12 : decode cX7_run 12 = .ok (.invokevirtual 107, 3) := dk_182 0 107 (dk_at dksX7_run_0 12 rfl rfl)
theorem dX7_run_15 : decode cX7_run 15 = .ok (.if_icmp .ge 14, 3) := dk_162 0 14 (dk_at dksX7_run_0 15 rfl rfl)
theorem dX7_run_18 : decode cX7_run 18 = .ok (.aload_n 0, 1) := dk_42 (dk_at dksX7_run_0 18 rfl rfl)
theorem dX7_run_19 : decode cX7_run 19 = .ok (.iload_n 2, 1) := dk_28 (dk_at dksX7_run_0 19 rfl rfl)
theorem dX7_run_20 : decode cX7_run 20 = .ok (.invokevirtual 110, 3) := dk_182 0 110 (dk_at dksX7_run_0 20 rfl rfl)
theorem dX7_run_23 : decode cX7_run 23 = .ok (.iinc 2 1, 3) := dk_132 2 1 (dk_at dksX7_run_1 0 rfl rfl)
theorem dX7_run_26 : decode cX7_run 26 = .ok (.goto (-19), 3) := dk_167 255 237 (dk_at dksX7_run_1 3 rfl rfl)
theorem dX7_run_29 : decode cX7_run 29 = .ok (.aload_n 0, 1) := dk_42 (dk_at dksX7_run_1 6 rfl rfl)
theorem dX7_run_30 : decode cX7_run 30 = .ok (.areturn, 1) := dk_176 (dk_at dksX7_run_1 7 rfl rfl)
abbrev cX7_judge : ByteArray := prog_2_method_8_code
def yX7_judge : MethodName := ⟨RX7, "judge", "(I)V"⟩
def dkwX7_judge_10 : List UInt8 := [16, 10, 108, 79, 177]
abbrev dktX7_judge_10 : List UInt8 := dkwX7_judge_10 ++ []
def dkwX7_judge_9 : List UInt8 := [54, 4, 42, 180, 0, 24, 27, 3, 21, 4, 184, 0, 104, 16, 10, 42, 180, 0, 21, 27, 46, 96, 104]
abbrev dktX7_judge_9 : List UInt8 := dkwX7_judge_9 ++ dktX7_judge_10
def dkwX7_judge_8 : List UInt8 := [44, 4, 182, 0, 100, 104, 96, 5, 42, 180, 0, 15, 27, 46, 44, 180, 0, 58, 100, 184, 0, 44, 104, 100]
abbrev dktX7_judge_8 : List UInt8 := dkwX7_judge_8 ++ dktX7_judge_9
def dkwX7_judge_7 : List UInt8 := [79, 42, 180, 0, 24, 27, 3, 79, 42, 180, 0, 18, 27, 46, 154, 0, 61, 42, 27, 182, 0, 86, 8, 42]
abbrev dktX7_judge_7 : List UInt8 := dkwX7_judge_7 ++ dktX7_judge_8
def dkwX7_judge_6 : List UInt8 := [27, 29, 153, 0, 21, 16, 10, 42, 180, 0, 21, 27, 4, 100, 46, 4, 96, 184, 0, 54, 167, 0, 4, 3]
abbrev dktX7_judge_6 : List UInt8 := dkwX7_judge_6 ++ dktX7_judge_7
def dkwX7_judge_5 : List UInt8 := [160, 0, 18, 42, 180, 0, 18, 27, 4, 100, 46, 154, 0, 7, 4, 167, 0, 4, 3, 62, 42, 180, 0, 21]
abbrev dktX7_judge_5 : List UInt8 := dkwX7_judge_5 ++ dktX7_judge_6
def dkwX7_judge_4 : List UInt8 := [180, 0, 27, 180, 0, 65, 27, 4, 100, 185, 0, 69, 2, 0, 192, 0, 39, 180, 0, 97, 44, 180, 0, 97]
abbrev dktX7_judge_4 : List UInt8 := dkwX7_judge_4 ++ dktX7_judge_5
def dkwX7_judge_3 : List UInt8 := [42, 44, 182, 0, 89, 79, 42, 180, 0, 18, 27, 42, 44, 27, 182, 0, 93, 79, 27, 158, 0, 46, 42]
abbrev dktX7_judge_3 : List UInt8 := dkwX7_judge_3 ++ dktX7_judge_4
def dkwX7_judge_2 : List UInt8 := [182, 0, 82, 153, 0, 7, 4, 167, 0, 4, 3, 96, 79, 132, 3, 1, 167, 255, 222, 42, 180, 0, 15, 27]
abbrev dktX7_judge_2 : List UInt8 := dkwX7_judge_2 ++ dktX7_judge_3
def dkwX7_judge_1 : List UInt8 := [44, 180, 0, 58, 62, 29, 44, 182, 0, 78, 162, 0, 32, 42, 180, 0, 9, 27, 92, 46, 42, 44, 29]
abbrev dktX7_judge_1 : List UInt8 := dkwX7_judge_1 ++ dktX7_judge_2
def dkwX7_judge_0 : List UInt8 := [42, 180, 0, 27, 180, 0, 65, 27, 185, 0, 69, 2, 0, 192, 0, 39, 77, 42, 180, 0, 9, 27, 3, 79]
abbrev dktX7_judge_0 : List UInt8 := dkwX7_judge_0 ++ dktX7_judge_1
theorem dksX7_judge_0 : cX7_judge.data.toList.drop 0 = dktX7_judge_0 := by decide +kernel
theorem dksX7_judge_1 : cX7_judge.data.toList.drop 24 = dktX7_judge_1 := dk_seg dksX7_judge_0 24 rfl rfl
theorem dksX7_judge_2 : cX7_judge.data.toList.drop 47 = dktX7_judge_2 := dk_seg dksX7_judge_1 23 rfl rfl
theorem dksX7_judge_3 : cX7_judge.data.toList.drop 71 = dktX7_judge_3 := dk_seg dksX7_judge_2 24 rfl rfl
theorem dksX7_judge_4 : cX7_judge.data.toList.drop 94 = dktX7_judge_4 := dk_seg dksX7_judge_3 23 rfl rfl
theorem dksX7_judge_5 : cX7_judge.data.toList.drop 118 = dktX7_judge_5 := dk_seg dksX7_judge_4 24 rfl rfl
theorem dksX7_judge_6 : cX7_judge.data.toList.drop 142 = dktX7_judge_6 := dk_seg dksX7_judge_5 24 rfl rfl
theorem dksX7_judge_7 : cX7_judge.data.toList.drop 166 = dktX7_judge_7 := dk_seg dksX7_judge_6 24 rfl rfl
theorem dksX7_judge_8 : cX7_judge.data.toList.drop 190 = dktX7_judge_8 := dk_seg dksX7_judge_7 24 rfl rfl
theorem dksX7_judge_9 : cX7_judge.data.toList.drop 214 = dktX7_judge_9 := dk_seg dksX7_judge_8 24 rfl rfl
theorem dksX7_judge_10 : cX7_judge.data.toList.drop 237 = dktX7_judge_10 := dk_seg dksX7_judge_9 23 rfl rfl
theorem dX7_judge_0 : decode cX7_judge 0 = .ok (.aload_n 0, 1) := dk_42 (dk_at dksX7_judge_0 0 rfl rfl)
theorem dX7_judge_1 : decode cX7_judge 1 = .ok (.getfield 27, 3) := dk_180 0 27 (dk_at dksX7_judge_0 1 rfl rfl)
theorem dX7_judge_4 : decode cX7_judge 4 = .ok (.getfield 65, 3) := dk_180 0 65 (dk_at dksX7_judge_0 4 rfl rfl)
theorem dX7_judge_7 : decode cX7_judge 7 = .ok (.iload_n 1, 1) := dk_27 (dk_at dksX7_judge_0 7 rfl rfl)
theorem dX7_judge_8 : decode cX7_judge 8 = .ok (.invokeinterface 69 2, 5) := by decide +kernel
theorem dX7_judge_13 : decode cX7_judge 13 = .ok (.checkcast 39, 3) := dk_192 0 39 (dk_at dksX7_judge_0 13 rfl rfl)
theorem dX7_judge_16 : decode cX7_judge 16 = .ok (.astore_n 2, 1) := dk_77 (dk_at dksX7_judge_0 16 rfl rfl)
theorem dX7_judge_17 : decode cX7_judge 17 = .ok (.aload_n 0, 1) := dk_42 (dk_at dksX7_judge_0 17 rfl rfl)
theorem dX7_judge_18 : decode cX7_judge 18 = .ok (.getfield 9, 3) := dk_180 0 9 (dk_at dksX7_judge_0 18 rfl rfl)
theorem dX7_judge_21 : decode cX7_judge 21 = .ok (.iload_n 1, 1) := dk_27 (dk_at dksX7_judge_0 21 rfl rfl)
theorem dX7_judge_22 : decode cX7_judge 22 = .ok (.iconst 0, 1) := dk_3 (dk_at dksX7_judge_0 22 rfl rfl)
theorem dX7_judge_23 : decode cX7_judge 23 = .ok (.iastore, 1) := dk_79 (dk_at dksX7_judge_0 23 rfl rfl)
theorem dX7_judge_24 : decode cX7_judge 24 = .ok (.aload_n 2, 1) := dk_44 (dk_at dksX7_judge_1 0 rfl rfl)
theorem dX7_judge_25 : decode cX7_judge 25 = .ok (.getfield 58, 3) := dk_180 0 58 (dk_at dksX7_judge_1 1 rfl rfl)
theorem dX7_judge_28 : decode cX7_judge 28 = .ok (.istore_n 3, 1) := dk_62 (dk_at dksX7_judge_1 4 rfl rfl)
theorem dX7_judge_29 : decode cX7_judge 29 = .ok (.iload_n 3, 1) := dk_29 (dk_at dksX7_judge_1 5 rfl rfl)
theorem dX7_judge_30 : decode cX7_judge 30 = .ok (.aload_n 2, 1) := dk_44 (dk_at dksX7_judge_1 6 rfl rfl)
theorem dX7_judge_31 : decode cX7_judge 31 = .ok (.invokevirtual 78, 3) := dk_182 0 78 (dk_at dksX7_judge_1 7 rfl rfl)
theorem dX7_judge_34 : decode cX7_judge 34 = .ok (.if_icmp .ge 32, 3) := dk_162 0 32 (dk_at dksX7_judge_1 10 rfl rfl)
theorem dX7_judge_37 : decode cX7_judge 37 = .ok (.aload_n 0, 1) := dk_42 (dk_at dksX7_judge_1 13 rfl rfl)
theorem dX7_judge_38 : decode cX7_judge 38 = .ok (.getfield 9, 3) := dk_180 0 9 (dk_at dksX7_judge_1 14 rfl rfl)
theorem dX7_judge_41 : decode cX7_judge 41 = .ok (.iload_n 1, 1) := dk_27 (dk_at dksX7_judge_1 17 rfl rfl)
theorem dX7_judge_42 : decode cX7_judge 42 = .ok (.dup2, 1) := dk_92 (dk_at dksX7_judge_1 18 rfl rfl)
theorem dX7_judge_43 : decode cX7_judge 43 = .ok (.iaload, 1) := dk_46 (dk_at dksX7_judge_1 19 rfl rfl)
theorem dX7_judge_44 : decode cX7_judge 44 = .ok (.aload_n 0, 1) := dk_42 (dk_at dksX7_judge_1 20 rfl rfl)
theorem dX7_judge_45 : decode cX7_judge 45 = .ok (.aload_n 2, 1) := dk_44 (dk_at dksX7_judge_1 21 rfl rfl)
theorem dX7_judge_46 : decode cX7_judge 46 = .ok (.iload_n 3, 1) := dk_29 (dk_at dksX7_judge_1 22 rfl rfl)
theorem dX7_judge_47 : decode cX7_judge 47 = .ok (.invokevirtual 82, 3) := dk_182 0 82 (dk_at dksX7_judge_2 0 rfl rfl)
theorem dX7_judge_50 : decode cX7_judge 50 = .ok (.ifCond .eq 7, 3) := dk_153 0 7 (dk_at dksX7_judge_2 3 rfl rfl)
theorem dX7_judge_53 : decode cX7_judge 53 = .ok (.iconst 1, 1) := dk_4 (dk_at dksX7_judge_2 6 rfl rfl)
theorem dX7_judge_54 : decode cX7_judge 54 = .ok (.goto 4, 3) := dk_167 0 4 (dk_at dksX7_judge_2 7 rfl rfl)
theorem dX7_judge_57 : decode cX7_judge 57 = .ok (.iconst 0, 1) := dk_3 (dk_at dksX7_judge_2 10 rfl rfl)
theorem dX7_judge_58 : decode cX7_judge 58 = .ok (.iadd, 1) := dk_96 (dk_at dksX7_judge_2 11 rfl rfl)
theorem dX7_judge_59 : decode cX7_judge 59 = .ok (.iastore, 1) := dk_79 (dk_at dksX7_judge_2 12 rfl rfl)
theorem dX7_judge_60 : decode cX7_judge 60 = .ok (.iinc 3 1, 3) := dk_132 3 1 (dk_at dksX7_judge_2 13 rfl rfl)
theorem dX7_judge_63 : decode cX7_judge 63 = .ok (.goto (-34), 3) := dk_167 255 222 (dk_at dksX7_judge_2 16 rfl rfl)
theorem dX7_judge_66 : decode cX7_judge 66 = .ok (.aload_n 0, 1) := dk_42 (dk_at dksX7_judge_2 19 rfl rfl)
theorem dX7_judge_67 : decode cX7_judge 67 = .ok (.getfield 15, 3) := dk_180 0 15 (dk_at dksX7_judge_2 20 rfl rfl)
theorem dX7_judge_70 : decode cX7_judge 70 = .ok (.iload_n 1, 1) := dk_27 (dk_at dksX7_judge_2 23 rfl rfl)
theorem dX7_judge_71 : decode cX7_judge 71 = .ok (.aload_n 0, 1) := dk_42 (dk_at dksX7_judge_3 0 rfl rfl)
theorem dX7_judge_72 : decode cX7_judge 72 = .ok (.aload_n 2, 1) := dk_44 (dk_at dksX7_judge_3 1 rfl rfl)
theorem dX7_judge_73 : decode cX7_judge 73 = .ok (.invokevirtual 89, 3) := dk_182 0 89 (dk_at dksX7_judge_3 2 rfl rfl)
theorem dX7_judge_76 : decode cX7_judge 76 = .ok (.iastore, 1) := dk_79 (dk_at dksX7_judge_3 5 rfl rfl)
theorem dX7_judge_77 : decode cX7_judge 77 = .ok (.aload_n 0, 1) := dk_42 (dk_at dksX7_judge_3 6 rfl rfl)
theorem dX7_judge_78 : decode cX7_judge 78 = .ok (.getfield 18, 3) := dk_180 0 18 (dk_at dksX7_judge_3 7 rfl rfl)
theorem dX7_judge_81 : decode cX7_judge 81 = .ok (.iload_n 1, 1) := dk_27 (dk_at dksX7_judge_3 10 rfl rfl)
theorem dX7_judge_82 : decode cX7_judge 82 = .ok (.aload_n 0, 1) := dk_42 (dk_at dksX7_judge_3 11 rfl rfl)
theorem dX7_judge_83 : decode cX7_judge 83 = .ok (.aload_n 2, 1) := dk_44 (dk_at dksX7_judge_3 12 rfl rfl)
theorem dX7_judge_84 : decode cX7_judge 84 = .ok (.iload_n 1, 1) := dk_27 (dk_at dksX7_judge_3 13 rfl rfl)
theorem dX7_judge_85 : decode cX7_judge 85 = .ok (.invokevirtual 93, 3) := dk_182 0 93 (dk_at dksX7_judge_3 14 rfl rfl)
theorem dX7_judge_88 : decode cX7_judge 88 = .ok (.iastore, 1) := dk_79 (dk_at dksX7_judge_3 17 rfl rfl)
theorem dX7_judge_89 : decode cX7_judge 89 = .ok (.iload_n 1, 1) := dk_27 (dk_at dksX7_judge_3 18 rfl rfl)
theorem dX7_judge_90 : decode cX7_judge 90 = .ok (.ifCond .le 46, 3) := dk_158 0 46 (dk_at dksX7_judge_3 19 rfl rfl)
theorem dX7_judge_93 : decode cX7_judge 93 = .ok (.aload_n 0, 1) := dk_42 (dk_at dksX7_judge_3 22 rfl rfl)
theorem dX7_judge_94 : decode cX7_judge 94 = .ok (.getfield 27, 3) := dk_180 0 27 (dk_at dksX7_judge_4 0 rfl rfl)
theorem dX7_judge_97 : decode cX7_judge 97 = .ok (.getfield 65, 3) := dk_180 0 65 (dk_at dksX7_judge_4 3 rfl rfl)
theorem dX7_judge_100 : decode cX7_judge 100 = .ok (.iload_n 1, 1) := dk_27 (dk_at dksX7_judge_4 6 rfl rfl)
theorem dX7_judge_101 : decode cX7_judge 101 = .ok (.iconst 1, 1) := dk_4 (dk_at dksX7_judge_4 7 rfl rfl)
theorem dX7_judge_102 : decode cX7_judge 102 = .ok (.isub, 1) := dk_100 (dk_at dksX7_judge_4 8 rfl rfl)
theorem dX7_judge_103 : decode cX7_judge 103 = .ok (.invokeinterface 69 2, 5) := by decide +kernel
theorem dX7_judge_108 : decode cX7_judge 108 = .ok (.checkcast 39, 3) := dk_192 0 39 (dk_at dksX7_judge_4 14 rfl rfl)
theorem dX7_judge_111 : decode cX7_judge 111 = .ok (.getfield 97, 3) := dk_180 0 97 (dk_at dksX7_judge_4 17 rfl rfl)
theorem dX7_judge_114 : decode cX7_judge 114 = .ok (.aload_n 2, 1) := dk_44 (dk_at dksX7_judge_4 20 rfl rfl)
theorem dX7_judge_115 : decode cX7_judge 115 = .ok (.getfield 97, 3) := dk_180 0 97 (dk_at dksX7_judge_4 21 rfl rfl)
theorem dX7_judge_118 : decode cX7_judge 118 = .ok (.if_icmp .ne 18, 3) := dk_160 0 18 (dk_at dksX7_judge_5 0 rfl rfl)
theorem dX7_judge_121 : decode cX7_judge 121 = .ok (.aload_n 0, 1) := dk_42 (dk_at dksX7_judge_5 3 rfl rfl)
theorem dX7_judge_122 : decode cX7_judge 122 = .ok (.getfield 18, 3) := dk_180 0 18 (dk_at dksX7_judge_5 4 rfl rfl)
theorem dX7_judge_125 : decode cX7_judge 125 = .ok (.iload_n 1, 1) := dk_27 (dk_at dksX7_judge_5 7 rfl rfl)
theorem dX7_judge_126 : decode cX7_judge 126 = .ok (.iconst 1, 1) := dk_4 (dk_at dksX7_judge_5 8 rfl rfl)
theorem dX7_judge_127 : decode cX7_judge 127 = .ok (.isub, 1) := dk_100 (dk_at dksX7_judge_5 9 rfl rfl)
theorem dX7_judge_128 : decode cX7_judge 128 = .ok (.iaload, 1) := dk_46 (dk_at dksX7_judge_5 10 rfl rfl)
theorem dX7_judge_129 : decode cX7_judge 129 = .ok (.ifCond .ne 7, 3) := dk_154 0 7 (dk_at dksX7_judge_5 11 rfl rfl)
theorem dX7_judge_132 : decode cX7_judge 132 = .ok (.iconst 1, 1) := dk_4 (dk_at dksX7_judge_5 14 rfl rfl)
theorem dX7_judge_133 : decode cX7_judge 133 = .ok (.goto 4, 3) := dk_167 0 4 (dk_at dksX7_judge_5 15 rfl rfl)
theorem dX7_judge_136 : decode cX7_judge 136 = .ok (.iconst 0, 1) := dk_3 (dk_at dksX7_judge_5 18 rfl rfl)
theorem dX7_judge_137 : decode cX7_judge 137 = .ok (.istore_n 3, 1) := dk_62 (dk_at dksX7_judge_5 19 rfl rfl)
theorem dX7_judge_138 : decode cX7_judge 138 = .ok (.aload_n 0, 1) := dk_42 (dk_at dksX7_judge_5 20 rfl rfl)
theorem dX7_judge_139 : decode cX7_judge 139 = .ok (.getfield 21, 3) := dk_180 0 21 (dk_at dksX7_judge_5 21 rfl rfl)
theorem dX7_judge_142 : decode cX7_judge 142 = .ok (.iload_n 1, 1) := dk_27 (dk_at dksX7_judge_6 0 rfl rfl)
theorem dX7_judge_143 : decode cX7_judge 143 = .ok (.iload_n 3, 1) := dk_29 (dk_at dksX7_judge_6 1 rfl rfl)
theorem dX7_judge_144 : decode cX7_judge 144 = .ok (.ifCond .eq 21, 3) := dk_153 0 21 (dk_at dksX7_judge_6 2 rfl rfl)
theorem dX7_judge_147 : decode cX7_judge 147 = .ok (.bipush 10, 2) := dk_16 10 (dk_at dksX7_judge_6 5 rfl rfl)
theorem dX7_judge_149 : decode cX7_judge 149 = .ok (.aload_n 0, 1) := dk_42 (dk_at dksX7_judge_6 7 rfl rfl)
theorem dX7_judge_150 : decode cX7_judge 150 = .ok (.getfield 21, 3) := dk_180 0 21 (dk_at dksX7_judge_6 8 rfl rfl)
theorem dX7_judge_153 : decode cX7_judge 153 = .ok (.iload_n 1, 1) := dk_27 (dk_at dksX7_judge_6 11 rfl rfl)
theorem dX7_judge_154 : decode cX7_judge 154 = .ok (.iconst 1, 1) := dk_4 (dk_at dksX7_judge_6 12 rfl rfl)
theorem dX7_judge_155 : decode cX7_judge 155 = .ok (.isub, 1) := dk_100 (dk_at dksX7_judge_6 13 rfl rfl)
theorem dX7_judge_156 : decode cX7_judge 156 = .ok (.iaload, 1) := dk_46 (dk_at dksX7_judge_6 14 rfl rfl)
theorem dX7_judge_157 : decode cX7_judge 157 = .ok (.iconst 1, 1) := dk_4 (dk_at dksX7_judge_6 15 rfl rfl)
theorem dX7_judge_158 : decode cX7_judge 158 = .ok (.iadd, 1) := dk_96 (dk_at dksX7_judge_6 16 rfl rfl)
theorem dX7_judge_159 : decode cX7_judge 159 = .ok (.invokestatic 54, 3) := dk_184 0 54 (dk_at dksX7_judge_6 17 rfl rfl)
theorem dX7_judge_162 : decode cX7_judge 162 = .ok (.goto 4, 3) := dk_167 0 4 (dk_at dksX7_judge_6 20 rfl rfl)
theorem dX7_judge_165 : decode cX7_judge 165 = .ok (.iconst 0, 1) := dk_3 (dk_at dksX7_judge_6 23 rfl rfl)
theorem dX7_judge_166 : decode cX7_judge 166 = .ok (.iastore, 1) := dk_79 (dk_at dksX7_judge_7 0 rfl rfl)
theorem dX7_judge_167 : decode cX7_judge 167 = .ok (.aload_n 0, 1) := dk_42 (dk_at dksX7_judge_7 1 rfl rfl)
theorem dX7_judge_168 : decode cX7_judge 168 = .ok (.getfield 24, 3) := dk_180 0 24 (dk_at dksX7_judge_7 2 rfl rfl)
theorem dX7_judge_171 : decode cX7_judge 171 = .ok (.iload_n 1, 1) := dk_27 (dk_at dksX7_judge_7 5 rfl rfl)
theorem dX7_judge_172 : decode cX7_judge 172 = .ok (.iconst 0, 1) := dk_3 (dk_at dksX7_judge_7 6 rfl rfl)
theorem dX7_judge_173 : decode cX7_judge 173 = .ok (.iastore, 1) := dk_79 (dk_at dksX7_judge_7 7 rfl rfl)
theorem dX7_judge_174 : decode cX7_judge 174 = .ok (.aload_n 0, 1) := dk_42 (dk_at dksX7_judge_7 8 rfl rfl)
theorem dX7_judge_175 : decode cX7_judge 175 = .ok (.getfield 18, 3) := dk_180 0 18 (dk_at dksX7_judge_7 9 rfl rfl)
theorem dX7_judge_178 : decode cX7_judge 178 = .ok (.iload_n 1, 1) := dk_27 (dk_at dksX7_judge_7 12 rfl rfl)
theorem dX7_judge_179 : decode cX7_judge 179 = .ok (.iaload, 1) := dk_46 (dk_at dksX7_judge_7 13 rfl rfl)
theorem dX7_judge_180 : decode cX7_judge 180 = .ok (.ifCond .ne 61, 3) := dk_154 0 61 (dk_at dksX7_judge_7 14 rfl rfl)
theorem dX7_judge_183 : decode cX7_judge 183 = .ok (.aload_n 0, 1) := dk_42 (dk_at dksX7_judge_7 17 rfl rfl)
theorem dX7_judge_184 : decode cX7_judge 184 = .ok (.iload_n 1, 1) := dk_27 (dk_at dksX7_judge_7 18 rfl rfl)
theorem dX7_judge_185 : decode cX7_judge 185 = .ok (.invokevirtual 86, 3) := dk_182 0 86 (dk_at dksX7_judge_7 19 rfl rfl)
theorem dX7_judge_188 : decode cX7_judge 188 = .ok (.iconst 5, 1) := dk_8 (dk_at dksX7_judge_7 22 rfl rfl)
theorem dX7_judge_189 : decode cX7_judge 189 = .ok (.aload_n 0, 1) := dk_42 (dk_at dksX7_judge_7 23 rfl rfl)
theorem dX7_judge_190 : decode cX7_judge 190 = .ok (.aload_n 2, 1) := dk_44 (dk_at dksX7_judge_8 0 rfl rfl)
theorem dX7_judge_191 : decode cX7_judge 191 = .ok (.iconst 1, 1) := dk_4 (dk_at dksX7_judge_8 1 rfl rfl)
theorem dX7_judge_192 : decode cX7_judge 192 = .ok (.invokevirtual 100, 3) := dk_182 0 100 (dk_at dksX7_judge_8 2 rfl rfl)
theorem dX7_judge_195 : decode cX7_judge 195 = .ok (.imul, 1) := dk_104 (dk_at dksX7_judge_8 5 rfl rfl)
theorem dX7_judge_196 : decode cX7_judge 196 = .ok (.iadd, 1) := dk_96 (dk_at dksX7_judge_8 6 rfl rfl)
theorem dX7_judge_197 : decode cX7_judge 197 = .ok (.iconst 2, 1) := dk_5 (dk_at dksX7_judge_8 7 rfl rfl)
theorem dX7_judge_198 : decode cX7_judge 198 = .ok (.aload_n 0, 1) := dk_42 (dk_at dksX7_judge_8 8 rfl rfl)
theorem dX7_judge_199 : decode cX7_judge 199 = .ok (.getfield 15, 3) := dk_180 0 15 (dk_at dksX7_judge_8 9 rfl rfl)
theorem dX7_judge_202 : decode cX7_judge 202 = .ok (.iload_n 1, 1) := dk_27 (dk_at dksX7_judge_8 12 rfl rfl)
theorem dX7_judge_203 : decode cX7_judge 203 = .ok (.iaload, 1) := dk_46 (dk_at dksX7_judge_8 13 rfl rfl)
theorem dX7_judge_204 : decode cX7_judge 204 = .ok (.aload_n 2, 1) := dk_44 (dk_at dksX7_judge_8 14 rfl rfl)
theorem dX7_judge_205 : decode cX7_judge 205 = .ok (.getfield 58, 3) := dk_180 0 58 (dk_at dksX7_judge_8 15 rfl rfl)
theorem dX7_judge_208 : decode cX7_judge 208 = .ok (.isub, 1) := dk_100 (dk_at dksX7_judge_8 18 rfl rfl)
theorem dX7_judge_209 : decode cX7_judge 209 = .ok (.invokestatic 44, 3) := dk_184 0 44 (dk_at dksX7_judge_8 19 rfl rfl)
theorem dX7_judge_212 : decode cX7_judge 212 = .ok (.imul, 1) := dk_104 (dk_at dksX7_judge_8 22 rfl rfl)
theorem dX7_judge_213 : decode cX7_judge 213 = .ok (.isub, 1) := dk_100 (dk_at dksX7_judge_8 23 rfl rfl)
theorem dX7_judge_214 : decode cX7_judge 214 = .ok (.istore 4, 2) := dk_54 4 (dk_at dksX7_judge_9 0 rfl rfl)
theorem dX7_judge_216 : decode cX7_judge 216 = .ok (.aload_n 0, 1) := dk_42 (dk_at dksX7_judge_9 2 rfl rfl)
theorem dX7_judge_217 : decode cX7_judge 217 = .ok (.getfield 24, 3) := dk_180 0 24 (dk_at dksX7_judge_9 3 rfl rfl)
theorem dX7_judge_220 : decode cX7_judge 220 = .ok (.iload_n 1, 1) := dk_27 (dk_at dksX7_judge_9 6 rfl rfl)
theorem dX7_judge_221 : decode cX7_judge 221 = .ok (.iconst 0, 1) := dk_3 (dk_at dksX7_judge_9 7 rfl rfl)
theorem dX7_judge_222 : decode cX7_judge 222 = .ok (.iload 4, 2) := dk_21 4 (dk_at dksX7_judge_9 8 rfl rfl)
theorem dX7_judge_224 : decode cX7_judge 224 = .ok (.invokestatic 104, 3) := dk_184 0 104 (dk_at dksX7_judge_9 10 rfl rfl)
theorem dX7_judge_227 : decode cX7_judge 227 = .ok (.bipush 10, 2) := dk_16 10 (dk_at dksX7_judge_9 13 rfl rfl)
theorem dX7_judge_229 : decode cX7_judge 229 = .ok (.aload_n 0, 1) := dk_42 (dk_at dksX7_judge_9 15 rfl rfl)
theorem dX7_judge_230 : decode cX7_judge 230 = .ok (.getfield 21, 3) := dk_180 0 21 (dk_at dksX7_judge_9 16 rfl rfl)
theorem dX7_judge_233 : decode cX7_judge 233 = .ok (.iload_n 1, 1) := dk_27 (dk_at dksX7_judge_9 19 rfl rfl)
theorem dX7_judge_234 : decode cX7_judge 234 = .ok (.iaload, 1) := dk_46 (dk_at dksX7_judge_9 20 rfl rfl)
theorem dX7_judge_235 : decode cX7_judge 235 = .ok (.iadd, 1) := dk_96 (dk_at dksX7_judge_9 21 rfl rfl)
theorem dX7_judge_236 : decode cX7_judge 236 = .ok (.imul, 1) := dk_104 (dk_at dksX7_judge_9 22 rfl rfl)
theorem dX7_judge_237 : decode cX7_judge 237 = .ok (.bipush 10, 2) := dk_16 10 (dk_at dksX7_judge_10 0 rfl rfl)
theorem dX7_judge_239 : decode cX7_judge 239 = .ok (.idiv, 1) := dk_108 (dk_at dksX7_judge_10 2 rfl rfl)
theorem dX7_judge_240 : decode cX7_judge 240 = .ok (.iastore, 1) := dk_79 (dk_at dksX7_judge_10 3 rfl rfl)
theorem dX7_judge_241 : decode cX7_judge 241 = .ok (.return_, 1) := dk_177 (dk_at dksX7_judge_10 4 rfl rfl)
abbrev cX7_matches : ByteArray := prog_2_method_3_code
def yX7_matches : MethodName := ⟨RX7, "matches", "(LSungSlides$Syllable;I)Z"⟩
def dkwX7_matches_3 : List UInt8 := [167, 0, 4, 3, 172]
abbrev dktX7_matches_3 : List UInt8 := dkwX7_matches_3 ++ []
def dkwX7_matches_2 : List UInt8 := [16, 12, 112, 100, 184, 0, 54, 62, 29, 42, 180, 0, 27, 180, 0, 49, 4, 46, 163, 0, 7, 4]
abbrev dktX7_matches_2 : List UInt8 := dkwX7_matches_2 ++ dktX7_matches_3
def dkwX7_matches_1 : List UInt8 := [184, 0, 44, 62, 42, 180, 0, 27, 180, 0, 49, 6, 46, 4, 160, 0, 18, 29, 16, 12, 112, 16, 12, 29]
abbrev dktX7_matches_1 : List UInt8 := dkwX7_matches_1 ++ dktX7_matches_2
def dkwX7_matches_0 : List UInt8 := [42, 180, 0, 35, 28, 46, 2, 160, 0, 5, 3, 172, 42, 180, 0, 35, 28, 46, 43, 28, 182, 0, 38, 100]
abbrev dktX7_matches_0 : List UInt8 := dkwX7_matches_0 ++ dktX7_matches_1
theorem dksX7_matches_0 : cX7_matches.data.toList.drop 0 = dktX7_matches_0 := by decide +kernel
theorem dksX7_matches_1 : cX7_matches.data.toList.drop 24 = dktX7_matches_1 := dk_seg dksX7_matches_0 24 rfl rfl
theorem dksX7_matches_2 : cX7_matches.data.toList.drop 48 = dktX7_matches_2 := dk_seg dksX7_matches_1 24 rfl rfl
theorem dksX7_matches_3 : cX7_matches.data.toList.drop 70 = dktX7_matches_3 := dk_seg dksX7_matches_2 22 rfl rfl
theorem dX7_matches_0 : decode cX7_matches 0 = .ok (.aload_n 0, 1) := dk_42 (dk_at dksX7_matches_0 0 rfl rfl)
theorem dX7_matches_1 : decode cX7_matches 1 = .ok (.getfield 35, 3) := dk_180 0 35 (dk_at dksX7_matches_0 1 rfl rfl)
theorem dX7_matches_4 : decode cX7_matches 4 = .ok (.iload_n 2, 1) := dk_28 (dk_at dksX7_matches_0 4 rfl rfl)
theorem dX7_matches_5 : decode cX7_matches 5 = .ok (.iaload, 1) := dk_46 (dk_at dksX7_matches_0 5 rfl rfl)
theorem dX7_matches_6 : decode cX7_matches 6 = .ok (.iconst (-1), 1) := dk_2 (dk_at dksX7_matches_0 6 rfl rfl)
theorem dX7_matches_7 : decode cX7_matches 7 = .ok (.if_icmp .ne 5, 3) := dk_160 0 5 (dk_at dksX7_matches_0 7 rfl rfl)
theorem dX7_matches_10 : decode cX7_matches 10 = .ok (.iconst 0, 1) := dk_3 (dk_at dksX7_matches_0 10 rfl rfl)
theorem dX7_matches_11 : decode cX7_matches 11 = .ok (.ireturn, 1) := dk_172 (dk_at dksX7_matches_0 11 rfl rfl)
theorem dX7_matches_12 : decode cX7_matches 12 = .ok (.aload_n 0, 1) := dk_42 (dk_at dksX7_matches_0 12 rfl rfl)
theorem dX7_matches_13 : decode cX7_matches 13 = .ok (.getfield 35, 3) := dk_180 0 35 (dk_at dksX7_matches_0 13 rfl rfl)
theorem dX7_matches_16 : decode cX7_matches 16 = .ok (.iload_n 2, 1) := dk_28 (dk_at dksX7_matches_0 16 rfl rfl)
theorem dX7_matches_17 : decode cX7_matches 17 = .ok (.iaload, 1) := dk_46 (dk_at dksX7_matches_0 17 rfl rfl)
theorem dX7_matches_18 : decode cX7_matches 18 = .ok (.aload_n 1, 1) := dk_43 (dk_at dksX7_matches_0 18 rfl rfl)
theorem dX7_matches_19 : decode cX7_matches 19 = .ok (.iload_n 2, 1) := dk_28 (dk_at dksX7_matches_0 19 rfl rfl)
theorem dX7_matches_20 : decode cX7_matches 20 = .ok (.invokevirtual 38, 3) := dk_182 0 38 (dk_at dksX7_matches_0 20 rfl rfl)
theorem dX7_matches_23 : decode cX7_matches 23 = .ok (.isub, 1) := dk_100 (dk_at dksX7_matches_0 23 rfl rfl)
theorem dX7_matches_24 : decode cX7_matches 24 = .ok (.invokestatic 44, 3) := dk_184 0 44 (dk_at dksX7_matches_1 0 rfl rfl)
theorem dX7_matches_27 : decode cX7_matches 27 = .ok (.istore_n 3, 1) := dk_62 (dk_at dksX7_matches_1 3 rfl rfl)
theorem dX7_matches_28 : decode cX7_matches 28 = .ok (.aload_n 0, 1) := dk_42 (dk_at dksX7_matches_1 4 rfl rfl)
theorem dX7_matches_29 : decode cX7_matches 29 = .ok (.getfield 27, 3) := dk_180 0 27 (dk_at dksX7_matches_1 5 rfl rfl)
theorem dX7_matches_32 : decode cX7_matches 32 = .ok (.getfield 49, 3) := dk_180 0 49 (dk_at dksX7_matches_1 8 rfl rfl)
theorem dX7_matches_35 : decode cX7_matches 35 = .ok (.iconst 3, 1) := dk_6 (dk_at dksX7_matches_1 11 rfl rfl)
theorem dX7_matches_36 : decode cX7_matches 36 = .ok (.iaload, 1) := dk_46 (dk_at dksX7_matches_1 12 rfl rfl)
theorem dX7_matches_37 : decode cX7_matches 37 = .ok (.iconst 1, 1) := dk_4 (dk_at dksX7_matches_1 13 rfl rfl)
theorem dX7_matches_38 : decode cX7_matches 38 = .ok (.if_icmp .ne 18, 3) := dk_160 0 18 (dk_at dksX7_matches_1 14 rfl rfl)
theorem dX7_matches_41 : decode cX7_matches 41 = .ok (.iload_n 3, 1) := dk_29 (dk_at dksX7_matches_1 17 rfl rfl)
theorem dX7_matches_42 : decode cX7_matches 42 = .ok (.bipush 12, 2) := dk_16 12 (dk_at dksX7_matches_1 18 rfl rfl)
theorem dX7_matches_44 : decode cX7_matches 44 = .ok (.irem, 1) := dk_112 (dk_at dksX7_matches_1 20 rfl rfl)
theorem dX7_matches_45 : decode cX7_matches 45 = .ok (.bipush 12, 2) := dk_16 12 (dk_at dksX7_matches_1 21 rfl rfl)
theorem dX7_matches_47 : decode cX7_matches 47 = .ok (.iload_n 3, 1) := dk_29 (dk_at dksX7_matches_1 23 rfl rfl)
theorem dX7_matches_48 : decode cX7_matches 48 = .ok (.bipush 12, 2) := dk_16 12 (dk_at dksX7_matches_2 0 rfl rfl)
theorem dX7_matches_50 : decode cX7_matches 50 = .ok (.irem, 1) := dk_112 (dk_at dksX7_matches_2 2 rfl rfl)
theorem dX7_matches_51 : decode cX7_matches 51 = .ok (.isub, 1) := dk_100 (dk_at dksX7_matches_2 3 rfl rfl)
theorem dX7_matches_52 : decode cX7_matches 52 = .ok (.invokestatic 54, 3) := dk_184 0 54 (dk_at dksX7_matches_2 4 rfl rfl)
theorem dX7_matches_55 : decode cX7_matches 55 = .ok (.istore_n 3, 1) := dk_62 (dk_at dksX7_matches_2 7 rfl rfl)
theorem dX7_matches_56 : decode cX7_matches 56 = .ok (.iload_n 3, 1) := dk_29 (dk_at dksX7_matches_2 8 rfl rfl)
theorem dX7_matches_57 : decode cX7_matches 57 = .ok (.aload_n 0, 1) := dk_42 (dk_at dksX7_matches_2 9 rfl rfl)
theorem dX7_matches_58 : decode cX7_matches 58 = .ok (.getfield 27, 3) := dk_180 0 27 (dk_at dksX7_matches_2 10 rfl rfl)
theorem dX7_matches_61 : decode cX7_matches 61 = .ok (.getfield 49, 3) := dk_180 0 49 (dk_at dksX7_matches_2 13 rfl rfl)
theorem dX7_matches_64 : decode cX7_matches 64 = .ok (.iconst 1, 1) := dk_4 (dk_at dksX7_matches_2 16 rfl rfl)
theorem dX7_matches_65 : decode cX7_matches 65 = .ok (.iaload, 1) := dk_46 (dk_at dksX7_matches_2 17 rfl rfl)
theorem dX7_matches_66 : decode cX7_matches 66 = .ok (.if_icmp .gt 7, 3) := dk_163 0 7 (dk_at dksX7_matches_2 18 rfl rfl)
theorem dX7_matches_69 : decode cX7_matches 69 = .ok (.iconst 1, 1) := dk_4 (dk_at dksX7_matches_2 21 rfl rfl)
theorem dX7_matches_70 : decode cX7_matches 70 = .ok (.goto 4, 3) := dk_167 0 4 (dk_at dksX7_matches_3 0 rfl rfl)
theorem dX7_matches_73 : decode cX7_matches 73 = .ok (.iconst 0, 1) := dk_3 (dk_at dksX7_matches_3 3 rfl rfl)
theorem dX7_matches_74 : decode cX7_matches 74 = .ok (.ireturn, 1) := dk_172 (dk_at dksX7_matches_3 4 rfl rfl)
abbrev cX7_onset : ByteArray := prog_2_method_4_code
def yX7_onset : MethodName := ⟨RX7, "onset", "(LSungSlides$Syllable;)I"⟩
def dkwX7_onset_2 : List UInt8 := [153, 0, 10, 43, 180, 0, 58, 28, 96, 172, 132, 2, 1, 167, 255, 200, 16, 251, 172]
abbrev dktX7_onset_2 : List UInt8 := dkwX7_onset_2 ++ []
def dkwX7_onset_1 : List UInt8 := [182, 0, 62, 153, 0, 10, 43, 180, 0, 58, 28, 100, 172, 42, 43, 180, 0, 58, 28, 96, 182, 0, 62]
abbrev dktX7_onset_1 : List UInt8 := dkwX7_onset_1 ++ dktX7_onset_2
def dkwX7_onset_0 : List UInt8 := [3, 61, 28, 42, 180, 0, 27, 180, 0, 49, 5, 46, 163, 0, 49, 42, 43, 180, 0, 58, 28, 100]
abbrev dktX7_onset_0 : List UInt8 := dkwX7_onset_0 ++ dktX7_onset_1
theorem dksX7_onset_0 : cX7_onset.data.toList.drop 0 = dktX7_onset_0 := by decide +kernel
theorem dksX7_onset_1 : cX7_onset.data.toList.drop 22 = dktX7_onset_1 := dk_seg dksX7_onset_0 22 rfl rfl
theorem dksX7_onset_2 : cX7_onset.data.toList.drop 45 = dktX7_onset_2 := dk_seg dksX7_onset_1 23 rfl rfl
theorem dX7_onset_0 : decode cX7_onset 0 = .ok (.iconst 0, 1) := dk_3 (dk_at dksX7_onset_0 0 rfl rfl)
theorem dX7_onset_1 : decode cX7_onset 1 = .ok (.istore_n 2, 1) := dk_61 (dk_at dksX7_onset_0 1 rfl rfl)
theorem dX7_onset_2 : decode cX7_onset 2 = .ok (.iload_n 2, 1) := dk_28 (dk_at dksX7_onset_0 2 rfl rfl)
theorem dX7_onset_3 : decode cX7_onset 3 = .ok (.aload_n 0, 1) := dk_42 (dk_at dksX7_onset_0 3 rfl rfl)
theorem dX7_onset_4 : decode cX7_onset 4 = .ok (.getfield 27, 3) := dk_180 0 27 (dk_at dksX7_onset_0 4 rfl rfl)
theorem dX7_onset_7 : decode cX7_onset 7 = .ok (.getfield 49, 3) := dk_180 0 49 (dk_at dksX7_onset_0 7 rfl rfl)
theorem dX7_onset_10 : decode cX7_onset 10 = .ok (.iconst 2, 1) := dk_5 (dk_at dksX7_onset_0 10 rfl rfl)
theorem dX7_onset_11 : decode cX7_onset 11 = .ok (.iaload, 1) := dk_46 (dk_at dksX7_onset_0 11 rfl rfl)
theorem dX7_onset_12 : decode cX7_onset 12 = .ok (.if_icmp .gt 49, 3) := dk_163 0 49 (dk_at dksX7_onset_0 12 rfl rfl)
theorem dX7_onset_15 : decode cX7_onset 15 = .ok (.aload_n 0, 1) := dk_42 (dk_at dksX7_onset_0 15 rfl rfl)
theorem dX7_onset_16 : decode cX7_onset 16 = .ok (.aload_n 1, 1) := dk_43 (dk_at dksX7_onset_0 16 rfl rfl)
theorem dX7_onset_17 : decode cX7_onset 17 = .ok (.getfield 58, 3) := dk_180 0 58 (dk_at dksX7_onset_0 17 rfl rfl)
theorem dX7_onset_20 : decode cX7_onset 20 = .ok (.iload_n 2, 1) := dk_28 (dk_at dksX7_onset_0 20 rfl rfl)
theorem dX7_onset_21 : decode cX7_onset 21 = .ok (.isub, 1) := dk_100 (dk_at dksX7_onset_0 21 rfl rfl)
theorem dX7_onset_22 : decode cX7_onset 22 = .ok (.invokevirtual 62, 3) := dk_182 0 62 (dk_at dksX7_onset_1 0 rfl rfl)
theorem dX7_onset_25 : decode cX7_onset 25 = .ok (.ifCond .eq 10, 3) := dk_153 0 10 (dk_at dksX7_onset_1 3 rfl rfl)
theorem dX7_onset_28 : decode cX7_onset 28 = .ok (.aload_n 1, 1) := dk_43 (dk_at dksX7_onset_1 6 rfl rfl)
theorem dX7_onset_29 : decode cX7_onset 29 = .ok (.getfield 58, 3) := dk_180 0 58 (dk_at dksX7_onset_1 7 rfl rfl)
theorem dX7_onset_32 : decode cX7_onset 32 = .ok (.iload_n 2, 1) := dk_28 (dk_at dksX7_onset_1 10 rfl rfl)
theorem dX7_onset_33 : decode cX7_onset 33 = .ok (.isub, 1) := dk_100 (dk_at dksX7_onset_1 11 rfl rfl)
theorem dX7_onset_34 : decode cX7_onset 34 = .ok (.ireturn, 1) := dk_172 (dk_at dksX7_onset_1 12 rfl rfl)
theorem dX7_onset_35 : decode cX7_onset 35 = .ok (.aload_n 0, 1) := dk_42 (dk_at dksX7_onset_1 13 rfl rfl)
theorem dX7_onset_36 : decode cX7_onset 36 = .ok (.aload_n 1, 1) := dk_43 (dk_at dksX7_onset_1 14 rfl rfl)
theorem dX7_onset_37 : decode cX7_onset 37 = .ok (.getfield 58, 3) := dk_180 0 58 (dk_at dksX7_onset_1 15 rfl rfl)
theorem dX7_onset_40 : decode cX7_onset 40 = .ok (.iload_n 2, 1) := dk_28 (dk_at dksX7_onset_1 18 rfl rfl)
theorem dX7_onset_41 : decode cX7_onset 41 = .ok (.iadd, 1) := dk_96 (dk_at dksX7_onset_1 19 rfl rfl)
theorem dX7_onset_42 : decode cX7_onset 42 = .ok (.invokevirtual 62, 3) := dk_182 0 62 (dk_at dksX7_onset_1 20 rfl rfl)
theorem dX7_onset_45 : decode cX7_onset 45 = .ok (.ifCond .eq 10, 3) := dk_153 0 10 (dk_at dksX7_onset_2 0 rfl rfl)
theorem dX7_onset_48 : decode cX7_onset 48 = .ok (.aload_n 1, 1) := dk_43 (dk_at dksX7_onset_2 3 rfl rfl)
theorem dX7_onset_49 : decode cX7_onset 49 = .ok (.getfield 58, 3) := dk_180 0 58 (dk_at dksX7_onset_2 4 rfl rfl)
theorem dX7_onset_52 : decode cX7_onset 52 = .ok (.iload_n 2, 1) := dk_28 (dk_at dksX7_onset_2 7 rfl rfl)
theorem dX7_onset_53 : decode cX7_onset 53 = .ok (.iadd, 1) := dk_96 (dk_at dksX7_onset_2 8 rfl rfl)
theorem dX7_onset_54 : decode cX7_onset 54 = .ok (.ireturn, 1) := dk_172 (dk_at dksX7_onset_2 9 rfl rfl)
theorem dX7_onset_55 : decode cX7_onset 55 = .ok (.iinc 2 1, 3) := dk_132 2 1 (dk_at dksX7_onset_2 10 rfl rfl)
theorem dX7_onset_58 : decode cX7_onset 58 = .ok (.goto (-56), 3) := dk_167 255 200 (dk_at dksX7_onset_2 13 rfl rfl)
theorem dX7_onset_61 : decode cX7_onset 61 = .ok (.bipush (-5), 2) := dk_16 251 (dk_at dksX7_onset_2 16 rfl rfl)
theorem dX7_onset_63 : decode cX7_onset 63 = .ok (.ireturn, 1) := dk_172 (dk_at dksX7_onset_2 18 rfl rfl)
abbrev cX7_isOnset : ByteArray := prog_2_method_2_code
def yX7_isOnset : MethodName := ⟨RX7, "isOnset", "(I)Z"⟩
def dkwX7_isOnset_1 : List UInt8 := [180, 0, 35, 27, 4, 100, 46, 42, 180, 0, 35, 27, 46, 159, 0, 7, 4, 167, 0, 4, 3, 172]
abbrev dktX7_isOnset_1 : List UInt8 := dkwX7_isOnset_1 ++ []
def dkwX7_isOnset_0 : List UInt8 := [27, 184, 0, 31, 153, 0, 38, 42, 180, 0, 35, 27, 46, 2, 159, 0, 28, 27, 153, 0, 20, 42]
abbrev dktX7_isOnset_0 : List UInt8 := dkwX7_isOnset_0 ++ dktX7_isOnset_1
theorem dksX7_isOnset_0 : cX7_isOnset.data.toList.drop 0 = dktX7_isOnset_0 := by decide +kernel
theorem dksX7_isOnset_1 : cX7_isOnset.data.toList.drop 22 = dktX7_isOnset_1 := dk_seg dksX7_isOnset_0 22 rfl rfl
theorem dX7_isOnset_0 : decode cX7_isOnset 0 = .ok (.iload_n 1, 1) := dk_27 (dk_at dksX7_isOnset_0 0 rfl rfl)
theorem dX7_isOnset_1 : decode cX7_isOnset 1 = .ok (.invokestatic 31, 3) := dk_184 0 31 (dk_at dksX7_isOnset_0 1 rfl rfl)
theorem dX7_isOnset_4 : decode cX7_isOnset 4 = .ok (.ifCond .eq 38, 3) := dk_153 0 38 (dk_at dksX7_isOnset_0 4 rfl rfl)
theorem dX7_isOnset_7 : decode cX7_isOnset 7 = .ok (.aload_n 0, 1) := dk_42 (dk_at dksX7_isOnset_0 7 rfl rfl)
theorem dX7_isOnset_8 : decode cX7_isOnset 8 = .ok (.getfield 35, 3) := dk_180 0 35 (dk_at dksX7_isOnset_0 8 rfl rfl)
theorem dX7_isOnset_11 : decode cX7_isOnset 11 = .ok (.iload_n 1, 1) := dk_27 (dk_at dksX7_isOnset_0 11 rfl rfl)
theorem dX7_isOnset_12 : decode cX7_isOnset 12 = .ok (.iaload, 1) := dk_46 (dk_at dksX7_isOnset_0 12 rfl rfl)
theorem dX7_isOnset_13 : decode cX7_isOnset 13 = .ok (.iconst (-1), 1) := dk_2 (dk_at dksX7_isOnset_0 13 rfl rfl)
theorem dX7_isOnset_14 : decode cX7_isOnset 14 = .ok (.if_icmp .eq 28, 3) := dk_159 0 28 (dk_at dksX7_isOnset_0 14 rfl rfl)
theorem dX7_isOnset_17 : decode cX7_isOnset 17 = .ok (.iload_n 1, 1) := dk_27 (dk_at dksX7_isOnset_0 17 rfl rfl)
theorem dX7_isOnset_18 : decode cX7_isOnset 18 = .ok (.ifCond .eq 20, 3) := dk_153 0 20 (dk_at dksX7_isOnset_0 18 rfl rfl)
theorem dX7_isOnset_21 : decode cX7_isOnset 21 = .ok (.aload_n 0, 1) := dk_42 (dk_at dksX7_isOnset_0 21 rfl rfl)
theorem dX7_isOnset_22 : decode cX7_isOnset 22 = .ok (.getfield 35, 3) := dk_180 0 35 (dk_at dksX7_isOnset_1 0 rfl rfl)
theorem dX7_isOnset_25 : decode cX7_isOnset 25 = .ok (.iload_n 1, 1) := dk_27 (dk_at dksX7_isOnset_1 3 rfl rfl)
theorem dX7_isOnset_26 : decode cX7_isOnset 26 = .ok (.iconst 1, 1) := dk_4 (dk_at dksX7_isOnset_1 4 rfl rfl)
theorem dX7_isOnset_27 : decode cX7_isOnset 27 = .ok (.isub, 1) := dk_100 (dk_at dksX7_isOnset_1 5 rfl rfl)
theorem dX7_isOnset_28 : decode cX7_isOnset 28 = .ok (.iaload, 1) := dk_46 (dk_at dksX7_isOnset_1 6 rfl rfl)
theorem dX7_isOnset_29 : decode cX7_isOnset 29 = .ok (.aload_n 0, 1) := dk_42 (dk_at dksX7_isOnset_1 7 rfl rfl)
theorem dX7_isOnset_30 : decode cX7_isOnset 30 = .ok (.getfield 35, 3) := dk_180 0 35 (dk_at dksX7_isOnset_1 8 rfl rfl)
theorem dX7_isOnset_33 : decode cX7_isOnset 33 = .ok (.iload_n 1, 1) := dk_27 (dk_at dksX7_isOnset_1 11 rfl rfl)
theorem dX7_isOnset_34 : decode cX7_isOnset 34 = .ok (.iaload, 1) := dk_46 (dk_at dksX7_isOnset_1 12 rfl rfl)
theorem dX7_isOnset_35 : decode cX7_isOnset 35 = .ok (.if_icmp .eq 7, 3) := dk_159 0 7 (dk_at dksX7_isOnset_1 13 rfl rfl)
theorem dX7_isOnset_38 : decode cX7_isOnset 38 = .ok (.iconst 1, 1) := dk_4 (dk_at dksX7_isOnset_1 16 rfl rfl)
theorem dX7_isOnset_39 : decode cX7_isOnset 39 = .ok (.goto 4, 3) := dk_167 0 4 (dk_at dksX7_isOnset_1 17 rfl rfl)
theorem dX7_isOnset_42 : decode cX7_isOnset 42 = .ok (.iconst 0, 1) := dk_3 (dk_at dksX7_isOnset_1 20 rfl rfl)
theorem dX7_isOnset_43 : decode cX7_isOnset 43 = .ok (.ireturn, 1) := dk_172 (dk_at dksX7_isOnset_1 21 rfl rfl)
abbrev cX7_reason : ByteArray := prog_2_method_7_code
def yX7_reason : MethodName := ⟨RX7, "reason", "(LSungSlides$Syllable;I)I"⟩
def dkwX7_reason_4 : List UInt8 := [7, 167, 0, 4, 3, 172]
abbrev dktX7_reason_4 : List UInt8 := dkwX7_reason_4 ++ []
def dkwX7_reason_3 : List UInt8 := [160, 0, 7, 6, 167, 0, 25, 42, 28, 182, 0, 86, 42, 180, 0, 27, 180, 0, 49, 7, 46, 162, 0, 7]
abbrev dktX7_reason_3 : List UInt8 := dkwX7_reason_3 ++ dktX7_reason_4
def dkwX7_reason_2 : List UInt8 := [153, 0, 5, 4, 172, 42, 180, 0, 9, 28, 46, 154, 0, 5, 5, 172, 42, 180, 0, 15, 28, 46, 16, 251]
abbrev dktX7_reason_2 : List UInt8 := dkwX7_reason_2 ++ dktX7_reason_3
def dkwX7_reason_1 : List UInt8 := [180, 0, 35, 21, 4, 46, 2, 160, 0, 7, 4, 167, 0, 4, 3, 62, 132, 4, 1, 167, 255, 223, 29]
abbrev dktX7_reason_1 : List UInt8 := dkwX7_reason_1 ++ dktX7_reason_2
def dkwX7_reason_0 : List UInt8 := [4, 62, 43, 180, 0, 58, 54, 4, 21, 4, 43, 182, 0, 78, 162, 0, 30, 29, 153, 0, 18, 42]
abbrev dktX7_reason_0 : List UInt8 := dkwX7_reason_0 ++ dktX7_reason_1
theorem dksX7_reason_0 : cX7_reason.data.toList.drop 0 = dktX7_reason_0 := by decide +kernel
theorem dksX7_reason_1 : cX7_reason.data.toList.drop 22 = dktX7_reason_1 := dk_seg dksX7_reason_0 22 rfl rfl
theorem dksX7_reason_2 : cX7_reason.data.toList.drop 45 = dktX7_reason_2 := dk_seg dksX7_reason_1 23 rfl rfl
theorem dksX7_reason_3 : cX7_reason.data.toList.drop 69 = dktX7_reason_3 := dk_seg dksX7_reason_2 24 rfl rfl
theorem dksX7_reason_4 : cX7_reason.data.toList.drop 93 = dktX7_reason_4 := dk_seg dksX7_reason_3 24 rfl rfl
theorem dX7_reason_0 : decode cX7_reason 0 = .ok (.iconst 1, 1) := dk_4 (dk_at dksX7_reason_0 0 rfl rfl)
theorem dX7_reason_1 : decode cX7_reason 1 = .ok (.istore_n 3, 1) := dk_62 (dk_at dksX7_reason_0 1 rfl rfl)
theorem dX7_reason_2 : decode cX7_reason 2 = .ok (.aload_n 1, 1) := dk_43 (dk_at dksX7_reason_0 2 rfl rfl)
theorem dX7_reason_3 : decode cX7_reason 3 = .ok (.getfield 58, 3) := dk_180 0 58 (dk_at dksX7_reason_0 3 rfl rfl)
theorem dX7_reason_6 : decode cX7_reason 6 = .ok (.istore 4, 2) := dk_54 4 (dk_at dksX7_reason_0 6 rfl rfl)
theorem dX7_reason_8 : decode cX7_reason 8 = .ok (.iload 4, 2) := dk_21 4 (dk_at dksX7_reason_0 8 rfl rfl)
theorem dX7_reason_10 : decode cX7_reason 10 = .ok (.aload_n 1, 1) := dk_43 (dk_at dksX7_reason_0 10 rfl rfl)
theorem dX7_reason_11 : decode cX7_reason 11 = .ok (.invokevirtual 78, 3) := dk_182 0 78 (dk_at dksX7_reason_0 11 rfl rfl)
theorem dX7_reason_14 : decode cX7_reason 14 = .ok (.if_icmp .ge 30, 3) := dk_162 0 30 (dk_at dksX7_reason_0 14 rfl rfl)
theorem dX7_reason_17 : decode cX7_reason 17 = .ok (.iload_n 3, 1) := dk_29 (dk_at dksX7_reason_0 17 rfl rfl)
theorem dX7_reason_18 : decode cX7_reason 18 = .ok (.ifCond .eq 18, 3) := dk_153 0 18 (dk_at dksX7_reason_0 18 rfl rfl)
theorem dX7_reason_21 : decode cX7_reason 21 = .ok (.aload_n 0, 1) := dk_42 (dk_at dksX7_reason_0 21 rfl rfl)
theorem dX7_reason_22 : decode cX7_reason 22 = .ok (.getfield 35, 3) := dk_180 0 35 (dk_at dksX7_reason_1 0 rfl rfl)
theorem dX7_reason_25 : decode cX7_reason 25 = .ok (.iload 4, 2) := dk_21 4 (dk_at dksX7_reason_1 3 rfl rfl)
theorem dX7_reason_27 : decode cX7_reason 27 = .ok (.iaload, 1) := dk_46 (dk_at dksX7_reason_1 5 rfl rfl)
theorem dX7_reason_28 : decode cX7_reason 28 = .ok (.iconst (-1), 1) := dk_2 (dk_at dksX7_reason_1 6 rfl rfl)
theorem dX7_reason_29 : decode cX7_reason 29 = .ok (.if_icmp .ne 7, 3) := dk_160 0 7 (dk_at dksX7_reason_1 7 rfl rfl)
theorem dX7_reason_32 : decode cX7_reason 32 = .ok (.iconst 1, 1) := dk_4 (dk_at dksX7_reason_1 10 rfl rfl)
theorem dX7_reason_33 : decode cX7_reason 33 = .ok (.goto 4, 3) := dk_167 0 4 (dk_at dksX7_reason_1 11 rfl rfl)
theorem dX7_reason_36 : decode cX7_reason 36 = .ok (.iconst 0, 1) := dk_3 (dk_at dksX7_reason_1 14 rfl rfl)
theorem dX7_reason_37 : decode cX7_reason 37 = .ok (.istore_n 3, 1) := dk_62 (dk_at dksX7_reason_1 15 rfl rfl)
theorem dX7_reason_38 : decode cX7_reason 38 = .ok (.iinc 4 1, 3) := dk_132 4 1 (dk_at dksX7_reason_1 16 rfl rfl)
theorem dX7_reason_41 : decode cX7_reason 41 = .ok (.goto (-33), 3) := dk_167 255 223 (dk_at dksX7_reason_1 19 rfl rfl)
theorem dX7_reason_44 : decode cX7_reason 44 = .ok (.iload_n 3, 1) := dk_29 (dk_at dksX7_reason_1 22 rfl rfl)
theorem dX7_reason_45 : decode cX7_reason 45 = .ok (.ifCond .eq 5, 3) := dk_153 0 5 (dk_at dksX7_reason_2 0 rfl rfl)
theorem dX7_reason_48 : decode cX7_reason 48 = .ok (.iconst 1, 1) := dk_4 (dk_at dksX7_reason_2 3 rfl rfl)
theorem dX7_reason_49 : decode cX7_reason 49 = .ok (.ireturn, 1) := dk_172 (dk_at dksX7_reason_2 4 rfl rfl)
theorem dX7_reason_50 : decode cX7_reason 50 = .ok (.aload_n 0, 1) := dk_42 (dk_at dksX7_reason_2 5 rfl rfl)
theorem dX7_reason_51 : decode cX7_reason 51 = .ok (.getfield 9, 3) := dk_180 0 9 (dk_at dksX7_reason_2 6 rfl rfl)
theorem dX7_reason_54 : decode cX7_reason 54 = .ok (.iload_n 2, 1) := dk_28 (dk_at dksX7_reason_2 9 rfl rfl)
theorem dX7_reason_55 : decode cX7_reason 55 = .ok (.iaload, 1) := dk_46 (dk_at dksX7_reason_2 10 rfl rfl)
theorem dX7_reason_56 : decode cX7_reason 56 = .ok (.ifCond .ne 5, 3) := dk_154 0 5 (dk_at dksX7_reason_2 11 rfl rfl)
theorem dX7_reason_59 : decode cX7_reason 59 = .ok (.iconst 2, 1) := dk_5 (dk_at dksX7_reason_2 14 rfl rfl)
theorem dX7_reason_60 : decode cX7_reason 60 = .ok (.ireturn, 1) := dk_172 (dk_at dksX7_reason_2 15 rfl rfl)
theorem dX7_reason_61 : decode cX7_reason 61 = .ok (.aload_n 0, 1) := dk_42 (dk_at dksX7_reason_2 16 rfl rfl)
theorem dX7_reason_62 : decode cX7_reason 62 = .ok (.getfield 15, 3) := dk_180 0 15 (dk_at dksX7_reason_2 17 rfl rfl)
theorem dX7_reason_65 : decode cX7_reason 65 = .ok (.iload_n 2, 1) := dk_28 (dk_at dksX7_reason_2 20 rfl rfl)
theorem dX7_reason_66 : decode cX7_reason 66 = .ok (.iaload, 1) := dk_46 (dk_at dksX7_reason_2 21 rfl rfl)
theorem dX7_reason_67 : decode cX7_reason 67 = .ok (.bipush (-5), 2) := dk_16 251 (dk_at dksX7_reason_2 22 rfl rfl)
theorem dX7_reason_69 : decode cX7_reason 69 = .ok (.if_icmp .ne 7, 3) := dk_160 0 7 (dk_at dksX7_reason_3 0 rfl rfl)
theorem dX7_reason_72 : decode cX7_reason 72 = .ok (.iconst 3, 1) := dk_6 (dk_at dksX7_reason_3 3 rfl rfl)
theorem dX7_reason_73 : decode cX7_reason 73 = .ok (.goto 25, 3) := dk_167 0 25 (dk_at dksX7_reason_3 4 rfl rfl)
theorem dX7_reason_76 : decode cX7_reason 76 = .ok (.aload_n 0, 1) := dk_42 (dk_at dksX7_reason_3 7 rfl rfl)
theorem dX7_reason_77 : decode cX7_reason 77 = .ok (.iload_n 2, 1) := dk_28 (dk_at dksX7_reason_3 8 rfl rfl)
theorem dX7_reason_78 : decode cX7_reason 78 = .ok (.invokevirtual 86, 3) := dk_182 0 86 (dk_at dksX7_reason_3 9 rfl rfl)
theorem dX7_reason_81 : decode cX7_reason 81 = .ok (.aload_n 0, 1) := dk_42 (dk_at dksX7_reason_3 12 rfl rfl)
theorem dX7_reason_82 : decode cX7_reason 82 = .ok (.getfield 27, 3) := dk_180 0 27 (dk_at dksX7_reason_3 13 rfl rfl)
theorem dX7_reason_85 : decode cX7_reason 85 = .ok (.getfield 49, 3) := dk_180 0 49 (dk_at dksX7_reason_3 16 rfl rfl)
theorem dX7_reason_88 : decode cX7_reason 88 = .ok (.iconst 4, 1) := dk_7 (dk_at dksX7_reason_3 19 rfl rfl)
theorem dX7_reason_89 : decode cX7_reason 89 = .ok (.iaload, 1) := dk_46 (dk_at dksX7_reason_3 20 rfl rfl)
theorem dX7_reason_90 : decode cX7_reason 90 = .ok (.if_icmp .ge 7, 3) := dk_162 0 7 (dk_at dksX7_reason_3 21 rfl rfl)
theorem dX7_reason_93 : decode cX7_reason 93 = .ok (.iconst 4, 1) := dk_7 (dk_at dksX7_reason_4 0 rfl rfl)
theorem dX7_reason_94 : decode cX7_reason 94 = .ok (.goto 4, 3) := dk_167 0 4 (dk_at dksX7_reason_4 1 rfl rfl)
theorem dX7_reason_97 : decode cX7_reason 97 = .ok (.iconst 0, 1) := dk_3 (dk_at dksX7_reason_4 4 rfl rfl)
theorem dX7_reason_98 : decode cX7_reason 98 = .ok (.ireturn, 1) := dk_172 (dk_at dksX7_reason_4 5 rfl rfl)
abbrev cX7_share : ByteArray := prog_2_method_5_code
def yX7_share : MethodName := ⟨RX7, "share", "(I)I"⟩
def dkwX7_share_1 : List UInt8 := [192, 0, 39, 180, 0, 75, 108, 172]
abbrev dktX7_share_1 : List UInt8 := dkwX7_share_1 ++ []
def dkwX7_share_0 : List UInt8 := [42, 180, 0, 9, 27, 46, 16, 100, 104, 42, 180, 0, 27, 180, 0, 65, 27, 185, 0, 69, 2, 0]
abbrev dktX7_share_0 : List UInt8 := dkwX7_share_0 ++ dktX7_share_1
theorem dksX7_share_0 : cX7_share.data.toList.drop 0 = dktX7_share_0 := by decide +kernel
theorem dksX7_share_1 : cX7_share.data.toList.drop 22 = dktX7_share_1 := dk_seg dksX7_share_0 22 rfl rfl
theorem dX7_share_0 : decode cX7_share 0 = .ok (.aload_n 0, 1) := dk_42 (dk_at dksX7_share_0 0 rfl rfl)
theorem dX7_share_1 : decode cX7_share 1 = .ok (.getfield 9, 3) := dk_180 0 9 (dk_at dksX7_share_0 1 rfl rfl)
theorem dX7_share_4 : decode cX7_share 4 = .ok (.iload_n 1, 1) := dk_27 (dk_at dksX7_share_0 4 rfl rfl)
theorem dX7_share_5 : decode cX7_share 5 = .ok (.iaload, 1) := dk_46 (dk_at dksX7_share_0 5 rfl rfl)
theorem dX7_share_6 : decode cX7_share 6 = .ok (.bipush 100, 2) := dk_16 100 (dk_at dksX7_share_0 6 rfl rfl)
theorem dX7_share_8 : decode cX7_share 8 = .ok (.imul, 1) := dk_104 (dk_at dksX7_share_0 8 rfl rfl)
theorem dX7_share_9 : decode cX7_share 9 = .ok (.aload_n 0, 1) := dk_42 (dk_at dksX7_share_0 9 rfl rfl)
theorem dX7_share_10 : decode cX7_share 10 = .ok (.getfield 27, 3) := dk_180 0 27 (dk_at dksX7_share_0 10 rfl rfl)
theorem dX7_share_13 : decode cX7_share 13 = .ok (.getfield 65, 3) := dk_180 0 65 (dk_at dksX7_share_0 13 rfl rfl)
theorem dX7_share_16 : decode cX7_share 16 = .ok (.iload_n 1, 1) := dk_27 (dk_at dksX7_share_0 16 rfl rfl)
theorem dX7_share_17 : decode cX7_share 17 = .ok (.invokeinterface 69 2, 5) := by decide +kernel
theorem dX7_share_22 : decode cX7_share 22 = .ok (.checkcast 39, 3) := dk_192 0 39 (dk_at dksX7_share_1 0 rfl rfl)
theorem dX7_share_25 : decode cX7_share 25 = .ok (.getfield 75, 3) := dk_180 0 75 (dk_at dksX7_share_1 3 rfl rfl)
theorem dX7_share_28 : decode cX7_share 28 = .ok (.idiv, 1) := dk_108 (dk_at dksX7_share_1 6 rfl rfl)
theorem dX7_share_29 : decode cX7_share 29 = .ok (.ireturn, 1) := dk_172 (dk_at dksX7_share_1 7 rfl rfl)
abbrev cX7_bars : ByteArray := prog_2_method_6_code
def yX7_bars : MethodName := ⟨RX7, "bars", "(LSungSlides$Syllable;Z)I"⟩
def dkwX7_bars_3 : List UInt8 := [182, 0, 82, 153, 0, 7, 4, 167, 0, 4, 3, 96, 62, 132, 4, 1, 167, 255, 183, 29, 172]
abbrev dktX7_bars_3 : List UInt8 := dkwX7_bars_3 ++ []
def dkwX7_bars_2 : List UInt8 := [153, 0, 33, 28, 153, 0, 25, 42, 43, 21, 4, 182, 0, 82, 153, 0, 19, 42, 43, 21, 4, 4, 100]
abbrev dktX7_bars_2 : List UInt8 := dkwX7_bars_2 ++ dktX7_bars_3
def dkwX7_bars_1 : List UInt8 := [180, 0, 27, 180, 0, 49, 3, 46, 112, 154, 0, 7, 4, 167, 0, 4, 3, 54, 5, 29, 21, 5]
abbrev dktX7_bars_1 : List UInt8 := dkwX7_bars_1 ++ dktX7_bars_2
def dkwX7_bars_0 : List UInt8 := [3, 62, 43, 180, 0, 58, 4, 96, 54, 4, 21, 4, 43, 182, 0, 78, 162, 0, 70, 21, 4, 42]
abbrev dktX7_bars_0 : List UInt8 := dkwX7_bars_0 ++ dktX7_bars_1
theorem dksX7_bars_0 : cX7_bars.data.toList.drop 0 = dktX7_bars_0 := by decide +kernel
theorem dksX7_bars_1 : cX7_bars.data.toList.drop 22 = dktX7_bars_1 := dk_seg dksX7_bars_0 22 rfl rfl
theorem dksX7_bars_2 : cX7_bars.data.toList.drop 44 = dktX7_bars_2 := dk_seg dksX7_bars_1 22 rfl rfl
theorem dksX7_bars_3 : cX7_bars.data.toList.drop 67 = dktX7_bars_3 := dk_seg dksX7_bars_2 23 rfl rfl
theorem dX7_bars_0 : decode cX7_bars 0 = .ok (.iconst 0, 1) := dk_3 (dk_at dksX7_bars_0 0 rfl rfl)
theorem dX7_bars_1 : decode cX7_bars 1 = .ok (.istore_n 3, 1) := dk_62 (dk_at dksX7_bars_0 1 rfl rfl)
theorem dX7_bars_2 : decode cX7_bars 2 = .ok (.aload_n 1, 1) := dk_43 (dk_at dksX7_bars_0 2 rfl rfl)
theorem dX7_bars_3 : decode cX7_bars 3 = .ok (.getfield 58, 3) := dk_180 0 58 (dk_at dksX7_bars_0 3 rfl rfl)
theorem dX7_bars_6 : decode cX7_bars 6 = .ok (.iconst 1, 1) := dk_4 (dk_at dksX7_bars_0 6 rfl rfl)
theorem dX7_bars_7 : decode cX7_bars 7 = .ok (.iadd, 1) := dk_96 (dk_at dksX7_bars_0 7 rfl rfl)
theorem dX7_bars_8 : decode cX7_bars 8 = .ok (.istore 4, 2) := dk_54 4 (dk_at dksX7_bars_0 8 rfl rfl)
theorem dX7_bars_10 : decode cX7_bars 10 = .ok (.iload 4, 2) := dk_21 4 (dk_at dksX7_bars_0 10 rfl rfl)
theorem dX7_bars_12 : decode cX7_bars 12 = .ok (.aload_n 1, 1) := dk_43 (dk_at dksX7_bars_0 12 rfl rfl)
theorem dX7_bars_13 : decode cX7_bars 13 = .ok (.invokevirtual 78, 3) := dk_182 0 78 (dk_at dksX7_bars_0 13 rfl rfl)
theorem dX7_bars_16 : decode cX7_bars 16 = .ok (.if_icmp .ge 70, 3) := dk_162 0 70 (dk_at dksX7_bars_0 16 rfl rfl)
theorem dX7_bars_19 : decode cX7_bars 19 = .ok (.iload 4, 2) := dk_21 4 (dk_at dksX7_bars_0 19 rfl rfl)
theorem dX7_bars_21 : decode cX7_bars 21 = .ok (.aload_n 0, 1) := dk_42 (dk_at dksX7_bars_0 21 rfl rfl)
theorem dX7_bars_22 : decode cX7_bars 22 = .ok (.getfield 27, 3) := dk_180 0 27 (dk_at dksX7_bars_1 0 rfl rfl)
theorem dX7_bars_25 : decode cX7_bars 25 = .ok (.getfield 49, 3) := dk_180 0 49 (dk_at dksX7_bars_1 3 rfl rfl)
theorem dX7_bars_28 : decode cX7_bars 28 = .ok (.iconst 0, 1) := dk_3 (dk_at dksX7_bars_1 6 rfl rfl)
theorem dX7_bars_29 : decode cX7_bars 29 = .ok (.iaload, 1) := dk_46 (dk_at dksX7_bars_1 7 rfl rfl)
theorem dX7_bars_30 : decode cX7_bars 30 = .ok (.irem, 1) := dk_112 (dk_at dksX7_bars_1 8 rfl rfl)
theorem dX7_bars_31 : decode cX7_bars 31 = .ok (.ifCond .ne 7, 3) := dk_154 0 7 (dk_at dksX7_bars_1 9 rfl rfl)
theorem dX7_bars_34 : decode cX7_bars 34 = .ok (.iconst 1, 1) := dk_4 (dk_at dksX7_bars_1 12 rfl rfl)
theorem dX7_bars_35 : decode cX7_bars 35 = .ok (.goto 4, 3) := dk_167 0 4 (dk_at dksX7_bars_1 13 rfl rfl)
theorem dX7_bars_38 : decode cX7_bars 38 = .ok (.iconst 0, 1) := dk_3 (dk_at dksX7_bars_1 16 rfl rfl)
theorem dX7_bars_39 : decode cX7_bars 39 = .ok (.istore 5, 2) := dk_54 5 (dk_at dksX7_bars_1 17 rfl rfl)
theorem dX7_bars_41 : decode cX7_bars 41 = .ok (.iload_n 3, 1) := dk_29 (dk_at dksX7_bars_1 19 rfl rfl)
theorem dX7_bars_42 : decode cX7_bars 42 = .ok (.iload 5, 2) := dk_21 5 (dk_at dksX7_bars_1 20 rfl rfl)
theorem dX7_bars_44 : decode cX7_bars 44 = .ok (.ifCond .eq 33, 3) := dk_153 0 33 (dk_at dksX7_bars_2 0 rfl rfl)
theorem dX7_bars_47 : decode cX7_bars 47 = .ok (.iload_n 2, 1) := dk_28 (dk_at dksX7_bars_2 3 rfl rfl)
theorem dX7_bars_48 : decode cX7_bars 48 = .ok (.ifCond .eq 25, 3) := dk_153 0 25 (dk_at dksX7_bars_2 4 rfl rfl)
theorem dX7_bars_51 : decode cX7_bars 51 = .ok (.aload_n 0, 1) := dk_42 (dk_at dksX7_bars_2 7 rfl rfl)
theorem dX7_bars_52 : decode cX7_bars 52 = .ok (.aload_n 1, 1) := dk_43 (dk_at dksX7_bars_2 8 rfl rfl)
theorem dX7_bars_53 : decode cX7_bars 53 = .ok (.iload 4, 2) := dk_21 4 (dk_at dksX7_bars_2 9 rfl rfl)
theorem dX7_bars_55 : decode cX7_bars 55 = .ok (.invokevirtual 82, 3) := dk_182 0 82 (dk_at dksX7_bars_2 11 rfl rfl)
theorem dX7_bars_58 : decode cX7_bars 58 = .ok (.ifCond .eq 19, 3) := dk_153 0 19 (dk_at dksX7_bars_2 14 rfl rfl)
theorem dX7_bars_61 : decode cX7_bars 61 = .ok (.aload_n 0, 1) := dk_42 (dk_at dksX7_bars_2 17 rfl rfl)
theorem dX7_bars_62 : decode cX7_bars 62 = .ok (.aload_n 1, 1) := dk_43 (dk_at dksX7_bars_2 18 rfl rfl)
theorem dX7_bars_63 : decode cX7_bars 63 = .ok (.iload 4, 2) := dk_21 4 (dk_at dksX7_bars_2 19 rfl rfl)
theorem dX7_bars_65 : decode cX7_bars 65 = .ok (.iconst 1, 1) := dk_4 (dk_at dksX7_bars_2 21 rfl rfl)
theorem dX7_bars_66 : decode cX7_bars 66 = .ok (.isub, 1) := dk_100 (dk_at dksX7_bars_2 22 rfl rfl)
theorem dX7_bars_67 : decode cX7_bars 67 = .ok (.invokevirtual 82, 3) := dk_182 0 82 (dk_at dksX7_bars_3 0 rfl rfl)
theorem dX7_bars_70 : decode cX7_bars 70 = .ok (.ifCond .eq 7, 3) := dk_153 0 7 (dk_at dksX7_bars_3 3 rfl rfl)
theorem dX7_bars_73 : decode cX7_bars 73 = .ok (.iconst 1, 1) := dk_4 (dk_at dksX7_bars_3 6 rfl rfl)
theorem dX7_bars_74 : decode cX7_bars 74 = .ok (.goto 4, 3) := dk_167 0 4 (dk_at dksX7_bars_3 7 rfl rfl)
theorem dX7_bars_77 : decode cX7_bars 77 = .ok (.iconst 0, 1) := dk_3 (dk_at dksX7_bars_3 10 rfl rfl)
theorem dX7_bars_78 : decode cX7_bars 78 = .ok (.iadd, 1) := dk_96 (dk_at dksX7_bars_3 11 rfl rfl)
theorem dX7_bars_79 : decode cX7_bars 79 = .ok (.istore_n 3, 1) := dk_62 (dk_at dksX7_bars_3 12 rfl rfl)
theorem dX7_bars_80 : decode cX7_bars 80 = .ok (.iinc 4 1, 3) := dk_132 4 1 (dk_at dksX7_bars_3 13 rfl rfl)
theorem dX7_bars_83 : decode cX7_bars 83 = .ok (.goto (-73), 3) := dk_167 255 183 (dk_at dksX7_bars_3 16 rfl rfl)
theorem dX7_bars_86 : decode cX7_bars 86 = .ok (.iload_n 3, 1) := dk_29 (dk_at dksX7_bars_3 19 rfl rfl)
theorem dX7_bars_87 : decode cX7_bars 87 = .ok (.ireturn, 1) := dk_172 (dk_at dksX7_bars_3 20 rfl rfl)
abbrev cX7_hits : ByteArray := prog_2_method_12_code
def yX7_hits : MethodName := ⟨RX7, "hits", "(I)I"⟩
def dkwX7_hits_3 : List UInt8 := [172]
abbrev dktX7_hits_3 : List UInt8 := dkwX7_hits_3 ++ []
def dkwX7_hits_2 : List UInt8 := [192, 0, 39, 180, 0, 97, 27, 160, 0, 7, 4, 167, 0, 4, 3, 96, 61, 132, 3, 1, 167, 255, 196, 28]
abbrev dktX7_hits_2 : List UInt8 := dkwX7_hits_2 ++ dktX7_hits_3
def dkwX7_hits_1 : List UInt8 := [154, 0, 36, 27, 16, 251, 159, 0, 26, 42, 180, 0, 27, 180, 0, 65, 29, 185, 0, 69, 2, 0]
abbrev dktX7_hits_1 : List UInt8 := dkwX7_hits_1 ++ dktX7_hits_2
def dkwX7_hits_0 : List UInt8 := [3, 61, 3, 62, 29, 42, 180, 0, 27, 182, 0, 107, 162, 0, 55, 28, 42, 180, 0, 18, 29, 46]
abbrev dktX7_hits_0 : List UInt8 := dkwX7_hits_0 ++ dktX7_hits_1
theorem dksX7_hits_0 : cX7_hits.data.toList.drop 0 = dktX7_hits_0 := by decide +kernel
theorem dksX7_hits_1 : cX7_hits.data.toList.drop 22 = dktX7_hits_1 := dk_seg dksX7_hits_0 22 rfl rfl
theorem dksX7_hits_2 : cX7_hits.data.toList.drop 44 = dktX7_hits_2 := dk_seg dksX7_hits_1 22 rfl rfl
theorem dksX7_hits_3 : cX7_hits.data.toList.drop 68 = dktX7_hits_3 := dk_seg dksX7_hits_2 24 rfl rfl
theorem dX7_hits_0 : decode cX7_hits 0 = .ok (.iconst 0, 1) := dk_3 (dk_at dksX7_hits_0 0 rfl rfl)
theorem dX7_hits_1 : decode cX7_hits 1 = .ok (.istore_n 2, 1) := dk_61 (dk_at dksX7_hits_0 1 rfl rfl)
theorem dX7_hits_2 : decode cX7_hits 2 = .ok (.iconst 0, 1) := dk_3 (dk_at dksX7_hits_0 2 rfl rfl)
theorem dX7_hits_3 : decode cX7_hits 3 = .ok (.istore_n 3, 1) := dk_62 (dk_at dksX7_hits_0 3 rfl rfl)
theorem dX7_hits_4 : decode cX7_hits 4 = .ok (.iload_n 3, 1) := dk_29 (dk_at dksX7_hits_0 4 rfl rfl)
theorem dX7_hits_5 : decode cX7_hits 5 = .ok (.aload_n 0, 1) := dk_42 (dk_at dksX7_hits_0 5 rfl rfl)
theorem dX7_hits_6 : decode cX7_hits 6 = .ok (.getfield 27, 3) := dk_180 0 27 (dk_at dksX7_hits_0 6 rfl rfl)
theorem dX7_hits_9 : decode cX7_hits 9 = .ok (.invokevirtual 107, 3) := dk_182 0 107 (dk_at dksX7_hits_0 9 rfl rfl)
theorem dX7_hits_12 : decode cX7_hits 12 = .ok (.if_icmp .ge 55, 3) := dk_162 0 55 (dk_at dksX7_hits_0 12 rfl rfl)
theorem dX7_hits_15 : decode cX7_hits 15 = .ok (.iload_n 2, 1) := dk_28 (dk_at dksX7_hits_0 15 rfl rfl)
theorem dX7_hits_16 : decode cX7_hits 16 = .ok (.aload_n 0, 1) := dk_42 (dk_at dksX7_hits_0 16 rfl rfl)
theorem dX7_hits_17 : decode cX7_hits 17 = .ok (.getfield 18, 3) := dk_180 0 18 (dk_at dksX7_hits_0 17 rfl rfl)
theorem dX7_hits_20 : decode cX7_hits 20 = .ok (.iload_n 3, 1) := dk_29 (dk_at dksX7_hits_0 20 rfl rfl)
theorem dX7_hits_21 : decode cX7_hits 21 = .ok (.iaload, 1) := dk_46 (dk_at dksX7_hits_0 21 rfl rfl)
theorem dX7_hits_22 : decode cX7_hits 22 = .ok (.ifCond .ne 36, 3) := dk_154 0 36 (dk_at dksX7_hits_1 0 rfl rfl)
theorem dX7_hits_25 : decode cX7_hits 25 = .ok (.iload_n 1, 1) := dk_27 (dk_at dksX7_hits_1 3 rfl rfl)
theorem dX7_hits_26 : decode cX7_hits 26 = .ok (.bipush (-5), 2) := dk_16 251 (dk_at dksX7_hits_1 4 rfl rfl)
theorem dX7_hits_28 : decode cX7_hits 28 = .ok (.if_icmp .eq 26, 3) := dk_159 0 26 (dk_at dksX7_hits_1 6 rfl rfl)
theorem dX7_hits_31 : decode cX7_hits 31 = .ok (.aload_n 0, 1) := dk_42 (dk_at dksX7_hits_1 9 rfl rfl)
theorem dX7_hits_32 : decode cX7_hits 32 = .ok (.getfield 27, 3) := dk_180 0 27 (dk_at dksX7_hits_1 10 rfl rfl)
theorem dX7_hits_35 : decode cX7_hits 35 = .ok (.getfield 65, 3) := dk_180 0 65 (dk_at dksX7_hits_1 13 rfl rfl)
theorem dX7_hits_38 : decode cX7_hits 38 = .ok (.iload_n 3, 1) := dk_29 (dk_at dksX7_hits_1 16 rfl rfl)
theorem dX7_hits_39 : decode cX7_hits 39 = .ok (.invokeinterface 69 2, 5) := by decide +kernel
theorem dX7_hits_44 : decode cX7_hits 44 = .ok (.checkcast 39, 3) := dk_192 0 39 (dk_at dksX7_hits_2 0 rfl rfl)
theorem dX7_hits_47 : decode cX7_hits 47 = .ok (.getfield 97, 3) := dk_180 0 97 (dk_at dksX7_hits_2 3 rfl rfl)
theorem dX7_hits_50 : decode cX7_hits 50 = .ok (.iload_n 1, 1) := dk_27 (dk_at dksX7_hits_2 6 rfl rfl)
theorem dX7_hits_51 : decode cX7_hits 51 = .ok (.if_icmp .ne 7, 3) := dk_160 0 7 (dk_at dksX7_hits_2 7 rfl rfl)
theorem dX7_hits_54 : decode cX7_hits 54 = .ok (.iconst 1, 1) := dk_4 (dk_at dksX7_hits_2 10 rfl rfl)
theorem dX7_hits_55 : decode cX7_hits 55 = .ok (.goto 4, 3) := dk_167 0 4 (dk_at dksX7_hits_2 11 rfl rfl)
theorem dX7_hits_58 : decode cX7_hits 58 = .ok (.iconst 0, 1) := dk_3 (dk_at dksX7_hits_2 14 rfl rfl)
theorem dX7_hits_59 : decode cX7_hits 59 = .ok (.iadd, 1) := dk_96 (dk_at dksX7_hits_2 15 rfl rfl)
theorem dX7_hits_60 : decode cX7_hits 60 = .ok (.istore_n 2, 1) := dk_61 (dk_at dksX7_hits_2 16 rfl rfl)
theorem dX7_hits_61 : decode cX7_hits 61 = .ok (.iinc 3 1, 3) := dk_132 3 1 (dk_at dksX7_hits_2 17 rfl rfl)
theorem dX7_hits_64 : decode cX7_hits 64 = .ok (.goto (-60), 3) := dk_167 255 196 (dk_at dksX7_hits_2 20 rfl rfl)
theorem dX7_hits_67 : decode cX7_hits 67 = .ok (.iload_n 2, 1) := dk_28 (dk_at dksX7_hits_2 23 rfl rfl)
theorem dX7_hits_68 : decode cX7_hits 68 = .ok (.ireturn, 1) := dk_172 (dk_at dksX7_hits_3 0 rfl rfl)
abbrev cX7_first : ByteArray := prog_2_method_10_code
def yX7_first : MethodName := ⟨RX7, "first", "(I)I"⟩
def dkwX7_first_1 : List UInt8 := [162, 0, 9, 132, 2, 1, 167, 255, 230, 28, 172]
abbrev dktX7_first_1 : List UInt8 := dkwX7_first_1 ++ []
def dkwX7_first_0 : List UInt8 := [3, 61, 42, 180, 0, 27, 180, 0, 65, 28, 185, 0, 69, 2, 0, 192, 0, 39, 180, 0, 97, 27]
abbrev dktX7_first_0 : List UInt8 := dkwX7_first_0 ++ dktX7_first_1
theorem dksX7_first_0 : cX7_first.data.toList.drop 0 = dktX7_first_0 := by decide +kernel
theorem dksX7_first_1 : cX7_first.data.toList.drop 22 = dktX7_first_1 := dk_seg dksX7_first_0 22 rfl rfl
theorem dX7_first_0 : decode cX7_first 0 = .ok (.iconst 0, 1) := dk_3 (dk_at dksX7_first_0 0 rfl rfl)
theorem dX7_first_1 : decode cX7_first 1 = .ok (.istore_n 2, 1) := dk_61 (dk_at dksX7_first_0 1 rfl rfl)
theorem dX7_first_2 : decode cX7_first 2 = .ok (.aload_n 0, 1) := dk_42 (dk_at dksX7_first_0 2 rfl rfl)
theorem dX7_first_3 : decode cX7_first 3 = .ok (.getfield 27, 3) := dk_180 0 27 (dk_at dksX7_first_0 3 rfl rfl)
theorem dX7_first_6 : decode cX7_first 6 = .ok (.getfield 65, 3) := dk_180 0 65 (dk_at dksX7_first_0 6 rfl rfl)
theorem dX7_first_9 : decode cX7_first 9 = .ok (.iload_n 2, 1) := dk_28 (dk_at dksX7_first_0 9 rfl rfl)
theorem dX7_first_10 : decode cX7_first 10 = .ok (.invokeinterface 69 2, 5) := by decide +kernel
theorem dX7_first_15 : decode cX7_first 15 = .ok (.checkcast 39, 3) := dk_192 0 39 (dk_at dksX7_first_0 15 rfl rfl)
theorem dX7_first_18 : decode cX7_first 18 = .ok (.getfield 97, 3) := dk_180 0 97 (dk_at dksX7_first_0 18 rfl rfl)
theorem dX7_first_21 : decode cX7_first 21 = .ok (.iload_n 1, 1) := dk_27 (dk_at dksX7_first_0 21 rfl rfl)
theorem dX7_first_22 : decode cX7_first 22 = .ok (.if_icmp .ge 9, 3) := dk_162 0 9 (dk_at dksX7_first_1 0 rfl rfl)
theorem dX7_first_25 : decode cX7_first 25 = .ok (.iinc 2 1, 3) := dk_132 2 1 (dk_at dksX7_first_1 3 rfl rfl)
theorem dX7_first_28 : decode cX7_first 28 = .ok (.goto (-26), 3) := dk_167 255 230 (dk_at dksX7_first_1 6 rfl rfl)
theorem dX7_first_31 : decode cX7_first 31 = .ok (.iload_n 2, 1) := dk_28 (dk_at dksX7_first_1 9 rfl rfl)
theorem dX7_first_32 : decode cX7_first 32 = .ok (.ireturn, 1) := dk_172 (dk_at dksX7_first_1 10 rfl rfl)
abbrev cX7_many : ByteArray := prog_2_method_11_code
def yX7_many : MethodName := ⟨RX7, "many", "(I)I"⟩
def dkwX7_many_2 : List UInt8 := [167, 0, 4, 3, 96, 61, 167, 255, 219, 28, 172]
abbrev dktX7_many_2 : List UInt8 := dkwX7_many_2 ++ []
def dkwX7_many_1 : List UInt8 := [45, 185, 0, 124, 1, 0, 192, 0, 39, 58, 4, 28, 25, 4, 180, 0, 97, 27, 160, 0, 7, 4]
abbrev dktX7_many_1 : List UInt8 := dkwX7_many_1 ++ dktX7_many_2
def dkwX7_many_0 : List UInt8 := [3, 61, 42, 180, 0, 27, 180, 0, 65, 185, 0, 114, 1, 0, 78, 45, 185, 0, 118, 1, 0, 153, 0, 34]
abbrev dktX7_many_0 : List UInt8 := dkwX7_many_0 ++ dktX7_many_1
theorem dksX7_many_0 : cX7_many.data.toList.drop 0 = dktX7_many_0 := by decide +kernel
theorem dksX7_many_1 : cX7_many.data.toList.drop 24 = dktX7_many_1 := dk_seg dksX7_many_0 24 rfl rfl
theorem dksX7_many_2 : cX7_many.data.toList.drop 46 = dktX7_many_2 := dk_seg dksX7_many_1 22 rfl rfl
theorem dX7_many_0 : decode cX7_many 0 = .ok (.iconst 0, 1) := dk_3 (dk_at dksX7_many_0 0 rfl rfl)
theorem dX7_many_1 : decode cX7_many 1 = .ok (.istore_n 2, 1) := dk_61 (dk_at dksX7_many_0 1 rfl rfl)
theorem dX7_many_2 : decode cX7_many 2 = .ok (.aload_n 0, 1) := dk_42 (dk_at dksX7_many_0 2 rfl rfl)
theorem dX7_many_3 : decode cX7_many 3 = .ok (.getfield 27, 3) := dk_180 0 27 (dk_at dksX7_many_0 3 rfl rfl)
theorem dX7_many_6 : decode cX7_many 6 = .ok (.getfield 65, 3) := dk_180 0 65 (dk_at dksX7_many_0 6 rfl rfl)
theorem dX7_many_9 : decode cX7_many 9 = .ok (.invokeinterface 114 1, 5) := by decide +kernel
theorem dX7_many_14 : decode cX7_many 14 = .ok (.astore_n 3, 1) := dk_78 (dk_at dksX7_many_0 14 rfl rfl)
theorem dX7_many_15 : decode cX7_many 15 = .ok (.aload_n 3, 1) := dk_45 (dk_at dksX7_many_0 15 rfl rfl)
theorem dX7_many_16 : decode cX7_many 16 = .ok (.invokeinterface 118 1, 5) := by decide +kernel
theorem dX7_many_21 : decode cX7_many 21 = .ok (.ifCond .eq 34, 3) := dk_153 0 34 (dk_at dksX7_many_0 21 rfl rfl)
theorem dX7_many_24 : decode cX7_many 24 = .ok (.aload_n 3, 1) := dk_45 (dk_at dksX7_many_1 0 rfl rfl)
theorem dX7_many_25 : decode cX7_many 25 = .ok (.invokeinterface 124 1, 5) := by decide +kernel
theorem dX7_many_30 : decode cX7_many 30 = .ok (.checkcast 39, 3) := dk_192 0 39 (dk_at dksX7_many_1 6 rfl rfl)
theorem dX7_many_33 : decode cX7_many 33 = .ok (.astore 4, 2) := dk_58 4 (dk_at dksX7_many_1 9 rfl rfl)
theorem dX7_many_35 : decode cX7_many 35 = .ok (.iload_n 2, 1) := dk_28 (dk_at dksX7_many_1 11 rfl rfl)
theorem dX7_many_36 : decode cX7_many 36 = .ok (.aload 4, 2) := dk_25 4 (dk_at dksX7_many_1 12 rfl rfl)
theorem dX7_many_38 : decode cX7_many 38 = .ok (.getfield 97, 3) := dk_180 0 97 (dk_at dksX7_many_1 14 rfl rfl)
theorem dX7_many_41 : decode cX7_many 41 = .ok (.iload_n 1, 1) := dk_27 (dk_at dksX7_many_1 17 rfl rfl)
theorem dX7_many_42 : decode cX7_many 42 = .ok (.if_icmp .ne 7, 3) := dk_160 0 7 (dk_at dksX7_many_1 18 rfl rfl)
theorem dX7_many_45 : decode cX7_many 45 = .ok (.iconst 1, 1) := dk_4 (dk_at dksX7_many_1 21 rfl rfl)
theorem dX7_many_46 : decode cX7_many 46 = .ok (.goto 4, 3) := dk_167 0 4 (dk_at dksX7_many_2 0 rfl rfl)
theorem dX7_many_49 : decode cX7_many 49 = .ok (.iconst 0, 1) := dk_3 (dk_at dksX7_many_2 3 rfl rfl)
theorem dX7_many_50 : decode cX7_many 50 = .ok (.iadd, 1) := dk_96 (dk_at dksX7_many_2 4 rfl rfl)
theorem dX7_many_51 : decode cX7_many 51 = .ok (.istore_n 2, 1) := dk_61 (dk_at dksX7_many_2 5 rfl rfl)
theorem dX7_many_52 : decode cX7_many 52 = .ok (.goto (-37), 3) := dk_167 255 219 (dk_at dksX7_many_2 6 rfl rfl)
theorem dX7_many_55 : decode cX7_many 55 = .ok (.iload_n 2, 1) := dk_28 (dk_at dksX7_many_2 9 rfl rfl)
theorem dX7_many_56 : decode cX7_many 56 = .ok (.ireturn, 1) := dk_172 (dk_at dksX7_many_2 10 rfl rfl)
abbrev cX7_pointsOf : ByteArray := prog_2_method_13_code
def yX7_pointsOf : MethodName := ⟨RX7, "pointsOf", "(I)I"⟩
def dkwX7_pointsOf_3 : List UInt8 := [42, 27, 182, 0, 128, 160, 0, 8, 16, 50, 167, 0, 4, 3, 96, 172]
abbrev dktX7_pointsOf_3 : List UInt8 := dkwX7_pointsOf_3 ++ []
def dkwX7_pointsOf_2 : List UInt8 := [3, 96, 61, 132, 3, 1, 167, 255, 206, 28, 42, 27, 182, 0, 128, 5, 161, 0, 21, 42, 27, 182, 0, 130]
abbrev dktX7_pointsOf_2 : List UInt8 := dkwX7_pointsOf_2 ++ dktX7_pointsOf_3
def dkwX7_pointsOf_1 : List UInt8 := [185, 0, 69, 2, 0, 192, 0, 39, 180, 0, 97, 27, 160, 0, 12, 42, 180, 0, 24, 29, 46, 167, 0, 4]
abbrev dktX7_pointsOf_1 : List UInt8 := dkwX7_pointsOf_1 ++ dktX7_pointsOf_2
def dkwX7_pointsOf_0 : List UInt8 := [3, 61, 3, 62, 29, 42, 180, 0, 27, 182, 0, 107, 162, 0, 45, 28, 42, 180, 0, 27, 180, 0, 65, 29]
abbrev dktX7_pointsOf_0 : List UInt8 := dkwX7_pointsOf_0 ++ dktX7_pointsOf_1
theorem dksX7_pointsOf_0 : cX7_pointsOf.data.toList.drop 0 = dktX7_pointsOf_0 := by decide +kernel
theorem dksX7_pointsOf_1 : cX7_pointsOf.data.toList.drop 24 = dktX7_pointsOf_1 := dk_seg dksX7_pointsOf_0 24 rfl rfl
theorem dksX7_pointsOf_2 : cX7_pointsOf.data.toList.drop 48 = dktX7_pointsOf_2 := dk_seg dksX7_pointsOf_1 24 rfl rfl
theorem dksX7_pointsOf_3 : cX7_pointsOf.data.toList.drop 72 = dktX7_pointsOf_3 := dk_seg dksX7_pointsOf_2 24 rfl rfl
theorem dX7_pointsOf_0 : decode cX7_pointsOf 0 = .ok (.iconst 0, 1) := dk_3 (dk_at dksX7_pointsOf_0 0 rfl rfl)
theorem dX7_pointsOf_1 : decode cX7_pointsOf 1 = .ok (.istore_n 2, 1) := dk_61 (dk_at dksX7_pointsOf_0 1 rfl rfl)
theorem dX7_pointsOf_2 : decode cX7_pointsOf 2 = .ok (.iconst 0, 1) := dk_3 (dk_at dksX7_pointsOf_0 2 rfl rfl)
theorem dX7_pointsOf_3 : decode cX7_pointsOf 3 = .ok (.istore_n 3, 1) := dk_62 (dk_at dksX7_pointsOf_0 3 rfl rfl)
theorem dX7_pointsOf_4 : decode cX7_pointsOf 4 = .ok (.iload_n 3, 1) := dk_29 (dk_at dksX7_pointsOf_0 4 rfl rfl)
theorem dX7_pointsOf_5 : decode cX7_pointsOf 5 = .ok (.aload_n 0, 1) := dk_42 (dk_at dksX7_pointsOf_0 5 rfl rfl)
theorem dX7_pointsOf_6 : decode cX7_pointsOf 6 = .ok (.getfield 27, 3) := dk_180 0 27 (dk_at dksX7_pointsOf_0 6 rfl rfl)
theorem dX7_pointsOf_9 : decode cX7_pointsOf 9 = .ok (.invokevirtual 107, 3) := dk_182 0 107 (dk_at dksX7_pointsOf_0 9 rfl rfl)
theorem dX7_pointsOf_12 : decode cX7_pointsOf 12 = .ok (.if_icmp .ge 45, 3) := dk_162 0 45 (dk_at dksX7_pointsOf_0 12 rfl rfl)
theorem dX7_pointsOf_15 : decode cX7_pointsOf 15 = .ok (.iload_n 2, 1) := dk_28 (dk_at dksX7_pointsOf_0 15 rfl rfl)
theorem dX7_pointsOf_16 : decode cX7_pointsOf 16 = .ok (.aload_n 0, 1) := dk_42 (dk_at dksX7_pointsOf_0 16 rfl rfl)
theorem dX7_pointsOf_17 : decode cX7_pointsOf 17 = .ok (.getfield 27, 3) := dk_180 0 27 (dk_at dksX7_pointsOf_0 17 rfl rfl)
theorem dX7_pointsOf_20 : decode cX7_pointsOf 20 = .ok (.getfield 65, 3) := dk_180 0 65 (dk_at dksX7_pointsOf_0 20 rfl rfl)
theorem dX7_pointsOf_23 : decode cX7_pointsOf 23 = .ok (.iload_n 3, 1) := dk_29 (dk_at dksX7_pointsOf_0 23 rfl rfl)
theorem dX7_pointsOf_24 : decode cX7_pointsOf 24 = .ok (.invokeinterface 69 2, 5) := by decide +kernel
theorem dX7_pointsOf_29 : decode cX7_pointsOf 29 = .ok (.checkcast 39, 3) := dk_192 0 39 (dk_at dksX7_pointsOf_1 5 rfl rfl)
theorem dX7_pointsOf_32 : decode cX7_pointsOf 32 = .ok (.getfield 97, 3) := dk_180 0 97 (dk_at dksX7_pointsOf_1 8 rfl rfl)
theorem dX7_pointsOf_35 : decode cX7_pointsOf 35 = .ok (.iload_n 1, 1) := dk_27 (dk_at dksX7_pointsOf_1 11 rfl rfl)
theorem dX7_pointsOf_36 : decode cX7_pointsOf 36 = .ok (.if_icmp .ne 12, 3) := dk_160 0 12 (dk_at dksX7_pointsOf_1 12 rfl rfl)
theorem dX7_pointsOf_39 : decode cX7_pointsOf 39 = .ok (.aload_n 0, 1) := dk_42 (dk_at dksX7_pointsOf_1 15 rfl rfl)
theorem dX7_pointsOf_40 : decode cX7_pointsOf 40 = .ok (.getfield 24, 3) := dk_180 0 24 (dk_at dksX7_pointsOf_1 16 rfl rfl)
theorem dX7_pointsOf_43 : decode cX7_pointsOf 43 = .ok (.iload_n 3, 1) := dk_29 (dk_at dksX7_pointsOf_1 19 rfl rfl)
theorem dX7_pointsOf_44 : decode cX7_pointsOf 44 = .ok (.iaload, 1) := dk_46 (dk_at dksX7_pointsOf_1 20 rfl rfl)
theorem dX7_pointsOf_45 : decode cX7_pointsOf 45 = .ok (.goto 4, 3) := dk_167 0 4 (dk_at dksX7_pointsOf_1 21 rfl rfl)
theorem dX7_pointsOf_48 : decode cX7_pointsOf 48 = .ok (.iconst 0, 1) := dk_3 (dk_at dksX7_pointsOf_2 0 rfl rfl)
theorem dX7_pointsOf_49 : decode cX7_pointsOf 49 = .ok (.iadd, 1) := dk_96 (dk_at dksX7_pointsOf_2 1 rfl rfl)
theorem dX7_pointsOf_50 : decode cX7_pointsOf 50 = .ok (.istore_n 2, 1) := dk_61 (dk_at dksX7_pointsOf_2 2 rfl rfl)
theorem dX7_pointsOf_51 : decode cX7_pointsOf 51 = .ok (.iinc 3 1, 3) := dk_132 3 1 (dk_at dksX7_pointsOf_2 3 rfl rfl)
theorem dX7_pointsOf_54 : decode cX7_pointsOf 54 = .ok (.goto (-50), 3) := dk_167 255 206 (dk_at dksX7_pointsOf_2 6 rfl rfl)
theorem dX7_pointsOf_57 : decode cX7_pointsOf 57 = .ok (.iload_n 2, 1) := dk_28 (dk_at dksX7_pointsOf_2 9 rfl rfl)
theorem dX7_pointsOf_58 : decode cX7_pointsOf 58 = .ok (.aload_n 0, 1) := dk_42 (dk_at dksX7_pointsOf_2 10 rfl rfl)
theorem dX7_pointsOf_59 : decode cX7_pointsOf 59 = .ok (.iload_n 1, 1) := dk_27 (dk_at dksX7_pointsOf_2 11 rfl rfl)
theorem dX7_pointsOf_60 : decode cX7_pointsOf 60 = .ok (.invokevirtual 128, 3) := dk_182 0 128 (dk_at dksX7_pointsOf_2 12 rfl rfl)
theorem dX7_pointsOf_63 : decode cX7_pointsOf 63 = .ok (.iconst 2, 1) := dk_5 (dk_at dksX7_pointsOf_2 15 rfl rfl)
theorem dX7_pointsOf_64 : decode cX7_pointsOf 64 = .ok (.if_icmp .lt 21, 3) := dk_161 0 21 (dk_at dksX7_pointsOf_2 16 rfl rfl)
theorem dX7_pointsOf_67 : decode cX7_pointsOf 67 = .ok (.aload_n 0, 1) := dk_42 (dk_at dksX7_pointsOf_2 19 rfl rfl)
theorem dX7_pointsOf_68 : decode cX7_pointsOf 68 = .ok (.iload_n 1, 1) := dk_27 (dk_at dksX7_pointsOf_2 20 rfl rfl)
theorem dX7_pointsOf_69 : decode cX7_pointsOf 69 = .ok (.invokevirtual 130, 3) := dk_182 0 130 (dk_at dksX7_pointsOf_2 21 rfl rfl)
theorem dX7_pointsOf_72 : decode cX7_pointsOf 72 = .ok (.aload_n 0, 1) := dk_42 (dk_at dksX7_pointsOf_3 0 rfl rfl)
theorem dX7_pointsOf_73 : decode cX7_pointsOf 73 = .ok (.iload_n 1, 1) := dk_27 (dk_at dksX7_pointsOf_3 1 rfl rfl)
theorem dX7_pointsOf_74 : decode cX7_pointsOf 74 = .ok (.invokevirtual 128, 3) := dk_182 0 128 (dk_at dksX7_pointsOf_3 2 rfl rfl)
theorem dX7_pointsOf_77 : decode cX7_pointsOf 77 = .ok (.if_icmp .ne 8, 3) := dk_160 0 8 (dk_at dksX7_pointsOf_3 5 rfl rfl)
theorem dX7_pointsOf_80 : decode cX7_pointsOf 80 = .ok (.bipush 50, 2) := dk_16 50 (dk_at dksX7_pointsOf_3 8 rfl rfl)
theorem dX7_pointsOf_82 : decode cX7_pointsOf 82 = .ok (.goto 4, 3) := dk_167 0 4 (dk_at dksX7_pointsOf_3 10 rfl rfl)
theorem dX7_pointsOf_85 : decode cX7_pointsOf 85 = .ok (.iconst 0, 1) := dk_3 (dk_at dksX7_pointsOf_3 13 rfl rfl)
theorem dX7_pointsOf_86 : decode cX7_pointsOf 86 = .ok (.iadd, 1) := dk_96 (dk_at dksX7_pointsOf_3 14 rfl rfl)
theorem dX7_pointsOf_87 : decode cX7_pointsOf 87 = .ok (.ireturn, 1) := dk_172 (dk_at dksX7_pointsOf_3 15 rfl rfl)
abbrev cX7_longestRow : ByteArray := prog_2_method_15_code
def yX7_longestRow : MethodName := ⟨RX7, "longestRow", "(I)I"⟩
def dkwX7_longestRow_3 : List UInt8 := [3, 62, 28, 29, 184, 0, 104, 61, 132, 4, 1, 167, 255, 181, 28, 172]
abbrev dktX7_longestRow_3 : List UInt8 := dkwX7_longestRow_3 ++ []
def dkwX7_longestRow_2 : List UInt8 := [21, 4, 46, 154, 0, 7, 4, 167, 0, 4, 3, 54, 5, 21, 5, 153, 0, 9, 29, 4, 96, 167, 0, 4]
abbrev dktX7_longestRow_2 : List UInt8 := dkwX7_longestRow_2 ++ dktX7_longestRow_3
def dkwX7_longestRow_1 : List UInt8 := [180, 0, 65, 21, 4, 185, 0, 69, 2, 0, 192, 0, 39, 180, 0, 97, 27, 160, 0, 17, 42, 180, 0, 18]
abbrev dktX7_longestRow_1 : List UInt8 := dkwX7_longestRow_1 ++ dktX7_longestRow_2
def dkwX7_longestRow_0 : List UInt8 := [3, 61, 3, 62, 3, 54, 4, 21, 4, 42, 180, 0, 27, 182, 0, 107, 162, 0, 69, 42, 180, 0, 27]
abbrev dktX7_longestRow_0 : List UInt8 := dkwX7_longestRow_0 ++ dktX7_longestRow_1
theorem dksX7_longestRow_0 : cX7_longestRow.data.toList.drop 0 = dktX7_longestRow_0 := by decide +kernel
theorem dksX7_longestRow_1 : cX7_longestRow.data.toList.drop 23 = dktX7_longestRow_1 := dk_seg dksX7_longestRow_0 23 rfl rfl
theorem dksX7_longestRow_2 : cX7_longestRow.data.toList.drop 47 = dktX7_longestRow_2 := dk_seg dksX7_longestRow_1 24 rfl rfl
theorem dksX7_longestRow_3 : cX7_longestRow.data.toList.drop 71 = dktX7_longestRow_3 := dk_seg dksX7_longestRow_2 24 rfl rfl
theorem dX7_longestRow_0 : decode cX7_longestRow 0 = .ok (.iconst 0, 1) := dk_3 (dk_at dksX7_longestRow_0 0 rfl rfl)
theorem dX7_longestRow_1 : decode cX7_longestRow 1 = .ok (.istore_n 2, 1) := dk_61 (dk_at dksX7_longestRow_0 1 rfl rfl)
theorem dX7_longestRow_2 : decode cX7_longestRow 2 = .ok (.iconst 0, 1) := dk_3 (dk_at dksX7_longestRow_0 2 rfl rfl)
theorem dX7_longestRow_3 : decode cX7_longestRow 3 = .ok (.istore_n 3, 1) := dk_62 (dk_at dksX7_longestRow_0 3 rfl rfl)
theorem dX7_longestRow_4 : decode cX7_longestRow 4 = .ok (.iconst 0, 1) := dk_3 (dk_at dksX7_longestRow_0 4 rfl rfl)
theorem dX7_longestRow_5 : decode cX7_longestRow 5 = .ok (.istore 4, 2) := dk_54 4 (dk_at dksX7_longestRow_0 5 rfl rfl)
theorem dX7_longestRow_7 : decode cX7_longestRow 7 = .ok (.iload 4, 2) := dk_21 4 (dk_at dksX7_longestRow_0 7 rfl rfl)
theorem dX7_longestRow_9 : decode cX7_longestRow 9 = .ok (.aload_n 0, 1) := dk_42 (dk_at dksX7_longestRow_0 9 rfl rfl)
theorem dX7_longestRow_10 : decode cX7_longestRow 10 = .ok (.getfield 27, 3) := dk_180 0 27 (dk_at dksX7_longestRow_0 10 rfl rfl)
theorem dX7_longestRow_13 : decode cX7_longestRow 13 = .ok (.invokevirtual 107, 3) := dk_182 0 107 (dk_at dksX7_longestRow_0 13 rfl rfl)
theorem dX7_longestRow_16 : decode cX7_longestRow 16 = .ok (.if_icmp .ge 69, 3) := dk_162 0 69 (dk_at dksX7_longestRow_0 16 rfl rfl)
theorem dX7_longestRow_19 : decode cX7_longestRow 19 = .ok (.aload_n 0, 1) := dk_42 (dk_at dksX7_longestRow_0 19 rfl rfl)
theorem dX7_longestRow_20 : decode cX7_longestRow 20 = .ok (.getfield 27, 3) := dk_180 0 27 (dk_at dksX7_longestRow_0 20 rfl rfl)
theorem dX7_longestRow_23 : decode cX7_longestRow 23 = .ok (.getfield 65, 3) := dk_180 0 65 (dk_at dksX7_longestRow_1 0 rfl rfl)
theorem dX7_longestRow_26 : decode cX7_longestRow 26 = .ok (.iload 4, 2) := dk_21 4 (dk_at dksX7_longestRow_1 3 rfl rfl)
theorem dX7_longestRow_28 : decode cX7_longestRow 28 = .ok (.invokeinterface 69 2, 5) := by decide +kernel
theorem dX7_longestRow_33 : decode cX7_longestRow 33 = .ok (.checkcast 39, 3) := dk_192 0 39 (dk_at dksX7_longestRow_1 10 rfl rfl)
theorem dX7_longestRow_36 : decode cX7_longestRow 36 = .ok (.getfield 97, 3) := dk_180 0 97 (dk_at dksX7_longestRow_1 13 rfl rfl)
theorem dX7_longestRow_39 : decode cX7_longestRow 39 = .ok (.iload_n 1, 1) := dk_27 (dk_at dksX7_longestRow_1 16 rfl rfl)
theorem dX7_longestRow_40 : decode cX7_longestRow 40 = .ok (.if_icmp .ne 17, 3) := dk_160 0 17 (dk_at dksX7_longestRow_1 17 rfl rfl)
theorem dX7_longestRow_43 : decode cX7_longestRow 43 = .ok (.aload_n 0, 1) := dk_42 (dk_at dksX7_longestRow_1 20 rfl rfl)
theorem dX7_longestRow_44 : decode cX7_longestRow 44 = .ok (.getfield 18, 3) := dk_180 0 18 (dk_at dksX7_longestRow_1 21 rfl rfl)
theorem dX7_longestRow_47 : decode cX7_longestRow 47 = .ok (.iload 4, 2) := dk_21 4 (dk_at dksX7_longestRow_2 0 rfl rfl)
theorem dX7_longestRow_49 : decode cX7_longestRow 49 = .ok (.iaload, 1) := dk_46 (dk_at dksX7_longestRow_2 2 rfl rfl)
theorem dX7_longestRow_50 : decode cX7_longestRow 50 = .ok (.ifCond .ne 7, 3) := dk_154 0 7 (dk_at dksX7_longestRow_2 3 rfl rfl)
theorem dX7_longestRow_53 : decode cX7_longestRow 53 = .ok (.iconst 1, 1) := dk_4 (dk_at dksX7_longestRow_2 6 rfl rfl)
theorem dX7_longestRow_54 : decode cX7_longestRow 54 = .ok (.goto 4, 3) := dk_167 0 4 (dk_at dksX7_longestRow_2 7 rfl rfl)
theorem dX7_longestRow_57 : decode cX7_longestRow 57 = .ok (.iconst 0, 1) := dk_3 (dk_at dksX7_longestRow_2 10 rfl rfl)
theorem dX7_longestRow_58 : decode cX7_longestRow 58 = .ok (.istore 5, 2) := dk_54 5 (dk_at dksX7_longestRow_2 11 rfl rfl)
theorem dX7_longestRow_60 : decode cX7_longestRow 60 = .ok (.iload 5, 2) := dk_21 5 (dk_at dksX7_longestRow_2 13 rfl rfl)
theorem dX7_longestRow_62 : decode cX7_longestRow 62 = .ok (.ifCond .eq 9, 3) := dk_153 0 9 (dk_at dksX7_longestRow_2 15 rfl rfl)
theorem dX7_longestRow_65 : decode cX7_longestRow 65 = .ok (.iload_n 3, 1) := dk_29 (dk_at dksX7_longestRow_2 18 rfl rfl)
theorem dX7_longestRow_66 : decode cX7_longestRow 66 = .ok (.iconst 1, 1) := dk_4 (dk_at dksX7_longestRow_2 19 rfl rfl)
theorem dX7_longestRow_67 : decode cX7_longestRow 67 = .ok (.iadd, 1) := dk_96 (dk_at dksX7_longestRow_2 20 rfl rfl)
theorem dX7_longestRow_68 : decode cX7_longestRow 68 = .ok (.goto 4, 3) := dk_167 0 4 (dk_at dksX7_longestRow_2 21 rfl rfl)
theorem dX7_longestRow_71 : decode cX7_longestRow 71 = .ok (.iconst 0, 1) := dk_3 (dk_at dksX7_longestRow_3 0 rfl rfl)
theorem dX7_longestRow_72 : decode cX7_longestRow 72 = .ok (.istore_n 3, 1) := dk_62 (dk_at dksX7_longestRow_3 1 rfl rfl)
theorem dX7_longestRow_73 : decode cX7_longestRow 73 = .ok (.iload_n 2, 1) := dk_28 (dk_at dksX7_longestRow_3 2 rfl rfl)
theorem dX7_longestRow_74 : decode cX7_longestRow 74 = .ok (.iload_n 3, 1) := dk_29 (dk_at dksX7_longestRow_3 3 rfl rfl)
theorem dX7_longestRow_75 : decode cX7_longestRow 75 = .ok (.invokestatic 104, 3) := dk_184 0 104 (dk_at dksX7_longestRow_3 4 rfl rfl)
theorem dX7_longestRow_78 : decode cX7_longestRow 78 = .ok (.istore_n 2, 1) := dk_61 (dk_at dksX7_longestRow_3 7 rfl rfl)
theorem dX7_longestRow_79 : decode cX7_longestRow 79 = .ok (.iinc 4 1, 3) := dk_132 4 1 (dk_at dksX7_longestRow_3 8 rfl rfl)
theorem dX7_longestRow_82 : decode cX7_longestRow 82 = .ok (.goto (-75), 3) := dk_167 255 181 (dk_at dksX7_longestRow_3 11 rfl rfl)
theorem dX7_longestRow_85 : decode cX7_longestRow 85 = .ok (.iload_n 2, 1) := dk_28 (dk_at dksX7_longestRow_3 14 rfl rfl)
theorem dX7_longestRow_86 : decode cX7_longestRow 86 = .ok (.ireturn, 1) := dk_172 (dk_at dksX7_longestRow_3 15 rfl rfl)
abbrev cX7_all : ByteArray := prog_2_method_14_code
def yX7_all : MethodName := ⟨RX7, "all", "()I"⟩
def dkwX7_all_1 : List UInt8 := [132, 2, 1, 167, 255, 234, 27, 172]
abbrev dktX7_all_1 : List UInt8 := dkwX7_all_1 ++ []
def dkwX7_all_0 : List UInt8 := [3, 60, 3, 61, 28, 42, 180, 0, 27, 182, 0, 133, 162, 0, 17, 27, 42, 28, 182, 0, 136, 96, 60]
abbrev dktX7_all_0 : List UInt8 := dkwX7_all_0 ++ dktX7_all_1
theorem dksX7_all_0 : cX7_all.data.toList.drop 0 = dktX7_all_0 := by decide +kernel
theorem dksX7_all_1 : cX7_all.data.toList.drop 23 = dktX7_all_1 := dk_seg dksX7_all_0 23 rfl rfl
theorem dX7_all_0 : decode cX7_all 0 = .ok (.iconst 0, 1) := dk_3 (dk_at dksX7_all_0 0 rfl rfl)
theorem dX7_all_1 : decode cX7_all 1 = .ok (.istore_n 1, 1) := dk_60 (dk_at dksX7_all_0 1 rfl rfl)
theorem dX7_all_2 : decode cX7_all 2 = .ok (.iconst 0, 1) := dk_3 (dk_at dksX7_all_0 2 rfl rfl)
theorem dX7_all_3 : decode cX7_all 3 = .ok (.istore_n 2, 1) := dk_61 (dk_at dksX7_all_0 3 rfl rfl)
theorem dX7_all_4 : decode cX7_all 4 = .ok (.iload_n 2, 1) := dk_28 (dk_at dksX7_all_0 4 rfl rfl)
theorem dX7_all_5 : decode cX7_all 5 = .ok (.aload_n 0, 1) := dk_42 (dk_at dksX7_all_0 5 rfl rfl)
theorem dX7_all_6 : decode cX7_all 6 = .ok (.getfield 27, 3) := dk_180 0 27 (dk_at dksX7_all_0 6 rfl rfl)
theorem dX7_all_9 : decode cX7_all 9 = .ok (.invokevirtual 133, 3) := dk_182 0 133 (dk_at dksX7_all_0 9 rfl rfl)
theorem dX7_all_12 : decode cX7_all 12 = .ok (.if_icmp .ge 17, 3) := dk_162 0 17 (dk_at dksX7_all_0 12 rfl rfl)
theorem dX7_all_15 : decode cX7_all 15 = .ok (.iload_n 1, 1) := dk_27 (dk_at dksX7_all_0 15 rfl rfl)
theorem dX7_all_16 : decode cX7_all 16 = .ok (.aload_n 0, 1) := dk_42 (dk_at dksX7_all_0 16 rfl rfl)
theorem dX7_all_17 : decode cX7_all 17 = .ok (.iload_n 2, 1) := dk_28 (dk_at dksX7_all_0 17 rfl rfl)
theorem dX7_all_18 : decode cX7_all 18 = .ok (.invokevirtual 136, 3) := dk_182 0 136 (dk_at dksX7_all_0 18 rfl rfl)
theorem dX7_all_21 : decode cX7_all 21 = .ok (.iadd, 1) := dk_96 (dk_at dksX7_all_0 21 rfl rfl)
theorem dX7_all_22 : decode cX7_all 22 = .ok (.istore_n 1, 1) := dk_60 (dk_at dksX7_all_0 22 rfl rfl)
theorem dX7_all_23 : decode cX7_all 23 = .ok (.iinc 2 1, 3) := dk_132 2 1 (dk_at dksX7_all_1 0 rfl rfl)
theorem dX7_all_26 : decode cX7_all 26 = .ok (.goto (-22), 3) := dk_167 255 234 (dk_at dksX7_all_1 3 rfl rfl)
theorem dX7_all_29 : decode cX7_all 29 = .ok (.iload_n 1, 1) := dk_27 (dk_at dksX7_all_1 6 rfl rfl)
theorem dX7_all_30 : decode cX7_all 30 = .ok (.ireturn, 1) := dk_172 (dk_at dksX7_all_1 7 rfl rfl)
abbrev cX7_most : ByteArray := prog_2_method_16_code
def yX7_most : MethodName := ⟨RX7, "most", "()I"⟩
def dkwX7_most_6 : List UInt8 := [167, 255, 224, 27, 172]
abbrev dktX7_most_6 : List UInt8 := dkwX7_most_6 ++ []
def dkwX7_most_5 : List UInt8 := [162, 0, 27, 27, 42, 29, 182, 0, 128, 5, 161, 0, 8, 16, 50, 167, 0, 4, 3, 96, 60, 132, 3, 1]
abbrev dktX7_most_5 : List UInt8 := dkwX7_most_5 ++ dktX7_most_6
def dkwX7_most_4 : List UInt8 := [28, 96, 104, 16, 10, 108, 96, 60, 132, 3, 1, 167, 255, 155, 3, 62, 29, 42, 180, 0, 27, 182, 0, 133]
abbrev dktX7_most_4 : List UInt8 := dkwX7_most_4 ++ dktX7_most_5
def dkwX7_most_3 : List UInt8 := [96, 184, 0, 54, 167, 0, 4, 3, 61, 27, 16, 100, 8, 42, 25, 4, 3, 182, 0, 100, 104, 96, 16, 10]
abbrev dktX7_most_3 : List UInt8 := dkwX7_most_3 ++ dktX7_most_4
def dkwX7_most_2 : List UInt8 := [100, 185, 0, 69, 2, 0, 192, 0, 39, 180, 0, 97, 25, 4, 180, 0, 97, 160, 0, 14, 16, 10, 28, 4]
abbrev dktX7_most_2 : List UInt8 := dkwX7_most_2 ++ dktX7_most_3
def dkwX7_most_1 : List UInt8 := [29, 185, 0, 69, 2, 0, 192, 0, 39, 58, 4, 29, 158, 0, 43, 42, 180, 0, 27, 180, 0, 65, 29, 4]
abbrev dktX7_most_1 : List UInt8 := dkwX7_most_1 ++ dktX7_most_2
def dkwX7_most_0 : List UInt8 := [3, 60, 3, 61, 3, 62, 29, 42, 180, 0, 27, 182, 0, 107, 162, 0, 96, 42, 180, 0, 27, 180, 0, 65]
abbrev dktX7_most_0 : List UInt8 := dkwX7_most_0 ++ dktX7_most_1
theorem dksX7_most_0 : cX7_most.data.toList.drop 0 = dktX7_most_0 := by decide +kernel
theorem dksX7_most_1 : cX7_most.data.toList.drop 24 = dktX7_most_1 := dk_seg dksX7_most_0 24 rfl rfl
theorem dksX7_most_2 : cX7_most.data.toList.drop 48 = dktX7_most_2 := dk_seg dksX7_most_1 24 rfl rfl
theorem dksX7_most_3 : cX7_most.data.toList.drop 72 = dktX7_most_3 := dk_seg dksX7_most_2 24 rfl rfl
theorem dksX7_most_4 : cX7_most.data.toList.drop 96 = dktX7_most_4 := dk_seg dksX7_most_3 24 rfl rfl
theorem dksX7_most_5 : cX7_most.data.toList.drop 120 = dktX7_most_5 := dk_seg dksX7_most_4 24 rfl rfl
theorem dksX7_most_6 : cX7_most.data.toList.drop 144 = dktX7_most_6 := dk_seg dksX7_most_5 24 rfl rfl
theorem dX7_most_0 : decode cX7_most 0 = .ok (.iconst 0, 1) := dk_3 (dk_at dksX7_most_0 0 rfl rfl)
theorem dX7_most_1 : decode cX7_most 1 = .ok (.istore_n 1, 1) := dk_60 (dk_at dksX7_most_0 1 rfl rfl)
theorem dX7_most_2 : decode cX7_most 2 = .ok (.iconst 0, 1) := dk_3 (dk_at dksX7_most_0 2 rfl rfl)
theorem dX7_most_3 : decode cX7_most 3 = .ok (.istore_n 2, 1) := dk_61 (dk_at dksX7_most_0 3 rfl rfl)
theorem dX7_most_4 : decode cX7_most 4 = .ok (.iconst 0, 1) := dk_3 (dk_at dksX7_most_0 4 rfl rfl)
theorem dX7_most_5 : decode cX7_most 5 = .ok (.istore_n 3, 1) := dk_62 (dk_at dksX7_most_0 5 rfl rfl)
theorem dX7_most_6 : decode cX7_most 6 = .ok (.iload_n 3, 1) := dk_29 (dk_at dksX7_most_0 6 rfl rfl)
theorem dX7_most_7 : decode cX7_most 7 = .ok (.aload_n 0, 1) := dk_42 (dk_at dksX7_most_0 7 rfl rfl)
theorem dX7_most_8 : decode cX7_most 8 = .ok (.getfield 27, 3) := dk_180 0 27 (dk_at dksX7_most_0 8 rfl rfl)
theorem dX7_most_11 : decode cX7_most 11 = .ok (.invokevirtual 107, 3) := dk_182 0 107 (dk_at dksX7_most_0 11 rfl rfl)
theorem dX7_most_14 : decode cX7_most 14 = .ok (.if_icmp .ge 96, 3) := dk_162 0 96 (dk_at dksX7_most_0 14 rfl rfl)
theorem dX7_most_17 : decode cX7_most 17 = .ok (.aload_n 0, 1) := dk_42 (dk_at dksX7_most_0 17 rfl rfl)
theorem dX7_most_18 : decode cX7_most 18 = .ok (.getfield 27, 3) := dk_180 0 27 (dk_at dksX7_most_0 18 rfl rfl)
theorem dX7_most_21 : decode cX7_most 21 = .ok (.getfield 65, 3) := dk_180 0 65 (dk_at dksX7_most_0 21 rfl rfl)
theorem dX7_most_24 : decode cX7_most 24 = .ok (.iload_n 3, 1) := dk_29 (dk_at dksX7_most_1 0 rfl rfl)
theorem dX7_most_25 : decode cX7_most 25 = .ok (.invokeinterface 69 2, 5) := by decide +kernel
theorem dX7_most_30 : decode cX7_most 30 = .ok (.checkcast 39, 3) := dk_192 0 39 (dk_at dksX7_most_1 6 rfl rfl)
theorem dX7_most_33 : decode cX7_most 33 = .ok (.astore 4, 2) := dk_58 4 (dk_at dksX7_most_1 9 rfl rfl)
theorem dX7_most_35 : decode cX7_most 35 = .ok (.iload_n 3, 1) := dk_29 (dk_at dksX7_most_1 11 rfl rfl)
theorem dX7_most_36 : decode cX7_most 36 = .ok (.ifCond .le 43, 3) := dk_158 0 43 (dk_at dksX7_most_1 12 rfl rfl)
theorem dX7_most_39 : decode cX7_most 39 = .ok (.aload_n 0, 1) := dk_42 (dk_at dksX7_most_1 15 rfl rfl)
theorem dX7_most_40 : decode cX7_most 40 = .ok (.getfield 27, 3) := dk_180 0 27 (dk_at dksX7_most_1 16 rfl rfl)
theorem dX7_most_43 : decode cX7_most 43 = .ok (.getfield 65, 3) := dk_180 0 65 (dk_at dksX7_most_1 19 rfl rfl)
theorem dX7_most_46 : decode cX7_most 46 = .ok (.iload_n 3, 1) := dk_29 (dk_at dksX7_most_1 22 rfl rfl)
theorem dX7_most_47 : decode cX7_most 47 = .ok (.iconst 1, 1) := dk_4 (dk_at dksX7_most_1 23 rfl rfl)
theorem dX7_most_48 : decode cX7_most 48 = .ok (.isub, 1) := dk_100 (dk_at dksX7_most_2 0 rfl rfl)
theorem dX7_most_49 : decode cX7_most 49 = .ok (.invokeinterface 69 2, 5) := by decide +kernel
theorem dX7_most_54 : decode cX7_most 54 = .ok (.checkcast 39, 3) := dk_192 0 39 (dk_at dksX7_most_2 6 rfl rfl)
theorem dX7_most_57 : decode cX7_most 57 = .ok (.getfield 97, 3) := dk_180 0 97 (dk_at dksX7_most_2 9 rfl rfl)
theorem dX7_most_60 : decode cX7_most 60 = .ok (.aload 4, 2) := dk_25 4 (dk_at dksX7_most_2 12 rfl rfl)
theorem dX7_most_62 : decode cX7_most 62 = .ok (.getfield 97, 3) := dk_180 0 97 (dk_at dksX7_most_2 14 rfl rfl)
theorem dX7_most_65 : decode cX7_most 65 = .ok (.if_icmp .ne 14, 3) := dk_160 0 14 (dk_at dksX7_most_2 17 rfl rfl)
theorem dX7_most_68 : decode cX7_most 68 = .ok (.bipush 10, 2) := dk_16 10 (dk_at dksX7_most_2 20 rfl rfl)
theorem dX7_most_70 : decode cX7_most 70 = .ok (.iload_n 2, 1) := dk_28 (dk_at dksX7_most_2 22 rfl rfl)
theorem dX7_most_71 : decode cX7_most 71 = .ok (.iconst 1, 1) := dk_4 (dk_at dksX7_most_2 23 rfl rfl)
theorem dX7_most_72 : decode cX7_most 72 = .ok (.iadd, 1) := dk_96 (dk_at dksX7_most_3 0 rfl rfl)
theorem dX7_most_73 : decode cX7_most 73 = .ok (.invokestatic 54, 3) := dk_184 0 54 (dk_at dksX7_most_3 1 rfl rfl)
theorem dX7_most_76 : decode cX7_most 76 = .ok (.goto 4, 3) := dk_167 0 4 (dk_at dksX7_most_3 4 rfl rfl)
theorem dX7_most_79 : decode cX7_most 79 = .ok (.iconst 0, 1) := dk_3 (dk_at dksX7_most_3 7 rfl rfl)
theorem dX7_most_80 : decode cX7_most 80 = .ok (.istore_n 2, 1) := dk_61 (dk_at dksX7_most_3 8 rfl rfl)
theorem dX7_most_81 : decode cX7_most 81 = .ok (.iload_n 1, 1) := dk_27 (dk_at dksX7_most_3 9 rfl rfl)
theorem dX7_most_82 : decode cX7_most 82 = .ok (.bipush 100, 2) := dk_16 100 (dk_at dksX7_most_3 10 rfl rfl)
theorem dX7_most_84 : decode cX7_most 84 = .ok (.iconst 5, 1) := dk_8 (dk_at dksX7_most_3 12 rfl rfl)
theorem dX7_most_85 : decode cX7_most 85 = .ok (.aload_n 0, 1) := dk_42 (dk_at dksX7_most_3 13 rfl rfl)
theorem dX7_most_86 : decode cX7_most 86 = .ok (.aload 4, 2) := dk_25 4 (dk_at dksX7_most_3 14 rfl rfl)
theorem dX7_most_88 : decode cX7_most 88 = .ok (.iconst 0, 1) := dk_3 (dk_at dksX7_most_3 16 rfl rfl)
theorem dX7_most_89 : decode cX7_most 89 = .ok (.invokevirtual 100, 3) := dk_182 0 100 (dk_at dksX7_most_3 17 rfl rfl)
theorem dX7_most_92 : decode cX7_most 92 = .ok (.imul, 1) := dk_104 (dk_at dksX7_most_3 20 rfl rfl)
theorem dX7_most_93 : decode cX7_most 93 = .ok (.iadd, 1) := dk_96 (dk_at dksX7_most_3 21 rfl rfl)
theorem dX7_most_94 : decode cX7_most 94 = .ok (.bipush 10, 2) := dk_16 10 (dk_at dksX7_most_3 22 rfl rfl)
theorem dX7_most_96 : decode cX7_most 96 = .ok (.iload_n 2, 1) := dk_28 (dk_at dksX7_most_4 0 rfl rfl)
theorem dX7_most_97 : decode cX7_most 97 = .ok (.iadd, 1) := dk_96 (dk_at dksX7_most_4 1 rfl rfl)
theorem dX7_most_98 : decode cX7_most 98 = .ok (.imul, 1) := dk_104 (dk_at dksX7_most_4 2 rfl rfl)
theorem dX7_most_99 : decode cX7_most 99 = .ok (.bipush 10, 2) := dk_16 10 (dk_at dksX7_most_4 3 rfl rfl)
theorem dX7_most_101 : decode cX7_most 101 = .ok (.idiv, 1) := dk_108 (dk_at dksX7_most_4 5 rfl rfl)
theorem dX7_most_102 : decode cX7_most 102 = .ok (.iadd, 1) := dk_96 (dk_at dksX7_most_4 6 rfl rfl)
theorem dX7_most_103 : decode cX7_most 103 = .ok (.istore_n 1, 1) := dk_60 (dk_at dksX7_most_4 7 rfl rfl)
theorem dX7_most_104 : decode cX7_most 104 = .ok (.iinc 3 1, 3) := dk_132 3 1 (dk_at dksX7_most_4 8 rfl rfl)
theorem dX7_most_107 : decode cX7_most 107 = .ok (.goto (-101), 3) := dk_167 255 155 (dk_at dksX7_most_4 11 rfl rfl)
theorem dX7_most_110 : decode cX7_most 110 = .ok (.iconst 0, 1) := dk_3 (dk_at dksX7_most_4 14 rfl rfl)
theorem dX7_most_111 : decode cX7_most 111 = .ok (.istore_n 3, 1) := dk_62 (dk_at dksX7_most_4 15 rfl rfl)
theorem dX7_most_112 : decode cX7_most 112 = .ok (.iload_n 3, 1) := dk_29 (dk_at dksX7_most_4 16 rfl rfl)
theorem dX7_most_113 : decode cX7_most 113 = .ok (.aload_n 0, 1) := dk_42 (dk_at dksX7_most_4 17 rfl rfl)
theorem dX7_most_114 : decode cX7_most 114 = .ok (.getfield 27, 3) := dk_180 0 27 (dk_at dksX7_most_4 18 rfl rfl)
theorem dX7_most_117 : decode cX7_most 117 = .ok (.invokevirtual 133, 3) := dk_182 0 133 (dk_at dksX7_most_4 21 rfl rfl)
theorem dX7_most_120 : decode cX7_most 120 = .ok (.if_icmp .ge 27, 3) := dk_162 0 27 (dk_at dksX7_most_5 0 rfl rfl)
theorem dX7_most_123 : decode cX7_most 123 = .ok (.iload_n 1, 1) := dk_27 (dk_at dksX7_most_5 3 rfl rfl)
theorem dX7_most_124 : decode cX7_most 124 = .ok (.aload_n 0, 1) := dk_42 (dk_at dksX7_most_5 4 rfl rfl)
theorem dX7_most_125 : decode cX7_most 125 = .ok (.iload_n 3, 1) := dk_29 (dk_at dksX7_most_5 5 rfl rfl)
theorem dX7_most_126 : decode cX7_most 126 = .ok (.invokevirtual 128, 3) := dk_182 0 128 (dk_at dksX7_most_5 6 rfl rfl)
theorem dX7_most_129 : decode cX7_most 129 = .ok (.iconst 2, 1) := dk_5 (dk_at dksX7_most_5 9 rfl rfl)
theorem dX7_most_130 : decode cX7_most 130 = .ok (.if_icmp .lt 8, 3) := dk_161 0 8 (dk_at dksX7_most_5 10 rfl rfl)
theorem dX7_most_133 : decode cX7_most 133 = .ok (.bipush 50, 2) := dk_16 50 (dk_at dksX7_most_5 13 rfl rfl)
theorem dX7_most_135 : decode cX7_most 135 = .ok (.goto 4, 3) := dk_167 0 4 (dk_at dksX7_most_5 15 rfl rfl)
theorem dX7_most_138 : decode cX7_most 138 = .ok (.iconst 0, 1) := dk_3 (dk_at dksX7_most_5 18 rfl rfl)
theorem dX7_most_139 : decode cX7_most 139 = .ok (.iadd, 1) := dk_96 (dk_at dksX7_most_5 19 rfl rfl)
theorem dX7_most_140 : decode cX7_most 140 = .ok (.istore_n 1, 1) := dk_60 (dk_at dksX7_most_5 20 rfl rfl)
theorem dX7_most_141 : decode cX7_most 141 = .ok (.iinc 3 1, 3) := dk_132 3 1 (dk_at dksX7_most_5 21 rfl rfl)
theorem dX7_most_144 : decode cX7_most 144 = .ok (.goto (-32), 3) := dk_167 255 224 (dk_at dksX7_most_6 0 rfl rfl)
theorem dX7_most_147 : decode cX7_most 147 = .ok (.iload_n 1, 1) := dk_27 (dk_at dksX7_most_6 3 rfl rfl)
theorem dX7_most_148 : decode cX7_most 148 = .ok (.ireturn, 1) := dk_172 (dk_at dksX7_most_6 4 rfl rfl)
theorem q74 : (Jvm.Cond.initialized "SungSlides$Judge") ∈ lw_all := lw_g (lw_at lw_m1 20 rfl) rfl
theorem q123 : (Jvm.Cond.fieldLinkNest "SungSlides$Judge" (65 : Nat) "SungSlides$Song" "syllables" "Ljava/util/List;" "SungSlides") ∈ lw_tbl := lw_at lw_m1 69 rfl
theorem q128 : (Jvm.Cond.fieldLinkNest "SungSlides$Judge" (49 : Nat) "SungSlides$Song" "settings" "[I" "SungSlides") ∈ lw_tbl := lw_at lw_m1 74 rfl
theorem q304 : (Jvm.Cond.selects "SungSlides$Judge" ({ cls := "java/lang/Object", name := "getClass", desc := "()Ljava/lang/Class;" } : Jvm.MethodName) ({ cls := "java/lang/Object", name := "getClass", desc := "()Ljava/lang/Class;" } : Jvm.MethodName)) ∈ lw_all := lw_g (lw_at lw_m2 10 rfl) rfl
theorem q447 : (Jvm.Cond.fieldLinkNest "SungSlides$Judge" (58 : Nat) "SungSlides$Syllable" "begin" "I" "SungSlides") ∈ lw_tbl := lw_at lw_m2 153 rfl
theorem q451 : (Jvm.Cond.fieldLinkNest "SungSlides$Judge" (75 : Nat) "SungSlides$Syllable" "length" "I" "SungSlides") ∈ lw_tbl := lw_at lw_m2 157 rfl
theorem q459 : (Jvm.Cond.fieldLinkNest "SungSlides$Judge" (97 : Nat) "SungSlides$Syllable" "phrase" "I" "SungSlides") ∈ lw_tbl := lw_at lw_m2 165 rfl
theorem q596 : (Jvm.Cond.instantiable "SungSlides$Judge" (7 : Nat)) ∈ lw_all := lw_g (lw_at lw_m3 62 rfl) rfl
theorem q598 : (Jvm.Cond.instanceMethod ({ cls := "SungSlides$Judge", name := "<init>", desc := "(LSungSlides$Song;)V" } : Jvm.MethodName)) ∈ lw_all := lw_g (lw_at lw_m3 64 rfl) rfl
theorem q599 : (Jvm.Cond.code ({ cls := "SungSlides$Judge", name := "<init>", desc := "(LSungSlides$Song;)V" } : Jvm.MethodName) prog_2_method_1_code (2 : Nat) (Option.none : Option Jvm.ClassFile.FieldType)) ∈ lw_all := lw_g (lw_at lw_m3 65 rfl) rfl
theorem q600 : (Jvm.Cond.methodLink "SungSlides$Judge" (3 : Nat) ({ cls := "java/lang/Object", name := "<init>", desc := "()V" } : Jvm.MethodName)) ∈ lw_all := lw_g (lw_at lw_m3 66 rfl) rfl
theorem q601 : (Jvm.Cond.fieldLink "SungSlides$Judge" (27 : Nat) "SungSlides$Judge" "song" "LSungSlides$Song;") ∈ lw_all := lw_g (lw_at lw_m3 67 rfl) rfl
theorem q602 : (Jvm.Cond.fieldLink "SungSlides$Judge" (9 : Nat) "SungSlides$Judge" "matching" "[I") ∈ lw_all := lw_g (lw_at lw_m3 68 rfl) rfl
theorem q604 : (Jvm.Cond.fieldLink "SungSlides$Judge" (15 : Nat) "SungSlides$Judge" "onsets" "[I") ∈ lw_all := lw_g (lw_at lw_m3 70 rfl) rfl
theorem q606 : (Jvm.Cond.fieldLink "SungSlides$Judge" (18 : Nat) "SungSlides$Judge" "reasons" "[I") ∈ lw_all := lw_g (lw_at lw_m3 72 rfl) rfl
theorem q608 : (Jvm.Cond.fieldLink "SungSlides$Judge" (21 : Nat) "SungSlides$Judge" "rows" "[I") ∈ lw_all := lw_g (lw_at lw_m3 74 rfl) rfl
theorem q610 : (Jvm.Cond.fieldLink "SungSlides$Judge" (24 : Nat) "SungSlides$Judge" "points" "[I") ∈ lw_all := lw_g (lw_at lw_m3 76 rfl) rfl
theorem q612 : (Jvm.Cond.fieldLink "SungSlides$Judge" (35 : Nat) "SungSlides$Judge" "sung" "[I") ∈ lw_all := lw_g (lw_at lw_m3 78 rfl) rfl
theorem q613 : (Jvm.Cond.laysFinal "SungSlides$Judge" "SungSlides$Judge" "song" "LSungSlides$Song;") ∈ lw_all := lw_g (lw_at lw_m3 79 rfl) rfl
theorem q614 : (Jvm.Cond.soleField "SungSlides$Judge" "song") ∈ lw_all := lw_g (lw_at lw_m3 80 rfl) rfl
theorem q615 : (Jvm.Cond.laysFinal "SungSlides$Judge" "SungSlides$Judge" "matching" "[I") ∈ lw_all := lw_g (lw_at lw_m3 81 rfl) rfl
theorem q616 : (Jvm.Cond.soleField "SungSlides$Judge" "matching") ∈ lw_all := lw_g (lw_at lw_m3 82 rfl) rfl
theorem q617 : (Jvm.Cond.laysFinal "SungSlides$Judge" "SungSlides$Judge" "onsets" "[I") ∈ lw_all := lw_g (lw_at lw_m3 83 rfl) rfl
theorem q618 : (Jvm.Cond.soleField "SungSlides$Judge" "onsets") ∈ lw_all := lw_g (lw_at lw_m3 84 rfl) rfl
theorem q619 : (Jvm.Cond.laysFinal "SungSlides$Judge" "SungSlides$Judge" "reasons" "[I") ∈ lw_all := lw_g (lw_at lw_m3 85 rfl) rfl
theorem q620 : (Jvm.Cond.soleField "SungSlides$Judge" "reasons") ∈ lw_all := lw_g (lw_at lw_m3 86 rfl) rfl
theorem q621 : (Jvm.Cond.laysFinal "SungSlides$Judge" "SungSlides$Judge" "rows" "[I") ∈ lw_all := lw_g (lw_at lw_m3 87 rfl) rfl
theorem q622 : (Jvm.Cond.soleField "SungSlides$Judge" "rows") ∈ lw_all := lw_g (lw_at lw_m3 88 rfl) rfl
theorem q623 : (Jvm.Cond.laysFinal "SungSlides$Judge" "SungSlides$Judge" "points" "[I") ∈ lw_all := lw_g (lw_at lw_m3 89 rfl) rfl
theorem q624 : (Jvm.Cond.soleField "SungSlides$Judge" "points") ∈ lw_all := lw_g (lw_at lw_m3 90 rfl) rfl
theorem q625 : (Jvm.Cond.lays "SungSlides$Judge" "SungSlides$Judge" "sung" "[I") ∈ lw_all := lw_g (lw_at lw_m3 91 rfl) rfl
theorem q626 : (Jvm.Cond.soleField "SungSlides$Judge" "sung") ∈ lw_all := lw_g (lw_at lw_m3 92 rfl) rfl
theorem q627 : (Jvm.Cond.superclass "SungSlides$Judge" "java/lang/Object") ∈ lw_all := lw_g (lw_at lw_m3 93 rfl) rfl
theorem q629 : (Jvm.Cond.instanceMethod ({ cls := "SungSlides$Judge", name := "run", desc := "([I)LSungSlides$Judge;" } : Jvm.MethodName)) ∈ lw_all := lw_g (lw_at lw_m3 95 rfl) rfl
theorem q630 : (Jvm.Cond.selects "SungSlides$Judge" ({ cls := "SungSlides$Judge", name := "run", desc := "([I)LSungSlides$Judge;" } : Jvm.MethodName) ({ cls := "SungSlides$Judge", name := "run", desc := "([I)LSungSlides$Judge;" } : Jvm.MethodName)) ∈ lw_all := lw_g (lw_at lw_m3 96 rfl) rfl
theorem q631 : (Jvm.Cond.code ({ cls := "SungSlides$Judge", name := "run", desc := "([I)LSungSlides$Judge;" } : Jvm.MethodName) prog_2_method_9_code (3 : Nat) (Option.some (Jvm.ClassFile.FieldType.object "SungSlides$Judge"))) ∈ lw_all := lw_g (lw_at lw_m3 97 rfl) rfl
theorem q632 : (Jvm.Cond.methodLink "SungSlides$Judge" (107 : Nat) ({ cls := "SungSlides$Song", name := "many", desc := "()I" } : Jvm.MethodName)) ∈ lw_all := lw_g (lw_at lw_m3 98 rfl) rfl
theorem q633 : (Jvm.Cond.methodLink "SungSlides$Judge" (110 : Nat) ({ cls := "SungSlides$Judge", name := "judge", desc := "(I)V" } : Jvm.MethodName)) ∈ lw_all := lw_g (lw_at lw_m3 99 rfl) rfl
theorem q634 : (Jvm.Cond.privateMethod ({ cls := "SungSlides$Judge", name := "judge", desc := "(I)V" } : Jvm.MethodName)) ∈ lw_tbl := lw_at lw_m3 100 rfl
theorem q635 : (Jvm.Cond.instanceMethod ({ cls := "SungSlides$Judge", name := "judge", desc := "(I)V" } : Jvm.MethodName)) ∈ lw_all := lw_g (lw_at lw_m3 101 rfl) rfl
theorem q636 : (Jvm.Cond.code ({ cls := "SungSlides$Judge", name := "judge", desc := "(I)V" } : Jvm.MethodName) prog_2_method_8_code (5 : Nat) (Option.none : Option Jvm.ClassFile.FieldType)) ∈ lw_all := lw_g (lw_at lw_m3 102 rfl) rfl
theorem q637 : (Jvm.Cond.interfaceEntry "SungSlides$Judge" (69 : Nat)) ∈ lw_tbl := lw_at lw_m3 103 rfl
theorem q638 : (Jvm.Cond.methodLink "SungSlides$Judge" (69 : Nat) ({ cls := "java/util/List", name := "get", desc := "(I)Ljava/lang/Object;" } : Jvm.MethodName)) ∈ lw_all := lw_g (lw_at lw_m3 104 rfl) rfl
theorem q639 : (Jvm.Cond.classLink "SungSlides$Judge" (39 : Nat) "SungSlides$Syllable") ∈ lw_all := lw_g (lw_at lw_m3 105 rfl) rfl
theorem q640 : (Jvm.Cond.methodLink "SungSlides$Judge" (78 : Nat) ({ cls := "SungSlides$Syllable", name := "end", desc := "()I" } : Jvm.MethodName)) ∈ lw_all := lw_g (lw_at lw_m3 106 rfl) rfl
theorem q641 : (Jvm.Cond.methodLink "SungSlides$Judge" (82 : Nat) ({ cls := "SungSlides$Judge", name := "matches", desc := "(LSungSlides$Syllable;I)Z" } : Jvm.MethodName)) ∈ lw_all := lw_g (lw_at lw_m3 107 rfl) rfl
theorem q642 : (Jvm.Cond.privateMethod ({ cls := "SungSlides$Judge", name := "matches", desc := "(LSungSlides$Syllable;I)Z" } : Jvm.MethodName)) ∈ lw_tbl := lw_at lw_m3 108 rfl
theorem q643 : (Jvm.Cond.instanceMethod ({ cls := "SungSlides$Judge", name := "matches", desc := "(LSungSlides$Syllable;I)Z" } : Jvm.MethodName)) ∈ lw_all := lw_g (lw_at lw_m3 109 rfl) rfl
theorem q644 : (Jvm.Cond.code ({ cls := "SungSlides$Judge", name := "matches", desc := "(LSungSlides$Syllable;I)Z" } : Jvm.MethodName) prog_2_method_3_code (4 : Nat) (Option.some Jvm.ClassFile.FieldType.boolean)) ∈ lw_all := lw_g (lw_at lw_m3 110 rfl) rfl
theorem q645 : (Jvm.Cond.methodLink "SungSlides$Judge" (38 : Nat) ({ cls := "SungSlides$Syllable", name := "wanted", desc := "(I)I" } : Jvm.MethodName)) ∈ lw_all := lw_g (lw_at lw_m3 111 rfl) rfl
theorem q649 : (Jvm.Cond.methodLink "SungSlides$Judge" (44 : Nat) ({ cls := "java/lang/Math", name := "abs", desc := "(I)I" } : Jvm.MethodName)) ∈ lw_all := lw_g (lw_at lw_m3 115 rfl) rfl
theorem q652 : (Jvm.Cond.methodLink "SungSlides$Judge" (54 : Nat) ({ cls := "java/lang/Math", name := "min", desc := "(II)I" } : Jvm.MethodName)) ∈ lw_all := lw_g (lw_at lw_m3 118 rfl) rfl
theorem q653 : (Jvm.Cond.methodLink "SungSlides$Judge" (89 : Nat) ({ cls := "SungSlides$Judge", name := "onset", desc := "(LSungSlides$Syllable;)I" } : Jvm.MethodName)) ∈ lw_all := lw_g (lw_at lw_m3 119 rfl) rfl
theorem q654 : (Jvm.Cond.privateMethod ({ cls := "SungSlides$Judge", name := "onset", desc := "(LSungSlides$Syllable;)I" } : Jvm.MethodName)) ∈ lw_tbl := lw_at lw_m3 120 rfl
theorem q655 : (Jvm.Cond.instanceMethod ({ cls := "SungSlides$Judge", name := "onset", desc := "(LSungSlides$Syllable;)I" } : Jvm.MethodName)) ∈ lw_all := lw_g (lw_at lw_m3 121 rfl) rfl
theorem q656 : (Jvm.Cond.code ({ cls := "SungSlides$Judge", name := "onset", desc := "(LSungSlides$Syllable;)I" } : Jvm.MethodName) prog_2_method_4_code (3 : Nat) (Option.some Jvm.ClassFile.FieldType.int)) ∈ lw_all := lw_g (lw_at lw_m3 122 rfl) rfl
theorem q657 : (Jvm.Cond.methodLink "SungSlides$Judge" (62 : Nat) ({ cls := "SungSlides$Judge", name := "isOnset", desc := "(I)Z" } : Jvm.MethodName)) ∈ lw_all := lw_g (lw_at lw_m3 123 rfl) rfl
theorem q658 : (Jvm.Cond.privateMethod ({ cls := "SungSlides$Judge", name := "isOnset", desc := "(I)Z" } : Jvm.MethodName)) ∈ lw_tbl := lw_at lw_m3 124 rfl
theorem q659 : (Jvm.Cond.instanceMethod ({ cls := "SungSlides$Judge", name := "isOnset", desc := "(I)Z" } : Jvm.MethodName)) ∈ lw_all := lw_g (lw_at lw_m3 125 rfl) rfl
theorem q660 : (Jvm.Cond.code ({ cls := "SungSlides$Judge", name := "isOnset", desc := "(I)Z" } : Jvm.MethodName) prog_2_method_2_code (2 : Nat) (Option.some Jvm.ClassFile.FieldType.boolean)) ∈ lw_all := lw_g (lw_at lw_m3 126 rfl) rfl
theorem q661 : (Jvm.Cond.methodLinkNest "SungSlides$Judge" (31 : Nat) ({ cls := "SungSlides", name := "isTick", desc := "(I)Z" } : Jvm.MethodName) "SungSlides") ∈ lw_tbl := lw_at lw_m3 127 rfl
theorem q662 : (Jvm.Cond.methodLink "SungSlides$Judge" (93 : Nat) ({ cls := "SungSlides$Judge", name := "reason", desc := "(LSungSlides$Syllable;I)I" } : Jvm.MethodName)) ∈ lw_all := lw_g (lw_at lw_m3 128 rfl) rfl
theorem q663 : (Jvm.Cond.privateMethod ({ cls := "SungSlides$Judge", name := "reason", desc := "(LSungSlides$Syllable;I)I" } : Jvm.MethodName)) ∈ lw_tbl := lw_at lw_m3 129 rfl
theorem q664 : (Jvm.Cond.instanceMethod ({ cls := "SungSlides$Judge", name := "reason", desc := "(LSungSlides$Syllable;I)I" } : Jvm.MethodName)) ∈ lw_all := lw_g (lw_at lw_m3 130 rfl) rfl
theorem q665 : (Jvm.Cond.code ({ cls := "SungSlides$Judge", name := "reason", desc := "(LSungSlides$Syllable;I)I" } : Jvm.MethodName) prog_2_method_7_code (5 : Nat) (Option.some Jvm.ClassFile.FieldType.int)) ∈ lw_all := lw_g (lw_at lw_m3 131 rfl) rfl
theorem q666 : (Jvm.Cond.methodLink "SungSlides$Judge" (86 : Nat) ({ cls := "SungSlides$Judge", name := "share", desc := "(I)I" } : Jvm.MethodName)) ∈ lw_all := lw_g (lw_at lw_m3 132 rfl) rfl
theorem q667 : (Jvm.Cond.instanceMethod ({ cls := "SungSlides$Judge", name := "share", desc := "(I)I" } : Jvm.MethodName)) ∈ lw_all := lw_g (lw_at lw_m3 133 rfl) rfl
theorem q668 : (Jvm.Cond.selects "SungSlides$Judge" ({ cls := "SungSlides$Judge", name := "share", desc := "(I)I" } : Jvm.MethodName) ({ cls := "SungSlides$Judge", name := "share", desc := "(I)I" } : Jvm.MethodName)) ∈ lw_all := lw_g (lw_at lw_m3 134 rfl) rfl
theorem q669 : (Jvm.Cond.code ({ cls := "SungSlides$Judge", name := "share", desc := "(I)I" } : Jvm.MethodName) prog_2_method_5_code (2 : Nat) (Option.some Jvm.ClassFile.FieldType.int)) ∈ lw_all := lw_g (lw_at lw_m3 135 rfl) rfl
theorem q670 : (Jvm.Cond.methodLink "SungSlides$Judge" (100 : Nat) ({ cls := "SungSlides$Judge", name := "bars", desc := "(LSungSlides$Syllable;Z)I" } : Jvm.MethodName)) ∈ lw_all := lw_g (lw_at lw_m3 136 rfl) rfl
theorem q671 : (Jvm.Cond.instanceMethod ({ cls := "SungSlides$Judge", name := "bars", desc := "(LSungSlides$Syllable;Z)I" } : Jvm.MethodName)) ∈ lw_all := lw_g (lw_at lw_m3 137 rfl) rfl
theorem q672 : (Jvm.Cond.selects "SungSlides$Judge" ({ cls := "SungSlides$Judge", name := "bars", desc := "(LSungSlides$Syllable;Z)I" } : Jvm.MethodName) ({ cls := "SungSlides$Judge", name := "bars", desc := "(LSungSlides$Syllable;Z)I" } : Jvm.MethodName)) ∈ lw_all := lw_g (lw_at lw_m3 138 rfl) rfl
theorem q673 : (Jvm.Cond.code ({ cls := "SungSlides$Judge", name := "bars", desc := "(LSungSlides$Syllable;Z)I" } : Jvm.MethodName) prog_2_method_6_code (6 : Nat) (Option.some Jvm.ClassFile.FieldType.int)) ∈ lw_all := lw_g (lw_at lw_m3 139 rfl) rfl
theorem q674 : (Jvm.Cond.methodLink "SungSlides$Judge" (104 : Nat) ({ cls := "java/lang/Math", name := "max", desc := "(II)I" } : Jvm.MethodName)) ∈ lw_all := lw_g (lw_at lw_m3 140 rfl) rfl
theorem q676 : (Jvm.Cond.instanceMethod ({ cls := "SungSlides$Judge", name := "hits", desc := "(I)I" } : Jvm.MethodName)) ∈ lw_all := lw_g (lw_at lw_m3 142 rfl) rfl
theorem q677 : (Jvm.Cond.selects "SungSlides$Judge" ({ cls := "SungSlides$Judge", name := "hits", desc := "(I)I" } : Jvm.MethodName) ({ cls := "SungSlides$Judge", name := "hits", desc := "(I)I" } : Jvm.MethodName)) ∈ lw_all := lw_g (lw_at lw_m3 143 rfl) rfl
theorem q678 : (Jvm.Cond.code ({ cls := "SungSlides$Judge", name := "hits", desc := "(I)I" } : Jvm.MethodName) prog_2_method_12_code (4 : Nat) (Option.some Jvm.ClassFile.FieldType.int)) ∈ lw_all := lw_g (lw_at lw_m3 144 rfl) rfl
theorem q748 : (Jvm.Cond.instanceMethod ({ cls := "SungSlides$Judge", name := "first", desc := "(I)I" } : Jvm.MethodName)) ∈ lw_all := lw_g (lw_at lw_m3 214 rfl) rfl
theorem q749 : (Jvm.Cond.selects "SungSlides$Judge" ({ cls := "SungSlides$Judge", name := "first", desc := "(I)I" } : Jvm.MethodName) ({ cls := "SungSlides$Judge", name := "first", desc := "(I)I" } : Jvm.MethodName)) ∈ lw_all := lw_g (lw_at lw_m3 215 rfl) rfl
theorem q750 : (Jvm.Cond.code ({ cls := "SungSlides$Judge", name := "first", desc := "(I)I" } : Jvm.MethodName) prog_2_method_10_code (3 : Nat) (Option.some Jvm.ClassFile.FieldType.int)) ∈ lw_all := lw_g (lw_at lw_m3 216 rfl) rfl
theorem q752 : (Jvm.Cond.instanceMethod ({ cls := "SungSlides$Judge", name := "many", desc := "(I)I" } : Jvm.MethodName)) ∈ lw_all := lw_g (lw_at lw_m3 218 rfl) rfl
theorem q753 : (Jvm.Cond.selects "SungSlides$Judge" ({ cls := "SungSlides$Judge", name := "many", desc := "(I)I" } : Jvm.MethodName) ({ cls := "SungSlides$Judge", name := "many", desc := "(I)I" } : Jvm.MethodName)) ∈ lw_all := lw_g (lw_at lw_m3 219 rfl) rfl
theorem q754 : (Jvm.Cond.code ({ cls := "SungSlides$Judge", name := "many", desc := "(I)I" } : Jvm.MethodName) prog_2_method_11_code (5 : Nat) (Option.some Jvm.ClassFile.FieldType.int)) ∈ lw_all := lw_g (lw_at lw_m3 220 rfl) rfl
theorem q755 : (Jvm.Cond.interfaceEntry "SungSlides$Judge" (114 : Nat)) ∈ lw_tbl := lw_at lw_m3 221 rfl
theorem q756 : (Jvm.Cond.methodLink "SungSlides$Judge" (114 : Nat) ({ cls := "java/util/List", name := "iterator", desc := "()Ljava/util/Iterator;" } : Jvm.MethodName)) ∈ lw_all := lw_g (lw_at lw_m3 222 rfl) rfl
theorem q757 : (Jvm.Cond.interfaceEntry "SungSlides$Judge" (118 : Nat)) ∈ lw_tbl := lw_at lw_m3 223 rfl
theorem q758 : (Jvm.Cond.methodLink "SungSlides$Judge" (118 : Nat) ({ cls := "java/util/Iterator", name := "hasNext", desc := "()Z" } : Jvm.MethodName)) ∈ lw_all := lw_g (lw_at lw_m3 224 rfl) rfl
theorem q759 : (Jvm.Cond.interfaceEntry "SungSlides$Judge" (124 : Nat)) ∈ lw_tbl := lw_at lw_m3 225 rfl
theorem q760 : (Jvm.Cond.methodLink "SungSlides$Judge" (124 : Nat) ({ cls := "java/util/Iterator", name := "next", desc := "()Ljava/lang/Object;" } : Jvm.MethodName)) ∈ lw_all := lw_g (lw_at lw_m3 226 rfl) rfl
theorem q762 : (Jvm.Cond.instanceMethod ({ cls := "SungSlides$Judge", name := "pointsOf", desc := "(I)I" } : Jvm.MethodName)) ∈ lw_all := lw_g (lw_at lw_m3 228 rfl) rfl
theorem q763 : (Jvm.Cond.selects "SungSlides$Judge" ({ cls := "SungSlides$Judge", name := "pointsOf", desc := "(I)I" } : Jvm.MethodName) ({ cls := "SungSlides$Judge", name := "pointsOf", desc := "(I)I" } : Jvm.MethodName)) ∈ lw_all := lw_g (lw_at lw_m3 229 rfl) rfl
theorem q764 : (Jvm.Cond.code ({ cls := "SungSlides$Judge", name := "pointsOf", desc := "(I)I" } : Jvm.MethodName) prog_2_method_13_code (4 : Nat) (Option.some Jvm.ClassFile.FieldType.int)) ∈ lw_all := lw_g (lw_at lw_m3 230 rfl) rfl
theorem q765 : (Jvm.Cond.methodLink "SungSlides$Judge" (128 : Nat) ({ cls := "SungSlides$Judge", name := "many", desc := "(I)I" } : Jvm.MethodName)) ∈ lw_all := lw_g (lw_at lw_m3 231 rfl) rfl
theorem q766 : (Jvm.Cond.methodLink "SungSlides$Judge" (130 : Nat) ({ cls := "SungSlides$Judge", name := "hits", desc := "(I)I" } : Jvm.MethodName)) ∈ lw_all := lw_g (lw_at lw_m3 232 rfl) rfl
theorem q768 : (Jvm.Cond.instanceMethod ({ cls := "SungSlides$Judge", name := "longestRow", desc := "(I)I" } : Jvm.MethodName)) ∈ lw_all := lw_g (lw_at lw_m3 234 rfl) rfl
theorem q769 : (Jvm.Cond.selects "SungSlides$Judge" ({ cls := "SungSlides$Judge", name := "longestRow", desc := "(I)I" } : Jvm.MethodName) ({ cls := "SungSlides$Judge", name := "longestRow", desc := "(I)I" } : Jvm.MethodName)) ∈ lw_all := lw_g (lw_at lw_m3 235 rfl) rfl
theorem q770 : (Jvm.Cond.code ({ cls := "SungSlides$Judge", name := "longestRow", desc := "(I)I" } : Jvm.MethodName) prog_2_method_15_code (6 : Nat) (Option.some Jvm.ClassFile.FieldType.int)) ∈ lw_all := lw_g (lw_at lw_m3 236 rfl) rfl
theorem q782 : (Jvm.Cond.instanceMethod ({ cls := "SungSlides$Judge", name := "all", desc := "()I" } : Jvm.MethodName)) ∈ lw_all := lw_g (lw_at lw_m4 8 rfl) rfl
theorem q783 : (Jvm.Cond.selects "SungSlides$Judge" ({ cls := "SungSlides$Judge", name := "all", desc := "()I" } : Jvm.MethodName) ({ cls := "SungSlides$Judge", name := "all", desc := "()I" } : Jvm.MethodName)) ∈ lw_all := lw_g (lw_at lw_m4 9 rfl) rfl
theorem q784 : (Jvm.Cond.code ({ cls := "SungSlides$Judge", name := "all", desc := "()I" } : Jvm.MethodName) prog_2_method_14_code (3 : Nat) (Option.some Jvm.ClassFile.FieldType.int)) ∈ lw_all := lw_g (lw_at lw_m4 10 rfl) rfl
theorem q785 : (Jvm.Cond.methodLink "SungSlides$Judge" (133 : Nat) ({ cls := "SungSlides$Song", name := "phrases", desc := "()I" } : Jvm.MethodName)) ∈ lw_all := lw_g (lw_at lw_m4 11 rfl) rfl
theorem q786 : (Jvm.Cond.methodLink "SungSlides$Judge" (136 : Nat) ({ cls := "SungSlides$Judge", name := "pointsOf", desc := "(I)I" } : Jvm.MethodName)) ∈ lw_all := lw_g (lw_at lw_m4 12 rfl) rfl
theorem q788 : (Jvm.Cond.instanceMethod ({ cls := "SungSlides$Judge", name := "most", desc := "()I" } : Jvm.MethodName)) ∈ lw_all := lw_g (lw_at lw_m4 14 rfl) rfl
theorem q789 : (Jvm.Cond.selects "SungSlides$Judge" ({ cls := "SungSlides$Judge", name := "most", desc := "()I" } : Jvm.MethodName) ({ cls := "SungSlides$Judge", name := "most", desc := "()I" } : Jvm.MethodName)) ∈ lw_all := lw_g (lw_at lw_m4 15 rfl) rfl
theorem q790 : (Jvm.Cond.code ({ cls := "SungSlides$Judge", name := "most", desc := "()I" } : Jvm.MethodName) prog_2_method_16_code (5 : Nat) (Option.some Jvm.ClassFile.FieldType.int)) ∈ lw_all := lw_g (lw_at lw_m4 16 rfl) rfl
theorem q1119 : (Jvm.Cond.castable "SungSlides$Judge" "java/lang/Object") ∈ lw_tbl := lw_at lw_m5 105 rfl
theorem in_X7 : ∀ w ∈ wsX70, w ∈ lw_all := lw_in wsX70 [613, 615, 617, 619, 621, 623, 625] (by decide +kernel) (by decide +kernel)
