/-! SungSlides -/
set_option maxRecDepth 100000
def RX0 : String := "SungSlides"
def TX0 : u_T := fun k => match k with
  | 0 => ("SungSlides", "song", "LSungSlides$Song;", false)
  | 1 => ("SungSlides", "history", "Ljava/util/List;", true)
  | 2 => ("SungSlides", "snapshot", "LSungSlides$Song;", false)
  | 3 => ("SungSlides", "text", "[C", true)
  | _ => ("SungSlides", "length", "I", false)
def tyX0 : Nat → FieldType := fun k => match k with
  | 0 => .object "SungSlides$Song"
  | 1 => .object "java/util/List"
  | 2 => .object "SungSlides$Song"
  | 3 => .array .char
  | _ => .int
abbrev wsX00 : List Cond := u_ws RX0 TX0 5
theorem nmX0 : ∀ a, a < 5 → ∀ b, b < 5 → a ≠ b → (TX0 a).2.1 ≠ (TX0 b).2.1 := by decide +kernel
theorem tyX0_ok : ∀ k, k < 5 → parseFieldDescriptor (TX0 k).2.2.1 = some (tyX0 k) := by decide +kernel
abbrev cX0_init : ByteArray := prog_1_method_4_code
def yX0_init : MethodName := ⟨RX0, "<init>", "()V"⟩
def dkwX0_init_1 : List UInt8 := [181, 0, 23, 42, 16, 60, 188, 5, 181, 0, 27, 177]
abbrev dktX0_init_1 : List UInt8 := dkwX0_init_1 ++ []
def dkwX0_init_0 : List UInt8 := [42, 183, 0, 7, 42, 187, 0, 13, 89, 183, 0, 15, 181, 0, 16, 42, 187, 0, 20, 89, 183, 0, 22]
abbrev dktX0_init_0 : List UInt8 := dkwX0_init_0 ++ dktX0_init_1
theorem dksX0_init_0 : cX0_init.data.toList.drop 0 = dktX0_init_0 := by decide +kernel
theorem dksX0_init_1 : cX0_init.data.toList.drop 23 = dktX0_init_1 := dk_seg dksX0_init_0 23 rfl rfl
theorem dX0_init_0 : decode cX0_init 0 = .ok (.aload_n 0, 1) := dk_42 (dk_at dksX0_init_0 0 rfl rfl)
theorem dX0_init_1 : decode cX0_init 1 = .ok (.invokespecial 7, 3) := dk_183 0 7 (dk_at dksX0_init_0 1 rfl rfl)
theorem dX0_init_4 : decode cX0_init 4 = .ok (.aload_n 0, 1) := dk_42 (dk_at dksX0_init_0 4 rfl rfl)
theorem dX0_init_5 : decode cX0_init 5 = .ok (.new 13, 3) := dk_187 0 13 (dk_at dksX0_init_0 5 rfl rfl)
theorem dX0_init_8 : decode cX0_init 8 = .ok (.dup, 1) := dk_89 (dk_at dksX0_init_0 8 rfl rfl)
theorem dX0_init_9 : decode cX0_init 9 = .ok (.invokespecial 15, 3) := dk_183 0 15 (dk_at dksX0_init_0 9 rfl rfl)
theorem dX0_init_12 : decode cX0_init 12 = .ok (.putfield 16, 3) := dk_181 0 16 (dk_at dksX0_init_0 12 rfl rfl)
theorem dX0_init_15 : decode cX0_init 15 = .ok (.aload_n 0, 1) := dk_42 (dk_at dksX0_init_0 15 rfl rfl)
theorem dX0_init_16 : decode cX0_init 16 = .ok (.new 20, 3) := dk_187 0 20 (dk_at dksX0_init_0 16 rfl rfl)
theorem dX0_init_19 : decode cX0_init 19 = .ok (.dup, 1) := dk_89 (dk_at dksX0_init_0 19 rfl rfl)
theorem dX0_init_20 : decode cX0_init 20 = .ok (.invokespecial 22, 3) := dk_183 0 22 (dk_at dksX0_init_0 20 rfl rfl)
theorem dX0_init_23 : decode cX0_init 23 = .ok (.putfield 23, 3) := dk_181 0 23 (dk_at dksX0_init_1 0 rfl rfl)
theorem dX0_init_26 : decode cX0_init 26 = .ok (.aload_n 0, 1) := dk_42 (dk_at dksX0_init_1 3 rfl rfl)
theorem dX0_init_27 : decode cX0_init 27 = .ok (.bipush 60, 2) := dk_16 60 (dk_at dksX0_init_1 4 rfl rfl)
theorem dX0_init_29 : decode cX0_init 29 = .ok (.newarray .char, 2) := dk_188_5 (dk_at dksX0_init_1 6 rfl rfl)
theorem dX0_init_31 : decode cX0_init 31 = .ok (.putfield 27, 3) := dk_181 0 27 (dk_at dksX0_init_1 8 rfl rfl)
theorem dX0_init_34 : decode cX0_init 34 = .ok (.return_, 1) := dk_177 (dk_at dksX0_init_1 11 rfl rfl)
abbrev cX0_add : ByteArray := prog_1_method_7_code
def yX0_add : MethodName := ⟨RX0, "add", "(IIIIZ)I"⟩
def dkwX0_add_3 : List UInt8 := [180, 0, 85, 182, 0, 89, 172, 58, 8, 16, 253, 172]
abbrev dktX0_add_3 : List UInt8 := dkwX0_add_3 ++ []
def dkwX0_add_2 : List UInt8 := [42, 180, 0, 16, 180, 0, 74, 42, 180, 0, 16, 182, 0, 77, 4, 100, 185, 0, 80, 2, 0, 192, 0, 83]
abbrev dktX0_add_2 : List UInt8 := dkwX0_add_2 ++ dktX0_add_3
def dkwX0_add_1 : List UInt8 := [16, 254, 172, 42, 180, 0, 16, 182, 0, 67, 58, 7, 42, 180, 0, 16, 25, 6, 182, 0, 71, 42, 25, 7]
abbrev dktX0_add_1 : List UInt8 := dkwX0_add_1 ++ dktX0_add_2
def dkwX0_add_0 : List UInt8 := [187, 0, 58, 89, 27, 28, 29, 21, 4, 21, 5, 183, 0, 60, 58, 6, 25, 6, 182, 0, 63, 154, 0, 6]
abbrev dktX0_add_0 : List UInt8 := dkwX0_add_0 ++ dktX0_add_1
theorem dksX0_add_0 : cX0_add.data.toList.drop 0 = dktX0_add_0 := by decide +kernel
theorem dksX0_add_1 : cX0_add.data.toList.drop 24 = dktX0_add_1 := dk_seg dksX0_add_0 24 rfl rfl
theorem dksX0_add_2 : cX0_add.data.toList.drop 48 = dktX0_add_2 := dk_seg dksX0_add_1 24 rfl rfl
theorem dksX0_add_3 : cX0_add.data.toList.drop 72 = dktX0_add_3 := dk_seg dksX0_add_2 24 rfl rfl
theorem dX0_add_0 : decode cX0_add 0 = .ok (.new 58, 3) := dk_187 0 58 (dk_at dksX0_add_0 0 rfl rfl)
theorem dX0_add_3 : decode cX0_add 3 = .ok (.dup, 1) := dk_89 (dk_at dksX0_add_0 3 rfl rfl)
theorem dX0_add_4 : decode cX0_add 4 = .ok (.iload_n 1, 1) := dk_27 (dk_at dksX0_add_0 4 rfl rfl)
theorem dX0_add_5 : decode cX0_add 5 = .ok (.iload_n 2, 1) := dk_28 (dk_at dksX0_add_0 5 rfl rfl)
theorem dX0_add_6 : decode cX0_add 6 = .ok (.iload_n 3, 1) := dk_29 (dk_at dksX0_add_0 6 rfl rfl)
theorem dX0_add_7 : decode cX0_add 7 = .ok (.iload 4, 2) := dk_21 4 (dk_at dksX0_add_0 7 rfl rfl)
theorem dX0_add_9 : decode cX0_add 9 = .ok (.iload 5, 2) := dk_21 5 (dk_at dksX0_add_0 9 rfl rfl)
theorem dX0_add_11 : decode cX0_add 11 = .ok (.invokespecial 60, 3) := dk_183 0 60 (dk_at dksX0_add_0 11 rfl rfl)
theorem dX0_add_14 : decode cX0_add 14 = .ok (.astore 6, 2) := dk_58 6 (dk_at dksX0_add_0 14 rfl rfl)
theorem dX0_add_16 : decode cX0_add 16 = .ok (.aload 6, 2) := dk_25 6 (dk_at dksX0_add_0 16 rfl rfl)
theorem dX0_add_18 : decode cX0_add 18 = .ok (.invokevirtual 63, 3) := dk_182 0 63 (dk_at dksX0_add_0 18 rfl rfl)
theorem dX0_add_21 : decode cX0_add 21 = .ok (.ifCond .ne 6, 3) := dk_154 0 6 (dk_at dksX0_add_0 21 rfl rfl)
theorem dX0_add_24 : decode cX0_add 24 = .ok (.bipush (-2), 2) := dk_16 254 (dk_at dksX0_add_1 0 rfl rfl)
theorem dX0_add_26 : decode cX0_add 26 = .ok (.ireturn, 1) := dk_172 (dk_at dksX0_add_1 2 rfl rfl)
theorem dX0_add_27 : decode cX0_add 27 = .ok (.aload_n 0, 1) := dk_42 (dk_at dksX0_add_1 3 rfl rfl)
theorem dX0_add_28 : decode cX0_add 28 = .ok (.getfield 16, 3) := dk_180 0 16 (dk_at dksX0_add_1 4 rfl rfl)
theorem dX0_add_31 : decode cX0_add 31 = .ok (.invokevirtual 67, 3) := dk_182 0 67 (dk_at dksX0_add_1 7 rfl rfl)
theorem dX0_add_34 : decode cX0_add 34 = .ok (.astore 7, 2) := dk_58 7 (dk_at dksX0_add_1 10 rfl rfl)
theorem dX0_add_36 : decode cX0_add 36 = .ok (.aload_n 0, 1) := dk_42 (dk_at dksX0_add_1 12 rfl rfl)
theorem dX0_add_37 : decode cX0_add 37 = .ok (.getfield 16, 3) := dk_180 0 16 (dk_at dksX0_add_1 13 rfl rfl)
theorem dX0_add_40 : decode cX0_add 40 = .ok (.aload 6, 2) := dk_25 6 (dk_at dksX0_add_1 16 rfl rfl)
theorem dX0_add_42 : decode cX0_add 42 = .ok (.invokevirtual 71, 3) := dk_182 0 71 (dk_at dksX0_add_1 18 rfl rfl)
theorem dX0_add_45 : decode cX0_add 45 = .ok (.aload_n 0, 1) := dk_42 (dk_at dksX0_add_1 21 rfl rfl)
theorem dX0_add_46 : decode cX0_add 46 = .ok (.aload 7, 2) := dk_25 7 (dk_at dksX0_add_1 22 rfl rfl)
theorem dX0_add_48 : decode cX0_add 48 = .ok (.aload_n 0, 1) := dk_42 (dk_at dksX0_add_2 0 rfl rfl)
theorem dX0_add_49 : decode cX0_add 49 = .ok (.getfield 16, 3) := dk_180 0 16 (dk_at dksX0_add_2 1 rfl rfl)
theorem dX0_add_52 : decode cX0_add 52 = .ok (.getfield 74, 3) := dk_180 0 74 (dk_at dksX0_add_2 4 rfl rfl)
theorem dX0_add_55 : decode cX0_add 55 = .ok (.aload_n 0, 1) := dk_42 (dk_at dksX0_add_2 7 rfl rfl)
theorem dX0_add_56 : decode cX0_add 56 = .ok (.getfield 16, 3) := dk_180 0 16 (dk_at dksX0_add_2 8 rfl rfl)
theorem dX0_add_59 : decode cX0_add 59 = .ok (.invokevirtual 77, 3) := dk_182 0 77 (dk_at dksX0_add_2 11 rfl rfl)
theorem dX0_add_62 : decode cX0_add 62 = .ok (.iconst 1, 1) := dk_4 (dk_at dksX0_add_2 14 rfl rfl)
theorem dX0_add_63 : decode cX0_add 63 = .ok (.isub, 1) := dk_100 (dk_at dksX0_add_2 15 rfl rfl)
theorem dX0_add_64 : decode cX0_add 64 = .ok (.invokeinterface 80 2, 5) := by decide +kernel
theorem dX0_add_69 : decode cX0_add 69 = .ok (.checkcast 83, 3) := dk_192 0 83 (dk_at dksX0_add_2 21 rfl rfl)
theorem dX0_add_72 : decode cX0_add 72 = .ok (.getfield 85, 3) := dk_180 0 85 (dk_at dksX0_add_3 0 rfl rfl)
theorem dX0_add_75 : decode cX0_add 75 = .ok (.invokevirtual 89, 3) := dk_182 0 89 (dk_at dksX0_add_3 3 rfl rfl)
theorem dX0_add_78 : decode cX0_add 78 = .ok (.ireturn, 1) := dk_172 (dk_at dksX0_add_3 6 rfl rfl)
theorem dX0_add_79 : decode cX0_add 79 = .ok (.astore 8, 2) := dk_58 8 (dk_at dksX0_add_3 7 rfl rfl)
theorem dX0_add_81 : decode cX0_add 81 = .ok (.bipush (-3), 2) := dk_16 253 (dk_at dksX0_add_3 9 rfl rfl)
theorem dX0_add_83 : decode cX0_add 83 = .ok (.ireturn, 1) := dk_172 (dk_at dksX0_add_3 11 rfl rfl)
abbrev cX0_isBetween : ByteArray := prog_1_method_1_code
def yX0_isBetween : MethodName := ⟨RX0, "isBetween", "(III)Z"⟩
def dkwX0_isBetween_0 : List UInt8 := [27, 26, 163, 0, 12, 26, 28, 163, 0, 7, 4, 167, 0, 4, 3, 172]
abbrev dktX0_isBetween_0 : List UInt8 := dkwX0_isBetween_0 ++ []
theorem dksX0_isBetween_0 : cX0_isBetween.data.toList.drop 0 = dktX0_isBetween_0 := by decide +kernel
theorem dX0_isBetween_0 : decode cX0_isBetween 0 = .ok (.iload_n 1, 1) := dk_27 (dk_at dksX0_isBetween_0 0 rfl rfl)
theorem dX0_isBetween_1 : decode cX0_isBetween 1 = .ok (.iload_n 0, 1) := dk_26 (dk_at dksX0_isBetween_0 1 rfl rfl)
theorem dX0_isBetween_2 : decode cX0_isBetween 2 = .ok (.if_icmp .gt 12, 3) := dk_163 0 12 (dk_at dksX0_isBetween_0 2 rfl rfl)
theorem dX0_isBetween_5 : decode cX0_isBetween 5 = .ok (.iload_n 0, 1) := dk_26 (dk_at dksX0_isBetween_0 5 rfl rfl)
theorem dX0_isBetween_6 : decode cX0_isBetween 6 = .ok (.iload_n 2, 1) := dk_28 (dk_at dksX0_isBetween_0 6 rfl rfl)
theorem dX0_isBetween_7 : decode cX0_isBetween 7 = .ok (.if_icmp .gt 7, 3) := dk_163 0 7 (dk_at dksX0_isBetween_0 7 rfl rfl)
theorem dX0_isBetween_10 : decode cX0_isBetween 10 = .ok (.iconst 1, 1) := dk_4 (dk_at dksX0_isBetween_0 10 rfl rfl)
theorem dX0_isBetween_11 : decode cX0_isBetween 11 = .ok (.goto 4, 3) := dk_167 0 4 (dk_at dksX0_isBetween_0 11 rfl rfl)
theorem dX0_isBetween_14 : decode cX0_isBetween 14 = .ok (.iconst 0, 1) := dk_3 (dk_at dksX0_isBetween_0 14 rfl rfl)
theorem dX0_isBetween_15 : decode cX0_isBetween 15 = .ok (.ireturn, 1) := dk_172 (dk_at dksX0_isBetween_0 15 rfl rfl)
abbrev cX0_isPitch : ByteArray := prog_1_method_3_code
def yX0_isPitch : MethodName := ⟨RX0, "isPitch", "(I)Z"⟩
def dkwX0_isPitch_0 : List UInt8 := [26, 3, 16, 60, 184, 0, 3, 172]
abbrev dktX0_isPitch_0 : List UInt8 := dkwX0_isPitch_0 ++ []
theorem dksX0_isPitch_0 : cX0_isPitch.data.toList.drop 0 = dktX0_isPitch_0 := by decide +kernel
theorem dX0_isPitch_0 : decode cX0_isPitch 0 = .ok (.iload_n 0, 1) := dk_26 (dk_at dksX0_isPitch_0 0 rfl rfl)
theorem dX0_isPitch_1 : decode cX0_isPitch 1 = .ok (.iconst 0, 1) := dk_3 (dk_at dksX0_isPitch_0 1 rfl rfl)
theorem dX0_isPitch_2 : decode cX0_isPitch 2 = .ok (.bipush 60, 2) := dk_16 60 (dk_at dksX0_isPitch_0 2 rfl rfl)
theorem dX0_isPitch_4 : decode cX0_isPitch 4 = .ok (.invokestatic 3, 3) := dk_184 0 3 (dk_at dksX0_isPitch_0 4 rfl rfl)
theorem dX0_isPitch_7 : decode cX0_isPitch 7 = .ok (.ireturn, 1) := dk_172 (dk_at dksX0_isPitch_0 7 rfl rfl)
abbrev cX0_changed : ByteArray := prog_1_method_5_code
def yX0_changed : MethodName := ⟨RX0, "changed", "(LSungSlides$Song;I)I"⟩
def dkwX0_changed_1 : List UInt8 := [42, 180, 0, 23, 43, 185, 0, 41, 2, 0, 87, 28, 172]
abbrev dktX0_changed_1 : List UInt8 := dkwX0_changed_1 ++ []
def dkwX0_changed_0 : List UInt8 := [42, 180, 0, 23, 185, 0, 31, 1, 0, 7, 160, 0, 14, 42, 180, 0, 23, 3, 185, 0, 37, 2, 0, 87]
abbrev dktX0_changed_0 : List UInt8 := dkwX0_changed_0 ++ dktX0_changed_1
theorem dksX0_changed_0 : cX0_changed.data.toList.drop 0 = dktX0_changed_0 := by decide +kernel
theorem dksX0_changed_1 : cX0_changed.data.toList.drop 24 = dktX0_changed_1 := dk_seg dksX0_changed_0 24 rfl rfl
theorem dX0_changed_0 : decode cX0_changed 0 = .ok (.aload_n 0, 1) := dk_42 (dk_at dksX0_changed_0 0 rfl rfl)
theorem dX0_changed_1 : decode cX0_changed 1 = .ok (.getfield 23, 3) := dk_180 0 23 (dk_at dksX0_changed_0 1 rfl rfl)
theorem dX0_changed_4 : decode cX0_changed 4 = .ok (.invokeinterface 31 1, 5) := by decide +kernel
theorem dX0_changed_9 : decode cX0_changed 9 = .ok (.iconst 4, 1) := dk_7 (dk_at dksX0_changed_0 9 rfl rfl)
theorem dX0_changed_10 : decode cX0_changed 10 = .ok (.if_icmp .ne 14, 3) := dk_160 0 14 (dk_at dksX0_changed_0 10 rfl rfl)
theorem dX0_changed_13 : decode cX0_changed 13 = .ok (.aload_n 0, 1) := dk_42 (dk_at dksX0_changed_0 13 rfl rfl)
theorem dX0_changed_14 : decode cX0_changed 14 = .ok (.getfield 23, 3) := dk_180 0 23 (dk_at dksX0_changed_0 14 rfl rfl)
theorem dX0_changed_17 : decode cX0_changed 17 = .ok (.iconst 0, 1) := dk_3 (dk_at dksX0_changed_0 17 rfl rfl)
theorem dX0_changed_18 : decode cX0_changed 18 = .ok (.invokeinterface 37 2, 5) := by decide +kernel
theorem dX0_changed_23 : decode cX0_changed 23 = .ok (.pop, 1) := dk_87 (dk_at dksX0_changed_0 23 rfl rfl)
theorem dX0_changed_24 : decode cX0_changed 24 = .ok (.aload_n 0, 1) := dk_42 (dk_at dksX0_changed_1 0 rfl rfl)
theorem dX0_changed_25 : decode cX0_changed 25 = .ok (.getfield 23, 3) := dk_180 0 23 (dk_at dksX0_changed_1 1 rfl rfl)
theorem dX0_changed_28 : decode cX0_changed 28 = .ok (.aload_n 1, 1) := dk_43 (dk_at dksX0_changed_1 4 rfl rfl)
theorem dX0_changed_29 : decode cX0_changed 29 = .ok (.invokeinterface 41 2, 5) := by decide +kernel
theorem dX0_changed_34 : decode cX0_changed 34 = .ok (.pop, 1) := dk_87 (dk_at dksX0_changed_1 10 rfl rfl)
theorem dX0_changed_35 : decode cX0_changed 35 = .ok (.iload_n 2, 1) := dk_28 (dk_at dksX0_changed_1 11 rfl rfl)
theorem dX0_changed_36 : decode cX0_changed 36 = .ok (.ireturn, 1) := dk_172 (dk_at dksX0_changed_1 12 rfl rfl)
abbrev cX0_drop : ByteArray := prog_1_method_8_code
def yX0_drop : MethodName := ⟨RX0, "drop", "()I"⟩
def dkwX0_drop_2 : List UInt8 := [185, 0, 37, 2, 0, 87, 42, 43, 42, 180, 0, 16, 182, 0, 77, 182, 0, 89, 172]
abbrev dktX0_drop_2 : List UInt8 := dkwX0_drop_2 ++ []
def dkwX0_drop_1 : List UInt8 := [182, 0, 67, 76, 42, 180, 0, 16, 180, 0, 74, 42, 180, 0, 16, 182, 0, 77, 4, 100]
abbrev dktX0_drop_1 : List UInt8 := dkwX0_drop_1 ++ dktX0_drop_2
def dkwX0_drop_0 : List UInt8 := [42, 180, 0, 16, 180, 0, 74, 185, 0, 95, 1, 0, 153, 0, 6, 16, 251, 172, 42, 180, 0, 16]
abbrev dktX0_drop_0 : List UInt8 := dkwX0_drop_0 ++ dktX0_drop_1
theorem dksX0_drop_0 : cX0_drop.data.toList.drop 0 = dktX0_drop_0 := by decide +kernel
theorem dksX0_drop_1 : cX0_drop.data.toList.drop 22 = dktX0_drop_1 := dk_seg dksX0_drop_0 22 rfl rfl
theorem dksX0_drop_2 : cX0_drop.data.toList.drop 42 = dktX0_drop_2 := dk_seg dksX0_drop_1 20 rfl rfl
theorem dX0_drop_0 : decode cX0_drop 0 = .ok (.aload_n 0, 1) := dk_42 (dk_at dksX0_drop_0 0 rfl rfl)
theorem dX0_drop_1 : decode cX0_drop 1 = .ok (.getfield 16, 3) := dk_180 0 16 (dk_at dksX0_drop_0 1 rfl rfl)
theorem dX0_drop_4 : decode cX0_drop 4 = .ok (.getfield 74, 3) := dk_180 0 74 (dk_at dksX0_drop_0 4 rfl rfl)
theorem dX0_drop_7 : decode cX0_drop 7 = .ok (.invokeinterface 95 1, 5) := by decide +kernel
theorem dX0_drop_12 : decode cX0_drop 12 = .ok (.ifCond .eq 6, 3) := dk_153 0 6 (dk_at dksX0_drop_0 12 rfl rfl)
theorem dX0_drop_15 : decode cX0_drop 15 = .ok (.bipush (-5), 2) := dk_16 251 (dk_at dksX0_drop_0 15 rfl rfl)
theorem dX0_drop_17 : decode cX0_drop 17 = .ok (.ireturn, 1) := dk_172 (dk_at dksX0_drop_0 17 rfl rfl)
theorem dX0_drop_18 : decode cX0_drop 18 = .ok (.aload_n 0, 1) := dk_42 (dk_at dksX0_drop_0 18 rfl rfl)
theorem dX0_drop_19 : decode cX0_drop 19 = .ok (.getfield 16, 3) := dk_180 0 16 (dk_at dksX0_drop_0 19 rfl rfl)
theorem dX0_drop_22 : decode cX0_drop 22 = .ok (.invokevirtual 67, 3) := dk_182 0 67 (dk_at dksX0_drop_1 0 rfl rfl)
theorem dX0_drop_25 : decode cX0_drop 25 = .ok (.astore_n 1, 1) := dk_76 (dk_at dksX0_drop_1 3 rfl rfl)
theorem dX0_drop_26 : decode cX0_drop 26 = .ok (.aload_n 0, 1) := dk_42 (dk_at dksX0_drop_1 4 rfl rfl)
theorem dX0_drop_27 : decode cX0_drop 27 = .ok (.getfield 16, 3) := dk_180 0 16 (dk_at dksX0_drop_1 5 rfl rfl)
theorem dX0_drop_30 : decode cX0_drop 30 = .ok (.getfield 74, 3) := dk_180 0 74 (dk_at dksX0_drop_1 8 rfl rfl)
theorem dX0_drop_33 : decode cX0_drop 33 = .ok (.aload_n 0, 1) := dk_42 (dk_at dksX0_drop_1 11 rfl rfl)
theorem dX0_drop_34 : decode cX0_drop 34 = .ok (.getfield 16, 3) := dk_180 0 16 (dk_at dksX0_drop_1 12 rfl rfl)
theorem dX0_drop_37 : decode cX0_drop 37 = .ok (.invokevirtual 77, 3) := dk_182 0 77 (dk_at dksX0_drop_1 15 rfl rfl)
theorem dX0_drop_40 : decode cX0_drop 40 = .ok (.iconst 1, 1) := dk_4 (dk_at dksX0_drop_1 18 rfl rfl)
theorem dX0_drop_41 : decode cX0_drop 41 = .ok (.isub, 1) := dk_100 (dk_at dksX0_drop_1 19 rfl rfl)
theorem dX0_drop_42 : decode cX0_drop 42 = .ok (.invokeinterface 37 2, 5) := by decide +kernel
theorem dX0_drop_47 : decode cX0_drop 47 = .ok (.pop, 1) := dk_87 (dk_at dksX0_drop_2 5 rfl rfl)
theorem dX0_drop_48 : decode cX0_drop 48 = .ok (.aload_n 0, 1) := dk_42 (dk_at dksX0_drop_2 6 rfl rfl)
theorem dX0_drop_49 : decode cX0_drop 49 = .ok (.aload_n 1, 1) := dk_43 (dk_at dksX0_drop_2 7 rfl rfl)
theorem dX0_drop_50 : decode cX0_drop 50 = .ok (.aload_n 0, 1) := dk_42 (dk_at dksX0_drop_2 8 rfl rfl)
theorem dX0_drop_51 : decode cX0_drop 51 = .ok (.getfield 16, 3) := dk_180 0 16 (dk_at dksX0_drop_2 9 rfl rfl)
theorem dX0_drop_54 : decode cX0_drop 54 = .ok (.invokevirtual 77, 3) := dk_182 0 77 (dk_at dksX0_drop_2 12 rfl rfl)
theorem dX0_drop_57 : decode cX0_drop 57 = .ok (.invokevirtual 89, 3) := dk_182 0 89 (dk_at dksX0_drop_2 15 rfl rfl)
theorem dX0_drop_60 : decode cX0_drop 60 = .ok (.ireturn, 1) := dk_172 (dk_at dksX0_drop_2 18 rfl rfl)
abbrev cX0_read : ByteArray := prog_1_method_9_code
def yX0_read : MethodName := ⟨RX0, "read", "()I"⟩
def dkwX0_read_5 : List UInt8 := [16, 253, 172]
abbrev dktX0_read_5 : List UInt8 := dkwX0_read_5 ++ []
def dkwX0_read_4 : List UInt8 := [167, 255, 225, 42, 45, 42, 180, 0, 16, 182, 0, 77, 182, 0, 89, 172, 58, 4, 42, 45, 181, 0, 16]
abbrev dktX0_read_4 : List UInt8 := dkwX0_read_4 ++ dktX0_read_5
def dkwX0_read_3 : List UInt8 := [153, 0, 27, 25, 4, 185, 0, 121, 1, 0, 192, 0, 58, 58, 5, 42, 180, 0, 16, 25, 5, 182, 0, 71]
abbrev dktX0_read_3 : List UInt8 := dkwX0_read_3 ++ dktX0_read_4
def dkwX0_read_2 : List UInt8 := [185, 0, 106, 1, 0, 43, 180, 0, 109, 185, 0, 112, 1, 0, 58, 4, 25, 4, 185, 0, 116, 1, 0]
abbrev dktX0_read_2 : List UInt8 := dkwX0_read_2 ++ dktX0_read_3
def dkwX0_read_1 : List UInt8 := [172, 42, 180, 0, 16, 78, 42, 45, 182, 0, 67, 181, 0, 16, 42, 180, 0, 16, 180, 0, 74]
abbrev dktX0_read_1 : List UInt8 := dkwX0_read_1 ++ dktX0_read_2
def dkwX0_read_0 : List UInt8 := [187, 0, 98, 89, 42, 183, 0, 100, 76, 43, 182, 0, 103, 61, 28, 16, 251, 159, 0, 8, 16, 156, 28, 100]
abbrev dktX0_read_0 : List UInt8 := dkwX0_read_0 ++ dktX0_read_1
theorem dksX0_read_0 : cX0_read.data.toList.drop 0 = dktX0_read_0 := by decide +kernel
theorem dksX0_read_1 : cX0_read.data.toList.drop 24 = dktX0_read_1 := dk_seg dksX0_read_0 24 rfl rfl
theorem dksX0_read_2 : cX0_read.data.toList.drop 45 = dktX0_read_2 := dk_seg dksX0_read_1 21 rfl rfl
theorem dksX0_read_3 : cX0_read.data.toList.drop 68 = dktX0_read_3 := dk_seg dksX0_read_2 23 rfl rfl
theorem dksX0_read_4 : cX0_read.data.toList.drop 92 = dktX0_read_4 := dk_seg dksX0_read_3 24 rfl rfl
theorem dksX0_read_5 : cX0_read.data.toList.drop 115 = dktX0_read_5 := dk_seg dksX0_read_4 23 rfl rfl
theorem dX0_read_0 : decode cX0_read 0 = .ok (.new 98, 3) := dk_187 0 98 (dk_at dksX0_read_0 0 rfl rfl)
theorem dX0_read_3 : decode cX0_read 3 = .ok (.dup, 1) := dk_89 (dk_at dksX0_read_0 3 rfl rfl)
theorem dX0_read_4 : decode cX0_read 4 = .ok (.aload_n 0, 1) := dk_42 (dk_at dksX0_read_0 4 rfl rfl)
theorem dX0_read_5 : decode cX0_read 5 = .ok (.invokespecial 100, 3) := dk_183 0 100 (dk_at dksX0_read_0 5 rfl rfl)
theorem dX0_read_8 : decode cX0_read 8 = .ok (.astore_n 1, 1) := dk_76 (dk_at dksX0_read_0 8 rfl rfl)
theorem dX0_read_9 : decode cX0_read 9 = .ok (.aload_n 1, 1) := dk_43 (dk_at dksX0_read_0 9 rfl rfl)
theorem dX0_read_10 : decode cX0_read 10 = .ok (.invokevirtual 103, 3) := dk_182 0 103 (dk_at dksX0_read_0 10 rfl rfl)
theorem dX0_read_13 : decode cX0_read 13 = .ok (.istore_n 2, 1) := dk_61 (dk_at dksX0_read_0 13 rfl rfl)
theorem dX0_read_14 : decode cX0_read 14 = .ok (.iload_n 2, 1) := dk_28 (dk_at dksX0_read_0 14 rfl rfl)
theorem dX0_read_15 : decode cX0_read 15 = .ok (.bipush (-5), 2) := dk_16 251 (dk_at dksX0_read_0 15 rfl rfl)
theorem dX0_read_17 : decode cX0_read 17 = .ok (.if_icmp .eq 8, 3) := dk_159 0 8 (dk_at dksX0_read_0 17 rfl rfl)
theorem dX0_read_20 : decode cX0_read 20 = .ok (.bipush (-100), 2) := dk_16 156 (dk_at dksX0_read_0 20 rfl rfl)
theorem dX0_read_22 : decode cX0_read 22 = .ok (.iload_n 2, 1) := dk_28 (dk_at dksX0_read_0 22 rfl rfl)
theorem dX0_read_23 : decode cX0_read 23 = .ok (.isub, 1) := dk_100 (dk_at dksX0_read_0 23 rfl rfl)
theorem dX0_read_24 : decode cX0_read 24 = .ok (.ireturn, 1) := dk_172 (dk_at dksX0_read_1 0 rfl rfl)
theorem dX0_read_25 : decode cX0_read 25 = .ok (.aload_n 0, 1) := dk_42 (dk_at dksX0_read_1 1 rfl rfl)
theorem dX0_read_26 : decode cX0_read 26 = .ok (.getfield 16, 3) := dk_180 0 16 (dk_at dksX0_read_1 2 rfl rfl)
theorem dX0_read_29 : decode cX0_read 29 = .ok (.astore_n 3, 1) := dk_78 (dk_at dksX0_read_1 5 rfl rfl)
theorem dX0_read_30 : decode cX0_read 30 = .ok (.aload_n 0, 1) := dk_42 (dk_at dksX0_read_1 6 rfl rfl)
theorem dX0_read_31 : decode cX0_read 31 = .ok (.aload_n 3, 1) := dk_45 (dk_at dksX0_read_1 7 rfl rfl)
theorem dX0_read_32 : decode cX0_read 32 = .ok (.invokevirtual 67, 3) := dk_182 0 67 (dk_at dksX0_read_1 8 rfl rfl)
theorem dX0_read_35 : decode cX0_read 35 = .ok (.putfield 16, 3) := dk_181 0 16 (dk_at dksX0_read_1 11 rfl rfl)
theorem dX0_read_38 : decode cX0_read 38 = .ok (.aload_n 0, 1) := dk_42 (dk_at dksX0_read_1 14 rfl rfl)
theorem dX0_read_39 : decode cX0_read 39 = .ok (.getfield 16, 3) := dk_180 0 16 (dk_at dksX0_read_1 15 rfl rfl)
theorem dX0_read_42 : decode cX0_read 42 = .ok (.getfield 74, 3) := dk_180 0 74 (dk_at dksX0_read_1 18 rfl rfl)
theorem dX0_read_45 : decode cX0_read 45 = .ok (.invokeinterface 106 1, 5) := by decide +kernel
theorem dX0_read_50 : decode cX0_read 50 = .ok (.aload_n 1, 1) := dk_43 (dk_at dksX0_read_2 5 rfl rfl)
theorem dX0_read_51 : decode cX0_read 51 = .ok (.getfield 109, 3) := dk_180 0 109 (dk_at dksX0_read_2 6 rfl rfl)
theorem dX0_read_54 : decode cX0_read 54 = .ok (.invokeinterface 112 1, 5) := by decide +kernel
theorem dX0_read_59 : decode cX0_read 59 = .ok (.astore 4, 2) := dk_58 4 (dk_at dksX0_read_2 14 rfl rfl)
theorem dX0_read_61 : decode cX0_read 61 = .ok (.aload 4, 2) := dk_25 4 (dk_at dksX0_read_2 16 rfl rfl)
theorem dX0_read_63 : decode cX0_read 63 = .ok (.invokeinterface 116 1, 5) := by decide +kernel
theorem dX0_read_68 : decode cX0_read 68 = .ok (.ifCond .eq 27, 3) := dk_153 0 27 (dk_at dksX0_read_3 0 rfl rfl)
theorem dX0_read_71 : decode cX0_read 71 = .ok (.aload 4, 2) := dk_25 4 (dk_at dksX0_read_3 3 rfl rfl)
theorem dX0_read_73 : decode cX0_read 73 = .ok (.invokeinterface 121 1, 5) := by decide +kernel
theorem dX0_read_78 : decode cX0_read 78 = .ok (.checkcast 58, 3) := dk_192 0 58 (dk_at dksX0_read_3 10 rfl rfl)
theorem dX0_read_81 : decode cX0_read 81 = .ok (.astore 5, 2) := dk_58 5 (dk_at dksX0_read_3 13 rfl rfl)
theorem dX0_read_83 : decode cX0_read 83 = .ok (.aload_n 0, 1) := dk_42 (dk_at dksX0_read_3 15 rfl rfl)
theorem dX0_read_84 : decode cX0_read 84 = .ok (.getfield 16, 3) := dk_180 0 16 (dk_at dksX0_read_3 16 rfl rfl)
theorem dX0_read_87 : decode cX0_read 87 = .ok (.aload 5, 2) := dk_25 5 (dk_at dksX0_read_3 19 rfl rfl)
theorem dX0_read_89 : decode cX0_read 89 = .ok (.invokevirtual 71, 3) := dk_182 0 71 (dk_at dksX0_read_3 21 rfl rfl)
theorem dX0_read_92 : decode cX0_read 92 = .ok (.goto (-31), 3) := dk_167 255 225 (dk_at dksX0_read_4 0 rfl rfl)
theorem dX0_read_95 : decode cX0_read 95 = .ok (.aload_n 0, 1) := dk_42 (dk_at dksX0_read_4 3 rfl rfl)
theorem dX0_read_96 : decode cX0_read 96 = .ok (.aload_n 3, 1) := dk_45 (dk_at dksX0_read_4 4 rfl rfl)
theorem dX0_read_97 : decode cX0_read 97 = .ok (.aload_n 0, 1) := dk_42 (dk_at dksX0_read_4 5 rfl rfl)
theorem dX0_read_98 : decode cX0_read 98 = .ok (.getfield 16, 3) := dk_180 0 16 (dk_at dksX0_read_4 6 rfl rfl)
theorem dX0_read_101 : decode cX0_read 101 = .ok (.invokevirtual 77, 3) := dk_182 0 77 (dk_at dksX0_read_4 9 rfl rfl)
theorem dX0_read_104 : decode cX0_read 104 = .ok (.invokevirtual 89, 3) := dk_182 0 89 (dk_at dksX0_read_4 12 rfl rfl)
theorem dX0_read_107 : decode cX0_read 107 = .ok (.ireturn, 1) := dk_172 (dk_at dksX0_read_4 15 rfl rfl)
theorem dX0_read_108 : decode cX0_read 108 = .ok (.astore 4, 2) := dk_58 4 (dk_at dksX0_read_4 16 rfl rfl)
theorem dX0_read_110 : decode cX0_read 110 = .ok (.aload_n 0, 1) := dk_42 (dk_at dksX0_read_4 18 rfl rfl)
theorem dX0_read_111 : decode cX0_read 111 = .ok (.aload_n 3, 1) := dk_45 (dk_at dksX0_read_4 19 rfl rfl)
theorem dX0_read_112 : decode cX0_read 112 = .ok (.putfield 16, 3) := dk_181 0 16 (dk_at dksX0_read_4 20 rfl rfl)
theorem dX0_read_115 : decode cX0_read 115 = .ok (.bipush (-3), 2) := dk_16 253 (dk_at dksX0_read_5 0 rfl rfl)
theorem dX0_read_117 : decode cX0_read 117 = .ok (.ireturn, 1) := dk_172 (dk_at dksX0_read_5 2 rfl rfl)
abbrev cX0_set : ByteArray := prog_1_method_12_code
def yX0_set : MethodName := ⟨RX0, "set", "(II)I"⟩
def dkwX0_set_2 : List UInt8 := [180, 0, 16, 180, 0, 138, 27, 28, 79, 42, 25, 4, 29, 182, 0, 89, 172]
abbrev dktX0_set_2 : List UInt8 := dkwX0_set_2 ++ []
def dkwX0_set_1 : List UInt8 := [180, 0, 138, 27, 46, 62, 29, 28, 160, 0, 6, 16, 251, 172, 42, 180, 0, 16, 182, 0, 67, 58, 4, 42]
abbrev dktX0_set_1 : List UInt8 := dkwX0_set_1 ++ dktX0_set_2
def dkwX0_set_0 : List UInt8 := [27, 184, 0, 131, 154, 0, 5, 2, 172, 27, 28, 184, 0, 135, 154, 0, 6, 16, 254, 172, 42, 180, 0, 16]
abbrev dktX0_set_0 : List UInt8 := dkwX0_set_0 ++ dktX0_set_1
theorem dksX0_set_0 : cX0_set.data.toList.drop 0 = dktX0_set_0 := by decide +kernel
theorem dksX0_set_1 : cX0_set.data.toList.drop 24 = dktX0_set_1 := dk_seg dksX0_set_0 24 rfl rfl
theorem dksX0_set_2 : cX0_set.data.toList.drop 48 = dktX0_set_2 := dk_seg dksX0_set_1 24 rfl rfl
theorem dX0_set_0 : decode cX0_set 0 = .ok (.iload_n 1, 1) := dk_27 (dk_at dksX0_set_0 0 rfl rfl)
theorem dX0_set_1 : decode cX0_set 1 = .ok (.invokestatic 131, 3) := dk_184 0 131 (dk_at dksX0_set_0 1 rfl rfl)
theorem dX0_set_4 : decode cX0_set 4 = .ok (.ifCond .ne 5, 3) := dk_154 0 5 (dk_at dksX0_set_0 4 rfl rfl)
theorem dX0_set_7 : decode cX0_set 7 = .ok (.iconst (-1), 1) := dk_2 (dk_at dksX0_set_0 7 rfl rfl)
theorem dX0_set_8 : decode cX0_set 8 = .ok (.ireturn, 1) := dk_172 (dk_at dksX0_set_0 8 rfl rfl)
theorem dX0_set_9 : decode cX0_set 9 = .ok (.iload_n 1, 1) := dk_27 (dk_at dksX0_set_0 9 rfl rfl)
theorem dX0_set_10 : decode cX0_set 10 = .ok (.iload_n 2, 1) := dk_28 (dk_at dksX0_set_0 10 rfl rfl)
theorem dX0_set_11 : decode cX0_set 11 = .ok (.invokestatic 135, 3) := dk_184 0 135 (dk_at dksX0_set_0 11 rfl rfl)
theorem dX0_set_14 : decode cX0_set 14 = .ok (.ifCond .ne 6, 3) := dk_154 0 6 (dk_at dksX0_set_0 14 rfl rfl)
theorem dX0_set_17 : decode cX0_set 17 = .ok (.bipush (-2), 2) := dk_16 254 (dk_at dksX0_set_0 17 rfl rfl)
theorem dX0_set_19 : decode cX0_set 19 = .ok (.ireturn, 1) := dk_172 (dk_at dksX0_set_0 19 rfl rfl)
theorem dX0_set_20 : decode cX0_set 20 = .ok (.aload_n 0, 1) := dk_42 (dk_at dksX0_set_0 20 rfl rfl)
theorem dX0_set_21 : decode cX0_set 21 = .ok (.getfield 16, 3) := dk_180 0 16 (dk_at dksX0_set_0 21 rfl rfl)
theorem dX0_set_24 : decode cX0_set 24 = .ok (.getfield 138, 3) := dk_180 0 138 (dk_at dksX0_set_1 0 rfl rfl)
theorem dX0_set_27 : decode cX0_set 27 = .ok (.iload_n 1, 1) := dk_27 (dk_at dksX0_set_1 3 rfl rfl)
theorem dX0_set_28 : decode cX0_set 28 = .ok (.iaload, 1) := dk_46 (dk_at dksX0_set_1 4 rfl rfl)
theorem dX0_set_29 : decode cX0_set 29 = .ok (.istore_n 3, 1) := dk_62 (dk_at dksX0_set_1 5 rfl rfl)
theorem dX0_set_30 : decode cX0_set 30 = .ok (.iload_n 3, 1) := dk_29 (dk_at dksX0_set_1 6 rfl rfl)
theorem dX0_set_31 : decode cX0_set 31 = .ok (.iload_n 2, 1) := dk_28 (dk_at dksX0_set_1 7 rfl rfl)
theorem dX0_set_32 : decode cX0_set 32 = .ok (.if_icmp .ne 6, 3) := dk_160 0 6 (dk_at dksX0_set_1 8 rfl rfl)
theorem dX0_set_35 : decode cX0_set 35 = .ok (.bipush (-5), 2) := dk_16 251 (dk_at dksX0_set_1 11 rfl rfl)
theorem dX0_set_37 : decode cX0_set 37 = .ok (.ireturn, 1) := dk_172 (dk_at dksX0_set_1 13 rfl rfl)
theorem dX0_set_38 : decode cX0_set 38 = .ok (.aload_n 0, 1) := dk_42 (dk_at dksX0_set_1 14 rfl rfl)
theorem dX0_set_39 : decode cX0_set 39 = .ok (.getfield 16, 3) := dk_180 0 16 (dk_at dksX0_set_1 15 rfl rfl)
theorem dX0_set_42 : decode cX0_set 42 = .ok (.invokevirtual 67, 3) := dk_182 0 67 (dk_at dksX0_set_1 18 rfl rfl)
theorem dX0_set_45 : decode cX0_set 45 = .ok (.astore 4, 2) := dk_58 4 (dk_at dksX0_set_1 21 rfl rfl)
theorem dX0_set_47 : decode cX0_set 47 = .ok (.aload_n 0, 1) := dk_42 (dk_at dksX0_set_1 23 rfl rfl)
theorem dX0_set_48 : decode cX0_set 48 = .ok (.getfield 16, 3) := dk_180 0 16 (dk_at dksX0_set_2 0 rfl rfl)
theorem dX0_set_51 : decode cX0_set 51 = .ok (.getfield 138, 3) := dk_180 0 138 (dk_at dksX0_set_2 3 rfl rfl)
theorem dX0_set_54 : decode cX0_set 54 = .ok (.iload_n 1, 1) := dk_27 (dk_at dksX0_set_2 6 rfl rfl)
theorem dX0_set_55 : decode cX0_set 55 = .ok (.iload_n 2, 1) := dk_28 (dk_at dksX0_set_2 7 rfl rfl)
theorem dX0_set_56 : decode cX0_set 56 = .ok (.iastore, 1) := dk_79 (dk_at dksX0_set_2 8 rfl rfl)
theorem dX0_set_57 : decode cX0_set 57 = .ok (.aload_n 0, 1) := dk_42 (dk_at dksX0_set_2 9 rfl rfl)
theorem dX0_set_58 : decode cX0_set 58 = .ok (.aload 4, 2) := dk_25 4 (dk_at dksX0_set_2 10 rfl rfl)
theorem dX0_set_60 : decode cX0_set 60 = .ok (.iload_n 3, 1) := dk_29 (dk_at dksX0_set_2 12 rfl rfl)
theorem dX0_set_61 : decode cX0_set 61 = .ok (.invokevirtual 89, 3) := dk_182 0 89 (dk_at dksX0_set_2 13 rfl rfl)
theorem dX0_set_64 : decode cX0_set 64 = .ok (.ireturn, 1) := dk_172 (dk_at dksX0_set_2 16 rfl rfl)
abbrev cX0_isSetting : ByteArray := prog_1_method_10_code
def yX0_isSetting : MethodName := ⟨RX0, "isSetting", "(I)Z"⟩
def dkwX0_isSetting_0 : List UInt8 := [26, 3, 7, 184, 0, 3, 172]
abbrev dktX0_isSetting_0 : List UInt8 := dkwX0_isSetting_0 ++ []
theorem dksX0_isSetting_0 : cX0_isSetting.data.toList.drop 0 = dktX0_isSetting_0 := by decide +kernel
theorem dX0_isSetting_0 : decode cX0_isSetting 0 = .ok (.iload_n 0, 1) := dk_26 (dk_at dksX0_isSetting_0 0 rfl rfl)
theorem dX0_isSetting_1 : decode cX0_isSetting 1 = .ok (.iconst 0, 1) := dk_3 (dk_at dksX0_isSetting_0 1 rfl rfl)
theorem dX0_isSetting_2 : decode cX0_isSetting 2 = .ok (.iconst 4, 1) := dk_7 (dk_at dksX0_isSetting_0 2 rfl rfl)
theorem dX0_isSetting_3 : decode cX0_isSetting 3 = .ok (.invokestatic 3, 3) := dk_184 0 3 (dk_at dksX0_isSetting_0 3 rfl rfl)
theorem dX0_isSetting_6 : decode cX0_isSetting 6 = .ok (.ireturn, 1) := dk_172 (dk_at dksX0_isSetting_0 6 rfl rfl)
abbrev cX0_isRight : ByteArray := prog_1_method_11_code
def yX0_isRight : MethodName := ⟨RX0, "isRight", "(II)Z"⟩
def dkwX0_isRight_0 : List UInt8 := [27, 178, 0, 125, 26, 46, 178, 0, 128, 26, 46, 184, 0, 3, 172]
abbrev dktX0_isRight_0 : List UInt8 := dkwX0_isRight_0 ++ []
theorem dksX0_isRight_0 : cX0_isRight.data.toList.drop 0 = dktX0_isRight_0 := by decide +kernel
theorem dX0_isRight_0 : decode cX0_isRight 0 = .ok (.iload_n 1, 1) := dk_27 (dk_at dksX0_isRight_0 0 rfl rfl)
theorem dX0_isRight_1 : decode cX0_isRight 1 = .ok (.getstatic 125, 3) := dk_178 0 125 (dk_at dksX0_isRight_0 1 rfl rfl)
theorem dX0_isRight_4 : decode cX0_isRight 4 = .ok (.iload_n 0, 1) := dk_26 (dk_at dksX0_isRight_0 4 rfl rfl)
theorem dX0_isRight_5 : decode cX0_isRight 5 = .ok (.iaload, 1) := dk_46 (dk_at dksX0_isRight_0 5 rfl rfl)
theorem dX0_isRight_6 : decode cX0_isRight 6 = .ok (.getstatic 128, 3) := dk_178 0 128 (dk_at dksX0_isRight_0 6 rfl rfl)
theorem dX0_isRight_9 : decode cX0_isRight 9 = .ok (.iload_n 0, 1) := dk_26 (dk_at dksX0_isRight_0 9 rfl rfl)
theorem dX0_isRight_10 : decode cX0_isRight 10 = .ok (.iaload, 1) := dk_46 (dk_at dksX0_isRight_0 10 rfl rfl)
theorem dX0_isRight_11 : decode cX0_isRight 11 = .ok (.invokestatic 3, 3) := dk_184 0 3 (dk_at dksX0_isRight_0 11 rfl rfl)
theorem dX0_isRight_14 : decode cX0_isRight 14 = .ok (.ireturn, 1) := dk_172 (dk_at dksX0_isRight_0 14 rfl rfl)
abbrev cX0_sing : ByteArray := prog_1_method_14_code
def yX0_sing : MethodName := ⟨RX0, "sing", "(III)I"⟩
def dkwX0_sing_3 : List UInt8 := [182, 0, 89, 172]
abbrev dktX0_sing_3 : List UInt8 := dkwX0_sing_3 ++ []
def dkwX0_sing_2 : List UInt8 := [21, 5, 29, 79, 132, 5, 1, 167, 255, 234, 42, 25, 4, 42, 182, 0, 150, 16, 251, 182, 0, 154]
abbrev dktX0_sing_2 : List UInt8 := dkwX0_sing_2 ++ dktX0_sing_3
def dkwX0_sing_1 : List UInt8 := [182, 0, 67, 58, 4, 27, 54, 5, 21, 5, 27, 28, 96, 162, 0, 20, 42, 180, 0, 16, 180, 0, 50]
abbrev dktX0_sing_1 : List UInt8 := dkwX0_sing_1 ++ dktX0_sing_2
def dkwX0_sing_0 : List UInt8 := [27, 28, 16, 64, 184, 0, 144, 153, 0, 10, 29, 184, 0, 147, 154, 0, 6, 16, 254, 172, 42, 180, 0, 16]
abbrev dktX0_sing_0 : List UInt8 := dkwX0_sing_0 ++ dktX0_sing_1
theorem dksX0_sing_0 : cX0_sing.data.toList.drop 0 = dktX0_sing_0 := by decide +kernel
theorem dksX0_sing_1 : cX0_sing.data.toList.drop 24 = dktX0_sing_1 := dk_seg dksX0_sing_0 24 rfl rfl
theorem dksX0_sing_2 : cX0_sing.data.toList.drop 47 = dktX0_sing_2 := dk_seg dksX0_sing_1 23 rfl rfl
theorem dksX0_sing_3 : cX0_sing.data.toList.drop 69 = dktX0_sing_3 := dk_seg dksX0_sing_2 22 rfl rfl
theorem dX0_sing_0 : decode cX0_sing 0 = .ok (.iload_n 1, 1) := dk_27 (dk_at dksX0_sing_0 0 rfl rfl)
theorem dX0_sing_1 : decode cX0_sing 1 = .ok (.iload_n 2, 1) := dk_28 (dk_at dksX0_sing_0 1 rfl rfl)
theorem dX0_sing_2 : decode cX0_sing 2 = .ok (.bipush 64, 2) := dk_16 64 (dk_at dksX0_sing_0 2 rfl rfl)
theorem dX0_sing_4 : decode cX0_sing 4 = .ok (.invokestatic 144, 3) := dk_184 0 144 (dk_at dksX0_sing_0 4 rfl rfl)
theorem dX0_sing_7 : decode cX0_sing 7 = .ok (.ifCond .eq 10, 3) := dk_153 0 10 (dk_at dksX0_sing_0 7 rfl rfl)
theorem dX0_sing_10 : decode cX0_sing 10 = .ok (.iload_n 3, 1) := dk_29 (dk_at dksX0_sing_0 10 rfl rfl)
theorem dX0_sing_11 : decode cX0_sing 11 = .ok (.invokestatic 147, 3) := dk_184 0 147 (dk_at dksX0_sing_0 11 rfl rfl)
theorem dX0_sing_14 : decode cX0_sing 14 = .ok (.ifCond .ne 6, 3) := dk_154 0 6 (dk_at dksX0_sing_0 14 rfl rfl)
theorem dX0_sing_17 : decode cX0_sing 17 = .ok (.bipush (-2), 2) := dk_16 254 (dk_at dksX0_sing_0 17 rfl rfl)
theorem dX0_sing_19 : decode cX0_sing 19 = .ok (.ireturn, 1) := dk_172 (dk_at dksX0_sing_0 19 rfl rfl)
theorem dX0_sing_20 : decode cX0_sing 20 = .ok (.aload_n 0, 1) := dk_42 (dk_at dksX0_sing_0 20 rfl rfl)
theorem dX0_sing_21 : decode cX0_sing 21 = .ok (.getfield 16, 3) := dk_180 0 16 (dk_at dksX0_sing_0 21 rfl rfl)
theorem dX0_sing_24 : decode cX0_sing 24 = .ok (.invokevirtual 67, 3) := dk_182 0 67 (dk_at dksX0_sing_1 0 rfl rfl)
theorem dX0_sing_27 : decode cX0_sing 27 = .ok (.astore 4, 2) := dk_58 4 (dk_at dksX0_sing_1 3 rfl rfl)
theorem dX0_sing_29 : decode cX0_sing 29 = .ok (.iload_n 1, 1) := dk_27 (dk_at dksX0_sing_1 5 rfl rfl)
theorem dX0_sing_30 : decode cX0_sing 30 = .ok (.istore 5, 2) := dk_54 5 (dk_at dksX0_sing_1 6 rfl rfl)
theorem dX0_sing_32 : decode cX0_sing 32 = .ok (.iload 5, 2) := dk_21 5 (dk_at dksX0_sing_1 8 rfl rfl)
theorem dX0_sing_34 : decode cX0_sing 34 = .ok (.iload_n 1, 1) := dk_27 (dk_at dksX0_sing_1 10 rfl rfl)
theorem dX0_sing_35 : decode cX0_sing 35 = .ok (.iload_n 2, 1) := dk_28 (dk_at dksX0_sing_1 11 rfl rfl)
theorem dX0_sing_36 : decode cX0_sing 36 = .ok (.iadd, 1) := dk_96 (dk_at dksX0_sing_1 12 rfl rfl)
theorem dX0_sing_37 : decode cX0_sing 37 = .ok (.if_icmp .ge 20, 3) := dk_162 0 20 (dk_at dksX0_sing_1 13 rfl rfl)
theorem dX0_sing_40 : decode cX0_sing 40 = .ok (.aload_n 0, 1) := dk_42 (dk_at dksX0_sing_1 16 rfl rfl)
theorem dX0_sing_41 : decode cX0_sing 41 = .ok (.getfield 16, 3) := dk_180 0 16 (dk_at dksX0_sing_1 17 rfl rfl)
theorem dX0_sing_44 : decode cX0_sing 44 = .ok (.getfield 50, 3) := dk_180 0 50 (dk_at dksX0_sing_1 20 rfl rfl)
theorem dX0_sing_47 : decode cX0_sing 47 = .ok (.iload 5, 2) := dk_21 5 (dk_at dksX0_sing_2 0 rfl rfl)
theorem dX0_sing_49 : decode cX0_sing 49 = .ok (.iload_n 3, 1) := dk_29 (dk_at dksX0_sing_2 2 rfl rfl)
theorem dX0_sing_50 : decode cX0_sing 50 = .ok (.iastore, 1) := dk_79 (dk_at dksX0_sing_2 3 rfl rfl)
theorem dX0_sing_51 : decode cX0_sing 51 = .ok (.iinc 5 1, 3) := dk_132 5 1 (dk_at dksX0_sing_2 4 rfl rfl)
theorem dX0_sing_54 : decode cX0_sing 54 = .ok (.goto (-22), 3) := dk_167 255 234 (dk_at dksX0_sing_2 7 rfl rfl)
theorem dX0_sing_57 : decode cX0_sing 57 = .ok (.aload_n 0, 1) := dk_42 (dk_at dksX0_sing_2 10 rfl rfl)
theorem dX0_sing_58 : decode cX0_sing 58 = .ok (.aload 4, 2) := dk_25 4 (dk_at dksX0_sing_2 11 rfl rfl)
theorem dX0_sing_60 : decode cX0_sing 60 = .ok (.aload_n 0, 1) := dk_42 (dk_at dksX0_sing_2 13 rfl rfl)
theorem dX0_sing_61 : decode cX0_sing 61 = .ok (.invokevirtual 150, 3) := dk_182 0 150 (dk_at dksX0_sing_2 14 rfl rfl)
theorem dX0_sing_64 : decode cX0_sing 64 = .ok (.bipush (-5), 2) := dk_16 251 (dk_at dksX0_sing_2 17 rfl rfl)
theorem dX0_sing_66 : decode cX0_sing 66 = .ok (.invokevirtual 154, 3) := dk_182 0 154 (dk_at dksX0_sing_2 19 rfl rfl)
theorem dX0_sing_69 : decode cX0_sing 69 = .ok (.invokevirtual 89, 3) := dk_182 0 89 (dk_at dksX0_sing_3 0 rfl rfl)
theorem dX0_sing_72 : decode cX0_sing 72 = .ok (.ireturn, 1) := dk_172 (dk_at dksX0_sing_3 3 rfl rfl)
abbrev cX0_areTicks : ByteArray := prog_1_method_13_code
def yX0_areTicks : MethodName := ⟨RX0, "areTicks", "(III)Z"⟩
def dkwX0_areTicks_1 : List UInt8 := [163, 0, 7, 4, 167, 0, 4, 3, 172]
abbrev dktX0_areTicks_1 : List UInt8 := dkwX0_areTicks_1 ++ []
def dkwX0_areTicks_0 : List UInt8 := [26, 184, 0, 141, 153, 0, 25, 27, 4, 28, 184, 0, 3, 153, 0, 16, 26, 27, 96, 17, 2, 88]
abbrev dktX0_areTicks_0 : List UInt8 := dkwX0_areTicks_0 ++ dktX0_areTicks_1
theorem dksX0_areTicks_0 : cX0_areTicks.data.toList.drop 0 = dktX0_areTicks_0 := by decide +kernel
theorem dksX0_areTicks_1 : cX0_areTicks.data.toList.drop 22 = dktX0_areTicks_1 := dk_seg dksX0_areTicks_0 22 rfl rfl
theorem dX0_areTicks_0 : decode cX0_areTicks 0 = .ok (.iload_n 0, 1) := dk_26 (dk_at dksX0_areTicks_0 0 rfl rfl)
theorem dX0_areTicks_1 : decode cX0_areTicks 1 = .ok (.invokestatic 141, 3) := dk_184 0 141 (dk_at dksX0_areTicks_0 1 rfl rfl)
theorem dX0_areTicks_4 : decode cX0_areTicks 4 = .ok (.ifCond .eq 25, 3) := dk_153 0 25 (dk_at dksX0_areTicks_0 4 rfl rfl)
theorem dX0_areTicks_7 : decode cX0_areTicks 7 = .ok (.iload_n 1, 1) := dk_27 (dk_at dksX0_areTicks_0 7 rfl rfl)
theorem dX0_areTicks_8 : decode cX0_areTicks 8 = .ok (.iconst 1, 1) := dk_4 (dk_at dksX0_areTicks_0 8 rfl rfl)
theorem dX0_areTicks_9 : decode cX0_areTicks 9 = .ok (.iload_n 2, 1) := dk_28 (dk_at dksX0_areTicks_0 9 rfl rfl)
theorem dX0_areTicks_10 : decode cX0_areTicks 10 = .ok (.invokestatic 3, 3) := dk_184 0 3 (dk_at dksX0_areTicks_0 10 rfl rfl)
theorem dX0_areTicks_13 : decode cX0_areTicks 13 = .ok (.ifCond .eq 16, 3) := dk_153 0 16 (dk_at dksX0_areTicks_0 13 rfl rfl)
theorem dX0_areTicks_16 : decode cX0_areTicks 16 = .ok (.iload_n 0, 1) := dk_26 (dk_at dksX0_areTicks_0 16 rfl rfl)
theorem dX0_areTicks_17 : decode cX0_areTicks 17 = .ok (.iload_n 1, 1) := dk_27 (dk_at dksX0_areTicks_0 17 rfl rfl)
theorem dX0_areTicks_18 : decode cX0_areTicks 18 = .ok (.iadd, 1) := dk_96 (dk_at dksX0_areTicks_0 18 rfl rfl)
theorem dX0_areTicks_19 : decode cX0_areTicks 19 = .ok (.sipush 600, 3) := dk_17 2 88 (dk_at dksX0_areTicks_0 19 rfl rfl)
theorem dX0_areTicks_22 : decode cX0_areTicks 22 = .ok (.if_icmp .gt 7, 3) := dk_163 0 7 (dk_at dksX0_areTicks_1 0 rfl rfl)
theorem dX0_areTicks_25 : decode cX0_areTicks 25 = .ok (.iconst 1, 1) := dk_4 (dk_at dksX0_areTicks_1 3 rfl rfl)
theorem dX0_areTicks_26 : decode cX0_areTicks 26 = .ok (.goto 4, 3) := dk_167 0 4 (dk_at dksX0_areTicks_1 4 rfl rfl)
theorem dX0_areTicks_29 : decode cX0_areTicks 29 = .ok (.iconst 0, 1) := dk_3 (dk_at dksX0_areTicks_1 7 rfl rfl)
theorem dX0_areTicks_30 : decode cX0_areTicks 30 = .ok (.ireturn, 1) := dk_172 (dk_at dksX0_areTicks_1 8 rfl rfl)
abbrev cX0_isTick : ByteArray := prog_1_method_2_code
def yX0_isTick : MethodName := ⟨RX0, "isTick", "(I)Z"⟩
def dkwX0_isTick_0 : List UInt8 := [26, 3, 17, 2, 87, 184, 0, 3, 172]
abbrev dktX0_isTick_0 : List UInt8 := dkwX0_isTick_0 ++ []
theorem dksX0_isTick_0 : cX0_isTick.data.toList.drop 0 = dktX0_isTick_0 := by decide +kernel
theorem dX0_isTick_0 : decode cX0_isTick 0 = .ok (.iload_n 0, 1) := dk_26 (dk_at dksX0_isTick_0 0 rfl rfl)
theorem dX0_isTick_1 : decode cX0_isTick 1 = .ok (.iconst 0, 1) := dk_3 (dk_at dksX0_isTick_0 1 rfl rfl)
theorem dX0_isTick_2 : decode cX0_isTick 2 = .ok (.sipush 599, 3) := dk_17 2 87 (dk_at dksX0_isTick_0 2 rfl rfl)
theorem dX0_isTick_5 : decode cX0_isTick 5 = .ok (.invokestatic 3, 3) := dk_184 0 3 (dk_at dksX0_isTick_0 5 rfl rfl)
theorem dX0_isTick_8 : decode cX0_isTick 8 = .ok (.ireturn, 1) := dk_172 (dk_at dksX0_isTick_0 8 rfl rfl)
abbrev cX0_judged : ByteArray := prog_1_method_6_code
def yX0_judged : MethodName := ⟨RX0, "judged", "()LSungSlides$Judge;"⟩
def dkwX0_judged_0 : List UInt8 := [187, 0, 45, 89, 42, 180, 0, 16, 183, 0, 47, 42, 180, 0, 16, 180, 0, 50, 182, 0, 54, 176]
abbrev dktX0_judged_0 : List UInt8 := dkwX0_judged_0 ++ []
theorem dksX0_judged_0 : cX0_judged.data.toList.drop 0 = dktX0_judged_0 := by decide +kernel
theorem dX0_judged_0 : decode cX0_judged 0 = .ok (.new 45, 3) := dk_187 0 45 (dk_at dksX0_judged_0 0 rfl rfl)
theorem dX0_judged_3 : decode cX0_judged 3 = .ok (.dup, 1) := dk_89 (dk_at dksX0_judged_0 3 rfl rfl)
theorem dX0_judged_4 : decode cX0_judged 4 = .ok (.aload_n 0, 1) := dk_42 (dk_at dksX0_judged_0 4 rfl rfl)
theorem dX0_judged_5 : decode cX0_judged 5 = .ok (.getfield 16, 3) := dk_180 0 16 (dk_at dksX0_judged_0 5 rfl rfl)
theorem dX0_judged_8 : decode cX0_judged 8 = .ok (.invokespecial 47, 3) := dk_183 0 47 (dk_at dksX0_judged_0 8 rfl rfl)
theorem dX0_judged_11 : decode cX0_judged 11 = .ok (.aload_n 0, 1) := dk_42 (dk_at dksX0_judged_0 11 rfl rfl)
theorem dX0_judged_12 : decode cX0_judged 12 = .ok (.getfield 16, 3) := dk_180 0 16 (dk_at dksX0_judged_0 12 rfl rfl)
theorem dX0_judged_15 : decode cX0_judged 15 = .ok (.getfield 50, 3) := dk_180 0 50 (dk_at dksX0_judged_0 15 rfl rfl)
theorem dX0_judged_18 : decode cX0_judged 18 = .ok (.invokevirtual 54, 3) := dk_182 0 54 (dk_at dksX0_judged_0 18 rfl rfl)
theorem dX0_judged_21 : decode cX0_judged 21 = .ok (.areturn, 1) := dk_176 (dk_at dksX0_judged_0 21 rfl rfl)
abbrev cX0_silence : ByteArray := prog_1_method_15_code
def yX0_silence : MethodName := ⟨RX0, "silence", "(II)I"⟩
def dkwX0_silence_3 : List UInt8 := [132, 5, 1, 167, 255, 210, 42, 45, 21, 4, 182, 0, 89, 172]
abbrev dktX0_silence_3 : List UInt8 := dkwX0_silence_3 ++ []
def dkwX0_silence_2 : List UInt8 := [46, 2, 160, 0, 7, 3, 167, 0, 4, 4, 96, 54, 4, 42, 180, 0, 16, 180, 0, 50, 21, 5, 2, 79]
abbrev dktX0_silence_2 : List UInt8 := dkwX0_silence_2 ++ dktX0_silence_3
def dkwX0_silence_1 : List UInt8 := [54, 4, 27, 54, 5, 21, 5, 27, 28, 96, 162, 0, 44, 21, 4, 42, 180, 0, 16, 180, 0, 50, 21, 5]
abbrev dktX0_silence_1 : List UInt8 := dkwX0_silence_1 ++ dktX0_silence_2
def dkwX0_silence_0 : List UInt8 := [27, 28, 17, 2, 88, 184, 0, 144, 154, 0, 6, 16, 254, 172, 42, 180, 0, 16, 182, 0, 67, 78, 3]
abbrev dktX0_silence_0 : List UInt8 := dkwX0_silence_0 ++ dktX0_silence_1
theorem dksX0_silence_0 : cX0_silence.data.toList.drop 0 = dktX0_silence_0 := by decide +kernel
theorem dksX0_silence_1 : cX0_silence.data.toList.drop 23 = dktX0_silence_1 := dk_seg dksX0_silence_0 23 rfl rfl
theorem dksX0_silence_2 : cX0_silence.data.toList.drop 47 = dktX0_silence_2 := dk_seg dksX0_silence_1 24 rfl rfl
theorem dksX0_silence_3 : cX0_silence.data.toList.drop 71 = dktX0_silence_3 := dk_seg dksX0_silence_2 24 rfl rfl
theorem dX0_silence_0 : decode cX0_silence 0 = .ok (.iload_n 1, 1) := dk_27 (dk_at dksX0_silence_0 0 rfl rfl)
theorem dX0_silence_1 : decode cX0_silence 1 = .ok (.iload_n 2, 1) := dk_28 (dk_at dksX0_silence_0 1 rfl rfl)
theorem dX0_silence_2 : decode cX0_silence 2 = .ok (.sipush 600, 3) := dk_17 2 88 (dk_at dksX0_silence_0 2 rfl rfl)
theorem dX0_silence_5 : decode cX0_silence 5 = .ok (.invokestatic 144, 3) := dk_184 0 144 (dk_at dksX0_silence_0 5 rfl rfl)
theorem dX0_silence_8 : decode cX0_silence 8 = .ok (.ifCond .ne 6, 3) := dk_154 0 6 (dk_at dksX0_silence_0 8 rfl rfl)
theorem dX0_silence_11 : decode cX0_silence 11 = .ok (.bipush (-2), 2) := dk_16 254 (dk_at dksX0_silence_0 11 rfl rfl)
theorem dX0_silence_13 : decode cX0_silence 13 = .ok (.ireturn, 1) := dk_172 (dk_at dksX0_silence_0 13 rfl rfl)
theorem dX0_silence_14 : decode cX0_silence 14 = .ok (.aload_n 0, 1) := dk_42 (dk_at dksX0_silence_0 14 rfl rfl)
theorem dX0_silence_15 : decode cX0_silence 15 = .ok (.getfield 16, 3) := dk_180 0 16 (dk_at dksX0_silence_0 15 rfl rfl)
theorem dX0_silence_18 : decode cX0_silence 18 = .ok (.invokevirtual 67, 3) := dk_182 0 67 (dk_at dksX0_silence_0 18 rfl rfl)
theorem dX0_silence_21 : decode cX0_silence 21 = .ok (.astore_n 3, 1) := dk_78 (dk_at dksX0_silence_0 21 rfl rfl)
theorem dX0_silence_22 : decode cX0_silence 22 = .ok (.iconst 0, 1) := dk_3 (dk_at dksX0_silence_0 22 rfl rfl)
theorem dX0_silence_23 : decode cX0_silence 23 = .ok (.istore 4, 2) := dk_54 4 (dk_at dksX0_silence_1 0 rfl rfl)
theorem dX0_silence_25 : decode cX0_silence 25 = .ok (.iload_n 1, 1) := dk_27 (dk_at dksX0_silence_1 2 rfl rfl)
theorem dX0_silence_26 : decode cX0_silence 26 = .ok (.istore 5, 2) := dk_54 5 (dk_at dksX0_silence_1 3 rfl rfl)
theorem dX0_silence_28 : decode cX0_silence 28 = .ok (.iload 5, 2) := dk_21 5 (dk_at dksX0_silence_1 5 rfl rfl)
theorem dX0_silence_30 : decode cX0_silence 30 = .ok (.iload_n 1, 1) := dk_27 (dk_at dksX0_silence_1 7 rfl rfl)
theorem dX0_silence_31 : decode cX0_silence 31 = .ok (.iload_n 2, 1) := dk_28 (dk_at dksX0_silence_1 8 rfl rfl)
theorem dX0_silence_32 : decode cX0_silence 32 = .ok (.iadd, 1) := dk_96 (dk_at dksX0_silence_1 9 rfl rfl)
theorem dX0_silence_33 : decode cX0_silence 33 = .ok (.if_icmp .ge 44, 3) := dk_162 0 44 (dk_at dksX0_silence_1 10 rfl rfl)
theorem dX0_silence_36 : decode cX0_silence 36 = .ok (.iload 4, 2) := dk_21 4 (dk_at dksX0_silence_1 13 rfl rfl)
theorem dX0_silence_38 : decode cX0_silence 38 = .ok (.aload_n 0, 1) := dk_42 (dk_at dksX0_silence_1 15 rfl rfl)
theorem dX0_silence_39 : decode cX0_silence 39 = .ok (.getfield 16, 3) := dk_180 0 16 (dk_at dksX0_silence_1 16 rfl rfl)
theorem dX0_silence_42 : decode cX0_silence 42 = .ok (.getfield 50, 3) := dk_180 0 50 (dk_at dksX0_silence_1 19 rfl rfl)
theorem dX0_silence_45 : decode cX0_silence 45 = .ok (.iload 5, 2) := dk_21 5 (dk_at dksX0_silence_1 22 rfl rfl)
theorem dX0_silence_47 : decode cX0_silence 47 = .ok (.iaload, 1) := dk_46 (dk_at dksX0_silence_2 0 rfl rfl)
theorem dX0_silence_48 : decode cX0_silence 48 = .ok (.iconst (-1), 1) := dk_2 (dk_at dksX0_silence_2 1 rfl rfl)
theorem dX0_silence_49 : decode cX0_silence 49 = .ok (.if_icmp .ne 7, 3) := dk_160 0 7 (dk_at dksX0_silence_2 2 rfl rfl)
theorem dX0_silence_52 : decode cX0_silence 52 = .ok (.iconst 0, 1) := dk_3 (dk_at dksX0_silence_2 5 rfl rfl)
theorem dX0_silence_53 : decode cX0_silence 53 = .ok (.goto 4, 3) := dk_167 0 4 (dk_at dksX0_silence_2 6 rfl rfl)
theorem dX0_silence_56 : decode cX0_silence 56 = .ok (.iconst 1, 1) := dk_4 (dk_at dksX0_silence_2 9 rfl rfl)
theorem dX0_silence_57 : decode cX0_silence 57 = .ok (.iadd, 1) := dk_96 (dk_at dksX0_silence_2 10 rfl rfl)
theorem dX0_silence_58 : decode cX0_silence 58 = .ok (.istore 4, 2) := dk_54 4 (dk_at dksX0_silence_2 11 rfl rfl)
theorem dX0_silence_60 : decode cX0_silence 60 = .ok (.aload_n 0, 1) := dk_42 (dk_at dksX0_silence_2 13 rfl rfl)
theorem dX0_silence_61 : decode cX0_silence 61 = .ok (.getfield 16, 3) := dk_180 0 16 (dk_at dksX0_silence_2 14 rfl rfl)
theorem dX0_silence_64 : decode cX0_silence 64 = .ok (.getfield 50, 3) := dk_180 0 50 (dk_at dksX0_silence_2 17 rfl rfl)
theorem dX0_silence_67 : decode cX0_silence 67 = .ok (.iload 5, 2) := dk_21 5 (dk_at dksX0_silence_2 20 rfl rfl)
theorem dX0_silence_69 : decode cX0_silence 69 = .ok (.iconst (-1), 1) := dk_2 (dk_at dksX0_silence_2 22 rfl rfl)
theorem dX0_silence_70 : decode cX0_silence 70 = .ok (.iastore, 1) := dk_79 (dk_at dksX0_silence_2 23 rfl rfl)
theorem dX0_silence_71 : decode cX0_silence 71 = .ok (.iinc 5 1, 3) := dk_132 5 1 (dk_at dksX0_silence_3 0 rfl rfl)
theorem dX0_silence_74 : decode cX0_silence 74 = .ok (.goto (-46), 3) := dk_167 255 210 (dk_at dksX0_silence_3 3 rfl rfl)
theorem dX0_silence_77 : decode cX0_silence 77 = .ok (.aload_n 0, 1) := dk_42 (dk_at dksX0_silence_3 6 rfl rfl)
theorem dX0_silence_78 : decode cX0_silence 78 = .ok (.aload_n 3, 1) := dk_45 (dk_at dksX0_silence_3 7 rfl rfl)
theorem dX0_silence_79 : decode cX0_silence 79 = .ok (.iload 4, 2) := dk_21 4 (dk_at dksX0_silence_3 8 rfl rfl)
theorem dX0_silence_81 : decode cX0_silence 81 = .ok (.invokevirtual 89, 3) := dk_182 0 89 (dk_at dksX0_silence_3 10 rfl rfl)
theorem dX0_silence_84 : decode cX0_silence 84 = .ok (.ireturn, 1) := dk_172 (dk_at dksX0_silence_3 13 rfl rfl)
abbrev cX0_singAlong : ByteArray := prog_1_method_17_code
def yX0_singAlong : MethodName := ⟨RX0, "singAlong", "(III)I"⟩
def dkwX0_singAlong_6 : List UInt8 := [25, 4, 42, 182, 0, 150, 16, 251, 182, 0, 154, 182, 0, 89, 172]
abbrev dktX0_singAlong_6 : List UInt8 := dkwX0_singAlong_6 ++ []
def dkwX0_singAlong_5 : List UInt8 := [153, 0, 8, 21, 8, 167, 0, 4, 2, 79, 132, 7, 1, 167, 255, 208, 132, 5, 1, 167, 255, 170, 42]
abbrev dktX0_singAlong_5 : List UInt8 := dkwX0_singAlong_5 ++ dktX0_singAlong_6
def dkwX0_singAlong_4 : List UInt8 := [21, 7, 182, 0, 164, 29, 96, 54, 8, 42, 180, 0, 16, 180, 0, 50, 21, 7, 21, 8, 184, 0, 147]
abbrev dktX0_singAlong_4 : List UInt8 := dkwX0_singAlong_4 ++ dktX0_singAlong_5
def dkwX0_singAlong_3 : List UInt8 := [192, 0, 83, 58, 6, 25, 6, 180, 0, 85, 54, 7, 21, 7, 25, 6, 182, 0, 161, 162, 0, 44, 25, 6]
abbrev dktX0_singAlong_3 : List UInt8 := dkwX0_singAlong_3 ++ dktX0_singAlong_4
def dkwX0_singAlong_2 : List UInt8 := [54, 5, 21, 5, 28, 163, 0, 86, 42, 180, 0, 16, 180, 0, 74, 21, 5, 185, 0, 80, 2, 0]
abbrev dktX0_singAlong_2 : List UInt8 := dkwX0_singAlong_2 ++ dktX0_singAlong_3
def dkwX0_singAlong_1 : List UInt8 := [16, 196, 16, 60, 184, 0, 3, 154, 0, 6, 16, 254, 172, 42, 180, 0, 16, 182, 0, 67, 58, 4, 27]
abbrev dktX0_singAlong_1 : List UInt8 := dkwX0_singAlong_1 ++ dktX0_singAlong_2
def dkwX0_singAlong_0 : List UInt8 := [42, 27, 182, 0, 158, 153, 0, 11, 42, 28, 182, 0, 158, 154, 0, 5, 2, 172, 28, 27, 161, 0, 14, 29]
abbrev dktX0_singAlong_0 : List UInt8 := dkwX0_singAlong_0 ++ dktX0_singAlong_1
theorem dksX0_singAlong_0 : cX0_singAlong.data.toList.drop 0 = dktX0_singAlong_0 := by decide +kernel
theorem dksX0_singAlong_1 : cX0_singAlong.data.toList.drop 24 = dktX0_singAlong_1 := dk_seg dksX0_singAlong_0 24 rfl rfl
theorem dksX0_singAlong_2 : cX0_singAlong.data.toList.drop 47 = dktX0_singAlong_2 := dk_seg dksX0_singAlong_1 23 rfl rfl
theorem dksX0_singAlong_3 : cX0_singAlong.data.toList.drop 69 = dktX0_singAlong_3 := dk_seg dksX0_singAlong_2 22 rfl rfl
theorem dksX0_singAlong_4 : cX0_singAlong.data.toList.drop 93 = dktX0_singAlong_4 := dk_seg dksX0_singAlong_3 24 rfl rfl
theorem dksX0_singAlong_5 : cX0_singAlong.data.toList.drop 116 = dktX0_singAlong_5 := dk_seg dksX0_singAlong_4 23 rfl rfl
theorem dksX0_singAlong_6 : cX0_singAlong.data.toList.drop 139 = dktX0_singAlong_6 := dk_seg dksX0_singAlong_5 23 rfl rfl
theorem dX0_singAlong_0 : decode cX0_singAlong 0 = .ok (.aload_n 0, 1) := dk_42 (dk_at dksX0_singAlong_0 0 rfl rfl)
theorem dX0_singAlong_1 : decode cX0_singAlong 1 = .ok (.iload_n 1, 1) := dk_27 (dk_at dksX0_singAlong_0 1 rfl rfl)
theorem dX0_singAlong_2 : decode cX0_singAlong 2 = .ok (.invokevirtual 158, 3) := dk_182 0 158 (dk_at dksX0_singAlong_0 2 rfl rfl)
theorem dX0_singAlong_5 : decode cX0_singAlong 5 = .ok (.ifCond .eq 11, 3) := dk_153 0 11 (dk_at dksX0_singAlong_0 5 rfl rfl)
theorem dX0_singAlong_8 : decode cX0_singAlong 8 = .ok (.aload_n 0, 1) := dk_42 (dk_at dksX0_singAlong_0 8 rfl rfl)
theorem dX0_singAlong_9 : decode cX0_singAlong 9 = .ok (.iload_n 2, 1) := dk_28 (dk_at dksX0_singAlong_0 9 rfl rfl)
theorem dX0_singAlong_10 : decode cX0_singAlong 10 = .ok (.invokevirtual 158, 3) := dk_182 0 158 (dk_at dksX0_singAlong_0 10 rfl rfl)
theorem dX0_singAlong_13 : decode cX0_singAlong 13 = .ok (.ifCond .ne 5, 3) := dk_154 0 5 (dk_at dksX0_singAlong_0 13 rfl rfl)
theorem dX0_singAlong_16 : decode cX0_singAlong 16 = .ok (.iconst (-1), 1) := dk_2 (dk_at dksX0_singAlong_0 16 rfl rfl)
theorem dX0_singAlong_17 : decode cX0_singAlong 17 = .ok (.ireturn, 1) := dk_172 (dk_at dksX0_singAlong_0 17 rfl rfl)
theorem dX0_singAlong_18 : decode cX0_singAlong 18 = .ok (.iload_n 2, 1) := dk_28 (dk_at dksX0_singAlong_0 18 rfl rfl)
theorem dX0_singAlong_19 : decode cX0_singAlong 19 = .ok (.iload_n 1, 1) := dk_27 (dk_at dksX0_singAlong_0 19 rfl rfl)
theorem dX0_singAlong_20 : decode cX0_singAlong 20 = .ok (.if_icmp .lt 14, 3) := dk_161 0 14 (dk_at dksX0_singAlong_0 20 rfl rfl)
theorem dX0_singAlong_23 : decode cX0_singAlong 23 = .ok (.iload_n 3, 1) := dk_29 (dk_at dksX0_singAlong_0 23 rfl rfl)
theorem dX0_singAlong_24 : decode cX0_singAlong 24 = .ok (.bipush (-60), 2) := dk_16 196 (dk_at dksX0_singAlong_1 0 rfl rfl)
theorem dX0_singAlong_26 : decode cX0_singAlong 26 = .ok (.bipush 60, 2) := dk_16 60 (dk_at dksX0_singAlong_1 2 rfl rfl)
theorem dX0_singAlong_28 : decode cX0_singAlong 28 = .ok (.invokestatic 3, 3) := dk_184 0 3 (dk_at dksX0_singAlong_1 4 rfl rfl)
theorem dX0_singAlong_31 : decode cX0_singAlong 31 = .ok (.ifCond .ne 6, 3) := dk_154 0 6 (dk_at dksX0_singAlong_1 7 rfl rfl)
theorem dX0_singAlong_34 : decode cX0_singAlong 34 = .ok (.bipush (-2), 2) := dk_16 254 (dk_at dksX0_singAlong_1 10 rfl rfl)
theorem dX0_singAlong_36 : decode cX0_singAlong 36 = .ok (.ireturn, 1) := dk_172 (dk_at dksX0_singAlong_1 12 rfl rfl)
theorem dX0_singAlong_37 : decode cX0_singAlong 37 = .ok (.aload_n 0, 1) := dk_42 (dk_at dksX0_singAlong_1 13 rfl rfl)
theorem dX0_singAlong_38 : decode cX0_singAlong 38 = .ok (.getfield 16, 3) := dk_180 0 16 (dk_at dksX0_singAlong_1 14 rfl rfl)
theorem dX0_singAlong_41 : decode cX0_singAlong 41 = .ok (.invokevirtual 67, 3) := dk_182 0 67 (dk_at dksX0_singAlong_1 17 rfl rfl)
theorem dX0_singAlong_44 : decode cX0_singAlong 44 = .ok (.astore 4, 2) := dk_58 4 (dk_at dksX0_singAlong_1 20 rfl rfl)
theorem dX0_singAlong_46 : decode cX0_singAlong 46 = .ok (.iload_n 1, 1) := dk_27 (dk_at dksX0_singAlong_1 22 rfl rfl)
theorem dX0_singAlong_47 : decode cX0_singAlong 47 = .ok (.istore 5, 2) := dk_54 5 (dk_at dksX0_singAlong_2 0 rfl rfl)
theorem dX0_singAlong_49 : decode cX0_singAlong 49 = .ok (.iload 5, 2) := dk_21 5 (dk_at dksX0_singAlong_2 2 rfl rfl)
theorem dX0_singAlong_51 : decode cX0_singAlong 51 = .ok (.iload_n 2, 1) := dk_28 (dk_at dksX0_singAlong_2 4 rfl rfl)
theorem dX0_singAlong_52 : decode cX0_singAlong 52 = .ok (.if_icmp .gt 86, 3) := dk_163 0 86 (dk_at dksX0_singAlong_2 5 rfl rfl)
theorem dX0_singAlong_55 : decode cX0_singAlong 55 = .ok (.aload_n 0, 1) := dk_42 (dk_at dksX0_singAlong_2 8 rfl rfl)
theorem dX0_singAlong_56 : decode cX0_singAlong 56 = .ok (.getfield 16, 3) := dk_180 0 16 (dk_at dksX0_singAlong_2 9 rfl rfl)
theorem dX0_singAlong_59 : decode cX0_singAlong 59 = .ok (.getfield 74, 3) := dk_180 0 74 (dk_at dksX0_singAlong_2 12 rfl rfl)
theorem dX0_singAlong_62 : decode cX0_singAlong 62 = .ok (.iload 5, 2) := dk_21 5 (dk_at dksX0_singAlong_2 15 rfl rfl)
theorem dX0_singAlong_64 : decode cX0_singAlong 64 = .ok (.invokeinterface 80 2, 5) := by decide +kernel
theorem dX0_singAlong_69 : decode cX0_singAlong 69 = .ok (.checkcast 83, 3) := dk_192 0 83 (dk_at dksX0_singAlong_3 0 rfl rfl)
theorem dX0_singAlong_72 : decode cX0_singAlong 72 = .ok (.astore 6, 2) := dk_58 6 (dk_at dksX0_singAlong_3 3 rfl rfl)
theorem dX0_singAlong_74 : decode cX0_singAlong 74 = .ok (.aload 6, 2) := dk_25 6 (dk_at dksX0_singAlong_3 5 rfl rfl)
theorem dX0_singAlong_76 : decode cX0_singAlong 76 = .ok (.getfield 85, 3) := dk_180 0 85 (dk_at dksX0_singAlong_3 7 rfl rfl)
theorem dX0_singAlong_79 : decode cX0_singAlong 79 = .ok (.istore 7, 2) := dk_54 7 (dk_at dksX0_singAlong_3 10 rfl rfl)
theorem dX0_singAlong_81 : decode cX0_singAlong 81 = .ok (.iload 7, 2) := dk_21 7 (dk_at dksX0_singAlong_3 12 rfl rfl)
theorem dX0_singAlong_83 : decode cX0_singAlong 83 = .ok (.aload 6, 2) := dk_25 6 (dk_at dksX0_singAlong_3 14 rfl rfl)
theorem dX0_singAlong_85 : decode cX0_singAlong 85 = .ok (.invokevirtual 161, 3) := dk_182 0 161 (dk_at dksX0_singAlong_3 16 rfl rfl)
theorem dX0_singAlong_88 : decode cX0_singAlong 88 = .ok (.if_icmp .ge 44, 3) := dk_162 0 44 (dk_at dksX0_singAlong_3 19 rfl rfl)
theorem dX0_singAlong_91 : decode cX0_singAlong 91 = .ok (.aload 6, 2) := dk_25 6 (dk_at dksX0_singAlong_3 22 rfl rfl)
theorem dX0_singAlong_93 : decode cX0_singAlong 93 = .ok (.iload 7, 2) := dk_21 7 (dk_at dksX0_singAlong_4 0 rfl rfl)
theorem dX0_singAlong_95 : decode cX0_singAlong 95 = .ok (.invokevirtual 164, 3) := dk_182 0 164 (dk_at dksX0_singAlong_4 2 rfl rfl)
theorem dX0_singAlong_98 : decode cX0_singAlong 98 = .ok (.iload_n 3, 1) := dk_29 (dk_at dksX0_singAlong_4 5 rfl rfl)
theorem dX0_singAlong_99 : decode cX0_singAlong 99 = .ok (.iadd, 1) := dk_96 (dk_at dksX0_singAlong_4 6 rfl rfl)
theorem dX0_singAlong_100 : decode cX0_singAlong 100 = .ok (.istore 8, 2) := dk_54 8 (dk_at dksX0_singAlong_4 7 rfl rfl)
theorem dX0_singAlong_102 : decode cX0_singAlong 102 = .ok (.aload_n 0, 1) := dk_42 (dk_at dksX0_singAlong_4 9 rfl rfl)
theorem dX0_singAlong_103 : decode cX0_singAlong 103 = .ok (.getfield 16, 3) := dk_180 0 16 (dk_at dksX0_singAlong_4 10 rfl rfl)
theorem dX0_singAlong_106 : decode cX0_singAlong 106 = .ok (.getfield 50, 3) := dk_180 0 50 (dk_at dksX0_singAlong_4 13 rfl rfl)
theorem dX0_singAlong_109 : decode cX0_singAlong 109 = .ok (.iload 7, 2) := dk_21 7 (dk_at dksX0_singAlong_4 16 rfl rfl)
theorem dX0_singAlong_111 : decode cX0_singAlong 111 = .ok (.iload 8, 2) := dk_21 8 (dk_at dksX0_singAlong_4 18 rfl rfl)
theorem dX0_singAlong_113 : decode cX0_singAlong 113 = .ok (.invokestatic 147, 3) := dk_184 0 147 (dk_at dksX0_singAlong_4 20 rfl rfl)
theorem dX0_singAlong_116 : decode cX0_singAlong 116 = .ok (.ifCond .eq 8, 3) := dk_153 0 8 (dk_at dksX0_singAlong_5 0 rfl rfl)
theorem dX0_singAlong_119 : decode cX0_singAlong 119 = .ok (.iload 8, 2) := dk_21 8 (dk_at dksX0_singAlong_5 3 rfl rfl)
theorem dX0_singAlong_121 : decode cX0_singAlong 121 = .ok (.goto 4, 3) := dk_167 0 4 (dk_at dksX0_singAlong_5 5 rfl rfl)
theorem dX0_singAlong_124 : decode cX0_singAlong 124 = .ok (.iconst (-1), 1) := dk_2 (dk_at dksX0_singAlong_5 8 rfl rfl)
theorem dX0_singAlong_125 : decode cX0_singAlong 125 = .ok (.iastore, 1) := dk_79 (dk_at dksX0_singAlong_5 9 rfl rfl)
theorem dX0_singAlong_126 : decode cX0_singAlong 126 = .ok (.iinc 7 1, 3) := dk_132 7 1 (dk_at dksX0_singAlong_5 10 rfl rfl)
theorem dX0_singAlong_129 : decode cX0_singAlong 129 = .ok (.goto (-48), 3) := dk_167 255 208 (dk_at dksX0_singAlong_5 13 rfl rfl)
theorem dX0_singAlong_132 : decode cX0_singAlong 132 = .ok (.iinc 5 1, 3) := dk_132 5 1 (dk_at dksX0_singAlong_5 16 rfl rfl)
theorem dX0_singAlong_135 : decode cX0_singAlong 135 = .ok (.goto (-86), 3) := dk_167 255 170 (dk_at dksX0_singAlong_5 19 rfl rfl)
theorem dX0_singAlong_138 : decode cX0_singAlong 138 = .ok (.aload_n 0, 1) := dk_42 (dk_at dksX0_singAlong_5 22 rfl rfl)
theorem dX0_singAlong_139 : decode cX0_singAlong 139 = .ok (.aload 4, 2) := dk_25 4 (dk_at dksX0_singAlong_6 0 rfl rfl)
theorem dX0_singAlong_141 : decode cX0_singAlong 141 = .ok (.aload_n 0, 1) := dk_42 (dk_at dksX0_singAlong_6 2 rfl rfl)
theorem dX0_singAlong_142 : decode cX0_singAlong 142 = .ok (.invokevirtual 150, 3) := dk_182 0 150 (dk_at dksX0_singAlong_6 3 rfl rfl)
theorem dX0_singAlong_145 : decode cX0_singAlong 145 = .ok (.bipush (-5), 2) := dk_16 251 (dk_at dksX0_singAlong_6 6 rfl rfl)
theorem dX0_singAlong_147 : decode cX0_singAlong 147 = .ok (.invokevirtual 154, 3) := dk_182 0 154 (dk_at dksX0_singAlong_6 8 rfl rfl)
theorem dX0_singAlong_150 : decode cX0_singAlong 150 = .ok (.invokevirtual 89, 3) := dk_182 0 89 (dk_at dksX0_singAlong_6 11 rfl rfl)
theorem dX0_singAlong_153 : decode cX0_singAlong 153 = .ok (.ireturn, 1) := dk_172 (dk_at dksX0_singAlong_6 14 rfl rfl)
abbrev cX0_isSyllable : ByteArray := prog_1_method_16_code
def yX0_isSyllable : MethodName := ⟨RX0, "isSyllable", "(I)Z"⟩
def dkwX0_isSyllable_0 : List UInt8 := [27, 3, 42, 180, 0, 16, 182, 0, 77, 4, 100, 184, 0, 3, 172]
abbrev dktX0_isSyllable_0 : List UInt8 := dkwX0_isSyllable_0 ++ []
theorem dksX0_isSyllable_0 : cX0_isSyllable.data.toList.drop 0 = dktX0_isSyllable_0 := by decide +kernel
theorem dX0_isSyllable_0 : decode cX0_isSyllable 0 = .ok (.iload_n 1, 1) := dk_27 (dk_at dksX0_isSyllable_0 0 rfl rfl)
theorem dX0_isSyllable_1 : decode cX0_isSyllable 1 = .ok (.iconst 0, 1) := dk_3 (dk_at dksX0_isSyllable_0 1 rfl rfl)
theorem dX0_isSyllable_2 : decode cX0_isSyllable 2 = .ok (.aload_n 0, 1) := dk_42 (dk_at dksX0_isSyllable_0 2 rfl rfl)
theorem dX0_isSyllable_3 : decode cX0_isSyllable 3 = .ok (.getfield 16, 3) := dk_180 0 16 (dk_at dksX0_isSyllable_0 3 rfl rfl)
theorem dX0_isSyllable_6 : decode cX0_isSyllable 6 = .ok (.invokevirtual 77, 3) := dk_182 0 77 (dk_at dksX0_isSyllable_0 6 rfl rfl)
theorem dX0_isSyllable_9 : decode cX0_isSyllable 9 = .ok (.iconst 1, 1) := dk_4 (dk_at dksX0_isSyllable_0 9 rfl rfl)
theorem dX0_isSyllable_10 : decode cX0_isSyllable 10 = .ok (.isub, 1) := dk_100 (dk_at dksX0_isSyllable_0 10 rfl rfl)
theorem dX0_isSyllable_11 : decode cX0_isSyllable 11 = .ok (.invokestatic 3, 3) := dk_184 0 3 (dk_at dksX0_isSyllable_0 11 rfl rfl)
theorem dX0_isSyllable_14 : decode cX0_isSyllable 14 = .ok (.ireturn, 1) := dk_172 (dk_at dksX0_isSyllable_0 14 rfl rfl)
abbrev cX0_type : ByteArray := prog_1_method_18_code
def yX0_type : MethodName := ⟨RX0, "type", "(C)I"⟩
def dkwX0_type_1 : List UInt8 := [180, 0, 167, 4, 96, 181, 0, 167, 42, 180, 0, 167, 172]
abbrev dktX0_type_1 : List UInt8 := dkwX0_type_1 ++ []
def dkwX0_type_0 : List UInt8 := [42, 180, 0, 167, 16, 60, 160, 0, 6, 16, 253, 172, 42, 180, 0, 27, 42, 180, 0, 167, 27, 85, 42, 89]
abbrev dktX0_type_0 : List UInt8 := dkwX0_type_0 ++ dktX0_type_1
theorem dksX0_type_0 : cX0_type.data.toList.drop 0 = dktX0_type_0 := by decide +kernel
theorem dksX0_type_1 : cX0_type.data.toList.drop 24 = dktX0_type_1 := dk_seg dksX0_type_0 24 rfl rfl
theorem dX0_type_0 : decode cX0_type 0 = .ok (.aload_n 0, 1) := dk_42 (dk_at dksX0_type_0 0 rfl rfl)
theorem dX0_type_1 : decode cX0_type 1 = .ok (.getfield 167, 3) := dk_180 0 167 (dk_at dksX0_type_0 1 rfl rfl)
theorem dX0_type_4 : decode cX0_type 4 = .ok (.bipush 60, 2) := dk_16 60 (dk_at dksX0_type_0 4 rfl rfl)
theorem dX0_type_6 : decode cX0_type 6 = .ok (.if_icmp .ne 6, 3) := dk_160 0 6 (dk_at dksX0_type_0 6 rfl rfl)
theorem dX0_type_9 : decode cX0_type 9 = .ok (.bipush (-3), 2) := dk_16 253 (dk_at dksX0_type_0 9 rfl rfl)
theorem dX0_type_11 : decode cX0_type 11 = .ok (.ireturn, 1) := dk_172 (dk_at dksX0_type_0 11 rfl rfl)
theorem dX0_type_12 : decode cX0_type 12 = .ok (.aload_n 0, 1) := dk_42 (dk_at dksX0_type_0 12 rfl rfl)
theorem dX0_type_13 : decode cX0_type 13 = .ok (.getfield 27, 3) := dk_180 0 27 (dk_at dksX0_type_0 13 rfl rfl)
theorem dX0_type_16 : decode cX0_type 16 = .ok (.aload_n 0, 1) := dk_42 (dk_at dksX0_type_0 16 rfl rfl)
theorem dX0_type_17 : decode cX0_type 17 = .ok (.getfield 167, 3) := dk_180 0 167 (dk_at dksX0_type_0 17 rfl rfl)
theorem dX0_type_20 : decode cX0_type 20 = .ok (.iload_n 1, 1) := dk_27 (dk_at dksX0_type_0 20 rfl rfl)
theorem dX0_type_21 : decode cX0_type 21 = .ok (.castore, 1) := dk_85 (dk_at dksX0_type_0 21 rfl rfl)
theorem dX0_type_22 : decode cX0_type 22 = .ok (.aload_n 0, 1) := dk_42 (dk_at dksX0_type_0 22 rfl rfl)
theorem dX0_type_23 : decode cX0_type 23 = .ok (.dup, 1) := dk_89 (dk_at dksX0_type_0 23 rfl rfl)
theorem dX0_type_24 : decode cX0_type 24 = .ok (.getfield 167, 3) := dk_180 0 167 (dk_at dksX0_type_1 0 rfl rfl)
theorem dX0_type_27 : decode cX0_type 27 = .ok (.iconst 1, 1) := dk_4 (dk_at dksX0_type_1 3 rfl rfl)
theorem dX0_type_28 : decode cX0_type 28 = .ok (.iadd, 1) := dk_96 (dk_at dksX0_type_1 4 rfl rfl)
theorem dX0_type_29 : decode cX0_type 29 = .ok (.putfield 167, 3) := dk_181 0 167 (dk_at dksX0_type_1 5 rfl rfl)
theorem dX0_type_32 : decode cX0_type 32 = .ok (.aload_n 0, 1) := dk_42 (dk_at dksX0_type_1 8 rfl rfl)
theorem dX0_type_33 : decode cX0_type 33 = .ok (.getfield 167, 3) := dk_180 0 167 (dk_at dksX0_type_1 9 rfl rfl)
theorem dX0_type_36 : decode cX0_type 36 = .ok (.ireturn, 1) := dk_172 (dk_at dksX0_type_1 12 rfl rfl)
abbrev cX0_clearText : ByteArray := prog_1_method_19_code
def yX0_clearText : MethodName := ⟨RX0, "clearText", "()I"⟩
def dkwX0_clearText_0 : List UInt8 := [42, 180, 0, 167, 60, 42, 3, 181, 0, 167, 27, 172]
abbrev dktX0_clearText_0 : List UInt8 := dkwX0_clearText_0 ++ []
theorem dksX0_clearText_0 : cX0_clearText.data.toList.drop 0 = dktX0_clearText_0 := by decide +kernel
theorem dX0_clearText_0 : decode cX0_clearText 0 = .ok (.aload_n 0, 1) := dk_42 (dk_at dksX0_clearText_0 0 rfl rfl)
theorem dX0_clearText_1 : decode cX0_clearText 1 = .ok (.getfield 167, 3) := dk_180 0 167 (dk_at dksX0_clearText_0 1 rfl rfl)
theorem dX0_clearText_4 : decode cX0_clearText 4 = .ok (.istore_n 1, 1) := dk_60 (dk_at dksX0_clearText_0 4 rfl rfl)
theorem dX0_clearText_5 : decode cX0_clearText 5 = .ok (.aload_n 0, 1) := dk_42 (dk_at dksX0_clearText_0 5 rfl rfl)
theorem dX0_clearText_6 : decode cX0_clearText 6 = .ok (.iconst 0, 1) := dk_3 (dk_at dksX0_clearText_0 6 rfl rfl)
theorem dX0_clearText_7 : decode cX0_clearText 7 = .ok (.putfield 167, 3) := dk_181 0 167 (dk_at dksX0_clearText_0 7 rfl rfl)
theorem dX0_clearText_10 : decode cX0_clearText 10 = .ok (.iload_n 1, 1) := dk_27 (dk_at dksX0_clearText_0 10 rfl rfl)
theorem dX0_clearText_11 : decode cX0_clearText 11 = .ok (.ireturn, 1) := dk_172 (dk_at dksX0_clearText_0 11 rfl rfl)
abbrev cX0_undo : ByteArray := prog_1_method_20_code
def yX0_undo : MethodName := ⟨RX0, "undo", "()I"⟩
def dkwX0_undo_2 : List UInt8 := [185, 0, 31, 1, 0, 172]
abbrev dktX0_undo_2 : List UInt8 := dkwX0_undo_2 ++ []
def dkwX0_undo_1 : List UInt8 := [185, 0, 31, 1, 0, 4, 100, 185, 0, 37, 2, 0, 192, 0, 13, 181, 0, 16, 42, 180, 0, 23]
abbrev dktX0_undo_1 : List UInt8 := dkwX0_undo_1 ++ dktX0_undo_2
def dkwX0_undo_0 : List UInt8 := [42, 180, 0, 23, 185, 0, 95, 1, 0, 153, 0, 6, 16, 251, 172, 42, 42, 180, 0, 23, 42, 180, 0, 23]
abbrev dktX0_undo_0 : List UInt8 := dkwX0_undo_0 ++ dktX0_undo_1
theorem dksX0_undo_0 : cX0_undo.data.toList.drop 0 = dktX0_undo_0 := by decide +kernel
theorem dksX0_undo_1 : cX0_undo.data.toList.drop 24 = dktX0_undo_1 := dk_seg dksX0_undo_0 24 rfl rfl
theorem dksX0_undo_2 : cX0_undo.data.toList.drop 46 = dktX0_undo_2 := dk_seg dksX0_undo_1 22 rfl rfl
theorem dX0_undo_0 : decode cX0_undo 0 = .ok (.aload_n 0, 1) := dk_42 (dk_at dksX0_undo_0 0 rfl rfl)
theorem dX0_undo_1 : decode cX0_undo 1 = .ok (.getfield 23, 3) := dk_180 0 23 (dk_at dksX0_undo_0 1 rfl rfl)
theorem dX0_undo_4 : decode cX0_undo 4 = .ok (.invokeinterface 95 1, 5) := by decide +kernel
theorem dX0_undo_9 : decode cX0_undo 9 = .ok (.ifCond .eq 6, 3) := dk_153 0 6 (dk_at dksX0_undo_0 9 rfl rfl)
theorem dX0_undo_12 : decode cX0_undo 12 = .ok (.bipush (-5), 2) := dk_16 251 (dk_at dksX0_undo_0 12 rfl rfl)
theorem dX0_undo_14 : decode cX0_undo 14 = .ok (.ireturn, 1) := dk_172 (dk_at dksX0_undo_0 14 rfl rfl)
theorem dX0_undo_15 : decode cX0_undo 15 = .ok (.aload_n 0, 1) := dk_42 (dk_at dksX0_undo_0 15 rfl rfl)
theorem dX0_undo_16 : decode cX0_undo 16 = .ok (.aload_n 0, 1) := dk_42 (dk_at dksX0_undo_0 16 rfl rfl)
theorem dX0_undo_17 : decode cX0_undo 17 = .ok (.getfield 23, 3) := dk_180 0 23 (dk_at dksX0_undo_0 17 rfl rfl)
theorem dX0_undo_20 : decode cX0_undo 20 = .ok (.aload_n 0, 1) := dk_42 (dk_at dksX0_undo_0 20 rfl rfl)
theorem dX0_undo_21 : decode cX0_undo 21 = .ok (.getfield 23, 3) := dk_180 0 23 (dk_at dksX0_undo_0 21 rfl rfl)
theorem dX0_undo_24 : decode cX0_undo 24 = .ok (.invokeinterface 31 1, 5) := by decide +kernel
theorem dX0_undo_29 : decode cX0_undo 29 = .ok (.iconst 1, 1) := dk_4 (dk_at dksX0_undo_1 5 rfl rfl)
theorem dX0_undo_30 : decode cX0_undo 30 = .ok (.isub, 1) := dk_100 (dk_at dksX0_undo_1 6 rfl rfl)
theorem dX0_undo_31 : decode cX0_undo 31 = .ok (.invokeinterface 37 2, 5) := by decide +kernel
theorem dX0_undo_36 : decode cX0_undo 36 = .ok (.checkcast 13, 3) := dk_192 0 13 (dk_at dksX0_undo_1 12 rfl rfl)
theorem dX0_undo_39 : decode cX0_undo 39 = .ok (.putfield 16, 3) := dk_181 0 16 (dk_at dksX0_undo_1 15 rfl rfl)
theorem dX0_undo_42 : decode cX0_undo 42 = .ok (.aload_n 0, 1) := dk_42 (dk_at dksX0_undo_1 18 rfl rfl)
theorem dX0_undo_43 : decode cX0_undo 43 = .ok (.getfield 23, 3) := dk_180 0 23 (dk_at dksX0_undo_1 19 rfl rfl)
theorem dX0_undo_46 : decode cX0_undo 46 = .ok (.invokeinterface 31 1, 5) := by decide +kernel
theorem dX0_undo_51 : decode cX0_undo 51 = .ok (.ireturn, 1) := dk_172 (dk_at dksX0_undo_2 5 rfl rfl)
abbrev cX0_keep : ByteArray := prog_1_method_21_code
def yX0_keep : MethodName := ⟨RX0, "keep", "()I"⟩
def dkwX0_keep_0 : List UInt8 := [42, 42, 180, 0, 16, 182, 0, 67, 181, 0, 170, 42, 180, 0, 16, 182, 0, 77, 172]
abbrev dktX0_keep_0 : List UInt8 := dkwX0_keep_0 ++ []
theorem dksX0_keep_0 : cX0_keep.data.toList.drop 0 = dktX0_keep_0 := by decide +kernel
theorem dX0_keep_0 : decode cX0_keep 0 = .ok (.aload_n 0, 1) := dk_42 (dk_at dksX0_keep_0 0 rfl rfl)
theorem dX0_keep_1 : decode cX0_keep 1 = .ok (.aload_n 0, 1) := dk_42 (dk_at dksX0_keep_0 1 rfl rfl)
theorem dX0_keep_2 : decode cX0_keep 2 = .ok (.getfield 16, 3) := dk_180 0 16 (dk_at dksX0_keep_0 2 rfl rfl)
theorem dX0_keep_5 : decode cX0_keep 5 = .ok (.invokevirtual 67, 3) := dk_182 0 67 (dk_at dksX0_keep_0 5 rfl rfl)
theorem dX0_keep_8 : decode cX0_keep 8 = .ok (.putfield 170, 3) := dk_181 0 170 (dk_at dksX0_keep_0 8 rfl rfl)
theorem dX0_keep_11 : decode cX0_keep 11 = .ok (.aload_n 0, 1) := dk_42 (dk_at dksX0_keep_0 11 rfl rfl)
theorem dX0_keep_12 : decode cX0_keep 12 = .ok (.getfield 16, 3) := dk_180 0 16 (dk_at dksX0_keep_0 12 rfl rfl)
theorem dX0_keep_15 : decode cX0_keep 15 = .ok (.invokevirtual 77, 3) := dk_182 0 77 (dk_at dksX0_keep_0 15 rfl rfl)
theorem dX0_keep_18 : decode cX0_keep 18 = .ok (.ireturn, 1) := dk_172 (dk_at dksX0_keep_0 18 rfl rfl)
abbrev cX0_restore : ByteArray := prog_1_method_22_code
def yX0_restore : MethodName := ⟨RX0, "restore", "()I"⟩
def dkwX0_restore_1 : List UInt8 := [181, 0, 16, 42, 43, 42, 180, 0, 16, 182, 0, 77, 182, 0, 89, 172]
abbrev dktX0_restore_1 : List UInt8 := dkwX0_restore_1 ++ []
def dkwX0_restore_0 : List UInt8 := [42, 180, 0, 170, 199, 0, 6, 16, 251, 172, 42, 180, 0, 16, 76, 42, 42, 180, 0, 170, 182, 0, 67]
abbrev dktX0_restore_0 : List UInt8 := dkwX0_restore_0 ++ dktX0_restore_1
theorem dksX0_restore_0 : cX0_restore.data.toList.drop 0 = dktX0_restore_0 := by decide +kernel
theorem dksX0_restore_1 : cX0_restore.data.toList.drop 23 = dktX0_restore_1 := dk_seg dksX0_restore_0 23 rfl rfl
theorem dX0_restore_0 : decode cX0_restore 0 = .ok (.aload_n 0, 1) := dk_42 (dk_at dksX0_restore_0 0 rfl rfl)
theorem dX0_restore_1 : decode cX0_restore 1 = .ok (.getfield 170, 3) := dk_180 0 170 (dk_at dksX0_restore_0 1 rfl rfl)
theorem dX0_restore_4 : decode cX0_restore 4 = .ok (.ifnonnull 6, 3) := dk_199 0 6 (dk_at dksX0_restore_0 4 rfl rfl)
theorem dX0_restore_7 : decode cX0_restore 7 = .ok (.bipush (-5), 2) := dk_16 251 (dk_at dksX0_restore_0 7 rfl rfl)
theorem dX0_restore_9 : decode cX0_restore 9 = .ok (.ireturn, 1) := dk_172 (dk_at dksX0_restore_0 9 rfl rfl)
theorem dX0_restore_10 : decode cX0_restore 10 = .ok (.aload_n 0, 1) := dk_42 (dk_at dksX0_restore_0 10 rfl rfl)
theorem dX0_restore_11 : decode cX0_restore 11 = .ok (.getfield 16, 3) := dk_180 0 16 (dk_at dksX0_restore_0 11 rfl rfl)
theorem dX0_restore_14 : decode cX0_restore 14 = .ok (.astore_n 1, 1) := dk_76 (dk_at dksX0_restore_0 14 rfl rfl)
theorem dX0_restore_15 : decode cX0_restore 15 = .ok (.aload_n 0, 1) := dk_42 (dk_at dksX0_restore_0 15 rfl rfl)
theorem dX0_restore_16 : decode cX0_restore 16 = .ok (.aload_n 0, 1) := dk_42 (dk_at dksX0_restore_0 16 rfl rfl)
theorem dX0_restore_17 : decode cX0_restore 17 = .ok (.getfield 170, 3) := dk_180 0 170 (dk_at dksX0_restore_0 17 rfl rfl)
theorem dX0_restore_20 : decode cX0_restore 20 = .ok (.invokevirtual 67, 3) := dk_182 0 67 (dk_at dksX0_restore_0 20 rfl rfl)
theorem dX0_restore_23 : decode cX0_restore 23 = .ok (.putfield 16, 3) := dk_181 0 16 (dk_at dksX0_restore_1 0 rfl rfl)
theorem dX0_restore_26 : decode cX0_restore 26 = .ok (.aload_n 0, 1) := dk_42 (dk_at dksX0_restore_1 3 rfl rfl)
theorem dX0_restore_27 : decode cX0_restore 27 = .ok (.aload_n 1, 1) := dk_43 (dk_at dksX0_restore_1 4 rfl rfl)
theorem dX0_restore_28 : decode cX0_restore 28 = .ok (.aload_n 0, 1) := dk_42 (dk_at dksX0_restore_1 5 rfl rfl)
theorem dX0_restore_29 : decode cX0_restore 29 = .ok (.getfield 16, 3) := dk_180 0 16 (dk_at dksX0_restore_1 6 rfl rfl)
theorem dX0_restore_32 : decode cX0_restore 32 = .ok (.invokevirtual 77, 3) := dk_182 0 77 (dk_at dksX0_restore_1 9 rfl rfl)
theorem dX0_restore_35 : decode cX0_restore 35 = .ok (.invokevirtual 89, 3) := dk_182 0 89 (dk_at dksX0_restore_1 12 rfl rfl)
theorem dX0_restore_38 : decode cX0_restore 38 = .ok (.ireturn, 1) := dk_172 (dk_at dksX0_restore_1 15 rfl rfl)
abbrev cX0_syllable : ByteArray := prog_1_method_24_code
def yX0_syllable : MethodName := ⟨RX0, "syllable", "(II)I"⟩
def dkwX0_syllable_4 : List UInt8 := [172, 42, 42, 182, 0, 150, 27, 28, 182, 0, 205, 172]
abbrev dktX0_syllable_4 : List UInt8 := dkwX0_syllable_4 ++ []
def dkwX0_syllable_3 : List UInt8 := [45, 180, 0, 85, 172, 45, 180, 0, 195, 172, 45, 180, 0, 196, 172, 45, 180, 0, 199, 172, 45, 180, 0, 202]
abbrev dktX0_syllable_3 : List UInt8 := dkwX0_syllable_3 ++ dktX0_syllable_4
def dkwX0_syllable_2 : List UInt8 := [170, 0, 0, 0, 0, 0, 0, 61, 0, 0, 0, 0, 0, 0, 0, 4, 0, 0, 0, 36, 0, 0, 0, 41, 0, 0, 0, 46, 0, 0, 0, 51, 0, 0, 0, 56]
abbrev dktX0_syllable_2 : List UInt8 := dkwX0_syllable_2 ++ dktX0_syllable_3
def dkwX0_syllable_1 : List UInt8 := [192, 0, 83, 78, 28]
abbrev dktX0_syllable_1 : List UInt8 := dkwX0_syllable_1 ++ dktX0_syllable_2
def dkwX0_syllable_0 : List UInt8 := [42, 27, 182, 0, 158, 154, 0, 5, 2, 172, 42, 180, 0, 16, 180, 0, 74, 27, 185, 0, 80, 2, 0]
abbrev dktX0_syllable_0 : List UInt8 := dkwX0_syllable_0 ++ dktX0_syllable_1
theorem dksX0_syllable_0 : cX0_syllable.data.toList.drop 0 = dktX0_syllable_0 := by decide +kernel
theorem dksX0_syllable_1 : cX0_syllable.data.toList.drop 23 = dktX0_syllable_1 := dk_seg dksX0_syllable_0 23 rfl rfl
theorem dksX0_syllable_2 : cX0_syllable.data.toList.drop 28 = dktX0_syllable_2 := dk_seg dksX0_syllable_1 5 rfl rfl
theorem dksX0_syllable_3 : cX0_syllable.data.toList.drop 64 = dktX0_syllable_3 := dk_seg dksX0_syllable_2 36 rfl rfl
theorem dksX0_syllable_4 : cX0_syllable.data.toList.drop 88 = dktX0_syllable_4 := dk_seg dksX0_syllable_3 24 rfl rfl
theorem dX0_syllable_0 : decode cX0_syllable 0 = .ok (.aload_n 0, 1) := dk_42 (dk_at dksX0_syllable_0 0 rfl rfl)
theorem dX0_syllable_1 : decode cX0_syllable 1 = .ok (.iload_n 1, 1) := dk_27 (dk_at dksX0_syllable_0 1 rfl rfl)
theorem dX0_syllable_2 : decode cX0_syllable 2 = .ok (.invokevirtual 158, 3) := dk_182 0 158 (dk_at dksX0_syllable_0 2 rfl rfl)
theorem dX0_syllable_5 : decode cX0_syllable 5 = .ok (.ifCond .ne 5, 3) := dk_154 0 5 (dk_at dksX0_syllable_0 5 rfl rfl)
theorem dX0_syllable_8 : decode cX0_syllable 8 = .ok (.iconst (-1), 1) := dk_2 (dk_at dksX0_syllable_0 8 rfl rfl)
theorem dX0_syllable_9 : decode cX0_syllable 9 = .ok (.ireturn, 1) := dk_172 (dk_at dksX0_syllable_0 9 rfl rfl)
theorem dX0_syllable_10 : decode cX0_syllable 10 = .ok (.aload_n 0, 1) := dk_42 (dk_at dksX0_syllable_0 10 rfl rfl)
theorem dX0_syllable_11 : decode cX0_syllable 11 = .ok (.getfield 16, 3) := dk_180 0 16 (dk_at dksX0_syllable_0 11 rfl rfl)
theorem dX0_syllable_14 : decode cX0_syllable 14 = .ok (.getfield 74, 3) := dk_180 0 74 (dk_at dksX0_syllable_0 14 rfl rfl)
theorem dX0_syllable_17 : decode cX0_syllable 17 = .ok (.iload_n 1, 1) := dk_27 (dk_at dksX0_syllable_0 17 rfl rfl)
theorem dX0_syllable_18 : decode cX0_syllable 18 = .ok (.invokeinterface 80 2, 5) := by decide +kernel
theorem dX0_syllable_23 : decode cX0_syllable 23 = .ok (.checkcast 83, 3) := dk_192 0 83 (dk_at dksX0_syllable_1 0 rfl rfl)
theorem dX0_syllable_26 : decode cX0_syllable 26 = .ok (.astore_n 3, 1) := dk_78 (dk_at dksX0_syllable_1 3 rfl rfl)
theorem dX0_syllable_27 : decode cX0_syllable 27 = .ok (.iload_n 2, 1) := dk_28 (dk_at dksX0_syllable_1 4 rfl rfl)
theorem dX0_syllable_28 : decode cX0_syllable 28 = .ok (.tableswitch 61 0 4 #[36, 41, 46, 51, 56], 36) := by decide +kernel
theorem dX0_syllable_64 : decode cX0_syllable 64 = .ok (.aload_n 3, 1) := dk_45 (dk_at dksX0_syllable_3 0 rfl rfl)
theorem dX0_syllable_65 : decode cX0_syllable 65 = .ok (.getfield 85, 3) := dk_180 0 85 (dk_at dksX0_syllable_3 1 rfl rfl)
theorem dX0_syllable_68 : decode cX0_syllable 68 = .ok (.ireturn, 1) := dk_172 (dk_at dksX0_syllable_3 4 rfl rfl)
theorem dX0_syllable_69 : decode cX0_syllable 69 = .ok (.aload_n 3, 1) := dk_45 (dk_at dksX0_syllable_3 5 rfl rfl)
theorem dX0_syllable_70 : decode cX0_syllable 70 = .ok (.getfield 195, 3) := dk_180 0 195 (dk_at dksX0_syllable_3 6 rfl rfl)
theorem dX0_syllable_73 : decode cX0_syllable 73 = .ok (.ireturn, 1) := dk_172 (dk_at dksX0_syllable_3 9 rfl rfl)
theorem dX0_syllable_74 : decode cX0_syllable 74 = .ok (.aload_n 3, 1) := dk_45 (dk_at dksX0_syllable_3 10 rfl rfl)
theorem dX0_syllable_75 : decode cX0_syllable 75 = .ok (.getfield 196, 3) := dk_180 0 196 (dk_at dksX0_syllable_3 11 rfl rfl)
theorem dX0_syllable_78 : decode cX0_syllable 78 = .ok (.ireturn, 1) := dk_172 (dk_at dksX0_syllable_3 14 rfl rfl)
theorem dX0_syllable_79 : decode cX0_syllable 79 = .ok (.aload_n 3, 1) := dk_45 (dk_at dksX0_syllable_3 15 rfl rfl)
theorem dX0_syllable_80 : decode cX0_syllable 80 = .ok (.getfield 199, 3) := dk_180 0 199 (dk_at dksX0_syllable_3 16 rfl rfl)
theorem dX0_syllable_83 : decode cX0_syllable 83 = .ok (.ireturn, 1) := dk_172 (dk_at dksX0_syllable_3 19 rfl rfl)
theorem dX0_syllable_84 : decode cX0_syllable 84 = .ok (.aload_n 3, 1) := dk_45 (dk_at dksX0_syllable_3 20 rfl rfl)
theorem dX0_syllable_85 : decode cX0_syllable 85 = .ok (.getfield 202, 3) := dk_180 0 202 (dk_at dksX0_syllable_3 21 rfl rfl)
theorem dX0_syllable_88 : decode cX0_syllable 88 = .ok (.ireturn, 1) := dk_172 (dk_at dksX0_syllable_4 0 rfl rfl)
theorem dX0_syllable_89 : decode cX0_syllable 89 = .ok (.aload_n 0, 1) := dk_42 (dk_at dksX0_syllable_4 1 rfl rfl)
theorem dX0_syllable_90 : decode cX0_syllable 90 = .ok (.aload_n 0, 1) := dk_42 (dk_at dksX0_syllable_4 2 rfl rfl)
theorem dX0_syllable_91 : decode cX0_syllable 91 = .ok (.invokevirtual 150, 3) := dk_182 0 150 (dk_at dksX0_syllable_4 3 rfl rfl)
theorem dX0_syllable_94 : decode cX0_syllable 94 = .ok (.iload_n 1, 1) := dk_27 (dk_at dksX0_syllable_4 6 rfl rfl)
theorem dX0_syllable_95 : decode cX0_syllable 95 = .ok (.iload_n 2, 1) := dk_28 (dk_at dksX0_syllable_4 7 rfl rfl)
theorem dX0_syllable_96 : decode cX0_syllable 96 = .ok (.invokevirtual 205, 3) := dk_182 0 205 (dk_at dksX0_syllable_4 8 rfl rfl)
theorem dX0_syllable_99 : decode cX0_syllable 99 = .ok (.ireturn, 1) := dk_172 (dk_at dksX0_syllable_4 11 rfl rfl)
abbrev cX0_ofJudge : ByteArray := prog_1_method_23_code
def yX0_ofJudge : MethodName := ⟨RX0, "ofJudge", "(LSungSlides$Judge;II)I"⟩
def dkwX0_ofJudge_4 : List UInt8 := [46, 172, 43, 180, 0, 189, 28, 46, 172, 43, 180, 0, 192, 28, 46, 172, 16, 254, 172]
abbrev dktX0_ofJudge_4 : List UInt8 := dkwX0_ofJudge_4 ++ []
def dkwX0_ofJudge_3 : List UInt8 := [180, 0, 177, 28, 46, 172, 43, 28, 182, 0, 180, 172, 43, 180, 0, 183, 28, 46, 172, 43, 180, 0, 186, 28]
abbrev dktX0_ofJudge_3 : List UInt8 := dkwX0_ofJudge_3 ++ dktX0_ofJudge_4
def dkwX0_ofJudge_2 : List UInt8 := [43, 42, 180, 0, 16, 180, 0, 74, 28, 185, 0, 80, 2, 0, 192, 0, 83, 3, 182, 0, 173, 172, 43]
abbrev dktX0_ofJudge_2 : List UInt8 := dkwX0_ofJudge_2 ++ dktX0_ofJudge_3
def dkwX0_ofJudge_1 : List UInt8 := [170, 0, 0, 0, 0, 0, 106, 0, 0, 0, 5, 0, 0, 0, 11, 0, 0, 0, 43, 0, 0, 0, 65, 0, 0, 0, 72, 0, 0, 0, 78, 0, 0, 0, 85, 0, 0, 0, 92, 0, 0, 0, 99]
abbrev dktX0_ofJudge_1 : List UInt8 := dkwX0_ofJudge_1 ++ dktX0_ofJudge_2
def dkwX0_ofJudge_0 : List UInt8 := [29]
abbrev dktX0_ofJudge_0 : List UInt8 := dkwX0_ofJudge_0 ++ dktX0_ofJudge_1
theorem dksX0_ofJudge_0 : cX0_ofJudge.data.toList.drop 0 = dktX0_ofJudge_0 := by decide +kernel
theorem dksX0_ofJudge_1 : cX0_ofJudge.data.toList.drop 1 = dktX0_ofJudge_1 := dk_seg dksX0_ofJudge_0 1 rfl rfl
theorem dksX0_ofJudge_2 : cX0_ofJudge.data.toList.drop 44 = dktX0_ofJudge_2 := dk_seg dksX0_ofJudge_1 43 rfl rfl
theorem dksX0_ofJudge_3 : cX0_ofJudge.data.toList.drop 67 = dktX0_ofJudge_3 := dk_seg dksX0_ofJudge_2 23 rfl rfl
theorem dksX0_ofJudge_4 : cX0_ofJudge.data.toList.drop 91 = dktX0_ofJudge_4 := dk_seg dksX0_ofJudge_3 24 rfl rfl
theorem dX0_ofJudge_0 : decode cX0_ofJudge 0 = .ok (.iload_n 3, 1) := dk_29 (dk_at dksX0_ofJudge_0 0 rfl rfl)
theorem dX0_ofJudge_1 : decode cX0_ofJudge 1 = .ok (.tableswitch 106 5 11 #[43, 65, 72, 78, 85, 92, 99], 43) := by decide +kernel
theorem dX0_ofJudge_44 : decode cX0_ofJudge 44 = .ok (.aload_n 1, 1) := dk_43 (dk_at dksX0_ofJudge_2 0 rfl rfl)
theorem dX0_ofJudge_45 : decode cX0_ofJudge 45 = .ok (.aload_n 0, 1) := dk_42 (dk_at dksX0_ofJudge_2 1 rfl rfl)
theorem dX0_ofJudge_46 : decode cX0_ofJudge 46 = .ok (.getfield 16, 3) := dk_180 0 16 (dk_at dksX0_ofJudge_2 2 rfl rfl)
theorem dX0_ofJudge_49 : decode cX0_ofJudge 49 = .ok (.getfield 74, 3) := dk_180 0 74 (dk_at dksX0_ofJudge_2 5 rfl rfl)
theorem dX0_ofJudge_52 : decode cX0_ofJudge 52 = .ok (.iload_n 2, 1) := dk_28 (dk_at dksX0_ofJudge_2 8 rfl rfl)
theorem dX0_ofJudge_53 : decode cX0_ofJudge 53 = .ok (.invokeinterface 80 2, 5) := by decide +kernel
theorem dX0_ofJudge_58 : decode cX0_ofJudge 58 = .ok (.checkcast 83, 3) := dk_192 0 83 (dk_at dksX0_ofJudge_2 14 rfl rfl)
theorem dX0_ofJudge_61 : decode cX0_ofJudge 61 = .ok (.iconst 0, 1) := dk_3 (dk_at dksX0_ofJudge_2 17 rfl rfl)
theorem dX0_ofJudge_62 : decode cX0_ofJudge 62 = .ok (.invokevirtual 173, 3) := dk_182 0 173 (dk_at dksX0_ofJudge_2 18 rfl rfl)
theorem dX0_ofJudge_65 : decode cX0_ofJudge 65 = .ok (.ireturn, 1) := dk_172 (dk_at dksX0_ofJudge_2 21 rfl rfl)
theorem dX0_ofJudge_66 : decode cX0_ofJudge 66 = .ok (.aload_n 1, 1) := dk_43 (dk_at dksX0_ofJudge_2 22 rfl rfl)
theorem dX0_ofJudge_67 : decode cX0_ofJudge 67 = .ok (.getfield 177, 3) := dk_180 0 177 (dk_at dksX0_ofJudge_3 0 rfl rfl)
theorem dX0_ofJudge_70 : decode cX0_ofJudge 70 = .ok (.iload_n 2, 1) := dk_28 (dk_at dksX0_ofJudge_3 3 rfl rfl)
theorem dX0_ofJudge_71 : decode cX0_ofJudge 71 = .ok (.iaload, 1) := dk_46 (dk_at dksX0_ofJudge_3 4 rfl rfl)
theorem dX0_ofJudge_72 : decode cX0_ofJudge 72 = .ok (.ireturn, 1) := dk_172 (dk_at dksX0_ofJudge_3 5 rfl rfl)
theorem dX0_ofJudge_73 : decode cX0_ofJudge 73 = .ok (.aload_n 1, 1) := dk_43 (dk_at dksX0_ofJudge_3 6 rfl rfl)
theorem dX0_ofJudge_74 : decode cX0_ofJudge 74 = .ok (.iload_n 2, 1) := dk_28 (dk_at dksX0_ofJudge_3 7 rfl rfl)
theorem dX0_ofJudge_75 : decode cX0_ofJudge 75 = .ok (.invokevirtual 180, 3) := dk_182 0 180 (dk_at dksX0_ofJudge_3 8 rfl rfl)
theorem dX0_ofJudge_78 : decode cX0_ofJudge 78 = .ok (.ireturn, 1) := dk_172 (dk_at dksX0_ofJudge_3 11 rfl rfl)
theorem dX0_ofJudge_79 : decode cX0_ofJudge 79 = .ok (.aload_n 1, 1) := dk_43 (dk_at dksX0_ofJudge_3 12 rfl rfl)
theorem dX0_ofJudge_80 : decode cX0_ofJudge 80 = .ok (.getfield 183, 3) := dk_180 0 183 (dk_at dksX0_ofJudge_3 13 rfl rfl)
theorem dX0_ofJudge_83 : decode cX0_ofJudge 83 = .ok (.iload_n 2, 1) := dk_28 (dk_at dksX0_ofJudge_3 16 rfl rfl)
theorem dX0_ofJudge_84 : decode cX0_ofJudge 84 = .ok (.iaload, 1) := dk_46 (dk_at dksX0_ofJudge_3 17 rfl rfl)
theorem dX0_ofJudge_85 : decode cX0_ofJudge 85 = .ok (.ireturn, 1) := dk_172 (dk_at dksX0_ofJudge_3 18 rfl rfl)
theorem dX0_ofJudge_86 : decode cX0_ofJudge 86 = .ok (.aload_n 1, 1) := dk_43 (dk_at dksX0_ofJudge_3 19 rfl rfl)
theorem dX0_ofJudge_87 : decode cX0_ofJudge 87 = .ok (.getfield 186, 3) := dk_180 0 186 (dk_at dksX0_ofJudge_3 20 rfl rfl)
theorem dX0_ofJudge_90 : decode cX0_ofJudge 90 = .ok (.iload_n 2, 1) := dk_28 (dk_at dksX0_ofJudge_3 23 rfl rfl)
theorem dX0_ofJudge_91 : decode cX0_ofJudge 91 = .ok (.iaload, 1) := dk_46 (dk_at dksX0_ofJudge_4 0 rfl rfl)
theorem dX0_ofJudge_92 : decode cX0_ofJudge 92 = .ok (.ireturn, 1) := dk_172 (dk_at dksX0_ofJudge_4 1 rfl rfl)
theorem dX0_ofJudge_93 : decode cX0_ofJudge 93 = .ok (.aload_n 1, 1) := dk_43 (dk_at dksX0_ofJudge_4 2 rfl rfl)
theorem dX0_ofJudge_94 : decode cX0_ofJudge 94 = .ok (.getfield 189, 3) := dk_180 0 189 (dk_at dksX0_ofJudge_4 3 rfl rfl)
theorem dX0_ofJudge_97 : decode cX0_ofJudge 97 = .ok (.iload_n 2, 1) := dk_28 (dk_at dksX0_ofJudge_4 6 rfl rfl)
theorem dX0_ofJudge_98 : decode cX0_ofJudge 98 = .ok (.iaload, 1) := dk_46 (dk_at dksX0_ofJudge_4 7 rfl rfl)
theorem dX0_ofJudge_99 : decode cX0_ofJudge 99 = .ok (.ireturn, 1) := dk_172 (dk_at dksX0_ofJudge_4 8 rfl rfl)
theorem dX0_ofJudge_100 : decode cX0_ofJudge 100 = .ok (.aload_n 1, 1) := dk_43 (dk_at dksX0_ofJudge_4 9 rfl rfl)
theorem dX0_ofJudge_101 : decode cX0_ofJudge 101 = .ok (.getfield 192, 3) := dk_180 0 192 (dk_at dksX0_ofJudge_4 10 rfl rfl)
theorem dX0_ofJudge_104 : decode cX0_ofJudge 104 = .ok (.iload_n 2, 1) := dk_28 (dk_at dksX0_ofJudge_4 13 rfl rfl)
theorem dX0_ofJudge_105 : decode cX0_ofJudge 105 = .ok (.iaload, 1) := dk_46 (dk_at dksX0_ofJudge_4 14 rfl rfl)
theorem dX0_ofJudge_106 : decode cX0_ofJudge 106 = .ok (.ireturn, 1) := dk_172 (dk_at dksX0_ofJudge_4 15 rfl rfl)
theorem dX0_ofJudge_107 : decode cX0_ofJudge 107 = .ok (.bipush (-2), 2) := dk_16 254 (dk_at dksX0_ofJudge_4 16 rfl rfl)
theorem dX0_ofJudge_109 : decode cX0_ofJudge 109 = .ok (.ireturn, 1) := dk_172 (dk_at dksX0_ofJudge_4 18 rfl rfl)
abbrev cX0_wanted : ByteArray := prog_1_method_25_code
def yX0_wanted : MethodName := ⟨RX0, "wanted", "(I)I"⟩
def dkwX0_wanted_1 : List UInt8 := [16, 251, 167, 0, 8, 44, 27, 182, 0, 164, 172]
abbrev dktX0_wanted_1 : List UInt8 := dkwX0_wanted_1 ++ []
def dkwX0_wanted_0 : List UInt8 := [27, 184, 0, 141, 154, 0, 6, 16, 254, 172, 42, 180, 0, 16, 27, 182, 0, 209, 77, 44, 199, 0, 8]
abbrev dktX0_wanted_0 : List UInt8 := dkwX0_wanted_0 ++ dktX0_wanted_1
theorem dksX0_wanted_0 : cX0_wanted.data.toList.drop 0 = dktX0_wanted_0 := by decide +kernel
theorem dksX0_wanted_1 : cX0_wanted.data.toList.drop 23 = dktX0_wanted_1 := dk_seg dksX0_wanted_0 23 rfl rfl
theorem dX0_wanted_0 : decode cX0_wanted 0 = .ok (.iload_n 1, 1) := dk_27 (dk_at dksX0_wanted_0 0 rfl rfl)
theorem dX0_wanted_1 : decode cX0_wanted 1 = .ok (.invokestatic 141, 3) := dk_184 0 141 (dk_at dksX0_wanted_0 1 rfl rfl)
theorem dX0_wanted_4 : decode cX0_wanted 4 = .ok (.ifCond .ne 6, 3) := dk_154 0 6 (dk_at dksX0_wanted_0 4 rfl rfl)
theorem dX0_wanted_7 : decode cX0_wanted 7 = .ok (.bipush (-2), 2) := dk_16 254 (dk_at dksX0_wanted_0 7 rfl rfl)
theorem dX0_wanted_9 : decode cX0_wanted 9 = .ok (.ireturn, 1) := dk_172 (dk_at dksX0_wanted_0 9 rfl rfl)
theorem dX0_wanted_10 : decode cX0_wanted 10 = .ok (.aload_n 0, 1) := dk_42 (dk_at dksX0_wanted_0 10 rfl rfl)
theorem dX0_wanted_11 : decode cX0_wanted 11 = .ok (.getfield 16, 3) := dk_180 0 16 (dk_at dksX0_wanted_0 11 rfl rfl)
theorem dX0_wanted_14 : decode cX0_wanted 14 = .ok (.iload_n 1, 1) := dk_27 (dk_at dksX0_wanted_0 14 rfl rfl)
theorem dX0_wanted_15 : decode cX0_wanted 15 = .ok (.invokevirtual 209, 3) := dk_182 0 209 (dk_at dksX0_wanted_0 15 rfl rfl)
theorem dX0_wanted_18 : decode cX0_wanted 18 = .ok (.astore_n 2, 1) := dk_77 (dk_at dksX0_wanted_0 18 rfl rfl)
theorem dX0_wanted_19 : decode cX0_wanted 19 = .ok (.aload_n 2, 1) := dk_44 (dk_at dksX0_wanted_0 19 rfl rfl)
theorem dX0_wanted_20 : decode cX0_wanted 20 = .ok (.ifnonnull 8, 3) := dk_199 0 8 (dk_at dksX0_wanted_0 20 rfl rfl)
theorem dX0_wanted_23 : decode cX0_wanted 23 = .ok (.bipush (-5), 2) := dk_16 251 (dk_at dksX0_wanted_1 0 rfl rfl)
theorem dX0_wanted_25 : decode cX0_wanted 25 = .ok (.goto 8, 3) := dk_167 0 8 (dk_at dksX0_wanted_1 2 rfl rfl)
theorem dX0_wanted_28 : decode cX0_wanted 28 = .ok (.aload_n 2, 1) := dk_44 (dk_at dksX0_wanted_1 5 rfl rfl)
theorem dX0_wanted_29 : decode cX0_wanted 29 = .ok (.iload_n 1, 1) := dk_27 (dk_at dksX0_wanted_1 6 rfl rfl)
theorem dX0_wanted_30 : decode cX0_wanted 30 = .ok (.invokevirtual 164, 3) := dk_182 0 164 (dk_at dksX0_wanted_1 7 rfl rfl)
theorem dX0_wanted_33 : decode cX0_wanted 33 = .ok (.ireturn, 1) := dk_172 (dk_at dksX0_wanted_1 10 rfl rfl)
abbrev cX0_sung : ByteArray := prog_1_method_26_code
def yX0_sung : MethodName := ⟨RX0, "sung", "(I)I"⟩
def dkwX0_sung_1 : List UInt8 := [16, 251, 167, 0, 12, 42, 180, 0, 16, 180, 0, 50, 27, 46, 172]
abbrev dktX0_sung_1 : List UInt8 := dkwX0_sung_1 ++ []
def dkwX0_sung_0 : List UInt8 := [27, 184, 0, 141, 154, 0, 6, 16, 254, 172, 42, 180, 0, 16, 180, 0, 50, 27, 46, 2, 160, 0, 8]
abbrev dktX0_sung_0 : List UInt8 := dkwX0_sung_0 ++ dktX0_sung_1
theorem dksX0_sung_0 : cX0_sung.data.toList.drop 0 = dktX0_sung_0 := by decide +kernel
theorem dksX0_sung_1 : cX0_sung.data.toList.drop 23 = dktX0_sung_1 := dk_seg dksX0_sung_0 23 rfl rfl
theorem dX0_sung_0 : decode cX0_sung 0 = .ok (.iload_n 1, 1) := dk_27 (dk_at dksX0_sung_0 0 rfl rfl)
theorem dX0_sung_1 : decode cX0_sung 1 = .ok (.invokestatic 141, 3) := dk_184 0 141 (dk_at dksX0_sung_0 1 rfl rfl)
theorem dX0_sung_4 : decode cX0_sung 4 = .ok (.ifCond .ne 6, 3) := dk_154 0 6 (dk_at dksX0_sung_0 4 rfl rfl)
theorem dX0_sung_7 : decode cX0_sung 7 = .ok (.bipush (-2), 2) := dk_16 254 (dk_at dksX0_sung_0 7 rfl rfl)
theorem dX0_sung_9 : decode cX0_sung 9 = .ok (.ireturn, 1) := dk_172 (dk_at dksX0_sung_0 9 rfl rfl)
theorem dX0_sung_10 : decode cX0_sung 10 = .ok (.aload_n 0, 1) := dk_42 (dk_at dksX0_sung_0 10 rfl rfl)
theorem dX0_sung_11 : decode cX0_sung 11 = .ok (.getfield 16, 3) := dk_180 0 16 (dk_at dksX0_sung_0 11 rfl rfl)
theorem dX0_sung_14 : decode cX0_sung 14 = .ok (.getfield 50, 3) := dk_180 0 50 (dk_at dksX0_sung_0 14 rfl rfl)
theorem dX0_sung_17 : decode cX0_sung 17 = .ok (.iload_n 1, 1) := dk_27 (dk_at dksX0_sung_0 17 rfl rfl)
theorem dX0_sung_18 : decode cX0_sung 18 = .ok (.iaload, 1) := dk_46 (dk_at dksX0_sung_0 18 rfl rfl)
theorem dX0_sung_19 : decode cX0_sung 19 = .ok (.iconst (-1), 1) := dk_2 (dk_at dksX0_sung_0 19 rfl rfl)
theorem dX0_sung_20 : decode cX0_sung 20 = .ok (.if_icmp .ne 8, 3) := dk_160 0 8 (dk_at dksX0_sung_0 20 rfl rfl)
theorem dX0_sung_23 : decode cX0_sung 23 = .ok (.bipush (-5), 2) := dk_16 251 (dk_at dksX0_sung_1 0 rfl rfl)
theorem dX0_sung_25 : decode cX0_sung 25 = .ok (.goto 12, 3) := dk_167 0 12 (dk_at dksX0_sung_1 2 rfl rfl)
theorem dX0_sung_28 : decode cX0_sung 28 = .ok (.aload_n 0, 1) := dk_42 (dk_at dksX0_sung_1 5 rfl rfl)
theorem dX0_sung_29 : decode cX0_sung 29 = .ok (.getfield 16, 3) := dk_180 0 16 (dk_at dksX0_sung_1 6 rfl rfl)
theorem dX0_sung_32 : decode cX0_sung 32 = .ok (.getfield 50, 3) := dk_180 0 50 (dk_at dksX0_sung_1 9 rfl rfl)
theorem dX0_sung_35 : decode cX0_sung 35 = .ok (.iload_n 1, 1) := dk_27 (dk_at dksX0_sung_1 12 rfl rfl)
theorem dX0_sung_36 : decode cX0_sung 36 = .ok (.iaload, 1) := dk_46 (dk_at dksX0_sung_1 13 rfl rfl)
theorem dX0_sung_37 : decode cX0_sung 37 = .ok (.ireturn, 1) := dk_172 (dk_at dksX0_sung_1 14 rfl rfl)
abbrev cX0_lit : ByteArray := prog_1_method_27_code
def yX0_lit : MethodName := ⟨RX0, "lit", "(II)I"⟩
def dkwX0_lit_2 : List UInt8 := [4, 96, 184, 0, 213, 184, 0, 219, 172]
abbrev dktX0_lit_2 : List UInt8 := dkwX0_lit_2 ++ []
def dkwX0_lit_1 : List UInt8 := [180, 0, 74, 27, 185, 0, 80, 2, 0, 192, 0, 83, 78, 3, 45, 180, 0, 195, 28, 45, 180, 0, 85, 100]
abbrev dktX0_lit_1 : List UInt8 := dkwX0_lit_1 ++ dktX0_lit_2
def dkwX0_lit_0 : List UInt8 := [42, 27, 182, 0, 158, 154, 0, 5, 2, 172, 28, 184, 0, 141, 154, 0, 6, 16, 254, 172, 42, 180, 0, 16]
abbrev dktX0_lit_0 : List UInt8 := dkwX0_lit_0 ++ dktX0_lit_1
theorem dksX0_lit_0 : cX0_lit.data.toList.drop 0 = dktX0_lit_0 := by decide +kernel
theorem dksX0_lit_1 : cX0_lit.data.toList.drop 24 = dktX0_lit_1 := dk_seg dksX0_lit_0 24 rfl rfl
theorem dksX0_lit_2 : cX0_lit.data.toList.drop 48 = dktX0_lit_2 := dk_seg dksX0_lit_1 24 rfl rfl
theorem dX0_lit_0 : decode cX0_lit 0 = .ok (.aload_n 0, 1) := dk_42 (dk_at dksX0_lit_0 0 rfl rfl)
theorem dX0_lit_1 : decode cX0_lit 1 = .ok (.iload_n 1, 1) := dk_27 (dk_at dksX0_lit_0 1 rfl rfl)
theorem dX0_lit_2 : decode cX0_lit 2 = .ok (.invokevirtual 158, 3) := dk_182 0 158 (dk_at dksX0_lit_0 2 rfl rfl)
theorem dX0_lit_5 : decode cX0_lit 5 = .ok (.ifCond .ne 5, 3) := dk_154 0 5 (dk_at dksX0_lit_0 5 rfl rfl)
theorem dX0_lit_8 : decode cX0_lit 8 = .ok (.iconst (-1), 1) := dk_2 (dk_at dksX0_lit_0 8 rfl rfl)
theorem dX0_lit_9 : decode cX0_lit 9 = .ok (.ireturn, 1) := dk_172 (dk_at dksX0_lit_0 9 rfl rfl)
theorem dX0_lit_10 : decode cX0_lit 10 = .ok (.iload_n 2, 1) := dk_28 (dk_at dksX0_lit_0 10 rfl rfl)
theorem dX0_lit_11 : decode cX0_lit 11 = .ok (.invokestatic 141, 3) := dk_184 0 141 (dk_at dksX0_lit_0 11 rfl rfl)
theorem dX0_lit_14 : decode cX0_lit 14 = .ok (.ifCond .ne 6, 3) := dk_154 0 6 (dk_at dksX0_lit_0 14 rfl rfl)
theorem dX0_lit_17 : decode cX0_lit 17 = .ok (.bipush (-2), 2) := dk_16 254 (dk_at dksX0_lit_0 17 rfl rfl)
theorem dX0_lit_19 : decode cX0_lit 19 = .ok (.ireturn, 1) := dk_172 (dk_at dksX0_lit_0 19 rfl rfl)
theorem dX0_lit_20 : decode cX0_lit 20 = .ok (.aload_n 0, 1) := dk_42 (dk_at dksX0_lit_0 20 rfl rfl)
theorem dX0_lit_21 : decode cX0_lit 21 = .ok (.getfield 16, 3) := dk_180 0 16 (dk_at dksX0_lit_0 21 rfl rfl)
theorem dX0_lit_24 : decode cX0_lit 24 = .ok (.getfield 74, 3) := dk_180 0 74 (dk_at dksX0_lit_1 0 rfl rfl)
theorem dX0_lit_27 : decode cX0_lit 27 = .ok (.iload_n 1, 1) := dk_27 (dk_at dksX0_lit_1 3 rfl rfl)
theorem dX0_lit_28 : decode cX0_lit 28 = .ok (.invokeinterface 80 2, 5) := by decide +kernel
theorem dX0_lit_33 : decode cX0_lit 33 = .ok (.checkcast 83, 3) := dk_192 0 83 (dk_at dksX0_lit_1 9 rfl rfl)
theorem dX0_lit_36 : decode cX0_lit 36 = .ok (.astore_n 3, 1) := dk_78 (dk_at dksX0_lit_1 12 rfl rfl)
theorem dX0_lit_37 : decode cX0_lit 37 = .ok (.iconst 0, 1) := dk_3 (dk_at dksX0_lit_1 13 rfl rfl)
theorem dX0_lit_38 : decode cX0_lit 38 = .ok (.aload_n 3, 1) := dk_45 (dk_at dksX0_lit_1 14 rfl rfl)
theorem dX0_lit_39 : decode cX0_lit 39 = .ok (.getfield 195, 3) := dk_180 0 195 (dk_at dksX0_lit_1 15 rfl rfl)
theorem dX0_lit_42 : decode cX0_lit 42 = .ok (.iload_n 2, 1) := dk_28 (dk_at dksX0_lit_1 18 rfl rfl)
theorem dX0_lit_43 : decode cX0_lit 43 = .ok (.aload_n 3, 1) := dk_45 (dk_at dksX0_lit_1 19 rfl rfl)
theorem dX0_lit_44 : decode cX0_lit 44 = .ok (.getfield 85, 3) := dk_180 0 85 (dk_at dksX0_lit_1 20 rfl rfl)
theorem dX0_lit_47 : decode cX0_lit 47 = .ok (.isub, 1) := dk_100 (dk_at dksX0_lit_1 23 rfl rfl)
theorem dX0_lit_48 : decode cX0_lit 48 = .ok (.iconst 1, 1) := dk_4 (dk_at dksX0_lit_2 0 rfl rfl)
theorem dX0_lit_49 : decode cX0_lit 49 = .ok (.iadd, 1) := dk_96 (dk_at dksX0_lit_2 1 rfl rfl)
theorem dX0_lit_50 : decode cX0_lit 50 = .ok (.invokestatic 213, 3) := dk_184 0 213 (dk_at dksX0_lit_2 2 rfl rfl)
theorem dX0_lit_53 : decode cX0_lit 53 = .ok (.invokestatic 219, 3) := dk_184 0 219 (dk_at dksX0_lit_2 5 rfl rfl)
theorem dX0_lit_56 : decode cX0_lit 56 = .ok (.ireturn, 1) := dk_172 (dk_at dksX0_lit_2 8 rfl rfl)
abbrev cX0_phrase : ByteArray := prog_1_method_28_code
def yX0_phrase : MethodName := ⟨RX0, "phrase", "(II)I"⟩
def dkwX0_phrase_4 : List UInt8 := [45, 27, 182, 0, 233, 172, 16, 254, 172]
abbrev dktX0_phrase_4 : List UInt8 := dkwX0_phrase_4 ++ []
def dkwX0_phrase_3 : List UInt8 := [45, 27, 182, 0, 225, 172, 45, 27, 182, 0, 228, 172, 45, 27, 182, 0, 154, 172, 45, 27, 182, 0, 230, 172]
abbrev dktX0_phrase_3 : List UInt8 := dkwX0_phrase_3 ++ dktX0_phrase_4
def dkwX0_phrase_2 : List UInt8 := [170, 0, 0, 0, 0, 0, 65, 0, 0, 0, 0, 0, 0, 0, 4, 0, 0, 0, 35, 0, 0, 0, 41, 0, 0, 0, 47, 0, 0, 0, 53, 0, 0, 0, 59]
abbrev dktX0_phrase_2 : List UInt8 := dkwX0_phrase_2 ++ dktX0_phrase_3
def dkwX0_phrase_1 : List UInt8 := [28]
abbrev dktX0_phrase_1 : List UInt8 := dkwX0_phrase_1 ++ dktX0_phrase_2
def dkwX0_phrase_0 : List UInt8 := [27, 3, 42, 180, 0, 16, 182, 0, 222, 4, 100, 184, 0, 3, 154, 0, 5, 2, 172, 42, 182, 0, 150, 78]
abbrev dktX0_phrase_0 : List UInt8 := dkwX0_phrase_0 ++ dktX0_phrase_1
theorem dksX0_phrase_0 : cX0_phrase.data.toList.drop 0 = dktX0_phrase_0 := by decide +kernel
theorem dksX0_phrase_1 : cX0_phrase.data.toList.drop 24 = dktX0_phrase_1 := dk_seg dksX0_phrase_0 24 rfl rfl
theorem dksX0_phrase_2 : cX0_phrase.data.toList.drop 25 = dktX0_phrase_2 := dk_seg dksX0_phrase_1 1 rfl rfl
theorem dksX0_phrase_3 : cX0_phrase.data.toList.drop 60 = dktX0_phrase_3 := dk_seg dksX0_phrase_2 35 rfl rfl
theorem dksX0_phrase_4 : cX0_phrase.data.toList.drop 84 = dktX0_phrase_4 := dk_seg dksX0_phrase_3 24 rfl rfl
theorem dX0_phrase_0 : decode cX0_phrase 0 = .ok (.iload_n 1, 1) := dk_27 (dk_at dksX0_phrase_0 0 rfl rfl)
theorem dX0_phrase_1 : decode cX0_phrase 1 = .ok (.iconst 0, 1) := dk_3 (dk_at dksX0_phrase_0 1 rfl rfl)
theorem dX0_phrase_2 : decode cX0_phrase 2 = .ok (.aload_n 0, 1) := dk_42 (dk_at dksX0_phrase_0 2 rfl rfl)
theorem dX0_phrase_3 : decode cX0_phrase 3 = .ok (.getfield 16, 3) := dk_180 0 16 (dk_at dksX0_phrase_0 3 rfl rfl)
theorem dX0_phrase_6 : decode cX0_phrase 6 = .ok (.invokevirtual 222, 3) := dk_182 0 222 (dk_at dksX0_phrase_0 6 rfl rfl)
theorem dX0_phrase_9 : decode cX0_phrase 9 = .ok (.iconst 1, 1) := dk_4 (dk_at dksX0_phrase_0 9 rfl rfl)
theorem dX0_phrase_10 : decode cX0_phrase 10 = .ok (.isub, 1) := dk_100 (dk_at dksX0_phrase_0 10 rfl rfl)
theorem dX0_phrase_11 : decode cX0_phrase 11 = .ok (.invokestatic 3, 3) := dk_184 0 3 (dk_at dksX0_phrase_0 11 rfl rfl)
theorem dX0_phrase_14 : decode cX0_phrase 14 = .ok (.ifCond .ne 5, 3) := dk_154 0 5 (dk_at dksX0_phrase_0 14 rfl rfl)
theorem dX0_phrase_17 : decode cX0_phrase 17 = .ok (.iconst (-1), 1) := dk_2 (dk_at dksX0_phrase_0 17 rfl rfl)
theorem dX0_phrase_18 : decode cX0_phrase 18 = .ok (.ireturn, 1) := dk_172 (dk_at dksX0_phrase_0 18 rfl rfl)
theorem dX0_phrase_19 : decode cX0_phrase 19 = .ok (.aload_n 0, 1) := dk_42 (dk_at dksX0_phrase_0 19 rfl rfl)
theorem dX0_phrase_20 : decode cX0_phrase 20 = .ok (.invokevirtual 150, 3) := dk_182 0 150 (dk_at dksX0_phrase_0 20 rfl rfl)
theorem dX0_phrase_23 : decode cX0_phrase 23 = .ok (.astore_n 3, 1) := dk_78 (dk_at dksX0_phrase_0 23 rfl rfl)
theorem dX0_phrase_24 : decode cX0_phrase 24 = .ok (.iload_n 2, 1) := dk_28 (dk_at dksX0_phrase_1 0 rfl rfl)
theorem dX0_phrase_25 : decode cX0_phrase 25 = .ok (.tableswitch 65 0 4 #[35, 41, 47, 53, 59], 35) := by decide +kernel
theorem dX0_phrase_60 : decode cX0_phrase 60 = .ok (.aload_n 3, 1) := dk_45 (dk_at dksX0_phrase_3 0 rfl rfl)
theorem dX0_phrase_61 : decode cX0_phrase 61 = .ok (.iload_n 1, 1) := dk_27 (dk_at dksX0_phrase_3 1 rfl rfl)
theorem dX0_phrase_62 : decode cX0_phrase 62 = .ok (.invokevirtual 225, 3) := dk_182 0 225 (dk_at dksX0_phrase_3 2 rfl rfl)
theorem dX0_phrase_65 : decode cX0_phrase 65 = .ok (.ireturn, 1) := dk_172 (dk_at dksX0_phrase_3 5 rfl rfl)
theorem dX0_phrase_66 : decode cX0_phrase 66 = .ok (.aload_n 3, 1) := dk_45 (dk_at dksX0_phrase_3 6 rfl rfl)
theorem dX0_phrase_67 : decode cX0_phrase 67 = .ok (.iload_n 1, 1) := dk_27 (dk_at dksX0_phrase_3 7 rfl rfl)
theorem dX0_phrase_68 : decode cX0_phrase 68 = .ok (.invokevirtual 228, 3) := dk_182 0 228 (dk_at dksX0_phrase_3 8 rfl rfl)
theorem dX0_phrase_71 : decode cX0_phrase 71 = .ok (.ireturn, 1) := dk_172 (dk_at dksX0_phrase_3 11 rfl rfl)
theorem dX0_phrase_72 : decode cX0_phrase 72 = .ok (.aload_n 3, 1) := dk_45 (dk_at dksX0_phrase_3 12 rfl rfl)
theorem dX0_phrase_73 : decode cX0_phrase 73 = .ok (.iload_n 1, 1) := dk_27 (dk_at dksX0_phrase_3 13 rfl rfl)
theorem dX0_phrase_74 : decode cX0_phrase 74 = .ok (.invokevirtual 154, 3) := dk_182 0 154 (dk_at dksX0_phrase_3 14 rfl rfl)
theorem dX0_phrase_77 : decode cX0_phrase 77 = .ok (.ireturn, 1) := dk_172 (dk_at dksX0_phrase_3 17 rfl rfl)
theorem dX0_phrase_78 : decode cX0_phrase 78 = .ok (.aload_n 3, 1) := dk_45 (dk_at dksX0_phrase_3 18 rfl rfl)
theorem dX0_phrase_79 : decode cX0_phrase 79 = .ok (.iload_n 1, 1) := dk_27 (dk_at dksX0_phrase_3 19 rfl rfl)
theorem dX0_phrase_80 : decode cX0_phrase 80 = .ok (.invokevirtual 230, 3) := dk_182 0 230 (dk_at dksX0_phrase_3 20 rfl rfl)
theorem dX0_phrase_83 : decode cX0_phrase 83 = .ok (.ireturn, 1) := dk_172 (dk_at dksX0_phrase_3 23 rfl rfl)
theorem dX0_phrase_84 : decode cX0_phrase 84 = .ok (.aload_n 3, 1) := dk_45 (dk_at dksX0_phrase_4 0 rfl rfl)
theorem dX0_phrase_85 : decode cX0_phrase 85 = .ok (.iload_n 1, 1) := dk_27 (dk_at dksX0_phrase_4 1 rfl rfl)
theorem dX0_phrase_86 : decode cX0_phrase 86 = .ok (.invokevirtual 233, 3) := dk_182 0 233 (dk_at dksX0_phrase_4 2 rfl rfl)
theorem dX0_phrase_89 : decode cX0_phrase 89 = .ok (.ireturn, 1) := dk_172 (dk_at dksX0_phrase_4 5 rfl rfl)
theorem dX0_phrase_90 : decode cX0_phrase 90 = .ok (.bipush (-2), 2) := dk_16 254 (dk_at dksX0_phrase_4 6 rfl rfl)
theorem dX0_phrase_92 : decode cX0_phrase 92 = .ok (.ireturn, 1) := dk_172 (dk_at dksX0_phrase_4 8 rfl rfl)
abbrev cX0_total : ByteArray := prog_1_method_30_code
def yX0_total : MethodName := ⟨RX0, "total", "(I)I"⟩
def dkwX0_total_5 : List UInt8 := [185, 0, 31, 1, 0, 172, 42, 180, 0, 167, 172, 16, 254, 172]
abbrev dktX0_total_5 : List UInt8 := dkwX0_total_5 ++ []
def dkwX0_total_4 : List UInt8 := [182, 0, 154, 172, 42, 182, 0, 150, 182, 0, 244, 172, 42, 182, 0, 150, 182, 0, 247, 172, 42, 180, 0, 23]
abbrev dktX0_total_4 : List UInt8 := dkwX0_total_4 ++ dktX0_total_5
def dkwX0_total_3 : List UInt8 := [42, 27, 16, 9, 160, 0, 7, 4, 167, 0, 4, 3, 182, 0, 240, 172, 42, 182, 0, 150, 16, 251]
abbrev dktX0_total_3 : List UInt8 := dkwX0_total_3 ++ dktX0_total_4
def dkwX0_total_2 : List UInt8 := [42, 180, 0, 16, 182, 0, 77, 172, 42, 180, 0, 16, 182, 0, 222, 172, 42, 180, 0, 16, 182, 0, 239, 172]
abbrev dktX0_total_2 : List UInt8 := dkwX0_total_2 ++ dktX0_total_3
def dkwX0_total_1 : List UInt8 := [170, 0, 0, 0, 0, 135, 0, 0, 0, 5, 0, 0, 0, 14, 0, 0, 0, 54, 0, 0, 0, 62, 0, 0, 0, 70, 0, 0, 0, 78, 0, 0, 0, 78, 0, 0, 0, 94, 0, 0, 0, 104, 0, 0, 0, 112, 0, 0, 0, 120, 0, 0, 0, 130]
abbrev dktX0_total_1 : List UInt8 := dkwX0_total_1 ++ dktX0_total_2
def dkwX0_total_0 : List UInt8 := [27, 184, 0, 131, 153, 0, 13, 42, 180, 0, 16, 180, 0, 138, 27, 46, 172, 27]
abbrev dktX0_total_0 : List UInt8 := dkwX0_total_0 ++ dktX0_total_1
theorem dksX0_total_0 : cX0_total.data.toList.drop 0 = dktX0_total_0 := by decide +kernel
theorem dksX0_total_1 : cX0_total.data.toList.drop 18 = dktX0_total_1 := dk_seg dksX0_total_0 18 rfl rfl
theorem dksX0_total_2 : cX0_total.data.toList.drop 72 = dktX0_total_2 := dk_seg dksX0_total_1 54 rfl rfl
theorem dksX0_total_3 : cX0_total.data.toList.drop 96 = dktX0_total_3 := dk_seg dksX0_total_2 24 rfl rfl
theorem dksX0_total_4 : cX0_total.data.toList.drop 118 = dktX0_total_4 := dk_seg dksX0_total_3 22 rfl rfl
theorem dksX0_total_5 : cX0_total.data.toList.drop 142 = dktX0_total_5 := dk_seg dksX0_total_4 24 rfl rfl
theorem dX0_total_0 : decode cX0_total 0 = .ok (.iload_n 1, 1) := dk_27 (dk_at dksX0_total_0 0 rfl rfl)
theorem dX0_total_1 : decode cX0_total 1 = .ok (.invokestatic 131, 3) := dk_184 0 131 (dk_at dksX0_total_0 1 rfl rfl)
theorem dX0_total_4 : decode cX0_total 4 = .ok (.ifCond .eq 13, 3) := dk_153 0 13 (dk_at dksX0_total_0 4 rfl rfl)
theorem dX0_total_7 : decode cX0_total 7 = .ok (.aload_n 0, 1) := dk_42 (dk_at dksX0_total_0 7 rfl rfl)
theorem dX0_total_8 : decode cX0_total 8 = .ok (.getfield 16, 3) := dk_180 0 16 (dk_at dksX0_total_0 8 rfl rfl)
theorem dX0_total_11 : decode cX0_total 11 = .ok (.getfield 138, 3) := dk_180 0 138 (dk_at dksX0_total_0 11 rfl rfl)
theorem dX0_total_14 : decode cX0_total 14 = .ok (.iload_n 1, 1) := dk_27 (dk_at dksX0_total_0 14 rfl rfl)
theorem dX0_total_15 : decode cX0_total 15 = .ok (.iaload, 1) := dk_46 (dk_at dksX0_total_0 15 rfl rfl)
theorem dX0_total_16 : decode cX0_total 16 = .ok (.ireturn, 1) := dk_172 (dk_at dksX0_total_0 16 rfl rfl)
theorem dX0_total_17 : decode cX0_total 17 = .ok (.iload_n 1, 1) := dk_27 (dk_at dksX0_total_0 17 rfl rfl)
theorem dX0_total_18 : decode cX0_total 18 = .ok (.tableswitch 135 5 14 #[54, 62, 70, 78, 78, 94, 104, 112, 120, 130], 54) := by decide +kernel
theorem dX0_total_72 : decode cX0_total 72 = .ok (.aload_n 0, 1) := dk_42 (dk_at dksX0_total_2 0 rfl rfl)
theorem dX0_total_73 : decode cX0_total 73 = .ok (.getfield 16, 3) := dk_180 0 16 (dk_at dksX0_total_2 1 rfl rfl)
theorem dX0_total_76 : decode cX0_total 76 = .ok (.invokevirtual 77, 3) := dk_182 0 77 (dk_at dksX0_total_2 4 rfl rfl)
theorem dX0_total_79 : decode cX0_total 79 = .ok (.ireturn, 1) := dk_172 (dk_at dksX0_total_2 7 rfl rfl)
theorem dX0_total_80 : decode cX0_total 80 = .ok (.aload_n 0, 1) := dk_42 (dk_at dksX0_total_2 8 rfl rfl)
theorem dX0_total_81 : decode cX0_total 81 = .ok (.getfield 16, 3) := dk_180 0 16 (dk_at dksX0_total_2 9 rfl rfl)
theorem dX0_total_84 : decode cX0_total 84 = .ok (.invokevirtual 222, 3) := dk_182 0 222 (dk_at dksX0_total_2 12 rfl rfl)
theorem dX0_total_87 : decode cX0_total 87 = .ok (.ireturn, 1) := dk_172 (dk_at dksX0_total_2 15 rfl rfl)
theorem dX0_total_88 : decode cX0_total 88 = .ok (.aload_n 0, 1) := dk_42 (dk_at dksX0_total_2 16 rfl rfl)
theorem dX0_total_89 : decode cX0_total 89 = .ok (.getfield 16, 3) := dk_180 0 16 (dk_at dksX0_total_2 17 rfl rfl)
theorem dX0_total_92 : decode cX0_total 92 = .ok (.invokevirtual 239, 3) := dk_182 0 239 (dk_at dksX0_total_2 20 rfl rfl)
theorem dX0_total_95 : decode cX0_total 95 = .ok (.ireturn, 1) := dk_172 (dk_at dksX0_total_2 23 rfl rfl)
theorem dX0_total_96 : decode cX0_total 96 = .ok (.aload_n 0, 1) := dk_42 (dk_at dksX0_total_3 0 rfl rfl)
theorem dX0_total_97 : decode cX0_total 97 = .ok (.iload_n 1, 1) := dk_27 (dk_at dksX0_total_3 1 rfl rfl)
theorem dX0_total_98 : decode cX0_total 98 = .ok (.bipush 9, 2) := dk_16 9 (dk_at dksX0_total_3 2 rfl rfl)
theorem dX0_total_100 : decode cX0_total 100 = .ok (.if_icmp .ne 7, 3) := dk_160 0 7 (dk_at dksX0_total_3 4 rfl rfl)
theorem dX0_total_103 : decode cX0_total 103 = .ok (.iconst 1, 1) := dk_4 (dk_at dksX0_total_3 7 rfl rfl)
theorem dX0_total_104 : decode cX0_total 104 = .ok (.goto 4, 3) := dk_167 0 4 (dk_at dksX0_total_3 8 rfl rfl)
theorem dX0_total_107 : decode cX0_total 107 = .ok (.iconst 0, 1) := dk_3 (dk_at dksX0_total_3 11 rfl rfl)
theorem dX0_total_108 : decode cX0_total 108 = .ok (.invokevirtual 240, 3) := dk_182 0 240 (dk_at dksX0_total_3 12 rfl rfl)
theorem dX0_total_111 : decode cX0_total 111 = .ok (.ireturn, 1) := dk_172 (dk_at dksX0_total_3 15 rfl rfl)
theorem dX0_total_112 : decode cX0_total 112 = .ok (.aload_n 0, 1) := dk_42 (dk_at dksX0_total_3 16 rfl rfl)
theorem dX0_total_113 : decode cX0_total 113 = .ok (.invokevirtual 150, 3) := dk_182 0 150 (dk_at dksX0_total_3 17 rfl rfl)
theorem dX0_total_116 : decode cX0_total 116 = .ok (.bipush (-5), 2) := dk_16 251 (dk_at dksX0_total_3 20 rfl rfl)
theorem dX0_total_118 : decode cX0_total 118 = .ok (.invokevirtual 154, 3) := dk_182 0 154 (dk_at dksX0_total_4 0 rfl rfl)
theorem dX0_total_121 : decode cX0_total 121 = .ok (.ireturn, 1) := dk_172 (dk_at dksX0_total_4 3 rfl rfl)
theorem dX0_total_122 : decode cX0_total 122 = .ok (.aload_n 0, 1) := dk_42 (dk_at dksX0_total_4 4 rfl rfl)
theorem dX0_total_123 : decode cX0_total 123 = .ok (.invokevirtual 150, 3) := dk_182 0 150 (dk_at dksX0_total_4 5 rfl rfl)
theorem dX0_total_126 : decode cX0_total 126 = .ok (.invokevirtual 244, 3) := dk_182 0 244 (dk_at dksX0_total_4 8 rfl rfl)
theorem dX0_total_129 : decode cX0_total 129 = .ok (.ireturn, 1) := dk_172 (dk_at dksX0_total_4 11 rfl rfl)
theorem dX0_total_130 : decode cX0_total 130 = .ok (.aload_n 0, 1) := dk_42 (dk_at dksX0_total_4 12 rfl rfl)
theorem dX0_total_131 : decode cX0_total 131 = .ok (.invokevirtual 150, 3) := dk_182 0 150 (dk_at dksX0_total_4 13 rfl rfl)
theorem dX0_total_134 : decode cX0_total 134 = .ok (.invokevirtual 247, 3) := dk_182 0 247 (dk_at dksX0_total_4 16 rfl rfl)
theorem dX0_total_137 : decode cX0_total 137 = .ok (.ireturn, 1) := dk_172 (dk_at dksX0_total_4 19 rfl rfl)
theorem dX0_total_138 : decode cX0_total 138 = .ok (.aload_n 0, 1) := dk_42 (dk_at dksX0_total_4 20 rfl rfl)
theorem dX0_total_139 : decode cX0_total 139 = .ok (.getfield 23, 3) := dk_180 0 23 (dk_at dksX0_total_4 21 rfl rfl)
theorem dX0_total_142 : decode cX0_total 142 = .ok (.invokeinterface 31 1, 5) := by decide +kernel
theorem dX0_total_147 : decode cX0_total 147 = .ok (.ireturn, 1) := dk_172 (dk_at dksX0_total_5 5 rfl rfl)
theorem dX0_total_148 : decode cX0_total 148 = .ok (.aload_n 0, 1) := dk_42 (dk_at dksX0_total_5 6 rfl rfl)
theorem dX0_total_149 : decode cX0_total 149 = .ok (.getfield 167, 3) := dk_180 0 167 (dk_at dksX0_total_5 7 rfl rfl)
theorem dX0_total_152 : decode cX0_total 152 = .ok (.ireturn, 1) := dk_172 (dk_at dksX0_total_5 10 rfl rfl)
theorem dX0_total_153 : decode cX0_total 153 = .ok (.bipush (-2), 2) := dk_16 254 (dk_at dksX0_total_5 11 rfl rfl)
theorem dX0_total_155 : decode cX0_total 155 = .ok (.ireturn, 1) := dk_172 (dk_at dksX0_total_5 13 rfl rfl)
abbrev cX0_sungTicks : ByteArray := prog_1_method_29_code
def yX0_sungTicks : MethodName := ⟨RX0, "sungTicks", "(Z)I"⟩
def dkwX0_sungTicks_2 : List UInt8 := [21, 4, 46, 2, 160, 0, 7, 3, 167, 0, 4, 4, 96, 62, 132, 4, 1, 167, 255, 202, 29, 172]
abbrev dktX0_sungTicks_2 : List UInt8 := dkwX0_sungTicks_2 ++ []
def dkwX0_sungTicks_1 : List UInt8 := [21, 4, 182, 0, 236, 153, 0, 7, 4, 167, 0, 26, 3, 167, 0, 22, 42, 180, 0, 16, 180, 0, 50]
abbrev dktX0_sungTicks_1 : List UInt8 := dkwX0_sungTicks_1 ++ dktX0_sungTicks_2
def dkwX0_sungTicks_0 : List UInt8 := [42, 182, 0, 150, 77, 3, 62, 3, 54, 4, 21, 4, 17, 2, 88, 162, 0, 52, 29, 27, 153, 0, 20, 44]
abbrev dktX0_sungTicks_0 : List UInt8 := dkwX0_sungTicks_0 ++ dktX0_sungTicks_1
theorem dksX0_sungTicks_0 : cX0_sungTicks.data.toList.drop 0 = dktX0_sungTicks_0 := by decide +kernel
theorem dksX0_sungTicks_1 : cX0_sungTicks.data.toList.drop 24 = dktX0_sungTicks_1 := dk_seg dksX0_sungTicks_0 24 rfl rfl
theorem dksX0_sungTicks_2 : cX0_sungTicks.data.toList.drop 47 = dktX0_sungTicks_2 := dk_seg dksX0_sungTicks_1 23 rfl rfl
theorem dX0_sungTicks_0 : decode cX0_sungTicks 0 = .ok (.aload_n 0, 1) := dk_42 (dk_at dksX0_sungTicks_0 0 rfl rfl)
theorem dX0_sungTicks_1 : decode cX0_sungTicks 1 = .ok (.invokevirtual 150, 3) := dk_182 0 150 (dk_at dksX0_sungTicks_0 1 rfl rfl)
theorem dX0_sungTicks_4 : decode cX0_sungTicks 4 = .ok (.astore_n 2, 1) := dk_77 (dk_at dksX0_sungTicks_0 4 rfl rfl)
theorem dX0_sungTicks_5 : decode cX0_sungTicks 5 = .ok (.iconst 0, 1) := dk_3 (dk_at dksX0_sungTicks_0 5 rfl rfl)
theorem dX0_sungTicks_6 : decode cX0_sungTicks 6 = .ok (.istore_n 3, 1) := dk_62 (dk_at dksX0_sungTicks_0 6 rfl rfl)
theorem dX0_sungTicks_7 : decode cX0_sungTicks 7 = .ok (.iconst 0, 1) := dk_3 (dk_at dksX0_sungTicks_0 7 rfl rfl)
theorem dX0_sungTicks_8 : decode cX0_sungTicks 8 = .ok (.istore 4, 2) := dk_54 4 (dk_at dksX0_sungTicks_0 8 rfl rfl)
theorem dX0_sungTicks_10 : decode cX0_sungTicks 10 = .ok (.iload 4, 2) := dk_21 4 (dk_at dksX0_sungTicks_0 10 rfl rfl)
theorem dX0_sungTicks_12 : decode cX0_sungTicks 12 = .ok (.sipush 600, 3) := dk_17 2 88 (dk_at dksX0_sungTicks_0 12 rfl rfl)
theorem dX0_sungTicks_15 : decode cX0_sungTicks 15 = .ok (.if_icmp .ge 52, 3) := dk_162 0 52 (dk_at dksX0_sungTicks_0 15 rfl rfl)
theorem dX0_sungTicks_18 : decode cX0_sungTicks 18 = .ok (.iload_n 3, 1) := dk_29 (dk_at dksX0_sungTicks_0 18 rfl rfl)
theorem dX0_sungTicks_19 : decode cX0_sungTicks 19 = .ok (.iload_n 1, 1) := dk_27 (dk_at dksX0_sungTicks_0 19 rfl rfl)
theorem dX0_sungTicks_20 : decode cX0_sungTicks 20 = .ok (.ifCond .eq 20, 3) := dk_153 0 20 (dk_at dksX0_sungTicks_0 20 rfl rfl)
theorem dX0_sungTicks_23 : decode cX0_sungTicks 23 = .ok (.aload_n 2, 1) := dk_44 (dk_at dksX0_sungTicks_0 23 rfl rfl)
theorem dX0_sungTicks_24 : decode cX0_sungTicks 24 = .ok (.iload 4, 2) := dk_21 4 (dk_at dksX0_sungTicks_1 0 rfl rfl)
theorem dX0_sungTicks_26 : decode cX0_sungTicks 26 = .ok (.invokevirtual 236, 3) := dk_182 0 236 (dk_at dksX0_sungTicks_1 2 rfl rfl)
theorem dX0_sungTicks_29 : decode cX0_sungTicks 29 = .ok (.ifCond .eq 7, 3) := dk_153 0 7 (dk_at dksX0_sungTicks_1 5 rfl rfl)
theorem dX0_sungTicks_32 : decode cX0_sungTicks 32 = .ok (.iconst 1, 1) := dk_4 (dk_at dksX0_sungTicks_1 8 rfl rfl)
theorem dX0_sungTicks_33 : decode cX0_sungTicks 33 = .ok (.goto 26, 3) := dk_167 0 26 (dk_at dksX0_sungTicks_1 9 rfl rfl)
theorem dX0_sungTicks_36 : decode cX0_sungTicks 36 = .ok (.iconst 0, 1) := dk_3 (dk_at dksX0_sungTicks_1 12 rfl rfl)
theorem dX0_sungTicks_37 : decode cX0_sungTicks 37 = .ok (.goto 22, 3) := dk_167 0 22 (dk_at dksX0_sungTicks_1 13 rfl rfl)
theorem dX0_sungTicks_40 : decode cX0_sungTicks 40 = .ok (.aload_n 0, 1) := dk_42 (dk_at dksX0_sungTicks_1 16 rfl rfl)
theorem dX0_sungTicks_41 : decode cX0_sungTicks 41 = .ok (.getfield 16, 3) := dk_180 0 16 (dk_at dksX0_sungTicks_1 17 rfl rfl)
theorem dX0_sungTicks_44 : decode cX0_sungTicks 44 = .ok (.getfield 50, 3) := dk_180 0 50 (dk_at dksX0_sungTicks_1 20 rfl rfl)
theorem dX0_sungTicks_47 : decode cX0_sungTicks 47 = .ok (.iload 4, 2) := dk_21 4 (dk_at dksX0_sungTicks_2 0 rfl rfl)
theorem dX0_sungTicks_49 : decode cX0_sungTicks 49 = .ok (.iaload, 1) := dk_46 (dk_at dksX0_sungTicks_2 2 rfl rfl)
theorem dX0_sungTicks_50 : decode cX0_sungTicks 50 = .ok (.iconst (-1), 1) := dk_2 (dk_at dksX0_sungTicks_2 3 rfl rfl)
theorem dX0_sungTicks_51 : decode cX0_sungTicks 51 = .ok (.if_icmp .ne 7, 3) := dk_160 0 7 (dk_at dksX0_sungTicks_2 4 rfl rfl)
theorem dX0_sungTicks_54 : decode cX0_sungTicks 54 = .ok (.iconst 0, 1) := dk_3 (dk_at dksX0_sungTicks_2 7 rfl rfl)
theorem dX0_sungTicks_55 : decode cX0_sungTicks 55 = .ok (.goto 4, 3) := dk_167 0 4 (dk_at dksX0_sungTicks_2 8 rfl rfl)
theorem dX0_sungTicks_58 : decode cX0_sungTicks 58 = .ok (.iconst 1, 1) := dk_4 (dk_at dksX0_sungTicks_2 11 rfl rfl)
theorem dX0_sungTicks_59 : decode cX0_sungTicks 59 = .ok (.iadd, 1) := dk_96 (dk_at dksX0_sungTicks_2 12 rfl rfl)
theorem dX0_sungTicks_60 : decode cX0_sungTicks 60 = .ok (.istore_n 3, 1) := dk_62 (dk_at dksX0_sungTicks_2 13 rfl rfl)
theorem dX0_sungTicks_61 : decode cX0_sungTicks 61 = .ok (.iinc 4 1, 3) := dk_132 4 1 (dk_at dksX0_sungTicks_2 14 rfl rfl)
theorem dX0_sungTicks_64 : decode cX0_sungTicks 64 = .ok (.goto (-54), 3) := dk_167 255 202 (dk_at dksX0_sungTicks_2 17 rfl rfl)
theorem dX0_sungTicks_67 : decode cX0_sungTicks 67 = .ok (.iload_n 3, 1) := dk_29 (dk_at dksX0_sungTicks_2 20 rfl rfl)
theorem dX0_sungTicks_68 : decode cX0_sungTicks 68 = .ok (.ireturn, 1) := dk_172 (dk_at dksX0_sungTicks_2 21 rfl rfl)
abbrev cX0_ifShifted : ByteArray := prog_1_method_32_code
def yX0_ifShifted : MethodName := ⟨RX0, "ifShifted", "(II)I"⟩
def dkwX0_ifShifted_2 : List UInt8 := [183, 0, 47, 45, 182, 0, 54, 182, 0, 244, 172]
abbrev dktX0_ifShifted_2 : List UInt8 := dkwX0_ifShifted_2 ++ []
def dkwX0_ifShifted_1 : List UInt8 := [172, 17, 2, 88, 188, 10, 78, 42, 45, 27, 28, 182, 0, 250, 187, 0, 45, 89, 42, 180, 0, 16]
abbrev dktX0_ifShifted_1 : List UInt8 := dkwX0_ifShifted_1 ++ dktX0_ifShifted_2
def dkwX0_ifShifted_0 : List UInt8 := [27, 16, 224, 16, 32, 184, 0, 3, 153, 0, 14, 28, 16, 196, 16, 60, 184, 0, 3, 154, 0, 6, 16, 254]
abbrev dktX0_ifShifted_0 : List UInt8 := dkwX0_ifShifted_0 ++ dktX0_ifShifted_1
theorem dksX0_ifShifted_0 : cX0_ifShifted.data.toList.drop 0 = dktX0_ifShifted_0 := by decide +kernel
theorem dksX0_ifShifted_1 : cX0_ifShifted.data.toList.drop 24 = dktX0_ifShifted_1 := dk_seg dksX0_ifShifted_0 24 rfl rfl
theorem dksX0_ifShifted_2 : cX0_ifShifted.data.toList.drop 46 = dktX0_ifShifted_2 := dk_seg dksX0_ifShifted_1 22 rfl rfl
theorem dX0_ifShifted_0 : decode cX0_ifShifted 0 = .ok (.iload_n 1, 1) := dk_27 (dk_at dksX0_ifShifted_0 0 rfl rfl)
theorem dX0_ifShifted_1 : decode cX0_ifShifted 1 = .ok (.bipush (-32), 2) := dk_16 224 (dk_at dksX0_ifShifted_0 1 rfl rfl)
theorem dX0_ifShifted_3 : decode cX0_ifShifted 3 = .ok (.bipush 32, 2) := dk_16 32 (dk_at dksX0_ifShifted_0 3 rfl rfl)
theorem dX0_ifShifted_5 : decode cX0_ifShifted 5 = .ok (.invokestatic 3, 3) := dk_184 0 3 (dk_at dksX0_ifShifted_0 5 rfl rfl)
theorem dX0_ifShifted_8 : decode cX0_ifShifted 8 = .ok (.ifCond .eq 14, 3) := dk_153 0 14 (dk_at dksX0_ifShifted_0 8 rfl rfl)
theorem dX0_ifShifted_11 : decode cX0_ifShifted 11 = .ok (.iload_n 2, 1) := dk_28 (dk_at dksX0_ifShifted_0 11 rfl rfl)
theorem dX0_ifShifted_12 : decode cX0_ifShifted 12 = .ok (.bipush (-60), 2) := dk_16 196 (dk_at dksX0_ifShifted_0 12 rfl rfl)
theorem dX0_ifShifted_14 : decode cX0_ifShifted 14 = .ok (.bipush 60, 2) := dk_16 60 (dk_at dksX0_ifShifted_0 14 rfl rfl)
theorem dX0_ifShifted_16 : decode cX0_ifShifted 16 = .ok (.invokestatic 3, 3) := dk_184 0 3 (dk_at dksX0_ifShifted_0 16 rfl rfl)
theorem dX0_ifShifted_19 : decode cX0_ifShifted 19 = .ok (.ifCond .ne 6, 3) := dk_154 0 6 (dk_at dksX0_ifShifted_0 19 rfl rfl)
theorem dX0_ifShifted_22 : decode cX0_ifShifted 22 = .ok (.bipush (-2), 2) := dk_16 254 (dk_at dksX0_ifShifted_0 22 rfl rfl)
theorem dX0_ifShifted_24 : decode cX0_ifShifted 24 = .ok (.ireturn, 1) := dk_172 (dk_at dksX0_ifShifted_1 0 rfl rfl)
theorem dX0_ifShifted_25 : decode cX0_ifShifted 25 = .ok (.sipush 600, 3) := dk_17 2 88 (dk_at dksX0_ifShifted_1 1 rfl rfl)
theorem dX0_ifShifted_28 : decode cX0_ifShifted 28 = .ok (.newarray .int, 2) := dk_188_10 (dk_at dksX0_ifShifted_1 4 rfl rfl)
theorem dX0_ifShifted_30 : decode cX0_ifShifted 30 = .ok (.astore_n 3, 1) := dk_78 (dk_at dksX0_ifShifted_1 6 rfl rfl)
theorem dX0_ifShifted_31 : decode cX0_ifShifted 31 = .ok (.aload_n 0, 1) := dk_42 (dk_at dksX0_ifShifted_1 7 rfl rfl)
theorem dX0_ifShifted_32 : decode cX0_ifShifted 32 = .ok (.aload_n 3, 1) := dk_45 (dk_at dksX0_ifShifted_1 8 rfl rfl)
theorem dX0_ifShifted_33 : decode cX0_ifShifted 33 = .ok (.iload_n 1, 1) := dk_27 (dk_at dksX0_ifShifted_1 9 rfl rfl)
theorem dX0_ifShifted_34 : decode cX0_ifShifted 34 = .ok (.iload_n 2, 1) := dk_28 (dk_at dksX0_ifShifted_1 10 rfl rfl)
theorem dX0_ifShifted_35 : decode cX0_ifShifted 35 = .ok (.invokevirtual 250, 3) := dk_182 0 250 (dk_at dksX0_ifShifted_1 11 rfl rfl)
theorem dX0_ifShifted_38 : decode cX0_ifShifted 38 = .ok (.new 45, 3) := dk_187 0 45 (dk_at dksX0_ifShifted_1 14 rfl rfl)
theorem dX0_ifShifted_41 : decode cX0_ifShifted 41 = .ok (.dup, 1) := dk_89 (dk_at dksX0_ifShifted_1 17 rfl rfl)
theorem dX0_ifShifted_42 : decode cX0_ifShifted 42 = .ok (.aload_n 0, 1) := dk_42 (dk_at dksX0_ifShifted_1 18 rfl rfl)
theorem dX0_ifShifted_43 : decode cX0_ifShifted 43 = .ok (.getfield 16, 3) := dk_180 0 16 (dk_at dksX0_ifShifted_1 19 rfl rfl)
theorem dX0_ifShifted_46 : decode cX0_ifShifted 46 = .ok (.invokespecial 47, 3) := dk_183 0 47 (dk_at dksX0_ifShifted_2 0 rfl rfl)
theorem dX0_ifShifted_49 : decode cX0_ifShifted 49 = .ok (.aload_n 3, 1) := dk_45 (dk_at dksX0_ifShifted_2 3 rfl rfl)
theorem dX0_ifShifted_50 : decode cX0_ifShifted 50 = .ok (.invokevirtual 54, 3) := dk_182 0 54 (dk_at dksX0_ifShifted_2 4 rfl rfl)
theorem dX0_ifShifted_53 : decode cX0_ifShifted 53 = .ok (.invokevirtual 244, 3) := dk_182 0 244 (dk_at dksX0_ifShifted_2 7 rfl rfl)
theorem dX0_ifShifted_56 : decode cX0_ifShifted 56 = .ok (.ireturn, 1) := dk_172 (dk_at dksX0_ifShifted_2 10 rfl rfl)
abbrev cX0_shift : ByteArray := prog_1_method_31_code
def yX0_shift : MethodName := ⟨RX0, "shift", "([III)V"⟩
def dkwX0_shift_3 : List UInt8 := [167, 0, 4, 2, 79, 132, 4, 1, 167, 255, 181, 177]
abbrev dktX0_shift_3 : List UInt8 := dkwX0_shift_3 ++ []
def dkwX0_shift_2 : List UInt8 := [21, 5, 46, 29, 96, 167, 0, 4, 2, 54, 6, 43, 21, 4, 21, 6, 184, 0, 147, 153, 0, 8, 21, 6]
abbrev dktX0_shift_2 : List UInt8 := dkwX0_shift_2 ++ dktX0_shift_3
def dkwX0_shift_1 : List UInt8 := [153, 0, 32, 42, 180, 0, 16, 180, 0, 50, 21, 5, 46, 2, 159, 0, 18, 42, 180, 0, 16, 180, 0, 50]
abbrev dktX0_shift_1 : List UInt8 := dkwX0_shift_1 ++ dktX0_shift_2
def dkwX0_shift_0 : List UInt8 := [3, 54, 4, 21, 4, 17, 2, 88, 162, 0, 73, 21, 4, 28, 100, 54, 5, 21, 5, 184, 0, 141]
abbrev dktX0_shift_0 : List UInt8 := dkwX0_shift_0 ++ dktX0_shift_1
theorem dksX0_shift_0 : cX0_shift.data.toList.drop 0 = dktX0_shift_0 := by decide +kernel
theorem dksX0_shift_1 : cX0_shift.data.toList.drop 22 = dktX0_shift_1 := dk_seg dksX0_shift_0 22 rfl rfl
theorem dksX0_shift_2 : cX0_shift.data.toList.drop 46 = dktX0_shift_2 := dk_seg dksX0_shift_1 24 rfl rfl
theorem dksX0_shift_3 : cX0_shift.data.toList.drop 70 = dktX0_shift_3 := dk_seg dksX0_shift_2 24 rfl rfl
theorem dX0_shift_0 : decode cX0_shift 0 = .ok (.iconst 0, 1) := dk_3 (dk_at dksX0_shift_0 0 rfl rfl)
theorem dX0_shift_1 : decode cX0_shift 1 = .ok (.istore 4, 2) := dk_54 4 (dk_at dksX0_shift_0 1 rfl rfl)
theorem dX0_shift_3 : decode cX0_shift 3 = .ok (.iload 4, 2) := dk_21 4 (dk_at dksX0_shift_0 3 rfl rfl)
theorem dX0_shift_5 : decode cX0_shift 5 = .ok (.sipush 600, 3) := dk_17 2 88 (dk_at dksX0_shift_0 5 rfl rfl)
theorem dX0_shift_8 : decode cX0_shift 8 = .ok (.if_icmp .ge 73, 3) := dk_162 0 73 (dk_at dksX0_shift_0 8 rfl rfl)
theorem dX0_shift_11 : decode cX0_shift 11 = .ok (.iload 4, 2) := dk_21 4 (dk_at dksX0_shift_0 11 rfl rfl)
theorem dX0_shift_13 : decode cX0_shift 13 = .ok (.iload_n 2, 1) := dk_28 (dk_at dksX0_shift_0 13 rfl rfl)
theorem dX0_shift_14 : decode cX0_shift 14 = .ok (.isub, 1) := dk_100 (dk_at dksX0_shift_0 14 rfl rfl)
theorem dX0_shift_15 : decode cX0_shift 15 = .ok (.istore 5, 2) := dk_54 5 (dk_at dksX0_shift_0 15 rfl rfl)
theorem dX0_shift_17 : decode cX0_shift 17 = .ok (.iload 5, 2) := dk_21 5 (dk_at dksX0_shift_0 17 rfl rfl)
theorem dX0_shift_19 : decode cX0_shift 19 = .ok (.invokestatic 141, 3) := dk_184 0 141 (dk_at dksX0_shift_0 19 rfl rfl)
theorem dX0_shift_22 : decode cX0_shift 22 = .ok (.ifCond .eq 32, 3) := dk_153 0 32 (dk_at dksX0_shift_1 0 rfl rfl)
theorem dX0_shift_25 : decode cX0_shift 25 = .ok (.aload_n 0, 1) := dk_42 (dk_at dksX0_shift_1 3 rfl rfl)
theorem dX0_shift_26 : decode cX0_shift 26 = .ok (.getfield 16, 3) := dk_180 0 16 (dk_at dksX0_shift_1 4 rfl rfl)
theorem dX0_shift_29 : decode cX0_shift 29 = .ok (.getfield 50, 3) := dk_180 0 50 (dk_at dksX0_shift_1 7 rfl rfl)
theorem dX0_shift_32 : decode cX0_shift 32 = .ok (.iload 5, 2) := dk_21 5 (dk_at dksX0_shift_1 10 rfl rfl)
theorem dX0_shift_34 : decode cX0_shift 34 = .ok (.iaload, 1) := dk_46 (dk_at dksX0_shift_1 12 rfl rfl)
theorem dX0_shift_35 : decode cX0_shift 35 = .ok (.iconst (-1), 1) := dk_2 (dk_at dksX0_shift_1 13 rfl rfl)
theorem dX0_shift_36 : decode cX0_shift 36 = .ok (.if_icmp .eq 18, 3) := dk_159 0 18 (dk_at dksX0_shift_1 14 rfl rfl)
theorem dX0_shift_39 : decode cX0_shift 39 = .ok (.aload_n 0, 1) := dk_42 (dk_at dksX0_shift_1 17 rfl rfl)
theorem dX0_shift_40 : decode cX0_shift 40 = .ok (.getfield 16, 3) := dk_180 0 16 (dk_at dksX0_shift_1 18 rfl rfl)
theorem dX0_shift_43 : decode cX0_shift 43 = .ok (.getfield 50, 3) := dk_180 0 50 (dk_at dksX0_shift_1 21 rfl rfl)
theorem dX0_shift_46 : decode cX0_shift 46 = .ok (.iload 5, 2) := dk_21 5 (dk_at dksX0_shift_2 0 rfl rfl)
theorem dX0_shift_48 : decode cX0_shift 48 = .ok (.iaload, 1) := dk_46 (dk_at dksX0_shift_2 2 rfl rfl)
theorem dX0_shift_49 : decode cX0_shift 49 = .ok (.iload_n 3, 1) := dk_29 (dk_at dksX0_shift_2 3 rfl rfl)
theorem dX0_shift_50 : decode cX0_shift 50 = .ok (.iadd, 1) := dk_96 (dk_at dksX0_shift_2 4 rfl rfl)
theorem dX0_shift_51 : decode cX0_shift 51 = .ok (.goto 4, 3) := dk_167 0 4 (dk_at dksX0_shift_2 5 rfl rfl)
theorem dX0_shift_54 : decode cX0_shift 54 = .ok (.iconst (-1), 1) := dk_2 (dk_at dksX0_shift_2 8 rfl rfl)
theorem dX0_shift_55 : decode cX0_shift 55 = .ok (.istore 6, 2) := dk_54 6 (dk_at dksX0_shift_2 9 rfl rfl)
theorem dX0_shift_57 : decode cX0_shift 57 = .ok (.aload_n 1, 1) := dk_43 (dk_at dksX0_shift_2 11 rfl rfl)
theorem dX0_shift_58 : decode cX0_shift 58 = .ok (.iload 4, 2) := dk_21 4 (dk_at dksX0_shift_2 12 rfl rfl)
theorem dX0_shift_60 : decode cX0_shift 60 = .ok (.iload 6, 2) := dk_21 6 (dk_at dksX0_shift_2 14 rfl rfl)
theorem dX0_shift_62 : decode cX0_shift 62 = .ok (.invokestatic 147, 3) := dk_184 0 147 (dk_at dksX0_shift_2 16 rfl rfl)
theorem dX0_shift_65 : decode cX0_shift 65 = .ok (.ifCond .eq 8, 3) := dk_153 0 8 (dk_at dksX0_shift_2 19 rfl rfl)
theorem dX0_shift_68 : decode cX0_shift 68 = .ok (.iload 6, 2) := dk_21 6 (dk_at dksX0_shift_2 22 rfl rfl)
theorem dX0_shift_70 : decode cX0_shift 70 = .ok (.goto 4, 3) := dk_167 0 4 (dk_at dksX0_shift_3 0 rfl rfl)
theorem dX0_shift_73 : decode cX0_shift 73 = .ok (.iconst (-1), 1) := dk_2 (dk_at dksX0_shift_3 3 rfl rfl)
theorem dX0_shift_74 : decode cX0_shift 74 = .ok (.iastore, 1) := dk_79 (dk_at dksX0_shift_3 4 rfl rfl)
theorem dX0_shift_75 : decode cX0_shift 75 = .ok (.iinc 4 1, 3) := dk_132 4 1 (dk_at dksX0_shift_3 5 rfl rfl)
theorem dX0_shift_78 : decode cX0_shift 78 = .ok (.goto (-75), 3) := dk_167 255 181 (dk_at dksX0_shift_3 8 rfl rfl)
theorem dX0_shift_81 : decode cX0_shift 81 = .ok (.return_, 1) := dk_177 (dk_at dksX0_shift_3 11 rfl rfl)
abbrev cX0_bestShift : ByteArray := prog_1_method_33_code
def yX0_bestShift : MethodName := ⟨RX0, "bestShift", "()I"⟩
def dkwX0_bestShift_4 : List UInt8 := [54, 4, 132, 6, 2, 167, 255, 209, 132, 5, 1, 167, 255, 193, 29, 16, 32, 96, 172]
abbrev dktX0_bestShift_4 : List UInt8 := dkwX0_bestShift_4 ++ []
def dkwX0_bestShift_3 : List UInt8 := [182, 0, 54, 182, 0, 244, 54, 7, 21, 7, 21, 4, 164, 0, 13, 21, 6, 21, 5, 104, 62, 21, 7]
abbrev dktX0_bestShift_3 : List UInt8 := dkwX0_bestShift_3 ++ dktX0_bestShift_4
def dkwX0_bestShift_2 : List UInt8 := [2, 54, 6, 21, 6, 4, 163, 0, 47, 42, 44, 21, 6, 21, 5, 104, 3, 182, 0, 250, 43, 44]
abbrev dktX0_bestShift_2 : List UInt8 := dkwX0_bestShift_2 ++ dktX0_bestShift_3
def dkwX0_bestShift_1 : List UInt8 := [180, 0, 16, 180, 0, 50, 182, 0, 54, 182, 0, 244, 54, 4, 4, 54, 5, 21, 5, 16, 32, 163, 0, 62]
abbrev dktX0_bestShift_1 : List UInt8 := dkwX0_bestShift_1 ++ dktX0_bestShift_2
def dkwX0_bestShift_0 : List UInt8 := [187, 0, 45, 89, 42, 180, 0, 16, 183, 0, 47, 76, 17, 2, 88, 188, 10, 77, 3, 62, 43, 42]
abbrev dktX0_bestShift_0 : List UInt8 := dkwX0_bestShift_0 ++ dktX0_bestShift_1
theorem dksX0_bestShift_0 : cX0_bestShift.data.toList.drop 0 = dktX0_bestShift_0 := by decide +kernel
theorem dksX0_bestShift_1 : cX0_bestShift.data.toList.drop 22 = dktX0_bestShift_1 := dk_seg dksX0_bestShift_0 22 rfl rfl
theorem dksX0_bestShift_2 : cX0_bestShift.data.toList.drop 46 = dktX0_bestShift_2 := dk_seg dksX0_bestShift_1 24 rfl rfl
theorem dksX0_bestShift_3 : cX0_bestShift.data.toList.drop 68 = dktX0_bestShift_3 := dk_seg dksX0_bestShift_2 22 rfl rfl
theorem dksX0_bestShift_4 : cX0_bestShift.data.toList.drop 91 = dktX0_bestShift_4 := dk_seg dksX0_bestShift_3 23 rfl rfl
theorem dX0_bestShift_0 : decode cX0_bestShift 0 = .ok (.new 45, 3) := dk_187 0 45 (dk_at dksX0_bestShift_0 0 rfl rfl)
theorem dX0_bestShift_3 : decode cX0_bestShift 3 = .ok (.dup, 1) := dk_89 (dk_at dksX0_bestShift_0 3 rfl rfl)
theorem dX0_bestShift_4 : decode cX0_bestShift 4 = .ok (.aload_n 0, 1) := dk_42 (dk_at dksX0_bestShift_0 4 rfl rfl)
theorem dX0_bestShift_5 : decode cX0_bestShift 5 = .ok (.getfield 16, 3) := dk_180 0 16 (dk_at dksX0_bestShift_0 5 rfl rfl)
theorem dX0_bestShift_8 : decode cX0_bestShift 8 = .ok (.invokespecial 47, 3) := dk_183 0 47 (dk_at dksX0_bestShift_0 8 rfl rfl)
theorem dX0_bestShift_11 : decode cX0_bestShift 11 = .ok (.astore_n 1, 1) := dk_76 (dk_at dksX0_bestShift_0 11 rfl rfl)
theorem dX0_bestShift_12 : decode cX0_bestShift 12 = .ok (.sipush 600, 3) := dk_17 2 88 (dk_at dksX0_bestShift_0 12 rfl rfl)
theorem dX0_bestShift_15 : decode cX0_bestShift 15 = .ok (.newarray .int, 2) := dk_188_10 (dk_at dksX0_bestShift_0 15 rfl rfl)
theorem dX0_bestShift_17 : decode cX0_bestShift 17 = .ok (.astore_n 2, 1) := dk_77 (dk_at dksX0_bestShift_0 17 rfl rfl)
theorem dX0_bestShift_18 : decode cX0_bestShift 18 = .ok (.iconst 0, 1) := dk_3 (dk_at dksX0_bestShift_0 18 rfl rfl)
theorem dX0_bestShift_19 : decode cX0_bestShift 19 = .ok (.istore_n 3, 1) := dk_62 (dk_at dksX0_bestShift_0 19 rfl rfl)
theorem dX0_bestShift_20 : decode cX0_bestShift 20 = .ok (.aload_n 1, 1) := dk_43 (dk_at dksX0_bestShift_0 20 rfl rfl)
theorem dX0_bestShift_21 : decode cX0_bestShift 21 = .ok (.aload_n 0, 1) := dk_42 (dk_at dksX0_bestShift_0 21 rfl rfl)
theorem dX0_bestShift_22 : decode cX0_bestShift 22 = .ok (.getfield 16, 3) := dk_180 0 16 (dk_at dksX0_bestShift_1 0 rfl rfl)
theorem dX0_bestShift_25 : decode cX0_bestShift 25 = .ok (.getfield 50, 3) := dk_180 0 50 (dk_at dksX0_bestShift_1 3 rfl rfl)
theorem dX0_bestShift_28 : decode cX0_bestShift 28 = .ok (.invokevirtual 54, 3) := dk_182 0 54 (dk_at dksX0_bestShift_1 6 rfl rfl)
theorem dX0_bestShift_31 : decode cX0_bestShift 31 = .ok (.invokevirtual 244, 3) := dk_182 0 244 (dk_at dksX0_bestShift_1 9 rfl rfl)
theorem dX0_bestShift_34 : decode cX0_bestShift 34 = .ok (.istore 4, 2) := dk_54 4 (dk_at dksX0_bestShift_1 12 rfl rfl)
theorem dX0_bestShift_36 : decode cX0_bestShift 36 = .ok (.iconst 1, 1) := dk_4 (dk_at dksX0_bestShift_1 14 rfl rfl)
theorem dX0_bestShift_37 : decode cX0_bestShift 37 = .ok (.istore 5, 2) := dk_54 5 (dk_at dksX0_bestShift_1 15 rfl rfl)
theorem dX0_bestShift_39 : decode cX0_bestShift 39 = .ok (.iload 5, 2) := dk_21 5 (dk_at dksX0_bestShift_1 17 rfl rfl)
theorem dX0_bestShift_41 : decode cX0_bestShift 41 = .ok (.bipush 32, 2) := dk_16 32 (dk_at dksX0_bestShift_1 19 rfl rfl)
theorem dX0_bestShift_43 : decode cX0_bestShift 43 = .ok (.if_icmp .gt 62, 3) := dk_163 0 62 (dk_at dksX0_bestShift_1 21 rfl rfl)
theorem dX0_bestShift_46 : decode cX0_bestShift 46 = .ok (.iconst (-1), 1) := dk_2 (dk_at dksX0_bestShift_2 0 rfl rfl)
theorem dX0_bestShift_47 : decode cX0_bestShift 47 = .ok (.istore 6, 2) := dk_54 6 (dk_at dksX0_bestShift_2 1 rfl rfl)
theorem dX0_bestShift_49 : decode cX0_bestShift 49 = .ok (.iload 6, 2) := dk_21 6 (dk_at dksX0_bestShift_2 3 rfl rfl)
theorem dX0_bestShift_51 : decode cX0_bestShift 51 = .ok (.iconst 1, 1) := dk_4 (dk_at dksX0_bestShift_2 5 rfl rfl)
theorem dX0_bestShift_52 : decode cX0_bestShift 52 = .ok (.if_icmp .gt 47, 3) := dk_163 0 47 (dk_at dksX0_bestShift_2 6 rfl rfl)
theorem dX0_bestShift_55 : decode cX0_bestShift 55 = .ok (.aload_n 0, 1) := dk_42 (dk_at dksX0_bestShift_2 9 rfl rfl)
theorem dX0_bestShift_56 : decode cX0_bestShift 56 = .ok (.aload_n 2, 1) := dk_44 (dk_at dksX0_bestShift_2 10 rfl rfl)
theorem dX0_bestShift_57 : decode cX0_bestShift 57 = .ok (.iload 6, 2) := dk_21 6 (dk_at dksX0_bestShift_2 11 rfl rfl)
theorem dX0_bestShift_59 : decode cX0_bestShift 59 = .ok (.iload 5, 2) := dk_21 5 (dk_at dksX0_bestShift_2 13 rfl rfl)
theorem dX0_bestShift_61 : decode cX0_bestShift 61 = .ok (.imul, 1) := dk_104 (dk_at dksX0_bestShift_2 15 rfl rfl)
theorem dX0_bestShift_62 : decode cX0_bestShift 62 = .ok (.iconst 0, 1) := dk_3 (dk_at dksX0_bestShift_2 16 rfl rfl)
theorem dX0_bestShift_63 : decode cX0_bestShift 63 = .ok (.invokevirtual 250, 3) := dk_182 0 250 (dk_at dksX0_bestShift_2 17 rfl rfl)
theorem dX0_bestShift_66 : decode cX0_bestShift 66 = .ok (.aload_n 1, 1) := dk_43 (dk_at dksX0_bestShift_2 20 rfl rfl)
theorem dX0_bestShift_67 : decode cX0_bestShift 67 = .ok (.aload_n 2, 1) := dk_44 (dk_at dksX0_bestShift_2 21 rfl rfl)
theorem dX0_bestShift_68 : decode cX0_bestShift 68 = .ok (.invokevirtual 54, 3) := dk_182 0 54 (dk_at dksX0_bestShift_3 0 rfl rfl)
theorem dX0_bestShift_71 : decode cX0_bestShift 71 = .ok (.invokevirtual 244, 3) := dk_182 0 244 (dk_at dksX0_bestShift_3 3 rfl rfl)
theorem dX0_bestShift_74 : decode cX0_bestShift 74 = .ok (.istore 7, 2) := dk_54 7 (dk_at dksX0_bestShift_3 6 rfl rfl)
theorem dX0_bestShift_76 : decode cX0_bestShift 76 = .ok (.iload 7, 2) := dk_21 7 (dk_at dksX0_bestShift_3 8 rfl rfl)
theorem dX0_bestShift_78 : decode cX0_bestShift 78 = .ok (.iload 4, 2) := dk_21 4 (dk_at dksX0_bestShift_3 10 rfl rfl)
theorem dX0_bestShift_80 : decode cX0_bestShift 80 = .ok (.if_icmp .le 13, 3) := dk_164 0 13 (dk_at dksX0_bestShift_3 12 rfl rfl)
theorem dX0_bestShift_83 : decode cX0_bestShift 83 = .ok (.iload 6, 2) := dk_21 6 (dk_at dksX0_bestShift_3 15 rfl rfl)
theorem dX0_bestShift_85 : decode cX0_bestShift 85 = .ok (.iload 5, 2) := dk_21 5 (dk_at dksX0_bestShift_3 17 rfl rfl)
theorem dX0_bestShift_87 : decode cX0_bestShift 87 = .ok (.imul, 1) := dk_104 (dk_at dksX0_bestShift_3 19 rfl rfl)
theorem dX0_bestShift_88 : decode cX0_bestShift 88 = .ok (.istore_n 3, 1) := dk_62 (dk_at dksX0_bestShift_3 20 rfl rfl)
theorem dX0_bestShift_89 : decode cX0_bestShift 89 = .ok (.iload 7, 2) := dk_21 7 (dk_at dksX0_bestShift_3 21 rfl rfl)
theorem dX0_bestShift_91 : decode cX0_bestShift 91 = .ok (.istore 4, 2) := dk_54 4 (dk_at dksX0_bestShift_4 0 rfl rfl)
theorem dX0_bestShift_93 : decode cX0_bestShift 93 = .ok (.iinc 6 2, 3) := dk_132 6 2 (dk_at dksX0_bestShift_4 2 rfl rfl)
theorem dX0_bestShift_96 : decode cX0_bestShift 96 = .ok (.goto (-47), 3) := dk_167 255 209 (dk_at dksX0_bestShift_4 5 rfl rfl)
theorem dX0_bestShift_99 : decode cX0_bestShift 99 = .ok (.iinc 5 1, 3) := dk_132 5 1 (dk_at dksX0_bestShift_4 8 rfl rfl)
theorem dX0_bestShift_102 : decode cX0_bestShift 102 = .ok (.goto (-63), 3) := dk_167 255 193 (dk_at dksX0_bestShift_4 11 rfl rfl)
theorem dX0_bestShift_105 : decode cX0_bestShift 105 = .ok (.iload_n 3, 1) := dk_29 (dk_at dksX0_bestShift_4 14 rfl rfl)
theorem dX0_bestShift_106 : decode cX0_bestShift 106 = .ok (.bipush 32, 2) := dk_16 32 (dk_at dksX0_bestShift_4 15 rfl rfl)
theorem dX0_bestShift_108 : decode cX0_bestShift 108 = .ok (.iadd, 1) := dk_96 (dk_at dksX0_bestShift_4 17 rfl rfl)
theorem dX0_bestShift_109 : decode cX0_bestShift 109 = .ok (.ireturn, 1) := dk_172 (dk_at dksX0_bestShift_4 18 rfl rfl)
abbrev cX0_ifSet : ByteArray := prog_1_method_34_code
def yX0_ifSet : MethodName := ⟨RX0, "ifSet", "(II)I"⟩
def dkwX0_ifSet_3 : List UInt8 := [27, 29, 79, 25, 5, 191]
abbrev dktX0_ifSet_3 : List UInt8 := dkwX0_ifSet_3 ++ []
def dkwX0_ifSet_2 : List UInt8 := [54, 4, 42, 180, 0, 16, 180, 0, 138, 27, 29, 79, 21, 4, 172, 58, 5, 42, 180, 0, 16, 180, 0, 138]
abbrev dktX0_ifSet_2 : List UInt8 := dkwX0_ifSet_2 ++ dktX0_ifSet_3
def dkwX0_ifSet_1 : List UInt8 := [180, 0, 138, 27, 46, 62, 42, 180, 0, 16, 180, 0, 138, 27, 28, 79, 42, 182, 0, 150, 182, 0, 244]
abbrev dktX0_ifSet_1 : List UInt8 := dkwX0_ifSet_1 ++ dktX0_ifSet_2
def dkwX0_ifSet_0 : List UInt8 := [27, 184, 0, 131, 154, 0, 5, 2, 172, 27, 28, 184, 0, 135, 154, 0, 6, 16, 254, 172, 42, 180, 0, 16]
abbrev dktX0_ifSet_0 : List UInt8 := dkwX0_ifSet_0 ++ dktX0_ifSet_1
theorem dksX0_ifSet_0 : cX0_ifSet.data.toList.drop 0 = dktX0_ifSet_0 := by decide +kernel
theorem dksX0_ifSet_1 : cX0_ifSet.data.toList.drop 24 = dktX0_ifSet_1 := dk_seg dksX0_ifSet_0 24 rfl rfl
theorem dksX0_ifSet_2 : cX0_ifSet.data.toList.drop 47 = dktX0_ifSet_2 := dk_seg dksX0_ifSet_1 23 rfl rfl
theorem dksX0_ifSet_3 : cX0_ifSet.data.toList.drop 71 = dktX0_ifSet_3 := dk_seg dksX0_ifSet_2 24 rfl rfl
theorem dX0_ifSet_0 : decode cX0_ifSet 0 = .ok (.iload_n 1, 1) := dk_27 (dk_at dksX0_ifSet_0 0 rfl rfl)
theorem dX0_ifSet_1 : decode cX0_ifSet 1 = .ok (.invokestatic 131, 3) := dk_184 0 131 (dk_at dksX0_ifSet_0 1 rfl rfl)
theorem dX0_ifSet_4 : decode cX0_ifSet 4 = .ok (.ifCond .ne 5, 3) := dk_154 0 5 (dk_at dksX0_ifSet_0 4 rfl rfl)
theorem dX0_ifSet_7 : decode cX0_ifSet 7 = .ok (.iconst (-1), 1) := dk_2 (dk_at dksX0_ifSet_0 7 rfl rfl)
theorem dX0_ifSet_8 : decode cX0_ifSet 8 = .ok (.ireturn, 1) := dk_172 (dk_at dksX0_ifSet_0 8 rfl rfl)
theorem dX0_ifSet_9 : decode cX0_ifSet 9 = .ok (.iload_n 1, 1) := dk_27 (dk_at dksX0_ifSet_0 9 rfl rfl)
theorem dX0_ifSet_10 : decode cX0_ifSet 10 = .ok (.iload_n 2, 1) := dk_28 (dk_at dksX0_ifSet_0 10 rfl rfl)
theorem dX0_ifSet_11 : decode cX0_ifSet 11 = .ok (.invokestatic 135, 3) := dk_184 0 135 (dk_at dksX0_ifSet_0 11 rfl rfl)
theorem dX0_ifSet_14 : decode cX0_ifSet 14 = .ok (.ifCond .ne 6, 3) := dk_154 0 6 (dk_at dksX0_ifSet_0 14 rfl rfl)
theorem dX0_ifSet_17 : decode cX0_ifSet 17 = .ok (.bipush (-2), 2) := dk_16 254 (dk_at dksX0_ifSet_0 17 rfl rfl)
theorem dX0_ifSet_19 : decode cX0_ifSet 19 = .ok (.ireturn, 1) := dk_172 (dk_at dksX0_ifSet_0 19 rfl rfl)
theorem dX0_ifSet_20 : decode cX0_ifSet 20 = .ok (.aload_n 0, 1) := dk_42 (dk_at dksX0_ifSet_0 20 rfl rfl)
theorem dX0_ifSet_21 : decode cX0_ifSet 21 = .ok (.getfield 16, 3) := dk_180 0 16 (dk_at dksX0_ifSet_0 21 rfl rfl)
theorem dX0_ifSet_24 : decode cX0_ifSet 24 = .ok (.getfield 138, 3) := dk_180 0 138 (dk_at dksX0_ifSet_1 0 rfl rfl)
theorem dX0_ifSet_27 : decode cX0_ifSet 27 = .ok (.iload_n 1, 1) := dk_27 (dk_at dksX0_ifSet_1 3 rfl rfl)
theorem dX0_ifSet_28 : decode cX0_ifSet 28 = .ok (.iaload, 1) := dk_46 (dk_at dksX0_ifSet_1 4 rfl rfl)
theorem dX0_ifSet_29 : decode cX0_ifSet 29 = .ok (.istore_n 3, 1) := dk_62 (dk_at dksX0_ifSet_1 5 rfl rfl)
theorem dX0_ifSet_30 : decode cX0_ifSet 30 = .ok (.aload_n 0, 1) := dk_42 (dk_at dksX0_ifSet_1 6 rfl rfl)
theorem dX0_ifSet_31 : decode cX0_ifSet 31 = .ok (.getfield 16, 3) := dk_180 0 16 (dk_at dksX0_ifSet_1 7 rfl rfl)
theorem dX0_ifSet_34 : decode cX0_ifSet 34 = .ok (.getfield 138, 3) := dk_180 0 138 (dk_at dksX0_ifSet_1 10 rfl rfl)
theorem dX0_ifSet_37 : decode cX0_ifSet 37 = .ok (.iload_n 1, 1) := dk_27 (dk_at dksX0_ifSet_1 13 rfl rfl)
theorem dX0_ifSet_38 : decode cX0_ifSet 38 = .ok (.iload_n 2, 1) := dk_28 (dk_at dksX0_ifSet_1 14 rfl rfl)
theorem dX0_ifSet_39 : decode cX0_ifSet 39 = .ok (.iastore, 1) := dk_79 (dk_at dksX0_ifSet_1 15 rfl rfl)
theorem dX0_ifSet_40 : decode cX0_ifSet 40 = .ok (.aload_n 0, 1) := dk_42 (dk_at dksX0_ifSet_1 16 rfl rfl)
theorem dX0_ifSet_41 : decode cX0_ifSet 41 = .ok (.invokevirtual 150, 3) := dk_182 0 150 (dk_at dksX0_ifSet_1 17 rfl rfl)
theorem dX0_ifSet_44 : decode cX0_ifSet 44 = .ok (.invokevirtual 244, 3) := dk_182 0 244 (dk_at dksX0_ifSet_1 20 rfl rfl)
theorem dX0_ifSet_47 : decode cX0_ifSet 47 = .ok (.istore 4, 2) := dk_54 4 (dk_at dksX0_ifSet_2 0 rfl rfl)
theorem dX0_ifSet_49 : decode cX0_ifSet 49 = .ok (.aload_n 0, 1) := dk_42 (dk_at dksX0_ifSet_2 2 rfl rfl)
theorem dX0_ifSet_50 : decode cX0_ifSet 50 = .ok (.getfield 16, 3) := dk_180 0 16 (dk_at dksX0_ifSet_2 3 rfl rfl)
theorem dX0_ifSet_53 : decode cX0_ifSet 53 = .ok (.getfield 138, 3) := dk_180 0 138 (dk_at dksX0_ifSet_2 6 rfl rfl)
theorem dX0_ifSet_56 : decode cX0_ifSet 56 = .ok (.iload_n 1, 1) := dk_27 (dk_at dksX0_ifSet_2 9 rfl rfl)
theorem dX0_ifSet_57 : decode cX0_ifSet 57 = .ok (.iload_n 3, 1) := dk_29 (dk_at dksX0_ifSet_2 10 rfl rfl)
theorem dX0_ifSet_58 : decode cX0_ifSet 58 = .ok (.iastore, 1) := dk_79 (dk_at dksX0_ifSet_2 11 rfl rfl)
theorem dX0_ifSet_59 : decode cX0_ifSet 59 = .ok (.iload 4, 2) := dk_21 4 (dk_at dksX0_ifSet_2 12 rfl rfl)
theorem dX0_ifSet_61 : decode cX0_ifSet 61 = .ok (.ireturn, 1) := dk_172 (dk_at dksX0_ifSet_2 14 rfl rfl)
theorem dX0_ifSet_62 : decode cX0_ifSet 62 = .ok (.astore 5, 2) := dk_58 5 (dk_at dksX0_ifSet_2 15 rfl rfl)
theorem dX0_ifSet_64 : decode cX0_ifSet 64 = .ok (.aload_n 0, 1) := dk_42 (dk_at dksX0_ifSet_2 17 rfl rfl)
theorem dX0_ifSet_65 : decode cX0_ifSet 65 = .ok (.getfield 16, 3) := dk_180 0 16 (dk_at dksX0_ifSet_2 18 rfl rfl)
theorem dX0_ifSet_68 : decode cX0_ifSet 68 = .ok (.getfield 138, 3) := dk_180 0 138 (dk_at dksX0_ifSet_2 21 rfl rfl)
theorem dX0_ifSet_71 : decode cX0_ifSet 71 = .ok (.iload_n 1, 1) := dk_27 (dk_at dksX0_ifSet_3 0 rfl rfl)
theorem dX0_ifSet_72 : decode cX0_ifSet 72 = .ok (.iload_n 3, 1) := dk_29 (dk_at dksX0_ifSet_3 1 rfl rfl)
theorem dX0_ifSet_73 : decode cX0_ifSet 73 = .ok (.iastore, 1) := dk_79 (dk_at dksX0_ifSet_3 2 rfl rfl)
theorem dX0_ifSet_74 : decode cX0_ifSet 74 = .ok (.aload 5, 2) := dk_25 5 (dk_at dksX0_ifSet_3 3 rfl rfl)
theorem dX0_ifSet_76 : decode cX0_ifSet 76 = .ok (.athrow, 1) := dk_191 (dk_at dksX0_ifSet_3 5 rfl rfl)
abbrev cX0_worst : ByteArray := prog_1_method_35_code
def yX0_worst : MethodName := ⟨RX0, "worst", "()I"⟩
def dkwX0_worst_2 : List UInt8 := [21, 4, 61, 21, 5, 62, 132, 4, 1, 167, 255, 215, 28, 172]
abbrev dktX0_worst_2 : List UInt8 := dkwX0_worst_2 ++ []
def dkwX0_worst_1 : List UInt8 := [162, 0, 35, 43, 21, 4, 182, 0, 230, 54, 5, 28, 16, 251, 159, 0, 9, 21, 5, 29, 162, 0, 9]
abbrev dktX0_worst_1 : List UInt8 := dkwX0_worst_1 ++ dktX0_worst_2
def dkwX0_worst_0 : List UInt8 := [42, 182, 0, 150, 76, 16, 251, 61, 3, 62, 3, 54, 4, 21, 4, 42, 180, 0, 16, 182, 0, 222]
abbrev dktX0_worst_0 : List UInt8 := dkwX0_worst_0 ++ dktX0_worst_1
theorem dksX0_worst_0 : cX0_worst.data.toList.drop 0 = dktX0_worst_0 := by decide +kernel
theorem dksX0_worst_1 : cX0_worst.data.toList.drop 22 = dktX0_worst_1 := dk_seg dksX0_worst_0 22 rfl rfl
theorem dksX0_worst_2 : cX0_worst.data.toList.drop 45 = dktX0_worst_2 := dk_seg dksX0_worst_1 23 rfl rfl
theorem dX0_worst_0 : decode cX0_worst 0 = .ok (.aload_n 0, 1) := dk_42 (dk_at dksX0_worst_0 0 rfl rfl)
theorem dX0_worst_1 : decode cX0_worst 1 = .ok (.invokevirtual 150, 3) := dk_182 0 150 (dk_at dksX0_worst_0 1 rfl rfl)
theorem dX0_worst_4 : decode cX0_worst 4 = .ok (.astore_n 1, 1) := dk_76 (dk_at dksX0_worst_0 4 rfl rfl)
theorem dX0_worst_5 : decode cX0_worst 5 = .ok (.bipush (-5), 2) := dk_16 251 (dk_at dksX0_worst_0 5 rfl rfl)
theorem dX0_worst_7 : decode cX0_worst 7 = .ok (.istore_n 2, 1) := dk_61 (dk_at dksX0_worst_0 7 rfl rfl)
theorem dX0_worst_8 : decode cX0_worst 8 = .ok (.iconst 0, 1) := dk_3 (dk_at dksX0_worst_0 8 rfl rfl)
theorem dX0_worst_9 : decode cX0_worst 9 = .ok (.istore_n 3, 1) := dk_62 (dk_at dksX0_worst_0 9 rfl rfl)
theorem dX0_worst_10 : decode cX0_worst 10 = .ok (.iconst 0, 1) := dk_3 (dk_at dksX0_worst_0 10 rfl rfl)
theorem dX0_worst_11 : decode cX0_worst 11 = .ok (.istore 4, 2) := dk_54 4 (dk_at dksX0_worst_0 11 rfl rfl)
theorem dX0_worst_13 : decode cX0_worst 13 = .ok (.iload 4, 2) := dk_21 4 (dk_at dksX0_worst_0 13 rfl rfl)
theorem dX0_worst_15 : decode cX0_worst 15 = .ok (.aload_n 0, 1) := dk_42 (dk_at dksX0_worst_0 15 rfl rfl)
theorem dX0_worst_16 : decode cX0_worst 16 = .ok (.getfield 16, 3) := dk_180 0 16 (dk_at dksX0_worst_0 16 rfl rfl)
theorem dX0_worst_19 : decode cX0_worst 19 = .ok (.invokevirtual 222, 3) := dk_182 0 222 (dk_at dksX0_worst_0 19 rfl rfl)
theorem dX0_worst_22 : decode cX0_worst 22 = .ok (.if_icmp .ge 35, 3) := dk_162 0 35 (dk_at dksX0_worst_1 0 rfl rfl)
theorem dX0_worst_25 : decode cX0_worst 25 = .ok (.aload_n 1, 1) := dk_43 (dk_at dksX0_worst_1 3 rfl rfl)
theorem dX0_worst_26 : decode cX0_worst 26 = .ok (.iload 4, 2) := dk_21 4 (dk_at dksX0_worst_1 4 rfl rfl)
theorem dX0_worst_28 : decode cX0_worst 28 = .ok (.invokevirtual 230, 3) := dk_182 0 230 (dk_at dksX0_worst_1 6 rfl rfl)
theorem dX0_worst_31 : decode cX0_worst 31 = .ok (.istore 5, 2) := dk_54 5 (dk_at dksX0_worst_1 9 rfl rfl)
theorem dX0_worst_33 : decode cX0_worst 33 = .ok (.iload_n 2, 1) := dk_28 (dk_at dksX0_worst_1 11 rfl rfl)
theorem dX0_worst_34 : decode cX0_worst 34 = .ok (.bipush (-5), 2) := dk_16 251 (dk_at dksX0_worst_1 12 rfl rfl)
theorem dX0_worst_36 : decode cX0_worst 36 = .ok (.if_icmp .eq 9, 3) := dk_159 0 9 (dk_at dksX0_worst_1 14 rfl rfl)
theorem dX0_worst_39 : decode cX0_worst 39 = .ok (.iload 5, 2) := dk_21 5 (dk_at dksX0_worst_1 17 rfl rfl)
theorem dX0_worst_41 : decode cX0_worst 41 = .ok (.iload_n 3, 1) := dk_29 (dk_at dksX0_worst_1 19 rfl rfl)
theorem dX0_worst_42 : decode cX0_worst 42 = .ok (.if_icmp .ge 9, 3) := dk_162 0 9 (dk_at dksX0_worst_1 20 rfl rfl)
theorem dX0_worst_45 : decode cX0_worst 45 = .ok (.iload 4, 2) := dk_21 4 (dk_at dksX0_worst_2 0 rfl rfl)
theorem dX0_worst_47 : decode cX0_worst 47 = .ok (.istore_n 2, 1) := dk_61 (dk_at dksX0_worst_2 2 rfl rfl)
theorem dX0_worst_48 : decode cX0_worst 48 = .ok (.iload 5, 2) := dk_21 5 (dk_at dksX0_worst_2 3 rfl rfl)
theorem dX0_worst_50 : decode cX0_worst 50 = .ok (.istore_n 3, 1) := dk_62 (dk_at dksX0_worst_2 5 rfl rfl)
theorem dX0_worst_51 : decode cX0_worst 51 = .ok (.iinc 4 1, 3) := dk_132 4 1 (dk_at dksX0_worst_2 6 rfl rfl)
theorem dX0_worst_54 : decode cX0_worst 54 = .ok (.goto (-41), 3) := dk_167 255 215 (dk_at dksX0_worst_2 9 rfl rfl)
theorem dX0_worst_57 : decode cX0_worst 57 = .ok (.iload_n 2, 1) := dk_28 (dk_at dksX0_worst_2 12 rfl rfl)
theorem dX0_worst_58 : decode cX0_worst 58 = .ok (.ireturn, 1) := dk_172 (dk_at dksX0_worst_2 13 rfl rfl)
theorem q55 : (Jvm.Cond.initialized "SungSlides") ∈ lw_all := lw_g (lw_at lw_m1 1 rfl) rfl
theorem q76 : (Jvm.Cond.instantiable "SungSlides" (5 : Nat)) ∈ lw_all := lw_g (lw_at lw_m1 22 rfl) rfl
theorem q78 : (Jvm.Cond.instanceMethod ({ cls := "SungSlides", name := "<init>", desc := "()V" } : Jvm.MethodName)) ∈ lw_all := lw_g (lw_at lw_m1 24 rfl) rfl
theorem q79 : (Jvm.Cond.code ({ cls := "SungSlides", name := "<init>", desc := "()V" } : Jvm.MethodName) prog_1_method_4_code (1 : Nat) (Option.none : Option Jvm.ClassFile.FieldType)) ∈ lw_all := lw_g (lw_at lw_m1 25 rfl) rfl
theorem q80 : (Jvm.Cond.methodLink "SungSlides" (7 : Nat) ({ cls := "java/lang/Object", name := "<init>", desc := "()V" } : Jvm.MethodName)) ∈ lw_all := lw_g (lw_at lw_m1 26 rfl) rfl
theorem q83 : (Jvm.Cond.classLink "SungSlides" (13 : Nat) "SungSlides$Song") ∈ lw_all := lw_g (lw_at lw_m1 29 rfl) rfl
theorem q85 : (Jvm.Cond.methodLink "SungSlides" (15 : Nat) ({ cls := "SungSlides$Song", name := "<init>", desc := "()V" } : Jvm.MethodName)) ∈ lw_all := lw_g (lw_at lw_m1 31 rfl) rfl
theorem q124 : (Jvm.Cond.fieldLinkNest "SungSlides" (74 : Nat) "SungSlides$Song" "syllables" "Ljava/util/List;" "SungSlides") ∈ lw_tbl := lw_at lw_m1 70 rfl
theorem q126 : (Jvm.Cond.fieldLinkNest "SungSlides" (50 : Nat) "SungSlides$Song" "sung" "[I" "SungSlides") ∈ lw_tbl := lw_at lw_m1 72 rfl
theorem q129 : (Jvm.Cond.fieldLinkNest "SungSlides" (138 : Nat) "SungSlides$Song" "settings" "[I" "SungSlides") ∈ lw_tbl := lw_at lw_m1 75 rfl
theorem q137 : (Jvm.Cond.classLink "SungSlides" (20 : Nat) "java/util/ArrayList") ∈ lw_all := lw_g (lw_at lw_m1 83 rfl) rfl
theorem q138 : (Jvm.Cond.methodLink "SungSlides" (22 : Nat) ({ cls := "java/util/ArrayList", name := "<init>", desc := "()V" } : Jvm.MethodName)) ∈ lw_all := lw_g (lw_at lw_m1 84 rfl) rfl
theorem q139 : (Jvm.Cond.fieldLink "SungSlides" (16 : Nat) "SungSlides" "song" "LSungSlides$Song;") ∈ lw_all := lw_g (lw_at lw_m1 85 rfl) rfl
theorem q140 : (Jvm.Cond.fieldLink "SungSlides" (23 : Nat) "SungSlides" "history" "Ljava/util/List;") ∈ lw_all := lw_g (lw_at lw_m1 86 rfl) rfl
theorem q141 : (Jvm.Cond.fieldLink "SungSlides" (170 : Nat) "SungSlides" "snapshot" "LSungSlides$Song;") ∈ lw_all := lw_g (lw_at lw_m1 87 rfl) rfl
theorem q143 : (Jvm.Cond.fieldLink "SungSlides" (27 : Nat) "SungSlides" "text" "[C") ∈ lw_all := lw_g (lw_at lw_m1 89 rfl) rfl
theorem q145 : (Jvm.Cond.fieldLink "SungSlides" (167 : Nat) "SungSlides" "length" "I") ∈ lw_all := lw_g (lw_at lw_m1 91 rfl) rfl
theorem q146 : (Jvm.Cond.lays "SungSlides" "SungSlides" "song" "LSungSlides$Song;") ∈ lw_all := lw_g (lw_at lw_m1 92 rfl) rfl
theorem q147 : (Jvm.Cond.soleField "SungSlides" "song") ∈ lw_all := lw_g (lw_at lw_m1 93 rfl) rfl
theorem q148 : (Jvm.Cond.laysFinal "SungSlides" "SungSlides" "history" "Ljava/util/List;") ∈ lw_all := lw_g (lw_at lw_m1 94 rfl) rfl
theorem q149 : (Jvm.Cond.soleField "SungSlides" "history") ∈ lw_all := lw_g (lw_at lw_m1 95 rfl) rfl
theorem q150 : (Jvm.Cond.lays "SungSlides" "SungSlides" "snapshot" "LSungSlides$Song;") ∈ lw_all := lw_g (lw_at lw_m1 96 rfl) rfl
theorem q151 : (Jvm.Cond.soleField "SungSlides" "snapshot") ∈ lw_all := lw_g (lw_at lw_m1 97 rfl) rfl
theorem q152 : (Jvm.Cond.laysFinal "SungSlides" "SungSlides" "text" "[C") ∈ lw_all := lw_g (lw_at lw_m1 98 rfl) rfl
theorem q153 : (Jvm.Cond.soleField "SungSlides" "text") ∈ lw_all := lw_g (lw_at lw_m1 99 rfl) rfl
theorem q154 : (Jvm.Cond.lays "SungSlides" "SungSlides" "length" "I") ∈ lw_all := lw_g (lw_at lw_m1 100 rfl) rfl
theorem q155 : (Jvm.Cond.soleField "SungSlides" "length") ∈ lw_all := lw_g (lw_at lw_m1 101 rfl) rfl
theorem q156 : (Jvm.Cond.superclass "SungSlides" "java/lang/Object") ∈ lw_all := lw_g (lw_at lw_m1 102 rfl) rfl
theorem q159 : (Jvm.Cond.instanceMethod ({ cls := "SungSlides", name := "add", desc := "(IIIIZ)I" } : Jvm.MethodName)) ∈ lw_all := lw_g (lw_at lw_m1 105 rfl) rfl
theorem q160 : (Jvm.Cond.selects "SungSlides" ({ cls := "SungSlides", name := "add", desc := "(IIIIZ)I" } : Jvm.MethodName) ({ cls := "SungSlides", name := "add", desc := "(IIIIZ)I" } : Jvm.MethodName)) ∈ lw_all := lw_g (lw_at lw_m1 106 rfl) rfl
theorem q161 : (Jvm.Cond.codeWith ({ cls := "SungSlides", name := "add", desc := "(IIIIZ)I" } : Jvm.MethodName) prog_1_method_7_code (9 : Nat) (Option.some Jvm.ClassFile.FieldType.int) [((36 : Nat), (78 : Nat), (79 : Nat), (93 : Nat))]) ∈ lw_all := lw_g (lw_at lw_m1 107 rfl) rfl
theorem q162 : (Jvm.Cond.classLink "SungSlides" (93 : Nat) "SungSlides$NoRoom") ∈ lw_all := lw_g (lw_at lw_m1 108 rfl) rfl
theorem q163 : (Jvm.Cond.classLink "SungSlides" (58 : Nat) "SungSlides$Plan") ∈ lw_all := lw_g (lw_at lw_m1 109 rfl) rfl
theorem q165 : (Jvm.Cond.methodLink "SungSlides" (60 : Nat) ({ cls := "SungSlides$Plan", name := "<init>", desc := "(IIIIZ)V" } : Jvm.MethodName)) ∈ lw_all := lw_g (lw_at lw_m1 111 rfl) rfl
theorem q190 : (Jvm.Cond.methodLink "SungSlides" (63 : Nat) ({ cls := "SungSlides$Plan", name := "isRight", desc := "()Z" } : Jvm.MethodName)) ∈ lw_all := lw_g (lw_at lw_m1 136 rfl) rfl
theorem q195 : (Jvm.Cond.static ({ cls := "SungSlides", name := "isBetween", desc := "(III)Z" } : Jvm.MethodName)) ∈ lw_all := lw_g (lw_at lw_m1 141 rfl) rfl
theorem q196 : (Jvm.Cond.code ({ cls := "SungSlides", name := "isBetween", desc := "(III)Z" } : Jvm.MethodName) prog_1_method_1_code (3 : Nat) (Option.some Jvm.ClassFile.FieldType.boolean)) ∈ lw_all := lw_g (lw_at lw_m1 142 rfl) rfl
theorem q198 : (Jvm.Cond.static ({ cls := "SungSlides", name := "isPitch", desc := "(I)Z" } : Jvm.MethodName)) ∈ lw_all := lw_g (lw_at lw_m1 144 rfl) rfl
theorem q199 : (Jvm.Cond.code ({ cls := "SungSlides", name := "isPitch", desc := "(I)Z" } : Jvm.MethodName) prog_1_method_3_code (1 : Nat) (Option.some Jvm.ClassFile.FieldType.boolean)) ∈ lw_all := lw_g (lw_at lw_m1 145 rfl) rfl
theorem q200 : (Jvm.Cond.methodLink "SungSlides" (3 : Nat) ({ cls := "SungSlides", name := "isBetween", desc := "(III)Z" } : Jvm.MethodName)) ∈ lw_all := lw_g (lw_at lw_m1 146 rfl) rfl
theorem q201 : (Jvm.Cond.methodLink "SungSlides" (67 : Nat) ({ cls := "SungSlides$Song", name := "copy", desc := "()LSungSlides$Song;" } : Jvm.MethodName)) ∈ lw_all := lw_g (lw_at lw_m1 147 rfl) rfl
theorem q303 : (Jvm.Cond.selects "SungSlides" ({ cls := "java/lang/Object", name := "getClass", desc := "()Ljava/lang/Class;" } : Jvm.MethodName) ({ cls := "java/lang/Object", name := "getClass", desc := "()Ljava/lang/Class;" } : Jvm.MethodName)) ∈ lw_all := lw_g (lw_at lw_m2 9 rfl) rfl
theorem q328 : (Jvm.Cond.methodLink "SungSlides" (71 : Nat) ({ cls := "SungSlides$Song", name := "add", desc := "(LSungSlides$Plan;)V" } : Jvm.MethodName)) ∈ lw_all := lw_g (lw_at lw_m2 34 rfl) rfl
theorem q448 : (Jvm.Cond.fieldLinkNest "SungSlides" (85 : Nat) "SungSlides$Syllable" "begin" "I" "SungSlides") ∈ lw_tbl := lw_at lw_m2 154 rfl
theorem q452 : (Jvm.Cond.fieldLinkNest "SungSlides" (195 : Nat) "SungSlides$Syllable" "length" "I" "SungSlides") ∈ lw_tbl := lw_at lw_m2 158 rfl
theorem q454 : (Jvm.Cond.fieldLinkNest "SungSlides" (196 : Nat) "SungSlides$Syllable" "pitch" "I" "SungSlides") ∈ lw_tbl := lw_at lw_m2 160 rfl
theorem q456 : (Jvm.Cond.fieldLinkNest "SungSlides" (199 : Nat) "SungSlides$Syllable" "endPitch" "I" "SungSlides") ∈ lw_tbl := lw_at lw_m2 162 rfl
theorem q460 : (Jvm.Cond.fieldLinkNest "SungSlides" (202 : Nat) "SungSlides$Syllable" "phrase" "I" "SungSlides") ∈ lw_tbl := lw_at lw_m2 166 rfl
theorem q472 : (Jvm.Cond.methodLink "SungSlides" (77 : Nat) ({ cls := "SungSlides$Song", name := "many", desc := "()I" } : Jvm.MethodName)) ∈ lw_all := lw_g (lw_at lw_m2 178 rfl) rfl
theorem q473 : (Jvm.Cond.interfaceEntry "SungSlides" (80 : Nat)) ∈ lw_tbl := lw_at lw_m2 179 rfl
theorem q474 : (Jvm.Cond.methodLink "SungSlides" (80 : Nat) ({ cls := "java/util/List", name := "get", desc := "(I)Ljava/lang/Object;" } : Jvm.MethodName)) ∈ lw_all := lw_g (lw_at lw_m2 180 rfl) rfl
theorem q475 : (Jvm.Cond.classLink "SungSlides" (83 : Nat) "SungSlides$Syllable") ∈ lw_all := lw_g (lw_at lw_m2 181 rfl) rfl
theorem q476 : (Jvm.Cond.methodLink "SungSlides" (89 : Nat) ({ cls := "SungSlides", name := "changed", desc := "(LSungSlides$Song;I)I" } : Jvm.MethodName)) ∈ lw_all := lw_g (lw_at lw_m2 182 rfl) rfl
theorem q477 : (Jvm.Cond.privateMethod ({ cls := "SungSlides", name := "changed", desc := "(LSungSlides$Song;I)I" } : Jvm.MethodName)) ∈ lw_tbl := lw_at lw_m2 183 rfl
theorem q478 : (Jvm.Cond.instanceMethod ({ cls := "SungSlides", name := "changed", desc := "(LSungSlides$Song;I)I" } : Jvm.MethodName)) ∈ lw_all := lw_g (lw_at lw_m2 184 rfl) rfl
theorem q479 : (Jvm.Cond.code ({ cls := "SungSlides", name := "changed", desc := "(LSungSlides$Song;I)I" } : Jvm.MethodName) prog_1_method_5_code (3 : Nat) (Option.some Jvm.ClassFile.FieldType.int)) ∈ lw_all := lw_g (lw_at lw_m2 185 rfl) rfl
theorem q480 : (Jvm.Cond.interfaceEntry "SungSlides" (31 : Nat)) ∈ lw_tbl := lw_at lw_m2 186 rfl
theorem q481 : (Jvm.Cond.methodLink "SungSlides" (31 : Nat) ({ cls := "java/util/List", name := "size", desc := "()I" } : Jvm.MethodName)) ∈ lw_all := lw_g (lw_at lw_m2 187 rfl) rfl
theorem q482 : (Jvm.Cond.interfaceEntry "SungSlides" (37 : Nat)) ∈ lw_tbl := lw_at lw_m2 188 rfl
theorem q483 : (Jvm.Cond.methodLink "SungSlides" (37 : Nat) ({ cls := "java/util/List", name := "remove", desc := "(I)Ljava/lang/Object;" } : Jvm.MethodName)) ∈ lw_all := lw_g (lw_at lw_m2 189 rfl) rfl
theorem q496 : (Jvm.Cond.interfaceEntry "SungSlides" (41 : Nat)) ∈ lw_tbl := lw_at lw_m2 202 rfl
theorem q497 : (Jvm.Cond.methodLink "SungSlides" (41 : Nat) ({ cls := "java/util/List", name := "add", desc := "(Ljava/lang/Object;)Z" } : Jvm.MethodName)) ∈ lw_all := lw_g (lw_at lw_m2 203 rfl) rfl
theorem q499 : (Jvm.Cond.instanceMethod ({ cls := "SungSlides", name := "drop", desc := "()I" } : Jvm.MethodName)) ∈ lw_all := lw_g (lw_at lw_m2 205 rfl) rfl
theorem q500 : (Jvm.Cond.selects "SungSlides" ({ cls := "SungSlides", name := "drop", desc := "()I" } : Jvm.MethodName) ({ cls := "SungSlides", name := "drop", desc := "()I" } : Jvm.MethodName)) ∈ lw_all := lw_g (lw_at lw_m2 206 rfl) rfl
theorem q501 : (Jvm.Cond.code ({ cls := "SungSlides", name := "drop", desc := "()I" } : Jvm.MethodName) prog_1_method_8_code (2 : Nat) (Option.some Jvm.ClassFile.FieldType.int)) ∈ lw_all := lw_g (lw_at lw_m2 207 rfl) rfl
theorem q502 : (Jvm.Cond.interfaceEntry "SungSlides" (95 : Nat)) ∈ lw_tbl := lw_at lw_m2 208 rfl
theorem q503 : (Jvm.Cond.methodLink "SungSlides" (95 : Nat) ({ cls := "java/util/List", name := "isEmpty", desc := "()Z" } : Jvm.MethodName)) ∈ lw_all := lw_g (lw_at lw_m2 209 rfl) rfl
theorem q505 : (Jvm.Cond.instanceMethod ({ cls := "SungSlides", name := "read", desc := "()I" } : Jvm.MethodName)) ∈ lw_all := lw_g (lw_at lw_m2 211 rfl) rfl
theorem q506 : (Jvm.Cond.selects "SungSlides" ({ cls := "SungSlides", name := "read", desc := "()I" } : Jvm.MethodName) ({ cls := "SungSlides", name := "read", desc := "()I" } : Jvm.MethodName)) ∈ lw_all := lw_g (lw_at lw_m2 212 rfl) rfl
theorem q507 : (Jvm.Cond.codeWith ({ cls := "SungSlides", name := "read", desc := "()I" } : Jvm.MethodName) prog_1_method_9_code (6 : Nat) (Option.some Jvm.ClassFile.FieldType.int) [((50 : Nat), (107 : Nat), (108 : Nat), (93 : Nat))]) ∈ lw_all := lw_g (lw_at lw_m2 213 rfl) rfl
theorem q508 : (Jvm.Cond.classLink "SungSlides" (98 : Nat) "SungSlides$Reader") ∈ lw_all := lw_g (lw_at lw_m2 214 rfl) rfl
theorem q510 : (Jvm.Cond.methodLinkNest "SungSlides" (100 : Nat) ({ cls := "SungSlides$Reader", name := "<init>", desc := "(LSungSlides;)V" } : Jvm.MethodName) "SungSlides") ∈ lw_tbl := lw_at lw_m2 216 rfl
theorem q517 : (Jvm.Cond.fieldLinkNest "SungSlides" (109 : Nat) "SungSlides$Reader" "plans" "Ljava/util/List;" "SungSlides") ∈ lw_tbl := lw_at lw_m2 223 rfl
theorem q527 : (Jvm.Cond.methodLink "SungSlides" (103 : Nat) ({ cls := "SungSlides$Reader", name := "read", desc := "()I" } : Jvm.MethodName)) ∈ lw_all := lw_g (lw_at lw_m2 233 rfl) rfl
theorem q551 : (Jvm.Cond.interfaceEntry "SungSlides" (106 : Nat)) ∈ lw_tbl := lw_at lw_m3 17 rfl
theorem q552 : (Jvm.Cond.methodLink "SungSlides" (106 : Nat) ({ cls := "java/util/List", name := "clear", desc := "()V" } : Jvm.MethodName)) ∈ lw_all := lw_g (lw_at lw_m3 18 rfl) rfl
theorem q560 : (Jvm.Cond.interfaceEntry "SungSlides" (112 : Nat)) ∈ lw_tbl := lw_at lw_m3 26 rfl
theorem q561 : (Jvm.Cond.methodLink "SungSlides" (112 : Nat) ({ cls := "java/util/List", name := "iterator", desc := "()Ljava/util/Iterator;" } : Jvm.MethodName)) ∈ lw_all := lw_g (lw_at lw_m3 27 rfl) rfl
theorem q562 : (Jvm.Cond.interfaceEntry "SungSlides" (116 : Nat)) ∈ lw_tbl := lw_at lw_m3 28 rfl
theorem q563 : (Jvm.Cond.methodLink "SungSlides" (116 : Nat) ({ cls := "java/util/Iterator", name := "hasNext", desc := "()Z" } : Jvm.MethodName)) ∈ lw_all := lw_g (lw_at lw_m3 29 rfl) rfl
theorem q564 : (Jvm.Cond.interfaceEntry "SungSlides" (121 : Nat)) ∈ lw_tbl := lw_at lw_m3 30 rfl
theorem q565 : (Jvm.Cond.methodLink "SungSlides" (121 : Nat) ({ cls := "java/util/Iterator", name := "next", desc := "()Ljava/lang/Object;" } : Jvm.MethodName)) ∈ lw_all := lw_g (lw_at lw_m3 31 rfl) rfl
theorem q567 : (Jvm.Cond.instanceMethod ({ cls := "SungSlides", name := "set", desc := "(II)I" } : Jvm.MethodName)) ∈ lw_all := lw_g (lw_at lw_m3 33 rfl) rfl
theorem q568 : (Jvm.Cond.selects "SungSlides" ({ cls := "SungSlides", name := "set", desc := "(II)I" } : Jvm.MethodName) ({ cls := "SungSlides", name := "set", desc := "(II)I" } : Jvm.MethodName)) ∈ lw_all := lw_g (lw_at lw_m3 34 rfl) rfl
theorem q569 : (Jvm.Cond.code ({ cls := "SungSlides", name := "set", desc := "(II)I" } : Jvm.MethodName) prog_1_method_12_code (5 : Nat) (Option.some Jvm.ClassFile.FieldType.int)) ∈ lw_all := lw_g (lw_at lw_m3 35 rfl) rfl
theorem q570 : (Jvm.Cond.methodLink "SungSlides" (131 : Nat) ({ cls := "SungSlides", name := "isSetting", desc := "(I)Z" } : Jvm.MethodName)) ∈ lw_all := lw_g (lw_at lw_m3 36 rfl) rfl
theorem q571 : (Jvm.Cond.static ({ cls := "SungSlides", name := "isSetting", desc := "(I)Z" } : Jvm.MethodName)) ∈ lw_all := lw_g (lw_at lw_m3 37 rfl) rfl
theorem q572 : (Jvm.Cond.code ({ cls := "SungSlides", name := "isSetting", desc := "(I)Z" } : Jvm.MethodName) prog_1_method_10_code (1 : Nat) (Option.some Jvm.ClassFile.FieldType.boolean)) ∈ lw_all := lw_g (lw_at lw_m3 38 rfl) rfl
theorem q573 : (Jvm.Cond.methodLink "SungSlides" (135 : Nat) ({ cls := "SungSlides", name := "isRight", desc := "(II)Z" } : Jvm.MethodName)) ∈ lw_all := lw_g (lw_at lw_m3 39 rfl) rfl
theorem q574 : (Jvm.Cond.static ({ cls := "SungSlides", name := "isRight", desc := "(II)Z" } : Jvm.MethodName)) ∈ lw_all := lw_g (lw_at lw_m3 40 rfl) rfl
theorem q575 : (Jvm.Cond.code ({ cls := "SungSlides", name := "isRight", desc := "(II)Z" } : Jvm.MethodName) prog_1_method_11_code (2 : Nat) (Option.some Jvm.ClassFile.FieldType.boolean)) ∈ lw_all := lw_g (lw_at lw_m3 41 rfl) rfl
theorem q576 : (Jvm.Cond.fieldLink "SungSlides" (125 : Nat) "SungSlides" "LEAST" "[I") ∈ lw_all := lw_g (lw_at lw_m3 42 rfl) rfl
theorem q577 : (Jvm.Cond.laysStatic "SungSlides" "LEAST" "[I") ∈ lw_tbl := lw_at lw_m3 43 rfl
theorem q578 : (Jvm.Cond.fieldLink "SungSlides" (128 : Nat) "SungSlides" "GREATEST" "[I") ∈ lw_all := lw_g (lw_at lw_m3 44 rfl) rfl
theorem q579 : (Jvm.Cond.laysStatic "SungSlides" "GREATEST" "[I") ∈ lw_tbl := lw_at lw_m3 45 rfl
theorem q581 : (Jvm.Cond.instanceMethod ({ cls := "SungSlides", name := "sing", desc := "(III)I" } : Jvm.MethodName)) ∈ lw_all := lw_g (lw_at lw_m3 47 rfl) rfl
theorem q582 : (Jvm.Cond.selects "SungSlides" ({ cls := "SungSlides", name := "sing", desc := "(III)I" } : Jvm.MethodName) ({ cls := "SungSlides", name := "sing", desc := "(III)I" } : Jvm.MethodName)) ∈ lw_all := lw_g (lw_at lw_m3 48 rfl) rfl
theorem q583 : (Jvm.Cond.code ({ cls := "SungSlides", name := "sing", desc := "(III)I" } : Jvm.MethodName) prog_1_method_14_code (6 : Nat) (Option.some Jvm.ClassFile.FieldType.int)) ∈ lw_all := lw_g (lw_at lw_m3 49 rfl) rfl
theorem q584 : (Jvm.Cond.methodLink "SungSlides" (144 : Nat) ({ cls := "SungSlides", name := "areTicks", desc := "(III)Z" } : Jvm.MethodName)) ∈ lw_all := lw_g (lw_at lw_m3 50 rfl) rfl
theorem q585 : (Jvm.Cond.static ({ cls := "SungSlides", name := "areTicks", desc := "(III)Z" } : Jvm.MethodName)) ∈ lw_all := lw_g (lw_at lw_m3 51 rfl) rfl
theorem q586 : (Jvm.Cond.code ({ cls := "SungSlides", name := "areTicks", desc := "(III)Z" } : Jvm.MethodName) prog_1_method_13_code (3 : Nat) (Option.some Jvm.ClassFile.FieldType.boolean)) ∈ lw_all := lw_g (lw_at lw_m3 52 rfl) rfl
theorem q587 : (Jvm.Cond.methodLink "SungSlides" (141 : Nat) ({ cls := "SungSlides", name := "isTick", desc := "(I)Z" } : Jvm.MethodName)) ∈ lw_all := lw_g (lw_at lw_m3 53 rfl) rfl
theorem q588 : (Jvm.Cond.static ({ cls := "SungSlides", name := "isTick", desc := "(I)Z" } : Jvm.MethodName)) ∈ lw_all := lw_g (lw_at lw_m3 54 rfl) rfl
theorem q589 : (Jvm.Cond.code ({ cls := "SungSlides", name := "isTick", desc := "(I)Z" } : Jvm.MethodName) prog_1_method_2_code (1 : Nat) (Option.some Jvm.ClassFile.FieldType.boolean)) ∈ lw_all := lw_g (lw_at lw_m3 55 rfl) rfl
theorem q590 : (Jvm.Cond.methodLink "SungSlides" (147 : Nat) ({ cls := "SungSlides", name := "isPitch", desc := "(I)Z" } : Jvm.MethodName)) ∈ lw_all := lw_g (lw_at lw_m3 56 rfl) rfl
theorem q591 : (Jvm.Cond.methodLink "SungSlides" (150 : Nat) ({ cls := "SungSlides", name := "judged", desc := "()LSungSlides$Judge;" } : Jvm.MethodName)) ∈ lw_all := lw_g (lw_at lw_m3 57 rfl) rfl
theorem q592 : (Jvm.Cond.privateMethod ({ cls := "SungSlides", name := "judged", desc := "()LSungSlides$Judge;" } : Jvm.MethodName)) ∈ lw_tbl := lw_at lw_m3 58 rfl
theorem q593 : (Jvm.Cond.instanceMethod ({ cls := "SungSlides", name := "judged", desc := "()LSungSlides$Judge;" } : Jvm.MethodName)) ∈ lw_all := lw_g (lw_at lw_m3 59 rfl) rfl
theorem q594 : (Jvm.Cond.code ({ cls := "SungSlides", name := "judged", desc := "()LSungSlides$Judge;" } : Jvm.MethodName) prog_1_method_6_code (1 : Nat) (Option.some (Jvm.ClassFile.FieldType.object "SungSlides$Judge"))) ∈ lw_all := lw_g (lw_at lw_m3 60 rfl) rfl
theorem q595 : (Jvm.Cond.classLink "SungSlides" (45 : Nat) "SungSlides$Judge") ∈ lw_all := lw_g (lw_at lw_m3 61 rfl) rfl
theorem q597 : (Jvm.Cond.methodLink "SungSlides" (47 : Nat) ({ cls := "SungSlides$Judge", name := "<init>", desc := "(LSungSlides$Song;)V" } : Jvm.MethodName)) ∈ lw_all := lw_g (lw_at lw_m3 63 rfl) rfl
theorem q603 : (Jvm.Cond.fieldLinkNest "SungSlides" (177 : Nat) "SungSlides$Judge" "matching" "[I" "SungSlides") ∈ lw_tbl := lw_at lw_m3 69 rfl
theorem q605 : (Jvm.Cond.fieldLinkNest "SungSlides" (183 : Nat) "SungSlides$Judge" "onsets" "[I" "SungSlides") ∈ lw_tbl := lw_at lw_m3 71 rfl
theorem q607 : (Jvm.Cond.fieldLinkNest "SungSlides" (186 : Nat) "SungSlides$Judge" "reasons" "[I" "SungSlides") ∈ lw_tbl := lw_at lw_m3 73 rfl
theorem q609 : (Jvm.Cond.fieldLinkNest "SungSlides" (192 : Nat) "SungSlides$Judge" "rows" "[I" "SungSlides") ∈ lw_tbl := lw_at lw_m3 75 rfl
theorem q611 : (Jvm.Cond.fieldLinkNest "SungSlides" (189 : Nat) "SungSlides$Judge" "points" "[I" "SungSlides") ∈ lw_tbl := lw_at lw_m3 77 rfl
theorem q628 : (Jvm.Cond.methodLink "SungSlides" (54 : Nat) ({ cls := "SungSlides$Judge", name := "run", desc := "([I)LSungSlides$Judge;" } : Jvm.MethodName)) ∈ lw_all := lw_g (lw_at lw_m3 94 rfl) rfl
theorem q675 : (Jvm.Cond.methodLink "SungSlides" (154 : Nat) ({ cls := "SungSlides$Judge", name := "hits", desc := "(I)I" } : Jvm.MethodName)) ∈ lw_all := lw_g (lw_at lw_m3 141 rfl) rfl
theorem q680 : (Jvm.Cond.instanceMethod ({ cls := "SungSlides", name := "silence", desc := "(II)I" } : Jvm.MethodName)) ∈ lw_all := lw_g (lw_at lw_m3 146 rfl) rfl
theorem q681 : (Jvm.Cond.selects "SungSlides" ({ cls := "SungSlides", name := "silence", desc := "(II)I" } : Jvm.MethodName) ({ cls := "SungSlides", name := "silence", desc := "(II)I" } : Jvm.MethodName)) ∈ lw_all := lw_g (lw_at lw_m3 147 rfl) rfl
theorem q682 : (Jvm.Cond.code ({ cls := "SungSlides", name := "silence", desc := "(II)I" } : Jvm.MethodName) prog_1_method_15_code (6 : Nat) (Option.some Jvm.ClassFile.FieldType.int)) ∈ lw_all := lw_g (lw_at lw_m3 148 rfl) rfl
theorem q684 : (Jvm.Cond.instanceMethod ({ cls := "SungSlides", name := "singAlong", desc := "(III)I" } : Jvm.MethodName)) ∈ lw_all := lw_g (lw_at lw_m3 150 rfl) rfl
theorem q685 : (Jvm.Cond.selects "SungSlides" ({ cls := "SungSlides", name := "singAlong", desc := "(III)I" } : Jvm.MethodName) ({ cls := "SungSlides", name := "singAlong", desc := "(III)I" } : Jvm.MethodName)) ∈ lw_all := lw_g (lw_at lw_m3 151 rfl) rfl
theorem q686 : (Jvm.Cond.code ({ cls := "SungSlides", name := "singAlong", desc := "(III)I" } : Jvm.MethodName) prog_1_method_17_code (9 : Nat) (Option.some Jvm.ClassFile.FieldType.int)) ∈ lw_all := lw_g (lw_at lw_m3 152 rfl) rfl
theorem q687 : (Jvm.Cond.methodLink "SungSlides" (158 : Nat) ({ cls := "SungSlides", name := "isSyllable", desc := "(I)Z" } : Jvm.MethodName)) ∈ lw_all := lw_g (lw_at lw_m3 153 rfl) rfl
theorem q688 : (Jvm.Cond.privateMethod ({ cls := "SungSlides", name := "isSyllable", desc := "(I)Z" } : Jvm.MethodName)) ∈ lw_tbl := lw_at lw_m3 154 rfl
theorem q689 : (Jvm.Cond.instanceMethod ({ cls := "SungSlides", name := "isSyllable", desc := "(I)Z" } : Jvm.MethodName)) ∈ lw_all := lw_g (lw_at lw_m3 155 rfl) rfl
theorem q690 : (Jvm.Cond.code ({ cls := "SungSlides", name := "isSyllable", desc := "(I)Z" } : Jvm.MethodName) prog_1_method_16_code (2 : Nat) (Option.some Jvm.ClassFile.FieldType.boolean)) ∈ lw_all := lw_g (lw_at lw_m3 156 rfl) rfl
theorem q691 : (Jvm.Cond.methodLink "SungSlides" (161 : Nat) ({ cls := "SungSlides$Syllable", name := "end", desc := "()I" } : Jvm.MethodName)) ∈ lw_all := lw_g (lw_at lw_m3 157 rfl) rfl
theorem q692 : (Jvm.Cond.methodLink "SungSlides" (164 : Nat) ({ cls := "SungSlides$Syllable", name := "wanted", desc := "(I)I" } : Jvm.MethodName)) ∈ lw_all := lw_g (lw_at lw_m3 158 rfl) rfl
theorem q694 : (Jvm.Cond.instanceMethod ({ cls := "SungSlides", name := "type", desc := "(C)I" } : Jvm.MethodName)) ∈ lw_all := lw_g (lw_at lw_m3 160 rfl) rfl
theorem q695 : (Jvm.Cond.selects "SungSlides" ({ cls := "SungSlides", name := "type", desc := "(C)I" } : Jvm.MethodName) ({ cls := "SungSlides", name := "type", desc := "(C)I" } : Jvm.MethodName)) ∈ lw_all := lw_g (lw_at lw_m3 161 rfl) rfl
theorem q696 : (Jvm.Cond.code ({ cls := "SungSlides", name := "type", desc := "(C)I" } : Jvm.MethodName) prog_1_method_18_code (2 : Nat) (Option.some Jvm.ClassFile.FieldType.int)) ∈ lw_all := lw_g (lw_at lw_m3 162 rfl) rfl
theorem q698 : (Jvm.Cond.instanceMethod ({ cls := "SungSlides", name := "clearText", desc := "()I" } : Jvm.MethodName)) ∈ lw_all := lw_g (lw_at lw_m3 164 rfl) rfl
theorem q699 : (Jvm.Cond.selects "SungSlides" ({ cls := "SungSlides", name := "clearText", desc := "()I" } : Jvm.MethodName) ({ cls := "SungSlides", name := "clearText", desc := "()I" } : Jvm.MethodName)) ∈ lw_all := lw_g (lw_at lw_m3 165 rfl) rfl
theorem q700 : (Jvm.Cond.code ({ cls := "SungSlides", name := "clearText", desc := "()I" } : Jvm.MethodName) prog_1_method_19_code (2 : Nat) (Option.some Jvm.ClassFile.FieldType.int)) ∈ lw_all := lw_g (lw_at lw_m3 166 rfl) rfl
theorem q702 : (Jvm.Cond.instanceMethod ({ cls := "SungSlides", name := "undo", desc := "()I" } : Jvm.MethodName)) ∈ lw_all := lw_g (lw_at lw_m3 168 rfl) rfl
theorem q703 : (Jvm.Cond.selects "SungSlides" ({ cls := "SungSlides", name := "undo", desc := "()I" } : Jvm.MethodName) ({ cls := "SungSlides", name := "undo", desc := "()I" } : Jvm.MethodName)) ∈ lw_all := lw_g (lw_at lw_m3 169 rfl) rfl
theorem q704 : (Jvm.Cond.code ({ cls := "SungSlides", name := "undo", desc := "()I" } : Jvm.MethodName) prog_1_method_20_code (1 : Nat) (Option.some Jvm.ClassFile.FieldType.int)) ∈ lw_all := lw_g (lw_at lw_m3 170 rfl) rfl
theorem q706 : (Jvm.Cond.instanceMethod ({ cls := "SungSlides", name := "keep", desc := "()I" } : Jvm.MethodName)) ∈ lw_all := lw_g (lw_at lw_m3 172 rfl) rfl
theorem q707 : (Jvm.Cond.selects "SungSlides" ({ cls := "SungSlides", name := "keep", desc := "()I" } : Jvm.MethodName) ({ cls := "SungSlides", name := "keep", desc := "()I" } : Jvm.MethodName)) ∈ lw_all := lw_g (lw_at lw_m3 173 rfl) rfl
theorem q708 : (Jvm.Cond.code ({ cls := "SungSlides", name := "keep", desc := "()I" } : Jvm.MethodName) prog_1_method_21_code (1 : Nat) (Option.some Jvm.ClassFile.FieldType.int)) ∈ lw_all := lw_g (lw_at lw_m3 174 rfl) rfl
theorem q710 : (Jvm.Cond.instanceMethod ({ cls := "SungSlides", name := "restore", desc := "()I" } : Jvm.MethodName)) ∈ lw_all := lw_g (lw_at lw_m3 176 rfl) rfl
theorem q711 : (Jvm.Cond.selects "SungSlides" ({ cls := "SungSlides", name := "restore", desc := "()I" } : Jvm.MethodName) ({ cls := "SungSlides", name := "restore", desc := "()I" } : Jvm.MethodName)) ∈ lw_all := lw_g (lw_at lw_m3 177 rfl) rfl
theorem q712 : (Jvm.Cond.code ({ cls := "SungSlides", name := "restore", desc := "()I" } : Jvm.MethodName) prog_1_method_22_code (2 : Nat) (Option.some Jvm.ClassFile.FieldType.int)) ∈ lw_all := lw_g (lw_at lw_m3 178 rfl) rfl
theorem q714 : (Jvm.Cond.instanceMethod ({ cls := "SungSlides", name := "syllable", desc := "(II)I" } : Jvm.MethodName)) ∈ lw_all := lw_g (lw_at lw_m3 180 rfl) rfl
theorem q715 : (Jvm.Cond.selects "SungSlides" ({ cls := "SungSlides", name := "syllable", desc := "(II)I" } : Jvm.MethodName) ({ cls := "SungSlides", name := "syllable", desc := "(II)I" } : Jvm.MethodName)) ∈ lw_all := lw_g (lw_at lw_m3 181 rfl) rfl
theorem q716 : (Jvm.Cond.code ({ cls := "SungSlides", name := "syllable", desc := "(II)I" } : Jvm.MethodName) prog_1_method_24_code (4 : Nat) (Option.some Jvm.ClassFile.FieldType.int)) ∈ lw_all := lw_g (lw_at lw_m3 182 rfl) rfl
theorem q717 : (Jvm.Cond.methodLink "SungSlides" (205 : Nat) ({ cls := "SungSlides", name := "ofJudge", desc := "(LSungSlides$Judge;II)I" } : Jvm.MethodName)) ∈ lw_all := lw_g (lw_at lw_m3 183 rfl) rfl
theorem q718 : (Jvm.Cond.privateMethod ({ cls := "SungSlides", name := "ofJudge", desc := "(LSungSlides$Judge;II)I" } : Jvm.MethodName)) ∈ lw_tbl := lw_at lw_m3 184 rfl
theorem q719 : (Jvm.Cond.instanceMethod ({ cls := "SungSlides", name := "ofJudge", desc := "(LSungSlides$Judge;II)I" } : Jvm.MethodName)) ∈ lw_all := lw_g (lw_at lw_m3 185 rfl) rfl
theorem q720 : (Jvm.Cond.code ({ cls := "SungSlides", name := "ofJudge", desc := "(LSungSlides$Judge;II)I" } : Jvm.MethodName) prog_1_method_23_code (4 : Nat) (Option.some Jvm.ClassFile.FieldType.int)) ∈ lw_all := lw_g (lw_at lw_m3 186 rfl) rfl
theorem q721 : (Jvm.Cond.methodLink "SungSlides" (173 : Nat) ({ cls := "SungSlides$Judge", name := "bars", desc := "(LSungSlides$Syllable;Z)I" } : Jvm.MethodName)) ∈ lw_all := lw_g (lw_at lw_m3 187 rfl) rfl
theorem q722 : (Jvm.Cond.methodLink "SungSlides" (180 : Nat) ({ cls := "SungSlides$Judge", name := "share", desc := "(I)I" } : Jvm.MethodName)) ∈ lw_all := lw_g (lw_at lw_m3 188 rfl) rfl
theorem q724 : (Jvm.Cond.instanceMethod ({ cls := "SungSlides", name := "wanted", desc := "(I)I" } : Jvm.MethodName)) ∈ lw_all := lw_g (lw_at lw_m3 190 rfl) rfl
theorem q725 : (Jvm.Cond.selects "SungSlides" ({ cls := "SungSlides", name := "wanted", desc := "(I)I" } : Jvm.MethodName) ({ cls := "SungSlides", name := "wanted", desc := "(I)I" } : Jvm.MethodName)) ∈ lw_all := lw_g (lw_at lw_m3 191 rfl) rfl
theorem q726 : (Jvm.Cond.code ({ cls := "SungSlides", name := "wanted", desc := "(I)I" } : Jvm.MethodName) prog_1_method_25_code (3 : Nat) (Option.some Jvm.ClassFile.FieldType.int)) ∈ lw_all := lw_g (lw_at lw_m3 192 rfl) rfl
theorem q727 : (Jvm.Cond.methodLink "SungSlides" (209 : Nat) ({ cls := "SungSlides$Song", name := "at", desc := "(I)LSungSlides$Syllable;" } : Jvm.MethodName)) ∈ lw_all := lw_g (lw_at lw_m3 193 rfl) rfl
theorem q733 : (Jvm.Cond.instanceMethod ({ cls := "SungSlides", name := "sung", desc := "(I)I" } : Jvm.MethodName)) ∈ lw_all := lw_g (lw_at lw_m3 199 rfl) rfl
theorem q734 : (Jvm.Cond.selects "SungSlides" ({ cls := "SungSlides", name := "sung", desc := "(I)I" } : Jvm.MethodName) ({ cls := "SungSlides", name := "sung", desc := "(I)I" } : Jvm.MethodName)) ∈ lw_all := lw_g (lw_at lw_m3 200 rfl) rfl
theorem q735 : (Jvm.Cond.code ({ cls := "SungSlides", name := "sung", desc := "(I)I" } : Jvm.MethodName) prog_1_method_26_code (2 : Nat) (Option.some Jvm.ClassFile.FieldType.int)) ∈ lw_all := lw_g (lw_at lw_m3 201 rfl) rfl
theorem q737 : (Jvm.Cond.instanceMethod ({ cls := "SungSlides", name := "lit", desc := "(II)I" } : Jvm.MethodName)) ∈ lw_all := lw_g (lw_at lw_m3 203 rfl) rfl
theorem q738 : (Jvm.Cond.selects "SungSlides" ({ cls := "SungSlides", name := "lit", desc := "(II)I" } : Jvm.MethodName) ({ cls := "SungSlides", name := "lit", desc := "(II)I" } : Jvm.MethodName)) ∈ lw_all := lw_g (lw_at lw_m3 204 rfl) rfl
theorem q739 : (Jvm.Cond.code ({ cls := "SungSlides", name := "lit", desc := "(II)I" } : Jvm.MethodName) prog_1_method_27_code (4 : Nat) (Option.some Jvm.ClassFile.FieldType.int)) ∈ lw_all := lw_g (lw_at lw_m3 205 rfl) rfl
theorem q740 : (Jvm.Cond.methodLink "SungSlides" (213 : Nat) ({ cls := "java/lang/Math", name := "min", desc := "(II)I" } : Jvm.MethodName)) ∈ lw_all := lw_g (lw_at lw_m3 206 rfl) rfl
theorem q741 : (Jvm.Cond.methodLink "SungSlides" (219 : Nat) ({ cls := "java/lang/Math", name := "max", desc := "(II)I" } : Jvm.MethodName)) ∈ lw_all := lw_g (lw_at lw_m3 207 rfl) rfl
theorem q743 : (Jvm.Cond.instanceMethod ({ cls := "SungSlides", name := "phrase", desc := "(II)I" } : Jvm.MethodName)) ∈ lw_all := lw_g (lw_at lw_m3 209 rfl) rfl
theorem q744 : (Jvm.Cond.selects "SungSlides" ({ cls := "SungSlides", name := "phrase", desc := "(II)I" } : Jvm.MethodName) ({ cls := "SungSlides", name := "phrase", desc := "(II)I" } : Jvm.MethodName)) ∈ lw_all := lw_g (lw_at lw_m3 210 rfl) rfl
theorem q745 : (Jvm.Cond.code ({ cls := "SungSlides", name := "phrase", desc := "(II)I" } : Jvm.MethodName) prog_1_method_28_code (4 : Nat) (Option.some Jvm.ClassFile.FieldType.int)) ∈ lw_all := lw_g (lw_at lw_m3 211 rfl) rfl
theorem q746 : (Jvm.Cond.methodLink "SungSlides" (222 : Nat) ({ cls := "SungSlides$Song", name := "phrases", desc := "()I" } : Jvm.MethodName)) ∈ lw_all := lw_g (lw_at lw_m3 212 rfl) rfl
theorem q747 : (Jvm.Cond.methodLink "SungSlides" (225 : Nat) ({ cls := "SungSlides$Judge", name := "first", desc := "(I)I" } : Jvm.MethodName)) ∈ lw_all := lw_g (lw_at lw_m3 213 rfl) rfl
theorem q751 : (Jvm.Cond.methodLink "SungSlides" (228 : Nat) ({ cls := "SungSlides$Judge", name := "many", desc := "(I)I" } : Jvm.MethodName)) ∈ lw_all := lw_g (lw_at lw_m3 217 rfl) rfl
theorem q761 : (Jvm.Cond.methodLink "SungSlides" (230 : Nat) ({ cls := "SungSlides$Judge", name := "pointsOf", desc := "(I)I" } : Jvm.MethodName)) ∈ lw_all := lw_g (lw_at lw_m3 227 rfl) rfl
theorem q767 : (Jvm.Cond.methodLink "SungSlides" (233 : Nat) ({ cls := "SungSlides$Judge", name := "longestRow", desc := "(I)I" } : Jvm.MethodName)) ∈ lw_all := lw_g (lw_at lw_m3 233 rfl) rfl
theorem q772 : (Jvm.Cond.instanceMethod ({ cls := "SungSlides", name := "total", desc := "(I)I" } : Jvm.MethodName)) ∈ lw_all := lw_g (lw_at lw_m3 238 rfl) rfl
theorem q773 : (Jvm.Cond.selects "SungSlides" ({ cls := "SungSlides", name := "total", desc := "(I)I" } : Jvm.MethodName) ({ cls := "SungSlides", name := "total", desc := "(I)I" } : Jvm.MethodName)) ∈ lw_all := lw_g (lw_at lw_m3 239 rfl) rfl
theorem q774 : (Jvm.Cond.code ({ cls := "SungSlides", name := "total", desc := "(I)I" } : Jvm.MethodName) prog_1_method_30_code (2 : Nat) (Option.some Jvm.ClassFile.FieldType.int)) ∈ lw_all := lw_g (lw_at lw_m4 0 rfl) rfl
theorem q775 : (Jvm.Cond.methodLink "SungSlides" (239 : Nat) ({ cls := "SungSlides$Song", name := "end", desc := "()I" } : Jvm.MethodName)) ∈ lw_all := lw_g (lw_at lw_m4 1 rfl) rfl
theorem q776 : (Jvm.Cond.methodLink "SungSlides" (240 : Nat) ({ cls := "SungSlides", name := "sungTicks", desc := "(Z)I" } : Jvm.MethodName)) ∈ lw_all := lw_g (lw_at lw_m4 2 rfl) rfl
theorem q777 : (Jvm.Cond.privateMethod ({ cls := "SungSlides", name := "sungTicks", desc := "(Z)I" } : Jvm.MethodName)) ∈ lw_tbl := lw_at lw_m4 3 rfl
theorem q778 : (Jvm.Cond.instanceMethod ({ cls := "SungSlides", name := "sungTicks", desc := "(Z)I" } : Jvm.MethodName)) ∈ lw_all := lw_g (lw_at lw_m4 4 rfl) rfl
theorem q779 : (Jvm.Cond.code ({ cls := "SungSlides", name := "sungTicks", desc := "(Z)I" } : Jvm.MethodName) prog_1_method_29_code (5 : Nat) (Option.some Jvm.ClassFile.FieldType.int)) ∈ lw_all := lw_g (lw_at lw_m4 5 rfl) rfl
theorem q780 : (Jvm.Cond.methodLinkNest "SungSlides" (236 : Nat) ({ cls := "SungSlides$Judge", name := "isOnset", desc := "(I)Z" } : Jvm.MethodName) "SungSlides") ∈ lw_tbl := lw_at lw_m4 6 rfl
theorem q781 : (Jvm.Cond.methodLink "SungSlides" (244 : Nat) ({ cls := "SungSlides$Judge", name := "all", desc := "()I" } : Jvm.MethodName)) ∈ lw_all := lw_g (lw_at lw_m4 7 rfl) rfl
theorem q787 : (Jvm.Cond.methodLink "SungSlides" (247 : Nat) ({ cls := "SungSlides$Judge", name := "most", desc := "()I" } : Jvm.MethodName)) ∈ lw_all := lw_g (lw_at lw_m4 13 rfl) rfl
theorem q792 : (Jvm.Cond.instanceMethod ({ cls := "SungSlides", name := "ifShifted", desc := "(II)I" } : Jvm.MethodName)) ∈ lw_all := lw_g (lw_at lw_m4 18 rfl) rfl
theorem q793 : (Jvm.Cond.selects "SungSlides" ({ cls := "SungSlides", name := "ifShifted", desc := "(II)I" } : Jvm.MethodName) ({ cls := "SungSlides", name := "ifShifted", desc := "(II)I" } : Jvm.MethodName)) ∈ lw_all := lw_g (lw_at lw_m4 19 rfl) rfl
theorem q794 : (Jvm.Cond.code ({ cls := "SungSlides", name := "ifShifted", desc := "(II)I" } : Jvm.MethodName) prog_1_method_32_code (4 : Nat) (Option.some Jvm.ClassFile.FieldType.int)) ∈ lw_all := lw_g (lw_at lw_m4 20 rfl) rfl
theorem q795 : (Jvm.Cond.methodLink "SungSlides" (250 : Nat) ({ cls := "SungSlides", name := "shift", desc := "([III)V" } : Jvm.MethodName)) ∈ lw_all := lw_g (lw_at lw_m4 21 rfl) rfl
theorem q796 : (Jvm.Cond.privateMethod ({ cls := "SungSlides", name := "shift", desc := "([III)V" } : Jvm.MethodName)) ∈ lw_tbl := lw_at lw_m4 22 rfl
theorem q797 : (Jvm.Cond.instanceMethod ({ cls := "SungSlides", name := "shift", desc := "([III)V" } : Jvm.MethodName)) ∈ lw_all := lw_g (lw_at lw_m4 23 rfl) rfl
theorem q798 : (Jvm.Cond.code ({ cls := "SungSlides", name := "shift", desc := "([III)V" } : Jvm.MethodName) prog_1_method_31_code (7 : Nat) (Option.none : Option Jvm.ClassFile.FieldType)) ∈ lw_all := lw_g (lw_at lw_m4 24 rfl) rfl
theorem q800 : (Jvm.Cond.instanceMethod ({ cls := "SungSlides", name := "bestShift", desc := "()I" } : Jvm.MethodName)) ∈ lw_all := lw_g (lw_at lw_m4 26 rfl) rfl
theorem q801 : (Jvm.Cond.selects "SungSlides" ({ cls := "SungSlides", name := "bestShift", desc := "()I" } : Jvm.MethodName) ({ cls := "SungSlides", name := "bestShift", desc := "()I" } : Jvm.MethodName)) ∈ lw_all := lw_g (lw_at lw_m4 27 rfl) rfl
theorem q802 : (Jvm.Cond.code ({ cls := "SungSlides", name := "bestShift", desc := "()I" } : Jvm.MethodName) prog_1_method_33_code (8 : Nat) (Option.some Jvm.ClassFile.FieldType.int)) ∈ lw_all := lw_g (lw_at lw_m4 28 rfl) rfl
theorem q804 : (Jvm.Cond.instanceMethod ({ cls := "SungSlides", name := "ifSet", desc := "(II)I" } : Jvm.MethodName)) ∈ lw_all := lw_g (lw_at lw_m4 30 rfl) rfl
theorem q805 : (Jvm.Cond.selects "SungSlides" ({ cls := "SungSlides", name := "ifSet", desc := "(II)I" } : Jvm.MethodName) ({ cls := "SungSlides", name := "ifSet", desc := "(II)I" } : Jvm.MethodName)) ∈ lw_all := lw_g (lw_at lw_m4 31 rfl) rfl
theorem q806 : (Jvm.Cond.codeWith ({ cls := "SungSlides", name := "ifSet", desc := "(II)I" } : Jvm.MethodName) prog_1_method_34_code (6 : Nat) (Option.some Jvm.ClassFile.FieldType.int) [((40 : Nat), (49 : Nat), (62 : Nat), (0 : Nat)), ((62 : Nat), (64 : Nat), (62 : Nat), (0 : Nat))]) ∈ lw_all := lw_g (lw_at lw_m4 32 rfl) rfl
theorem q808 : (Jvm.Cond.instanceMethod ({ cls := "SungSlides", name := "worst", desc := "()I" } : Jvm.MethodName)) ∈ lw_all := lw_g (lw_at lw_m4 34 rfl) rfl
theorem q809 : (Jvm.Cond.selects "SungSlides" ({ cls := "SungSlides", name := "worst", desc := "()I" } : Jvm.MethodName) ({ cls := "SungSlides", name := "worst", desc := "()I" } : Jvm.MethodName)) ∈ lw_all := lw_g (lw_at lw_m4 35 rfl) rfl
theorem q810 : (Jvm.Cond.code ({ cls := "SungSlides", name := "worst", desc := "()I" } : Jvm.MethodName) prog_1_method_35_code (6 : Nat) (Option.some Jvm.ClassFile.FieldType.int)) ∈ lw_all := lw_g (lw_at lw_m4 36 rfl) rfl
theorem q1110 : (Jvm.Cond.castable "SungSlides" "java/lang/Object") ∈ lw_tbl := lw_at lw_m5 96 rfl
theorem in_X0 : ∀ w ∈ wsX00, w ∈ lw_all := lw_in wsX00 [146, 148, 150, 152, 154] (by decide +kernel) (by decide +kernel)
