/-! SungSlidesModel -/
set_option maxRecDepth 100000
def RX2 : String := "SungSlidesModel"
def TX2 : u_T := fun k => match k with
  | 0 => ("SungSlidesModel", "s", "[I", true)
  | 1 => ("SungSlidesModel", "history", "[I", true)
  | 2 => ("SungSlidesModel", "kept", "I", false)
  | 3 => ("SungSlidesModel", "snapshot", "[I", true)
  | 4 => ("SungSlidesModel", "isTaken", "Z", false)
  | 5 => ("SungSlidesModel", "text", "[C", true)
  | 6 => ("SungSlidesModel", "length", "I", false)
  | 7 => ("SungSlidesModel", "heard", "[I", true)
  | 8 => ("SungSlidesModel", "matching", "[I", true)
  | 9 => ("SungSlidesModel", "onset", "[I", true)
  | 10 => ("SungSlidesModel", "why", "[I", true)
  | 11 => ("SungSlidesModel", "row", "[I", true)
  | 12 => ("SungSlidesModel", "points", "[I", true)
  | 13 => ("SungSlidesModel", "place", "I", false)
  | 14 => ("SungSlidesModel", "told", "[I", true)
  | _ => ("SungSlidesModel", "ticksOfText", "I", false)
def tyX2 : Nat → FieldType := fun k => match k with
  | 0 => .array .int
  | 1 => .array .int
  | 2 => .int
  | 3 => .array .int
  | 4 => .boolean
  | 5 => .array .char
  | 6 => .int
  | 7 => .array .int
  | 8 => .array .int
  | 9 => .array .int
  | 10 => .array .int
  | 11 => .array .int
  | 12 => .array .int
  | 13 => .int
  | 14 => .array .int
  | _ => .int
abbrev wsX20 : List Cond := u_ws RX2 TX2 16
set_option maxRecDepth 100000 in
theorem nmX2 : ∀ a, a < 16 → ∀ b, b < 16 → a ≠ b → (TX2 a).2.1 ≠ (TX2 b).2.1 := by decide +kernel
set_option maxRecDepth 100000 in
theorem tyX2_ok : ∀ k, k < 16 → parseFieldDescriptor (TX2 k).2.2.1 = some (tyX2 k) := by decide +kernel
abbrev cX2_init : ByteArray := prog_9_method_1_code
def yX2_init : MethodName := ⟨RX2, "<init>", "()V"⟩
def dkwX2_init_5 : List UInt8 := [79, 42, 180, 0, 7, 7, 16, 50, 79, 177]
abbrev dktX2_init_5 : List UInt8 := dkwX2_init_5 ++ []
def dkwX2_init_4 : List UInt8 := [181, 0, 41, 42, 180, 0, 7, 3, 16, 16, 79, 42, 180, 0, 7, 4, 4, 79, 42, 180, 0, 7, 5, 5]
abbrev dktX2_init_4 : List UInt8 := dkwX2_init_4 ++ dktX2_init_5
def dkwX2_init_3 : List UInt8 := [181, 0, 32, 42, 16, 40, 188, 10, 181, 0, 35, 42, 16, 40, 188, 10, 181, 0, 38, 42, 7, 188, 10]
abbrev dktX2_init_3 : List UInt8 := dkwX2_init_3 ++ dktX2_init_4
def dkwX2_init_2 : List UInt8 := [181, 0, 23, 42, 16, 40, 188, 10, 181, 0, 26, 42, 16, 40, 188, 10, 181, 0, 29, 42, 16, 40, 188, 10]
abbrev dktX2_init_2 : List UInt8 := dkwX2_init_2 ++ dktX2_init_3
def dkwX2_init_1 : List UInt8 := [17, 3, 38, 188, 10, 181, 0, 16, 42, 16, 60, 188, 5, 181, 0, 19, 42, 17, 2, 88, 188, 10]
abbrev dktX2_init_1 : List UInt8 := dkwX2_init_1 ++ dktX2_init_2
def dkwX2_init_0 : List UInt8 := [42, 183, 0, 1, 42, 17, 3, 38, 188, 10, 181, 0, 7, 42, 17, 12, 152, 188, 10, 181, 0, 13, 42]
abbrev dktX2_init_0 : List UInt8 := dkwX2_init_0 ++ dktX2_init_1
theorem dksX2_init_0 : cX2_init.data.toList.drop 0 = dktX2_init_0 := by decide +kernel
theorem dksX2_init_1 : cX2_init.data.toList.drop 23 = dktX2_init_1 := dk_seg dksX2_init_0 23 rfl rfl
theorem dksX2_init_2 : cX2_init.data.toList.drop 45 = dktX2_init_2 := dk_seg dksX2_init_1 22 rfl rfl
theorem dksX2_init_3 : cX2_init.data.toList.drop 69 = dktX2_init_3 := dk_seg dksX2_init_2 24 rfl rfl
theorem dksX2_init_4 : cX2_init.data.toList.drop 92 = dktX2_init_4 := dk_seg dksX2_init_3 23 rfl rfl
theorem dksX2_init_5 : cX2_init.data.toList.drop 116 = dktX2_init_5 := dk_seg dksX2_init_4 24 rfl rfl
theorem dX2_init_0 : decode cX2_init 0 = .ok (.aload_n 0, 1) := dk_42 (dk_at dksX2_init_0 0 rfl rfl)
theorem dX2_init_1 : decode cX2_init 1 = .ok (.invokespecial 1, 3) := dk_183 0 1 (dk_at dksX2_init_0 1 rfl rfl)
theorem dX2_init_4 : decode cX2_init 4 = .ok (.aload_n 0, 1) := dk_42 (dk_at dksX2_init_0 4 rfl rfl)
theorem dX2_init_5 : decode cX2_init 5 = .ok (.sipush 806, 3) := dk_17 3 38 (dk_at dksX2_init_0 5 rfl rfl)
theorem dX2_init_8 : decode cX2_init 8 = .ok (.newarray .int, 2) := dk_188_10 (dk_at dksX2_init_0 8 rfl rfl)
theorem dX2_init_10 : decode cX2_init 10 = .ok (.putfield 7, 3) := dk_181 0 7 (dk_at dksX2_init_0 10 rfl rfl)
theorem dX2_init_13 : decode cX2_init 13 = .ok (.aload_n 0, 1) := dk_42 (dk_at dksX2_init_0 13 rfl rfl)
theorem dX2_init_14 : decode cX2_init 14 = .ok (.sipush 3224, 3) := dk_17 12 152 (dk_at dksX2_init_0 14 rfl rfl)
theorem dX2_init_17 : decode cX2_init 17 = .ok (.newarray .int, 2) := dk_188_10 (dk_at dksX2_init_0 17 rfl rfl)
theorem dX2_init_19 : decode cX2_init 19 = .ok (.putfield 13, 3) := dk_181 0 13 (dk_at dksX2_init_0 19 rfl rfl)
theorem dX2_init_22 : decode cX2_init 22 = .ok (.aload_n 0, 1) := dk_42 (dk_at dksX2_init_0 22 rfl rfl)
theorem dX2_init_23 : decode cX2_init 23 = .ok (.sipush 806, 3) := dk_17 3 38 (dk_at dksX2_init_1 0 rfl rfl)
theorem dX2_init_26 : decode cX2_init 26 = .ok (.newarray .int, 2) := dk_188_10 (dk_at dksX2_init_1 3 rfl rfl)
theorem dX2_init_28 : decode cX2_init 28 = .ok (.putfield 16, 3) := dk_181 0 16 (dk_at dksX2_init_1 5 rfl rfl)
theorem dX2_init_31 : decode cX2_init 31 = .ok (.aload_n 0, 1) := dk_42 (dk_at dksX2_init_1 8 rfl rfl)
theorem dX2_init_32 : decode cX2_init 32 = .ok (.bipush 60, 2) := dk_16 60 (dk_at dksX2_init_1 9 rfl rfl)
theorem dX2_init_34 : decode cX2_init 34 = .ok (.newarray .char, 2) := dk_188_5 (dk_at dksX2_init_1 11 rfl rfl)
theorem dX2_init_36 : decode cX2_init 36 = .ok (.putfield 19, 3) := dk_181 0 19 (dk_at dksX2_init_1 13 rfl rfl)
theorem dX2_init_39 : decode cX2_init 39 = .ok (.aload_n 0, 1) := dk_42 (dk_at dksX2_init_1 16 rfl rfl)
theorem dX2_init_40 : decode cX2_init 40 = .ok (.sipush 600, 3) := dk_17 2 88 (dk_at dksX2_init_1 17 rfl rfl)
theorem dX2_init_43 : decode cX2_init 43 = .ok (.newarray .int, 2) := dk_188_10 (dk_at dksX2_init_1 20 rfl rfl)
theorem dX2_init_45 : decode cX2_init 45 = .ok (.putfield 23, 3) := dk_181 0 23 (dk_at dksX2_init_2 0 rfl rfl)
theorem dX2_init_48 : decode cX2_init 48 = .ok (.aload_n 0, 1) := dk_42 (dk_at dksX2_init_2 3 rfl rfl)
theorem dX2_init_49 : decode cX2_init 49 = .ok (.bipush 40, 2) := dk_16 40 (dk_at dksX2_init_2 4 rfl rfl)
theorem dX2_init_51 : decode cX2_init 51 = .ok (.newarray .int, 2) := dk_188_10 (dk_at dksX2_init_2 6 rfl rfl)
theorem dX2_init_53 : decode cX2_init 53 = .ok (.putfield 26, 3) := dk_181 0 26 (dk_at dksX2_init_2 8 rfl rfl)
theorem dX2_init_56 : decode cX2_init 56 = .ok (.aload_n 0, 1) := dk_42 (dk_at dksX2_init_2 11 rfl rfl)
theorem dX2_init_57 : decode cX2_init 57 = .ok (.bipush 40, 2) := dk_16 40 (dk_at dksX2_init_2 12 rfl rfl)
theorem dX2_init_59 : decode cX2_init 59 = .ok (.newarray .int, 2) := dk_188_10 (dk_at dksX2_init_2 14 rfl rfl)
theorem dX2_init_61 : decode cX2_init 61 = .ok (.putfield 29, 3) := dk_181 0 29 (dk_at dksX2_init_2 16 rfl rfl)
theorem dX2_init_64 : decode cX2_init 64 = .ok (.aload_n 0, 1) := dk_42 (dk_at dksX2_init_2 19 rfl rfl)
theorem dX2_init_65 : decode cX2_init 65 = .ok (.bipush 40, 2) := dk_16 40 (dk_at dksX2_init_2 20 rfl rfl)
theorem dX2_init_67 : decode cX2_init 67 = .ok (.newarray .int, 2) := dk_188_10 (dk_at dksX2_init_2 22 rfl rfl)
theorem dX2_init_69 : decode cX2_init 69 = .ok (.putfield 32, 3) := dk_181 0 32 (dk_at dksX2_init_3 0 rfl rfl)
theorem dX2_init_72 : decode cX2_init 72 = .ok (.aload_n 0, 1) := dk_42 (dk_at dksX2_init_3 3 rfl rfl)
theorem dX2_init_73 : decode cX2_init 73 = .ok (.bipush 40, 2) := dk_16 40 (dk_at dksX2_init_3 4 rfl rfl)
theorem dX2_init_75 : decode cX2_init 75 = .ok (.newarray .int, 2) := dk_188_10 (dk_at dksX2_init_3 6 rfl rfl)
theorem dX2_init_77 : decode cX2_init 77 = .ok (.putfield 35, 3) := dk_181 0 35 (dk_at dksX2_init_3 8 rfl rfl)
theorem dX2_init_80 : decode cX2_init 80 = .ok (.aload_n 0, 1) := dk_42 (dk_at dksX2_init_3 11 rfl rfl)
theorem dX2_init_81 : decode cX2_init 81 = .ok (.bipush 40, 2) := dk_16 40 (dk_at dksX2_init_3 12 rfl rfl)
theorem dX2_init_83 : decode cX2_init 83 = .ok (.newarray .int, 2) := dk_188_10 (dk_at dksX2_init_3 14 rfl rfl)
theorem dX2_init_85 : decode cX2_init 85 = .ok (.putfield 38, 3) := dk_181 0 38 (dk_at dksX2_init_3 16 rfl rfl)
theorem dX2_init_88 : decode cX2_init 88 = .ok (.aload_n 0, 1) := dk_42 (dk_at dksX2_init_3 19 rfl rfl)
theorem dX2_init_89 : decode cX2_init 89 = .ok (.iconst 4, 1) := dk_7 (dk_at dksX2_init_3 20 rfl rfl)
theorem dX2_init_90 : decode cX2_init 90 = .ok (.newarray .int, 2) := dk_188_10 (dk_at dksX2_init_3 21 rfl rfl)
theorem dX2_init_92 : decode cX2_init 92 = .ok (.putfield 41, 3) := dk_181 0 41 (dk_at dksX2_init_4 0 rfl rfl)
theorem dX2_init_95 : decode cX2_init 95 = .ok (.aload_n 0, 1) := dk_42 (dk_at dksX2_init_4 3 rfl rfl)
theorem dX2_init_96 : decode cX2_init 96 = .ok (.getfield 7, 3) := dk_180 0 7 (dk_at dksX2_init_4 4 rfl rfl)
theorem dX2_init_99 : decode cX2_init 99 = .ok (.iconst 0, 1) := dk_3 (dk_at dksX2_init_4 7 rfl rfl)
theorem dX2_init_100 : decode cX2_init 100 = .ok (.bipush 16, 2) := dk_16 16 (dk_at dksX2_init_4 8 rfl rfl)
theorem dX2_init_102 : decode cX2_init 102 = .ok (.iastore, 1) := dk_79 (dk_at dksX2_init_4 10 rfl rfl)
theorem dX2_init_103 : decode cX2_init 103 = .ok (.aload_n 0, 1) := dk_42 (dk_at dksX2_init_4 11 rfl rfl)
theorem dX2_init_104 : decode cX2_init 104 = .ok (.getfield 7, 3) := dk_180 0 7 (dk_at dksX2_init_4 12 rfl rfl)
theorem dX2_init_107 : decode cX2_init 107 = .ok (.iconst 1, 1) := dk_4 (dk_at dksX2_init_4 15 rfl rfl)
theorem dX2_init_108 : decode cX2_init 108 = .ok (.iconst 1, 1) := dk_4 (dk_at dksX2_init_4 16 rfl rfl)
theorem dX2_init_109 : decode cX2_init 109 = .ok (.iastore, 1) := dk_79 (dk_at dksX2_init_4 17 rfl rfl)
theorem dX2_init_110 : decode cX2_init 110 = .ok (.aload_n 0, 1) := dk_42 (dk_at dksX2_init_4 18 rfl rfl)
theorem dX2_init_111 : decode cX2_init 111 = .ok (.getfield 7, 3) := dk_180 0 7 (dk_at dksX2_init_4 19 rfl rfl)
theorem dX2_init_114 : decode cX2_init 114 = .ok (.iconst 2, 1) := dk_5 (dk_at dksX2_init_4 22 rfl rfl)
theorem dX2_init_115 : decode cX2_init 115 = .ok (.iconst 2, 1) := dk_5 (dk_at dksX2_init_4 23 rfl rfl)
theorem dX2_init_116 : decode cX2_init 116 = .ok (.iastore, 1) := dk_79 (dk_at dksX2_init_5 0 rfl rfl)
theorem dX2_init_117 : decode cX2_init 117 = .ok (.aload_n 0, 1) := dk_42 (dk_at dksX2_init_5 1 rfl rfl)
theorem dX2_init_118 : decode cX2_init 118 = .ok (.getfield 7, 3) := dk_180 0 7 (dk_at dksX2_init_5 2 rfl rfl)
theorem dX2_init_121 : decode cX2_init 121 = .ok (.iconst 4, 1) := dk_7 (dk_at dksX2_init_5 5 rfl rfl)
theorem dX2_init_122 : decode cX2_init 122 = .ok (.bipush 50, 2) := dk_16 50 (dk_at dksX2_init_5 6 rfl rfl)
theorem dX2_init_124 : decode cX2_init 124 = .ok (.iastore, 1) := dk_79 (dk_at dksX2_init_5 8 rfl rfl)
theorem dX2_init_125 : decode cX2_init 125 = .ok (.return_, 1) := dk_177 (dk_at dksX2_init_5 9 rfl rfl)
abbrev cX2_add : ByteArray := prog_9_method_34_code
def yX2_add : MethodName := ⟨RX2, "add", "(IIIIZ)I"⟩
def dkwX2_add_2 : List UInt8 := [21, 5, 153, 0, 7, 4, 167, 0, 4, 3, 182, 0, 131, 172]
abbrev dktX2_add_2 : List UInt8 := dkwX2_add_2 ++ []
def dkwX2_add_1 : List UInt8 := [182, 0, 124, 54, 6, 21, 6, 156, 0, 6, 21, 6, 172, 42, 182, 0, 128, 42, 27, 28, 29, 21, 4]
abbrev dktX2_add_1 : List UInt8 := dkwX2_add_1 ++ dktX2_add_2
def dkwX2_add_0 : List UInt8 := [42, 27, 28, 184, 0, 71, 153, 0, 14, 29, 184, 0, 71, 153, 0, 7, 3, 167, 0, 4, 2, 21, 4]
abbrev dktX2_add_0 : List UInt8 := dkwX2_add_0 ++ dktX2_add_1
theorem dksX2_add_0 : cX2_add.data.toList.drop 0 = dktX2_add_0 := by decide +kernel
theorem dksX2_add_1 : cX2_add.data.toList.drop 23 = dktX2_add_1 := dk_seg dksX2_add_0 23 rfl rfl
theorem dksX2_add_2 : cX2_add.data.toList.drop 46 = dktX2_add_2 := dk_seg dksX2_add_1 23 rfl rfl
theorem dX2_add_0 : decode cX2_add 0 = .ok (.aload_n 0, 1) := dk_42 (dk_at dksX2_add_0 0 rfl rfl)
theorem dX2_add_1 : decode cX2_add 1 = .ok (.iload_n 1, 1) := dk_27 (dk_at dksX2_add_0 1 rfl rfl)
theorem dX2_add_2 : decode cX2_add 2 = .ok (.iload_n 2, 1) := dk_28 (dk_at dksX2_add_0 2 rfl rfl)
theorem dX2_add_3 : decode cX2_add 3 = .ok (.invokestatic 71, 3) := dk_184 0 71 (dk_at dksX2_add_0 3 rfl rfl)
theorem dX2_add_6 : decode cX2_add 6 = .ok (.ifCond .eq 14, 3) := dk_153 0 14 (dk_at dksX2_add_0 6 rfl rfl)
theorem dX2_add_9 : decode cX2_add 9 = .ok (.iload_n 3, 1) := dk_29 (dk_at dksX2_add_0 9 rfl rfl)
theorem dX2_add_10 : decode cX2_add 10 = .ok (.invokestatic 71, 3) := dk_184 0 71 (dk_at dksX2_add_0 10 rfl rfl)
theorem dX2_add_13 : decode cX2_add 13 = .ok (.ifCond .eq 7, 3) := dk_153 0 7 (dk_at dksX2_add_0 13 rfl rfl)
theorem dX2_add_16 : decode cX2_add 16 = .ok (.iconst 0, 1) := dk_3 (dk_at dksX2_add_0 16 rfl rfl)
theorem dX2_add_17 : decode cX2_add 17 = .ok (.goto 4, 3) := dk_167 0 4 (dk_at dksX2_add_0 17 rfl rfl)
theorem dX2_add_20 : decode cX2_add 20 = .ok (.iconst (-1), 1) := dk_2 (dk_at dksX2_add_0 20 rfl rfl)
theorem dX2_add_21 : decode cX2_add 21 = .ok (.iload 4, 2) := dk_21 4 (dk_at dksX2_add_0 21 rfl rfl)
theorem dX2_add_23 : decode cX2_add 23 = .ok (.invokevirtual 124, 3) := dk_182 0 124 (dk_at dksX2_add_1 0 rfl rfl)
theorem dX2_add_26 : decode cX2_add 26 = .ok (.istore 6, 2) := dk_54 6 (dk_at dksX2_add_1 3 rfl rfl)
theorem dX2_add_28 : decode cX2_add 28 = .ok (.iload 6, 2) := dk_21 6 (dk_at dksX2_add_1 5 rfl rfl)
theorem dX2_add_30 : decode cX2_add 30 = .ok (.ifCond .ge 6, 3) := dk_156 0 6 (dk_at dksX2_add_1 7 rfl rfl)
theorem dX2_add_33 : decode cX2_add 33 = .ok (.iload 6, 2) := dk_21 6 (dk_at dksX2_add_1 10 rfl rfl)
theorem dX2_add_35 : decode cX2_add 35 = .ok (.ireturn, 1) := dk_172 (dk_at dksX2_add_1 12 rfl rfl)
theorem dX2_add_36 : decode cX2_add 36 = .ok (.aload_n 0, 1) := dk_42 (dk_at dksX2_add_1 13 rfl rfl)
theorem dX2_add_37 : decode cX2_add 37 = .ok (.invokevirtual 128, 3) := dk_182 0 128 (dk_at dksX2_add_1 14 rfl rfl)
theorem dX2_add_40 : decode cX2_add 40 = .ok (.aload_n 0, 1) := dk_42 (dk_at dksX2_add_1 17 rfl rfl)
theorem dX2_add_41 : decode cX2_add 41 = .ok (.iload_n 1, 1) := dk_27 (dk_at dksX2_add_1 18 rfl rfl)
theorem dX2_add_42 : decode cX2_add 42 = .ok (.iload_n 2, 1) := dk_28 (dk_at dksX2_add_1 19 rfl rfl)
theorem dX2_add_43 : decode cX2_add 43 = .ok (.iload_n 3, 1) := dk_29 (dk_at dksX2_add_1 20 rfl rfl)
theorem dX2_add_44 : decode cX2_add 44 = .ok (.iload 4, 2) := dk_21 4 (dk_at dksX2_add_1 21 rfl rfl)
theorem dX2_add_46 : decode cX2_add 46 = .ok (.iload 5, 2) := dk_21 5 (dk_at dksX2_add_2 0 rfl rfl)
theorem dX2_add_48 : decode cX2_add 48 = .ok (.ifCond .eq 7, 3) := dk_153 0 7 (dk_at dksX2_add_2 2 rfl rfl)
theorem dX2_add_51 : decode cX2_add 51 = .ok (.iconst 1, 1) := dk_4 (dk_at dksX2_add_2 5 rfl rfl)
theorem dX2_add_52 : decode cX2_add 52 = .ok (.goto 4, 3) := dk_167 0 4 (dk_at dksX2_add_2 6 rfl rfl)
theorem dX2_add_55 : decode cX2_add 55 = .ok (.iconst 0, 1) := dk_3 (dk_at dksX2_add_2 9 rfl rfl)
theorem dX2_add_56 : decode cX2_add 56 = .ok (.invokevirtual 131, 3) := dk_182 0 131 (dk_at dksX2_add_2 10 rfl rfl)
theorem dX2_add_59 : decode cX2_add 59 = .ok (.ireturn, 1) := dk_172 (dk_at dksX2_add_2 13 rfl rfl)
abbrev cX2_isPitch : ByteArray := prog_9_method_5_code
def yX2_isPitch : MethodName := ⟨RX2, "isPitch", "(I)Z"⟩
def dkwX2_isPitch_0 : List UInt8 := [26, 3, 16, 60, 184, 0, 44, 172]
abbrev dktX2_isPitch_0 : List UInt8 := dkwX2_isPitch_0 ++ []
theorem dksX2_isPitch_0 : cX2_isPitch.data.toList.drop 0 = dktX2_isPitch_0 := by decide +kernel
theorem dX2_isPitch_0 : decode cX2_isPitch 0 = .ok (.iload_n 0, 1) := dk_26 (dk_at dksX2_isPitch_0 0 rfl rfl)
theorem dX2_isPitch_1 : decode cX2_isPitch 1 = .ok (.iconst 0, 1) := dk_3 (dk_at dksX2_isPitch_0 1 rfl rfl)
theorem dX2_isPitch_2 : decode cX2_isPitch 2 = .ok (.bipush 60, 2) := dk_16 60 (dk_at dksX2_isPitch_0 2 rfl rfl)
theorem dX2_isPitch_4 : decode cX2_isPitch 4 = .ok (.invokestatic 44, 3) := dk_184 0 44 (dk_at dksX2_isPitch_0 4 rfl rfl)
theorem dX2_isPitch_7 : decode cX2_isPitch 7 = .ok (.ireturn, 1) := dk_172 (dk_at dksX2_isPitch_0 7 rfl rfl)
abbrev cX2_in : ByteArray := prog_9_method_3_code
def yX2_in : MethodName := ⟨RX2, "in", "(III)Z"⟩
def dkwX2_in_0 : List UInt8 := [26, 27, 161, 0, 12, 26, 28, 163, 0, 7, 4, 167, 0, 4, 3, 172]
abbrev dktX2_in_0 : List UInt8 := dkwX2_in_0 ++ []
theorem dksX2_in_0 : cX2_in.data.toList.drop 0 = dktX2_in_0 := by decide +kernel
theorem dX2_in_0 : decode cX2_in 0 = .ok (.iload_n 0, 1) := dk_26 (dk_at dksX2_in_0 0 rfl rfl)
theorem dX2_in_1 : decode cX2_in 1 = .ok (.iload_n 1, 1) := dk_27 (dk_at dksX2_in_0 1 rfl rfl)
theorem dX2_in_2 : decode cX2_in 2 = .ok (.if_icmp .lt 12, 3) := dk_161 0 12 (dk_at dksX2_in_0 2 rfl rfl)
theorem dX2_in_5 : decode cX2_in 5 = .ok (.iload_n 0, 1) := dk_26 (dk_at dksX2_in_0 5 rfl rfl)
theorem dX2_in_6 : decode cX2_in 6 = .ok (.iload_n 2, 1) := dk_28 (dk_at dksX2_in_0 6 rfl rfl)
theorem dX2_in_7 : decode cX2_in 7 = .ok (.if_icmp .gt 7, 3) := dk_163 0 7 (dk_at dksX2_in_0 7 rfl rfl)
theorem dX2_in_10 : decode cX2_in 10 = .ok (.iconst 1, 1) := dk_4 (dk_at dksX2_in_0 10 rfl rfl)
theorem dX2_in_11 : decode cX2_in 11 = .ok (.goto 4, 3) := dk_167 0 4 (dk_at dksX2_in_0 11 rfl rfl)
theorem dX2_in_14 : decode cX2_in 14 = .ok (.iconst 0, 1) := dk_3 (dk_at dksX2_in_0 14 rfl rfl)
theorem dX2_in_15 : decode cX2_in 15 = .ok (.ireturn, 1) := dk_172 (dk_at dksX2_in_0 15 rfl rfl)
abbrev cX2_addError : ByteArray := prog_9_method_32_code
def yX2_addError : MethodName := ⟨RX2, "addError", "(III)I"⟩
def dkwX2_addError_2 : List UInt8 := [17, 2, 88, 164, 0, 8, 16, 253, 167, 0, 4, 3, 172]
abbrev dktX2_addError_2 : List UInt8 := dkwX2_addError_2 ++ []
def dkwX2_addError_1 : List UInt8 := [16, 254, 172, 42, 180, 0, 7, 8, 46, 16, 40, 159, 0, 17, 42, 182, 0, 117, 27, 96, 29, 96]
abbrev dktX2_addError_1 : List UInt8 := dkwX2_addError_1 ++ dktX2_addError_2
def dkwX2_addError_0 : List UInt8 := [27, 3, 16, 32, 184, 0, 44, 153, 0, 17, 28, 155, 0, 13, 29, 4, 16, 32, 184, 0, 44, 154, 0, 6]
abbrev dktX2_addError_0 : List UInt8 := dkwX2_addError_0 ++ dktX2_addError_1
theorem dksX2_addError_0 : cX2_addError.data.toList.drop 0 = dktX2_addError_0 := by decide +kernel
theorem dksX2_addError_1 : cX2_addError.data.toList.drop 24 = dktX2_addError_1 := dk_seg dksX2_addError_0 24 rfl rfl
theorem dksX2_addError_2 : cX2_addError.data.toList.drop 46 = dktX2_addError_2 := dk_seg dksX2_addError_1 22 rfl rfl
theorem dX2_addError_0 : decode cX2_addError 0 = .ok (.iload_n 1, 1) := dk_27 (dk_at dksX2_addError_0 0 rfl rfl)
theorem dX2_addError_1 : decode cX2_addError 1 = .ok (.iconst 0, 1) := dk_3 (dk_at dksX2_addError_0 1 rfl rfl)
theorem dX2_addError_2 : decode cX2_addError 2 = .ok (.bipush 32, 2) := dk_16 32 (dk_at dksX2_addError_0 2 rfl rfl)
theorem dX2_addError_4 : decode cX2_addError 4 = .ok (.invokestatic 44, 3) := dk_184 0 44 (dk_at dksX2_addError_0 4 rfl rfl)
theorem dX2_addError_7 : decode cX2_addError 7 = .ok (.ifCond .eq 17, 3) := dk_153 0 17 (dk_at dksX2_addError_0 7 rfl rfl)
theorem dX2_addError_10 : decode cX2_addError 10 = .ok (.iload_n 2, 1) := dk_28 (dk_at dksX2_addError_0 10 rfl rfl)
theorem dX2_addError_11 : decode cX2_addError 11 = .ok (.ifCond .lt 13, 3) := dk_155 0 13 (dk_at dksX2_addError_0 11 rfl rfl)
theorem dX2_addError_14 : decode cX2_addError 14 = .ok (.iload_n 3, 1) := dk_29 (dk_at dksX2_addError_0 14 rfl rfl)
theorem dX2_addError_15 : decode cX2_addError 15 = .ok (.iconst 1, 1) := dk_4 (dk_at dksX2_addError_0 15 rfl rfl)
theorem dX2_addError_16 : decode cX2_addError 16 = .ok (.bipush 32, 2) := dk_16 32 (dk_at dksX2_addError_0 16 rfl rfl)
theorem dX2_addError_18 : decode cX2_addError 18 = .ok (.invokestatic 44, 3) := dk_184 0 44 (dk_at dksX2_addError_0 18 rfl rfl)
theorem dX2_addError_21 : decode cX2_addError 21 = .ok (.ifCond .ne 6, 3) := dk_154 0 6 (dk_at dksX2_addError_0 21 rfl rfl)
theorem dX2_addError_24 : decode cX2_addError 24 = .ok (.bipush (-2), 2) := dk_16 254 (dk_at dksX2_addError_1 0 rfl rfl)
theorem dX2_addError_26 : decode cX2_addError 26 = .ok (.ireturn, 1) := dk_172 (dk_at dksX2_addError_1 2 rfl rfl)
theorem dX2_addError_27 : decode cX2_addError 27 = .ok (.aload_n 0, 1) := dk_42 (dk_at dksX2_addError_1 3 rfl rfl)
theorem dX2_addError_28 : decode cX2_addError 28 = .ok (.getfield 7, 3) := dk_180 0 7 (dk_at dksX2_addError_1 4 rfl rfl)
theorem dX2_addError_31 : decode cX2_addError 31 = .ok (.iconst 5, 1) := dk_8 (dk_at dksX2_addError_1 7 rfl rfl)
theorem dX2_addError_32 : decode cX2_addError 32 = .ok (.iaload, 1) := dk_46 (dk_at dksX2_addError_1 8 rfl rfl)
theorem dX2_addError_33 : decode cX2_addError 33 = .ok (.bipush 40, 2) := dk_16 40 (dk_at dksX2_addError_1 9 rfl rfl)
theorem dX2_addError_35 : decode cX2_addError 35 = .ok (.if_icmp .eq 17, 3) := dk_159 0 17 (dk_at dksX2_addError_1 11 rfl rfl)
theorem dX2_addError_38 : decode cX2_addError 38 = .ok (.aload_n 0, 1) := dk_42 (dk_at dksX2_addError_1 14 rfl rfl)
theorem dX2_addError_39 : decode cX2_addError 39 = .ok (.invokevirtual 117, 3) := dk_182 0 117 (dk_at dksX2_addError_1 15 rfl rfl)
theorem dX2_addError_42 : decode cX2_addError 42 = .ok (.iload_n 1, 1) := dk_27 (dk_at dksX2_addError_1 18 rfl rfl)
theorem dX2_addError_43 : decode cX2_addError 43 = .ok (.iadd, 1) := dk_96 (dk_at dksX2_addError_1 19 rfl rfl)
theorem dX2_addError_44 : decode cX2_addError 44 = .ok (.iload_n 3, 1) := dk_29 (dk_at dksX2_addError_1 20 rfl rfl)
theorem dX2_addError_45 : decode cX2_addError 45 = .ok (.iadd, 1) := dk_96 (dk_at dksX2_addError_1 21 rfl rfl)
theorem dX2_addError_46 : decode cX2_addError 46 = .ok (.sipush 600, 3) := dk_17 2 88 (dk_at dksX2_addError_2 0 rfl rfl)
theorem dX2_addError_49 : decode cX2_addError 49 = .ok (.if_icmp .le 8, 3) := dk_164 0 8 (dk_at dksX2_addError_2 3 rfl rfl)
theorem dX2_addError_52 : decode cX2_addError 52 = .ok (.bipush (-3), 2) := dk_16 253 (dk_at dksX2_addError_2 6 rfl rfl)
theorem dX2_addError_54 : decode cX2_addError 54 = .ok (.goto 4, 3) := dk_167 0 4 (dk_at dksX2_addError_2 8 rfl rfl)
theorem dX2_addError_57 : decode cX2_addError 57 = .ok (.iconst 0, 1) := dk_3 (dk_at dksX2_addError_2 11 rfl rfl)
theorem dX2_addError_58 : decode cX2_addError 58 = .ok (.ireturn, 1) := dk_172 (dk_at dksX2_addError_2 12 rfl rfl)
abbrev cX2_endOfSong : ByteArray := prog_9_method_13_code
def yX2_endOfSong : MethodName := ⟨RX2, "endOfSong", "()I"⟩
def dkwX2_endOfSong_0 : List UInt8 := [42, 42, 180, 0, 7, 8, 46, 4, 100, 182, 0, 60, 172]
abbrev dktX2_endOfSong_0 : List UInt8 := dkwX2_endOfSong_0 ++ []
theorem dksX2_endOfSong_0 : cX2_endOfSong.data.toList.drop 0 = dktX2_endOfSong_0 := by decide +kernel
theorem dX2_endOfSong_0 : decode cX2_endOfSong 0 = .ok (.aload_n 0, 1) := dk_42 (dk_at dksX2_endOfSong_0 0 rfl rfl)
theorem dX2_endOfSong_1 : decode cX2_endOfSong 1 = .ok (.aload_n 0, 1) := dk_42 (dk_at dksX2_endOfSong_0 1 rfl rfl)
theorem dX2_endOfSong_2 : decode cX2_endOfSong 2 = .ok (.getfield 7, 3) := dk_180 0 7 (dk_at dksX2_endOfSong_0 2 rfl rfl)
theorem dX2_endOfSong_5 : decode cX2_endOfSong 5 = .ok (.iconst 5, 1) := dk_8 (dk_at dksX2_endOfSong_0 5 rfl rfl)
theorem dX2_endOfSong_6 : decode cX2_endOfSong 6 = .ok (.iaload, 1) := dk_46 (dk_at dksX2_endOfSong_0 6 rfl rfl)
theorem dX2_endOfSong_7 : decode cX2_endOfSong 7 = .ok (.iconst 1, 1) := dk_4 (dk_at dksX2_endOfSong_0 7 rfl rfl)
theorem dX2_endOfSong_8 : decode cX2_endOfSong 8 = .ok (.isub, 1) := dk_100 (dk_at dksX2_endOfSong_0 8 rfl rfl)
theorem dX2_endOfSong_9 : decode cX2_endOfSong 9 = .ok (.invokevirtual 60, 3) := dk_182 0 60 (dk_at dksX2_endOfSong_0 9 rfl rfl)
theorem dX2_endOfSong_12 : decode cX2_endOfSong 12 = .ok (.ireturn, 1) := dk_172 (dk_at dksX2_endOfSong_0 12 rfl rfl)
abbrev cX2_behind : ByteArray := prog_9_method_12_code
def yX2_behind : MethodName := ⟨RX2, "behind", "(I)I"⟩
def dkwX2_behind_0 : List UInt8 := [27, 156, 0, 7, 3, 167, 0, 16, 42, 27, 3, 182, 0, 56, 42, 27, 4, 182, 0, 56, 96, 172]
abbrev dktX2_behind_0 : List UInt8 := dkwX2_behind_0 ++ []
theorem dksX2_behind_0 : cX2_behind.data.toList.drop 0 = dktX2_behind_0 := by decide +kernel
theorem dX2_behind_0 : decode cX2_behind 0 = .ok (.iload_n 1, 1) := dk_27 (dk_at dksX2_behind_0 0 rfl rfl)
theorem dX2_behind_1 : decode cX2_behind 1 = .ok (.ifCond .ge 7, 3) := dk_156 0 7 (dk_at dksX2_behind_0 1 rfl rfl)
theorem dX2_behind_4 : decode cX2_behind 4 = .ok (.iconst 0, 1) := dk_3 (dk_at dksX2_behind_0 4 rfl rfl)
theorem dX2_behind_5 : decode cX2_behind 5 = .ok (.goto 16, 3) := dk_167 0 16 (dk_at dksX2_behind_0 5 rfl rfl)
theorem dX2_behind_8 : decode cX2_behind 8 = .ok (.aload_n 0, 1) := dk_42 (dk_at dksX2_behind_0 8 rfl rfl)
theorem dX2_behind_9 : decode cX2_behind 9 = .ok (.iload_n 1, 1) := dk_27 (dk_at dksX2_behind_0 9 rfl rfl)
theorem dX2_behind_10 : decode cX2_behind 10 = .ok (.iconst 0, 1) := dk_3 (dk_at dksX2_behind_0 10 rfl rfl)
theorem dX2_behind_11 : decode cX2_behind 11 = .ok (.invokevirtual 56, 3) := dk_182 0 56 (dk_at dksX2_behind_0 11 rfl rfl)
theorem dX2_behind_14 : decode cX2_behind 14 = .ok (.aload_n 0, 1) := dk_42 (dk_at dksX2_behind_0 14 rfl rfl)
theorem dX2_behind_15 : decode cX2_behind 15 = .ok (.iload_n 1, 1) := dk_27 (dk_at dksX2_behind_0 15 rfl rfl)
theorem dX2_behind_16 : decode cX2_behind 16 = .ok (.iconst 1, 1) := dk_4 (dk_at dksX2_behind_0 16 rfl rfl)
theorem dX2_behind_17 : decode cX2_behind 17 = .ok (.invokevirtual 56, 3) := dk_182 0 56 (dk_at dksX2_behind_0 17 rfl rfl)
theorem dX2_behind_20 : decode cX2_behind 20 = .ok (.iadd, 1) := dk_96 (dk_at dksX2_behind_0 20 rfl rfl)
theorem dX2_behind_21 : decode cX2_behind 21 = .ok (.ireturn, 1) := dk_172 (dk_at dksX2_behind_0 21 rfl rfl)
abbrev cX2_of : ByteArray := prog_9_method_8_code
def yX2_of : MethodName := ⟨RX2, "of", "(II)I"⟩
def dkwX2_of_0 : List UInt8 := [42, 180, 0, 7, 16, 6, 8, 27, 104, 96, 28, 96, 46, 172]
abbrev dktX2_of_0 : List UInt8 := dkwX2_of_0 ++ []
theorem dksX2_of_0 : cX2_of.data.toList.drop 0 = dktX2_of_0 := by decide +kernel
theorem dX2_of_0 : decode cX2_of 0 = .ok (.aload_n 0, 1) := dk_42 (dk_at dksX2_of_0 0 rfl rfl)
theorem dX2_of_1 : decode cX2_of 1 = .ok (.getfield 7, 3) := dk_180 0 7 (dk_at dksX2_of_0 1 rfl rfl)
theorem dX2_of_4 : decode cX2_of 4 = .ok (.bipush 6, 2) := dk_16 6 (dk_at dksX2_of_0 4 rfl rfl)
theorem dX2_of_6 : decode cX2_of 6 = .ok (.iconst 5, 1) := dk_8 (dk_at dksX2_of_0 6 rfl rfl)
theorem dX2_of_7 : decode cX2_of 7 = .ok (.iload_n 1, 1) := dk_27 (dk_at dksX2_of_0 7 rfl rfl)
theorem dX2_of_8 : decode cX2_of 8 = .ok (.imul, 1) := dk_104 (dk_at dksX2_of_0 8 rfl rfl)
theorem dX2_of_9 : decode cX2_of 9 = .ok (.iadd, 1) := dk_96 (dk_at dksX2_of_0 9 rfl rfl)
theorem dX2_of_10 : decode cX2_of 10 = .ok (.iload_n 2, 1) := dk_28 (dk_at dksX2_of_0 10 rfl rfl)
theorem dX2_of_11 : decode cX2_of 11 = .ok (.iadd, 1) := dk_96 (dk_at dksX2_of_0 11 rfl rfl)
theorem dX2_of_12 : decode cX2_of 12 = .ok (.iaload, 1) := dk_46 (dk_at dksX2_of_0 12 rfl rfl)
theorem dX2_of_13 : decode cX2_of 13 = .ok (.ireturn, 1) := dk_172 (dk_at dksX2_of_0 13 rfl rfl)
abbrev cX2_record : ByteArray := prog_9_method_11_code
def yX2_record : MethodName := ⟨RX2, "record", "()V"⟩
def dkwX2_record_3 : List UInt8 := [89, 180, 0, 48, 4, 96, 181, 0, 48, 177]
abbrev dktX2_record_3 : List UInt8 := dkwX2_record_3 ++ []
def dkwX2_record_2 : List UInt8 := [181, 0, 48, 42, 180, 0, 7, 3, 42, 180, 0, 13, 17, 3, 38, 42, 180, 0, 48, 104, 184, 0, 52, 42]
abbrev dktX2_record_2 : List UInt8 := dkwX2_record_2 ++ dktX2_record_3
def dkwX2_record_1 : List UInt8 := [180, 0, 13, 17, 3, 38, 27, 96, 46, 79, 132, 1, 1, 167, 255, 230, 42, 89, 180, 0, 48, 4, 100]
abbrev dktX2_record_1 : List UInt8 := dkwX2_record_1 ++ dktX2_record_2
def dkwX2_record_0 : List UInt8 := [42, 180, 0, 48, 7, 160, 0, 44, 3, 60, 27, 17, 9, 114, 162, 0, 25, 42, 180, 0, 13, 27, 42]
abbrev dktX2_record_0 : List UInt8 := dkwX2_record_0 ++ dktX2_record_1
theorem dksX2_record_0 : cX2_record.data.toList.drop 0 = dktX2_record_0 := by decide +kernel
theorem dksX2_record_1 : cX2_record.data.toList.drop 23 = dktX2_record_1 := dk_seg dksX2_record_0 23 rfl rfl
theorem dksX2_record_2 : cX2_record.data.toList.drop 46 = dktX2_record_2 := dk_seg dksX2_record_1 23 rfl rfl
theorem dksX2_record_3 : cX2_record.data.toList.drop 70 = dktX2_record_3 := dk_seg dksX2_record_2 24 rfl rfl
theorem dX2_record_0 : decode cX2_record 0 = .ok (.aload_n 0, 1) := dk_42 (dk_at dksX2_record_0 0 rfl rfl)
theorem dX2_record_1 : decode cX2_record 1 = .ok (.getfield 48, 3) := dk_180 0 48 (dk_at dksX2_record_0 1 rfl rfl)
theorem dX2_record_4 : decode cX2_record 4 = .ok (.iconst 4, 1) := dk_7 (dk_at dksX2_record_0 4 rfl rfl)
theorem dX2_record_5 : decode cX2_record 5 = .ok (.if_icmp .ne 44, 3) := dk_160 0 44 (dk_at dksX2_record_0 5 rfl rfl)
theorem dX2_record_8 : decode cX2_record 8 = .ok (.iconst 0, 1) := dk_3 (dk_at dksX2_record_0 8 rfl rfl)
theorem dX2_record_9 : decode cX2_record 9 = .ok (.istore_n 1, 1) := dk_60 (dk_at dksX2_record_0 9 rfl rfl)
theorem dX2_record_10 : decode cX2_record 10 = .ok (.iload_n 1, 1) := dk_27 (dk_at dksX2_record_0 10 rfl rfl)
theorem dX2_record_11 : decode cX2_record 11 = .ok (.sipush 2418, 3) := dk_17 9 114 (dk_at dksX2_record_0 11 rfl rfl)
theorem dX2_record_14 : decode cX2_record 14 = .ok (.if_icmp .ge 25, 3) := dk_162 0 25 (dk_at dksX2_record_0 14 rfl rfl)
theorem dX2_record_17 : decode cX2_record 17 = .ok (.aload_n 0, 1) := dk_42 (dk_at dksX2_record_0 17 rfl rfl)
theorem dX2_record_18 : decode cX2_record 18 = .ok (.getfield 13, 3) := dk_180 0 13 (dk_at dksX2_record_0 18 rfl rfl)
theorem dX2_record_21 : decode cX2_record 21 = .ok (.iload_n 1, 1) := dk_27 (dk_at dksX2_record_0 21 rfl rfl)
theorem dX2_record_22 : decode cX2_record 22 = .ok (.aload_n 0, 1) := dk_42 (dk_at dksX2_record_0 22 rfl rfl)
theorem dX2_record_23 : decode cX2_record 23 = .ok (.getfield 13, 3) := dk_180 0 13 (dk_at dksX2_record_1 0 rfl rfl)
theorem dX2_record_26 : decode cX2_record 26 = .ok (.sipush 806, 3) := dk_17 3 38 (dk_at dksX2_record_1 3 rfl rfl)
theorem dX2_record_29 : decode cX2_record 29 = .ok (.iload_n 1, 1) := dk_27 (dk_at dksX2_record_1 6 rfl rfl)
theorem dX2_record_30 : decode cX2_record 30 = .ok (.iadd, 1) := dk_96 (dk_at dksX2_record_1 7 rfl rfl)
theorem dX2_record_31 : decode cX2_record 31 = .ok (.iaload, 1) := dk_46 (dk_at dksX2_record_1 8 rfl rfl)
theorem dX2_record_32 : decode cX2_record 32 = .ok (.iastore, 1) := dk_79 (dk_at dksX2_record_1 9 rfl rfl)
theorem dX2_record_33 : decode cX2_record 33 = .ok (.iinc 1 1, 3) := dk_132 1 1 (dk_at dksX2_record_1 10 rfl rfl)
theorem dX2_record_36 : decode cX2_record 36 = .ok (.goto (-26), 3) := dk_167 255 230 (dk_at dksX2_record_1 13 rfl rfl)
theorem dX2_record_39 : decode cX2_record 39 = .ok (.aload_n 0, 1) := dk_42 (dk_at dksX2_record_1 16 rfl rfl)
theorem dX2_record_40 : decode cX2_record 40 = .ok (.dup, 1) := dk_89 (dk_at dksX2_record_1 17 rfl rfl)
theorem dX2_record_41 : decode cX2_record 41 = .ok (.getfield 48, 3) := dk_180 0 48 (dk_at dksX2_record_1 18 rfl rfl)
theorem dX2_record_44 : decode cX2_record 44 = .ok (.iconst 1, 1) := dk_4 (dk_at dksX2_record_1 21 rfl rfl)
theorem dX2_record_45 : decode cX2_record 45 = .ok (.isub, 1) := dk_100 (dk_at dksX2_record_1 22 rfl rfl)
theorem dX2_record_46 : decode cX2_record 46 = .ok (.putfield 48, 3) := dk_181 0 48 (dk_at dksX2_record_2 0 rfl rfl)
theorem dX2_record_49 : decode cX2_record 49 = .ok (.aload_n 0, 1) := dk_42 (dk_at dksX2_record_2 3 rfl rfl)
theorem dX2_record_50 : decode cX2_record 50 = .ok (.getfield 7, 3) := dk_180 0 7 (dk_at dksX2_record_2 4 rfl rfl)
theorem dX2_record_53 : decode cX2_record 53 = .ok (.iconst 0, 1) := dk_3 (dk_at dksX2_record_2 7 rfl rfl)
theorem dX2_record_54 : decode cX2_record 54 = .ok (.aload_n 0, 1) := dk_42 (dk_at dksX2_record_2 8 rfl rfl)
theorem dX2_record_55 : decode cX2_record 55 = .ok (.getfield 13, 3) := dk_180 0 13 (dk_at dksX2_record_2 9 rfl rfl)
theorem dX2_record_58 : decode cX2_record 58 = .ok (.sipush 806, 3) := dk_17 3 38 (dk_at dksX2_record_2 12 rfl rfl)
theorem dX2_record_61 : decode cX2_record 61 = .ok (.aload_n 0, 1) := dk_42 (dk_at dksX2_record_2 15 rfl rfl)
theorem dX2_record_62 : decode cX2_record 62 = .ok (.getfield 48, 3) := dk_180 0 48 (dk_at dksX2_record_2 16 rfl rfl)
theorem dX2_record_65 : decode cX2_record 65 = .ok (.imul, 1) := dk_104 (dk_at dksX2_record_2 19 rfl rfl)
theorem dX2_record_66 : decode cX2_record 66 = .ok (.invokestatic 52, 3) := dk_184 0 52 (dk_at dksX2_record_2 20 rfl rfl)
theorem dX2_record_69 : decode cX2_record 69 = .ok (.aload_n 0, 1) := dk_42 (dk_at dksX2_record_2 23 rfl rfl)
theorem dX2_record_70 : decode cX2_record 70 = .ok (.dup, 1) := dk_89 (dk_at dksX2_record_3 0 rfl rfl)
theorem dX2_record_71 : decode cX2_record 71 = .ok (.getfield 48, 3) := dk_180 0 48 (dk_at dksX2_record_3 1 rfl rfl)
theorem dX2_record_74 : decode cX2_record 74 = .ok (.iconst 1, 1) := dk_4 (dk_at dksX2_record_3 4 rfl rfl)
theorem dX2_record_75 : decode cX2_record 75 = .ok (.iadd, 1) := dk_96 (dk_at dksX2_record_3 5 rfl rfl)
theorem dX2_record_76 : decode cX2_record 76 = .ok (.putfield 48, 3) := dk_181 0 48 (dk_at dksX2_record_3 6 rfl rfl)
theorem dX2_record_79 : decode cX2_record 79 = .ok (.return_, 1) := dk_177 (dk_at dksX2_record_3 9 rfl rfl)
abbrev cX2_copy : ByteArray := prog_9_method_10_code
def yX2_copy : MethodName := ⟨RX2, "copy", "([II[II)V"⟩
def dkwX2_copy_1 : List UInt8 := [132, 4, 1, 167, 255, 233, 177]
abbrev dktX2_copy_1 : List UInt8 := dkwX2_copy_1 ++ []
def dkwX2_copy_0 : List UInt8 := [3, 54, 4, 21, 4, 17, 3, 38, 162, 0, 21, 44, 29, 21, 4, 96, 42, 27, 21, 4, 96, 46, 79]
abbrev dktX2_copy_0 : List UInt8 := dkwX2_copy_0 ++ dktX2_copy_1
theorem dksX2_copy_0 : cX2_copy.data.toList.drop 0 = dktX2_copy_0 := by decide +kernel
theorem dksX2_copy_1 : cX2_copy.data.toList.drop 23 = dktX2_copy_1 := dk_seg dksX2_copy_0 23 rfl rfl
theorem dX2_copy_0 : decode cX2_copy 0 = .ok (.iconst 0, 1) := dk_3 (dk_at dksX2_copy_0 0 rfl rfl)
theorem dX2_copy_1 : decode cX2_copy 1 = .ok (.istore 4, 2) := dk_54 4 (dk_at dksX2_copy_0 1 rfl rfl)
theorem dX2_copy_3 : decode cX2_copy 3 = .ok (.iload 4, 2) := dk_21 4 (dk_at dksX2_copy_0 3 rfl rfl)
theorem dX2_copy_5 : decode cX2_copy 5 = .ok (.sipush 806, 3) := dk_17 3 38 (dk_at dksX2_copy_0 5 rfl rfl)
theorem dX2_copy_8 : decode cX2_copy 8 = .ok (.if_icmp .ge 21, 3) := dk_162 0 21 (dk_at dksX2_copy_0 8 rfl rfl)
theorem dX2_copy_11 : decode cX2_copy 11 = .ok (.aload_n 2, 1) := dk_44 (dk_at dksX2_copy_0 11 rfl rfl)
theorem dX2_copy_12 : decode cX2_copy 12 = .ok (.iload_n 3, 1) := dk_29 (dk_at dksX2_copy_0 12 rfl rfl)
theorem dX2_copy_13 : decode cX2_copy 13 = .ok (.iload 4, 2) := dk_21 4 (dk_at dksX2_copy_0 13 rfl rfl)
theorem dX2_copy_15 : decode cX2_copy 15 = .ok (.iadd, 1) := dk_96 (dk_at dksX2_copy_0 15 rfl rfl)
theorem dX2_copy_16 : decode cX2_copy 16 = .ok (.aload_n 0, 1) := dk_42 (dk_at dksX2_copy_0 16 rfl rfl)
theorem dX2_copy_17 : decode cX2_copy 17 = .ok (.iload_n 1, 1) := dk_27 (dk_at dksX2_copy_0 17 rfl rfl)
theorem dX2_copy_18 : decode cX2_copy 18 = .ok (.iload 4, 2) := dk_21 4 (dk_at dksX2_copy_0 18 rfl rfl)
theorem dX2_copy_20 : decode cX2_copy 20 = .ok (.iadd, 1) := dk_96 (dk_at dksX2_copy_0 20 rfl rfl)
theorem dX2_copy_21 : decode cX2_copy 21 = .ok (.iaload, 1) := dk_46 (dk_at dksX2_copy_0 21 rfl rfl)
theorem dX2_copy_22 : decode cX2_copy 22 = .ok (.iastore, 1) := dk_79 (dk_at dksX2_copy_0 22 rfl rfl)
theorem dX2_copy_23 : decode cX2_copy 23 = .ok (.iinc 4 1, 3) := dk_132 4 1 (dk_at dksX2_copy_1 0 rfl rfl)
theorem dX2_copy_26 : decode cX2_copy 26 = .ok (.goto (-23), 3) := dk_167 255 233 (dk_at dksX2_copy_1 3 rfl rfl)
theorem dX2_copy_29 : decode cX2_copy 29 = .ok (.return_, 1) := dk_177 (dk_at dksX2_copy_1 6 rfl rfl)
abbrev cX2_doAdd : ByteArray := prog_9_method_33_code
def yX2_doAdd : MethodName := ⟨RX2, "doAdd", "(IIIII)I"⟩
def dkwX2_doAdd_3 : List UInt8 := [4, 96, 79, 42, 21, 6, 3, 182, 0, 56, 172]
abbrev dktX2_doAdd_3 : List UInt8 := dkwX2_doAdd_3 ++ []
def dkwX2_doAdd_2 : List UInt8 := [21, 6, 7, 21, 6, 154, 0, 7, 4, 167, 0, 5, 21, 5, 182, 0, 120, 42, 180, 0, 7, 8, 92, 46]
abbrev dktX2_doAdd_2 : List UInt8 := dkwX2_doAdd_2 ++ dktX2_doAdd_3
def dkwX2_doAdd_1 : List UInt8 := [4, 21, 4, 182, 0, 120, 42, 21, 6, 5, 28, 182, 0, 120, 42, 21, 6, 6, 29, 182, 0, 120, 42]
abbrev dktX2_doAdd_1 : List UInt8 := dkwX2_doAdd_1 ++ dktX2_doAdd_2
def dkwX2_doAdd_0 : List UInt8 := [42, 180, 0, 7, 8, 46, 54, 6, 42, 21, 6, 3, 42, 182, 0, 117, 27, 96, 182, 0, 120, 42, 21, 6]
abbrev dktX2_doAdd_0 : List UInt8 := dkwX2_doAdd_0 ++ dktX2_doAdd_1
theorem dksX2_doAdd_0 : cX2_doAdd.data.toList.drop 0 = dktX2_doAdd_0 := by decide +kernel
theorem dksX2_doAdd_1 : cX2_doAdd.data.toList.drop 24 = dktX2_doAdd_1 := dk_seg dksX2_doAdd_0 24 rfl rfl
theorem dksX2_doAdd_2 : cX2_doAdd.data.toList.drop 47 = dktX2_doAdd_2 := dk_seg dksX2_doAdd_1 23 rfl rfl
theorem dksX2_doAdd_3 : cX2_doAdd.data.toList.drop 71 = dktX2_doAdd_3 := dk_seg dksX2_doAdd_2 24 rfl rfl
theorem dX2_doAdd_0 : decode cX2_doAdd 0 = .ok (.aload_n 0, 1) := dk_42 (dk_at dksX2_doAdd_0 0 rfl rfl)
theorem dX2_doAdd_1 : decode cX2_doAdd 1 = .ok (.getfield 7, 3) := dk_180 0 7 (dk_at dksX2_doAdd_0 1 rfl rfl)
theorem dX2_doAdd_4 : decode cX2_doAdd 4 = .ok (.iconst 5, 1) := dk_8 (dk_at dksX2_doAdd_0 4 rfl rfl)
theorem dX2_doAdd_5 : decode cX2_doAdd 5 = .ok (.iaload, 1) := dk_46 (dk_at dksX2_doAdd_0 5 rfl rfl)
theorem dX2_doAdd_6 : decode cX2_doAdd 6 = .ok (.istore 6, 2) := dk_54 6 (dk_at dksX2_doAdd_0 6 rfl rfl)
theorem dX2_doAdd_8 : decode cX2_doAdd 8 = .ok (.aload_n 0, 1) := dk_42 (dk_at dksX2_doAdd_0 8 rfl rfl)
theorem dX2_doAdd_9 : decode cX2_doAdd 9 = .ok (.iload 6, 2) := dk_21 6 (dk_at dksX2_doAdd_0 9 rfl rfl)
theorem dX2_doAdd_11 : decode cX2_doAdd 11 = .ok (.iconst 0, 1) := dk_3 (dk_at dksX2_doAdd_0 11 rfl rfl)
theorem dX2_doAdd_12 : decode cX2_doAdd 12 = .ok (.aload_n 0, 1) := dk_42 (dk_at dksX2_doAdd_0 12 rfl rfl)
theorem dX2_doAdd_13 : decode cX2_doAdd 13 = .ok (.invokevirtual 117, 3) := dk_182 0 117 (dk_at dksX2_doAdd_0 13 rfl rfl)
theorem dX2_doAdd_16 : decode cX2_doAdd 16 = .ok (.iload_n 1, 1) := dk_27 (dk_at dksX2_doAdd_0 16 rfl rfl)
theorem dX2_doAdd_17 : decode cX2_doAdd 17 = .ok (.iadd, 1) := dk_96 (dk_at dksX2_doAdd_0 17 rfl rfl)
theorem dX2_doAdd_18 : decode cX2_doAdd 18 = .ok (.invokevirtual 120, 3) := dk_182 0 120 (dk_at dksX2_doAdd_0 18 rfl rfl)
theorem dX2_doAdd_21 : decode cX2_doAdd 21 = .ok (.aload_n 0, 1) := dk_42 (dk_at dksX2_doAdd_0 21 rfl rfl)
theorem dX2_doAdd_22 : decode cX2_doAdd 22 = .ok (.iload 6, 2) := dk_21 6 (dk_at dksX2_doAdd_0 22 rfl rfl)
theorem dX2_doAdd_24 : decode cX2_doAdd 24 = .ok (.iconst 1, 1) := dk_4 (dk_at dksX2_doAdd_1 0 rfl rfl)
theorem dX2_doAdd_25 : decode cX2_doAdd 25 = .ok (.iload 4, 2) := dk_21 4 (dk_at dksX2_doAdd_1 1 rfl rfl)
theorem dX2_doAdd_27 : decode cX2_doAdd 27 = .ok (.invokevirtual 120, 3) := dk_182 0 120 (dk_at dksX2_doAdd_1 3 rfl rfl)
theorem dX2_doAdd_30 : decode cX2_doAdd 30 = .ok (.aload_n 0, 1) := dk_42 (dk_at dksX2_doAdd_1 6 rfl rfl)
theorem dX2_doAdd_31 : decode cX2_doAdd 31 = .ok (.iload 6, 2) := dk_21 6 (dk_at dksX2_doAdd_1 7 rfl rfl)
theorem dX2_doAdd_33 : decode cX2_doAdd 33 = .ok (.iconst 2, 1) := dk_5 (dk_at dksX2_doAdd_1 9 rfl rfl)
theorem dX2_doAdd_34 : decode cX2_doAdd 34 = .ok (.iload_n 2, 1) := dk_28 (dk_at dksX2_doAdd_1 10 rfl rfl)
theorem dX2_doAdd_35 : decode cX2_doAdd 35 = .ok (.invokevirtual 120, 3) := dk_182 0 120 (dk_at dksX2_doAdd_1 11 rfl rfl)
theorem dX2_doAdd_38 : decode cX2_doAdd 38 = .ok (.aload_n 0, 1) := dk_42 (dk_at dksX2_doAdd_1 14 rfl rfl)
theorem dX2_doAdd_39 : decode cX2_doAdd 39 = .ok (.iload 6, 2) := dk_21 6 (dk_at dksX2_doAdd_1 15 rfl rfl)
theorem dX2_doAdd_41 : decode cX2_doAdd 41 = .ok (.iconst 3, 1) := dk_6 (dk_at dksX2_doAdd_1 17 rfl rfl)
theorem dX2_doAdd_42 : decode cX2_doAdd 42 = .ok (.iload_n 3, 1) := dk_29 (dk_at dksX2_doAdd_1 18 rfl rfl)
theorem dX2_doAdd_43 : decode cX2_doAdd 43 = .ok (.invokevirtual 120, 3) := dk_182 0 120 (dk_at dksX2_doAdd_1 19 rfl rfl)
theorem dX2_doAdd_46 : decode cX2_doAdd 46 = .ok (.aload_n 0, 1) := dk_42 (dk_at dksX2_doAdd_1 22 rfl rfl)
theorem dX2_doAdd_47 : decode cX2_doAdd 47 = .ok (.iload 6, 2) := dk_21 6 (dk_at dksX2_doAdd_2 0 rfl rfl)
theorem dX2_doAdd_49 : decode cX2_doAdd 49 = .ok (.iconst 4, 1) := dk_7 (dk_at dksX2_doAdd_2 2 rfl rfl)
theorem dX2_doAdd_50 : decode cX2_doAdd 50 = .ok (.iload 6, 2) := dk_21 6 (dk_at dksX2_doAdd_2 3 rfl rfl)
theorem dX2_doAdd_52 : decode cX2_doAdd 52 = .ok (.ifCond .ne 7, 3) := dk_154 0 7 (dk_at dksX2_doAdd_2 5 rfl rfl)
theorem dX2_doAdd_55 : decode cX2_doAdd 55 = .ok (.iconst 1, 1) := dk_4 (dk_at dksX2_doAdd_2 8 rfl rfl)
theorem dX2_doAdd_56 : decode cX2_doAdd 56 = .ok (.goto 5, 3) := dk_167 0 5 (dk_at dksX2_doAdd_2 9 rfl rfl)
theorem dX2_doAdd_59 : decode cX2_doAdd 59 = .ok (.iload 5, 2) := dk_21 5 (dk_at dksX2_doAdd_2 12 rfl rfl)
theorem dX2_doAdd_61 : decode cX2_doAdd 61 = .ok (.invokevirtual 120, 3) := dk_182 0 120 (dk_at dksX2_doAdd_2 14 rfl rfl)
theorem dX2_doAdd_64 : decode cX2_doAdd 64 = .ok (.aload_n 0, 1) := dk_42 (dk_at dksX2_doAdd_2 17 rfl rfl)
theorem dX2_doAdd_65 : decode cX2_doAdd 65 = .ok (.getfield 7, 3) := dk_180 0 7 (dk_at dksX2_doAdd_2 18 rfl rfl)
theorem dX2_doAdd_68 : decode cX2_doAdd 68 = .ok (.iconst 5, 1) := dk_8 (dk_at dksX2_doAdd_2 21 rfl rfl)
theorem dX2_doAdd_69 : decode cX2_doAdd 69 = .ok (.dup2, 1) := dk_92 (dk_at dksX2_doAdd_2 22 rfl rfl)
theorem dX2_doAdd_70 : decode cX2_doAdd 70 = .ok (.iaload, 1) := dk_46 (dk_at dksX2_doAdd_2 23 rfl rfl)
theorem dX2_doAdd_71 : decode cX2_doAdd 71 = .ok (.iconst 1, 1) := dk_4 (dk_at dksX2_doAdd_3 0 rfl rfl)
theorem dX2_doAdd_72 : decode cX2_doAdd 72 = .ok (.iadd, 1) := dk_96 (dk_at dksX2_doAdd_3 1 rfl rfl)
theorem dX2_doAdd_73 : decode cX2_doAdd 73 = .ok (.iastore, 1) := dk_79 (dk_at dksX2_doAdd_3 2 rfl rfl)
theorem dX2_doAdd_74 : decode cX2_doAdd 74 = .ok (.aload_n 0, 1) := dk_42 (dk_at dksX2_doAdd_3 3 rfl rfl)
theorem dX2_doAdd_75 : decode cX2_doAdd 75 = .ok (.iload 6, 2) := dk_21 6 (dk_at dksX2_doAdd_3 4 rfl rfl)
theorem dX2_doAdd_77 : decode cX2_doAdd 77 = .ok (.iconst 0, 1) := dk_3 (dk_at dksX2_doAdd_3 6 rfl rfl)
theorem dX2_doAdd_78 : decode cX2_doAdd 78 = .ok (.invokevirtual 56, 3) := dk_182 0 56 (dk_at dksX2_doAdd_3 7 rfl rfl)
theorem dX2_doAdd_81 : decode cX2_doAdd 81 = .ok (.ireturn, 1) := dk_172 (dk_at dksX2_doAdd_3 10 rfl rfl)
abbrev cX2_lay : ByteArray := prog_9_method_9_code
def yX2_lay : MethodName := ⟨RX2, "lay", "(III)V"⟩
def dkwX2_lay_0 : List UInt8 := [42, 180, 0, 7, 16, 6, 8, 27, 104, 96, 28, 96, 29, 79, 177]
abbrev dktX2_lay_0 : List UInt8 := dkwX2_lay_0 ++ []
theorem dksX2_lay_0 : cX2_lay.data.toList.drop 0 = dktX2_lay_0 := by decide +kernel
theorem dX2_lay_0 : decode cX2_lay 0 = .ok (.aload_n 0, 1) := dk_42 (dk_at dksX2_lay_0 0 rfl rfl)
theorem dX2_lay_1 : decode cX2_lay 1 = .ok (.getfield 7, 3) := dk_180 0 7 (dk_at dksX2_lay_0 1 rfl rfl)
theorem dX2_lay_4 : decode cX2_lay 4 = .ok (.bipush 6, 2) := dk_16 6 (dk_at dksX2_lay_0 4 rfl rfl)
theorem dX2_lay_6 : decode cX2_lay 6 = .ok (.iconst 5, 1) := dk_8 (dk_at dksX2_lay_0 6 rfl rfl)
theorem dX2_lay_7 : decode cX2_lay 7 = .ok (.iload_n 1, 1) := dk_27 (dk_at dksX2_lay_0 7 rfl rfl)
theorem dX2_lay_8 : decode cX2_lay 8 = .ok (.imul, 1) := dk_104 (dk_at dksX2_lay_0 8 rfl rfl)
theorem dX2_lay_9 : decode cX2_lay 9 = .ok (.iadd, 1) := dk_96 (dk_at dksX2_lay_0 9 rfl rfl)
theorem dX2_lay_10 : decode cX2_lay 10 = .ok (.iload_n 2, 1) := dk_28 (dk_at dksX2_lay_0 10 rfl rfl)
theorem dX2_lay_11 : decode cX2_lay 11 = .ok (.iadd, 1) := dk_96 (dk_at dksX2_lay_0 11 rfl rfl)
theorem dX2_lay_12 : decode cX2_lay 12 = .ok (.iload_n 3, 1) := dk_29 (dk_at dksX2_lay_0 12 rfl rfl)
theorem dX2_lay_13 : decode cX2_lay 13 = .ok (.iastore, 1) := dk_79 (dk_at dksX2_lay_0 13 rfl rfl)
theorem dX2_lay_14 : decode cX2_lay 14 = .ok (.return_, 1) := dk_177 (dk_at dksX2_lay_0 14 rfl rfl)
abbrev cX2_drop : ByteArray := prog_9_method_35_code
def yX2_drop : MethodName := ⟨RX2, "drop", "()I"⟩
def dkwX2_drop_1 : List UInt8 := [100, 79, 42, 180, 0, 7, 8, 46, 172]
abbrev dktX2_drop_1 : List UInt8 := dkwX2_drop_1 ++ []
def dkwX2_drop_0 : List UInt8 := [42, 180, 0, 7, 8, 46, 154, 0, 6, 16, 251, 172, 42, 182, 0, 128, 42, 180, 0, 7, 8, 92, 46, 4]
abbrev dktX2_drop_0 : List UInt8 := dkwX2_drop_0 ++ dktX2_drop_1
theorem dksX2_drop_0 : cX2_drop.data.toList.drop 0 = dktX2_drop_0 := by decide +kernel
theorem dksX2_drop_1 : cX2_drop.data.toList.drop 24 = dktX2_drop_1 := dk_seg dksX2_drop_0 24 rfl rfl
theorem dX2_drop_0 : decode cX2_drop 0 = .ok (.aload_n 0, 1) := dk_42 (dk_at dksX2_drop_0 0 rfl rfl)
theorem dX2_drop_1 : decode cX2_drop 1 = .ok (.getfield 7, 3) := dk_180 0 7 (dk_at dksX2_drop_0 1 rfl rfl)
theorem dX2_drop_4 : decode cX2_drop 4 = .ok (.iconst 5, 1) := dk_8 (dk_at dksX2_drop_0 4 rfl rfl)
theorem dX2_drop_5 : decode cX2_drop 5 = .ok (.iaload, 1) := dk_46 (dk_at dksX2_drop_0 5 rfl rfl)
theorem dX2_drop_6 : decode cX2_drop 6 = .ok (.ifCond .ne 6, 3) := dk_154 0 6 (dk_at dksX2_drop_0 6 rfl rfl)
theorem dX2_drop_9 : decode cX2_drop 9 = .ok (.bipush (-5), 2) := dk_16 251 (dk_at dksX2_drop_0 9 rfl rfl)
theorem dX2_drop_11 : decode cX2_drop 11 = .ok (.ireturn, 1) := dk_172 (dk_at dksX2_drop_0 11 rfl rfl)
theorem dX2_drop_12 : decode cX2_drop 12 = .ok (.aload_n 0, 1) := dk_42 (dk_at dksX2_drop_0 12 rfl rfl)
theorem dX2_drop_13 : decode cX2_drop 13 = .ok (.invokevirtual 128, 3) := dk_182 0 128 (dk_at dksX2_drop_0 13 rfl rfl)
theorem dX2_drop_16 : decode cX2_drop 16 = .ok (.aload_n 0, 1) := dk_42 (dk_at dksX2_drop_0 16 rfl rfl)
theorem dX2_drop_17 : decode cX2_drop 17 = .ok (.getfield 7, 3) := dk_180 0 7 (dk_at dksX2_drop_0 17 rfl rfl)
theorem dX2_drop_20 : decode cX2_drop 20 = .ok (.iconst 5, 1) := dk_8 (dk_at dksX2_drop_0 20 rfl rfl)
theorem dX2_drop_21 : decode cX2_drop 21 = .ok (.dup2, 1) := dk_92 (dk_at dksX2_drop_0 21 rfl rfl)
theorem dX2_drop_22 : decode cX2_drop 22 = .ok (.iaload, 1) := dk_46 (dk_at dksX2_drop_0 22 rfl rfl)
theorem dX2_drop_23 : decode cX2_drop 23 = .ok (.iconst 1, 1) := dk_4 (dk_at dksX2_drop_0 23 rfl rfl)
theorem dX2_drop_24 : decode cX2_drop 24 = .ok (.isub, 1) := dk_100 (dk_at dksX2_drop_1 0 rfl rfl)
theorem dX2_drop_25 : decode cX2_drop 25 = .ok (.iastore, 1) := dk_79 (dk_at dksX2_drop_1 1 rfl rfl)
theorem dX2_drop_26 : decode cX2_drop 26 = .ok (.aload_n 0, 1) := dk_42 (dk_at dksX2_drop_1 2 rfl rfl)
theorem dX2_drop_27 : decode cX2_drop 27 = .ok (.getfield 7, 3) := dk_180 0 7 (dk_at dksX2_drop_1 3 rfl rfl)
theorem dX2_drop_30 : decode cX2_drop 30 = .ok (.iconst 5, 1) := dk_8 (dk_at dksX2_drop_1 6 rfl rfl)
theorem dX2_drop_31 : decode cX2_drop 31 = .ok (.iaload, 1) := dk_46 (dk_at dksX2_drop_1 7 rfl rfl)
theorem dX2_drop_32 : decode cX2_drop 32 = .ok (.ireturn, 1) := dk_172 (dk_at dksX2_drop_1 8 rfl rfl)
abbrev cX2_set : ByteArray := prog_9_method_37_code
def yX2_set : MethodName := ⟨RX2, "set", "(II)I"⟩
def dkwX2_set_2 : List UInt8 := [28, 79, 21, 4, 172]
abbrev dktX2_set_2 : List UInt8 := dkwX2_set_2 ++ []
def dkwX2_set_1 : List UInt8 := [29, 167, 0, 5, 16, 251, 172, 42, 182, 0, 128, 42, 180, 0, 7, 27, 46, 54, 4, 42, 180, 0, 7, 27]
abbrev dktX2_set_1 : List UInt8 := dkwX2_set_1 ++ dktX2_set_2
def dkwX2_set_0 : List UInt8 := [27, 28, 184, 0, 135, 62, 29, 155, 0, 13, 42, 180, 0, 7, 27, 46, 28, 160, 0, 14, 29, 156, 0, 7]
abbrev dktX2_set_0 : List UInt8 := dkwX2_set_0 ++ dktX2_set_1
theorem dksX2_set_0 : cX2_set.data.toList.drop 0 = dktX2_set_0 := by decide +kernel
theorem dksX2_set_1 : cX2_set.data.toList.drop 24 = dktX2_set_1 := dk_seg dksX2_set_0 24 rfl rfl
theorem dksX2_set_2 : cX2_set.data.toList.drop 48 = dktX2_set_2 := dk_seg dksX2_set_1 24 rfl rfl
theorem dX2_set_0 : decode cX2_set 0 = .ok (.iload_n 1, 1) := dk_27 (dk_at dksX2_set_0 0 rfl rfl)
theorem dX2_set_1 : decode cX2_set 1 = .ok (.iload_n 2, 1) := dk_28 (dk_at dksX2_set_0 1 rfl rfl)
theorem dX2_set_2 : decode cX2_set 2 = .ok (.invokestatic 135, 3) := dk_184 0 135 (dk_at dksX2_set_0 2 rfl rfl)
theorem dX2_set_5 : decode cX2_set 5 = .ok (.istore_n 3, 1) := dk_62 (dk_at dksX2_set_0 5 rfl rfl)
theorem dX2_set_6 : decode cX2_set 6 = .ok (.iload_n 3, 1) := dk_29 (dk_at dksX2_set_0 6 rfl rfl)
theorem dX2_set_7 : decode cX2_set 7 = .ok (.ifCond .lt 13, 3) := dk_155 0 13 (dk_at dksX2_set_0 7 rfl rfl)
theorem dX2_set_10 : decode cX2_set 10 = .ok (.aload_n 0, 1) := dk_42 (dk_at dksX2_set_0 10 rfl rfl)
theorem dX2_set_11 : decode cX2_set 11 = .ok (.getfield 7, 3) := dk_180 0 7 (dk_at dksX2_set_0 11 rfl rfl)
theorem dX2_set_14 : decode cX2_set 14 = .ok (.iload_n 1, 1) := dk_27 (dk_at dksX2_set_0 14 rfl rfl)
theorem dX2_set_15 : decode cX2_set 15 = .ok (.iaload, 1) := dk_46 (dk_at dksX2_set_0 15 rfl rfl)
theorem dX2_set_16 : decode cX2_set 16 = .ok (.iload_n 2, 1) := dk_28 (dk_at dksX2_set_0 16 rfl rfl)
theorem dX2_set_17 : decode cX2_set 17 = .ok (.if_icmp .ne 14, 3) := dk_160 0 14 (dk_at dksX2_set_0 17 rfl rfl)
theorem dX2_set_20 : decode cX2_set 20 = .ok (.iload_n 3, 1) := dk_29 (dk_at dksX2_set_0 20 rfl rfl)
theorem dX2_set_21 : decode cX2_set 21 = .ok (.ifCond .ge 7, 3) := dk_156 0 7 (dk_at dksX2_set_0 21 rfl rfl)
theorem dX2_set_24 : decode cX2_set 24 = .ok (.iload_n 3, 1) := dk_29 (dk_at dksX2_set_1 0 rfl rfl)
theorem dX2_set_25 : decode cX2_set 25 = .ok (.goto 5, 3) := dk_167 0 5 (dk_at dksX2_set_1 1 rfl rfl)
theorem dX2_set_28 : decode cX2_set 28 = .ok (.bipush (-5), 2) := dk_16 251 (dk_at dksX2_set_1 4 rfl rfl)
theorem dX2_set_30 : decode cX2_set 30 = .ok (.ireturn, 1) := dk_172 (dk_at dksX2_set_1 6 rfl rfl)
theorem dX2_set_31 : decode cX2_set 31 = .ok (.aload_n 0, 1) := dk_42 (dk_at dksX2_set_1 7 rfl rfl)
theorem dX2_set_32 : decode cX2_set 32 = .ok (.invokevirtual 128, 3) := dk_182 0 128 (dk_at dksX2_set_1 8 rfl rfl)
theorem dX2_set_35 : decode cX2_set 35 = .ok (.aload_n 0, 1) := dk_42 (dk_at dksX2_set_1 11 rfl rfl)
theorem dX2_set_36 : decode cX2_set 36 = .ok (.getfield 7, 3) := dk_180 0 7 (dk_at dksX2_set_1 12 rfl rfl)
theorem dX2_set_39 : decode cX2_set 39 = .ok (.iload_n 1, 1) := dk_27 (dk_at dksX2_set_1 15 rfl rfl)
theorem dX2_set_40 : decode cX2_set 40 = .ok (.iaload, 1) := dk_46 (dk_at dksX2_set_1 16 rfl rfl)
theorem dX2_set_41 : decode cX2_set 41 = .ok (.istore 4, 2) := dk_54 4 (dk_at dksX2_set_1 17 rfl rfl)
theorem dX2_set_43 : decode cX2_set 43 = .ok (.aload_n 0, 1) := dk_42 (dk_at dksX2_set_1 19 rfl rfl)
theorem dX2_set_44 : decode cX2_set 44 = .ok (.getfield 7, 3) := dk_180 0 7 (dk_at dksX2_set_1 20 rfl rfl)
theorem dX2_set_47 : decode cX2_set 47 = .ok (.iload_n 1, 1) := dk_27 (dk_at dksX2_set_1 23 rfl rfl)
theorem dX2_set_48 : decode cX2_set 48 = .ok (.iload_n 2, 1) := dk_28 (dk_at dksX2_set_2 0 rfl rfl)
theorem dX2_set_49 : decode cX2_set 49 = .ok (.iastore, 1) := dk_79 (dk_at dksX2_set_2 1 rfl rfl)
theorem dX2_set_50 : decode cX2_set 50 = .ok (.iload 4, 2) := dk_21 4 (dk_at dksX2_set_2 2 rfl rfl)
theorem dX2_set_52 : decode cX2_set 52 = .ok (.ireturn, 1) := dk_172 (dk_at dksX2_set_2 4 rfl rfl)
abbrev cX2_settingError : ByteArray := prog_9_method_36_code
def yX2_settingError : MethodName := ⟨RX2, "settingError", "(II)I"⟩
def dkwX2_settingError_5 : List UInt8 := [184, 0, 44, 153, 0, 7, 3, 167, 0, 5, 16, 254, 172, 2, 172]
abbrev dktX2_settingError_5 : List UInt8 := dkwX2_settingError_5 ++ []
def dkwX2_settingError_4 : List UInt8 := [16, 254, 172, 27, 3, 4, 184, 0, 44, 153, 0, 7, 3, 167, 0, 5, 16, 254, 172, 27, 4, 16, 100]
abbrev dktX2_settingError_4 : List UInt8 := dkwX2_settingError_4 ++ dktX2_settingError_5
def dkwX2_settingError_3 : List UInt8 := [153, 0, 7, 3, 167, 0, 5, 16, 254, 172, 27, 3, 16, 8, 184, 0, 44, 153, 0, 7, 3, 167, 0, 5]
abbrev dktX2_settingError_3 : List UInt8 := dkwX2_settingError_3 ++ dktX2_settingError_4
def dkwX2_settingError_2 : List UInt8 := [27, 5, 16, 64, 184, 0, 44, 153, 0, 7, 3, 167, 0, 5, 16, 254, 172, 27, 3, 16, 6, 184, 0, 44]
abbrev dktX2_settingError_2 : List UInt8 := dkwX2_settingError_2 ++ dktX2_settingError_3
def dkwX2_settingError_1 : List UInt8 := [170, 0, 0, 0, 0, 0, 119, 0, 0, 0, 0, 0, 0, 0, 4, 0, 0, 0, 35, 0, 0, 0, 52, 0, 0, 0, 69, 0, 0, 0, 86, 0, 0, 0, 102]
abbrev dktX2_settingError_1 : List UInt8 := dkwX2_settingError_1 ++ dktX2_settingError_2
def dkwX2_settingError_0 : List UInt8 := [26]
abbrev dktX2_settingError_0 : List UInt8 := dkwX2_settingError_0 ++ dktX2_settingError_1
theorem dksX2_settingError_0 : cX2_settingError.data.toList.drop 0 = dktX2_settingError_0 := by decide +kernel
theorem dksX2_settingError_1 : cX2_settingError.data.toList.drop 1 = dktX2_settingError_1 := dk_seg dksX2_settingError_0 1 rfl rfl
theorem dksX2_settingError_2 : cX2_settingError.data.toList.drop 36 = dktX2_settingError_2 := dk_seg dksX2_settingError_1 35 rfl rfl
theorem dksX2_settingError_3 : cX2_settingError.data.toList.drop 60 = dktX2_settingError_3 := dk_seg dksX2_settingError_2 24 rfl rfl
theorem dksX2_settingError_4 : cX2_settingError.data.toList.drop 84 = dktX2_settingError_4 := dk_seg dksX2_settingError_3 24 rfl rfl
theorem dksX2_settingError_5 : cX2_settingError.data.toList.drop 107 = dktX2_settingError_5 := dk_seg dksX2_settingError_4 23 rfl rfl
theorem dX2_settingError_0 : decode cX2_settingError 0 = .ok (.iload_n 0, 1) := dk_26 (dk_at dksX2_settingError_0 0 rfl rfl)
theorem dX2_settingError_1 : decode cX2_settingError 1 = .ok (.tableswitch 119 0 4 #[35, 52, 69, 86, 102], 35) := by decide +kernel
theorem dX2_settingError_36 : decode cX2_settingError 36 = .ok (.iload_n 1, 1) := dk_27 (dk_at dksX2_settingError_2 0 rfl rfl)
theorem dX2_settingError_37 : decode cX2_settingError 37 = .ok (.iconst 2, 1) := dk_5 (dk_at dksX2_settingError_2 1 rfl rfl)
theorem dX2_settingError_38 : decode cX2_settingError 38 = .ok (.bipush 64, 2) := dk_16 64 (dk_at dksX2_settingError_2 2 rfl rfl)
theorem dX2_settingError_40 : decode cX2_settingError 40 = .ok (.invokestatic 44, 3) := dk_184 0 44 (dk_at dksX2_settingError_2 4 rfl rfl)
theorem dX2_settingError_43 : decode cX2_settingError 43 = .ok (.ifCond .eq 7, 3) := dk_153 0 7 (dk_at dksX2_settingError_2 7 rfl rfl)
theorem dX2_settingError_46 : decode cX2_settingError 46 = .ok (.iconst 0, 1) := dk_3 (dk_at dksX2_settingError_2 10 rfl rfl)
theorem dX2_settingError_47 : decode cX2_settingError 47 = .ok (.goto 5, 3) := dk_167 0 5 (dk_at dksX2_settingError_2 11 rfl rfl)
theorem dX2_settingError_50 : decode cX2_settingError 50 = .ok (.bipush (-2), 2) := dk_16 254 (dk_at dksX2_settingError_2 14 rfl rfl)
theorem dX2_settingError_52 : decode cX2_settingError 52 = .ok (.ireturn, 1) := dk_172 (dk_at dksX2_settingError_2 16 rfl rfl)
theorem dX2_settingError_53 : decode cX2_settingError 53 = .ok (.iload_n 1, 1) := dk_27 (dk_at dksX2_settingError_2 17 rfl rfl)
theorem dX2_settingError_54 : decode cX2_settingError 54 = .ok (.iconst 0, 1) := dk_3 (dk_at dksX2_settingError_2 18 rfl rfl)
theorem dX2_settingError_55 : decode cX2_settingError 55 = .ok (.bipush 6, 2) := dk_16 6 (dk_at dksX2_settingError_2 19 rfl rfl)
theorem dX2_settingError_57 : decode cX2_settingError 57 = .ok (.invokestatic 44, 3) := dk_184 0 44 (dk_at dksX2_settingError_2 21 rfl rfl)
theorem dX2_settingError_60 : decode cX2_settingError 60 = .ok (.ifCond .eq 7, 3) := dk_153 0 7 (dk_at dksX2_settingError_3 0 rfl rfl)
theorem dX2_settingError_63 : decode cX2_settingError 63 = .ok (.iconst 0, 1) := dk_3 (dk_at dksX2_settingError_3 3 rfl rfl)
theorem dX2_settingError_64 : decode cX2_settingError 64 = .ok (.goto 5, 3) := dk_167 0 5 (dk_at dksX2_settingError_3 4 rfl rfl)
theorem dX2_settingError_67 : decode cX2_settingError 67 = .ok (.bipush (-2), 2) := dk_16 254 (dk_at dksX2_settingError_3 7 rfl rfl)
theorem dX2_settingError_69 : decode cX2_settingError 69 = .ok (.ireturn, 1) := dk_172 (dk_at dksX2_settingError_3 9 rfl rfl)
theorem dX2_settingError_70 : decode cX2_settingError 70 = .ok (.iload_n 1, 1) := dk_27 (dk_at dksX2_settingError_3 10 rfl rfl)
theorem dX2_settingError_71 : decode cX2_settingError 71 = .ok (.iconst 0, 1) := dk_3 (dk_at dksX2_settingError_3 11 rfl rfl)
theorem dX2_settingError_72 : decode cX2_settingError 72 = .ok (.bipush 8, 2) := dk_16 8 (dk_at dksX2_settingError_3 12 rfl rfl)
theorem dX2_settingError_74 : decode cX2_settingError 74 = .ok (.invokestatic 44, 3) := dk_184 0 44 (dk_at dksX2_settingError_3 14 rfl rfl)
theorem dX2_settingError_77 : decode cX2_settingError 77 = .ok (.ifCond .eq 7, 3) := dk_153 0 7 (dk_at dksX2_settingError_3 17 rfl rfl)
theorem dX2_settingError_80 : decode cX2_settingError 80 = .ok (.iconst 0, 1) := dk_3 (dk_at dksX2_settingError_3 20 rfl rfl)
theorem dX2_settingError_81 : decode cX2_settingError 81 = .ok (.goto 5, 3) := dk_167 0 5 (dk_at dksX2_settingError_3 21 rfl rfl)
theorem dX2_settingError_84 : decode cX2_settingError 84 = .ok (.bipush (-2), 2) := dk_16 254 (dk_at dksX2_settingError_4 0 rfl rfl)
theorem dX2_settingError_86 : decode cX2_settingError 86 = .ok (.ireturn, 1) := dk_172 (dk_at dksX2_settingError_4 2 rfl rfl)
theorem dX2_settingError_87 : decode cX2_settingError 87 = .ok (.iload_n 1, 1) := dk_27 (dk_at dksX2_settingError_4 3 rfl rfl)
theorem dX2_settingError_88 : decode cX2_settingError 88 = .ok (.iconst 0, 1) := dk_3 (dk_at dksX2_settingError_4 4 rfl rfl)
theorem dX2_settingError_89 : decode cX2_settingError 89 = .ok (.iconst 1, 1) := dk_4 (dk_at dksX2_settingError_4 5 rfl rfl)
theorem dX2_settingError_90 : decode cX2_settingError 90 = .ok (.invokestatic 44, 3) := dk_184 0 44 (dk_at dksX2_settingError_4 6 rfl rfl)
theorem dX2_settingError_93 : decode cX2_settingError 93 = .ok (.ifCond .eq 7, 3) := dk_153 0 7 (dk_at dksX2_settingError_4 9 rfl rfl)
theorem dX2_settingError_96 : decode cX2_settingError 96 = .ok (.iconst 0, 1) := dk_3 (dk_at dksX2_settingError_4 12 rfl rfl)
theorem dX2_settingError_97 : decode cX2_settingError 97 = .ok (.goto 5, 3) := dk_167 0 5 (dk_at dksX2_settingError_4 13 rfl rfl)
theorem dX2_settingError_100 : decode cX2_settingError 100 = .ok (.bipush (-2), 2) := dk_16 254 (dk_at dksX2_settingError_4 16 rfl rfl)
theorem dX2_settingError_102 : decode cX2_settingError 102 = .ok (.ireturn, 1) := dk_172 (dk_at dksX2_settingError_4 18 rfl rfl)
theorem dX2_settingError_103 : decode cX2_settingError 103 = .ok (.iload_n 1, 1) := dk_27 (dk_at dksX2_settingError_4 19 rfl rfl)
theorem dX2_settingError_104 : decode cX2_settingError 104 = .ok (.iconst 1, 1) := dk_4 (dk_at dksX2_settingError_4 20 rfl rfl)
theorem dX2_settingError_105 : decode cX2_settingError 105 = .ok (.bipush 100, 2) := dk_16 100 (dk_at dksX2_settingError_4 21 rfl rfl)
theorem dX2_settingError_107 : decode cX2_settingError 107 = .ok (.invokestatic 44, 3) := dk_184 0 44 (dk_at dksX2_settingError_5 0 rfl rfl)
theorem dX2_settingError_110 : decode cX2_settingError 110 = .ok (.ifCond .eq 7, 3) := dk_153 0 7 (dk_at dksX2_settingError_5 3 rfl rfl)
theorem dX2_settingError_113 : decode cX2_settingError 113 = .ok (.iconst 0, 1) := dk_3 (dk_at dksX2_settingError_5 6 rfl rfl)
theorem dX2_settingError_114 : decode cX2_settingError 114 = .ok (.goto 5, 3) := dk_167 0 5 (dk_at dksX2_settingError_5 7 rfl rfl)
theorem dX2_settingError_117 : decode cX2_settingError 117 = .ok (.bipush (-2), 2) := dk_16 254 (dk_at dksX2_settingError_5 10 rfl rfl)
theorem dX2_settingError_119 : decode cX2_settingError 119 = .ok (.ireturn, 1) := dk_172 (dk_at dksX2_settingError_5 12 rfl rfl)
theorem dX2_settingError_120 : decode cX2_settingError 120 = .ok (.iconst (-1), 1) := dk_2 (dk_at dksX2_settingError_5 13 rfl rfl)
theorem dX2_settingError_121 : decode cX2_settingError 121 = .ok (.ireturn, 1) := dk_172 (dk_at dksX2_settingError_5 14 rfl rfl)
abbrev cX2_sing : ByteArray := prog_9_method_38_code
def yX2_sing : MethodName := ⟨RX2, "sing", "(III)I"⟩
def dkwX2_sing_3 : List UInt8 := [42, 182, 0, 138, 42, 182, 0, 141, 172]
abbrev dktX2_sing_3 : List UInt8 := dkwX2_sing_3 ++ []
def dkwX2_sing_2 : List UInt8 := [96, 162, 0, 23, 42, 180, 0, 7, 17, 0, 206, 21, 4, 96, 29, 4, 96, 79, 132, 4, 1, 167, 255, 231]
abbrev dktX2_sing_2 : List UInt8 := dkwX2_sing_2 ++ dktX2_sing_3
def dkwX2_sing_1 : List UInt8 := [163, 0, 10, 29, 184, 0, 71, 154, 0, 6, 16, 254, 172, 42, 182, 0, 128, 27, 54, 4, 21, 4, 27, 28]
abbrev dktX2_sing_1 : List UInt8 := dkwX2_sing_1 ++ dktX2_sing_2
def dkwX2_sing_0 : List UInt8 := [27, 184, 0, 67, 153, 0, 29, 28, 4, 16, 64, 184, 0, 44, 153, 0, 19, 27, 28, 96, 17, 2, 88]
abbrev dktX2_sing_0 : List UInt8 := dkwX2_sing_0 ++ dktX2_sing_1
theorem dksX2_sing_0 : cX2_sing.data.toList.drop 0 = dktX2_sing_0 := by decide +kernel
theorem dksX2_sing_1 : cX2_sing.data.toList.drop 23 = dktX2_sing_1 := dk_seg dksX2_sing_0 23 rfl rfl
theorem dksX2_sing_2 : cX2_sing.data.toList.drop 47 = dktX2_sing_2 := dk_seg dksX2_sing_1 24 rfl rfl
theorem dksX2_sing_3 : cX2_sing.data.toList.drop 71 = dktX2_sing_3 := dk_seg dksX2_sing_2 24 rfl rfl
theorem dX2_sing_0 : decode cX2_sing 0 = .ok (.iload_n 1, 1) := dk_27 (dk_at dksX2_sing_0 0 rfl rfl)
theorem dX2_sing_1 : decode cX2_sing 1 = .ok (.invokestatic 67, 3) := dk_184 0 67 (dk_at dksX2_sing_0 1 rfl rfl)
theorem dX2_sing_4 : decode cX2_sing 4 = .ok (.ifCond .eq 29, 3) := dk_153 0 29 (dk_at dksX2_sing_0 4 rfl rfl)
theorem dX2_sing_7 : decode cX2_sing 7 = .ok (.iload_n 2, 1) := dk_28 (dk_at dksX2_sing_0 7 rfl rfl)
theorem dX2_sing_8 : decode cX2_sing 8 = .ok (.iconst 1, 1) := dk_4 (dk_at dksX2_sing_0 8 rfl rfl)
theorem dX2_sing_9 : decode cX2_sing 9 = .ok (.bipush 64, 2) := dk_16 64 (dk_at dksX2_sing_0 9 rfl rfl)
theorem dX2_sing_11 : decode cX2_sing 11 = .ok (.invokestatic 44, 3) := dk_184 0 44 (dk_at dksX2_sing_0 11 rfl rfl)
theorem dX2_sing_14 : decode cX2_sing 14 = .ok (.ifCond .eq 19, 3) := dk_153 0 19 (dk_at dksX2_sing_0 14 rfl rfl)
theorem dX2_sing_17 : decode cX2_sing 17 = .ok (.iload_n 1, 1) := dk_27 (dk_at dksX2_sing_0 17 rfl rfl)
theorem dX2_sing_18 : decode cX2_sing 18 = .ok (.iload_n 2, 1) := dk_28 (dk_at dksX2_sing_0 18 rfl rfl)
theorem dX2_sing_19 : decode cX2_sing 19 = .ok (.iadd, 1) := dk_96 (dk_at dksX2_sing_0 19 rfl rfl)
theorem dX2_sing_20 : decode cX2_sing 20 = .ok (.sipush 600, 3) := dk_17 2 88 (dk_at dksX2_sing_0 20 rfl rfl)
theorem dX2_sing_23 : decode cX2_sing 23 = .ok (.if_icmp .gt 10, 3) := dk_163 0 10 (dk_at dksX2_sing_1 0 rfl rfl)
theorem dX2_sing_26 : decode cX2_sing 26 = .ok (.iload_n 3, 1) := dk_29 (dk_at dksX2_sing_1 3 rfl rfl)
theorem dX2_sing_27 : decode cX2_sing 27 = .ok (.invokestatic 71, 3) := dk_184 0 71 (dk_at dksX2_sing_1 4 rfl rfl)
theorem dX2_sing_30 : decode cX2_sing 30 = .ok (.ifCond .ne 6, 3) := dk_154 0 6 (dk_at dksX2_sing_1 7 rfl rfl)
theorem dX2_sing_33 : decode cX2_sing 33 = .ok (.bipush (-2), 2) := dk_16 254 (dk_at dksX2_sing_1 10 rfl rfl)
theorem dX2_sing_35 : decode cX2_sing 35 = .ok (.ireturn, 1) := dk_172 (dk_at dksX2_sing_1 12 rfl rfl)
theorem dX2_sing_36 : decode cX2_sing 36 = .ok (.aload_n 0, 1) := dk_42 (dk_at dksX2_sing_1 13 rfl rfl)
theorem dX2_sing_37 : decode cX2_sing 37 = .ok (.invokevirtual 128, 3) := dk_182 0 128 (dk_at dksX2_sing_1 14 rfl rfl)
theorem dX2_sing_40 : decode cX2_sing 40 = .ok (.iload_n 1, 1) := dk_27 (dk_at dksX2_sing_1 17 rfl rfl)
theorem dX2_sing_41 : decode cX2_sing 41 = .ok (.istore 4, 2) := dk_54 4 (dk_at dksX2_sing_1 18 rfl rfl)
theorem dX2_sing_43 : decode cX2_sing 43 = .ok (.iload 4, 2) := dk_21 4 (dk_at dksX2_sing_1 20 rfl rfl)
theorem dX2_sing_45 : decode cX2_sing 45 = .ok (.iload_n 1, 1) := dk_27 (dk_at dksX2_sing_1 22 rfl rfl)
theorem dX2_sing_46 : decode cX2_sing 46 = .ok (.iload_n 2, 1) := dk_28 (dk_at dksX2_sing_1 23 rfl rfl)
theorem dX2_sing_47 : decode cX2_sing 47 = .ok (.iadd, 1) := dk_96 (dk_at dksX2_sing_2 0 rfl rfl)
theorem dX2_sing_48 : decode cX2_sing 48 = .ok (.if_icmp .ge 23, 3) := dk_162 0 23 (dk_at dksX2_sing_2 1 rfl rfl)
theorem dX2_sing_51 : decode cX2_sing 51 = .ok (.aload_n 0, 1) := dk_42 (dk_at dksX2_sing_2 4 rfl rfl)
theorem dX2_sing_52 : decode cX2_sing 52 = .ok (.getfield 7, 3) := dk_180 0 7 (dk_at dksX2_sing_2 5 rfl rfl)
theorem dX2_sing_55 : decode cX2_sing 55 = .ok (.sipush 206, 3) := dk_17 0 206 (dk_at dksX2_sing_2 8 rfl rfl)
theorem dX2_sing_58 : decode cX2_sing 58 = .ok (.iload 4, 2) := dk_21 4 (dk_at dksX2_sing_2 11 rfl rfl)
theorem dX2_sing_60 : decode cX2_sing 60 = .ok (.iadd, 1) := dk_96 (dk_at dksX2_sing_2 13 rfl rfl)
theorem dX2_sing_61 : decode cX2_sing 61 = .ok (.iload_n 3, 1) := dk_29 (dk_at dksX2_sing_2 14 rfl rfl)
theorem dX2_sing_62 : decode cX2_sing 62 = .ok (.iconst 1, 1) := dk_4 (dk_at dksX2_sing_2 15 rfl rfl)
theorem dX2_sing_63 : decode cX2_sing 63 = .ok (.iadd, 1) := dk_96 (dk_at dksX2_sing_2 16 rfl rfl)
theorem dX2_sing_64 : decode cX2_sing 64 = .ok (.iastore, 1) := dk_79 (dk_at dksX2_sing_2 17 rfl rfl)
theorem dX2_sing_65 : decode cX2_sing 65 = .ok (.iinc 4 1, 3) := dk_132 4 1 (dk_at dksX2_sing_2 18 rfl rfl)
theorem dX2_sing_68 : decode cX2_sing 68 = .ok (.goto (-25), 3) := dk_167 255 231 (dk_at dksX2_sing_2 21 rfl rfl)
theorem dX2_sing_71 : decode cX2_sing 71 = .ok (.aload_n 0, 1) := dk_42 (dk_at dksX2_sing_3 0 rfl rfl)
theorem dX2_sing_72 : decode cX2_sing 72 = .ok (.invokevirtual 138, 3) := dk_182 0 138 (dk_at dksX2_sing_3 1 rfl rfl)
theorem dX2_sing_75 : decode cX2_sing 75 = .ok (.aload_n 0, 1) := dk_42 (dk_at dksX2_sing_3 4 rfl rfl)
theorem dX2_sing_76 : decode cX2_sing 76 = .ok (.invokevirtual 141, 3) := dk_182 0 141 (dk_at dksX2_sing_3 5 rfl rfl)
theorem dX2_sing_79 : decode cX2_sing 79 = .ok (.ireturn, 1) := dk_172 (dk_at dksX2_sing_3 8 rfl rfl)
abbrev cX2_isTick : ByteArray := prog_9_method_6_code
def yX2_isTick : MethodName := ⟨RX2, "isTick", "(I)Z"⟩
def dkwX2_isTick_0 : List UInt8 := [26, 3, 17, 2, 87, 184, 0, 44, 172]
abbrev dktX2_isTick_0 : List UInt8 := dkwX2_isTick_0 ++ []
theorem dksX2_isTick_0 : cX2_isTick.data.toList.drop 0 = dktX2_isTick_0 := by decide +kernel
theorem dX2_isTick_0 : decode cX2_isTick 0 = .ok (.iload_n 0, 1) := dk_26 (dk_at dksX2_isTick_0 0 rfl rfl)
theorem dX2_isTick_1 : decode cX2_isTick 1 = .ok (.iconst 0, 1) := dk_3 (dk_at dksX2_isTick_0 1 rfl rfl)
theorem dX2_isTick_2 : decode cX2_isTick 2 = .ok (.sipush 599, 3) := dk_17 2 87 (dk_at dksX2_isTick_0 2 rfl rfl)
theorem dX2_isTick_5 : decode cX2_isTick 5 = .ok (.invokestatic 44, 3) := dk_184 0 44 (dk_at dksX2_isTick_0 5 rfl rfl)
theorem dX2_isTick_8 : decode cX2_isTick 8 = .ok (.ireturn, 1) := dk_172 (dk_at dksX2_isTick_0 8 rfl rfl)
abbrev cX2_judgeSong : ByteArray := prog_9_method_27_code
def yX2_judgeSong : MethodName := ⟨RX2, "judgeSong", "()V"⟩
def dkwX2_judgeSong_0 : List UInt8 := [42, 3, 3, 182, 0, 103, 42, 182, 0, 107, 177]
abbrev dktX2_judgeSong_0 : List UInt8 := dkwX2_judgeSong_0 ++ []
theorem dksX2_judgeSong_0 : cX2_judgeSong.data.toList.drop 0 = dktX2_judgeSong_0 := by decide +kernel
theorem dX2_judgeSong_0 : decode cX2_judgeSong 0 = .ok (.aload_n 0, 1) := dk_42 (dk_at dksX2_judgeSong_0 0 rfl rfl)
theorem dX2_judgeSong_1 : decode cX2_judgeSong 1 = .ok (.iconst 0, 1) := dk_3 (dk_at dksX2_judgeSong_0 1 rfl rfl)
theorem dX2_judgeSong_2 : decode cX2_judgeSong 2 = .ok (.iconst 0, 1) := dk_3 (dk_at dksX2_judgeSong_0 2 rfl rfl)
theorem dX2_judgeSong_3 : decode cX2_judgeSong 3 = .ok (.invokevirtual 103, 3) := dk_182 0 103 (dk_at dksX2_judgeSong_0 3 rfl rfl)
theorem dX2_judgeSong_6 : decode cX2_judgeSong 6 = .ok (.aload_n 0, 1) := dk_42 (dk_at dksX2_judgeSong_0 6 rfl rfl)
theorem dX2_judgeSong_7 : decode cX2_judgeSong 7 = .ok (.invokevirtual 107, 3) := dk_182 0 107 (dk_at dksX2_judgeSong_0 7 rfl rfl)
theorem dX2_judgeSong_10 : decode cX2_judgeSong 10 = .ok (.return_, 1) := dk_177 (dk_at dksX2_judgeSong_0 10 rfl rfl)
abbrev cX2_hear : ByteArray := prog_9_method_18_code
def yX2_hear : MethodName := ⟨RX2, "hear", "(II)V"⟩
def dkwX2_hear_3 : List UInt8 := [167, 255, 188, 177]
abbrev dktX2_hear_3 : List UInt8 := dkwX2_hear_3 ++ []
def dkwX2_hear_2 : List UInt8 := [21, 4, 4, 100, 28, 96, 184, 0, 71, 153, 0, 10, 21, 4, 28, 96, 167, 0, 4, 3, 79, 132, 3, 1]
abbrev dktX2_hear_2 : List UInt8 := dkwX2_hear_2 ++ dktX2_hear_3
def dkwX2_hear_1 : List UInt8 := [17, 0, 206, 29, 96, 27, 100, 46, 167, 0, 4, 3, 54, 4, 42, 180, 0, 23, 29, 21, 4, 158, 0, 22]
abbrev dktX2_hear_1 : List UInt8 := dkwX2_hear_1 ++ dktX2_hear_2
def dkwX2_hear_0 : List UInt8 := [3, 62, 29, 17, 2, 88, 162, 0, 67, 29, 27, 100, 184, 0, 67, 153, 0, 18, 42, 180, 0, 7]
abbrev dktX2_hear_0 : List UInt8 := dkwX2_hear_0 ++ dktX2_hear_1
theorem dksX2_hear_0 : cX2_hear.data.toList.drop 0 = dktX2_hear_0 := by decide +kernel
theorem dksX2_hear_1 : cX2_hear.data.toList.drop 22 = dktX2_hear_1 := dk_seg dksX2_hear_0 22 rfl rfl
theorem dksX2_hear_2 : cX2_hear.data.toList.drop 46 = dktX2_hear_2 := dk_seg dksX2_hear_1 24 rfl rfl
theorem dksX2_hear_3 : cX2_hear.data.toList.drop 70 = dktX2_hear_3 := dk_seg dksX2_hear_2 24 rfl rfl
theorem dX2_hear_0 : decode cX2_hear 0 = .ok (.iconst 0, 1) := dk_3 (dk_at dksX2_hear_0 0 rfl rfl)
theorem dX2_hear_1 : decode cX2_hear 1 = .ok (.istore_n 3, 1) := dk_62 (dk_at dksX2_hear_0 1 rfl rfl)
theorem dX2_hear_2 : decode cX2_hear 2 = .ok (.iload_n 3, 1) := dk_29 (dk_at dksX2_hear_0 2 rfl rfl)
theorem dX2_hear_3 : decode cX2_hear 3 = .ok (.sipush 600, 3) := dk_17 2 88 (dk_at dksX2_hear_0 3 rfl rfl)
theorem dX2_hear_6 : decode cX2_hear 6 = .ok (.if_icmp .ge 67, 3) := dk_162 0 67 (dk_at dksX2_hear_0 6 rfl rfl)
theorem dX2_hear_9 : decode cX2_hear 9 = .ok (.iload_n 3, 1) := dk_29 (dk_at dksX2_hear_0 9 rfl rfl)
theorem dX2_hear_10 : decode cX2_hear 10 = .ok (.iload_n 1, 1) := dk_27 (dk_at dksX2_hear_0 10 rfl rfl)
theorem dX2_hear_11 : decode cX2_hear 11 = .ok (.isub, 1) := dk_100 (dk_at dksX2_hear_0 11 rfl rfl)
theorem dX2_hear_12 : decode cX2_hear 12 = .ok (.invokestatic 67, 3) := dk_184 0 67 (dk_at dksX2_hear_0 12 rfl rfl)
theorem dX2_hear_15 : decode cX2_hear 15 = .ok (.ifCond .eq 18, 3) := dk_153 0 18 (dk_at dksX2_hear_0 15 rfl rfl)
theorem dX2_hear_18 : decode cX2_hear 18 = .ok (.aload_n 0, 1) := dk_42 (dk_at dksX2_hear_0 18 rfl rfl)
theorem dX2_hear_19 : decode cX2_hear 19 = .ok (.getfield 7, 3) := dk_180 0 7 (dk_at dksX2_hear_0 19 rfl rfl)
theorem dX2_hear_22 : decode cX2_hear 22 = .ok (.sipush 206, 3) := dk_17 0 206 (dk_at dksX2_hear_1 0 rfl rfl)
theorem dX2_hear_25 : decode cX2_hear 25 = .ok (.iload_n 3, 1) := dk_29 (dk_at dksX2_hear_1 3 rfl rfl)
theorem dX2_hear_26 : decode cX2_hear 26 = .ok (.iadd, 1) := dk_96 (dk_at dksX2_hear_1 4 rfl rfl)
theorem dX2_hear_27 : decode cX2_hear 27 = .ok (.iload_n 1, 1) := dk_27 (dk_at dksX2_hear_1 5 rfl rfl)
theorem dX2_hear_28 : decode cX2_hear 28 = .ok (.isub, 1) := dk_100 (dk_at dksX2_hear_1 6 rfl rfl)
theorem dX2_hear_29 : decode cX2_hear 29 = .ok (.iaload, 1) := dk_46 (dk_at dksX2_hear_1 7 rfl rfl)
theorem dX2_hear_30 : decode cX2_hear 30 = .ok (.goto 4, 3) := dk_167 0 4 (dk_at dksX2_hear_1 8 rfl rfl)
theorem dX2_hear_33 : decode cX2_hear 33 = .ok (.iconst 0, 1) := dk_3 (dk_at dksX2_hear_1 11 rfl rfl)
theorem dX2_hear_34 : decode cX2_hear 34 = .ok (.istore 4, 2) := dk_54 4 (dk_at dksX2_hear_1 12 rfl rfl)
theorem dX2_hear_36 : decode cX2_hear 36 = .ok (.aload_n 0, 1) := dk_42 (dk_at dksX2_hear_1 14 rfl rfl)
theorem dX2_hear_37 : decode cX2_hear 37 = .ok (.getfield 23, 3) := dk_180 0 23 (dk_at dksX2_hear_1 15 rfl rfl)
theorem dX2_hear_40 : decode cX2_hear 40 = .ok (.iload_n 3, 1) := dk_29 (dk_at dksX2_hear_1 18 rfl rfl)
theorem dX2_hear_41 : decode cX2_hear 41 = .ok (.iload 4, 2) := dk_21 4 (dk_at dksX2_hear_1 19 rfl rfl)
theorem dX2_hear_43 : decode cX2_hear 43 = .ok (.ifCond .le 22, 3) := dk_158 0 22 (dk_at dksX2_hear_1 21 rfl rfl)
theorem dX2_hear_46 : decode cX2_hear 46 = .ok (.iload 4, 2) := dk_21 4 (dk_at dksX2_hear_2 0 rfl rfl)
theorem dX2_hear_48 : decode cX2_hear 48 = .ok (.iconst 1, 1) := dk_4 (dk_at dksX2_hear_2 2 rfl rfl)
theorem dX2_hear_49 : decode cX2_hear 49 = .ok (.isub, 1) := dk_100 (dk_at dksX2_hear_2 3 rfl rfl)
theorem dX2_hear_50 : decode cX2_hear 50 = .ok (.iload_n 2, 1) := dk_28 (dk_at dksX2_hear_2 4 rfl rfl)
theorem dX2_hear_51 : decode cX2_hear 51 = .ok (.iadd, 1) := dk_96 (dk_at dksX2_hear_2 5 rfl rfl)
theorem dX2_hear_52 : decode cX2_hear 52 = .ok (.invokestatic 71, 3) := dk_184 0 71 (dk_at dksX2_hear_2 6 rfl rfl)
theorem dX2_hear_55 : decode cX2_hear 55 = .ok (.ifCond .eq 10, 3) := dk_153 0 10 (dk_at dksX2_hear_2 9 rfl rfl)
theorem dX2_hear_58 : decode cX2_hear 58 = .ok (.iload 4, 2) := dk_21 4 (dk_at dksX2_hear_2 12 rfl rfl)
theorem dX2_hear_60 : decode cX2_hear 60 = .ok (.iload_n 2, 1) := dk_28 (dk_at dksX2_hear_2 14 rfl rfl)
theorem dX2_hear_61 : decode cX2_hear 61 = .ok (.iadd, 1) := dk_96 (dk_at dksX2_hear_2 15 rfl rfl)
theorem dX2_hear_62 : decode cX2_hear 62 = .ok (.goto 4, 3) := dk_167 0 4 (dk_at dksX2_hear_2 16 rfl rfl)
theorem dX2_hear_65 : decode cX2_hear 65 = .ok (.iconst 0, 1) := dk_3 (dk_at dksX2_hear_2 19 rfl rfl)
theorem dX2_hear_66 : decode cX2_hear 66 = .ok (.iastore, 1) := dk_79 (dk_at dksX2_hear_2 20 rfl rfl)
theorem dX2_hear_67 : decode cX2_hear 67 = .ok (.iinc 3 1, 3) := dk_132 3 1 (dk_at dksX2_hear_2 21 rfl rfl)
theorem dX2_hear_70 : decode cX2_hear 70 = .ok (.goto (-68), 3) := dk_167 255 188 (dk_at dksX2_hear_3 0 rfl rfl)
theorem dX2_hear_73 : decode cX2_hear 73 = .ok (.return_, 1) := dk_177 (dk_at dksX2_hear_3 3 rfl rfl)
abbrev cX2_judge : ByteArray := prog_9_method_26_code
def yX2_judge : MethodName := ⟨RX2, "judge", "()V"⟩
def dkwX2_judge_6 : List UInt8 := [28, 42, 28, 182, 0, 100, 79, 132, 2, 1, 167, 255, 107, 177]
abbrev dktX2_judge_6 : List UInt8 := dkwX2_judge_6 ++ []
def dkwX2_judge_5 : List UInt8 := [16, 10, 79, 42, 180, 0, 32, 28, 46, 154, 0, 9, 27, 4, 96, 167, 0, 4, 3, 60, 42, 180, 0, 38]
abbrev dktX2_judge_5 : List UInt8 := dkwX2_judge_5 ++ dktX2_judge_6
def dkwX2_judge_4 : List UInt8 := [160, 0, 7, 3, 167, 0, 4, 27, 60, 42, 180, 0, 35, 28, 27, 16, 10, 162, 0, 7, 27, 167, 0, 5]
abbrev dktX2_judge_4 : List UInt8 := dkwX2_judge_4 ++ dktX2_judge_5
def dkwX2_judge_3 : List UInt8 := [42, 28, 182, 0, 94, 79, 42, 180, 0, 32, 28, 42, 28, 182, 0, 97, 79, 42, 28, 7, 182, 0, 56, 4]
abbrev dktX2_judge_3 : List UInt8 := dkwX2_judge_3 ++ dktX2_judge_4
def dkwX2_judge_2 : List UInt8 := [182, 0, 86, 153, 0, 7, 4, 167, 0, 4, 3, 96, 79, 132, 3, 1, 167, 255, 221, 42, 180, 0, 29, 28]
abbrev dktX2_judge_2 : List UInt8 := dkwX2_judge_2 ++ dktX2_judge_3
def dkwX2_judge_1 : List UInt8 := [182, 0, 56, 62, 29, 42, 28, 182, 0, 60, 162, 0, 32, 42, 180, 0, 26, 28, 92, 46, 42, 28, 29]
abbrev dktX2_judge_1 : List UInt8 := dkwX2_judge_1 ++ dktX2_judge_2
def dkwX2_judge_0 : List UInt8 := [3, 60, 3, 61, 28, 42, 180, 0, 7, 8, 46, 162, 0, 145, 42, 180, 0, 26, 28, 3, 79, 42, 28, 3]
abbrev dktX2_judge_0 : List UInt8 := dkwX2_judge_0 ++ dktX2_judge_1
theorem dksX2_judge_0 : cX2_judge.data.toList.drop 0 = dktX2_judge_0 := by decide +kernel
theorem dksX2_judge_1 : cX2_judge.data.toList.drop 24 = dktX2_judge_1 := dk_seg dksX2_judge_0 24 rfl rfl
theorem dksX2_judge_2 : cX2_judge.data.toList.drop 47 = dktX2_judge_2 := dk_seg dksX2_judge_1 23 rfl rfl
theorem dksX2_judge_3 : cX2_judge.data.toList.drop 71 = dktX2_judge_3 := dk_seg dksX2_judge_2 24 rfl rfl
theorem dksX2_judge_4 : cX2_judge.data.toList.drop 95 = dktX2_judge_4 := dk_seg dksX2_judge_3 24 rfl rfl
theorem dksX2_judge_5 : cX2_judge.data.toList.drop 119 = dktX2_judge_5 := dk_seg dksX2_judge_4 24 rfl rfl
theorem dksX2_judge_6 : cX2_judge.data.toList.drop 143 = dktX2_judge_6 := dk_seg dksX2_judge_5 24 rfl rfl
theorem dX2_judge_0 : decode cX2_judge 0 = .ok (.iconst 0, 1) := dk_3 (dk_at dksX2_judge_0 0 rfl rfl)
theorem dX2_judge_1 : decode cX2_judge 1 = .ok (.istore_n 1, 1) := dk_60 (dk_at dksX2_judge_0 1 rfl rfl)
theorem dX2_judge_2 : decode cX2_judge 2 = .ok (.iconst 0, 1) := dk_3 (dk_at dksX2_judge_0 2 rfl rfl)
theorem dX2_judge_3 : decode cX2_judge 3 = .ok (.istore_n 2, 1) := dk_61 (dk_at dksX2_judge_0 3 rfl rfl)
theorem dX2_judge_4 : decode cX2_judge 4 = .ok (.iload_n 2, 1) := dk_28 (dk_at dksX2_judge_0 4 rfl rfl)
theorem dX2_judge_5 : decode cX2_judge 5 = .ok (.aload_n 0, 1) := dk_42 (dk_at dksX2_judge_0 5 rfl rfl)
theorem dX2_judge_6 : decode cX2_judge 6 = .ok (.getfield 7, 3) := dk_180 0 7 (dk_at dksX2_judge_0 6 rfl rfl)
theorem dX2_judge_9 : decode cX2_judge 9 = .ok (.iconst 5, 1) := dk_8 (dk_at dksX2_judge_0 9 rfl rfl)
theorem dX2_judge_10 : decode cX2_judge 10 = .ok (.iaload, 1) := dk_46 (dk_at dksX2_judge_0 10 rfl rfl)
theorem dX2_judge_11 : decode cX2_judge 11 = .ok (.if_icmp .ge 145, 3) := dk_162 0 145 (dk_at dksX2_judge_0 11 rfl rfl)
theorem dX2_judge_14 : decode cX2_judge 14 = .ok (.aload_n 0, 1) := dk_42 (dk_at dksX2_judge_0 14 rfl rfl)
theorem dX2_judge_15 : decode cX2_judge 15 = .ok (.getfield 26, 3) := dk_180 0 26 (dk_at dksX2_judge_0 15 rfl rfl)
theorem dX2_judge_18 : decode cX2_judge 18 = .ok (.iload_n 2, 1) := dk_28 (dk_at dksX2_judge_0 18 rfl rfl)
theorem dX2_judge_19 : decode cX2_judge 19 = .ok (.iconst 0, 1) := dk_3 (dk_at dksX2_judge_0 19 rfl rfl)
theorem dX2_judge_20 : decode cX2_judge 20 = .ok (.iastore, 1) := dk_79 (dk_at dksX2_judge_0 20 rfl rfl)
theorem dX2_judge_21 : decode cX2_judge 21 = .ok (.aload_n 0, 1) := dk_42 (dk_at dksX2_judge_0 21 rfl rfl)
theorem dX2_judge_22 : decode cX2_judge 22 = .ok (.iload_n 2, 1) := dk_28 (dk_at dksX2_judge_0 22 rfl rfl)
theorem dX2_judge_23 : decode cX2_judge 23 = .ok (.iconst 0, 1) := dk_3 (dk_at dksX2_judge_0 23 rfl rfl)
theorem dX2_judge_24 : decode cX2_judge 24 = .ok (.invokevirtual 56, 3) := dk_182 0 56 (dk_at dksX2_judge_1 0 rfl rfl)
theorem dX2_judge_27 : decode cX2_judge 27 = .ok (.istore_n 3, 1) := dk_62 (dk_at dksX2_judge_1 3 rfl rfl)
theorem dX2_judge_28 : decode cX2_judge 28 = .ok (.iload_n 3, 1) := dk_29 (dk_at dksX2_judge_1 4 rfl rfl)
theorem dX2_judge_29 : decode cX2_judge 29 = .ok (.aload_n 0, 1) := dk_42 (dk_at dksX2_judge_1 5 rfl rfl)
theorem dX2_judge_30 : decode cX2_judge 30 = .ok (.iload_n 2, 1) := dk_28 (dk_at dksX2_judge_1 6 rfl rfl)
theorem dX2_judge_31 : decode cX2_judge 31 = .ok (.invokevirtual 60, 3) := dk_182 0 60 (dk_at dksX2_judge_1 7 rfl rfl)
theorem dX2_judge_34 : decode cX2_judge 34 = .ok (.if_icmp .ge 32, 3) := dk_162 0 32 (dk_at dksX2_judge_1 10 rfl rfl)
theorem dX2_judge_37 : decode cX2_judge 37 = .ok (.aload_n 0, 1) := dk_42 (dk_at dksX2_judge_1 13 rfl rfl)
theorem dX2_judge_38 : decode cX2_judge 38 = .ok (.getfield 26, 3) := dk_180 0 26 (dk_at dksX2_judge_1 14 rfl rfl)
theorem dX2_judge_41 : decode cX2_judge 41 = .ok (.iload_n 2, 1) := dk_28 (dk_at dksX2_judge_1 17 rfl rfl)
theorem dX2_judge_42 : decode cX2_judge 42 = .ok (.dup2, 1) := dk_92 (dk_at dksX2_judge_1 18 rfl rfl)
theorem dX2_judge_43 : decode cX2_judge 43 = .ok (.iaload, 1) := dk_46 (dk_at dksX2_judge_1 19 rfl rfl)
theorem dX2_judge_44 : decode cX2_judge 44 = .ok (.aload_n 0, 1) := dk_42 (dk_at dksX2_judge_1 20 rfl rfl)
theorem dX2_judge_45 : decode cX2_judge 45 = .ok (.iload_n 2, 1) := dk_28 (dk_at dksX2_judge_1 21 rfl rfl)
theorem dX2_judge_46 : decode cX2_judge 46 = .ok (.iload_n 3, 1) := dk_29 (dk_at dksX2_judge_1 22 rfl rfl)
theorem dX2_judge_47 : decode cX2_judge 47 = .ok (.invokevirtual 86, 3) := dk_182 0 86 (dk_at dksX2_judge_2 0 rfl rfl)
theorem dX2_judge_50 : decode cX2_judge 50 = .ok (.ifCond .eq 7, 3) := dk_153 0 7 (dk_at dksX2_judge_2 3 rfl rfl)
theorem dX2_judge_53 : decode cX2_judge 53 = .ok (.iconst 1, 1) := dk_4 (dk_at dksX2_judge_2 6 rfl rfl)
theorem dX2_judge_54 : decode cX2_judge 54 = .ok (.goto 4, 3) := dk_167 0 4 (dk_at dksX2_judge_2 7 rfl rfl)
theorem dX2_judge_57 : decode cX2_judge 57 = .ok (.iconst 0, 1) := dk_3 (dk_at dksX2_judge_2 10 rfl rfl)
theorem dX2_judge_58 : decode cX2_judge 58 = .ok (.iadd, 1) := dk_96 (dk_at dksX2_judge_2 11 rfl rfl)
theorem dX2_judge_59 : decode cX2_judge 59 = .ok (.iastore, 1) := dk_79 (dk_at dksX2_judge_2 12 rfl rfl)
theorem dX2_judge_60 : decode cX2_judge 60 = .ok (.iinc 3 1, 3) := dk_132 3 1 (dk_at dksX2_judge_2 13 rfl rfl)
theorem dX2_judge_63 : decode cX2_judge 63 = .ok (.goto (-35), 3) := dk_167 255 221 (dk_at dksX2_judge_2 16 rfl rfl)
theorem dX2_judge_66 : decode cX2_judge 66 = .ok (.aload_n 0, 1) := dk_42 (dk_at dksX2_judge_2 19 rfl rfl)
theorem dX2_judge_67 : decode cX2_judge 67 = .ok (.getfield 29, 3) := dk_180 0 29 (dk_at dksX2_judge_2 20 rfl rfl)
theorem dX2_judge_70 : decode cX2_judge 70 = .ok (.iload_n 2, 1) := dk_28 (dk_at dksX2_judge_2 23 rfl rfl)
theorem dX2_judge_71 : decode cX2_judge 71 = .ok (.aload_n 0, 1) := dk_42 (dk_at dksX2_judge_3 0 rfl rfl)
theorem dX2_judge_72 : decode cX2_judge 72 = .ok (.iload_n 2, 1) := dk_28 (dk_at dksX2_judge_3 1 rfl rfl)
theorem dX2_judge_73 : decode cX2_judge 73 = .ok (.invokevirtual 94, 3) := dk_182 0 94 (dk_at dksX2_judge_3 2 rfl rfl)
theorem dX2_judge_76 : decode cX2_judge 76 = .ok (.iastore, 1) := dk_79 (dk_at dksX2_judge_3 5 rfl rfl)
theorem dX2_judge_77 : decode cX2_judge 77 = .ok (.aload_n 0, 1) := dk_42 (dk_at dksX2_judge_3 6 rfl rfl)
theorem dX2_judge_78 : decode cX2_judge 78 = .ok (.getfield 32, 3) := dk_180 0 32 (dk_at dksX2_judge_3 7 rfl rfl)
theorem dX2_judge_81 : decode cX2_judge 81 = .ok (.iload_n 2, 1) := dk_28 (dk_at dksX2_judge_3 10 rfl rfl)
theorem dX2_judge_82 : decode cX2_judge 82 = .ok (.aload_n 0, 1) := dk_42 (dk_at dksX2_judge_3 11 rfl rfl)
theorem dX2_judge_83 : decode cX2_judge 83 = .ok (.iload_n 2, 1) := dk_28 (dk_at dksX2_judge_3 12 rfl rfl)
theorem dX2_judge_84 : decode cX2_judge 84 = .ok (.invokevirtual 97, 3) := dk_182 0 97 (dk_at dksX2_judge_3 13 rfl rfl)
theorem dX2_judge_87 : decode cX2_judge 87 = .ok (.iastore, 1) := dk_79 (dk_at dksX2_judge_3 16 rfl rfl)
theorem dX2_judge_88 : decode cX2_judge 88 = .ok (.aload_n 0, 1) := dk_42 (dk_at dksX2_judge_3 17 rfl rfl)
theorem dX2_judge_89 : decode cX2_judge 89 = .ok (.iload_n 2, 1) := dk_28 (dk_at dksX2_judge_3 18 rfl rfl)
theorem dX2_judge_90 : decode cX2_judge 90 = .ok (.iconst 4, 1) := dk_7 (dk_at dksX2_judge_3 19 rfl rfl)
theorem dX2_judge_91 : decode cX2_judge 91 = .ok (.invokevirtual 56, 3) := dk_182 0 56 (dk_at dksX2_judge_3 20 rfl rfl)
theorem dX2_judge_94 : decode cX2_judge 94 = .ok (.iconst 1, 1) := dk_4 (dk_at dksX2_judge_3 23 rfl rfl)
theorem dX2_judge_95 : decode cX2_judge 95 = .ok (.if_icmp .ne 7, 3) := dk_160 0 7 (dk_at dksX2_judge_4 0 rfl rfl)
theorem dX2_judge_98 : decode cX2_judge 98 = .ok (.iconst 0, 1) := dk_3 (dk_at dksX2_judge_4 3 rfl rfl)
theorem dX2_judge_99 : decode cX2_judge 99 = .ok (.goto 4, 3) := dk_167 0 4 (dk_at dksX2_judge_4 4 rfl rfl)
theorem dX2_judge_102 : decode cX2_judge 102 = .ok (.iload_n 1, 1) := dk_27 (dk_at dksX2_judge_4 7 rfl rfl)
theorem dX2_judge_103 : decode cX2_judge 103 = .ok (.istore_n 1, 1) := dk_60 (dk_at dksX2_judge_4 8 rfl rfl)
theorem dX2_judge_104 : decode cX2_judge 104 = .ok (.aload_n 0, 1) := dk_42 (dk_at dksX2_judge_4 9 rfl rfl)
theorem dX2_judge_105 : decode cX2_judge 105 = .ok (.getfield 35, 3) := dk_180 0 35 (dk_at dksX2_judge_4 10 rfl rfl)
theorem dX2_judge_108 : decode cX2_judge 108 = .ok (.iload_n 2, 1) := dk_28 (dk_at dksX2_judge_4 13 rfl rfl)
theorem dX2_judge_109 : decode cX2_judge 109 = .ok (.iload_n 1, 1) := dk_27 (dk_at dksX2_judge_4 14 rfl rfl)
theorem dX2_judge_110 : decode cX2_judge 110 = .ok (.bipush 10, 2) := dk_16 10 (dk_at dksX2_judge_4 15 rfl rfl)
theorem dX2_judge_112 : decode cX2_judge 112 = .ok (.if_icmp .ge 7, 3) := dk_162 0 7 (dk_at dksX2_judge_4 17 rfl rfl)
theorem dX2_judge_115 : decode cX2_judge 115 = .ok (.iload_n 1, 1) := dk_27 (dk_at dksX2_judge_4 20 rfl rfl)
theorem dX2_judge_116 : decode cX2_judge 116 = .ok (.goto 5, 3) := dk_167 0 5 (dk_at dksX2_judge_4 21 rfl rfl)
theorem dX2_judge_119 : decode cX2_judge 119 = .ok (.bipush 10, 2) := dk_16 10 (dk_at dksX2_judge_5 0 rfl rfl)
theorem dX2_judge_121 : decode cX2_judge 121 = .ok (.iastore, 1) := dk_79 (dk_at dksX2_judge_5 2 rfl rfl)
theorem dX2_judge_122 : decode cX2_judge 122 = .ok (.aload_n 0, 1) := dk_42 (dk_at dksX2_judge_5 3 rfl rfl)
theorem dX2_judge_123 : decode cX2_judge 123 = .ok (.getfield 32, 3) := dk_180 0 32 (dk_at dksX2_judge_5 4 rfl rfl)
theorem dX2_judge_126 : decode cX2_judge 126 = .ok (.iload_n 2, 1) := dk_28 (dk_at dksX2_judge_5 7 rfl rfl)
theorem dX2_judge_127 : decode cX2_judge 127 = .ok (.iaload, 1) := dk_46 (dk_at dksX2_judge_5 8 rfl rfl)
theorem dX2_judge_128 : decode cX2_judge 128 = .ok (.ifCond .ne 9, 3) := dk_154 0 9 (dk_at dksX2_judge_5 9 rfl rfl)
theorem dX2_judge_131 : decode cX2_judge 131 = .ok (.iload_n 1, 1) := dk_27 (dk_at dksX2_judge_5 12 rfl rfl)
theorem dX2_judge_132 : decode cX2_judge 132 = .ok (.iconst 1, 1) := dk_4 (dk_at dksX2_judge_5 13 rfl rfl)
theorem dX2_judge_133 : decode cX2_judge 133 = .ok (.iadd, 1) := dk_96 (dk_at dksX2_judge_5 14 rfl rfl)
theorem dX2_judge_134 : decode cX2_judge 134 = .ok (.goto 4, 3) := dk_167 0 4 (dk_at dksX2_judge_5 15 rfl rfl)
theorem dX2_judge_137 : decode cX2_judge 137 = .ok (.iconst 0, 1) := dk_3 (dk_at dksX2_judge_5 18 rfl rfl)
theorem dX2_judge_138 : decode cX2_judge 138 = .ok (.istore_n 1, 1) := dk_60 (dk_at dksX2_judge_5 19 rfl rfl)
theorem dX2_judge_139 : decode cX2_judge 139 = .ok (.aload_n 0, 1) := dk_42 (dk_at dksX2_judge_5 20 rfl rfl)
theorem dX2_judge_140 : decode cX2_judge 140 = .ok (.getfield 38, 3) := dk_180 0 38 (dk_at dksX2_judge_5 21 rfl rfl)
theorem dX2_judge_143 : decode cX2_judge 143 = .ok (.iload_n 2, 1) := dk_28 (dk_at dksX2_judge_6 0 rfl rfl)
theorem dX2_judge_144 : decode cX2_judge 144 = .ok (.aload_n 0, 1) := dk_42 (dk_at dksX2_judge_6 1 rfl rfl)
theorem dX2_judge_145 : decode cX2_judge 145 = .ok (.iload_n 2, 1) := dk_28 (dk_at dksX2_judge_6 2 rfl rfl)
theorem dX2_judge_146 : decode cX2_judge 146 = .ok (.invokevirtual 100, 3) := dk_182 0 100 (dk_at dksX2_judge_6 3 rfl rfl)
theorem dX2_judge_149 : decode cX2_judge 149 = .ok (.iastore, 1) := dk_79 (dk_at dksX2_judge_6 6 rfl rfl)
theorem dX2_judge_150 : decode cX2_judge 150 = .ok (.iinc 2 1, 3) := dk_132 2 1 (dk_at dksX2_judge_6 7 rfl rfl)
theorem dX2_judge_153 : decode cX2_judge 153 = .ok (.goto (-149), 3) := dk_167 255 107 (dk_at dksX2_judge_6 10 rfl rfl)
theorem dX2_judge_156 : decode cX2_judge 156 = .ok (.return_, 1) := dk_177 (dk_at dksX2_judge_6 13 rfl rfl)
abbrev cX2_matches : ByteArray := prog_9_method_20_code
def yX2_matches : MethodName := ⟨RX2, "matches", "(II)Z"⟩
def dkwX2_matches_3 : List UInt8 := [180, 0, 7, 4, 46, 163, 0, 7, 4, 167, 0, 4, 3, 172]
abbrev dktX2_matches_3 : List UInt8 := dkwX2_matches_3 ++ []
def dkwX2_matches_2 : List UInt8 := [16, 12, 112, 62, 16, 12, 29, 100, 29, 162, 0, 10, 16, 12, 29, 100, 167, 0, 4, 29, 62, 29, 42]
abbrev dktX2_matches_2 : List UInt8 := dkwX2_matches_2 ++ dktX2_matches_3
def dkwX2_matches_1 : List UInt8 := [3, 182, 0, 56, 100, 182, 0, 74, 100, 184, 0, 77, 62, 42, 180, 0, 7, 6, 46, 4, 160, 0, 25, 29]
abbrev dktX2_matches_1 : List UInt8 := dkwX2_matches_1 ++ dktX2_matches_2
def dkwX2_matches_0 : List UInt8 := [42, 180, 0, 23, 28, 46, 154, 0, 5, 3, 172, 42, 180, 0, 23, 28, 46, 4, 100, 42, 27, 28, 42, 27]
abbrev dktX2_matches_0 : List UInt8 := dkwX2_matches_0 ++ dktX2_matches_1
theorem dksX2_matches_0 : cX2_matches.data.toList.drop 0 = dktX2_matches_0 := by decide +kernel
theorem dksX2_matches_1 : cX2_matches.data.toList.drop 24 = dktX2_matches_1 := dk_seg dksX2_matches_0 24 rfl rfl
theorem dksX2_matches_2 : cX2_matches.data.toList.drop 48 = dktX2_matches_2 := dk_seg dksX2_matches_1 24 rfl rfl
theorem dksX2_matches_3 : cX2_matches.data.toList.drop 71 = dktX2_matches_3 := dk_seg dksX2_matches_2 23 rfl rfl
theorem dX2_matches_0 : decode cX2_matches 0 = .ok (.aload_n 0, 1) := dk_42 (dk_at dksX2_matches_0 0 rfl rfl)
theorem dX2_matches_1 : decode cX2_matches 1 = .ok (.getfield 23, 3) := dk_180 0 23 (dk_at dksX2_matches_0 1 rfl rfl)
theorem dX2_matches_4 : decode cX2_matches 4 = .ok (.iload_n 2, 1) := dk_28 (dk_at dksX2_matches_0 4 rfl rfl)
theorem dX2_matches_5 : decode cX2_matches 5 = .ok (.iaload, 1) := dk_46 (dk_at dksX2_matches_0 5 rfl rfl)
theorem dX2_matches_6 : decode cX2_matches 6 = .ok (.ifCond .ne 5, 3) := dk_154 0 5 (dk_at dksX2_matches_0 6 rfl rfl)
theorem dX2_matches_9 : decode cX2_matches 9 = .ok (.iconst 0, 1) := dk_3 (dk_at dksX2_matches_0 9 rfl rfl)
theorem dX2_matches_10 : decode cX2_matches 10 = .ok (.ireturn, 1) := dk_172 (dk_at dksX2_matches_0 10 rfl rfl)
theorem dX2_matches_11 : decode cX2_matches 11 = .ok (.aload_n 0, 1) := dk_42 (dk_at dksX2_matches_0 11 rfl rfl)
theorem dX2_matches_12 : decode cX2_matches 12 = .ok (.getfield 23, 3) := dk_180 0 23 (dk_at dksX2_matches_0 12 rfl rfl)
theorem dX2_matches_15 : decode cX2_matches 15 = .ok (.iload_n 2, 1) := dk_28 (dk_at dksX2_matches_0 15 rfl rfl)
theorem dX2_matches_16 : decode cX2_matches 16 = .ok (.iaload, 1) := dk_46 (dk_at dksX2_matches_0 16 rfl rfl)
theorem dX2_matches_17 : decode cX2_matches 17 = .ok (.iconst 1, 1) := dk_4 (dk_at dksX2_matches_0 17 rfl rfl)
theorem dX2_matches_18 : decode cX2_matches 18 = .ok (.isub, 1) := dk_100 (dk_at dksX2_matches_0 18 rfl rfl)
theorem dX2_matches_19 : decode cX2_matches 19 = .ok (.aload_n 0, 1) := dk_42 (dk_at dksX2_matches_0 19 rfl rfl)
theorem dX2_matches_20 : decode cX2_matches 20 = .ok (.iload_n 1, 1) := dk_27 (dk_at dksX2_matches_0 20 rfl rfl)
theorem dX2_matches_21 : decode cX2_matches 21 = .ok (.iload_n 2, 1) := dk_28 (dk_at dksX2_matches_0 21 rfl rfl)
theorem dX2_matches_22 : decode cX2_matches 22 = .ok (.aload_n 0, 1) := dk_42 (dk_at dksX2_matches_0 22 rfl rfl)
theorem dX2_matches_23 : decode cX2_matches 23 = .ok (.iload_n 1, 1) := dk_27 (dk_at dksX2_matches_0 23 rfl rfl)
theorem dX2_matches_24 : decode cX2_matches 24 = .ok (.iconst 0, 1) := dk_3 (dk_at dksX2_matches_1 0 rfl rfl)
theorem dX2_matches_25 : decode cX2_matches 25 = .ok (.invokevirtual 56, 3) := dk_182 0 56 (dk_at dksX2_matches_1 1 rfl rfl)
theorem dX2_matches_28 : decode cX2_matches 28 = .ok (.isub, 1) := dk_100 (dk_at dksX2_matches_1 4 rfl rfl)
theorem dX2_matches_29 : decode cX2_matches 29 = .ok (.invokevirtual 74, 3) := dk_182 0 74 (dk_at dksX2_matches_1 5 rfl rfl)
theorem dX2_matches_32 : decode cX2_matches 32 = .ok (.isub, 1) := dk_100 (dk_at dksX2_matches_1 8 rfl rfl)
theorem dX2_matches_33 : decode cX2_matches 33 = .ok (.invokestatic 77, 3) := dk_184 0 77 (dk_at dksX2_matches_1 9 rfl rfl)
theorem dX2_matches_36 : decode cX2_matches 36 = .ok (.istore_n 3, 1) := dk_62 (dk_at dksX2_matches_1 12 rfl rfl)
theorem dX2_matches_37 : decode cX2_matches 37 = .ok (.aload_n 0, 1) := dk_42 (dk_at dksX2_matches_1 13 rfl rfl)
theorem dX2_matches_38 : decode cX2_matches 38 = .ok (.getfield 7, 3) := dk_180 0 7 (dk_at dksX2_matches_1 14 rfl rfl)
theorem dX2_matches_41 : decode cX2_matches 41 = .ok (.iconst 3, 1) := dk_6 (dk_at dksX2_matches_1 17 rfl rfl)
theorem dX2_matches_42 : decode cX2_matches 42 = .ok (.iaload, 1) := dk_46 (dk_at dksX2_matches_1 18 rfl rfl)
theorem dX2_matches_43 : decode cX2_matches 43 = .ok (.iconst 1, 1) := dk_4 (dk_at dksX2_matches_1 19 rfl rfl)
theorem dX2_matches_44 : decode cX2_matches 44 = .ok (.if_icmp .ne 25, 3) := dk_160 0 25 (dk_at dksX2_matches_1 20 rfl rfl)
theorem dX2_matches_47 : decode cX2_matches 47 = .ok (.iload_n 3, 1) := dk_29 (dk_at dksX2_matches_1 23 rfl rfl)
theorem dX2_matches_48 : decode cX2_matches 48 = .ok (.bipush 12, 2) := dk_16 12 (dk_at dksX2_matches_2 0 rfl rfl)
theorem dX2_matches_50 : decode cX2_matches 50 = .ok (.irem, 1) := dk_112 (dk_at dksX2_matches_2 2 rfl rfl)
theorem dX2_matches_51 : decode cX2_matches 51 = .ok (.istore_n 3, 1) := dk_62 (dk_at dksX2_matches_2 3 rfl rfl)
theorem dX2_matches_52 : decode cX2_matches 52 = .ok (.bipush 12, 2) := dk_16 12 (dk_at dksX2_matches_2 4 rfl rfl)
theorem dX2_matches_54 : decode cX2_matches 54 = .ok (.iload_n 3, 1) := dk_29 (dk_at dksX2_matches_2 6 rfl rfl)
theorem dX2_matches_55 : decode cX2_matches 55 = .ok (.isub, 1) := dk_100 (dk_at dksX2_matches_2 7 rfl rfl)
theorem dX2_matches_56 : decode cX2_matches 56 = .ok (.iload_n 3, 1) := dk_29 (dk_at dksX2_matches_2 8 rfl rfl)
theorem dX2_matches_57 : decode cX2_matches 57 = .ok (.if_icmp .ge 10, 3) := dk_162 0 10 (dk_at dksX2_matches_2 9 rfl rfl)
theorem dX2_matches_60 : decode cX2_matches 60 = .ok (.bipush 12, 2) := dk_16 12 (dk_at dksX2_matches_2 12 rfl rfl)
theorem dX2_matches_62 : decode cX2_matches 62 = .ok (.iload_n 3, 1) := dk_29 (dk_at dksX2_matches_2 14 rfl rfl)
theorem dX2_matches_63 : decode cX2_matches 63 = .ok (.isub, 1) := dk_100 (dk_at dksX2_matches_2 15 rfl rfl)
theorem dX2_matches_64 : decode cX2_matches 64 = .ok (.goto 4, 3) := dk_167 0 4 (dk_at dksX2_matches_2 16 rfl rfl)
theorem dX2_matches_67 : decode cX2_matches 67 = .ok (.iload_n 3, 1) := dk_29 (dk_at dksX2_matches_2 19 rfl rfl)
theorem dX2_matches_68 : decode cX2_matches 68 = .ok (.istore_n 3, 1) := dk_62 (dk_at dksX2_matches_2 20 rfl rfl)
theorem dX2_matches_69 : decode cX2_matches 69 = .ok (.iload_n 3, 1) := dk_29 (dk_at dksX2_matches_2 21 rfl rfl)
theorem dX2_matches_70 : decode cX2_matches 70 = .ok (.aload_n 0, 1) := dk_42 (dk_at dksX2_matches_2 22 rfl rfl)
theorem dX2_matches_71 : decode cX2_matches 71 = .ok (.getfield 7, 3) := dk_180 0 7 (dk_at dksX2_matches_3 0 rfl rfl)
theorem dX2_matches_74 : decode cX2_matches 74 = .ok (.iconst 1, 1) := dk_4 (dk_at dksX2_matches_3 3 rfl rfl)
theorem dX2_matches_75 : decode cX2_matches 75 = .ok (.iaload, 1) := dk_46 (dk_at dksX2_matches_3 4 rfl rfl)
theorem dX2_matches_76 : decode cX2_matches 76 = .ok (.if_icmp .gt 7, 3) := dk_163 0 7 (dk_at dksX2_matches_3 5 rfl rfl)
theorem dX2_matches_79 : decode cX2_matches 79 = .ok (.iconst 1, 1) := dk_4 (dk_at dksX2_matches_3 8 rfl rfl)
theorem dX2_matches_80 : decode cX2_matches 80 = .ok (.goto 4, 3) := dk_167 0 4 (dk_at dksX2_matches_3 9 rfl rfl)
theorem dX2_matches_83 : decode cX2_matches 83 = .ok (.iconst 0, 1) := dk_3 (dk_at dksX2_matches_3 12 rfl rfl)
theorem dX2_matches_84 : decode cX2_matches 84 = .ok (.ireturn, 1) := dk_172 (dk_at dksX2_matches_3 13 rfl rfl)
abbrev cX2_wantedIn : ByteArray := prog_9_method_14_code
def yX2_wantedIn : MethodName := ⟨RX2, "wantedIn", "(II)I"⟩
def dkwX2_wantedIn_1 : List UInt8 := [182, 0, 56, 42, 27, 6, 182, 0, 56, 42, 27, 5, 182, 0, 56, 100, 28, 104, 29, 4, 100, 108, 96, 172]
abbrev dktX2_wantedIn_1 : List UInt8 := dkwX2_wantedIn_1 ++ []
def dkwX2_wantedIn_0 : List UInt8 := [42, 27, 4, 182, 0, 56, 62, 29, 4, 160, 0, 12, 42, 27, 5, 182, 0, 56, 167, 0, 29, 42, 27, 5]
abbrev dktX2_wantedIn_0 : List UInt8 := dkwX2_wantedIn_0 ++ dktX2_wantedIn_1
theorem dksX2_wantedIn_0 : cX2_wantedIn.data.toList.drop 0 = dktX2_wantedIn_0 := by decide +kernel
theorem dksX2_wantedIn_1 : cX2_wantedIn.data.toList.drop 24 = dktX2_wantedIn_1 := dk_seg dksX2_wantedIn_0 24 rfl rfl
theorem dX2_wantedIn_0 : decode cX2_wantedIn 0 = .ok (.aload_n 0, 1) := dk_42 (dk_at dksX2_wantedIn_0 0 rfl rfl)
theorem dX2_wantedIn_1 : decode cX2_wantedIn 1 = .ok (.iload_n 1, 1) := dk_27 (dk_at dksX2_wantedIn_0 1 rfl rfl)
theorem dX2_wantedIn_2 : decode cX2_wantedIn 2 = .ok (.iconst 1, 1) := dk_4 (dk_at dksX2_wantedIn_0 2 rfl rfl)
theorem dX2_wantedIn_3 : decode cX2_wantedIn 3 = .ok (.invokevirtual 56, 3) := dk_182 0 56 (dk_at dksX2_wantedIn_0 3 rfl rfl)
theorem dX2_wantedIn_6 : decode cX2_wantedIn 6 = .ok (.istore_n 3, 1) := dk_62 (dk_at dksX2_wantedIn_0 6 rfl rfl)
theorem dX2_wantedIn_7 : decode cX2_wantedIn 7 = .ok (.iload_n 3, 1) := dk_29 (dk_at dksX2_wantedIn_0 7 rfl rfl)
theorem dX2_wantedIn_8 : decode cX2_wantedIn 8 = .ok (.iconst 1, 1) := dk_4 (dk_at dksX2_wantedIn_0 8 rfl rfl)
theorem dX2_wantedIn_9 : decode cX2_wantedIn 9 = .ok (.if_icmp .ne 12, 3) := dk_160 0 12 (dk_at dksX2_wantedIn_0 9 rfl rfl)
theorem dX2_wantedIn_12 : decode cX2_wantedIn 12 = .ok (.aload_n 0, 1) := dk_42 (dk_at dksX2_wantedIn_0 12 rfl rfl)
theorem dX2_wantedIn_13 : decode cX2_wantedIn 13 = .ok (.iload_n 1, 1) := dk_27 (dk_at dksX2_wantedIn_0 13 rfl rfl)
theorem dX2_wantedIn_14 : decode cX2_wantedIn 14 = .ok (.iconst 2, 1) := dk_5 (dk_at dksX2_wantedIn_0 14 rfl rfl)
theorem dX2_wantedIn_15 : decode cX2_wantedIn 15 = .ok (.invokevirtual 56, 3) := dk_182 0 56 (dk_at dksX2_wantedIn_0 15 rfl rfl)
theorem dX2_wantedIn_18 : decode cX2_wantedIn 18 = .ok (.goto 29, 3) := dk_167 0 29 (dk_at dksX2_wantedIn_0 18 rfl rfl)
theorem dX2_wantedIn_21 : decode cX2_wantedIn 21 = .ok (.aload_n 0, 1) := dk_42 (dk_at dksX2_wantedIn_0 21 rfl rfl)
theorem dX2_wantedIn_22 : decode cX2_wantedIn 22 = .ok (.iload_n 1, 1) := dk_27 (dk_at dksX2_wantedIn_0 22 rfl rfl)
theorem dX2_wantedIn_23 : decode cX2_wantedIn 23 = .ok (.iconst 2, 1) := dk_5 (dk_at dksX2_wantedIn_0 23 rfl rfl)
theorem dX2_wantedIn_24 : decode cX2_wantedIn 24 = .ok (.invokevirtual 56, 3) := dk_182 0 56 (dk_at dksX2_wantedIn_1 0 rfl rfl)
theorem dX2_wantedIn_27 : decode cX2_wantedIn 27 = .ok (.aload_n 0, 1) := dk_42 (dk_at dksX2_wantedIn_1 3 rfl rfl)
theorem dX2_wantedIn_28 : decode cX2_wantedIn 28 = .ok (.iload_n 1, 1) := dk_27 (dk_at dksX2_wantedIn_1 4 rfl rfl)
theorem dX2_wantedIn_29 : decode cX2_wantedIn 29 = .ok (.iconst 3, 1) := dk_6 (dk_at dksX2_wantedIn_1 5 rfl rfl)
theorem dX2_wantedIn_30 : decode cX2_wantedIn 30 = .ok (.invokevirtual 56, 3) := dk_182 0 56 (dk_at dksX2_wantedIn_1 6 rfl rfl)
theorem dX2_wantedIn_33 : decode cX2_wantedIn 33 = .ok (.aload_n 0, 1) := dk_42 (dk_at dksX2_wantedIn_1 9 rfl rfl)
theorem dX2_wantedIn_34 : decode cX2_wantedIn 34 = .ok (.iload_n 1, 1) := dk_27 (dk_at dksX2_wantedIn_1 10 rfl rfl)
theorem dX2_wantedIn_35 : decode cX2_wantedIn 35 = .ok (.iconst 2, 1) := dk_5 (dk_at dksX2_wantedIn_1 11 rfl rfl)
theorem dX2_wantedIn_36 : decode cX2_wantedIn 36 = .ok (.invokevirtual 56, 3) := dk_182 0 56 (dk_at dksX2_wantedIn_1 12 rfl rfl)
theorem dX2_wantedIn_39 : decode cX2_wantedIn 39 = .ok (.isub, 1) := dk_100 (dk_at dksX2_wantedIn_1 15 rfl rfl)
theorem dX2_wantedIn_40 : decode cX2_wantedIn 40 = .ok (.iload_n 2, 1) := dk_28 (dk_at dksX2_wantedIn_1 16 rfl rfl)
theorem dX2_wantedIn_41 : decode cX2_wantedIn 41 = .ok (.imul, 1) := dk_104 (dk_at dksX2_wantedIn_1 17 rfl rfl)
theorem dX2_wantedIn_42 : decode cX2_wantedIn 42 = .ok (.iload_n 3, 1) := dk_29 (dk_at dksX2_wantedIn_1 18 rfl rfl)
theorem dX2_wantedIn_43 : decode cX2_wantedIn 43 = .ok (.iconst 1, 1) := dk_4 (dk_at dksX2_wantedIn_1 19 rfl rfl)
theorem dX2_wantedIn_44 : decode cX2_wantedIn 44 = .ok (.isub, 1) := dk_100 (dk_at dksX2_wantedIn_1 20 rfl rfl)
theorem dX2_wantedIn_45 : decode cX2_wantedIn 45 = .ok (.idiv, 1) := dk_108 (dk_at dksX2_wantedIn_1 21 rfl rfl)
theorem dX2_wantedIn_46 : decode cX2_wantedIn 46 = .ok (.iadd, 1) := dk_96 (dk_at dksX2_wantedIn_1 22 rfl rfl)
theorem dX2_wantedIn_47 : decode cX2_wantedIn 47 = .ok (.ireturn, 1) := dk_172 (dk_at dksX2_wantedIn_1 23 rfl rfl)
abbrev cX2_size : ByteArray := prog_9_method_4_code
def yX2_size : MethodName := ⟨RX2, "size", "(I)I"⟩
def dkwX2_size_0 : List UInt8 := [26, 156, 0, 8, 26, 116, 167, 0, 4, 26, 172]
abbrev dktX2_size_0 : List UInt8 := dkwX2_size_0 ++ []
theorem dksX2_size_0 : cX2_size.data.toList.drop 0 = dktX2_size_0 := by decide +kernel
theorem dX2_size_0 : decode cX2_size 0 = .ok (.iload_n 0, 1) := dk_26 (dk_at dksX2_size_0 0 rfl rfl)
theorem dX2_size_1 : decode cX2_size 1 = .ok (.ifCond .ge 8, 3) := dk_156 0 8 (dk_at dksX2_size_0 1 rfl rfl)
theorem dX2_size_4 : decode cX2_size 4 = .ok (.iload_n 0, 1) := dk_26 (dk_at dksX2_size_0 4 rfl rfl)
theorem dX2_size_5 : decode cX2_size 5 = .ok (.ineg, 1) := dk_116 (dk_at dksX2_size_0 5 rfl rfl)
theorem dX2_size_6 : decode cX2_size 6 = .ok (.goto 4, 3) := dk_167 0 4 (dk_at dksX2_size_0 6 rfl rfl)
theorem dX2_size_9 : decode cX2_size 9 = .ok (.iload_n 0, 1) := dk_26 (dk_at dksX2_size_0 9 rfl rfl)
theorem dX2_size_10 : decode cX2_size 10 = .ok (.ireturn, 1) := dk_172 (dk_at dksX2_size_0 10 rfl rfl)
abbrev cX2_nearestOnset : ByteArray := prog_9_method_21_code
def yX2_nearestOnset : MethodName := ⟨RX2, "nearestOnset", "(I)I"⟩
def dkwX2_nearestOnset_3 : List UInt8 := [167, 255, 197, 16, 251, 172]
abbrev dktX2_nearestOnset_3 : List UInt8 := dkwX2_nearestOnset_3 ++ []
def dkwX2_nearestOnset_2 : List UInt8 := [184, 0, 67, 153, 0, 17, 42, 28, 29, 96, 182, 0, 80, 153, 0, 7, 28, 29, 96, 172, 132, 3, 1]
abbrev dktX2_nearestOnset_2 : List UInt8 := dkwX2_nearestOnset_2 ++ dktX2_nearestOnset_3
def dkwX2_nearestOnset_1 : List UInt8 := [184, 0, 67, 153, 0, 17, 42, 28, 29, 100, 182, 0, 80, 153, 0, 7, 28, 29, 100, 172, 28, 29, 96]
abbrev dktX2_nearestOnset_1 : List UInt8 := dkwX2_nearestOnset_1 ++ dktX2_nearestOnset_2
def dkwX2_nearestOnset_0 : List UInt8 := [42, 27, 3, 182, 0, 56, 61, 3, 62, 29, 42, 180, 0, 7, 5, 46, 163, 0, 55, 28, 29, 100]
abbrev dktX2_nearestOnset_0 : List UInt8 := dkwX2_nearestOnset_0 ++ dktX2_nearestOnset_1
theorem dksX2_nearestOnset_0 : cX2_nearestOnset.data.toList.drop 0 = dktX2_nearestOnset_0 := by decide +kernel
theorem dksX2_nearestOnset_1 : cX2_nearestOnset.data.toList.drop 22 = dktX2_nearestOnset_1 := dk_seg dksX2_nearestOnset_0 22 rfl rfl
theorem dksX2_nearestOnset_2 : cX2_nearestOnset.data.toList.drop 45 = dktX2_nearestOnset_2 := dk_seg dksX2_nearestOnset_1 23 rfl rfl
theorem dksX2_nearestOnset_3 : cX2_nearestOnset.data.toList.drop 68 = dktX2_nearestOnset_3 := dk_seg dksX2_nearestOnset_2 23 rfl rfl
theorem dX2_nearestOnset_0 : decode cX2_nearestOnset 0 = .ok (.aload_n 0, 1) := dk_42 (dk_at dksX2_nearestOnset_0 0 rfl rfl)
theorem dX2_nearestOnset_1 : decode cX2_nearestOnset 1 = .ok (.iload_n 1, 1) := dk_27 (dk_at dksX2_nearestOnset_0 1 rfl rfl)
theorem dX2_nearestOnset_2 : decode cX2_nearestOnset 2 = .ok (.iconst 0, 1) := dk_3 (dk_at dksX2_nearestOnset_0 2 rfl rfl)
theorem dX2_nearestOnset_3 : decode cX2_nearestOnset 3 = .ok (.invokevirtual 56, 3) := dk_182 0 56 (dk_at dksX2_nearestOnset_0 3 rfl rfl)
theorem dX2_nearestOnset_6 : decode cX2_nearestOnset 6 = .ok (.istore_n 2, 1) := dk_61 (dk_at dksX2_nearestOnset_0 6 rfl rfl)
theorem dX2_nearestOnset_7 : decode cX2_nearestOnset 7 = .ok (.iconst 0, 1) := dk_3 (dk_at dksX2_nearestOnset_0 7 rfl rfl)
theorem dX2_nearestOnset_8 : decode cX2_nearestOnset 8 = .ok (.istore_n 3, 1) := dk_62 (dk_at dksX2_nearestOnset_0 8 rfl rfl)
theorem dX2_nearestOnset_9 : decode cX2_nearestOnset 9 = .ok (.iload_n 3, 1) := dk_29 (dk_at dksX2_nearestOnset_0 9 rfl rfl)
theorem dX2_nearestOnset_10 : decode cX2_nearestOnset 10 = .ok (.aload_n 0, 1) := dk_42 (dk_at dksX2_nearestOnset_0 10 rfl rfl)
theorem dX2_nearestOnset_11 : decode cX2_nearestOnset 11 = .ok (.getfield 7, 3) := dk_180 0 7 (dk_at dksX2_nearestOnset_0 11 rfl rfl)
theorem dX2_nearestOnset_14 : decode cX2_nearestOnset 14 = .ok (.iconst 2, 1) := dk_5 (dk_at dksX2_nearestOnset_0 14 rfl rfl)
theorem dX2_nearestOnset_15 : decode cX2_nearestOnset 15 = .ok (.iaload, 1) := dk_46 (dk_at dksX2_nearestOnset_0 15 rfl rfl)
theorem dX2_nearestOnset_16 : decode cX2_nearestOnset 16 = .ok (.if_icmp .gt 55, 3) := dk_163 0 55 (dk_at dksX2_nearestOnset_0 16 rfl rfl)
theorem dX2_nearestOnset_19 : decode cX2_nearestOnset 19 = .ok (.iload_n 2, 1) := dk_28 (dk_at dksX2_nearestOnset_0 19 rfl rfl)
theorem dX2_nearestOnset_20 : decode cX2_nearestOnset 20 = .ok (.iload_n 3, 1) := dk_29 (dk_at dksX2_nearestOnset_0 20 rfl rfl)
theorem dX2_nearestOnset_21 : decode cX2_nearestOnset 21 = .ok (.isub, 1) := dk_100 (dk_at dksX2_nearestOnset_0 21 rfl rfl)
theorem dX2_nearestOnset_22 : decode cX2_nearestOnset 22 = .ok (.invokestatic 67, 3) := dk_184 0 67 (dk_at dksX2_nearestOnset_1 0 rfl rfl)
theorem dX2_nearestOnset_25 : decode cX2_nearestOnset 25 = .ok (.ifCond .eq 17, 3) := dk_153 0 17 (dk_at dksX2_nearestOnset_1 3 rfl rfl)
theorem dX2_nearestOnset_28 : decode cX2_nearestOnset 28 = .ok (.aload_n 0, 1) := dk_42 (dk_at dksX2_nearestOnset_1 6 rfl rfl)
theorem dX2_nearestOnset_29 : decode cX2_nearestOnset 29 = .ok (.iload_n 2, 1) := dk_28 (dk_at dksX2_nearestOnset_1 7 rfl rfl)
theorem dX2_nearestOnset_30 : decode cX2_nearestOnset 30 = .ok (.iload_n 3, 1) := dk_29 (dk_at dksX2_nearestOnset_1 8 rfl rfl)
theorem dX2_nearestOnset_31 : decode cX2_nearestOnset 31 = .ok (.isub, 1) := dk_100 (dk_at dksX2_nearestOnset_1 9 rfl rfl)
theorem dX2_nearestOnset_32 : decode cX2_nearestOnset 32 = .ok (.invokevirtual 80, 3) := dk_182 0 80 (dk_at dksX2_nearestOnset_1 10 rfl rfl)
theorem dX2_nearestOnset_35 : decode cX2_nearestOnset 35 = .ok (.ifCond .eq 7, 3) := dk_153 0 7 (dk_at dksX2_nearestOnset_1 13 rfl rfl)
theorem dX2_nearestOnset_38 : decode cX2_nearestOnset 38 = .ok (.iload_n 2, 1) := dk_28 (dk_at dksX2_nearestOnset_1 16 rfl rfl)
theorem dX2_nearestOnset_39 : decode cX2_nearestOnset 39 = .ok (.iload_n 3, 1) := dk_29 (dk_at dksX2_nearestOnset_1 17 rfl rfl)
theorem dX2_nearestOnset_40 : decode cX2_nearestOnset 40 = .ok (.isub, 1) := dk_100 (dk_at dksX2_nearestOnset_1 18 rfl rfl)
theorem dX2_nearestOnset_41 : decode cX2_nearestOnset 41 = .ok (.ireturn, 1) := dk_172 (dk_at dksX2_nearestOnset_1 19 rfl rfl)
theorem dX2_nearestOnset_42 : decode cX2_nearestOnset 42 = .ok (.iload_n 2, 1) := dk_28 (dk_at dksX2_nearestOnset_1 20 rfl rfl)
theorem dX2_nearestOnset_43 : decode cX2_nearestOnset 43 = .ok (.iload_n 3, 1) := dk_29 (dk_at dksX2_nearestOnset_1 21 rfl rfl)
theorem dX2_nearestOnset_44 : decode cX2_nearestOnset 44 = .ok (.iadd, 1) := dk_96 (dk_at dksX2_nearestOnset_1 22 rfl rfl)
theorem dX2_nearestOnset_45 : decode cX2_nearestOnset 45 = .ok (.invokestatic 67, 3) := dk_184 0 67 (dk_at dksX2_nearestOnset_2 0 rfl rfl)
theorem dX2_nearestOnset_48 : decode cX2_nearestOnset 48 = .ok (.ifCond .eq 17, 3) := dk_153 0 17 (dk_at dksX2_nearestOnset_2 3 rfl rfl)
theorem dX2_nearestOnset_51 : decode cX2_nearestOnset 51 = .ok (.aload_n 0, 1) := dk_42 (dk_at dksX2_nearestOnset_2 6 rfl rfl)
theorem dX2_nearestOnset_52 : decode cX2_nearestOnset 52 = .ok (.iload_n 2, 1) := dk_28 (dk_at dksX2_nearestOnset_2 7 rfl rfl)
theorem dX2_nearestOnset_53 : decode cX2_nearestOnset 53 = .ok (.iload_n 3, 1) := dk_29 (dk_at dksX2_nearestOnset_2 8 rfl rfl)
theorem dX2_nearestOnset_54 : decode cX2_nearestOnset 54 = .ok (.iadd, 1) := dk_96 (dk_at dksX2_nearestOnset_2 9 rfl rfl)
theorem dX2_nearestOnset_55 : decode cX2_nearestOnset 55 = .ok (.invokevirtual 80, 3) := dk_182 0 80 (dk_at dksX2_nearestOnset_2 10 rfl rfl)
theorem dX2_nearestOnset_58 : decode cX2_nearestOnset 58 = .ok (.ifCond .eq 7, 3) := dk_153 0 7 (dk_at dksX2_nearestOnset_2 13 rfl rfl)
theorem dX2_nearestOnset_61 : decode cX2_nearestOnset 61 = .ok (.iload_n 2, 1) := dk_28 (dk_at dksX2_nearestOnset_2 16 rfl rfl)
theorem dX2_nearestOnset_62 : decode cX2_nearestOnset 62 = .ok (.iload_n 3, 1) := dk_29 (dk_at dksX2_nearestOnset_2 17 rfl rfl)
theorem dX2_nearestOnset_63 : decode cX2_nearestOnset 63 = .ok (.iadd, 1) := dk_96 (dk_at dksX2_nearestOnset_2 18 rfl rfl)
theorem dX2_nearestOnset_64 : decode cX2_nearestOnset 64 = .ok (.ireturn, 1) := dk_172 (dk_at dksX2_nearestOnset_2 19 rfl rfl)
theorem dX2_nearestOnset_65 : decode cX2_nearestOnset 65 = .ok (.iinc 3 1, 3) := dk_132 3 1 (dk_at dksX2_nearestOnset_2 20 rfl rfl)
theorem dX2_nearestOnset_68 : decode cX2_nearestOnset 68 = .ok (.goto (-59), 3) := dk_167 255 197 (dk_at dksX2_nearestOnset_3 0 rfl rfl)
theorem dX2_nearestOnset_71 : decode cX2_nearestOnset 71 = .ok (.bipush (-5), 2) := dk_16 251 (dk_at dksX2_nearestOnset_3 3 rfl rfl)
theorem dX2_nearestOnset_73 : decode cX2_nearestOnset 73 = .ok (.ireturn, 1) := dk_172 (dk_at dksX2_nearestOnset_3 5 rfl rfl)
abbrev cX2_isOnset : ByteArray := prog_9_method_19_code
def yX2_isOnset : MethodName := ⟨RX2, "isOnset", "(I)Z"⟩
def dkwX2_isOnset_1 : List UInt8 := [180, 0, 23, 27, 46, 159, 0, 7, 4, 167, 0, 4, 3, 172]
abbrev dktX2_isOnset_1 : List UInt8 := dkwX2_isOnset_1 ++ []
def dkwX2_isOnset_0 : List UInt8 := [42, 180, 0, 23, 27, 46, 158, 0, 28, 27, 153, 0, 20, 42, 180, 0, 23, 27, 4, 100, 46, 42]
abbrev dktX2_isOnset_0 : List UInt8 := dkwX2_isOnset_0 ++ dktX2_isOnset_1
theorem dksX2_isOnset_0 : cX2_isOnset.data.toList.drop 0 = dktX2_isOnset_0 := by decide +kernel
theorem dksX2_isOnset_1 : cX2_isOnset.data.toList.drop 22 = dktX2_isOnset_1 := dk_seg dksX2_isOnset_0 22 rfl rfl
theorem dX2_isOnset_0 : decode cX2_isOnset 0 = .ok (.aload_n 0, 1) := dk_42 (dk_at dksX2_isOnset_0 0 rfl rfl)
theorem dX2_isOnset_1 : decode cX2_isOnset 1 = .ok (.getfield 23, 3) := dk_180 0 23 (dk_at dksX2_isOnset_0 1 rfl rfl)
theorem dX2_isOnset_4 : decode cX2_isOnset 4 = .ok (.iload_n 1, 1) := dk_27 (dk_at dksX2_isOnset_0 4 rfl rfl)
theorem dX2_isOnset_5 : decode cX2_isOnset 5 = .ok (.iaload, 1) := dk_46 (dk_at dksX2_isOnset_0 5 rfl rfl)
theorem dX2_isOnset_6 : decode cX2_isOnset 6 = .ok (.ifCond .le 28, 3) := dk_158 0 28 (dk_at dksX2_isOnset_0 6 rfl rfl)
theorem dX2_isOnset_9 : decode cX2_isOnset 9 = .ok (.iload_n 1, 1) := dk_27 (dk_at dksX2_isOnset_0 9 rfl rfl)
theorem dX2_isOnset_10 : decode cX2_isOnset 10 = .ok (.ifCond .eq 20, 3) := dk_153 0 20 (dk_at dksX2_isOnset_0 10 rfl rfl)
theorem dX2_isOnset_13 : decode cX2_isOnset 13 = .ok (.aload_n 0, 1) := dk_42 (dk_at dksX2_isOnset_0 13 rfl rfl)
theorem dX2_isOnset_14 : decode cX2_isOnset 14 = .ok (.getfield 23, 3) := dk_180 0 23 (dk_at dksX2_isOnset_0 14 rfl rfl)
theorem dX2_isOnset_17 : decode cX2_isOnset 17 = .ok (.iload_n 1, 1) := dk_27 (dk_at dksX2_isOnset_0 17 rfl rfl)
theorem dX2_isOnset_18 : decode cX2_isOnset 18 = .ok (.iconst 1, 1) := dk_4 (dk_at dksX2_isOnset_0 18 rfl rfl)
theorem dX2_isOnset_19 : decode cX2_isOnset 19 = .ok (.isub, 1) := dk_100 (dk_at dksX2_isOnset_0 19 rfl rfl)
theorem dX2_isOnset_20 : decode cX2_isOnset 20 = .ok (.iaload, 1) := dk_46 (dk_at dksX2_isOnset_0 20 rfl rfl)
theorem dX2_isOnset_21 : decode cX2_isOnset 21 = .ok (.aload_n 0, 1) := dk_42 (dk_at dksX2_isOnset_0 21 rfl rfl)
theorem dX2_isOnset_22 : decode cX2_isOnset 22 = .ok (.getfield 23, 3) := dk_180 0 23 (dk_at dksX2_isOnset_1 0 rfl rfl)
theorem dX2_isOnset_25 : decode cX2_isOnset 25 = .ok (.iload_n 1, 1) := dk_27 (dk_at dksX2_isOnset_1 3 rfl rfl)
theorem dX2_isOnset_26 : decode cX2_isOnset 26 = .ok (.iaload, 1) := dk_46 (dk_at dksX2_isOnset_1 4 rfl rfl)
theorem dX2_isOnset_27 : decode cX2_isOnset 27 = .ok (.if_icmp .eq 7, 3) := dk_159 0 7 (dk_at dksX2_isOnset_1 5 rfl rfl)
theorem dX2_isOnset_30 : decode cX2_isOnset 30 = .ok (.iconst 1, 1) := dk_4 (dk_at dksX2_isOnset_1 8 rfl rfl)
theorem dX2_isOnset_31 : decode cX2_isOnset 31 = .ok (.goto 4, 3) := dk_167 0 4 (dk_at dksX2_isOnset_1 9 rfl rfl)
theorem dX2_isOnset_34 : decode cX2_isOnset 34 = .ok (.iconst 0, 1) := dk_3 (dk_at dksX2_isOnset_1 12 rfl rfl)
theorem dX2_isOnset_35 : decode cX2_isOnset 35 = .ok (.ireturn, 1) := dk_172 (dk_at dksX2_isOnset_1 13 rfl rfl)
abbrev cX2_reasonOf : ByteArray := prog_9_method_23_code
def yX2_reasonOf : MethodName := ⟨RX2, "reasonOf", "(I)I"⟩
def dkwX2_reasonOf_3 : List UInt8 := [167, 0, 22, 42, 27, 182, 0, 83, 42, 180, 0, 7, 7, 46, 162, 0, 7, 7, 167, 0, 4, 3, 172]
abbrev dktX2_reasonOf_3 : List UInt8 := dkwX2_reasonOf_3 ++ []
def dkwX2_reasonOf_2 : List UInt8 := [180, 0, 26, 27, 46, 154, 0, 7, 5, 167, 0, 37, 42, 180, 0, 29, 27, 46, 16, 251, 160, 0, 7, 6]
abbrev dktX2_reasonOf_2 : List UInt8 := dkwX2_reasonOf_2 ++ dktX2_reasonOf_3
def dkwX2_reasonOf_1 : List UInt8 := [46, 158, 0, 7, 4, 167, 0, 4, 3, 96, 61, 132, 3, 1, 167, 255, 227, 28, 154, 0, 5, 4, 172, 42]
abbrev dktX2_reasonOf_1 : List UInt8 := dkwX2_reasonOf_1 ++ dktX2_reasonOf_2
def dkwX2_reasonOf_0 : List UInt8 := [3, 61, 42, 27, 3, 182, 0, 56, 62, 29, 42, 27, 182, 0, 60, 162, 0, 26, 28, 42, 180, 0, 23, 29]
abbrev dktX2_reasonOf_0 : List UInt8 := dkwX2_reasonOf_0 ++ dktX2_reasonOf_1
theorem dksX2_reasonOf_0 : cX2_reasonOf.data.toList.drop 0 = dktX2_reasonOf_0 := by decide +kernel
theorem dksX2_reasonOf_1 : cX2_reasonOf.data.toList.drop 24 = dktX2_reasonOf_1 := dk_seg dksX2_reasonOf_0 24 rfl rfl
theorem dksX2_reasonOf_2 : cX2_reasonOf.data.toList.drop 48 = dktX2_reasonOf_2 := dk_seg dksX2_reasonOf_1 24 rfl rfl
theorem dksX2_reasonOf_3 : cX2_reasonOf.data.toList.drop 72 = dktX2_reasonOf_3 := dk_seg dksX2_reasonOf_2 24 rfl rfl
theorem dX2_reasonOf_0 : decode cX2_reasonOf 0 = .ok (.iconst 0, 1) := dk_3 (dk_at dksX2_reasonOf_0 0 rfl rfl)
theorem dX2_reasonOf_1 : decode cX2_reasonOf 1 = .ok (.istore_n 2, 1) := dk_61 (dk_at dksX2_reasonOf_0 1 rfl rfl)
theorem dX2_reasonOf_2 : decode cX2_reasonOf 2 = .ok (.aload_n 0, 1) := dk_42 (dk_at dksX2_reasonOf_0 2 rfl rfl)
theorem dX2_reasonOf_3 : decode cX2_reasonOf 3 = .ok (.iload_n 1, 1) := dk_27 (dk_at dksX2_reasonOf_0 3 rfl rfl)
theorem dX2_reasonOf_4 : decode cX2_reasonOf 4 = .ok (.iconst 0, 1) := dk_3 (dk_at dksX2_reasonOf_0 4 rfl rfl)
theorem dX2_reasonOf_5 : decode cX2_reasonOf 5 = .ok (.invokevirtual 56, 3) := dk_182 0 56 (dk_at dksX2_reasonOf_0 5 rfl rfl)
theorem dX2_reasonOf_8 : decode cX2_reasonOf 8 = .ok (.istore_n 3, 1) := dk_62 (dk_at dksX2_reasonOf_0 8 rfl rfl)
theorem dX2_reasonOf_9 : decode cX2_reasonOf 9 = .ok (.iload_n 3, 1) := dk_29 (dk_at dksX2_reasonOf_0 9 rfl rfl)
theorem dX2_reasonOf_10 : decode cX2_reasonOf 10 = .ok (.aload_n 0, 1) := dk_42 (dk_at dksX2_reasonOf_0 10 rfl rfl)
theorem dX2_reasonOf_11 : decode cX2_reasonOf 11 = .ok (.iload_n 1, 1) := dk_27 (dk_at dksX2_reasonOf_0 11 rfl rfl)
theorem dX2_reasonOf_12 : decode cX2_reasonOf 12 = .ok (.invokevirtual 60, 3) := dk_182 0 60 (dk_at dksX2_reasonOf_0 12 rfl rfl)
theorem dX2_reasonOf_15 : decode cX2_reasonOf 15 = .ok (.if_icmp .ge 26, 3) := dk_162 0 26 (dk_at dksX2_reasonOf_0 15 rfl rfl)
theorem dX2_reasonOf_18 : decode cX2_reasonOf 18 = .ok (.iload_n 2, 1) := dk_28 (dk_at dksX2_reasonOf_0 18 rfl rfl)
theorem dX2_reasonOf_19 : decode cX2_reasonOf 19 = .ok (.aload_n 0, 1) := dk_42 (dk_at dksX2_reasonOf_0 19 rfl rfl)
theorem dX2_reasonOf_20 : decode cX2_reasonOf 20 = .ok (.getfield 23, 3) := dk_180 0 23 (dk_at dksX2_reasonOf_0 20 rfl rfl)
theorem dX2_reasonOf_23 : decode cX2_reasonOf 23 = .ok (.iload_n 3, 1) := dk_29 (dk_at dksX2_reasonOf_0 23 rfl rfl)
theorem dX2_reasonOf_24 : decode cX2_reasonOf 24 = .ok (.iaload, 1) := dk_46 (dk_at dksX2_reasonOf_1 0 rfl rfl)
theorem dX2_reasonOf_25 : decode cX2_reasonOf 25 = .ok (.ifCond .le 7, 3) := dk_158 0 7 (dk_at dksX2_reasonOf_1 1 rfl rfl)
theorem dX2_reasonOf_28 : decode cX2_reasonOf 28 = .ok (.iconst 1, 1) := dk_4 (dk_at dksX2_reasonOf_1 4 rfl rfl)
theorem dX2_reasonOf_29 : decode cX2_reasonOf 29 = .ok (.goto 4, 3) := dk_167 0 4 (dk_at dksX2_reasonOf_1 5 rfl rfl)
theorem dX2_reasonOf_32 : decode cX2_reasonOf 32 = .ok (.iconst 0, 1) := dk_3 (dk_at dksX2_reasonOf_1 8 rfl rfl)
theorem dX2_reasonOf_33 : decode cX2_reasonOf 33 = .ok (.iadd, 1) := dk_96 (dk_at dksX2_reasonOf_1 9 rfl rfl)
theorem dX2_reasonOf_34 : decode cX2_reasonOf 34 = .ok (.istore_n 2, 1) := dk_61 (dk_at dksX2_reasonOf_1 10 rfl rfl)
theorem dX2_reasonOf_35 : decode cX2_reasonOf 35 = .ok (.iinc 3 1, 3) := dk_132 3 1 (dk_at dksX2_reasonOf_1 11 rfl rfl)
theorem dX2_reasonOf_38 : decode cX2_reasonOf 38 = .ok (.goto (-29), 3) := dk_167 255 227 (dk_at dksX2_reasonOf_1 14 rfl rfl)
theorem dX2_reasonOf_41 : decode cX2_reasonOf 41 = .ok (.iload_n 2, 1) := dk_28 (dk_at dksX2_reasonOf_1 17 rfl rfl)
theorem dX2_reasonOf_42 : decode cX2_reasonOf 42 = .ok (.ifCond .ne 5, 3) := dk_154 0 5 (dk_at dksX2_reasonOf_1 18 rfl rfl)
theorem dX2_reasonOf_45 : decode cX2_reasonOf 45 = .ok (.iconst 1, 1) := dk_4 (dk_at dksX2_reasonOf_1 21 rfl rfl)
theorem dX2_reasonOf_46 : decode cX2_reasonOf 46 = .ok (.ireturn, 1) := dk_172 (dk_at dksX2_reasonOf_1 22 rfl rfl)
theorem dX2_reasonOf_47 : decode cX2_reasonOf 47 = .ok (.aload_n 0, 1) := dk_42 (dk_at dksX2_reasonOf_1 23 rfl rfl)
theorem dX2_reasonOf_48 : decode cX2_reasonOf 48 = .ok (.getfield 26, 3) := dk_180 0 26 (dk_at dksX2_reasonOf_2 0 rfl rfl)
theorem dX2_reasonOf_51 : decode cX2_reasonOf 51 = .ok (.iload_n 1, 1) := dk_27 (dk_at dksX2_reasonOf_2 3 rfl rfl)
theorem dX2_reasonOf_52 : decode cX2_reasonOf 52 = .ok (.iaload, 1) := dk_46 (dk_at dksX2_reasonOf_2 4 rfl rfl)
theorem dX2_reasonOf_53 : decode cX2_reasonOf 53 = .ok (.ifCond .ne 7, 3) := dk_154 0 7 (dk_at dksX2_reasonOf_2 5 rfl rfl)
theorem dX2_reasonOf_56 : decode cX2_reasonOf 56 = .ok (.iconst 2, 1) := dk_5 (dk_at dksX2_reasonOf_2 8 rfl rfl)
theorem dX2_reasonOf_57 : decode cX2_reasonOf 57 = .ok (.goto 37, 3) := dk_167 0 37 (dk_at dksX2_reasonOf_2 9 rfl rfl)
theorem dX2_reasonOf_60 : decode cX2_reasonOf 60 = .ok (.aload_n 0, 1) := dk_42 (dk_at dksX2_reasonOf_2 12 rfl rfl)
theorem dX2_reasonOf_61 : decode cX2_reasonOf 61 = .ok (.getfield 29, 3) := dk_180 0 29 (dk_at dksX2_reasonOf_2 13 rfl rfl)
theorem dX2_reasonOf_64 : decode cX2_reasonOf 64 = .ok (.iload_n 1, 1) := dk_27 (dk_at dksX2_reasonOf_2 16 rfl rfl)
theorem dX2_reasonOf_65 : decode cX2_reasonOf 65 = .ok (.iaload, 1) := dk_46 (dk_at dksX2_reasonOf_2 17 rfl rfl)
theorem dX2_reasonOf_66 : decode cX2_reasonOf 66 = .ok (.bipush (-5), 2) := dk_16 251 (dk_at dksX2_reasonOf_2 18 rfl rfl)
theorem dX2_reasonOf_68 : decode cX2_reasonOf 68 = .ok (.if_icmp .ne 7, 3) := dk_160 0 7 (dk_at dksX2_reasonOf_2 20 rfl rfl)
theorem dX2_reasonOf_71 : decode cX2_reasonOf 71 = .ok (.iconst 3, 1) := dk_6 (dk_at dksX2_reasonOf_2 23 rfl rfl)
theorem dX2_reasonOf_72 : decode cX2_reasonOf 72 = .ok (.goto 22, 3) := dk_167 0 22 (dk_at dksX2_reasonOf_3 0 rfl rfl)
theorem dX2_reasonOf_75 : decode cX2_reasonOf 75 = .ok (.aload_n 0, 1) := dk_42 (dk_at dksX2_reasonOf_3 3 rfl rfl)
theorem dX2_reasonOf_76 : decode cX2_reasonOf 76 = .ok (.iload_n 1, 1) := dk_27 (dk_at dksX2_reasonOf_3 4 rfl rfl)
theorem dX2_reasonOf_77 : decode cX2_reasonOf 77 = .ok (.invokevirtual 83, 3) := dk_182 0 83 (dk_at dksX2_reasonOf_3 5 rfl rfl)
theorem dX2_reasonOf_80 : decode cX2_reasonOf 80 = .ok (.aload_n 0, 1) := dk_42 (dk_at dksX2_reasonOf_3 8 rfl rfl)
theorem dX2_reasonOf_81 : decode cX2_reasonOf 81 = .ok (.getfield 7, 3) := dk_180 0 7 (dk_at dksX2_reasonOf_3 9 rfl rfl)
theorem dX2_reasonOf_84 : decode cX2_reasonOf 84 = .ok (.iconst 4, 1) := dk_7 (dk_at dksX2_reasonOf_3 12 rfl rfl)
theorem dX2_reasonOf_85 : decode cX2_reasonOf 85 = .ok (.iaload, 1) := dk_46 (dk_at dksX2_reasonOf_3 13 rfl rfl)
theorem dX2_reasonOf_86 : decode cX2_reasonOf 86 = .ok (.if_icmp .ge 7, 3) := dk_162 0 7 (dk_at dksX2_reasonOf_3 14 rfl rfl)
theorem dX2_reasonOf_89 : decode cX2_reasonOf 89 = .ok (.iconst 4, 1) := dk_7 (dk_at dksX2_reasonOf_3 17 rfl rfl)
theorem dX2_reasonOf_90 : decode cX2_reasonOf 90 = .ok (.goto 4, 3) := dk_167 0 4 (dk_at dksX2_reasonOf_3 18 rfl rfl)
theorem dX2_reasonOf_93 : decode cX2_reasonOf 93 = .ok (.iconst 0, 1) := dk_3 (dk_at dksX2_reasonOf_3 21 rfl rfl)
theorem dX2_reasonOf_94 : decode cX2_reasonOf 94 = .ok (.ireturn, 1) := dk_172 (dk_at dksX2_reasonOf_3 22 rfl rfl)
abbrev cX2_share : ByteArray := prog_9_method_22_code
def yX2_share : MethodName := ⟨RX2, "share", "(I)I"⟩
def dkwX2_share_0 : List UInt8 := [42, 180, 0, 26, 27, 46, 16, 100, 104, 42, 27, 4, 182, 0, 56, 108, 172]
abbrev dktX2_share_0 : List UInt8 := dkwX2_share_0 ++ []
theorem dksX2_share_0 : cX2_share.data.toList.drop 0 = dktX2_share_0 := by decide +kernel
theorem dX2_share_0 : decode cX2_share 0 = .ok (.aload_n 0, 1) := dk_42 (dk_at dksX2_share_0 0 rfl rfl)
theorem dX2_share_1 : decode cX2_share 1 = .ok (.getfield 26, 3) := dk_180 0 26 (dk_at dksX2_share_0 1 rfl rfl)
theorem dX2_share_4 : decode cX2_share 4 = .ok (.iload_n 1, 1) := dk_27 (dk_at dksX2_share_0 4 rfl rfl)
theorem dX2_share_5 : decode cX2_share 5 = .ok (.iaload, 1) := dk_46 (dk_at dksX2_share_0 5 rfl rfl)
theorem dX2_share_6 : decode cX2_share 6 = .ok (.bipush 100, 2) := dk_16 100 (dk_at dksX2_share_0 6 rfl rfl)
theorem dX2_share_8 : decode cX2_share 8 = .ok (.imul, 1) := dk_104 (dk_at dksX2_share_0 8 rfl rfl)
theorem dX2_share_9 : decode cX2_share 9 = .ok (.aload_n 0, 1) := dk_42 (dk_at dksX2_share_0 9 rfl rfl)
theorem dX2_share_10 : decode cX2_share 10 = .ok (.iload_n 1, 1) := dk_27 (dk_at dksX2_share_0 10 rfl rfl)
theorem dX2_share_11 : decode cX2_share 11 = .ok (.iconst 1, 1) := dk_4 (dk_at dksX2_share_0 11 rfl rfl)
theorem dX2_share_12 : decode cX2_share 12 = .ok (.invokevirtual 56, 3) := dk_182 0 56 (dk_at dksX2_share_0 12 rfl rfl)
theorem dX2_share_15 : decode cX2_share 15 = .ok (.idiv, 1) := dk_108 (dk_at dksX2_share_0 15 rfl rfl)
theorem dX2_share_16 : decode cX2_share 16 = .ok (.ireturn, 1) := dk_172 (dk_at dksX2_share_0 16 rfl rfl)
abbrev cX2_pointsOf : ByteArray := prog_9_method_25_code
def yX2_pointsOf : MethodName := ⟨RX2, "pointsOf", "(I)I"⟩
def dkwX2_pointsOf_2 : List UInt8 := [156, 0, 7, 3, 167, 0, 17, 28, 16, 10, 42, 180, 0, 35, 27, 46, 96, 104, 16, 10, 108, 172]
abbrev dktX2_pointsOf_2 : List UInt8 := dkwX2_pointsOf_2 ++ []
def dkwX2_pointsOf_1 : List UInt8 := [96, 5, 42, 180, 0, 29, 27, 46, 42, 27, 3, 182, 0, 56, 100, 184, 0, 77, 104, 100, 61, 28]
abbrev dktX2_pointsOf_1 : List UInt8 := dkwX2_pointsOf_1 ++ dktX2_pointsOf_2
def dkwX2_pointsOf_0 : List UInt8 := [42, 180, 0, 32, 27, 46, 153, 0, 5, 3, 172, 42, 27, 182, 0, 83, 8, 42, 27, 4, 182, 0, 90, 104]
abbrev dktX2_pointsOf_0 : List UInt8 := dkwX2_pointsOf_0 ++ dktX2_pointsOf_1
theorem dksX2_pointsOf_0 : cX2_pointsOf.data.toList.drop 0 = dktX2_pointsOf_0 := by decide +kernel
theorem dksX2_pointsOf_1 : cX2_pointsOf.data.toList.drop 24 = dktX2_pointsOf_1 := dk_seg dksX2_pointsOf_0 24 rfl rfl
theorem dksX2_pointsOf_2 : cX2_pointsOf.data.toList.drop 46 = dktX2_pointsOf_2 := dk_seg dksX2_pointsOf_1 22 rfl rfl
theorem dX2_pointsOf_0 : decode cX2_pointsOf 0 = .ok (.aload_n 0, 1) := dk_42 (dk_at dksX2_pointsOf_0 0 rfl rfl)
theorem dX2_pointsOf_1 : decode cX2_pointsOf 1 = .ok (.getfield 32, 3) := dk_180 0 32 (dk_at dksX2_pointsOf_0 1 rfl rfl)
theorem dX2_pointsOf_4 : decode cX2_pointsOf 4 = .ok (.iload_n 1, 1) := dk_27 (dk_at dksX2_pointsOf_0 4 rfl rfl)
theorem dX2_pointsOf_5 : decode cX2_pointsOf 5 = .ok (.iaload, 1) := dk_46 (dk_at dksX2_pointsOf_0 5 rfl rfl)
theorem dX2_pointsOf_6 : decode cX2_pointsOf 6 = .ok (.ifCond .eq 5, 3) := dk_153 0 5 (dk_at dksX2_pointsOf_0 6 rfl rfl)
theorem dX2_pointsOf_9 : decode cX2_pointsOf 9 = .ok (.iconst 0, 1) := dk_3 (dk_at dksX2_pointsOf_0 9 rfl rfl)
theorem dX2_pointsOf_10 : decode cX2_pointsOf 10 = .ok (.ireturn, 1) := dk_172 (dk_at dksX2_pointsOf_0 10 rfl rfl)
theorem dX2_pointsOf_11 : decode cX2_pointsOf 11 = .ok (.aload_n 0, 1) := dk_42 (dk_at dksX2_pointsOf_0 11 rfl rfl)
theorem dX2_pointsOf_12 : decode cX2_pointsOf 12 = .ok (.iload_n 1, 1) := dk_27 (dk_at dksX2_pointsOf_0 12 rfl rfl)
theorem dX2_pointsOf_13 : decode cX2_pointsOf 13 = .ok (.invokevirtual 83, 3) := dk_182 0 83 (dk_at dksX2_pointsOf_0 13 rfl rfl)
theorem dX2_pointsOf_16 : decode cX2_pointsOf 16 = .ok (.iconst 5, 1) := dk_8 (dk_at dksX2_pointsOf_0 16 rfl rfl)
theorem dX2_pointsOf_17 : decode cX2_pointsOf 17 = .ok (.aload_n 0, 1) := dk_42 (dk_at dksX2_pointsOf_0 17 rfl rfl)
theorem dX2_pointsOf_18 : decode cX2_pointsOf 18 = .ok (.iload_n 1, 1) := dk_27 (dk_at dksX2_pointsOf_0 18 rfl rfl)
theorem dX2_pointsOf_19 : decode cX2_pointsOf 19 = .ok (.iconst 1, 1) := dk_4 (dk_at dksX2_pointsOf_0 19 rfl rfl)
theorem dX2_pointsOf_20 : decode cX2_pointsOf 20 = .ok (.invokevirtual 90, 3) := dk_182 0 90 (dk_at dksX2_pointsOf_0 20 rfl rfl)
theorem dX2_pointsOf_23 : decode cX2_pointsOf 23 = .ok (.imul, 1) := dk_104 (dk_at dksX2_pointsOf_0 23 rfl rfl)
theorem dX2_pointsOf_24 : decode cX2_pointsOf 24 = .ok (.iadd, 1) := dk_96 (dk_at dksX2_pointsOf_1 0 rfl rfl)
theorem dX2_pointsOf_25 : decode cX2_pointsOf 25 = .ok (.iconst 2, 1) := dk_5 (dk_at dksX2_pointsOf_1 1 rfl rfl)
theorem dX2_pointsOf_26 : decode cX2_pointsOf 26 = .ok (.aload_n 0, 1) := dk_42 (dk_at dksX2_pointsOf_1 2 rfl rfl)
theorem dX2_pointsOf_27 : decode cX2_pointsOf 27 = .ok (.getfield 29, 3) := dk_180 0 29 (dk_at dksX2_pointsOf_1 3 rfl rfl)
theorem dX2_pointsOf_30 : decode cX2_pointsOf 30 = .ok (.iload_n 1, 1) := dk_27 (dk_at dksX2_pointsOf_1 6 rfl rfl)
theorem dX2_pointsOf_31 : decode cX2_pointsOf 31 = .ok (.iaload, 1) := dk_46 (dk_at dksX2_pointsOf_1 7 rfl rfl)
theorem dX2_pointsOf_32 : decode cX2_pointsOf 32 = .ok (.aload_n 0, 1) := dk_42 (dk_at dksX2_pointsOf_1 8 rfl rfl)
theorem dX2_pointsOf_33 : decode cX2_pointsOf 33 = .ok (.iload_n 1, 1) := dk_27 (dk_at dksX2_pointsOf_1 9 rfl rfl)
theorem dX2_pointsOf_34 : decode cX2_pointsOf 34 = .ok (.iconst 0, 1) := dk_3 (dk_at dksX2_pointsOf_1 10 rfl rfl)
theorem dX2_pointsOf_35 : decode cX2_pointsOf 35 = .ok (.invokevirtual 56, 3) := dk_182 0 56 (dk_at dksX2_pointsOf_1 11 rfl rfl)
theorem dX2_pointsOf_38 : decode cX2_pointsOf 38 = .ok (.isub, 1) := dk_100 (dk_at dksX2_pointsOf_1 14 rfl rfl)
theorem dX2_pointsOf_39 : decode cX2_pointsOf 39 = .ok (.invokestatic 77, 3) := dk_184 0 77 (dk_at dksX2_pointsOf_1 15 rfl rfl)
theorem dX2_pointsOf_42 : decode cX2_pointsOf 42 = .ok (.imul, 1) := dk_104 (dk_at dksX2_pointsOf_1 18 rfl rfl)
theorem dX2_pointsOf_43 : decode cX2_pointsOf 43 = .ok (.isub, 1) := dk_100 (dk_at dksX2_pointsOf_1 19 rfl rfl)
theorem dX2_pointsOf_44 : decode cX2_pointsOf 44 = .ok (.istore_n 2, 1) := dk_61 (dk_at dksX2_pointsOf_1 20 rfl rfl)
theorem dX2_pointsOf_45 : decode cX2_pointsOf 45 = .ok (.iload_n 2, 1) := dk_28 (dk_at dksX2_pointsOf_1 21 rfl rfl)
theorem dX2_pointsOf_46 : decode cX2_pointsOf 46 = .ok (.ifCond .ge 7, 3) := dk_156 0 7 (dk_at dksX2_pointsOf_2 0 rfl rfl)
theorem dX2_pointsOf_49 : decode cX2_pointsOf 49 = .ok (.iconst 0, 1) := dk_3 (dk_at dksX2_pointsOf_2 3 rfl rfl)
theorem dX2_pointsOf_50 : decode cX2_pointsOf 50 = .ok (.goto 17, 3) := dk_167 0 17 (dk_at dksX2_pointsOf_2 4 rfl rfl)
theorem dX2_pointsOf_53 : decode cX2_pointsOf 53 = .ok (.iload_n 2, 1) := dk_28 (dk_at dksX2_pointsOf_2 7 rfl rfl)
theorem dX2_pointsOf_54 : decode cX2_pointsOf 54 = .ok (.bipush 10, 2) := dk_16 10 (dk_at dksX2_pointsOf_2 8 rfl rfl)
theorem dX2_pointsOf_56 : decode cX2_pointsOf 56 = .ok (.aload_n 0, 1) := dk_42 (dk_at dksX2_pointsOf_2 10 rfl rfl)
theorem dX2_pointsOf_57 : decode cX2_pointsOf 57 = .ok (.getfield 35, 3) := dk_180 0 35 (dk_at dksX2_pointsOf_2 11 rfl rfl)
theorem dX2_pointsOf_60 : decode cX2_pointsOf 60 = .ok (.iload_n 1, 1) := dk_27 (dk_at dksX2_pointsOf_2 14 rfl rfl)
theorem dX2_pointsOf_61 : decode cX2_pointsOf 61 = .ok (.iaload, 1) := dk_46 (dk_at dksX2_pointsOf_2 15 rfl rfl)
theorem dX2_pointsOf_62 : decode cX2_pointsOf 62 = .ok (.iadd, 1) := dk_96 (dk_at dksX2_pointsOf_2 16 rfl rfl)
theorem dX2_pointsOf_63 : decode cX2_pointsOf 63 = .ok (.imul, 1) := dk_104 (dk_at dksX2_pointsOf_2 17 rfl rfl)
theorem dX2_pointsOf_64 : decode cX2_pointsOf 64 = .ok (.bipush 10, 2) := dk_16 10 (dk_at dksX2_pointsOf_2 18 rfl rfl)
theorem dX2_pointsOf_66 : decode cX2_pointsOf 66 = .ok (.idiv, 1) := dk_108 (dk_at dksX2_pointsOf_2 20 rfl rfl)
theorem dX2_pointsOf_67 : decode cX2_pointsOf 67 = .ok (.ireturn, 1) := dk_172 (dk_at dksX2_pointsOf_2 21 rfl rfl)
abbrev cX2_bars : ByteArray := prog_9_method_24_code
def yX2_bars : MethodName := ⟨RX2, "bars", "(IZ)I"⟩
def dkwX2_bars_3 : List UInt8 := [132, 4, 1, 167, 255, 197, 29, 172]
abbrev dktX2_bars_3 : List UInt8 := dkwX2_bars_3 ++ []
def dkwX2_bars_2 : List UInt8 := [153, 0, 19, 42, 27, 21, 4, 4, 100, 182, 0, 86, 153, 0, 7, 4, 167, 0, 4, 3, 96, 62]
abbrev dktX2_bars_2 : List UInt8 := dkwX2_bars_2 ++ dktX2_bars_3
def dkwX2_bars_1 : List UInt8 := [21, 4, 42, 180, 0, 7, 3, 46, 112, 154, 0, 33, 28, 153, 0, 25, 42, 27, 21, 4, 182, 0, 86]
abbrev dktX2_bars_1 : List UInt8 := dkwX2_bars_1 ++ dktX2_bars_2
def dkwX2_bars_0 : List UInt8 := [3, 62, 42, 27, 3, 182, 0, 56, 4, 96, 54, 4, 21, 4, 42, 27, 182, 0, 60, 162, 0, 55, 29]
abbrev dktX2_bars_0 : List UInt8 := dkwX2_bars_0 ++ dktX2_bars_1
theorem dksX2_bars_0 : cX2_bars.data.toList.drop 0 = dktX2_bars_0 := by decide +kernel
theorem dksX2_bars_1 : cX2_bars.data.toList.drop 23 = dktX2_bars_1 := dk_seg dksX2_bars_0 23 rfl rfl
theorem dksX2_bars_2 : cX2_bars.data.toList.drop 46 = dktX2_bars_2 := dk_seg dksX2_bars_1 23 rfl rfl
theorem dksX2_bars_3 : cX2_bars.data.toList.drop 68 = dktX2_bars_3 := dk_seg dksX2_bars_2 22 rfl rfl
theorem dX2_bars_0 : decode cX2_bars 0 = .ok (.iconst 0, 1) := dk_3 (dk_at dksX2_bars_0 0 rfl rfl)
theorem dX2_bars_1 : decode cX2_bars 1 = .ok (.istore_n 3, 1) := dk_62 (dk_at dksX2_bars_0 1 rfl rfl)
theorem dX2_bars_2 : decode cX2_bars 2 = .ok (.aload_n 0, 1) := dk_42 (dk_at dksX2_bars_0 2 rfl rfl)
theorem dX2_bars_3 : decode cX2_bars 3 = .ok (.iload_n 1, 1) := dk_27 (dk_at dksX2_bars_0 3 rfl rfl)
theorem dX2_bars_4 : decode cX2_bars 4 = .ok (.iconst 0, 1) := dk_3 (dk_at dksX2_bars_0 4 rfl rfl)
theorem dX2_bars_5 : decode cX2_bars 5 = .ok (.invokevirtual 56, 3) := dk_182 0 56 (dk_at dksX2_bars_0 5 rfl rfl)
theorem dX2_bars_8 : decode cX2_bars 8 = .ok (.iconst 1, 1) := dk_4 (dk_at dksX2_bars_0 8 rfl rfl)
theorem dX2_bars_9 : decode cX2_bars 9 = .ok (.iadd, 1) := dk_96 (dk_at dksX2_bars_0 9 rfl rfl)
theorem dX2_bars_10 : decode cX2_bars 10 = .ok (.istore 4, 2) := dk_54 4 (dk_at dksX2_bars_0 10 rfl rfl)
theorem dX2_bars_12 : decode cX2_bars 12 = .ok (.iload 4, 2) := dk_21 4 (dk_at dksX2_bars_0 12 rfl rfl)
theorem dX2_bars_14 : decode cX2_bars 14 = .ok (.aload_n 0, 1) := dk_42 (dk_at dksX2_bars_0 14 rfl rfl)
theorem dX2_bars_15 : decode cX2_bars 15 = .ok (.iload_n 1, 1) := dk_27 (dk_at dksX2_bars_0 15 rfl rfl)
theorem dX2_bars_16 : decode cX2_bars 16 = .ok (.invokevirtual 60, 3) := dk_182 0 60 (dk_at dksX2_bars_0 16 rfl rfl)
theorem dX2_bars_19 : decode cX2_bars 19 = .ok (.if_icmp .ge 55, 3) := dk_162 0 55 (dk_at dksX2_bars_0 19 rfl rfl)
theorem dX2_bars_22 : decode cX2_bars 22 = .ok (.iload_n 3, 1) := dk_29 (dk_at dksX2_bars_0 22 rfl rfl)
theorem dX2_bars_23 : decode cX2_bars 23 = .ok (.iload 4, 2) := dk_21 4 (dk_at dksX2_bars_1 0 rfl rfl)
theorem dX2_bars_25 : decode cX2_bars 25 = .ok (.aload_n 0, 1) := dk_42 (dk_at dksX2_bars_1 2 rfl rfl)
theorem dX2_bars_26 : decode cX2_bars 26 = .ok (.getfield 7, 3) := dk_180 0 7 (dk_at dksX2_bars_1 3 rfl rfl)
theorem dX2_bars_29 : decode cX2_bars 29 = .ok (.iconst 0, 1) := dk_3 (dk_at dksX2_bars_1 6 rfl rfl)
theorem dX2_bars_30 : decode cX2_bars 30 = .ok (.iaload, 1) := dk_46 (dk_at dksX2_bars_1 7 rfl rfl)
theorem dX2_bars_31 : decode cX2_bars 31 = .ok (.irem, 1) := dk_112 (dk_at dksX2_bars_1 8 rfl rfl)
theorem dX2_bars_32 : decode cX2_bars 32 = .ok (.ifCond .ne 33, 3) := dk_154 0 33 (dk_at dksX2_bars_1 9 rfl rfl)
theorem dX2_bars_35 : decode cX2_bars 35 = .ok (.iload_n 2, 1) := dk_28 (dk_at dksX2_bars_1 12 rfl rfl)
theorem dX2_bars_36 : decode cX2_bars 36 = .ok (.ifCond .eq 25, 3) := dk_153 0 25 (dk_at dksX2_bars_1 13 rfl rfl)
theorem dX2_bars_39 : decode cX2_bars 39 = .ok (.aload_n 0, 1) := dk_42 (dk_at dksX2_bars_1 16 rfl rfl)
theorem dX2_bars_40 : decode cX2_bars 40 = .ok (.iload_n 1, 1) := dk_27 (dk_at dksX2_bars_1 17 rfl rfl)
theorem dX2_bars_41 : decode cX2_bars 41 = .ok (.iload 4, 2) := dk_21 4 (dk_at dksX2_bars_1 18 rfl rfl)
theorem dX2_bars_43 : decode cX2_bars 43 = .ok (.invokevirtual 86, 3) := dk_182 0 86 (dk_at dksX2_bars_1 20 rfl rfl)
theorem dX2_bars_46 : decode cX2_bars 46 = .ok (.ifCond .eq 19, 3) := dk_153 0 19 (dk_at dksX2_bars_2 0 rfl rfl)
theorem dX2_bars_49 : decode cX2_bars 49 = .ok (.aload_n 0, 1) := dk_42 (dk_at dksX2_bars_2 3 rfl rfl)
theorem dX2_bars_50 : decode cX2_bars 50 = .ok (.iload_n 1, 1) := dk_27 (dk_at dksX2_bars_2 4 rfl rfl)
theorem dX2_bars_51 : decode cX2_bars 51 = .ok (.iload 4, 2) := dk_21 4 (dk_at dksX2_bars_2 5 rfl rfl)
theorem dX2_bars_53 : decode cX2_bars 53 = .ok (.iconst 1, 1) := dk_4 (dk_at dksX2_bars_2 7 rfl rfl)
theorem dX2_bars_54 : decode cX2_bars 54 = .ok (.isub, 1) := dk_100 (dk_at dksX2_bars_2 8 rfl rfl)
theorem dX2_bars_55 : decode cX2_bars 55 = .ok (.invokevirtual 86, 3) := dk_182 0 86 (dk_at dksX2_bars_2 9 rfl rfl)
theorem dX2_bars_58 : decode cX2_bars 58 = .ok (.ifCond .eq 7, 3) := dk_153 0 7 (dk_at dksX2_bars_2 12 rfl rfl)
theorem dX2_bars_61 : decode cX2_bars 61 = .ok (.iconst 1, 1) := dk_4 (dk_at dksX2_bars_2 15 rfl rfl)
theorem dX2_bars_62 : decode cX2_bars 62 = .ok (.goto 4, 3) := dk_167 0 4 (dk_at dksX2_bars_2 16 rfl rfl)
theorem dX2_bars_65 : decode cX2_bars 65 = .ok (.iconst 0, 1) := dk_3 (dk_at dksX2_bars_2 19 rfl rfl)
theorem dX2_bars_66 : decode cX2_bars 66 = .ok (.iadd, 1) := dk_96 (dk_at dksX2_bars_2 20 rfl rfl)
theorem dX2_bars_67 : decode cX2_bars 67 = .ok (.istore_n 3, 1) := dk_62 (dk_at dksX2_bars_2 21 rfl rfl)
theorem dX2_bars_68 : decode cX2_bars 68 = .ok (.iinc 4 1, 3) := dk_132 4 1 (dk_at dksX2_bars_3 0 rfl rfl)
theorem dX2_bars_71 : decode cX2_bars 71 = .ok (.goto (-59), 3) := dk_167 255 197 (dk_at dksX2_bars_3 3 rfl rfl)
theorem dX2_bars_74 : decode cX2_bars 74 = .ok (.iload_n 3, 1) := dk_29 (dk_at dksX2_bars_3 6 rfl rfl)
theorem dX2_bars_75 : decode cX2_bars 75 = .ok (.ireturn, 1) := dk_172 (dk_at dksX2_bars_3 7 rfl rfl)
abbrev cX2_hits : ByteArray := prog_9_method_30_code
def yX2_hits : MethodName := ⟨RX2, "hits", "()I"⟩
def dkwX2_hits_1 : List UInt8 := [4, 167, 0, 4, 3, 96, 60, 132, 2, 1, 167, 255, 226, 27, 172]
abbrev dktX2_hits_1 : List UInt8 := dkwX2_hits_1 ++ []
def dkwX2_hits_0 : List UInt8 := [3, 60, 3, 61, 28, 42, 180, 0, 7, 8, 46, 162, 0, 26, 27, 42, 180, 0, 32, 28, 46, 154, 0, 7]
abbrev dktX2_hits_0 : List UInt8 := dkwX2_hits_0 ++ dktX2_hits_1
theorem dksX2_hits_0 : cX2_hits.data.toList.drop 0 = dktX2_hits_0 := by decide +kernel
theorem dksX2_hits_1 : cX2_hits.data.toList.drop 24 = dktX2_hits_1 := dk_seg dksX2_hits_0 24 rfl rfl
theorem dX2_hits_0 : decode cX2_hits 0 = .ok (.iconst 0, 1) := dk_3 (dk_at dksX2_hits_0 0 rfl rfl)
theorem dX2_hits_1 : decode cX2_hits 1 = .ok (.istore_n 1, 1) := dk_60 (dk_at dksX2_hits_0 1 rfl rfl)
theorem dX2_hits_2 : decode cX2_hits 2 = .ok (.iconst 0, 1) := dk_3 (dk_at dksX2_hits_0 2 rfl rfl)
theorem dX2_hits_3 : decode cX2_hits 3 = .ok (.istore_n 2, 1) := dk_61 (dk_at dksX2_hits_0 3 rfl rfl)
theorem dX2_hits_4 : decode cX2_hits 4 = .ok (.iload_n 2, 1) := dk_28 (dk_at dksX2_hits_0 4 rfl rfl)
theorem dX2_hits_5 : decode cX2_hits 5 = .ok (.aload_n 0, 1) := dk_42 (dk_at dksX2_hits_0 5 rfl rfl)
theorem dX2_hits_6 : decode cX2_hits 6 = .ok (.getfield 7, 3) := dk_180 0 7 (dk_at dksX2_hits_0 6 rfl rfl)
theorem dX2_hits_9 : decode cX2_hits 9 = .ok (.iconst 5, 1) := dk_8 (dk_at dksX2_hits_0 9 rfl rfl)
theorem dX2_hits_10 : decode cX2_hits 10 = .ok (.iaload, 1) := dk_46 (dk_at dksX2_hits_0 10 rfl rfl)
theorem dX2_hits_11 : decode cX2_hits 11 = .ok (.if_icmp .ge 26, 3) := dk_162 0 26 (dk_at dksX2_hits_0 11 rfl rfl)
theorem dX2_hits_14 : decode cX2_hits 14 = .ok (.iload_n 1, 1) := dk_27 (dk_at dksX2_hits_0 14 rfl rfl)
theorem dX2_hits_15 : decode cX2_hits 15 = .ok (.aload_n 0, 1) := dk_42 (dk_at dksX2_hits_0 15 rfl rfl)
theorem dX2_hits_16 : decode cX2_hits 16 = .ok (.getfield 32, 3) := dk_180 0 32 (dk_at dksX2_hits_0 16 rfl rfl)
theorem dX2_hits_19 : decode cX2_hits 19 = .ok (.iload_n 2, 1) := dk_28 (dk_at dksX2_hits_0 19 rfl rfl)
theorem dX2_hits_20 : decode cX2_hits 20 = .ok (.iaload, 1) := dk_46 (dk_at dksX2_hits_0 20 rfl rfl)
theorem dX2_hits_21 : decode cX2_hits 21 = .ok (.ifCond .ne 7, 3) := dk_154 0 7 (dk_at dksX2_hits_0 21 rfl rfl)
theorem dX2_hits_24 : decode cX2_hits 24 = .ok (.iconst 1, 1) := dk_4 (dk_at dksX2_hits_1 0 rfl rfl)
theorem dX2_hits_25 : decode cX2_hits 25 = .ok (.goto 4, 3) := dk_167 0 4 (dk_at dksX2_hits_1 1 rfl rfl)
theorem dX2_hits_28 : decode cX2_hits 28 = .ok (.iconst 0, 1) := dk_3 (dk_at dksX2_hits_1 4 rfl rfl)
theorem dX2_hits_29 : decode cX2_hits 29 = .ok (.iadd, 1) := dk_96 (dk_at dksX2_hits_1 5 rfl rfl)
theorem dX2_hits_30 : decode cX2_hits 30 = .ok (.istore_n 1, 1) := dk_60 (dk_at dksX2_hits_1 6 rfl rfl)
theorem dX2_hits_31 : decode cX2_hits 31 = .ok (.iinc 2 1, 3) := dk_132 2 1 (dk_at dksX2_hits_1 7 rfl rfl)
theorem dX2_hits_34 : decode cX2_hits 34 = .ok (.goto (-30), 3) := dk_167 255 226 (dk_at dksX2_hits_1 10 rfl rfl)
theorem dX2_hits_37 : decode cX2_hits 37 = .ok (.iload_n 1, 1) := dk_27 (dk_at dksX2_hits_1 13 rfl rfl)
theorem dX2_hits_38 : decode cX2_hits 38 = .ok (.ireturn, 1) := dk_172 (dk_at dksX2_hits_1 14 rfl rfl)
abbrev cX2_silence : ByteArray := prog_9_method_39_code
def yX2_silence : MethodName := ⟨RX2, "silence", "(II)I"⟩
def dkwX2_silence_3 : List UInt8 := [180, 0, 7, 17, 0, 206, 21, 4, 96, 3, 79, 132, 4, 1, 167, 255, 211, 29, 172]
abbrev dktX2_silence_3 : List UInt8 := dkwX2_silence_3 ++ []
def dkwX2_silence_2 : List UInt8 := [42, 180, 0, 7, 17, 0, 206, 21, 4, 96, 46, 158, 0, 7, 4, 167, 0, 4, 3, 96, 62, 42]
abbrev dktX2_silence_2 : List UInt8 := dkwX2_silence_2 ++ dktX2_silence_3
def dkwX2_silence_1 : List UInt8 := [164, 0, 6, 16, 254, 172, 42, 182, 0, 128, 3, 62, 27, 54, 4, 21, 4, 27, 28, 96, 162, 0, 43, 29]
abbrev dktX2_silence_1 : List UInt8 := dkwX2_silence_1 ++ dktX2_silence_2
def dkwX2_silence_0 : List UInt8 := [27, 184, 0, 67, 153, 0, 23, 28, 4, 17, 2, 88, 184, 0, 44, 153, 0, 12, 27, 28, 96, 17, 2, 88]
abbrev dktX2_silence_0 : List UInt8 := dkwX2_silence_0 ++ dktX2_silence_1
theorem dksX2_silence_0 : cX2_silence.data.toList.drop 0 = dktX2_silence_0 := by decide +kernel
theorem dksX2_silence_1 : cX2_silence.data.toList.drop 24 = dktX2_silence_1 := dk_seg dksX2_silence_0 24 rfl rfl
theorem dksX2_silence_2 : cX2_silence.data.toList.drop 48 = dktX2_silence_2 := dk_seg dksX2_silence_1 24 rfl rfl
theorem dksX2_silence_3 : cX2_silence.data.toList.drop 70 = dktX2_silence_3 := dk_seg dksX2_silence_2 22 rfl rfl
theorem dX2_silence_0 : decode cX2_silence 0 = .ok (.iload_n 1, 1) := dk_27 (dk_at dksX2_silence_0 0 rfl rfl)
theorem dX2_silence_1 : decode cX2_silence 1 = .ok (.invokestatic 67, 3) := dk_184 0 67 (dk_at dksX2_silence_0 1 rfl rfl)
theorem dX2_silence_4 : decode cX2_silence 4 = .ok (.ifCond .eq 23, 3) := dk_153 0 23 (dk_at dksX2_silence_0 4 rfl rfl)
theorem dX2_silence_7 : decode cX2_silence 7 = .ok (.iload_n 2, 1) := dk_28 (dk_at dksX2_silence_0 7 rfl rfl)
theorem dX2_silence_8 : decode cX2_silence 8 = .ok (.iconst 1, 1) := dk_4 (dk_at dksX2_silence_0 8 rfl rfl)
theorem dX2_silence_9 : decode cX2_silence 9 = .ok (.sipush 600, 3) := dk_17 2 88 (dk_at dksX2_silence_0 9 rfl rfl)
theorem dX2_silence_12 : decode cX2_silence 12 = .ok (.invokestatic 44, 3) := dk_184 0 44 (dk_at dksX2_silence_0 12 rfl rfl)
theorem dX2_silence_15 : decode cX2_silence 15 = .ok (.ifCond .eq 12, 3) := dk_153 0 12 (dk_at dksX2_silence_0 15 rfl rfl)
theorem dX2_silence_18 : decode cX2_silence 18 = .ok (.iload_n 1, 1) := dk_27 (dk_at dksX2_silence_0 18 rfl rfl)
theorem dX2_silence_19 : decode cX2_silence 19 = .ok (.iload_n 2, 1) := dk_28 (dk_at dksX2_silence_0 19 rfl rfl)
theorem dX2_silence_20 : decode cX2_silence 20 = .ok (.iadd, 1) := dk_96 (dk_at dksX2_silence_0 20 rfl rfl)
theorem dX2_silence_21 : decode cX2_silence 21 = .ok (.sipush 600, 3) := dk_17 2 88 (dk_at dksX2_silence_0 21 rfl rfl)
theorem dX2_silence_24 : decode cX2_silence 24 = .ok (.if_icmp .le 6, 3) := dk_164 0 6 (dk_at dksX2_silence_1 0 rfl rfl)
theorem dX2_silence_27 : decode cX2_silence 27 = .ok (.bipush (-2), 2) := dk_16 254 (dk_at dksX2_silence_1 3 rfl rfl)
theorem dX2_silence_29 : decode cX2_silence 29 = .ok (.ireturn, 1) := dk_172 (dk_at dksX2_silence_1 5 rfl rfl)
theorem dX2_silence_30 : decode cX2_silence 30 = .ok (.aload_n 0, 1) := dk_42 (dk_at dksX2_silence_1 6 rfl rfl)
theorem dX2_silence_31 : decode cX2_silence 31 = .ok (.invokevirtual 128, 3) := dk_182 0 128 (dk_at dksX2_silence_1 7 rfl rfl)
theorem dX2_silence_34 : decode cX2_silence 34 = .ok (.iconst 0, 1) := dk_3 (dk_at dksX2_silence_1 10 rfl rfl)
theorem dX2_silence_35 : decode cX2_silence 35 = .ok (.istore_n 3, 1) := dk_62 (dk_at dksX2_silence_1 11 rfl rfl)
theorem dX2_silence_36 : decode cX2_silence 36 = .ok (.iload_n 1, 1) := dk_27 (dk_at dksX2_silence_1 12 rfl rfl)
theorem dX2_silence_37 : decode cX2_silence 37 = .ok (.istore 4, 2) := dk_54 4 (dk_at dksX2_silence_1 13 rfl rfl)
theorem dX2_silence_39 : decode cX2_silence 39 = .ok (.iload 4, 2) := dk_21 4 (dk_at dksX2_silence_1 15 rfl rfl)
theorem dX2_silence_41 : decode cX2_silence 41 = .ok (.iload_n 1, 1) := dk_27 (dk_at dksX2_silence_1 17 rfl rfl)
theorem dX2_silence_42 : decode cX2_silence 42 = .ok (.iload_n 2, 1) := dk_28 (dk_at dksX2_silence_1 18 rfl rfl)
theorem dX2_silence_43 : decode cX2_silence 43 = .ok (.iadd, 1) := dk_96 (dk_at dksX2_silence_1 19 rfl rfl)
theorem dX2_silence_44 : decode cX2_silence 44 = .ok (.if_icmp .ge 43, 3) := dk_162 0 43 (dk_at dksX2_silence_1 20 rfl rfl)
theorem dX2_silence_47 : decode cX2_silence 47 = .ok (.iload_n 3, 1) := dk_29 (dk_at dksX2_silence_1 23 rfl rfl)
theorem dX2_silence_48 : decode cX2_silence 48 = .ok (.aload_n 0, 1) := dk_42 (dk_at dksX2_silence_2 0 rfl rfl)
theorem dX2_silence_49 : decode cX2_silence 49 = .ok (.getfield 7, 3) := dk_180 0 7 (dk_at dksX2_silence_2 1 rfl rfl)
theorem dX2_silence_52 : decode cX2_silence 52 = .ok (.sipush 206, 3) := dk_17 0 206 (dk_at dksX2_silence_2 4 rfl rfl)
theorem dX2_silence_55 : decode cX2_silence 55 = .ok (.iload 4, 2) := dk_21 4 (dk_at dksX2_silence_2 7 rfl rfl)
theorem dX2_silence_57 : decode cX2_silence 57 = .ok (.iadd, 1) := dk_96 (dk_at dksX2_silence_2 9 rfl rfl)
theorem dX2_silence_58 : decode cX2_silence 58 = .ok (.iaload, 1) := dk_46 (dk_at dksX2_silence_2 10 rfl rfl)
theorem dX2_silence_59 : decode cX2_silence 59 = .ok (.ifCond .le 7, 3) := dk_158 0 7 (dk_at dksX2_silence_2 11 rfl rfl)
theorem dX2_silence_62 : decode cX2_silence 62 = .ok (.iconst 1, 1) := dk_4 (dk_at dksX2_silence_2 14 rfl rfl)
theorem dX2_silence_63 : decode cX2_silence 63 = .ok (.goto 4, 3) := dk_167 0 4 (dk_at dksX2_silence_2 15 rfl rfl)
theorem dX2_silence_66 : decode cX2_silence 66 = .ok (.iconst 0, 1) := dk_3 (dk_at dksX2_silence_2 18 rfl rfl)
theorem dX2_silence_67 : decode cX2_silence 67 = .ok (.iadd, 1) := dk_96 (dk_at dksX2_silence_2 19 rfl rfl)
theorem dX2_silence_68 : decode cX2_silence 68 = .ok (.istore_n 3, 1) := dk_62 (dk_at dksX2_silence_2 20 rfl rfl)
theorem dX2_silence_69 : decode cX2_silence 69 = .ok (.aload_n 0, 1) := dk_42 (dk_at dksX2_silence_2 21 rfl rfl)
theorem dX2_silence_70 : decode cX2_silence 70 = .ok (.getfield 7, 3) := dk_180 0 7 (dk_at dksX2_silence_3 0 rfl rfl)
theorem dX2_silence_73 : decode cX2_silence 73 = .ok (.sipush 206, 3) := dk_17 0 206 (dk_at dksX2_silence_3 3 rfl rfl)
theorem dX2_silence_76 : decode cX2_silence 76 = .ok (.iload 4, 2) := dk_21 4 (dk_at dksX2_silence_3 6 rfl rfl)
theorem dX2_silence_78 : decode cX2_silence 78 = .ok (.iadd, 1) := dk_96 (dk_at dksX2_silence_3 8 rfl rfl)
theorem dX2_silence_79 : decode cX2_silence 79 = .ok (.iconst 0, 1) := dk_3 (dk_at dksX2_silence_3 9 rfl rfl)
theorem dX2_silence_80 : decode cX2_silence 80 = .ok (.iastore, 1) := dk_79 (dk_at dksX2_silence_3 10 rfl rfl)
theorem dX2_silence_81 : decode cX2_silence 81 = .ok (.iinc 4 1, 3) := dk_132 4 1 (dk_at dksX2_silence_3 11 rfl rfl)
theorem dX2_silence_84 : decode cX2_silence 84 = .ok (.goto (-45), 3) := dk_167 255 211 (dk_at dksX2_silence_3 14 rfl rfl)
theorem dX2_silence_87 : decode cX2_silence 87 = .ok (.iload_n 3, 1) := dk_29 (dk_at dksX2_silence_3 17 rfl rfl)
theorem dX2_silence_88 : decode cX2_silence 88 = .ok (.ireturn, 1) := dk_172 (dk_at dksX2_silence_3 18 rfl rfl)
abbrev cX2_singAlong : ByteArray := prog_9_method_40_code
def yX2_singAlong : MethodName := ⟨RX2, "singAlong", "(III)I"⟩
def dkwX2_singAlong_5 : List UInt8 := [132, 5, 1, 167, 255, 195, 132, 4, 1, 167, 255, 174, 42, 182, 0, 138, 42, 182, 0, 141, 172]
abbrev dktX2_singAlong_5 : List UInt8 := dkwX2_singAlong_5 ++ []
def dkwX2_singAlong_4 : List UInt8 := [17, 0, 206, 21, 5, 96, 21, 6, 184, 0, 71, 153, 0, 10, 21, 6, 4, 96, 167, 0, 4, 3, 79]
abbrev dktX2_singAlong_4 : List UInt8 := dkwX2_singAlong_4 ++ dktX2_singAlong_5
def dkwX2_singAlong_3 : List UInt8 := [21, 4, 21, 5, 42, 21, 4, 3, 182, 0, 56, 100, 182, 0, 74, 29, 96, 54, 6, 42, 180, 0, 7]
abbrev dktX2_singAlong_3 : List UInt8 := dkwX2_singAlong_3 ++ dktX2_singAlong_4
def dkwX2_singAlong_2 : List UInt8 := [163, 0, 82, 42, 21, 4, 3, 182, 0, 56, 54, 5, 21, 5, 42, 21, 4, 182, 0, 60, 162, 0, 56, 42]
abbrev dktX2_singAlong_2 : List UInt8 := dkwX2_singAlong_2 ++ dktX2_singAlong_3
def dkwX2_singAlong_1 : List UInt8 := [16, 196, 16, 60, 184, 0, 44, 154, 0, 6, 16, 254, 172, 42, 182, 0, 128, 27, 54, 4, 21, 4, 28]
abbrev dktX2_singAlong_1 : List UInt8 := dkwX2_singAlong_1 ++ dktX2_singAlong_2
def dkwX2_singAlong_0 : List UInt8 := [42, 27, 182, 0, 144, 153, 0, 11, 42, 28, 182, 0, 144, 154, 0, 5, 2, 172, 28, 27, 161, 0, 14, 29]
abbrev dktX2_singAlong_0 : List UInt8 := dkwX2_singAlong_0 ++ dktX2_singAlong_1
theorem dksX2_singAlong_0 : cX2_singAlong.data.toList.drop 0 = dktX2_singAlong_0 := by decide +kernel
theorem dksX2_singAlong_1 : cX2_singAlong.data.toList.drop 24 = dktX2_singAlong_1 := dk_seg dksX2_singAlong_0 24 rfl rfl
theorem dksX2_singAlong_2 : cX2_singAlong.data.toList.drop 47 = dktX2_singAlong_2 := dk_seg dksX2_singAlong_1 23 rfl rfl
theorem dksX2_singAlong_3 : cX2_singAlong.data.toList.drop 71 = dktX2_singAlong_3 := dk_seg dksX2_singAlong_2 24 rfl rfl
theorem dksX2_singAlong_4 : cX2_singAlong.data.toList.drop 94 = dktX2_singAlong_4 := dk_seg dksX2_singAlong_3 23 rfl rfl
theorem dksX2_singAlong_5 : cX2_singAlong.data.toList.drop 117 = dktX2_singAlong_5 := dk_seg dksX2_singAlong_4 23 rfl rfl
theorem dX2_singAlong_0 : decode cX2_singAlong 0 = .ok (.aload_n 0, 1) := dk_42 (dk_at dksX2_singAlong_0 0 rfl rfl)
theorem dX2_singAlong_1 : decode cX2_singAlong 1 = .ok (.iload_n 1, 1) := dk_27 (dk_at dksX2_singAlong_0 1 rfl rfl)
theorem dX2_singAlong_2 : decode cX2_singAlong 2 = .ok (.invokevirtual 144, 3) := dk_182 0 144 (dk_at dksX2_singAlong_0 2 rfl rfl)
theorem dX2_singAlong_5 : decode cX2_singAlong 5 = .ok (.ifCond .eq 11, 3) := dk_153 0 11 (dk_at dksX2_singAlong_0 5 rfl rfl)
theorem dX2_singAlong_8 : decode cX2_singAlong 8 = .ok (.aload_n 0, 1) := dk_42 (dk_at dksX2_singAlong_0 8 rfl rfl)
theorem dX2_singAlong_9 : decode cX2_singAlong 9 = .ok (.iload_n 2, 1) := dk_28 (dk_at dksX2_singAlong_0 9 rfl rfl)
theorem dX2_singAlong_10 : decode cX2_singAlong 10 = .ok (.invokevirtual 144, 3) := dk_182 0 144 (dk_at dksX2_singAlong_0 10 rfl rfl)
theorem dX2_singAlong_13 : decode cX2_singAlong 13 = .ok (.ifCond .ne 5, 3) := dk_154 0 5 (dk_at dksX2_singAlong_0 13 rfl rfl)
theorem dX2_singAlong_16 : decode cX2_singAlong 16 = .ok (.iconst (-1), 1) := dk_2 (dk_at dksX2_singAlong_0 16 rfl rfl)
theorem dX2_singAlong_17 : decode cX2_singAlong 17 = .ok (.ireturn, 1) := dk_172 (dk_at dksX2_singAlong_0 17 rfl rfl)
theorem dX2_singAlong_18 : decode cX2_singAlong 18 = .ok (.iload_n 2, 1) := dk_28 (dk_at dksX2_singAlong_0 18 rfl rfl)
theorem dX2_singAlong_19 : decode cX2_singAlong 19 = .ok (.iload_n 1, 1) := dk_27 (dk_at dksX2_singAlong_0 19 rfl rfl)
theorem dX2_singAlong_20 : decode cX2_singAlong 20 = .ok (.if_icmp .lt 14, 3) := dk_161 0 14 (dk_at dksX2_singAlong_0 20 rfl rfl)
theorem dX2_singAlong_23 : decode cX2_singAlong 23 = .ok (.iload_n 3, 1) := dk_29 (dk_at dksX2_singAlong_0 23 rfl rfl)
theorem dX2_singAlong_24 : decode cX2_singAlong 24 = .ok (.bipush (-60), 2) := dk_16 196 (dk_at dksX2_singAlong_1 0 rfl rfl)
theorem dX2_singAlong_26 : decode cX2_singAlong 26 = .ok (.bipush 60, 2) := dk_16 60 (dk_at dksX2_singAlong_1 2 rfl rfl)
theorem dX2_singAlong_28 : decode cX2_singAlong 28 = .ok (.invokestatic 44, 3) := dk_184 0 44 (dk_at dksX2_singAlong_1 4 rfl rfl)
theorem dX2_singAlong_31 : decode cX2_singAlong 31 = .ok (.ifCond .ne 6, 3) := dk_154 0 6 (dk_at dksX2_singAlong_1 7 rfl rfl)
theorem dX2_singAlong_34 : decode cX2_singAlong 34 = .ok (.bipush (-2), 2) := dk_16 254 (dk_at dksX2_singAlong_1 10 rfl rfl)
theorem dX2_singAlong_36 : decode cX2_singAlong 36 = .ok (.ireturn, 1) := dk_172 (dk_at dksX2_singAlong_1 12 rfl rfl)
theorem dX2_singAlong_37 : decode cX2_singAlong 37 = .ok (.aload_n 0, 1) := dk_42 (dk_at dksX2_singAlong_1 13 rfl rfl)
theorem dX2_singAlong_38 : decode cX2_singAlong 38 = .ok (.invokevirtual 128, 3) := dk_182 0 128 (dk_at dksX2_singAlong_1 14 rfl rfl)
theorem dX2_singAlong_41 : decode cX2_singAlong 41 = .ok (.iload_n 1, 1) := dk_27 (dk_at dksX2_singAlong_1 17 rfl rfl)
theorem dX2_singAlong_42 : decode cX2_singAlong 42 = .ok (.istore 4, 2) := dk_54 4 (dk_at dksX2_singAlong_1 18 rfl rfl)
theorem dX2_singAlong_44 : decode cX2_singAlong 44 = .ok (.iload 4, 2) := dk_21 4 (dk_at dksX2_singAlong_1 20 rfl rfl)
theorem dX2_singAlong_46 : decode cX2_singAlong 46 = .ok (.iload_n 2, 1) := dk_28 (dk_at dksX2_singAlong_1 22 rfl rfl)
theorem dX2_singAlong_47 : decode cX2_singAlong 47 = .ok (.if_icmp .gt 82, 3) := dk_163 0 82 (dk_at dksX2_singAlong_2 0 rfl rfl)
theorem dX2_singAlong_50 : decode cX2_singAlong 50 = .ok (.aload_n 0, 1) := dk_42 (dk_at dksX2_singAlong_2 3 rfl rfl)
theorem dX2_singAlong_51 : decode cX2_singAlong 51 = .ok (.iload 4, 2) := dk_21 4 (dk_at dksX2_singAlong_2 4 rfl rfl)
theorem dX2_singAlong_53 : decode cX2_singAlong 53 = .ok (.iconst 0, 1) := dk_3 (dk_at dksX2_singAlong_2 6 rfl rfl)
theorem dX2_singAlong_54 : decode cX2_singAlong 54 = .ok (.invokevirtual 56, 3) := dk_182 0 56 (dk_at dksX2_singAlong_2 7 rfl rfl)
theorem dX2_singAlong_57 : decode cX2_singAlong 57 = .ok (.istore 5, 2) := dk_54 5 (dk_at dksX2_singAlong_2 10 rfl rfl)
theorem dX2_singAlong_59 : decode cX2_singAlong 59 = .ok (.iload 5, 2) := dk_21 5 (dk_at dksX2_singAlong_2 12 rfl rfl)
theorem dX2_singAlong_61 : decode cX2_singAlong 61 = .ok (.aload_n 0, 1) := dk_42 (dk_at dksX2_singAlong_2 14 rfl rfl)
theorem dX2_singAlong_62 : decode cX2_singAlong 62 = .ok (.iload 4, 2) := dk_21 4 (dk_at dksX2_singAlong_2 15 rfl rfl)
theorem dX2_singAlong_64 : decode cX2_singAlong 64 = .ok (.invokevirtual 60, 3) := dk_182 0 60 (dk_at dksX2_singAlong_2 17 rfl rfl)
theorem dX2_singAlong_67 : decode cX2_singAlong 67 = .ok (.if_icmp .ge 56, 3) := dk_162 0 56 (dk_at dksX2_singAlong_2 20 rfl rfl)
theorem dX2_singAlong_70 : decode cX2_singAlong 70 = .ok (.aload_n 0, 1) := dk_42 (dk_at dksX2_singAlong_2 23 rfl rfl)
theorem dX2_singAlong_71 : decode cX2_singAlong 71 = .ok (.iload 4, 2) := dk_21 4 (dk_at dksX2_singAlong_3 0 rfl rfl)
theorem dX2_singAlong_73 : decode cX2_singAlong 73 = .ok (.iload 5, 2) := dk_21 5 (dk_at dksX2_singAlong_3 2 rfl rfl)
theorem dX2_singAlong_75 : decode cX2_singAlong 75 = .ok (.aload_n 0, 1) := dk_42 (dk_at dksX2_singAlong_3 4 rfl rfl)
theorem dX2_singAlong_76 : decode cX2_singAlong 76 = .ok (.iload 4, 2) := dk_21 4 (dk_at dksX2_singAlong_3 5 rfl rfl)
theorem dX2_singAlong_78 : decode cX2_singAlong 78 = .ok (.iconst 0, 1) := dk_3 (dk_at dksX2_singAlong_3 7 rfl rfl)
theorem dX2_singAlong_79 : decode cX2_singAlong 79 = .ok (.invokevirtual 56, 3) := dk_182 0 56 (dk_at dksX2_singAlong_3 8 rfl rfl)
theorem dX2_singAlong_82 : decode cX2_singAlong 82 = .ok (.isub, 1) := dk_100 (dk_at dksX2_singAlong_3 11 rfl rfl)
theorem dX2_singAlong_83 : decode cX2_singAlong 83 = .ok (.invokevirtual 74, 3) := dk_182 0 74 (dk_at dksX2_singAlong_3 12 rfl rfl)
theorem dX2_singAlong_86 : decode cX2_singAlong 86 = .ok (.iload_n 3, 1) := dk_29 (dk_at dksX2_singAlong_3 15 rfl rfl)
theorem dX2_singAlong_87 : decode cX2_singAlong 87 = .ok (.iadd, 1) := dk_96 (dk_at dksX2_singAlong_3 16 rfl rfl)
theorem dX2_singAlong_88 : decode cX2_singAlong 88 = .ok (.istore 6, 2) := dk_54 6 (dk_at dksX2_singAlong_3 17 rfl rfl)
theorem dX2_singAlong_90 : decode cX2_singAlong 90 = .ok (.aload_n 0, 1) := dk_42 (dk_at dksX2_singAlong_3 19 rfl rfl)
theorem dX2_singAlong_91 : decode cX2_singAlong 91 = .ok (.getfield 7, 3) := dk_180 0 7 (dk_at dksX2_singAlong_3 20 rfl rfl)
theorem dX2_singAlong_94 : decode cX2_singAlong 94 = .ok (.sipush 206, 3) := dk_17 0 206 (dk_at dksX2_singAlong_4 0 rfl rfl)
theorem dX2_singAlong_97 : decode cX2_singAlong 97 = .ok (.iload 5, 2) := dk_21 5 (dk_at dksX2_singAlong_4 3 rfl rfl)
theorem dX2_singAlong_99 : decode cX2_singAlong 99 = .ok (.iadd, 1) := dk_96 (dk_at dksX2_singAlong_4 5 rfl rfl)
theorem dX2_singAlong_100 : decode cX2_singAlong 100 = .ok (.iload 6, 2) := dk_21 6 (dk_at dksX2_singAlong_4 6 rfl rfl)
theorem dX2_singAlong_102 : decode cX2_singAlong 102 = .ok (.invokestatic 71, 3) := dk_184 0 71 (dk_at dksX2_singAlong_4 8 rfl rfl)
theorem dX2_singAlong_105 : decode cX2_singAlong 105 = .ok (.ifCond .eq 10, 3) := dk_153 0 10 (dk_at dksX2_singAlong_4 11 rfl rfl)
theorem dX2_singAlong_108 : decode cX2_singAlong 108 = .ok (.iload 6, 2) := dk_21 6 (dk_at dksX2_singAlong_4 14 rfl rfl)
theorem dX2_singAlong_110 : decode cX2_singAlong 110 = .ok (.iconst 1, 1) := dk_4 (dk_at dksX2_singAlong_4 16 rfl rfl)
theorem dX2_singAlong_111 : decode cX2_singAlong 111 = .ok (.iadd, 1) := dk_96 (dk_at dksX2_singAlong_4 17 rfl rfl)
theorem dX2_singAlong_112 : decode cX2_singAlong 112 = .ok (.goto 4, 3) := dk_167 0 4 (dk_at dksX2_singAlong_4 18 rfl rfl)
theorem dX2_singAlong_115 : decode cX2_singAlong 115 = .ok (.iconst 0, 1) := dk_3 (dk_at dksX2_singAlong_4 21 rfl rfl)
theorem dX2_singAlong_116 : decode cX2_singAlong 116 = .ok (.iastore, 1) := dk_79 (dk_at dksX2_singAlong_4 22 rfl rfl)
theorem dX2_singAlong_117 : decode cX2_singAlong 117 = .ok (.iinc 5 1, 3) := dk_132 5 1 (dk_at dksX2_singAlong_5 0 rfl rfl)
theorem dX2_singAlong_120 : decode cX2_singAlong 120 = .ok (.goto (-61), 3) := dk_167 255 195 (dk_at dksX2_singAlong_5 3 rfl rfl)
theorem dX2_singAlong_123 : decode cX2_singAlong 123 = .ok (.iinc 4 1, 3) := dk_132 4 1 (dk_at dksX2_singAlong_5 6 rfl rfl)
theorem dX2_singAlong_126 : decode cX2_singAlong 126 = .ok (.goto (-82), 3) := dk_167 255 174 (dk_at dksX2_singAlong_5 9 rfl rfl)
theorem dX2_singAlong_129 : decode cX2_singAlong 129 = .ok (.aload_n 0, 1) := dk_42 (dk_at dksX2_singAlong_5 12 rfl rfl)
theorem dX2_singAlong_130 : decode cX2_singAlong 130 = .ok (.invokevirtual 138, 3) := dk_182 0 138 (dk_at dksX2_singAlong_5 13 rfl rfl)
theorem dX2_singAlong_133 : decode cX2_singAlong 133 = .ok (.aload_n 0, 1) := dk_42 (dk_at dksX2_singAlong_5 16 rfl rfl)
theorem dX2_singAlong_134 : decode cX2_singAlong 134 = .ok (.invokevirtual 141, 3) := dk_182 0 141 (dk_at dksX2_singAlong_5 17 rfl rfl)
theorem dX2_singAlong_137 : decode cX2_singAlong 137 = .ok (.ireturn, 1) := dk_172 (dk_at dksX2_singAlong_5 20 rfl rfl)
abbrev cX2_isSyllable : ByteArray := prog_9_method_7_code
def yX2_isSyllable : MethodName := ⟨RX2, "isSyllable", "(I)Z"⟩
def dkwX2_isSyllable_0 : List UInt8 := [27, 3, 42, 180, 0, 7, 8, 46, 4, 100, 184, 0, 44, 172]
abbrev dktX2_isSyllable_0 : List UInt8 := dkwX2_isSyllable_0 ++ []
theorem dksX2_isSyllable_0 : cX2_isSyllable.data.toList.drop 0 = dktX2_isSyllable_0 := by decide +kernel
theorem dX2_isSyllable_0 : decode cX2_isSyllable 0 = .ok (.iload_n 1, 1) := dk_27 (dk_at dksX2_isSyllable_0 0 rfl rfl)
theorem dX2_isSyllable_1 : decode cX2_isSyllable 1 = .ok (.iconst 0, 1) := dk_3 (dk_at dksX2_isSyllable_0 1 rfl rfl)
theorem dX2_isSyllable_2 : decode cX2_isSyllable 2 = .ok (.aload_n 0, 1) := dk_42 (dk_at dksX2_isSyllable_0 2 rfl rfl)
theorem dX2_isSyllable_3 : decode cX2_isSyllable 3 = .ok (.getfield 7, 3) := dk_180 0 7 (dk_at dksX2_isSyllable_0 3 rfl rfl)
theorem dX2_isSyllable_6 : decode cX2_isSyllable 6 = .ok (.iconst 5, 1) := dk_8 (dk_at dksX2_isSyllable_0 6 rfl rfl)
theorem dX2_isSyllable_7 : decode cX2_isSyllable 7 = .ok (.iaload, 1) := dk_46 (dk_at dksX2_isSyllable_0 7 rfl rfl)
theorem dX2_isSyllable_8 : decode cX2_isSyllable 8 = .ok (.iconst 1, 1) := dk_4 (dk_at dksX2_isSyllable_0 8 rfl rfl)
theorem dX2_isSyllable_9 : decode cX2_isSyllable 9 = .ok (.isub, 1) := dk_100 (dk_at dksX2_isSyllable_0 9 rfl rfl)
theorem dX2_isSyllable_10 : decode cX2_isSyllable 10 = .ok (.invokestatic 44, 3) := dk_184 0 44 (dk_at dksX2_isSyllable_0 10 rfl rfl)
theorem dX2_isSyllable_13 : decode cX2_isSyllable 13 = .ok (.ireturn, 1) := dk_172 (dk_at dksX2_isSyllable_0 13 rfl rfl)
abbrev cX2_type : ByteArray := prog_9_method_41_code
def yX2_type : MethodName := ⟨RX2, "type", "(C)I"⟩
def dkwX2_type_1 : List UInt8 := [180, 0, 147, 4, 96, 181, 0, 147, 42, 180, 0, 147, 172]
abbrev dktX2_type_1 : List UInt8 := dkwX2_type_1 ++ []
def dkwX2_type_0 : List UInt8 := [42, 180, 0, 147, 16, 60, 160, 0, 6, 16, 253, 172, 42, 180, 0, 19, 42, 180, 0, 147, 27, 85, 42, 89]
abbrev dktX2_type_0 : List UInt8 := dkwX2_type_0 ++ dktX2_type_1
theorem dksX2_type_0 : cX2_type.data.toList.drop 0 = dktX2_type_0 := by decide +kernel
theorem dksX2_type_1 : cX2_type.data.toList.drop 24 = dktX2_type_1 := dk_seg dksX2_type_0 24 rfl rfl
theorem dX2_type_0 : decode cX2_type 0 = .ok (.aload_n 0, 1) := dk_42 (dk_at dksX2_type_0 0 rfl rfl)
theorem dX2_type_1 : decode cX2_type 1 = .ok (.getfield 147, 3) := dk_180 0 147 (dk_at dksX2_type_0 1 rfl rfl)
theorem dX2_type_4 : decode cX2_type 4 = .ok (.bipush 60, 2) := dk_16 60 (dk_at dksX2_type_0 4 rfl rfl)
theorem dX2_type_6 : decode cX2_type 6 = .ok (.if_icmp .ne 6, 3) := dk_160 0 6 (dk_at dksX2_type_0 6 rfl rfl)
theorem dX2_type_9 : decode cX2_type 9 = .ok (.bipush (-3), 2) := dk_16 253 (dk_at dksX2_type_0 9 rfl rfl)
theorem dX2_type_11 : decode cX2_type 11 = .ok (.ireturn, 1) := dk_172 (dk_at dksX2_type_0 11 rfl rfl)
theorem dX2_type_12 : decode cX2_type 12 = .ok (.aload_n 0, 1) := dk_42 (dk_at dksX2_type_0 12 rfl rfl)
theorem dX2_type_13 : decode cX2_type 13 = .ok (.getfield 19, 3) := dk_180 0 19 (dk_at dksX2_type_0 13 rfl rfl)
theorem dX2_type_16 : decode cX2_type 16 = .ok (.aload_n 0, 1) := dk_42 (dk_at dksX2_type_0 16 rfl rfl)
theorem dX2_type_17 : decode cX2_type 17 = .ok (.getfield 147, 3) := dk_180 0 147 (dk_at dksX2_type_0 17 rfl rfl)
theorem dX2_type_20 : decode cX2_type 20 = .ok (.iload_n 1, 1) := dk_27 (dk_at dksX2_type_0 20 rfl rfl)
theorem dX2_type_21 : decode cX2_type 21 = .ok (.castore, 1) := dk_85 (dk_at dksX2_type_0 21 rfl rfl)
theorem dX2_type_22 : decode cX2_type 22 = .ok (.aload_n 0, 1) := dk_42 (dk_at dksX2_type_0 22 rfl rfl)
theorem dX2_type_23 : decode cX2_type 23 = .ok (.dup, 1) := dk_89 (dk_at dksX2_type_0 23 rfl rfl)
theorem dX2_type_24 : decode cX2_type 24 = .ok (.getfield 147, 3) := dk_180 0 147 (dk_at dksX2_type_1 0 rfl rfl)
theorem dX2_type_27 : decode cX2_type 27 = .ok (.iconst 1, 1) := dk_4 (dk_at dksX2_type_1 3 rfl rfl)
theorem dX2_type_28 : decode cX2_type 28 = .ok (.iadd, 1) := dk_96 (dk_at dksX2_type_1 4 rfl rfl)
theorem dX2_type_29 : decode cX2_type 29 = .ok (.putfield 147, 3) := dk_181 0 147 (dk_at dksX2_type_1 5 rfl rfl)
theorem dX2_type_32 : decode cX2_type 32 = .ok (.aload_n 0, 1) := dk_42 (dk_at dksX2_type_1 8 rfl rfl)
theorem dX2_type_33 : decode cX2_type 33 = .ok (.getfield 147, 3) := dk_180 0 147 (dk_at dksX2_type_1 9 rfl rfl)
theorem dX2_type_36 : decode cX2_type 36 = .ok (.ireturn, 1) := dk_172 (dk_at dksX2_type_1 12 rfl rfl)
abbrev cX2_clearText : ByteArray := prog_9_method_42_code
def yX2_clearText : MethodName := ⟨RX2, "clearText", "()I"⟩
def dkwX2_clearText_0 : List UInt8 := [42, 180, 0, 147, 60, 42, 3, 181, 0, 147, 27, 172]
abbrev dktX2_clearText_0 : List UInt8 := dkwX2_clearText_0 ++ []
theorem dksX2_clearText_0 : cX2_clearText.data.toList.drop 0 = dktX2_clearText_0 := by decide +kernel
theorem dX2_clearText_0 : decode cX2_clearText 0 = .ok (.aload_n 0, 1) := dk_42 (dk_at dksX2_clearText_0 0 rfl rfl)
theorem dX2_clearText_1 : decode cX2_clearText 1 = .ok (.getfield 147, 3) := dk_180 0 147 (dk_at dksX2_clearText_0 1 rfl rfl)
theorem dX2_clearText_4 : decode cX2_clearText 4 = .ok (.istore_n 1, 1) := dk_60 (dk_at dksX2_clearText_0 4 rfl rfl)
theorem dX2_clearText_5 : decode cX2_clearText 5 = .ok (.aload_n 0, 1) := dk_42 (dk_at dksX2_clearText_0 5 rfl rfl)
theorem dX2_clearText_6 : decode cX2_clearText 6 = .ok (.iconst 0, 1) := dk_3 (dk_at dksX2_clearText_0 6 rfl rfl)
theorem dX2_clearText_7 : decode cX2_clearText 7 = .ok (.putfield 147, 3) := dk_181 0 147 (dk_at dksX2_clearText_0 7 rfl rfl)
theorem dX2_clearText_10 : decode cX2_clearText 10 = .ok (.iload_n 1, 1) := dk_27 (dk_at dksX2_clearText_0 10 rfl rfl)
theorem dX2_clearText_11 : decode cX2_clearText 11 = .ok (.ireturn, 1) := dk_172 (dk_at dksX2_clearText_0 11 rfl rfl)
abbrev cX2_read : ByteArray := prog_9_method_48_code
def yX2_read : MethodName := ⟨RX2, "read", "()I"⟩
def dkwX2_read_2 : List UInt8 := [153, 0, 12, 42, 180, 0, 7, 8, 46, 167, 0, 4, 3, 172]
abbrev dktX2_read_2 : List UInt8 := dkwX2_read_2 ++ []
def dkwX2_read_1 : List UInt8 := [164, 0, 6, 16, 253, 172, 42, 182, 0, 128, 42, 180, 0, 7, 8, 3, 79, 42, 4, 182, 0, 169]
abbrev dktX2_read_1 : List UInt8 := dkwX2_read_1 ++ dktX2_read_2
def dkwX2_read_0 : List UInt8 := [42, 3, 182, 0, 169, 154, 0, 11, 16, 156, 42, 180, 0, 150, 100, 172, 42, 180, 0, 162, 17, 2, 88]
abbrev dktX2_read_0 : List UInt8 := dkwX2_read_0 ++ dktX2_read_1
theorem dksX2_read_0 : cX2_read.data.toList.drop 0 = dktX2_read_0 := by decide +kernel
theorem dksX2_read_1 : cX2_read.data.toList.drop 23 = dktX2_read_1 := dk_seg dksX2_read_0 23 rfl rfl
theorem dksX2_read_2 : cX2_read.data.toList.drop 45 = dktX2_read_2 := dk_seg dksX2_read_1 22 rfl rfl
theorem dX2_read_0 : decode cX2_read 0 = .ok (.aload_n 0, 1) := dk_42 (dk_at dksX2_read_0 0 rfl rfl)
theorem dX2_read_1 : decode cX2_read 1 = .ok (.iconst 0, 1) := dk_3 (dk_at dksX2_read_0 1 rfl rfl)
theorem dX2_read_2 : decode cX2_read 2 = .ok (.invokevirtual 169, 3) := dk_182 0 169 (dk_at dksX2_read_0 2 rfl rfl)
theorem dX2_read_5 : decode cX2_read 5 = .ok (.ifCond .ne 11, 3) := dk_154 0 11 (dk_at dksX2_read_0 5 rfl rfl)
theorem dX2_read_8 : decode cX2_read 8 = .ok (.bipush (-100), 2) := dk_16 156 (dk_at dksX2_read_0 8 rfl rfl)
theorem dX2_read_10 : decode cX2_read 10 = .ok (.aload_n 0, 1) := dk_42 (dk_at dksX2_read_0 10 rfl rfl)
theorem dX2_read_11 : decode cX2_read 11 = .ok (.getfield 150, 3) := dk_180 0 150 (dk_at dksX2_read_0 11 rfl rfl)
theorem dX2_read_14 : decode cX2_read 14 = .ok (.isub, 1) := dk_100 (dk_at dksX2_read_0 14 rfl rfl)
theorem dX2_read_15 : decode cX2_read 15 = .ok (.ireturn, 1) := dk_172 (dk_at dksX2_read_0 15 rfl rfl)
theorem dX2_read_16 : decode cX2_read 16 = .ok (.aload_n 0, 1) := dk_42 (dk_at dksX2_read_0 16 rfl rfl)
theorem dX2_read_17 : decode cX2_read 17 = .ok (.getfield 162, 3) := dk_180 0 162 (dk_at dksX2_read_0 17 rfl rfl)
theorem dX2_read_20 : decode cX2_read 20 = .ok (.sipush 600, 3) := dk_17 2 88 (dk_at dksX2_read_0 20 rfl rfl)
theorem dX2_read_23 : decode cX2_read 23 = .ok (.if_icmp .le 6, 3) := dk_164 0 6 (dk_at dksX2_read_1 0 rfl rfl)
theorem dX2_read_26 : decode cX2_read 26 = .ok (.bipush (-3), 2) := dk_16 253 (dk_at dksX2_read_1 3 rfl rfl)
theorem dX2_read_28 : decode cX2_read 28 = .ok (.ireturn, 1) := dk_172 (dk_at dksX2_read_1 5 rfl rfl)
theorem dX2_read_29 : decode cX2_read 29 = .ok (.aload_n 0, 1) := dk_42 (dk_at dksX2_read_1 6 rfl rfl)
theorem dX2_read_30 : decode cX2_read 30 = .ok (.invokevirtual 128, 3) := dk_182 0 128 (dk_at dksX2_read_1 7 rfl rfl)
theorem dX2_read_33 : decode cX2_read 33 = .ok (.aload_n 0, 1) := dk_42 (dk_at dksX2_read_1 10 rfl rfl)
theorem dX2_read_34 : decode cX2_read 34 = .ok (.getfield 7, 3) := dk_180 0 7 (dk_at dksX2_read_1 11 rfl rfl)
theorem dX2_read_37 : decode cX2_read 37 = .ok (.iconst 5, 1) := dk_8 (dk_at dksX2_read_1 14 rfl rfl)
theorem dX2_read_38 : decode cX2_read 38 = .ok (.iconst 0, 1) := dk_3 (dk_at dksX2_read_1 15 rfl rfl)
theorem dX2_read_39 : decode cX2_read 39 = .ok (.iastore, 1) := dk_79 (dk_at dksX2_read_1 16 rfl rfl)
theorem dX2_read_40 : decode cX2_read 40 = .ok (.aload_n 0, 1) := dk_42 (dk_at dksX2_read_1 17 rfl rfl)
theorem dX2_read_41 : decode cX2_read 41 = .ok (.iconst 1, 1) := dk_4 (dk_at dksX2_read_1 18 rfl rfl)
theorem dX2_read_42 : decode cX2_read 42 = .ok (.invokevirtual 169, 3) := dk_182 0 169 (dk_at dksX2_read_1 19 rfl rfl)
theorem dX2_read_45 : decode cX2_read 45 = .ok (.ifCond .eq 12, 3) := dk_153 0 12 (dk_at dksX2_read_2 0 rfl rfl)
theorem dX2_read_48 : decode cX2_read 48 = .ok (.aload_n 0, 1) := dk_42 (dk_at dksX2_read_2 3 rfl rfl)
theorem dX2_read_49 : decode cX2_read 49 = .ok (.getfield 7, 3) := dk_180 0 7 (dk_at dksX2_read_2 4 rfl rfl)
theorem dX2_read_52 : decode cX2_read 52 = .ok (.iconst 5, 1) := dk_8 (dk_at dksX2_read_2 7 rfl rfl)
theorem dX2_read_53 : decode cX2_read 53 = .ok (.iaload, 1) := dk_46 (dk_at dksX2_read_2 8 rfl rfl)
theorem dX2_read_54 : decode cX2_read 54 = .ok (.goto 4, 3) := dk_167 0 4 (dk_at dksX2_read_2 9 rfl rfl)
theorem dX2_read_57 : decode cX2_read 57 = .ok (.iconst 0, 1) := dk_3 (dk_at dksX2_read_2 12 rfl rfl)
theorem dX2_read_58 : decode cX2_read 58 = .ok (.ireturn, 1) := dk_172 (dk_at dksX2_read_2 13 rfl rfl)
abbrev cX2_readText : ByteArray := prog_9_method_47_code
def yX2_readText : MethodName := ⟨RX2, "readText", "(Z)Z"⟩
def dkwX2_readText_5 : List UInt8 := [153, 0, 14, 42, 182, 0, 165, 153, 0, 7, 4, 167, 0, 4, 3, 62, 167, 255, 141, 3, 172]
abbrev dktX2_readText_5 : List UInt8 := dkwX2_readText_5 ++ []
def dkwX2_readText_4 : List UInt8 := [182, 0, 156, 153, 0, 7, 4, 167, 0, 4, 3, 61, 28, 4, 159, 0, 12, 42, 16, 44, 182, 0, 156]
abbrev dktX2_readText_4 : List UInt8 := dkwX2_readText_4 ++ dktX2_readText_5
def dkwX2_readText_3 : List UInt8 := [46, 28, 182, 0, 131, 87, 42, 180, 0, 150, 42, 180, 0, 147, 160, 0, 5, 4, 172, 42, 16, 47]
abbrev dktX2_readText_3 : List UInt8 := dkwX2_readText_3 ++ dktX2_readText_4
def dkwX2_readText_2 : List UInt8 := [42, 42, 180, 0, 41, 3, 46, 42, 180, 0, 41, 4, 46, 42, 180, 0, 41, 5, 46, 42, 180, 0, 41, 6]
abbrev dktX2_readText_2 : List UInt8 := dkwX2_readText_2 ++ dktX2_readText_3
def dkwX2_readText_1 : List UInt8 := [180, 0, 162, 42, 180, 0, 41, 3, 46, 42, 180, 0, 41, 6, 46, 96, 96, 181, 0, 162, 27, 153, 0, 33]
abbrev dktX2_readText_1 : List UInt8 := dkwX2_readText_1 ++ dktX2_readText_2
def dkwX2_readText_0 : List UInt8 := [42, 3, 181, 0, 150, 42, 3, 181, 0, 162, 4, 61, 42, 182, 0, 165, 62, 29, 153, 0, 117, 42, 89]
abbrev dktX2_readText_0 : List UInt8 := dkwX2_readText_0 ++ dktX2_readText_1
theorem dksX2_readText_0 : cX2_readText.data.toList.drop 0 = dktX2_readText_0 := by decide +kernel
theorem dksX2_readText_1 : cX2_readText.data.toList.drop 23 = dktX2_readText_1 := dk_seg dksX2_readText_0 23 rfl rfl
theorem dksX2_readText_2 : cX2_readText.data.toList.drop 47 = dktX2_readText_2 := dk_seg dksX2_readText_1 24 rfl rfl
theorem dksX2_readText_3 : cX2_readText.data.toList.drop 71 = dktX2_readText_3 := dk_seg dksX2_readText_2 24 rfl rfl
theorem dksX2_readText_4 : cX2_readText.data.toList.drop 93 = dktX2_readText_4 := dk_seg dksX2_readText_3 22 rfl rfl
theorem dksX2_readText_5 : cX2_readText.data.toList.drop 116 = dktX2_readText_5 := dk_seg dksX2_readText_4 23 rfl rfl
theorem dX2_readText_0 : decode cX2_readText 0 = .ok (.aload_n 0, 1) := dk_42 (dk_at dksX2_readText_0 0 rfl rfl)
theorem dX2_readText_1 : decode cX2_readText 1 = .ok (.iconst 0, 1) := dk_3 (dk_at dksX2_readText_0 1 rfl rfl)
theorem dX2_readText_2 : decode cX2_readText 2 = .ok (.putfield 150, 3) := dk_181 0 150 (dk_at dksX2_readText_0 2 rfl rfl)
theorem dX2_readText_5 : decode cX2_readText 5 = .ok (.aload_n 0, 1) := dk_42 (dk_at dksX2_readText_0 5 rfl rfl)
theorem dX2_readText_6 : decode cX2_readText 6 = .ok (.iconst 0, 1) := dk_3 (dk_at dksX2_readText_0 6 rfl rfl)
theorem dX2_readText_7 : decode cX2_readText 7 = .ok (.putfield 162, 3) := dk_181 0 162 (dk_at dksX2_readText_0 7 rfl rfl)
theorem dX2_readText_10 : decode cX2_readText 10 = .ok (.iconst 1, 1) := dk_4 (dk_at dksX2_readText_0 10 rfl rfl)
theorem dX2_readText_11 : decode cX2_readText 11 = .ok (.istore_n 2, 1) := dk_61 (dk_at dksX2_readText_0 11 rfl rfl)
theorem dX2_readText_12 : decode cX2_readText 12 = .ok (.aload_n 0, 1) := dk_42 (dk_at dksX2_readText_0 12 rfl rfl)
theorem dX2_readText_13 : decode cX2_readText 13 = .ok (.invokevirtual 165, 3) := dk_182 0 165 (dk_at dksX2_readText_0 13 rfl rfl)
theorem dX2_readText_16 : decode cX2_readText 16 = .ok (.istore_n 3, 1) := dk_62 (dk_at dksX2_readText_0 16 rfl rfl)
theorem dX2_readText_17 : decode cX2_readText 17 = .ok (.iload_n 3, 1) := dk_29 (dk_at dksX2_readText_0 17 rfl rfl)
theorem dX2_readText_18 : decode cX2_readText 18 = .ok (.ifCond .eq 117, 3) := dk_153 0 117 (dk_at dksX2_readText_0 18 rfl rfl)
theorem dX2_readText_21 : decode cX2_readText 21 = .ok (.aload_n 0, 1) := dk_42 (dk_at dksX2_readText_0 21 rfl rfl)
theorem dX2_readText_22 : decode cX2_readText 22 = .ok (.dup, 1) := dk_89 (dk_at dksX2_readText_0 22 rfl rfl)
theorem dX2_readText_23 : decode cX2_readText 23 = .ok (.getfield 162, 3) := dk_180 0 162 (dk_at dksX2_readText_1 0 rfl rfl)
theorem dX2_readText_26 : decode cX2_readText 26 = .ok (.aload_n 0, 1) := dk_42 (dk_at dksX2_readText_1 3 rfl rfl)
theorem dX2_readText_27 : decode cX2_readText 27 = .ok (.getfield 41, 3) := dk_180 0 41 (dk_at dksX2_readText_1 4 rfl rfl)
theorem dX2_readText_30 : decode cX2_readText 30 = .ok (.iconst 0, 1) := dk_3 (dk_at dksX2_readText_1 7 rfl rfl)
theorem dX2_readText_31 : decode cX2_readText 31 = .ok (.iaload, 1) := dk_46 (dk_at dksX2_readText_1 8 rfl rfl)
theorem dX2_readText_32 : decode cX2_readText 32 = .ok (.aload_n 0, 1) := dk_42 (dk_at dksX2_readText_1 9 rfl rfl)
theorem dX2_readText_33 : decode cX2_readText 33 = .ok (.getfield 41, 3) := dk_180 0 41 (dk_at dksX2_readText_1 10 rfl rfl)
theorem dX2_readText_36 : decode cX2_readText 36 = .ok (.iconst 3, 1) := dk_6 (dk_at dksX2_readText_1 13 rfl rfl)
theorem dX2_readText_37 : decode cX2_readText 37 = .ok (.iaload, 1) := dk_46 (dk_at dksX2_readText_1 14 rfl rfl)
theorem dX2_readText_38 : decode cX2_readText 38 = .ok (.iadd, 1) := dk_96 (dk_at dksX2_readText_1 15 rfl rfl)
theorem dX2_readText_39 : decode cX2_readText 39 = .ok (.iadd, 1) := dk_96 (dk_at dksX2_readText_1 16 rfl rfl)
theorem dX2_readText_40 : decode cX2_readText 40 = .ok (.putfield 162, 3) := dk_181 0 162 (dk_at dksX2_readText_1 17 rfl rfl)
theorem dX2_readText_43 : decode cX2_readText 43 = .ok (.iload_n 1, 1) := dk_27 (dk_at dksX2_readText_1 20 rfl rfl)
theorem dX2_readText_44 : decode cX2_readText 44 = .ok (.ifCond .eq 33, 3) := dk_153 0 33 (dk_at dksX2_readText_1 21 rfl rfl)
theorem dX2_readText_47 : decode cX2_readText 47 = .ok (.aload_n 0, 1) := dk_42 (dk_at dksX2_readText_2 0 rfl rfl)
theorem dX2_readText_48 : decode cX2_readText 48 = .ok (.aload_n 0, 1) := dk_42 (dk_at dksX2_readText_2 1 rfl rfl)
theorem dX2_readText_49 : decode cX2_readText 49 = .ok (.getfield 41, 3) := dk_180 0 41 (dk_at dksX2_readText_2 2 rfl rfl)
theorem dX2_readText_52 : decode cX2_readText 52 = .ok (.iconst 0, 1) := dk_3 (dk_at dksX2_readText_2 5 rfl rfl)
theorem dX2_readText_53 : decode cX2_readText 53 = .ok (.iaload, 1) := dk_46 (dk_at dksX2_readText_2 6 rfl rfl)
theorem dX2_readText_54 : decode cX2_readText 54 = .ok (.aload_n 0, 1) := dk_42 (dk_at dksX2_readText_2 7 rfl rfl)
theorem dX2_readText_55 : decode cX2_readText 55 = .ok (.getfield 41, 3) := dk_180 0 41 (dk_at dksX2_readText_2 8 rfl rfl)
theorem dX2_readText_58 : decode cX2_readText 58 = .ok (.iconst 1, 1) := dk_4 (dk_at dksX2_readText_2 11 rfl rfl)
theorem dX2_readText_59 : decode cX2_readText 59 = .ok (.iaload, 1) := dk_46 (dk_at dksX2_readText_2 12 rfl rfl)
theorem dX2_readText_60 : decode cX2_readText 60 = .ok (.aload_n 0, 1) := dk_42 (dk_at dksX2_readText_2 13 rfl rfl)
theorem dX2_readText_61 : decode cX2_readText 61 = .ok (.getfield 41, 3) := dk_180 0 41 (dk_at dksX2_readText_2 14 rfl rfl)
theorem dX2_readText_64 : decode cX2_readText 64 = .ok (.iconst 2, 1) := dk_5 (dk_at dksX2_readText_2 17 rfl rfl)
theorem dX2_readText_65 : decode cX2_readText 65 = .ok (.iaload, 1) := dk_46 (dk_at dksX2_readText_2 18 rfl rfl)
theorem dX2_readText_66 : decode cX2_readText 66 = .ok (.aload_n 0, 1) := dk_42 (dk_at dksX2_readText_2 19 rfl rfl)
theorem dX2_readText_67 : decode cX2_readText 67 = .ok (.getfield 41, 3) := dk_180 0 41 (dk_at dksX2_readText_2 20 rfl rfl)
theorem dX2_readText_70 : decode cX2_readText 70 = .ok (.iconst 3, 1) := dk_6 (dk_at dksX2_readText_2 23 rfl rfl)
theorem dX2_readText_71 : decode cX2_readText 71 = .ok (.iaload, 1) := dk_46 (dk_at dksX2_readText_3 0 rfl rfl)
theorem dX2_readText_72 : decode cX2_readText 72 = .ok (.iload_n 2, 1) := dk_28 (dk_at dksX2_readText_3 1 rfl rfl)
theorem dX2_readText_73 : decode cX2_readText 73 = .ok (.invokevirtual 131, 3) := dk_182 0 131 (dk_at dksX2_readText_3 2 rfl rfl)
theorem dX2_readText_76 : decode cX2_readText 76 = .ok (.pop, 1) := dk_87 (dk_at dksX2_readText_3 5 rfl rfl)
theorem dX2_readText_77 : decode cX2_readText 77 = .ok (.aload_n 0, 1) := dk_42 (dk_at dksX2_readText_3 6 rfl rfl)
theorem dX2_readText_78 : decode cX2_readText 78 = .ok (.getfield 150, 3) := dk_180 0 150 (dk_at dksX2_readText_3 7 rfl rfl)
theorem dX2_readText_81 : decode cX2_readText 81 = .ok (.aload_n 0, 1) := dk_42 (dk_at dksX2_readText_3 10 rfl rfl)
theorem dX2_readText_82 : decode cX2_readText 82 = .ok (.getfield 147, 3) := dk_180 0 147 (dk_at dksX2_readText_3 11 rfl rfl)
theorem dX2_readText_85 : decode cX2_readText 85 = .ok (.if_icmp .ne 5, 3) := dk_160 0 5 (dk_at dksX2_readText_3 14 rfl rfl)
theorem dX2_readText_88 : decode cX2_readText 88 = .ok (.iconst 1, 1) := dk_4 (dk_at dksX2_readText_3 17 rfl rfl)
theorem dX2_readText_89 : decode cX2_readText 89 = .ok (.ireturn, 1) := dk_172 (dk_at dksX2_readText_3 18 rfl rfl)
theorem dX2_readText_90 : decode cX2_readText 90 = .ok (.aload_n 0, 1) := dk_42 (dk_at dksX2_readText_3 19 rfl rfl)
theorem dX2_readText_91 : decode cX2_readText 91 = .ok (.bipush 47, 2) := dk_16 47 (dk_at dksX2_readText_3 20 rfl rfl)
theorem dX2_readText_93 : decode cX2_readText 93 = .ok (.invokevirtual 156, 3) := dk_182 0 156 (dk_at dksX2_readText_4 0 rfl rfl)
theorem dX2_readText_96 : decode cX2_readText 96 = .ok (.ifCond .eq 7, 3) := dk_153 0 7 (dk_at dksX2_readText_4 3 rfl rfl)
theorem dX2_readText_99 : decode cX2_readText 99 = .ok (.iconst 1, 1) := dk_4 (dk_at dksX2_readText_4 6 rfl rfl)
theorem dX2_readText_100 : decode cX2_readText 100 = .ok (.goto 4, 3) := dk_167 0 4 (dk_at dksX2_readText_4 7 rfl rfl)
theorem dX2_readText_103 : decode cX2_readText 103 = .ok (.iconst 0, 1) := dk_3 (dk_at dksX2_readText_4 10 rfl rfl)
theorem dX2_readText_104 : decode cX2_readText 104 = .ok (.istore_n 2, 1) := dk_61 (dk_at dksX2_readText_4 11 rfl rfl)
theorem dX2_readText_105 : decode cX2_readText 105 = .ok (.iload_n 2, 1) := dk_28 (dk_at dksX2_readText_4 12 rfl rfl)
theorem dX2_readText_106 : decode cX2_readText 106 = .ok (.iconst 1, 1) := dk_4 (dk_at dksX2_readText_4 13 rfl rfl)
theorem dX2_readText_107 : decode cX2_readText 107 = .ok (.if_icmp .eq 12, 3) := dk_159 0 12 (dk_at dksX2_readText_4 14 rfl rfl)
theorem dX2_readText_110 : decode cX2_readText 110 = .ok (.aload_n 0, 1) := dk_42 (dk_at dksX2_readText_4 17 rfl rfl)
theorem dX2_readText_111 : decode cX2_readText 111 = .ok (.bipush 44, 2) := dk_16 44 (dk_at dksX2_readText_4 18 rfl rfl)
theorem dX2_readText_113 : decode cX2_readText 113 = .ok (.invokevirtual 156, 3) := dk_182 0 156 (dk_at dksX2_readText_4 20 rfl rfl)
theorem dX2_readText_116 : decode cX2_readText 116 = .ok (.ifCond .eq 14, 3) := dk_153 0 14 (dk_at dksX2_readText_5 0 rfl rfl)
theorem dX2_readText_119 : decode cX2_readText 119 = .ok (.aload_n 0, 1) := dk_42 (dk_at dksX2_readText_5 3 rfl rfl)
theorem dX2_readText_120 : decode cX2_readText 120 = .ok (.invokevirtual 165, 3) := dk_182 0 165 (dk_at dksX2_readText_5 4 rfl rfl)
theorem dX2_readText_123 : decode cX2_readText 123 = .ok (.ifCond .eq 7, 3) := dk_153 0 7 (dk_at dksX2_readText_5 7 rfl rfl)
theorem dX2_readText_126 : decode cX2_readText 126 = .ok (.iconst 1, 1) := dk_4 (dk_at dksX2_readText_5 10 rfl rfl)
theorem dX2_readText_127 : decode cX2_readText 127 = .ok (.goto 4, 3) := dk_167 0 4 (dk_at dksX2_readText_5 11 rfl rfl)
theorem dX2_readText_130 : decode cX2_readText 130 = .ok (.iconst 0, 1) := dk_3 (dk_at dksX2_readText_5 14 rfl rfl)
theorem dX2_readText_131 : decode cX2_readText 131 = .ok (.istore_n 3, 1) := dk_62 (dk_at dksX2_readText_5 15 rfl rfl)
theorem dX2_readText_132 : decode cX2_readText 132 = .ok (.goto (-115), 3) := dk_167 255 141 (dk_at dksX2_readText_5 16 rfl rfl)
theorem dX2_readText_135 : decode cX2_readText 135 = .ok (.iconst 0, 1) := dk_3 (dk_at dksX2_readText_5 19 rfl rfl)
theorem dX2_readText_136 : decode cX2_readText 136 = .ok (.ireturn, 1) := dk_172 (dk_at dksX2_readText_5 20 rfl rfl)
abbrev cX2_readSyllable : ByteArray := prog_9_method_46_code
def yX2_readSyllable : MethodName := ⟨RX2, "readSyllable", "()Z"⟩
def dkwX2_readSyllable_4 : List UInt8 := [153, 0, 7, 4, 167, 0, 4, 3, 172]
abbrev dktX2_readSyllable_4 : List UInt8 := dkwX2_readSyllable_4 ++ []
def dkwX2_readSyllable_3 : List UInt8 := [154, 0, 5, 3, 172, 42, 16, 58, 182, 0, 156, 153, 0, 18, 42, 6, 4, 16, 32, 182, 0, 159]
abbrev dktX2_readSyllable_3 : List UInt8 := dkwX2_readSyllable_3 ++ dktX2_readSyllable_4
def dkwX2_readSyllable_2 : List UInt8 := [180, 0, 41, 4, 46, 79, 42, 16, 45, 182, 0, 156, 153, 0, 16, 42, 5, 3, 16, 60, 182, 0, 159]
abbrev dktX2_readSyllable_2 : List UInt8 := dkwX2_readSyllable_2 ++ dktX2_readSyllable_3
def dkwX2_readSyllable_1 : List UInt8 := [153, 0, 14, 42, 4, 3, 16, 60, 182, 0, 159, 154, 0, 5, 3, 172, 42, 180, 0, 41, 5, 42]
abbrev dktX2_readSyllable_1 : List UInt8 := dkwX2_readSyllable_1 ++ dktX2_readSyllable_2
def dkwX2_readSyllable_0 : List UInt8 := [42, 180, 0, 41, 3, 3, 79, 42, 16, 46, 182, 0, 156, 153, 0, 14, 42, 3, 4, 16, 32, 182, 0, 159]
abbrev dktX2_readSyllable_0 : List UInt8 := dkwX2_readSyllable_0 ++ dktX2_readSyllable_1
theorem dksX2_readSyllable_0 : cX2_readSyllable.data.toList.drop 0 = dktX2_readSyllable_0 := by decide +kernel
theorem dksX2_readSyllable_1 : cX2_readSyllable.data.toList.drop 24 = dktX2_readSyllable_1 := dk_seg dksX2_readSyllable_0 24 rfl rfl
theorem dksX2_readSyllable_2 : cX2_readSyllable.data.toList.drop 46 = dktX2_readSyllable_2 := dk_seg dksX2_readSyllable_1 22 rfl rfl
theorem dksX2_readSyllable_3 : cX2_readSyllable.data.toList.drop 69 = dktX2_readSyllable_3 := dk_seg dksX2_readSyllable_2 23 rfl rfl
theorem dksX2_readSyllable_4 : cX2_readSyllable.data.toList.drop 91 = dktX2_readSyllable_4 := dk_seg dksX2_readSyllable_3 22 rfl rfl
theorem dX2_readSyllable_0 : decode cX2_readSyllable 0 = .ok (.aload_n 0, 1) := dk_42 (dk_at dksX2_readSyllable_0 0 rfl rfl)
theorem dX2_readSyllable_1 : decode cX2_readSyllable 1 = .ok (.getfield 41, 3) := dk_180 0 41 (dk_at dksX2_readSyllable_0 1 rfl rfl)
theorem dX2_readSyllable_4 : decode cX2_readSyllable 4 = .ok (.iconst 0, 1) := dk_3 (dk_at dksX2_readSyllable_0 4 rfl rfl)
theorem dX2_readSyllable_5 : decode cX2_readSyllable 5 = .ok (.iconst 0, 1) := dk_3 (dk_at dksX2_readSyllable_0 5 rfl rfl)
theorem dX2_readSyllable_6 : decode cX2_readSyllable 6 = .ok (.iastore, 1) := dk_79 (dk_at dksX2_readSyllable_0 6 rfl rfl)
theorem dX2_readSyllable_7 : decode cX2_readSyllable 7 = .ok (.aload_n 0, 1) := dk_42 (dk_at dksX2_readSyllable_0 7 rfl rfl)
theorem dX2_readSyllable_8 : decode cX2_readSyllable 8 = .ok (.bipush 46, 2) := dk_16 46 (dk_at dksX2_readSyllable_0 8 rfl rfl)
theorem dX2_readSyllable_10 : decode cX2_readSyllable 10 = .ok (.invokevirtual 156, 3) := dk_182 0 156 (dk_at dksX2_readSyllable_0 10 rfl rfl)
theorem dX2_readSyllable_13 : decode cX2_readSyllable 13 = .ok (.ifCond .eq 14, 3) := dk_153 0 14 (dk_at dksX2_readSyllable_0 13 rfl rfl)
theorem dX2_readSyllable_16 : decode cX2_readSyllable 16 = .ok (.aload_n 0, 1) := dk_42 (dk_at dksX2_readSyllable_0 16 rfl rfl)
theorem dX2_readSyllable_17 : decode cX2_readSyllable 17 = .ok (.iconst 0, 1) := dk_3 (dk_at dksX2_readSyllable_0 17 rfl rfl)
theorem dX2_readSyllable_18 : decode cX2_readSyllable 18 = .ok (.iconst 1, 1) := dk_4 (dk_at dksX2_readSyllable_0 18 rfl rfl)
theorem dX2_readSyllable_19 : decode cX2_readSyllable 19 = .ok (.bipush 32, 2) := dk_16 32 (dk_at dksX2_readSyllable_0 19 rfl rfl)
theorem dX2_readSyllable_21 : decode cX2_readSyllable 21 = .ok (.invokevirtual 159, 3) := dk_182 0 159 (dk_at dksX2_readSyllable_0 21 rfl rfl)
theorem dX2_readSyllable_24 : decode cX2_readSyllable 24 = .ok (.ifCond .eq 14, 3) := dk_153 0 14 (dk_at dksX2_readSyllable_1 0 rfl rfl)
theorem dX2_readSyllable_27 : decode cX2_readSyllable 27 = .ok (.aload_n 0, 1) := dk_42 (dk_at dksX2_readSyllable_1 3 rfl rfl)
theorem dX2_readSyllable_28 : decode cX2_readSyllable 28 = .ok (.iconst 1, 1) := dk_4 (dk_at dksX2_readSyllable_1 4 rfl rfl)
theorem dX2_readSyllable_29 : decode cX2_readSyllable 29 = .ok (.iconst 0, 1) := dk_3 (dk_at dksX2_readSyllable_1 5 rfl rfl)
theorem dX2_readSyllable_30 : decode cX2_readSyllable 30 = .ok (.bipush 60, 2) := dk_16 60 (dk_at dksX2_readSyllable_1 6 rfl rfl)
theorem dX2_readSyllable_32 : decode cX2_readSyllable 32 = .ok (.invokevirtual 159, 3) := dk_182 0 159 (dk_at dksX2_readSyllable_1 8 rfl rfl)
theorem dX2_readSyllable_35 : decode cX2_readSyllable 35 = .ok (.ifCond .ne 5, 3) := dk_154 0 5 (dk_at dksX2_readSyllable_1 11 rfl rfl)
theorem dX2_readSyllable_38 : decode cX2_readSyllable 38 = .ok (.iconst 0, 1) := dk_3 (dk_at dksX2_readSyllable_1 14 rfl rfl)
theorem dX2_readSyllable_39 : decode cX2_readSyllable 39 = .ok (.ireturn, 1) := dk_172 (dk_at dksX2_readSyllable_1 15 rfl rfl)
theorem dX2_readSyllable_40 : decode cX2_readSyllable 40 = .ok (.aload_n 0, 1) := dk_42 (dk_at dksX2_readSyllable_1 16 rfl rfl)
theorem dX2_readSyllable_41 : decode cX2_readSyllable 41 = .ok (.getfield 41, 3) := dk_180 0 41 (dk_at dksX2_readSyllable_1 17 rfl rfl)
theorem dX2_readSyllable_44 : decode cX2_readSyllable 44 = .ok (.iconst 2, 1) := dk_5 (dk_at dksX2_readSyllable_1 20 rfl rfl)
theorem dX2_readSyllable_45 : decode cX2_readSyllable 45 = .ok (.aload_n 0, 1) := dk_42 (dk_at dksX2_readSyllable_1 21 rfl rfl)
theorem dX2_readSyllable_46 : decode cX2_readSyllable 46 = .ok (.getfield 41, 3) := dk_180 0 41 (dk_at dksX2_readSyllable_2 0 rfl rfl)
theorem dX2_readSyllable_49 : decode cX2_readSyllable 49 = .ok (.iconst 1, 1) := dk_4 (dk_at dksX2_readSyllable_2 3 rfl rfl)
theorem dX2_readSyllable_50 : decode cX2_readSyllable 50 = .ok (.iaload, 1) := dk_46 (dk_at dksX2_readSyllable_2 4 rfl rfl)
theorem dX2_readSyllable_51 : decode cX2_readSyllable 51 = .ok (.iastore, 1) := dk_79 (dk_at dksX2_readSyllable_2 5 rfl rfl)
theorem dX2_readSyllable_52 : decode cX2_readSyllable 52 = .ok (.aload_n 0, 1) := dk_42 (dk_at dksX2_readSyllable_2 6 rfl rfl)
theorem dX2_readSyllable_53 : decode cX2_readSyllable 53 = .ok (.bipush 45, 2) := dk_16 45 (dk_at dksX2_readSyllable_2 7 rfl rfl)
theorem dX2_readSyllable_55 : decode cX2_readSyllable 55 = .ok (.invokevirtual 156, 3) := dk_182 0 156 (dk_at dksX2_readSyllable_2 9 rfl rfl)
theorem dX2_readSyllable_58 : decode cX2_readSyllable 58 = .ok (.ifCond .eq 16, 3) := dk_153 0 16 (dk_at dksX2_readSyllable_2 12 rfl rfl)
theorem dX2_readSyllable_61 : decode cX2_readSyllable 61 = .ok (.aload_n 0, 1) := dk_42 (dk_at dksX2_readSyllable_2 15 rfl rfl)
theorem dX2_readSyllable_62 : decode cX2_readSyllable 62 = .ok (.iconst 2, 1) := dk_5 (dk_at dksX2_readSyllable_2 16 rfl rfl)
theorem dX2_readSyllable_63 : decode cX2_readSyllable 63 = .ok (.iconst 0, 1) := dk_3 (dk_at dksX2_readSyllable_2 17 rfl rfl)
theorem dX2_readSyllable_64 : decode cX2_readSyllable 64 = .ok (.bipush 60, 2) := dk_16 60 (dk_at dksX2_readSyllable_2 18 rfl rfl)
theorem dX2_readSyllable_66 : decode cX2_readSyllable 66 = .ok (.invokevirtual 159, 3) := dk_182 0 159 (dk_at dksX2_readSyllable_2 20 rfl rfl)
theorem dX2_readSyllable_69 : decode cX2_readSyllable 69 = .ok (.ifCond .ne 5, 3) := dk_154 0 5 (dk_at dksX2_readSyllable_3 0 rfl rfl)
theorem dX2_readSyllable_72 : decode cX2_readSyllable 72 = .ok (.iconst 0, 1) := dk_3 (dk_at dksX2_readSyllable_3 3 rfl rfl)
theorem dX2_readSyllable_73 : decode cX2_readSyllable 73 = .ok (.ireturn, 1) := dk_172 (dk_at dksX2_readSyllable_3 4 rfl rfl)
theorem dX2_readSyllable_74 : decode cX2_readSyllable 74 = .ok (.aload_n 0, 1) := dk_42 (dk_at dksX2_readSyllable_3 5 rfl rfl)
theorem dX2_readSyllable_75 : decode cX2_readSyllable 75 = .ok (.bipush 58, 2) := dk_16 58 (dk_at dksX2_readSyllable_3 6 rfl rfl)
theorem dX2_readSyllable_77 : decode cX2_readSyllable 77 = .ok (.invokevirtual 156, 3) := dk_182 0 156 (dk_at dksX2_readSyllable_3 8 rfl rfl)
theorem dX2_readSyllable_80 : decode cX2_readSyllable 80 = .ok (.ifCond .eq 18, 3) := dk_153 0 18 (dk_at dksX2_readSyllable_3 11 rfl rfl)
theorem dX2_readSyllable_83 : decode cX2_readSyllable 83 = .ok (.aload_n 0, 1) := dk_42 (dk_at dksX2_readSyllable_3 14 rfl rfl)
theorem dX2_readSyllable_84 : decode cX2_readSyllable 84 = .ok (.iconst 3, 1) := dk_6 (dk_at dksX2_readSyllable_3 15 rfl rfl)
theorem dX2_readSyllable_85 : decode cX2_readSyllable 85 = .ok (.iconst 1, 1) := dk_4 (dk_at dksX2_readSyllable_3 16 rfl rfl)
theorem dX2_readSyllable_86 : decode cX2_readSyllable 86 = .ok (.bipush 32, 2) := dk_16 32 (dk_at dksX2_readSyllable_3 17 rfl rfl)
theorem dX2_readSyllable_88 : decode cX2_readSyllable 88 = .ok (.invokevirtual 159, 3) := dk_182 0 159 (dk_at dksX2_readSyllable_3 19 rfl rfl)
theorem dX2_readSyllable_91 : decode cX2_readSyllable 91 = .ok (.ifCond .eq 7, 3) := dk_153 0 7 (dk_at dksX2_readSyllable_4 0 rfl rfl)
theorem dX2_readSyllable_94 : decode cX2_readSyllable 94 = .ok (.iconst 1, 1) := dk_4 (dk_at dksX2_readSyllable_4 3 rfl rfl)
theorem dX2_readSyllable_95 : decode cX2_readSyllable 95 = .ok (.goto 4, 3) := dk_167 0 4 (dk_at dksX2_readSyllable_4 4 rfl rfl)
theorem dX2_readSyllable_98 : decode cX2_readSyllable 98 = .ok (.iconst 0, 1) := dk_3 (dk_at dksX2_readSyllable_4 7 rfl rfl)
theorem dX2_readSyllable_99 : decode cX2_readSyllable 99 = .ok (.ireturn, 1) := dk_172 (dk_at dksX2_readSyllable_4 8 rfl rfl)
abbrev cX2_takes : ByteArray := prog_9_method_44_code
def yX2_takes : MethodName := ⟨RX2, "takes", "(I)Z"⟩
def dkwX2_takes_1 : List UInt8 := [181, 0, 150, 28, 172]
abbrev dktX2_takes_1 : List UInt8 := dkwX2_takes_1 ++ []
def dkwX2_takes_0 : List UInt8 := [42, 27, 27, 182, 0, 153, 61, 42, 89, 180, 0, 150, 28, 153, 0, 7, 4, 167, 0, 4, 3, 96]
abbrev dktX2_takes_0 : List UInt8 := dkwX2_takes_0 ++ dktX2_takes_1
theorem dksX2_takes_0 : cX2_takes.data.toList.drop 0 = dktX2_takes_0 := by decide +kernel
theorem dksX2_takes_1 : cX2_takes.data.toList.drop 22 = dktX2_takes_1 := dk_seg dksX2_takes_0 22 rfl rfl
theorem dX2_takes_0 : decode cX2_takes 0 = .ok (.aload_n 0, 1) := dk_42 (dk_at dksX2_takes_0 0 rfl rfl)
theorem dX2_takes_1 : decode cX2_takes 1 = .ok (.iload_n 1, 1) := dk_27 (dk_at dksX2_takes_0 1 rfl rfl)
theorem dX2_takes_2 : decode cX2_takes 2 = .ok (.iload_n 1, 1) := dk_27 (dk_at dksX2_takes_0 2 rfl rfl)
theorem dX2_takes_3 : decode cX2_takes 3 = .ok (.invokevirtual 153, 3) := dk_182 0 153 (dk_at dksX2_takes_0 3 rfl rfl)
theorem dX2_takes_6 : decode cX2_takes 6 = .ok (.istore_n 2, 1) := dk_61 (dk_at dksX2_takes_0 6 rfl rfl)
theorem dX2_takes_7 : decode cX2_takes 7 = .ok (.aload_n 0, 1) := dk_42 (dk_at dksX2_takes_0 7 rfl rfl)
theorem dX2_takes_8 : decode cX2_takes 8 = .ok (.dup, 1) := dk_89 (dk_at dksX2_takes_0 8 rfl rfl)
theorem dX2_takes_9 : decode cX2_takes 9 = .ok (.getfield 150, 3) := dk_180 0 150 (dk_at dksX2_takes_0 9 rfl rfl)
theorem dX2_takes_12 : decode cX2_takes 12 = .ok (.iload_n 2, 1) := dk_28 (dk_at dksX2_takes_0 12 rfl rfl)
theorem dX2_takes_13 : decode cX2_takes 13 = .ok (.ifCond .eq 7, 3) := dk_153 0 7 (dk_at dksX2_takes_0 13 rfl rfl)
theorem dX2_takes_16 : decode cX2_takes 16 = .ok (.iconst 1, 1) := dk_4 (dk_at dksX2_takes_0 16 rfl rfl)
theorem dX2_takes_17 : decode cX2_takes 17 = .ok (.goto 4, 3) := dk_167 0 4 (dk_at dksX2_takes_0 17 rfl rfl)
theorem dX2_takes_20 : decode cX2_takes 20 = .ok (.iconst 0, 1) := dk_3 (dk_at dksX2_takes_0 20 rfl rfl)
theorem dX2_takes_21 : decode cX2_takes 21 = .ok (.iadd, 1) := dk_96 (dk_at dksX2_takes_0 21 rfl rfl)
theorem dX2_takes_22 : decode cX2_takes 22 = .ok (.putfield 150, 3) := dk_181 0 150 (dk_at dksX2_takes_1 0 rfl rfl)
theorem dX2_takes_25 : decode cX2_takes 25 = .ok (.iload_n 2, 1) := dk_28 (dk_at dksX2_takes_1 3 rfl rfl)
theorem dX2_takes_26 : decode cX2_takes 26 = .ok (.ireturn, 1) := dk_172 (dk_at dksX2_takes_1 4 rfl rfl)
abbrev cX2_isNext : ByteArray := prog_9_method_43_code
def yX2_isNext : MethodName := ⟨RX2, "isNext", "(II)Z"⟩
def dkwX2_isNext_1 : List UInt8 := [184, 0, 44, 153, 0, 7, 4, 167, 0, 4, 3, 172]
abbrev dktX2_isNext_1 : List UInt8 := dkwX2_isNext_1 ++ []
def dkwX2_isNext_0 : List UInt8 := [42, 180, 0, 150, 42, 180, 0, 147, 162, 0, 24, 42, 180, 0, 19, 42, 180, 0, 150, 52, 27, 28]
abbrev dktX2_isNext_0 : List UInt8 := dkwX2_isNext_0 ++ dktX2_isNext_1
theorem dksX2_isNext_0 : cX2_isNext.data.toList.drop 0 = dktX2_isNext_0 := by decide +kernel
theorem dksX2_isNext_1 : cX2_isNext.data.toList.drop 22 = dktX2_isNext_1 := dk_seg dksX2_isNext_0 22 rfl rfl
theorem dX2_isNext_0 : decode cX2_isNext 0 = .ok (.aload_n 0, 1) := dk_42 (dk_at dksX2_isNext_0 0 rfl rfl)
theorem dX2_isNext_1 : decode cX2_isNext 1 = .ok (.getfield 150, 3) := dk_180 0 150 (dk_at dksX2_isNext_0 1 rfl rfl)
theorem dX2_isNext_4 : decode cX2_isNext 4 = .ok (.aload_n 0, 1) := dk_42 (dk_at dksX2_isNext_0 4 rfl rfl)
theorem dX2_isNext_5 : decode cX2_isNext 5 = .ok (.getfield 147, 3) := dk_180 0 147 (dk_at dksX2_isNext_0 5 rfl rfl)
theorem dX2_isNext_8 : decode cX2_isNext 8 = .ok (.if_icmp .ge 24, 3) := dk_162 0 24 (dk_at dksX2_isNext_0 8 rfl rfl)
theorem dX2_isNext_11 : decode cX2_isNext 11 = .ok (.aload_n 0, 1) := dk_42 (dk_at dksX2_isNext_0 11 rfl rfl)
theorem dX2_isNext_12 : decode cX2_isNext 12 = .ok (.getfield 19, 3) := dk_180 0 19 (dk_at dksX2_isNext_0 12 rfl rfl)
theorem dX2_isNext_15 : decode cX2_isNext 15 = .ok (.aload_n 0, 1) := dk_42 (dk_at dksX2_isNext_0 15 rfl rfl)
theorem dX2_isNext_16 : decode cX2_isNext 16 = .ok (.getfield 150, 3) := dk_180 0 150 (dk_at dksX2_isNext_0 16 rfl rfl)
theorem dX2_isNext_19 : decode cX2_isNext 19 = .ok (.caload, 1) := dk_52 (dk_at dksX2_isNext_0 19 rfl rfl)
theorem dX2_isNext_20 : decode cX2_isNext 20 = .ok (.iload_n 1, 1) := dk_27 (dk_at dksX2_isNext_0 20 rfl rfl)
theorem dX2_isNext_21 : decode cX2_isNext 21 = .ok (.iload_n 2, 1) := dk_28 (dk_at dksX2_isNext_0 21 rfl rfl)
theorem dX2_isNext_22 : decode cX2_isNext 22 = .ok (.invokestatic 44, 3) := dk_184 0 44 (dk_at dksX2_isNext_1 0 rfl rfl)
theorem dX2_isNext_25 : decode cX2_isNext 25 = .ok (.ifCond .eq 7, 3) := dk_153 0 7 (dk_at dksX2_isNext_1 3 rfl rfl)
theorem dX2_isNext_28 : decode cX2_isNext 28 = .ok (.iconst 1, 1) := dk_4 (dk_at dksX2_isNext_1 6 rfl rfl)
theorem dX2_isNext_29 : decode cX2_isNext 29 = .ok (.goto 4, 3) := dk_167 0 4 (dk_at dksX2_isNext_1 7 rfl rfl)
theorem dX2_isNext_32 : decode cX2_isNext 32 = .ok (.iconst 0, 1) := dk_3 (dk_at dksX2_isNext_1 10 rfl rfl)
theorem dX2_isNext_33 : decode cX2_isNext 33 = .ok (.ireturn, 1) := dk_172 (dk_at dksX2_isNext_1 11 rfl rfl)
abbrev cX2_readNumber : ByteArray := prog_9_method_45_code
def yX2_readNumber : MethodName := ⟨RX2, "readNumber", "(III)Z"⟩
def dkwX2_readNumber_5 : List UInt8 := [4, 172]
abbrev dktX2_readNumber_5 : List UInt8 := dkwX2_readNumber_5 ++ []
def dkwX2_readNumber_4 : List UInt8 := [100, 54, 4, 42, 89, 180, 0, 150, 4, 96, 181, 0, 150, 167, 255, 188, 42, 180, 0, 41, 27, 21, 4, 79]
abbrev dktX2_readNumber_4 : List UInt8 := dkwX2_readNumber_4 ++ dktX2_readNumber_5
def dkwX2_readNumber_3 : List UInt8 := [16, 48, 100, 29, 163, 0, 36, 16, 10, 21, 4, 104, 42, 180, 0, 19, 42, 180, 0, 150, 52, 96, 16, 48]
abbrev dktX2_readNumber_3 : List UInt8 := dkwX2_readNumber_3 ++ dktX2_readNumber_4
def dkwX2_readNumber_2 : List UInt8 := [16, 57, 182, 0, 153, 153, 0, 58, 16, 10, 21, 4, 104, 42, 180, 0, 19, 42, 180, 0, 150, 52, 96]
abbrev dktX2_readNumber_2 : List UInt8 := dkwX2_readNumber_2 ++ dktX2_readNumber_3
def dkwX2_readNumber_1 : List UInt8 := [16, 48, 100, 54, 4, 42, 89, 180, 0, 150, 4, 96, 181, 0, 150, 21, 4, 158, 0, 69, 42, 16, 48]
abbrev dktX2_readNumber_1 : List UInt8 := dkwX2_readNumber_1 ++ dktX2_readNumber_2
def dkwX2_readNumber_0 : List UInt8 := [42, 16, 48, 28, 96, 16, 57, 182, 0, 153, 154, 0, 5, 3, 172, 42, 180, 0, 19, 42, 180, 0, 150, 52]
abbrev dktX2_readNumber_0 : List UInt8 := dkwX2_readNumber_0 ++ dktX2_readNumber_1
theorem dksX2_readNumber_0 : cX2_readNumber.data.toList.drop 0 = dktX2_readNumber_0 := by decide +kernel
theorem dksX2_readNumber_1 : cX2_readNumber.data.toList.drop 24 = dktX2_readNumber_1 := dk_seg dksX2_readNumber_0 24 rfl rfl
theorem dksX2_readNumber_2 : cX2_readNumber.data.toList.drop 47 = dktX2_readNumber_2 := dk_seg dksX2_readNumber_1 23 rfl rfl
theorem dksX2_readNumber_3 : cX2_readNumber.data.toList.drop 70 = dktX2_readNumber_3 := dk_seg dksX2_readNumber_2 23 rfl rfl
theorem dksX2_readNumber_4 : cX2_readNumber.data.toList.drop 94 = dktX2_readNumber_4 := dk_seg dksX2_readNumber_3 24 rfl rfl
theorem dksX2_readNumber_5 : cX2_readNumber.data.toList.drop 118 = dktX2_readNumber_5 := dk_seg dksX2_readNumber_4 24 rfl rfl
theorem dX2_readNumber_0 : decode cX2_readNumber 0 = .ok (.aload_n 0, 1) := dk_42 (dk_at dksX2_readNumber_0 0 rfl rfl)
theorem dX2_readNumber_1 : decode cX2_readNumber 1 = .ok (.bipush 48, 2) := dk_16 48 (dk_at dksX2_readNumber_0 1 rfl rfl)
theorem dX2_readNumber_3 : decode cX2_readNumber 3 = .ok (.iload_n 2, 1) := dk_28 (dk_at dksX2_readNumber_0 3 rfl rfl)
theorem dX2_readNumber_4 : decode cX2_readNumber 4 = .ok (.iadd, 1) := dk_96 (dk_at dksX2_readNumber_0 4 rfl rfl)
theorem dX2_readNumber_5 : decode cX2_readNumber 5 = .ok (.bipush 57, 2) := dk_16 57 (dk_at dksX2_readNumber_0 5 rfl rfl)
theorem dX2_readNumber_7 : decode cX2_readNumber 7 = .ok (.invokevirtual 153, 3) := dk_182 0 153 (dk_at dksX2_readNumber_0 7 rfl rfl)
theorem dX2_readNumber_10 : decode cX2_readNumber 10 = .ok (.ifCond .ne 5, 3) := dk_154 0 5 (dk_at dksX2_readNumber_0 10 rfl rfl)
theorem dX2_readNumber_13 : decode cX2_readNumber 13 = .ok (.iconst 0, 1) := dk_3 (dk_at dksX2_readNumber_0 13 rfl rfl)
theorem dX2_readNumber_14 : decode cX2_readNumber 14 = .ok (.ireturn, 1) := dk_172 (dk_at dksX2_readNumber_0 14 rfl rfl)
theorem dX2_readNumber_15 : decode cX2_readNumber 15 = .ok (.aload_n 0, 1) := dk_42 (dk_at dksX2_readNumber_0 15 rfl rfl)
theorem dX2_readNumber_16 : decode cX2_readNumber 16 = .ok (.getfield 19, 3) := dk_180 0 19 (dk_at dksX2_readNumber_0 16 rfl rfl)
theorem dX2_readNumber_19 : decode cX2_readNumber 19 = .ok (.aload_n 0, 1) := dk_42 (dk_at dksX2_readNumber_0 19 rfl rfl)
theorem dX2_readNumber_20 : decode cX2_readNumber 20 = .ok (.getfield 150, 3) := dk_180 0 150 (dk_at dksX2_readNumber_0 20 rfl rfl)
theorem dX2_readNumber_23 : decode cX2_readNumber 23 = .ok (.caload, 1) := dk_52 (dk_at dksX2_readNumber_0 23 rfl rfl)
theorem dX2_readNumber_24 : decode cX2_readNumber 24 = .ok (.bipush 48, 2) := dk_16 48 (dk_at dksX2_readNumber_1 0 rfl rfl)
theorem dX2_readNumber_26 : decode cX2_readNumber 26 = .ok (.isub, 1) := dk_100 (dk_at dksX2_readNumber_1 2 rfl rfl)
theorem dX2_readNumber_27 : decode cX2_readNumber 27 = .ok (.istore 4, 2) := dk_54 4 (dk_at dksX2_readNumber_1 3 rfl rfl)
theorem dX2_readNumber_29 : decode cX2_readNumber 29 = .ok (.aload_n 0, 1) := dk_42 (dk_at dksX2_readNumber_1 5 rfl rfl)
theorem dX2_readNumber_30 : decode cX2_readNumber 30 = .ok (.dup, 1) := dk_89 (dk_at dksX2_readNumber_1 6 rfl rfl)
theorem dX2_readNumber_31 : decode cX2_readNumber 31 = .ok (.getfield 150, 3) := dk_180 0 150 (dk_at dksX2_readNumber_1 7 rfl rfl)
theorem dX2_readNumber_34 : decode cX2_readNumber 34 = .ok (.iconst 1, 1) := dk_4 (dk_at dksX2_readNumber_1 10 rfl rfl)
theorem dX2_readNumber_35 : decode cX2_readNumber 35 = .ok (.iadd, 1) := dk_96 (dk_at dksX2_readNumber_1 11 rfl rfl)
theorem dX2_readNumber_36 : decode cX2_readNumber 36 = .ok (.putfield 150, 3) := dk_181 0 150 (dk_at dksX2_readNumber_1 12 rfl rfl)
theorem dX2_readNumber_39 : decode cX2_readNumber 39 = .ok (.iload 4, 2) := dk_21 4 (dk_at dksX2_readNumber_1 15 rfl rfl)
theorem dX2_readNumber_41 : decode cX2_readNumber 41 = .ok (.ifCond .le 69, 3) := dk_158 0 69 (dk_at dksX2_readNumber_1 17 rfl rfl)
theorem dX2_readNumber_44 : decode cX2_readNumber 44 = .ok (.aload_n 0, 1) := dk_42 (dk_at dksX2_readNumber_1 20 rfl rfl)
theorem dX2_readNumber_45 : decode cX2_readNumber 45 = .ok (.bipush 48, 2) := dk_16 48 (dk_at dksX2_readNumber_1 21 rfl rfl)
theorem dX2_readNumber_47 : decode cX2_readNumber 47 = .ok (.bipush 57, 2) := dk_16 57 (dk_at dksX2_readNumber_2 0 rfl rfl)
theorem dX2_readNumber_49 : decode cX2_readNumber 49 = .ok (.invokevirtual 153, 3) := dk_182 0 153 (dk_at dksX2_readNumber_2 2 rfl rfl)
theorem dX2_readNumber_52 : decode cX2_readNumber 52 = .ok (.ifCond .eq 58, 3) := dk_153 0 58 (dk_at dksX2_readNumber_2 5 rfl rfl)
theorem dX2_readNumber_55 : decode cX2_readNumber 55 = .ok (.bipush 10, 2) := dk_16 10 (dk_at dksX2_readNumber_2 8 rfl rfl)
theorem dX2_readNumber_57 : decode cX2_readNumber 57 = .ok (.iload 4, 2) := dk_21 4 (dk_at dksX2_readNumber_2 10 rfl rfl)
theorem dX2_readNumber_59 : decode cX2_readNumber 59 = .ok (.imul, 1) := dk_104 (dk_at dksX2_readNumber_2 12 rfl rfl)
theorem dX2_readNumber_60 : decode cX2_readNumber 60 = .ok (.aload_n 0, 1) := dk_42 (dk_at dksX2_readNumber_2 13 rfl rfl)
theorem dX2_readNumber_61 : decode cX2_readNumber 61 = .ok (.getfield 19, 3) := dk_180 0 19 (dk_at dksX2_readNumber_2 14 rfl rfl)
theorem dX2_readNumber_64 : decode cX2_readNumber 64 = .ok (.aload_n 0, 1) := dk_42 (dk_at dksX2_readNumber_2 17 rfl rfl)
theorem dX2_readNumber_65 : decode cX2_readNumber 65 = .ok (.getfield 150, 3) := dk_180 0 150 (dk_at dksX2_readNumber_2 18 rfl rfl)
theorem dX2_readNumber_68 : decode cX2_readNumber 68 = .ok (.caload, 1) := dk_52 (dk_at dksX2_readNumber_2 21 rfl rfl)
theorem dX2_readNumber_69 : decode cX2_readNumber 69 = .ok (.iadd, 1) := dk_96 (dk_at dksX2_readNumber_2 22 rfl rfl)
theorem dX2_readNumber_70 : decode cX2_readNumber 70 = .ok (.bipush 48, 2) := dk_16 48 (dk_at dksX2_readNumber_3 0 rfl rfl)
theorem dX2_readNumber_72 : decode cX2_readNumber 72 = .ok (.isub, 1) := dk_100 (dk_at dksX2_readNumber_3 2 rfl rfl)
theorem dX2_readNumber_73 : decode cX2_readNumber 73 = .ok (.iload_n 3, 1) := dk_29 (dk_at dksX2_readNumber_3 3 rfl rfl)
theorem dX2_readNumber_74 : decode cX2_readNumber 74 = .ok (.if_icmp .gt 36, 3) := dk_163 0 36 (dk_at dksX2_readNumber_3 4 rfl rfl)
theorem dX2_readNumber_77 : decode cX2_readNumber 77 = .ok (.bipush 10, 2) := dk_16 10 (dk_at dksX2_readNumber_3 7 rfl rfl)
theorem dX2_readNumber_79 : decode cX2_readNumber 79 = .ok (.iload 4, 2) := dk_21 4 (dk_at dksX2_readNumber_3 9 rfl rfl)
theorem dX2_readNumber_81 : decode cX2_readNumber 81 = .ok (.imul, 1) := dk_104 (dk_at dksX2_readNumber_3 11 rfl rfl)
theorem dX2_readNumber_82 : decode cX2_readNumber 82 = .ok (.aload_n 0, 1) := dk_42 (dk_at dksX2_readNumber_3 12 rfl rfl)
theorem dX2_readNumber_83 : decode cX2_readNumber 83 = .ok (.getfield 19, 3) := dk_180 0 19 (dk_at dksX2_readNumber_3 13 rfl rfl)
theorem dX2_readNumber_86 : decode cX2_readNumber 86 = .ok (.aload_n 0, 1) := dk_42 (dk_at dksX2_readNumber_3 16 rfl rfl)
theorem dX2_readNumber_87 : decode cX2_readNumber 87 = .ok (.getfield 150, 3) := dk_180 0 150 (dk_at dksX2_readNumber_3 17 rfl rfl)
theorem dX2_readNumber_90 : decode cX2_readNumber 90 = .ok (.caload, 1) := dk_52 (dk_at dksX2_readNumber_3 20 rfl rfl)
theorem dX2_readNumber_91 : decode cX2_readNumber 91 = .ok (.iadd, 1) := dk_96 (dk_at dksX2_readNumber_3 21 rfl rfl)
theorem dX2_readNumber_92 : decode cX2_readNumber 92 = .ok (.bipush 48, 2) := dk_16 48 (dk_at dksX2_readNumber_3 22 rfl rfl)
theorem dX2_readNumber_94 : decode cX2_readNumber 94 = .ok (.isub, 1) := dk_100 (dk_at dksX2_readNumber_4 0 rfl rfl)
theorem dX2_readNumber_95 : decode cX2_readNumber 95 = .ok (.istore 4, 2) := dk_54 4 (dk_at dksX2_readNumber_4 1 rfl rfl)
theorem dX2_readNumber_97 : decode cX2_readNumber 97 = .ok (.aload_n 0, 1) := dk_42 (dk_at dksX2_readNumber_4 3 rfl rfl)
theorem dX2_readNumber_98 : decode cX2_readNumber 98 = .ok (.dup, 1) := dk_89 (dk_at dksX2_readNumber_4 4 rfl rfl)
theorem dX2_readNumber_99 : decode cX2_readNumber 99 = .ok (.getfield 150, 3) := dk_180 0 150 (dk_at dksX2_readNumber_4 5 rfl rfl)
theorem dX2_readNumber_102 : decode cX2_readNumber 102 = .ok (.iconst 1, 1) := dk_4 (dk_at dksX2_readNumber_4 8 rfl rfl)
theorem dX2_readNumber_103 : decode cX2_readNumber 103 = .ok (.iadd, 1) := dk_96 (dk_at dksX2_readNumber_4 9 rfl rfl)
theorem dX2_readNumber_104 : decode cX2_readNumber 104 = .ok (.putfield 150, 3) := dk_181 0 150 (dk_at dksX2_readNumber_4 10 rfl rfl)
theorem dX2_readNumber_107 : decode cX2_readNumber 107 = .ok (.goto (-68), 3) := dk_167 255 188 (dk_at dksX2_readNumber_4 13 rfl rfl)
theorem dX2_readNumber_110 : decode cX2_readNumber 110 = .ok (.aload_n 0, 1) := dk_42 (dk_at dksX2_readNumber_4 16 rfl rfl)
theorem dX2_readNumber_111 : decode cX2_readNumber 111 = .ok (.getfield 41, 3) := dk_180 0 41 (dk_at dksX2_readNumber_4 17 rfl rfl)
theorem dX2_readNumber_114 : decode cX2_readNumber 114 = .ok (.iload_n 1, 1) := dk_27 (dk_at dksX2_readNumber_4 20 rfl rfl)
theorem dX2_readNumber_115 : decode cX2_readNumber 115 = .ok (.iload 4, 2) := dk_21 4 (dk_at dksX2_readNumber_4 21 rfl rfl)
theorem dX2_readNumber_117 : decode cX2_readNumber 117 = .ok (.iastore, 1) := dk_79 (dk_at dksX2_readNumber_4 23 rfl rfl)
theorem dX2_readNumber_118 : decode cX2_readNumber 118 = .ok (.iconst 1, 1) := dk_4 (dk_at dksX2_readNumber_5 0 rfl rfl)
theorem dX2_readNumber_119 : decode cX2_readNumber 119 = .ok (.ireturn, 1) := dk_172 (dk_at dksX2_readNumber_5 1 rfl rfl)
abbrev cX2_undo : ByteArray := prog_9_method_49_code
def yX2_undo : MethodName := ⟨RX2, "undo", "()I"⟩
def dkwX2_undo_1 : List UInt8 := [17, 3, 38, 42, 180, 0, 48, 104, 42, 180, 0, 7, 3, 184, 0, 52, 42, 180, 0, 48, 172]
abbrev dktX2_undo_1 : List UInt8 := dkwX2_undo_1 ++ []
def dkwX2_undo_0 : List UInt8 := [42, 180, 0, 48, 154, 0, 6, 16, 251, 172, 42, 89, 180, 0, 48, 4, 100, 181, 0, 48, 42, 180, 0, 13]
abbrev dktX2_undo_0 : List UInt8 := dkwX2_undo_0 ++ dktX2_undo_1
theorem dksX2_undo_0 : cX2_undo.data.toList.drop 0 = dktX2_undo_0 := by decide +kernel
theorem dksX2_undo_1 : cX2_undo.data.toList.drop 24 = dktX2_undo_1 := dk_seg dksX2_undo_0 24 rfl rfl
theorem dX2_undo_0 : decode cX2_undo 0 = .ok (.aload_n 0, 1) := dk_42 (dk_at dksX2_undo_0 0 rfl rfl)
theorem dX2_undo_1 : decode cX2_undo 1 = .ok (.getfield 48, 3) := dk_180 0 48 (dk_at dksX2_undo_0 1 rfl rfl)
theorem dX2_undo_4 : decode cX2_undo 4 = .ok (.ifCond .ne 6, 3) := dk_154 0 6 (dk_at dksX2_undo_0 4 rfl rfl)
theorem dX2_undo_7 : decode cX2_undo 7 = .ok (.bipush (-5), 2) := dk_16 251 (dk_at dksX2_undo_0 7 rfl rfl)
theorem dX2_undo_9 : decode cX2_undo 9 = .ok (.ireturn, 1) := dk_172 (dk_at dksX2_undo_0 9 rfl rfl)
theorem dX2_undo_10 : decode cX2_undo 10 = .ok (.aload_n 0, 1) := dk_42 (dk_at dksX2_undo_0 10 rfl rfl)
theorem dX2_undo_11 : decode cX2_undo 11 = .ok (.dup, 1) := dk_89 (dk_at dksX2_undo_0 11 rfl rfl)
theorem dX2_undo_12 : decode cX2_undo 12 = .ok (.getfield 48, 3) := dk_180 0 48 (dk_at dksX2_undo_0 12 rfl rfl)
theorem dX2_undo_15 : decode cX2_undo 15 = .ok (.iconst 1, 1) := dk_4 (dk_at dksX2_undo_0 15 rfl rfl)
theorem dX2_undo_16 : decode cX2_undo 16 = .ok (.isub, 1) := dk_100 (dk_at dksX2_undo_0 16 rfl rfl)
theorem dX2_undo_17 : decode cX2_undo 17 = .ok (.putfield 48, 3) := dk_181 0 48 (dk_at dksX2_undo_0 17 rfl rfl)
theorem dX2_undo_20 : decode cX2_undo 20 = .ok (.aload_n 0, 1) := dk_42 (dk_at dksX2_undo_0 20 rfl rfl)
theorem dX2_undo_21 : decode cX2_undo 21 = .ok (.getfield 13, 3) := dk_180 0 13 (dk_at dksX2_undo_0 21 rfl rfl)
theorem dX2_undo_24 : decode cX2_undo 24 = .ok (.sipush 806, 3) := dk_17 3 38 (dk_at dksX2_undo_1 0 rfl rfl)
theorem dX2_undo_27 : decode cX2_undo 27 = .ok (.aload_n 0, 1) := dk_42 (dk_at dksX2_undo_1 3 rfl rfl)
theorem dX2_undo_28 : decode cX2_undo 28 = .ok (.getfield 48, 3) := dk_180 0 48 (dk_at dksX2_undo_1 4 rfl rfl)
theorem dX2_undo_31 : decode cX2_undo 31 = .ok (.imul, 1) := dk_104 (dk_at dksX2_undo_1 7 rfl rfl)
theorem dX2_undo_32 : decode cX2_undo 32 = .ok (.aload_n 0, 1) := dk_42 (dk_at dksX2_undo_1 8 rfl rfl)
theorem dX2_undo_33 : decode cX2_undo 33 = .ok (.getfield 7, 3) := dk_180 0 7 (dk_at dksX2_undo_1 9 rfl rfl)
theorem dX2_undo_36 : decode cX2_undo 36 = .ok (.iconst 0, 1) := dk_3 (dk_at dksX2_undo_1 12 rfl rfl)
theorem dX2_undo_37 : decode cX2_undo 37 = .ok (.invokestatic 52, 3) := dk_184 0 52 (dk_at dksX2_undo_1 13 rfl rfl)
theorem dX2_undo_40 : decode cX2_undo 40 = .ok (.aload_n 0, 1) := dk_42 (dk_at dksX2_undo_1 16 rfl rfl)
theorem dX2_undo_41 : decode cX2_undo 41 = .ok (.getfield 48, 3) := dk_180 0 48 (dk_at dksX2_undo_1 17 rfl rfl)
theorem dX2_undo_44 : decode cX2_undo 44 = .ok (.ireturn, 1) := dk_172 (dk_at dksX2_undo_1 20 rfl rfl)
abbrev cX2_keep : ByteArray := prog_9_method_50_code
def yX2_keep : MethodName := ⟨RX2, "keep", "()I"⟩
def dkwX2_keep_1 : List UInt8 := [172]
abbrev dktX2_keep_1 : List UInt8 := dkwX2_keep_1 ++ []
def dkwX2_keep_0 : List UInt8 := [42, 180, 0, 7, 3, 42, 180, 0, 16, 3, 184, 0, 52, 42, 4, 181, 0, 173, 42, 180, 0, 7, 8, 46]
abbrev dktX2_keep_0 : List UInt8 := dkwX2_keep_0 ++ dktX2_keep_1
theorem dksX2_keep_0 : cX2_keep.data.toList.drop 0 = dktX2_keep_0 := by decide +kernel
theorem dksX2_keep_1 : cX2_keep.data.toList.drop 24 = dktX2_keep_1 := dk_seg dksX2_keep_0 24 rfl rfl
theorem dX2_keep_0 : decode cX2_keep 0 = .ok (.aload_n 0, 1) := dk_42 (dk_at dksX2_keep_0 0 rfl rfl)
theorem dX2_keep_1 : decode cX2_keep 1 = .ok (.getfield 7, 3) := dk_180 0 7 (dk_at dksX2_keep_0 1 rfl rfl)
theorem dX2_keep_4 : decode cX2_keep 4 = .ok (.iconst 0, 1) := dk_3 (dk_at dksX2_keep_0 4 rfl rfl)
theorem dX2_keep_5 : decode cX2_keep 5 = .ok (.aload_n 0, 1) := dk_42 (dk_at dksX2_keep_0 5 rfl rfl)
theorem dX2_keep_6 : decode cX2_keep 6 = .ok (.getfield 16, 3) := dk_180 0 16 (dk_at dksX2_keep_0 6 rfl rfl)
theorem dX2_keep_9 : decode cX2_keep 9 = .ok (.iconst 0, 1) := dk_3 (dk_at dksX2_keep_0 9 rfl rfl)
theorem dX2_keep_10 : decode cX2_keep 10 = .ok (.invokestatic 52, 3) := dk_184 0 52 (dk_at dksX2_keep_0 10 rfl rfl)
theorem dX2_keep_13 : decode cX2_keep 13 = .ok (.aload_n 0, 1) := dk_42 (dk_at dksX2_keep_0 13 rfl rfl)
theorem dX2_keep_14 : decode cX2_keep 14 = .ok (.iconst 1, 1) := dk_4 (dk_at dksX2_keep_0 14 rfl rfl)
theorem dX2_keep_15 : decode cX2_keep 15 = .ok (.putfield 173, 3) := dk_181 0 173 (dk_at dksX2_keep_0 15 rfl rfl)
theorem dX2_keep_18 : decode cX2_keep 18 = .ok (.aload_n 0, 1) := dk_42 (dk_at dksX2_keep_0 18 rfl rfl)
theorem dX2_keep_19 : decode cX2_keep 19 = .ok (.getfield 7, 3) := dk_180 0 7 (dk_at dksX2_keep_0 19 rfl rfl)
theorem dX2_keep_22 : decode cX2_keep 22 = .ok (.iconst 5, 1) := dk_8 (dk_at dksX2_keep_0 22 rfl rfl)
theorem dX2_keep_23 : decode cX2_keep 23 = .ok (.iaload, 1) := dk_46 (dk_at dksX2_keep_0 23 rfl rfl)
theorem dX2_keep_24 : decode cX2_keep 24 = .ok (.ireturn, 1) := dk_172 (dk_at dksX2_keep_1 0 rfl rfl)
abbrev cX2_restore : ByteArray := prog_9_method_51_code
def yX2_restore : MethodName := ⟨RX2, "restore", "()I"⟩
def dkwX2_restore_1 : List UInt8 := [184, 0, 52, 42, 180, 0, 7, 8, 46, 172]
abbrev dktX2_restore_1 : List UInt8 := dkwX2_restore_1 ++ []
def dkwX2_restore_0 : List UInt8 := [42, 180, 0, 173, 154, 0, 6, 16, 251, 172, 42, 182, 0, 128, 42, 180, 0, 16, 3, 42, 180, 0, 7, 3]
abbrev dktX2_restore_0 : List UInt8 := dkwX2_restore_0 ++ dktX2_restore_1
theorem dksX2_restore_0 : cX2_restore.data.toList.drop 0 = dktX2_restore_0 := by decide +kernel
theorem dksX2_restore_1 : cX2_restore.data.toList.drop 24 = dktX2_restore_1 := dk_seg dksX2_restore_0 24 rfl rfl
theorem dX2_restore_0 : decode cX2_restore 0 = .ok (.aload_n 0, 1) := dk_42 (dk_at dksX2_restore_0 0 rfl rfl)
theorem dX2_restore_1 : decode cX2_restore 1 = .ok (.getfield 173, 3) := dk_180 0 173 (dk_at dksX2_restore_0 1 rfl rfl)
theorem dX2_restore_4 : decode cX2_restore 4 = .ok (.ifCond .ne 6, 3) := dk_154 0 6 (dk_at dksX2_restore_0 4 rfl rfl)
theorem dX2_restore_7 : decode cX2_restore 7 = .ok (.bipush (-5), 2) := dk_16 251 (dk_at dksX2_restore_0 7 rfl rfl)
theorem dX2_restore_9 : decode cX2_restore 9 = .ok (.ireturn, 1) := dk_172 (dk_at dksX2_restore_0 9 rfl rfl)
theorem dX2_restore_10 : decode cX2_restore 10 = .ok (.aload_n 0, 1) := dk_42 (dk_at dksX2_restore_0 10 rfl rfl)
theorem dX2_restore_11 : decode cX2_restore 11 = .ok (.invokevirtual 128, 3) := dk_182 0 128 (dk_at dksX2_restore_0 11 rfl rfl)
theorem dX2_restore_14 : decode cX2_restore 14 = .ok (.aload_n 0, 1) := dk_42 (dk_at dksX2_restore_0 14 rfl rfl)
theorem dX2_restore_15 : decode cX2_restore 15 = .ok (.getfield 16, 3) := dk_180 0 16 (dk_at dksX2_restore_0 15 rfl rfl)
theorem dX2_restore_18 : decode cX2_restore 18 = .ok (.iconst 0, 1) := dk_3 (dk_at dksX2_restore_0 18 rfl rfl)
theorem dX2_restore_19 : decode cX2_restore 19 = .ok (.aload_n 0, 1) := dk_42 (dk_at dksX2_restore_0 19 rfl rfl)
theorem dX2_restore_20 : decode cX2_restore 20 = .ok (.getfield 7, 3) := dk_180 0 7 (dk_at dksX2_restore_0 20 rfl rfl)
theorem dX2_restore_23 : decode cX2_restore 23 = .ok (.iconst 0, 1) := dk_3 (dk_at dksX2_restore_0 23 rfl rfl)
theorem dX2_restore_24 : decode cX2_restore 24 = .ok (.invokestatic 52, 3) := dk_184 0 52 (dk_at dksX2_restore_1 0 rfl rfl)
theorem dX2_restore_27 : decode cX2_restore 27 = .ok (.aload_n 0, 1) := dk_42 (dk_at dksX2_restore_1 3 rfl rfl)
theorem dX2_restore_28 : decode cX2_restore 28 = .ok (.getfield 7, 3) := dk_180 0 7 (dk_at dksX2_restore_1 4 rfl rfl)
theorem dX2_restore_31 : decode cX2_restore 31 = .ok (.iconst 5, 1) := dk_8 (dk_at dksX2_restore_1 7 rfl rfl)
theorem dX2_restore_32 : decode cX2_restore 32 = .ok (.iaload, 1) := dk_46 (dk_at dksX2_restore_1 8 rfl rfl)
theorem dX2_restore_33 : decode cX2_restore 33 = .ok (.ireturn, 1) := dk_172 (dk_at dksX2_restore_1 9 rfl rfl)
abbrev cX2_syllable : ByteArray := prog_9_method_52_code
def yX2_syllable : MethodName := ⟨RX2, "syllable", "(II)I"⟩
def dkwX2_syllable_4 : List UInt8 := [180, 0, 38, 27, 46, 172, 42, 180, 0, 35, 27, 46, 172, 16, 254, 172]
abbrev dktX2_syllable_4 : List UInt8 := dkwX2_syllable_4 ++ []
def dkwX2_syllable_3 : List UInt8 := [27, 46, 172, 42, 27, 182, 0, 83, 172, 42, 180, 0, 29, 27, 46, 172, 42, 180, 0, 32, 27, 46, 172, 42]
abbrev dktX2_syllable_3 : List UInt8 := dkwX2_syllable_3 ++ dktX2_syllable_4
def dkwX2_syllable_2 : List UInt8 := [42, 27, 28, 182, 0, 56, 172, 42, 27, 182, 0, 64, 172, 42, 27, 3, 182, 0, 90, 172, 42, 180, 0, 26]
abbrev dktX2_syllable_2 : List UInt8 := dkwX2_syllable_2 ++ dktX2_syllable_3
def dkwX2_syllable_1 : List UInt8 := [170, 0, 0, 0, 122, 0, 0, 0, 0, 0, 0, 0, 11, 0, 0, 0, 61, 0, 0, 0, 61, 0, 0, 0, 61, 0, 0, 0, 61, 0, 0, 0, 68, 0, 0, 0, 74, 0, 0, 0, 81, 0, 0, 0, 88, 0, 0, 0, 94, 0, 0, 0, 101, 0, 0, 0, 108, 0, 0, 0, 115]
abbrev dktX2_syllable_1 : List UInt8 := dkwX2_syllable_1 ++ dktX2_syllable_2
def dkwX2_syllable_0 : List UInt8 := [42, 27, 182, 0, 144, 154, 0, 5, 2, 172, 42, 182, 0, 138, 28]
abbrev dktX2_syllable_0 : List UInt8 := dkwX2_syllable_0 ++ dktX2_syllable_1
theorem dksX2_syllable_0 : cX2_syllable.data.toList.drop 0 = dktX2_syllable_0 := by decide +kernel
theorem dksX2_syllable_1 : cX2_syllable.data.toList.drop 15 = dktX2_syllable_1 := dk_seg dksX2_syllable_0 15 rfl rfl
theorem dksX2_syllable_2 : cX2_syllable.data.toList.drop 76 = dktX2_syllable_2 := dk_seg dksX2_syllable_1 61 rfl rfl
theorem dksX2_syllable_3 : cX2_syllable.data.toList.drop 100 = dktX2_syllable_3 := dk_seg dksX2_syllable_2 24 rfl rfl
theorem dksX2_syllable_4 : cX2_syllable.data.toList.drop 124 = dktX2_syllable_4 := dk_seg dksX2_syllable_3 24 rfl rfl
theorem dX2_syllable_0 : decode cX2_syllable 0 = .ok (.aload_n 0, 1) := dk_42 (dk_at dksX2_syllable_0 0 rfl rfl)
theorem dX2_syllable_1 : decode cX2_syllable 1 = .ok (.iload_n 1, 1) := dk_27 (dk_at dksX2_syllable_0 1 rfl rfl)
theorem dX2_syllable_2 : decode cX2_syllable 2 = .ok (.invokevirtual 144, 3) := dk_182 0 144 (dk_at dksX2_syllable_0 2 rfl rfl)
theorem dX2_syllable_5 : decode cX2_syllable 5 = .ok (.ifCond .ne 5, 3) := dk_154 0 5 (dk_at dksX2_syllable_0 5 rfl rfl)
theorem dX2_syllable_8 : decode cX2_syllable 8 = .ok (.iconst (-1), 1) := dk_2 (dk_at dksX2_syllable_0 8 rfl rfl)
theorem dX2_syllable_9 : decode cX2_syllable 9 = .ok (.ireturn, 1) := dk_172 (dk_at dksX2_syllable_0 9 rfl rfl)
theorem dX2_syllable_10 : decode cX2_syllable 10 = .ok (.aload_n 0, 1) := dk_42 (dk_at dksX2_syllable_0 10 rfl rfl)
theorem dX2_syllable_11 : decode cX2_syllable 11 = .ok (.invokevirtual 138, 3) := dk_182 0 138 (dk_at dksX2_syllable_0 11 rfl rfl)
theorem dX2_syllable_14 : decode cX2_syllable 14 = .ok (.iload_n 2, 1) := dk_28 (dk_at dksX2_syllable_0 14 rfl rfl)
theorem dX2_syllable_15 : decode cX2_syllable 15 = .ok (.tableswitch 122 0 11 #[61, 61, 61, 61, 68, 74, 81, 88, 94, 101, 108, 115], 61) := by decide +kernel
theorem dX2_syllable_76 : decode cX2_syllable 76 = .ok (.aload_n 0, 1) := dk_42 (dk_at dksX2_syllable_2 0 rfl rfl)
theorem dX2_syllable_77 : decode cX2_syllable 77 = .ok (.iload_n 1, 1) := dk_27 (dk_at dksX2_syllable_2 1 rfl rfl)
theorem dX2_syllable_78 : decode cX2_syllable 78 = .ok (.iload_n 2, 1) := dk_28 (dk_at dksX2_syllable_2 2 rfl rfl)
theorem dX2_syllable_79 : decode cX2_syllable 79 = .ok (.invokevirtual 56, 3) := dk_182 0 56 (dk_at dksX2_syllable_2 3 rfl rfl)
theorem dX2_syllable_82 : decode cX2_syllable 82 = .ok (.ireturn, 1) := dk_172 (dk_at dksX2_syllable_2 6 rfl rfl)
theorem dX2_syllable_83 : decode cX2_syllable 83 = .ok (.aload_n 0, 1) := dk_42 (dk_at dksX2_syllable_2 7 rfl rfl)
theorem dX2_syllable_84 : decode cX2_syllable 84 = .ok (.iload_n 1, 1) := dk_27 (dk_at dksX2_syllable_2 8 rfl rfl)
theorem dX2_syllable_85 : decode cX2_syllable 85 = .ok (.invokevirtual 64, 3) := dk_182 0 64 (dk_at dksX2_syllable_2 9 rfl rfl)
theorem dX2_syllable_88 : decode cX2_syllable 88 = .ok (.ireturn, 1) := dk_172 (dk_at dksX2_syllable_2 12 rfl rfl)
theorem dX2_syllable_89 : decode cX2_syllable 89 = .ok (.aload_n 0, 1) := dk_42 (dk_at dksX2_syllable_2 13 rfl rfl)
theorem dX2_syllable_90 : decode cX2_syllable 90 = .ok (.iload_n 1, 1) := dk_27 (dk_at dksX2_syllable_2 14 rfl rfl)
theorem dX2_syllable_91 : decode cX2_syllable 91 = .ok (.iconst 0, 1) := dk_3 (dk_at dksX2_syllable_2 15 rfl rfl)
theorem dX2_syllable_92 : decode cX2_syllable 92 = .ok (.invokevirtual 90, 3) := dk_182 0 90 (dk_at dksX2_syllable_2 16 rfl rfl)
theorem dX2_syllable_95 : decode cX2_syllable 95 = .ok (.ireturn, 1) := dk_172 (dk_at dksX2_syllable_2 19 rfl rfl)
theorem dX2_syllable_96 : decode cX2_syllable 96 = .ok (.aload_n 0, 1) := dk_42 (dk_at dksX2_syllable_2 20 rfl rfl)
theorem dX2_syllable_97 : decode cX2_syllable 97 = .ok (.getfield 26, 3) := dk_180 0 26 (dk_at dksX2_syllable_2 21 rfl rfl)
theorem dX2_syllable_100 : decode cX2_syllable 100 = .ok (.iload_n 1, 1) := dk_27 (dk_at dksX2_syllable_3 0 rfl rfl)
theorem dX2_syllable_101 : decode cX2_syllable 101 = .ok (.iaload, 1) := dk_46 (dk_at dksX2_syllable_3 1 rfl rfl)
theorem dX2_syllable_102 : decode cX2_syllable 102 = .ok (.ireturn, 1) := dk_172 (dk_at dksX2_syllable_3 2 rfl rfl)
theorem dX2_syllable_103 : decode cX2_syllable 103 = .ok (.aload_n 0, 1) := dk_42 (dk_at dksX2_syllable_3 3 rfl rfl)
theorem dX2_syllable_104 : decode cX2_syllable 104 = .ok (.iload_n 1, 1) := dk_27 (dk_at dksX2_syllable_3 4 rfl rfl)
theorem dX2_syllable_105 : decode cX2_syllable 105 = .ok (.invokevirtual 83, 3) := dk_182 0 83 (dk_at dksX2_syllable_3 5 rfl rfl)
theorem dX2_syllable_108 : decode cX2_syllable 108 = .ok (.ireturn, 1) := dk_172 (dk_at dksX2_syllable_3 8 rfl rfl)
theorem dX2_syllable_109 : decode cX2_syllable 109 = .ok (.aload_n 0, 1) := dk_42 (dk_at dksX2_syllable_3 9 rfl rfl)
theorem dX2_syllable_110 : decode cX2_syllable 110 = .ok (.getfield 29, 3) := dk_180 0 29 (dk_at dksX2_syllable_3 10 rfl rfl)
theorem dX2_syllable_113 : decode cX2_syllable 113 = .ok (.iload_n 1, 1) := dk_27 (dk_at dksX2_syllable_3 13 rfl rfl)
theorem dX2_syllable_114 : decode cX2_syllable 114 = .ok (.iaload, 1) := dk_46 (dk_at dksX2_syllable_3 14 rfl rfl)
theorem dX2_syllable_115 : decode cX2_syllable 115 = .ok (.ireturn, 1) := dk_172 (dk_at dksX2_syllable_3 15 rfl rfl)
theorem dX2_syllable_116 : decode cX2_syllable 116 = .ok (.aload_n 0, 1) := dk_42 (dk_at dksX2_syllable_3 16 rfl rfl)
theorem dX2_syllable_117 : decode cX2_syllable 117 = .ok (.getfield 32, 3) := dk_180 0 32 (dk_at dksX2_syllable_3 17 rfl rfl)
theorem dX2_syllable_120 : decode cX2_syllable 120 = .ok (.iload_n 1, 1) := dk_27 (dk_at dksX2_syllable_3 20 rfl rfl)
theorem dX2_syllable_121 : decode cX2_syllable 121 = .ok (.iaload, 1) := dk_46 (dk_at dksX2_syllable_3 21 rfl rfl)
theorem dX2_syllable_122 : decode cX2_syllable 122 = .ok (.ireturn, 1) := dk_172 (dk_at dksX2_syllable_3 22 rfl rfl)
theorem dX2_syllable_123 : decode cX2_syllable 123 = .ok (.aload_n 0, 1) := dk_42 (dk_at dksX2_syllable_3 23 rfl rfl)
theorem dX2_syllable_124 : decode cX2_syllable 124 = .ok (.getfield 38, 3) := dk_180 0 38 (dk_at dksX2_syllable_4 0 rfl rfl)
theorem dX2_syllable_127 : decode cX2_syllable 127 = .ok (.iload_n 1, 1) := dk_27 (dk_at dksX2_syllable_4 3 rfl rfl)
theorem dX2_syllable_128 : decode cX2_syllable 128 = .ok (.iaload, 1) := dk_46 (dk_at dksX2_syllable_4 4 rfl rfl)
theorem dX2_syllable_129 : decode cX2_syllable 129 = .ok (.ireturn, 1) := dk_172 (dk_at dksX2_syllable_4 5 rfl rfl)
theorem dX2_syllable_130 : decode cX2_syllable 130 = .ok (.aload_n 0, 1) := dk_42 (dk_at dksX2_syllable_4 6 rfl rfl)
theorem dX2_syllable_131 : decode cX2_syllable 131 = .ok (.getfield 35, 3) := dk_180 0 35 (dk_at dksX2_syllable_4 7 rfl rfl)
theorem dX2_syllable_134 : decode cX2_syllable 134 = .ok (.iload_n 1, 1) := dk_27 (dk_at dksX2_syllable_4 10 rfl rfl)
theorem dX2_syllable_135 : decode cX2_syllable 135 = .ok (.iaload, 1) := dk_46 (dk_at dksX2_syllable_4 11 rfl rfl)
theorem dX2_syllable_136 : decode cX2_syllable 136 = .ok (.ireturn, 1) := dk_172 (dk_at dksX2_syllable_4 12 rfl rfl)
theorem dX2_syllable_137 : decode cX2_syllable 137 = .ok (.bipush (-2), 2) := dk_16 254 (dk_at dksX2_syllable_4 13 rfl rfl)
theorem dX2_syllable_139 : decode cX2_syllable 139 = .ok (.ireturn, 1) := dk_172 (dk_at dksX2_syllable_4 15 rfl rfl)
abbrev cX2_phraseOf : ByteArray := prog_9_method_16_code
def yX2_phraseOf : MethodName := ⟨RX2, "phraseOf", "(I)I"⟩
def dkwX2_phraseOf_1 : List UInt8 := [28, 172]
abbrev dktX2_phraseOf_1 : List UInt8 := dkwX2_phraseOf_1 ++ []
def dkwX2_phraseOf_0 : List UInt8 := [2, 61, 3, 62, 29, 27, 163, 0, 18, 28, 42, 29, 7, 182, 0, 56, 96, 61, 132, 3, 1, 167, 255, 239]
abbrev dktX2_phraseOf_0 : List UInt8 := dkwX2_phraseOf_0 ++ dktX2_phraseOf_1
theorem dksX2_phraseOf_0 : cX2_phraseOf.data.toList.drop 0 = dktX2_phraseOf_0 := by decide +kernel
theorem dksX2_phraseOf_1 : cX2_phraseOf.data.toList.drop 24 = dktX2_phraseOf_1 := dk_seg dksX2_phraseOf_0 24 rfl rfl
theorem dX2_phraseOf_0 : decode cX2_phraseOf 0 = .ok (.iconst (-1), 1) := dk_2 (dk_at dksX2_phraseOf_0 0 rfl rfl)
theorem dX2_phraseOf_1 : decode cX2_phraseOf 1 = .ok (.istore_n 2, 1) := dk_61 (dk_at dksX2_phraseOf_0 1 rfl rfl)
theorem dX2_phraseOf_2 : decode cX2_phraseOf 2 = .ok (.iconst 0, 1) := dk_3 (dk_at dksX2_phraseOf_0 2 rfl rfl)
theorem dX2_phraseOf_3 : decode cX2_phraseOf 3 = .ok (.istore_n 3, 1) := dk_62 (dk_at dksX2_phraseOf_0 3 rfl rfl)
theorem dX2_phraseOf_4 : decode cX2_phraseOf 4 = .ok (.iload_n 3, 1) := dk_29 (dk_at dksX2_phraseOf_0 4 rfl rfl)
theorem dX2_phraseOf_5 : decode cX2_phraseOf 5 = .ok (.iload_n 1, 1) := dk_27 (dk_at dksX2_phraseOf_0 5 rfl rfl)
theorem dX2_phraseOf_6 : decode cX2_phraseOf 6 = .ok (.if_icmp .gt 18, 3) := dk_163 0 18 (dk_at dksX2_phraseOf_0 6 rfl rfl)
theorem dX2_phraseOf_9 : decode cX2_phraseOf 9 = .ok (.iload_n 2, 1) := dk_28 (dk_at dksX2_phraseOf_0 9 rfl rfl)
theorem dX2_phraseOf_10 : decode cX2_phraseOf 10 = .ok (.aload_n 0, 1) := dk_42 (dk_at dksX2_phraseOf_0 10 rfl rfl)
theorem dX2_phraseOf_11 : decode cX2_phraseOf 11 = .ok (.iload_n 3, 1) := dk_29 (dk_at dksX2_phraseOf_0 11 rfl rfl)
theorem dX2_phraseOf_12 : decode cX2_phraseOf 12 = .ok (.iconst 4, 1) := dk_7 (dk_at dksX2_phraseOf_0 12 rfl rfl)
theorem dX2_phraseOf_13 : decode cX2_phraseOf 13 = .ok (.invokevirtual 56, 3) := dk_182 0 56 (dk_at dksX2_phraseOf_0 13 rfl rfl)
theorem dX2_phraseOf_16 : decode cX2_phraseOf 16 = .ok (.iadd, 1) := dk_96 (dk_at dksX2_phraseOf_0 16 rfl rfl)
theorem dX2_phraseOf_17 : decode cX2_phraseOf 17 = .ok (.istore_n 2, 1) := dk_61 (dk_at dksX2_phraseOf_0 17 rfl rfl)
theorem dX2_phraseOf_18 : decode cX2_phraseOf 18 = .ok (.iinc 3 1, 3) := dk_132 3 1 (dk_at dksX2_phraseOf_0 18 rfl rfl)
theorem dX2_phraseOf_21 : decode cX2_phraseOf 21 = .ok (.goto (-17), 3) := dk_167 255 239 (dk_at dksX2_phraseOf_0 21 rfl rfl)
theorem dX2_phraseOf_24 : decode cX2_phraseOf 24 = .ok (.iload_n 2, 1) := dk_28 (dk_at dksX2_phraseOf_1 0 rfl rfl)
theorem dX2_phraseOf_25 : decode cX2_phraseOf 25 = .ok (.ireturn, 1) := dk_172 (dk_at dksX2_phraseOf_1 1 rfl rfl)
abbrev cX2_wanted : ByteArray := prog_9_method_53_code
def yX2_wanted : MethodName := ⟨RX2, "wanted", "(I)I"⟩
def dkwX2_wanted_1 : List UInt8 := [167, 0, 16, 42, 28, 27, 42, 28, 3, 182, 0, 56, 100, 182, 0, 74, 172]
abbrev dktX2_wanted_1 : List UInt8 := dkwX2_wanted_1 ++ []
def dkwX2_wanted_0 : List UInt8 := [27, 184, 0, 67, 154, 0, 6, 16, 254, 172, 42, 27, 182, 0, 177, 61, 28, 16, 251, 160, 0, 8, 16, 251]
abbrev dktX2_wanted_0 : List UInt8 := dkwX2_wanted_0 ++ dktX2_wanted_1
theorem dksX2_wanted_0 : cX2_wanted.data.toList.drop 0 = dktX2_wanted_0 := by decide +kernel
theorem dksX2_wanted_1 : cX2_wanted.data.toList.drop 24 = dktX2_wanted_1 := dk_seg dksX2_wanted_0 24 rfl rfl
theorem dX2_wanted_0 : decode cX2_wanted 0 = .ok (.iload_n 1, 1) := dk_27 (dk_at dksX2_wanted_0 0 rfl rfl)
theorem dX2_wanted_1 : decode cX2_wanted 1 = .ok (.invokestatic 67, 3) := dk_184 0 67 (dk_at dksX2_wanted_0 1 rfl rfl)
theorem dX2_wanted_4 : decode cX2_wanted 4 = .ok (.ifCond .ne 6, 3) := dk_154 0 6 (dk_at dksX2_wanted_0 4 rfl rfl)
theorem dX2_wanted_7 : decode cX2_wanted 7 = .ok (.bipush (-2), 2) := dk_16 254 (dk_at dksX2_wanted_0 7 rfl rfl)
theorem dX2_wanted_9 : decode cX2_wanted 9 = .ok (.ireturn, 1) := dk_172 (dk_at dksX2_wanted_0 9 rfl rfl)
theorem dX2_wanted_10 : decode cX2_wanted 10 = .ok (.aload_n 0, 1) := dk_42 (dk_at dksX2_wanted_0 10 rfl rfl)
theorem dX2_wanted_11 : decode cX2_wanted 11 = .ok (.iload_n 1, 1) := dk_27 (dk_at dksX2_wanted_0 11 rfl rfl)
theorem dX2_wanted_12 : decode cX2_wanted 12 = .ok (.invokevirtual 177, 3) := dk_182 0 177 (dk_at dksX2_wanted_0 12 rfl rfl)
theorem dX2_wanted_15 : decode cX2_wanted 15 = .ok (.istore_n 2, 1) := dk_61 (dk_at dksX2_wanted_0 15 rfl rfl)
theorem dX2_wanted_16 : decode cX2_wanted 16 = .ok (.iload_n 2, 1) := dk_28 (dk_at dksX2_wanted_0 16 rfl rfl)
theorem dX2_wanted_17 : decode cX2_wanted 17 = .ok (.bipush (-5), 2) := dk_16 251 (dk_at dksX2_wanted_0 17 rfl rfl)
theorem dX2_wanted_19 : decode cX2_wanted 19 = .ok (.if_icmp .ne 8, 3) := dk_160 0 8 (dk_at dksX2_wanted_0 19 rfl rfl)
theorem dX2_wanted_22 : decode cX2_wanted 22 = .ok (.bipush (-5), 2) := dk_16 251 (dk_at dksX2_wanted_0 22 rfl rfl)
theorem dX2_wanted_24 : decode cX2_wanted 24 = .ok (.goto 16, 3) := dk_167 0 16 (dk_at dksX2_wanted_1 0 rfl rfl)
theorem dX2_wanted_27 : decode cX2_wanted 27 = .ok (.aload_n 0, 1) := dk_42 (dk_at dksX2_wanted_1 3 rfl rfl)
theorem dX2_wanted_28 : decode cX2_wanted 28 = .ok (.iload_n 2, 1) := dk_28 (dk_at dksX2_wanted_1 4 rfl rfl)
theorem dX2_wanted_29 : decode cX2_wanted 29 = .ok (.iload_n 1, 1) := dk_27 (dk_at dksX2_wanted_1 5 rfl rfl)
theorem dX2_wanted_30 : decode cX2_wanted 30 = .ok (.aload_n 0, 1) := dk_42 (dk_at dksX2_wanted_1 6 rfl rfl)
theorem dX2_wanted_31 : decode cX2_wanted 31 = .ok (.iload_n 2, 1) := dk_28 (dk_at dksX2_wanted_1 7 rfl rfl)
theorem dX2_wanted_32 : decode cX2_wanted 32 = .ok (.iconst 0, 1) := dk_3 (dk_at dksX2_wanted_1 8 rfl rfl)
theorem dX2_wanted_33 : decode cX2_wanted 33 = .ok (.invokevirtual 56, 3) := dk_182 0 56 (dk_at dksX2_wanted_1 9 rfl rfl)
theorem dX2_wanted_36 : decode cX2_wanted 36 = .ok (.isub, 1) := dk_100 (dk_at dksX2_wanted_1 12 rfl rfl)
theorem dX2_wanted_37 : decode cX2_wanted 37 = .ok (.invokevirtual 74, 3) := dk_182 0 74 (dk_at dksX2_wanted_1 13 rfl rfl)
theorem dX2_wanted_40 : decode cX2_wanted 40 = .ok (.ireturn, 1) := dk_172 (dk_at dksX2_wanted_1 16 rfl rfl)
abbrev cX2_syllableAt : ByteArray := prog_9_method_15_code
def yX2_syllableAt : MethodName := ⟨RX2, "syllableAt", "(I)I"⟩
def dkwX2_syllableAt_2 : List UInt8 := [172]
abbrev dktX2_syllableAt_2 : List UInt8 := dkwX2_syllableAt_2 ++ []
def dkwX2_syllableAt_1 : List UInt8 := [182, 0, 60, 4, 100, 184, 0, 44, 153, 0, 7, 29, 167, 0, 4, 28, 61, 132, 3, 1, 167, 255, 217, 28]
abbrev dktX2_syllableAt_1 : List UInt8 := dkwX2_syllableAt_1 ++ dktX2_syllableAt_2
def dkwX2_syllableAt_0 : List UInt8 := [16, 251, 61, 3, 62, 29, 42, 180, 0, 7, 8, 46, 162, 0, 35, 27, 42, 29, 3, 182, 0, 56, 42, 29]
abbrev dktX2_syllableAt_0 : List UInt8 := dkwX2_syllableAt_0 ++ dktX2_syllableAt_1
theorem dksX2_syllableAt_0 : cX2_syllableAt.data.toList.drop 0 = dktX2_syllableAt_0 := by decide +kernel
theorem dksX2_syllableAt_1 : cX2_syllableAt.data.toList.drop 24 = dktX2_syllableAt_1 := dk_seg dksX2_syllableAt_0 24 rfl rfl
theorem dksX2_syllableAt_2 : cX2_syllableAt.data.toList.drop 48 = dktX2_syllableAt_2 := dk_seg dksX2_syllableAt_1 24 rfl rfl
theorem dX2_syllableAt_0 : decode cX2_syllableAt 0 = .ok (.bipush (-5), 2) := dk_16 251 (dk_at dksX2_syllableAt_0 0 rfl rfl)
theorem dX2_syllableAt_2 : decode cX2_syllableAt 2 = .ok (.istore_n 2, 1) := dk_61 (dk_at dksX2_syllableAt_0 2 rfl rfl)
theorem dX2_syllableAt_3 : decode cX2_syllableAt 3 = .ok (.iconst 0, 1) := dk_3 (dk_at dksX2_syllableAt_0 3 rfl rfl)
theorem dX2_syllableAt_4 : decode cX2_syllableAt 4 = .ok (.istore_n 3, 1) := dk_62 (dk_at dksX2_syllableAt_0 4 rfl rfl)
theorem dX2_syllableAt_5 : decode cX2_syllableAt 5 = .ok (.iload_n 3, 1) := dk_29 (dk_at dksX2_syllableAt_0 5 rfl rfl)
theorem dX2_syllableAt_6 : decode cX2_syllableAt 6 = .ok (.aload_n 0, 1) := dk_42 (dk_at dksX2_syllableAt_0 6 rfl rfl)
theorem dX2_syllableAt_7 : decode cX2_syllableAt 7 = .ok (.getfield 7, 3) := dk_180 0 7 (dk_at dksX2_syllableAt_0 7 rfl rfl)
theorem dX2_syllableAt_10 : decode cX2_syllableAt 10 = .ok (.iconst 5, 1) := dk_8 (dk_at dksX2_syllableAt_0 10 rfl rfl)
theorem dX2_syllableAt_11 : decode cX2_syllableAt 11 = .ok (.iaload, 1) := dk_46 (dk_at dksX2_syllableAt_0 11 rfl rfl)
theorem dX2_syllableAt_12 : decode cX2_syllableAt 12 = .ok (.if_icmp .ge 35, 3) := dk_162 0 35 (dk_at dksX2_syllableAt_0 12 rfl rfl)
theorem dX2_syllableAt_15 : decode cX2_syllableAt 15 = .ok (.iload_n 1, 1) := dk_27 (dk_at dksX2_syllableAt_0 15 rfl rfl)
theorem dX2_syllableAt_16 : decode cX2_syllableAt 16 = .ok (.aload_n 0, 1) := dk_42 (dk_at dksX2_syllableAt_0 16 rfl rfl)
theorem dX2_syllableAt_17 : decode cX2_syllableAt 17 = .ok (.iload_n 3, 1) := dk_29 (dk_at dksX2_syllableAt_0 17 rfl rfl)
theorem dX2_syllableAt_18 : decode cX2_syllableAt 18 = .ok (.iconst 0, 1) := dk_3 (dk_at dksX2_syllableAt_0 18 rfl rfl)
theorem dX2_syllableAt_19 : decode cX2_syllableAt 19 = .ok (.invokevirtual 56, 3) := dk_182 0 56 (dk_at dksX2_syllableAt_0 19 rfl rfl)
theorem dX2_syllableAt_22 : decode cX2_syllableAt 22 = .ok (.aload_n 0, 1) := dk_42 (dk_at dksX2_syllableAt_0 22 rfl rfl)
theorem dX2_syllableAt_23 : decode cX2_syllableAt 23 = .ok (.iload_n 3, 1) := dk_29 (dk_at dksX2_syllableAt_0 23 rfl rfl)
theorem dX2_syllableAt_24 : decode cX2_syllableAt 24 = .ok (.invokevirtual 60, 3) := dk_182 0 60 (dk_at dksX2_syllableAt_1 0 rfl rfl)
theorem dX2_syllableAt_27 : decode cX2_syllableAt 27 = .ok (.iconst 1, 1) := dk_4 (dk_at dksX2_syllableAt_1 3 rfl rfl)
theorem dX2_syllableAt_28 : decode cX2_syllableAt 28 = .ok (.isub, 1) := dk_100 (dk_at dksX2_syllableAt_1 4 rfl rfl)
theorem dX2_syllableAt_29 : decode cX2_syllableAt 29 = .ok (.invokestatic 44, 3) := dk_184 0 44 (dk_at dksX2_syllableAt_1 5 rfl rfl)
theorem dX2_syllableAt_32 : decode cX2_syllableAt 32 = .ok (.ifCond .eq 7, 3) := dk_153 0 7 (dk_at dksX2_syllableAt_1 8 rfl rfl)
theorem dX2_syllableAt_35 : decode cX2_syllableAt 35 = .ok (.iload_n 3, 1) := dk_29 (dk_at dksX2_syllableAt_1 11 rfl rfl)
theorem dX2_syllableAt_36 : decode cX2_syllableAt 36 = .ok (.goto 4, 3) := dk_167 0 4 (dk_at dksX2_syllableAt_1 12 rfl rfl)
theorem dX2_syllableAt_39 : decode cX2_syllableAt 39 = .ok (.iload_n 2, 1) := dk_28 (dk_at dksX2_syllableAt_1 15 rfl rfl)
theorem dX2_syllableAt_40 : decode cX2_syllableAt 40 = .ok (.istore_n 2, 1) := dk_61 (dk_at dksX2_syllableAt_1 16 rfl rfl)
theorem dX2_syllableAt_41 : decode cX2_syllableAt 41 = .ok (.iinc 3 1, 3) := dk_132 3 1 (dk_at dksX2_syllableAt_1 17 rfl rfl)
theorem dX2_syllableAt_44 : decode cX2_syllableAt 44 = .ok (.goto (-39), 3) := dk_167 255 217 (dk_at dksX2_syllableAt_1 20 rfl rfl)
theorem dX2_syllableAt_47 : decode cX2_syllableAt 47 = .ok (.iload_n 2, 1) := dk_28 (dk_at dksX2_syllableAt_1 23 rfl rfl)
theorem dX2_syllableAt_48 : decode cX2_syllableAt 48 = .ok (.ireturn, 1) := dk_172 (dk_at dksX2_syllableAt_2 0 rfl rfl)
abbrev cX2_sung : ByteArray := prog_9_method_54_code
def yX2_sung : MethodName := ⟨RX2, "sung", "(I)I"⟩
def dkwX2_sung_1 : List UInt8 := [16, 251, 167, 0, 15, 42, 180, 0, 7, 17, 0, 206, 27, 96, 46, 4, 100, 172]
abbrev dktX2_sung_1 : List UInt8 := dkwX2_sung_1 ++ []
def dkwX2_sung_0 : List UInt8 := [27, 184, 0, 67, 154, 0, 6, 16, 254, 172, 42, 180, 0, 7, 17, 0, 206, 27, 96, 46, 154, 0, 8]
abbrev dktX2_sung_0 : List UInt8 := dkwX2_sung_0 ++ dktX2_sung_1
theorem dksX2_sung_0 : cX2_sung.data.toList.drop 0 = dktX2_sung_0 := by decide +kernel
theorem dksX2_sung_1 : cX2_sung.data.toList.drop 23 = dktX2_sung_1 := dk_seg dksX2_sung_0 23 rfl rfl
theorem dX2_sung_0 : decode cX2_sung 0 = .ok (.iload_n 1, 1) := dk_27 (dk_at dksX2_sung_0 0 rfl rfl)
theorem dX2_sung_1 : decode cX2_sung 1 = .ok (.invokestatic 67, 3) := dk_184 0 67 (dk_at dksX2_sung_0 1 rfl rfl)
theorem dX2_sung_4 : decode cX2_sung 4 = .ok (.ifCond .ne 6, 3) := dk_154 0 6 (dk_at dksX2_sung_0 4 rfl rfl)
theorem dX2_sung_7 : decode cX2_sung 7 = .ok (.bipush (-2), 2) := dk_16 254 (dk_at dksX2_sung_0 7 rfl rfl)
theorem dX2_sung_9 : decode cX2_sung 9 = .ok (.ireturn, 1) := dk_172 (dk_at dksX2_sung_0 9 rfl rfl)
theorem dX2_sung_10 : decode cX2_sung 10 = .ok (.aload_n 0, 1) := dk_42 (dk_at dksX2_sung_0 10 rfl rfl)
theorem dX2_sung_11 : decode cX2_sung 11 = .ok (.getfield 7, 3) := dk_180 0 7 (dk_at dksX2_sung_0 11 rfl rfl)
theorem dX2_sung_14 : decode cX2_sung 14 = .ok (.sipush 206, 3) := dk_17 0 206 (dk_at dksX2_sung_0 14 rfl rfl)
theorem dX2_sung_17 : decode cX2_sung 17 = .ok (.iload_n 1, 1) := dk_27 (dk_at dksX2_sung_0 17 rfl rfl)
theorem dX2_sung_18 : decode cX2_sung 18 = .ok (.iadd, 1) := dk_96 (dk_at dksX2_sung_0 18 rfl rfl)
theorem dX2_sung_19 : decode cX2_sung 19 = .ok (.iaload, 1) := dk_46 (dk_at dksX2_sung_0 19 rfl rfl)
theorem dX2_sung_20 : decode cX2_sung 20 = .ok (.ifCond .ne 8, 3) := dk_154 0 8 (dk_at dksX2_sung_0 20 rfl rfl)
theorem dX2_sung_23 : decode cX2_sung 23 = .ok (.bipush (-5), 2) := dk_16 251 (dk_at dksX2_sung_1 0 rfl rfl)
theorem dX2_sung_25 : decode cX2_sung 25 = .ok (.goto 15, 3) := dk_167 0 15 (dk_at dksX2_sung_1 2 rfl rfl)
theorem dX2_sung_28 : decode cX2_sung 28 = .ok (.aload_n 0, 1) := dk_42 (dk_at dksX2_sung_1 5 rfl rfl)
theorem dX2_sung_29 : decode cX2_sung 29 = .ok (.getfield 7, 3) := dk_180 0 7 (dk_at dksX2_sung_1 6 rfl rfl)
theorem dX2_sung_32 : decode cX2_sung 32 = .ok (.sipush 206, 3) := dk_17 0 206 (dk_at dksX2_sung_1 9 rfl rfl)
theorem dX2_sung_35 : decode cX2_sung 35 = .ok (.iload_n 1, 1) := dk_27 (dk_at dksX2_sung_1 12 rfl rfl)
theorem dX2_sung_36 : decode cX2_sung 36 = .ok (.iadd, 1) := dk_96 (dk_at dksX2_sung_1 13 rfl rfl)
theorem dX2_sung_37 : decode cX2_sung 37 = .ok (.iaload, 1) := dk_46 (dk_at dksX2_sung_1 14 rfl rfl)
theorem dX2_sung_38 : decode cX2_sung 38 = .ok (.iconst 1, 1) := dk_4 (dk_at dksX2_sung_1 15 rfl rfl)
theorem dX2_sung_39 : decode cX2_sung 39 = .ok (.isub, 1) := dk_100 (dk_at dksX2_sung_1 16 rfl rfl)
theorem dX2_sung_40 : decode cX2_sung 40 = .ok (.ireturn, 1) := dk_172 (dk_at dksX2_sung_1 17 rfl rfl)
abbrev cX2_lit : ByteArray := prog_9_method_55_code
def yX2_lit : MethodName := ⟨RX2, "lit", "(II)I"⟩
def dkwX2_lit_2 : List UInt8 := [164, 0, 12, 42, 27, 4, 182, 0, 56, 167, 0, 4, 29, 172]
abbrev dktX2_lit_2 : List UInt8 := dkwX2_lit_2 ++ []
def dkwX2_lit_1 : List UInt8 := [182, 0, 56, 100, 4, 96, 62, 29, 156, 0, 7, 3, 167, 0, 23, 29, 42, 27, 4, 182, 0, 56]
abbrev dktX2_lit_1 : List UInt8 := dkwX2_lit_1 ++ dktX2_lit_2
def dkwX2_lit_0 : List UInt8 := [42, 27, 182, 0, 144, 154, 0, 5, 2, 172, 28, 184, 0, 67, 154, 0, 6, 16, 254, 172, 28, 42, 27, 3]
abbrev dktX2_lit_0 : List UInt8 := dkwX2_lit_0 ++ dktX2_lit_1
theorem dksX2_lit_0 : cX2_lit.data.toList.drop 0 = dktX2_lit_0 := by decide +kernel
theorem dksX2_lit_1 : cX2_lit.data.toList.drop 24 = dktX2_lit_1 := dk_seg dksX2_lit_0 24 rfl rfl
theorem dksX2_lit_2 : cX2_lit.data.toList.drop 46 = dktX2_lit_2 := dk_seg dksX2_lit_1 22 rfl rfl
theorem dX2_lit_0 : decode cX2_lit 0 = .ok (.aload_n 0, 1) := dk_42 (dk_at dksX2_lit_0 0 rfl rfl)
theorem dX2_lit_1 : decode cX2_lit 1 = .ok (.iload_n 1, 1) := dk_27 (dk_at dksX2_lit_0 1 rfl rfl)
theorem dX2_lit_2 : decode cX2_lit 2 = .ok (.invokevirtual 144, 3) := dk_182 0 144 (dk_at dksX2_lit_0 2 rfl rfl)
theorem dX2_lit_5 : decode cX2_lit 5 = .ok (.ifCond .ne 5, 3) := dk_154 0 5 (dk_at dksX2_lit_0 5 rfl rfl)
theorem dX2_lit_8 : decode cX2_lit 8 = .ok (.iconst (-1), 1) := dk_2 (dk_at dksX2_lit_0 8 rfl rfl)
theorem dX2_lit_9 : decode cX2_lit 9 = .ok (.ireturn, 1) := dk_172 (dk_at dksX2_lit_0 9 rfl rfl)
theorem dX2_lit_10 : decode cX2_lit 10 = .ok (.iload_n 2, 1) := dk_28 (dk_at dksX2_lit_0 10 rfl rfl)
theorem dX2_lit_11 : decode cX2_lit 11 = .ok (.invokestatic 67, 3) := dk_184 0 67 (dk_at dksX2_lit_0 11 rfl rfl)
theorem dX2_lit_14 : decode cX2_lit 14 = .ok (.ifCond .ne 6, 3) := dk_154 0 6 (dk_at dksX2_lit_0 14 rfl rfl)
theorem dX2_lit_17 : decode cX2_lit 17 = .ok (.bipush (-2), 2) := dk_16 254 (dk_at dksX2_lit_0 17 rfl rfl)
theorem dX2_lit_19 : decode cX2_lit 19 = .ok (.ireturn, 1) := dk_172 (dk_at dksX2_lit_0 19 rfl rfl)
theorem dX2_lit_20 : decode cX2_lit 20 = .ok (.iload_n 2, 1) := dk_28 (dk_at dksX2_lit_0 20 rfl rfl)
theorem dX2_lit_21 : decode cX2_lit 21 = .ok (.aload_n 0, 1) := dk_42 (dk_at dksX2_lit_0 21 rfl rfl)
theorem dX2_lit_22 : decode cX2_lit 22 = .ok (.iload_n 1, 1) := dk_27 (dk_at dksX2_lit_0 22 rfl rfl)
theorem dX2_lit_23 : decode cX2_lit 23 = .ok (.iconst 0, 1) := dk_3 (dk_at dksX2_lit_0 23 rfl rfl)
theorem dX2_lit_24 : decode cX2_lit 24 = .ok (.invokevirtual 56, 3) := dk_182 0 56 (dk_at dksX2_lit_1 0 rfl rfl)
theorem dX2_lit_27 : decode cX2_lit 27 = .ok (.isub, 1) := dk_100 (dk_at dksX2_lit_1 3 rfl rfl)
theorem dX2_lit_28 : decode cX2_lit 28 = .ok (.iconst 1, 1) := dk_4 (dk_at dksX2_lit_1 4 rfl rfl)
theorem dX2_lit_29 : decode cX2_lit 29 = .ok (.iadd, 1) := dk_96 (dk_at dksX2_lit_1 5 rfl rfl)
theorem dX2_lit_30 : decode cX2_lit 30 = .ok (.istore_n 3, 1) := dk_62 (dk_at dksX2_lit_1 6 rfl rfl)
theorem dX2_lit_31 : decode cX2_lit 31 = .ok (.iload_n 3, 1) := dk_29 (dk_at dksX2_lit_1 7 rfl rfl)
theorem dX2_lit_32 : decode cX2_lit 32 = .ok (.ifCond .ge 7, 3) := dk_156 0 7 (dk_at dksX2_lit_1 8 rfl rfl)
theorem dX2_lit_35 : decode cX2_lit 35 = .ok (.iconst 0, 1) := dk_3 (dk_at dksX2_lit_1 11 rfl rfl)
theorem dX2_lit_36 : decode cX2_lit 36 = .ok (.goto 23, 3) := dk_167 0 23 (dk_at dksX2_lit_1 12 rfl rfl)
theorem dX2_lit_39 : decode cX2_lit 39 = .ok (.iload_n 3, 1) := dk_29 (dk_at dksX2_lit_1 15 rfl rfl)
theorem dX2_lit_40 : decode cX2_lit 40 = .ok (.aload_n 0, 1) := dk_42 (dk_at dksX2_lit_1 16 rfl rfl)
theorem dX2_lit_41 : decode cX2_lit 41 = .ok (.iload_n 1, 1) := dk_27 (dk_at dksX2_lit_1 17 rfl rfl)
theorem dX2_lit_42 : decode cX2_lit 42 = .ok (.iconst 1, 1) := dk_4 (dk_at dksX2_lit_1 18 rfl rfl)
theorem dX2_lit_43 : decode cX2_lit 43 = .ok (.invokevirtual 56, 3) := dk_182 0 56 (dk_at dksX2_lit_1 19 rfl rfl)
theorem dX2_lit_46 : decode cX2_lit 46 = .ok (.if_icmp .le 12, 3) := dk_164 0 12 (dk_at dksX2_lit_2 0 rfl rfl)
theorem dX2_lit_49 : decode cX2_lit 49 = .ok (.aload_n 0, 1) := dk_42 (dk_at dksX2_lit_2 3 rfl rfl)
theorem dX2_lit_50 : decode cX2_lit 50 = .ok (.iload_n 1, 1) := dk_27 (dk_at dksX2_lit_2 4 rfl rfl)
theorem dX2_lit_51 : decode cX2_lit 51 = .ok (.iconst 1, 1) := dk_4 (dk_at dksX2_lit_2 5 rfl rfl)
theorem dX2_lit_52 : decode cX2_lit 52 = .ok (.invokevirtual 56, 3) := dk_182 0 56 (dk_at dksX2_lit_2 6 rfl rfl)
theorem dX2_lit_55 : decode cX2_lit 55 = .ok (.goto 4, 3) := dk_167 0 4 (dk_at dksX2_lit_2 9 rfl rfl)
theorem dX2_lit_58 : decode cX2_lit 58 = .ok (.iload_n 3, 1) := dk_29 (dk_at dksX2_lit_2 12 rfl rfl)
theorem dX2_lit_59 : decode cX2_lit 59 = .ok (.ireturn, 1) := dk_172 (dk_at dksX2_lit_2 13 rfl rfl)
abbrev cX2_phrase : ByteArray := prog_9_method_56_code
def yX2_phrase : MethodName := ⟨RX2, "phrase", "(II)I"⟩
def dkwX2_phrase_1 : List UInt8 := [154, 0, 6, 16, 254, 172, 42, 182, 0, 138, 42, 27, 28, 182, 0, 114, 172]
abbrev dktX2_phrase_1 : List UInt8 := dkwX2_phrase_1 ++ []
def dkwX2_phrase_0 : List UInt8 := [27, 3, 42, 182, 0, 110, 4, 100, 184, 0, 44, 154, 0, 5, 2, 172, 28, 3, 7, 184, 0, 44]
abbrev dktX2_phrase_0 : List UInt8 := dkwX2_phrase_0 ++ dktX2_phrase_1
theorem dksX2_phrase_0 : cX2_phrase.data.toList.drop 0 = dktX2_phrase_0 := by decide +kernel
theorem dksX2_phrase_1 : cX2_phrase.data.toList.drop 22 = dktX2_phrase_1 := dk_seg dksX2_phrase_0 22 rfl rfl
theorem dX2_phrase_0 : decode cX2_phrase 0 = .ok (.iload_n 1, 1) := dk_27 (dk_at dksX2_phrase_0 0 rfl rfl)
theorem dX2_phrase_1 : decode cX2_phrase 1 = .ok (.iconst 0, 1) := dk_3 (dk_at dksX2_phrase_0 1 rfl rfl)
theorem dX2_phrase_2 : decode cX2_phrase 2 = .ok (.aload_n 0, 1) := dk_42 (dk_at dksX2_phrase_0 2 rfl rfl)
theorem dX2_phrase_3 : decode cX2_phrase 3 = .ok (.invokevirtual 110, 3) := dk_182 0 110 (dk_at dksX2_phrase_0 3 rfl rfl)
theorem dX2_phrase_6 : decode cX2_phrase 6 = .ok (.iconst 1, 1) := dk_4 (dk_at dksX2_phrase_0 6 rfl rfl)
theorem dX2_phrase_7 : decode cX2_phrase 7 = .ok (.isub, 1) := dk_100 (dk_at dksX2_phrase_0 7 rfl rfl)
theorem dX2_phrase_8 : decode cX2_phrase 8 = .ok (.invokestatic 44, 3) := dk_184 0 44 (dk_at dksX2_phrase_0 8 rfl rfl)
theorem dX2_phrase_11 : decode cX2_phrase 11 = .ok (.ifCond .ne 5, 3) := dk_154 0 5 (dk_at dksX2_phrase_0 11 rfl rfl)
theorem dX2_phrase_14 : decode cX2_phrase 14 = .ok (.iconst (-1), 1) := dk_2 (dk_at dksX2_phrase_0 14 rfl rfl)
theorem dX2_phrase_15 : decode cX2_phrase 15 = .ok (.ireturn, 1) := dk_172 (dk_at dksX2_phrase_0 15 rfl rfl)
theorem dX2_phrase_16 : decode cX2_phrase 16 = .ok (.iload_n 2, 1) := dk_28 (dk_at dksX2_phrase_0 16 rfl rfl)
theorem dX2_phrase_17 : decode cX2_phrase 17 = .ok (.iconst 0, 1) := dk_3 (dk_at dksX2_phrase_0 17 rfl rfl)
theorem dX2_phrase_18 : decode cX2_phrase 18 = .ok (.iconst 4, 1) := dk_7 (dk_at dksX2_phrase_0 18 rfl rfl)
theorem dX2_phrase_19 : decode cX2_phrase 19 = .ok (.invokestatic 44, 3) := dk_184 0 44 (dk_at dksX2_phrase_0 19 rfl rfl)
theorem dX2_phrase_22 : decode cX2_phrase 22 = .ok (.ifCond .ne 6, 3) := dk_154 0 6 (dk_at dksX2_phrase_1 0 rfl rfl)
theorem dX2_phrase_25 : decode cX2_phrase 25 = .ok (.bipush (-2), 2) := dk_16 254 (dk_at dksX2_phrase_1 3 rfl rfl)
theorem dX2_phrase_27 : decode cX2_phrase 27 = .ok (.ireturn, 1) := dk_172 (dk_at dksX2_phrase_1 5 rfl rfl)
theorem dX2_phrase_28 : decode cX2_phrase 28 = .ok (.aload_n 0, 1) := dk_42 (dk_at dksX2_phrase_1 6 rfl rfl)
theorem dX2_phrase_29 : decode cX2_phrase 29 = .ok (.invokevirtual 138, 3) := dk_182 0 138 (dk_at dksX2_phrase_1 7 rfl rfl)
theorem dX2_phrase_32 : decode cX2_phrase 32 = .ok (.aload_n 0, 1) := dk_42 (dk_at dksX2_phrase_1 10 rfl rfl)
theorem dX2_phrase_33 : decode cX2_phrase 33 = .ok (.iload_n 1, 1) := dk_27 (dk_at dksX2_phrase_1 11 rfl rfl)
theorem dX2_phrase_34 : decode cX2_phrase 34 = .ok (.iload_n 2, 1) := dk_28 (dk_at dksX2_phrase_1 12 rfl rfl)
theorem dX2_phrase_35 : decode cX2_phrase 35 = .ok (.invokevirtual 114, 3) := dk_182 0 114 (dk_at dksX2_phrase_1 13 rfl rfl)
theorem dX2_phrase_38 : decode cX2_phrase 38 = .ok (.ireturn, 1) := dk_172 (dk_at dksX2_phrase_1 16 rfl rfl)
abbrev cX2_phrases : ByteArray := prog_9_method_17_code
def yX2_phrases : MethodName := ⟨RX2, "phrases", "()I"⟩
def dkwX2_phrases_1 : List UInt8 := [182, 0, 64, 4, 96, 172]
abbrev dktX2_phrases_1 : List UInt8 := dkwX2_phrases_1 ++ []
def dkwX2_phrases_0 : List UInt8 := [42, 180, 0, 7, 8, 46, 154, 0, 7, 3, 167, 0, 17, 42, 42, 180, 0, 7, 8, 46, 4, 100]
abbrev dktX2_phrases_0 : List UInt8 := dkwX2_phrases_0 ++ dktX2_phrases_1
theorem dksX2_phrases_0 : cX2_phrases.data.toList.drop 0 = dktX2_phrases_0 := by decide +kernel
theorem dksX2_phrases_1 : cX2_phrases.data.toList.drop 22 = dktX2_phrases_1 := dk_seg dksX2_phrases_0 22 rfl rfl
theorem dX2_phrases_0 : decode cX2_phrases 0 = .ok (.aload_n 0, 1) := dk_42 (dk_at dksX2_phrases_0 0 rfl rfl)
theorem dX2_phrases_1 : decode cX2_phrases 1 = .ok (.getfield 7, 3) := dk_180 0 7 (dk_at dksX2_phrases_0 1 rfl rfl)
theorem dX2_phrases_4 : decode cX2_phrases 4 = .ok (.iconst 5, 1) := dk_8 (dk_at dksX2_phrases_0 4 rfl rfl)
theorem dX2_phrases_5 : decode cX2_phrases 5 = .ok (.iaload, 1) := dk_46 (dk_at dksX2_phrases_0 5 rfl rfl)
theorem dX2_phrases_6 : decode cX2_phrases 6 = .ok (.ifCond .ne 7, 3) := dk_154 0 7 (dk_at dksX2_phrases_0 6 rfl rfl)
theorem dX2_phrases_9 : decode cX2_phrases 9 = .ok (.iconst 0, 1) := dk_3 (dk_at dksX2_phrases_0 9 rfl rfl)
theorem dX2_phrases_10 : decode cX2_phrases 10 = .ok (.goto 17, 3) := dk_167 0 17 (dk_at dksX2_phrases_0 10 rfl rfl)
theorem dX2_phrases_13 : decode cX2_phrases 13 = .ok (.aload_n 0, 1) := dk_42 (dk_at dksX2_phrases_0 13 rfl rfl)
theorem dX2_phrases_14 : decode cX2_phrases 14 = .ok (.aload_n 0, 1) := dk_42 (dk_at dksX2_phrases_0 14 rfl rfl)
theorem dX2_phrases_15 : decode cX2_phrases 15 = .ok (.getfield 7, 3) := dk_180 0 7 (dk_at dksX2_phrases_0 15 rfl rfl)
theorem dX2_phrases_18 : decode cX2_phrases 18 = .ok (.iconst 5, 1) := dk_8 (dk_at dksX2_phrases_0 18 rfl rfl)
theorem dX2_phrases_19 : decode cX2_phrases 19 = .ok (.iaload, 1) := dk_46 (dk_at dksX2_phrases_0 19 rfl rfl)
theorem dX2_phrases_20 : decode cX2_phrases 20 = .ok (.iconst 1, 1) := dk_4 (dk_at dksX2_phrases_0 20 rfl rfl)
theorem dX2_phrases_21 : decode cX2_phrases 21 = .ok (.isub, 1) := dk_100 (dk_at dksX2_phrases_0 21 rfl rfl)
theorem dX2_phrases_22 : decode cX2_phrases 22 = .ok (.invokevirtual 64, 3) := dk_182 0 64 (dk_at dksX2_phrases_1 0 rfl rfl)
theorem dX2_phrases_25 : decode cX2_phrases 25 = .ok (.iconst 1, 1) := dk_4 (dk_at dksX2_phrases_1 3 rfl rfl)
theorem dX2_phrases_26 : decode cX2_phrases 26 = .ok (.iadd, 1) := dk_96 (dk_at dksX2_phrases_1 4 rfl rfl)
theorem dX2_phrases_27 : decode cX2_phrases 27 = .ok (.ireturn, 1) := dk_172 (dk_at dksX2_phrases_1 5 rfl rfl)
abbrev cX2_ofPhrase : ByteArray := prog_9_method_28_code
def yX2_ofPhrase : MethodName := ⟨RX2, "ofPhrase", "(II)I"⟩
def dkwX2_ofPhrase_8 : List UInt8 := [160, 0, 8, 21, 6, 167, 0, 5, 21, 7, 172]
abbrev dktX2_ofPhrase_8 : List UInt8 := dkwX2_ofPhrase_8 ++ []
def dkwX2_ofPhrase_7 : List UInt8 := [28, 4, 160, 0, 8, 21, 4, 167, 0, 25, 28, 5, 160, 0, 8, 21, 5, 167, 0, 15, 28, 6]
abbrev dktX2_ofPhrase_7 : List UInt8 := dkwX2_ofPhrase_7 ++ dktX2_ofPhrase_8
def dkwX2_ofPhrase_6 : List UInt8 := [21, 5, 21, 4, 160, 0, 8, 16, 50, 167, 0, 4, 3, 96, 54, 6, 28, 154, 0, 7, 29, 167, 0, 35]
abbrev dktX2_ofPhrase_6 : List UInt8 := dkwX2_ofPhrase_6 ++ dktX2_ofPhrase_7
def dkwX2_ofPhrase_5 : List UInt8 := [21, 8, 167, 0, 5, 21, 7, 54, 7, 132, 9, 1, 167, 255, 148, 21, 6, 21, 4, 4, 164, 0, 15]
abbrev dktX2_ofPhrase_5 : List UInt8 := dkwX2_ofPhrase_5 ++ dktX2_ofPhrase_6
def dkwX2_ofPhrase_4 : List UInt8 := [21, 9, 46, 154, 0, 10, 21, 8, 4, 96, 167, 0, 4, 3, 54, 8, 21, 8, 21, 7, 164, 0, 8]
abbrev dktX2_ofPhrase_4 : List UInt8 := dkwX2_ofPhrase_4 ++ dktX2_ofPhrase_5
def dkwX2_ofPhrase_3 : List UInt8 := [167, 0, 4, 3, 96, 54, 5, 21, 6, 42, 180, 0, 38, 21, 9, 46, 96, 54, 6, 42, 180, 0, 32]
abbrev dktX2_ofPhrase_3 : List UInt8 := dkwX2_ofPhrase_3 ++ dktX2_ofPhrase_4
def dkwX2_ofPhrase_2 : List UInt8 := [21, 9, 167, 0, 4, 29, 62, 132, 4, 1, 21, 5, 42, 180, 0, 32, 21, 9, 46, 154, 0, 7, 4]
abbrev dktX2_ofPhrase_2 : List UInt8 := dkwX2_ofPhrase_2 ++ dktX2_ofPhrase_3
def dkwX2_ofPhrase_1 : List UInt8 := [180, 0, 7, 8, 46, 162, 0, 103, 42, 21, 9, 182, 0, 64, 27, 160, 0, 87, 29, 16, 251, 160, 0, 8]
abbrev dktX2_ofPhrase_1 : List UInt8 := dkwX2_ofPhrase_1 ++ dktX2_ofPhrase_2
def dkwX2_ofPhrase_0 : List UInt8 := [16, 251, 62, 3, 54, 4, 3, 54, 5, 3, 54, 6, 3, 54, 7, 3, 54, 8, 3, 54, 9, 21, 9, 42]
abbrev dktX2_ofPhrase_0 : List UInt8 := dkwX2_ofPhrase_0 ++ dktX2_ofPhrase_1
theorem dksX2_ofPhrase_0 : cX2_ofPhrase.data.toList.drop 0 = dktX2_ofPhrase_0 := by decide +kernel
theorem dksX2_ofPhrase_1 : cX2_ofPhrase.data.toList.drop 24 = dktX2_ofPhrase_1 := dk_seg dksX2_ofPhrase_0 24 rfl rfl
theorem dksX2_ofPhrase_2 : cX2_ofPhrase.data.toList.drop 48 = dktX2_ofPhrase_2 := dk_seg dksX2_ofPhrase_1 24 rfl rfl
theorem dksX2_ofPhrase_3 : cX2_ofPhrase.data.toList.drop 71 = dktX2_ofPhrase_3 := dk_seg dksX2_ofPhrase_2 23 rfl rfl
theorem dksX2_ofPhrase_4 : cX2_ofPhrase.data.toList.drop 94 = dktX2_ofPhrase_4 := dk_seg dksX2_ofPhrase_3 23 rfl rfl
theorem dksX2_ofPhrase_5 : cX2_ofPhrase.data.toList.drop 117 = dktX2_ofPhrase_5 := dk_seg dksX2_ofPhrase_4 23 rfl rfl
theorem dksX2_ofPhrase_6 : cX2_ofPhrase.data.toList.drop 140 = dktX2_ofPhrase_6 := dk_seg dksX2_ofPhrase_5 23 rfl rfl
theorem dksX2_ofPhrase_7 : cX2_ofPhrase.data.toList.drop 164 = dktX2_ofPhrase_7 := dk_seg dksX2_ofPhrase_6 24 rfl rfl
theorem dksX2_ofPhrase_8 : cX2_ofPhrase.data.toList.drop 186 = dktX2_ofPhrase_8 := dk_seg dksX2_ofPhrase_7 22 rfl rfl
theorem dX2_ofPhrase_0 : decode cX2_ofPhrase 0 = .ok (.bipush (-5), 2) := dk_16 251 (dk_at dksX2_ofPhrase_0 0 rfl rfl)
theorem dX2_ofPhrase_2 : decode cX2_ofPhrase 2 = .ok (.istore_n 3, 1) := dk_62 (dk_at dksX2_ofPhrase_0 2 rfl rfl)
theorem dX2_ofPhrase_3 : decode cX2_ofPhrase 3 = .ok (.iconst 0, 1) := dk_3 (dk_at dksX2_ofPhrase_0 3 rfl rfl)
theorem dX2_ofPhrase_4 : decode cX2_ofPhrase 4 = .ok (.istore 4, 2) := dk_54 4 (dk_at dksX2_ofPhrase_0 4 rfl rfl)
theorem dX2_ofPhrase_6 : decode cX2_ofPhrase 6 = .ok (.iconst 0, 1) := dk_3 (dk_at dksX2_ofPhrase_0 6 rfl rfl)
theorem dX2_ofPhrase_7 : decode cX2_ofPhrase 7 = .ok (.istore 5, 2) := dk_54 5 (dk_at dksX2_ofPhrase_0 7 rfl rfl)
theorem dX2_ofPhrase_9 : decode cX2_ofPhrase 9 = .ok (.iconst 0, 1) := dk_3 (dk_at dksX2_ofPhrase_0 9 rfl rfl)
theorem dX2_ofPhrase_10 : decode cX2_ofPhrase 10 = .ok (.istore 6, 2) := dk_54 6 (dk_at dksX2_ofPhrase_0 10 rfl rfl)
theorem dX2_ofPhrase_12 : decode cX2_ofPhrase 12 = .ok (.iconst 0, 1) := dk_3 (dk_at dksX2_ofPhrase_0 12 rfl rfl)
theorem dX2_ofPhrase_13 : decode cX2_ofPhrase 13 = .ok (.istore 7, 2) := dk_54 7 (dk_at dksX2_ofPhrase_0 13 rfl rfl)
theorem dX2_ofPhrase_15 : decode cX2_ofPhrase 15 = .ok (.iconst 0, 1) := dk_3 (dk_at dksX2_ofPhrase_0 15 rfl rfl)
theorem dX2_ofPhrase_16 : decode cX2_ofPhrase 16 = .ok (.istore 8, 2) := dk_54 8 (dk_at dksX2_ofPhrase_0 16 rfl rfl)
theorem dX2_ofPhrase_18 : decode cX2_ofPhrase 18 = .ok (.iconst 0, 1) := dk_3 (dk_at dksX2_ofPhrase_0 18 rfl rfl)
theorem dX2_ofPhrase_19 : decode cX2_ofPhrase 19 = .ok (.istore 9, 2) := dk_54 9 (dk_at dksX2_ofPhrase_0 19 rfl rfl)
theorem dX2_ofPhrase_21 : decode cX2_ofPhrase 21 = .ok (.iload 9, 2) := dk_21 9 (dk_at dksX2_ofPhrase_0 21 rfl rfl)
theorem dX2_ofPhrase_23 : decode cX2_ofPhrase 23 = .ok (.aload_n 0, 1) := dk_42 (dk_at dksX2_ofPhrase_0 23 rfl rfl)
theorem dX2_ofPhrase_24 : decode cX2_ofPhrase 24 = .ok (.getfield 7, 3) := dk_180 0 7 (dk_at dksX2_ofPhrase_1 0 rfl rfl)
theorem dX2_ofPhrase_27 : decode cX2_ofPhrase 27 = .ok (.iconst 5, 1) := dk_8 (dk_at dksX2_ofPhrase_1 3 rfl rfl)
theorem dX2_ofPhrase_28 : decode cX2_ofPhrase 28 = .ok (.iaload, 1) := dk_46 (dk_at dksX2_ofPhrase_1 4 rfl rfl)
theorem dX2_ofPhrase_29 : decode cX2_ofPhrase 29 = .ok (.if_icmp .ge 103, 3) := dk_162 0 103 (dk_at dksX2_ofPhrase_1 5 rfl rfl)
theorem dX2_ofPhrase_32 : decode cX2_ofPhrase 32 = .ok (.aload_n 0, 1) := dk_42 (dk_at dksX2_ofPhrase_1 8 rfl rfl)
theorem dX2_ofPhrase_33 : decode cX2_ofPhrase 33 = .ok (.iload 9, 2) := dk_21 9 (dk_at dksX2_ofPhrase_1 9 rfl rfl)
theorem dX2_ofPhrase_35 : decode cX2_ofPhrase 35 = .ok (.invokevirtual 64, 3) := dk_182 0 64 (dk_at dksX2_ofPhrase_1 11 rfl rfl)
theorem dX2_ofPhrase_38 : decode cX2_ofPhrase 38 = .ok (.iload_n 1, 1) := dk_27 (dk_at dksX2_ofPhrase_1 14 rfl rfl)
theorem dX2_ofPhrase_39 : decode cX2_ofPhrase 39 = .ok (.if_icmp .ne 87, 3) := dk_160 0 87 (dk_at dksX2_ofPhrase_1 15 rfl rfl)
theorem dX2_ofPhrase_42 : decode cX2_ofPhrase 42 = .ok (.iload_n 3, 1) := dk_29 (dk_at dksX2_ofPhrase_1 18 rfl rfl)
theorem dX2_ofPhrase_43 : decode cX2_ofPhrase 43 = .ok (.bipush (-5), 2) := dk_16 251 (dk_at dksX2_ofPhrase_1 19 rfl rfl)
theorem dX2_ofPhrase_45 : decode cX2_ofPhrase 45 = .ok (.if_icmp .ne 8, 3) := dk_160 0 8 (dk_at dksX2_ofPhrase_1 21 rfl rfl)
theorem dX2_ofPhrase_48 : decode cX2_ofPhrase 48 = .ok (.iload 9, 2) := dk_21 9 (dk_at dksX2_ofPhrase_2 0 rfl rfl)
theorem dX2_ofPhrase_50 : decode cX2_ofPhrase 50 = .ok (.goto 4, 3) := dk_167 0 4 (dk_at dksX2_ofPhrase_2 2 rfl rfl)
theorem dX2_ofPhrase_53 : decode cX2_ofPhrase 53 = .ok (.iload_n 3, 1) := dk_29 (dk_at dksX2_ofPhrase_2 5 rfl rfl)
theorem dX2_ofPhrase_54 : decode cX2_ofPhrase 54 = .ok (.istore_n 3, 1) := dk_62 (dk_at dksX2_ofPhrase_2 6 rfl rfl)
theorem dX2_ofPhrase_55 : decode cX2_ofPhrase 55 = .ok (.iinc 4 1, 3) := dk_132 4 1 (dk_at dksX2_ofPhrase_2 7 rfl rfl)
theorem dX2_ofPhrase_58 : decode cX2_ofPhrase 58 = .ok (.iload 5, 2) := dk_21 5 (dk_at dksX2_ofPhrase_2 10 rfl rfl)
theorem dX2_ofPhrase_60 : decode cX2_ofPhrase 60 = .ok (.aload_n 0, 1) := dk_42 (dk_at dksX2_ofPhrase_2 12 rfl rfl)
theorem dX2_ofPhrase_61 : decode cX2_ofPhrase 61 = .ok (.getfield 32, 3) := dk_180 0 32 (dk_at dksX2_ofPhrase_2 13 rfl rfl)
theorem dX2_ofPhrase_64 : decode cX2_ofPhrase 64 = .ok (.iload 9, 2) := dk_21 9 (dk_at dksX2_ofPhrase_2 16 rfl rfl)
theorem dX2_ofPhrase_66 : decode cX2_ofPhrase 66 = .ok (.iaload, 1) := dk_46 (dk_at dksX2_ofPhrase_2 18 rfl rfl)
theorem dX2_ofPhrase_67 : decode cX2_ofPhrase 67 = .ok (.ifCond .ne 7, 3) := dk_154 0 7 (dk_at dksX2_ofPhrase_2 19 rfl rfl)
theorem dX2_ofPhrase_70 : decode cX2_ofPhrase 70 = .ok (.iconst 1, 1) := dk_4 (dk_at dksX2_ofPhrase_2 22 rfl rfl)
theorem dX2_ofPhrase_71 : decode cX2_ofPhrase 71 = .ok (.goto 4, 3) := dk_167 0 4 (dk_at dksX2_ofPhrase_3 0 rfl rfl)
theorem dX2_ofPhrase_74 : decode cX2_ofPhrase 74 = .ok (.iconst 0, 1) := dk_3 (dk_at dksX2_ofPhrase_3 3 rfl rfl)
theorem dX2_ofPhrase_75 : decode cX2_ofPhrase 75 = .ok (.iadd, 1) := dk_96 (dk_at dksX2_ofPhrase_3 4 rfl rfl)
theorem dX2_ofPhrase_76 : decode cX2_ofPhrase 76 = .ok (.istore 5, 2) := dk_54 5 (dk_at dksX2_ofPhrase_3 5 rfl rfl)
theorem dX2_ofPhrase_78 : decode cX2_ofPhrase 78 = .ok (.iload 6, 2) := dk_21 6 (dk_at dksX2_ofPhrase_3 7 rfl rfl)
theorem dX2_ofPhrase_80 : decode cX2_ofPhrase 80 = .ok (.aload_n 0, 1) := dk_42 (dk_at dksX2_ofPhrase_3 9 rfl rfl)
theorem dX2_ofPhrase_81 : decode cX2_ofPhrase 81 = .ok (.getfield 38, 3) := dk_180 0 38 (dk_at dksX2_ofPhrase_3 10 rfl rfl)
theorem dX2_ofPhrase_84 : decode cX2_ofPhrase 84 = .ok (.iload 9, 2) := dk_21 9 (dk_at dksX2_ofPhrase_3 13 rfl rfl)
theorem dX2_ofPhrase_86 : decode cX2_ofPhrase 86 = .ok (.iaload, 1) := dk_46 (dk_at dksX2_ofPhrase_3 15 rfl rfl)
theorem dX2_ofPhrase_87 : decode cX2_ofPhrase 87 = .ok (.iadd, 1) := dk_96 (dk_at dksX2_ofPhrase_3 16 rfl rfl)
theorem dX2_ofPhrase_88 : decode cX2_ofPhrase 88 = .ok (.istore 6, 2) := dk_54 6 (dk_at dksX2_ofPhrase_3 17 rfl rfl)
theorem dX2_ofPhrase_90 : decode cX2_ofPhrase 90 = .ok (.aload_n 0, 1) := dk_42 (dk_at dksX2_ofPhrase_3 19 rfl rfl)
theorem dX2_ofPhrase_91 : decode cX2_ofPhrase 91 = .ok (.getfield 32, 3) := dk_180 0 32 (dk_at dksX2_ofPhrase_3 20 rfl rfl)
theorem dX2_ofPhrase_94 : decode cX2_ofPhrase 94 = .ok (.iload 9, 2) := dk_21 9 (dk_at dksX2_ofPhrase_4 0 rfl rfl)
theorem dX2_ofPhrase_96 : decode cX2_ofPhrase 96 = .ok (.iaload, 1) := dk_46 (dk_at dksX2_ofPhrase_4 2 rfl rfl)
theorem dX2_ofPhrase_97 : decode cX2_ofPhrase 97 = .ok (.ifCond .ne 10, 3) := dk_154 0 10 (dk_at dksX2_ofPhrase_4 3 rfl rfl)
theorem dX2_ofPhrase_100 : decode cX2_ofPhrase 100 = .ok (.iload 8, 2) := dk_21 8 (dk_at dksX2_ofPhrase_4 6 rfl rfl)
theorem dX2_ofPhrase_102 : decode cX2_ofPhrase 102 = .ok (.iconst 1, 1) := dk_4 (dk_at dksX2_ofPhrase_4 8 rfl rfl)
theorem dX2_ofPhrase_103 : decode cX2_ofPhrase 103 = .ok (.iadd, 1) := dk_96 (dk_at dksX2_ofPhrase_4 9 rfl rfl)
theorem dX2_ofPhrase_104 : decode cX2_ofPhrase 104 = .ok (.goto 4, 3) := dk_167 0 4 (dk_at dksX2_ofPhrase_4 10 rfl rfl)
theorem dX2_ofPhrase_107 : decode cX2_ofPhrase 107 = .ok (.iconst 0, 1) := dk_3 (dk_at dksX2_ofPhrase_4 13 rfl rfl)
theorem dX2_ofPhrase_108 : decode cX2_ofPhrase 108 = .ok (.istore 8, 2) := dk_54 8 (dk_at dksX2_ofPhrase_4 14 rfl rfl)
theorem dX2_ofPhrase_110 : decode cX2_ofPhrase 110 = .ok (.iload 8, 2) := dk_21 8 (dk_at dksX2_ofPhrase_4 16 rfl rfl)
theorem dX2_ofPhrase_112 : decode cX2_ofPhrase 112 = .ok (.iload 7, 2) := dk_21 7 (dk_at dksX2_ofPhrase_4 18 rfl rfl)
theorem dX2_ofPhrase_114 : decode cX2_ofPhrase 114 = .ok (.if_icmp .le 8, 3) := dk_164 0 8 (dk_at dksX2_ofPhrase_4 20 rfl rfl)
theorem dX2_ofPhrase_117 : decode cX2_ofPhrase 117 = .ok (.iload 8, 2) := dk_21 8 (dk_at dksX2_ofPhrase_5 0 rfl rfl)
theorem dX2_ofPhrase_119 : decode cX2_ofPhrase 119 = .ok (.goto 5, 3) := dk_167 0 5 (dk_at dksX2_ofPhrase_5 2 rfl rfl)
theorem dX2_ofPhrase_122 : decode cX2_ofPhrase 122 = .ok (.iload 7, 2) := dk_21 7 (dk_at dksX2_ofPhrase_5 5 rfl rfl)
theorem dX2_ofPhrase_124 : decode cX2_ofPhrase 124 = .ok (.istore 7, 2) := dk_54 7 (dk_at dksX2_ofPhrase_5 7 rfl rfl)
theorem dX2_ofPhrase_126 : decode cX2_ofPhrase 126 = .ok (.iinc 9 1, 3) := dk_132 9 1 (dk_at dksX2_ofPhrase_5 9 rfl rfl)
theorem dX2_ofPhrase_129 : decode cX2_ofPhrase 129 = .ok (.goto (-108), 3) := dk_167 255 148 (dk_at dksX2_ofPhrase_5 12 rfl rfl)
theorem dX2_ofPhrase_132 : decode cX2_ofPhrase 132 = .ok (.iload 6, 2) := dk_21 6 (dk_at dksX2_ofPhrase_5 15 rfl rfl)
theorem dX2_ofPhrase_134 : decode cX2_ofPhrase 134 = .ok (.iload 4, 2) := dk_21 4 (dk_at dksX2_ofPhrase_5 17 rfl rfl)
theorem dX2_ofPhrase_136 : decode cX2_ofPhrase 136 = .ok (.iconst 1, 1) := dk_4 (dk_at dksX2_ofPhrase_5 19 rfl rfl)
theorem dX2_ofPhrase_137 : decode cX2_ofPhrase 137 = .ok (.if_icmp .le 15, 3) := dk_164 0 15 (dk_at dksX2_ofPhrase_5 20 rfl rfl)
theorem dX2_ofPhrase_140 : decode cX2_ofPhrase 140 = .ok (.iload 5, 2) := dk_21 5 (dk_at dksX2_ofPhrase_6 0 rfl rfl)
theorem dX2_ofPhrase_142 : decode cX2_ofPhrase 142 = .ok (.iload 4, 2) := dk_21 4 (dk_at dksX2_ofPhrase_6 2 rfl rfl)
theorem dX2_ofPhrase_144 : decode cX2_ofPhrase 144 = .ok (.if_icmp .ne 8, 3) := dk_160 0 8 (dk_at dksX2_ofPhrase_6 4 rfl rfl)
theorem dX2_ofPhrase_147 : decode cX2_ofPhrase 147 = .ok (.bipush 50, 2) := dk_16 50 (dk_at dksX2_ofPhrase_6 7 rfl rfl)
theorem dX2_ofPhrase_149 : decode cX2_ofPhrase 149 = .ok (.goto 4, 3) := dk_167 0 4 (dk_at dksX2_ofPhrase_6 9 rfl rfl)
theorem dX2_ofPhrase_152 : decode cX2_ofPhrase 152 = .ok (.iconst 0, 1) := dk_3 (dk_at dksX2_ofPhrase_6 12 rfl rfl)
theorem dX2_ofPhrase_153 : decode cX2_ofPhrase 153 = .ok (.iadd, 1) := dk_96 (dk_at dksX2_ofPhrase_6 13 rfl rfl)
theorem dX2_ofPhrase_154 : decode cX2_ofPhrase 154 = .ok (.istore 6, 2) := dk_54 6 (dk_at dksX2_ofPhrase_6 14 rfl rfl)
theorem dX2_ofPhrase_156 : decode cX2_ofPhrase 156 = .ok (.iload_n 2, 1) := dk_28 (dk_at dksX2_ofPhrase_6 16 rfl rfl)
theorem dX2_ofPhrase_157 : decode cX2_ofPhrase 157 = .ok (.ifCond .ne 7, 3) := dk_154 0 7 (dk_at dksX2_ofPhrase_6 17 rfl rfl)
theorem dX2_ofPhrase_160 : decode cX2_ofPhrase 160 = .ok (.iload_n 3, 1) := dk_29 (dk_at dksX2_ofPhrase_6 20 rfl rfl)
theorem dX2_ofPhrase_161 : decode cX2_ofPhrase 161 = .ok (.goto 35, 3) := dk_167 0 35 (dk_at dksX2_ofPhrase_6 21 rfl rfl)
theorem dX2_ofPhrase_164 : decode cX2_ofPhrase 164 = .ok (.iload_n 2, 1) := dk_28 (dk_at dksX2_ofPhrase_7 0 rfl rfl)
theorem dX2_ofPhrase_165 : decode cX2_ofPhrase 165 = .ok (.iconst 1, 1) := dk_4 (dk_at dksX2_ofPhrase_7 1 rfl rfl)
theorem dX2_ofPhrase_166 : decode cX2_ofPhrase 166 = .ok (.if_icmp .ne 8, 3) := dk_160 0 8 (dk_at dksX2_ofPhrase_7 2 rfl rfl)
theorem dX2_ofPhrase_169 : decode cX2_ofPhrase 169 = .ok (.iload 4, 2) := dk_21 4 (dk_at dksX2_ofPhrase_7 5 rfl rfl)
theorem dX2_ofPhrase_171 : decode cX2_ofPhrase 171 = .ok (.goto 25, 3) := dk_167 0 25 (dk_at dksX2_ofPhrase_7 7 rfl rfl)
theorem dX2_ofPhrase_174 : decode cX2_ofPhrase 174 = .ok (.iload_n 2, 1) := dk_28 (dk_at dksX2_ofPhrase_7 10 rfl rfl)
theorem dX2_ofPhrase_175 : decode cX2_ofPhrase 175 = .ok (.iconst 2, 1) := dk_5 (dk_at dksX2_ofPhrase_7 11 rfl rfl)
theorem dX2_ofPhrase_176 : decode cX2_ofPhrase 176 = .ok (.if_icmp .ne 8, 3) := dk_160 0 8 (dk_at dksX2_ofPhrase_7 12 rfl rfl)
theorem dX2_ofPhrase_179 : decode cX2_ofPhrase 179 = .ok (.iload 5, 2) := dk_21 5 (dk_at dksX2_ofPhrase_7 15 rfl rfl)
theorem dX2_ofPhrase_181 : decode cX2_ofPhrase 181 = .ok (.goto 15, 3) := dk_167 0 15 (dk_at dksX2_ofPhrase_7 17 rfl rfl)
theorem dX2_ofPhrase_184 : decode cX2_ofPhrase 184 = .ok (.iload_n 2, 1) := dk_28 (dk_at dksX2_ofPhrase_7 20 rfl rfl)
theorem dX2_ofPhrase_185 : decode cX2_ofPhrase 185 = .ok (.iconst 3, 1) := dk_6 (dk_at dksX2_ofPhrase_7 21 rfl rfl)
theorem dX2_ofPhrase_186 : decode cX2_ofPhrase 186 = .ok (.if_icmp .ne 8, 3) := dk_160 0 8 (dk_at dksX2_ofPhrase_8 0 rfl rfl)
theorem dX2_ofPhrase_189 : decode cX2_ofPhrase 189 = .ok (.iload 6, 2) := dk_21 6 (dk_at dksX2_ofPhrase_8 3 rfl rfl)
theorem dX2_ofPhrase_191 : decode cX2_ofPhrase 191 = .ok (.goto 5, 3) := dk_167 0 5 (dk_at dksX2_ofPhrase_8 5 rfl rfl)
theorem dX2_ofPhrase_194 : decode cX2_ofPhrase 194 = .ok (.iload 7, 2) := dk_21 7 (dk_at dksX2_ofPhrase_8 8 rfl rfl)
theorem dX2_ofPhrase_196 : decode cX2_ofPhrase 196 = .ok (.ireturn, 1) := dk_172 (dk_at dksX2_ofPhrase_8 10 rfl rfl)
abbrev cX2_total : ByteArray := prog_9_method_59_code
def yX2_total : MethodName := ⟨RX2, "total", "(I)I"⟩
def dkwX2_total_4 : List UInt8 := [184, 0, 44, 153, 0, 12, 42, 180, 0, 7, 27, 46, 167, 0, 5, 16, 254, 172]
abbrev dktX2_total_4 : List UInt8 := dkwX2_total_4 ++ []
def dkwX2_total_3 : List UInt8 := [172, 42, 182, 0, 186, 172, 42, 182, 0, 189, 172, 42, 180, 0, 48, 172, 42, 180, 0, 147, 172, 27, 3, 8]
abbrev dktX2_total_3 : List UInt8 := dkwX2_total_3 ++ dktX2_total_4
def dkwX2_total_2 : List UInt8 := [42, 182, 0, 110, 172, 42, 182, 0, 117, 172, 42, 182, 0, 180, 172, 42, 182, 0, 183, 172, 42, 182, 0, 141]
abbrev dktX2_total_2 : List UInt8 := dkwX2_total_2 ++ dktX2_total_3
def dkwX2_total_1 : List UInt8 := [170, 0, 0, 0, 0, 0, 96, 0, 0, 0, 6, 0, 0, 0, 14, 0, 0, 0, 51, 0, 0, 0, 56, 0, 0, 0, 61, 0, 0, 0, 66, 0, 0, 0, 71, 0, 0, 0, 76, 0, 0, 0, 81, 0, 0, 0, 86, 0, 0, 0, 91]
abbrev dktX2_total_1 : List UInt8 := dkwX2_total_1 ++ dktX2_total_2
def dkwX2_total_0 : List UInt8 := [42, 182, 0, 138, 27]
abbrev dktX2_total_0 : List UInt8 := dkwX2_total_0 ++ dktX2_total_1
theorem dksX2_total_0 : cX2_total.data.toList.drop 0 = dktX2_total_0 := by decide +kernel
theorem dksX2_total_1 : cX2_total.data.toList.drop 5 = dktX2_total_1 := dk_seg dksX2_total_0 5 rfl rfl
theorem dksX2_total_2 : cX2_total.data.toList.drop 56 = dktX2_total_2 := dk_seg dksX2_total_1 51 rfl rfl
theorem dksX2_total_3 : cX2_total.data.toList.drop 80 = dktX2_total_3 := dk_seg dksX2_total_2 24 rfl rfl
theorem dksX2_total_4 : cX2_total.data.toList.drop 104 = dktX2_total_4 := dk_seg dksX2_total_3 24 rfl rfl
theorem dX2_total_0 : decode cX2_total 0 = .ok (.aload_n 0, 1) := dk_42 (dk_at dksX2_total_0 0 rfl rfl)
theorem dX2_total_1 : decode cX2_total 1 = .ok (.invokevirtual 138, 3) := dk_182 0 138 (dk_at dksX2_total_0 1 rfl rfl)
theorem dX2_total_4 : decode cX2_total 4 = .ok (.iload_n 1, 1) := dk_27 (dk_at dksX2_total_0 4 rfl rfl)
theorem dX2_total_5 : decode cX2_total 5 = .ok (.tableswitch 96 6 14 #[51, 56, 61, 66, 71, 76, 81, 86, 91], 51) := by decide +kernel
theorem dX2_total_56 : decode cX2_total 56 = .ok (.aload_n 0, 1) := dk_42 (dk_at dksX2_total_2 0 rfl rfl)
theorem dX2_total_57 : decode cX2_total 57 = .ok (.invokevirtual 110, 3) := dk_182 0 110 (dk_at dksX2_total_2 1 rfl rfl)
theorem dX2_total_60 : decode cX2_total 60 = .ok (.ireturn, 1) := dk_172 (dk_at dksX2_total_2 4 rfl rfl)
theorem dX2_total_61 : decode cX2_total 61 = .ok (.aload_n 0, 1) := dk_42 (dk_at dksX2_total_2 5 rfl rfl)
theorem dX2_total_62 : decode cX2_total 62 = .ok (.invokevirtual 117, 3) := dk_182 0 117 (dk_at dksX2_total_2 6 rfl rfl)
theorem dX2_total_65 : decode cX2_total 65 = .ok (.ireturn, 1) := dk_172 (dk_at dksX2_total_2 9 rfl rfl)
theorem dX2_total_66 : decode cX2_total 66 = .ok (.aload_n 0, 1) := dk_42 (dk_at dksX2_total_2 10 rfl rfl)
theorem dX2_total_67 : decode cX2_total 67 = .ok (.invokevirtual 180, 3) := dk_182 0 180 (dk_at dksX2_total_2 11 rfl rfl)
theorem dX2_total_70 : decode cX2_total 70 = .ok (.ireturn, 1) := dk_172 (dk_at dksX2_total_2 14 rfl rfl)
theorem dX2_total_71 : decode cX2_total 71 = .ok (.aload_n 0, 1) := dk_42 (dk_at dksX2_total_2 15 rfl rfl)
theorem dX2_total_72 : decode cX2_total 72 = .ok (.invokevirtual 183, 3) := dk_182 0 183 (dk_at dksX2_total_2 16 rfl rfl)
theorem dX2_total_75 : decode cX2_total 75 = .ok (.ireturn, 1) := dk_172 (dk_at dksX2_total_2 19 rfl rfl)
theorem dX2_total_76 : decode cX2_total 76 = .ok (.aload_n 0, 1) := dk_42 (dk_at dksX2_total_2 20 rfl rfl)
theorem dX2_total_77 : decode cX2_total 77 = .ok (.invokevirtual 141, 3) := dk_182 0 141 (dk_at dksX2_total_2 21 rfl rfl)
theorem dX2_total_80 : decode cX2_total 80 = .ok (.ireturn, 1) := dk_172 (dk_at dksX2_total_3 0 rfl rfl)
theorem dX2_total_81 : decode cX2_total 81 = .ok (.aload_n 0, 1) := dk_42 (dk_at dksX2_total_3 1 rfl rfl)
theorem dX2_total_82 : decode cX2_total 82 = .ok (.invokevirtual 186, 3) := dk_182 0 186 (dk_at dksX2_total_3 2 rfl rfl)
theorem dX2_total_85 : decode cX2_total 85 = .ok (.ireturn, 1) := dk_172 (dk_at dksX2_total_3 5 rfl rfl)
theorem dX2_total_86 : decode cX2_total 86 = .ok (.aload_n 0, 1) := dk_42 (dk_at dksX2_total_3 6 rfl rfl)
theorem dX2_total_87 : decode cX2_total 87 = .ok (.invokevirtual 189, 3) := dk_182 0 189 (dk_at dksX2_total_3 7 rfl rfl)
theorem dX2_total_90 : decode cX2_total 90 = .ok (.ireturn, 1) := dk_172 (dk_at dksX2_total_3 10 rfl rfl)
theorem dX2_total_91 : decode cX2_total 91 = .ok (.aload_n 0, 1) := dk_42 (dk_at dksX2_total_3 11 rfl rfl)
theorem dX2_total_92 : decode cX2_total 92 = .ok (.getfield 48, 3) := dk_180 0 48 (dk_at dksX2_total_3 12 rfl rfl)
theorem dX2_total_95 : decode cX2_total 95 = .ok (.ireturn, 1) := dk_172 (dk_at dksX2_total_3 15 rfl rfl)
theorem dX2_total_96 : decode cX2_total 96 = .ok (.aload_n 0, 1) := dk_42 (dk_at dksX2_total_3 16 rfl rfl)
theorem dX2_total_97 : decode cX2_total 97 = .ok (.getfield 147, 3) := dk_180 0 147 (dk_at dksX2_total_3 17 rfl rfl)
theorem dX2_total_100 : decode cX2_total 100 = .ok (.ireturn, 1) := dk_172 (dk_at dksX2_total_3 20 rfl rfl)
theorem dX2_total_101 : decode cX2_total 101 = .ok (.iload_n 1, 1) := dk_27 (dk_at dksX2_total_3 21 rfl rfl)
theorem dX2_total_102 : decode cX2_total 102 = .ok (.iconst 0, 1) := dk_3 (dk_at dksX2_total_3 22 rfl rfl)
theorem dX2_total_103 : decode cX2_total 103 = .ok (.iconst 5, 1) := dk_8 (dk_at dksX2_total_3 23 rfl rfl)
theorem dX2_total_104 : decode cX2_total 104 = .ok (.invokestatic 44, 3) := dk_184 0 44 (dk_at dksX2_total_4 0 rfl rfl)
theorem dX2_total_107 : decode cX2_total 107 = .ok (.ifCond .eq 12, 3) := dk_153 0 12 (dk_at dksX2_total_4 3 rfl rfl)
theorem dX2_total_110 : decode cX2_total 110 = .ok (.aload_n 0, 1) := dk_42 (dk_at dksX2_total_4 6 rfl rfl)
theorem dX2_total_111 : decode cX2_total 111 = .ok (.getfield 7, 3) := dk_180 0 7 (dk_at dksX2_total_4 7 rfl rfl)
theorem dX2_total_114 : decode cX2_total 114 = .ok (.iload_n 1, 1) := dk_27 (dk_at dksX2_total_4 10 rfl rfl)
theorem dX2_total_115 : decode cX2_total 115 = .ok (.iaload, 1) := dk_46 (dk_at dksX2_total_4 11 rfl rfl)
theorem dX2_total_116 : decode cX2_total 116 = .ok (.goto 5, 3) := dk_167 0 5 (dk_at dksX2_total_4 12 rfl rfl)
theorem dX2_total_119 : decode cX2_total 119 = .ok (.bipush (-2), 2) := dk_16 254 (dk_at dksX2_total_4 15 rfl rfl)
theorem dX2_total_121 : decode cX2_total 121 = .ok (.ireturn, 1) := dk_172 (dk_at dksX2_total_4 17 rfl rfl)
abbrev cX2_sungTicks : ByteArray := prog_9_method_57_code
def yX2_sungTicks : MethodName := ⟨RX2, "sungTicks", "()I"⟩
def dkwX2_sungTicks_1 : List UInt8 := [167, 0, 4, 3, 96, 60, 132, 2, 1, 167, 255, 229, 27, 172]
abbrev dktX2_sungTicks_1 : List UInt8 := dkwX2_sungTicks_1 ++ []
def dkwX2_sungTicks_0 : List UInt8 := [3, 60, 3, 61, 28, 17, 2, 88, 162, 0, 26, 27, 42, 180, 0, 23, 28, 46, 158, 0, 7, 4]
abbrev dktX2_sungTicks_0 : List UInt8 := dkwX2_sungTicks_0 ++ dktX2_sungTicks_1
theorem dksX2_sungTicks_0 : cX2_sungTicks.data.toList.drop 0 = dktX2_sungTicks_0 := by decide +kernel
theorem dksX2_sungTicks_1 : cX2_sungTicks.data.toList.drop 22 = dktX2_sungTicks_1 := dk_seg dksX2_sungTicks_0 22 rfl rfl
theorem dX2_sungTicks_0 : decode cX2_sungTicks 0 = .ok (.iconst 0, 1) := dk_3 (dk_at dksX2_sungTicks_0 0 rfl rfl)
theorem dX2_sungTicks_1 : decode cX2_sungTicks 1 = .ok (.istore_n 1, 1) := dk_60 (dk_at dksX2_sungTicks_0 1 rfl rfl)
theorem dX2_sungTicks_2 : decode cX2_sungTicks 2 = .ok (.iconst 0, 1) := dk_3 (dk_at dksX2_sungTicks_0 2 rfl rfl)
theorem dX2_sungTicks_3 : decode cX2_sungTicks 3 = .ok (.istore_n 2, 1) := dk_61 (dk_at dksX2_sungTicks_0 3 rfl rfl)
theorem dX2_sungTicks_4 : decode cX2_sungTicks 4 = .ok (.iload_n 2, 1) := dk_28 (dk_at dksX2_sungTicks_0 4 rfl rfl)
theorem dX2_sungTicks_5 : decode cX2_sungTicks 5 = .ok (.sipush 600, 3) := dk_17 2 88 (dk_at dksX2_sungTicks_0 5 rfl rfl)
theorem dX2_sungTicks_8 : decode cX2_sungTicks 8 = .ok (.if_icmp .ge 26, 3) := dk_162 0 26 (dk_at dksX2_sungTicks_0 8 rfl rfl)
theorem dX2_sungTicks_11 : decode cX2_sungTicks 11 = .ok (.iload_n 1, 1) := dk_27 (dk_at dksX2_sungTicks_0 11 rfl rfl)
theorem dX2_sungTicks_12 : decode cX2_sungTicks 12 = .ok (.aload_n 0, 1) := dk_42 (dk_at dksX2_sungTicks_0 12 rfl rfl)
theorem dX2_sungTicks_13 : decode cX2_sungTicks 13 = .ok (.getfield 23, 3) := dk_180 0 23 (dk_at dksX2_sungTicks_0 13 rfl rfl)
theorem dX2_sungTicks_16 : decode cX2_sungTicks 16 = .ok (.iload_n 2, 1) := dk_28 (dk_at dksX2_sungTicks_0 16 rfl rfl)
theorem dX2_sungTicks_17 : decode cX2_sungTicks 17 = .ok (.iaload, 1) := dk_46 (dk_at dksX2_sungTicks_0 17 rfl rfl)
theorem dX2_sungTicks_18 : decode cX2_sungTicks 18 = .ok (.ifCond .le 7, 3) := dk_158 0 7 (dk_at dksX2_sungTicks_0 18 rfl rfl)
theorem dX2_sungTicks_21 : decode cX2_sungTicks 21 = .ok (.iconst 1, 1) := dk_4 (dk_at dksX2_sungTicks_0 21 rfl rfl)
theorem dX2_sungTicks_22 : decode cX2_sungTicks 22 = .ok (.goto 4, 3) := dk_167 0 4 (dk_at dksX2_sungTicks_1 0 rfl rfl)
theorem dX2_sungTicks_25 : decode cX2_sungTicks 25 = .ok (.iconst 0, 1) := dk_3 (dk_at dksX2_sungTicks_1 3 rfl rfl)
theorem dX2_sungTicks_26 : decode cX2_sungTicks 26 = .ok (.iadd, 1) := dk_96 (dk_at dksX2_sungTicks_1 4 rfl rfl)
theorem dX2_sungTicks_27 : decode cX2_sungTicks 27 = .ok (.istore_n 1, 1) := dk_60 (dk_at dksX2_sungTicks_1 5 rfl rfl)
theorem dX2_sungTicks_28 : decode cX2_sungTicks 28 = .ok (.iinc 2 1, 3) := dk_132 2 1 (dk_at dksX2_sungTicks_1 6 rfl rfl)
theorem dX2_sungTicks_31 : decode cX2_sungTicks 31 = .ok (.goto (-27), 3) := dk_167 255 229 (dk_at dksX2_sungTicks_1 9 rfl rfl)
theorem dX2_sungTicks_34 : decode cX2_sungTicks 34 = .ok (.iload_n 1, 1) := dk_27 (dk_at dksX2_sungTicks_1 12 rfl rfl)
theorem dX2_sungTicks_35 : decode cX2_sungTicks 35 = .ok (.ireturn, 1) := dk_172 (dk_at dksX2_sungTicks_1 13 rfl rfl)
abbrev cX2_onsets : ByteArray := prog_9_method_58_code
def yX2_onsets : MethodName := ⟨RX2, "onsets", "()I"⟩
def dkwX2_onsets_1 : List UInt8 := [3, 96, 60, 132, 2, 1, 167, 255, 230, 27, 172]
abbrev dktX2_onsets_1 : List UInt8 := dkwX2_onsets_1 ++ []
def dkwX2_onsets_0 : List UInt8 := [3, 60, 3, 61, 28, 17, 2, 88, 162, 0, 25, 27, 42, 28, 182, 0, 80, 153, 0, 7, 4, 167, 0, 4]
abbrev dktX2_onsets_0 : List UInt8 := dkwX2_onsets_0 ++ dktX2_onsets_1
theorem dksX2_onsets_0 : cX2_onsets.data.toList.drop 0 = dktX2_onsets_0 := by decide +kernel
theorem dksX2_onsets_1 : cX2_onsets.data.toList.drop 24 = dktX2_onsets_1 := dk_seg dksX2_onsets_0 24 rfl rfl
theorem dX2_onsets_0 : decode cX2_onsets 0 = .ok (.iconst 0, 1) := dk_3 (dk_at dksX2_onsets_0 0 rfl rfl)
theorem dX2_onsets_1 : decode cX2_onsets 1 = .ok (.istore_n 1, 1) := dk_60 (dk_at dksX2_onsets_0 1 rfl rfl)
theorem dX2_onsets_2 : decode cX2_onsets 2 = .ok (.iconst 0, 1) := dk_3 (dk_at dksX2_onsets_0 2 rfl rfl)
theorem dX2_onsets_3 : decode cX2_onsets 3 = .ok (.istore_n 2, 1) := dk_61 (dk_at dksX2_onsets_0 3 rfl rfl)
theorem dX2_onsets_4 : decode cX2_onsets 4 = .ok (.iload_n 2, 1) := dk_28 (dk_at dksX2_onsets_0 4 rfl rfl)
theorem dX2_onsets_5 : decode cX2_onsets 5 = .ok (.sipush 600, 3) := dk_17 2 88 (dk_at dksX2_onsets_0 5 rfl rfl)
theorem dX2_onsets_8 : decode cX2_onsets 8 = .ok (.if_icmp .ge 25, 3) := dk_162 0 25 (dk_at dksX2_onsets_0 8 rfl rfl)
theorem dX2_onsets_11 : decode cX2_onsets 11 = .ok (.iload_n 1, 1) := dk_27 (dk_at dksX2_onsets_0 11 rfl rfl)
theorem dX2_onsets_12 : decode cX2_onsets 12 = .ok (.aload_n 0, 1) := dk_42 (dk_at dksX2_onsets_0 12 rfl rfl)
theorem dX2_onsets_13 : decode cX2_onsets 13 = .ok (.iload_n 2, 1) := dk_28 (dk_at dksX2_onsets_0 13 rfl rfl)
theorem dX2_onsets_14 : decode cX2_onsets 14 = .ok (.invokevirtual 80, 3) := dk_182 0 80 (dk_at dksX2_onsets_0 14 rfl rfl)
theorem dX2_onsets_17 : decode cX2_onsets 17 = .ok (.ifCond .eq 7, 3) := dk_153 0 7 (dk_at dksX2_onsets_0 17 rfl rfl)
theorem dX2_onsets_20 : decode cX2_onsets 20 = .ok (.iconst 1, 1) := dk_4 (dk_at dksX2_onsets_0 20 rfl rfl)
theorem dX2_onsets_21 : decode cX2_onsets 21 = .ok (.goto 4, 3) := dk_167 0 4 (dk_at dksX2_onsets_0 21 rfl rfl)
theorem dX2_onsets_24 : decode cX2_onsets 24 = .ok (.iconst 0, 1) := dk_3 (dk_at dksX2_onsets_1 0 rfl rfl)
theorem dX2_onsets_25 : decode cX2_onsets 25 = .ok (.iadd, 1) := dk_96 (dk_at dksX2_onsets_1 1 rfl rfl)
theorem dX2_onsets_26 : decode cX2_onsets 26 = .ok (.istore_n 1, 1) := dk_60 (dk_at dksX2_onsets_1 2 rfl rfl)
theorem dX2_onsets_27 : decode cX2_onsets 27 = .ok (.iinc 2 1, 3) := dk_132 2 1 (dk_at dksX2_onsets_1 3 rfl rfl)
theorem dX2_onsets_30 : decode cX2_onsets 30 = .ok (.goto (-26), 3) := dk_167 255 230 (dk_at dksX2_onsets_1 6 rfl rfl)
theorem dX2_onsets_33 : decode cX2_onsets 33 = .ok (.iload_n 1, 1) := dk_27 (dk_at dksX2_onsets_1 9 rfl rfl)
theorem dX2_onsets_34 : decode cX2_onsets 34 = .ok (.ireturn, 1) := dk_172 (dk_at dksX2_onsets_1 10 rfl rfl)
abbrev cX2_allPoints : ByteArray := prog_9_method_29_code
def yX2_allPoints : MethodName := ⟨RX2, "allPoints", "()I"⟩
def dkwX2_allPoints_1 : List UInt8 := [167, 255, 236, 27, 172]
abbrev dktX2_allPoints_1 : List UInt8 := dkwX2_allPoints_1 ++ []
def dkwX2_allPoints_0 : List UInt8 := [3, 60, 3, 61, 28, 42, 182, 0, 110, 162, 0, 18, 27, 42, 28, 6, 182, 0, 114, 96, 60, 132, 2, 1]
abbrev dktX2_allPoints_0 : List UInt8 := dkwX2_allPoints_0 ++ dktX2_allPoints_1
theorem dksX2_allPoints_0 : cX2_allPoints.data.toList.drop 0 = dktX2_allPoints_0 := by decide +kernel
theorem dksX2_allPoints_1 : cX2_allPoints.data.toList.drop 24 = dktX2_allPoints_1 := dk_seg dksX2_allPoints_0 24 rfl rfl
theorem dX2_allPoints_0 : decode cX2_allPoints 0 = .ok (.iconst 0, 1) := dk_3 (dk_at dksX2_allPoints_0 0 rfl rfl)
theorem dX2_allPoints_1 : decode cX2_allPoints 1 = .ok (.istore_n 1, 1) := dk_60 (dk_at dksX2_allPoints_0 1 rfl rfl)
theorem dX2_allPoints_2 : decode cX2_allPoints 2 = .ok (.iconst 0, 1) := dk_3 (dk_at dksX2_allPoints_0 2 rfl rfl)
theorem dX2_allPoints_3 : decode cX2_allPoints 3 = .ok (.istore_n 2, 1) := dk_61 (dk_at dksX2_allPoints_0 3 rfl rfl)
theorem dX2_allPoints_4 : decode cX2_allPoints 4 = .ok (.iload_n 2, 1) := dk_28 (dk_at dksX2_allPoints_0 4 rfl rfl)
theorem dX2_allPoints_5 : decode cX2_allPoints 5 = .ok (.aload_n 0, 1) := dk_42 (dk_at dksX2_allPoints_0 5 rfl rfl)
theorem dX2_allPoints_6 : decode cX2_allPoints 6 = .ok (.invokevirtual 110, 3) := dk_182 0 110 (dk_at dksX2_allPoints_0 6 rfl rfl)
theorem dX2_allPoints_9 : decode cX2_allPoints 9 = .ok (.if_icmp .ge 18, 3) := dk_162 0 18 (dk_at dksX2_allPoints_0 9 rfl rfl)
theorem dX2_allPoints_12 : decode cX2_allPoints 12 = .ok (.iload_n 1, 1) := dk_27 (dk_at dksX2_allPoints_0 12 rfl rfl)
theorem dX2_allPoints_13 : decode cX2_allPoints 13 = .ok (.aload_n 0, 1) := dk_42 (dk_at dksX2_allPoints_0 13 rfl rfl)
theorem dX2_allPoints_14 : decode cX2_allPoints 14 = .ok (.iload_n 2, 1) := dk_28 (dk_at dksX2_allPoints_0 14 rfl rfl)
theorem dX2_allPoints_15 : decode cX2_allPoints 15 = .ok (.iconst 3, 1) := dk_6 (dk_at dksX2_allPoints_0 15 rfl rfl)
theorem dX2_allPoints_16 : decode cX2_allPoints 16 = .ok (.invokevirtual 114, 3) := dk_182 0 114 (dk_at dksX2_allPoints_0 16 rfl rfl)
theorem dX2_allPoints_19 : decode cX2_allPoints 19 = .ok (.iadd, 1) := dk_96 (dk_at dksX2_allPoints_0 19 rfl rfl)
theorem dX2_allPoints_20 : decode cX2_allPoints 20 = .ok (.istore_n 1, 1) := dk_60 (dk_at dksX2_allPoints_0 20 rfl rfl)
theorem dX2_allPoints_21 : decode cX2_allPoints 21 = .ok (.iinc 2 1, 3) := dk_132 2 1 (dk_at dksX2_allPoints_0 21 rfl rfl)
theorem dX2_allPoints_24 : decode cX2_allPoints 24 = .ok (.goto (-20), 3) := dk_167 255 236 (dk_at dksX2_allPoints_1 0 rfl rfl)
theorem dX2_allPoints_27 : decode cX2_allPoints 27 = .ok (.iload_n 1, 1) := dk_27 (dk_at dksX2_allPoints_1 3 rfl rfl)
theorem dX2_allPoints_28 : decode cX2_allPoints 28 = .ok (.ireturn, 1) := dk_172 (dk_at dksX2_allPoints_1 4 rfl rfl)
abbrev cX2_mostPoints : ByteArray := prog_9_method_31_code
def yX2_mostPoints : MethodName := ⟨RX2, "mostPoints", "()I"⟩
def dkwX2_mostPoints_3 : List UInt8 := [160, 0, 8, 16, 50, 167, 0, 4, 3, 96, 60, 132, 3, 1, 167, 255, 177, 27, 172]
abbrev dktX2_mostPoints_3 : List UInt8 := dkwX2_mostPoints_3 ++ []
def dkwX2_mostPoints_2 : List UInt8 := [16, 10, 162, 0, 7, 28, 167, 0, 5, 16, 10, 96, 104, 16, 10, 108, 96, 60, 132, 2, 1, 27, 28, 5]
abbrev dktX2_mostPoints_2 : List UInt8 := dkwX2_mostPoints_2 ++ dktX2_mostPoints_3
def dkwX2_mostPoints_1 : List UInt8 := [160, 0, 7, 3, 167, 0, 4, 28, 61, 27, 16, 100, 8, 42, 29, 3, 182, 0, 90, 104, 96, 16, 10, 28]
abbrev dktX2_mostPoints_1 : List UInt8 := dkwX2_mostPoints_1 ++ dktX2_mostPoints_2
def dkwX2_mostPoints_0 : List UInt8 := [3, 60, 3, 61, 3, 62, 29, 42, 180, 0, 7, 8, 46, 162, 0, 75, 42, 29, 7, 182, 0, 56, 4]
abbrev dktX2_mostPoints_0 : List UInt8 := dkwX2_mostPoints_0 ++ dktX2_mostPoints_1
theorem dksX2_mostPoints_0 : cX2_mostPoints.data.toList.drop 0 = dktX2_mostPoints_0 := by decide +kernel
theorem dksX2_mostPoints_1 : cX2_mostPoints.data.toList.drop 23 = dktX2_mostPoints_1 := dk_seg dksX2_mostPoints_0 23 rfl rfl
theorem dksX2_mostPoints_2 : cX2_mostPoints.data.toList.drop 47 = dktX2_mostPoints_2 := dk_seg dksX2_mostPoints_1 24 rfl rfl
theorem dksX2_mostPoints_3 : cX2_mostPoints.data.toList.drop 71 = dktX2_mostPoints_3 := dk_seg dksX2_mostPoints_2 24 rfl rfl
theorem dX2_mostPoints_0 : decode cX2_mostPoints 0 = .ok (.iconst 0, 1) := dk_3 (dk_at dksX2_mostPoints_0 0 rfl rfl)
theorem dX2_mostPoints_1 : decode cX2_mostPoints 1 = .ok (.istore_n 1, 1) := dk_60 (dk_at dksX2_mostPoints_0 1 rfl rfl)
theorem dX2_mostPoints_2 : decode cX2_mostPoints 2 = .ok (.iconst 0, 1) := dk_3 (dk_at dksX2_mostPoints_0 2 rfl rfl)
theorem dX2_mostPoints_3 : decode cX2_mostPoints 3 = .ok (.istore_n 2, 1) := dk_61 (dk_at dksX2_mostPoints_0 3 rfl rfl)
theorem dX2_mostPoints_4 : decode cX2_mostPoints 4 = .ok (.iconst 0, 1) := dk_3 (dk_at dksX2_mostPoints_0 4 rfl rfl)
theorem dX2_mostPoints_5 : decode cX2_mostPoints 5 = .ok (.istore_n 3, 1) := dk_62 (dk_at dksX2_mostPoints_0 5 rfl rfl)
theorem dX2_mostPoints_6 : decode cX2_mostPoints 6 = .ok (.iload_n 3, 1) := dk_29 (dk_at dksX2_mostPoints_0 6 rfl rfl)
theorem dX2_mostPoints_7 : decode cX2_mostPoints 7 = .ok (.aload_n 0, 1) := dk_42 (dk_at dksX2_mostPoints_0 7 rfl rfl)
theorem dX2_mostPoints_8 : decode cX2_mostPoints 8 = .ok (.getfield 7, 3) := dk_180 0 7 (dk_at dksX2_mostPoints_0 8 rfl rfl)
theorem dX2_mostPoints_11 : decode cX2_mostPoints 11 = .ok (.iconst 5, 1) := dk_8 (dk_at dksX2_mostPoints_0 11 rfl rfl)
theorem dX2_mostPoints_12 : decode cX2_mostPoints 12 = .ok (.iaload, 1) := dk_46 (dk_at dksX2_mostPoints_0 12 rfl rfl)
theorem dX2_mostPoints_13 : decode cX2_mostPoints 13 = .ok (.if_icmp .ge 75, 3) := dk_162 0 75 (dk_at dksX2_mostPoints_0 13 rfl rfl)
theorem dX2_mostPoints_16 : decode cX2_mostPoints 16 = .ok (.aload_n 0, 1) := dk_42 (dk_at dksX2_mostPoints_0 16 rfl rfl)
theorem dX2_mostPoints_17 : decode cX2_mostPoints 17 = .ok (.iload_n 3, 1) := dk_29 (dk_at dksX2_mostPoints_0 17 rfl rfl)
theorem dX2_mostPoints_18 : decode cX2_mostPoints 18 = .ok (.iconst 4, 1) := dk_7 (dk_at dksX2_mostPoints_0 18 rfl rfl)
theorem dX2_mostPoints_19 : decode cX2_mostPoints 19 = .ok (.invokevirtual 56, 3) := dk_182 0 56 (dk_at dksX2_mostPoints_0 19 rfl rfl)
theorem dX2_mostPoints_22 : decode cX2_mostPoints 22 = .ok (.iconst 1, 1) := dk_4 (dk_at dksX2_mostPoints_0 22 rfl rfl)
theorem dX2_mostPoints_23 : decode cX2_mostPoints 23 = .ok (.if_icmp .ne 7, 3) := dk_160 0 7 (dk_at dksX2_mostPoints_1 0 rfl rfl)
theorem dX2_mostPoints_26 : decode cX2_mostPoints 26 = .ok (.iconst 0, 1) := dk_3 (dk_at dksX2_mostPoints_1 3 rfl rfl)
theorem dX2_mostPoints_27 : decode cX2_mostPoints 27 = .ok (.goto 4, 3) := dk_167 0 4 (dk_at dksX2_mostPoints_1 4 rfl rfl)
theorem dX2_mostPoints_30 : decode cX2_mostPoints 30 = .ok (.iload_n 2, 1) := dk_28 (dk_at dksX2_mostPoints_1 7 rfl rfl)
theorem dX2_mostPoints_31 : decode cX2_mostPoints 31 = .ok (.istore_n 2, 1) := dk_61 (dk_at dksX2_mostPoints_1 8 rfl rfl)
theorem dX2_mostPoints_32 : decode cX2_mostPoints 32 = .ok (.iload_n 1, 1) := dk_27 (dk_at dksX2_mostPoints_1 9 rfl rfl)
theorem dX2_mostPoints_33 : decode cX2_mostPoints 33 = .ok (.bipush 100, 2) := dk_16 100 (dk_at dksX2_mostPoints_1 10 rfl rfl)
theorem dX2_mostPoints_35 : decode cX2_mostPoints 35 = .ok (.iconst 5, 1) := dk_8 (dk_at dksX2_mostPoints_1 12 rfl rfl)
theorem dX2_mostPoints_36 : decode cX2_mostPoints 36 = .ok (.aload_n 0, 1) := dk_42 (dk_at dksX2_mostPoints_1 13 rfl rfl)
theorem dX2_mostPoints_37 : decode cX2_mostPoints 37 = .ok (.iload_n 3, 1) := dk_29 (dk_at dksX2_mostPoints_1 14 rfl rfl)
theorem dX2_mostPoints_38 : decode cX2_mostPoints 38 = .ok (.iconst 0, 1) := dk_3 (dk_at dksX2_mostPoints_1 15 rfl rfl)
theorem dX2_mostPoints_39 : decode cX2_mostPoints 39 = .ok (.invokevirtual 90, 3) := dk_182 0 90 (dk_at dksX2_mostPoints_1 16 rfl rfl)
theorem dX2_mostPoints_42 : decode cX2_mostPoints 42 = .ok (.imul, 1) := dk_104 (dk_at dksX2_mostPoints_1 19 rfl rfl)
theorem dX2_mostPoints_43 : decode cX2_mostPoints 43 = .ok (.iadd, 1) := dk_96 (dk_at dksX2_mostPoints_1 20 rfl rfl)
theorem dX2_mostPoints_44 : decode cX2_mostPoints 44 = .ok (.bipush 10, 2) := dk_16 10 (dk_at dksX2_mostPoints_1 21 rfl rfl)
theorem dX2_mostPoints_46 : decode cX2_mostPoints 46 = .ok (.iload_n 2, 1) := dk_28 (dk_at dksX2_mostPoints_1 23 rfl rfl)
theorem dX2_mostPoints_47 : decode cX2_mostPoints 47 = .ok (.bipush 10, 2) := dk_16 10 (dk_at dksX2_mostPoints_2 0 rfl rfl)
theorem dX2_mostPoints_49 : decode cX2_mostPoints 49 = .ok (.if_icmp .ge 7, 3) := dk_162 0 7 (dk_at dksX2_mostPoints_2 2 rfl rfl)
theorem dX2_mostPoints_52 : decode cX2_mostPoints 52 = .ok (.iload_n 2, 1) := dk_28 (dk_at dksX2_mostPoints_2 5 rfl rfl)
theorem dX2_mostPoints_53 : decode cX2_mostPoints 53 = .ok (.goto 5, 3) := dk_167 0 5 (dk_at dksX2_mostPoints_2 6 rfl rfl)
theorem dX2_mostPoints_56 : decode cX2_mostPoints 56 = .ok (.bipush 10, 2) := dk_16 10 (dk_at dksX2_mostPoints_2 9 rfl rfl)
theorem dX2_mostPoints_58 : decode cX2_mostPoints 58 = .ok (.iadd, 1) := dk_96 (dk_at dksX2_mostPoints_2 11 rfl rfl)
theorem dX2_mostPoints_59 : decode cX2_mostPoints 59 = .ok (.imul, 1) := dk_104 (dk_at dksX2_mostPoints_2 12 rfl rfl)
theorem dX2_mostPoints_60 : decode cX2_mostPoints 60 = .ok (.bipush 10, 2) := dk_16 10 (dk_at dksX2_mostPoints_2 13 rfl rfl)
theorem dX2_mostPoints_62 : decode cX2_mostPoints 62 = .ok (.idiv, 1) := dk_108 (dk_at dksX2_mostPoints_2 15 rfl rfl)
theorem dX2_mostPoints_63 : decode cX2_mostPoints 63 = .ok (.iadd, 1) := dk_96 (dk_at dksX2_mostPoints_2 16 rfl rfl)
theorem dX2_mostPoints_64 : decode cX2_mostPoints 64 = .ok (.istore_n 1, 1) := dk_60 (dk_at dksX2_mostPoints_2 17 rfl rfl)
theorem dX2_mostPoints_65 : decode cX2_mostPoints 65 = .ok (.iinc 2 1, 3) := dk_132 2 1 (dk_at dksX2_mostPoints_2 18 rfl rfl)
theorem dX2_mostPoints_68 : decode cX2_mostPoints 68 = .ok (.iload_n 1, 1) := dk_27 (dk_at dksX2_mostPoints_2 21 rfl rfl)
theorem dX2_mostPoints_69 : decode cX2_mostPoints 69 = .ok (.iload_n 2, 1) := dk_28 (dk_at dksX2_mostPoints_2 22 rfl rfl)
theorem dX2_mostPoints_70 : decode cX2_mostPoints 70 = .ok (.iconst 2, 1) := dk_5 (dk_at dksX2_mostPoints_2 23 rfl rfl)
theorem dX2_mostPoints_71 : decode cX2_mostPoints 71 = .ok (.if_icmp .ne 8, 3) := dk_160 0 8 (dk_at dksX2_mostPoints_3 0 rfl rfl)
theorem dX2_mostPoints_74 : decode cX2_mostPoints 74 = .ok (.bipush 50, 2) := dk_16 50 (dk_at dksX2_mostPoints_3 3 rfl rfl)
theorem dX2_mostPoints_76 : decode cX2_mostPoints 76 = .ok (.goto 4, 3) := dk_167 0 4 (dk_at dksX2_mostPoints_3 5 rfl rfl)
theorem dX2_mostPoints_79 : decode cX2_mostPoints 79 = .ok (.iconst 0, 1) := dk_3 (dk_at dksX2_mostPoints_3 8 rfl rfl)
theorem dX2_mostPoints_80 : decode cX2_mostPoints 80 = .ok (.iadd, 1) := dk_96 (dk_at dksX2_mostPoints_3 9 rfl rfl)
theorem dX2_mostPoints_81 : decode cX2_mostPoints 81 = .ok (.istore_n 1, 1) := dk_60 (dk_at dksX2_mostPoints_3 10 rfl rfl)
theorem dX2_mostPoints_82 : decode cX2_mostPoints 82 = .ok (.iinc 3 1, 3) := dk_132 3 1 (dk_at dksX2_mostPoints_3 11 rfl rfl)
theorem dX2_mostPoints_85 : decode cX2_mostPoints 85 = .ok (.goto (-79), 3) := dk_167 255 177 (dk_at dksX2_mostPoints_3 14 rfl rfl)
theorem dX2_mostPoints_88 : decode cX2_mostPoints 88 = .ok (.iload_n 1, 1) := dk_27 (dk_at dksX2_mostPoints_3 17 rfl rfl)
theorem dX2_mostPoints_89 : decode cX2_mostPoints 89 = .ok (.ireturn, 1) := dk_172 (dk_at dksX2_mostPoints_3 18 rfl rfl)
abbrev cX2_ifShifted : ByteArray := prog_9_method_61_code
def yX2_ifShifted : MethodName := ⟨RX2, "ifShifted", "(II)I"⟩
def dkwX2_ifShifted_1 : List UInt8 := [28, 182, 0, 192, 167, 0, 5, 16, 254, 172]
abbrev dktX2_ifShifted_1 : List UInt8 := dkwX2_ifShifted_1 ++ []
def dkwX2_ifShifted_0 : List UInt8 := [27, 16, 224, 16, 32, 184, 0, 44, 153, 0, 23, 28, 16, 196, 16, 60, 184, 0, 44, 153, 0, 12, 42, 27]
abbrev dktX2_ifShifted_0 : List UInt8 := dkwX2_ifShifted_0 ++ dktX2_ifShifted_1
theorem dksX2_ifShifted_0 : cX2_ifShifted.data.toList.drop 0 = dktX2_ifShifted_0 := by decide +kernel
theorem dksX2_ifShifted_1 : cX2_ifShifted.data.toList.drop 24 = dktX2_ifShifted_1 := dk_seg dksX2_ifShifted_0 24 rfl rfl
theorem dX2_ifShifted_0 : decode cX2_ifShifted 0 = .ok (.iload_n 1, 1) := dk_27 (dk_at dksX2_ifShifted_0 0 rfl rfl)
theorem dX2_ifShifted_1 : decode cX2_ifShifted 1 = .ok (.bipush (-32), 2) := dk_16 224 (dk_at dksX2_ifShifted_0 1 rfl rfl)
theorem dX2_ifShifted_3 : decode cX2_ifShifted 3 = .ok (.bipush 32, 2) := dk_16 32 (dk_at dksX2_ifShifted_0 3 rfl rfl)
theorem dX2_ifShifted_5 : decode cX2_ifShifted 5 = .ok (.invokestatic 44, 3) := dk_184 0 44 (dk_at dksX2_ifShifted_0 5 rfl rfl)
theorem dX2_ifShifted_8 : decode cX2_ifShifted 8 = .ok (.ifCond .eq 23, 3) := dk_153 0 23 (dk_at dksX2_ifShifted_0 8 rfl rfl)
theorem dX2_ifShifted_11 : decode cX2_ifShifted 11 = .ok (.iload_n 2, 1) := dk_28 (dk_at dksX2_ifShifted_0 11 rfl rfl)
theorem dX2_ifShifted_12 : decode cX2_ifShifted 12 = .ok (.bipush (-60), 2) := dk_16 196 (dk_at dksX2_ifShifted_0 12 rfl rfl)
theorem dX2_ifShifted_14 : decode cX2_ifShifted 14 = .ok (.bipush 60, 2) := dk_16 60 (dk_at dksX2_ifShifted_0 14 rfl rfl)
theorem dX2_ifShifted_16 : decode cX2_ifShifted 16 = .ok (.invokestatic 44, 3) := dk_184 0 44 (dk_at dksX2_ifShifted_0 16 rfl rfl)
theorem dX2_ifShifted_19 : decode cX2_ifShifted 19 = .ok (.ifCond .eq 12, 3) := dk_153 0 12 (dk_at dksX2_ifShifted_0 19 rfl rfl)
theorem dX2_ifShifted_22 : decode cX2_ifShifted 22 = .ok (.aload_n 0, 1) := dk_42 (dk_at dksX2_ifShifted_0 22 rfl rfl)
theorem dX2_ifShifted_23 : decode cX2_ifShifted 23 = .ok (.iload_n 1, 1) := dk_27 (dk_at dksX2_ifShifted_0 23 rfl rfl)
theorem dX2_ifShifted_24 : decode cX2_ifShifted 24 = .ok (.iload_n 2, 1) := dk_28 (dk_at dksX2_ifShifted_1 0 rfl rfl)
theorem dX2_ifShifted_25 : decode cX2_ifShifted 25 = .ok (.invokevirtual 192, 3) := dk_182 0 192 (dk_at dksX2_ifShifted_1 1 rfl rfl)
theorem dX2_ifShifted_28 : decode cX2_ifShifted 28 = .ok (.goto 5, 3) := dk_167 0 5 (dk_at dksX2_ifShifted_1 4 rfl rfl)
theorem dX2_ifShifted_31 : decode cX2_ifShifted 31 = .ok (.bipush (-2), 2) := dk_16 254 (dk_at dksX2_ifShifted_1 7 rfl rfl)
theorem dX2_ifShifted_33 : decode cX2_ifShifted 33 = .ok (.ireturn, 1) := dk_172 (dk_at dksX2_ifShifted_1 9 rfl rfl)
abbrev cX2_pointsShifted : ByteArray := prog_9_method_60_code
def yX2_pointsShifted : MethodName := ⟨RX2, "pointsShifted", "(II)I"⟩
def dkwX2_pointsShifted_0 : List UInt8 := [42, 27, 28, 182, 0, 103, 42, 182, 0, 107, 42, 182, 0, 186, 172]
abbrev dktX2_pointsShifted_0 : List UInt8 := dkwX2_pointsShifted_0 ++ []
theorem dksX2_pointsShifted_0 : cX2_pointsShifted.data.toList.drop 0 = dktX2_pointsShifted_0 := by decide +kernel
theorem dX2_pointsShifted_0 : decode cX2_pointsShifted 0 = .ok (.aload_n 0, 1) := dk_42 (dk_at dksX2_pointsShifted_0 0 rfl rfl)
theorem dX2_pointsShifted_1 : decode cX2_pointsShifted 1 = .ok (.iload_n 1, 1) := dk_27 (dk_at dksX2_pointsShifted_0 1 rfl rfl)
theorem dX2_pointsShifted_2 : decode cX2_pointsShifted 2 = .ok (.iload_n 2, 1) := dk_28 (dk_at dksX2_pointsShifted_0 2 rfl rfl)
theorem dX2_pointsShifted_3 : decode cX2_pointsShifted 3 = .ok (.invokevirtual 103, 3) := dk_182 0 103 (dk_at dksX2_pointsShifted_0 3 rfl rfl)
theorem dX2_pointsShifted_6 : decode cX2_pointsShifted 6 = .ok (.aload_n 0, 1) := dk_42 (dk_at dksX2_pointsShifted_0 6 rfl rfl)
theorem dX2_pointsShifted_7 : decode cX2_pointsShifted 7 = .ok (.invokevirtual 107, 3) := dk_182 0 107 (dk_at dksX2_pointsShifted_0 7 rfl rfl)
theorem dX2_pointsShifted_10 : decode cX2_pointsShifted 10 = .ok (.aload_n 0, 1) := dk_42 (dk_at dksX2_pointsShifted_0 10 rfl rfl)
theorem dX2_pointsShifted_11 : decode cX2_pointsShifted 11 = .ok (.invokevirtual 186, 3) := dk_182 0 186 (dk_at dksX2_pointsShifted_0 11 rfl rfl)
theorem dX2_pointsShifted_14 : decode cX2_pointsShifted 14 = .ok (.ireturn, 1) := dk_172 (dk_at dksX2_pointsShifted_0 14 rfl rfl)
abbrev cX2_bestShift : ByteArray := prog_9_method_62_code
def yX2_bestShift : MethodName := ⟨RX2, "bestShift", "()I"⟩
def dkwX2_bestShift_3 : List UInt8 := [132, 3, 1, 167, 255, 194, 27, 16, 32, 96, 172]
abbrev dktX2_bestShift_3 : List UInt8 := dkwX2_bestShift_3 ++ []
def dkwX2_bestShift_2 : List UInt8 := [164, 0, 8, 21, 4, 167, 0, 4, 27, 60, 21, 5, 28, 164, 0, 8, 21, 5, 167, 0, 4, 28, 61]
abbrev dktX2_bestShift_2 : List UInt8 := dkwX2_bestShift_2 ++ dktX2_bestShift_3
def dkwX2_bestShift_1 : List UInt8 := [5, 108, 116, 167, 0, 6, 29, 5, 108, 54, 4, 42, 21, 4, 3, 182, 0, 192, 54, 5, 21, 5, 28]
abbrev dktX2_bestShift_1 : List UInt8 := dkwX2_bestShift_1 ++ dktX2_bestShift_2
def dkwX2_bestShift_0 : List UInt8 := [3, 60, 42, 3, 3, 182, 0, 192, 61, 5, 62, 29, 16, 66, 162, 0, 62, 29, 5, 112, 154, 0, 10, 29]
abbrev dktX2_bestShift_0 : List UInt8 := dkwX2_bestShift_0 ++ dktX2_bestShift_1
theorem dksX2_bestShift_0 : cX2_bestShift.data.toList.drop 0 = dktX2_bestShift_0 := by decide +kernel
theorem dksX2_bestShift_1 : cX2_bestShift.data.toList.drop 24 = dktX2_bestShift_1 := dk_seg dksX2_bestShift_0 24 rfl rfl
theorem dksX2_bestShift_2 : cX2_bestShift.data.toList.drop 47 = dktX2_bestShift_2 := dk_seg dksX2_bestShift_1 23 rfl rfl
theorem dksX2_bestShift_3 : cX2_bestShift.data.toList.drop 70 = dktX2_bestShift_3 := dk_seg dksX2_bestShift_2 23 rfl rfl
theorem dX2_bestShift_0 : decode cX2_bestShift 0 = .ok (.iconst 0, 1) := dk_3 (dk_at dksX2_bestShift_0 0 rfl rfl)
theorem dX2_bestShift_1 : decode cX2_bestShift 1 = .ok (.istore_n 1, 1) := dk_60 (dk_at dksX2_bestShift_0 1 rfl rfl)
theorem dX2_bestShift_2 : decode cX2_bestShift 2 = .ok (.aload_n 0, 1) := dk_42 (dk_at dksX2_bestShift_0 2 rfl rfl)
theorem dX2_bestShift_3 : decode cX2_bestShift 3 = .ok (.iconst 0, 1) := dk_3 (dk_at dksX2_bestShift_0 3 rfl rfl)
theorem dX2_bestShift_4 : decode cX2_bestShift 4 = .ok (.iconst 0, 1) := dk_3 (dk_at dksX2_bestShift_0 4 rfl rfl)
theorem dX2_bestShift_5 : decode cX2_bestShift 5 = .ok (.invokevirtual 192, 3) := dk_182 0 192 (dk_at dksX2_bestShift_0 5 rfl rfl)
theorem dX2_bestShift_8 : decode cX2_bestShift 8 = .ok (.istore_n 2, 1) := dk_61 (dk_at dksX2_bestShift_0 8 rfl rfl)
theorem dX2_bestShift_9 : decode cX2_bestShift 9 = .ok (.iconst 2, 1) := dk_5 (dk_at dksX2_bestShift_0 9 rfl rfl)
theorem dX2_bestShift_10 : decode cX2_bestShift 10 = .ok (.istore_n 3, 1) := dk_62 (dk_at dksX2_bestShift_0 10 rfl rfl)
theorem dX2_bestShift_11 : decode cX2_bestShift 11 = .ok (.iload_n 3, 1) := dk_29 (dk_at dksX2_bestShift_0 11 rfl rfl)
theorem dX2_bestShift_12 : decode cX2_bestShift 12 = .ok (.bipush 66, 2) := dk_16 66 (dk_at dksX2_bestShift_0 12 rfl rfl)
theorem dX2_bestShift_14 : decode cX2_bestShift 14 = .ok (.if_icmp .ge 62, 3) := dk_162 0 62 (dk_at dksX2_bestShift_0 14 rfl rfl)
theorem dX2_bestShift_17 : decode cX2_bestShift 17 = .ok (.iload_n 3, 1) := dk_29 (dk_at dksX2_bestShift_0 17 rfl rfl)
theorem dX2_bestShift_18 : decode cX2_bestShift 18 = .ok (.iconst 2, 1) := dk_5 (dk_at dksX2_bestShift_0 18 rfl rfl)
theorem dX2_bestShift_19 : decode cX2_bestShift 19 = .ok (.irem, 1) := dk_112 (dk_at dksX2_bestShift_0 19 rfl rfl)
theorem dX2_bestShift_20 : decode cX2_bestShift 20 = .ok (.ifCond .ne 10, 3) := dk_154 0 10 (dk_at dksX2_bestShift_0 20 rfl rfl)
theorem dX2_bestShift_23 : decode cX2_bestShift 23 = .ok (.iload_n 3, 1) := dk_29 (dk_at dksX2_bestShift_0 23 rfl rfl)
theorem dX2_bestShift_24 : decode cX2_bestShift 24 = .ok (.iconst 2, 1) := dk_5 (dk_at dksX2_bestShift_1 0 rfl rfl)
theorem dX2_bestShift_25 : decode cX2_bestShift 25 = .ok (.idiv, 1) := dk_108 (dk_at dksX2_bestShift_1 1 rfl rfl)
theorem dX2_bestShift_26 : decode cX2_bestShift 26 = .ok (.ineg, 1) := dk_116 (dk_at dksX2_bestShift_1 2 rfl rfl)
theorem dX2_bestShift_27 : decode cX2_bestShift 27 = .ok (.goto 6, 3) := dk_167 0 6 (dk_at dksX2_bestShift_1 3 rfl rfl)
theorem dX2_bestShift_30 : decode cX2_bestShift 30 = .ok (.iload_n 3, 1) := dk_29 (dk_at dksX2_bestShift_1 6 rfl rfl)
theorem dX2_bestShift_31 : decode cX2_bestShift 31 = .ok (.iconst 2, 1) := dk_5 (dk_at dksX2_bestShift_1 7 rfl rfl)
theorem dX2_bestShift_32 : decode cX2_bestShift 32 = .ok (.idiv, 1) := dk_108 (dk_at dksX2_bestShift_1 8 rfl rfl)
theorem dX2_bestShift_33 : decode cX2_bestShift 33 = .ok (.istore 4, 2) := dk_54 4 (dk_at dksX2_bestShift_1 9 rfl rfl)
theorem dX2_bestShift_35 : decode cX2_bestShift 35 = .ok (.aload_n 0, 1) := dk_42 (dk_at dksX2_bestShift_1 11 rfl rfl)
theorem dX2_bestShift_36 : decode cX2_bestShift 36 = .ok (.iload 4, 2) := dk_21 4 (dk_at dksX2_bestShift_1 12 rfl rfl)
theorem dX2_bestShift_38 : decode cX2_bestShift 38 = .ok (.iconst 0, 1) := dk_3 (dk_at dksX2_bestShift_1 14 rfl rfl)
theorem dX2_bestShift_39 : decode cX2_bestShift 39 = .ok (.invokevirtual 192, 3) := dk_182 0 192 (dk_at dksX2_bestShift_1 15 rfl rfl)
theorem dX2_bestShift_42 : decode cX2_bestShift 42 = .ok (.istore 5, 2) := dk_54 5 (dk_at dksX2_bestShift_1 18 rfl rfl)
theorem dX2_bestShift_44 : decode cX2_bestShift 44 = .ok (.iload 5, 2) := dk_21 5 (dk_at dksX2_bestShift_1 20 rfl rfl)
theorem dX2_bestShift_46 : decode cX2_bestShift 46 = .ok (.iload_n 2, 1) := dk_28 (dk_at dksX2_bestShift_1 22 rfl rfl)
theorem dX2_bestShift_47 : decode cX2_bestShift 47 = .ok (.if_icmp .le 8, 3) := dk_164 0 8 (dk_at dksX2_bestShift_2 0 rfl rfl)
theorem dX2_bestShift_50 : decode cX2_bestShift 50 = .ok (.iload 4, 2) := dk_21 4 (dk_at dksX2_bestShift_2 3 rfl rfl)
theorem dX2_bestShift_52 : decode cX2_bestShift 52 = .ok (.goto 4, 3) := dk_167 0 4 (dk_at dksX2_bestShift_2 5 rfl rfl)
theorem dX2_bestShift_55 : decode cX2_bestShift 55 = .ok (.iload_n 1, 1) := dk_27 (dk_at dksX2_bestShift_2 8 rfl rfl)
theorem dX2_bestShift_56 : decode cX2_bestShift 56 = .ok (.istore_n 1, 1) := dk_60 (dk_at dksX2_bestShift_2 9 rfl rfl)
theorem dX2_bestShift_57 : decode cX2_bestShift 57 = .ok (.iload 5, 2) := dk_21 5 (dk_at dksX2_bestShift_2 10 rfl rfl)
theorem dX2_bestShift_59 : decode cX2_bestShift 59 = .ok (.iload_n 2, 1) := dk_28 (dk_at dksX2_bestShift_2 12 rfl rfl)
theorem dX2_bestShift_60 : decode cX2_bestShift 60 = .ok (.if_icmp .le 8, 3) := dk_164 0 8 (dk_at dksX2_bestShift_2 13 rfl rfl)
theorem dX2_bestShift_63 : decode cX2_bestShift 63 = .ok (.iload 5, 2) := dk_21 5 (dk_at dksX2_bestShift_2 16 rfl rfl)
theorem dX2_bestShift_65 : decode cX2_bestShift 65 = .ok (.goto 4, 3) := dk_167 0 4 (dk_at dksX2_bestShift_2 18 rfl rfl)
theorem dX2_bestShift_68 : decode cX2_bestShift 68 = .ok (.iload_n 2, 1) := dk_28 (dk_at dksX2_bestShift_2 21 rfl rfl)
theorem dX2_bestShift_69 : decode cX2_bestShift 69 = .ok (.istore_n 2, 1) := dk_61 (dk_at dksX2_bestShift_2 22 rfl rfl)
theorem dX2_bestShift_70 : decode cX2_bestShift 70 = .ok (.iinc 3 1, 3) := dk_132 3 1 (dk_at dksX2_bestShift_3 0 rfl rfl)
theorem dX2_bestShift_73 : decode cX2_bestShift 73 = .ok (.goto (-62), 3) := dk_167 255 194 (dk_at dksX2_bestShift_3 3 rfl rfl)
theorem dX2_bestShift_76 : decode cX2_bestShift 76 = .ok (.iload_n 1, 1) := dk_27 (dk_at dksX2_bestShift_3 6 rfl rfl)
theorem dX2_bestShift_77 : decode cX2_bestShift 77 = .ok (.bipush 32, 2) := dk_16 32 (dk_at dksX2_bestShift_3 7 rfl rfl)
theorem dX2_bestShift_79 : decode cX2_bestShift 79 = .ok (.iadd, 1) := dk_96 (dk_at dksX2_bestShift_3 9 rfl rfl)
theorem dX2_bestShift_80 : decode cX2_bestShift 80 = .ok (.ireturn, 1) := dk_172 (dk_at dksX2_bestShift_3 10 rfl rfl)
abbrev cX2_ifSet : ByteArray := prog_9_method_63_code
def yX2_ifSet : MethodName := ⟨RX2, "ifSet", "(II)I"⟩
def dkwX2_ifSet_1 : List UInt8 := [27, 28, 79, 42, 3, 3, 182, 0, 192, 54, 5, 42, 180, 0, 7, 27, 21, 4, 79, 21, 5, 172]
abbrev dktX2_ifSet_1 : List UInt8 := dkwX2_ifSet_1 ++ []
def dkwX2_ifSet_0 : List UInt8 := [27, 28, 184, 0, 135, 62, 29, 156, 0, 5, 29, 172, 42, 180, 0, 7, 27, 46, 54, 4, 42, 180, 0, 7]
abbrev dktX2_ifSet_0 : List UInt8 := dkwX2_ifSet_0 ++ dktX2_ifSet_1
theorem dksX2_ifSet_0 : cX2_ifSet.data.toList.drop 0 = dktX2_ifSet_0 := by decide +kernel
theorem dksX2_ifSet_1 : cX2_ifSet.data.toList.drop 24 = dktX2_ifSet_1 := dk_seg dksX2_ifSet_0 24 rfl rfl
theorem dX2_ifSet_0 : decode cX2_ifSet 0 = .ok (.iload_n 1, 1) := dk_27 (dk_at dksX2_ifSet_0 0 rfl rfl)
theorem dX2_ifSet_1 : decode cX2_ifSet 1 = .ok (.iload_n 2, 1) := dk_28 (dk_at dksX2_ifSet_0 1 rfl rfl)
theorem dX2_ifSet_2 : decode cX2_ifSet 2 = .ok (.invokestatic 135, 3) := dk_184 0 135 (dk_at dksX2_ifSet_0 2 rfl rfl)
theorem dX2_ifSet_5 : decode cX2_ifSet 5 = .ok (.istore_n 3, 1) := dk_62 (dk_at dksX2_ifSet_0 5 rfl rfl)
theorem dX2_ifSet_6 : decode cX2_ifSet 6 = .ok (.iload_n 3, 1) := dk_29 (dk_at dksX2_ifSet_0 6 rfl rfl)
theorem dX2_ifSet_7 : decode cX2_ifSet 7 = .ok (.ifCond .ge 5, 3) := dk_156 0 5 (dk_at dksX2_ifSet_0 7 rfl rfl)
theorem dX2_ifSet_10 : decode cX2_ifSet 10 = .ok (.iload_n 3, 1) := dk_29 (dk_at dksX2_ifSet_0 10 rfl rfl)
theorem dX2_ifSet_11 : decode cX2_ifSet 11 = .ok (.ireturn, 1) := dk_172 (dk_at dksX2_ifSet_0 11 rfl rfl)
theorem dX2_ifSet_12 : decode cX2_ifSet 12 = .ok (.aload_n 0, 1) := dk_42 (dk_at dksX2_ifSet_0 12 rfl rfl)
theorem dX2_ifSet_13 : decode cX2_ifSet 13 = .ok (.getfield 7, 3) := dk_180 0 7 (dk_at dksX2_ifSet_0 13 rfl rfl)
theorem dX2_ifSet_16 : decode cX2_ifSet 16 = .ok (.iload_n 1, 1) := dk_27 (dk_at dksX2_ifSet_0 16 rfl rfl)
theorem dX2_ifSet_17 : decode cX2_ifSet 17 = .ok (.iaload, 1) := dk_46 (dk_at dksX2_ifSet_0 17 rfl rfl)
theorem dX2_ifSet_18 : decode cX2_ifSet 18 = .ok (.istore 4, 2) := dk_54 4 (dk_at dksX2_ifSet_0 18 rfl rfl)
theorem dX2_ifSet_20 : decode cX2_ifSet 20 = .ok (.aload_n 0, 1) := dk_42 (dk_at dksX2_ifSet_0 20 rfl rfl)
theorem dX2_ifSet_21 : decode cX2_ifSet 21 = .ok (.getfield 7, 3) := dk_180 0 7 (dk_at dksX2_ifSet_0 21 rfl rfl)
theorem dX2_ifSet_24 : decode cX2_ifSet 24 = .ok (.iload_n 1, 1) := dk_27 (dk_at dksX2_ifSet_1 0 rfl rfl)
theorem dX2_ifSet_25 : decode cX2_ifSet 25 = .ok (.iload_n 2, 1) := dk_28 (dk_at dksX2_ifSet_1 1 rfl rfl)
theorem dX2_ifSet_26 : decode cX2_ifSet 26 = .ok (.iastore, 1) := dk_79 (dk_at dksX2_ifSet_1 2 rfl rfl)
theorem dX2_ifSet_27 : decode cX2_ifSet 27 = .ok (.aload_n 0, 1) := dk_42 (dk_at dksX2_ifSet_1 3 rfl rfl)
theorem dX2_ifSet_28 : decode cX2_ifSet 28 = .ok (.iconst 0, 1) := dk_3 (dk_at dksX2_ifSet_1 4 rfl rfl)
theorem dX2_ifSet_29 : decode cX2_ifSet 29 = .ok (.iconst 0, 1) := dk_3 (dk_at dksX2_ifSet_1 5 rfl rfl)
theorem dX2_ifSet_30 : decode cX2_ifSet 30 = .ok (.invokevirtual 192, 3) := dk_182 0 192 (dk_at dksX2_ifSet_1 6 rfl rfl)
theorem dX2_ifSet_33 : decode cX2_ifSet 33 = .ok (.istore 5, 2) := dk_54 5 (dk_at dksX2_ifSet_1 9 rfl rfl)
theorem dX2_ifSet_35 : decode cX2_ifSet 35 = .ok (.aload_n 0, 1) := dk_42 (dk_at dksX2_ifSet_1 11 rfl rfl)
theorem dX2_ifSet_36 : decode cX2_ifSet 36 = .ok (.getfield 7, 3) := dk_180 0 7 (dk_at dksX2_ifSet_1 12 rfl rfl)
theorem dX2_ifSet_39 : decode cX2_ifSet 39 = .ok (.iload_n 1, 1) := dk_27 (dk_at dksX2_ifSet_1 15 rfl rfl)
theorem dX2_ifSet_40 : decode cX2_ifSet 40 = .ok (.iload 4, 2) := dk_21 4 (dk_at dksX2_ifSet_1 16 rfl rfl)
theorem dX2_ifSet_42 : decode cX2_ifSet 42 = .ok (.iastore, 1) := dk_79 (dk_at dksX2_ifSet_1 18 rfl rfl)
theorem dX2_ifSet_43 : decode cX2_ifSet 43 = .ok (.iload 5, 2) := dk_21 5 (dk_at dksX2_ifSet_1 19 rfl rfl)
theorem dX2_ifSet_45 : decode cX2_ifSet 45 = .ok (.ireturn, 1) := dk_172 (dk_at dksX2_ifSet_1 21 rfl rfl)
abbrev cX2_worst : ByteArray := prog_9_method_64_code
def yX2_worst : MethodName := ⟨RX2, "worst", "()I"⟩
def dkwX2_worst_2 : List UInt8 := [167, 255, 218, 27, 172]
abbrev dktX2_worst_2 : List UInt8 := dkwX2_worst_2 ++ []
def dkwX2_worst_1 : List UInt8 := [28, 6, 182, 0, 114, 42, 27, 6, 182, 0, 114, 162, 0, 7, 28, 167, 0, 4, 27, 60, 132, 2, 1]
abbrev dktX2_worst_1 : List UInt8 := dkwX2_worst_1 ++ dktX2_worst_2
def dkwX2_worst_0 : List UInt8 := [42, 182, 0, 138, 16, 251, 60, 3, 61, 28, 42, 182, 0, 110, 162, 0, 36, 27, 16, 251, 159, 0, 18, 42]
abbrev dktX2_worst_0 : List UInt8 := dkwX2_worst_0 ++ dktX2_worst_1
theorem dksX2_worst_0 : cX2_worst.data.toList.drop 0 = dktX2_worst_0 := by decide +kernel
theorem dksX2_worst_1 : cX2_worst.data.toList.drop 24 = dktX2_worst_1 := dk_seg dksX2_worst_0 24 rfl rfl
theorem dksX2_worst_2 : cX2_worst.data.toList.drop 47 = dktX2_worst_2 := dk_seg dksX2_worst_1 23 rfl rfl
theorem dX2_worst_0 : decode cX2_worst 0 = .ok (.aload_n 0, 1) := dk_42 (dk_at dksX2_worst_0 0 rfl rfl)
theorem dX2_worst_1 : decode cX2_worst 1 = .ok (.invokevirtual 138, 3) := dk_182 0 138 (dk_at dksX2_worst_0 1 rfl rfl)
theorem dX2_worst_4 : decode cX2_worst 4 = .ok (.bipush (-5), 2) := dk_16 251 (dk_at dksX2_worst_0 4 rfl rfl)
theorem dX2_worst_6 : decode cX2_worst 6 = .ok (.istore_n 1, 1) := dk_60 (dk_at dksX2_worst_0 6 rfl rfl)
theorem dX2_worst_7 : decode cX2_worst 7 = .ok (.iconst 0, 1) := dk_3 (dk_at dksX2_worst_0 7 rfl rfl)
theorem dX2_worst_8 : decode cX2_worst 8 = .ok (.istore_n 2, 1) := dk_61 (dk_at dksX2_worst_0 8 rfl rfl)
theorem dX2_worst_9 : decode cX2_worst 9 = .ok (.iload_n 2, 1) := dk_28 (dk_at dksX2_worst_0 9 rfl rfl)
theorem dX2_worst_10 : decode cX2_worst 10 = .ok (.aload_n 0, 1) := dk_42 (dk_at dksX2_worst_0 10 rfl rfl)
theorem dX2_worst_11 : decode cX2_worst 11 = .ok (.invokevirtual 110, 3) := dk_182 0 110 (dk_at dksX2_worst_0 11 rfl rfl)
theorem dX2_worst_14 : decode cX2_worst 14 = .ok (.if_icmp .ge 36, 3) := dk_162 0 36 (dk_at dksX2_worst_0 14 rfl rfl)
theorem dX2_worst_17 : decode cX2_worst 17 = .ok (.iload_n 1, 1) := dk_27 (dk_at dksX2_worst_0 17 rfl rfl)
theorem dX2_worst_18 : decode cX2_worst 18 = .ok (.bipush (-5), 2) := dk_16 251 (dk_at dksX2_worst_0 18 rfl rfl)
theorem dX2_worst_20 : decode cX2_worst 20 = .ok (.if_icmp .eq 18, 3) := dk_159 0 18 (dk_at dksX2_worst_0 20 rfl rfl)
theorem dX2_worst_23 : decode cX2_worst 23 = .ok (.aload_n 0, 1) := dk_42 (dk_at dksX2_worst_0 23 rfl rfl)
theorem dX2_worst_24 : decode cX2_worst 24 = .ok (.iload_n 2, 1) := dk_28 (dk_at dksX2_worst_1 0 rfl rfl)
theorem dX2_worst_25 : decode cX2_worst 25 = .ok (.iconst 3, 1) := dk_6 (dk_at dksX2_worst_1 1 rfl rfl)
theorem dX2_worst_26 : decode cX2_worst 26 = .ok (.invokevirtual 114, 3) := dk_182 0 114 (dk_at dksX2_worst_1 2 rfl rfl)
theorem dX2_worst_29 : decode cX2_worst 29 = .ok (.aload_n 0, 1) := dk_42 (dk_at dksX2_worst_1 5 rfl rfl)
theorem dX2_worst_30 : decode cX2_worst 30 = .ok (.iload_n 1, 1) := dk_27 (dk_at dksX2_worst_1 6 rfl rfl)
theorem dX2_worst_31 : decode cX2_worst 31 = .ok (.iconst 3, 1) := dk_6 (dk_at dksX2_worst_1 7 rfl rfl)
theorem dX2_worst_32 : decode cX2_worst 32 = .ok (.invokevirtual 114, 3) := dk_182 0 114 (dk_at dksX2_worst_1 8 rfl rfl)
theorem dX2_worst_35 : decode cX2_worst 35 = .ok (.if_icmp .ge 7, 3) := dk_162 0 7 (dk_at dksX2_worst_1 11 rfl rfl)
theorem dX2_worst_38 : decode cX2_worst 38 = .ok (.iload_n 2, 1) := dk_28 (dk_at dksX2_worst_1 14 rfl rfl)
theorem dX2_worst_39 : decode cX2_worst 39 = .ok (.goto 4, 3) := dk_167 0 4 (dk_at dksX2_worst_1 15 rfl rfl)
theorem dX2_worst_42 : decode cX2_worst 42 = .ok (.iload_n 1, 1) := dk_27 (dk_at dksX2_worst_1 18 rfl rfl)
theorem dX2_worst_43 : decode cX2_worst 43 = .ok (.istore_n 1, 1) := dk_60 (dk_at dksX2_worst_1 19 rfl rfl)
theorem dX2_worst_44 : decode cX2_worst 44 = .ok (.iinc 2 1, 3) := dk_132 2 1 (dk_at dksX2_worst_1 20 rfl rfl)
theorem dX2_worst_47 : decode cX2_worst 47 = .ok (.goto (-38), 3) := dk_167 255 218 (dk_at dksX2_worst_2 0 rfl rfl)
theorem dX2_worst_50 : decode cX2_worst 50 = .ok (.iload_n 1, 1) := dk_27 (dk_at dksX2_worst_2 3 rfl rfl)
theorem dX2_worst_51 : decode cX2_worst 51 = .ok (.ireturn, 1) := dk_172 (dk_at dksX2_worst_2 4 rfl rfl)
theorem q60 : (Jvm.Cond.initialized "SungSlidesModel") ∈ lw_all := lw_g (lw_at lw_m1 6 rfl) rfl
theorem q310 : (Jvm.Cond.selects "SungSlidesModel" ({ cls := "java/lang/Object", name := "getClass", desc := "()Ljava/lang/Class;" } : Jvm.MethodName) ({ cls := "java/lang/Object", name := "getClass", desc := "()Ljava/lang/Class;" } : Jvm.MethodName)) ∈ lw_all := lw_g (lw_at lw_m2 16 rfl) rfl
theorem q812 : (Jvm.Cond.instantiable "SungSlidesModel" (16 : Nat)) ∈ lw_all := lw_g (lw_at lw_m4 38 rfl) rfl
theorem q814 : (Jvm.Cond.instanceMethod ({ cls := "SungSlidesModel", name := "<init>", desc := "()V" } : Jvm.MethodName)) ∈ lw_all := lw_g (lw_at lw_m4 40 rfl) rfl
theorem q815 : (Jvm.Cond.code ({ cls := "SungSlidesModel", name := "<init>", desc := "()V" } : Jvm.MethodName) prog_9_method_1_code (1 : Nat) (Option.none : Option Jvm.ClassFile.FieldType)) ∈ lw_all := lw_g (lw_at lw_m4 41 rfl) rfl
theorem q816 : (Jvm.Cond.methodLink "SungSlidesModel" (1 : Nat) ({ cls := "java/lang/Object", name := "<init>", desc := "()V" } : Jvm.MethodName)) ∈ lw_all := lw_g (lw_at lw_m4 42 rfl) rfl
theorem q817 : (Jvm.Cond.fieldLink "SungSlidesModel" (7 : Nat) "SungSlidesModel" "s" "[I") ∈ lw_all := lw_g (lw_at lw_m4 43 rfl) rfl
theorem q818 : (Jvm.Cond.fieldLink "SungSlidesModel" (13 : Nat) "SungSlidesModel" "history" "[I") ∈ lw_all := lw_g (lw_at lw_m4 44 rfl) rfl
theorem q819 : (Jvm.Cond.fieldLink "SungSlidesModel" (48 : Nat) "SungSlidesModel" "kept" "I") ∈ lw_all := lw_g (lw_at lw_m4 45 rfl) rfl
theorem q820 : (Jvm.Cond.fieldLink "SungSlidesModel" (16 : Nat) "SungSlidesModel" "snapshot" "[I") ∈ lw_all := lw_g (lw_at lw_m4 46 rfl) rfl
theorem q821 : (Jvm.Cond.fieldLink "SungSlidesModel" (173 : Nat) "SungSlidesModel" "isTaken" "Z") ∈ lw_all := lw_g (lw_at lw_m4 47 rfl) rfl
theorem q822 : (Jvm.Cond.fieldLink "SungSlidesModel" (19 : Nat) "SungSlidesModel" "text" "[C") ∈ lw_all := lw_g (lw_at lw_m4 48 rfl) rfl
theorem q823 : (Jvm.Cond.fieldLink "SungSlidesModel" (147 : Nat) "SungSlidesModel" "length" "I") ∈ lw_all := lw_g (lw_at lw_m4 49 rfl) rfl
theorem q824 : (Jvm.Cond.fieldLink "SungSlidesModel" (23 : Nat) "SungSlidesModel" "heard" "[I") ∈ lw_all := lw_g (lw_at lw_m4 50 rfl) rfl
theorem q825 : (Jvm.Cond.fieldLink "SungSlidesModel" (26 : Nat) "SungSlidesModel" "matching" "[I") ∈ lw_all := lw_g (lw_at lw_m4 51 rfl) rfl
theorem q826 : (Jvm.Cond.fieldLink "SungSlidesModel" (29 : Nat) "SungSlidesModel" "onset" "[I") ∈ lw_all := lw_g (lw_at lw_m4 52 rfl) rfl
theorem q827 : (Jvm.Cond.fieldLink "SungSlidesModel" (32 : Nat) "SungSlidesModel" "why" "[I") ∈ lw_all := lw_g (lw_at lw_m4 53 rfl) rfl
theorem q828 : (Jvm.Cond.fieldLink "SungSlidesModel" (35 : Nat) "SungSlidesModel" "row" "[I") ∈ lw_all := lw_g (lw_at lw_m4 54 rfl) rfl
theorem q829 : (Jvm.Cond.fieldLink "SungSlidesModel" (38 : Nat) "SungSlidesModel" "points" "[I") ∈ lw_all := lw_g (lw_at lw_m4 55 rfl) rfl
theorem q830 : (Jvm.Cond.fieldLink "SungSlidesModel" (150 : Nat) "SungSlidesModel" "place" "I") ∈ lw_all := lw_g (lw_at lw_m4 56 rfl) rfl
theorem q831 : (Jvm.Cond.fieldLink "SungSlidesModel" (41 : Nat) "SungSlidesModel" "told" "[I") ∈ lw_all := lw_g (lw_at lw_m4 57 rfl) rfl
theorem q832 : (Jvm.Cond.fieldLink "SungSlidesModel" (162 : Nat) "SungSlidesModel" "ticksOfText" "I") ∈ lw_all := lw_g (lw_at lw_m4 58 rfl) rfl
theorem q833 : (Jvm.Cond.laysFinal "SungSlidesModel" "SungSlidesModel" "s" "[I") ∈ lw_all := lw_g (lw_at lw_m4 59 rfl) rfl
theorem q834 : (Jvm.Cond.soleField "SungSlidesModel" "s") ∈ lw_all := lw_g (lw_at lw_m4 60 rfl) rfl
theorem q835 : (Jvm.Cond.laysFinal "SungSlidesModel" "SungSlidesModel" "history" "[I") ∈ lw_all := lw_g (lw_at lw_m4 61 rfl) rfl
theorem q836 : (Jvm.Cond.soleField "SungSlidesModel" "history") ∈ lw_all := lw_g (lw_at lw_m4 62 rfl) rfl
theorem q837 : (Jvm.Cond.lays "SungSlidesModel" "SungSlidesModel" "kept" "I") ∈ lw_all := lw_g (lw_at lw_m4 63 rfl) rfl
theorem q838 : (Jvm.Cond.soleField "SungSlidesModel" "kept") ∈ lw_all := lw_g (lw_at lw_m4 64 rfl) rfl
theorem q839 : (Jvm.Cond.laysFinal "SungSlidesModel" "SungSlidesModel" "snapshot" "[I") ∈ lw_all := lw_g (lw_at lw_m4 65 rfl) rfl
theorem q840 : (Jvm.Cond.soleField "SungSlidesModel" "snapshot") ∈ lw_all := lw_g (lw_at lw_m4 66 rfl) rfl
theorem q841 : (Jvm.Cond.lays "SungSlidesModel" "SungSlidesModel" "isTaken" "Z") ∈ lw_all := lw_g (lw_at lw_m4 67 rfl) rfl
theorem q842 : (Jvm.Cond.soleField "SungSlidesModel" "isTaken") ∈ lw_all := lw_g (lw_at lw_m4 68 rfl) rfl
theorem q843 : (Jvm.Cond.laysFinal "SungSlidesModel" "SungSlidesModel" "text" "[C") ∈ lw_all := lw_g (lw_at lw_m4 69 rfl) rfl
theorem q844 : (Jvm.Cond.soleField "SungSlidesModel" "text") ∈ lw_all := lw_g (lw_at lw_m4 70 rfl) rfl
theorem q845 : (Jvm.Cond.lays "SungSlidesModel" "SungSlidesModel" "length" "I") ∈ lw_all := lw_g (lw_at lw_m4 71 rfl) rfl
theorem q846 : (Jvm.Cond.soleField "SungSlidesModel" "length") ∈ lw_all := lw_g (lw_at lw_m4 72 rfl) rfl
theorem q847 : (Jvm.Cond.laysFinal "SungSlidesModel" "SungSlidesModel" "heard" "[I") ∈ lw_all := lw_g (lw_at lw_m4 73 rfl) rfl
theorem q848 : (Jvm.Cond.soleField "SungSlidesModel" "heard") ∈ lw_all := lw_g (lw_at lw_m4 74 rfl) rfl
theorem q849 : (Jvm.Cond.laysFinal "SungSlidesModel" "SungSlidesModel" "matching" "[I") ∈ lw_all := lw_g (lw_at lw_m4 75 rfl) rfl
theorem q850 : (Jvm.Cond.soleField "SungSlidesModel" "matching") ∈ lw_all := lw_g (lw_at lw_m4 76 rfl) rfl
theorem q851 : (Jvm.Cond.laysFinal "SungSlidesModel" "SungSlidesModel" "onset" "[I") ∈ lw_all := lw_g (lw_at lw_m4 77 rfl) rfl
theorem q852 : (Jvm.Cond.soleField "SungSlidesModel" "onset") ∈ lw_all := lw_g (lw_at lw_m4 78 rfl) rfl
theorem q853 : (Jvm.Cond.laysFinal "SungSlidesModel" "SungSlidesModel" "why" "[I") ∈ lw_all := lw_g (lw_at lw_m4 79 rfl) rfl
theorem q854 : (Jvm.Cond.soleField "SungSlidesModel" "why") ∈ lw_all := lw_g (lw_at lw_m4 80 rfl) rfl
theorem q855 : (Jvm.Cond.laysFinal "SungSlidesModel" "SungSlidesModel" "row" "[I") ∈ lw_all := lw_g (lw_at lw_m4 81 rfl) rfl
theorem q856 : (Jvm.Cond.soleField "SungSlidesModel" "row") ∈ lw_all := lw_g (lw_at lw_m4 82 rfl) rfl
theorem q857 : (Jvm.Cond.laysFinal "SungSlidesModel" "SungSlidesModel" "points" "[I") ∈ lw_all := lw_g (lw_at lw_m4 83 rfl) rfl
theorem q858 : (Jvm.Cond.soleField "SungSlidesModel" "points") ∈ lw_all := lw_g (lw_at lw_m4 84 rfl) rfl
theorem q859 : (Jvm.Cond.lays "SungSlidesModel" "SungSlidesModel" "place" "I") ∈ lw_all := lw_g (lw_at lw_m4 85 rfl) rfl
theorem q860 : (Jvm.Cond.soleField "SungSlidesModel" "place") ∈ lw_all := lw_g (lw_at lw_m4 86 rfl) rfl
theorem q861 : (Jvm.Cond.laysFinal "SungSlidesModel" "SungSlidesModel" "told" "[I") ∈ lw_all := lw_g (lw_at lw_m4 87 rfl) rfl
theorem q862 : (Jvm.Cond.soleField "SungSlidesModel" "told") ∈ lw_all := lw_g (lw_at lw_m4 88 rfl) rfl
theorem q863 : (Jvm.Cond.lays "SungSlidesModel" "SungSlidesModel" "ticksOfText" "I") ∈ lw_all := lw_g (lw_at lw_m4 89 rfl) rfl
theorem q864 : (Jvm.Cond.soleField "SungSlidesModel" "ticksOfText") ∈ lw_all := lw_g (lw_at lw_m4 90 rfl) rfl
theorem q865 : (Jvm.Cond.superclass "SungSlidesModel" "java/lang/Object") ∈ lw_all := lw_g (lw_at lw_m4 91 rfl) rfl
theorem q867 : (Jvm.Cond.instanceMethod ({ cls := "SungSlidesModel", name := "add", desc := "(IIIIZ)I" } : Jvm.MethodName)) ∈ lw_all := lw_g (lw_at lw_m4 93 rfl) rfl
theorem q868 : (Jvm.Cond.selects "SungSlidesModel" ({ cls := "SungSlidesModel", name := "add", desc := "(IIIIZ)I" } : Jvm.MethodName) ({ cls := "SungSlidesModel", name := "add", desc := "(IIIIZ)I" } : Jvm.MethodName)) ∈ lw_all := lw_g (lw_at lw_m4 94 rfl) rfl
theorem q869 : (Jvm.Cond.code ({ cls := "SungSlidesModel", name := "add", desc := "(IIIIZ)I" } : Jvm.MethodName) prog_9_method_34_code (7 : Nat) (Option.some Jvm.ClassFile.FieldType.int)) ∈ lw_all := lw_g (lw_at lw_m4 95 rfl) rfl
theorem q870 : (Jvm.Cond.methodLink "SungSlidesModel" (71 : Nat) ({ cls := "SungSlidesModel", name := "isPitch", desc := "(I)Z" } : Jvm.MethodName)) ∈ lw_all := lw_g (lw_at lw_m4 96 rfl) rfl
theorem q871 : (Jvm.Cond.static ({ cls := "SungSlidesModel", name := "isPitch", desc := "(I)Z" } : Jvm.MethodName)) ∈ lw_all := lw_g (lw_at lw_m4 97 rfl) rfl
theorem q872 : (Jvm.Cond.code ({ cls := "SungSlidesModel", name := "isPitch", desc := "(I)Z" } : Jvm.MethodName) prog_9_method_5_code (1 : Nat) (Option.some Jvm.ClassFile.FieldType.boolean)) ∈ lw_all := lw_g (lw_at lw_m4 98 rfl) rfl
theorem q873 : (Jvm.Cond.methodLink "SungSlidesModel" (44 : Nat) ({ cls := "SungSlidesModel", name := "in", desc := "(III)Z" } : Jvm.MethodName)) ∈ lw_all := lw_g (lw_at lw_m4 99 rfl) rfl
theorem q874 : (Jvm.Cond.static ({ cls := "SungSlidesModel", name := "in", desc := "(III)Z" } : Jvm.MethodName)) ∈ lw_all := lw_g (lw_at lw_m4 100 rfl) rfl
theorem q875 : (Jvm.Cond.code ({ cls := "SungSlidesModel", name := "in", desc := "(III)Z" } : Jvm.MethodName) prog_9_method_3_code (3 : Nat) (Option.some Jvm.ClassFile.FieldType.boolean)) ∈ lw_all := lw_g (lw_at lw_m4 101 rfl) rfl
theorem q876 : (Jvm.Cond.methodLink "SungSlidesModel" (124 : Nat) ({ cls := "SungSlidesModel", name := "addError", desc := "(III)I" } : Jvm.MethodName)) ∈ lw_all := lw_g (lw_at lw_m4 102 rfl) rfl
theorem q877 : (Jvm.Cond.privateMethod ({ cls := "SungSlidesModel", name := "addError", desc := "(III)I" } : Jvm.MethodName)) ∈ lw_tbl := lw_at lw_m4 103 rfl
theorem q878 : (Jvm.Cond.instanceMethod ({ cls := "SungSlidesModel", name := "addError", desc := "(III)I" } : Jvm.MethodName)) ∈ lw_all := lw_g (lw_at lw_m4 104 rfl) rfl
theorem q879 : (Jvm.Cond.code ({ cls := "SungSlidesModel", name := "addError", desc := "(III)I" } : Jvm.MethodName) prog_9_method_32_code (4 : Nat) (Option.some Jvm.ClassFile.FieldType.int)) ∈ lw_all := lw_g (lw_at lw_m4 105 rfl) rfl
theorem q880 : (Jvm.Cond.methodLink "SungSlidesModel" (117 : Nat) ({ cls := "SungSlidesModel", name := "endOfSong", desc := "()I" } : Jvm.MethodName)) ∈ lw_all := lw_g (lw_at lw_m4 106 rfl) rfl
theorem q881 : (Jvm.Cond.privateMethod ({ cls := "SungSlidesModel", name := "endOfSong", desc := "()I" } : Jvm.MethodName)) ∈ lw_tbl := lw_at lw_m4 107 rfl
theorem q882 : (Jvm.Cond.instanceMethod ({ cls := "SungSlidesModel", name := "endOfSong", desc := "()I" } : Jvm.MethodName)) ∈ lw_all := lw_g (lw_at lw_m4 108 rfl) rfl
theorem q883 : (Jvm.Cond.code ({ cls := "SungSlidesModel", name := "endOfSong", desc := "()I" } : Jvm.MethodName) prog_9_method_13_code (1 : Nat) (Option.some Jvm.ClassFile.FieldType.int)) ∈ lw_all := lw_g (lw_at lw_m4 109 rfl) rfl
theorem q884 : (Jvm.Cond.methodLink "SungSlidesModel" (60 : Nat) ({ cls := "SungSlidesModel", name := "behind", desc := "(I)I" } : Jvm.MethodName)) ∈ lw_all := lw_g (lw_at lw_m4 110 rfl) rfl
theorem q885 : (Jvm.Cond.privateMethod ({ cls := "SungSlidesModel", name := "behind", desc := "(I)I" } : Jvm.MethodName)) ∈ lw_tbl := lw_at lw_m4 111 rfl
theorem q886 : (Jvm.Cond.instanceMethod ({ cls := "SungSlidesModel", name := "behind", desc := "(I)I" } : Jvm.MethodName)) ∈ lw_all := lw_g (lw_at lw_m4 112 rfl) rfl
theorem q887 : (Jvm.Cond.code ({ cls := "SungSlidesModel", name := "behind", desc := "(I)I" } : Jvm.MethodName) prog_9_method_12_code (2 : Nat) (Option.some Jvm.ClassFile.FieldType.int)) ∈ lw_all := lw_g (lw_at lw_m4 113 rfl) rfl
theorem q888 : (Jvm.Cond.methodLink "SungSlidesModel" (56 : Nat) ({ cls := "SungSlidesModel", name := "of", desc := "(II)I" } : Jvm.MethodName)) ∈ lw_all := lw_g (lw_at lw_m4 114 rfl) rfl
theorem q889 : (Jvm.Cond.privateMethod ({ cls := "SungSlidesModel", name := "of", desc := "(II)I" } : Jvm.MethodName)) ∈ lw_tbl := lw_at lw_m4 115 rfl
theorem q890 : (Jvm.Cond.instanceMethod ({ cls := "SungSlidesModel", name := "of", desc := "(II)I" } : Jvm.MethodName)) ∈ lw_all := lw_g (lw_at lw_m4 116 rfl) rfl
theorem q891 : (Jvm.Cond.code ({ cls := "SungSlidesModel", name := "of", desc := "(II)I" } : Jvm.MethodName) prog_9_method_8_code (3 : Nat) (Option.some Jvm.ClassFile.FieldType.int)) ∈ lw_all := lw_g (lw_at lw_m4 117 rfl) rfl
theorem q892 : (Jvm.Cond.methodLink "SungSlidesModel" (128 : Nat) ({ cls := "SungSlidesModel", name := "record", desc := "()V" } : Jvm.MethodName)) ∈ lw_all := lw_g (lw_at lw_m4 118 rfl) rfl
theorem q893 : (Jvm.Cond.privateMethod ({ cls := "SungSlidesModel", name := "record", desc := "()V" } : Jvm.MethodName)) ∈ lw_tbl := lw_at lw_m4 119 rfl
theorem q894 : (Jvm.Cond.instanceMethod ({ cls := "SungSlidesModel", name := "record", desc := "()V" } : Jvm.MethodName)) ∈ lw_all := lw_g (lw_at lw_m4 120 rfl) rfl
theorem q895 : (Jvm.Cond.code ({ cls := "SungSlidesModel", name := "record", desc := "()V" } : Jvm.MethodName) prog_9_method_11_code (2 : Nat) (Option.none : Option Jvm.ClassFile.FieldType)) ∈ lw_all := lw_g (lw_at lw_m4 121 rfl) rfl
theorem q896 : (Jvm.Cond.methodLink "SungSlidesModel" (52 : Nat) ({ cls := "SungSlidesModel", name := "copy", desc := "([II[II)V" } : Jvm.MethodName)) ∈ lw_all := lw_g (lw_at lw_m4 122 rfl) rfl
theorem q897 : (Jvm.Cond.static ({ cls := "SungSlidesModel", name := "copy", desc := "([II[II)V" } : Jvm.MethodName)) ∈ lw_all := lw_g (lw_at lw_m4 123 rfl) rfl
theorem q898 : (Jvm.Cond.code ({ cls := "SungSlidesModel", name := "copy", desc := "([II[II)V" } : Jvm.MethodName) prog_9_method_10_code (5 : Nat) (Option.none : Option Jvm.ClassFile.FieldType)) ∈ lw_all := lw_g (lw_at lw_m4 124 rfl) rfl
theorem q899 : (Jvm.Cond.methodLink "SungSlidesModel" (131 : Nat) ({ cls := "SungSlidesModel", name := "doAdd", desc := "(IIIII)I" } : Jvm.MethodName)) ∈ lw_all := lw_g (lw_at lw_m4 125 rfl) rfl
theorem q900 : (Jvm.Cond.privateMethod ({ cls := "SungSlidesModel", name := "doAdd", desc := "(IIIII)I" } : Jvm.MethodName)) ∈ lw_tbl := lw_at lw_m4 126 rfl
theorem q901 : (Jvm.Cond.instanceMethod ({ cls := "SungSlidesModel", name := "doAdd", desc := "(IIIII)I" } : Jvm.MethodName)) ∈ lw_all := lw_g (lw_at lw_m4 127 rfl) rfl
theorem q902 : (Jvm.Cond.code ({ cls := "SungSlidesModel", name := "doAdd", desc := "(IIIII)I" } : Jvm.MethodName) prog_9_method_33_code (7 : Nat) (Option.some Jvm.ClassFile.FieldType.int)) ∈ lw_all := lw_g (lw_at lw_m4 128 rfl) rfl
theorem q903 : (Jvm.Cond.methodLink "SungSlidesModel" (120 : Nat) ({ cls := "SungSlidesModel", name := "lay", desc := "(III)V" } : Jvm.MethodName)) ∈ lw_all := lw_g (lw_at lw_m4 129 rfl) rfl
theorem q904 : (Jvm.Cond.privateMethod ({ cls := "SungSlidesModel", name := "lay", desc := "(III)V" } : Jvm.MethodName)) ∈ lw_tbl := lw_at lw_m4 130 rfl
theorem q905 : (Jvm.Cond.instanceMethod ({ cls := "SungSlidesModel", name := "lay", desc := "(III)V" } : Jvm.MethodName)) ∈ lw_all := lw_g (lw_at lw_m4 131 rfl) rfl
theorem q906 : (Jvm.Cond.code ({ cls := "SungSlidesModel", name := "lay", desc := "(III)V" } : Jvm.MethodName) prog_9_method_9_code (4 : Nat) (Option.none : Option Jvm.ClassFile.FieldType)) ∈ lw_all := lw_g (lw_at lw_m4 132 rfl) rfl
theorem q908 : (Jvm.Cond.instanceMethod ({ cls := "SungSlidesModel", name := "drop", desc := "()I" } : Jvm.MethodName)) ∈ lw_all := lw_g (lw_at lw_m4 134 rfl) rfl
theorem q909 : (Jvm.Cond.selects "SungSlidesModel" ({ cls := "SungSlidesModel", name := "drop", desc := "()I" } : Jvm.MethodName) ({ cls := "SungSlidesModel", name := "drop", desc := "()I" } : Jvm.MethodName)) ∈ lw_all := lw_g (lw_at lw_m4 135 rfl) rfl
theorem q910 : (Jvm.Cond.code ({ cls := "SungSlidesModel", name := "drop", desc := "()I" } : Jvm.MethodName) prog_9_method_35_code (1 : Nat) (Option.some Jvm.ClassFile.FieldType.int)) ∈ lw_all := lw_g (lw_at lw_m4 136 rfl) rfl
theorem q912 : (Jvm.Cond.instanceMethod ({ cls := "SungSlidesModel", name := "set", desc := "(II)I" } : Jvm.MethodName)) ∈ lw_all := lw_g (lw_at lw_m4 138 rfl) rfl
theorem q913 : (Jvm.Cond.selects "SungSlidesModel" ({ cls := "SungSlidesModel", name := "set", desc := "(II)I" } : Jvm.MethodName) ({ cls := "SungSlidesModel", name := "set", desc := "(II)I" } : Jvm.MethodName)) ∈ lw_all := lw_g (lw_at lw_m4 139 rfl) rfl
theorem q914 : (Jvm.Cond.code ({ cls := "SungSlidesModel", name := "set", desc := "(II)I" } : Jvm.MethodName) prog_9_method_37_code (5 : Nat) (Option.some Jvm.ClassFile.FieldType.int)) ∈ lw_all := lw_g (lw_at lw_m4 140 rfl) rfl
theorem q915 : (Jvm.Cond.methodLink "SungSlidesModel" (135 : Nat) ({ cls := "SungSlidesModel", name := "settingError", desc := "(II)I" } : Jvm.MethodName)) ∈ lw_all := lw_g (lw_at lw_m4 141 rfl) rfl
theorem q916 : (Jvm.Cond.static ({ cls := "SungSlidesModel", name := "settingError", desc := "(II)I" } : Jvm.MethodName)) ∈ lw_all := lw_g (lw_at lw_m4 142 rfl) rfl
theorem q917 : (Jvm.Cond.code ({ cls := "SungSlidesModel", name := "settingError", desc := "(II)I" } : Jvm.MethodName) prog_9_method_36_code (2 : Nat) (Option.some Jvm.ClassFile.FieldType.int)) ∈ lw_all := lw_g (lw_at lw_m4 143 rfl) rfl
theorem q919 : (Jvm.Cond.instanceMethod ({ cls := "SungSlidesModel", name := "sing", desc := "(III)I" } : Jvm.MethodName)) ∈ lw_all := lw_g (lw_at lw_m4 145 rfl) rfl
theorem q920 : (Jvm.Cond.selects "SungSlidesModel" ({ cls := "SungSlidesModel", name := "sing", desc := "(III)I" } : Jvm.MethodName) ({ cls := "SungSlidesModel", name := "sing", desc := "(III)I" } : Jvm.MethodName)) ∈ lw_all := lw_g (lw_at lw_m4 146 rfl) rfl
theorem q921 : (Jvm.Cond.code ({ cls := "SungSlidesModel", name := "sing", desc := "(III)I" } : Jvm.MethodName) prog_9_method_38_code (5 : Nat) (Option.some Jvm.ClassFile.FieldType.int)) ∈ lw_all := lw_g (lw_at lw_m4 147 rfl) rfl
theorem q922 : (Jvm.Cond.methodLink "SungSlidesModel" (67 : Nat) ({ cls := "SungSlidesModel", name := "isTick", desc := "(I)Z" } : Jvm.MethodName)) ∈ lw_all := lw_g (lw_at lw_m4 148 rfl) rfl
theorem q923 : (Jvm.Cond.static ({ cls := "SungSlidesModel", name := "isTick", desc := "(I)Z" } : Jvm.MethodName)) ∈ lw_all := lw_g (lw_at lw_m4 149 rfl) rfl
theorem q924 : (Jvm.Cond.code ({ cls := "SungSlidesModel", name := "isTick", desc := "(I)Z" } : Jvm.MethodName) prog_9_method_6_code (1 : Nat) (Option.some Jvm.ClassFile.FieldType.boolean)) ∈ lw_all := lw_g (lw_at lw_m4 150 rfl) rfl
theorem q925 : (Jvm.Cond.methodLink "SungSlidesModel" (138 : Nat) ({ cls := "SungSlidesModel", name := "judgeSong", desc := "()V" } : Jvm.MethodName)) ∈ lw_all := lw_g (lw_at lw_m4 151 rfl) rfl
theorem q926 : (Jvm.Cond.privateMethod ({ cls := "SungSlidesModel", name := "judgeSong", desc := "()V" } : Jvm.MethodName)) ∈ lw_tbl := lw_at lw_m4 152 rfl
theorem q927 : (Jvm.Cond.instanceMethod ({ cls := "SungSlidesModel", name := "judgeSong", desc := "()V" } : Jvm.MethodName)) ∈ lw_all := lw_g (lw_at lw_m4 153 rfl) rfl
theorem q928 : (Jvm.Cond.code ({ cls := "SungSlidesModel", name := "judgeSong", desc := "()V" } : Jvm.MethodName) prog_9_method_27_code (1 : Nat) (Option.none : Option Jvm.ClassFile.FieldType)) ∈ lw_all := lw_g (lw_at lw_m4 154 rfl) rfl
theorem q929 : (Jvm.Cond.methodLink "SungSlidesModel" (103 : Nat) ({ cls := "SungSlidesModel", name := "hear", desc := "(II)V" } : Jvm.MethodName)) ∈ lw_all := lw_g (lw_at lw_m4 155 rfl) rfl
theorem q930 : (Jvm.Cond.privateMethod ({ cls := "SungSlidesModel", name := "hear", desc := "(II)V" } : Jvm.MethodName)) ∈ lw_tbl := lw_at lw_m4 156 rfl
theorem q931 : (Jvm.Cond.instanceMethod ({ cls := "SungSlidesModel", name := "hear", desc := "(II)V" } : Jvm.MethodName)) ∈ lw_all := lw_g (lw_at lw_m4 157 rfl) rfl
theorem q932 : (Jvm.Cond.code ({ cls := "SungSlidesModel", name := "hear", desc := "(II)V" } : Jvm.MethodName) prog_9_method_18_code (5 : Nat) (Option.none : Option Jvm.ClassFile.FieldType)) ∈ lw_all := lw_g (lw_at lw_m4 158 rfl) rfl
theorem q933 : (Jvm.Cond.methodLink "SungSlidesModel" (107 : Nat) ({ cls := "SungSlidesModel", name := "judge", desc := "()V" } : Jvm.MethodName)) ∈ lw_all := lw_g (lw_at lw_m4 159 rfl) rfl
theorem q934 : (Jvm.Cond.privateMethod ({ cls := "SungSlidesModel", name := "judge", desc := "()V" } : Jvm.MethodName)) ∈ lw_tbl := lw_at lw_m4 160 rfl
theorem q935 : (Jvm.Cond.instanceMethod ({ cls := "SungSlidesModel", name := "judge", desc := "()V" } : Jvm.MethodName)) ∈ lw_all := lw_g (lw_at lw_m4 161 rfl) rfl
theorem q936 : (Jvm.Cond.code ({ cls := "SungSlidesModel", name := "judge", desc := "()V" } : Jvm.MethodName) prog_9_method_26_code (4 : Nat) (Option.none : Option Jvm.ClassFile.FieldType)) ∈ lw_all := lw_g (lw_at lw_m4 162 rfl) rfl
theorem q937 : (Jvm.Cond.methodLink "SungSlidesModel" (86 : Nat) ({ cls := "SungSlidesModel", name := "matches", desc := "(II)Z" } : Jvm.MethodName)) ∈ lw_all := lw_g (lw_at lw_m4 163 rfl) rfl
theorem q938 : (Jvm.Cond.privateMethod ({ cls := "SungSlidesModel", name := "matches", desc := "(II)Z" } : Jvm.MethodName)) ∈ lw_tbl := lw_at lw_m4 164 rfl
theorem q939 : (Jvm.Cond.instanceMethod ({ cls := "SungSlidesModel", name := "matches", desc := "(II)Z" } : Jvm.MethodName)) ∈ lw_all := lw_g (lw_at lw_m4 165 rfl) rfl
theorem q940 : (Jvm.Cond.code ({ cls := "SungSlidesModel", name := "matches", desc := "(II)Z" } : Jvm.MethodName) prog_9_method_20_code (4 : Nat) (Option.some Jvm.ClassFile.FieldType.boolean)) ∈ lw_all := lw_g (lw_at lw_m4 166 rfl) rfl
theorem q941 : (Jvm.Cond.methodLink "SungSlidesModel" (74 : Nat) ({ cls := "SungSlidesModel", name := "wantedIn", desc := "(II)I" } : Jvm.MethodName)) ∈ lw_all := lw_g (lw_at lw_m4 167 rfl) rfl
theorem q942 : (Jvm.Cond.privateMethod ({ cls := "SungSlidesModel", name := "wantedIn", desc := "(II)I" } : Jvm.MethodName)) ∈ lw_tbl := lw_at lw_m4 168 rfl
theorem q943 : (Jvm.Cond.instanceMethod ({ cls := "SungSlidesModel", name := "wantedIn", desc := "(II)I" } : Jvm.MethodName)) ∈ lw_all := lw_g (lw_at lw_m4 169 rfl) rfl
theorem q944 : (Jvm.Cond.code ({ cls := "SungSlidesModel", name := "wantedIn", desc := "(II)I" } : Jvm.MethodName) prog_9_method_14_code (4 : Nat) (Option.some Jvm.ClassFile.FieldType.int)) ∈ lw_all := lw_g (lw_at lw_m4 170 rfl) rfl
theorem q945 : (Jvm.Cond.methodLink "SungSlidesModel" (77 : Nat) ({ cls := "SungSlidesModel", name := "size", desc := "(I)I" } : Jvm.MethodName)) ∈ lw_all := lw_g (lw_at lw_m4 171 rfl) rfl
theorem q946 : (Jvm.Cond.static ({ cls := "SungSlidesModel", name := "size", desc := "(I)I" } : Jvm.MethodName)) ∈ lw_all := lw_g (lw_at lw_m4 172 rfl) rfl
theorem q947 : (Jvm.Cond.code ({ cls := "SungSlidesModel", name := "size", desc := "(I)I" } : Jvm.MethodName) prog_9_method_4_code (1 : Nat) (Option.some Jvm.ClassFile.FieldType.int)) ∈ lw_all := lw_g (lw_at lw_m4 173 rfl) rfl
theorem q948 : (Jvm.Cond.methodLink "SungSlidesModel" (94 : Nat) ({ cls := "SungSlidesModel", name := "nearestOnset", desc := "(I)I" } : Jvm.MethodName)) ∈ lw_all := lw_g (lw_at lw_m4 174 rfl) rfl
theorem q949 : (Jvm.Cond.privateMethod ({ cls := "SungSlidesModel", name := "nearestOnset", desc := "(I)I" } : Jvm.MethodName)) ∈ lw_tbl := lw_at lw_m4 175 rfl
theorem q950 : (Jvm.Cond.instanceMethod ({ cls := "SungSlidesModel", name := "nearestOnset", desc := "(I)I" } : Jvm.MethodName)) ∈ lw_all := lw_g (lw_at lw_m4 176 rfl) rfl
theorem q951 : (Jvm.Cond.code ({ cls := "SungSlidesModel", name := "nearestOnset", desc := "(I)I" } : Jvm.MethodName) prog_9_method_21_code (4 : Nat) (Option.some Jvm.ClassFile.FieldType.int)) ∈ lw_all := lw_g (lw_at lw_m4 177 rfl) rfl
theorem q952 : (Jvm.Cond.methodLink "SungSlidesModel" (80 : Nat) ({ cls := "SungSlidesModel", name := "isOnset", desc := "(I)Z" } : Jvm.MethodName)) ∈ lw_all := lw_g (lw_at lw_m4 178 rfl) rfl
theorem q953 : (Jvm.Cond.privateMethod ({ cls := "SungSlidesModel", name := "isOnset", desc := "(I)Z" } : Jvm.MethodName)) ∈ lw_tbl := lw_at lw_m4 179 rfl
theorem q954 : (Jvm.Cond.instanceMethod ({ cls := "SungSlidesModel", name := "isOnset", desc := "(I)Z" } : Jvm.MethodName)) ∈ lw_all := lw_g (lw_at lw_m4 180 rfl) rfl
theorem q955 : (Jvm.Cond.code ({ cls := "SungSlidesModel", name := "isOnset", desc := "(I)Z" } : Jvm.MethodName) prog_9_method_19_code (2 : Nat) (Option.some Jvm.ClassFile.FieldType.boolean)) ∈ lw_all := lw_g (lw_at lw_m4 181 rfl) rfl
theorem q956 : (Jvm.Cond.methodLink "SungSlidesModel" (97 : Nat) ({ cls := "SungSlidesModel", name := "reasonOf", desc := "(I)I" } : Jvm.MethodName)) ∈ lw_all := lw_g (lw_at lw_m4 182 rfl) rfl
theorem q957 : (Jvm.Cond.privateMethod ({ cls := "SungSlidesModel", name := "reasonOf", desc := "(I)I" } : Jvm.MethodName)) ∈ lw_tbl := lw_at lw_m4 183 rfl
theorem q958 : (Jvm.Cond.instanceMethod ({ cls := "SungSlidesModel", name := "reasonOf", desc := "(I)I" } : Jvm.MethodName)) ∈ lw_all := lw_g (lw_at lw_m4 184 rfl) rfl
theorem q959 : (Jvm.Cond.code ({ cls := "SungSlidesModel", name := "reasonOf", desc := "(I)I" } : Jvm.MethodName) prog_9_method_23_code (4 : Nat) (Option.some Jvm.ClassFile.FieldType.int)) ∈ lw_all := lw_g (lw_at lw_m4 185 rfl) rfl
theorem q960 : (Jvm.Cond.methodLink "SungSlidesModel" (83 : Nat) ({ cls := "SungSlidesModel", name := "share", desc := "(I)I" } : Jvm.MethodName)) ∈ lw_all := lw_g (lw_at lw_m4 186 rfl) rfl
theorem q961 : (Jvm.Cond.privateMethod ({ cls := "SungSlidesModel", name := "share", desc := "(I)I" } : Jvm.MethodName)) ∈ lw_tbl := lw_at lw_m4 187 rfl
theorem q962 : (Jvm.Cond.instanceMethod ({ cls := "SungSlidesModel", name := "share", desc := "(I)I" } : Jvm.MethodName)) ∈ lw_all := lw_g (lw_at lw_m4 188 rfl) rfl
theorem q963 : (Jvm.Cond.code ({ cls := "SungSlidesModel", name := "share", desc := "(I)I" } : Jvm.MethodName) prog_9_method_22_code (2 : Nat) (Option.some Jvm.ClassFile.FieldType.int)) ∈ lw_all := lw_g (lw_at lw_m4 189 rfl) rfl
theorem q964 : (Jvm.Cond.methodLink "SungSlidesModel" (100 : Nat) ({ cls := "SungSlidesModel", name := "pointsOf", desc := "(I)I" } : Jvm.MethodName)) ∈ lw_all := lw_g (lw_at lw_m4 190 rfl) rfl
theorem q965 : (Jvm.Cond.privateMethod ({ cls := "SungSlidesModel", name := "pointsOf", desc := "(I)I" } : Jvm.MethodName)) ∈ lw_tbl := lw_at lw_m4 191 rfl
theorem q966 : (Jvm.Cond.instanceMethod ({ cls := "SungSlidesModel", name := "pointsOf", desc := "(I)I" } : Jvm.MethodName)) ∈ lw_all := lw_g (lw_at lw_m4 192 rfl) rfl
theorem q967 : (Jvm.Cond.code ({ cls := "SungSlidesModel", name := "pointsOf", desc := "(I)I" } : Jvm.MethodName) prog_9_method_25_code (3 : Nat) (Option.some Jvm.ClassFile.FieldType.int)) ∈ lw_all := lw_g (lw_at lw_m4 193 rfl) rfl
theorem q968 : (Jvm.Cond.methodLink "SungSlidesModel" (90 : Nat) ({ cls := "SungSlidesModel", name := "bars", desc := "(IZ)I" } : Jvm.MethodName)) ∈ lw_all := lw_g (lw_at lw_m4 194 rfl) rfl
theorem q969 : (Jvm.Cond.privateMethod ({ cls := "SungSlidesModel", name := "bars", desc := "(IZ)I" } : Jvm.MethodName)) ∈ lw_tbl := lw_at lw_m4 195 rfl
theorem q970 : (Jvm.Cond.instanceMethod ({ cls := "SungSlidesModel", name := "bars", desc := "(IZ)I" } : Jvm.MethodName)) ∈ lw_all := lw_g (lw_at lw_m4 196 rfl) rfl
theorem q971 : (Jvm.Cond.code ({ cls := "SungSlidesModel", name := "bars", desc := "(IZ)I" } : Jvm.MethodName) prog_9_method_24_code (5 : Nat) (Option.some Jvm.ClassFile.FieldType.int)) ∈ lw_all := lw_g (lw_at lw_m4 197 rfl) rfl
theorem q972 : (Jvm.Cond.methodLink "SungSlidesModel" (141 : Nat) ({ cls := "SungSlidesModel", name := "hits", desc := "()I" } : Jvm.MethodName)) ∈ lw_all := lw_g (lw_at lw_m4 198 rfl) rfl
theorem q973 : (Jvm.Cond.privateMethod ({ cls := "SungSlidesModel", name := "hits", desc := "()I" } : Jvm.MethodName)) ∈ lw_tbl := lw_at lw_m4 199 rfl
theorem q974 : (Jvm.Cond.instanceMethod ({ cls := "SungSlidesModel", name := "hits", desc := "()I" } : Jvm.MethodName)) ∈ lw_all := lw_g (lw_at lw_m4 200 rfl) rfl
theorem q975 : (Jvm.Cond.code ({ cls := "SungSlidesModel", name := "hits", desc := "()I" } : Jvm.MethodName) prog_9_method_30_code (3 : Nat) (Option.some Jvm.ClassFile.FieldType.int)) ∈ lw_all := lw_g (lw_at lw_m4 201 rfl) rfl
theorem q977 : (Jvm.Cond.instanceMethod ({ cls := "SungSlidesModel", name := "silence", desc := "(II)I" } : Jvm.MethodName)) ∈ lw_all := lw_g (lw_at lw_m4 203 rfl) rfl
theorem q978 : (Jvm.Cond.selects "SungSlidesModel" ({ cls := "SungSlidesModel", name := "silence", desc := "(II)I" } : Jvm.MethodName) ({ cls := "SungSlidesModel", name := "silence", desc := "(II)I" } : Jvm.MethodName)) ∈ lw_all := lw_g (lw_at lw_m4 204 rfl) rfl
theorem q979 : (Jvm.Cond.code ({ cls := "SungSlidesModel", name := "silence", desc := "(II)I" } : Jvm.MethodName) prog_9_method_39_code (5 : Nat) (Option.some Jvm.ClassFile.FieldType.int)) ∈ lw_all := lw_g (lw_at lw_m4 205 rfl) rfl
theorem q981 : (Jvm.Cond.instanceMethod ({ cls := "SungSlidesModel", name := "singAlong", desc := "(III)I" } : Jvm.MethodName)) ∈ lw_all := lw_g (lw_at lw_m4 207 rfl) rfl
theorem q982 : (Jvm.Cond.selects "SungSlidesModel" ({ cls := "SungSlidesModel", name := "singAlong", desc := "(III)I" } : Jvm.MethodName) ({ cls := "SungSlidesModel", name := "singAlong", desc := "(III)I" } : Jvm.MethodName)) ∈ lw_all := lw_g (lw_at lw_m4 208 rfl) rfl
theorem q983 : (Jvm.Cond.code ({ cls := "SungSlidesModel", name := "singAlong", desc := "(III)I" } : Jvm.MethodName) prog_9_method_40_code (7 : Nat) (Option.some Jvm.ClassFile.FieldType.int)) ∈ lw_all := lw_g (lw_at lw_m4 209 rfl) rfl
theorem q984 : (Jvm.Cond.methodLink "SungSlidesModel" (144 : Nat) ({ cls := "SungSlidesModel", name := "isSyllable", desc := "(I)Z" } : Jvm.MethodName)) ∈ lw_all := lw_g (lw_at lw_m4 210 rfl) rfl
theorem q985 : (Jvm.Cond.privateMethod ({ cls := "SungSlidesModel", name := "isSyllable", desc := "(I)Z" } : Jvm.MethodName)) ∈ lw_tbl := lw_at lw_m4 211 rfl
theorem q986 : (Jvm.Cond.instanceMethod ({ cls := "SungSlidesModel", name := "isSyllable", desc := "(I)Z" } : Jvm.MethodName)) ∈ lw_all := lw_g (lw_at lw_m4 212 rfl) rfl
theorem q987 : (Jvm.Cond.code ({ cls := "SungSlidesModel", name := "isSyllable", desc := "(I)Z" } : Jvm.MethodName) prog_9_method_7_code (2 : Nat) (Option.some Jvm.ClassFile.FieldType.boolean)) ∈ lw_all := lw_g (lw_at lw_m4 213 rfl) rfl
theorem q989 : (Jvm.Cond.instanceMethod ({ cls := "SungSlidesModel", name := "type", desc := "(C)I" } : Jvm.MethodName)) ∈ lw_all := lw_g (lw_at lw_m4 215 rfl) rfl
theorem q990 : (Jvm.Cond.selects "SungSlidesModel" ({ cls := "SungSlidesModel", name := "type", desc := "(C)I" } : Jvm.MethodName) ({ cls := "SungSlidesModel", name := "type", desc := "(C)I" } : Jvm.MethodName)) ∈ lw_all := lw_g (lw_at lw_m4 216 rfl) rfl
theorem q991 : (Jvm.Cond.code ({ cls := "SungSlidesModel", name := "type", desc := "(C)I" } : Jvm.MethodName) prog_9_method_41_code (2 : Nat) (Option.some Jvm.ClassFile.FieldType.int)) ∈ lw_all := lw_g (lw_at lw_m4 217 rfl) rfl
theorem q993 : (Jvm.Cond.instanceMethod ({ cls := "SungSlidesModel", name := "clearText", desc := "()I" } : Jvm.MethodName)) ∈ lw_all := lw_g (lw_at lw_m4 219 rfl) rfl
theorem q994 : (Jvm.Cond.selects "SungSlidesModel" ({ cls := "SungSlidesModel", name := "clearText", desc := "()I" } : Jvm.MethodName) ({ cls := "SungSlidesModel", name := "clearText", desc := "()I" } : Jvm.MethodName)) ∈ lw_all := lw_g (lw_at lw_m4 220 rfl) rfl
theorem q995 : (Jvm.Cond.code ({ cls := "SungSlidesModel", name := "clearText", desc := "()I" } : Jvm.MethodName) prog_9_method_42_code (2 : Nat) (Option.some Jvm.ClassFile.FieldType.int)) ∈ lw_all := lw_g (lw_at lw_m4 221 rfl) rfl
theorem q997 : (Jvm.Cond.instanceMethod ({ cls := "SungSlidesModel", name := "read", desc := "()I" } : Jvm.MethodName)) ∈ lw_all := lw_g (lw_at lw_m4 223 rfl) rfl
theorem q998 : (Jvm.Cond.selects "SungSlidesModel" ({ cls := "SungSlidesModel", name := "read", desc := "()I" } : Jvm.MethodName) ({ cls := "SungSlidesModel", name := "read", desc := "()I" } : Jvm.MethodName)) ∈ lw_all := lw_g (lw_at lw_m4 224 rfl) rfl
theorem q999 : (Jvm.Cond.code ({ cls := "SungSlidesModel", name := "read", desc := "()I" } : Jvm.MethodName) prog_9_method_48_code (1 : Nat) (Option.some Jvm.ClassFile.FieldType.int)) ∈ lw_all := lw_g (lw_at lw_m4 225 rfl) rfl
theorem q1000 : (Jvm.Cond.methodLink "SungSlidesModel" (169 : Nat) ({ cls := "SungSlidesModel", name := "readText", desc := "(Z)Z" } : Jvm.MethodName)) ∈ lw_all := lw_g (lw_at lw_m4 226 rfl) rfl
theorem q1001 : (Jvm.Cond.privateMethod ({ cls := "SungSlidesModel", name := "readText", desc := "(Z)Z" } : Jvm.MethodName)) ∈ lw_tbl := lw_at lw_m4 227 rfl
theorem q1002 : (Jvm.Cond.instanceMethod ({ cls := "SungSlidesModel", name := "readText", desc := "(Z)Z" } : Jvm.MethodName)) ∈ lw_all := lw_g (lw_at lw_m4 228 rfl) rfl
theorem q1003 : (Jvm.Cond.code ({ cls := "SungSlidesModel", name := "readText", desc := "(Z)Z" } : Jvm.MethodName) prog_9_method_47_code (4 : Nat) (Option.some Jvm.ClassFile.FieldType.boolean)) ∈ lw_all := lw_g (lw_at lw_m4 229 rfl) rfl
theorem q1004 : (Jvm.Cond.methodLink "SungSlidesModel" (165 : Nat) ({ cls := "SungSlidesModel", name := "readSyllable", desc := "()Z" } : Jvm.MethodName)) ∈ lw_all := lw_g (lw_at lw_m4 230 rfl) rfl
theorem q1005 : (Jvm.Cond.privateMethod ({ cls := "SungSlidesModel", name := "readSyllable", desc := "()Z" } : Jvm.MethodName)) ∈ lw_tbl := lw_at lw_m4 231 rfl
theorem q1006 : (Jvm.Cond.instanceMethod ({ cls := "SungSlidesModel", name := "readSyllable", desc := "()Z" } : Jvm.MethodName)) ∈ lw_all := lw_g (lw_at lw_m4 232 rfl) rfl
theorem q1007 : (Jvm.Cond.code ({ cls := "SungSlidesModel", name := "readSyllable", desc := "()Z" } : Jvm.MethodName) prog_9_method_46_code (1 : Nat) (Option.some Jvm.ClassFile.FieldType.boolean)) ∈ lw_all := lw_g (lw_at lw_m4 233 rfl) rfl
theorem q1008 : (Jvm.Cond.methodLink "SungSlidesModel" (156 : Nat) ({ cls := "SungSlidesModel", name := "takes", desc := "(I)Z" } : Jvm.MethodName)) ∈ lw_all := lw_g (lw_at lw_m4 234 rfl) rfl
theorem q1009 : (Jvm.Cond.privateMethod ({ cls := "SungSlidesModel", name := "takes", desc := "(I)Z" } : Jvm.MethodName)) ∈ lw_tbl := lw_at lw_m4 235 rfl
theorem q1010 : (Jvm.Cond.instanceMethod ({ cls := "SungSlidesModel", name := "takes", desc := "(I)Z" } : Jvm.MethodName)) ∈ lw_all := lw_g (lw_at lw_m4 236 rfl) rfl
theorem q1011 : (Jvm.Cond.code ({ cls := "SungSlidesModel", name := "takes", desc := "(I)Z" } : Jvm.MethodName) prog_9_method_44_code (3 : Nat) (Option.some Jvm.ClassFile.FieldType.boolean)) ∈ lw_all := lw_g (lw_at lw_m4 237 rfl) rfl
theorem q1012 : (Jvm.Cond.methodLink "SungSlidesModel" (153 : Nat) ({ cls := "SungSlidesModel", name := "isNext", desc := "(II)Z" } : Jvm.MethodName)) ∈ lw_all := lw_g (lw_at lw_m4 238 rfl) rfl
theorem q1013 : (Jvm.Cond.privateMethod ({ cls := "SungSlidesModel", name := "isNext", desc := "(II)Z" } : Jvm.MethodName)) ∈ lw_tbl := lw_at lw_m4 239 rfl
theorem q1014 : (Jvm.Cond.instanceMethod ({ cls := "SungSlidesModel", name := "isNext", desc := "(II)Z" } : Jvm.MethodName)) ∈ lw_all := lw_g (lw_at lw_m5 0 rfl) rfl
theorem q1015 : (Jvm.Cond.code ({ cls := "SungSlidesModel", name := "isNext", desc := "(II)Z" } : Jvm.MethodName) prog_9_method_43_code (3 : Nat) (Option.some Jvm.ClassFile.FieldType.boolean)) ∈ lw_all := lw_g (lw_at lw_m5 1 rfl) rfl
theorem q1016 : (Jvm.Cond.methodLink "SungSlidesModel" (159 : Nat) ({ cls := "SungSlidesModel", name := "readNumber", desc := "(III)Z" } : Jvm.MethodName)) ∈ lw_all := lw_g (lw_at lw_m5 2 rfl) rfl
theorem q1017 : (Jvm.Cond.privateMethod ({ cls := "SungSlidesModel", name := "readNumber", desc := "(III)Z" } : Jvm.MethodName)) ∈ lw_tbl := lw_at lw_m5 3 rfl
theorem q1018 : (Jvm.Cond.instanceMethod ({ cls := "SungSlidesModel", name := "readNumber", desc := "(III)Z" } : Jvm.MethodName)) ∈ lw_all := lw_g (lw_at lw_m5 4 rfl) rfl
theorem q1019 : (Jvm.Cond.code ({ cls := "SungSlidesModel", name := "readNumber", desc := "(III)Z" } : Jvm.MethodName) prog_9_method_45_code (5 : Nat) (Option.some Jvm.ClassFile.FieldType.boolean)) ∈ lw_all := lw_g (lw_at lw_m5 5 rfl) rfl
theorem q1021 : (Jvm.Cond.instanceMethod ({ cls := "SungSlidesModel", name := "undo", desc := "()I" } : Jvm.MethodName)) ∈ lw_all := lw_g (lw_at lw_m5 7 rfl) rfl
theorem q1022 : (Jvm.Cond.selects "SungSlidesModel" ({ cls := "SungSlidesModel", name := "undo", desc := "()I" } : Jvm.MethodName) ({ cls := "SungSlidesModel", name := "undo", desc := "()I" } : Jvm.MethodName)) ∈ lw_all := lw_g (lw_at lw_m5 8 rfl) rfl
theorem q1023 : (Jvm.Cond.code ({ cls := "SungSlidesModel", name := "undo", desc := "()I" } : Jvm.MethodName) prog_9_method_49_code (1 : Nat) (Option.some Jvm.ClassFile.FieldType.int)) ∈ lw_all := lw_g (lw_at lw_m5 9 rfl) rfl
theorem q1025 : (Jvm.Cond.instanceMethod ({ cls := "SungSlidesModel", name := "keep", desc := "()I" } : Jvm.MethodName)) ∈ lw_all := lw_g (lw_at lw_m5 11 rfl) rfl
theorem q1026 : (Jvm.Cond.selects "SungSlidesModel" ({ cls := "SungSlidesModel", name := "keep", desc := "()I" } : Jvm.MethodName) ({ cls := "SungSlidesModel", name := "keep", desc := "()I" } : Jvm.MethodName)) ∈ lw_all := lw_g (lw_at lw_m5 12 rfl) rfl
theorem q1027 : (Jvm.Cond.code ({ cls := "SungSlidesModel", name := "keep", desc := "()I" } : Jvm.MethodName) prog_9_method_50_code (1 : Nat) (Option.some Jvm.ClassFile.FieldType.int)) ∈ lw_all := lw_g (lw_at lw_m5 13 rfl) rfl
theorem q1029 : (Jvm.Cond.instanceMethod ({ cls := "SungSlidesModel", name := "restore", desc := "()I" } : Jvm.MethodName)) ∈ lw_all := lw_g (lw_at lw_m5 15 rfl) rfl
theorem q1030 : (Jvm.Cond.selects "SungSlidesModel" ({ cls := "SungSlidesModel", name := "restore", desc := "()I" } : Jvm.MethodName) ({ cls := "SungSlidesModel", name := "restore", desc := "()I" } : Jvm.MethodName)) ∈ lw_all := lw_g (lw_at lw_m5 16 rfl) rfl
theorem q1031 : (Jvm.Cond.code ({ cls := "SungSlidesModel", name := "restore", desc := "()I" } : Jvm.MethodName) prog_9_method_51_code (1 : Nat) (Option.some Jvm.ClassFile.FieldType.int)) ∈ lw_all := lw_g (lw_at lw_m5 17 rfl) rfl
theorem q1033 : (Jvm.Cond.instanceMethod ({ cls := "SungSlidesModel", name := "syllable", desc := "(II)I" } : Jvm.MethodName)) ∈ lw_all := lw_g (lw_at lw_m5 19 rfl) rfl
theorem q1034 : (Jvm.Cond.selects "SungSlidesModel" ({ cls := "SungSlidesModel", name := "syllable", desc := "(II)I" } : Jvm.MethodName) ({ cls := "SungSlidesModel", name := "syllable", desc := "(II)I" } : Jvm.MethodName)) ∈ lw_all := lw_g (lw_at lw_m5 20 rfl) rfl
theorem q1035 : (Jvm.Cond.code ({ cls := "SungSlidesModel", name := "syllable", desc := "(II)I" } : Jvm.MethodName) prog_9_method_52_code (3 : Nat) (Option.some Jvm.ClassFile.FieldType.int)) ∈ lw_all := lw_g (lw_at lw_m5 21 rfl) rfl
theorem q1036 : (Jvm.Cond.methodLink "SungSlidesModel" (64 : Nat) ({ cls := "SungSlidesModel", name := "phraseOf", desc := "(I)I" } : Jvm.MethodName)) ∈ lw_all := lw_g (lw_at lw_m5 22 rfl) rfl
theorem q1037 : (Jvm.Cond.privateMethod ({ cls := "SungSlidesModel", name := "phraseOf", desc := "(I)I" } : Jvm.MethodName)) ∈ lw_tbl := lw_at lw_m5 23 rfl
theorem q1038 : (Jvm.Cond.instanceMethod ({ cls := "SungSlidesModel", name := "phraseOf", desc := "(I)I" } : Jvm.MethodName)) ∈ lw_all := lw_g (lw_at lw_m5 24 rfl) rfl
theorem q1039 : (Jvm.Cond.code ({ cls := "SungSlidesModel", name := "phraseOf", desc := "(I)I" } : Jvm.MethodName) prog_9_method_16_code (4 : Nat) (Option.some Jvm.ClassFile.FieldType.int)) ∈ lw_all := lw_g (lw_at lw_m5 25 rfl) rfl
theorem q1041 : (Jvm.Cond.instanceMethod ({ cls := "SungSlidesModel", name := "wanted", desc := "(I)I" } : Jvm.MethodName)) ∈ lw_all := lw_g (lw_at lw_m5 27 rfl) rfl
theorem q1042 : (Jvm.Cond.selects "SungSlidesModel" ({ cls := "SungSlidesModel", name := "wanted", desc := "(I)I" } : Jvm.MethodName) ({ cls := "SungSlidesModel", name := "wanted", desc := "(I)I" } : Jvm.MethodName)) ∈ lw_all := lw_g (lw_at lw_m5 28 rfl) rfl
theorem q1043 : (Jvm.Cond.code ({ cls := "SungSlidesModel", name := "wanted", desc := "(I)I" } : Jvm.MethodName) prog_9_method_53_code (3 : Nat) (Option.some Jvm.ClassFile.FieldType.int)) ∈ lw_all := lw_g (lw_at lw_m5 29 rfl) rfl
theorem q1044 : (Jvm.Cond.methodLink "SungSlidesModel" (177 : Nat) ({ cls := "SungSlidesModel", name := "syllableAt", desc := "(I)I" } : Jvm.MethodName)) ∈ lw_all := lw_g (lw_at lw_m5 30 rfl) rfl
theorem q1045 : (Jvm.Cond.privateMethod ({ cls := "SungSlidesModel", name := "syllableAt", desc := "(I)I" } : Jvm.MethodName)) ∈ lw_tbl := lw_at lw_m5 31 rfl
theorem q1046 : (Jvm.Cond.instanceMethod ({ cls := "SungSlidesModel", name := "syllableAt", desc := "(I)I" } : Jvm.MethodName)) ∈ lw_all := lw_g (lw_at lw_m5 32 rfl) rfl
theorem q1047 : (Jvm.Cond.code ({ cls := "SungSlidesModel", name := "syllableAt", desc := "(I)I" } : Jvm.MethodName) prog_9_method_15_code (4 : Nat) (Option.some Jvm.ClassFile.FieldType.int)) ∈ lw_all := lw_g (lw_at lw_m5 33 rfl) rfl
theorem q1049 : (Jvm.Cond.instanceMethod ({ cls := "SungSlidesModel", name := "sung", desc := "(I)I" } : Jvm.MethodName)) ∈ lw_all := lw_g (lw_at lw_m5 35 rfl) rfl
theorem q1050 : (Jvm.Cond.selects "SungSlidesModel" ({ cls := "SungSlidesModel", name := "sung", desc := "(I)I" } : Jvm.MethodName) ({ cls := "SungSlidesModel", name := "sung", desc := "(I)I" } : Jvm.MethodName)) ∈ lw_all := lw_g (lw_at lw_m5 36 rfl) rfl
theorem q1051 : (Jvm.Cond.code ({ cls := "SungSlidesModel", name := "sung", desc := "(I)I" } : Jvm.MethodName) prog_9_method_54_code (2 : Nat) (Option.some Jvm.ClassFile.FieldType.int)) ∈ lw_all := lw_g (lw_at lw_m5 37 rfl) rfl
theorem q1053 : (Jvm.Cond.instanceMethod ({ cls := "SungSlidesModel", name := "lit", desc := "(II)I" } : Jvm.MethodName)) ∈ lw_all := lw_g (lw_at lw_m5 39 rfl) rfl
theorem q1054 : (Jvm.Cond.selects "SungSlidesModel" ({ cls := "SungSlidesModel", name := "lit", desc := "(II)I" } : Jvm.MethodName) ({ cls := "SungSlidesModel", name := "lit", desc := "(II)I" } : Jvm.MethodName)) ∈ lw_all := lw_g (lw_at lw_m5 40 rfl) rfl
theorem q1055 : (Jvm.Cond.code ({ cls := "SungSlidesModel", name := "lit", desc := "(II)I" } : Jvm.MethodName) prog_9_method_55_code (4 : Nat) (Option.some Jvm.ClassFile.FieldType.int)) ∈ lw_all := lw_g (lw_at lw_m5 41 rfl) rfl
theorem q1057 : (Jvm.Cond.instanceMethod ({ cls := "SungSlidesModel", name := "phrase", desc := "(II)I" } : Jvm.MethodName)) ∈ lw_all := lw_g (lw_at lw_m5 43 rfl) rfl
theorem q1058 : (Jvm.Cond.selects "SungSlidesModel" ({ cls := "SungSlidesModel", name := "phrase", desc := "(II)I" } : Jvm.MethodName) ({ cls := "SungSlidesModel", name := "phrase", desc := "(II)I" } : Jvm.MethodName)) ∈ lw_all := lw_g (lw_at lw_m5 44 rfl) rfl
theorem q1059 : (Jvm.Cond.code ({ cls := "SungSlidesModel", name := "phrase", desc := "(II)I" } : Jvm.MethodName) prog_9_method_56_code (3 : Nat) (Option.some Jvm.ClassFile.FieldType.int)) ∈ lw_all := lw_g (lw_at lw_m5 45 rfl) rfl
theorem q1060 : (Jvm.Cond.methodLink "SungSlidesModel" (110 : Nat) ({ cls := "SungSlidesModel", name := "phrases", desc := "()I" } : Jvm.MethodName)) ∈ lw_all := lw_g (lw_at lw_m5 46 rfl) rfl
theorem q1061 : (Jvm.Cond.privateMethod ({ cls := "SungSlidesModel", name := "phrases", desc := "()I" } : Jvm.MethodName)) ∈ lw_tbl := lw_at lw_m5 47 rfl
theorem q1062 : (Jvm.Cond.instanceMethod ({ cls := "SungSlidesModel", name := "phrases", desc := "()I" } : Jvm.MethodName)) ∈ lw_all := lw_g (lw_at lw_m5 48 rfl) rfl
theorem q1063 : (Jvm.Cond.code ({ cls := "SungSlidesModel", name := "phrases", desc := "()I" } : Jvm.MethodName) prog_9_method_17_code (1 : Nat) (Option.some Jvm.ClassFile.FieldType.int)) ∈ lw_all := lw_g (lw_at lw_m5 49 rfl) rfl
theorem q1064 : (Jvm.Cond.methodLink "SungSlidesModel" (114 : Nat) ({ cls := "SungSlidesModel", name := "ofPhrase", desc := "(II)I" } : Jvm.MethodName)) ∈ lw_all := lw_g (lw_at lw_m5 50 rfl) rfl
theorem q1065 : (Jvm.Cond.privateMethod ({ cls := "SungSlidesModel", name := "ofPhrase", desc := "(II)I" } : Jvm.MethodName)) ∈ lw_tbl := lw_at lw_m5 51 rfl
theorem q1066 : (Jvm.Cond.instanceMethod ({ cls := "SungSlidesModel", name := "ofPhrase", desc := "(II)I" } : Jvm.MethodName)) ∈ lw_all := lw_g (lw_at lw_m5 52 rfl) rfl
theorem q1067 : (Jvm.Cond.code ({ cls := "SungSlidesModel", name := "ofPhrase", desc := "(II)I" } : Jvm.MethodName) prog_9_method_28_code (10 : Nat) (Option.some Jvm.ClassFile.FieldType.int)) ∈ lw_all := lw_g (lw_at lw_m5 53 rfl) rfl
theorem q1069 : (Jvm.Cond.instanceMethod ({ cls := "SungSlidesModel", name := "total", desc := "(I)I" } : Jvm.MethodName)) ∈ lw_all := lw_g (lw_at lw_m5 55 rfl) rfl
theorem q1070 : (Jvm.Cond.selects "SungSlidesModel" ({ cls := "SungSlidesModel", name := "total", desc := "(I)I" } : Jvm.MethodName) ({ cls := "SungSlidesModel", name := "total", desc := "(I)I" } : Jvm.MethodName)) ∈ lw_all := lw_g (lw_at lw_m5 56 rfl) rfl
theorem q1071 : (Jvm.Cond.code ({ cls := "SungSlidesModel", name := "total", desc := "(I)I" } : Jvm.MethodName) prog_9_method_59_code (2 : Nat) (Option.some Jvm.ClassFile.FieldType.int)) ∈ lw_all := lw_g (lw_at lw_m5 57 rfl) rfl
theorem q1072 : (Jvm.Cond.methodLink "SungSlidesModel" (180 : Nat) ({ cls := "SungSlidesModel", name := "sungTicks", desc := "()I" } : Jvm.MethodName)) ∈ lw_all := lw_g (lw_at lw_m5 58 rfl) rfl
theorem q1073 : (Jvm.Cond.privateMethod ({ cls := "SungSlidesModel", name := "sungTicks", desc := "()I" } : Jvm.MethodName)) ∈ lw_tbl := lw_at lw_m5 59 rfl
theorem q1074 : (Jvm.Cond.instanceMethod ({ cls := "SungSlidesModel", name := "sungTicks", desc := "()I" } : Jvm.MethodName)) ∈ lw_all := lw_g (lw_at lw_m5 60 rfl) rfl
theorem q1075 : (Jvm.Cond.code ({ cls := "SungSlidesModel", name := "sungTicks", desc := "()I" } : Jvm.MethodName) prog_9_method_57_code (3 : Nat) (Option.some Jvm.ClassFile.FieldType.int)) ∈ lw_all := lw_g (lw_at lw_m5 61 rfl) rfl
theorem q1076 : (Jvm.Cond.methodLink "SungSlidesModel" (183 : Nat) ({ cls := "SungSlidesModel", name := "onsets", desc := "()I" } : Jvm.MethodName)) ∈ lw_all := lw_g (lw_at lw_m5 62 rfl) rfl
theorem q1077 : (Jvm.Cond.privateMethod ({ cls := "SungSlidesModel", name := "onsets", desc := "()I" } : Jvm.MethodName)) ∈ lw_tbl := lw_at lw_m5 63 rfl
theorem q1078 : (Jvm.Cond.instanceMethod ({ cls := "SungSlidesModel", name := "onsets", desc := "()I" } : Jvm.MethodName)) ∈ lw_all := lw_g (lw_at lw_m5 64 rfl) rfl
theorem q1079 : (Jvm.Cond.code ({ cls := "SungSlidesModel", name := "onsets", desc := "()I" } : Jvm.MethodName) prog_9_method_58_code (3 : Nat) (Option.some Jvm.ClassFile.FieldType.int)) ∈ lw_all := lw_g (lw_at lw_m5 65 rfl) rfl
theorem q1080 : (Jvm.Cond.methodLink "SungSlidesModel" (186 : Nat) ({ cls := "SungSlidesModel", name := "allPoints", desc := "()I" } : Jvm.MethodName)) ∈ lw_all := lw_g (lw_at lw_m5 66 rfl) rfl
theorem q1081 : (Jvm.Cond.privateMethod ({ cls := "SungSlidesModel", name := "allPoints", desc := "()I" } : Jvm.MethodName)) ∈ lw_tbl := lw_at lw_m5 67 rfl
theorem q1082 : (Jvm.Cond.instanceMethod ({ cls := "SungSlidesModel", name := "allPoints", desc := "()I" } : Jvm.MethodName)) ∈ lw_all := lw_g (lw_at lw_m5 68 rfl) rfl
theorem q1083 : (Jvm.Cond.code ({ cls := "SungSlidesModel", name := "allPoints", desc := "()I" } : Jvm.MethodName) prog_9_method_29_code (3 : Nat) (Option.some Jvm.ClassFile.FieldType.int)) ∈ lw_all := lw_g (lw_at lw_m5 69 rfl) rfl
theorem q1084 : (Jvm.Cond.methodLink "SungSlidesModel" (189 : Nat) ({ cls := "SungSlidesModel", name := "mostPoints", desc := "()I" } : Jvm.MethodName)) ∈ lw_all := lw_g (lw_at lw_m5 70 rfl) rfl
theorem q1085 : (Jvm.Cond.privateMethod ({ cls := "SungSlidesModel", name := "mostPoints", desc := "()I" } : Jvm.MethodName)) ∈ lw_tbl := lw_at lw_m5 71 rfl
theorem q1086 : (Jvm.Cond.instanceMethod ({ cls := "SungSlidesModel", name := "mostPoints", desc := "()I" } : Jvm.MethodName)) ∈ lw_all := lw_g (lw_at lw_m5 72 rfl) rfl
theorem q1087 : (Jvm.Cond.code ({ cls := "SungSlidesModel", name := "mostPoints", desc := "()I" } : Jvm.MethodName) prog_9_method_31_code (4 : Nat) (Option.some Jvm.ClassFile.FieldType.int)) ∈ lw_all := lw_g (lw_at lw_m5 73 rfl) rfl
theorem q1089 : (Jvm.Cond.instanceMethod ({ cls := "SungSlidesModel", name := "ifShifted", desc := "(II)I" } : Jvm.MethodName)) ∈ lw_all := lw_g (lw_at lw_m5 75 rfl) rfl
theorem q1090 : (Jvm.Cond.selects "SungSlidesModel" ({ cls := "SungSlidesModel", name := "ifShifted", desc := "(II)I" } : Jvm.MethodName) ({ cls := "SungSlidesModel", name := "ifShifted", desc := "(II)I" } : Jvm.MethodName)) ∈ lw_all := lw_g (lw_at lw_m5 76 rfl) rfl
theorem q1091 : (Jvm.Cond.code ({ cls := "SungSlidesModel", name := "ifShifted", desc := "(II)I" } : Jvm.MethodName) prog_9_method_61_code (3 : Nat) (Option.some Jvm.ClassFile.FieldType.int)) ∈ lw_all := lw_g (lw_at lw_m5 77 rfl) rfl
theorem q1092 : (Jvm.Cond.methodLink "SungSlidesModel" (192 : Nat) ({ cls := "SungSlidesModel", name := "pointsShifted", desc := "(II)I" } : Jvm.MethodName)) ∈ lw_all := lw_g (lw_at lw_m5 78 rfl) rfl
theorem q1093 : (Jvm.Cond.privateMethod ({ cls := "SungSlidesModel", name := "pointsShifted", desc := "(II)I" } : Jvm.MethodName)) ∈ lw_tbl := lw_at lw_m5 79 rfl
theorem q1094 : (Jvm.Cond.instanceMethod ({ cls := "SungSlidesModel", name := "pointsShifted", desc := "(II)I" } : Jvm.MethodName)) ∈ lw_all := lw_g (lw_at lw_m5 80 rfl) rfl
theorem q1095 : (Jvm.Cond.code ({ cls := "SungSlidesModel", name := "pointsShifted", desc := "(II)I" } : Jvm.MethodName) prog_9_method_60_code (3 : Nat) (Option.some Jvm.ClassFile.FieldType.int)) ∈ lw_all := lw_g (lw_at lw_m5 81 rfl) rfl
theorem q1097 : (Jvm.Cond.instanceMethod ({ cls := "SungSlidesModel", name := "bestShift", desc := "()I" } : Jvm.MethodName)) ∈ lw_all := lw_g (lw_at lw_m5 83 rfl) rfl
theorem q1098 : (Jvm.Cond.selects "SungSlidesModel" ({ cls := "SungSlidesModel", name := "bestShift", desc := "()I" } : Jvm.MethodName) ({ cls := "SungSlidesModel", name := "bestShift", desc := "()I" } : Jvm.MethodName)) ∈ lw_all := lw_g (lw_at lw_m5 84 rfl) rfl
theorem q1099 : (Jvm.Cond.code ({ cls := "SungSlidesModel", name := "bestShift", desc := "()I" } : Jvm.MethodName) prog_9_method_62_code (6 : Nat) (Option.some Jvm.ClassFile.FieldType.int)) ∈ lw_all := lw_g (lw_at lw_m5 85 rfl) rfl
theorem q1101 : (Jvm.Cond.instanceMethod ({ cls := "SungSlidesModel", name := "ifSet", desc := "(II)I" } : Jvm.MethodName)) ∈ lw_all := lw_g (lw_at lw_m5 87 rfl) rfl
theorem q1102 : (Jvm.Cond.selects "SungSlidesModel" ({ cls := "SungSlidesModel", name := "ifSet", desc := "(II)I" } : Jvm.MethodName) ({ cls := "SungSlidesModel", name := "ifSet", desc := "(II)I" } : Jvm.MethodName)) ∈ lw_all := lw_g (lw_at lw_m5 88 rfl) rfl
theorem q1103 : (Jvm.Cond.code ({ cls := "SungSlidesModel", name := "ifSet", desc := "(II)I" } : Jvm.MethodName) prog_9_method_63_code (6 : Nat) (Option.some Jvm.ClassFile.FieldType.int)) ∈ lw_all := lw_g (lw_at lw_m5 89 rfl) rfl
theorem q1105 : (Jvm.Cond.instanceMethod ({ cls := "SungSlidesModel", name := "worst", desc := "()I" } : Jvm.MethodName)) ∈ lw_all := lw_g (lw_at lw_m5 91 rfl) rfl
theorem q1106 : (Jvm.Cond.selects "SungSlidesModel" ({ cls := "SungSlidesModel", name := "worst", desc := "()I" } : Jvm.MethodName) ({ cls := "SungSlidesModel", name := "worst", desc := "()I" } : Jvm.MethodName)) ∈ lw_all := lw_g (lw_at lw_m5 92 rfl) rfl
theorem q1107 : (Jvm.Cond.code ({ cls := "SungSlidesModel", name := "worst", desc := "()I" } : Jvm.MethodName) prog_9_method_64_code (3 : Nat) (Option.some Jvm.ClassFile.FieldType.int)) ∈ lw_all := lw_g (lw_at lw_m5 93 rfl) rfl
theorem q1113 : (Jvm.Cond.castable "SungSlidesModel" "java/lang/Object") ∈ lw_tbl := lw_at lw_m5 99 rfl
theorem in_X2 : ∀ w ∈ wsX20, w ∈ lw_all := lw_in wsX20 [833, 835, 837, 839, 841, 843, 845, 847, 849, 851, 853, 855, 857, 859, 861, 863] (by decide +kernel) (by decide +kernel)
