/-! TrophyPlatesModel -/
set_option maxRecDepth 100000
def RX3 : String := "TrophyPlatesModel"
def TX3 : u_T := fun k => match k with
  | 0 => ("TrophyPlatesModel", "thrown", "I", false)
  | 1 => ("TrophyPlatesModel", "s", "[I", true)
  | 2 => ("TrophyPlatesModel", "w", "[I", true)
  | 3 => ("TrophyPlatesModel", "saved", "[I", true)
  | 4 => ("TrophyPlatesModel", "savedMany", "I", false)
  | 5 => ("TrophyPlatesModel", "text", "[I", true)
  | 6 => ("TrophyPlatesModel", "length", "I", false)
  | 7 => ("TrophyPlatesModel", "found", "I", false)
  | 8 => ("TrophyPlatesModel", "foundSide", "I", false)
  | 9 => ("TrophyPlatesModel", "isToGrind", "Z", false)
  | 10 => ("TrophyPlatesModel", "now", "[I", true)
  | 11 => ("TrophyPlatesModel", "then", "[I", true)
  | _ => ("TrophyPlatesModel", "aside", "[I", true)
def tyX3 : Nat → FieldType := fun k => match k with
  | 0 => .int
  | 1 => .array .int
  | 2 => .array .int
  | 3 => .array .int
  | 4 => .int
  | 5 => .array .int
  | 6 => .int
  | 7 => .int
  | 8 => .int
  | 9 => .boolean
  | 10 => .array .int
  | 11 => .array .int
  | _ => .array .int
abbrev wsX30 : List Cond := u_ws RX3 TX3 13
set_option maxRecDepth 100000 in
theorem nmX3 : ∀ a, a < 13 → ∀ b, b < 13 → a ≠ b → (TX3 a).2.1 ≠ (TX3 b).2.1 := by decide +kernel
set_option maxRecDepth 100000 in
theorem tyX3_ok : ∀ k, k < 13 → parseFieldDescriptor (TX3 k).2.2.1 = some (tyX3 k) := by decide +kernel
abbrev cX3_init : ByteArray := prog_10_method_1_code
def yX3_init : MethodName := ⟨RX3, "<init>", "()V"⟩
def dkwX3_init_3 : List UInt8 := [180, 0, 7, 6, 16, 247, 79, 42, 180, 0, 7, 8, 16, 247, 79, 177]
abbrev dktX3_init_3 : List UInt8 := dkwX3_init_3 ++ []
def dkwX3_init_2 : List UInt8 := [42, 16, 10, 188, 10, 181, 0, 25, 42, 16, 19, 188, 10, 181, 0, 28, 42, 3, 181, 0, 31, 42]
abbrev dktX3_init_2 : List UInt8 := dkwX3_init_2 ++ dktX3_init_3
def dkwX3_init_1 : List UInt8 := [17, 6, 179, 188, 10, 181, 0, 16, 42, 16, 12, 188, 10, 181, 0, 19, 42, 16, 10, 188, 10, 181, 0, 22]
abbrev dktX3_init_1 : List UInt8 := dkwX3_init_1 ++ dktX3_init_2
def dkwX3_init_0 : List UInt8 := [42, 183, 0, 1, 42, 17, 1, 87, 188, 10, 181, 0, 7, 42, 17, 1, 87, 188, 10, 181, 0, 13, 42]
abbrev dktX3_init_0 : List UInt8 := dkwX3_init_0 ++ dktX3_init_1
theorem dksX3_init_0 : cX3_init.data.toList.drop 0 = dktX3_init_0 := by decide +kernel
theorem dksX3_init_1 : cX3_init.data.toList.drop 23 = dktX3_init_1 := dk_seg dksX3_init_0 23 rfl rfl
theorem dksX3_init_2 : cX3_init.data.toList.drop 47 = dktX3_init_2 := dk_seg dksX3_init_1 24 rfl rfl
theorem dksX3_init_3 : cX3_init.data.toList.drop 69 = dktX3_init_3 := dk_seg dksX3_init_2 22 rfl rfl
theorem dX3_init_0 : decode cX3_init 0 = .ok (.aload_n 0, 1) := dk_42 (dk_at dksX3_init_0 0 rfl rfl)
theorem dX3_init_1 : decode cX3_init 1 = .ok (.invokespecial 1, 3) := dk_183 0 1 (dk_at dksX3_init_0 1 rfl rfl)
theorem dX3_init_4 : decode cX3_init 4 = .ok (.aload_n 0, 1) := dk_42 (dk_at dksX3_init_0 4 rfl rfl)
theorem dX3_init_5 : decode cX3_init 5 = .ok (.sipush 343, 3) := dk_17 1 87 (dk_at dksX3_init_0 5 rfl rfl)
theorem dX3_init_8 : decode cX3_init 8 = .ok (.newarray .int, 2) := dk_188_10 (dk_at dksX3_init_0 8 rfl rfl)
theorem dX3_init_10 : decode cX3_init 10 = .ok (.putfield 7, 3) := dk_181 0 7 (dk_at dksX3_init_0 10 rfl rfl)
theorem dX3_init_13 : decode cX3_init 13 = .ok (.aload_n 0, 1) := dk_42 (dk_at dksX3_init_0 13 rfl rfl)
theorem dX3_init_14 : decode cX3_init 14 = .ok (.sipush 343, 3) := dk_17 1 87 (dk_at dksX3_init_0 14 rfl rfl)
theorem dX3_init_17 : decode cX3_init 17 = .ok (.newarray .int, 2) := dk_188_10 (dk_at dksX3_init_0 17 rfl rfl)
theorem dX3_init_19 : decode cX3_init 19 = .ok (.putfield 13, 3) := dk_181 0 13 (dk_at dksX3_init_0 19 rfl rfl)
theorem dX3_init_22 : decode cX3_init 22 = .ok (.aload_n 0, 1) := dk_42 (dk_at dksX3_init_0 22 rfl rfl)
theorem dX3_init_23 : decode cX3_init 23 = .ok (.sipush 1715, 3) := dk_17 6 179 (dk_at dksX3_init_1 0 rfl rfl)
theorem dX3_init_26 : decode cX3_init 26 = .ok (.newarray .int, 2) := dk_188_10 (dk_at dksX3_init_1 3 rfl rfl)
theorem dX3_init_28 : decode cX3_init 28 = .ok (.putfield 16, 3) := dk_181 0 16 (dk_at dksX3_init_1 5 rfl rfl)
theorem dX3_init_31 : decode cX3_init 31 = .ok (.aload_n 0, 1) := dk_42 (dk_at dksX3_init_1 8 rfl rfl)
theorem dX3_init_32 : decode cX3_init 32 = .ok (.bipush 12, 2) := dk_16 12 (dk_at dksX3_init_1 9 rfl rfl)
theorem dX3_init_34 : decode cX3_init 34 = .ok (.newarray .int, 2) := dk_188_10 (dk_at dksX3_init_1 11 rfl rfl)
theorem dX3_init_36 : decode cX3_init 36 = .ok (.putfield 19, 3) := dk_181 0 19 (dk_at dksX3_init_1 13 rfl rfl)
theorem dX3_init_39 : decode cX3_init 39 = .ok (.aload_n 0, 1) := dk_42 (dk_at dksX3_init_1 16 rfl rfl)
theorem dX3_init_40 : decode cX3_init 40 = .ok (.bipush 10, 2) := dk_16 10 (dk_at dksX3_init_1 17 rfl rfl)
theorem dX3_init_42 : decode cX3_init 42 = .ok (.newarray .int, 2) := dk_188_10 (dk_at dksX3_init_1 19 rfl rfl)
theorem dX3_init_44 : decode cX3_init 44 = .ok (.putfield 22, 3) := dk_181 0 22 (dk_at dksX3_init_1 21 rfl rfl)
theorem dX3_init_47 : decode cX3_init 47 = .ok (.aload_n 0, 1) := dk_42 (dk_at dksX3_init_2 0 rfl rfl)
theorem dX3_init_48 : decode cX3_init 48 = .ok (.bipush 10, 2) := dk_16 10 (dk_at dksX3_init_2 1 rfl rfl)
theorem dX3_init_50 : decode cX3_init 50 = .ok (.newarray .int, 2) := dk_188_10 (dk_at dksX3_init_2 3 rfl rfl)
theorem dX3_init_52 : decode cX3_init 52 = .ok (.putfield 25, 3) := dk_181 0 25 (dk_at dksX3_init_2 5 rfl rfl)
theorem dX3_init_55 : decode cX3_init 55 = .ok (.aload_n 0, 1) := dk_42 (dk_at dksX3_init_2 8 rfl rfl)
theorem dX3_init_56 : decode cX3_init 56 = .ok (.bipush 19, 2) := dk_16 19 (dk_at dksX3_init_2 9 rfl rfl)
theorem dX3_init_58 : decode cX3_init 58 = .ok (.newarray .int, 2) := dk_188_10 (dk_at dksX3_init_2 11 rfl rfl)
theorem dX3_init_60 : decode cX3_init 60 = .ok (.putfield 28, 3) := dk_181 0 28 (dk_at dksX3_init_2 13 rfl rfl)
theorem dX3_init_63 : decode cX3_init 63 = .ok (.aload_n 0, 1) := dk_42 (dk_at dksX3_init_2 16 rfl rfl)
theorem dX3_init_64 : decode cX3_init 64 = .ok (.iconst 0, 1) := dk_3 (dk_at dksX3_init_2 17 rfl rfl)
theorem dX3_init_65 : decode cX3_init 65 = .ok (.putfield 31, 3) := dk_181 0 31 (dk_at dksX3_init_2 18 rfl rfl)
theorem dX3_init_68 : decode cX3_init 68 = .ok (.aload_n 0, 1) := dk_42 (dk_at dksX3_init_2 21 rfl rfl)
theorem dX3_init_69 : decode cX3_init 69 = .ok (.getfield 7, 3) := dk_180 0 7 (dk_at dksX3_init_3 0 rfl rfl)
theorem dX3_init_72 : decode cX3_init 72 = .ok (.iconst 3, 1) := dk_6 (dk_at dksX3_init_3 3 rfl rfl)
theorem dX3_init_73 : decode cX3_init 73 = .ok (.bipush (-9), 2) := dk_16 247 (dk_at dksX3_init_3 4 rfl rfl)
theorem dX3_init_75 : decode cX3_init 75 = .ok (.iastore, 1) := dk_79 (dk_at dksX3_init_3 6 rfl rfl)
theorem dX3_init_76 : decode cX3_init 76 = .ok (.aload_n 0, 1) := dk_42 (dk_at dksX3_init_3 7 rfl rfl)
theorem dX3_init_77 : decode cX3_init 77 = .ok (.getfield 7, 3) := dk_180 0 7 (dk_at dksX3_init_3 8 rfl rfl)
theorem dX3_init_80 : decode cX3_init 80 = .ok (.iconst 5, 1) := dk_8 (dk_at dksX3_init_3 11 rfl rfl)
theorem dX3_init_81 : decode cX3_init 81 = .ok (.bipush (-9), 2) := dk_16 247 (dk_at dksX3_init_3 12 rfl rfl)
theorem dX3_init_83 : decode cX3_init 83 = .ok (.iastore, 1) := dk_79 (dk_at dksX3_init_3 14 rfl rfl)
theorem dX3_init_84 : decode cX3_init 84 = .ok (.return_, 1) := dk_177 (dk_at dksX3_init_3 15 rfl rfl)
abbrev cX3_cut : ByteArray := prog_10_method_29_code
def yX3_cut : MethodName := ⟨RX3, "cut", "(II)I"⟩
def dkwX3_cut_4 : List UInt8 := [29, 3, 27, 184, 0, 63, 42, 180, 0, 7, 29, 4, 28, 184, 0, 63, 29, 172]
abbrev dktX3_cut_4 : List UInt8 := dkwX3_cut_4 ++ []
def dkwX3_cut_3 : List UInt8 := [162, 0, 20, 42, 180, 0, 7, 29, 21, 4, 3, 184, 0, 63, 132, 4, 1, 167, 255, 235, 42, 180, 0, 7]
abbrev dktX3_cut_3 : List UInt8 := dkwX3_cut_3 ++ dktX3_cut_4
def dkwX3_cut_2 : List UInt8 := [180, 0, 7, 4, 46, 62, 42, 180, 0, 7, 4, 92, 46, 4, 96, 79, 3, 54, 4, 21, 4, 16, 7]
abbrev dktX3_cut_2 : List UInt8 := dkwX3_cut_2 ++ dktX3_cut_3
def dkwX3_cut_1 : List UInt8 := [154, 0, 5, 2, 172, 42, 180, 0, 7, 4, 46, 16, 20, 160, 0, 6, 16, 253, 172, 42, 182, 0, 102, 42]
abbrev dktX3_cut_1 : List UInt8 := dkwX3_cut_1 ++ dktX3_cut_2
def dkwX3_cut_0 : List UInt8 := [42, 3, 181, 0, 31, 27, 16, 10, 17, 0, 200, 184, 0, 38, 153, 0, 13, 28, 8, 16, 30, 184, 0, 38]
abbrev dktX3_cut_0 : List UInt8 := dkwX3_cut_0 ++ dktX3_cut_1
theorem dksX3_cut_0 : cX3_cut.data.toList.drop 0 = dktX3_cut_0 := by decide +kernel
theorem dksX3_cut_1 : cX3_cut.data.toList.drop 24 = dktX3_cut_1 := dk_seg dksX3_cut_0 24 rfl rfl
theorem dksX3_cut_2 : cX3_cut.data.toList.drop 48 = dktX3_cut_2 := dk_seg dksX3_cut_1 24 rfl rfl
theorem dksX3_cut_3 : cX3_cut.data.toList.drop 71 = dktX3_cut_3 := dk_seg dksX3_cut_2 23 rfl rfl
theorem dksX3_cut_4 : cX3_cut.data.toList.drop 95 = dktX3_cut_4 := dk_seg dksX3_cut_3 24 rfl rfl
theorem dX3_cut_0 : decode cX3_cut 0 = .ok (.aload_n 0, 1) := dk_42 (dk_at dksX3_cut_0 0 rfl rfl)
theorem dX3_cut_1 : decode cX3_cut 1 = .ok (.iconst 0, 1) := dk_3 (dk_at dksX3_cut_0 1 rfl rfl)
theorem dX3_cut_2 : decode cX3_cut 2 = .ok (.putfield 31, 3) := dk_181 0 31 (dk_at dksX3_cut_0 2 rfl rfl)
theorem dX3_cut_5 : decode cX3_cut 5 = .ok (.iload_n 1, 1) := dk_27 (dk_at dksX3_cut_0 5 rfl rfl)
theorem dX3_cut_6 : decode cX3_cut 6 = .ok (.bipush 10, 2) := dk_16 10 (dk_at dksX3_cut_0 6 rfl rfl)
theorem dX3_cut_8 : decode cX3_cut 8 = .ok (.sipush 200, 3) := dk_17 0 200 (dk_at dksX3_cut_0 8 rfl rfl)
theorem dX3_cut_11 : decode cX3_cut 11 = .ok (.invokestatic 38, 3) := dk_184 0 38 (dk_at dksX3_cut_0 11 rfl rfl)
theorem dX3_cut_14 : decode cX3_cut 14 = .ok (.ifCond .eq 13, 3) := dk_153 0 13 (dk_at dksX3_cut_0 14 rfl rfl)
theorem dX3_cut_17 : decode cX3_cut 17 = .ok (.iload_n 2, 1) := dk_28 (dk_at dksX3_cut_0 17 rfl rfl)
theorem dX3_cut_18 : decode cX3_cut 18 = .ok (.iconst 5, 1) := dk_8 (dk_at dksX3_cut_0 18 rfl rfl)
theorem dX3_cut_19 : decode cX3_cut 19 = .ok (.bipush 30, 2) := dk_16 30 (dk_at dksX3_cut_0 19 rfl rfl)
theorem dX3_cut_21 : decode cX3_cut 21 = .ok (.invokestatic 38, 3) := dk_184 0 38 (dk_at dksX3_cut_0 21 rfl rfl)
theorem dX3_cut_24 : decode cX3_cut 24 = .ok (.ifCond .ne 5, 3) := dk_154 0 5 (dk_at dksX3_cut_1 0 rfl rfl)
theorem dX3_cut_27 : decode cX3_cut 27 = .ok (.iconst (-1), 1) := dk_2 (dk_at dksX3_cut_1 3 rfl rfl)
theorem dX3_cut_28 : decode cX3_cut 28 = .ok (.ireturn, 1) := dk_172 (dk_at dksX3_cut_1 4 rfl rfl)
theorem dX3_cut_29 : decode cX3_cut 29 = .ok (.aload_n 0, 1) := dk_42 (dk_at dksX3_cut_1 5 rfl rfl)
theorem dX3_cut_30 : decode cX3_cut 30 = .ok (.getfield 7, 3) := dk_180 0 7 (dk_at dksX3_cut_1 6 rfl rfl)
theorem dX3_cut_33 : decode cX3_cut 33 = .ok (.iconst 1, 1) := dk_4 (dk_at dksX3_cut_1 9 rfl rfl)
theorem dX3_cut_34 : decode cX3_cut 34 = .ok (.iaload, 1) := dk_46 (dk_at dksX3_cut_1 10 rfl rfl)
theorem dX3_cut_35 : decode cX3_cut 35 = .ok (.bipush 20, 2) := dk_16 20 (dk_at dksX3_cut_1 11 rfl rfl)
theorem dX3_cut_37 : decode cX3_cut 37 = .ok (.if_icmp .ne 6, 3) := dk_160 0 6 (dk_at dksX3_cut_1 13 rfl rfl)
theorem dX3_cut_40 : decode cX3_cut 40 = .ok (.bipush (-3), 2) := dk_16 253 (dk_at dksX3_cut_1 16 rfl rfl)
theorem dX3_cut_42 : decode cX3_cut 42 = .ok (.ireturn, 1) := dk_172 (dk_at dksX3_cut_1 18 rfl rfl)
theorem dX3_cut_43 : decode cX3_cut 43 = .ok (.aload_n 0, 1) := dk_42 (dk_at dksX3_cut_1 19 rfl rfl)
theorem dX3_cut_44 : decode cX3_cut 44 = .ok (.invokevirtual 102, 3) := dk_182 0 102 (dk_at dksX3_cut_1 20 rfl rfl)
theorem dX3_cut_47 : decode cX3_cut 47 = .ok (.aload_n 0, 1) := dk_42 (dk_at dksX3_cut_1 23 rfl rfl)
theorem dX3_cut_48 : decode cX3_cut 48 = .ok (.getfield 7, 3) := dk_180 0 7 (dk_at dksX3_cut_2 0 rfl rfl)
theorem dX3_cut_51 : decode cX3_cut 51 = .ok (.iconst 1, 1) := dk_4 (dk_at dksX3_cut_2 3 rfl rfl)
theorem dX3_cut_52 : decode cX3_cut 52 = .ok (.iaload, 1) := dk_46 (dk_at dksX3_cut_2 4 rfl rfl)
theorem dX3_cut_53 : decode cX3_cut 53 = .ok (.istore_n 3, 1) := dk_62 (dk_at dksX3_cut_2 5 rfl rfl)
theorem dX3_cut_54 : decode cX3_cut 54 = .ok (.aload_n 0, 1) := dk_42 (dk_at dksX3_cut_2 6 rfl rfl)
theorem dX3_cut_55 : decode cX3_cut 55 = .ok (.getfield 7, 3) := dk_180 0 7 (dk_at dksX3_cut_2 7 rfl rfl)
theorem dX3_cut_58 : decode cX3_cut 58 = .ok (.iconst 1, 1) := dk_4 (dk_at dksX3_cut_2 10 rfl rfl)
theorem dX3_cut_59 : decode cX3_cut 59 = .ok (.dup2, 1) := dk_92 (dk_at dksX3_cut_2 11 rfl rfl)
theorem dX3_cut_60 : decode cX3_cut 60 = .ok (.iaload, 1) := dk_46 (dk_at dksX3_cut_2 12 rfl rfl)
theorem dX3_cut_61 : decode cX3_cut 61 = .ok (.iconst 1, 1) := dk_4 (dk_at dksX3_cut_2 13 rfl rfl)
theorem dX3_cut_62 : decode cX3_cut 62 = .ok (.iadd, 1) := dk_96 (dk_at dksX3_cut_2 14 rfl rfl)
theorem dX3_cut_63 : decode cX3_cut 63 = .ok (.iastore, 1) := dk_79 (dk_at dksX3_cut_2 15 rfl rfl)
theorem dX3_cut_64 : decode cX3_cut 64 = .ok (.iconst 0, 1) := dk_3 (dk_at dksX3_cut_2 16 rfl rfl)
theorem dX3_cut_65 : decode cX3_cut 65 = .ok (.istore 4, 2) := dk_54 4 (dk_at dksX3_cut_2 17 rfl rfl)
theorem dX3_cut_67 : decode cX3_cut 67 = .ok (.iload 4, 2) := dk_21 4 (dk_at dksX3_cut_2 19 rfl rfl)
theorem dX3_cut_69 : decode cX3_cut 69 = .ok (.bipush 7, 2) := dk_16 7 (dk_at dksX3_cut_2 21 rfl rfl)
theorem dX3_cut_71 : decode cX3_cut 71 = .ok (.if_icmp .ge 20, 3) := dk_162 0 20 (dk_at dksX3_cut_3 0 rfl rfl)
theorem dX3_cut_74 : decode cX3_cut 74 = .ok (.aload_n 0, 1) := dk_42 (dk_at dksX3_cut_3 3 rfl rfl)
theorem dX3_cut_75 : decode cX3_cut 75 = .ok (.getfield 7, 3) := dk_180 0 7 (dk_at dksX3_cut_3 4 rfl rfl)
theorem dX3_cut_78 : decode cX3_cut 78 = .ok (.iload_n 3, 1) := dk_29 (dk_at dksX3_cut_3 7 rfl rfl)
theorem dX3_cut_79 : decode cX3_cut 79 = .ok (.iload 4, 2) := dk_21 4 (dk_at dksX3_cut_3 8 rfl rfl)
theorem dX3_cut_81 : decode cX3_cut 81 = .ok (.iconst 0, 1) := dk_3 (dk_at dksX3_cut_3 10 rfl rfl)
theorem dX3_cut_82 : decode cX3_cut 82 = .ok (.invokestatic 63, 3) := dk_184 0 63 (dk_at dksX3_cut_3 11 rfl rfl)
theorem dX3_cut_85 : decode cX3_cut 85 = .ok (.iinc 4 1, 3) := dk_132 4 1 (dk_at dksX3_cut_3 14 rfl rfl)
theorem dX3_cut_88 : decode cX3_cut 88 = .ok (.goto (-21), 3) := dk_167 255 235 (dk_at dksX3_cut_3 17 rfl rfl)
theorem dX3_cut_91 : decode cX3_cut 91 = .ok (.aload_n 0, 1) := dk_42 (dk_at dksX3_cut_3 20 rfl rfl)
theorem dX3_cut_92 : decode cX3_cut 92 = .ok (.getfield 7, 3) := dk_180 0 7 (dk_at dksX3_cut_3 21 rfl rfl)
theorem dX3_cut_95 : decode cX3_cut 95 = .ok (.iload_n 3, 1) := dk_29 (dk_at dksX3_cut_4 0 rfl rfl)
theorem dX3_cut_96 : decode cX3_cut 96 = .ok (.iconst 0, 1) := dk_3 (dk_at dksX3_cut_4 1 rfl rfl)
theorem dX3_cut_97 : decode cX3_cut 97 = .ok (.iload_n 1, 1) := dk_27 (dk_at dksX3_cut_4 2 rfl rfl)
theorem dX3_cut_98 : decode cX3_cut 98 = .ok (.invokestatic 63, 3) := dk_184 0 63 (dk_at dksX3_cut_4 3 rfl rfl)
theorem dX3_cut_101 : decode cX3_cut 101 = .ok (.aload_n 0, 1) := dk_42 (dk_at dksX3_cut_4 6 rfl rfl)
theorem dX3_cut_102 : decode cX3_cut 102 = .ok (.getfield 7, 3) := dk_180 0 7 (dk_at dksX3_cut_4 7 rfl rfl)
theorem dX3_cut_105 : decode cX3_cut 105 = .ok (.iload_n 3, 1) := dk_29 (dk_at dksX3_cut_4 10 rfl rfl)
theorem dX3_cut_106 : decode cX3_cut 106 = .ok (.iconst 1, 1) := dk_4 (dk_at dksX3_cut_4 11 rfl rfl)
theorem dX3_cut_107 : decode cX3_cut 107 = .ok (.iload_n 2, 1) := dk_28 (dk_at dksX3_cut_4 12 rfl rfl)
theorem dX3_cut_108 : decode cX3_cut 108 = .ok (.invokestatic 63, 3) := dk_184 0 63 (dk_at dksX3_cut_4 13 rfl rfl)
theorem dX3_cut_111 : decode cX3_cut 111 = .ok (.iload_n 3, 1) := dk_29 (dk_at dksX3_cut_4 16 rfl rfl)
theorem dX3_cut_112 : decode cX3_cut 112 = .ok (.ireturn, 1) := dk_172 (dk_at dksX3_cut_4 17 rfl rfl)
abbrev cX3_in : ByteArray := prog_10_method_3_code
def yX3_in : MethodName := ⟨RX3, "in", "(III)Z"⟩
def dkwX3_in_0 : List UInt8 := [26, 27, 161, 0, 12, 26, 28, 163, 0, 7, 4, 167, 0, 4, 3, 172]
abbrev dktX3_in_0 : List UInt8 := dkwX3_in_0 ++ []
theorem dksX3_in_0 : cX3_in.data.toList.drop 0 = dktX3_in_0 := by decide +kernel
theorem dX3_in_0 : decode cX3_in 0 = .ok (.iload_n 0, 1) := dk_26 (dk_at dksX3_in_0 0 rfl rfl)
theorem dX3_in_1 : decode cX3_in 1 = .ok (.iload_n 1, 1) := dk_27 (dk_at dksX3_in_0 1 rfl rfl)
theorem dX3_in_2 : decode cX3_in 2 = .ok (.if_icmp .lt 12, 3) := dk_161 0 12 (dk_at dksX3_in_0 2 rfl rfl)
theorem dX3_in_5 : decode cX3_in 5 = .ok (.iload_n 0, 1) := dk_26 (dk_at dksX3_in_0 5 rfl rfl)
theorem dX3_in_6 : decode cX3_in 6 = .ok (.iload_n 2, 1) := dk_28 (dk_at dksX3_in_0 6 rfl rfl)
theorem dX3_in_7 : decode cX3_in 7 = .ok (.if_icmp .gt 7, 3) := dk_163 0 7 (dk_at dksX3_in_0 7 rfl rfl)
theorem dX3_in_10 : decode cX3_in 10 = .ok (.iconst 1, 1) := dk_4 (dk_at dksX3_in_0 10 rfl rfl)
theorem dX3_in_11 : decode cX3_in 11 = .ok (.goto 4, 3) := dk_167 0 4 (dk_at dksX3_in_0 11 rfl rfl)
theorem dX3_in_14 : decode cX3_in 14 = .ok (.iconst 0, 1) := dk_3 (dk_at dksX3_in_0 14 rfl rfl)
theorem dX3_in_15 : decode cX3_in 15 = .ok (.ireturn, 1) := dk_172 (dk_at dksX3_in_0 15 rfl rfl)
abbrev cX3_act : ByteArray := prog_10_method_4_code
def yX3_act : MethodName := ⟨RX3, "act", "()V"⟩
def dkwX3_act_4 : List UInt8 := [181, 0, 35, 177]
abbrev dktX3_act_4 : List UInt8 := dkwX3_act_4 ++ []
def dkwX3_act_3 : List UInt8 := [27, 96, 42, 180, 0, 7, 27, 46, 79, 132, 1, 1, 167, 255, 225, 42, 89, 180, 0, 35, 4, 96]
abbrev dktX3_act_3 : List UInt8 := dkwX3_act_3 ++ dktX3_act_4
def dkwX3_act_2 : List UInt8 := [181, 0, 35, 3, 60, 27, 17, 1, 87, 162, 0, 30, 42, 180, 0, 16, 17, 1, 87, 42, 180, 0, 35, 104]
abbrev dktX3_act_2 : List UInt8 := dkwX3_act_2 ++ dktX3_act_3
def dkwX3_act_1 : List UInt8 := [180, 0, 16, 27, 17, 1, 87, 96, 46, 79, 132, 1, 1, 167, 255, 230, 42, 89, 180, 0, 35, 4, 100]
abbrev dktX3_act_1 : List UInt8 := dkwX3_act_1 ++ dktX3_act_2
def dkwX3_act_0 : List UInt8 := [42, 180, 0, 35, 8, 160, 0, 44, 3, 60, 27, 17, 5, 92, 162, 0, 25, 42, 180, 0, 16, 27, 42]
abbrev dktX3_act_0 : List UInt8 := dkwX3_act_0 ++ dktX3_act_1
theorem dksX3_act_0 : cX3_act.data.toList.drop 0 = dktX3_act_0 := by decide +kernel
theorem dksX3_act_1 : cX3_act.data.toList.drop 23 = dktX3_act_1 := dk_seg dksX3_act_0 23 rfl rfl
theorem dksX3_act_2 : cX3_act.data.toList.drop 46 = dktX3_act_2 := dk_seg dksX3_act_1 23 rfl rfl
theorem dksX3_act_3 : cX3_act.data.toList.drop 70 = dktX3_act_3 := dk_seg dksX3_act_2 24 rfl rfl
theorem dksX3_act_4 : cX3_act.data.toList.drop 92 = dktX3_act_4 := dk_seg dksX3_act_3 22 rfl rfl
theorem dX3_act_0 : decode cX3_act 0 = .ok (.aload_n 0, 1) := dk_42 (dk_at dksX3_act_0 0 rfl rfl)
theorem dX3_act_1 : decode cX3_act 1 = .ok (.getfield 35, 3) := dk_180 0 35 (dk_at dksX3_act_0 1 rfl rfl)
theorem dX3_act_4 : decode cX3_act 4 = .ok (.iconst 5, 1) := dk_8 (dk_at dksX3_act_0 4 rfl rfl)
theorem dX3_act_5 : decode cX3_act 5 = .ok (.if_icmp .ne 44, 3) := dk_160 0 44 (dk_at dksX3_act_0 5 rfl rfl)
theorem dX3_act_8 : decode cX3_act 8 = .ok (.iconst 0, 1) := dk_3 (dk_at dksX3_act_0 8 rfl rfl)
theorem dX3_act_9 : decode cX3_act 9 = .ok (.istore_n 1, 1) := dk_60 (dk_at dksX3_act_0 9 rfl rfl)
theorem dX3_act_10 : decode cX3_act 10 = .ok (.iload_n 1, 1) := dk_27 (dk_at dksX3_act_0 10 rfl rfl)
theorem dX3_act_11 : decode cX3_act 11 = .ok (.sipush 1372, 3) := dk_17 5 92 (dk_at dksX3_act_0 11 rfl rfl)
theorem dX3_act_14 : decode cX3_act 14 = .ok (.if_icmp .ge 25, 3) := dk_162 0 25 (dk_at dksX3_act_0 14 rfl rfl)
theorem dX3_act_17 : decode cX3_act 17 = .ok (.aload_n 0, 1) := dk_42 (dk_at dksX3_act_0 17 rfl rfl)
theorem dX3_act_18 : decode cX3_act 18 = .ok (.getfield 16, 3) := dk_180 0 16 (dk_at dksX3_act_0 18 rfl rfl)
theorem dX3_act_21 : decode cX3_act 21 = .ok (.iload_n 1, 1) := dk_27 (dk_at dksX3_act_0 21 rfl rfl)
theorem dX3_act_22 : decode cX3_act 22 = .ok (.aload_n 0, 1) := dk_42 (dk_at dksX3_act_0 22 rfl rfl)
theorem dX3_act_23 : decode cX3_act 23 = .ok (.getfield 16, 3) := dk_180 0 16 (dk_at dksX3_act_1 0 rfl rfl)
theorem dX3_act_26 : decode cX3_act 26 = .ok (.iload_n 1, 1) := dk_27 (dk_at dksX3_act_1 3 rfl rfl)
theorem dX3_act_27 : decode cX3_act 27 = .ok (.sipush 343, 3) := dk_17 1 87 (dk_at dksX3_act_1 4 rfl rfl)
theorem dX3_act_30 : decode cX3_act 30 = .ok (.iadd, 1) := dk_96 (dk_at dksX3_act_1 7 rfl rfl)
theorem dX3_act_31 : decode cX3_act 31 = .ok (.iaload, 1) := dk_46 (dk_at dksX3_act_1 8 rfl rfl)
theorem dX3_act_32 : decode cX3_act 32 = .ok (.iastore, 1) := dk_79 (dk_at dksX3_act_1 9 rfl rfl)
theorem dX3_act_33 : decode cX3_act 33 = .ok (.iinc 1 1, 3) := dk_132 1 1 (dk_at dksX3_act_1 10 rfl rfl)
theorem dX3_act_36 : decode cX3_act 36 = .ok (.goto (-26), 3) := dk_167 255 230 (dk_at dksX3_act_1 13 rfl rfl)
theorem dX3_act_39 : decode cX3_act 39 = .ok (.aload_n 0, 1) := dk_42 (dk_at dksX3_act_1 16 rfl rfl)
theorem dX3_act_40 : decode cX3_act 40 = .ok (.dup, 1) := dk_89 (dk_at dksX3_act_1 17 rfl rfl)
theorem dX3_act_41 : decode cX3_act 41 = .ok (.getfield 35, 3) := dk_180 0 35 (dk_at dksX3_act_1 18 rfl rfl)
theorem dX3_act_44 : decode cX3_act 44 = .ok (.iconst 1, 1) := dk_4 (dk_at dksX3_act_1 21 rfl rfl)
theorem dX3_act_45 : decode cX3_act 45 = .ok (.isub, 1) := dk_100 (dk_at dksX3_act_1 22 rfl rfl)
theorem dX3_act_46 : decode cX3_act 46 = .ok (.putfield 35, 3) := dk_181 0 35 (dk_at dksX3_act_2 0 rfl rfl)
theorem dX3_act_49 : decode cX3_act 49 = .ok (.iconst 0, 1) := dk_3 (dk_at dksX3_act_2 3 rfl rfl)
theorem dX3_act_50 : decode cX3_act 50 = .ok (.istore_n 1, 1) := dk_60 (dk_at dksX3_act_2 4 rfl rfl)
theorem dX3_act_51 : decode cX3_act 51 = .ok (.iload_n 1, 1) := dk_27 (dk_at dksX3_act_2 5 rfl rfl)
theorem dX3_act_52 : decode cX3_act 52 = .ok (.sipush 343, 3) := dk_17 1 87 (dk_at dksX3_act_2 6 rfl rfl)
theorem dX3_act_55 : decode cX3_act 55 = .ok (.if_icmp .ge 30, 3) := dk_162 0 30 (dk_at dksX3_act_2 9 rfl rfl)
theorem dX3_act_58 : decode cX3_act 58 = .ok (.aload_n 0, 1) := dk_42 (dk_at dksX3_act_2 12 rfl rfl)
theorem dX3_act_59 : decode cX3_act 59 = .ok (.getfield 16, 3) := dk_180 0 16 (dk_at dksX3_act_2 13 rfl rfl)
theorem dX3_act_62 : decode cX3_act 62 = .ok (.sipush 343, 3) := dk_17 1 87 (dk_at dksX3_act_2 16 rfl rfl)
theorem dX3_act_65 : decode cX3_act 65 = .ok (.aload_n 0, 1) := dk_42 (dk_at dksX3_act_2 19 rfl rfl)
theorem dX3_act_66 : decode cX3_act 66 = .ok (.getfield 35, 3) := dk_180 0 35 (dk_at dksX3_act_2 20 rfl rfl)
theorem dX3_act_69 : decode cX3_act 69 = .ok (.imul, 1) := dk_104 (dk_at dksX3_act_2 23 rfl rfl)
theorem dX3_act_70 : decode cX3_act 70 = .ok (.iload_n 1, 1) := dk_27 (dk_at dksX3_act_3 0 rfl rfl)
theorem dX3_act_71 : decode cX3_act 71 = .ok (.iadd, 1) := dk_96 (dk_at dksX3_act_3 1 rfl rfl)
theorem dX3_act_72 : decode cX3_act 72 = .ok (.aload_n 0, 1) := dk_42 (dk_at dksX3_act_3 2 rfl rfl)
theorem dX3_act_73 : decode cX3_act 73 = .ok (.getfield 7, 3) := dk_180 0 7 (dk_at dksX3_act_3 3 rfl rfl)
theorem dX3_act_76 : decode cX3_act 76 = .ok (.iload_n 1, 1) := dk_27 (dk_at dksX3_act_3 6 rfl rfl)
theorem dX3_act_77 : decode cX3_act 77 = .ok (.iaload, 1) := dk_46 (dk_at dksX3_act_3 7 rfl rfl)
theorem dX3_act_78 : decode cX3_act 78 = .ok (.iastore, 1) := dk_79 (dk_at dksX3_act_3 8 rfl rfl)
theorem dX3_act_79 : decode cX3_act 79 = .ok (.iinc 1 1, 3) := dk_132 1 1 (dk_at dksX3_act_3 9 rfl rfl)
theorem dX3_act_82 : decode cX3_act 82 = .ok (.goto (-31), 3) := dk_167 255 225 (dk_at dksX3_act_3 12 rfl rfl)
theorem dX3_act_85 : decode cX3_act 85 = .ok (.aload_n 0, 1) := dk_42 (dk_at dksX3_act_3 15 rfl rfl)
theorem dX3_act_86 : decode cX3_act 86 = .ok (.dup, 1) := dk_89 (dk_at dksX3_act_3 16 rfl rfl)
theorem dX3_act_87 : decode cX3_act 87 = .ok (.getfield 35, 3) := dk_180 0 35 (dk_at dksX3_act_3 17 rfl rfl)
theorem dX3_act_90 : decode cX3_act 90 = .ok (.iconst 1, 1) := dk_4 (dk_at dksX3_act_3 20 rfl rfl)
theorem dX3_act_91 : decode cX3_act 91 = .ok (.iadd, 1) := dk_96 (dk_at dksX3_act_3 21 rfl rfl)
theorem dX3_act_92 : decode cX3_act 92 = .ok (.putfield 35, 3) := dk_181 0 35 (dk_at dksX3_act_4 0 rfl rfl)
theorem dX3_act_95 : decode cX3_act 95 = .ok (.return_, 1) := dk_177 (dk_at dksX3_act_4 3 rfl rfl)
abbrev cX3_setPlate : ByteArray := prog_10_method_6_code
def yX3_setPlate : MethodName := ⟨RX3, "setPlate", "([IIII)V"⟩
def dkwX3_setPlate_0 : List UInt8 := [42, 16, 10, 16, 7, 27, 104, 96, 28, 96, 29, 79, 177]
abbrev dktX3_setPlate_0 : List UInt8 := dkwX3_setPlate_0 ++ []
theorem dksX3_setPlate_0 : cX3_setPlate.data.toList.drop 0 = dktX3_setPlate_0 := by decide +kernel
theorem dX3_setPlate_0 : decode cX3_setPlate 0 = .ok (.aload_n 0, 1) := dk_42 (dk_at dksX3_setPlate_0 0 rfl rfl)
theorem dX3_setPlate_1 : decode cX3_setPlate 1 = .ok (.bipush 10, 2) := dk_16 10 (dk_at dksX3_setPlate_0 1 rfl rfl)
theorem dX3_setPlate_3 : decode cX3_setPlate 3 = .ok (.bipush 7, 2) := dk_16 7 (dk_at dksX3_setPlate_0 3 rfl rfl)
theorem dX3_setPlate_5 : decode cX3_setPlate 5 = .ok (.iload_n 1, 1) := dk_27 (dk_at dksX3_setPlate_0 5 rfl rfl)
theorem dX3_setPlate_6 : decode cX3_setPlate 6 = .ok (.imul, 1) := dk_104 (dk_at dksX3_setPlate_0 6 rfl rfl)
theorem dX3_setPlate_7 : decode cX3_setPlate 7 = .ok (.iadd, 1) := dk_96 (dk_at dksX3_setPlate_0 7 rfl rfl)
theorem dX3_setPlate_8 : decode cX3_setPlate 8 = .ok (.iload_n 2, 1) := dk_28 (dk_at dksX3_setPlate_0 8 rfl rfl)
theorem dX3_setPlate_9 : decode cX3_setPlate 9 = .ok (.iadd, 1) := dk_96 (dk_at dksX3_setPlate_0 9 rfl rfl)
theorem dX3_setPlate_10 : decode cX3_setPlate 10 = .ok (.iload_n 3, 1) := dk_29 (dk_at dksX3_setPlate_0 10 rfl rfl)
theorem dX3_setPlate_11 : decode cX3_setPlate 11 = .ok (.iastore, 1) := dk_79 (dk_at dksX3_setPlate_0 11 rfl rfl)
theorem dX3_setPlate_12 : decode cX3_setPlate 12 = .ok (.return_, 1) := dk_177 (dk_at dksX3_setPlate_0 12 rfl rfl)
abbrev cX3_spoil : ByteArray := prog_10_method_30_code
def yX3_spoil : MethodName := ⟨RX3, "spoil", "(I)I"⟩
def dkwX3_spoil_2 : List UInt8 := [6, 184, 0, 109, 172]
abbrev dktX3_spoil_2 : List UInt8 := dkwX3_spoil_2 ++ []
def dkwX3_spoil_1 : List UInt8 := [153, 0, 6, 16, 254, 172, 42, 182, 0, 102, 42, 180, 0, 7, 27, 5, 6, 184, 0, 63, 42, 180, 0, 7]
abbrev dktX3_spoil_1 : List UInt8 := dkwX3_spoil_1 ++ dktX3_spoil_2
def dkwX3_spoil_0 : List UInt8 := [42, 3, 181, 0, 31, 42, 27, 182, 0, 105, 154, 0, 5, 2, 172, 42, 180, 0, 7, 27, 5, 184, 0, 53]
abbrev dktX3_spoil_0 : List UInt8 := dkwX3_spoil_0 ++ dktX3_spoil_1
theorem dksX3_spoil_0 : cX3_spoil.data.toList.drop 0 = dktX3_spoil_0 := by decide +kernel
theorem dksX3_spoil_1 : cX3_spoil.data.toList.drop 24 = dktX3_spoil_1 := dk_seg dksX3_spoil_0 24 rfl rfl
theorem dksX3_spoil_2 : cX3_spoil.data.toList.drop 48 = dktX3_spoil_2 := dk_seg dksX3_spoil_1 24 rfl rfl
theorem dX3_spoil_0 : decode cX3_spoil 0 = .ok (.aload_n 0, 1) := dk_42 (dk_at dksX3_spoil_0 0 rfl rfl)
theorem dX3_spoil_1 : decode cX3_spoil 1 = .ok (.iconst 0, 1) := dk_3 (dk_at dksX3_spoil_0 1 rfl rfl)
theorem dX3_spoil_2 : decode cX3_spoil 2 = .ok (.putfield 31, 3) := dk_181 0 31 (dk_at dksX3_spoil_0 2 rfl rfl)
theorem dX3_spoil_5 : decode cX3_spoil 5 = .ok (.aload_n 0, 1) := dk_42 (dk_at dksX3_spoil_0 5 rfl rfl)
theorem dX3_spoil_6 : decode cX3_spoil 6 = .ok (.iload_n 1, 1) := dk_27 (dk_at dksX3_spoil_0 6 rfl rfl)
theorem dX3_spoil_7 : decode cX3_spoil 7 = .ok (.invokevirtual 105, 3) := dk_182 0 105 (dk_at dksX3_spoil_0 7 rfl rfl)
theorem dX3_spoil_10 : decode cX3_spoil 10 = .ok (.ifCond .ne 5, 3) := dk_154 0 5 (dk_at dksX3_spoil_0 10 rfl rfl)
theorem dX3_spoil_13 : decode cX3_spoil 13 = .ok (.iconst (-1), 1) := dk_2 (dk_at dksX3_spoil_0 13 rfl rfl)
theorem dX3_spoil_14 : decode cX3_spoil 14 = .ok (.ireturn, 1) := dk_172 (dk_at dksX3_spoil_0 14 rfl rfl)
theorem dX3_spoil_15 : decode cX3_spoil 15 = .ok (.aload_n 0, 1) := dk_42 (dk_at dksX3_spoil_0 15 rfl rfl)
theorem dX3_spoil_16 : decode cX3_spoil 16 = .ok (.getfield 7, 3) := dk_180 0 7 (dk_at dksX3_spoil_0 16 rfl rfl)
theorem dX3_spoil_19 : decode cX3_spoil 19 = .ok (.iload_n 1, 1) := dk_27 (dk_at dksX3_spoil_0 19 rfl rfl)
theorem dX3_spoil_20 : decode cX3_spoil 20 = .ok (.iconst 2, 1) := dk_5 (dk_at dksX3_spoil_0 20 rfl rfl)
theorem dX3_spoil_21 : decode cX3_spoil 21 = .ok (.invokestatic 53, 3) := dk_184 0 53 (dk_at dksX3_spoil_0 21 rfl rfl)
theorem dX3_spoil_24 : decode cX3_spoil 24 = .ok (.ifCond .eq 6, 3) := dk_153 0 6 (dk_at dksX3_spoil_1 0 rfl rfl)
theorem dX3_spoil_27 : decode cX3_spoil 27 = .ok (.bipush (-2), 2) := dk_16 254 (dk_at dksX3_spoil_1 3 rfl rfl)
theorem dX3_spoil_29 : decode cX3_spoil 29 = .ok (.ireturn, 1) := dk_172 (dk_at dksX3_spoil_1 5 rfl rfl)
theorem dX3_spoil_30 : decode cX3_spoil 30 = .ok (.aload_n 0, 1) := dk_42 (dk_at dksX3_spoil_1 6 rfl rfl)
theorem dX3_spoil_31 : decode cX3_spoil 31 = .ok (.invokevirtual 102, 3) := dk_182 0 102 (dk_at dksX3_spoil_1 7 rfl rfl)
theorem dX3_spoil_34 : decode cX3_spoil 34 = .ok (.aload_n 0, 1) := dk_42 (dk_at dksX3_spoil_1 10 rfl rfl)
theorem dX3_spoil_35 : decode cX3_spoil 35 = .ok (.getfield 7, 3) := dk_180 0 7 (dk_at dksX3_spoil_1 11 rfl rfl)
theorem dX3_spoil_38 : decode cX3_spoil 38 = .ok (.iload_n 1, 1) := dk_27 (dk_at dksX3_spoil_1 14 rfl rfl)
theorem dX3_spoil_39 : decode cX3_spoil 39 = .ok (.iconst 2, 1) := dk_5 (dk_at dksX3_spoil_1 15 rfl rfl)
theorem dX3_spoil_40 : decode cX3_spoil 40 = .ok (.iconst 3, 1) := dk_6 (dk_at dksX3_spoil_1 16 rfl rfl)
theorem dX3_spoil_41 : decode cX3_spoil 41 = .ok (.invokestatic 63, 3) := dk_184 0 63 (dk_at dksX3_spoil_1 17 rfl rfl)
theorem dX3_spoil_44 : decode cX3_spoil 44 = .ok (.aload_n 0, 1) := dk_42 (dk_at dksX3_spoil_1 20 rfl rfl)
theorem dX3_spoil_45 : decode cX3_spoil 45 = .ok (.getfield 7, 3) := dk_180 0 7 (dk_at dksX3_spoil_1 21 rfl rfl)
theorem dX3_spoil_48 : decode cX3_spoil 48 = .ok (.iconst 3, 1) := dk_6 (dk_at dksX3_spoil_2 0 rfl rfl)
theorem dX3_spoil_49 : decode cX3_spoil 49 = .ok (.invokestatic 109, 3) := dk_184 0 109 (dk_at dksX3_spoil_2 1 rfl rfl)
theorem dX3_spoil_52 : decode cX3_spoil 52 = .ok (.ireturn, 1) := dk_172 (dk_at dksX3_spoil_2 4 rfl rfl)
abbrev cX3_isPlate : ByteArray := prog_10_method_8_code
def yX3_isPlate : MethodName := ⟨RX3, "isPlate", "(I)Z"⟩
def dkwX3_isPlate_0 : List UInt8 := [27, 3, 42, 180, 0, 7, 4, 46, 4, 100, 184, 0, 38, 172]
abbrev dktX3_isPlate_0 : List UInt8 := dkwX3_isPlate_0 ++ []
theorem dksX3_isPlate_0 : cX3_isPlate.data.toList.drop 0 = dktX3_isPlate_0 := by decide +kernel
theorem dX3_isPlate_0 : decode cX3_isPlate 0 = .ok (.iload_n 1, 1) := dk_27 (dk_at dksX3_isPlate_0 0 rfl rfl)
theorem dX3_isPlate_1 : decode cX3_isPlate 1 = .ok (.iconst 0, 1) := dk_3 (dk_at dksX3_isPlate_0 1 rfl rfl)
theorem dX3_isPlate_2 : decode cX3_isPlate 2 = .ok (.aload_n 0, 1) := dk_42 (dk_at dksX3_isPlate_0 2 rfl rfl)
theorem dX3_isPlate_3 : decode cX3_isPlate 3 = .ok (.getfield 7, 3) := dk_180 0 7 (dk_at dksX3_isPlate_0 3 rfl rfl)
theorem dX3_isPlate_6 : decode cX3_isPlate 6 = .ok (.iconst 1, 1) := dk_4 (dk_at dksX3_isPlate_0 6 rfl rfl)
theorem dX3_isPlate_7 : decode cX3_isPlate 7 = .ok (.iaload, 1) := dk_46 (dk_at dksX3_isPlate_0 7 rfl rfl)
theorem dX3_isPlate_8 : decode cX3_isPlate 8 = .ok (.iconst 1, 1) := dk_4 (dk_at dksX3_isPlate_0 8 rfl rfl)
theorem dX3_isPlate_9 : decode cX3_isPlate 9 = .ok (.isub, 1) := dk_100 (dk_at dksX3_isPlate_0 9 rfl rfl)
theorem dX3_isPlate_10 : decode cX3_isPlate 10 = .ok (.invokestatic 38, 3) := dk_184 0 38 (dk_at dksX3_isPlate_0 10 rfl rfl)
theorem dX3_isPlate_13 : decode cX3_isPlate 13 = .ok (.ireturn, 1) := dk_172 (dk_at dksX3_isPlate_0 13 rfl rfl)
abbrev cX3_ofPlate : ByteArray := prog_10_method_5_code
def yX3_ofPlate : MethodName := ⟨RX3, "ofPlate", "([III)I"⟩
def dkwX3_ofPlate_0 : List UInt8 := [42, 16, 10, 16, 7, 27, 104, 96, 28, 96, 46, 172]
abbrev dktX3_ofPlate_0 : List UInt8 := dkwX3_ofPlate_0 ++ []
theorem dksX3_ofPlate_0 : cX3_ofPlate.data.toList.drop 0 = dktX3_ofPlate_0 := by decide +kernel
theorem dX3_ofPlate_0 : decode cX3_ofPlate 0 = .ok (.aload_n 0, 1) := dk_42 (dk_at dksX3_ofPlate_0 0 rfl rfl)
theorem dX3_ofPlate_1 : decode cX3_ofPlate 1 = .ok (.bipush 10, 2) := dk_16 10 (dk_at dksX3_ofPlate_0 1 rfl rfl)
theorem dX3_ofPlate_3 : decode cX3_ofPlate 3 = .ok (.bipush 7, 2) := dk_16 7 (dk_at dksX3_ofPlate_0 3 rfl rfl)
theorem dX3_ofPlate_5 : decode cX3_ofPlate 5 = .ok (.iload_n 1, 1) := dk_27 (dk_at dksX3_ofPlate_0 5 rfl rfl)
theorem dX3_ofPlate_6 : decode cX3_ofPlate 6 = .ok (.imul, 1) := dk_104 (dk_at dksX3_ofPlate_0 6 rfl rfl)
theorem dX3_ofPlate_7 : decode cX3_ofPlate 7 = .ok (.iadd, 1) := dk_96 (dk_at dksX3_ofPlate_0 7 rfl rfl)
theorem dX3_ofPlate_8 : decode cX3_ofPlate 8 = .ok (.iload_n 2, 1) := dk_28 (dk_at dksX3_ofPlate_0 8 rfl rfl)
theorem dX3_ofPlate_9 : decode cX3_ofPlate 9 = .ok (.iadd, 1) := dk_96 (dk_at dksX3_ofPlate_0 9 rfl rfl)
theorem dX3_ofPlate_10 : decode cX3_ofPlate 10 = .ok (.iaload, 1) := dk_46 (dk_at dksX3_ofPlate_0 10 rfl rfl)
theorem dX3_ofPlate_11 : decode cX3_ofPlate 11 = .ok (.ireturn, 1) := dk_172 (dk_at dksX3_ofPlate_0 11 rfl rfl)
abbrev cX3_platesIn : ByteArray := prog_10_method_28_code
def yX3_platesIn : MethodName := ⟨RX3, "platesIn", "([II)I"⟩
def dkwX3_platesIn_1 : List UInt8 := [167, 0, 4, 3, 96, 61, 132, 3, 1, 167, 255, 228, 28, 172]
abbrev dktX3_platesIn_1 : List UInt8 := dkwX3_platesIn_1 ++ []
def dkwX3_platesIn_0 : List UInt8 := [3, 61, 3, 62, 29, 42, 4, 46, 162, 0, 27, 28, 42, 29, 5, 184, 0, 53, 27, 160, 0, 7, 4]
abbrev dktX3_platesIn_0 : List UInt8 := dkwX3_platesIn_0 ++ dktX3_platesIn_1
theorem dksX3_platesIn_0 : cX3_platesIn.data.toList.drop 0 = dktX3_platesIn_0 := by decide +kernel
theorem dksX3_platesIn_1 : cX3_platesIn.data.toList.drop 23 = dktX3_platesIn_1 := dk_seg dksX3_platesIn_0 23 rfl rfl
theorem dX3_platesIn_0 : decode cX3_platesIn 0 = .ok (.iconst 0, 1) := dk_3 (dk_at dksX3_platesIn_0 0 rfl rfl)
theorem dX3_platesIn_1 : decode cX3_platesIn 1 = .ok (.istore_n 2, 1) := dk_61 (dk_at dksX3_platesIn_0 1 rfl rfl)
theorem dX3_platesIn_2 : decode cX3_platesIn 2 = .ok (.iconst 0, 1) := dk_3 (dk_at dksX3_platesIn_0 2 rfl rfl)
theorem dX3_platesIn_3 : decode cX3_platesIn 3 = .ok (.istore_n 3, 1) := dk_62 (dk_at dksX3_platesIn_0 3 rfl rfl)
theorem dX3_platesIn_4 : decode cX3_platesIn 4 = .ok (.iload_n 3, 1) := dk_29 (dk_at dksX3_platesIn_0 4 rfl rfl)
theorem dX3_platesIn_5 : decode cX3_platesIn 5 = .ok (.aload_n 0, 1) := dk_42 (dk_at dksX3_platesIn_0 5 rfl rfl)
theorem dX3_platesIn_6 : decode cX3_platesIn 6 = .ok (.iconst 1, 1) := dk_4 (dk_at dksX3_platesIn_0 6 rfl rfl)
theorem dX3_platesIn_7 : decode cX3_platesIn 7 = .ok (.iaload, 1) := dk_46 (dk_at dksX3_platesIn_0 7 rfl rfl)
theorem dX3_platesIn_8 : decode cX3_platesIn 8 = .ok (.if_icmp .ge 27, 3) := dk_162 0 27 (dk_at dksX3_platesIn_0 8 rfl rfl)
theorem dX3_platesIn_11 : decode cX3_platesIn 11 = .ok (.iload_n 2, 1) := dk_28 (dk_at dksX3_platesIn_0 11 rfl rfl)
theorem dX3_platesIn_12 : decode cX3_platesIn 12 = .ok (.aload_n 0, 1) := dk_42 (dk_at dksX3_platesIn_0 12 rfl rfl)
theorem dX3_platesIn_13 : decode cX3_platesIn 13 = .ok (.iload_n 3, 1) := dk_29 (dk_at dksX3_platesIn_0 13 rfl rfl)
theorem dX3_platesIn_14 : decode cX3_platesIn 14 = .ok (.iconst 2, 1) := dk_5 (dk_at dksX3_platesIn_0 14 rfl rfl)
theorem dX3_platesIn_15 : decode cX3_platesIn 15 = .ok (.invokestatic 53, 3) := dk_184 0 53 (dk_at dksX3_platesIn_0 15 rfl rfl)
theorem dX3_platesIn_18 : decode cX3_platesIn 18 = .ok (.iload_n 1, 1) := dk_27 (dk_at dksX3_platesIn_0 18 rfl rfl)
theorem dX3_platesIn_19 : decode cX3_platesIn 19 = .ok (.if_icmp .ne 7, 3) := dk_160 0 7 (dk_at dksX3_platesIn_0 19 rfl rfl)
theorem dX3_platesIn_22 : decode cX3_platesIn 22 = .ok (.iconst 1, 1) := dk_4 (dk_at dksX3_platesIn_0 22 rfl rfl)
theorem dX3_platesIn_23 : decode cX3_platesIn 23 = .ok (.goto 4, 3) := dk_167 0 4 (dk_at dksX3_platesIn_1 0 rfl rfl)
theorem dX3_platesIn_26 : decode cX3_platesIn 26 = .ok (.iconst 0, 1) := dk_3 (dk_at dksX3_platesIn_1 3 rfl rfl)
theorem dX3_platesIn_27 : decode cX3_platesIn 27 = .ok (.iadd, 1) := dk_96 (dk_at dksX3_platesIn_1 4 rfl rfl)
theorem dX3_platesIn_28 : decode cX3_platesIn 28 = .ok (.istore_n 2, 1) := dk_61 (dk_at dksX3_platesIn_1 5 rfl rfl)
theorem dX3_platesIn_29 : decode cX3_platesIn 29 = .ok (.iinc 3 1, 3) := dk_132 3 1 (dk_at dksX3_platesIn_1 6 rfl rfl)
theorem dX3_platesIn_32 : decode cX3_platesIn 32 = .ok (.goto (-28), 3) := dk_167 255 228 (dk_at dksX3_platesIn_1 9 rfl rfl)
theorem dX3_platesIn_35 : decode cX3_platesIn 35 = .ok (.iload_n 2, 1) := dk_28 (dk_at dksX3_platesIn_1 12 rfl rfl)
theorem dX3_platesIn_36 : decode cX3_platesIn 36 = .ok (.ireturn, 1) := dk_172 (dk_at dksX3_platesIn_1 13 rfl rfl)
abbrev cX3_grind : ByteArray := prog_10_method_31_code
def yX3_grind : MethodName := ⟨RX3, "grind", "(II)I"⟩
def dkwX3_grind_3 : List UInt8 := [182, 0, 102, 42, 180, 0, 7, 27, 28, 184, 0, 112, 42, 180, 0, 7, 27, 4, 184, 0, 53, 172]
abbrev dktX3_grind_3 : List UInt8 := dkwX3_grind_3 ++ []
def dkwX3_grind_2 : List UInt8 := [153, 0, 20, 42, 180, 0, 7, 27, 28, 3, 29, 4, 96, 184, 0, 59, 5, 162, 0, 6, 16, 254, 172, 42]
abbrev dktX3_grind_2 : List UInt8 := dkwX3_grind_2 ++ dktX3_grind_3
def dkwX3_grind_1 : List UInt8 := [42, 180, 0, 7, 27, 28, 184, 0, 56, 62, 42, 180, 0, 7, 27, 5, 184, 0, 53, 154, 0, 24, 29]
abbrev dktX3_grind_1 : List UInt8 := dkwX3_grind_1 ++ dktX3_grind_2
def dkwX3_grind_0 : List UInt8 := [42, 3, 181, 0, 31, 42, 27, 182, 0, 105, 153, 0, 12, 28, 3, 4, 184, 0, 38, 154, 0, 5, 2, 172]
abbrev dktX3_grind_0 : List UInt8 := dkwX3_grind_0 ++ dktX3_grind_1
theorem dksX3_grind_0 : cX3_grind.data.toList.drop 0 = dktX3_grind_0 := by decide +kernel
theorem dksX3_grind_1 : cX3_grind.data.toList.drop 24 = dktX3_grind_1 := dk_seg dksX3_grind_0 24 rfl rfl
theorem dksX3_grind_2 : cX3_grind.data.toList.drop 47 = dktX3_grind_2 := dk_seg dksX3_grind_1 23 rfl rfl
theorem dksX3_grind_3 : cX3_grind.data.toList.drop 71 = dktX3_grind_3 := dk_seg dksX3_grind_2 24 rfl rfl
theorem dX3_grind_0 : decode cX3_grind 0 = .ok (.aload_n 0, 1) := dk_42 (dk_at dksX3_grind_0 0 rfl rfl)
theorem dX3_grind_1 : decode cX3_grind 1 = .ok (.iconst 0, 1) := dk_3 (dk_at dksX3_grind_0 1 rfl rfl)
theorem dX3_grind_2 : decode cX3_grind 2 = .ok (.putfield 31, 3) := dk_181 0 31 (dk_at dksX3_grind_0 2 rfl rfl)
theorem dX3_grind_5 : decode cX3_grind 5 = .ok (.aload_n 0, 1) := dk_42 (dk_at dksX3_grind_0 5 rfl rfl)
theorem dX3_grind_6 : decode cX3_grind 6 = .ok (.iload_n 1, 1) := dk_27 (dk_at dksX3_grind_0 6 rfl rfl)
theorem dX3_grind_7 : decode cX3_grind 7 = .ok (.invokevirtual 105, 3) := dk_182 0 105 (dk_at dksX3_grind_0 7 rfl rfl)
theorem dX3_grind_10 : decode cX3_grind 10 = .ok (.ifCond .eq 12, 3) := dk_153 0 12 (dk_at dksX3_grind_0 10 rfl rfl)
theorem dX3_grind_13 : decode cX3_grind 13 = .ok (.iload_n 2, 1) := dk_28 (dk_at dksX3_grind_0 13 rfl rfl)
theorem dX3_grind_14 : decode cX3_grind 14 = .ok (.iconst 0, 1) := dk_3 (dk_at dksX3_grind_0 14 rfl rfl)
theorem dX3_grind_15 : decode cX3_grind 15 = .ok (.iconst 1, 1) := dk_4 (dk_at dksX3_grind_0 15 rfl rfl)
theorem dX3_grind_16 : decode cX3_grind 16 = .ok (.invokestatic 38, 3) := dk_184 0 38 (dk_at dksX3_grind_0 16 rfl rfl)
theorem dX3_grind_19 : decode cX3_grind 19 = .ok (.ifCond .ne 5, 3) := dk_154 0 5 (dk_at dksX3_grind_0 19 rfl rfl)
theorem dX3_grind_22 : decode cX3_grind 22 = .ok (.iconst (-1), 1) := dk_2 (dk_at dksX3_grind_0 22 rfl rfl)
theorem dX3_grind_23 : decode cX3_grind 23 = .ok (.ireturn, 1) := dk_172 (dk_at dksX3_grind_0 23 rfl rfl)
theorem dX3_grind_24 : decode cX3_grind 24 = .ok (.aload_n 0, 1) := dk_42 (dk_at dksX3_grind_1 0 rfl rfl)
theorem dX3_grind_25 : decode cX3_grind 25 = .ok (.getfield 7, 3) := dk_180 0 7 (dk_at dksX3_grind_1 1 rfl rfl)
theorem dX3_grind_28 : decode cX3_grind 28 = .ok (.iload_n 1, 1) := dk_27 (dk_at dksX3_grind_1 4 rfl rfl)
theorem dX3_grind_29 : decode cX3_grind 29 = .ok (.iload_n 2, 1) := dk_28 (dk_at dksX3_grind_1 5 rfl rfl)
theorem dX3_grind_30 : decode cX3_grind 30 = .ok (.invokestatic 56, 3) := dk_184 0 56 (dk_at dksX3_grind_1 6 rfl rfl)
theorem dX3_grind_33 : decode cX3_grind 33 = .ok (.istore_n 3, 1) := dk_62 (dk_at dksX3_grind_1 9 rfl rfl)
theorem dX3_grind_34 : decode cX3_grind 34 = .ok (.aload_n 0, 1) := dk_42 (dk_at dksX3_grind_1 10 rfl rfl)
theorem dX3_grind_35 : decode cX3_grind 35 = .ok (.getfield 7, 3) := dk_180 0 7 (dk_at dksX3_grind_1 11 rfl rfl)
theorem dX3_grind_38 : decode cX3_grind 38 = .ok (.iload_n 1, 1) := dk_27 (dk_at dksX3_grind_1 14 rfl rfl)
theorem dX3_grind_39 : decode cX3_grind 39 = .ok (.iconst 2, 1) := dk_5 (dk_at dksX3_grind_1 15 rfl rfl)
theorem dX3_grind_40 : decode cX3_grind 40 = .ok (.invokestatic 53, 3) := dk_184 0 53 (dk_at dksX3_grind_1 16 rfl rfl)
theorem dX3_grind_43 : decode cX3_grind 43 = .ok (.ifCond .ne 24, 3) := dk_154 0 24 (dk_at dksX3_grind_1 19 rfl rfl)
theorem dX3_grind_46 : decode cX3_grind 46 = .ok (.iload_n 3, 1) := dk_29 (dk_at dksX3_grind_1 22 rfl rfl)
theorem dX3_grind_47 : decode cX3_grind 47 = .ok (.ifCond .eq 20, 3) := dk_153 0 20 (dk_at dksX3_grind_2 0 rfl rfl)
theorem dX3_grind_50 : decode cX3_grind 50 = .ok (.aload_n 0, 1) := dk_42 (dk_at dksX3_grind_2 3 rfl rfl)
theorem dX3_grind_51 : decode cX3_grind 51 = .ok (.getfield 7, 3) := dk_180 0 7 (dk_at dksX3_grind_2 4 rfl rfl)
theorem dX3_grind_54 : decode cX3_grind 54 = .ok (.iload_n 1, 1) := dk_27 (dk_at dksX3_grind_2 7 rfl rfl)
theorem dX3_grind_55 : decode cX3_grind 55 = .ok (.iload_n 2, 1) := dk_28 (dk_at dksX3_grind_2 8 rfl rfl)
theorem dX3_grind_56 : decode cX3_grind 56 = .ok (.iconst 0, 1) := dk_3 (dk_at dksX3_grind_2 9 rfl rfl)
theorem dX3_grind_57 : decode cX3_grind 57 = .ok (.iload_n 3, 1) := dk_29 (dk_at dksX3_grind_2 10 rfl rfl)
theorem dX3_grind_58 : decode cX3_grind 58 = .ok (.iconst 1, 1) := dk_4 (dk_at dksX3_grind_2 11 rfl rfl)
theorem dX3_grind_59 : decode cX3_grind 59 = .ok (.iadd, 1) := dk_96 (dk_at dksX3_grind_2 12 rfl rfl)
theorem dX3_grind_60 : decode cX3_grind 60 = .ok (.invokestatic 59, 3) := dk_184 0 59 (dk_at dksX3_grind_2 13 rfl rfl)
theorem dX3_grind_63 : decode cX3_grind 63 = .ok (.iconst 2, 1) := dk_5 (dk_at dksX3_grind_2 16 rfl rfl)
theorem dX3_grind_64 : decode cX3_grind 64 = .ok (.if_icmp .ge 6, 3) := dk_162 0 6 (dk_at dksX3_grind_2 17 rfl rfl)
theorem dX3_grind_67 : decode cX3_grind 67 = .ok (.bipush (-2), 2) := dk_16 254 (dk_at dksX3_grind_2 20 rfl rfl)
theorem dX3_grind_69 : decode cX3_grind 69 = .ok (.ireturn, 1) := dk_172 (dk_at dksX3_grind_2 22 rfl rfl)
theorem dX3_grind_70 : decode cX3_grind 70 = .ok (.aload_n 0, 1) := dk_42 (dk_at dksX3_grind_2 23 rfl rfl)
theorem dX3_grind_71 : decode cX3_grind 71 = .ok (.invokevirtual 102, 3) := dk_182 0 102 (dk_at dksX3_grind_3 0 rfl rfl)
theorem dX3_grind_74 : decode cX3_grind 74 = .ok (.aload_n 0, 1) := dk_42 (dk_at dksX3_grind_3 3 rfl rfl)
theorem dX3_grind_75 : decode cX3_grind 75 = .ok (.getfield 7, 3) := dk_180 0 7 (dk_at dksX3_grind_3 4 rfl rfl)
theorem dX3_grind_78 : decode cX3_grind 78 = .ok (.iload_n 1, 1) := dk_27 (dk_at dksX3_grind_3 7 rfl rfl)
theorem dX3_grind_79 : decode cX3_grind 79 = .ok (.iload_n 2, 1) := dk_28 (dk_at dksX3_grind_3 8 rfl rfl)
theorem dX3_grind_80 : decode cX3_grind 80 = .ok (.invokestatic 112, 3) := dk_184 0 112 (dk_at dksX3_grind_3 9 rfl rfl)
theorem dX3_grind_83 : decode cX3_grind 83 = .ok (.aload_n 0, 1) := dk_42 (dk_at dksX3_grind_3 12 rfl rfl)
theorem dX3_grind_84 : decode cX3_grind 84 = .ok (.getfield 7, 3) := dk_180 0 7 (dk_at dksX3_grind_3 13 rfl rfl)
theorem dX3_grind_87 : decode cX3_grind 87 = .ok (.iload_n 1, 1) := dk_27 (dk_at dksX3_grind_3 16 rfl rfl)
theorem dX3_grind_88 : decode cX3_grind 88 = .ok (.iconst 1, 1) := dk_4 (dk_at dksX3_grind_3 17 rfl rfl)
theorem dX3_grind_89 : decode cX3_grind 89 = .ok (.invokestatic 53, 3) := dk_184 0 53 (dk_at dksX3_grind_3 18 rfl rfl)
theorem dX3_grind_92 : decode cX3_grind 92 = .ok (.ireturn, 1) := dk_172 (dk_at dksX3_grind_3 21 rfl rfl)
abbrev cX3_depthOf : ByteArray := prog_10_method_16_code
def yX3_depthOf : MethodName := ⟨RX3, "depthOf", "([III)I"⟩
def dkwX3_depthOf_0 : List UInt8 := [42, 27, 6, 28, 96, 184, 0, 53, 172]
abbrev dktX3_depthOf_0 : List UInt8 := dkwX3_depthOf_0 ++ []
theorem dksX3_depthOf_0 : cX3_depthOf.data.toList.drop 0 = dktX3_depthOf_0 := by decide +kernel
theorem dX3_depthOf_0 : decode cX3_depthOf 0 = .ok (.aload_n 0, 1) := dk_42 (dk_at dksX3_depthOf_0 0 rfl rfl)
theorem dX3_depthOf_1 : decode cX3_depthOf 1 = .ok (.iload_n 1, 1) := dk_27 (dk_at dksX3_depthOf_0 1 rfl rfl)
theorem dX3_depthOf_2 : decode cX3_depthOf 2 = .ok (.iconst 3, 1) := dk_6 (dk_at dksX3_depthOf_0 2 rfl rfl)
theorem dX3_depthOf_3 : decode cX3_depthOf 3 = .ok (.iload_n 2, 1) := dk_28 (dk_at dksX3_depthOf_0 3 rfl rfl)
theorem dX3_depthOf_4 : decode cX3_depthOf 4 = .ok (.iadd, 1) := dk_96 (dk_at dksX3_depthOf_0 4 rfl rfl)
theorem dX3_depthOf_5 : decode cX3_depthOf 5 = .ok (.invokestatic 53, 3) := dk_184 0 53 (dk_at dksX3_depthOf_0 5 rfl rfl)
theorem dX3_depthOf_8 : decode cX3_depthOf 8 = .ok (.ireturn, 1) := dk_172 (dk_at dksX3_depthOf_0 8 rfl rfl)
abbrev cX3_leftOver : ByteArray := prog_10_method_17_code
def yX3_leftOver : MethodName := ⟨RX3, "leftOver", "([IIIII)I"⟩
def dkwX3_leftOver_0 : List UInt8 := [42, 27, 4, 184, 0, 53, 21, 4, 100, 29, 100, 42, 27, 4, 28, 100, 184, 0, 56, 100, 172]
abbrev dktX3_leftOver_0 : List UInt8 := dkwX3_leftOver_0 ++ []
theorem dksX3_leftOver_0 : cX3_leftOver.data.toList.drop 0 = dktX3_leftOver_0 := by decide +kernel
theorem dX3_leftOver_0 : decode cX3_leftOver 0 = .ok (.aload_n 0, 1) := dk_42 (dk_at dksX3_leftOver_0 0 rfl rfl)
theorem dX3_leftOver_1 : decode cX3_leftOver 1 = .ok (.iload_n 1, 1) := dk_27 (dk_at dksX3_leftOver_0 1 rfl rfl)
theorem dX3_leftOver_2 : decode cX3_leftOver 2 = .ok (.iconst 1, 1) := dk_4 (dk_at dksX3_leftOver_0 2 rfl rfl)
theorem dX3_leftOver_3 : decode cX3_leftOver 3 = .ok (.invokestatic 53, 3) := dk_184 0 53 (dk_at dksX3_leftOver_0 3 rfl rfl)
theorem dX3_leftOver_6 : decode cX3_leftOver 6 = .ok (.iload 4, 2) := dk_21 4 (dk_at dksX3_leftOver_0 6 rfl rfl)
theorem dX3_leftOver_8 : decode cX3_leftOver 8 = .ok (.isub, 1) := dk_100 (dk_at dksX3_leftOver_0 8 rfl rfl)
theorem dX3_leftOver_9 : decode cX3_leftOver 9 = .ok (.iload_n 3, 1) := dk_29 (dk_at dksX3_leftOver_0 9 rfl rfl)
theorem dX3_leftOver_10 : decode cX3_leftOver 10 = .ok (.isub, 1) := dk_100 (dk_at dksX3_leftOver_0 10 rfl rfl)
theorem dX3_leftOver_11 : decode cX3_leftOver 11 = .ok (.aload_n 0, 1) := dk_42 (dk_at dksX3_leftOver_0 11 rfl rfl)
theorem dX3_leftOver_12 : decode cX3_leftOver 12 = .ok (.iload_n 1, 1) := dk_27 (dk_at dksX3_leftOver_0 12 rfl rfl)
theorem dX3_leftOver_13 : decode cX3_leftOver 13 = .ok (.iconst 1, 1) := dk_4 (dk_at dksX3_leftOver_0 13 rfl rfl)
theorem dX3_leftOver_14 : decode cX3_leftOver 14 = .ok (.iload_n 2, 1) := dk_28 (dk_at dksX3_leftOver_0 14 rfl rfl)
theorem dX3_leftOver_15 : decode cX3_leftOver 15 = .ok (.isub, 1) := dk_100 (dk_at dksX3_leftOver_0 15 rfl rfl)
theorem dX3_leftOver_16 : decode cX3_leftOver 16 = .ok (.invokestatic 56, 3) := dk_184 0 56 (dk_at dksX3_leftOver_0 16 rfl rfl)
theorem dX3_leftOver_19 : decode cX3_leftOver 19 = .ok (.isub, 1) := dk_100 (dk_at dksX3_leftOver_0 19 rfl rfl)
theorem dX3_leftOver_20 : decode cX3_leftOver 20 = .ok (.ireturn, 1) := dk_172 (dk_at dksX3_leftOver_0 20 rfl rfl)
abbrev cX3_grindSide : ByteArray := prog_10_method_20_code
def yX3_grindSide : MethodName := ⟨RX3, "grindSide", "([III)V"⟩
def dkwX3_grindSide_1 : List UInt8 := [28, 96, 3, 184, 0, 63, 42, 16, 9, 92, 46, 4, 96, 79, 177]
abbrev dktX3_grindSide_1 : List UInt8 := dkwX3_grindSide_1 ++ []
def dkwX3_grindSide_0 : List UInt8 := [42, 27, 4, 42, 27, 4, 184, 0, 53, 42, 27, 28, 184, 0, 56, 100, 4, 100, 184, 0, 63, 42, 27, 6]
abbrev dktX3_grindSide_0 : List UInt8 := dkwX3_grindSide_0 ++ dktX3_grindSide_1
theorem dksX3_grindSide_0 : cX3_grindSide.data.toList.drop 0 = dktX3_grindSide_0 := by decide +kernel
theorem dksX3_grindSide_1 : cX3_grindSide.data.toList.drop 24 = dktX3_grindSide_1 := dk_seg dksX3_grindSide_0 24 rfl rfl
theorem dX3_grindSide_0 : decode cX3_grindSide 0 = .ok (.aload_n 0, 1) := dk_42 (dk_at dksX3_grindSide_0 0 rfl rfl)
theorem dX3_grindSide_1 : decode cX3_grindSide 1 = .ok (.iload_n 1, 1) := dk_27 (dk_at dksX3_grindSide_0 1 rfl rfl)
theorem dX3_grindSide_2 : decode cX3_grindSide 2 = .ok (.iconst 1, 1) := dk_4 (dk_at dksX3_grindSide_0 2 rfl rfl)
theorem dX3_grindSide_3 : decode cX3_grindSide 3 = .ok (.aload_n 0, 1) := dk_42 (dk_at dksX3_grindSide_0 3 rfl rfl)
theorem dX3_grindSide_4 : decode cX3_grindSide 4 = .ok (.iload_n 1, 1) := dk_27 (dk_at dksX3_grindSide_0 4 rfl rfl)
theorem dX3_grindSide_5 : decode cX3_grindSide 5 = .ok (.iconst 1, 1) := dk_4 (dk_at dksX3_grindSide_0 5 rfl rfl)
theorem dX3_grindSide_6 : decode cX3_grindSide 6 = .ok (.invokestatic 53, 3) := dk_184 0 53 (dk_at dksX3_grindSide_0 6 rfl rfl)
theorem dX3_grindSide_9 : decode cX3_grindSide 9 = .ok (.aload_n 0, 1) := dk_42 (dk_at dksX3_grindSide_0 9 rfl rfl)
theorem dX3_grindSide_10 : decode cX3_grindSide 10 = .ok (.iload_n 1, 1) := dk_27 (dk_at dksX3_grindSide_0 10 rfl rfl)
theorem dX3_grindSide_11 : decode cX3_grindSide 11 = .ok (.iload_n 2, 1) := dk_28 (dk_at dksX3_grindSide_0 11 rfl rfl)
theorem dX3_grindSide_12 : decode cX3_grindSide 12 = .ok (.invokestatic 56, 3) := dk_184 0 56 (dk_at dksX3_grindSide_0 12 rfl rfl)
theorem dX3_grindSide_15 : decode cX3_grindSide 15 = .ok (.isub, 1) := dk_100 (dk_at dksX3_grindSide_0 15 rfl rfl)
theorem dX3_grindSide_16 : decode cX3_grindSide 16 = .ok (.iconst 1, 1) := dk_4 (dk_at dksX3_grindSide_0 16 rfl rfl)
theorem dX3_grindSide_17 : decode cX3_grindSide 17 = .ok (.isub, 1) := dk_100 (dk_at dksX3_grindSide_0 17 rfl rfl)
theorem dX3_grindSide_18 : decode cX3_grindSide 18 = .ok (.invokestatic 63, 3) := dk_184 0 63 (dk_at dksX3_grindSide_0 18 rfl rfl)
theorem dX3_grindSide_21 : decode cX3_grindSide 21 = .ok (.aload_n 0, 1) := dk_42 (dk_at dksX3_grindSide_0 21 rfl rfl)
theorem dX3_grindSide_22 : decode cX3_grindSide 22 = .ok (.iload_n 1, 1) := dk_27 (dk_at dksX3_grindSide_0 22 rfl rfl)
theorem dX3_grindSide_23 : decode cX3_grindSide 23 = .ok (.iconst 3, 1) := dk_6 (dk_at dksX3_grindSide_0 23 rfl rfl)
theorem dX3_grindSide_24 : decode cX3_grindSide 24 = .ok (.iload_n 2, 1) := dk_28 (dk_at dksX3_grindSide_1 0 rfl rfl)
theorem dX3_grindSide_25 : decode cX3_grindSide 25 = .ok (.iadd, 1) := dk_96 (dk_at dksX3_grindSide_1 1 rfl rfl)
theorem dX3_grindSide_26 : decode cX3_grindSide 26 = .ok (.iconst 0, 1) := dk_3 (dk_at dksX3_grindSide_1 2 rfl rfl)
theorem dX3_grindSide_27 : decode cX3_grindSide 27 = .ok (.invokestatic 63, 3) := dk_184 0 63 (dk_at dksX3_grindSide_1 3 rfl rfl)
theorem dX3_grindSide_30 : decode cX3_grindSide 30 = .ok (.aload_n 0, 1) := dk_42 (dk_at dksX3_grindSide_1 6 rfl rfl)
theorem dX3_grindSide_31 : decode cX3_grindSide 31 = .ok (.bipush 9, 2) := dk_16 9 (dk_at dksX3_grindSide_1 7 rfl rfl)
theorem dX3_grindSide_33 : decode cX3_grindSide 33 = .ok (.dup2, 1) := dk_92 (dk_at dksX3_grindSide_1 9 rfl rfl)
theorem dX3_grindSide_34 : decode cX3_grindSide 34 = .ok (.iaload, 1) := dk_46 (dk_at dksX3_grindSide_1 10 rfl rfl)
theorem dX3_grindSide_35 : decode cX3_grindSide 35 = .ok (.iconst 1, 1) := dk_4 (dk_at dksX3_grindSide_1 11 rfl rfl)
theorem dX3_grindSide_36 : decode cX3_grindSide 36 = .ok (.iadd, 1) := dk_96 (dk_at dksX3_grindSide_1 12 rfl rfl)
theorem dX3_grindSide_37 : decode cX3_grindSide 37 = .ok (.iastore, 1) := dk_79 (dk_at dksX3_grindSide_1 13 rfl rfl)
theorem dX3_grindSide_38 : decode cX3_grindSide 38 = .ok (.return_, 1) := dk_177 (dk_at dksX3_grindSide_1 14 rfl rfl)
abbrev cX3_addShield : ByteArray := prog_10_method_32_code
def yX3_addShield : MethodName := ⟨RX3, "addShield", "(I)I"⟩
def dkwX3_addShield_2 : List UInt8 := [27, 79, 42, 180, 0, 7, 3, 92, 46, 4, 96, 79, 42, 180, 0, 7, 3, 46, 4, 100, 172]
abbrev dktX3_addShield_2 : List UInt8 := dkwX3_addShield_2 ++ []
def dkwX3_addShield_1 : List UInt8 := [160, 0, 6, 16, 253, 172, 42, 182, 0, 102, 42, 180, 0, 7, 17, 0, 150, 42, 180, 0, 7, 3, 46, 96]
abbrev dktX3_addShield_1 : List UInt8 := dkwX3_addShield_1 ++ dktX3_addShield_2
def dkwX3_addShield_0 : List UInt8 := [42, 3, 181, 0, 31, 27, 5, 16, 6, 184, 0, 38, 154, 0, 5, 2, 172, 42, 180, 0, 7, 3, 46, 6]
abbrev dktX3_addShield_0 : List UInt8 := dkwX3_addShield_0 ++ dktX3_addShield_1
theorem dksX3_addShield_0 : cX3_addShield.data.toList.drop 0 = dktX3_addShield_0 := by decide +kernel
theorem dksX3_addShield_1 : cX3_addShield.data.toList.drop 24 = dktX3_addShield_1 := dk_seg dksX3_addShield_0 24 rfl rfl
theorem dksX3_addShield_2 : cX3_addShield.data.toList.drop 48 = dktX3_addShield_2 := dk_seg dksX3_addShield_1 24 rfl rfl
theorem dX3_addShield_0 : decode cX3_addShield 0 = .ok (.aload_n 0, 1) := dk_42 (dk_at dksX3_addShield_0 0 rfl rfl)
theorem dX3_addShield_1 : decode cX3_addShield 1 = .ok (.iconst 0, 1) := dk_3 (dk_at dksX3_addShield_0 1 rfl rfl)
theorem dX3_addShield_2 : decode cX3_addShield 2 = .ok (.putfield 31, 3) := dk_181 0 31 (dk_at dksX3_addShield_0 2 rfl rfl)
theorem dX3_addShield_5 : decode cX3_addShield 5 = .ok (.iload_n 1, 1) := dk_27 (dk_at dksX3_addShield_0 5 rfl rfl)
theorem dX3_addShield_6 : decode cX3_addShield 6 = .ok (.iconst 2, 1) := dk_5 (dk_at dksX3_addShield_0 6 rfl rfl)
theorem dX3_addShield_7 : decode cX3_addShield 7 = .ok (.bipush 6, 2) := dk_16 6 (dk_at dksX3_addShield_0 7 rfl rfl)
theorem dX3_addShield_9 : decode cX3_addShield 9 = .ok (.invokestatic 38, 3) := dk_184 0 38 (dk_at dksX3_addShield_0 9 rfl rfl)
theorem dX3_addShield_12 : decode cX3_addShield 12 = .ok (.ifCond .ne 5, 3) := dk_154 0 5 (dk_at dksX3_addShield_0 12 rfl rfl)
theorem dX3_addShield_15 : decode cX3_addShield 15 = .ok (.iconst (-1), 1) := dk_2 (dk_at dksX3_addShield_0 15 rfl rfl)
theorem dX3_addShield_16 : decode cX3_addShield 16 = .ok (.ireturn, 1) := dk_172 (dk_at dksX3_addShield_0 16 rfl rfl)
theorem dX3_addShield_17 : decode cX3_addShield 17 = .ok (.aload_n 0, 1) := dk_42 (dk_at dksX3_addShield_0 17 rfl rfl)
theorem dX3_addShield_18 : decode cX3_addShield 18 = .ok (.getfield 7, 3) := dk_180 0 7 (dk_at dksX3_addShield_0 18 rfl rfl)
theorem dX3_addShield_21 : decode cX3_addShield 21 = .ok (.iconst 0, 1) := dk_3 (dk_at dksX3_addShield_0 21 rfl rfl)
theorem dX3_addShield_22 : decode cX3_addShield 22 = .ok (.iaload, 1) := dk_46 (dk_at dksX3_addShield_0 22 rfl rfl)
theorem dX3_addShield_23 : decode cX3_addShield 23 = .ok (.iconst 3, 1) := dk_6 (dk_at dksX3_addShield_0 23 rfl rfl)
theorem dX3_addShield_24 : decode cX3_addShield 24 = .ok (.if_icmp .ne 6, 3) := dk_160 0 6 (dk_at dksX3_addShield_1 0 rfl rfl)
theorem dX3_addShield_27 : decode cX3_addShield 27 = .ok (.bipush (-3), 2) := dk_16 253 (dk_at dksX3_addShield_1 3 rfl rfl)
theorem dX3_addShield_29 : decode cX3_addShield 29 = .ok (.ireturn, 1) := dk_172 (dk_at dksX3_addShield_1 5 rfl rfl)
theorem dX3_addShield_30 : decode cX3_addShield 30 = .ok (.aload_n 0, 1) := dk_42 (dk_at dksX3_addShield_1 6 rfl rfl)
theorem dX3_addShield_31 : decode cX3_addShield 31 = .ok (.invokevirtual 102, 3) := dk_182 0 102 (dk_at dksX3_addShield_1 7 rfl rfl)
theorem dX3_addShield_34 : decode cX3_addShield 34 = .ok (.aload_n 0, 1) := dk_42 (dk_at dksX3_addShield_1 10 rfl rfl)
theorem dX3_addShield_35 : decode cX3_addShield 35 = .ok (.getfield 7, 3) := dk_180 0 7 (dk_at dksX3_addShield_1 11 rfl rfl)
theorem dX3_addShield_38 : decode cX3_addShield 38 = .ok (.sipush 150, 3) := dk_17 0 150 (dk_at dksX3_addShield_1 14 rfl rfl)
theorem dX3_addShield_41 : decode cX3_addShield 41 = .ok (.aload_n 0, 1) := dk_42 (dk_at dksX3_addShield_1 17 rfl rfl)
theorem dX3_addShield_42 : decode cX3_addShield 42 = .ok (.getfield 7, 3) := dk_180 0 7 (dk_at dksX3_addShield_1 18 rfl rfl)
theorem dX3_addShield_45 : decode cX3_addShield 45 = .ok (.iconst 0, 1) := dk_3 (dk_at dksX3_addShield_1 21 rfl rfl)
theorem dX3_addShield_46 : decode cX3_addShield 46 = .ok (.iaload, 1) := dk_46 (dk_at dksX3_addShield_1 22 rfl rfl)
theorem dX3_addShield_47 : decode cX3_addShield 47 = .ok (.iadd, 1) := dk_96 (dk_at dksX3_addShield_1 23 rfl rfl)
theorem dX3_addShield_48 : decode cX3_addShield 48 = .ok (.iload_n 1, 1) := dk_27 (dk_at dksX3_addShield_2 0 rfl rfl)
theorem dX3_addShield_49 : decode cX3_addShield 49 = .ok (.iastore, 1) := dk_79 (dk_at dksX3_addShield_2 1 rfl rfl)
theorem dX3_addShield_50 : decode cX3_addShield 50 = .ok (.aload_n 0, 1) := dk_42 (dk_at dksX3_addShield_2 2 rfl rfl)
theorem dX3_addShield_51 : decode cX3_addShield 51 = .ok (.getfield 7, 3) := dk_180 0 7 (dk_at dksX3_addShield_2 3 rfl rfl)
theorem dX3_addShield_54 : decode cX3_addShield 54 = .ok (.iconst 0, 1) := dk_3 (dk_at dksX3_addShield_2 6 rfl rfl)
theorem dX3_addShield_55 : decode cX3_addShield 55 = .ok (.dup2, 1) := dk_92 (dk_at dksX3_addShield_2 7 rfl rfl)
theorem dX3_addShield_56 : decode cX3_addShield 56 = .ok (.iaload, 1) := dk_46 (dk_at dksX3_addShield_2 8 rfl rfl)
theorem dX3_addShield_57 : decode cX3_addShield 57 = .ok (.iconst 1, 1) := dk_4 (dk_at dksX3_addShield_2 9 rfl rfl)
theorem dX3_addShield_58 : decode cX3_addShield 58 = .ok (.iadd, 1) := dk_96 (dk_at dksX3_addShield_2 10 rfl rfl)
theorem dX3_addShield_59 : decode cX3_addShield 59 = .ok (.iastore, 1) := dk_79 (dk_at dksX3_addShield_2 11 rfl rfl)
theorem dX3_addShield_60 : decode cX3_addShield 60 = .ok (.aload_n 0, 1) := dk_42 (dk_at dksX3_addShield_2 12 rfl rfl)
theorem dX3_addShield_61 : decode cX3_addShield 61 = .ok (.getfield 7, 3) := dk_180 0 7 (dk_at dksX3_addShield_2 13 rfl rfl)
theorem dX3_addShield_64 : decode cX3_addShield 64 = .ok (.iconst 0, 1) := dk_3 (dk_at dksX3_addShield_2 16 rfl rfl)
theorem dX3_addShield_65 : decode cX3_addShield 65 = .ok (.iaload, 1) := dk_46 (dk_at dksX3_addShield_2 17 rfl rfl)
theorem dX3_addShield_66 : decode cX3_addShield 66 = .ok (.iconst 1, 1) := dk_4 (dk_at dksX3_addShield_2 18 rfl rfl)
theorem dX3_addShield_67 : decode cX3_addShield 67 = .ok (.isub, 1) := dk_100 (dk_at dksX3_addShield_2 19 rfl rfl)
theorem dX3_addShield_68 : decode cX3_addShield 68 = .ok (.ireturn, 1) := dk_172 (dk_at dksX3_addShield_2 20 rfl rfl)
abbrev cX3_takeOff : ByteArray := prog_10_method_33_code
def yX3_takeOff : MethodName := ⟨RX3, "takeOff", "(II)I"⟩
def dkwX3_takeOff_2 : List UInt8 := [180, 0, 7, 29, 5, 3, 184, 0, 63, 29, 172]
abbrev dktX3_takeOff_2 : List UInt8 := dkwX3_takeOff_2 ++ []
def dkwX3_takeOff_1 : List UInt8 := [180, 0, 7, 27, 28, 184, 0, 99, 62, 29, 16, 247, 160, 0, 6, 16, 254, 172, 42, 182, 0, 102, 42]
abbrev dktX3_takeOff_1 : List UInt8 := dkwX3_takeOff_1 ++ dktX3_takeOff_2
def dkwX3_takeOff_0 : List UInt8 := [42, 3, 181, 0, 31, 42, 27, 182, 0, 116, 153, 0, 10, 28, 184, 0, 119, 154, 0, 5, 2, 172, 42]
abbrev dktX3_takeOff_0 : List UInt8 := dkwX3_takeOff_0 ++ dktX3_takeOff_1
theorem dksX3_takeOff_0 : cX3_takeOff.data.toList.drop 0 = dktX3_takeOff_0 := by decide +kernel
theorem dksX3_takeOff_1 : cX3_takeOff.data.toList.drop 23 = dktX3_takeOff_1 := dk_seg dksX3_takeOff_0 23 rfl rfl
theorem dksX3_takeOff_2 : cX3_takeOff.data.toList.drop 46 = dktX3_takeOff_2 := dk_seg dksX3_takeOff_1 23 rfl rfl
theorem dX3_takeOff_0 : decode cX3_takeOff 0 = .ok (.aload_n 0, 1) := dk_42 (dk_at dksX3_takeOff_0 0 rfl rfl)
theorem dX3_takeOff_1 : decode cX3_takeOff 1 = .ok (.iconst 0, 1) := dk_3 (dk_at dksX3_takeOff_0 1 rfl rfl)
theorem dX3_takeOff_2 : decode cX3_takeOff 2 = .ok (.putfield 31, 3) := dk_181 0 31 (dk_at dksX3_takeOff_0 2 rfl rfl)
theorem dX3_takeOff_5 : decode cX3_takeOff 5 = .ok (.aload_n 0, 1) := dk_42 (dk_at dksX3_takeOff_0 5 rfl rfl)
theorem dX3_takeOff_6 : decode cX3_takeOff 6 = .ok (.iload_n 1, 1) := dk_27 (dk_at dksX3_takeOff_0 6 rfl rfl)
theorem dX3_takeOff_7 : decode cX3_takeOff 7 = .ok (.invokevirtual 116, 3) := dk_182 0 116 (dk_at dksX3_takeOff_0 7 rfl rfl)
theorem dX3_takeOff_10 : decode cX3_takeOff 10 = .ok (.ifCond .eq 10, 3) := dk_153 0 10 (dk_at dksX3_takeOff_0 10 rfl rfl)
theorem dX3_takeOff_13 : decode cX3_takeOff 13 = .ok (.iload_n 2, 1) := dk_28 (dk_at dksX3_takeOff_0 13 rfl rfl)
theorem dX3_takeOff_14 : decode cX3_takeOff 14 = .ok (.invokestatic 119, 3) := dk_184 0 119 (dk_at dksX3_takeOff_0 14 rfl rfl)
theorem dX3_takeOff_17 : decode cX3_takeOff 17 = .ok (.ifCond .ne 5, 3) := dk_154 0 5 (dk_at dksX3_takeOff_0 17 rfl rfl)
theorem dX3_takeOff_20 : decode cX3_takeOff 20 = .ok (.iconst (-1), 1) := dk_2 (dk_at dksX3_takeOff_0 20 rfl rfl)
theorem dX3_takeOff_21 : decode cX3_takeOff 21 = .ok (.ireturn, 1) := dk_172 (dk_at dksX3_takeOff_0 21 rfl rfl)
theorem dX3_takeOff_22 : decode cX3_takeOff 22 = .ok (.aload_n 0, 1) := dk_42 (dk_at dksX3_takeOff_0 22 rfl rfl)
theorem dX3_takeOff_23 : decode cX3_takeOff 23 = .ok (.getfield 7, 3) := dk_180 0 7 (dk_at dksX3_takeOff_1 0 rfl rfl)
theorem dX3_takeOff_26 : decode cX3_takeOff 26 = .ok (.iload_n 1, 1) := dk_27 (dk_at dksX3_takeOff_1 3 rfl rfl)
theorem dX3_takeOff_27 : decode cX3_takeOff 27 = .ok (.iload_n 2, 1) := dk_28 (dk_at dksX3_takeOff_1 4 rfl rfl)
theorem dX3_takeOff_28 : decode cX3_takeOff 28 = .ok (.invokestatic 99, 3) := dk_184 0 99 (dk_at dksX3_takeOff_1 5 rfl rfl)
theorem dX3_takeOff_31 : decode cX3_takeOff 31 = .ok (.istore_n 3, 1) := dk_62 (dk_at dksX3_takeOff_1 8 rfl rfl)
theorem dX3_takeOff_32 : decode cX3_takeOff 32 = .ok (.iload_n 3, 1) := dk_29 (dk_at dksX3_takeOff_1 9 rfl rfl)
theorem dX3_takeOff_33 : decode cX3_takeOff 33 = .ok (.bipush (-9), 2) := dk_16 247 (dk_at dksX3_takeOff_1 10 rfl rfl)
theorem dX3_takeOff_35 : decode cX3_takeOff 35 = .ok (.if_icmp .ne 6, 3) := dk_160 0 6 (dk_at dksX3_takeOff_1 12 rfl rfl)
theorem dX3_takeOff_38 : decode cX3_takeOff 38 = .ok (.bipush (-2), 2) := dk_16 254 (dk_at dksX3_takeOff_1 15 rfl rfl)
theorem dX3_takeOff_40 : decode cX3_takeOff 40 = .ok (.ireturn, 1) := dk_172 (dk_at dksX3_takeOff_1 17 rfl rfl)
theorem dX3_takeOff_41 : decode cX3_takeOff 41 = .ok (.aload_n 0, 1) := dk_42 (dk_at dksX3_takeOff_1 18 rfl rfl)
theorem dX3_takeOff_42 : decode cX3_takeOff 42 = .ok (.invokevirtual 102, 3) := dk_182 0 102 (dk_at dksX3_takeOff_1 19 rfl rfl)
theorem dX3_takeOff_45 : decode cX3_takeOff 45 = .ok (.aload_n 0, 1) := dk_42 (dk_at dksX3_takeOff_1 22 rfl rfl)
theorem dX3_takeOff_46 : decode cX3_takeOff 46 = .ok (.getfield 7, 3) := dk_180 0 7 (dk_at dksX3_takeOff_2 0 rfl rfl)
theorem dX3_takeOff_49 : decode cX3_takeOff 49 = .ok (.iload_n 3, 1) := dk_29 (dk_at dksX3_takeOff_2 3 rfl rfl)
theorem dX3_takeOff_50 : decode cX3_takeOff 50 = .ok (.iconst 2, 1) := dk_5 (dk_at dksX3_takeOff_2 4 rfl rfl)
theorem dX3_takeOff_51 : decode cX3_takeOff 51 = .ok (.iconst 0, 1) := dk_3 (dk_at dksX3_takeOff_2 5 rfl rfl)
theorem dX3_takeOff_52 : decode cX3_takeOff 52 = .ok (.invokestatic 63, 3) := dk_184 0 63 (dk_at dksX3_takeOff_2 6 rfl rfl)
theorem dX3_takeOff_55 : decode cX3_takeOff 55 = .ok (.iload_n 3, 1) := dk_29 (dk_at dksX3_takeOff_2 9 rfl rfl)
theorem dX3_takeOff_56 : decode cX3_takeOff 56 = .ok (.ireturn, 1) := dk_172 (dk_at dksX3_takeOff_2 10 rfl rfl)
abbrev cX3_isShield : ByteArray := prog_10_method_9_code
def yX3_isShield : MethodName := ⟨RX3, "isShield", "(I)Z"⟩
def dkwX3_isShield_0 : List UInt8 := [27, 3, 42, 180, 0, 7, 3, 46, 4, 100, 184, 0, 38, 172]
abbrev dktX3_isShield_0 : List UInt8 := dkwX3_isShield_0 ++ []
theorem dksX3_isShield_0 : cX3_isShield.data.toList.drop 0 = dktX3_isShield_0 := by decide +kernel
theorem dX3_isShield_0 : decode cX3_isShield 0 = .ok (.iload_n 1, 1) := dk_27 (dk_at dksX3_isShield_0 0 rfl rfl)
theorem dX3_isShield_1 : decode cX3_isShield 1 = .ok (.iconst 0, 1) := dk_3 (dk_at dksX3_isShield_0 1 rfl rfl)
theorem dX3_isShield_2 : decode cX3_isShield 2 = .ok (.aload_n 0, 1) := dk_42 (dk_at dksX3_isShield_0 2 rfl rfl)
theorem dX3_isShield_3 : decode cX3_isShield 3 = .ok (.getfield 7, 3) := dk_180 0 7 (dk_at dksX3_isShield_0 3 rfl rfl)
theorem dX3_isShield_6 : decode cX3_isShield 6 = .ok (.iconst 0, 1) := dk_3 (dk_at dksX3_isShield_0 6 rfl rfl)
theorem dX3_isShield_7 : decode cX3_isShield 7 = .ok (.iaload, 1) := dk_46 (dk_at dksX3_isShield_0 7 rfl rfl)
theorem dX3_isShield_8 : decode cX3_isShield 8 = .ok (.iconst 1, 1) := dk_4 (dk_at dksX3_isShield_0 8 rfl rfl)
theorem dX3_isShield_9 : decode cX3_isShield 9 = .ok (.isub, 1) := dk_100 (dk_at dksX3_isShield_0 9 rfl rfl)
theorem dX3_isShield_10 : decode cX3_isShield 10 = .ok (.invokestatic 38, 3) := dk_184 0 38 (dk_at dksX3_isShield_0 10 rfl rfl)
theorem dX3_isShield_13 : decode cX3_isShield 13 = .ok (.ireturn, 1) := dk_172 (dk_at dksX3_isShield_0 13 rfl rfl)
abbrev cX3_isYear : ByteArray := prog_10_method_11_code
def yX3_isYear : MethodName := ⟨RX3, "isYear", "(I)Z"⟩
def dkwX3_isYear_0 : List UInt8 := [26, 4, 17, 3, 231, 184, 0, 38, 172]
abbrev dktX3_isYear_0 : List UInt8 := dkwX3_isYear_0 ++ []
theorem dksX3_isYear_0 : cX3_isYear.data.toList.drop 0 = dktX3_isYear_0 := by decide +kernel
theorem dX3_isYear_0 : decode cX3_isYear 0 = .ok (.iload_n 0, 1) := dk_26 (dk_at dksX3_isYear_0 0 rfl rfl)
theorem dX3_isYear_1 : decode cX3_isYear 1 = .ok (.iconst 1, 1) := dk_4 (dk_at dksX3_isYear_0 1 rfl rfl)
theorem dX3_isYear_2 : decode cX3_isYear 2 = .ok (.sipush 999, 3) := dk_17 3 231 (dk_at dksX3_isYear_0 2 rfl rfl)
theorem dX3_isYear_5 : decode cX3_isYear 5 = .ok (.invokestatic 38, 3) := dk_184 0 38 (dk_at dksX3_isYear_0 5 rfl rfl)
theorem dX3_isYear_8 : decode cX3_isYear 8 = .ok (.ireturn, 1) := dk_172 (dk_at dksX3_isYear_0 8 rfl rfl)
abbrev cX3_plateOn : ByteArray := prog_10_method_24_code
def yX3_plateOn : MethodName := ⟨RX3, "plateOn", "([III)I"⟩
def dkwX3_plateOn_3 : List UInt8 := [132, 4, 1, 167, 255, 192, 29, 172]
abbrev dktX3_plateOn_3 : List UInt8 := dkwX3_plateOn_3 ++ []
def dkwX3_plateOn_2 : List UInt8 := [160, 0, 7, 4, 167, 0, 4, 3, 54, 5, 21, 5, 153, 0, 8, 21, 4, 167, 0, 4, 29, 62]
abbrev dktX3_plateOn_2 : List UInt8 := dkwX3_plateOn_2 ++ dktX3_plateOn_3
def dkwX3_plateOn_1 : List UInt8 := [160, 0, 30, 42, 21, 4, 8, 184, 0, 53, 27, 160, 0, 19, 42, 21, 4, 16, 6, 184, 0, 53, 28]
abbrev dktX3_plateOn_1 : List UInt8 := dkwX3_plateOn_1 ++ dktX3_plateOn_2
def dkwX3_plateOn_0 : List UInt8 := [16, 247, 62, 3, 54, 4, 21, 4, 42, 4, 46, 162, 0, 62, 42, 21, 4, 5, 184, 0, 53, 5]
abbrev dktX3_plateOn_0 : List UInt8 := dkwX3_plateOn_0 ++ dktX3_plateOn_1
theorem dksX3_plateOn_0 : cX3_plateOn.data.toList.drop 0 = dktX3_plateOn_0 := by decide +kernel
theorem dksX3_plateOn_1 : cX3_plateOn.data.toList.drop 22 = dktX3_plateOn_1 := dk_seg dksX3_plateOn_0 22 rfl rfl
theorem dksX3_plateOn_2 : cX3_plateOn.data.toList.drop 45 = dktX3_plateOn_2 := dk_seg dksX3_plateOn_1 23 rfl rfl
theorem dksX3_plateOn_3 : cX3_plateOn.data.toList.drop 67 = dktX3_plateOn_3 := dk_seg dksX3_plateOn_2 22 rfl rfl
theorem dX3_plateOn_0 : decode cX3_plateOn 0 = .ok (.bipush (-9), 2) := dk_16 247 (dk_at dksX3_plateOn_0 0 rfl rfl)
theorem dX3_plateOn_2 : decode cX3_plateOn 2 = .ok (.istore_n 3, 1) := dk_62 (dk_at dksX3_plateOn_0 2 rfl rfl)
theorem dX3_plateOn_3 : decode cX3_plateOn 3 = .ok (.iconst 0, 1) := dk_3 (dk_at dksX3_plateOn_0 3 rfl rfl)
theorem dX3_plateOn_4 : decode cX3_plateOn 4 = .ok (.istore 4, 2) := dk_54 4 (dk_at dksX3_plateOn_0 4 rfl rfl)
theorem dX3_plateOn_6 : decode cX3_plateOn 6 = .ok (.iload 4, 2) := dk_21 4 (dk_at dksX3_plateOn_0 6 rfl rfl)
theorem dX3_plateOn_8 : decode cX3_plateOn 8 = .ok (.aload_n 0, 1) := dk_42 (dk_at dksX3_plateOn_0 8 rfl rfl)
theorem dX3_plateOn_9 : decode cX3_plateOn 9 = .ok (.iconst 1, 1) := dk_4 (dk_at dksX3_plateOn_0 9 rfl rfl)
theorem dX3_plateOn_10 : decode cX3_plateOn 10 = .ok (.iaload, 1) := dk_46 (dk_at dksX3_plateOn_0 10 rfl rfl)
theorem dX3_plateOn_11 : decode cX3_plateOn 11 = .ok (.if_icmp .ge 62, 3) := dk_162 0 62 (dk_at dksX3_plateOn_0 11 rfl rfl)
theorem dX3_plateOn_14 : decode cX3_plateOn 14 = .ok (.aload_n 0, 1) := dk_42 (dk_at dksX3_plateOn_0 14 rfl rfl)
theorem dX3_plateOn_15 : decode cX3_plateOn 15 = .ok (.iload 4, 2) := dk_21 4 (dk_at dksX3_plateOn_0 15 rfl rfl)
theorem dX3_plateOn_17 : decode cX3_plateOn 17 = .ok (.iconst 2, 1) := dk_5 (dk_at dksX3_plateOn_0 17 rfl rfl)
theorem dX3_plateOn_18 : decode cX3_plateOn 18 = .ok (.invokestatic 53, 3) := dk_184 0 53 (dk_at dksX3_plateOn_0 18 rfl rfl)
theorem dX3_plateOn_21 : decode cX3_plateOn 21 = .ok (.iconst 2, 1) := dk_5 (dk_at dksX3_plateOn_0 21 rfl rfl)
theorem dX3_plateOn_22 : decode cX3_plateOn 22 = .ok (.if_icmp .ne 30, 3) := dk_160 0 30 (dk_at dksX3_plateOn_1 0 rfl rfl)
theorem dX3_plateOn_25 : decode cX3_plateOn 25 = .ok (.aload_n 0, 1) := dk_42 (dk_at dksX3_plateOn_1 3 rfl rfl)
theorem dX3_plateOn_26 : decode cX3_plateOn 26 = .ok (.iload 4, 2) := dk_21 4 (dk_at dksX3_plateOn_1 4 rfl rfl)
theorem dX3_plateOn_28 : decode cX3_plateOn 28 = .ok (.iconst 5, 1) := dk_8 (dk_at dksX3_plateOn_1 6 rfl rfl)
theorem dX3_plateOn_29 : decode cX3_plateOn 29 = .ok (.invokestatic 53, 3) := dk_184 0 53 (dk_at dksX3_plateOn_1 7 rfl rfl)
theorem dX3_plateOn_32 : decode cX3_plateOn 32 = .ok (.iload_n 1, 1) := dk_27 (dk_at dksX3_plateOn_1 10 rfl rfl)
theorem dX3_plateOn_33 : decode cX3_plateOn 33 = .ok (.if_icmp .ne 19, 3) := dk_160 0 19 (dk_at dksX3_plateOn_1 11 rfl rfl)
theorem dX3_plateOn_36 : decode cX3_plateOn 36 = .ok (.aload_n 0, 1) := dk_42 (dk_at dksX3_plateOn_1 14 rfl rfl)
theorem dX3_plateOn_37 : decode cX3_plateOn 37 = .ok (.iload 4, 2) := dk_21 4 (dk_at dksX3_plateOn_1 15 rfl rfl)
theorem dX3_plateOn_39 : decode cX3_plateOn 39 = .ok (.bipush 6, 2) := dk_16 6 (dk_at dksX3_plateOn_1 17 rfl rfl)
theorem dX3_plateOn_41 : decode cX3_plateOn 41 = .ok (.invokestatic 53, 3) := dk_184 0 53 (dk_at dksX3_plateOn_1 19 rfl rfl)
theorem dX3_plateOn_44 : decode cX3_plateOn 44 = .ok (.iload_n 2, 1) := dk_28 (dk_at dksX3_plateOn_1 22 rfl rfl)
theorem dX3_plateOn_45 : decode cX3_plateOn 45 = .ok (.if_icmp .ne 7, 3) := dk_160 0 7 (dk_at dksX3_plateOn_2 0 rfl rfl)
theorem dX3_plateOn_48 : decode cX3_plateOn 48 = .ok (.iconst 1, 1) := dk_4 (dk_at dksX3_plateOn_2 3 rfl rfl)
theorem dX3_plateOn_49 : decode cX3_plateOn 49 = .ok (.goto 4, 3) := dk_167 0 4 (dk_at dksX3_plateOn_2 4 rfl rfl)
theorem dX3_plateOn_52 : decode cX3_plateOn 52 = .ok (.iconst 0, 1) := dk_3 (dk_at dksX3_plateOn_2 7 rfl rfl)
theorem dX3_plateOn_53 : decode cX3_plateOn 53 = .ok (.istore 5, 2) := dk_54 5 (dk_at dksX3_plateOn_2 8 rfl rfl)
theorem dX3_plateOn_55 : decode cX3_plateOn 55 = .ok (.iload 5, 2) := dk_21 5 (dk_at dksX3_plateOn_2 10 rfl rfl)
theorem dX3_plateOn_57 : decode cX3_plateOn 57 = .ok (.ifCond .eq 8, 3) := dk_153 0 8 (dk_at dksX3_plateOn_2 12 rfl rfl)
theorem dX3_plateOn_60 : decode cX3_plateOn 60 = .ok (.iload 4, 2) := dk_21 4 (dk_at dksX3_plateOn_2 15 rfl rfl)
theorem dX3_plateOn_62 : decode cX3_plateOn 62 = .ok (.goto 4, 3) := dk_167 0 4 (dk_at dksX3_plateOn_2 17 rfl rfl)
theorem dX3_plateOn_65 : decode cX3_plateOn 65 = .ok (.iload_n 3, 1) := dk_29 (dk_at dksX3_plateOn_2 20 rfl rfl)
theorem dX3_plateOn_66 : decode cX3_plateOn 66 = .ok (.istore_n 3, 1) := dk_62 (dk_at dksX3_plateOn_2 21 rfl rfl)
theorem dX3_plateOn_67 : decode cX3_plateOn 67 = .ok (.iinc 4 1, 3) := dk_132 4 1 (dk_at dksX3_plateOn_3 0 rfl rfl)
theorem dX3_plateOn_70 : decode cX3_plateOn 70 = .ok (.goto (-64), 3) := dk_167 255 192 (dk_at dksX3_plateOn_3 3 rfl rfl)
theorem dX3_plateOn_73 : decode cX3_plateOn 73 = .ok (.iload_n 3, 1) := dk_29 (dk_at dksX3_plateOn_3 6 rfl rfl)
theorem dX3_plateOn_74 : decode cX3_plateOn 74 = .ok (.ireturn, 1) := dk_172 (dk_at dksX3_plateOn_3 7 rfl rfl)
abbrev cX3_append : ByteArray := prog_10_method_34_code
def yX3_append : MethodName := ⟨RX3, "append", "(I)I"⟩
def dkwX3_append_2 : List UInt8 := [181, 0, 50, 42, 180, 0, 50, 172]
abbrev dktX3_append_2 : List UInt8 := dkwX3_append_2 ++ []
def dkwX3_append_1 : List UInt8 := [160, 0, 6, 16, 253, 172, 42, 180, 0, 19, 42, 180, 0, 50, 27, 79, 42, 89, 180, 0, 50, 4, 96]
abbrev dktX3_append_1 : List UInt8 := dkwX3_append_1 ++ dktX3_append_2
def dkwX3_append_0 : List UInt8 := [42, 3, 181, 0, 31, 27, 16, 97, 16, 122, 184, 0, 38, 154, 0, 5, 2, 172, 42, 180, 0, 50, 16, 12]
abbrev dktX3_append_0 : List UInt8 := dkwX3_append_0 ++ dktX3_append_1
theorem dksX3_append_0 : cX3_append.data.toList.drop 0 = dktX3_append_0 := by decide +kernel
theorem dksX3_append_1 : cX3_append.data.toList.drop 24 = dktX3_append_1 := dk_seg dksX3_append_0 24 rfl rfl
theorem dksX3_append_2 : cX3_append.data.toList.drop 47 = dktX3_append_2 := dk_seg dksX3_append_1 23 rfl rfl
theorem dX3_append_0 : decode cX3_append 0 = .ok (.aload_n 0, 1) := dk_42 (dk_at dksX3_append_0 0 rfl rfl)
theorem dX3_append_1 : decode cX3_append 1 = .ok (.iconst 0, 1) := dk_3 (dk_at dksX3_append_0 1 rfl rfl)
theorem dX3_append_2 : decode cX3_append 2 = .ok (.putfield 31, 3) := dk_181 0 31 (dk_at dksX3_append_0 2 rfl rfl)
theorem dX3_append_5 : decode cX3_append 5 = .ok (.iload_n 1, 1) := dk_27 (dk_at dksX3_append_0 5 rfl rfl)
theorem dX3_append_6 : decode cX3_append 6 = .ok (.bipush 97, 2) := dk_16 97 (dk_at dksX3_append_0 6 rfl rfl)
theorem dX3_append_8 : decode cX3_append 8 = .ok (.bipush 122, 2) := dk_16 122 (dk_at dksX3_append_0 8 rfl rfl)
theorem dX3_append_10 : decode cX3_append 10 = .ok (.invokestatic 38, 3) := dk_184 0 38 (dk_at dksX3_append_0 10 rfl rfl)
theorem dX3_append_13 : decode cX3_append 13 = .ok (.ifCond .ne 5, 3) := dk_154 0 5 (dk_at dksX3_append_0 13 rfl rfl)
theorem dX3_append_16 : decode cX3_append 16 = .ok (.iconst (-1), 1) := dk_2 (dk_at dksX3_append_0 16 rfl rfl)
theorem dX3_append_17 : decode cX3_append 17 = .ok (.ireturn, 1) := dk_172 (dk_at dksX3_append_0 17 rfl rfl)
theorem dX3_append_18 : decode cX3_append 18 = .ok (.aload_n 0, 1) := dk_42 (dk_at dksX3_append_0 18 rfl rfl)
theorem dX3_append_19 : decode cX3_append 19 = .ok (.getfield 50, 3) := dk_180 0 50 (dk_at dksX3_append_0 19 rfl rfl)
theorem dX3_append_22 : decode cX3_append 22 = .ok (.bipush 12, 2) := dk_16 12 (dk_at dksX3_append_0 22 rfl rfl)
theorem dX3_append_24 : decode cX3_append 24 = .ok (.if_icmp .ne 6, 3) := dk_160 0 6 (dk_at dksX3_append_1 0 rfl rfl)
theorem dX3_append_27 : decode cX3_append 27 = .ok (.bipush (-3), 2) := dk_16 253 (dk_at dksX3_append_1 3 rfl rfl)
theorem dX3_append_29 : decode cX3_append 29 = .ok (.ireturn, 1) := dk_172 (dk_at dksX3_append_1 5 rfl rfl)
theorem dX3_append_30 : decode cX3_append 30 = .ok (.aload_n 0, 1) := dk_42 (dk_at dksX3_append_1 6 rfl rfl)
theorem dX3_append_31 : decode cX3_append 31 = .ok (.getfield 19, 3) := dk_180 0 19 (dk_at dksX3_append_1 7 rfl rfl)
theorem dX3_append_34 : decode cX3_append 34 = .ok (.aload_n 0, 1) := dk_42 (dk_at dksX3_append_1 10 rfl rfl)
theorem dX3_append_35 : decode cX3_append 35 = .ok (.getfield 50, 3) := dk_180 0 50 (dk_at dksX3_append_1 11 rfl rfl)
theorem dX3_append_38 : decode cX3_append 38 = .ok (.iload_n 1, 1) := dk_27 (dk_at dksX3_append_1 14 rfl rfl)
theorem dX3_append_39 : decode cX3_append 39 = .ok (.iastore, 1) := dk_79 (dk_at dksX3_append_1 15 rfl rfl)
theorem dX3_append_40 : decode cX3_append 40 = .ok (.aload_n 0, 1) := dk_42 (dk_at dksX3_append_1 16 rfl rfl)
theorem dX3_append_41 : decode cX3_append 41 = .ok (.dup, 1) := dk_89 (dk_at dksX3_append_1 17 rfl rfl)
theorem dX3_append_42 : decode cX3_append 42 = .ok (.getfield 50, 3) := dk_180 0 50 (dk_at dksX3_append_1 18 rfl rfl)
theorem dX3_append_45 : decode cX3_append 45 = .ok (.iconst 1, 1) := dk_4 (dk_at dksX3_append_1 21 rfl rfl)
theorem dX3_append_46 : decode cX3_append 46 = .ok (.iadd, 1) := dk_96 (dk_at dksX3_append_1 22 rfl rfl)
theorem dX3_append_47 : decode cX3_append 47 = .ok (.putfield 50, 3) := dk_181 0 50 (dk_at dksX3_append_2 0 rfl rfl)
theorem dX3_append_50 : decode cX3_append 50 = .ok (.aload_n 0, 1) := dk_42 (dk_at dksX3_append_2 3 rfl rfl)
theorem dX3_append_51 : decode cX3_append 51 = .ok (.getfield 50, 3) := dk_180 0 50 (dk_at dksX3_append_2 4 rfl rfl)
theorem dX3_append_54 : decode cX3_append 54 = .ok (.ireturn, 1) := dk_172 (dk_at dksX3_append_2 7 rfl rfl)
abbrev cX3_clearText : ByteArray := prog_10_method_35_code
def yX3_clearText : MethodName := ⟨RX3, "clearText", "()I"⟩
def dkwX3_clearText_0 : List UInt8 := [42, 3, 181, 0, 31, 42, 180, 0, 50, 60, 42, 3, 181, 0, 50, 27, 172]
abbrev dktX3_clearText_0 : List UInt8 := dkwX3_clearText_0 ++ []
theorem dksX3_clearText_0 : cX3_clearText.data.toList.drop 0 = dktX3_clearText_0 := by decide +kernel
theorem dX3_clearText_0 : decode cX3_clearText 0 = .ok (.aload_n 0, 1) := dk_42 (dk_at dksX3_clearText_0 0 rfl rfl)
theorem dX3_clearText_1 : decode cX3_clearText 1 = .ok (.iconst 0, 1) := dk_3 (dk_at dksX3_clearText_0 1 rfl rfl)
theorem dX3_clearText_2 : decode cX3_clearText 2 = .ok (.putfield 31, 3) := dk_181 0 31 (dk_at dksX3_clearText_0 2 rfl rfl)
theorem dX3_clearText_5 : decode cX3_clearText 5 = .ok (.aload_n 0, 1) := dk_42 (dk_at dksX3_clearText_0 5 rfl rfl)
theorem dX3_clearText_6 : decode cX3_clearText 6 = .ok (.getfield 50, 3) := dk_180 0 50 (dk_at dksX3_clearText_0 6 rfl rfl)
theorem dX3_clearText_9 : decode cX3_clearText 9 = .ok (.istore_n 1, 1) := dk_60 (dk_at dksX3_clearText_0 9 rfl rfl)
theorem dX3_clearText_10 : decode cX3_clearText 10 = .ok (.aload_n 0, 1) := dk_42 (dk_at dksX3_clearText_0 10 rfl rfl)
theorem dX3_clearText_11 : decode cX3_clearText 11 = .ok (.iconst 0, 1) := dk_3 (dk_at dksX3_clearText_0 11 rfl rfl)
theorem dX3_clearText_12 : decode cX3_clearText 12 = .ok (.putfield 50, 3) := dk_181 0 50 (dk_at dksX3_clearText_0 12 rfl rfl)
theorem dX3_clearText_15 : decode cX3_clearText 15 = .ok (.iload_n 1, 1) := dk_27 (dk_at dksX3_clearText_0 15 rfl rfl)
theorem dX3_clearText_16 : decode cX3_clearText 16 = .ok (.ireturn, 1) := dk_172 (dk_at dksX3_clearText_0 16 rfl rfl)
abbrev cX3_order : ByteArray := prog_10_method_40_code
def yX3_order : MethodName := ⟨RX3, "order", "(IIIII)I"⟩
def dkwX3_order_10 : List UInt8 := [180, 0, 7, 21, 6, 182, 0, 130, 21, 6, 172]
abbrev dktX3_order_10 : List UInt8 := dkwX3_order_10 ++ []
def dkwX3_order_9 : List UInt8 := [160, 0, 13, 42, 180, 0, 7, 184, 0, 126, 167, 0, 9, 42, 180, 0, 7, 5, 46, 54, 6, 42, 42]
abbrev dktX3_order_9 : List UInt8 := dkwX3_order_9 ++ dktX3_order_10
def dkwX3_order_8 : List UInt8 := [3, 79, 132, 6, 1, 167, 255, 216, 42, 180, 0, 28, 16, 18, 3, 79, 42, 3, 181, 0, 50, 21, 5, 4]
abbrev dktX3_order_8 : List UInt8 := dkwX3_order_8 ++ dktX3_order_9
def dkwX3_order_7 : List UInt8 := [16, 6, 21, 6, 96, 21, 6, 42, 180, 0, 50, 162, 0, 13, 42, 180, 0, 19, 21, 6, 46, 167, 0, 4]
abbrev dktX3_order_7 : List UInt8 := dkwX3_order_7 ++ dktX3_order_8
def dkwX3_order_6 : List UInt8 := [180, 0, 28, 8, 42, 180, 0, 50, 79, 3, 54, 6, 21, 6, 16, 12, 162, 0, 39, 42, 180, 0, 28]
abbrev dktX3_order_6 : List UInt8 := dkwX3_order_6 ++ dktX3_order_7
def dkwX3_order_5 : List UInt8 := [42, 180, 0, 28, 5, 29, 79, 42, 180, 0, 28, 6, 21, 4, 79, 42, 180, 0, 28, 7, 21, 5, 79, 42]
abbrev dktX3_order_5 : List UInt8 := dkwX3_order_5 ++ dktX3_order_6
def dkwX3_order_4 : List UInt8 := [160, 0, 6, 16, 253, 172, 42, 182, 0, 102, 42, 180, 0, 28, 3, 27, 79, 42, 180, 0, 28, 4, 28, 79]
abbrev dktX3_order_4 : List UInt8 := dkwX3_order_4 ++ dktX3_order_5
def dkwX3_order_3 : List UInt8 := [160, 0, 12, 42, 27, 28, 182, 0, 122, 153, 0, 6, 16, 254, 172, 42, 180, 0, 7, 5, 46, 16, 10]
abbrev dktX3_order_3 : List UInt8 := dkwX3_order_3 ++ dktX3_order_4
def dkwX3_order_2 : List UInt8 := [154, 0, 5, 2, 172, 42, 180, 0, 50, 153, 0, 26, 42, 180, 0, 7, 27, 28, 184, 0, 99, 16, 247]
abbrev dktX3_order_2 : List UInt8 := dkwX3_order_2 ++ dktX3_order_3
def dkwX3_order_1 : List UInt8 := [184, 0, 38, 153, 0, 23, 21, 4, 4, 8, 184, 0, 38, 153, 0, 13, 21, 5, 3, 4, 184, 0, 38]
abbrev dktX3_order_1 : List UInt8 := dkwX3_order_1 ++ dktX3_order_2
def dkwX3_order_0 : List UInt8 := [42, 3, 181, 0, 31, 42, 27, 182, 0, 116, 153, 0, 39, 28, 184, 0, 119, 153, 0, 32, 29, 4, 7]
abbrev dktX3_order_0 : List UInt8 := dkwX3_order_0 ++ dktX3_order_1
theorem dksX3_order_0 : cX3_order.data.toList.drop 0 = dktX3_order_0 := by decide +kernel
theorem dksX3_order_1 : cX3_order.data.toList.drop 23 = dktX3_order_1 := dk_seg dksX3_order_0 23 rfl rfl
theorem dksX3_order_2 : cX3_order.data.toList.drop 46 = dktX3_order_2 := dk_seg dksX3_order_1 23 rfl rfl
theorem dksX3_order_3 : cX3_order.data.toList.drop 69 = dktX3_order_3 := dk_seg dksX3_order_2 23 rfl rfl
theorem dksX3_order_4 : cX3_order.data.toList.drop 92 = dktX3_order_4 := dk_seg dksX3_order_3 23 rfl rfl
theorem dksX3_order_5 : cX3_order.data.toList.drop 116 = dktX3_order_5 := dk_seg dksX3_order_4 24 rfl rfl
theorem dksX3_order_6 : cX3_order.data.toList.drop 140 = dktX3_order_6 := dk_seg dksX3_order_5 24 rfl rfl
theorem dksX3_order_7 : cX3_order.data.toList.drop 163 = dktX3_order_7 := dk_seg dksX3_order_6 23 rfl rfl
theorem dksX3_order_8 : cX3_order.data.toList.drop 187 = dktX3_order_8 := dk_seg dksX3_order_7 24 rfl rfl
theorem dksX3_order_9 : cX3_order.data.toList.drop 211 = dktX3_order_9 := dk_seg dksX3_order_8 24 rfl rfl
theorem dksX3_order_10 : cX3_order.data.toList.drop 234 = dktX3_order_10 := dk_seg dksX3_order_9 23 rfl rfl
theorem dX3_order_0 : decode cX3_order 0 = .ok (.aload_n 0, 1) := dk_42 (dk_at dksX3_order_0 0 rfl rfl)
theorem dX3_order_1 : decode cX3_order 1 = .ok (.iconst 0, 1) := dk_3 (dk_at dksX3_order_0 1 rfl rfl)
theorem dX3_order_2 : decode cX3_order 2 = .ok (.putfield 31, 3) := dk_181 0 31 (dk_at dksX3_order_0 2 rfl rfl)
theorem dX3_order_5 : decode cX3_order 5 = .ok (.aload_n 0, 1) := dk_42 (dk_at dksX3_order_0 5 rfl rfl)
theorem dX3_order_6 : decode cX3_order 6 = .ok (.iload_n 1, 1) := dk_27 (dk_at dksX3_order_0 6 rfl rfl)
theorem dX3_order_7 : decode cX3_order 7 = .ok (.invokevirtual 116, 3) := dk_182 0 116 (dk_at dksX3_order_0 7 rfl rfl)
theorem dX3_order_10 : decode cX3_order 10 = .ok (.ifCond .eq 39, 3) := dk_153 0 39 (dk_at dksX3_order_0 10 rfl rfl)
theorem dX3_order_13 : decode cX3_order 13 = .ok (.iload_n 2, 1) := dk_28 (dk_at dksX3_order_0 13 rfl rfl)
theorem dX3_order_14 : decode cX3_order 14 = .ok (.invokestatic 119, 3) := dk_184 0 119 (dk_at dksX3_order_0 14 rfl rfl)
theorem dX3_order_17 : decode cX3_order 17 = .ok (.ifCond .eq 32, 3) := dk_153 0 32 (dk_at dksX3_order_0 17 rfl rfl)
theorem dX3_order_20 : decode cX3_order 20 = .ok (.iload_n 3, 1) := dk_29 (dk_at dksX3_order_0 20 rfl rfl)
theorem dX3_order_21 : decode cX3_order 21 = .ok (.iconst 1, 1) := dk_4 (dk_at dksX3_order_0 21 rfl rfl)
theorem dX3_order_22 : decode cX3_order 22 = .ok (.iconst 4, 1) := dk_7 (dk_at dksX3_order_0 22 rfl rfl)
theorem dX3_order_23 : decode cX3_order 23 = .ok (.invokestatic 38, 3) := dk_184 0 38 (dk_at dksX3_order_1 0 rfl rfl)
theorem dX3_order_26 : decode cX3_order 26 = .ok (.ifCond .eq 23, 3) := dk_153 0 23 (dk_at dksX3_order_1 3 rfl rfl)
theorem dX3_order_29 : decode cX3_order 29 = .ok (.iload 4, 2) := dk_21 4 (dk_at dksX3_order_1 6 rfl rfl)
theorem dX3_order_31 : decode cX3_order 31 = .ok (.iconst 1, 1) := dk_4 (dk_at dksX3_order_1 8 rfl rfl)
theorem dX3_order_32 : decode cX3_order 32 = .ok (.iconst 5, 1) := dk_8 (dk_at dksX3_order_1 9 rfl rfl)
theorem dX3_order_33 : decode cX3_order 33 = .ok (.invokestatic 38, 3) := dk_184 0 38 (dk_at dksX3_order_1 10 rfl rfl)
theorem dX3_order_36 : decode cX3_order 36 = .ok (.ifCond .eq 13, 3) := dk_153 0 13 (dk_at dksX3_order_1 13 rfl rfl)
theorem dX3_order_39 : decode cX3_order 39 = .ok (.iload 5, 2) := dk_21 5 (dk_at dksX3_order_1 16 rfl rfl)
theorem dX3_order_41 : decode cX3_order 41 = .ok (.iconst 0, 1) := dk_3 (dk_at dksX3_order_1 18 rfl rfl)
theorem dX3_order_42 : decode cX3_order 42 = .ok (.iconst 1, 1) := dk_4 (dk_at dksX3_order_1 19 rfl rfl)
theorem dX3_order_43 : decode cX3_order 43 = .ok (.invokestatic 38, 3) := dk_184 0 38 (dk_at dksX3_order_1 20 rfl rfl)
theorem dX3_order_46 : decode cX3_order 46 = .ok (.ifCond .ne 5, 3) := dk_154 0 5 (dk_at dksX3_order_2 0 rfl rfl)
theorem dX3_order_49 : decode cX3_order 49 = .ok (.iconst (-1), 1) := dk_2 (dk_at dksX3_order_2 3 rfl rfl)
theorem dX3_order_50 : decode cX3_order 50 = .ok (.ireturn, 1) := dk_172 (dk_at dksX3_order_2 4 rfl rfl)
theorem dX3_order_51 : decode cX3_order 51 = .ok (.aload_n 0, 1) := dk_42 (dk_at dksX3_order_2 5 rfl rfl)
theorem dX3_order_52 : decode cX3_order 52 = .ok (.getfield 50, 3) := dk_180 0 50 (dk_at dksX3_order_2 6 rfl rfl)
theorem dX3_order_55 : decode cX3_order 55 = .ok (.ifCond .eq 26, 3) := dk_153 0 26 (dk_at dksX3_order_2 9 rfl rfl)
theorem dX3_order_58 : decode cX3_order 58 = .ok (.aload_n 0, 1) := dk_42 (dk_at dksX3_order_2 12 rfl rfl)
theorem dX3_order_59 : decode cX3_order 59 = .ok (.getfield 7, 3) := dk_180 0 7 (dk_at dksX3_order_2 13 rfl rfl)
theorem dX3_order_62 : decode cX3_order 62 = .ok (.iload_n 1, 1) := dk_27 (dk_at dksX3_order_2 16 rfl rfl)
theorem dX3_order_63 : decode cX3_order 63 = .ok (.iload_n 2, 1) := dk_28 (dk_at dksX3_order_2 17 rfl rfl)
theorem dX3_order_64 : decode cX3_order 64 = .ok (.invokestatic 99, 3) := dk_184 0 99 (dk_at dksX3_order_2 18 rfl rfl)
theorem dX3_order_67 : decode cX3_order 67 = .ok (.bipush (-9), 2) := dk_16 247 (dk_at dksX3_order_2 21 rfl rfl)
theorem dX3_order_69 : decode cX3_order 69 = .ok (.if_icmp .ne 12, 3) := dk_160 0 12 (dk_at dksX3_order_3 0 rfl rfl)
theorem dX3_order_72 : decode cX3_order 72 = .ok (.aload_n 0, 1) := dk_42 (dk_at dksX3_order_3 3 rfl rfl)
theorem dX3_order_73 : decode cX3_order 73 = .ok (.iload_n 1, 1) := dk_27 (dk_at dksX3_order_3 4 rfl rfl)
theorem dX3_order_74 : decode cX3_order 74 = .ok (.iload_n 2, 1) := dk_28 (dk_at dksX3_order_3 5 rfl rfl)
theorem dX3_order_75 : decode cX3_order 75 = .ok (.invokevirtual 122, 3) := dk_182 0 122 (dk_at dksX3_order_3 6 rfl rfl)
theorem dX3_order_78 : decode cX3_order 78 = .ok (.ifCond .eq 6, 3) := dk_153 0 6 (dk_at dksX3_order_3 9 rfl rfl)
theorem dX3_order_81 : decode cX3_order 81 = .ok (.bipush (-2), 2) := dk_16 254 (dk_at dksX3_order_3 12 rfl rfl)
theorem dX3_order_83 : decode cX3_order 83 = .ok (.ireturn, 1) := dk_172 (dk_at dksX3_order_3 14 rfl rfl)
theorem dX3_order_84 : decode cX3_order 84 = .ok (.aload_n 0, 1) := dk_42 (dk_at dksX3_order_3 15 rfl rfl)
theorem dX3_order_85 : decode cX3_order 85 = .ok (.getfield 7, 3) := dk_180 0 7 (dk_at dksX3_order_3 16 rfl rfl)
theorem dX3_order_88 : decode cX3_order 88 = .ok (.iconst 2, 1) := dk_5 (dk_at dksX3_order_3 19 rfl rfl)
theorem dX3_order_89 : decode cX3_order 89 = .ok (.iaload, 1) := dk_46 (dk_at dksX3_order_3 20 rfl rfl)
theorem dX3_order_90 : decode cX3_order 90 = .ok (.bipush 10, 2) := dk_16 10 (dk_at dksX3_order_3 21 rfl rfl)
theorem dX3_order_92 : decode cX3_order 92 = .ok (.if_icmp .ne 6, 3) := dk_160 0 6 (dk_at dksX3_order_4 0 rfl rfl)
theorem dX3_order_95 : decode cX3_order 95 = .ok (.bipush (-3), 2) := dk_16 253 (dk_at dksX3_order_4 3 rfl rfl)
theorem dX3_order_97 : decode cX3_order 97 = .ok (.ireturn, 1) := dk_172 (dk_at dksX3_order_4 5 rfl rfl)
theorem dX3_order_98 : decode cX3_order 98 = .ok (.aload_n 0, 1) := dk_42 (dk_at dksX3_order_4 6 rfl rfl)
theorem dX3_order_99 : decode cX3_order 99 = .ok (.invokevirtual 102, 3) := dk_182 0 102 (dk_at dksX3_order_4 7 rfl rfl)
theorem dX3_order_102 : decode cX3_order 102 = .ok (.aload_n 0, 1) := dk_42 (dk_at dksX3_order_4 10 rfl rfl)
theorem dX3_order_103 : decode cX3_order 103 = .ok (.getfield 28, 3) := dk_180 0 28 (dk_at dksX3_order_4 11 rfl rfl)
theorem dX3_order_106 : decode cX3_order 106 = .ok (.iconst 0, 1) := dk_3 (dk_at dksX3_order_4 14 rfl rfl)
theorem dX3_order_107 : decode cX3_order 107 = .ok (.iload_n 1, 1) := dk_27 (dk_at dksX3_order_4 15 rfl rfl)
theorem dX3_order_108 : decode cX3_order 108 = .ok (.iastore, 1) := dk_79 (dk_at dksX3_order_4 16 rfl rfl)
theorem dX3_order_109 : decode cX3_order 109 = .ok (.aload_n 0, 1) := dk_42 (dk_at dksX3_order_4 17 rfl rfl)
theorem dX3_order_110 : decode cX3_order 110 = .ok (.getfield 28, 3) := dk_180 0 28 (dk_at dksX3_order_4 18 rfl rfl)
theorem dX3_order_113 : decode cX3_order 113 = .ok (.iconst 1, 1) := dk_4 (dk_at dksX3_order_4 21 rfl rfl)
theorem dX3_order_114 : decode cX3_order 114 = .ok (.iload_n 2, 1) := dk_28 (dk_at dksX3_order_4 22 rfl rfl)
theorem dX3_order_115 : decode cX3_order 115 = .ok (.iastore, 1) := dk_79 (dk_at dksX3_order_4 23 rfl rfl)
theorem dX3_order_116 : decode cX3_order 116 = .ok (.aload_n 0, 1) := dk_42 (dk_at dksX3_order_5 0 rfl rfl)
theorem dX3_order_117 : decode cX3_order 117 = .ok (.getfield 28, 3) := dk_180 0 28 (dk_at dksX3_order_5 1 rfl rfl)
theorem dX3_order_120 : decode cX3_order 120 = .ok (.iconst 2, 1) := dk_5 (dk_at dksX3_order_5 4 rfl rfl)
theorem dX3_order_121 : decode cX3_order 121 = .ok (.iload_n 3, 1) := dk_29 (dk_at dksX3_order_5 5 rfl rfl)
theorem dX3_order_122 : decode cX3_order 122 = .ok (.iastore, 1) := dk_79 (dk_at dksX3_order_5 6 rfl rfl)
theorem dX3_order_123 : decode cX3_order 123 = .ok (.aload_n 0, 1) := dk_42 (dk_at dksX3_order_5 7 rfl rfl)
theorem dX3_order_124 : decode cX3_order 124 = .ok (.getfield 28, 3) := dk_180 0 28 (dk_at dksX3_order_5 8 rfl rfl)
theorem dX3_order_127 : decode cX3_order 127 = .ok (.iconst 3, 1) := dk_6 (dk_at dksX3_order_5 11 rfl rfl)
theorem dX3_order_128 : decode cX3_order 128 = .ok (.iload 4, 2) := dk_21 4 (dk_at dksX3_order_5 12 rfl rfl)
theorem dX3_order_130 : decode cX3_order 130 = .ok (.iastore, 1) := dk_79 (dk_at dksX3_order_5 14 rfl rfl)
theorem dX3_order_131 : decode cX3_order 131 = .ok (.aload_n 0, 1) := dk_42 (dk_at dksX3_order_5 15 rfl rfl)
theorem dX3_order_132 : decode cX3_order 132 = .ok (.getfield 28, 3) := dk_180 0 28 (dk_at dksX3_order_5 16 rfl rfl)
theorem dX3_order_135 : decode cX3_order 135 = .ok (.iconst 4, 1) := dk_7 (dk_at dksX3_order_5 19 rfl rfl)
theorem dX3_order_136 : decode cX3_order 136 = .ok (.iload 5, 2) := dk_21 5 (dk_at dksX3_order_5 20 rfl rfl)
theorem dX3_order_138 : decode cX3_order 138 = .ok (.iastore, 1) := dk_79 (dk_at dksX3_order_5 22 rfl rfl)
theorem dX3_order_139 : decode cX3_order 139 = .ok (.aload_n 0, 1) := dk_42 (dk_at dksX3_order_5 23 rfl rfl)
theorem dX3_order_140 : decode cX3_order 140 = .ok (.getfield 28, 3) := dk_180 0 28 (dk_at dksX3_order_6 0 rfl rfl)
theorem dX3_order_143 : decode cX3_order 143 = .ok (.iconst 5, 1) := dk_8 (dk_at dksX3_order_6 3 rfl rfl)
theorem dX3_order_144 : decode cX3_order 144 = .ok (.aload_n 0, 1) := dk_42 (dk_at dksX3_order_6 4 rfl rfl)
theorem dX3_order_145 : decode cX3_order 145 = .ok (.getfield 50, 3) := dk_180 0 50 (dk_at dksX3_order_6 5 rfl rfl)
theorem dX3_order_148 : decode cX3_order 148 = .ok (.iastore, 1) := dk_79 (dk_at dksX3_order_6 8 rfl rfl)
theorem dX3_order_149 : decode cX3_order 149 = .ok (.iconst 0, 1) := dk_3 (dk_at dksX3_order_6 9 rfl rfl)
theorem dX3_order_150 : decode cX3_order 150 = .ok (.istore 6, 2) := dk_54 6 (dk_at dksX3_order_6 10 rfl rfl)
theorem dX3_order_152 : decode cX3_order 152 = .ok (.iload 6, 2) := dk_21 6 (dk_at dksX3_order_6 12 rfl rfl)
theorem dX3_order_154 : decode cX3_order 154 = .ok (.bipush 12, 2) := dk_16 12 (dk_at dksX3_order_6 14 rfl rfl)
theorem dX3_order_156 : decode cX3_order 156 = .ok (.if_icmp .ge 39, 3) := dk_162 0 39 (dk_at dksX3_order_6 16 rfl rfl)
theorem dX3_order_159 : decode cX3_order 159 = .ok (.aload_n 0, 1) := dk_42 (dk_at dksX3_order_6 19 rfl rfl)
theorem dX3_order_160 : decode cX3_order 160 = .ok (.getfield 28, 3) := dk_180 0 28 (dk_at dksX3_order_6 20 rfl rfl)
theorem dX3_order_163 : decode cX3_order 163 = .ok (.bipush 6, 2) := dk_16 6 (dk_at dksX3_order_7 0 rfl rfl)
theorem dX3_order_165 : decode cX3_order 165 = .ok (.iload 6, 2) := dk_21 6 (dk_at dksX3_order_7 2 rfl rfl)
theorem dX3_order_167 : decode cX3_order 167 = .ok (.iadd, 1) := dk_96 (dk_at dksX3_order_7 4 rfl rfl)
theorem dX3_order_168 : decode cX3_order 168 = .ok (.iload 6, 2) := dk_21 6 (dk_at dksX3_order_7 5 rfl rfl)
theorem dX3_order_170 : decode cX3_order 170 = .ok (.aload_n 0, 1) := dk_42 (dk_at dksX3_order_7 7 rfl rfl)
theorem dX3_order_171 : decode cX3_order 171 = .ok (.getfield 50, 3) := dk_180 0 50 (dk_at dksX3_order_7 8 rfl rfl)
theorem dX3_order_174 : decode cX3_order 174 = .ok (.if_icmp .ge 13, 3) := dk_162 0 13 (dk_at dksX3_order_7 11 rfl rfl)
theorem dX3_order_177 : decode cX3_order 177 = .ok (.aload_n 0, 1) := dk_42 (dk_at dksX3_order_7 14 rfl rfl)
theorem dX3_order_178 : decode cX3_order 178 = .ok (.getfield 19, 3) := dk_180 0 19 (dk_at dksX3_order_7 15 rfl rfl)
theorem dX3_order_181 : decode cX3_order 181 = .ok (.iload 6, 2) := dk_21 6 (dk_at dksX3_order_7 18 rfl rfl)
theorem dX3_order_183 : decode cX3_order 183 = .ok (.iaload, 1) := dk_46 (dk_at dksX3_order_7 20 rfl rfl)
theorem dX3_order_184 : decode cX3_order 184 = .ok (.goto 4, 3) := dk_167 0 4 (dk_at dksX3_order_7 21 rfl rfl)
theorem dX3_order_187 : decode cX3_order 187 = .ok (.iconst 0, 1) := dk_3 (dk_at dksX3_order_8 0 rfl rfl)
theorem dX3_order_188 : decode cX3_order 188 = .ok (.iastore, 1) := dk_79 (dk_at dksX3_order_8 1 rfl rfl)
theorem dX3_order_189 : decode cX3_order 189 = .ok (.iinc 6 1, 3) := dk_132 6 1 (dk_at dksX3_order_8 2 rfl rfl)
theorem dX3_order_192 : decode cX3_order 192 = .ok (.goto (-40), 3) := dk_167 255 216 (dk_at dksX3_order_8 5 rfl rfl)
theorem dX3_order_195 : decode cX3_order 195 = .ok (.aload_n 0, 1) := dk_42 (dk_at dksX3_order_8 8 rfl rfl)
theorem dX3_order_196 : decode cX3_order 196 = .ok (.getfield 28, 3) := dk_180 0 28 (dk_at dksX3_order_8 9 rfl rfl)
theorem dX3_order_199 : decode cX3_order 199 = .ok (.bipush 18, 2) := dk_16 18 (dk_at dksX3_order_8 12 rfl rfl)
theorem dX3_order_201 : decode cX3_order 201 = .ok (.iconst 0, 1) := dk_3 (dk_at dksX3_order_8 14 rfl rfl)
theorem dX3_order_202 : decode cX3_order 202 = .ok (.iastore, 1) := dk_79 (dk_at dksX3_order_8 15 rfl rfl)
theorem dX3_order_203 : decode cX3_order 203 = .ok (.aload_n 0, 1) := dk_42 (dk_at dksX3_order_8 16 rfl rfl)
theorem dX3_order_204 : decode cX3_order 204 = .ok (.iconst 0, 1) := dk_3 (dk_at dksX3_order_8 17 rfl rfl)
theorem dX3_order_205 : decode cX3_order 205 = .ok (.putfield 50, 3) := dk_181 0 50 (dk_at dksX3_order_8 18 rfl rfl)
theorem dX3_order_208 : decode cX3_order 208 = .ok (.iload 5, 2) := dk_21 5 (dk_at dksX3_order_8 21 rfl rfl)
theorem dX3_order_210 : decode cX3_order 210 = .ok (.iconst 1, 1) := dk_4 (dk_at dksX3_order_8 23 rfl rfl)
theorem dX3_order_211 : decode cX3_order 211 = .ok (.if_icmp .ne 13, 3) := dk_160 0 13 (dk_at dksX3_order_9 0 rfl rfl)
theorem dX3_order_214 : decode cX3_order 214 = .ok (.aload_n 0, 1) := dk_42 (dk_at dksX3_order_9 3 rfl rfl)
theorem dX3_order_215 : decode cX3_order 215 = .ok (.getfield 7, 3) := dk_180 0 7 (dk_at dksX3_order_9 4 rfl rfl)
theorem dX3_order_218 : decode cX3_order 218 = .ok (.invokestatic 126, 3) := dk_184 0 126 (dk_at dksX3_order_9 7 rfl rfl)
theorem dX3_order_221 : decode cX3_order 221 = .ok (.goto 9, 3) := dk_167 0 9 (dk_at dksX3_order_9 10 rfl rfl)
theorem dX3_order_224 : decode cX3_order 224 = .ok (.aload_n 0, 1) := dk_42 (dk_at dksX3_order_9 13 rfl rfl)
theorem dX3_order_225 : decode cX3_order 225 = .ok (.getfield 7, 3) := dk_180 0 7 (dk_at dksX3_order_9 14 rfl rfl)
theorem dX3_order_228 : decode cX3_order 228 = .ok (.iconst 2, 1) := dk_5 (dk_at dksX3_order_9 17 rfl rfl)
theorem dX3_order_229 : decode cX3_order 229 = .ok (.iaload, 1) := dk_46 (dk_at dksX3_order_9 18 rfl rfl)
theorem dX3_order_230 : decode cX3_order 230 = .ok (.istore 6, 2) := dk_54 6 (dk_at dksX3_order_9 19 rfl rfl)
theorem dX3_order_232 : decode cX3_order 232 = .ok (.aload_n 0, 1) := dk_42 (dk_at dksX3_order_9 21 rfl rfl)
theorem dX3_order_233 : decode cX3_order 233 = .ok (.aload_n 0, 1) := dk_42 (dk_at dksX3_order_9 22 rfl rfl)
theorem dX3_order_234 : decode cX3_order 234 = .ok (.getfield 7, 3) := dk_180 0 7 (dk_at dksX3_order_10 0 rfl rfl)
theorem dX3_order_237 : decode cX3_order 237 = .ok (.iload 6, 2) := dk_21 6 (dk_at dksX3_order_10 3 rfl rfl)
theorem dX3_order_239 : decode cX3_order 239 = .ok (.invokevirtual 130, 3) := dk_182 0 130 (dk_at dksX3_order_10 5 rfl rfl)
theorem dX3_order_242 : decode cX3_order 242 = .ok (.iload 6, 2) := dk_21 6 (dk_at dksX3_order_10 8 rfl rfl)
theorem dX3_order_244 : decode cX3_order 244 = .ok (.ireturn, 1) := dk_172 (dk_at dksX3_order_10 10 rfl rfl)
abbrev cX3_isOrdered : ByteArray := prog_10_method_37_code
def yX3_isOrdered : MethodName := ⟨RX3, "isOrdered", "(II)Z"⟩
def dkwX3_isOrdered_2 : List UInt8 := [4, 167, 0, 4, 3, 62, 132, 4, 1, 167, 255, 204, 29, 172]
abbrev dktX3_isOrdered_2 : List UInt8 := dkwX3_isOrdered_2 ++ []
def dkwX3_isOrdered_1 : List UInt8 := [21, 4, 3, 184, 0, 42, 27, 160, 0, 21, 42, 180, 0, 7, 21, 4, 4, 184, 0, 42, 28, 160, 0, 7]
abbrev dktX3_isOrdered_1 : List UInt8 := dkwX3_isOrdered_1 ++ dktX3_isOrdered_2
def dkwX3_isOrdered_0 : List UInt8 := [3, 62, 3, 54, 4, 21, 4, 42, 180, 0, 7, 5, 46, 162, 0, 47, 29, 154, 0, 31, 42, 180, 0, 7]
abbrev dktX3_isOrdered_0 : List UInt8 := dkwX3_isOrdered_0 ++ dktX3_isOrdered_1
theorem dksX3_isOrdered_0 : cX3_isOrdered.data.toList.drop 0 = dktX3_isOrdered_0 := by decide +kernel
theorem dksX3_isOrdered_1 : cX3_isOrdered.data.toList.drop 24 = dktX3_isOrdered_1 := dk_seg dksX3_isOrdered_0 24 rfl rfl
theorem dksX3_isOrdered_2 : cX3_isOrdered.data.toList.drop 48 = dktX3_isOrdered_2 := dk_seg dksX3_isOrdered_1 24 rfl rfl
theorem dX3_isOrdered_0 : decode cX3_isOrdered 0 = .ok (.iconst 0, 1) := dk_3 (dk_at dksX3_isOrdered_0 0 rfl rfl)
theorem dX3_isOrdered_1 : decode cX3_isOrdered 1 = .ok (.istore_n 3, 1) := dk_62 (dk_at dksX3_isOrdered_0 1 rfl rfl)
theorem dX3_isOrdered_2 : decode cX3_isOrdered 2 = .ok (.iconst 0, 1) := dk_3 (dk_at dksX3_isOrdered_0 2 rfl rfl)
theorem dX3_isOrdered_3 : decode cX3_isOrdered 3 = .ok (.istore 4, 2) := dk_54 4 (dk_at dksX3_isOrdered_0 3 rfl rfl)
theorem dX3_isOrdered_5 : decode cX3_isOrdered 5 = .ok (.iload 4, 2) := dk_21 4 (dk_at dksX3_isOrdered_0 5 rfl rfl)
theorem dX3_isOrdered_7 : decode cX3_isOrdered 7 = .ok (.aload_n 0, 1) := dk_42 (dk_at dksX3_isOrdered_0 7 rfl rfl)
theorem dX3_isOrdered_8 : decode cX3_isOrdered 8 = .ok (.getfield 7, 3) := dk_180 0 7 (dk_at dksX3_isOrdered_0 8 rfl rfl)
theorem dX3_isOrdered_11 : decode cX3_isOrdered 11 = .ok (.iconst 2, 1) := dk_5 (dk_at dksX3_isOrdered_0 11 rfl rfl)
theorem dX3_isOrdered_12 : decode cX3_isOrdered 12 = .ok (.iaload, 1) := dk_46 (dk_at dksX3_isOrdered_0 12 rfl rfl)
theorem dX3_isOrdered_13 : decode cX3_isOrdered 13 = .ok (.if_icmp .ge 47, 3) := dk_162 0 47 (dk_at dksX3_isOrdered_0 13 rfl rfl)
theorem dX3_isOrdered_16 : decode cX3_isOrdered 16 = .ok (.iload_n 3, 1) := dk_29 (dk_at dksX3_isOrdered_0 16 rfl rfl)
theorem dX3_isOrdered_17 : decode cX3_isOrdered 17 = .ok (.ifCond .ne 31, 3) := dk_154 0 31 (dk_at dksX3_isOrdered_0 17 rfl rfl)
theorem dX3_isOrdered_20 : decode cX3_isOrdered 20 = .ok (.aload_n 0, 1) := dk_42 (dk_at dksX3_isOrdered_0 20 rfl rfl)
theorem dX3_isOrdered_21 : decode cX3_isOrdered 21 = .ok (.getfield 7, 3) := dk_180 0 7 (dk_at dksX3_isOrdered_0 21 rfl rfl)
theorem dX3_isOrdered_24 : decode cX3_isOrdered 24 = .ok (.iload 4, 2) := dk_21 4 (dk_at dksX3_isOrdered_1 0 rfl rfl)
theorem dX3_isOrdered_26 : decode cX3_isOrdered 26 = .ok (.iconst 0, 1) := dk_3 (dk_at dksX3_isOrdered_1 2 rfl rfl)
theorem dX3_isOrdered_27 : decode cX3_isOrdered 27 = .ok (.invokestatic 42, 3) := dk_184 0 42 (dk_at dksX3_isOrdered_1 3 rfl rfl)
theorem dX3_isOrdered_30 : decode cX3_isOrdered 30 = .ok (.iload_n 1, 1) := dk_27 (dk_at dksX3_isOrdered_1 6 rfl rfl)
theorem dX3_isOrdered_31 : decode cX3_isOrdered 31 = .ok (.if_icmp .ne 21, 3) := dk_160 0 21 (dk_at dksX3_isOrdered_1 7 rfl rfl)
theorem dX3_isOrdered_34 : decode cX3_isOrdered 34 = .ok (.aload_n 0, 1) := dk_42 (dk_at dksX3_isOrdered_1 10 rfl rfl)
theorem dX3_isOrdered_35 : decode cX3_isOrdered 35 = .ok (.getfield 7, 3) := dk_180 0 7 (dk_at dksX3_isOrdered_1 11 rfl rfl)
theorem dX3_isOrdered_38 : decode cX3_isOrdered 38 = .ok (.iload 4, 2) := dk_21 4 (dk_at dksX3_isOrdered_1 14 rfl rfl)
theorem dX3_isOrdered_40 : decode cX3_isOrdered 40 = .ok (.iconst 1, 1) := dk_4 (dk_at dksX3_isOrdered_1 16 rfl rfl)
theorem dX3_isOrdered_41 : decode cX3_isOrdered 41 = .ok (.invokestatic 42, 3) := dk_184 0 42 (dk_at dksX3_isOrdered_1 17 rfl rfl)
theorem dX3_isOrdered_44 : decode cX3_isOrdered 44 = .ok (.iload_n 2, 1) := dk_28 (dk_at dksX3_isOrdered_1 20 rfl rfl)
theorem dX3_isOrdered_45 : decode cX3_isOrdered 45 = .ok (.if_icmp .ne 7, 3) := dk_160 0 7 (dk_at dksX3_isOrdered_1 21 rfl rfl)
theorem dX3_isOrdered_48 : decode cX3_isOrdered 48 = .ok (.iconst 1, 1) := dk_4 (dk_at dksX3_isOrdered_2 0 rfl rfl)
theorem dX3_isOrdered_49 : decode cX3_isOrdered 49 = .ok (.goto 4, 3) := dk_167 0 4 (dk_at dksX3_isOrdered_2 1 rfl rfl)
theorem dX3_isOrdered_52 : decode cX3_isOrdered 52 = .ok (.iconst 0, 1) := dk_3 (dk_at dksX3_isOrdered_2 4 rfl rfl)
theorem dX3_isOrdered_53 : decode cX3_isOrdered 53 = .ok (.istore_n 3, 1) := dk_62 (dk_at dksX3_isOrdered_2 5 rfl rfl)
theorem dX3_isOrdered_54 : decode cX3_isOrdered 54 = .ok (.iinc 4 1, 3) := dk_132 4 1 (dk_at dksX3_isOrdered_2 6 rfl rfl)
theorem dX3_isOrdered_57 : decode cX3_isOrdered 57 = .ok (.goto (-52), 3) := dk_167 255 204 (dk_at dksX3_isOrdered_2 9 rfl rfl)
theorem dX3_isOrdered_60 : decode cX3_isOrdered 60 = .ok (.iload_n 3, 1) := dk_29 (dk_at dksX3_isOrdered_2 12 rfl rfl)
theorem dX3_isOrdered_61 : decode cX3_isOrdered 61 = .ok (.ireturn, 1) := dk_172 (dk_at dksX3_isOrdered_2 13 rfl rfl)
abbrev cX3_of : ByteArray := prog_10_method_7_code
def yX3_of : MethodName := ⟨RX3, "of", "([III)I"⟩
def dkwX3_of_0 : List UInt8 := [42, 17, 0, 153, 16, 19, 27, 104, 96, 28, 96, 46, 172]
abbrev dktX3_of_0 : List UInt8 := dkwX3_of_0 ++ []
theorem dksX3_of_0 : cX3_of.data.toList.drop 0 = dktX3_of_0 := by decide +kernel
theorem dX3_of_0 : decode cX3_of 0 = .ok (.aload_n 0, 1) := dk_42 (dk_at dksX3_of_0 0 rfl rfl)
theorem dX3_of_1 : decode cX3_of 1 = .ok (.sipush 153, 3) := dk_17 0 153 (dk_at dksX3_of_0 1 rfl rfl)
theorem dX3_of_4 : decode cX3_of 4 = .ok (.bipush 19, 2) := dk_16 19 (dk_at dksX3_of_0 4 rfl rfl)
theorem dX3_of_6 : decode cX3_of 6 = .ok (.iload_n 1, 1) := dk_27 (dk_at dksX3_of_0 6 rfl rfl)
theorem dX3_of_7 : decode cX3_of 7 = .ok (.imul, 1) := dk_104 (dk_at dksX3_of_0 7 rfl rfl)
theorem dX3_of_8 : decode cX3_of 8 = .ok (.iadd, 1) := dk_96 (dk_at dksX3_of_0 8 rfl rfl)
theorem dX3_of_9 : decode cX3_of 9 = .ok (.iload_n 2, 1) := dk_28 (dk_at dksX3_of_0 9 rfl rfl)
theorem dX3_of_10 : decode cX3_of 10 = .ok (.iadd, 1) := dk_96 (dk_at dksX3_of_0 10 rfl rfl)
theorem dX3_of_11 : decode cX3_of 11 = .ok (.iaload, 1) := dk_46 (dk_at dksX3_of_0 11 rfl rfl)
theorem dX3_of_12 : decode cX3_of 12 = .ok (.ireturn, 1) := dk_172 (dk_at dksX3_of_0 12 rfl rfl)
abbrev cX3_rushes : ByteArray := prog_10_method_36_code
def yX3_rushes : MethodName := ⟨RX3, "rushes", "([I)I"⟩
def dkwX3_rushes_1 : List UInt8 := [167, 255, 237, 27, 172]
abbrev dktX3_rushes_1 : List UInt8 := dkwX3_rushes_1 ++ []
def dkwX3_rushes_0 : List UInt8 := [3, 60, 3, 61, 28, 42, 5, 46, 162, 0, 18, 27, 42, 28, 7, 184, 0, 42, 96, 60, 132, 2, 1]
abbrev dktX3_rushes_0 : List UInt8 := dkwX3_rushes_0 ++ dktX3_rushes_1
theorem dksX3_rushes_0 : cX3_rushes.data.toList.drop 0 = dktX3_rushes_0 := by decide +kernel
theorem dksX3_rushes_1 : cX3_rushes.data.toList.drop 23 = dktX3_rushes_1 := dk_seg dksX3_rushes_0 23 rfl rfl
theorem dX3_rushes_0 : decode cX3_rushes 0 = .ok (.iconst 0, 1) := dk_3 (dk_at dksX3_rushes_0 0 rfl rfl)
theorem dX3_rushes_1 : decode cX3_rushes 1 = .ok (.istore_n 1, 1) := dk_60 (dk_at dksX3_rushes_0 1 rfl rfl)
theorem dX3_rushes_2 : decode cX3_rushes 2 = .ok (.iconst 0, 1) := dk_3 (dk_at dksX3_rushes_0 2 rfl rfl)
theorem dX3_rushes_3 : decode cX3_rushes 3 = .ok (.istore_n 2, 1) := dk_61 (dk_at dksX3_rushes_0 3 rfl rfl)
theorem dX3_rushes_4 : decode cX3_rushes 4 = .ok (.iload_n 2, 1) := dk_28 (dk_at dksX3_rushes_0 4 rfl rfl)
theorem dX3_rushes_5 : decode cX3_rushes 5 = .ok (.aload_n 0, 1) := dk_42 (dk_at dksX3_rushes_0 5 rfl rfl)
theorem dX3_rushes_6 : decode cX3_rushes 6 = .ok (.iconst 2, 1) := dk_5 (dk_at dksX3_rushes_0 6 rfl rfl)
theorem dX3_rushes_7 : decode cX3_rushes 7 = .ok (.iaload, 1) := dk_46 (dk_at dksX3_rushes_0 7 rfl rfl)
theorem dX3_rushes_8 : decode cX3_rushes 8 = .ok (.if_icmp .ge 18, 3) := dk_162 0 18 (dk_at dksX3_rushes_0 8 rfl rfl)
theorem dX3_rushes_11 : decode cX3_rushes 11 = .ok (.iload_n 1, 1) := dk_27 (dk_at dksX3_rushes_0 11 rfl rfl)
theorem dX3_rushes_12 : decode cX3_rushes 12 = .ok (.aload_n 0, 1) := dk_42 (dk_at dksX3_rushes_0 12 rfl rfl)
theorem dX3_rushes_13 : decode cX3_rushes 13 = .ok (.iload_n 2, 1) := dk_28 (dk_at dksX3_rushes_0 13 rfl rfl)
theorem dX3_rushes_14 : decode cX3_rushes 14 = .ok (.iconst 4, 1) := dk_7 (dk_at dksX3_rushes_0 14 rfl rfl)
theorem dX3_rushes_15 : decode cX3_rushes 15 = .ok (.invokestatic 42, 3) := dk_184 0 42 (dk_at dksX3_rushes_0 15 rfl rfl)
theorem dX3_rushes_18 : decode cX3_rushes 18 = .ok (.iadd, 1) := dk_96 (dk_at dksX3_rushes_0 18 rfl rfl)
theorem dX3_rushes_19 : decode cX3_rushes 19 = .ok (.istore_n 1, 1) := dk_60 (dk_at dksX3_rushes_0 19 rfl rfl)
theorem dX3_rushes_20 : decode cX3_rushes 20 = .ok (.iinc 2 1, 3) := dk_132 2 1 (dk_at dksX3_rushes_0 20 rfl rfl)
theorem dX3_rushes_23 : decode cX3_rushes 23 = .ok (.goto (-19), 3) := dk_167 255 237 (dk_at dksX3_rushes_1 0 rfl rfl)
theorem dX3_rushes_26 : decode cX3_rushes 26 = .ok (.iload_n 1, 1) := dk_27 (dk_at dksX3_rushes_1 3 rfl rfl)
theorem dX3_rushes_27 : decode cX3_rushes 27 = .ok (.ireturn, 1) := dk_172 (dk_at dksX3_rushes_1 4 rfl rfl)
abbrev cX3_putIn : ByteArray := prog_10_method_39_code
def yX3_putIn : MethodName := ⟨RX3, "putIn", "([II)V"⟩
def dkwX3_putIn_4 : List UInt8 := [167, 0, 4, 3, 96, 79, 177]
abbrev dktX3_putIn_4 : List UInt8 := dkwX3_putIn_4 ++ []
def dkwX3_putIn_3 : List UInt8 := [167, 255, 229, 43, 5, 92, 46, 4, 96, 79, 43, 6, 92, 46, 43, 6, 46, 28, 161, 0, 7, 4]
abbrev dktX3_putIn_3 : List UInt8 := dkwX3_putIn_3 ++ dktX3_putIn_4
def dkwX3_putIn_2 : List UInt8 := [162, 0, 27, 43, 17, 0, 153, 16, 19, 28, 104, 96, 29, 96, 42, 180, 0, 28, 29, 46, 79, 132, 3, 1]
abbrev dktX3_putIn_2 : List UInt8 := dkwX3_putIn_2 ++ dktX3_putIn_3
def dkwX3_putIn_1 : List UInt8 := [161, 0, 18, 43, 29, 16, 19, 96, 43, 29, 46, 79, 132, 3, 255, 167, 255, 232, 3, 62, 29, 16, 19]
abbrev dktX3_putIn_1 : List UInt8 := dkwX3_putIn_1 ++ dktX3_putIn_2
def dkwX3_putIn_0 : List UInt8 := [17, 0, 153, 16, 19, 43, 5, 46, 104, 96, 4, 100, 62, 29, 17, 0, 153, 16, 19, 28, 104, 96]
abbrev dktX3_putIn_0 : List UInt8 := dkwX3_putIn_0 ++ dktX3_putIn_1
theorem dksX3_putIn_0 : cX3_putIn.data.toList.drop 0 = dktX3_putIn_0 := by decide +kernel
theorem dksX3_putIn_1 : cX3_putIn.data.toList.drop 22 = dktX3_putIn_1 := dk_seg dksX3_putIn_0 22 rfl rfl
theorem dksX3_putIn_2 : cX3_putIn.data.toList.drop 45 = dktX3_putIn_2 := dk_seg dksX3_putIn_1 23 rfl rfl
theorem dksX3_putIn_3 : cX3_putIn.data.toList.drop 69 = dktX3_putIn_3 := dk_seg dksX3_putIn_2 24 rfl rfl
theorem dksX3_putIn_4 : cX3_putIn.data.toList.drop 91 = dktX3_putIn_4 := dk_seg dksX3_putIn_3 22 rfl rfl
theorem dX3_putIn_0 : decode cX3_putIn 0 = .ok (.sipush 153, 3) := dk_17 0 153 (dk_at dksX3_putIn_0 0 rfl rfl)
theorem dX3_putIn_3 : decode cX3_putIn 3 = .ok (.bipush 19, 2) := dk_16 19 (dk_at dksX3_putIn_0 3 rfl rfl)
theorem dX3_putIn_5 : decode cX3_putIn 5 = .ok (.aload_n 1, 1) := dk_43 (dk_at dksX3_putIn_0 5 rfl rfl)
theorem dX3_putIn_6 : decode cX3_putIn 6 = .ok (.iconst 2, 1) := dk_5 (dk_at dksX3_putIn_0 6 rfl rfl)
theorem dX3_putIn_7 : decode cX3_putIn 7 = .ok (.iaload, 1) := dk_46 (dk_at dksX3_putIn_0 7 rfl rfl)
theorem dX3_putIn_8 : decode cX3_putIn 8 = .ok (.imul, 1) := dk_104 (dk_at dksX3_putIn_0 8 rfl rfl)
theorem dX3_putIn_9 : decode cX3_putIn 9 = .ok (.iadd, 1) := dk_96 (dk_at dksX3_putIn_0 9 rfl rfl)
theorem dX3_putIn_10 : decode cX3_putIn 10 = .ok (.iconst 1, 1) := dk_4 (dk_at dksX3_putIn_0 10 rfl rfl)
theorem dX3_putIn_11 : decode cX3_putIn 11 = .ok (.isub, 1) := dk_100 (dk_at dksX3_putIn_0 11 rfl rfl)
theorem dX3_putIn_12 : decode cX3_putIn 12 = .ok (.istore_n 3, 1) := dk_62 (dk_at dksX3_putIn_0 12 rfl rfl)
theorem dX3_putIn_13 : decode cX3_putIn 13 = .ok (.iload_n 3, 1) := dk_29 (dk_at dksX3_putIn_0 13 rfl rfl)
theorem dX3_putIn_14 : decode cX3_putIn 14 = .ok (.sipush 153, 3) := dk_17 0 153 (dk_at dksX3_putIn_0 14 rfl rfl)
theorem dX3_putIn_17 : decode cX3_putIn 17 = .ok (.bipush 19, 2) := dk_16 19 (dk_at dksX3_putIn_0 17 rfl rfl)
theorem dX3_putIn_19 : decode cX3_putIn 19 = .ok (.iload_n 2, 1) := dk_28 (dk_at dksX3_putIn_0 19 rfl rfl)
theorem dX3_putIn_20 : decode cX3_putIn 20 = .ok (.imul, 1) := dk_104 (dk_at dksX3_putIn_0 20 rfl rfl)
theorem dX3_putIn_21 : decode cX3_putIn 21 = .ok (.iadd, 1) := dk_96 (dk_at dksX3_putIn_0 21 rfl rfl)
theorem dX3_putIn_22 : decode cX3_putIn 22 = .ok (.if_icmp .lt 18, 3) := dk_161 0 18 (dk_at dksX3_putIn_1 0 rfl rfl)
theorem dX3_putIn_25 : decode cX3_putIn 25 = .ok (.aload_n 1, 1) := dk_43 (dk_at dksX3_putIn_1 3 rfl rfl)
theorem dX3_putIn_26 : decode cX3_putIn 26 = .ok (.iload_n 3, 1) := dk_29 (dk_at dksX3_putIn_1 4 rfl rfl)
theorem dX3_putIn_27 : decode cX3_putIn 27 = .ok (.bipush 19, 2) := dk_16 19 (dk_at dksX3_putIn_1 5 rfl rfl)
theorem dX3_putIn_29 : decode cX3_putIn 29 = .ok (.iadd, 1) := dk_96 (dk_at dksX3_putIn_1 7 rfl rfl)
theorem dX3_putIn_30 : decode cX3_putIn 30 = .ok (.aload_n 1, 1) := dk_43 (dk_at dksX3_putIn_1 8 rfl rfl)
theorem dX3_putIn_31 : decode cX3_putIn 31 = .ok (.iload_n 3, 1) := dk_29 (dk_at dksX3_putIn_1 9 rfl rfl)
theorem dX3_putIn_32 : decode cX3_putIn 32 = .ok (.iaload, 1) := dk_46 (dk_at dksX3_putIn_1 10 rfl rfl)
theorem dX3_putIn_33 : decode cX3_putIn 33 = .ok (.iastore, 1) := dk_79 (dk_at dksX3_putIn_1 11 rfl rfl)
theorem dX3_putIn_34 : decode cX3_putIn 34 = .ok (.iinc 3 (-1), 3) := dk_132 3 255 (dk_at dksX3_putIn_1 12 rfl rfl)
theorem dX3_putIn_37 : decode cX3_putIn 37 = .ok (.goto (-24), 3) := dk_167 255 232 (dk_at dksX3_putIn_1 15 rfl rfl)
theorem dX3_putIn_40 : decode cX3_putIn 40 = .ok (.iconst 0, 1) := dk_3 (dk_at dksX3_putIn_1 18 rfl rfl)
theorem dX3_putIn_41 : decode cX3_putIn 41 = .ok (.istore_n 3, 1) := dk_62 (dk_at dksX3_putIn_1 19 rfl rfl)
theorem dX3_putIn_42 : decode cX3_putIn 42 = .ok (.iload_n 3, 1) := dk_29 (dk_at dksX3_putIn_1 20 rfl rfl)
theorem dX3_putIn_43 : decode cX3_putIn 43 = .ok (.bipush 19, 2) := dk_16 19 (dk_at dksX3_putIn_1 21 rfl rfl)
theorem dX3_putIn_45 : decode cX3_putIn 45 = .ok (.if_icmp .ge 27, 3) := dk_162 0 27 (dk_at dksX3_putIn_2 0 rfl rfl)
theorem dX3_putIn_48 : decode cX3_putIn 48 = .ok (.aload_n 1, 1) := dk_43 (dk_at dksX3_putIn_2 3 rfl rfl)
theorem dX3_putIn_49 : decode cX3_putIn 49 = .ok (.sipush 153, 3) := dk_17 0 153 (dk_at dksX3_putIn_2 4 rfl rfl)
theorem dX3_putIn_52 : decode cX3_putIn 52 = .ok (.bipush 19, 2) := dk_16 19 (dk_at dksX3_putIn_2 7 rfl rfl)
theorem dX3_putIn_54 : decode cX3_putIn 54 = .ok (.iload_n 2, 1) := dk_28 (dk_at dksX3_putIn_2 9 rfl rfl)
theorem dX3_putIn_55 : decode cX3_putIn 55 = .ok (.imul, 1) := dk_104 (dk_at dksX3_putIn_2 10 rfl rfl)
theorem dX3_putIn_56 : decode cX3_putIn 56 = .ok (.iadd, 1) := dk_96 (dk_at dksX3_putIn_2 11 rfl rfl)
theorem dX3_putIn_57 : decode cX3_putIn 57 = .ok (.iload_n 3, 1) := dk_29 (dk_at dksX3_putIn_2 12 rfl rfl)
theorem dX3_putIn_58 : decode cX3_putIn 58 = .ok (.iadd, 1) := dk_96 (dk_at dksX3_putIn_2 13 rfl rfl)
theorem dX3_putIn_59 : decode cX3_putIn 59 = .ok (.aload_n 0, 1) := dk_42 (dk_at dksX3_putIn_2 14 rfl rfl)
theorem dX3_putIn_60 : decode cX3_putIn 60 = .ok (.getfield 28, 3) := dk_180 0 28 (dk_at dksX3_putIn_2 15 rfl rfl)
theorem dX3_putIn_63 : decode cX3_putIn 63 = .ok (.iload_n 3, 1) := dk_29 (dk_at dksX3_putIn_2 18 rfl rfl)
theorem dX3_putIn_64 : decode cX3_putIn 64 = .ok (.iaload, 1) := dk_46 (dk_at dksX3_putIn_2 19 rfl rfl)
theorem dX3_putIn_65 : decode cX3_putIn 65 = .ok (.iastore, 1) := dk_79 (dk_at dksX3_putIn_2 20 rfl rfl)
theorem dX3_putIn_66 : decode cX3_putIn 66 = .ok (.iinc 3 1, 3) := dk_132 3 1 (dk_at dksX3_putIn_2 21 rfl rfl)
theorem dX3_putIn_69 : decode cX3_putIn 69 = .ok (.goto (-27), 3) := dk_167 255 229 (dk_at dksX3_putIn_3 0 rfl rfl)
theorem dX3_putIn_72 : decode cX3_putIn 72 = .ok (.aload_n 1, 1) := dk_43 (dk_at dksX3_putIn_3 3 rfl rfl)
theorem dX3_putIn_73 : decode cX3_putIn 73 = .ok (.iconst 2, 1) := dk_5 (dk_at dksX3_putIn_3 4 rfl rfl)
theorem dX3_putIn_74 : decode cX3_putIn 74 = .ok (.dup2, 1) := dk_92 (dk_at dksX3_putIn_3 5 rfl rfl)
theorem dX3_putIn_75 : decode cX3_putIn 75 = .ok (.iaload, 1) := dk_46 (dk_at dksX3_putIn_3 6 rfl rfl)
theorem dX3_putIn_76 : decode cX3_putIn 76 = .ok (.iconst 1, 1) := dk_4 (dk_at dksX3_putIn_3 7 rfl rfl)
theorem dX3_putIn_77 : decode cX3_putIn 77 = .ok (.iadd, 1) := dk_96 (dk_at dksX3_putIn_3 8 rfl rfl)
theorem dX3_putIn_78 : decode cX3_putIn 78 = .ok (.iastore, 1) := dk_79 (dk_at dksX3_putIn_3 9 rfl rfl)
theorem dX3_putIn_79 : decode cX3_putIn 79 = .ok (.aload_n 1, 1) := dk_43 (dk_at dksX3_putIn_3 10 rfl rfl)
theorem dX3_putIn_80 : decode cX3_putIn 80 = .ok (.iconst 3, 1) := dk_6 (dk_at dksX3_putIn_3 11 rfl rfl)
theorem dX3_putIn_81 : decode cX3_putIn 81 = .ok (.dup2, 1) := dk_92 (dk_at dksX3_putIn_3 12 rfl rfl)
theorem dX3_putIn_82 : decode cX3_putIn 82 = .ok (.iaload, 1) := dk_46 (dk_at dksX3_putIn_3 13 rfl rfl)
theorem dX3_putIn_83 : decode cX3_putIn 83 = .ok (.aload_n 1, 1) := dk_43 (dk_at dksX3_putIn_3 14 rfl rfl)
theorem dX3_putIn_84 : decode cX3_putIn 84 = .ok (.iconst 3, 1) := dk_6 (dk_at dksX3_putIn_3 15 rfl rfl)
theorem dX3_putIn_85 : decode cX3_putIn 85 = .ok (.iaload, 1) := dk_46 (dk_at dksX3_putIn_3 16 rfl rfl)
theorem dX3_putIn_86 : decode cX3_putIn 86 = .ok (.iload_n 2, 1) := dk_28 (dk_at dksX3_putIn_3 17 rfl rfl)
theorem dX3_putIn_87 : decode cX3_putIn 87 = .ok (.if_icmp .lt 7, 3) := dk_161 0 7 (dk_at dksX3_putIn_3 18 rfl rfl)
theorem dX3_putIn_90 : decode cX3_putIn 90 = .ok (.iconst 1, 1) := dk_4 (dk_at dksX3_putIn_3 21 rfl rfl)
theorem dX3_putIn_91 : decode cX3_putIn 91 = .ok (.goto 4, 3) := dk_167 0 4 (dk_at dksX3_putIn_4 0 rfl rfl)
theorem dX3_putIn_94 : decode cX3_putIn 94 = .ok (.iconst 0, 1) := dk_3 (dk_at dksX3_putIn_4 3 rfl rfl)
theorem dX3_putIn_95 : decode cX3_putIn 95 = .ok (.iadd, 1) := dk_96 (dk_at dksX3_putIn_4 4 rfl rfl)
theorem dX3_putIn_96 : decode cX3_putIn 96 = .ok (.iastore, 1) := dk_79 (dk_at dksX3_putIn_4 5 rfl rfl)
theorem dX3_putIn_97 : decode cX3_putIn 97 = .ok (.return_, 1) := dk_177 (dk_at dksX3_putIn_4 6 rfl rfl)
abbrev cX3_hurry : ByteArray := prog_10_method_42_code
def yX3_hurry : MethodName := ⟨RX3, "hurry", "(I)I"⟩
def dkwX3_hurry_1 : List UInt8 := [4, 160, 0, 6, 16, 254, 172, 42, 182, 0, 102, 42, 42, 180, 0, 7, 27, 182, 0, 140, 172]
abbrev dktX3_hurry_1 : List UInt8 := dkwX3_hurry_1 ++ []
def dkwX3_hurry_0 : List UInt8 := [42, 3, 181, 0, 31, 42, 27, 182, 0, 137, 154, 0, 5, 2, 172, 42, 180, 0, 7, 27, 7, 184, 0, 42]
abbrev dktX3_hurry_0 : List UInt8 := dkwX3_hurry_0 ++ dktX3_hurry_1
theorem dksX3_hurry_0 : cX3_hurry.data.toList.drop 0 = dktX3_hurry_0 := by decide +kernel
theorem dksX3_hurry_1 : cX3_hurry.data.toList.drop 24 = dktX3_hurry_1 := dk_seg dksX3_hurry_0 24 rfl rfl
theorem dX3_hurry_0 : decode cX3_hurry 0 = .ok (.aload_n 0, 1) := dk_42 (dk_at dksX3_hurry_0 0 rfl rfl)
theorem dX3_hurry_1 : decode cX3_hurry 1 = .ok (.iconst 0, 1) := dk_3 (dk_at dksX3_hurry_0 1 rfl rfl)
theorem dX3_hurry_2 : decode cX3_hurry 2 = .ok (.putfield 31, 3) := dk_181 0 31 (dk_at dksX3_hurry_0 2 rfl rfl)
theorem dX3_hurry_5 : decode cX3_hurry 5 = .ok (.aload_n 0, 1) := dk_42 (dk_at dksX3_hurry_0 5 rfl rfl)
theorem dX3_hurry_6 : decode cX3_hurry 6 = .ok (.iload_n 1, 1) := dk_27 (dk_at dksX3_hurry_0 6 rfl rfl)
theorem dX3_hurry_7 : decode cX3_hurry 7 = .ok (.invokevirtual 137, 3) := dk_182 0 137 (dk_at dksX3_hurry_0 7 rfl rfl)
theorem dX3_hurry_10 : decode cX3_hurry 10 = .ok (.ifCond .ne 5, 3) := dk_154 0 5 (dk_at dksX3_hurry_0 10 rfl rfl)
theorem dX3_hurry_13 : decode cX3_hurry 13 = .ok (.iconst (-1), 1) := dk_2 (dk_at dksX3_hurry_0 13 rfl rfl)
theorem dX3_hurry_14 : decode cX3_hurry 14 = .ok (.ireturn, 1) := dk_172 (dk_at dksX3_hurry_0 14 rfl rfl)
theorem dX3_hurry_15 : decode cX3_hurry 15 = .ok (.aload_n 0, 1) := dk_42 (dk_at dksX3_hurry_0 15 rfl rfl)
theorem dX3_hurry_16 : decode cX3_hurry 16 = .ok (.getfield 7, 3) := dk_180 0 7 (dk_at dksX3_hurry_0 16 rfl rfl)
theorem dX3_hurry_19 : decode cX3_hurry 19 = .ok (.iload_n 1, 1) := dk_27 (dk_at dksX3_hurry_0 19 rfl rfl)
theorem dX3_hurry_20 : decode cX3_hurry 20 = .ok (.iconst 4, 1) := dk_7 (dk_at dksX3_hurry_0 20 rfl rfl)
theorem dX3_hurry_21 : decode cX3_hurry 21 = .ok (.invokestatic 42, 3) := dk_184 0 42 (dk_at dksX3_hurry_0 21 rfl rfl)
theorem dX3_hurry_24 : decode cX3_hurry 24 = .ok (.iconst 1, 1) := dk_4 (dk_at dksX3_hurry_1 0 rfl rfl)
theorem dX3_hurry_25 : decode cX3_hurry 25 = .ok (.if_icmp .ne 6, 3) := dk_160 0 6 (dk_at dksX3_hurry_1 1 rfl rfl)
theorem dX3_hurry_28 : decode cX3_hurry 28 = .ok (.bipush (-2), 2) := dk_16 254 (dk_at dksX3_hurry_1 4 rfl rfl)
theorem dX3_hurry_30 : decode cX3_hurry 30 = .ok (.ireturn, 1) := dk_172 (dk_at dksX3_hurry_1 6 rfl rfl)
theorem dX3_hurry_31 : decode cX3_hurry 31 = .ok (.aload_n 0, 1) := dk_42 (dk_at dksX3_hurry_1 7 rfl rfl)
theorem dX3_hurry_32 : decode cX3_hurry 32 = .ok (.invokevirtual 102, 3) := dk_182 0 102 (dk_at dksX3_hurry_1 8 rfl rfl)
theorem dX3_hurry_35 : decode cX3_hurry 35 = .ok (.aload_n 0, 1) := dk_42 (dk_at dksX3_hurry_1 11 rfl rfl)
theorem dX3_hurry_36 : decode cX3_hurry 36 = .ok (.aload_n 0, 1) := dk_42 (dk_at dksX3_hurry_1 12 rfl rfl)
theorem dX3_hurry_37 : decode cX3_hurry 37 = .ok (.getfield 7, 3) := dk_180 0 7 (dk_at dksX3_hurry_1 13 rfl rfl)
theorem dX3_hurry_40 : decode cX3_hurry 40 = .ok (.iload_n 1, 1) := dk_27 (dk_at dksX3_hurry_1 16 rfl rfl)
theorem dX3_hurry_41 : decode cX3_hurry 41 = .ok (.invokevirtual 140, 3) := dk_182 0 140 (dk_at dksX3_hurry_1 17 rfl rfl)
theorem dX3_hurry_44 : decode cX3_hurry 44 = .ok (.ireturn, 1) := dk_172 (dk_at dksX3_hurry_1 20 rfl rfl)
abbrev cX3_isOrder : ByteArray := prog_10_method_10_code
def yX3_isOrder : MethodName := ⟨RX3, "isOrder", "(I)Z"⟩
def dkwX3_isOrder_0 : List UInt8 := [27, 3, 42, 180, 0, 7, 5, 46, 4, 100, 184, 0, 38, 172]
abbrev dktX3_isOrder_0 : List UInt8 := dkwX3_isOrder_0 ++ []
theorem dksX3_isOrder_0 : cX3_isOrder.data.toList.drop 0 = dktX3_isOrder_0 := by decide +kernel
theorem dX3_isOrder_0 : decode cX3_isOrder 0 = .ok (.iload_n 1, 1) := dk_27 (dk_at dksX3_isOrder_0 0 rfl rfl)
theorem dX3_isOrder_1 : decode cX3_isOrder 1 = .ok (.iconst 0, 1) := dk_3 (dk_at dksX3_isOrder_0 1 rfl rfl)
theorem dX3_isOrder_2 : decode cX3_isOrder 2 = .ok (.aload_n 0, 1) := dk_42 (dk_at dksX3_isOrder_0 2 rfl rfl)
theorem dX3_isOrder_3 : decode cX3_isOrder 3 = .ok (.getfield 7, 3) := dk_180 0 7 (dk_at dksX3_isOrder_0 3 rfl rfl)
theorem dX3_isOrder_6 : decode cX3_isOrder 6 = .ok (.iconst 2, 1) := dk_5 (dk_at dksX3_isOrder_0 6 rfl rfl)
theorem dX3_isOrder_7 : decode cX3_isOrder 7 = .ok (.iaload, 1) := dk_46 (dk_at dksX3_isOrder_0 7 rfl rfl)
theorem dX3_isOrder_8 : decode cX3_isOrder 8 = .ok (.iconst 1, 1) := dk_4 (dk_at dksX3_isOrder_0 8 rfl rfl)
theorem dX3_isOrder_9 : decode cX3_isOrder 9 = .ok (.isub, 1) := dk_100 (dk_at dksX3_isOrder_0 9 rfl rfl)
theorem dX3_isOrder_10 : decode cX3_isOrder 10 = .ok (.invokestatic 38, 3) := dk_184 0 38 (dk_at dksX3_isOrder_0 10 rfl rfl)
theorem dX3_isOrder_13 : decode cX3_isOrder 13 = .ok (.ireturn, 1) := dk_172 (dk_at dksX3_isOrder_0 13 rfl rfl)
abbrev cX3_hurryIn : ByteArray := prog_10_method_41_code
def yX3_hurryIn : MethodName := ⟨RX3, "hurryIn", "([II)I"⟩
def dkwX3_hurryIn_2 : List UInt8 := [21, 4, 167, 0, 6, 43, 6, 46, 79, 21, 4, 172]
abbrev dktX3_hurryIn_2 : List UInt8 := dkwX3_hurryIn_2 ++ []
def dkwX3_hurryIn_1 : List UInt8 := [182, 0, 134, 42, 180, 0, 28, 7, 4, 79, 42, 43, 21, 4, 182, 0, 130, 43, 6, 29, 153, 0, 8]
abbrev dktX3_hurryIn_1 : List UInt8 := dkwX3_hurryIn_1 ++ dktX3_hurryIn_2
def dkwX3_hurryIn_0 : List UInt8 := [43, 6, 46, 28, 160, 0, 7, 4, 167, 0, 4, 3, 62, 43, 184, 0, 126, 54, 4, 42, 43, 28]
abbrev dktX3_hurryIn_0 : List UInt8 := dkwX3_hurryIn_0 ++ dktX3_hurryIn_1
theorem dksX3_hurryIn_0 : cX3_hurryIn.data.toList.drop 0 = dktX3_hurryIn_0 := by decide +kernel
theorem dksX3_hurryIn_1 : cX3_hurryIn.data.toList.drop 22 = dktX3_hurryIn_1 := dk_seg dksX3_hurryIn_0 22 rfl rfl
theorem dksX3_hurryIn_2 : cX3_hurryIn.data.toList.drop 45 = dktX3_hurryIn_2 := dk_seg dksX3_hurryIn_1 23 rfl rfl
theorem dX3_hurryIn_0 : decode cX3_hurryIn 0 = .ok (.aload_n 1, 1) := dk_43 (dk_at dksX3_hurryIn_0 0 rfl rfl)
theorem dX3_hurryIn_1 : decode cX3_hurryIn 1 = .ok (.iconst 3, 1) := dk_6 (dk_at dksX3_hurryIn_0 1 rfl rfl)
theorem dX3_hurryIn_2 : decode cX3_hurryIn 2 = .ok (.iaload, 1) := dk_46 (dk_at dksX3_hurryIn_0 2 rfl rfl)
theorem dX3_hurryIn_3 : decode cX3_hurryIn 3 = .ok (.iload_n 2, 1) := dk_28 (dk_at dksX3_hurryIn_0 3 rfl rfl)
theorem dX3_hurryIn_4 : decode cX3_hurryIn 4 = .ok (.if_icmp .ne 7, 3) := dk_160 0 7 (dk_at dksX3_hurryIn_0 4 rfl rfl)
theorem dX3_hurryIn_7 : decode cX3_hurryIn 7 = .ok (.iconst 1, 1) := dk_4 (dk_at dksX3_hurryIn_0 7 rfl rfl)
theorem dX3_hurryIn_8 : decode cX3_hurryIn 8 = .ok (.goto 4, 3) := dk_167 0 4 (dk_at dksX3_hurryIn_0 8 rfl rfl)
theorem dX3_hurryIn_11 : decode cX3_hurryIn 11 = .ok (.iconst 0, 1) := dk_3 (dk_at dksX3_hurryIn_0 11 rfl rfl)
theorem dX3_hurryIn_12 : decode cX3_hurryIn 12 = .ok (.istore_n 3, 1) := dk_62 (dk_at dksX3_hurryIn_0 12 rfl rfl)
theorem dX3_hurryIn_13 : decode cX3_hurryIn 13 = .ok (.aload_n 1, 1) := dk_43 (dk_at dksX3_hurryIn_0 13 rfl rfl)
theorem dX3_hurryIn_14 : decode cX3_hurryIn 14 = .ok (.invokestatic 126, 3) := dk_184 0 126 (dk_at dksX3_hurryIn_0 14 rfl rfl)
theorem dX3_hurryIn_17 : decode cX3_hurryIn 17 = .ok (.istore 4, 2) := dk_54 4 (dk_at dksX3_hurryIn_0 17 rfl rfl)
theorem dX3_hurryIn_19 : decode cX3_hurryIn 19 = .ok (.aload_n 0, 1) := dk_42 (dk_at dksX3_hurryIn_0 19 rfl rfl)
theorem dX3_hurryIn_20 : decode cX3_hurryIn 20 = .ok (.aload_n 1, 1) := dk_43 (dk_at dksX3_hurryIn_0 20 rfl rfl)
theorem dX3_hurryIn_21 : decode cX3_hurryIn 21 = .ok (.iload_n 2, 1) := dk_28 (dk_at dksX3_hurryIn_0 21 rfl rfl)
theorem dX3_hurryIn_22 : decode cX3_hurryIn 22 = .ok (.invokevirtual 134, 3) := dk_182 0 134 (dk_at dksX3_hurryIn_1 0 rfl rfl)
theorem dX3_hurryIn_25 : decode cX3_hurryIn 25 = .ok (.aload_n 0, 1) := dk_42 (dk_at dksX3_hurryIn_1 3 rfl rfl)
theorem dX3_hurryIn_26 : decode cX3_hurryIn 26 = .ok (.getfield 28, 3) := dk_180 0 28 (dk_at dksX3_hurryIn_1 4 rfl rfl)
theorem dX3_hurryIn_29 : decode cX3_hurryIn 29 = .ok (.iconst 4, 1) := dk_7 (dk_at dksX3_hurryIn_1 7 rfl rfl)
theorem dX3_hurryIn_30 : decode cX3_hurryIn 30 = .ok (.iconst 1, 1) := dk_4 (dk_at dksX3_hurryIn_1 8 rfl rfl)
theorem dX3_hurryIn_31 : decode cX3_hurryIn 31 = .ok (.iastore, 1) := dk_79 (dk_at dksX3_hurryIn_1 9 rfl rfl)
theorem dX3_hurryIn_32 : decode cX3_hurryIn 32 = .ok (.aload_n 0, 1) := dk_42 (dk_at dksX3_hurryIn_1 10 rfl rfl)
theorem dX3_hurryIn_33 : decode cX3_hurryIn 33 = .ok (.aload_n 1, 1) := dk_43 (dk_at dksX3_hurryIn_1 11 rfl rfl)
theorem dX3_hurryIn_34 : decode cX3_hurryIn 34 = .ok (.iload 4, 2) := dk_21 4 (dk_at dksX3_hurryIn_1 12 rfl rfl)
theorem dX3_hurryIn_36 : decode cX3_hurryIn 36 = .ok (.invokevirtual 130, 3) := dk_182 0 130 (dk_at dksX3_hurryIn_1 14 rfl rfl)
theorem dX3_hurryIn_39 : decode cX3_hurryIn 39 = .ok (.aload_n 1, 1) := dk_43 (dk_at dksX3_hurryIn_1 17 rfl rfl)
theorem dX3_hurryIn_40 : decode cX3_hurryIn 40 = .ok (.iconst 3, 1) := dk_6 (dk_at dksX3_hurryIn_1 18 rfl rfl)
theorem dX3_hurryIn_41 : decode cX3_hurryIn 41 = .ok (.iload_n 3, 1) := dk_29 (dk_at dksX3_hurryIn_1 19 rfl rfl)
theorem dX3_hurryIn_42 : decode cX3_hurryIn 42 = .ok (.ifCond .eq 8, 3) := dk_153 0 8 (dk_at dksX3_hurryIn_1 20 rfl rfl)
theorem dX3_hurryIn_45 : decode cX3_hurryIn 45 = .ok (.iload 4, 2) := dk_21 4 (dk_at dksX3_hurryIn_2 0 rfl rfl)
theorem dX3_hurryIn_47 : decode cX3_hurryIn 47 = .ok (.goto 6, 3) := dk_167 0 6 (dk_at dksX3_hurryIn_2 2 rfl rfl)
theorem dX3_hurryIn_50 : decode cX3_hurryIn 50 = .ok (.aload_n 1, 1) := dk_43 (dk_at dksX3_hurryIn_2 5 rfl rfl)
theorem dX3_hurryIn_51 : decode cX3_hurryIn 51 = .ok (.iconst 3, 1) := dk_6 (dk_at dksX3_hurryIn_2 6 rfl rfl)
theorem dX3_hurryIn_52 : decode cX3_hurryIn 52 = .ok (.iaload, 1) := dk_46 (dk_at dksX3_hurryIn_2 7 rfl rfl)
theorem dX3_hurryIn_53 : decode cX3_hurryIn 53 = .ok (.iastore, 1) := dk_79 (dk_at dksX3_hurryIn_2 8 rfl rfl)
theorem dX3_hurryIn_54 : decode cX3_hurryIn 54 = .ok (.iload 4, 2) := dk_21 4 (dk_at dksX3_hurryIn_2 9 rfl rfl)
theorem dX3_hurryIn_56 : decode cX3_hurryIn 56 = .ok (.ireturn, 1) := dk_172 (dk_at dksX3_hurryIn_2 11 rfl rfl)
abbrev cX3_takeOut : ByteArray := prog_10_method_38_code
def yX3_takeOut : MethodName := ⟨RX3, "takeOut", "([II)V"⟩
def dkwX3_takeOut_3 : List UInt8 := [167, 255, 230, 43, 6, 92, 46, 43, 6, 46, 28, 164, 0, 7, 4, 167, 0, 4, 3, 100, 79, 177]
abbrev dktX3_takeOut_3 : List UInt8 := dkwX3_takeOut_3 ++ []
def dkwX3_takeOut_2 : List UInt8 := [16, 19, 43, 5, 46, 104, 96, 162, 0, 18, 43, 29, 43, 29, 16, 19, 96, 46, 79, 132, 3, 1]
abbrev dktX3_takeOut_2 : List UInt8 := dkwX3_takeOut_2 ++ dktX3_takeOut_3
def dkwX3_takeOut_1 : List UInt8 := [167, 255, 235, 43, 5, 92, 46, 4, 100, 79, 17, 0, 153, 16, 19, 28, 104, 96, 62, 29, 17, 0, 153]
abbrev dktX3_takeOut_1 : List UInt8 := dkwX3_takeOut_1 ++ dktX3_takeOut_2
def dkwX3_takeOut_0 : List UInt8 := [3, 62, 29, 16, 19, 162, 0, 21, 42, 180, 0, 28, 29, 43, 28, 29, 184, 0, 42, 79, 132, 3, 1]
abbrev dktX3_takeOut_0 : List UInt8 := dkwX3_takeOut_0 ++ dktX3_takeOut_1
theorem dksX3_takeOut_0 : cX3_takeOut.data.toList.drop 0 = dktX3_takeOut_0 := by decide +kernel
theorem dksX3_takeOut_1 : cX3_takeOut.data.toList.drop 23 = dktX3_takeOut_1 := dk_seg dksX3_takeOut_0 23 rfl rfl
theorem dksX3_takeOut_2 : cX3_takeOut.data.toList.drop 46 = dktX3_takeOut_2 := dk_seg dksX3_takeOut_1 23 rfl rfl
theorem dksX3_takeOut_3 : cX3_takeOut.data.toList.drop 68 = dktX3_takeOut_3 := dk_seg dksX3_takeOut_2 22 rfl rfl
theorem dX3_takeOut_0 : decode cX3_takeOut 0 = .ok (.iconst 0, 1) := dk_3 (dk_at dksX3_takeOut_0 0 rfl rfl)
theorem dX3_takeOut_1 : decode cX3_takeOut 1 = .ok (.istore_n 3, 1) := dk_62 (dk_at dksX3_takeOut_0 1 rfl rfl)
theorem dX3_takeOut_2 : decode cX3_takeOut 2 = .ok (.iload_n 3, 1) := dk_29 (dk_at dksX3_takeOut_0 2 rfl rfl)
theorem dX3_takeOut_3 : decode cX3_takeOut 3 = .ok (.bipush 19, 2) := dk_16 19 (dk_at dksX3_takeOut_0 3 rfl rfl)
theorem dX3_takeOut_5 : decode cX3_takeOut 5 = .ok (.if_icmp .ge 21, 3) := dk_162 0 21 (dk_at dksX3_takeOut_0 5 rfl rfl)
theorem dX3_takeOut_8 : decode cX3_takeOut 8 = .ok (.aload_n 0, 1) := dk_42 (dk_at dksX3_takeOut_0 8 rfl rfl)
theorem dX3_takeOut_9 : decode cX3_takeOut 9 = .ok (.getfield 28, 3) := dk_180 0 28 (dk_at dksX3_takeOut_0 9 rfl rfl)
theorem dX3_takeOut_12 : decode cX3_takeOut 12 = .ok (.iload_n 3, 1) := dk_29 (dk_at dksX3_takeOut_0 12 rfl rfl)
theorem dX3_takeOut_13 : decode cX3_takeOut 13 = .ok (.aload_n 1, 1) := dk_43 (dk_at dksX3_takeOut_0 13 rfl rfl)
theorem dX3_takeOut_14 : decode cX3_takeOut 14 = .ok (.iload_n 2, 1) := dk_28 (dk_at dksX3_takeOut_0 14 rfl rfl)
theorem dX3_takeOut_15 : decode cX3_takeOut 15 = .ok (.iload_n 3, 1) := dk_29 (dk_at dksX3_takeOut_0 15 rfl rfl)
theorem dX3_takeOut_16 : decode cX3_takeOut 16 = .ok (.invokestatic 42, 3) := dk_184 0 42 (dk_at dksX3_takeOut_0 16 rfl rfl)
theorem dX3_takeOut_19 : decode cX3_takeOut 19 = .ok (.iastore, 1) := dk_79 (dk_at dksX3_takeOut_0 19 rfl rfl)
theorem dX3_takeOut_20 : decode cX3_takeOut 20 = .ok (.iinc 3 1, 3) := dk_132 3 1 (dk_at dksX3_takeOut_0 20 rfl rfl)
theorem dX3_takeOut_23 : decode cX3_takeOut 23 = .ok (.goto (-21), 3) := dk_167 255 235 (dk_at dksX3_takeOut_1 0 rfl rfl)
theorem dX3_takeOut_26 : decode cX3_takeOut 26 = .ok (.aload_n 1, 1) := dk_43 (dk_at dksX3_takeOut_1 3 rfl rfl)
theorem dX3_takeOut_27 : decode cX3_takeOut 27 = .ok (.iconst 2, 1) := dk_5 (dk_at dksX3_takeOut_1 4 rfl rfl)
theorem dX3_takeOut_28 : decode cX3_takeOut 28 = .ok (.dup2, 1) := dk_92 (dk_at dksX3_takeOut_1 5 rfl rfl)
theorem dX3_takeOut_29 : decode cX3_takeOut 29 = .ok (.iaload, 1) := dk_46 (dk_at dksX3_takeOut_1 6 rfl rfl)
theorem dX3_takeOut_30 : decode cX3_takeOut 30 = .ok (.iconst 1, 1) := dk_4 (dk_at dksX3_takeOut_1 7 rfl rfl)
theorem dX3_takeOut_31 : decode cX3_takeOut 31 = .ok (.isub, 1) := dk_100 (dk_at dksX3_takeOut_1 8 rfl rfl)
theorem dX3_takeOut_32 : decode cX3_takeOut 32 = .ok (.iastore, 1) := dk_79 (dk_at dksX3_takeOut_1 9 rfl rfl)
theorem dX3_takeOut_33 : decode cX3_takeOut 33 = .ok (.sipush 153, 3) := dk_17 0 153 (dk_at dksX3_takeOut_1 10 rfl rfl)
theorem dX3_takeOut_36 : decode cX3_takeOut 36 = .ok (.bipush 19, 2) := dk_16 19 (dk_at dksX3_takeOut_1 13 rfl rfl)
theorem dX3_takeOut_38 : decode cX3_takeOut 38 = .ok (.iload_n 2, 1) := dk_28 (dk_at dksX3_takeOut_1 15 rfl rfl)
theorem dX3_takeOut_39 : decode cX3_takeOut 39 = .ok (.imul, 1) := dk_104 (dk_at dksX3_takeOut_1 16 rfl rfl)
theorem dX3_takeOut_40 : decode cX3_takeOut 40 = .ok (.iadd, 1) := dk_96 (dk_at dksX3_takeOut_1 17 rfl rfl)
theorem dX3_takeOut_41 : decode cX3_takeOut 41 = .ok (.istore_n 3, 1) := dk_62 (dk_at dksX3_takeOut_1 18 rfl rfl)
theorem dX3_takeOut_42 : decode cX3_takeOut 42 = .ok (.iload_n 3, 1) := dk_29 (dk_at dksX3_takeOut_1 19 rfl rfl)
theorem dX3_takeOut_43 : decode cX3_takeOut 43 = .ok (.sipush 153, 3) := dk_17 0 153 (dk_at dksX3_takeOut_1 20 rfl rfl)
theorem dX3_takeOut_46 : decode cX3_takeOut 46 = .ok (.bipush 19, 2) := dk_16 19 (dk_at dksX3_takeOut_2 0 rfl rfl)
theorem dX3_takeOut_48 : decode cX3_takeOut 48 = .ok (.aload_n 1, 1) := dk_43 (dk_at dksX3_takeOut_2 2 rfl rfl)
theorem dX3_takeOut_49 : decode cX3_takeOut 49 = .ok (.iconst 2, 1) := dk_5 (dk_at dksX3_takeOut_2 3 rfl rfl)
theorem dX3_takeOut_50 : decode cX3_takeOut 50 = .ok (.iaload, 1) := dk_46 (dk_at dksX3_takeOut_2 4 rfl rfl)
theorem dX3_takeOut_51 : decode cX3_takeOut 51 = .ok (.imul, 1) := dk_104 (dk_at dksX3_takeOut_2 5 rfl rfl)
theorem dX3_takeOut_52 : decode cX3_takeOut 52 = .ok (.iadd, 1) := dk_96 (dk_at dksX3_takeOut_2 6 rfl rfl)
theorem dX3_takeOut_53 : decode cX3_takeOut 53 = .ok (.if_icmp .ge 18, 3) := dk_162 0 18 (dk_at dksX3_takeOut_2 7 rfl rfl)
theorem dX3_takeOut_56 : decode cX3_takeOut 56 = .ok (.aload_n 1, 1) := dk_43 (dk_at dksX3_takeOut_2 10 rfl rfl)
theorem dX3_takeOut_57 : decode cX3_takeOut 57 = .ok (.iload_n 3, 1) := dk_29 (dk_at dksX3_takeOut_2 11 rfl rfl)
theorem dX3_takeOut_58 : decode cX3_takeOut 58 = .ok (.aload_n 1, 1) := dk_43 (dk_at dksX3_takeOut_2 12 rfl rfl)
theorem dX3_takeOut_59 : decode cX3_takeOut 59 = .ok (.iload_n 3, 1) := dk_29 (dk_at dksX3_takeOut_2 13 rfl rfl)
theorem dX3_takeOut_60 : decode cX3_takeOut 60 = .ok (.bipush 19, 2) := dk_16 19 (dk_at dksX3_takeOut_2 14 rfl rfl)
theorem dX3_takeOut_62 : decode cX3_takeOut 62 = .ok (.iadd, 1) := dk_96 (dk_at dksX3_takeOut_2 16 rfl rfl)
theorem dX3_takeOut_63 : decode cX3_takeOut 63 = .ok (.iaload, 1) := dk_46 (dk_at dksX3_takeOut_2 17 rfl rfl)
theorem dX3_takeOut_64 : decode cX3_takeOut 64 = .ok (.iastore, 1) := dk_79 (dk_at dksX3_takeOut_2 18 rfl rfl)
theorem dX3_takeOut_65 : decode cX3_takeOut 65 = .ok (.iinc 3 1, 3) := dk_132 3 1 (dk_at dksX3_takeOut_2 19 rfl rfl)
theorem dX3_takeOut_68 : decode cX3_takeOut 68 = .ok (.goto (-26), 3) := dk_167 255 230 (dk_at dksX3_takeOut_3 0 rfl rfl)
theorem dX3_takeOut_71 : decode cX3_takeOut 71 = .ok (.aload_n 1, 1) := dk_43 (dk_at dksX3_takeOut_3 3 rfl rfl)
theorem dX3_takeOut_72 : decode cX3_takeOut 72 = .ok (.iconst 3, 1) := dk_6 (dk_at dksX3_takeOut_3 4 rfl rfl)
theorem dX3_takeOut_73 : decode cX3_takeOut 73 = .ok (.dup2, 1) := dk_92 (dk_at dksX3_takeOut_3 5 rfl rfl)
theorem dX3_takeOut_74 : decode cX3_takeOut 74 = .ok (.iaload, 1) := dk_46 (dk_at dksX3_takeOut_3 6 rfl rfl)
theorem dX3_takeOut_75 : decode cX3_takeOut 75 = .ok (.aload_n 1, 1) := dk_43 (dk_at dksX3_takeOut_3 7 rfl rfl)
theorem dX3_takeOut_76 : decode cX3_takeOut 76 = .ok (.iconst 3, 1) := dk_6 (dk_at dksX3_takeOut_3 8 rfl rfl)
theorem dX3_takeOut_77 : decode cX3_takeOut 77 = .ok (.iaload, 1) := dk_46 (dk_at dksX3_takeOut_3 9 rfl rfl)
theorem dX3_takeOut_78 : decode cX3_takeOut 78 = .ok (.iload_n 2, 1) := dk_28 (dk_at dksX3_takeOut_3 10 rfl rfl)
theorem dX3_takeOut_79 : decode cX3_takeOut 79 = .ok (.if_icmp .le 7, 3) := dk_164 0 7 (dk_at dksX3_takeOut_3 11 rfl rfl)
theorem dX3_takeOut_82 : decode cX3_takeOut 82 = .ok (.iconst 1, 1) := dk_4 (dk_at dksX3_takeOut_3 14 rfl rfl)
theorem dX3_takeOut_83 : decode cX3_takeOut 83 = .ok (.goto 4, 3) := dk_167 0 4 (dk_at dksX3_takeOut_3 15 rfl rfl)
theorem dX3_takeOut_86 : decode cX3_takeOut 86 = .ok (.iconst 0, 1) := dk_3 (dk_at dksX3_takeOut_3 18 rfl rfl)
theorem dX3_takeOut_87 : decode cX3_takeOut 87 = .ok (.isub, 1) := dk_100 (dk_at dksX3_takeOut_3 19 rfl rfl)
theorem dX3_takeOut_88 : decode cX3_takeOut 88 = .ok (.iastore, 1) := dk_79 (dk_at dksX3_takeOut_3 20 rfl rfl)
theorem dX3_takeOut_89 : decode cX3_takeOut 89 = .ok (.return_, 1) := dk_177 (dk_at dksX3_takeOut_3 21 rfl rfl)
abbrev cX3_cancel : ByteArray := prog_10_method_44_code
def yX3_cancel : MethodName := ⟨RX3, "cancel", "(I)I"⟩
def dkwX3_cancel_2 : List UInt8 := [184, 0, 143, 42, 42, 180, 0, 7, 27, 182, 0, 134, 42, 180, 0, 7, 5, 46, 172]
abbrev dktX3_cancel_2 : List UInt8 := dkwX3_cancel_2 ++ []
def dkwX3_cancel_1 : List UInt8 := [46, 27, 160, 0, 25, 42, 180, 0, 7, 42, 180, 0, 7, 8, 46, 5, 3, 184, 0, 63, 42, 180, 0, 7]
abbrev dktX3_cancel_1 : List UInt8 := dkwX3_cancel_1 ++ dktX3_cancel_2
def dkwX3_cancel_0 : List UInt8 := [42, 3, 181, 0, 31, 42, 27, 182, 0, 137, 154, 0, 5, 2, 172, 42, 182, 0, 102, 42, 180, 0, 7, 6]
abbrev dktX3_cancel_0 : List UInt8 := dkwX3_cancel_0 ++ dktX3_cancel_1
theorem dksX3_cancel_0 : cX3_cancel.data.toList.drop 0 = dktX3_cancel_0 := by decide +kernel
theorem dksX3_cancel_1 : cX3_cancel.data.toList.drop 24 = dktX3_cancel_1 := dk_seg dksX3_cancel_0 24 rfl rfl
theorem dksX3_cancel_2 : cX3_cancel.data.toList.drop 48 = dktX3_cancel_2 := dk_seg dksX3_cancel_1 24 rfl rfl
theorem dX3_cancel_0 : decode cX3_cancel 0 = .ok (.aload_n 0, 1) := dk_42 (dk_at dksX3_cancel_0 0 rfl rfl)
theorem dX3_cancel_1 : decode cX3_cancel 1 = .ok (.iconst 0, 1) := dk_3 (dk_at dksX3_cancel_0 1 rfl rfl)
theorem dX3_cancel_2 : decode cX3_cancel 2 = .ok (.putfield 31, 3) := dk_181 0 31 (dk_at dksX3_cancel_0 2 rfl rfl)
theorem dX3_cancel_5 : decode cX3_cancel 5 = .ok (.aload_n 0, 1) := dk_42 (dk_at dksX3_cancel_0 5 rfl rfl)
theorem dX3_cancel_6 : decode cX3_cancel 6 = .ok (.iload_n 1, 1) := dk_27 (dk_at dksX3_cancel_0 6 rfl rfl)
theorem dX3_cancel_7 : decode cX3_cancel 7 = .ok (.invokevirtual 137, 3) := dk_182 0 137 (dk_at dksX3_cancel_0 7 rfl rfl)
theorem dX3_cancel_10 : decode cX3_cancel 10 = .ok (.ifCond .ne 5, 3) := dk_154 0 5 (dk_at dksX3_cancel_0 10 rfl rfl)
theorem dX3_cancel_13 : decode cX3_cancel 13 = .ok (.iconst (-1), 1) := dk_2 (dk_at dksX3_cancel_0 13 rfl rfl)
theorem dX3_cancel_14 : decode cX3_cancel 14 = .ok (.ireturn, 1) := dk_172 (dk_at dksX3_cancel_0 14 rfl rfl)
theorem dX3_cancel_15 : decode cX3_cancel 15 = .ok (.aload_n 0, 1) := dk_42 (dk_at dksX3_cancel_0 15 rfl rfl)
theorem dX3_cancel_16 : decode cX3_cancel 16 = .ok (.invokevirtual 102, 3) := dk_182 0 102 (dk_at dksX3_cancel_0 16 rfl rfl)
theorem dX3_cancel_19 : decode cX3_cancel 19 = .ok (.aload_n 0, 1) := dk_42 (dk_at dksX3_cancel_0 19 rfl rfl)
theorem dX3_cancel_20 : decode cX3_cancel 20 = .ok (.getfield 7, 3) := dk_180 0 7 (dk_at dksX3_cancel_0 20 rfl rfl)
theorem dX3_cancel_23 : decode cX3_cancel 23 = .ok (.iconst 3, 1) := dk_6 (dk_at dksX3_cancel_0 23 rfl rfl)
theorem dX3_cancel_24 : decode cX3_cancel 24 = .ok (.iaload, 1) := dk_46 (dk_at dksX3_cancel_1 0 rfl rfl)
theorem dX3_cancel_25 : decode cX3_cancel 25 = .ok (.iload_n 1, 1) := dk_27 (dk_at dksX3_cancel_1 1 rfl rfl)
theorem dX3_cancel_26 : decode cX3_cancel 26 = .ok (.if_icmp .ne 25, 3) := dk_160 0 25 (dk_at dksX3_cancel_1 2 rfl rfl)
theorem dX3_cancel_29 : decode cX3_cancel 29 = .ok (.aload_n 0, 1) := dk_42 (dk_at dksX3_cancel_1 5 rfl rfl)
theorem dX3_cancel_30 : decode cX3_cancel 30 = .ok (.getfield 7, 3) := dk_180 0 7 (dk_at dksX3_cancel_1 6 rfl rfl)
theorem dX3_cancel_33 : decode cX3_cancel 33 = .ok (.aload_n 0, 1) := dk_42 (dk_at dksX3_cancel_1 9 rfl rfl)
theorem dX3_cancel_34 : decode cX3_cancel 34 = .ok (.getfield 7, 3) := dk_180 0 7 (dk_at dksX3_cancel_1 10 rfl rfl)
theorem dX3_cancel_37 : decode cX3_cancel 37 = .ok (.iconst 5, 1) := dk_8 (dk_at dksX3_cancel_1 13 rfl rfl)
theorem dX3_cancel_38 : decode cX3_cancel 38 = .ok (.iaload, 1) := dk_46 (dk_at dksX3_cancel_1 14 rfl rfl)
theorem dX3_cancel_39 : decode cX3_cancel 39 = .ok (.iconst 2, 1) := dk_5 (dk_at dksX3_cancel_1 15 rfl rfl)
theorem dX3_cancel_40 : decode cX3_cancel 40 = .ok (.iconst 0, 1) := dk_3 (dk_at dksX3_cancel_1 16 rfl rfl)
theorem dX3_cancel_41 : decode cX3_cancel 41 = .ok (.invokestatic 63, 3) := dk_184 0 63 (dk_at dksX3_cancel_1 17 rfl rfl)
theorem dX3_cancel_44 : decode cX3_cancel 44 = .ok (.aload_n 0, 1) := dk_42 (dk_at dksX3_cancel_1 20 rfl rfl)
theorem dX3_cancel_45 : decode cX3_cancel 45 = .ok (.getfield 7, 3) := dk_180 0 7 (dk_at dksX3_cancel_1 21 rfl rfl)
theorem dX3_cancel_48 : decode cX3_cancel 48 = .ok (.invokestatic 143, 3) := dk_184 0 143 (dk_at dksX3_cancel_2 0 rfl rfl)
theorem dX3_cancel_51 : decode cX3_cancel 51 = .ok (.aload_n 0, 1) := dk_42 (dk_at dksX3_cancel_2 3 rfl rfl)
theorem dX3_cancel_52 : decode cX3_cancel 52 = .ok (.aload_n 0, 1) := dk_42 (dk_at dksX3_cancel_2 4 rfl rfl)
theorem dX3_cancel_53 : decode cX3_cancel 53 = .ok (.getfield 7, 3) := dk_180 0 7 (dk_at dksX3_cancel_2 5 rfl rfl)
theorem dX3_cancel_56 : decode cX3_cancel 56 = .ok (.iload_n 1, 1) := dk_27 (dk_at dksX3_cancel_2 8 rfl rfl)
theorem dX3_cancel_57 : decode cX3_cancel 57 = .ok (.invokevirtual 134, 3) := dk_182 0 134 (dk_at dksX3_cancel_2 9 rfl rfl)
theorem dX3_cancel_60 : decode cX3_cancel 60 = .ok (.aload_n 0, 1) := dk_42 (dk_at dksX3_cancel_2 12 rfl rfl)
theorem dX3_cancel_61 : decode cX3_cancel 61 = .ok (.getfield 7, 3) := dk_180 0 7 (dk_at dksX3_cancel_2 13 rfl rfl)
theorem dX3_cancel_64 : decode cX3_cancel 64 = .ok (.iconst 2, 1) := dk_5 (dk_at dksX3_cancel_2 16 rfl rfl)
theorem dX3_cancel_65 : decode cX3_cancel 65 = .ok (.iaload, 1) := dk_46 (dk_at dksX3_cancel_2 17 rfl rfl)
theorem dX3_cancel_66 : decode cX3_cancel 66 = .ok (.ireturn, 1) := dk_172 (dk_at dksX3_cancel_2 18 rfl rfl)
abbrev cX3_rest : ByteArray := prog_10_method_43_code
def yX3_rest : MethodName := ⟨RX3, "rest", "([I)V"⟩
def dkwX3_rest_0 : List UInt8 := [42, 6, 16, 247, 79, 42, 7, 3, 79, 42, 8, 16, 247, 79, 42, 16, 6, 3, 79, 177]
abbrev dktX3_rest_0 : List UInt8 := dkwX3_rest_0 ++ []
theorem dksX3_rest_0 : cX3_rest.data.toList.drop 0 = dktX3_rest_0 := by decide +kernel
theorem dX3_rest_0 : decode cX3_rest 0 = .ok (.aload_n 0, 1) := dk_42 (dk_at dksX3_rest_0 0 rfl rfl)
theorem dX3_rest_1 : decode cX3_rest 1 = .ok (.iconst 3, 1) := dk_6 (dk_at dksX3_rest_0 1 rfl rfl)
theorem dX3_rest_2 : decode cX3_rest 2 = .ok (.bipush (-9), 2) := dk_16 247 (dk_at dksX3_rest_0 2 rfl rfl)
theorem dX3_rest_4 : decode cX3_rest 4 = .ok (.iastore, 1) := dk_79 (dk_at dksX3_rest_0 4 rfl rfl)
theorem dX3_rest_5 : decode cX3_rest 5 = .ok (.aload_n 0, 1) := dk_42 (dk_at dksX3_rest_0 5 rfl rfl)
theorem dX3_rest_6 : decode cX3_rest 6 = .ok (.iconst 4, 1) := dk_7 (dk_at dksX3_rest_0 6 rfl rfl)
theorem dX3_rest_7 : decode cX3_rest 7 = .ok (.iconst 0, 1) := dk_3 (dk_at dksX3_rest_0 7 rfl rfl)
theorem dX3_rest_8 : decode cX3_rest 8 = .ok (.iastore, 1) := dk_79 (dk_at dksX3_rest_0 8 rfl rfl)
theorem dX3_rest_9 : decode cX3_rest 9 = .ok (.aload_n 0, 1) := dk_42 (dk_at dksX3_rest_0 9 rfl rfl)
theorem dX3_rest_10 : decode cX3_rest 10 = .ok (.iconst 5, 1) := dk_8 (dk_at dksX3_rest_0 10 rfl rfl)
theorem dX3_rest_11 : decode cX3_rest 11 = .ok (.bipush (-9), 2) := dk_16 247 (dk_at dksX3_rest_0 11 rfl rfl)
theorem dX3_rest_13 : decode cX3_rest 13 = .ok (.iastore, 1) := dk_79 (dk_at dksX3_rest_0 13 rfl rfl)
theorem dX3_rest_14 : decode cX3_rest 14 = .ok (.aload_n 0, 1) := dk_42 (dk_at dksX3_rest_0 14 rfl rfl)
theorem dX3_rest_15 : decode cX3_rest 15 = .ok (.bipush 6, 2) := dk_16 6 (dk_at dksX3_rest_0 15 rfl rfl)
theorem dX3_rest_17 : decode cX3_rest 17 = .ok (.iconst 0, 1) := dk_3 (dk_at dksX3_rest_0 17 rfl rfl)
theorem dX3_rest_18 : decode cX3_rest 18 = .ok (.iastore, 1) := dk_79 (dk_at dksX3_rest_0 18 rfl rfl)
theorem dX3_rest_19 : decode cX3_rest 19 = .ok (.return_, 1) := dk_177 (dk_at dksX3_rest_0 19 rfl rfl)
abbrev cX3_work : ByteArray := prog_10_method_47_code
def yX3_work : MethodName := ⟨RX3, "work", "(I)I"⟩
def dkwX3_work_4 : List UInt8 := [132, 3, 1, 167, 255, 183, 29, 172]
abbrev dktX3_work_4 : List UInt8 := dkwX3_work_4 ++ []
def dkwX3_work_3 : List UInt8 := [100, 79, 28, 21, 4, 100, 61, 42, 180, 0, 7, 7, 46, 154, 0, 14, 42, 42, 180, 0, 7, 182, 0, 163]
abbrev dktX3_work_3 : List UInt8 := dkwX3_work_3 ++ dktX3_work_4
def dkwX3_work_2 : List UInt8 := [162, 0, 7, 28, 167, 0, 9, 42, 180, 0, 7, 7, 46, 54, 4, 42, 180, 0, 7, 7, 92, 46, 21, 4]
abbrev dktX3_work_2 : List UInt8 := dkwX3_work_2 ++ dktX3_work_3
def dkwX3_work_1 : List UInt8 := [3, 62, 28, 158, 0, 75, 42, 42, 180, 0, 7, 182, 0, 159, 153, 0, 64, 28, 42, 180, 0, 7, 7, 46]
abbrev dktX3_work_1 : List UInt8 := dkwX3_work_1 ++ dktX3_work_2
def dkwX3_work_0 : List UInt8 := [42, 3, 181, 0, 31, 27, 4, 17, 2, 88, 184, 0, 38, 154, 0, 5, 2, 172, 42, 182, 0, 102, 27, 61]
abbrev dktX3_work_0 : List UInt8 := dkwX3_work_0 ++ dktX3_work_1
theorem dksX3_work_0 : cX3_work.data.toList.drop 0 = dktX3_work_0 := by decide +kernel
theorem dksX3_work_1 : cX3_work.data.toList.drop 24 = dktX3_work_1 := dk_seg dksX3_work_0 24 rfl rfl
theorem dksX3_work_2 : cX3_work.data.toList.drop 48 = dktX3_work_2 := dk_seg dksX3_work_1 24 rfl rfl
theorem dksX3_work_3 : cX3_work.data.toList.drop 72 = dktX3_work_3 := dk_seg dksX3_work_2 24 rfl rfl
theorem dksX3_work_4 : cX3_work.data.toList.drop 96 = dktX3_work_4 := dk_seg dksX3_work_3 24 rfl rfl
theorem dX3_work_0 : decode cX3_work 0 = .ok (.aload_n 0, 1) := dk_42 (dk_at dksX3_work_0 0 rfl rfl)
theorem dX3_work_1 : decode cX3_work 1 = .ok (.iconst 0, 1) := dk_3 (dk_at dksX3_work_0 1 rfl rfl)
theorem dX3_work_2 : decode cX3_work 2 = .ok (.putfield 31, 3) := dk_181 0 31 (dk_at dksX3_work_0 2 rfl rfl)
theorem dX3_work_5 : decode cX3_work 5 = .ok (.iload_n 1, 1) := dk_27 (dk_at dksX3_work_0 5 rfl rfl)
theorem dX3_work_6 : decode cX3_work 6 = .ok (.iconst 1, 1) := dk_4 (dk_at dksX3_work_0 6 rfl rfl)
theorem dX3_work_7 : decode cX3_work 7 = .ok (.sipush 600, 3) := dk_17 2 88 (dk_at dksX3_work_0 7 rfl rfl)
theorem dX3_work_10 : decode cX3_work 10 = .ok (.invokestatic 38, 3) := dk_184 0 38 (dk_at dksX3_work_0 10 rfl rfl)
theorem dX3_work_13 : decode cX3_work 13 = .ok (.ifCond .ne 5, 3) := dk_154 0 5 (dk_at dksX3_work_0 13 rfl rfl)
theorem dX3_work_16 : decode cX3_work 16 = .ok (.iconst (-1), 1) := dk_2 (dk_at dksX3_work_0 16 rfl rfl)
theorem dX3_work_17 : decode cX3_work 17 = .ok (.ireturn, 1) := dk_172 (dk_at dksX3_work_0 17 rfl rfl)
theorem dX3_work_18 : decode cX3_work 18 = .ok (.aload_n 0, 1) := dk_42 (dk_at dksX3_work_0 18 rfl rfl)
theorem dX3_work_19 : decode cX3_work 19 = .ok (.invokevirtual 102, 3) := dk_182 0 102 (dk_at dksX3_work_0 19 rfl rfl)
theorem dX3_work_22 : decode cX3_work 22 = .ok (.iload_n 1, 1) := dk_27 (dk_at dksX3_work_0 22 rfl rfl)
theorem dX3_work_23 : decode cX3_work 23 = .ok (.istore_n 2, 1) := dk_61 (dk_at dksX3_work_0 23 rfl rfl)
theorem dX3_work_24 : decode cX3_work 24 = .ok (.iconst 0, 1) := dk_3 (dk_at dksX3_work_1 0 rfl rfl)
theorem dX3_work_25 : decode cX3_work 25 = .ok (.istore_n 3, 1) := dk_62 (dk_at dksX3_work_1 1 rfl rfl)
theorem dX3_work_26 : decode cX3_work 26 = .ok (.iload_n 2, 1) := dk_28 (dk_at dksX3_work_1 2 rfl rfl)
theorem dX3_work_27 : decode cX3_work 27 = .ok (.ifCond .le 75, 3) := dk_158 0 75 (dk_at dksX3_work_1 3 rfl rfl)
theorem dX3_work_30 : decode cX3_work 30 = .ok (.aload_n 0, 1) := dk_42 (dk_at dksX3_work_1 6 rfl rfl)
theorem dX3_work_31 : decode cX3_work 31 = .ok (.aload_n 0, 1) := dk_42 (dk_at dksX3_work_1 7 rfl rfl)
theorem dX3_work_32 : decode cX3_work 32 = .ok (.getfield 7, 3) := dk_180 0 7 (dk_at dksX3_work_1 8 rfl rfl)
theorem dX3_work_35 : decode cX3_work 35 = .ok (.invokevirtual 159, 3) := dk_182 0 159 (dk_at dksX3_work_1 11 rfl rfl)
theorem dX3_work_38 : decode cX3_work 38 = .ok (.ifCond .eq 64, 3) := dk_153 0 64 (dk_at dksX3_work_1 14 rfl rfl)
theorem dX3_work_41 : decode cX3_work 41 = .ok (.iload_n 2, 1) := dk_28 (dk_at dksX3_work_1 17 rfl rfl)
theorem dX3_work_42 : decode cX3_work 42 = .ok (.aload_n 0, 1) := dk_42 (dk_at dksX3_work_1 18 rfl rfl)
theorem dX3_work_43 : decode cX3_work 43 = .ok (.getfield 7, 3) := dk_180 0 7 (dk_at dksX3_work_1 19 rfl rfl)
theorem dX3_work_46 : decode cX3_work 46 = .ok (.iconst 4, 1) := dk_7 (dk_at dksX3_work_1 22 rfl rfl)
theorem dX3_work_47 : decode cX3_work 47 = .ok (.iaload, 1) := dk_46 (dk_at dksX3_work_1 23 rfl rfl)
theorem dX3_work_48 : decode cX3_work 48 = .ok (.if_icmp .ge 7, 3) := dk_162 0 7 (dk_at dksX3_work_2 0 rfl rfl)
theorem dX3_work_51 : decode cX3_work 51 = .ok (.iload_n 2, 1) := dk_28 (dk_at dksX3_work_2 3 rfl rfl)
theorem dX3_work_52 : decode cX3_work 52 = .ok (.goto 9, 3) := dk_167 0 9 (dk_at dksX3_work_2 4 rfl rfl)
theorem dX3_work_55 : decode cX3_work 55 = .ok (.aload_n 0, 1) := dk_42 (dk_at dksX3_work_2 7 rfl rfl)
theorem dX3_work_56 : decode cX3_work 56 = .ok (.getfield 7, 3) := dk_180 0 7 (dk_at dksX3_work_2 8 rfl rfl)
theorem dX3_work_59 : decode cX3_work 59 = .ok (.iconst 4, 1) := dk_7 (dk_at dksX3_work_2 11 rfl rfl)
theorem dX3_work_60 : decode cX3_work 60 = .ok (.iaload, 1) := dk_46 (dk_at dksX3_work_2 12 rfl rfl)
theorem dX3_work_61 : decode cX3_work 61 = .ok (.istore 4, 2) := dk_54 4 (dk_at dksX3_work_2 13 rfl rfl)
theorem dX3_work_63 : decode cX3_work 63 = .ok (.aload_n 0, 1) := dk_42 (dk_at dksX3_work_2 15 rfl rfl)
theorem dX3_work_64 : decode cX3_work 64 = .ok (.getfield 7, 3) := dk_180 0 7 (dk_at dksX3_work_2 16 rfl rfl)
theorem dX3_work_67 : decode cX3_work 67 = .ok (.iconst 4, 1) := dk_7 (dk_at dksX3_work_2 19 rfl rfl)
theorem dX3_work_68 : decode cX3_work 68 = .ok (.dup2, 1) := dk_92 (dk_at dksX3_work_2 20 rfl rfl)
theorem dX3_work_69 : decode cX3_work 69 = .ok (.iaload, 1) := dk_46 (dk_at dksX3_work_2 21 rfl rfl)
theorem dX3_work_70 : decode cX3_work 70 = .ok (.iload 4, 2) := dk_21 4 (dk_at dksX3_work_2 22 rfl rfl)
theorem dX3_work_72 : decode cX3_work 72 = .ok (.isub, 1) := dk_100 (dk_at dksX3_work_3 0 rfl rfl)
theorem dX3_work_73 : decode cX3_work 73 = .ok (.iastore, 1) := dk_79 (dk_at dksX3_work_3 1 rfl rfl)
theorem dX3_work_74 : decode cX3_work 74 = .ok (.iload_n 2, 1) := dk_28 (dk_at dksX3_work_3 2 rfl rfl)
theorem dX3_work_75 : decode cX3_work 75 = .ok (.iload 4, 2) := dk_21 4 (dk_at dksX3_work_3 3 rfl rfl)
theorem dX3_work_77 : decode cX3_work 77 = .ok (.isub, 1) := dk_100 (dk_at dksX3_work_3 5 rfl rfl)
theorem dX3_work_78 : decode cX3_work 78 = .ok (.istore_n 2, 1) := dk_61 (dk_at dksX3_work_3 6 rfl rfl)
theorem dX3_work_79 : decode cX3_work 79 = .ok (.aload_n 0, 1) := dk_42 (dk_at dksX3_work_3 7 rfl rfl)
theorem dX3_work_80 : decode cX3_work 80 = .ok (.getfield 7, 3) := dk_180 0 7 (dk_at dksX3_work_3 8 rfl rfl)
theorem dX3_work_83 : decode cX3_work 83 = .ok (.iconst 4, 1) := dk_7 (dk_at dksX3_work_3 11 rfl rfl)
theorem dX3_work_84 : decode cX3_work 84 = .ok (.iaload, 1) := dk_46 (dk_at dksX3_work_3 12 rfl rfl)
theorem dX3_work_85 : decode cX3_work 85 = .ok (.ifCond .ne 14, 3) := dk_154 0 14 (dk_at dksX3_work_3 13 rfl rfl)
theorem dX3_work_88 : decode cX3_work 88 = .ok (.aload_n 0, 1) := dk_42 (dk_at dksX3_work_3 16 rfl rfl)
theorem dX3_work_89 : decode cX3_work 89 = .ok (.aload_n 0, 1) := dk_42 (dk_at dksX3_work_3 17 rfl rfl)
theorem dX3_work_90 : decode cX3_work 90 = .ok (.getfield 7, 3) := dk_180 0 7 (dk_at dksX3_work_3 18 rfl rfl)
theorem dX3_work_93 : decode cX3_work 93 = .ok (.invokevirtual 163, 3) := dk_182 0 163 (dk_at dksX3_work_3 21 rfl rfl)
theorem dX3_work_96 : decode cX3_work 96 = .ok (.iinc 3 1, 3) := dk_132 3 1 (dk_at dksX3_work_4 0 rfl rfl)
theorem dX3_work_99 : decode cX3_work 99 = .ok (.goto (-73), 3) := dk_167 255 183 (dk_at dksX3_work_4 3 rfl rfl)
theorem dX3_work_102 : decode cX3_work 102 = .ok (.iload_n 3, 1) := dk_29 (dk_at dksX3_work_4 6 rfl rfl)
theorem dX3_work_103 : decode cX3_work 103 = .ok (.ireturn, 1) := dk_172 (dk_at dksX3_work_4 7 rfl rfl)
abbrev cX3_goesOn : ByteArray := prog_10_method_45_code
def yX3_goesOn : MethodName := ⟨RX3, "goesOn", "([I)Z"⟩
def dkwX3_goesOn_5 : List UInt8 := [159, 0, 7, 4, 167, 0, 4, 3, 172]
abbrev dktX3_goesOn_5 : List UInt8 := dkwX3_goesOn_5 ++ []
def dkwX3_goesOn_4 : List UInt8 := [42, 180, 0, 74, 42, 180, 0, 89, 184, 0, 112, 132, 2, 1, 167, 255, 149, 43, 6, 46, 16, 247]
abbrev dktX3_goesOn_4 : List UInt8 := dkwX3_goesOn_4 ++ dktX3_goesOn_5
def dkwX3_goesOn_3 : List UInt8 := [167, 0, 4, 3, 96, 79, 43, 42, 180, 0, 74, 5, 4, 184, 0, 63, 42, 180, 0, 77, 153, 0, 15, 43]
abbrev dktX3_goesOn_3 : List UInt8 := dkwX3_goesOn_3 ++ dktX3_goesOn_4
def dkwX3_goesOn_2 : List UInt8 := [16, 6, 42, 180, 0, 89, 79, 43, 7, 43, 28, 184, 0, 153, 42, 180, 0, 77, 153, 0, 8, 16, 10]
abbrev dktX3_goesOn_2 : List UInt8 := dkwX3_goesOn_2 ++ dktX3_goesOn_3
def dkwX3_goesOn_1 : List UInt8 := [43, 28, 6, 184, 0, 42, 182, 0, 150, 153, 0, 73, 43, 6, 28, 79, 43, 8, 42, 180, 0, 74, 79, 43]
abbrev dktX3_goesOn_1 : List UInt8 := dkwX3_goesOn_1 ++ dktX3_goesOn_2
def dkwX3_goesOn_0 : List UInt8 := [3, 61, 28, 43, 5, 46, 162, 0, 106, 43, 6, 46, 16, 247, 160, 0, 98, 42, 43, 43, 28, 184, 0, 147]
abbrev dktX3_goesOn_0 : List UInt8 := dkwX3_goesOn_0 ++ dktX3_goesOn_1
theorem dksX3_goesOn_0 : cX3_goesOn.data.toList.drop 0 = dktX3_goesOn_0 := by decide +kernel
theorem dksX3_goesOn_1 : cX3_goesOn.data.toList.drop 24 = dktX3_goesOn_1 := dk_seg dksX3_goesOn_0 24 rfl rfl
theorem dksX3_goesOn_2 : cX3_goesOn.data.toList.drop 48 = dktX3_goesOn_2 := dk_seg dksX3_goesOn_1 24 rfl rfl
theorem dksX3_goesOn_3 : cX3_goesOn.data.toList.drop 71 = dktX3_goesOn_3 := dk_seg dksX3_goesOn_2 23 rfl rfl
theorem dksX3_goesOn_4 : cX3_goesOn.data.toList.drop 95 = dktX3_goesOn_4 := dk_seg dksX3_goesOn_3 24 rfl rfl
theorem dksX3_goesOn_5 : cX3_goesOn.data.toList.drop 117 = dktX3_goesOn_5 := dk_seg dksX3_goesOn_4 22 rfl rfl
theorem dX3_goesOn_0 : decode cX3_goesOn 0 = .ok (.iconst 0, 1) := dk_3 (dk_at dksX3_goesOn_0 0 rfl rfl)
theorem dX3_goesOn_1 : decode cX3_goesOn 1 = .ok (.istore_n 2, 1) := dk_61 (dk_at dksX3_goesOn_0 1 rfl rfl)
theorem dX3_goesOn_2 : decode cX3_goesOn 2 = .ok (.iload_n 2, 1) := dk_28 (dk_at dksX3_goesOn_0 2 rfl rfl)
theorem dX3_goesOn_3 : decode cX3_goesOn 3 = .ok (.aload_n 1, 1) := dk_43 (dk_at dksX3_goesOn_0 3 rfl rfl)
theorem dX3_goesOn_4 : decode cX3_goesOn 4 = .ok (.iconst 2, 1) := dk_5 (dk_at dksX3_goesOn_0 4 rfl rfl)
theorem dX3_goesOn_5 : decode cX3_goesOn 5 = .ok (.iaload, 1) := dk_46 (dk_at dksX3_goesOn_0 5 rfl rfl)
theorem dX3_goesOn_6 : decode cX3_goesOn 6 = .ok (.if_icmp .ge 106, 3) := dk_162 0 106 (dk_at dksX3_goesOn_0 6 rfl rfl)
theorem dX3_goesOn_9 : decode cX3_goesOn 9 = .ok (.aload_n 1, 1) := dk_43 (dk_at dksX3_goesOn_0 9 rfl rfl)
theorem dX3_goesOn_10 : decode cX3_goesOn 10 = .ok (.iconst 3, 1) := dk_6 (dk_at dksX3_goesOn_0 10 rfl rfl)
theorem dX3_goesOn_11 : decode cX3_goesOn 11 = .ok (.iaload, 1) := dk_46 (dk_at dksX3_goesOn_0 11 rfl rfl)
theorem dX3_goesOn_12 : decode cX3_goesOn 12 = .ok (.bipush (-9), 2) := dk_16 247 (dk_at dksX3_goesOn_0 12 rfl rfl)
theorem dX3_goesOn_14 : decode cX3_goesOn 14 = .ok (.if_icmp .ne 98, 3) := dk_160 0 98 (dk_at dksX3_goesOn_0 14 rfl rfl)
theorem dX3_goesOn_17 : decode cX3_goesOn 17 = .ok (.aload_n 0, 1) := dk_42 (dk_at dksX3_goesOn_0 17 rfl rfl)
theorem dX3_goesOn_18 : decode cX3_goesOn 18 = .ok (.aload_n 1, 1) := dk_43 (dk_at dksX3_goesOn_0 18 rfl rfl)
theorem dX3_goesOn_19 : decode cX3_goesOn 19 = .ok (.aload_n 1, 1) := dk_43 (dk_at dksX3_goesOn_0 19 rfl rfl)
theorem dX3_goesOn_20 : decode cX3_goesOn 20 = .ok (.iload_n 2, 1) := dk_28 (dk_at dksX3_goesOn_0 20 rfl rfl)
theorem dX3_goesOn_21 : decode cX3_goesOn 21 = .ok (.invokestatic 147, 3) := dk_184 0 147 (dk_at dksX3_goesOn_0 21 rfl rfl)
theorem dX3_goesOn_24 : decode cX3_goesOn 24 = .ok (.aload_n 1, 1) := dk_43 (dk_at dksX3_goesOn_1 0 rfl rfl)
theorem dX3_goesOn_25 : decode cX3_goesOn 25 = .ok (.iload_n 2, 1) := dk_28 (dk_at dksX3_goesOn_1 1 rfl rfl)
theorem dX3_goesOn_26 : decode cX3_goesOn 26 = .ok (.iconst 3, 1) := dk_6 (dk_at dksX3_goesOn_1 2 rfl rfl)
theorem dX3_goesOn_27 : decode cX3_goesOn 27 = .ok (.invokestatic 42, 3) := dk_184 0 42 (dk_at dksX3_goesOn_1 3 rfl rfl)
theorem dX3_goesOn_30 : decode cX3_goesOn 30 = .ok (.invokevirtual 150, 3) := dk_182 0 150 (dk_at dksX3_goesOn_1 6 rfl rfl)
theorem dX3_goesOn_33 : decode cX3_goesOn 33 = .ok (.ifCond .eq 73, 3) := dk_153 0 73 (dk_at dksX3_goesOn_1 9 rfl rfl)
theorem dX3_goesOn_36 : decode cX3_goesOn 36 = .ok (.aload_n 1, 1) := dk_43 (dk_at dksX3_goesOn_1 12 rfl rfl)
theorem dX3_goesOn_37 : decode cX3_goesOn 37 = .ok (.iconst 3, 1) := dk_6 (dk_at dksX3_goesOn_1 13 rfl rfl)
theorem dX3_goesOn_38 : decode cX3_goesOn 38 = .ok (.iload_n 2, 1) := dk_28 (dk_at dksX3_goesOn_1 14 rfl rfl)
theorem dX3_goesOn_39 : decode cX3_goesOn 39 = .ok (.iastore, 1) := dk_79 (dk_at dksX3_goesOn_1 15 rfl rfl)
theorem dX3_goesOn_40 : decode cX3_goesOn 40 = .ok (.aload_n 1, 1) := dk_43 (dk_at dksX3_goesOn_1 16 rfl rfl)
theorem dX3_goesOn_41 : decode cX3_goesOn 41 = .ok (.iconst 5, 1) := dk_8 (dk_at dksX3_goesOn_1 17 rfl rfl)
theorem dX3_goesOn_42 : decode cX3_goesOn 42 = .ok (.aload_n 0, 1) := dk_42 (dk_at dksX3_goesOn_1 18 rfl rfl)
theorem dX3_goesOn_43 : decode cX3_goesOn 43 = .ok (.getfield 74, 3) := dk_180 0 74 (dk_at dksX3_goesOn_1 19 rfl rfl)
theorem dX3_goesOn_46 : decode cX3_goesOn 46 = .ok (.iastore, 1) := dk_79 (dk_at dksX3_goesOn_1 22 rfl rfl)
theorem dX3_goesOn_47 : decode cX3_goesOn 47 = .ok (.aload_n 1, 1) := dk_43 (dk_at dksX3_goesOn_1 23 rfl rfl)
theorem dX3_goesOn_48 : decode cX3_goesOn 48 = .ok (.bipush 6, 2) := dk_16 6 (dk_at dksX3_goesOn_2 0 rfl rfl)
theorem dX3_goesOn_50 : decode cX3_goesOn 50 = .ok (.aload_n 0, 1) := dk_42 (dk_at dksX3_goesOn_2 2 rfl rfl)
theorem dX3_goesOn_51 : decode cX3_goesOn 51 = .ok (.getfield 89, 3) := dk_180 0 89 (dk_at dksX3_goesOn_2 3 rfl rfl)
theorem dX3_goesOn_54 : decode cX3_goesOn 54 = .ok (.iastore, 1) := dk_79 (dk_at dksX3_goesOn_2 6 rfl rfl)
theorem dX3_goesOn_55 : decode cX3_goesOn 55 = .ok (.aload_n 1, 1) := dk_43 (dk_at dksX3_goesOn_2 7 rfl rfl)
theorem dX3_goesOn_56 : decode cX3_goesOn 56 = .ok (.iconst 4, 1) := dk_7 (dk_at dksX3_goesOn_2 8 rfl rfl)
theorem dX3_goesOn_57 : decode cX3_goesOn 57 = .ok (.aload_n 1, 1) := dk_43 (dk_at dksX3_goesOn_2 9 rfl rfl)
theorem dX3_goesOn_58 : decode cX3_goesOn 58 = .ok (.iload_n 2, 1) := dk_28 (dk_at dksX3_goesOn_2 10 rfl rfl)
theorem dX3_goesOn_59 : decode cX3_goesOn 59 = .ok (.invokestatic 153, 3) := dk_184 0 153 (dk_at dksX3_goesOn_2 11 rfl rfl)
theorem dX3_goesOn_62 : decode cX3_goesOn 62 = .ok (.aload_n 0, 1) := dk_42 (dk_at dksX3_goesOn_2 14 rfl rfl)
theorem dX3_goesOn_63 : decode cX3_goesOn 63 = .ok (.getfield 77, 3) := dk_180 0 77 (dk_at dksX3_goesOn_2 15 rfl rfl)
theorem dX3_goesOn_66 : decode cX3_goesOn 66 = .ok (.ifCond .eq 8, 3) := dk_153 0 8 (dk_at dksX3_goesOn_2 18 rfl rfl)
theorem dX3_goesOn_69 : decode cX3_goesOn 69 = .ok (.bipush 10, 2) := dk_16 10 (dk_at dksX3_goesOn_2 21 rfl rfl)
theorem dX3_goesOn_71 : decode cX3_goesOn 71 = .ok (.goto 4, 3) := dk_167 0 4 (dk_at dksX3_goesOn_3 0 rfl rfl)
theorem dX3_goesOn_74 : decode cX3_goesOn 74 = .ok (.iconst 0, 1) := dk_3 (dk_at dksX3_goesOn_3 3 rfl rfl)
theorem dX3_goesOn_75 : decode cX3_goesOn 75 = .ok (.iadd, 1) := dk_96 (dk_at dksX3_goesOn_3 4 rfl rfl)
theorem dX3_goesOn_76 : decode cX3_goesOn 76 = .ok (.iastore, 1) := dk_79 (dk_at dksX3_goesOn_3 5 rfl rfl)
theorem dX3_goesOn_77 : decode cX3_goesOn 77 = .ok (.aload_n 1, 1) := dk_43 (dk_at dksX3_goesOn_3 6 rfl rfl)
theorem dX3_goesOn_78 : decode cX3_goesOn 78 = .ok (.aload_n 0, 1) := dk_42 (dk_at dksX3_goesOn_3 7 rfl rfl)
theorem dX3_goesOn_79 : decode cX3_goesOn 79 = .ok (.getfield 74, 3) := dk_180 0 74 (dk_at dksX3_goesOn_3 8 rfl rfl)
theorem dX3_goesOn_82 : decode cX3_goesOn 82 = .ok (.iconst 2, 1) := dk_5 (dk_at dksX3_goesOn_3 11 rfl rfl)
theorem dX3_goesOn_83 : decode cX3_goesOn 83 = .ok (.iconst 1, 1) := dk_4 (dk_at dksX3_goesOn_3 12 rfl rfl)
theorem dX3_goesOn_84 : decode cX3_goesOn 84 = .ok (.invokestatic 63, 3) := dk_184 0 63 (dk_at dksX3_goesOn_3 13 rfl rfl)
theorem dX3_goesOn_87 : decode cX3_goesOn 87 = .ok (.aload_n 0, 1) := dk_42 (dk_at dksX3_goesOn_3 16 rfl rfl)
theorem dX3_goesOn_88 : decode cX3_goesOn 88 = .ok (.getfield 77, 3) := dk_180 0 77 (dk_at dksX3_goesOn_3 17 rfl rfl)
theorem dX3_goesOn_91 : decode cX3_goesOn 91 = .ok (.ifCond .eq 15, 3) := dk_153 0 15 (dk_at dksX3_goesOn_3 20 rfl rfl)
theorem dX3_goesOn_94 : decode cX3_goesOn 94 = .ok (.aload_n 1, 1) := dk_43 (dk_at dksX3_goesOn_3 23 rfl rfl)
theorem dX3_goesOn_95 : decode cX3_goesOn 95 = .ok (.aload_n 0, 1) := dk_42 (dk_at dksX3_goesOn_4 0 rfl rfl)
theorem dX3_goesOn_96 : decode cX3_goesOn 96 = .ok (.getfield 74, 3) := dk_180 0 74 (dk_at dksX3_goesOn_4 1 rfl rfl)
theorem dX3_goesOn_99 : decode cX3_goesOn 99 = .ok (.aload_n 0, 1) := dk_42 (dk_at dksX3_goesOn_4 4 rfl rfl)
theorem dX3_goesOn_100 : decode cX3_goesOn 100 = .ok (.getfield 89, 3) := dk_180 0 89 (dk_at dksX3_goesOn_4 5 rfl rfl)
theorem dX3_goesOn_103 : decode cX3_goesOn 103 = .ok (.invokestatic 112, 3) := dk_184 0 112 (dk_at dksX3_goesOn_4 8 rfl rfl)
theorem dX3_goesOn_106 : decode cX3_goesOn 106 = .ok (.iinc 2 1, 3) := dk_132 2 1 (dk_at dksX3_goesOn_4 11 rfl rfl)
theorem dX3_goesOn_109 : decode cX3_goesOn 109 = .ok (.goto (-107), 3) := dk_167 255 149 (dk_at dksX3_goesOn_4 14 rfl rfl)
theorem dX3_goesOn_112 : decode cX3_goesOn 112 = .ok (.aload_n 1, 1) := dk_43 (dk_at dksX3_goesOn_4 17 rfl rfl)
theorem dX3_goesOn_113 : decode cX3_goesOn 113 = .ok (.iconst 3, 1) := dk_6 (dk_at dksX3_goesOn_4 18 rfl rfl)
theorem dX3_goesOn_114 : decode cX3_goesOn 114 = .ok (.iaload, 1) := dk_46 (dk_at dksX3_goesOn_4 19 rfl rfl)
theorem dX3_goesOn_115 : decode cX3_goesOn 115 = .ok (.bipush (-9), 2) := dk_16 247 (dk_at dksX3_goesOn_4 20 rfl rfl)
theorem dX3_goesOn_117 : decode cX3_goesOn 117 = .ok (.if_icmp .eq 7, 3) := dk_159 0 7 (dk_at dksX3_goesOn_5 0 rfl rfl)
theorem dX3_goesOn_120 : decode cX3_goesOn 120 = .ok (.iconst 1, 1) := dk_4 (dk_at dksX3_goesOn_5 3 rfl rfl)
theorem dX3_goesOn_121 : decode cX3_goesOn 121 = .ok (.goto 4, 3) := dk_167 0 4 (dk_at dksX3_goesOn_5 4 rfl rfl)
theorem dX3_goesOn_124 : decode cX3_goesOn 124 = .ok (.iconst 0, 1) := dk_3 (dk_at dksX3_goesOn_5 7 rfl rfl)
theorem dX3_goesOn_125 : decode cX3_goesOn 125 = .ok (.ireturn, 1) := dk_172 (dk_at dksX3_goesOn_5 8 rfl rfl)
abbrev cX3_nameLength : ByteArray := prog_10_method_13_code
def yX3_nameLength : MethodName := ⟨RX3, "nameLength", "([II)I"⟩
def dkwX3_nameLength_2 : List UInt8 := [184, 0, 42, 29, 104, 172]
abbrev dktX3_nameLength_2 : List UInt8 := dkwX3_nameLength_2 ++ []
def dkwX3_nameLength_1 : List UInt8 := [16, 6, 21, 4, 96, 184, 0, 42, 184, 0, 46, 96, 62, 132, 4, 1, 167, 255, 231, 42, 27, 5]
abbrev dktX3_nameLength_1 : List UInt8 := dkwX3_nameLength_1 ++ dktX3_nameLength_2
def dkwX3_nameLength_0 : List UInt8 := [42, 27, 8, 184, 0, 42, 61, 28, 4, 100, 62, 3, 54, 4, 21, 4, 28, 162, 0, 25, 29, 42, 27]
abbrev dktX3_nameLength_0 : List UInt8 := dkwX3_nameLength_0 ++ dktX3_nameLength_1
theorem dksX3_nameLength_0 : cX3_nameLength.data.toList.drop 0 = dktX3_nameLength_0 := by decide +kernel
theorem dksX3_nameLength_1 : cX3_nameLength.data.toList.drop 23 = dktX3_nameLength_1 := dk_seg dksX3_nameLength_0 23 rfl rfl
theorem dksX3_nameLength_2 : cX3_nameLength.data.toList.drop 45 = dktX3_nameLength_2 := dk_seg dksX3_nameLength_1 22 rfl rfl
theorem dX3_nameLength_0 : decode cX3_nameLength 0 = .ok (.aload_n 0, 1) := dk_42 (dk_at dksX3_nameLength_0 0 rfl rfl)
theorem dX3_nameLength_1 : decode cX3_nameLength 1 = .ok (.iload_n 1, 1) := dk_27 (dk_at dksX3_nameLength_0 1 rfl rfl)
theorem dX3_nameLength_2 : decode cX3_nameLength 2 = .ok (.iconst 5, 1) := dk_8 (dk_at dksX3_nameLength_0 2 rfl rfl)
theorem dX3_nameLength_3 : decode cX3_nameLength 3 = .ok (.invokestatic 42, 3) := dk_184 0 42 (dk_at dksX3_nameLength_0 3 rfl rfl)
theorem dX3_nameLength_6 : decode cX3_nameLength 6 = .ok (.istore_n 2, 1) := dk_61 (dk_at dksX3_nameLength_0 6 rfl rfl)
theorem dX3_nameLength_7 : decode cX3_nameLength 7 = .ok (.iload_n 2, 1) := dk_28 (dk_at dksX3_nameLength_0 7 rfl rfl)
theorem dX3_nameLength_8 : decode cX3_nameLength 8 = .ok (.iconst 1, 1) := dk_4 (dk_at dksX3_nameLength_0 8 rfl rfl)
theorem dX3_nameLength_9 : decode cX3_nameLength 9 = .ok (.isub, 1) := dk_100 (dk_at dksX3_nameLength_0 9 rfl rfl)
theorem dX3_nameLength_10 : decode cX3_nameLength 10 = .ok (.istore_n 3, 1) := dk_62 (dk_at dksX3_nameLength_0 10 rfl rfl)
theorem dX3_nameLength_11 : decode cX3_nameLength 11 = .ok (.iconst 0, 1) := dk_3 (dk_at dksX3_nameLength_0 11 rfl rfl)
theorem dX3_nameLength_12 : decode cX3_nameLength 12 = .ok (.istore 4, 2) := dk_54 4 (dk_at dksX3_nameLength_0 12 rfl rfl)
theorem dX3_nameLength_14 : decode cX3_nameLength 14 = .ok (.iload 4, 2) := dk_21 4 (dk_at dksX3_nameLength_0 14 rfl rfl)
theorem dX3_nameLength_16 : decode cX3_nameLength 16 = .ok (.iload_n 2, 1) := dk_28 (dk_at dksX3_nameLength_0 16 rfl rfl)
theorem dX3_nameLength_17 : decode cX3_nameLength 17 = .ok (.if_icmp .ge 25, 3) := dk_162 0 25 (dk_at dksX3_nameLength_0 17 rfl rfl)
theorem dX3_nameLength_20 : decode cX3_nameLength 20 = .ok (.iload_n 3, 1) := dk_29 (dk_at dksX3_nameLength_0 20 rfl rfl)
theorem dX3_nameLength_21 : decode cX3_nameLength 21 = .ok (.aload_n 0, 1) := dk_42 (dk_at dksX3_nameLength_0 21 rfl rfl)
theorem dX3_nameLength_22 : decode cX3_nameLength 22 = .ok (.iload_n 1, 1) := dk_27 (dk_at dksX3_nameLength_0 22 rfl rfl)
theorem dX3_nameLength_23 : decode cX3_nameLength 23 = .ok (.bipush 6, 2) := dk_16 6 (dk_at dksX3_nameLength_1 0 rfl rfl)
theorem dX3_nameLength_25 : decode cX3_nameLength 25 = .ok (.iload 4, 2) := dk_21 4 (dk_at dksX3_nameLength_1 2 rfl rfl)
theorem dX3_nameLength_27 : decode cX3_nameLength 27 = .ok (.iadd, 1) := dk_96 (dk_at dksX3_nameLength_1 4 rfl rfl)
theorem dX3_nameLength_28 : decode cX3_nameLength 28 = .ok (.invokestatic 42, 3) := dk_184 0 42 (dk_at dksX3_nameLength_1 5 rfl rfl)
theorem dX3_nameLength_31 : decode cX3_nameLength 31 = .ok (.invokestatic 46, 3) := dk_184 0 46 (dk_at dksX3_nameLength_1 8 rfl rfl)
theorem dX3_nameLength_34 : decode cX3_nameLength 34 = .ok (.iadd, 1) := dk_96 (dk_at dksX3_nameLength_1 11 rfl rfl)
theorem dX3_nameLength_35 : decode cX3_nameLength 35 = .ok (.istore_n 3, 1) := dk_62 (dk_at dksX3_nameLength_1 12 rfl rfl)
theorem dX3_nameLength_36 : decode cX3_nameLength 36 = .ok (.iinc 4 1, 3) := dk_132 4 1 (dk_at dksX3_nameLength_1 13 rfl rfl)
theorem dX3_nameLength_39 : decode cX3_nameLength 39 = .ok (.goto (-25), 3) := dk_167 255 231 (dk_at dksX3_nameLength_1 16 rfl rfl)
theorem dX3_nameLength_42 : decode cX3_nameLength 42 = .ok (.aload_n 0, 1) := dk_42 (dk_at dksX3_nameLength_1 19 rfl rfl)
theorem dX3_nameLength_43 : decode cX3_nameLength 43 = .ok (.iload_n 1, 1) := dk_27 (dk_at dksX3_nameLength_1 20 rfl rfl)
theorem dX3_nameLength_44 : decode cX3_nameLength 44 = .ok (.iconst 2, 1) := dk_5 (dk_at dksX3_nameLength_1 21 rfl rfl)
theorem dX3_nameLength_45 : decode cX3_nameLength 45 = .ok (.invokestatic 42, 3) := dk_184 0 42 (dk_at dksX3_nameLength_2 0 rfl rfl)
theorem dX3_nameLength_48 : decode cX3_nameLength 48 = .ok (.iload_n 3, 1) := dk_29 (dk_at dksX3_nameLength_2 3 rfl rfl)
theorem dX3_nameLength_49 : decode cX3_nameLength 49 = .ok (.imul, 1) := dk_104 (dk_at dksX3_nameLength_2 4 rfl rfl)
theorem dX3_nameLength_50 : decode cX3_nameLength 50 = .ok (.ireturn, 1) := dk_172 (dk_at dksX3_nameLength_2 5 rfl rfl)
abbrev cX3_widthOf : ByteArray := prog_10_method_12_code
def yX3_widthOf : MethodName := ⟨RX3, "widthOf", "(I)I"⟩
def dkwX3_widthOf_2 : List UInt8 := [5, 172, 8, 172, 7, 172]
abbrev dktX3_widthOf_2 : List UInt8 := dkwX3_widthOf_2 ++ []
def dkwX3_widthOf_1 : List UInt8 := [170, 0, 0, 0, 0, 0, 91, 0, 0, 0, 102, 0, 0, 0, 119, 0, 0, 0, 87, 0, 0, 0, 91, 0, 0, 0, 91, 0, 0, 0, 87, 0, 0, 0, 87, 0, 0, 0, 91, 0, 0, 0, 87, 0, 0, 0, 89, 0, 0, 0, 91, 0, 0, 0, 91, 0, 0, 0, 91, 0, 0, 0, 91, 0, 0, 0, 87, 0, 0, 0, 91, 0, 0, 0, 87, 0, 0, 0, 91, 0, 0, 0, 91, 0, 0, 0, 89]
abbrev dktX3_widthOf_1 : List UInt8 := dkwX3_widthOf_1 ++ dktX3_widthOf_2
def dkwX3_widthOf_0 : List UInt8 := [26]
abbrev dktX3_widthOf_0 : List UInt8 := dkwX3_widthOf_0 ++ dktX3_widthOf_1
theorem dksX3_widthOf_0 : cX3_widthOf.data.toList.drop 0 = dktX3_widthOf_0 := by decide +kernel
theorem dksX3_widthOf_1 : cX3_widthOf.data.toList.drop 1 = dktX3_widthOf_1 := dk_seg dksX3_widthOf_0 1 rfl rfl
theorem dksX3_widthOf_2 : cX3_widthOf.data.toList.drop 88 = dktX3_widthOf_2 := dk_seg dksX3_widthOf_1 87 rfl rfl
theorem dX3_widthOf_0 : decode cX3_widthOf 0 = .ok (.iload_n 0, 1) := dk_26 (dk_at dksX3_widthOf_0 0 rfl rfl)
theorem dX3_widthOf_1 : decode cX3_widthOf 1 = .ok (.tableswitch 91 102 119 #[87, 91, 91, 87, 87, 91, 87, 89, 91, 91, 91, 91, 87, 91, 87, 91, 91, 89], 87) := by decide +kernel
theorem dX3_widthOf_88 : decode cX3_widthOf 88 = .ok (.iconst 2, 1) := dk_5 (dk_at dksX3_widthOf_2 0 rfl rfl)
theorem dX3_widthOf_89 : decode cX3_widthOf 89 = .ok (.ireturn, 1) := dk_172 (dk_at dksX3_widthOf_2 1 rfl rfl)
theorem dX3_widthOf_90 : decode cX3_widthOf 90 = .ok (.iconst 5, 1) := dk_8 (dk_at dksX3_widthOf_2 2 rfl rfl)
theorem dX3_widthOf_91 : decode cX3_widthOf 91 = .ok (.ireturn, 1) := dk_172 (dk_at dksX3_widthOf_2 3 rfl rfl)
theorem dX3_widthOf_92 : decode cX3_widthOf 92 = .ok (.iconst 4, 1) := dk_7 (dk_at dksX3_widthOf_2 4 rfl rfl)
theorem dX3_widthOf_93 : decode cX3_widthOf 93 = .ok (.ireturn, 1) := dk_172 (dk_at dksX3_widthOf_2 5 rfl rfl)
abbrev cX3_findPlate : ByteArray := prog_10_method_23_code
def yX3_findPlate : MethodName := ⟨RX3, "findPlate", "([III)Z"⟩
def dkwX3_findPlate_7 : List UInt8 := [167, 255, 132, 132, 4, 1, 167, 255, 93, 42, 180, 0, 74, 16, 247, 159, 0, 7, 4, 167, 0, 4, 3, 172]
abbrev dktX3_findPlate_7 : List UInt8 := dkwX3_findPlate_7 ++ []
def dkwX3_findPlate_6 : List UInt8 := [42, 21, 5, 181, 0, 74, 42, 21, 7, 153, 0, 7, 3, 167, 0, 4, 4, 181, 0, 89, 132, 5, 1]
abbrev dktX3_findPlate_6 : List UInt8 := dkwX3_findPlate_6 ++ dktX3_findPlate_7
def dkwX3_findPlate_5 : List UInt8 := [29, 42, 180, 0, 77, 184, 0, 81, 153, 0, 36, 43, 21, 5, 42, 180, 0, 74, 184, 0, 85, 153, 0, 23]
abbrev dktX3_findPlate_5 : List UInt8 := dkwX3_findPlate_5 ++ dktX3_findPlate_6
def dkwX3_findPlate_4 : List UInt8 := [153, 0, 7, 4, 167, 0, 4, 3, 54, 7, 21, 7, 154, 0, 23, 21, 6, 153, 0, 51, 43, 21, 5, 4]
abbrev dktX3_findPlate_4 : List UInt8 := dkwX3_findPlate_4 ++ dktX3_findPlate_5
def dkwX3_findPlate_3 : List UInt8 := [4, 167, 0, 4, 3, 54, 6, 21, 6, 153, 0, 22, 43, 21, 5, 3, 29, 42, 180, 0, 77, 184, 0, 81]
abbrev dktX3_findPlate_3 : List UInt8 := dkwX3_findPlate_3 ++ dktX3_findPlate_4
def dkwX3_findPlate_2 : List UInt8 := [162, 0, 122, 43, 21, 5, 5, 184, 0, 53, 154, 0, 18, 43, 21, 5, 3, 184, 0, 53, 28, 161, 0, 7]
abbrev dktX3_findPlate_2 : List UInt8 := dkwX3_findPlate_2 ++ dktX3_findPlate_3
def dkwX3_findPlate_1 : List UInt8 := [42, 21, 4, 4, 160, 0, 7, 4, 167, 0, 4, 3, 181, 0, 77, 3, 54, 5, 21, 5, 43, 4, 46]
abbrev dktX3_findPlate_1 : List UInt8 := dkwX3_findPlate_1 ++ dktX3_findPlate_2
def dkwX3_findPlate_0 : List UInt8 := [42, 16, 247, 181, 0, 74, 3, 54, 4, 21, 4, 5, 162, 0, 163, 42, 180, 0, 74, 16, 247, 160, 0, 154]
abbrev dktX3_findPlate_0 : List UInt8 := dkwX3_findPlate_0 ++ dktX3_findPlate_1
theorem dksX3_findPlate_0 : cX3_findPlate.data.toList.drop 0 = dktX3_findPlate_0 := by decide +kernel
theorem dksX3_findPlate_1 : cX3_findPlate.data.toList.drop 24 = dktX3_findPlate_1 := dk_seg dksX3_findPlate_0 24 rfl rfl
theorem dksX3_findPlate_2 : cX3_findPlate.data.toList.drop 47 = dktX3_findPlate_2 := dk_seg dksX3_findPlate_1 23 rfl rfl
theorem dksX3_findPlate_3 : cX3_findPlate.data.toList.drop 71 = dktX3_findPlate_3 := dk_seg dksX3_findPlate_2 24 rfl rfl
theorem dksX3_findPlate_4 : cX3_findPlate.data.toList.drop 95 = dktX3_findPlate_4 := dk_seg dksX3_findPlate_3 24 rfl rfl
theorem dksX3_findPlate_5 : cX3_findPlate.data.toList.drop 119 = dktX3_findPlate_5 := dk_seg dksX3_findPlate_4 24 rfl rfl
theorem dksX3_findPlate_6 : cX3_findPlate.data.toList.drop 143 = dktX3_findPlate_6 := dk_seg dksX3_findPlate_5 24 rfl rfl
theorem dksX3_findPlate_7 : cX3_findPlate.data.toList.drop 166 = dktX3_findPlate_7 := dk_seg dksX3_findPlate_6 23 rfl rfl
theorem dX3_findPlate_0 : decode cX3_findPlate 0 = .ok (.aload_n 0, 1) := dk_42 (dk_at dksX3_findPlate_0 0 rfl rfl)
theorem dX3_findPlate_1 : decode cX3_findPlate 1 = .ok (.bipush (-9), 2) := dk_16 247 (dk_at dksX3_findPlate_0 1 rfl rfl)
theorem dX3_findPlate_3 : decode cX3_findPlate 3 = .ok (.putfield 74, 3) := dk_181 0 74 (dk_at dksX3_findPlate_0 3 rfl rfl)
theorem dX3_findPlate_6 : decode cX3_findPlate 6 = .ok (.iconst 0, 1) := dk_3 (dk_at dksX3_findPlate_0 6 rfl rfl)
theorem dX3_findPlate_7 : decode cX3_findPlate 7 = .ok (.istore 4, 2) := dk_54 4 (dk_at dksX3_findPlate_0 7 rfl rfl)
theorem dX3_findPlate_9 : decode cX3_findPlate 9 = .ok (.iload 4, 2) := dk_21 4 (dk_at dksX3_findPlate_0 9 rfl rfl)
theorem dX3_findPlate_11 : decode cX3_findPlate 11 = .ok (.iconst 2, 1) := dk_5 (dk_at dksX3_findPlate_0 11 rfl rfl)
theorem dX3_findPlate_12 : decode cX3_findPlate 12 = .ok (.if_icmp .ge 163, 3) := dk_162 0 163 (dk_at dksX3_findPlate_0 12 rfl rfl)
theorem dX3_findPlate_15 : decode cX3_findPlate 15 = .ok (.aload_n 0, 1) := dk_42 (dk_at dksX3_findPlate_0 15 rfl rfl)
theorem dX3_findPlate_16 : decode cX3_findPlate 16 = .ok (.getfield 74, 3) := dk_180 0 74 (dk_at dksX3_findPlate_0 16 rfl rfl)
theorem dX3_findPlate_19 : decode cX3_findPlate 19 = .ok (.bipush (-9), 2) := dk_16 247 (dk_at dksX3_findPlate_0 19 rfl rfl)
theorem dX3_findPlate_21 : decode cX3_findPlate 21 = .ok (.if_icmp .ne 154, 3) := dk_160 0 154 (dk_at dksX3_findPlate_0 21 rfl rfl)
theorem dX3_findPlate_24 : decode cX3_findPlate 24 = .ok (.aload_n 0, 1) := dk_42 (dk_at dksX3_findPlate_1 0 rfl rfl)
theorem dX3_findPlate_25 : decode cX3_findPlate 25 = .ok (.iload 4, 2) := dk_21 4 (dk_at dksX3_findPlate_1 1 rfl rfl)
theorem dX3_findPlate_27 : decode cX3_findPlate 27 = .ok (.iconst 1, 1) := dk_4 (dk_at dksX3_findPlate_1 3 rfl rfl)
theorem dX3_findPlate_28 : decode cX3_findPlate 28 = .ok (.if_icmp .ne 7, 3) := dk_160 0 7 (dk_at dksX3_findPlate_1 4 rfl rfl)
theorem dX3_findPlate_31 : decode cX3_findPlate 31 = .ok (.iconst 1, 1) := dk_4 (dk_at dksX3_findPlate_1 7 rfl rfl)
theorem dX3_findPlate_32 : decode cX3_findPlate 32 = .ok (.goto 4, 3) := dk_167 0 4 (dk_at dksX3_findPlate_1 8 rfl rfl)
theorem dX3_findPlate_35 : decode cX3_findPlate 35 = .ok (.iconst 0, 1) := dk_3 (dk_at dksX3_findPlate_1 11 rfl rfl)
theorem dX3_findPlate_36 : decode cX3_findPlate 36 = .ok (.putfield 77, 3) := dk_181 0 77 (dk_at dksX3_findPlate_1 12 rfl rfl)
theorem dX3_findPlate_39 : decode cX3_findPlate 39 = .ok (.iconst 0, 1) := dk_3 (dk_at dksX3_findPlate_1 15 rfl rfl)
theorem dX3_findPlate_40 : decode cX3_findPlate 40 = .ok (.istore 5, 2) := dk_54 5 (dk_at dksX3_findPlate_1 16 rfl rfl)
theorem dX3_findPlate_42 : decode cX3_findPlate 42 = .ok (.iload 5, 2) := dk_21 5 (dk_at dksX3_findPlate_1 18 rfl rfl)
theorem dX3_findPlate_44 : decode cX3_findPlate 44 = .ok (.aload_n 1, 1) := dk_43 (dk_at dksX3_findPlate_1 20 rfl rfl)
theorem dX3_findPlate_45 : decode cX3_findPlate 45 = .ok (.iconst 1, 1) := dk_4 (dk_at dksX3_findPlate_1 21 rfl rfl)
theorem dX3_findPlate_46 : decode cX3_findPlate 46 = .ok (.iaload, 1) := dk_46 (dk_at dksX3_findPlate_1 22 rfl rfl)
theorem dX3_findPlate_47 : decode cX3_findPlate 47 = .ok (.if_icmp .ge 122, 3) := dk_162 0 122 (dk_at dksX3_findPlate_2 0 rfl rfl)
theorem dX3_findPlate_50 : decode cX3_findPlate 50 = .ok (.aload_n 1, 1) := dk_43 (dk_at dksX3_findPlate_2 3 rfl rfl)
theorem dX3_findPlate_51 : decode cX3_findPlate 51 = .ok (.iload 5, 2) := dk_21 5 (dk_at dksX3_findPlate_2 4 rfl rfl)
theorem dX3_findPlate_53 : decode cX3_findPlate 53 = .ok (.iconst 2, 1) := dk_5 (dk_at dksX3_findPlate_2 6 rfl rfl)
theorem dX3_findPlate_54 : decode cX3_findPlate 54 = .ok (.invokestatic 53, 3) := dk_184 0 53 (dk_at dksX3_findPlate_2 7 rfl rfl)
theorem dX3_findPlate_57 : decode cX3_findPlate 57 = .ok (.ifCond .ne 18, 3) := dk_154 0 18 (dk_at dksX3_findPlate_2 10 rfl rfl)
theorem dX3_findPlate_60 : decode cX3_findPlate 60 = .ok (.aload_n 1, 1) := dk_43 (dk_at dksX3_findPlate_2 13 rfl rfl)
theorem dX3_findPlate_61 : decode cX3_findPlate 61 = .ok (.iload 5, 2) := dk_21 5 (dk_at dksX3_findPlate_2 14 rfl rfl)
theorem dX3_findPlate_63 : decode cX3_findPlate 63 = .ok (.iconst 0, 1) := dk_3 (dk_at dksX3_findPlate_2 16 rfl rfl)
theorem dX3_findPlate_64 : decode cX3_findPlate 64 = .ok (.invokestatic 53, 3) := dk_184 0 53 (dk_at dksX3_findPlate_2 17 rfl rfl)
theorem dX3_findPlate_67 : decode cX3_findPlate 67 = .ok (.iload_n 2, 1) := dk_28 (dk_at dksX3_findPlate_2 20 rfl rfl)
theorem dX3_findPlate_68 : decode cX3_findPlate 68 = .ok (.if_icmp .lt 7, 3) := dk_161 0 7 (dk_at dksX3_findPlate_2 21 rfl rfl)
theorem dX3_findPlate_71 : decode cX3_findPlate 71 = .ok (.iconst 1, 1) := dk_4 (dk_at dksX3_findPlate_3 0 rfl rfl)
theorem dX3_findPlate_72 : decode cX3_findPlate 72 = .ok (.goto 4, 3) := dk_167 0 4 (dk_at dksX3_findPlate_3 1 rfl rfl)
theorem dX3_findPlate_75 : decode cX3_findPlate 75 = .ok (.iconst 0, 1) := dk_3 (dk_at dksX3_findPlate_3 4 rfl rfl)
theorem dX3_findPlate_76 : decode cX3_findPlate 76 = .ok (.istore 6, 2) := dk_54 6 (dk_at dksX3_findPlate_3 5 rfl rfl)
theorem dX3_findPlate_78 : decode cX3_findPlate 78 = .ok (.iload 6, 2) := dk_21 6 (dk_at dksX3_findPlate_3 7 rfl rfl)
theorem dX3_findPlate_80 : decode cX3_findPlate 80 = .ok (.ifCond .eq 22, 3) := dk_153 0 22 (dk_at dksX3_findPlate_3 9 rfl rfl)
theorem dX3_findPlate_83 : decode cX3_findPlate 83 = .ok (.aload_n 1, 1) := dk_43 (dk_at dksX3_findPlate_3 12 rfl rfl)
theorem dX3_findPlate_84 : decode cX3_findPlate 84 = .ok (.iload 5, 2) := dk_21 5 (dk_at dksX3_findPlate_3 13 rfl rfl)
theorem dX3_findPlate_86 : decode cX3_findPlate 86 = .ok (.iconst 0, 1) := dk_3 (dk_at dksX3_findPlate_3 15 rfl rfl)
theorem dX3_findPlate_87 : decode cX3_findPlate 87 = .ok (.iload_n 3, 1) := dk_29 (dk_at dksX3_findPlate_3 16 rfl rfl)
theorem dX3_findPlate_88 : decode cX3_findPlate 88 = .ok (.aload_n 0, 1) := dk_42 (dk_at dksX3_findPlate_3 17 rfl rfl)
theorem dX3_findPlate_89 : decode cX3_findPlate 89 = .ok (.getfield 77, 3) := dk_180 0 77 (dk_at dksX3_findPlate_3 18 rfl rfl)
theorem dX3_findPlate_92 : decode cX3_findPlate 92 = .ok (.invokestatic 81, 3) := dk_184 0 81 (dk_at dksX3_findPlate_3 21 rfl rfl)
theorem dX3_findPlate_95 : decode cX3_findPlate 95 = .ok (.ifCond .eq 7, 3) := dk_153 0 7 (dk_at dksX3_findPlate_4 0 rfl rfl)
theorem dX3_findPlate_98 : decode cX3_findPlate 98 = .ok (.iconst 1, 1) := dk_4 (dk_at dksX3_findPlate_4 3 rfl rfl)
theorem dX3_findPlate_99 : decode cX3_findPlate 99 = .ok (.goto 4, 3) := dk_167 0 4 (dk_at dksX3_findPlate_4 4 rfl rfl)
theorem dX3_findPlate_102 : decode cX3_findPlate 102 = .ok (.iconst 0, 1) := dk_3 (dk_at dksX3_findPlate_4 7 rfl rfl)
theorem dX3_findPlate_103 : decode cX3_findPlate 103 = .ok (.istore 7, 2) := dk_54 7 (dk_at dksX3_findPlate_4 8 rfl rfl)
theorem dX3_findPlate_105 : decode cX3_findPlate 105 = .ok (.iload 7, 2) := dk_21 7 (dk_at dksX3_findPlate_4 10 rfl rfl)
theorem dX3_findPlate_107 : decode cX3_findPlate 107 = .ok (.ifCond .ne 23, 3) := dk_154 0 23 (dk_at dksX3_findPlate_4 12 rfl rfl)
theorem dX3_findPlate_110 : decode cX3_findPlate 110 = .ok (.iload 6, 2) := dk_21 6 (dk_at dksX3_findPlate_4 15 rfl rfl)
theorem dX3_findPlate_112 : decode cX3_findPlate 112 = .ok (.ifCond .eq 51, 3) := dk_153 0 51 (dk_at dksX3_findPlate_4 17 rfl rfl)
theorem dX3_findPlate_115 : decode cX3_findPlate 115 = .ok (.aload_n 1, 1) := dk_43 (dk_at dksX3_findPlate_4 20 rfl rfl)
theorem dX3_findPlate_116 : decode cX3_findPlate 116 = .ok (.iload 5, 2) := dk_21 5 (dk_at dksX3_findPlate_4 21 rfl rfl)
theorem dX3_findPlate_118 : decode cX3_findPlate 118 = .ok (.iconst 1, 1) := dk_4 (dk_at dksX3_findPlate_4 23 rfl rfl)
theorem dX3_findPlate_119 : decode cX3_findPlate 119 = .ok (.iload_n 3, 1) := dk_29 (dk_at dksX3_findPlate_5 0 rfl rfl)
theorem dX3_findPlate_120 : decode cX3_findPlate 120 = .ok (.aload_n 0, 1) := dk_42 (dk_at dksX3_findPlate_5 1 rfl rfl)
theorem dX3_findPlate_121 : decode cX3_findPlate 121 = .ok (.getfield 77, 3) := dk_180 0 77 (dk_at dksX3_findPlate_5 2 rfl rfl)
theorem dX3_findPlate_124 : decode cX3_findPlate 124 = .ok (.invokestatic 81, 3) := dk_184 0 81 (dk_at dksX3_findPlate_5 5 rfl rfl)
theorem dX3_findPlate_127 : decode cX3_findPlate 127 = .ok (.ifCond .eq 36, 3) := dk_153 0 36 (dk_at dksX3_findPlate_5 8 rfl rfl)
theorem dX3_findPlate_130 : decode cX3_findPlate 130 = .ok (.aload_n 1, 1) := dk_43 (dk_at dksX3_findPlate_5 11 rfl rfl)
theorem dX3_findPlate_131 : decode cX3_findPlate 131 = .ok (.iload 5, 2) := dk_21 5 (dk_at dksX3_findPlate_5 12 rfl rfl)
theorem dX3_findPlate_133 : decode cX3_findPlate 133 = .ok (.aload_n 0, 1) := dk_42 (dk_at dksX3_findPlate_5 14 rfl rfl)
theorem dX3_findPlate_134 : decode cX3_findPlate 134 = .ok (.getfield 74, 3) := dk_180 0 74 (dk_at dksX3_findPlate_5 15 rfl rfl)
theorem dX3_findPlate_137 : decode cX3_findPlate 137 = .ok (.invokestatic 85, 3) := dk_184 0 85 (dk_at dksX3_findPlate_5 18 rfl rfl)
theorem dX3_findPlate_140 : decode cX3_findPlate 140 = .ok (.ifCond .eq 23, 3) := dk_153 0 23 (dk_at dksX3_findPlate_5 21 rfl rfl)
theorem dX3_findPlate_143 : decode cX3_findPlate 143 = .ok (.aload_n 0, 1) := dk_42 (dk_at dksX3_findPlate_6 0 rfl rfl)
theorem dX3_findPlate_144 : decode cX3_findPlate 144 = .ok (.iload 5, 2) := dk_21 5 (dk_at dksX3_findPlate_6 1 rfl rfl)
theorem dX3_findPlate_146 : decode cX3_findPlate 146 = .ok (.putfield 74, 3) := dk_181 0 74 (dk_at dksX3_findPlate_6 3 rfl rfl)
theorem dX3_findPlate_149 : decode cX3_findPlate 149 = .ok (.aload_n 0, 1) := dk_42 (dk_at dksX3_findPlate_6 6 rfl rfl)
theorem dX3_findPlate_150 : decode cX3_findPlate 150 = .ok (.iload 7, 2) := dk_21 7 (dk_at dksX3_findPlate_6 7 rfl rfl)
theorem dX3_findPlate_152 : decode cX3_findPlate 152 = .ok (.ifCond .eq 7, 3) := dk_153 0 7 (dk_at dksX3_findPlate_6 9 rfl rfl)
theorem dX3_findPlate_155 : decode cX3_findPlate 155 = .ok (.iconst 0, 1) := dk_3 (dk_at dksX3_findPlate_6 12 rfl rfl)
theorem dX3_findPlate_156 : decode cX3_findPlate 156 = .ok (.goto 4, 3) := dk_167 0 4 (dk_at dksX3_findPlate_6 13 rfl rfl)
theorem dX3_findPlate_159 : decode cX3_findPlate 159 = .ok (.iconst 1, 1) := dk_4 (dk_at dksX3_findPlate_6 16 rfl rfl)
theorem dX3_findPlate_160 : decode cX3_findPlate 160 = .ok (.putfield 89, 3) := dk_181 0 89 (dk_at dksX3_findPlate_6 17 rfl rfl)
theorem dX3_findPlate_163 : decode cX3_findPlate 163 = .ok (.iinc 5 1, 3) := dk_132 5 1 (dk_at dksX3_findPlate_6 20 rfl rfl)
theorem dX3_findPlate_166 : decode cX3_findPlate 166 = .ok (.goto (-124), 3) := dk_167 255 132 (dk_at dksX3_findPlate_7 0 rfl rfl)
theorem dX3_findPlate_169 : decode cX3_findPlate 169 = .ok (.iinc 4 1, 3) := dk_132 4 1 (dk_at dksX3_findPlate_7 3 rfl rfl)
theorem dX3_findPlate_172 : decode cX3_findPlate 172 = .ok (.goto (-163), 3) := dk_167 255 93 (dk_at dksX3_findPlate_7 6 rfl rfl)
theorem dX3_findPlate_175 : decode cX3_findPlate 175 = .ok (.aload_n 0, 1) := dk_42 (dk_at dksX3_findPlate_7 9 rfl rfl)
theorem dX3_findPlate_176 : decode cX3_findPlate 176 = .ok (.getfield 74, 3) := dk_180 0 74 (dk_at dksX3_findPlate_7 10 rfl rfl)
theorem dX3_findPlate_179 : decode cX3_findPlate 179 = .ok (.bipush (-9), 2) := dk_16 247 (dk_at dksX3_findPlate_7 13 rfl rfl)
theorem dX3_findPlate_181 : decode cX3_findPlate 181 = .ok (.if_icmp .eq 7, 3) := dk_159 0 7 (dk_at dksX3_findPlate_7 15 rfl rfl)
theorem dX3_findPlate_184 : decode cX3_findPlate 184 = .ok (.iconst 1, 1) := dk_4 (dk_at dksX3_findPlate_7 18 rfl rfl)
theorem dX3_findPlate_185 : decode cX3_findPlate 185 = .ok (.goto 4, 3) := dk_167 0 4 (dk_at dksX3_findPlate_7 19 rfl rfl)
theorem dX3_findPlate_188 : decode cX3_findPlate 188 = .ok (.iconst 0, 1) := dk_3 (dk_at dksX3_findPlate_7 22 rfl rfl)
theorem dX3_findPlate_189 : decode cX3_findPlate 189 = .ok (.ireturn, 1) := dk_172 (dk_at dksX3_findPlate_7 23 rfl rfl)
abbrev cX3_mayTake : ByteArray := prog_10_method_22_code
def yX3_mayTake : MethodName := ⟨RX3, "mayTake", "([IIIIZ)Z"⟩
def dkwX3_mayTake_0 : List UInt8 := [21, 4, 153, 0, 13, 42, 27, 28, 29, 184, 0, 67, 167, 0, 10, 42, 27, 28, 29, 184, 0, 71, 172]
abbrev dktX3_mayTake_0 : List UInt8 := dkwX3_mayTake_0 ++ []
theorem dksX3_mayTake_0 : cX3_mayTake.data.toList.drop 0 = dktX3_mayTake_0 := by decide +kernel
theorem dX3_mayTake_0 : decode cX3_mayTake 0 = .ok (.iload 4, 2) := dk_21 4 (dk_at dksX3_mayTake_0 0 rfl rfl)
theorem dX3_mayTake_2 : decode cX3_mayTake 2 = .ok (.ifCond .eq 13, 3) := dk_153 0 13 (dk_at dksX3_mayTake_0 2 rfl rfl)
theorem dX3_mayTake_5 : decode cX3_mayTake 5 = .ok (.aload_n 0, 1) := dk_42 (dk_at dksX3_mayTake_0 5 rfl rfl)
theorem dX3_mayTake_6 : decode cX3_mayTake 6 = .ok (.iload_n 1, 1) := dk_27 (dk_at dksX3_mayTake_0 6 rfl rfl)
theorem dX3_mayTake_7 : decode cX3_mayTake 7 = .ok (.iload_n 2, 1) := dk_28 (dk_at dksX3_mayTake_0 7 rfl rfl)
theorem dX3_mayTake_8 : decode cX3_mayTake 8 = .ok (.iload_n 3, 1) := dk_29 (dk_at dksX3_mayTake_0 8 rfl rfl)
theorem dX3_mayTake_9 : decode cX3_mayTake 9 = .ok (.invokestatic 67, 3) := dk_184 0 67 (dk_at dksX3_mayTake_0 9 rfl rfl)
theorem dX3_mayTake_12 : decode cX3_mayTake 12 = .ok (.goto 10, 3) := dk_167 0 10 (dk_at dksX3_mayTake_0 12 rfl rfl)
theorem dX3_mayTake_15 : decode cX3_mayTake 15 = .ok (.aload_n 0, 1) := dk_42 (dk_at dksX3_mayTake_0 15 rfl rfl)
theorem dX3_mayTake_16 : decode cX3_mayTake 16 = .ok (.iload_n 1, 1) := dk_27 (dk_at dksX3_mayTake_0 16 rfl rfl)
theorem dX3_mayTake_17 : decode cX3_mayTake 17 = .ok (.iload_n 2, 1) := dk_28 (dk_at dksX3_mayTake_0 17 rfl rfl)
theorem dX3_mayTake_18 : decode cX3_mayTake 18 = .ok (.iload_n 3, 1) := dk_29 (dk_at dksX3_mayTake_0 18 rfl rfl)
theorem dX3_mayTake_19 : decode cX3_mayTake 19 = .ok (.invokestatic 71, 3) := dk_184 0 71 (dk_at dksX3_mayTake_0 19 rfl rfl)
theorem dX3_mayTake_22 : decode cX3_mayTake 22 = .ok (.ireturn, 1) := dk_172 (dk_at dksX3_mayTake_0 22 rfl rfl)
abbrev cX3_canBeGround : ByteArray := prog_10_method_19_code
def yX3_canBeGround : MethodName := ⟨RX3, "canBeGround", "([IIII)Z"⟩
def dkwX3_canBeGround_1 : List UInt8 := [5, 161, 0, 7, 4, 167, 0, 4, 3, 172]
abbrev dktX3_canBeGround_1 : List UInt8 := dkwX3_canBeGround_1 ++ []
def dkwX3_canBeGround_0 : List UInt8 := [42, 27, 28, 184, 0, 56, 54, 4, 21, 4, 158, 0, 22, 42, 27, 28, 29, 21, 4, 4, 96, 184, 0, 59]
abbrev dktX3_canBeGround_0 : List UInt8 := dkwX3_canBeGround_0 ++ dktX3_canBeGround_1
theorem dksX3_canBeGround_0 : cX3_canBeGround.data.toList.drop 0 = dktX3_canBeGround_0 := by decide +kernel
theorem dksX3_canBeGround_1 : cX3_canBeGround.data.toList.drop 24 = dktX3_canBeGround_1 := dk_seg dksX3_canBeGround_0 24 rfl rfl
theorem dX3_canBeGround_0 : decode cX3_canBeGround 0 = .ok (.aload_n 0, 1) := dk_42 (dk_at dksX3_canBeGround_0 0 rfl rfl)
theorem dX3_canBeGround_1 : decode cX3_canBeGround 1 = .ok (.iload_n 1, 1) := dk_27 (dk_at dksX3_canBeGround_0 1 rfl rfl)
theorem dX3_canBeGround_2 : decode cX3_canBeGround 2 = .ok (.iload_n 2, 1) := dk_28 (dk_at dksX3_canBeGround_0 2 rfl rfl)
theorem dX3_canBeGround_3 : decode cX3_canBeGround 3 = .ok (.invokestatic 56, 3) := dk_184 0 56 (dk_at dksX3_canBeGround_0 3 rfl rfl)
theorem dX3_canBeGround_6 : decode cX3_canBeGround 6 = .ok (.istore 4, 2) := dk_54 4 (dk_at dksX3_canBeGround_0 6 rfl rfl)
theorem dX3_canBeGround_8 : decode cX3_canBeGround 8 = .ok (.iload 4, 2) := dk_21 4 (dk_at dksX3_canBeGround_0 8 rfl rfl)
theorem dX3_canBeGround_10 : decode cX3_canBeGround 10 = .ok (.ifCond .le 22, 3) := dk_158 0 22 (dk_at dksX3_canBeGround_0 10 rfl rfl)
theorem dX3_canBeGround_13 : decode cX3_canBeGround 13 = .ok (.aload_n 0, 1) := dk_42 (dk_at dksX3_canBeGround_0 13 rfl rfl)
theorem dX3_canBeGround_14 : decode cX3_canBeGround 14 = .ok (.iload_n 1, 1) := dk_27 (dk_at dksX3_canBeGround_0 14 rfl rfl)
theorem dX3_canBeGround_15 : decode cX3_canBeGround 15 = .ok (.iload_n 2, 1) := dk_28 (dk_at dksX3_canBeGround_0 15 rfl rfl)
theorem dX3_canBeGround_16 : decode cX3_canBeGround 16 = .ok (.iload_n 3, 1) := dk_29 (dk_at dksX3_canBeGround_0 16 rfl rfl)
theorem dX3_canBeGround_17 : decode cX3_canBeGround 17 = .ok (.iload 4, 2) := dk_21 4 (dk_at dksX3_canBeGround_0 17 rfl rfl)
theorem dX3_canBeGround_19 : decode cX3_canBeGround 19 = .ok (.iconst 1, 1) := dk_4 (dk_at dksX3_canBeGround_0 19 rfl rfl)
theorem dX3_canBeGround_20 : decode cX3_canBeGround 20 = .ok (.iadd, 1) := dk_96 (dk_at dksX3_canBeGround_0 20 rfl rfl)
theorem dX3_canBeGround_21 : decode cX3_canBeGround 21 = .ok (.invokestatic 59, 3) := dk_184 0 59 (dk_at dksX3_canBeGround_0 21 rfl rfl)
theorem dX3_canBeGround_24 : decode cX3_canBeGround 24 = .ok (.iconst 2, 1) := dk_5 (dk_at dksX3_canBeGround_1 0 rfl rfl)
theorem dX3_canBeGround_25 : decode cX3_canBeGround 25 = .ok (.if_icmp .lt 7, 3) := dk_161 0 7 (dk_at dksX3_canBeGround_1 1 rfl rfl)
theorem dX3_canBeGround_28 : decode cX3_canBeGround 28 = .ok (.iconst 1, 1) := dk_4 (dk_at dksX3_canBeGround_1 4 rfl rfl)
theorem dX3_canBeGround_29 : decode cX3_canBeGround 29 = .ok (.goto 4, 3) := dk_167 0 4 (dk_at dksX3_canBeGround_1 5 rfl rfl)
theorem dX3_canBeGround_32 : decode cX3_canBeGround 32 = .ok (.iconst 0, 1) := dk_3 (dk_at dksX3_canBeGround_1 8 rfl rfl)
theorem dX3_canBeGround_33 : decode cX3_canBeGround 33 = .ok (.ireturn, 1) := dk_172 (dk_at dksX3_canBeGround_1 9 rfl rfl)
abbrev cX3_isReady : ByteArray := prog_10_method_18_code
def yX3_isReady : MethodName := ⟨RX3, "isReady", "([IIII)Z"⟩
def dkwX3_isReady_1 : List UInt8 := [167, 0, 4, 3, 172]
abbrev dktX3_isReady_1 : List UInt8 := dkwX3_isReady_1 ++ []
def dkwX3_isReady_0 : List UInt8 := [42, 27, 28, 184, 0, 56, 154, 0, 19, 42, 27, 28, 29, 3, 184, 0, 59, 5, 161, 0, 7, 4]
abbrev dktX3_isReady_0 : List UInt8 := dkwX3_isReady_0 ++ dktX3_isReady_1
theorem dksX3_isReady_0 : cX3_isReady.data.toList.drop 0 = dktX3_isReady_0 := by decide +kernel
theorem dksX3_isReady_1 : cX3_isReady.data.toList.drop 22 = dktX3_isReady_1 := dk_seg dksX3_isReady_0 22 rfl rfl
theorem dX3_isReady_0 : decode cX3_isReady 0 = .ok (.aload_n 0, 1) := dk_42 (dk_at dksX3_isReady_0 0 rfl rfl)
theorem dX3_isReady_1 : decode cX3_isReady 1 = .ok (.iload_n 1, 1) := dk_27 (dk_at dksX3_isReady_0 1 rfl rfl)
theorem dX3_isReady_2 : decode cX3_isReady 2 = .ok (.iload_n 2, 1) := dk_28 (dk_at dksX3_isReady_0 2 rfl rfl)
theorem dX3_isReady_3 : decode cX3_isReady 3 = .ok (.invokestatic 56, 3) := dk_184 0 56 (dk_at dksX3_isReady_0 3 rfl rfl)
theorem dX3_isReady_6 : decode cX3_isReady 6 = .ok (.ifCond .ne 19, 3) := dk_154 0 19 (dk_at dksX3_isReady_0 6 rfl rfl)
theorem dX3_isReady_9 : decode cX3_isReady 9 = .ok (.aload_n 0, 1) := dk_42 (dk_at dksX3_isReady_0 9 rfl rfl)
theorem dX3_isReady_10 : decode cX3_isReady 10 = .ok (.iload_n 1, 1) := dk_27 (dk_at dksX3_isReady_0 10 rfl rfl)
theorem dX3_isReady_11 : decode cX3_isReady 11 = .ok (.iload_n 2, 1) := dk_28 (dk_at dksX3_isReady_0 11 rfl rfl)
theorem dX3_isReady_12 : decode cX3_isReady 12 = .ok (.iload_n 3, 1) := dk_29 (dk_at dksX3_isReady_0 12 rfl rfl)
theorem dX3_isReady_13 : decode cX3_isReady 13 = .ok (.iconst 0, 1) := dk_3 (dk_at dksX3_isReady_0 13 rfl rfl)
theorem dX3_isReady_14 : decode cX3_isReady 14 = .ok (.invokestatic 59, 3) := dk_184 0 59 (dk_at dksX3_isReady_0 14 rfl rfl)
theorem dX3_isReady_17 : decode cX3_isReady 17 = .ok (.iconst 2, 1) := dk_5 (dk_at dksX3_isReady_0 17 rfl rfl)
theorem dX3_isReady_18 : decode cX3_isReady 18 = .ok (.if_icmp .lt 7, 3) := dk_161 0 7 (dk_at dksX3_isReady_0 18 rfl rfl)
theorem dX3_isReady_21 : decode cX3_isReady 21 = .ok (.iconst 1, 1) := dk_4 (dk_at dksX3_isReady_0 21 rfl rfl)
theorem dX3_isReady_22 : decode cX3_isReady 22 = .ok (.goto 4, 3) := dk_167 0 4 (dk_at dksX3_isReady_1 0 rfl rfl)
theorem dX3_isReady_25 : decode cX3_isReady 25 = .ok (.iconst 0, 1) := dk_3 (dk_at dksX3_isReady_1 3 rfl rfl)
theorem dX3_isReady_26 : decode cX3_isReady 26 = .ok (.ireturn, 1) := dk_172 (dk_at dksX3_isReady_1 4 rfl rfl)
abbrev cX3_isBetter : ByteArray := prog_10_method_21_code
def yX3_isBetter : MethodName := ⟨RX3, "isBetter", "([III)Z"⟩
def dkwX3_isBetter_2 : List UInt8 := [167, 0, 4, 3, 172]
abbrev dktX3_isBetter_2 : List UInt8 := dkwX3_isBetter_2 ++ []
def dkwX3_isBetter_1 : List UInt8 := [155, 0, 22, 29, 154, 0, 22, 42, 27, 4, 184, 0, 53, 42, 28, 4, 184, 0, 53, 162, 0, 7, 4]
abbrev dktX3_isBetter_1 : List UInt8 := dkwX3_isBetter_1 ++ dktX3_isBetter_2
def dkwX3_isBetter_0 : List UInt8 := [28, 16, 247, 160, 0, 5, 4, 172, 42, 27, 3, 184, 0, 53, 42, 28, 3, 184, 0, 53, 100, 62, 29]
abbrev dktX3_isBetter_0 : List UInt8 := dkwX3_isBetter_0 ++ dktX3_isBetter_1
theorem dksX3_isBetter_0 : cX3_isBetter.data.toList.drop 0 = dktX3_isBetter_0 := by decide +kernel
theorem dksX3_isBetter_1 : cX3_isBetter.data.toList.drop 23 = dktX3_isBetter_1 := dk_seg dksX3_isBetter_0 23 rfl rfl
theorem dksX3_isBetter_2 : cX3_isBetter.data.toList.drop 46 = dktX3_isBetter_2 := dk_seg dksX3_isBetter_1 23 rfl rfl
theorem dX3_isBetter_0 : decode cX3_isBetter 0 = .ok (.iload_n 2, 1) := dk_28 (dk_at dksX3_isBetter_0 0 rfl rfl)
theorem dX3_isBetter_1 : decode cX3_isBetter 1 = .ok (.bipush (-9), 2) := dk_16 247 (dk_at dksX3_isBetter_0 1 rfl rfl)
theorem dX3_isBetter_3 : decode cX3_isBetter 3 = .ok (.if_icmp .ne 5, 3) := dk_160 0 5 (dk_at dksX3_isBetter_0 3 rfl rfl)
theorem dX3_isBetter_6 : decode cX3_isBetter 6 = .ok (.iconst 1, 1) := dk_4 (dk_at dksX3_isBetter_0 6 rfl rfl)
theorem dX3_isBetter_7 : decode cX3_isBetter 7 = .ok (.ireturn, 1) := dk_172 (dk_at dksX3_isBetter_0 7 rfl rfl)
theorem dX3_isBetter_8 : decode cX3_isBetter 8 = .ok (.aload_n 0, 1) := dk_42 (dk_at dksX3_isBetter_0 8 rfl rfl)
theorem dX3_isBetter_9 : decode cX3_isBetter 9 = .ok (.iload_n 1, 1) := dk_27 (dk_at dksX3_isBetter_0 9 rfl rfl)
theorem dX3_isBetter_10 : decode cX3_isBetter 10 = .ok (.iconst 0, 1) := dk_3 (dk_at dksX3_isBetter_0 10 rfl rfl)
theorem dX3_isBetter_11 : decode cX3_isBetter 11 = .ok (.invokestatic 53, 3) := dk_184 0 53 (dk_at dksX3_isBetter_0 11 rfl rfl)
theorem dX3_isBetter_14 : decode cX3_isBetter 14 = .ok (.aload_n 0, 1) := dk_42 (dk_at dksX3_isBetter_0 14 rfl rfl)
theorem dX3_isBetter_15 : decode cX3_isBetter 15 = .ok (.iload_n 2, 1) := dk_28 (dk_at dksX3_isBetter_0 15 rfl rfl)
theorem dX3_isBetter_16 : decode cX3_isBetter 16 = .ok (.iconst 0, 1) := dk_3 (dk_at dksX3_isBetter_0 16 rfl rfl)
theorem dX3_isBetter_17 : decode cX3_isBetter 17 = .ok (.invokestatic 53, 3) := dk_184 0 53 (dk_at dksX3_isBetter_0 17 rfl rfl)
theorem dX3_isBetter_20 : decode cX3_isBetter 20 = .ok (.isub, 1) := dk_100 (dk_at dksX3_isBetter_0 20 rfl rfl)
theorem dX3_isBetter_21 : decode cX3_isBetter 21 = .ok (.istore_n 3, 1) := dk_62 (dk_at dksX3_isBetter_0 21 rfl rfl)
theorem dX3_isBetter_22 : decode cX3_isBetter 22 = .ok (.iload_n 3, 1) := dk_29 (dk_at dksX3_isBetter_0 22 rfl rfl)
theorem dX3_isBetter_23 : decode cX3_isBetter 23 = .ok (.ifCond .lt 22, 3) := dk_155 0 22 (dk_at dksX3_isBetter_1 0 rfl rfl)
theorem dX3_isBetter_26 : decode cX3_isBetter 26 = .ok (.iload_n 3, 1) := dk_29 (dk_at dksX3_isBetter_1 3 rfl rfl)
theorem dX3_isBetter_27 : decode cX3_isBetter 27 = .ok (.ifCond .ne 22, 3) := dk_154 0 22 (dk_at dksX3_isBetter_1 4 rfl rfl)
theorem dX3_isBetter_30 : decode cX3_isBetter 30 = .ok (.aload_n 0, 1) := dk_42 (dk_at dksX3_isBetter_1 7 rfl rfl)
theorem dX3_isBetter_31 : decode cX3_isBetter 31 = .ok (.iload_n 1, 1) := dk_27 (dk_at dksX3_isBetter_1 8 rfl rfl)
theorem dX3_isBetter_32 : decode cX3_isBetter 32 = .ok (.iconst 1, 1) := dk_4 (dk_at dksX3_isBetter_1 9 rfl rfl)
theorem dX3_isBetter_33 : decode cX3_isBetter 33 = .ok (.invokestatic 53, 3) := dk_184 0 53 (dk_at dksX3_isBetter_1 10 rfl rfl)
theorem dX3_isBetter_36 : decode cX3_isBetter 36 = .ok (.aload_n 0, 1) := dk_42 (dk_at dksX3_isBetter_1 13 rfl rfl)
theorem dX3_isBetter_37 : decode cX3_isBetter 37 = .ok (.iload_n 2, 1) := dk_28 (dk_at dksX3_isBetter_1 14 rfl rfl)
theorem dX3_isBetter_38 : decode cX3_isBetter 38 = .ok (.iconst 1, 1) := dk_4 (dk_at dksX3_isBetter_1 15 rfl rfl)
theorem dX3_isBetter_39 : decode cX3_isBetter 39 = .ok (.invokestatic 53, 3) := dk_184 0 53 (dk_at dksX3_isBetter_1 16 rfl rfl)
theorem dX3_isBetter_42 : decode cX3_isBetter 42 = .ok (.if_icmp .ge 7, 3) := dk_162 0 7 (dk_at dksX3_isBetter_1 19 rfl rfl)
theorem dX3_isBetter_45 : decode cX3_isBetter 45 = .ok (.iconst 1, 1) := dk_4 (dk_at dksX3_isBetter_1 22 rfl rfl)
theorem dX3_isBetter_46 : decode cX3_isBetter 46 = .ok (.goto 4, 3) := dk_167 0 4 (dk_at dksX3_isBetter_2 0 rfl rfl)
theorem dX3_isBetter_49 : decode cX3_isBetter 49 = .ok (.iconst 0, 1) := dk_3 (dk_at dksX3_isBetter_2 3 rfl rfl)
theorem dX3_isBetter_50 : decode cX3_isBetter 50 = .ok (.ireturn, 1) := dk_172 (dk_at dksX3_isBetter_2 4 rfl rfl)
abbrev cX3_effort : ByteArray := prog_10_method_15_code
def yX3_effort : MethodName := ⟨RX3, "effort", "([II)I"⟩
def dkwX3_effort_0 : List UInt8 := [42, 27, 8, 184, 0, 42, 42, 27, 5, 184, 0, 42, 42, 27, 6, 184, 0, 42, 96, 104, 172]
abbrev dktX3_effort_0 : List UInt8 := dkwX3_effort_0 ++ []
theorem dksX3_effort_0 : cX3_effort.data.toList.drop 0 = dktX3_effort_0 := by decide +kernel
theorem dX3_effort_0 : decode cX3_effort 0 = .ok (.aload_n 0, 1) := dk_42 (dk_at dksX3_effort_0 0 rfl rfl)
theorem dX3_effort_1 : decode cX3_effort 1 = .ok (.iload_n 1, 1) := dk_27 (dk_at dksX3_effort_0 1 rfl rfl)
theorem dX3_effort_2 : decode cX3_effort 2 = .ok (.iconst 5, 1) := dk_8 (dk_at dksX3_effort_0 2 rfl rfl)
theorem dX3_effort_3 : decode cX3_effort 3 = .ok (.invokestatic 42, 3) := dk_184 0 42 (dk_at dksX3_effort_0 3 rfl rfl)
theorem dX3_effort_6 : decode cX3_effort 6 = .ok (.aload_n 0, 1) := dk_42 (dk_at dksX3_effort_0 6 rfl rfl)
theorem dX3_effort_7 : decode cX3_effort 7 = .ok (.iload_n 1, 1) := dk_27 (dk_at dksX3_effort_0 7 rfl rfl)
theorem dX3_effort_8 : decode cX3_effort 8 = .ok (.iconst 2, 1) := dk_5 (dk_at dksX3_effort_0 8 rfl rfl)
theorem dX3_effort_9 : decode cX3_effort 9 = .ok (.invokestatic 42, 3) := dk_184 0 42 (dk_at dksX3_effort_0 9 rfl rfl)
theorem dX3_effort_12 : decode cX3_effort 12 = .ok (.aload_n 0, 1) := dk_42 (dk_at dksX3_effort_0 12 rfl rfl)
theorem dX3_effort_13 : decode cX3_effort 13 = .ok (.iload_n 1, 1) := dk_27 (dk_at dksX3_effort_0 13 rfl rfl)
theorem dX3_effort_14 : decode cX3_effort 14 = .ok (.iconst 3, 1) := dk_6 (dk_at dksX3_effort_0 14 rfl rfl)
theorem dX3_effort_15 : decode cX3_effort 15 = .ok (.invokestatic 42, 3) := dk_184 0 42 (dk_at dksX3_effort_0 15 rfl rfl)
theorem dX3_effort_18 : decode cX3_effort 18 = .ok (.iadd, 1) := dk_96 (dk_at dksX3_effort_0 18 rfl rfl)
theorem dX3_effort_19 : decode cX3_effort 19 = .ok (.imul, 1) := dk_104 (dk_at dksX3_effort_0 19 rfl rfl)
theorem dX3_effort_20 : decode cX3_effort 20 = .ok (.ireturn, 1) := dk_172 (dk_at dksX3_effort_0 20 rfl rfl)
abbrev cX3_finish : ByteArray := prog_10_method_46_code
def yX3_finish : MethodName := ⟨RX3, "finish", "([I)V"⟩
def dkwX3_finish_2 : List UInt8 := [42, 43, 28, 182, 0, 134, 43, 16, 7, 92, 46, 4, 96, 79, 177]
abbrev dktX3_finish_2 : List UInt8 := dkwX3_finish_2 ++ []
def dkwX3_finish_1 : List UInt8 := [184, 0, 63, 43, 29, 43, 28, 3, 184, 0, 42, 43, 28, 4, 184, 0, 42, 184, 0, 156, 43, 184, 0, 143]
abbrev dktX3_finish_1 : List UInt8 := dkwX3_finish_1 ++ dktX3_finish_2
def dkwX3_finish_0 : List UInt8 := [43, 6, 46, 61, 43, 8, 46, 62, 43, 29, 6, 43, 16, 6, 46, 96, 43, 28, 6, 184, 0, 42]
abbrev dktX3_finish_0 : List UInt8 := dkwX3_finish_0 ++ dktX3_finish_1
theorem dksX3_finish_0 : cX3_finish.data.toList.drop 0 = dktX3_finish_0 := by decide +kernel
theorem dksX3_finish_1 : cX3_finish.data.toList.drop 22 = dktX3_finish_1 := dk_seg dksX3_finish_0 22 rfl rfl
theorem dksX3_finish_2 : cX3_finish.data.toList.drop 46 = dktX3_finish_2 := dk_seg dksX3_finish_1 24 rfl rfl
theorem dX3_finish_0 : decode cX3_finish 0 = .ok (.aload_n 1, 1) := dk_43 (dk_at dksX3_finish_0 0 rfl rfl)
theorem dX3_finish_1 : decode cX3_finish 1 = .ok (.iconst 3, 1) := dk_6 (dk_at dksX3_finish_0 1 rfl rfl)
theorem dX3_finish_2 : decode cX3_finish 2 = .ok (.iaload, 1) := dk_46 (dk_at dksX3_finish_0 2 rfl rfl)
theorem dX3_finish_3 : decode cX3_finish 3 = .ok (.istore_n 2, 1) := dk_61 (dk_at dksX3_finish_0 3 rfl rfl)
theorem dX3_finish_4 : decode cX3_finish 4 = .ok (.aload_n 1, 1) := dk_43 (dk_at dksX3_finish_0 4 rfl rfl)
theorem dX3_finish_5 : decode cX3_finish 5 = .ok (.iconst 5, 1) := dk_8 (dk_at dksX3_finish_0 5 rfl rfl)
theorem dX3_finish_6 : decode cX3_finish 6 = .ok (.iaload, 1) := dk_46 (dk_at dksX3_finish_0 6 rfl rfl)
theorem dX3_finish_7 : decode cX3_finish 7 = .ok (.istore_n 3, 1) := dk_62 (dk_at dksX3_finish_0 7 rfl rfl)
theorem dX3_finish_8 : decode cX3_finish 8 = .ok (.aload_n 1, 1) := dk_43 (dk_at dksX3_finish_0 8 rfl rfl)
theorem dX3_finish_9 : decode cX3_finish 9 = .ok (.iload_n 3, 1) := dk_29 (dk_at dksX3_finish_0 9 rfl rfl)
theorem dX3_finish_10 : decode cX3_finish 10 = .ok (.iconst 3, 1) := dk_6 (dk_at dksX3_finish_0 10 rfl rfl)
theorem dX3_finish_11 : decode cX3_finish 11 = .ok (.aload_n 1, 1) := dk_43 (dk_at dksX3_finish_0 11 rfl rfl)
theorem dX3_finish_12 : decode cX3_finish 12 = .ok (.bipush 6, 2) := dk_16 6 (dk_at dksX3_finish_0 12 rfl rfl)
theorem dX3_finish_14 : decode cX3_finish 14 = .ok (.iaload, 1) := dk_46 (dk_at dksX3_finish_0 14 rfl rfl)
theorem dX3_finish_15 : decode cX3_finish 15 = .ok (.iadd, 1) := dk_96 (dk_at dksX3_finish_0 15 rfl rfl)
theorem dX3_finish_16 : decode cX3_finish 16 = .ok (.aload_n 1, 1) := dk_43 (dk_at dksX3_finish_0 16 rfl rfl)
theorem dX3_finish_17 : decode cX3_finish 17 = .ok (.iload_n 2, 1) := dk_28 (dk_at dksX3_finish_0 17 rfl rfl)
theorem dX3_finish_18 : decode cX3_finish 18 = .ok (.iconst 3, 1) := dk_6 (dk_at dksX3_finish_0 18 rfl rfl)
theorem dX3_finish_19 : decode cX3_finish 19 = .ok (.invokestatic 42, 3) := dk_184 0 42 (dk_at dksX3_finish_0 19 rfl rfl)
theorem dX3_finish_22 : decode cX3_finish 22 = .ok (.invokestatic 63, 3) := dk_184 0 63 (dk_at dksX3_finish_1 0 rfl rfl)
theorem dX3_finish_25 : decode cX3_finish 25 = .ok (.aload_n 1, 1) := dk_43 (dk_at dksX3_finish_1 3 rfl rfl)
theorem dX3_finish_26 : decode cX3_finish 26 = .ok (.iload_n 3, 1) := dk_29 (dk_at dksX3_finish_1 4 rfl rfl)
theorem dX3_finish_27 : decode cX3_finish 27 = .ok (.aload_n 1, 1) := dk_43 (dk_at dksX3_finish_1 5 rfl rfl)
theorem dX3_finish_28 : decode cX3_finish 28 = .ok (.iload_n 2, 1) := dk_28 (dk_at dksX3_finish_1 6 rfl rfl)
theorem dX3_finish_29 : decode cX3_finish 29 = .ok (.iconst 0, 1) := dk_3 (dk_at dksX3_finish_1 7 rfl rfl)
theorem dX3_finish_30 : decode cX3_finish 30 = .ok (.invokestatic 42, 3) := dk_184 0 42 (dk_at dksX3_finish_1 8 rfl rfl)
theorem dX3_finish_33 : decode cX3_finish 33 = .ok (.aload_n 1, 1) := dk_43 (dk_at dksX3_finish_1 11 rfl rfl)
theorem dX3_finish_34 : decode cX3_finish 34 = .ok (.iload_n 2, 1) := dk_28 (dk_at dksX3_finish_1 12 rfl rfl)
theorem dX3_finish_35 : decode cX3_finish 35 = .ok (.iconst 1, 1) := dk_4 (dk_at dksX3_finish_1 13 rfl rfl)
theorem dX3_finish_36 : decode cX3_finish 36 = .ok (.invokestatic 42, 3) := dk_184 0 42 (dk_at dksX3_finish_1 14 rfl rfl)
theorem dX3_finish_39 : decode cX3_finish 39 = .ok (.invokestatic 156, 3) := dk_184 0 156 (dk_at dksX3_finish_1 17 rfl rfl)
theorem dX3_finish_42 : decode cX3_finish 42 = .ok (.aload_n 1, 1) := dk_43 (dk_at dksX3_finish_1 20 rfl rfl)
theorem dX3_finish_43 : decode cX3_finish 43 = .ok (.invokestatic 143, 3) := dk_184 0 143 (dk_at dksX3_finish_1 21 rfl rfl)
theorem dX3_finish_46 : decode cX3_finish 46 = .ok (.aload_n 0, 1) := dk_42 (dk_at dksX3_finish_2 0 rfl rfl)
theorem dX3_finish_47 : decode cX3_finish 47 = .ok (.aload_n 1, 1) := dk_43 (dk_at dksX3_finish_2 1 rfl rfl)
theorem dX3_finish_48 : decode cX3_finish 48 = .ok (.iload_n 2, 1) := dk_28 (dk_at dksX3_finish_2 2 rfl rfl)
theorem dX3_finish_49 : decode cX3_finish 49 = .ok (.invokevirtual 134, 3) := dk_182 0 134 (dk_at dksX3_finish_2 3 rfl rfl)
theorem dX3_finish_52 : decode cX3_finish 52 = .ok (.aload_n 1, 1) := dk_43 (dk_at dksX3_finish_2 6 rfl rfl)
theorem dX3_finish_53 : decode cX3_finish 53 = .ok (.bipush 7, 2) := dk_16 7 (dk_at dksX3_finish_2 7 rfl rfl)
theorem dX3_finish_55 : decode cX3_finish 55 = .ok (.dup2, 1) := dk_92 (dk_at dksX3_finish_2 9 rfl rfl)
theorem dX3_finish_56 : decode cX3_finish 56 = .ok (.iaload, 1) := dk_46 (dk_at dksX3_finish_2 10 rfl rfl)
theorem dX3_finish_57 : decode cX3_finish 57 = .ok (.iconst 1, 1) := dk_4 (dk_at dksX3_finish_2 11 rfl rfl)
theorem dX3_finish_58 : decode cX3_finish 58 = .ok (.iadd, 1) := dk_96 (dk_at dksX3_finish_2 12 rfl rfl)
theorem dX3_finish_59 : decode cX3_finish 59 = .ok (.iastore, 1) := dk_79 (dk_at dksX3_finish_2 13 rfl rfl)
theorem dX3_finish_60 : decode cX3_finish 60 = .ok (.return_, 1) := dk_177 (dk_at dksX3_finish_2 14 rfl rfl)
abbrev cX3_fix : ByteArray := prog_10_method_27_code
def yX3_fix : MethodName := ⟨RX3, "fix", "([IIII)V"⟩
def dkwX3_fix_2 : List UInt8 := [184, 0, 99, 5, 3, 184, 0, 63, 177]
abbrev dktX3_fix_2 : List UInt8 := dkwX3_fix_2 ++ []
def dkwX3_fix_1 : List UInt8 := [184, 0, 92, 42, 17, 0, 150, 28, 96, 46, 164, 0, 20, 42, 42, 28, 42, 28, 4, 184, 0, 96]
abbrev dktX3_fix_1 : List UInt8 := dkwX3_fix_1 ++ dktX3_fix_2
def dkwX3_fix_0 : List UInt8 := [42, 27, 5, 5, 184, 0, 63, 42, 27, 8, 28, 184, 0, 63, 42, 27, 16, 6, 29, 184, 0, 63, 42, 28]
abbrev dktX3_fix_0 : List UInt8 := dkwX3_fix_0 ++ dktX3_fix_1
theorem dksX3_fix_0 : cX3_fix.data.toList.drop 0 = dktX3_fix_0 := by decide +kernel
theorem dksX3_fix_1 : cX3_fix.data.toList.drop 24 = dktX3_fix_1 := dk_seg dksX3_fix_0 24 rfl rfl
theorem dksX3_fix_2 : cX3_fix.data.toList.drop 46 = dktX3_fix_2 := dk_seg dksX3_fix_1 22 rfl rfl
theorem dX3_fix_0 : decode cX3_fix 0 = .ok (.aload_n 0, 1) := dk_42 (dk_at dksX3_fix_0 0 rfl rfl)
theorem dX3_fix_1 : decode cX3_fix 1 = .ok (.iload_n 1, 1) := dk_27 (dk_at dksX3_fix_0 1 rfl rfl)
theorem dX3_fix_2 : decode cX3_fix 2 = .ok (.iconst 2, 1) := dk_5 (dk_at dksX3_fix_0 2 rfl rfl)
theorem dX3_fix_3 : decode cX3_fix 3 = .ok (.iconst 2, 1) := dk_5 (dk_at dksX3_fix_0 3 rfl rfl)
theorem dX3_fix_4 : decode cX3_fix 4 = .ok (.invokestatic 63, 3) := dk_184 0 63 (dk_at dksX3_fix_0 4 rfl rfl)
theorem dX3_fix_7 : decode cX3_fix 7 = .ok (.aload_n 0, 1) := dk_42 (dk_at dksX3_fix_0 7 rfl rfl)
theorem dX3_fix_8 : decode cX3_fix 8 = .ok (.iload_n 1, 1) := dk_27 (dk_at dksX3_fix_0 8 rfl rfl)
theorem dX3_fix_9 : decode cX3_fix 9 = .ok (.iconst 5, 1) := dk_8 (dk_at dksX3_fix_0 9 rfl rfl)
theorem dX3_fix_10 : decode cX3_fix 10 = .ok (.iload_n 2, 1) := dk_28 (dk_at dksX3_fix_0 10 rfl rfl)
theorem dX3_fix_11 : decode cX3_fix 11 = .ok (.invokestatic 63, 3) := dk_184 0 63 (dk_at dksX3_fix_0 11 rfl rfl)
theorem dX3_fix_14 : decode cX3_fix 14 = .ok (.aload_n 0, 1) := dk_42 (dk_at dksX3_fix_0 14 rfl rfl)
theorem dX3_fix_15 : decode cX3_fix 15 = .ok (.iload_n 1, 1) := dk_27 (dk_at dksX3_fix_0 15 rfl rfl)
theorem dX3_fix_16 : decode cX3_fix 16 = .ok (.bipush 6, 2) := dk_16 6 (dk_at dksX3_fix_0 16 rfl rfl)
theorem dX3_fix_18 : decode cX3_fix 18 = .ok (.iload_n 3, 1) := dk_29 (dk_at dksX3_fix_0 18 rfl rfl)
theorem dX3_fix_19 : decode cX3_fix 19 = .ok (.invokestatic 63, 3) := dk_184 0 63 (dk_at dksX3_fix_0 19 rfl rfl)
theorem dX3_fix_22 : decode cX3_fix 22 = .ok (.aload_n 0, 1) := dk_42 (dk_at dksX3_fix_0 22 rfl rfl)
theorem dX3_fix_23 : decode cX3_fix 23 = .ok (.iload_n 2, 1) := dk_28 (dk_at dksX3_fix_0 23 rfl rfl)
theorem dX3_fix_24 : decode cX3_fix 24 = .ok (.invokestatic 92, 3) := dk_184 0 92 (dk_at dksX3_fix_1 0 rfl rfl)
theorem dX3_fix_27 : decode cX3_fix 27 = .ok (.aload_n 0, 1) := dk_42 (dk_at dksX3_fix_1 3 rfl rfl)
theorem dX3_fix_28 : decode cX3_fix 28 = .ok (.sipush 150, 3) := dk_17 0 150 (dk_at dksX3_fix_1 4 rfl rfl)
theorem dX3_fix_31 : decode cX3_fix 31 = .ok (.iload_n 2, 1) := dk_28 (dk_at dksX3_fix_1 7 rfl rfl)
theorem dX3_fix_32 : decode cX3_fix 32 = .ok (.iadd, 1) := dk_96 (dk_at dksX3_fix_1 8 rfl rfl)
theorem dX3_fix_33 : decode cX3_fix 33 = .ok (.iaload, 1) := dk_46 (dk_at dksX3_fix_1 9 rfl rfl)
theorem dX3_fix_34 : decode cX3_fix 34 = .ok (.if_icmp .le 20, 3) := dk_164 0 20 (dk_at dksX3_fix_1 10 rfl rfl)
theorem dX3_fix_37 : decode cX3_fix 37 = .ok (.aload_n 0, 1) := dk_42 (dk_at dksX3_fix_1 13 rfl rfl)
theorem dX3_fix_38 : decode cX3_fix 38 = .ok (.aload_n 0, 1) := dk_42 (dk_at dksX3_fix_1 14 rfl rfl)
theorem dX3_fix_39 : decode cX3_fix 39 = .ok (.iload_n 2, 1) := dk_28 (dk_at dksX3_fix_1 15 rfl rfl)
theorem dX3_fix_40 : decode cX3_fix 40 = .ok (.aload_n 0, 1) := dk_42 (dk_at dksX3_fix_1 16 rfl rfl)
theorem dX3_fix_41 : decode cX3_fix 41 = .ok (.iload_n 2, 1) := dk_28 (dk_at dksX3_fix_1 17 rfl rfl)
theorem dX3_fix_42 : decode cX3_fix 42 = .ok (.iconst 1, 1) := dk_4 (dk_at dksX3_fix_1 18 rfl rfl)
theorem dX3_fix_43 : decode cX3_fix 43 = .ok (.invokestatic 96, 3) := dk_184 0 96 (dk_at dksX3_fix_1 19 rfl rfl)
theorem dX3_fix_46 : decode cX3_fix 46 = .ok (.invokestatic 99, 3) := dk_184 0 99 (dk_at dksX3_fix_2 0 rfl rfl)
theorem dX3_fix_49 : decode cX3_fix 49 = .ok (.iconst 2, 1) := dk_5 (dk_at dksX3_fix_2 3 rfl rfl)
theorem dX3_fix_50 : decode cX3_fix 50 = .ok (.iconst 0, 1) := dk_3 (dk_at dksX3_fix_2 4 rfl rfl)
theorem dX3_fix_51 : decode cX3_fix 51 = .ok (.invokestatic 63, 3) := dk_184 0 63 (dk_at dksX3_fix_2 5 rfl rfl)
theorem dX3_fix_54 : decode cX3_fix 54 = .ok (.return_, 1) := dk_177 (dk_at dksX3_fix_2 8 rfl rfl)
abbrev cX3_platesOn : ByteArray := prog_10_method_25_code
def yX3_platesOn : MethodName := ⟨RX3, "platesOn", "([II)I"⟩
def dkwX3_platesOn_1 : List UInt8 := [8, 184, 0, 53, 27, 160, 0, 7, 4, 167, 0, 4, 3, 96, 61, 132, 3, 1, 167, 255, 218, 28, 172]
abbrev dktX3_platesOn_1 : List UInt8 := dkwX3_platesOn_1 ++ []
def dkwX3_platesOn_0 : List UInt8 := [3, 61, 3, 62, 29, 42, 4, 46, 162, 0, 37, 28, 42, 29, 5, 184, 0, 53, 5, 160, 0, 17, 42, 29]
abbrev dktX3_platesOn_0 : List UInt8 := dkwX3_platesOn_0 ++ dktX3_platesOn_1
theorem dksX3_platesOn_0 : cX3_platesOn.data.toList.drop 0 = dktX3_platesOn_0 := by decide +kernel
theorem dksX3_platesOn_1 : cX3_platesOn.data.toList.drop 24 = dktX3_platesOn_1 := dk_seg dksX3_platesOn_0 24 rfl rfl
theorem dX3_platesOn_0 : decode cX3_platesOn 0 = .ok (.iconst 0, 1) := dk_3 (dk_at dksX3_platesOn_0 0 rfl rfl)
theorem dX3_platesOn_1 : decode cX3_platesOn 1 = .ok (.istore_n 2, 1) := dk_61 (dk_at dksX3_platesOn_0 1 rfl rfl)
theorem dX3_platesOn_2 : decode cX3_platesOn 2 = .ok (.iconst 0, 1) := dk_3 (dk_at dksX3_platesOn_0 2 rfl rfl)
theorem dX3_platesOn_3 : decode cX3_platesOn 3 = .ok (.istore_n 3, 1) := dk_62 (dk_at dksX3_platesOn_0 3 rfl rfl)
theorem dX3_platesOn_4 : decode cX3_platesOn 4 = .ok (.iload_n 3, 1) := dk_29 (dk_at dksX3_platesOn_0 4 rfl rfl)
theorem dX3_platesOn_5 : decode cX3_platesOn 5 = .ok (.aload_n 0, 1) := dk_42 (dk_at dksX3_platesOn_0 5 rfl rfl)
theorem dX3_platesOn_6 : decode cX3_platesOn 6 = .ok (.iconst 1, 1) := dk_4 (dk_at dksX3_platesOn_0 6 rfl rfl)
theorem dX3_platesOn_7 : decode cX3_platesOn 7 = .ok (.iaload, 1) := dk_46 (dk_at dksX3_platesOn_0 7 rfl rfl)
theorem dX3_platesOn_8 : decode cX3_platesOn 8 = .ok (.if_icmp .ge 37, 3) := dk_162 0 37 (dk_at dksX3_platesOn_0 8 rfl rfl)
theorem dX3_platesOn_11 : decode cX3_platesOn 11 = .ok (.iload_n 2, 1) := dk_28 (dk_at dksX3_platesOn_0 11 rfl rfl)
theorem dX3_platesOn_12 : decode cX3_platesOn 12 = .ok (.aload_n 0, 1) := dk_42 (dk_at dksX3_platesOn_0 12 rfl rfl)
theorem dX3_platesOn_13 : decode cX3_platesOn 13 = .ok (.iload_n 3, 1) := dk_29 (dk_at dksX3_platesOn_0 13 rfl rfl)
theorem dX3_platesOn_14 : decode cX3_platesOn 14 = .ok (.iconst 2, 1) := dk_5 (dk_at dksX3_platesOn_0 14 rfl rfl)
theorem dX3_platesOn_15 : decode cX3_platesOn 15 = .ok (.invokestatic 53, 3) := dk_184 0 53 (dk_at dksX3_platesOn_0 15 rfl rfl)
theorem dX3_platesOn_18 : decode cX3_platesOn 18 = .ok (.iconst 2, 1) := dk_5 (dk_at dksX3_platesOn_0 18 rfl rfl)
theorem dX3_platesOn_19 : decode cX3_platesOn 19 = .ok (.if_icmp .ne 17, 3) := dk_160 0 17 (dk_at dksX3_platesOn_0 19 rfl rfl)
theorem dX3_platesOn_22 : decode cX3_platesOn 22 = .ok (.aload_n 0, 1) := dk_42 (dk_at dksX3_platesOn_0 22 rfl rfl)
theorem dX3_platesOn_23 : decode cX3_platesOn 23 = .ok (.iload_n 3, 1) := dk_29 (dk_at dksX3_platesOn_0 23 rfl rfl)
theorem dX3_platesOn_24 : decode cX3_platesOn 24 = .ok (.iconst 5, 1) := dk_8 (dk_at dksX3_platesOn_1 0 rfl rfl)
theorem dX3_platesOn_25 : decode cX3_platesOn 25 = .ok (.invokestatic 53, 3) := dk_184 0 53 (dk_at dksX3_platesOn_1 1 rfl rfl)
theorem dX3_platesOn_28 : decode cX3_platesOn 28 = .ok (.iload_n 1, 1) := dk_27 (dk_at dksX3_platesOn_1 4 rfl rfl)
theorem dX3_platesOn_29 : decode cX3_platesOn 29 = .ok (.if_icmp .ne 7, 3) := dk_160 0 7 (dk_at dksX3_platesOn_1 5 rfl rfl)
theorem dX3_platesOn_32 : decode cX3_platesOn 32 = .ok (.iconst 1, 1) := dk_4 (dk_at dksX3_platesOn_1 8 rfl rfl)
theorem dX3_platesOn_33 : decode cX3_platesOn 33 = .ok (.goto 4, 3) := dk_167 0 4 (dk_at dksX3_platesOn_1 9 rfl rfl)
theorem dX3_platesOn_36 : decode cX3_platesOn 36 = .ok (.iconst 0, 1) := dk_3 (dk_at dksX3_platesOn_1 12 rfl rfl)
theorem dX3_platesOn_37 : decode cX3_platesOn 37 = .ok (.iadd, 1) := dk_96 (dk_at dksX3_platesOn_1 13 rfl rfl)
theorem dX3_platesOn_38 : decode cX3_platesOn 38 = .ok (.istore_n 2, 1) := dk_61 (dk_at dksX3_platesOn_1 14 rfl rfl)
theorem dX3_platesOn_39 : decode cX3_platesOn 39 = .ok (.iinc 3 1, 3) := dk_132 3 1 (dk_at dksX3_platesOn_1 15 rfl rfl)
theorem dX3_platesOn_42 : decode cX3_platesOn 42 = .ok (.goto (-38), 3) := dk_167 255 218 (dk_at dksX3_platesOn_1 18 rfl rfl)
theorem dX3_platesOn_45 : decode cX3_platesOn 45 = .ok (.iload_n 2, 1) := dk_28 (dk_at dksX3_platesOn_1 21 rfl rfl)
theorem dX3_platesOn_46 : decode cX3_platesOn 46 = .ok (.ireturn, 1) := dk_172 (dk_at dksX3_platesOn_1 22 rfl rfl)
abbrev cX3_yearOn : ByteArray := prog_10_method_26_code
def yX3_yearOn : MethodName := ⟨RX3, "yearOn", "([III)I"⟩
def dkwX3_yearOn_3 : List UInt8 := [104, 162, 0, 8, 21, 6, 167, 0, 4, 29, 62, 132, 4, 1, 167, 255, 178, 29, 172]
abbrev dktX3_yearOn_3 : List UInt8 := dkwX3_yearOn_3 ++ []
def dkwX3_yearOn_2 : List UInt8 := [16, 6, 184, 0, 53, 54, 6, 21, 5, 153, 0, 24, 29, 16, 247, 159, 0, 13, 28, 21, 6, 104, 28, 29]
abbrev dktX3_yearOn_2 : List UInt8 := dkwX3_yearOn_2 ++ dktX3_yearOn_3
def dkwX3_yearOn_1 : List UInt8 := [160, 0, 18, 42, 21, 4, 8, 184, 0, 53, 27, 160, 0, 7, 4, 167, 0, 4, 3, 54, 5, 42, 21, 4]
abbrev dktX3_yearOn_1 : List UInt8 := dkwX3_yearOn_1 ++ dktX3_yearOn_2
def dkwX3_yearOn_0 : List UInt8 := [16, 247, 62, 3, 54, 4, 21, 4, 42, 4, 46, 162, 0, 76, 42, 21, 4, 5, 184, 0, 53, 5]
abbrev dktX3_yearOn_0 : List UInt8 := dkwX3_yearOn_0 ++ dktX3_yearOn_1
theorem dksX3_yearOn_0 : cX3_yearOn.data.toList.drop 0 = dktX3_yearOn_0 := by decide +kernel
theorem dksX3_yearOn_1 : cX3_yearOn.data.toList.drop 22 = dktX3_yearOn_1 := dk_seg dksX3_yearOn_0 22 rfl rfl
theorem dksX3_yearOn_2 : cX3_yearOn.data.toList.drop 46 = dktX3_yearOn_2 := dk_seg dksX3_yearOn_1 24 rfl rfl
theorem dksX3_yearOn_3 : cX3_yearOn.data.toList.drop 70 = dktX3_yearOn_3 := dk_seg dksX3_yearOn_2 24 rfl rfl
theorem dX3_yearOn_0 : decode cX3_yearOn 0 = .ok (.bipush (-9), 2) := dk_16 247 (dk_at dksX3_yearOn_0 0 rfl rfl)
theorem dX3_yearOn_2 : decode cX3_yearOn 2 = .ok (.istore_n 3, 1) := dk_62 (dk_at dksX3_yearOn_0 2 rfl rfl)
theorem dX3_yearOn_3 : decode cX3_yearOn 3 = .ok (.iconst 0, 1) := dk_3 (dk_at dksX3_yearOn_0 3 rfl rfl)
theorem dX3_yearOn_4 : decode cX3_yearOn 4 = .ok (.istore 4, 2) := dk_54 4 (dk_at dksX3_yearOn_0 4 rfl rfl)
theorem dX3_yearOn_6 : decode cX3_yearOn 6 = .ok (.iload 4, 2) := dk_21 4 (dk_at dksX3_yearOn_0 6 rfl rfl)
theorem dX3_yearOn_8 : decode cX3_yearOn 8 = .ok (.aload_n 0, 1) := dk_42 (dk_at dksX3_yearOn_0 8 rfl rfl)
theorem dX3_yearOn_9 : decode cX3_yearOn 9 = .ok (.iconst 1, 1) := dk_4 (dk_at dksX3_yearOn_0 9 rfl rfl)
theorem dX3_yearOn_10 : decode cX3_yearOn 10 = .ok (.iaload, 1) := dk_46 (dk_at dksX3_yearOn_0 10 rfl rfl)
theorem dX3_yearOn_11 : decode cX3_yearOn 11 = .ok (.if_icmp .ge 76, 3) := dk_162 0 76 (dk_at dksX3_yearOn_0 11 rfl rfl)
theorem dX3_yearOn_14 : decode cX3_yearOn 14 = .ok (.aload_n 0, 1) := dk_42 (dk_at dksX3_yearOn_0 14 rfl rfl)
theorem dX3_yearOn_15 : decode cX3_yearOn 15 = .ok (.iload 4, 2) := dk_21 4 (dk_at dksX3_yearOn_0 15 rfl rfl)
theorem dX3_yearOn_17 : decode cX3_yearOn 17 = .ok (.iconst 2, 1) := dk_5 (dk_at dksX3_yearOn_0 17 rfl rfl)
theorem dX3_yearOn_18 : decode cX3_yearOn 18 = .ok (.invokestatic 53, 3) := dk_184 0 53 (dk_at dksX3_yearOn_0 18 rfl rfl)
theorem dX3_yearOn_21 : decode cX3_yearOn 21 = .ok (.iconst 2, 1) := dk_5 (dk_at dksX3_yearOn_0 21 rfl rfl)
theorem dX3_yearOn_22 : decode cX3_yearOn 22 = .ok (.if_icmp .ne 18, 3) := dk_160 0 18 (dk_at dksX3_yearOn_1 0 rfl rfl)
theorem dX3_yearOn_25 : decode cX3_yearOn 25 = .ok (.aload_n 0, 1) := dk_42 (dk_at dksX3_yearOn_1 3 rfl rfl)
theorem dX3_yearOn_26 : decode cX3_yearOn 26 = .ok (.iload 4, 2) := dk_21 4 (dk_at dksX3_yearOn_1 4 rfl rfl)
theorem dX3_yearOn_28 : decode cX3_yearOn 28 = .ok (.iconst 5, 1) := dk_8 (dk_at dksX3_yearOn_1 6 rfl rfl)
theorem dX3_yearOn_29 : decode cX3_yearOn 29 = .ok (.invokestatic 53, 3) := dk_184 0 53 (dk_at dksX3_yearOn_1 7 rfl rfl)
theorem dX3_yearOn_32 : decode cX3_yearOn 32 = .ok (.iload_n 1, 1) := dk_27 (dk_at dksX3_yearOn_1 10 rfl rfl)
theorem dX3_yearOn_33 : decode cX3_yearOn 33 = .ok (.if_icmp .ne 7, 3) := dk_160 0 7 (dk_at dksX3_yearOn_1 11 rfl rfl)
theorem dX3_yearOn_36 : decode cX3_yearOn 36 = .ok (.iconst 1, 1) := dk_4 (dk_at dksX3_yearOn_1 14 rfl rfl)
theorem dX3_yearOn_37 : decode cX3_yearOn 37 = .ok (.goto 4, 3) := dk_167 0 4 (dk_at dksX3_yearOn_1 15 rfl rfl)
theorem dX3_yearOn_40 : decode cX3_yearOn 40 = .ok (.iconst 0, 1) := dk_3 (dk_at dksX3_yearOn_1 18 rfl rfl)
theorem dX3_yearOn_41 : decode cX3_yearOn 41 = .ok (.istore 5, 2) := dk_54 5 (dk_at dksX3_yearOn_1 19 rfl rfl)
theorem dX3_yearOn_43 : decode cX3_yearOn 43 = .ok (.aload_n 0, 1) := dk_42 (dk_at dksX3_yearOn_1 21 rfl rfl)
theorem dX3_yearOn_44 : decode cX3_yearOn 44 = .ok (.iload 4, 2) := dk_21 4 (dk_at dksX3_yearOn_1 22 rfl rfl)
theorem dX3_yearOn_46 : decode cX3_yearOn 46 = .ok (.bipush 6, 2) := dk_16 6 (dk_at dksX3_yearOn_2 0 rfl rfl)
theorem dX3_yearOn_48 : decode cX3_yearOn 48 = .ok (.invokestatic 53, 3) := dk_184 0 53 (dk_at dksX3_yearOn_2 2 rfl rfl)
theorem dX3_yearOn_51 : decode cX3_yearOn 51 = .ok (.istore 6, 2) := dk_54 6 (dk_at dksX3_yearOn_2 5 rfl rfl)
theorem dX3_yearOn_53 : decode cX3_yearOn 53 = .ok (.iload 5, 2) := dk_21 5 (dk_at dksX3_yearOn_2 7 rfl rfl)
theorem dX3_yearOn_55 : decode cX3_yearOn 55 = .ok (.ifCond .eq 24, 3) := dk_153 0 24 (dk_at dksX3_yearOn_2 9 rfl rfl)
theorem dX3_yearOn_58 : decode cX3_yearOn 58 = .ok (.iload_n 3, 1) := dk_29 (dk_at dksX3_yearOn_2 12 rfl rfl)
theorem dX3_yearOn_59 : decode cX3_yearOn 59 = .ok (.bipush (-9), 2) := dk_16 247 (dk_at dksX3_yearOn_2 13 rfl rfl)
theorem dX3_yearOn_61 : decode cX3_yearOn 61 = .ok (.if_icmp .eq 13, 3) := dk_159 0 13 (dk_at dksX3_yearOn_2 15 rfl rfl)
theorem dX3_yearOn_64 : decode cX3_yearOn 64 = .ok (.iload_n 2, 1) := dk_28 (dk_at dksX3_yearOn_2 18 rfl rfl)
theorem dX3_yearOn_65 : decode cX3_yearOn 65 = .ok (.iload 6, 2) := dk_21 6 (dk_at dksX3_yearOn_2 19 rfl rfl)
theorem dX3_yearOn_67 : decode cX3_yearOn 67 = .ok (.imul, 1) := dk_104 (dk_at dksX3_yearOn_2 21 rfl rfl)
theorem dX3_yearOn_68 : decode cX3_yearOn 68 = .ok (.iload_n 2, 1) := dk_28 (dk_at dksX3_yearOn_2 22 rfl rfl)
theorem dX3_yearOn_69 : decode cX3_yearOn 69 = .ok (.iload_n 3, 1) := dk_29 (dk_at dksX3_yearOn_2 23 rfl rfl)
theorem dX3_yearOn_70 : decode cX3_yearOn 70 = .ok (.imul, 1) := dk_104 (dk_at dksX3_yearOn_3 0 rfl rfl)
theorem dX3_yearOn_71 : decode cX3_yearOn 71 = .ok (.if_icmp .ge 8, 3) := dk_162 0 8 (dk_at dksX3_yearOn_3 1 rfl rfl)
theorem dX3_yearOn_74 : decode cX3_yearOn 74 = .ok (.iload 6, 2) := dk_21 6 (dk_at dksX3_yearOn_3 4 rfl rfl)
theorem dX3_yearOn_76 : decode cX3_yearOn 76 = .ok (.goto 4, 3) := dk_167 0 4 (dk_at dksX3_yearOn_3 6 rfl rfl)
theorem dX3_yearOn_79 : decode cX3_yearOn 79 = .ok (.iload_n 3, 1) := dk_29 (dk_at dksX3_yearOn_3 9 rfl rfl)
theorem dX3_yearOn_80 : decode cX3_yearOn 80 = .ok (.istore_n 3, 1) := dk_62 (dk_at dksX3_yearOn_3 10 rfl rfl)
theorem dX3_yearOn_81 : decode cX3_yearOn 81 = .ok (.iinc 4 1, 3) := dk_132 4 1 (dk_at dksX3_yearOn_3 11 rfl rfl)
theorem dX3_yearOn_84 : decode cX3_yearOn 84 = .ok (.goto (-78), 3) := dk_167 255 178 (dk_at dksX3_yearOn_3 14 rfl rfl)
theorem dX3_yearOn_87 : decode cX3_yearOn 87 = .ok (.iload_n 3, 1) := dk_29 (dk_at dksX3_yearOn_3 17 rfl rfl)
theorem dX3_yearOn_88 : decode cX3_yearOn 88 = .ok (.ireturn, 1) := dk_172 (dk_at dksX3_yearOn_3 18 rfl rfl)
abbrev cX3_slip : ByteArray := prog_10_method_48_code
def yX3_slip : MethodName := ⟨RX3, "slip", "()I"⟩
def dkwX3_slip_7 : List UInt8 := [172, 42, 180, 0, 7, 29, 5, 6, 184, 0, 63, 42, 180, 0, 7, 184, 0, 143, 6, 172]
abbrev dktX3_slip_7 : List UInt8 := dkwX3_slip_7 ++ []
def dkwX3_slip_6 : List UInt8 := [29, 21, 4, 184, 0, 112, 42, 180, 0, 7, 7, 42, 180, 0, 7, 27, 184, 0, 153, 16, 10, 96, 79, 5]
abbrev dktX3_slip_6 : List UInt8 := dkwX3_slip_6 ++ dktX3_slip_7
def dkwX3_slip_5 : List UInt8 := [184, 0, 153, 79, 4, 172, 42, 180, 0, 7, 29, 21, 4, 28, 184, 0, 67, 153, 0, 32, 42, 180, 0, 7]
abbrev dktX3_slip_5 : List UInt8 := dkwX3_slip_5 ++ dktX3_slip_6
def dkwX3_slip_4 : List UInt8 := [153, 0, 30, 42, 180, 0, 7, 16, 6, 4, 21, 4, 100, 79, 42, 180, 0, 7, 7, 42, 180, 0, 7, 27]
abbrev dktX3_slip_4 : List UInt8 := dkwX3_slip_4 ++ dktX3_slip_5
def dkwX3_slip_3 : List UInt8 := [180, 0, 7, 16, 8, 92, 46, 4, 96, 79, 42, 180, 0, 7, 29, 4, 21, 4, 100, 28, 184, 0, 71]
abbrev dktX3_slip_3 : List UInt8 := dkwX3_slip_3 ++ dktX3_slip_4
def dkwX3_slip_2 : List UInt8 := [180, 0, 7, 16, 6, 46, 54, 4, 42, 180, 0, 7, 29, 6, 21, 4, 96, 28, 184, 0, 63, 42]
abbrev dktX3_slip_2 : List UInt8 := dkwX3_slip_2 ++ dktX3_slip_3
def dkwX3_slip_1 : List UInt8 := [180, 0, 7, 6, 46, 60, 42, 180, 0, 7, 27, 6, 184, 0, 42, 61, 42, 180, 0, 7, 8, 46, 62, 42]
abbrev dktX3_slip_1 : List UInt8 := dkwX3_slip_1 ++ dktX3_slip_2
def dkwX3_slip_0 : List UInt8 := [42, 3, 181, 0, 31, 42, 180, 0, 7, 6, 46, 16, 247, 160, 0, 6, 16, 254, 172, 42, 182, 0, 102, 42]
abbrev dktX3_slip_0 : List UInt8 := dkwX3_slip_0 ++ dktX3_slip_1
theorem dksX3_slip_0 : cX3_slip.data.toList.drop 0 = dktX3_slip_0 := by decide +kernel
theorem dksX3_slip_1 : cX3_slip.data.toList.drop 24 = dktX3_slip_1 := dk_seg dksX3_slip_0 24 rfl rfl
theorem dksX3_slip_2 : cX3_slip.data.toList.drop 48 = dktX3_slip_2 := dk_seg dksX3_slip_1 24 rfl rfl
theorem dksX3_slip_3 : cX3_slip.data.toList.drop 70 = dktX3_slip_3 := dk_seg dksX3_slip_2 22 rfl rfl
theorem dksX3_slip_4 : cX3_slip.data.toList.drop 93 = dktX3_slip_4 := dk_seg dksX3_slip_3 23 rfl rfl
theorem dksX3_slip_5 : cX3_slip.data.toList.drop 117 = dktX3_slip_5 := dk_seg dksX3_slip_4 24 rfl rfl
theorem dksX3_slip_6 : cX3_slip.data.toList.drop 141 = dktX3_slip_6 := dk_seg dksX3_slip_5 24 rfl rfl
theorem dksX3_slip_7 : cX3_slip.data.toList.drop 165 = dktX3_slip_7 := dk_seg dksX3_slip_6 24 rfl rfl
theorem dX3_slip_0 : decode cX3_slip 0 = .ok (.aload_n 0, 1) := dk_42 (dk_at dksX3_slip_0 0 rfl rfl)
theorem dX3_slip_1 : decode cX3_slip 1 = .ok (.iconst 0, 1) := dk_3 (dk_at dksX3_slip_0 1 rfl rfl)
theorem dX3_slip_2 : decode cX3_slip 2 = .ok (.putfield 31, 3) := dk_181 0 31 (dk_at dksX3_slip_0 2 rfl rfl)
theorem dX3_slip_5 : decode cX3_slip 5 = .ok (.aload_n 0, 1) := dk_42 (dk_at dksX3_slip_0 5 rfl rfl)
theorem dX3_slip_6 : decode cX3_slip 6 = .ok (.getfield 7, 3) := dk_180 0 7 (dk_at dksX3_slip_0 6 rfl rfl)
theorem dX3_slip_9 : decode cX3_slip 9 = .ok (.iconst 3, 1) := dk_6 (dk_at dksX3_slip_0 9 rfl rfl)
theorem dX3_slip_10 : decode cX3_slip 10 = .ok (.iaload, 1) := dk_46 (dk_at dksX3_slip_0 10 rfl rfl)
theorem dX3_slip_11 : decode cX3_slip 11 = .ok (.bipush (-9), 2) := dk_16 247 (dk_at dksX3_slip_0 11 rfl rfl)
theorem dX3_slip_13 : decode cX3_slip 13 = .ok (.if_icmp .ne 6, 3) := dk_160 0 6 (dk_at dksX3_slip_0 13 rfl rfl)
theorem dX3_slip_16 : decode cX3_slip 16 = .ok (.bipush (-2), 2) := dk_16 254 (dk_at dksX3_slip_0 16 rfl rfl)
theorem dX3_slip_18 : decode cX3_slip 18 = .ok (.ireturn, 1) := dk_172 (dk_at dksX3_slip_0 18 rfl rfl)
theorem dX3_slip_19 : decode cX3_slip 19 = .ok (.aload_n 0, 1) := dk_42 (dk_at dksX3_slip_0 19 rfl rfl)
theorem dX3_slip_20 : decode cX3_slip 20 = .ok (.invokevirtual 102, 3) := dk_182 0 102 (dk_at dksX3_slip_0 20 rfl rfl)
theorem dX3_slip_23 : decode cX3_slip 23 = .ok (.aload_n 0, 1) := dk_42 (dk_at dksX3_slip_0 23 rfl rfl)
theorem dX3_slip_24 : decode cX3_slip 24 = .ok (.getfield 7, 3) := dk_180 0 7 (dk_at dksX3_slip_1 0 rfl rfl)
theorem dX3_slip_27 : decode cX3_slip 27 = .ok (.iconst 3, 1) := dk_6 (dk_at dksX3_slip_1 3 rfl rfl)
theorem dX3_slip_28 : decode cX3_slip 28 = .ok (.iaload, 1) := dk_46 (dk_at dksX3_slip_1 4 rfl rfl)
theorem dX3_slip_29 : decode cX3_slip 29 = .ok (.istore_n 1, 1) := dk_60 (dk_at dksX3_slip_1 5 rfl rfl)
theorem dX3_slip_30 : decode cX3_slip 30 = .ok (.aload_n 0, 1) := dk_42 (dk_at dksX3_slip_1 6 rfl rfl)
theorem dX3_slip_31 : decode cX3_slip 31 = .ok (.getfield 7, 3) := dk_180 0 7 (dk_at dksX3_slip_1 7 rfl rfl)
theorem dX3_slip_34 : decode cX3_slip 34 = .ok (.iload_n 1, 1) := dk_27 (dk_at dksX3_slip_1 10 rfl rfl)
theorem dX3_slip_35 : decode cX3_slip 35 = .ok (.iconst 3, 1) := dk_6 (dk_at dksX3_slip_1 11 rfl rfl)
theorem dX3_slip_36 : decode cX3_slip 36 = .ok (.invokestatic 42, 3) := dk_184 0 42 (dk_at dksX3_slip_1 12 rfl rfl)
theorem dX3_slip_39 : decode cX3_slip 39 = .ok (.istore_n 2, 1) := dk_61 (dk_at dksX3_slip_1 15 rfl rfl)
theorem dX3_slip_40 : decode cX3_slip 40 = .ok (.aload_n 0, 1) := dk_42 (dk_at dksX3_slip_1 16 rfl rfl)
theorem dX3_slip_41 : decode cX3_slip 41 = .ok (.getfield 7, 3) := dk_180 0 7 (dk_at dksX3_slip_1 17 rfl rfl)
theorem dX3_slip_44 : decode cX3_slip 44 = .ok (.iconst 5, 1) := dk_8 (dk_at dksX3_slip_1 20 rfl rfl)
theorem dX3_slip_45 : decode cX3_slip 45 = .ok (.iaload, 1) := dk_46 (dk_at dksX3_slip_1 21 rfl rfl)
theorem dX3_slip_46 : decode cX3_slip 46 = .ok (.istore_n 3, 1) := dk_62 (dk_at dksX3_slip_1 22 rfl rfl)
theorem dX3_slip_47 : decode cX3_slip 47 = .ok (.aload_n 0, 1) := dk_42 (dk_at dksX3_slip_1 23 rfl rfl)
theorem dX3_slip_48 : decode cX3_slip 48 = .ok (.getfield 7, 3) := dk_180 0 7 (dk_at dksX3_slip_2 0 rfl rfl)
theorem dX3_slip_51 : decode cX3_slip 51 = .ok (.bipush 6, 2) := dk_16 6 (dk_at dksX3_slip_2 3 rfl rfl)
theorem dX3_slip_53 : decode cX3_slip 53 = .ok (.iaload, 1) := dk_46 (dk_at dksX3_slip_2 5 rfl rfl)
theorem dX3_slip_54 : decode cX3_slip 54 = .ok (.istore 4, 2) := dk_54 4 (dk_at dksX3_slip_2 6 rfl rfl)
theorem dX3_slip_56 : decode cX3_slip 56 = .ok (.aload_n 0, 1) := dk_42 (dk_at dksX3_slip_2 8 rfl rfl)
theorem dX3_slip_57 : decode cX3_slip 57 = .ok (.getfield 7, 3) := dk_180 0 7 (dk_at dksX3_slip_2 9 rfl rfl)
theorem dX3_slip_60 : decode cX3_slip 60 = .ok (.iload_n 3, 1) := dk_29 (dk_at dksX3_slip_2 12 rfl rfl)
theorem dX3_slip_61 : decode cX3_slip 61 = .ok (.iconst 3, 1) := dk_6 (dk_at dksX3_slip_2 13 rfl rfl)
theorem dX3_slip_62 : decode cX3_slip 62 = .ok (.iload 4, 2) := dk_21 4 (dk_at dksX3_slip_2 14 rfl rfl)
theorem dX3_slip_64 : decode cX3_slip 64 = .ok (.iadd, 1) := dk_96 (dk_at dksX3_slip_2 16 rfl rfl)
theorem dX3_slip_65 : decode cX3_slip 65 = .ok (.iload_n 2, 1) := dk_28 (dk_at dksX3_slip_2 17 rfl rfl)
theorem dX3_slip_66 : decode cX3_slip 66 = .ok (.invokestatic 63, 3) := dk_184 0 63 (dk_at dksX3_slip_2 18 rfl rfl)
theorem dX3_slip_69 : decode cX3_slip 69 = .ok (.aload_n 0, 1) := dk_42 (dk_at dksX3_slip_2 21 rfl rfl)
theorem dX3_slip_70 : decode cX3_slip 70 = .ok (.getfield 7, 3) := dk_180 0 7 (dk_at dksX3_slip_3 0 rfl rfl)
theorem dX3_slip_73 : decode cX3_slip 73 = .ok (.bipush 8, 2) := dk_16 8 (dk_at dksX3_slip_3 3 rfl rfl)
theorem dX3_slip_75 : decode cX3_slip 75 = .ok (.dup2, 1) := dk_92 (dk_at dksX3_slip_3 5 rfl rfl)
theorem dX3_slip_76 : decode cX3_slip 76 = .ok (.iaload, 1) := dk_46 (dk_at dksX3_slip_3 6 rfl rfl)
theorem dX3_slip_77 : decode cX3_slip 77 = .ok (.iconst 1, 1) := dk_4 (dk_at dksX3_slip_3 7 rfl rfl)
theorem dX3_slip_78 : decode cX3_slip 78 = .ok (.iadd, 1) := dk_96 (dk_at dksX3_slip_3 8 rfl rfl)
theorem dX3_slip_79 : decode cX3_slip 79 = .ok (.iastore, 1) := dk_79 (dk_at dksX3_slip_3 9 rfl rfl)
theorem dX3_slip_80 : decode cX3_slip 80 = .ok (.aload_n 0, 1) := dk_42 (dk_at dksX3_slip_3 10 rfl rfl)
theorem dX3_slip_81 : decode cX3_slip 81 = .ok (.getfield 7, 3) := dk_180 0 7 (dk_at dksX3_slip_3 11 rfl rfl)
theorem dX3_slip_84 : decode cX3_slip 84 = .ok (.iload_n 3, 1) := dk_29 (dk_at dksX3_slip_3 14 rfl rfl)
theorem dX3_slip_85 : decode cX3_slip 85 = .ok (.iconst 1, 1) := dk_4 (dk_at dksX3_slip_3 15 rfl rfl)
theorem dX3_slip_86 : decode cX3_slip 86 = .ok (.iload 4, 2) := dk_21 4 (dk_at dksX3_slip_3 16 rfl rfl)
theorem dX3_slip_88 : decode cX3_slip 88 = .ok (.isub, 1) := dk_100 (dk_at dksX3_slip_3 18 rfl rfl)
theorem dX3_slip_89 : decode cX3_slip 89 = .ok (.iload_n 2, 1) := dk_28 (dk_at dksX3_slip_3 19 rfl rfl)
theorem dX3_slip_90 : decode cX3_slip 90 = .ok (.invokestatic 71, 3) := dk_184 0 71 (dk_at dksX3_slip_3 20 rfl rfl)
theorem dX3_slip_93 : decode cX3_slip 93 = .ok (.ifCond .eq 30, 3) := dk_153 0 30 (dk_at dksX3_slip_4 0 rfl rfl)
theorem dX3_slip_96 : decode cX3_slip 96 = .ok (.aload_n 0, 1) := dk_42 (dk_at dksX3_slip_4 3 rfl rfl)
theorem dX3_slip_97 : decode cX3_slip 97 = .ok (.getfield 7, 3) := dk_180 0 7 (dk_at dksX3_slip_4 4 rfl rfl)
theorem dX3_slip_100 : decode cX3_slip 100 = .ok (.bipush 6, 2) := dk_16 6 (dk_at dksX3_slip_4 7 rfl rfl)
theorem dX3_slip_102 : decode cX3_slip 102 = .ok (.iconst 1, 1) := dk_4 (dk_at dksX3_slip_4 9 rfl rfl)
theorem dX3_slip_103 : decode cX3_slip 103 = .ok (.iload 4, 2) := dk_21 4 (dk_at dksX3_slip_4 10 rfl rfl)
theorem dX3_slip_105 : decode cX3_slip 105 = .ok (.isub, 1) := dk_100 (dk_at dksX3_slip_4 12 rfl rfl)
theorem dX3_slip_106 : decode cX3_slip 106 = .ok (.iastore, 1) := dk_79 (dk_at dksX3_slip_4 13 rfl rfl)
theorem dX3_slip_107 : decode cX3_slip 107 = .ok (.aload_n 0, 1) := dk_42 (dk_at dksX3_slip_4 14 rfl rfl)
theorem dX3_slip_108 : decode cX3_slip 108 = .ok (.getfield 7, 3) := dk_180 0 7 (dk_at dksX3_slip_4 15 rfl rfl)
theorem dX3_slip_111 : decode cX3_slip 111 = .ok (.iconst 4, 1) := dk_7 (dk_at dksX3_slip_4 18 rfl rfl)
theorem dX3_slip_112 : decode cX3_slip 112 = .ok (.aload_n 0, 1) := dk_42 (dk_at dksX3_slip_4 19 rfl rfl)
theorem dX3_slip_113 : decode cX3_slip 113 = .ok (.getfield 7, 3) := dk_180 0 7 (dk_at dksX3_slip_4 20 rfl rfl)
theorem dX3_slip_116 : decode cX3_slip 116 = .ok (.iload_n 1, 1) := dk_27 (dk_at dksX3_slip_4 23 rfl rfl)
theorem dX3_slip_117 : decode cX3_slip 117 = .ok (.invokestatic 153, 3) := dk_184 0 153 (dk_at dksX3_slip_5 0 rfl rfl)
theorem dX3_slip_120 : decode cX3_slip 120 = .ok (.iastore, 1) := dk_79 (dk_at dksX3_slip_5 3 rfl rfl)
theorem dX3_slip_121 : decode cX3_slip 121 = .ok (.iconst 1, 1) := dk_4 (dk_at dksX3_slip_5 4 rfl rfl)
theorem dX3_slip_122 : decode cX3_slip 122 = .ok (.ireturn, 1) := dk_172 (dk_at dksX3_slip_5 5 rfl rfl)
theorem dX3_slip_123 : decode cX3_slip 123 = .ok (.aload_n 0, 1) := dk_42 (dk_at dksX3_slip_5 6 rfl rfl)
theorem dX3_slip_124 : decode cX3_slip 124 = .ok (.getfield 7, 3) := dk_180 0 7 (dk_at dksX3_slip_5 7 rfl rfl)
theorem dX3_slip_127 : decode cX3_slip 127 = .ok (.iload_n 3, 1) := dk_29 (dk_at dksX3_slip_5 10 rfl rfl)
theorem dX3_slip_128 : decode cX3_slip 128 = .ok (.iload 4, 2) := dk_21 4 (dk_at dksX3_slip_5 11 rfl rfl)
theorem dX3_slip_130 : decode cX3_slip 130 = .ok (.iload_n 2, 1) := dk_28 (dk_at dksX3_slip_5 13 rfl rfl)
theorem dX3_slip_131 : decode cX3_slip 131 = .ok (.invokestatic 67, 3) := dk_184 0 67 (dk_at dksX3_slip_5 14 rfl rfl)
theorem dX3_slip_134 : decode cX3_slip 134 = .ok (.ifCond .eq 32, 3) := dk_153 0 32 (dk_at dksX3_slip_5 17 rfl rfl)
theorem dX3_slip_137 : decode cX3_slip 137 = .ok (.aload_n 0, 1) := dk_42 (dk_at dksX3_slip_5 20 rfl rfl)
theorem dX3_slip_138 : decode cX3_slip 138 = .ok (.getfield 7, 3) := dk_180 0 7 (dk_at dksX3_slip_5 21 rfl rfl)
theorem dX3_slip_141 : decode cX3_slip 141 = .ok (.iload_n 3, 1) := dk_29 (dk_at dksX3_slip_6 0 rfl rfl)
theorem dX3_slip_142 : decode cX3_slip 142 = .ok (.iload 4, 2) := dk_21 4 (dk_at dksX3_slip_6 1 rfl rfl)
theorem dX3_slip_144 : decode cX3_slip 144 = .ok (.invokestatic 112, 3) := dk_184 0 112 (dk_at dksX3_slip_6 3 rfl rfl)
theorem dX3_slip_147 : decode cX3_slip 147 = .ok (.aload_n 0, 1) := dk_42 (dk_at dksX3_slip_6 6 rfl rfl)
theorem dX3_slip_148 : decode cX3_slip 148 = .ok (.getfield 7, 3) := dk_180 0 7 (dk_at dksX3_slip_6 7 rfl rfl)
theorem dX3_slip_151 : decode cX3_slip 151 = .ok (.iconst 4, 1) := dk_7 (dk_at dksX3_slip_6 10 rfl rfl)
theorem dX3_slip_152 : decode cX3_slip 152 = .ok (.aload_n 0, 1) := dk_42 (dk_at dksX3_slip_6 11 rfl rfl)
theorem dX3_slip_153 : decode cX3_slip 153 = .ok (.getfield 7, 3) := dk_180 0 7 (dk_at dksX3_slip_6 12 rfl rfl)
theorem dX3_slip_156 : decode cX3_slip 156 = .ok (.iload_n 1, 1) := dk_27 (dk_at dksX3_slip_6 15 rfl rfl)
theorem dX3_slip_157 : decode cX3_slip 157 = .ok (.invokestatic 153, 3) := dk_184 0 153 (dk_at dksX3_slip_6 16 rfl rfl)
theorem dX3_slip_160 : decode cX3_slip 160 = .ok (.bipush 10, 2) := dk_16 10 (dk_at dksX3_slip_6 19 rfl rfl)
theorem dX3_slip_162 : decode cX3_slip 162 = .ok (.iadd, 1) := dk_96 (dk_at dksX3_slip_6 21 rfl rfl)
theorem dX3_slip_163 : decode cX3_slip 163 = .ok (.iastore, 1) := dk_79 (dk_at dksX3_slip_6 22 rfl rfl)
theorem dX3_slip_164 : decode cX3_slip 164 = .ok (.iconst 2, 1) := dk_5 (dk_at dksX3_slip_6 23 rfl rfl)
theorem dX3_slip_165 : decode cX3_slip 165 = .ok (.ireturn, 1) := dk_172 (dk_at dksX3_slip_7 0 rfl rfl)
theorem dX3_slip_166 : decode cX3_slip 166 = .ok (.aload_n 0, 1) := dk_42 (dk_at dksX3_slip_7 1 rfl rfl)
theorem dX3_slip_167 : decode cX3_slip 167 = .ok (.getfield 7, 3) := dk_180 0 7 (dk_at dksX3_slip_7 2 rfl rfl)
theorem dX3_slip_170 : decode cX3_slip 170 = .ok (.iload_n 3, 1) := dk_29 (dk_at dksX3_slip_7 5 rfl rfl)
theorem dX3_slip_171 : decode cX3_slip 171 = .ok (.iconst 2, 1) := dk_5 (dk_at dksX3_slip_7 6 rfl rfl)
theorem dX3_slip_172 : decode cX3_slip 172 = .ok (.iconst 3, 1) := dk_6 (dk_at dksX3_slip_7 7 rfl rfl)
theorem dX3_slip_173 : decode cX3_slip 173 = .ok (.invokestatic 63, 3) := dk_184 0 63 (dk_at dksX3_slip_7 8 rfl rfl)
theorem dX3_slip_176 : decode cX3_slip 176 = .ok (.aload_n 0, 1) := dk_42 (dk_at dksX3_slip_7 11 rfl rfl)
theorem dX3_slip_177 : decode cX3_slip 177 = .ok (.getfield 7, 3) := dk_180 0 7 (dk_at dksX3_slip_7 12 rfl rfl)
theorem dX3_slip_180 : decode cX3_slip 180 = .ok (.invokestatic 143, 3) := dk_184 0 143 (dk_at dksX3_slip_7 15 rfl rfl)
theorem dX3_slip_183 : decode cX3_slip 183 = .ok (.iconst 3, 1) := dk_6 (dk_at dksX3_slip_7 18 rfl rfl)
theorem dX3_slip_184 : decode cX3_slip 184 = .ok (.ireturn, 1) := dk_172 (dk_at dksX3_slip_7 19 rfl rfl)
abbrev cX3_undo : ByteArray := prog_10_method_49_code
def yX3_undo : MethodName := ⟨RX3, "undo", "()I"⟩
def dkwX3_undo_2 : List UInt8 := [42, 180, 0, 35, 104, 27, 96, 46, 79, 132, 1, 1, 167, 255, 225, 42, 180, 0, 35, 172]
abbrev dktX3_undo_2 : List UInt8 := dkwX3_undo_2 ++ []
def dkwX3_undo_1 : List UInt8 := [181, 0, 35, 3, 60, 27, 17, 1, 87, 162, 0, 30, 42, 180, 0, 7, 27, 42, 180, 0, 16, 17, 1, 87]
abbrev dktX3_undo_1 : List UInt8 := dkwX3_undo_1 ++ dktX3_undo_2
def dkwX3_undo_0 : List UInt8 := [42, 3, 181, 0, 31, 42, 180, 0, 35, 154, 0, 6, 16, 254, 172, 42, 89, 180, 0, 35, 4, 100]
abbrev dktX3_undo_0 : List UInt8 := dkwX3_undo_0 ++ dktX3_undo_1
theorem dksX3_undo_0 : cX3_undo.data.toList.drop 0 = dktX3_undo_0 := by decide +kernel
theorem dksX3_undo_1 : cX3_undo.data.toList.drop 22 = dktX3_undo_1 := dk_seg dksX3_undo_0 22 rfl rfl
theorem dksX3_undo_2 : cX3_undo.data.toList.drop 46 = dktX3_undo_2 := dk_seg dksX3_undo_1 24 rfl rfl
theorem dX3_undo_0 : decode cX3_undo 0 = .ok (.aload_n 0, 1) := dk_42 (dk_at dksX3_undo_0 0 rfl rfl)
theorem dX3_undo_1 : decode cX3_undo 1 = .ok (.iconst 0, 1) := dk_3 (dk_at dksX3_undo_0 1 rfl rfl)
theorem dX3_undo_2 : decode cX3_undo 2 = .ok (.putfield 31, 3) := dk_181 0 31 (dk_at dksX3_undo_0 2 rfl rfl)
theorem dX3_undo_5 : decode cX3_undo 5 = .ok (.aload_n 0, 1) := dk_42 (dk_at dksX3_undo_0 5 rfl rfl)
theorem dX3_undo_6 : decode cX3_undo 6 = .ok (.getfield 35, 3) := dk_180 0 35 (dk_at dksX3_undo_0 6 rfl rfl)
theorem dX3_undo_9 : decode cX3_undo 9 = .ok (.ifCond .ne 6, 3) := dk_154 0 6 (dk_at dksX3_undo_0 9 rfl rfl)
theorem dX3_undo_12 : decode cX3_undo 12 = .ok (.bipush (-2), 2) := dk_16 254 (dk_at dksX3_undo_0 12 rfl rfl)
theorem dX3_undo_14 : decode cX3_undo 14 = .ok (.ireturn, 1) := dk_172 (dk_at dksX3_undo_0 14 rfl rfl)
theorem dX3_undo_15 : decode cX3_undo 15 = .ok (.aload_n 0, 1) := dk_42 (dk_at dksX3_undo_0 15 rfl rfl)
theorem dX3_undo_16 : decode cX3_undo 16 = .ok (.dup, 1) := dk_89 (dk_at dksX3_undo_0 16 rfl rfl)
theorem dX3_undo_17 : decode cX3_undo 17 = .ok (.getfield 35, 3) := dk_180 0 35 (dk_at dksX3_undo_0 17 rfl rfl)
theorem dX3_undo_20 : decode cX3_undo 20 = .ok (.iconst 1, 1) := dk_4 (dk_at dksX3_undo_0 20 rfl rfl)
theorem dX3_undo_21 : decode cX3_undo 21 = .ok (.isub, 1) := dk_100 (dk_at dksX3_undo_0 21 rfl rfl)
theorem dX3_undo_22 : decode cX3_undo 22 = .ok (.putfield 35, 3) := dk_181 0 35 (dk_at dksX3_undo_1 0 rfl rfl)
theorem dX3_undo_25 : decode cX3_undo 25 = .ok (.iconst 0, 1) := dk_3 (dk_at dksX3_undo_1 3 rfl rfl)
theorem dX3_undo_26 : decode cX3_undo 26 = .ok (.istore_n 1, 1) := dk_60 (dk_at dksX3_undo_1 4 rfl rfl)
theorem dX3_undo_27 : decode cX3_undo 27 = .ok (.iload_n 1, 1) := dk_27 (dk_at dksX3_undo_1 5 rfl rfl)
theorem dX3_undo_28 : decode cX3_undo 28 = .ok (.sipush 343, 3) := dk_17 1 87 (dk_at dksX3_undo_1 6 rfl rfl)
theorem dX3_undo_31 : decode cX3_undo 31 = .ok (.if_icmp .ge 30, 3) := dk_162 0 30 (dk_at dksX3_undo_1 9 rfl rfl)
theorem dX3_undo_34 : decode cX3_undo 34 = .ok (.aload_n 0, 1) := dk_42 (dk_at dksX3_undo_1 12 rfl rfl)
theorem dX3_undo_35 : decode cX3_undo 35 = .ok (.getfield 7, 3) := dk_180 0 7 (dk_at dksX3_undo_1 13 rfl rfl)
theorem dX3_undo_38 : decode cX3_undo 38 = .ok (.iload_n 1, 1) := dk_27 (dk_at dksX3_undo_1 16 rfl rfl)
theorem dX3_undo_39 : decode cX3_undo 39 = .ok (.aload_n 0, 1) := dk_42 (dk_at dksX3_undo_1 17 rfl rfl)
theorem dX3_undo_40 : decode cX3_undo 40 = .ok (.getfield 16, 3) := dk_180 0 16 (dk_at dksX3_undo_1 18 rfl rfl)
theorem dX3_undo_43 : decode cX3_undo 43 = .ok (.sipush 343, 3) := dk_17 1 87 (dk_at dksX3_undo_1 21 rfl rfl)
theorem dX3_undo_46 : decode cX3_undo 46 = .ok (.aload_n 0, 1) := dk_42 (dk_at dksX3_undo_2 0 rfl rfl)
theorem dX3_undo_47 : decode cX3_undo 47 = .ok (.getfield 35, 3) := dk_180 0 35 (dk_at dksX3_undo_2 1 rfl rfl)
theorem dX3_undo_50 : decode cX3_undo 50 = .ok (.imul, 1) := dk_104 (dk_at dksX3_undo_2 4 rfl rfl)
theorem dX3_undo_51 : decode cX3_undo 51 = .ok (.iload_n 1, 1) := dk_27 (dk_at dksX3_undo_2 5 rfl rfl)
theorem dX3_undo_52 : decode cX3_undo 52 = .ok (.iadd, 1) := dk_96 (dk_at dksX3_undo_2 6 rfl rfl)
theorem dX3_undo_53 : decode cX3_undo 53 = .ok (.iaload, 1) := dk_46 (dk_at dksX3_undo_2 7 rfl rfl)
theorem dX3_undo_54 : decode cX3_undo 54 = .ok (.iastore, 1) := dk_79 (dk_at dksX3_undo_2 8 rfl rfl)
theorem dX3_undo_55 : decode cX3_undo 55 = .ok (.iinc 1 1, 3) := dk_132 1 1 (dk_at dksX3_undo_2 9 rfl rfl)
theorem dX3_undo_58 : decode cX3_undo 58 = .ok (.goto (-31), 3) := dk_167 255 225 (dk_at dksX3_undo_2 12 rfl rfl)
theorem dX3_undo_61 : decode cX3_undo 61 = .ok (.aload_n 0, 1) := dk_42 (dk_at dksX3_undo_2 15 rfl rfl)
theorem dX3_undo_62 : decode cX3_undo 62 = .ok (.getfield 35, 3) := dk_180 0 35 (dk_at dksX3_undo_2 16 rfl rfl)
theorem dX3_undo_65 : decode cX3_undo 65 = .ok (.ireturn, 1) := dk_172 (dk_at dksX3_undo_2 19 rfl rfl)
abbrev cX3_count : ByteArray := prog_10_method_50_code
def yX3_count : MethodName := ⟨RX3, "count", "(I)I"⟩
def dkwX3_count_6 : List UInt8 := [180, 0, 35, 172, 42, 180, 0, 50, 172, 2, 172]
abbrev dktX3_count_6 : List UInt8 := dkwX3_count_6 ++ []
def dkwX3_count_5 : List UInt8 := [180, 0, 7, 16, 7, 46, 172, 42, 180, 0, 7, 16, 8, 46, 172, 42, 180, 0, 7, 16, 9, 46, 172, 42]
abbrev dktX3_count_5 : List UInt8 := dkwX3_count_5 ++ dktX3_count_6
def dkwX3_count_4 : List UInt8 := [153, 0, 12, 42, 180, 0, 7, 7, 46, 167, 0, 5, 16, 247, 172, 42, 180, 0, 7, 8, 46, 172, 42]
abbrev dktX3_count_4 : List UInt8 := dkwX3_count_4 ++ dktX3_count_5
def dkwX3_count_3 : List UInt8 := [180, 0, 7, 5, 46, 172, 42, 180, 0, 7, 184, 0, 126, 172, 42, 180, 0, 7, 6, 46, 172, 28]
abbrev dktX3_count_3 : List UInt8 := dkwX3_count_3 ++ dktX3_count_4
def dkwX3_count_2 : List UInt8 := [42, 180, 0, 7, 27, 184, 0, 109, 172, 42, 180, 0, 7, 4, 46, 172, 42, 180, 0, 7, 3, 46, 172, 42]
abbrev dktX3_count_2 : List UInt8 := dkwX3_count_2 ++ dktX3_count_3
def dkwX3_count_1 : List UInt8 := [170, 0, 0, 0, 179, 0, 0, 0, 0, 0, 0, 0, 15, 0, 0, 0, 77, 0, 0, 0, 77, 0, 0, 0, 77, 0, 0, 0, 77, 0, 0, 0, 86, 0, 0, 0, 93, 0, 0, 0, 100, 0, 0, 0, 107, 0, 0, 0, 115, 0, 0, 0, 122, 0, 0, 0, 138, 0, 0, 0, 145, 0, 0, 0, 153, 0, 0, 0, 161, 0, 0, 0, 169, 0, 0, 0, 174]
abbrev dktX3_count_1 : List UInt8 := dkwX3_count_1 ++ dktX3_count_2
def dkwX3_count_0 : List UInt8 := [42, 3, 181, 0, 31, 42, 180, 0, 7, 6, 46, 16, 247, 159, 0, 7, 4, 167, 0, 4, 3, 61, 27]
abbrev dktX3_count_0 : List UInt8 := dkwX3_count_0 ++ dktX3_count_1
theorem dksX3_count_0 : cX3_count.data.toList.drop 0 = dktX3_count_0 := by decide +kernel
theorem dksX3_count_1 : cX3_count.data.toList.drop 23 = dktX3_count_1 := dk_seg dksX3_count_0 23 rfl rfl
theorem dksX3_count_2 : cX3_count.data.toList.drop 100 = dktX3_count_2 := dk_seg dksX3_count_1 77 rfl rfl
theorem dksX3_count_3 : cX3_count.data.toList.drop 124 = dktX3_count_3 := dk_seg dksX3_count_2 24 rfl rfl
theorem dksX3_count_4 : cX3_count.data.toList.drop 146 = dktX3_count_4 := dk_seg dksX3_count_3 22 rfl rfl
theorem dksX3_count_5 : cX3_count.data.toList.drop 169 = dktX3_count_5 := dk_seg dksX3_count_4 23 rfl rfl
theorem dksX3_count_6 : cX3_count.data.toList.drop 193 = dktX3_count_6 := dk_seg dksX3_count_5 24 rfl rfl
theorem dX3_count_0 : decode cX3_count 0 = .ok (.aload_n 0, 1) := dk_42 (dk_at dksX3_count_0 0 rfl rfl)
theorem dX3_count_1 : decode cX3_count 1 = .ok (.iconst 0, 1) := dk_3 (dk_at dksX3_count_0 1 rfl rfl)
theorem dX3_count_2 : decode cX3_count 2 = .ok (.putfield 31, 3) := dk_181 0 31 (dk_at dksX3_count_0 2 rfl rfl)
theorem dX3_count_5 : decode cX3_count 5 = .ok (.aload_n 0, 1) := dk_42 (dk_at dksX3_count_0 5 rfl rfl)
theorem dX3_count_6 : decode cX3_count 6 = .ok (.getfield 7, 3) := dk_180 0 7 (dk_at dksX3_count_0 6 rfl rfl)
theorem dX3_count_9 : decode cX3_count 9 = .ok (.iconst 3, 1) := dk_6 (dk_at dksX3_count_0 9 rfl rfl)
theorem dX3_count_10 : decode cX3_count 10 = .ok (.iaload, 1) := dk_46 (dk_at dksX3_count_0 10 rfl rfl)
theorem dX3_count_11 : decode cX3_count 11 = .ok (.bipush (-9), 2) := dk_16 247 (dk_at dksX3_count_0 11 rfl rfl)
theorem dX3_count_13 : decode cX3_count 13 = .ok (.if_icmp .eq 7, 3) := dk_159 0 7 (dk_at dksX3_count_0 13 rfl rfl)
theorem dX3_count_16 : decode cX3_count 16 = .ok (.iconst 1, 1) := dk_4 (dk_at dksX3_count_0 16 rfl rfl)
theorem dX3_count_17 : decode cX3_count 17 = .ok (.goto 4, 3) := dk_167 0 4 (dk_at dksX3_count_0 17 rfl rfl)
theorem dX3_count_20 : decode cX3_count 20 = .ok (.iconst 0, 1) := dk_3 (dk_at dksX3_count_0 20 rfl rfl)
theorem dX3_count_21 : decode cX3_count 21 = .ok (.istore_n 2, 1) := dk_61 (dk_at dksX3_count_0 21 rfl rfl)
theorem dX3_count_22 : decode cX3_count 22 = .ok (.iload_n 1, 1) := dk_27 (dk_at dksX3_count_0 22 rfl rfl)
theorem dX3_count_23 : decode cX3_count 23 = .ok (.tableswitch 179 0 15 #[77, 77, 77, 77, 86, 93, 100, 107, 115, 122, 138, 145, 153, 161, 169, 174], 77) := by decide +kernel
theorem dX3_count_100 : decode cX3_count 100 = .ok (.aload_n 0, 1) := dk_42 (dk_at dksX3_count_2 0 rfl rfl)
theorem dX3_count_101 : decode cX3_count 101 = .ok (.getfield 7, 3) := dk_180 0 7 (dk_at dksX3_count_2 1 rfl rfl)
theorem dX3_count_104 : decode cX3_count 104 = .ok (.iload_n 1, 1) := dk_27 (dk_at dksX3_count_2 4 rfl rfl)
theorem dX3_count_105 : decode cX3_count 105 = .ok (.invokestatic 109, 3) := dk_184 0 109 (dk_at dksX3_count_2 5 rfl rfl)
theorem dX3_count_108 : decode cX3_count 108 = .ok (.ireturn, 1) := dk_172 (dk_at dksX3_count_2 8 rfl rfl)
theorem dX3_count_109 : decode cX3_count 109 = .ok (.aload_n 0, 1) := dk_42 (dk_at dksX3_count_2 9 rfl rfl)
theorem dX3_count_110 : decode cX3_count 110 = .ok (.getfield 7, 3) := dk_180 0 7 (dk_at dksX3_count_2 10 rfl rfl)
theorem dX3_count_113 : decode cX3_count 113 = .ok (.iconst 1, 1) := dk_4 (dk_at dksX3_count_2 13 rfl rfl)
theorem dX3_count_114 : decode cX3_count 114 = .ok (.iaload, 1) := dk_46 (dk_at dksX3_count_2 14 rfl rfl)
theorem dX3_count_115 : decode cX3_count 115 = .ok (.ireturn, 1) := dk_172 (dk_at dksX3_count_2 15 rfl rfl)
theorem dX3_count_116 : decode cX3_count 116 = .ok (.aload_n 0, 1) := dk_42 (dk_at dksX3_count_2 16 rfl rfl)
theorem dX3_count_117 : decode cX3_count 117 = .ok (.getfield 7, 3) := dk_180 0 7 (dk_at dksX3_count_2 17 rfl rfl)
theorem dX3_count_120 : decode cX3_count 120 = .ok (.iconst 0, 1) := dk_3 (dk_at dksX3_count_2 20 rfl rfl)
theorem dX3_count_121 : decode cX3_count 121 = .ok (.iaload, 1) := dk_46 (dk_at dksX3_count_2 21 rfl rfl)
theorem dX3_count_122 : decode cX3_count 122 = .ok (.ireturn, 1) := dk_172 (dk_at dksX3_count_2 22 rfl rfl)
theorem dX3_count_123 : decode cX3_count 123 = .ok (.aload_n 0, 1) := dk_42 (dk_at dksX3_count_2 23 rfl rfl)
theorem dX3_count_124 : decode cX3_count 124 = .ok (.getfield 7, 3) := dk_180 0 7 (dk_at dksX3_count_3 0 rfl rfl)
theorem dX3_count_127 : decode cX3_count 127 = .ok (.iconst 2, 1) := dk_5 (dk_at dksX3_count_3 3 rfl rfl)
theorem dX3_count_128 : decode cX3_count 128 = .ok (.iaload, 1) := dk_46 (dk_at dksX3_count_3 4 rfl rfl)
theorem dX3_count_129 : decode cX3_count 129 = .ok (.ireturn, 1) := dk_172 (dk_at dksX3_count_3 5 rfl rfl)
theorem dX3_count_130 : decode cX3_count 130 = .ok (.aload_n 0, 1) := dk_42 (dk_at dksX3_count_3 6 rfl rfl)
theorem dX3_count_131 : decode cX3_count 131 = .ok (.getfield 7, 3) := dk_180 0 7 (dk_at dksX3_count_3 7 rfl rfl)
theorem dX3_count_134 : decode cX3_count 134 = .ok (.invokestatic 126, 3) := dk_184 0 126 (dk_at dksX3_count_3 10 rfl rfl)
theorem dX3_count_137 : decode cX3_count 137 = .ok (.ireturn, 1) := dk_172 (dk_at dksX3_count_3 13 rfl rfl)
theorem dX3_count_138 : decode cX3_count 138 = .ok (.aload_n 0, 1) := dk_42 (dk_at dksX3_count_3 14 rfl rfl)
theorem dX3_count_139 : decode cX3_count 139 = .ok (.getfield 7, 3) := dk_180 0 7 (dk_at dksX3_count_3 15 rfl rfl)
theorem dX3_count_142 : decode cX3_count 142 = .ok (.iconst 3, 1) := dk_6 (dk_at dksX3_count_3 18 rfl rfl)
theorem dX3_count_143 : decode cX3_count 143 = .ok (.iaload, 1) := dk_46 (dk_at dksX3_count_3 19 rfl rfl)
theorem dX3_count_144 : decode cX3_count 144 = .ok (.ireturn, 1) := dk_172 (dk_at dksX3_count_3 20 rfl rfl)
theorem dX3_count_145 : decode cX3_count 145 = .ok (.iload_n 2, 1) := dk_28 (dk_at dksX3_count_3 21 rfl rfl)
theorem dX3_count_146 : decode cX3_count 146 = .ok (.ifCond .eq 12, 3) := dk_153 0 12 (dk_at dksX3_count_4 0 rfl rfl)
theorem dX3_count_149 : decode cX3_count 149 = .ok (.aload_n 0, 1) := dk_42 (dk_at dksX3_count_4 3 rfl rfl)
theorem dX3_count_150 : decode cX3_count 150 = .ok (.getfield 7, 3) := dk_180 0 7 (dk_at dksX3_count_4 4 rfl rfl)
theorem dX3_count_153 : decode cX3_count 153 = .ok (.iconst 4, 1) := dk_7 (dk_at dksX3_count_4 7 rfl rfl)
theorem dX3_count_154 : decode cX3_count 154 = .ok (.iaload, 1) := dk_46 (dk_at dksX3_count_4 8 rfl rfl)
theorem dX3_count_155 : decode cX3_count 155 = .ok (.goto 5, 3) := dk_167 0 5 (dk_at dksX3_count_4 9 rfl rfl)
theorem dX3_count_158 : decode cX3_count 158 = .ok (.bipush (-9), 2) := dk_16 247 (dk_at dksX3_count_4 12 rfl rfl)
theorem dX3_count_160 : decode cX3_count 160 = .ok (.ireturn, 1) := dk_172 (dk_at dksX3_count_4 14 rfl rfl)
theorem dX3_count_161 : decode cX3_count 161 = .ok (.aload_n 0, 1) := dk_42 (dk_at dksX3_count_4 15 rfl rfl)
theorem dX3_count_162 : decode cX3_count 162 = .ok (.getfield 7, 3) := dk_180 0 7 (dk_at dksX3_count_4 16 rfl rfl)
theorem dX3_count_165 : decode cX3_count 165 = .ok (.iconst 5, 1) := dk_8 (dk_at dksX3_count_4 19 rfl rfl)
theorem dX3_count_166 : decode cX3_count 166 = .ok (.iaload, 1) := dk_46 (dk_at dksX3_count_4 20 rfl rfl)
theorem dX3_count_167 : decode cX3_count 167 = .ok (.ireturn, 1) := dk_172 (dk_at dksX3_count_4 21 rfl rfl)
theorem dX3_count_168 : decode cX3_count 168 = .ok (.aload_n 0, 1) := dk_42 (dk_at dksX3_count_4 22 rfl rfl)
theorem dX3_count_169 : decode cX3_count 169 = .ok (.getfield 7, 3) := dk_180 0 7 (dk_at dksX3_count_5 0 rfl rfl)
theorem dX3_count_172 : decode cX3_count 172 = .ok (.bipush 7, 2) := dk_16 7 (dk_at dksX3_count_5 3 rfl rfl)
theorem dX3_count_174 : decode cX3_count 174 = .ok (.iaload, 1) := dk_46 (dk_at dksX3_count_5 5 rfl rfl)
theorem dX3_count_175 : decode cX3_count 175 = .ok (.ireturn, 1) := dk_172 (dk_at dksX3_count_5 6 rfl rfl)
theorem dX3_count_176 : decode cX3_count 176 = .ok (.aload_n 0, 1) := dk_42 (dk_at dksX3_count_5 7 rfl rfl)
theorem dX3_count_177 : decode cX3_count 177 = .ok (.getfield 7, 3) := dk_180 0 7 (dk_at dksX3_count_5 8 rfl rfl)
theorem dX3_count_180 : decode cX3_count 180 = .ok (.bipush 8, 2) := dk_16 8 (dk_at dksX3_count_5 11 rfl rfl)
theorem dX3_count_182 : decode cX3_count 182 = .ok (.iaload, 1) := dk_46 (dk_at dksX3_count_5 13 rfl rfl)
theorem dX3_count_183 : decode cX3_count 183 = .ok (.ireturn, 1) := dk_172 (dk_at dksX3_count_5 14 rfl rfl)
theorem dX3_count_184 : decode cX3_count 184 = .ok (.aload_n 0, 1) := dk_42 (dk_at dksX3_count_5 15 rfl rfl)
theorem dX3_count_185 : decode cX3_count 185 = .ok (.getfield 7, 3) := dk_180 0 7 (dk_at dksX3_count_5 16 rfl rfl)
theorem dX3_count_188 : decode cX3_count 188 = .ok (.bipush 9, 2) := dk_16 9 (dk_at dksX3_count_5 19 rfl rfl)
theorem dX3_count_190 : decode cX3_count 190 = .ok (.iaload, 1) := dk_46 (dk_at dksX3_count_5 21 rfl rfl)
theorem dX3_count_191 : decode cX3_count 191 = .ok (.ireturn, 1) := dk_172 (dk_at dksX3_count_5 22 rfl rfl)
theorem dX3_count_192 : decode cX3_count 192 = .ok (.aload_n 0, 1) := dk_42 (dk_at dksX3_count_5 23 rfl rfl)
theorem dX3_count_193 : decode cX3_count 193 = .ok (.getfield 35, 3) := dk_180 0 35 (dk_at dksX3_count_6 0 rfl rfl)
theorem dX3_count_196 : decode cX3_count 196 = .ok (.ireturn, 1) := dk_172 (dk_at dksX3_count_6 3 rfl rfl)
theorem dX3_count_197 : decode cX3_count 197 = .ok (.aload_n 0, 1) := dk_42 (dk_at dksX3_count_6 4 rfl rfl)
theorem dX3_count_198 : decode cX3_count 198 = .ok (.getfield 50, 3) := dk_180 0 50 (dk_at dksX3_count_6 5 rfl rfl)
theorem dX3_count_201 : decode cX3_count 201 = .ok (.ireturn, 1) := dk_172 (dk_at dksX3_count_6 8 rfl rfl)
theorem dX3_count_202 : decode cX3_count 202 = .ok (.iconst (-1), 1) := dk_2 (dk_at dksX3_count_6 9 rfl rfl)
theorem dX3_count_203 : decode cX3_count 203 = .ok (.ireturn, 1) := dk_172 (dk_at dksX3_count_6 10 rfl rfl)
abbrev cX3_plate : ByteArray := prog_10_method_51_code
def yX3_plate : MethodName := ⟨RX3, "plate", "(II)I"⟩
def dkwX3_plate_2 : List UInt8 := [42, 180, 0, 7, 27, 28, 184, 0, 53, 172]
abbrev dktX3_plate_2 : List UInt8 := dkwX3_plate_2 ++ []
def dkwX3_plate_1 : List UInt8 := [172, 28, 7, 164, 0, 21, 42, 180, 0, 7, 27, 5, 184, 0, 53, 5, 159, 0, 8, 16, 247, 167, 0, 12]
abbrev dktX3_plate_1 : List UInt8 := dkwX3_plate_1 ++ dktX3_plate_2
def dkwX3_plate_0 : List UInt8 := [42, 3, 181, 0, 31, 42, 27, 182, 0, 105, 153, 0, 13, 28, 3, 16, 6, 184, 0, 38, 154, 0, 5, 2]
abbrev dktX3_plate_0 : List UInt8 := dkwX3_plate_0 ++ dktX3_plate_1
theorem dksX3_plate_0 : cX3_plate.data.toList.drop 0 = dktX3_plate_0 := by decide +kernel
theorem dksX3_plate_1 : cX3_plate.data.toList.drop 24 = dktX3_plate_1 := dk_seg dksX3_plate_0 24 rfl rfl
theorem dksX3_plate_2 : cX3_plate.data.toList.drop 48 = dktX3_plate_2 := dk_seg dksX3_plate_1 24 rfl rfl
theorem dX3_plate_0 : decode cX3_plate 0 = .ok (.aload_n 0, 1) := dk_42 (dk_at dksX3_plate_0 0 rfl rfl)
theorem dX3_plate_1 : decode cX3_plate 1 = .ok (.iconst 0, 1) := dk_3 (dk_at dksX3_plate_0 1 rfl rfl)
theorem dX3_plate_2 : decode cX3_plate 2 = .ok (.putfield 31, 3) := dk_181 0 31 (dk_at dksX3_plate_0 2 rfl rfl)
theorem dX3_plate_5 : decode cX3_plate 5 = .ok (.aload_n 0, 1) := dk_42 (dk_at dksX3_plate_0 5 rfl rfl)
theorem dX3_plate_6 : decode cX3_plate 6 = .ok (.iload_n 1, 1) := dk_27 (dk_at dksX3_plate_0 6 rfl rfl)
theorem dX3_plate_7 : decode cX3_plate 7 = .ok (.invokevirtual 105, 3) := dk_182 0 105 (dk_at dksX3_plate_0 7 rfl rfl)
theorem dX3_plate_10 : decode cX3_plate 10 = .ok (.ifCond .eq 13, 3) := dk_153 0 13 (dk_at dksX3_plate_0 10 rfl rfl)
theorem dX3_plate_13 : decode cX3_plate 13 = .ok (.iload_n 2, 1) := dk_28 (dk_at dksX3_plate_0 13 rfl rfl)
theorem dX3_plate_14 : decode cX3_plate 14 = .ok (.iconst 0, 1) := dk_3 (dk_at dksX3_plate_0 14 rfl rfl)
theorem dX3_plate_15 : decode cX3_plate 15 = .ok (.bipush 6, 2) := dk_16 6 (dk_at dksX3_plate_0 15 rfl rfl)
theorem dX3_plate_17 : decode cX3_plate 17 = .ok (.invokestatic 38, 3) := dk_184 0 38 (dk_at dksX3_plate_0 17 rfl rfl)
theorem dX3_plate_20 : decode cX3_plate 20 = .ok (.ifCond .ne 5, 3) := dk_154 0 5 (dk_at dksX3_plate_0 20 rfl rfl)
theorem dX3_plate_23 : decode cX3_plate 23 = .ok (.iconst (-1), 1) := dk_2 (dk_at dksX3_plate_0 23 rfl rfl)
theorem dX3_plate_24 : decode cX3_plate 24 = .ok (.ireturn, 1) := dk_172 (dk_at dksX3_plate_1 0 rfl rfl)
theorem dX3_plate_25 : decode cX3_plate 25 = .ok (.iload_n 2, 1) := dk_28 (dk_at dksX3_plate_1 1 rfl rfl)
theorem dX3_plate_26 : decode cX3_plate 26 = .ok (.iconst 4, 1) := dk_7 (dk_at dksX3_plate_1 2 rfl rfl)
theorem dX3_plate_27 : decode cX3_plate 27 = .ok (.if_icmp .le 21, 3) := dk_164 0 21 (dk_at dksX3_plate_1 3 rfl rfl)
theorem dX3_plate_30 : decode cX3_plate 30 = .ok (.aload_n 0, 1) := dk_42 (dk_at dksX3_plate_1 6 rfl rfl)
theorem dX3_plate_31 : decode cX3_plate 31 = .ok (.getfield 7, 3) := dk_180 0 7 (dk_at dksX3_plate_1 7 rfl rfl)
theorem dX3_plate_34 : decode cX3_plate 34 = .ok (.iload_n 1, 1) := dk_27 (dk_at dksX3_plate_1 10 rfl rfl)
theorem dX3_plate_35 : decode cX3_plate 35 = .ok (.iconst 2, 1) := dk_5 (dk_at dksX3_plate_1 11 rfl rfl)
theorem dX3_plate_36 : decode cX3_plate 36 = .ok (.invokestatic 53, 3) := dk_184 0 53 (dk_at dksX3_plate_1 12 rfl rfl)
theorem dX3_plate_39 : decode cX3_plate 39 = .ok (.iconst 2, 1) := dk_5 (dk_at dksX3_plate_1 15 rfl rfl)
theorem dX3_plate_40 : decode cX3_plate 40 = .ok (.if_icmp .eq 8, 3) := dk_159 0 8 (dk_at dksX3_plate_1 16 rfl rfl)
theorem dX3_plate_43 : decode cX3_plate 43 = .ok (.bipush (-9), 2) := dk_16 247 (dk_at dksX3_plate_1 19 rfl rfl)
theorem dX3_plate_45 : decode cX3_plate 45 = .ok (.goto 12, 3) := dk_167 0 12 (dk_at dksX3_plate_1 21 rfl rfl)
theorem dX3_plate_48 : decode cX3_plate 48 = .ok (.aload_n 0, 1) := dk_42 (dk_at dksX3_plate_2 0 rfl rfl)
theorem dX3_plate_49 : decode cX3_plate 49 = .ok (.getfield 7, 3) := dk_180 0 7 (dk_at dksX3_plate_2 1 rfl rfl)
theorem dX3_plate_52 : decode cX3_plate 52 = .ok (.iload_n 1, 1) := dk_27 (dk_at dksX3_plate_2 4 rfl rfl)
theorem dX3_plate_53 : decode cX3_plate 53 = .ok (.iload_n 2, 1) := dk_28 (dk_at dksX3_plate_2 5 rfl rfl)
theorem dX3_plate_54 : decode cX3_plate 54 = .ok (.invokestatic 53, 3) := dk_184 0 53 (dk_at dksX3_plate_2 6 rfl rfl)
theorem dX3_plate_57 : decode cX3_plate 57 = .ok (.ireturn, 1) := dk_172 (dk_at dksX3_plate_2 9 rfl rfl)
abbrev cX3_shield : ByteArray := prog_10_method_52_code
def yX3_shield : MethodName := ⟨RX3, "shield", "(II)I"⟩
def dkwX3_shield_5 : List UInt8 := [167, 0, 12, 21, 5, 21, 4, 100, 4, 96, 29, 100, 172]
abbrev dktX3_shield_5 : List UInt8 := dkwX3_shield_5 ++ []
def dkwX3_shield_4 : List UInt8 := [42, 180, 0, 7, 17, 0, 150, 27, 96, 46, 172, 29, 172, 21, 4, 172, 21, 5, 172, 29, 154, 0, 7, 3]
abbrev dktX3_shield_4 : List UInt8 := dkwX3_shield_4 ++ dktX3_shield_5
def dkwX3_shield_3 : List UInt8 := [170, 0, 0, 0, 0, 0, 0, 51, 0, 0, 0, 0, 0, 0, 0, 3, 0, 0, 0, 32, 0, 0, 0, 43, 0, 0, 0, 45, 0, 0, 0, 48]
abbrev dktX3_shield_3 : List UInt8 := dkwX3_shield_3 ++ dktX3_shield_4
def dkwX3_shield_2 : List UInt8 := [27, 2, 184, 0, 96, 54, 5, 28]
abbrev dktX3_shield_2 : List UInt8 := dkwX3_shield_2 ++ dktX3_shield_3
def dkwX3_shield_1 : List UInt8 := [42, 180, 0, 7, 27, 184, 0, 92, 62, 42, 180, 0, 7, 27, 4, 184, 0, 96, 54, 4, 42, 180, 0, 7]
abbrev dktX3_shield_1 : List UInt8 := dkwX3_shield_1 ++ dktX3_shield_2
def dkwX3_shield_0 : List UInt8 := [42, 3, 181, 0, 31, 42, 27, 182, 0, 116, 153, 0, 12, 28, 3, 7, 184, 0, 38, 154, 0, 5, 2, 172]
abbrev dktX3_shield_0 : List UInt8 := dkwX3_shield_0 ++ dktX3_shield_1
theorem dksX3_shield_0 : cX3_shield.data.toList.drop 0 = dktX3_shield_0 := by decide +kernel
theorem dksX3_shield_1 : cX3_shield.data.toList.drop 24 = dktX3_shield_1 := dk_seg dksX3_shield_0 24 rfl rfl
theorem dksX3_shield_2 : cX3_shield.data.toList.drop 48 = dktX3_shield_2 := dk_seg dksX3_shield_1 24 rfl rfl
theorem dksX3_shield_3 : cX3_shield.data.toList.drop 56 = dktX3_shield_3 := dk_seg dksX3_shield_2 8 rfl rfl
theorem dksX3_shield_4 : cX3_shield.data.toList.drop 88 = dktX3_shield_4 := dk_seg dksX3_shield_3 32 rfl rfl
theorem dksX3_shield_5 : cX3_shield.data.toList.drop 112 = dktX3_shield_5 := dk_seg dksX3_shield_4 24 rfl rfl
theorem dX3_shield_0 : decode cX3_shield 0 = .ok (.aload_n 0, 1) := dk_42 (dk_at dksX3_shield_0 0 rfl rfl)
theorem dX3_shield_1 : decode cX3_shield 1 = .ok (.iconst 0, 1) := dk_3 (dk_at dksX3_shield_0 1 rfl rfl)
theorem dX3_shield_2 : decode cX3_shield 2 = .ok (.putfield 31, 3) := dk_181 0 31 (dk_at dksX3_shield_0 2 rfl rfl)
theorem dX3_shield_5 : decode cX3_shield 5 = .ok (.aload_n 0, 1) := dk_42 (dk_at dksX3_shield_0 5 rfl rfl)
theorem dX3_shield_6 : decode cX3_shield 6 = .ok (.iload_n 1, 1) := dk_27 (dk_at dksX3_shield_0 6 rfl rfl)
theorem dX3_shield_7 : decode cX3_shield 7 = .ok (.invokevirtual 116, 3) := dk_182 0 116 (dk_at dksX3_shield_0 7 rfl rfl)
theorem dX3_shield_10 : decode cX3_shield 10 = .ok (.ifCond .eq 12, 3) := dk_153 0 12 (dk_at dksX3_shield_0 10 rfl rfl)
theorem dX3_shield_13 : decode cX3_shield 13 = .ok (.iload_n 2, 1) := dk_28 (dk_at dksX3_shield_0 13 rfl rfl)
theorem dX3_shield_14 : decode cX3_shield 14 = .ok (.iconst 0, 1) := dk_3 (dk_at dksX3_shield_0 14 rfl rfl)
theorem dX3_shield_15 : decode cX3_shield 15 = .ok (.iconst 4, 1) := dk_7 (dk_at dksX3_shield_0 15 rfl rfl)
theorem dX3_shield_16 : decode cX3_shield 16 = .ok (.invokestatic 38, 3) := dk_184 0 38 (dk_at dksX3_shield_0 16 rfl rfl)
theorem dX3_shield_19 : decode cX3_shield 19 = .ok (.ifCond .ne 5, 3) := dk_154 0 5 (dk_at dksX3_shield_0 19 rfl rfl)
theorem dX3_shield_22 : decode cX3_shield 22 = .ok (.iconst (-1), 1) := dk_2 (dk_at dksX3_shield_0 22 rfl rfl)
theorem dX3_shield_23 : decode cX3_shield 23 = .ok (.ireturn, 1) := dk_172 (dk_at dksX3_shield_0 23 rfl rfl)
theorem dX3_shield_24 : decode cX3_shield 24 = .ok (.aload_n 0, 1) := dk_42 (dk_at dksX3_shield_1 0 rfl rfl)
theorem dX3_shield_25 : decode cX3_shield 25 = .ok (.getfield 7, 3) := dk_180 0 7 (dk_at dksX3_shield_1 1 rfl rfl)
theorem dX3_shield_28 : decode cX3_shield 28 = .ok (.iload_n 1, 1) := dk_27 (dk_at dksX3_shield_1 4 rfl rfl)
theorem dX3_shield_29 : decode cX3_shield 29 = .ok (.invokestatic 92, 3) := dk_184 0 92 (dk_at dksX3_shield_1 5 rfl rfl)
theorem dX3_shield_32 : decode cX3_shield 32 = .ok (.istore_n 3, 1) := dk_62 (dk_at dksX3_shield_1 8 rfl rfl)
theorem dX3_shield_33 : decode cX3_shield 33 = .ok (.aload_n 0, 1) := dk_42 (dk_at dksX3_shield_1 9 rfl rfl)
theorem dX3_shield_34 : decode cX3_shield 34 = .ok (.getfield 7, 3) := dk_180 0 7 (dk_at dksX3_shield_1 10 rfl rfl)
theorem dX3_shield_37 : decode cX3_shield 37 = .ok (.iload_n 1, 1) := dk_27 (dk_at dksX3_shield_1 13 rfl rfl)
theorem dX3_shield_38 : decode cX3_shield 38 = .ok (.iconst 1, 1) := dk_4 (dk_at dksX3_shield_1 14 rfl rfl)
theorem dX3_shield_39 : decode cX3_shield 39 = .ok (.invokestatic 96, 3) := dk_184 0 96 (dk_at dksX3_shield_1 15 rfl rfl)
theorem dX3_shield_42 : decode cX3_shield 42 = .ok (.istore 4, 2) := dk_54 4 (dk_at dksX3_shield_1 18 rfl rfl)
theorem dX3_shield_44 : decode cX3_shield 44 = .ok (.aload_n 0, 1) := dk_42 (dk_at dksX3_shield_1 20 rfl rfl)
theorem dX3_shield_45 : decode cX3_shield 45 = .ok (.getfield 7, 3) := dk_180 0 7 (dk_at dksX3_shield_1 21 rfl rfl)
theorem dX3_shield_48 : decode cX3_shield 48 = .ok (.iload_n 1, 1) := dk_27 (dk_at dksX3_shield_2 0 rfl rfl)
theorem dX3_shield_49 : decode cX3_shield 49 = .ok (.iconst (-1), 1) := dk_2 (dk_at dksX3_shield_2 1 rfl rfl)
theorem dX3_shield_50 : decode cX3_shield 50 = .ok (.invokestatic 96, 3) := dk_184 0 96 (dk_at dksX3_shield_2 2 rfl rfl)
theorem dX3_shield_53 : decode cX3_shield 53 = .ok (.istore 5, 2) := dk_54 5 (dk_at dksX3_shield_2 5 rfl rfl)
theorem dX3_shield_55 : decode cX3_shield 55 = .ok (.iload_n 2, 1) := dk_28 (dk_at dksX3_shield_2 7 rfl rfl)
theorem dX3_shield_56 : decode cX3_shield 56 = .ok (.tableswitch 51 0 3 #[32, 43, 45, 48], 32) := by decide +kernel
theorem dX3_shield_88 : decode cX3_shield 88 = .ok (.aload_n 0, 1) := dk_42 (dk_at dksX3_shield_4 0 rfl rfl)
theorem dX3_shield_89 : decode cX3_shield 89 = .ok (.getfield 7, 3) := dk_180 0 7 (dk_at dksX3_shield_4 1 rfl rfl)
theorem dX3_shield_92 : decode cX3_shield 92 = .ok (.sipush 150, 3) := dk_17 0 150 (dk_at dksX3_shield_4 4 rfl rfl)
theorem dX3_shield_95 : decode cX3_shield 95 = .ok (.iload_n 1, 1) := dk_27 (dk_at dksX3_shield_4 7 rfl rfl)
theorem dX3_shield_96 : decode cX3_shield 96 = .ok (.iadd, 1) := dk_96 (dk_at dksX3_shield_4 8 rfl rfl)
theorem dX3_shield_97 : decode cX3_shield 97 = .ok (.iaload, 1) := dk_46 (dk_at dksX3_shield_4 9 rfl rfl)
theorem dX3_shield_98 : decode cX3_shield 98 = .ok (.ireturn, 1) := dk_172 (dk_at dksX3_shield_4 10 rfl rfl)
theorem dX3_shield_99 : decode cX3_shield 99 = .ok (.iload_n 3, 1) := dk_29 (dk_at dksX3_shield_4 11 rfl rfl)
theorem dX3_shield_100 : decode cX3_shield 100 = .ok (.ireturn, 1) := dk_172 (dk_at dksX3_shield_4 12 rfl rfl)
theorem dX3_shield_101 : decode cX3_shield 101 = .ok (.iload 4, 2) := dk_21 4 (dk_at dksX3_shield_4 13 rfl rfl)
theorem dX3_shield_103 : decode cX3_shield 103 = .ok (.ireturn, 1) := dk_172 (dk_at dksX3_shield_4 15 rfl rfl)
theorem dX3_shield_104 : decode cX3_shield 104 = .ok (.iload 5, 2) := dk_21 5 (dk_at dksX3_shield_4 16 rfl rfl)
theorem dX3_shield_106 : decode cX3_shield 106 = .ok (.ireturn, 1) := dk_172 (dk_at dksX3_shield_4 18 rfl rfl)
theorem dX3_shield_107 : decode cX3_shield 107 = .ok (.iload_n 3, 1) := dk_29 (dk_at dksX3_shield_4 19 rfl rfl)
theorem dX3_shield_108 : decode cX3_shield 108 = .ok (.ifCond .ne 7, 3) := dk_154 0 7 (dk_at dksX3_shield_4 20 rfl rfl)
theorem dX3_shield_111 : decode cX3_shield 111 = .ok (.iconst 0, 1) := dk_3 (dk_at dksX3_shield_4 23 rfl rfl)
theorem dX3_shield_112 : decode cX3_shield 112 = .ok (.goto 12, 3) := dk_167 0 12 (dk_at dksX3_shield_5 0 rfl rfl)
theorem dX3_shield_115 : decode cX3_shield 115 = .ok (.iload 5, 2) := dk_21 5 (dk_at dksX3_shield_5 3 rfl rfl)
theorem dX3_shield_117 : decode cX3_shield 117 = .ok (.iload 4, 2) := dk_21 4 (dk_at dksX3_shield_5 5 rfl rfl)
theorem dX3_shield_119 : decode cX3_shield 119 = .ok (.isub, 1) := dk_100 (dk_at dksX3_shield_5 7 rfl rfl)
theorem dX3_shield_120 : decode cX3_shield 120 = .ok (.iconst 1, 1) := dk_4 (dk_at dksX3_shield_5 8 rfl rfl)
theorem dX3_shield_121 : decode cX3_shield 121 = .ok (.iadd, 1) := dk_96 (dk_at dksX3_shield_5 9 rfl rfl)
theorem dX3_shield_122 : decode cX3_shield 122 = .ok (.iload_n 3, 1) := dk_29 (dk_at dksX3_shield_5 10 rfl rfl)
theorem dX3_shield_123 : decode cX3_shield 123 = .ok (.isub, 1) := dk_100 (dk_at dksX3_shield_5 11 rfl rfl)
theorem dX3_shield_124 : decode cX3_shield 124 = .ok (.ireturn, 1) := dk_172 (dk_at dksX3_shield_5 12 rfl rfl)
abbrev cX3_plateFor : ByteArray := prog_10_method_53_code
def yX3_plateFor : MethodName := ⟨RX3, "plateFor", "(II)I"⟩
def dkwX3_plateFor_1 : List UInt8 := [27, 28, 184, 0, 99, 167, 0, 4, 2, 172]
abbrev dktX3_plateFor_1 : List UInt8 := dkwX3_plateFor_1 ++ []
def dkwX3_plateFor_0 : List UInt8 := [42, 3, 181, 0, 31, 42, 27, 182, 0, 116, 153, 0, 22, 28, 184, 0, 119, 153, 0, 15, 42, 180, 0, 7]
abbrev dktX3_plateFor_0 : List UInt8 := dkwX3_plateFor_0 ++ dktX3_plateFor_1
theorem dksX3_plateFor_0 : cX3_plateFor.data.toList.drop 0 = dktX3_plateFor_0 := by decide +kernel
theorem dksX3_plateFor_1 : cX3_plateFor.data.toList.drop 24 = dktX3_plateFor_1 := dk_seg dksX3_plateFor_0 24 rfl rfl
theorem dX3_plateFor_0 : decode cX3_plateFor 0 = .ok (.aload_n 0, 1) := dk_42 (dk_at dksX3_plateFor_0 0 rfl rfl)
theorem dX3_plateFor_1 : decode cX3_plateFor 1 = .ok (.iconst 0, 1) := dk_3 (dk_at dksX3_plateFor_0 1 rfl rfl)
theorem dX3_plateFor_2 : decode cX3_plateFor 2 = .ok (.putfield 31, 3) := dk_181 0 31 (dk_at dksX3_plateFor_0 2 rfl rfl)
theorem dX3_plateFor_5 : decode cX3_plateFor 5 = .ok (.aload_n 0, 1) := dk_42 (dk_at dksX3_plateFor_0 5 rfl rfl)
theorem dX3_plateFor_6 : decode cX3_plateFor 6 = .ok (.iload_n 1, 1) := dk_27 (dk_at dksX3_plateFor_0 6 rfl rfl)
theorem dX3_plateFor_7 : decode cX3_plateFor 7 = .ok (.invokevirtual 116, 3) := dk_182 0 116 (dk_at dksX3_plateFor_0 7 rfl rfl)
theorem dX3_plateFor_10 : decode cX3_plateFor 10 = .ok (.ifCond .eq 22, 3) := dk_153 0 22 (dk_at dksX3_plateFor_0 10 rfl rfl)
theorem dX3_plateFor_13 : decode cX3_plateFor 13 = .ok (.iload_n 2, 1) := dk_28 (dk_at dksX3_plateFor_0 13 rfl rfl)
theorem dX3_plateFor_14 : decode cX3_plateFor 14 = .ok (.invokestatic 119, 3) := dk_184 0 119 (dk_at dksX3_plateFor_0 14 rfl rfl)
theorem dX3_plateFor_17 : decode cX3_plateFor 17 = .ok (.ifCond .eq 15, 3) := dk_153 0 15 (dk_at dksX3_plateFor_0 17 rfl rfl)
theorem dX3_plateFor_20 : decode cX3_plateFor 20 = .ok (.aload_n 0, 1) := dk_42 (dk_at dksX3_plateFor_0 20 rfl rfl)
theorem dX3_plateFor_21 : decode cX3_plateFor 21 = .ok (.getfield 7, 3) := dk_180 0 7 (dk_at dksX3_plateFor_0 21 rfl rfl)
theorem dX3_plateFor_24 : decode cX3_plateFor 24 = .ok (.iload_n 1, 1) := dk_27 (dk_at dksX3_plateFor_1 0 rfl rfl)
theorem dX3_plateFor_25 : decode cX3_plateFor 25 = .ok (.iload_n 2, 1) := dk_28 (dk_at dksX3_plateFor_1 1 rfl rfl)
theorem dX3_plateFor_26 : decode cX3_plateFor 26 = .ok (.invokestatic 99, 3) := dk_184 0 99 (dk_at dksX3_plateFor_1 2 rfl rfl)
theorem dX3_plateFor_29 : decode cX3_plateFor 29 = .ok (.goto 4, 3) := dk_167 0 4 (dk_at dksX3_plateFor_1 5 rfl rfl)
theorem dX3_plateFor_32 : decode cX3_plateFor 32 = .ok (.iconst (-1), 1) := dk_2 (dk_at dksX3_plateFor_1 8 rfl rfl)
theorem dX3_plateFor_33 : decode cX3_plateFor 33 = .ok (.ireturn, 1) := dk_172 (dk_at dksX3_plateFor_1 9 rfl rfl)
abbrev cX3_orderOf : ByteArray := prog_10_method_54_code
def yX3_orderOf : MethodName := ⟨RX3, "orderOf", "(II)I"⟩
def dkwX3_orderOf_2 : List UInt8 := [160, 0, 14, 42, 180, 0, 7, 27, 184, 0, 147, 167, 0, 11, 42, 180, 0, 7, 27, 184, 0, 153, 172]
abbrev dktX3_orderOf_2 : List UInt8 := dkwX3_orderOf_2 ++ []
def dkwX3_orderOf_1 : List UInt8 := [172, 28, 16, 6, 162, 0, 15, 42, 180, 0, 7, 27, 28, 184, 0, 42, 167, 0, 28, 28, 16, 6]
abbrev dktX3_orderOf_1 : List UInt8 := dkwX3_orderOf_1 ++ dktX3_orderOf_2
def dkwX3_orderOf_0 : List UInt8 := [42, 3, 181, 0, 31, 42, 27, 182, 0, 137, 153, 0, 13, 28, 3, 16, 7, 184, 0, 38, 154, 0, 5, 2]
abbrev dktX3_orderOf_0 : List UInt8 := dkwX3_orderOf_0 ++ dktX3_orderOf_1
theorem dksX3_orderOf_0 : cX3_orderOf.data.toList.drop 0 = dktX3_orderOf_0 := by decide +kernel
theorem dksX3_orderOf_1 : cX3_orderOf.data.toList.drop 24 = dktX3_orderOf_1 := dk_seg dksX3_orderOf_0 24 rfl rfl
theorem dksX3_orderOf_2 : cX3_orderOf.data.toList.drop 46 = dktX3_orderOf_2 := dk_seg dksX3_orderOf_1 22 rfl rfl
theorem dX3_orderOf_0 : decode cX3_orderOf 0 = .ok (.aload_n 0, 1) := dk_42 (dk_at dksX3_orderOf_0 0 rfl rfl)
theorem dX3_orderOf_1 : decode cX3_orderOf 1 = .ok (.iconst 0, 1) := dk_3 (dk_at dksX3_orderOf_0 1 rfl rfl)
theorem dX3_orderOf_2 : decode cX3_orderOf 2 = .ok (.putfield 31, 3) := dk_181 0 31 (dk_at dksX3_orderOf_0 2 rfl rfl)
theorem dX3_orderOf_5 : decode cX3_orderOf 5 = .ok (.aload_n 0, 1) := dk_42 (dk_at dksX3_orderOf_0 5 rfl rfl)
theorem dX3_orderOf_6 : decode cX3_orderOf 6 = .ok (.iload_n 1, 1) := dk_27 (dk_at dksX3_orderOf_0 6 rfl rfl)
theorem dX3_orderOf_7 : decode cX3_orderOf 7 = .ok (.invokevirtual 137, 3) := dk_182 0 137 (dk_at dksX3_orderOf_0 7 rfl rfl)
theorem dX3_orderOf_10 : decode cX3_orderOf 10 = .ok (.ifCond .eq 13, 3) := dk_153 0 13 (dk_at dksX3_orderOf_0 10 rfl rfl)
theorem dX3_orderOf_13 : decode cX3_orderOf 13 = .ok (.iload_n 2, 1) := dk_28 (dk_at dksX3_orderOf_0 13 rfl rfl)
theorem dX3_orderOf_14 : decode cX3_orderOf 14 = .ok (.iconst 0, 1) := dk_3 (dk_at dksX3_orderOf_0 14 rfl rfl)
theorem dX3_orderOf_15 : decode cX3_orderOf 15 = .ok (.bipush 7, 2) := dk_16 7 (dk_at dksX3_orderOf_0 15 rfl rfl)
theorem dX3_orderOf_17 : decode cX3_orderOf 17 = .ok (.invokestatic 38, 3) := dk_184 0 38 (dk_at dksX3_orderOf_0 17 rfl rfl)
theorem dX3_orderOf_20 : decode cX3_orderOf 20 = .ok (.ifCond .ne 5, 3) := dk_154 0 5 (dk_at dksX3_orderOf_0 20 rfl rfl)
theorem dX3_orderOf_23 : decode cX3_orderOf 23 = .ok (.iconst (-1), 1) := dk_2 (dk_at dksX3_orderOf_0 23 rfl rfl)
theorem dX3_orderOf_24 : decode cX3_orderOf 24 = .ok (.ireturn, 1) := dk_172 (dk_at dksX3_orderOf_1 0 rfl rfl)
theorem dX3_orderOf_25 : decode cX3_orderOf 25 = .ok (.iload_n 2, 1) := dk_28 (dk_at dksX3_orderOf_1 1 rfl rfl)
theorem dX3_orderOf_26 : decode cX3_orderOf 26 = .ok (.bipush 6, 2) := dk_16 6 (dk_at dksX3_orderOf_1 2 rfl rfl)
theorem dX3_orderOf_28 : decode cX3_orderOf 28 = .ok (.if_icmp .ge 15, 3) := dk_162 0 15 (dk_at dksX3_orderOf_1 4 rfl rfl)
theorem dX3_orderOf_31 : decode cX3_orderOf 31 = .ok (.aload_n 0, 1) := dk_42 (dk_at dksX3_orderOf_1 7 rfl rfl)
theorem dX3_orderOf_32 : decode cX3_orderOf 32 = .ok (.getfield 7, 3) := dk_180 0 7 (dk_at dksX3_orderOf_1 8 rfl rfl)
theorem dX3_orderOf_35 : decode cX3_orderOf 35 = .ok (.iload_n 1, 1) := dk_27 (dk_at dksX3_orderOf_1 11 rfl rfl)
theorem dX3_orderOf_36 : decode cX3_orderOf 36 = .ok (.iload_n 2, 1) := dk_28 (dk_at dksX3_orderOf_1 12 rfl rfl)
theorem dX3_orderOf_37 : decode cX3_orderOf 37 = .ok (.invokestatic 42, 3) := dk_184 0 42 (dk_at dksX3_orderOf_1 13 rfl rfl)
theorem dX3_orderOf_40 : decode cX3_orderOf 40 = .ok (.goto 28, 3) := dk_167 0 28 (dk_at dksX3_orderOf_1 16 rfl rfl)
theorem dX3_orderOf_43 : decode cX3_orderOf 43 = .ok (.iload_n 2, 1) := dk_28 (dk_at dksX3_orderOf_1 19 rfl rfl)
theorem dX3_orderOf_44 : decode cX3_orderOf 44 = .ok (.bipush 6, 2) := dk_16 6 (dk_at dksX3_orderOf_1 20 rfl rfl)
theorem dX3_orderOf_46 : decode cX3_orderOf 46 = .ok (.if_icmp .ne 14, 3) := dk_160 0 14 (dk_at dksX3_orderOf_2 0 rfl rfl)
theorem dX3_orderOf_49 : decode cX3_orderOf 49 = .ok (.aload_n 0, 1) := dk_42 (dk_at dksX3_orderOf_2 3 rfl rfl)
theorem dX3_orderOf_50 : decode cX3_orderOf 50 = .ok (.getfield 7, 3) := dk_180 0 7 (dk_at dksX3_orderOf_2 4 rfl rfl)
theorem dX3_orderOf_53 : decode cX3_orderOf 53 = .ok (.iload_n 1, 1) := dk_27 (dk_at dksX3_orderOf_2 7 rfl rfl)
theorem dX3_orderOf_54 : decode cX3_orderOf 54 = .ok (.invokestatic 147, 3) := dk_184 0 147 (dk_at dksX3_orderOf_2 8 rfl rfl)
theorem dX3_orderOf_57 : decode cX3_orderOf 57 = .ok (.goto 11, 3) := dk_167 0 11 (dk_at dksX3_orderOf_2 11 rfl rfl)
theorem dX3_orderOf_60 : decode cX3_orderOf 60 = .ok (.aload_n 0, 1) := dk_42 (dk_at dksX3_orderOf_2 14 rfl rfl)
theorem dX3_orderOf_61 : decode cX3_orderOf 61 = .ok (.getfield 7, 3) := dk_180 0 7 (dk_at dksX3_orderOf_2 15 rfl rfl)
theorem dX3_orderOf_64 : decode cX3_orderOf 64 = .ok (.iload_n 1, 1) := dk_27 (dk_at dksX3_orderOf_2 18 rfl rfl)
theorem dX3_orderOf_65 : decode cX3_orderOf 65 = .ok (.invokestatic 153, 3) := dk_184 0 153 (dk_at dksX3_orderOf_2 19 rfl rfl)
theorem dX3_orderOf_68 : decode cX3_orderOf 68 = .ok (.ireturn, 1) := dk_172 (dk_at dksX3_orderOf_2 22 rfl rfl)
abbrev cX3_letter : ByteArray := prog_10_method_55_code
def yX3_letter : MethodName := ⟨RX3, "letter", "(II)I"⟩
def dkwX3_letter_2 : List UInt8 := [16, 247, 172]
abbrev dktX3_letter_2 : List UInt8 := dkwX3_letter_2 ++ []
def dkwX3_letter_1 : List UInt8 := [27, 8, 184, 0, 42, 162, 0, 18, 42, 180, 0, 7, 27, 16, 6, 28, 96, 184, 0, 42, 167, 0, 5]
abbrev dktX3_letter_1 : List UInt8 := dkwX3_letter_1 ++ dktX3_letter_2
def dkwX3_letter_0 : List UInt8 := [42, 3, 181, 0, 31, 42, 27, 182, 0, 137, 153, 0, 7, 28, 156, 0, 5, 2, 172, 28, 42, 180, 0, 7]
abbrev dktX3_letter_0 : List UInt8 := dkwX3_letter_0 ++ dktX3_letter_1
theorem dksX3_letter_0 : cX3_letter.data.toList.drop 0 = dktX3_letter_0 := by decide +kernel
theorem dksX3_letter_1 : cX3_letter.data.toList.drop 24 = dktX3_letter_1 := dk_seg dksX3_letter_0 24 rfl rfl
theorem dksX3_letter_2 : cX3_letter.data.toList.drop 47 = dktX3_letter_2 := dk_seg dksX3_letter_1 23 rfl rfl
theorem dX3_letter_0 : decode cX3_letter 0 = .ok (.aload_n 0, 1) := dk_42 (dk_at dksX3_letter_0 0 rfl rfl)
theorem dX3_letter_1 : decode cX3_letter 1 = .ok (.iconst 0, 1) := dk_3 (dk_at dksX3_letter_0 1 rfl rfl)
theorem dX3_letter_2 : decode cX3_letter 2 = .ok (.putfield 31, 3) := dk_181 0 31 (dk_at dksX3_letter_0 2 rfl rfl)
theorem dX3_letter_5 : decode cX3_letter 5 = .ok (.aload_n 0, 1) := dk_42 (dk_at dksX3_letter_0 5 rfl rfl)
theorem dX3_letter_6 : decode cX3_letter 6 = .ok (.iload_n 1, 1) := dk_27 (dk_at dksX3_letter_0 6 rfl rfl)
theorem dX3_letter_7 : decode cX3_letter 7 = .ok (.invokevirtual 137, 3) := dk_182 0 137 (dk_at dksX3_letter_0 7 rfl rfl)
theorem dX3_letter_10 : decode cX3_letter 10 = .ok (.ifCond .eq 7, 3) := dk_153 0 7 (dk_at dksX3_letter_0 10 rfl rfl)
theorem dX3_letter_13 : decode cX3_letter 13 = .ok (.iload_n 2, 1) := dk_28 (dk_at dksX3_letter_0 13 rfl rfl)
theorem dX3_letter_14 : decode cX3_letter 14 = .ok (.ifCond .ge 5, 3) := dk_156 0 5 (dk_at dksX3_letter_0 14 rfl rfl)
theorem dX3_letter_17 : decode cX3_letter 17 = .ok (.iconst (-1), 1) := dk_2 (dk_at dksX3_letter_0 17 rfl rfl)
theorem dX3_letter_18 : decode cX3_letter 18 = .ok (.ireturn, 1) := dk_172 (dk_at dksX3_letter_0 18 rfl rfl)
theorem dX3_letter_19 : decode cX3_letter 19 = .ok (.iload_n 2, 1) := dk_28 (dk_at dksX3_letter_0 19 rfl rfl)
theorem dX3_letter_20 : decode cX3_letter 20 = .ok (.aload_n 0, 1) := dk_42 (dk_at dksX3_letter_0 20 rfl rfl)
theorem dX3_letter_21 : decode cX3_letter 21 = .ok (.getfield 7, 3) := dk_180 0 7 (dk_at dksX3_letter_0 21 rfl rfl)
theorem dX3_letter_24 : decode cX3_letter 24 = .ok (.iload_n 1, 1) := dk_27 (dk_at dksX3_letter_1 0 rfl rfl)
theorem dX3_letter_25 : decode cX3_letter 25 = .ok (.iconst 5, 1) := dk_8 (dk_at dksX3_letter_1 1 rfl rfl)
theorem dX3_letter_26 : decode cX3_letter 26 = .ok (.invokestatic 42, 3) := dk_184 0 42 (dk_at dksX3_letter_1 2 rfl rfl)
theorem dX3_letter_29 : decode cX3_letter 29 = .ok (.if_icmp .ge 18, 3) := dk_162 0 18 (dk_at dksX3_letter_1 5 rfl rfl)
theorem dX3_letter_32 : decode cX3_letter 32 = .ok (.aload_n 0, 1) := dk_42 (dk_at dksX3_letter_1 8 rfl rfl)
theorem dX3_letter_33 : decode cX3_letter 33 = .ok (.getfield 7, 3) := dk_180 0 7 (dk_at dksX3_letter_1 9 rfl rfl)
theorem dX3_letter_36 : decode cX3_letter 36 = .ok (.iload_n 1, 1) := dk_27 (dk_at dksX3_letter_1 12 rfl rfl)
theorem dX3_letter_37 : decode cX3_letter 37 = .ok (.bipush 6, 2) := dk_16 6 (dk_at dksX3_letter_1 13 rfl rfl)
theorem dX3_letter_39 : decode cX3_letter 39 = .ok (.iload_n 2, 1) := dk_28 (dk_at dksX3_letter_1 15 rfl rfl)
theorem dX3_letter_40 : decode cX3_letter 40 = .ok (.iadd, 1) := dk_96 (dk_at dksX3_letter_1 16 rfl rfl)
theorem dX3_letter_41 : decode cX3_letter 41 = .ok (.invokestatic 42, 3) := dk_184 0 42 (dk_at dksX3_letter_1 17 rfl rfl)
theorem dX3_letter_44 : decode cX3_letter 44 = .ok (.goto 5, 3) := dk_167 0 5 (dk_at dksX3_letter_1 20 rfl rfl)
theorem dX3_letter_47 : decode cX3_letter 47 = .ok (.bipush (-9), 2) := dk_16 247 (dk_at dksX3_letter_2 0 rfl rfl)
theorem dX3_letter_49 : decode cX3_letter 49 = .ok (.ireturn, 1) := dk_172 (dk_at dksX3_letter_2 2 rfl rfl)
abbrev cX3_lengthOf : ByteArray := prog_10_method_56_code
def yX3_lengthOf : MethodName := ⟨RX3, "lengthOf", "(I)I"⟩
def dkwX3_lengthOf_0 : List UInt8 := [42, 3, 181, 0, 31, 27, 4, 7, 184, 0, 38, 153, 0, 11, 42, 27, 182, 0, 166, 167, 0, 4, 2, 172]
abbrev dktX3_lengthOf_0 : List UInt8 := dkwX3_lengthOf_0 ++ []
theorem dksX3_lengthOf_0 : cX3_lengthOf.data.toList.drop 0 = dktX3_lengthOf_0 := by decide +kernel
theorem dX3_lengthOf_0 : decode cX3_lengthOf 0 = .ok (.aload_n 0, 1) := dk_42 (dk_at dksX3_lengthOf_0 0 rfl rfl)
theorem dX3_lengthOf_1 : decode cX3_lengthOf 1 = .ok (.iconst 0, 1) := dk_3 (dk_at dksX3_lengthOf_0 1 rfl rfl)
theorem dX3_lengthOf_2 : decode cX3_lengthOf 2 = .ok (.putfield 31, 3) := dk_181 0 31 (dk_at dksX3_lengthOf_0 2 rfl rfl)
theorem dX3_lengthOf_5 : decode cX3_lengthOf 5 = .ok (.iload_n 1, 1) := dk_27 (dk_at dksX3_lengthOf_0 5 rfl rfl)
theorem dX3_lengthOf_6 : decode cX3_lengthOf 6 = .ok (.iconst 1, 1) := dk_4 (dk_at dksX3_lengthOf_0 6 rfl rfl)
theorem dX3_lengthOf_7 : decode cX3_lengthOf 7 = .ok (.iconst 4, 1) := dk_7 (dk_at dksX3_lengthOf_0 7 rfl rfl)
theorem dX3_lengthOf_8 : decode cX3_lengthOf 8 = .ok (.invokestatic 38, 3) := dk_184 0 38 (dk_at dksX3_lengthOf_0 8 rfl rfl)
theorem dX3_lengthOf_11 : decode cX3_lengthOf 11 = .ok (.ifCond .eq 11, 3) := dk_153 0 11 (dk_at dksX3_lengthOf_0 11 rfl rfl)
theorem dX3_lengthOf_14 : decode cX3_lengthOf 14 = .ok (.aload_n 0, 1) := dk_42 (dk_at dksX3_lengthOf_0 14 rfl rfl)
theorem dX3_lengthOf_15 : decode cX3_lengthOf 15 = .ok (.iload_n 1, 1) := dk_27 (dk_at dksX3_lengthOf_0 15 rfl rfl)
theorem dX3_lengthOf_16 : decode cX3_lengthOf 16 = .ok (.invokevirtual 166, 3) := dk_182 0 166 (dk_at dksX3_lengthOf_0 16 rfl rfl)
theorem dX3_lengthOf_19 : decode cX3_lengthOf 19 = .ok (.goto 4, 3) := dk_167 0 4 (dk_at dksX3_lengthOf_0 19 rfl rfl)
theorem dX3_lengthOf_22 : decode cX3_lengthOf 22 = .ok (.iconst (-1), 1) := dk_2 (dk_at dksX3_lengthOf_0 22 rfl rfl)
theorem dX3_lengthOf_23 : decode cX3_lengthOf 23 = .ok (.ireturn, 1) := dk_172 (dk_at dksX3_lengthOf_0 23 rfl rfl)
abbrev cX3_textLength : ByteArray := prog_10_method_14_code
def yX3_textLength : MethodName := ⟨RX3, "textLength", "(I)I"⟩
def dkwX3_textLength_2 : List UInt8 := [27, 28, 104, 172]
abbrev dktX3_textLength_2 : List UInt8 := dkwX3_textLength_2 ++ []
def dkwX3_textLength_1 : List UInt8 := [180, 0, 50, 162, 0, 21, 28, 42, 180, 0, 19, 29, 46, 184, 0, 46, 96, 61, 132, 3, 1, 167, 255, 233]
abbrev dktX3_textLength_1 : List UInt8 := dkwX3_textLength_1 ++ dktX3_textLength_2
def dkwX3_textLength_0 : List UInt8 := [42, 180, 0, 50, 154, 0, 7, 3, 167, 0, 9, 42, 180, 0, 50, 4, 100, 61, 3, 62, 29, 42]
abbrev dktX3_textLength_0 : List UInt8 := dkwX3_textLength_0 ++ dktX3_textLength_1
theorem dksX3_textLength_0 : cX3_textLength.data.toList.drop 0 = dktX3_textLength_0 := by decide +kernel
theorem dksX3_textLength_1 : cX3_textLength.data.toList.drop 22 = dktX3_textLength_1 := dk_seg dksX3_textLength_0 22 rfl rfl
theorem dksX3_textLength_2 : cX3_textLength.data.toList.drop 46 = dktX3_textLength_2 := dk_seg dksX3_textLength_1 24 rfl rfl
theorem dX3_textLength_0 : decode cX3_textLength 0 = .ok (.aload_n 0, 1) := dk_42 (dk_at dksX3_textLength_0 0 rfl rfl)
theorem dX3_textLength_1 : decode cX3_textLength 1 = .ok (.getfield 50, 3) := dk_180 0 50 (dk_at dksX3_textLength_0 1 rfl rfl)
theorem dX3_textLength_4 : decode cX3_textLength 4 = .ok (.ifCond .ne 7, 3) := dk_154 0 7 (dk_at dksX3_textLength_0 4 rfl rfl)
theorem dX3_textLength_7 : decode cX3_textLength 7 = .ok (.iconst 0, 1) := dk_3 (dk_at dksX3_textLength_0 7 rfl rfl)
theorem dX3_textLength_8 : decode cX3_textLength 8 = .ok (.goto 9, 3) := dk_167 0 9 (dk_at dksX3_textLength_0 8 rfl rfl)
theorem dX3_textLength_11 : decode cX3_textLength 11 = .ok (.aload_n 0, 1) := dk_42 (dk_at dksX3_textLength_0 11 rfl rfl)
theorem dX3_textLength_12 : decode cX3_textLength 12 = .ok (.getfield 50, 3) := dk_180 0 50 (dk_at dksX3_textLength_0 12 rfl rfl)
theorem dX3_textLength_15 : decode cX3_textLength 15 = .ok (.iconst 1, 1) := dk_4 (dk_at dksX3_textLength_0 15 rfl rfl)
theorem dX3_textLength_16 : decode cX3_textLength 16 = .ok (.isub, 1) := dk_100 (dk_at dksX3_textLength_0 16 rfl rfl)
theorem dX3_textLength_17 : decode cX3_textLength 17 = .ok (.istore_n 2, 1) := dk_61 (dk_at dksX3_textLength_0 17 rfl rfl)
theorem dX3_textLength_18 : decode cX3_textLength 18 = .ok (.iconst 0, 1) := dk_3 (dk_at dksX3_textLength_0 18 rfl rfl)
theorem dX3_textLength_19 : decode cX3_textLength 19 = .ok (.istore_n 3, 1) := dk_62 (dk_at dksX3_textLength_0 19 rfl rfl)
theorem dX3_textLength_20 : decode cX3_textLength 20 = .ok (.iload_n 3, 1) := dk_29 (dk_at dksX3_textLength_0 20 rfl rfl)
theorem dX3_textLength_21 : decode cX3_textLength 21 = .ok (.aload_n 0, 1) := dk_42 (dk_at dksX3_textLength_0 21 rfl rfl)
theorem dX3_textLength_22 : decode cX3_textLength 22 = .ok (.getfield 50, 3) := dk_180 0 50 (dk_at dksX3_textLength_1 0 rfl rfl)
theorem dX3_textLength_25 : decode cX3_textLength 25 = .ok (.if_icmp .ge 21, 3) := dk_162 0 21 (dk_at dksX3_textLength_1 3 rfl rfl)
theorem dX3_textLength_28 : decode cX3_textLength 28 = .ok (.iload_n 2, 1) := dk_28 (dk_at dksX3_textLength_1 6 rfl rfl)
theorem dX3_textLength_29 : decode cX3_textLength 29 = .ok (.aload_n 0, 1) := dk_42 (dk_at dksX3_textLength_1 7 rfl rfl)
theorem dX3_textLength_30 : decode cX3_textLength 30 = .ok (.getfield 19, 3) := dk_180 0 19 (dk_at dksX3_textLength_1 8 rfl rfl)
theorem dX3_textLength_33 : decode cX3_textLength 33 = .ok (.iload_n 3, 1) := dk_29 (dk_at dksX3_textLength_1 11 rfl rfl)
theorem dX3_textLength_34 : decode cX3_textLength 34 = .ok (.iaload, 1) := dk_46 (dk_at dksX3_textLength_1 12 rfl rfl)
theorem dX3_textLength_35 : decode cX3_textLength 35 = .ok (.invokestatic 46, 3) := dk_184 0 46 (dk_at dksX3_textLength_1 13 rfl rfl)
theorem dX3_textLength_38 : decode cX3_textLength 38 = .ok (.iadd, 1) := dk_96 (dk_at dksX3_textLength_1 16 rfl rfl)
theorem dX3_textLength_39 : decode cX3_textLength 39 = .ok (.istore_n 2, 1) := dk_61 (dk_at dksX3_textLength_1 17 rfl rfl)
theorem dX3_textLength_40 : decode cX3_textLength 40 = .ok (.iinc 3 1, 3) := dk_132 3 1 (dk_at dksX3_textLength_1 18 rfl rfl)
theorem dX3_textLength_43 : decode cX3_textLength 43 = .ok (.goto (-23), 3) := dk_167 255 233 (dk_at dksX3_textLength_1 21 rfl rfl)
theorem dX3_textLength_46 : decode cX3_textLength 46 = .ok (.iload_n 1, 1) := dk_27 (dk_at dksX3_textLength_2 0 rfl rfl)
theorem dX3_textLength_47 : decode cX3_textLength 47 = .ok (.iload_n 2, 1) := dk_28 (dk_at dksX3_textLength_2 1 rfl rfl)
theorem dX3_textLength_48 : decode cX3_textLength 48 = .ok (.imul, 1) := dk_104 (dk_at dksX3_textLength_2 2 rfl rfl)
theorem dX3_textLength_49 : decode cX3_textLength 49 = .ok (.ireturn, 1) := dk_172 (dk_at dksX3_textLength_2 3 rfl rfl)
abbrev cX3_plateFound : ByteArray := prog_10_method_57_code
def yX3_plateFound : MethodName := ⟨RX3, "plateFound", "(III)I"⟩
def dkwX3_plateFound_4 : List UInt8 := [153, 0, 7, 4, 167, 0, 4, 3, 172]
abbrev dktX3_plateFound_4 : List UInt8 := dkwX3_plateFound_4 ++ []
def dkwX3_plateFound_3 : List UInt8 := [180, 0, 74, 167, 0, 27, 29, 4, 160, 0, 10, 42, 180, 0, 89, 167, 0, 15, 42, 180, 0, 77]
abbrev dktX3_plateFound_3 : List UInt8 := dkwX3_plateFound_3 ++ dktX3_plateFound_4
def dkwX3_plateFound_2 : List UInt8 := [180, 0, 7, 42, 27, 182, 0, 166, 28, 182, 0, 150, 154, 0, 6, 16, 247, 172, 29, 154, 0, 10, 42]
abbrev dktX3_plateFound_2 : List UInt8 := dkwX3_plateFound_2 ++ dktX3_plateFound_3
def dkwX3_plateFound_1 : List UInt8 := [3, 5, 184, 0, 38, 154, 0, 5, 2, 172, 42, 180, 0, 50, 154, 0, 6, 16, 254, 172, 42, 42]
abbrev dktX3_plateFound_1 : List UInt8 := dkwX3_plateFound_1 ++ dktX3_plateFound_2
def dkwX3_plateFound_0 : List UInt8 := [42, 3, 181, 0, 31, 27, 4, 7, 184, 0, 38, 153, 0, 21, 28, 4, 8, 184, 0, 38, 153, 0, 12, 29]
abbrev dktX3_plateFound_0 : List UInt8 := dkwX3_plateFound_0 ++ dktX3_plateFound_1
theorem dksX3_plateFound_0 : cX3_plateFound.data.toList.drop 0 = dktX3_plateFound_0 := by decide +kernel
theorem dksX3_plateFound_1 : cX3_plateFound.data.toList.drop 24 = dktX3_plateFound_1 := dk_seg dksX3_plateFound_0 24 rfl rfl
theorem dksX3_plateFound_2 : cX3_plateFound.data.toList.drop 46 = dktX3_plateFound_2 := dk_seg dksX3_plateFound_1 22 rfl rfl
theorem dksX3_plateFound_3 : cX3_plateFound.data.toList.drop 69 = dktX3_plateFound_3 := dk_seg dksX3_plateFound_2 23 rfl rfl
theorem dksX3_plateFound_4 : cX3_plateFound.data.toList.drop 91 = dktX3_plateFound_4 := dk_seg dksX3_plateFound_3 22 rfl rfl
theorem dX3_plateFound_0 : decode cX3_plateFound 0 = .ok (.aload_n 0, 1) := dk_42 (dk_at dksX3_plateFound_0 0 rfl rfl)
theorem dX3_plateFound_1 : decode cX3_plateFound 1 = .ok (.iconst 0, 1) := dk_3 (dk_at dksX3_plateFound_0 1 rfl rfl)
theorem dX3_plateFound_2 : decode cX3_plateFound 2 = .ok (.putfield 31, 3) := dk_181 0 31 (dk_at dksX3_plateFound_0 2 rfl rfl)
theorem dX3_plateFound_5 : decode cX3_plateFound 5 = .ok (.iload_n 1, 1) := dk_27 (dk_at dksX3_plateFound_0 5 rfl rfl)
theorem dX3_plateFound_6 : decode cX3_plateFound 6 = .ok (.iconst 1, 1) := dk_4 (dk_at dksX3_plateFound_0 6 rfl rfl)
theorem dX3_plateFound_7 : decode cX3_plateFound 7 = .ok (.iconst 4, 1) := dk_7 (dk_at dksX3_plateFound_0 7 rfl rfl)
theorem dX3_plateFound_8 : decode cX3_plateFound 8 = .ok (.invokestatic 38, 3) := dk_184 0 38 (dk_at dksX3_plateFound_0 8 rfl rfl)
theorem dX3_plateFound_11 : decode cX3_plateFound 11 = .ok (.ifCond .eq 21, 3) := dk_153 0 21 (dk_at dksX3_plateFound_0 11 rfl rfl)
theorem dX3_plateFound_14 : decode cX3_plateFound 14 = .ok (.iload_n 2, 1) := dk_28 (dk_at dksX3_plateFound_0 14 rfl rfl)
theorem dX3_plateFound_15 : decode cX3_plateFound 15 = .ok (.iconst 1, 1) := dk_4 (dk_at dksX3_plateFound_0 15 rfl rfl)
theorem dX3_plateFound_16 : decode cX3_plateFound 16 = .ok (.iconst 5, 1) := dk_8 (dk_at dksX3_plateFound_0 16 rfl rfl)
theorem dX3_plateFound_17 : decode cX3_plateFound 17 = .ok (.invokestatic 38, 3) := dk_184 0 38 (dk_at dksX3_plateFound_0 17 rfl rfl)
theorem dX3_plateFound_20 : decode cX3_plateFound 20 = .ok (.ifCond .eq 12, 3) := dk_153 0 12 (dk_at dksX3_plateFound_0 20 rfl rfl)
theorem dX3_plateFound_23 : decode cX3_plateFound 23 = .ok (.iload_n 3, 1) := dk_29 (dk_at dksX3_plateFound_0 23 rfl rfl)
theorem dX3_plateFound_24 : decode cX3_plateFound 24 = .ok (.iconst 0, 1) := dk_3 (dk_at dksX3_plateFound_1 0 rfl rfl)
theorem dX3_plateFound_25 : decode cX3_plateFound 25 = .ok (.iconst 2, 1) := dk_5 (dk_at dksX3_plateFound_1 1 rfl rfl)
theorem dX3_plateFound_26 : decode cX3_plateFound 26 = .ok (.invokestatic 38, 3) := dk_184 0 38 (dk_at dksX3_plateFound_1 2 rfl rfl)
theorem dX3_plateFound_29 : decode cX3_plateFound 29 = .ok (.ifCond .ne 5, 3) := dk_154 0 5 (dk_at dksX3_plateFound_1 5 rfl rfl)
theorem dX3_plateFound_32 : decode cX3_plateFound 32 = .ok (.iconst (-1), 1) := dk_2 (dk_at dksX3_plateFound_1 8 rfl rfl)
theorem dX3_plateFound_33 : decode cX3_plateFound 33 = .ok (.ireturn, 1) := dk_172 (dk_at dksX3_plateFound_1 9 rfl rfl)
theorem dX3_plateFound_34 : decode cX3_plateFound 34 = .ok (.aload_n 0, 1) := dk_42 (dk_at dksX3_plateFound_1 10 rfl rfl)
theorem dX3_plateFound_35 : decode cX3_plateFound 35 = .ok (.getfield 50, 3) := dk_180 0 50 (dk_at dksX3_plateFound_1 11 rfl rfl)
theorem dX3_plateFound_38 : decode cX3_plateFound 38 = .ok (.ifCond .ne 6, 3) := dk_154 0 6 (dk_at dksX3_plateFound_1 14 rfl rfl)
theorem dX3_plateFound_41 : decode cX3_plateFound 41 = .ok (.bipush (-2), 2) := dk_16 254 (dk_at dksX3_plateFound_1 17 rfl rfl)
theorem dX3_plateFound_43 : decode cX3_plateFound 43 = .ok (.ireturn, 1) := dk_172 (dk_at dksX3_plateFound_1 19 rfl rfl)
theorem dX3_plateFound_44 : decode cX3_plateFound 44 = .ok (.aload_n 0, 1) := dk_42 (dk_at dksX3_plateFound_1 20 rfl rfl)
theorem dX3_plateFound_45 : decode cX3_plateFound 45 = .ok (.aload_n 0, 1) := dk_42 (dk_at dksX3_plateFound_1 21 rfl rfl)
theorem dX3_plateFound_46 : decode cX3_plateFound 46 = .ok (.getfield 7, 3) := dk_180 0 7 (dk_at dksX3_plateFound_2 0 rfl rfl)
theorem dX3_plateFound_49 : decode cX3_plateFound 49 = .ok (.aload_n 0, 1) := dk_42 (dk_at dksX3_plateFound_2 3 rfl rfl)
theorem dX3_plateFound_50 : decode cX3_plateFound 50 = .ok (.iload_n 1, 1) := dk_27 (dk_at dksX3_plateFound_2 4 rfl rfl)
theorem dX3_plateFound_51 : decode cX3_plateFound 51 = .ok (.invokevirtual 166, 3) := dk_182 0 166 (dk_at dksX3_plateFound_2 5 rfl rfl)
theorem dX3_plateFound_54 : decode cX3_plateFound 54 = .ok (.iload_n 2, 1) := dk_28 (dk_at dksX3_plateFound_2 8 rfl rfl)
theorem dX3_plateFound_55 : decode cX3_plateFound 55 = .ok (.invokevirtual 150, 3) := dk_182 0 150 (dk_at dksX3_plateFound_2 9 rfl rfl)
theorem dX3_plateFound_58 : decode cX3_plateFound 58 = .ok (.ifCond .ne 6, 3) := dk_154 0 6 (dk_at dksX3_plateFound_2 12 rfl rfl)
theorem dX3_plateFound_61 : decode cX3_plateFound 61 = .ok (.bipush (-9), 2) := dk_16 247 (dk_at dksX3_plateFound_2 15 rfl rfl)
theorem dX3_plateFound_63 : decode cX3_plateFound 63 = .ok (.ireturn, 1) := dk_172 (dk_at dksX3_plateFound_2 17 rfl rfl)
theorem dX3_plateFound_64 : decode cX3_plateFound 64 = .ok (.iload_n 3, 1) := dk_29 (dk_at dksX3_plateFound_2 18 rfl rfl)
theorem dX3_plateFound_65 : decode cX3_plateFound 65 = .ok (.ifCond .ne 10, 3) := dk_154 0 10 (dk_at dksX3_plateFound_2 19 rfl rfl)
theorem dX3_plateFound_68 : decode cX3_plateFound 68 = .ok (.aload_n 0, 1) := dk_42 (dk_at dksX3_plateFound_2 22 rfl rfl)
theorem dX3_plateFound_69 : decode cX3_plateFound 69 = .ok (.getfield 74, 3) := dk_180 0 74 (dk_at dksX3_plateFound_3 0 rfl rfl)
theorem dX3_plateFound_72 : decode cX3_plateFound 72 = .ok (.goto 27, 3) := dk_167 0 27 (dk_at dksX3_plateFound_3 3 rfl rfl)
theorem dX3_plateFound_75 : decode cX3_plateFound 75 = .ok (.iload_n 3, 1) := dk_29 (dk_at dksX3_plateFound_3 6 rfl rfl)
theorem dX3_plateFound_76 : decode cX3_plateFound 76 = .ok (.iconst 1, 1) := dk_4 (dk_at dksX3_plateFound_3 7 rfl rfl)
theorem dX3_plateFound_77 : decode cX3_plateFound 77 = .ok (.if_icmp .ne 10, 3) := dk_160 0 10 (dk_at dksX3_plateFound_3 8 rfl rfl)
theorem dX3_plateFound_80 : decode cX3_plateFound 80 = .ok (.aload_n 0, 1) := dk_42 (dk_at dksX3_plateFound_3 11 rfl rfl)
theorem dX3_plateFound_81 : decode cX3_plateFound 81 = .ok (.getfield 89, 3) := dk_180 0 89 (dk_at dksX3_plateFound_3 12 rfl rfl)
theorem dX3_plateFound_84 : decode cX3_plateFound 84 = .ok (.goto 15, 3) := dk_167 0 15 (dk_at dksX3_plateFound_3 15 rfl rfl)
theorem dX3_plateFound_87 : decode cX3_plateFound 87 = .ok (.aload_n 0, 1) := dk_42 (dk_at dksX3_plateFound_3 18 rfl rfl)
theorem dX3_plateFound_88 : decode cX3_plateFound 88 = .ok (.getfield 77, 3) := dk_180 0 77 (dk_at dksX3_plateFound_3 19 rfl rfl)
theorem dX3_plateFound_91 : decode cX3_plateFound 91 = .ok (.ifCond .eq 7, 3) := dk_153 0 7 (dk_at dksX3_plateFound_4 0 rfl rfl)
theorem dX3_plateFound_94 : decode cX3_plateFound 94 = .ok (.iconst 1, 1) := dk_4 (dk_at dksX3_plateFound_4 3 rfl rfl)
theorem dX3_plateFound_95 : decode cX3_plateFound 95 = .ok (.goto 4, 3) := dk_167 0 4 (dk_at dksX3_plateFound_4 4 rfl rfl)
theorem dX3_plateFound_98 : decode cX3_plateFound 98 = .ok (.iconst 0, 1) := dk_3 (dk_at dksX3_plateFound_4 7 rfl rfl)
theorem dX3_plateFound_99 : decode cX3_plateFound 99 = .ok (.ireturn, 1) := dk_172 (dk_at dksX3_plateFound_4 8 rfl rfl)
abbrev cX3_doneIn : ByteArray := prog_10_method_60_code
def yX3_doneIn : MethodName := ⟨RX3, "doneIn", "(I)I"⟩
def dkwX3_doneIn_1 : List UInt8 := [182, 0, 172, 42, 180, 0, 22, 27, 46, 172]
abbrev dktX3_doneIn_1 : List UInt8 := dkwX3_doneIn_1 ++ []
def dkwX3_doneIn_0 : List UInt8 := [42, 3, 181, 0, 31, 42, 27, 182, 0, 137, 154, 0, 5, 2, 172, 42, 182, 0, 169, 42, 42, 180, 0, 22]
abbrev dktX3_doneIn_0 : List UInt8 := dkwX3_doneIn_0 ++ dktX3_doneIn_1
theorem dksX3_doneIn_0 : cX3_doneIn.data.toList.drop 0 = dktX3_doneIn_0 := by decide +kernel
theorem dksX3_doneIn_1 : cX3_doneIn.data.toList.drop 24 = dktX3_doneIn_1 := dk_seg dksX3_doneIn_0 24 rfl rfl
theorem dX3_doneIn_0 : decode cX3_doneIn 0 = .ok (.aload_n 0, 1) := dk_42 (dk_at dksX3_doneIn_0 0 rfl rfl)
theorem dX3_doneIn_1 : decode cX3_doneIn 1 = .ok (.iconst 0, 1) := dk_3 (dk_at dksX3_doneIn_0 1 rfl rfl)
theorem dX3_doneIn_2 : decode cX3_doneIn 2 = .ok (.putfield 31, 3) := dk_181 0 31 (dk_at dksX3_doneIn_0 2 rfl rfl)
theorem dX3_doneIn_5 : decode cX3_doneIn 5 = .ok (.aload_n 0, 1) := dk_42 (dk_at dksX3_doneIn_0 5 rfl rfl)
theorem dX3_doneIn_6 : decode cX3_doneIn 6 = .ok (.iload_n 1, 1) := dk_27 (dk_at dksX3_doneIn_0 6 rfl rfl)
theorem dX3_doneIn_7 : decode cX3_doneIn 7 = .ok (.invokevirtual 137, 3) := dk_182 0 137 (dk_at dksX3_doneIn_0 7 rfl rfl)
theorem dX3_doneIn_10 : decode cX3_doneIn 10 = .ok (.ifCond .ne 5, 3) := dk_154 0 5 (dk_at dksX3_doneIn_0 10 rfl rfl)
theorem dX3_doneIn_13 : decode cX3_doneIn 13 = .ok (.iconst (-1), 1) := dk_2 (dk_at dksX3_doneIn_0 13 rfl rfl)
theorem dX3_doneIn_14 : decode cX3_doneIn 14 = .ok (.ireturn, 1) := dk_172 (dk_at dksX3_doneIn_0 14 rfl rfl)
theorem dX3_doneIn_15 : decode cX3_doneIn 15 = .ok (.aload_n 0, 1) := dk_42 (dk_at dksX3_doneIn_0 15 rfl rfl)
theorem dX3_doneIn_16 : decode cX3_doneIn 16 = .ok (.invokevirtual 169, 3) := dk_182 0 169 (dk_at dksX3_doneIn_0 16 rfl rfl)
theorem dX3_doneIn_19 : decode cX3_doneIn 19 = .ok (.aload_n 0, 1) := dk_42 (dk_at dksX3_doneIn_0 19 rfl rfl)
theorem dX3_doneIn_20 : decode cX3_doneIn 20 = .ok (.aload_n 0, 1) := dk_42 (dk_at dksX3_doneIn_0 20 rfl rfl)
theorem dX3_doneIn_21 : decode cX3_doneIn 21 = .ok (.getfield 22, 3) := dk_180 0 22 (dk_at dksX3_doneIn_0 21 rfl rfl)
theorem dX3_doneIn_24 : decode cX3_doneIn 24 = .ok (.invokevirtual 172, 3) := dk_182 0 172 (dk_at dksX3_doneIn_1 0 rfl rfl)
theorem dX3_doneIn_27 : decode cX3_doneIn 27 = .ok (.aload_n 0, 1) := dk_42 (dk_at dksX3_doneIn_1 3 rfl rfl)
theorem dX3_doneIn_28 : decode cX3_doneIn 28 = .ok (.getfield 22, 3) := dk_180 0 22 (dk_at dksX3_doneIn_1 4 rfl rfl)
theorem dX3_doneIn_31 : decode cX3_doneIn 31 = .ok (.iload_n 1, 1) := dk_27 (dk_at dksX3_doneIn_1 7 rfl rfl)
theorem dX3_doneIn_32 : decode cX3_doneIn 32 = .ok (.iaload, 1) := dk_46 (dk_at dksX3_doneIn_1 8 rfl rfl)
theorem dX3_doneIn_33 : decode cX3_doneIn 33 = .ok (.ireturn, 1) := dk_172 (dk_at dksX3_doneIn_1 9 rfl rfl)
abbrev cX3_tryNow : ByteArray := prog_10_method_58_code
def yX3_tryNow : MethodName := ⟨RX3, "tryNow", "()V"⟩
def dkwX3_tryNow_2 : List UInt8 := [27, 104, 96, 16, 18, 96, 27, 79, 132, 1, 1, 167, 255, 226, 177]
abbrev dktX3_tryNow_2 : List UInt8 := dkwX3_tryNow_2 ++ []
def dkwX3_tryNow_1 : List UInt8 := [167, 255, 234, 3, 60, 27, 42, 180, 0, 13, 5, 46, 162, 0, 26, 42, 180, 0, 13, 17, 0, 153, 16, 19]
abbrev dktX3_tryNow_1 : List UInt8 := dkwX3_tryNow_1 ++ dktX3_tryNow_2
def dkwX3_tryNow_0 : List UInt8 := [3, 60, 27, 17, 1, 87, 162, 0, 21, 42, 180, 0, 13, 27, 42, 180, 0, 7, 27, 46, 79, 132, 1, 1]
abbrev dktX3_tryNow_0 : List UInt8 := dkwX3_tryNow_0 ++ dktX3_tryNow_1
theorem dksX3_tryNow_0 : cX3_tryNow.data.toList.drop 0 = dktX3_tryNow_0 := by decide +kernel
theorem dksX3_tryNow_1 : cX3_tryNow.data.toList.drop 24 = dktX3_tryNow_1 := dk_seg dksX3_tryNow_0 24 rfl rfl
theorem dksX3_tryNow_2 : cX3_tryNow.data.toList.drop 48 = dktX3_tryNow_2 := dk_seg dksX3_tryNow_1 24 rfl rfl
theorem dX3_tryNow_0 : decode cX3_tryNow 0 = .ok (.iconst 0, 1) := dk_3 (dk_at dksX3_tryNow_0 0 rfl rfl)
theorem dX3_tryNow_1 : decode cX3_tryNow 1 = .ok (.istore_n 1, 1) := dk_60 (dk_at dksX3_tryNow_0 1 rfl rfl)
theorem dX3_tryNow_2 : decode cX3_tryNow 2 = .ok (.iload_n 1, 1) := dk_27 (dk_at dksX3_tryNow_0 2 rfl rfl)
theorem dX3_tryNow_3 : decode cX3_tryNow 3 = .ok (.sipush 343, 3) := dk_17 1 87 (dk_at dksX3_tryNow_0 3 rfl rfl)
theorem dX3_tryNow_6 : decode cX3_tryNow 6 = .ok (.if_icmp .ge 21, 3) := dk_162 0 21 (dk_at dksX3_tryNow_0 6 rfl rfl)
theorem dX3_tryNow_9 : decode cX3_tryNow 9 = .ok (.aload_n 0, 1) := dk_42 (dk_at dksX3_tryNow_0 9 rfl rfl)
theorem dX3_tryNow_10 : decode cX3_tryNow 10 = .ok (.getfield 13, 3) := dk_180 0 13 (dk_at dksX3_tryNow_0 10 rfl rfl)
theorem dX3_tryNow_13 : decode cX3_tryNow 13 = .ok (.iload_n 1, 1) := dk_27 (dk_at dksX3_tryNow_0 13 rfl rfl)
theorem dX3_tryNow_14 : decode cX3_tryNow 14 = .ok (.aload_n 0, 1) := dk_42 (dk_at dksX3_tryNow_0 14 rfl rfl)
theorem dX3_tryNow_15 : decode cX3_tryNow 15 = .ok (.getfield 7, 3) := dk_180 0 7 (dk_at dksX3_tryNow_0 15 rfl rfl)
theorem dX3_tryNow_18 : decode cX3_tryNow 18 = .ok (.iload_n 1, 1) := dk_27 (dk_at dksX3_tryNow_0 18 rfl rfl)
theorem dX3_tryNow_19 : decode cX3_tryNow 19 = .ok (.iaload, 1) := dk_46 (dk_at dksX3_tryNow_0 19 rfl rfl)
theorem dX3_tryNow_20 : decode cX3_tryNow 20 = .ok (.iastore, 1) := dk_79 (dk_at dksX3_tryNow_0 20 rfl rfl)
theorem dX3_tryNow_21 : decode cX3_tryNow 21 = .ok (.iinc 1 1, 3) := dk_132 1 1 (dk_at dksX3_tryNow_0 21 rfl rfl)
theorem dX3_tryNow_24 : decode cX3_tryNow 24 = .ok (.goto (-22), 3) := dk_167 255 234 (dk_at dksX3_tryNow_1 0 rfl rfl)
theorem dX3_tryNow_27 : decode cX3_tryNow 27 = .ok (.iconst 0, 1) := dk_3 (dk_at dksX3_tryNow_1 3 rfl rfl)
theorem dX3_tryNow_28 : decode cX3_tryNow 28 = .ok (.istore_n 1, 1) := dk_60 (dk_at dksX3_tryNow_1 4 rfl rfl)
theorem dX3_tryNow_29 : decode cX3_tryNow 29 = .ok (.iload_n 1, 1) := dk_27 (dk_at dksX3_tryNow_1 5 rfl rfl)
theorem dX3_tryNow_30 : decode cX3_tryNow 30 = .ok (.aload_n 0, 1) := dk_42 (dk_at dksX3_tryNow_1 6 rfl rfl)
theorem dX3_tryNow_31 : decode cX3_tryNow 31 = .ok (.getfield 13, 3) := dk_180 0 13 (dk_at dksX3_tryNow_1 7 rfl rfl)
theorem dX3_tryNow_34 : decode cX3_tryNow 34 = .ok (.iconst 2, 1) := dk_5 (dk_at dksX3_tryNow_1 10 rfl rfl)
theorem dX3_tryNow_35 : decode cX3_tryNow 35 = .ok (.iaload, 1) := dk_46 (dk_at dksX3_tryNow_1 11 rfl rfl)
theorem dX3_tryNow_36 : decode cX3_tryNow 36 = .ok (.if_icmp .ge 26, 3) := dk_162 0 26 (dk_at dksX3_tryNow_1 12 rfl rfl)
theorem dX3_tryNow_39 : decode cX3_tryNow 39 = .ok (.aload_n 0, 1) := dk_42 (dk_at dksX3_tryNow_1 15 rfl rfl)
theorem dX3_tryNow_40 : decode cX3_tryNow 40 = .ok (.getfield 13, 3) := dk_180 0 13 (dk_at dksX3_tryNow_1 16 rfl rfl)
theorem dX3_tryNow_43 : decode cX3_tryNow 43 = .ok (.sipush 153, 3) := dk_17 0 153 (dk_at dksX3_tryNow_1 19 rfl rfl)
theorem dX3_tryNow_46 : decode cX3_tryNow 46 = .ok (.bipush 19, 2) := dk_16 19 (dk_at dksX3_tryNow_1 22 rfl rfl)
theorem dX3_tryNow_48 : decode cX3_tryNow 48 = .ok (.iload_n 1, 1) := dk_27 (dk_at dksX3_tryNow_2 0 rfl rfl)
theorem dX3_tryNow_49 : decode cX3_tryNow 49 = .ok (.imul, 1) := dk_104 (dk_at dksX3_tryNow_2 1 rfl rfl)
theorem dX3_tryNow_50 : decode cX3_tryNow 50 = .ok (.iadd, 1) := dk_96 (dk_at dksX3_tryNow_2 2 rfl rfl)
theorem dX3_tryNow_51 : decode cX3_tryNow 51 = .ok (.bipush 18, 2) := dk_16 18 (dk_at dksX3_tryNow_2 3 rfl rfl)
theorem dX3_tryNow_53 : decode cX3_tryNow 53 = .ok (.iadd, 1) := dk_96 (dk_at dksX3_tryNow_2 5 rfl rfl)
theorem dX3_tryNow_54 : decode cX3_tryNow 54 = .ok (.iload_n 1, 1) := dk_27 (dk_at dksX3_tryNow_2 6 rfl rfl)
theorem dX3_tryNow_55 : decode cX3_tryNow 55 = .ok (.iastore, 1) := dk_79 (dk_at dksX3_tryNow_2 7 rfl rfl)
theorem dX3_tryNow_56 : decode cX3_tryNow 56 = .ok (.iinc 1 1, 3) := dk_132 1 1 (dk_at dksX3_tryNow_2 8 rfl rfl)
theorem dX3_tryNow_59 : decode cX3_tryNow 59 = .ok (.goto (-30), 3) := dk_167 255 226 (dk_at dksX3_tryNow_2 11 rfl rfl)
theorem dX3_tryNow_62 : decode cX3_tryNow 62 = .ok (.return_, 1) := dk_177 (dk_at dksX3_tryNow_2 14 rfl rfl)
abbrev cX3_workOn : ByteArray := prog_10_method_59_code
def yX3_workOn : MethodName := ⟨RX3, "workOn", "([I)V"⟩
def dkwX3_workOn_2 : List UInt8 := [180, 0, 13, 6, 46, 16, 18, 184, 0, 42, 28, 79, 42, 42, 180, 0, 13, 182, 0, 163, 167, 255, 210, 177]
abbrev dktX3_workOn_2 : List UInt8 := dkwX3_workOn_2 ++ []
def dkwX3_workOn_1 : List UInt8 := [180, 0, 13, 182, 0, 159, 153, 0, 41, 28, 42, 180, 0, 13, 7, 46, 96, 61, 43, 42, 180, 0, 13, 42]
abbrev dktX3_workOn_1 : List UInt8 := dkwX3_workOn_1 ++ dktX3_workOn_2
def dkwX3_workOn_0 : List UInt8 := [3, 61, 28, 16, 10, 162, 0, 14, 43, 28, 16, 247, 79, 132, 2, 1, 167, 255, 242, 3, 61, 42, 42]
abbrev dktX3_workOn_0 : List UInt8 := dkwX3_workOn_0 ++ dktX3_workOn_1
theorem dksX3_workOn_0 : cX3_workOn.data.toList.drop 0 = dktX3_workOn_0 := by decide +kernel
theorem dksX3_workOn_1 : cX3_workOn.data.toList.drop 23 = dktX3_workOn_1 := dk_seg dksX3_workOn_0 23 rfl rfl
theorem dksX3_workOn_2 : cX3_workOn.data.toList.drop 47 = dktX3_workOn_2 := dk_seg dksX3_workOn_1 24 rfl rfl
theorem dX3_workOn_0 : decode cX3_workOn 0 = .ok (.iconst 0, 1) := dk_3 (dk_at dksX3_workOn_0 0 rfl rfl)
theorem dX3_workOn_1 : decode cX3_workOn 1 = .ok (.istore_n 2, 1) := dk_61 (dk_at dksX3_workOn_0 1 rfl rfl)
theorem dX3_workOn_2 : decode cX3_workOn 2 = .ok (.iload_n 2, 1) := dk_28 (dk_at dksX3_workOn_0 2 rfl rfl)
theorem dX3_workOn_3 : decode cX3_workOn 3 = .ok (.bipush 10, 2) := dk_16 10 (dk_at dksX3_workOn_0 3 rfl rfl)
theorem dX3_workOn_5 : decode cX3_workOn 5 = .ok (.if_icmp .ge 14, 3) := dk_162 0 14 (dk_at dksX3_workOn_0 5 rfl rfl)
theorem dX3_workOn_8 : decode cX3_workOn 8 = .ok (.aload_n 1, 1) := dk_43 (dk_at dksX3_workOn_0 8 rfl rfl)
theorem dX3_workOn_9 : decode cX3_workOn 9 = .ok (.iload_n 2, 1) := dk_28 (dk_at dksX3_workOn_0 9 rfl rfl)
theorem dX3_workOn_10 : decode cX3_workOn 10 = .ok (.bipush (-9), 2) := dk_16 247 (dk_at dksX3_workOn_0 10 rfl rfl)
theorem dX3_workOn_12 : decode cX3_workOn 12 = .ok (.iastore, 1) := dk_79 (dk_at dksX3_workOn_0 12 rfl rfl)
theorem dX3_workOn_13 : decode cX3_workOn 13 = .ok (.iinc 2 1, 3) := dk_132 2 1 (dk_at dksX3_workOn_0 13 rfl rfl)
theorem dX3_workOn_16 : decode cX3_workOn 16 = .ok (.goto (-14), 3) := dk_167 255 242 (dk_at dksX3_workOn_0 16 rfl rfl)
theorem dX3_workOn_19 : decode cX3_workOn 19 = .ok (.iconst 0, 1) := dk_3 (dk_at dksX3_workOn_0 19 rfl rfl)
theorem dX3_workOn_20 : decode cX3_workOn 20 = .ok (.istore_n 2, 1) := dk_61 (dk_at dksX3_workOn_0 20 rfl rfl)
theorem dX3_workOn_21 : decode cX3_workOn 21 = .ok (.aload_n 0, 1) := dk_42 (dk_at dksX3_workOn_0 21 rfl rfl)
theorem dX3_workOn_22 : decode cX3_workOn 22 = .ok (.aload_n 0, 1) := dk_42 (dk_at dksX3_workOn_0 22 rfl rfl)
theorem dX3_workOn_23 : decode cX3_workOn 23 = .ok (.getfield 13, 3) := dk_180 0 13 (dk_at dksX3_workOn_1 0 rfl rfl)
theorem dX3_workOn_26 : decode cX3_workOn 26 = .ok (.invokevirtual 159, 3) := dk_182 0 159 (dk_at dksX3_workOn_1 3 rfl rfl)
theorem dX3_workOn_29 : decode cX3_workOn 29 = .ok (.ifCond .eq 41, 3) := dk_153 0 41 (dk_at dksX3_workOn_1 6 rfl rfl)
theorem dX3_workOn_32 : decode cX3_workOn 32 = .ok (.iload_n 2, 1) := dk_28 (dk_at dksX3_workOn_1 9 rfl rfl)
theorem dX3_workOn_33 : decode cX3_workOn 33 = .ok (.aload_n 0, 1) := dk_42 (dk_at dksX3_workOn_1 10 rfl rfl)
theorem dX3_workOn_34 : decode cX3_workOn 34 = .ok (.getfield 13, 3) := dk_180 0 13 (dk_at dksX3_workOn_1 11 rfl rfl)
theorem dX3_workOn_37 : decode cX3_workOn 37 = .ok (.iconst 4, 1) := dk_7 (dk_at dksX3_workOn_1 14 rfl rfl)
theorem dX3_workOn_38 : decode cX3_workOn 38 = .ok (.iaload, 1) := dk_46 (dk_at dksX3_workOn_1 15 rfl rfl)
theorem dX3_workOn_39 : decode cX3_workOn 39 = .ok (.iadd, 1) := dk_96 (dk_at dksX3_workOn_1 16 rfl rfl)
theorem dX3_workOn_40 : decode cX3_workOn 40 = .ok (.istore_n 2, 1) := dk_61 (dk_at dksX3_workOn_1 17 rfl rfl)
theorem dX3_workOn_41 : decode cX3_workOn 41 = .ok (.aload_n 1, 1) := dk_43 (dk_at dksX3_workOn_1 18 rfl rfl)
theorem dX3_workOn_42 : decode cX3_workOn 42 = .ok (.aload_n 0, 1) := dk_42 (dk_at dksX3_workOn_1 19 rfl rfl)
theorem dX3_workOn_43 : decode cX3_workOn 43 = .ok (.getfield 13, 3) := dk_180 0 13 (dk_at dksX3_workOn_1 20 rfl rfl)
theorem dX3_workOn_46 : decode cX3_workOn 46 = .ok (.aload_n 0, 1) := dk_42 (dk_at dksX3_workOn_1 23 rfl rfl)
theorem dX3_workOn_47 : decode cX3_workOn 47 = .ok (.getfield 13, 3) := dk_180 0 13 (dk_at dksX3_workOn_2 0 rfl rfl)
theorem dX3_workOn_50 : decode cX3_workOn 50 = .ok (.iconst 3, 1) := dk_6 (dk_at dksX3_workOn_2 3 rfl rfl)
theorem dX3_workOn_51 : decode cX3_workOn 51 = .ok (.iaload, 1) := dk_46 (dk_at dksX3_workOn_2 4 rfl rfl)
theorem dX3_workOn_52 : decode cX3_workOn 52 = .ok (.bipush 18, 2) := dk_16 18 (dk_at dksX3_workOn_2 5 rfl rfl)
theorem dX3_workOn_54 : decode cX3_workOn 54 = .ok (.invokestatic 42, 3) := dk_184 0 42 (dk_at dksX3_workOn_2 7 rfl rfl)
theorem dX3_workOn_57 : decode cX3_workOn 57 = .ok (.iload_n 2, 1) := dk_28 (dk_at dksX3_workOn_2 10 rfl rfl)
theorem dX3_workOn_58 : decode cX3_workOn 58 = .ok (.iastore, 1) := dk_79 (dk_at dksX3_workOn_2 11 rfl rfl)
theorem dX3_workOn_59 : decode cX3_workOn 59 = .ok (.aload_n 0, 1) := dk_42 (dk_at dksX3_workOn_2 12 rfl rfl)
theorem dX3_workOn_60 : decode cX3_workOn 60 = .ok (.aload_n 0, 1) := dk_42 (dk_at dksX3_workOn_2 13 rfl rfl)
theorem dX3_workOn_61 : decode cX3_workOn 61 = .ok (.getfield 13, 3) := dk_180 0 13 (dk_at dksX3_workOn_2 14 rfl rfl)
theorem dX3_workOn_64 : decode cX3_workOn 64 = .ok (.invokevirtual 163, 3) := dk_182 0 163 (dk_at dksX3_workOn_2 17 rfl rfl)
theorem dX3_workOn_67 : decode cX3_workOn 67 = .ok (.goto (-46), 3) := dk_167 255 210 (dk_at dksX3_workOn_2 20 rfl rfl)
theorem dX3_workOn_70 : decode cX3_workOn 70 = .ok (.return_, 1) := dk_177 (dk_at dksX3_workOn_2 23 rfl rfl)
abbrev cX3_moved : ByteArray := prog_10_method_61_code
def yX3_moved : MethodName := ⟨RX3, "moved", "(I)I"⟩
def dkwX3_moved_7 : List UInt8 := [153, 0, 10, 18, 175, 29, 96, 167, 0, 5, 16, 247, 172]
abbrev dktX3_moved_7 : List UInt8 := dkwX3_moved_7 ++ []
def dkwX3_moved_6 : List UInt8 := [180, 0, 25, 21, 5, 46, 42, 180, 0, 22, 21, 5, 46, 100, 96, 62, 132, 5, 1, 167, 255, 178, 21, 4]
abbrev dktX3_moved_6 : List UInt8 := dkwX3_moved_6 ++ dktX3_moved_7
def dkwX3_moved_5 : List UInt8 := [159, 0, 7, 4, 167, 0, 4, 3, 54, 4, 29, 21, 5, 27, 160, 0, 7, 3, 167, 0, 18, 42]
abbrev dktX3_moved_5 : List UInt8 := dkwX3_moved_5 ++ dktX3_moved_6
def dkwX3_moved_4 : List UInt8 := [153, 0, 31, 42, 180, 0, 22, 21, 5, 46, 16, 247, 159, 0, 19, 42, 180, 0, 25, 21, 5, 46, 16, 247]
abbrev dktX3_moved_4 : List UInt8 := dkwX3_moved_4 ++ dktX3_moved_5
def dkwX3_moved_3 : List UInt8 := [167, 0, 4, 3, 54, 4, 3, 54, 5, 21, 5, 42, 180, 0, 7, 5, 46, 162, 0, 73, 21, 4]
abbrev dktX3_moved_3 : List UInt8 := dkwX3_moved_3 ++ dktX3_moved_4
def dkwX3_moved_2 : List UInt8 := [42, 180, 0, 13, 27, 182, 0, 140, 61, 42, 42, 180, 0, 25, 182, 0, 172, 3, 62, 28, 155, 0, 7, 4]
abbrev dktX3_moved_2 : List UInt8 := dkwX3_moved_2 ++ dktX3_moved_3
def dkwX3_moved_1 : List UInt8 := [4, 160, 0, 6, 16, 254, 172, 42, 182, 0, 169, 42, 42, 180, 0, 22, 182, 0, 172, 42, 182, 0, 169, 42]
abbrev dktX3_moved_1 : List UInt8 := dkwX3_moved_1 ++ dktX3_moved_2
def dkwX3_moved_0 : List UInt8 := [42, 3, 181, 0, 31, 42, 27, 182, 0, 137, 154, 0, 5, 2, 172, 42, 180, 0, 7, 27, 7, 184, 0, 42]
abbrev dktX3_moved_0 : List UInt8 := dkwX3_moved_0 ++ dktX3_moved_1
theorem dksX3_moved_0 : cX3_moved.data.toList.drop 0 = dktX3_moved_0 := by decide +kernel
theorem dksX3_moved_1 : cX3_moved.data.toList.drop 24 = dktX3_moved_1 := dk_seg dksX3_moved_0 24 rfl rfl
theorem dksX3_moved_2 : cX3_moved.data.toList.drop 48 = dktX3_moved_2 := dk_seg dksX3_moved_1 24 rfl rfl
theorem dksX3_moved_3 : cX3_moved.data.toList.drop 72 = dktX3_moved_3 := dk_seg dksX3_moved_2 24 rfl rfl
theorem dksX3_moved_4 : cX3_moved.data.toList.drop 94 = dktX3_moved_4 := dk_seg dksX3_moved_3 22 rfl rfl
theorem dksX3_moved_5 : cX3_moved.data.toList.drop 118 = dktX3_moved_5 := dk_seg dksX3_moved_4 24 rfl rfl
theorem dksX3_moved_6 : cX3_moved.data.toList.drop 140 = dktX3_moved_6 := dk_seg dksX3_moved_5 22 rfl rfl
theorem dksX3_moved_7 : cX3_moved.data.toList.drop 164 = dktX3_moved_7 := dk_seg dksX3_moved_6 24 rfl rfl
theorem dX3_moved_0 : decode cX3_moved 0 = .ok (.aload_n 0, 1) := dk_42 (dk_at dksX3_moved_0 0 rfl rfl)
theorem dX3_moved_1 : decode cX3_moved 1 = .ok (.iconst 0, 1) := dk_3 (dk_at dksX3_moved_0 1 rfl rfl)
theorem dX3_moved_2 : decode cX3_moved 2 = .ok (.putfield 31, 3) := dk_181 0 31 (dk_at dksX3_moved_0 2 rfl rfl)
theorem dX3_moved_5 : decode cX3_moved 5 = .ok (.aload_n 0, 1) := dk_42 (dk_at dksX3_moved_0 5 rfl rfl)
theorem dX3_moved_6 : decode cX3_moved 6 = .ok (.iload_n 1, 1) := dk_27 (dk_at dksX3_moved_0 6 rfl rfl)
theorem dX3_moved_7 : decode cX3_moved 7 = .ok (.invokevirtual 137, 3) := dk_182 0 137 (dk_at dksX3_moved_0 7 rfl rfl)
theorem dX3_moved_10 : decode cX3_moved 10 = .ok (.ifCond .ne 5, 3) := dk_154 0 5 (dk_at dksX3_moved_0 10 rfl rfl)
theorem dX3_moved_13 : decode cX3_moved 13 = .ok (.iconst (-1), 1) := dk_2 (dk_at dksX3_moved_0 13 rfl rfl)
theorem dX3_moved_14 : decode cX3_moved 14 = .ok (.ireturn, 1) := dk_172 (dk_at dksX3_moved_0 14 rfl rfl)
theorem dX3_moved_15 : decode cX3_moved 15 = .ok (.aload_n 0, 1) := dk_42 (dk_at dksX3_moved_0 15 rfl rfl)
theorem dX3_moved_16 : decode cX3_moved 16 = .ok (.getfield 7, 3) := dk_180 0 7 (dk_at dksX3_moved_0 16 rfl rfl)
theorem dX3_moved_19 : decode cX3_moved 19 = .ok (.iload_n 1, 1) := dk_27 (dk_at dksX3_moved_0 19 rfl rfl)
theorem dX3_moved_20 : decode cX3_moved 20 = .ok (.iconst 4, 1) := dk_7 (dk_at dksX3_moved_0 20 rfl rfl)
theorem dX3_moved_21 : decode cX3_moved 21 = .ok (.invokestatic 42, 3) := dk_184 0 42 (dk_at dksX3_moved_0 21 rfl rfl)
theorem dX3_moved_24 : decode cX3_moved 24 = .ok (.iconst 1, 1) := dk_4 (dk_at dksX3_moved_1 0 rfl rfl)
theorem dX3_moved_25 : decode cX3_moved 25 = .ok (.if_icmp .ne 6, 3) := dk_160 0 6 (dk_at dksX3_moved_1 1 rfl rfl)
theorem dX3_moved_28 : decode cX3_moved 28 = .ok (.bipush (-2), 2) := dk_16 254 (dk_at dksX3_moved_1 4 rfl rfl)
theorem dX3_moved_30 : decode cX3_moved 30 = .ok (.ireturn, 1) := dk_172 (dk_at dksX3_moved_1 6 rfl rfl)
theorem dX3_moved_31 : decode cX3_moved 31 = .ok (.aload_n 0, 1) := dk_42 (dk_at dksX3_moved_1 7 rfl rfl)
theorem dX3_moved_32 : decode cX3_moved 32 = .ok (.invokevirtual 169, 3) := dk_182 0 169 (dk_at dksX3_moved_1 8 rfl rfl)
theorem dX3_moved_35 : decode cX3_moved 35 = .ok (.aload_n 0, 1) := dk_42 (dk_at dksX3_moved_1 11 rfl rfl)
theorem dX3_moved_36 : decode cX3_moved 36 = .ok (.aload_n 0, 1) := dk_42 (dk_at dksX3_moved_1 12 rfl rfl)
theorem dX3_moved_37 : decode cX3_moved 37 = .ok (.getfield 22, 3) := dk_180 0 22 (dk_at dksX3_moved_1 13 rfl rfl)
theorem dX3_moved_40 : decode cX3_moved 40 = .ok (.invokevirtual 172, 3) := dk_182 0 172 (dk_at dksX3_moved_1 16 rfl rfl)
theorem dX3_moved_43 : decode cX3_moved 43 = .ok (.aload_n 0, 1) := dk_42 (dk_at dksX3_moved_1 19 rfl rfl)
theorem dX3_moved_44 : decode cX3_moved 44 = .ok (.invokevirtual 169, 3) := dk_182 0 169 (dk_at dksX3_moved_1 20 rfl rfl)
theorem dX3_moved_47 : decode cX3_moved 47 = .ok (.aload_n 0, 1) := dk_42 (dk_at dksX3_moved_1 23 rfl rfl)
theorem dX3_moved_48 : decode cX3_moved 48 = .ok (.aload_n 0, 1) := dk_42 (dk_at dksX3_moved_2 0 rfl rfl)
theorem dX3_moved_49 : decode cX3_moved 49 = .ok (.getfield 13, 3) := dk_180 0 13 (dk_at dksX3_moved_2 1 rfl rfl)
theorem dX3_moved_52 : decode cX3_moved 52 = .ok (.iload_n 1, 1) := dk_27 (dk_at dksX3_moved_2 4 rfl rfl)
theorem dX3_moved_53 : decode cX3_moved 53 = .ok (.invokevirtual 140, 3) := dk_182 0 140 (dk_at dksX3_moved_2 5 rfl rfl)
theorem dX3_moved_56 : decode cX3_moved 56 = .ok (.istore_n 2, 1) := dk_61 (dk_at dksX3_moved_2 8 rfl rfl)
theorem dX3_moved_57 : decode cX3_moved 57 = .ok (.aload_n 0, 1) := dk_42 (dk_at dksX3_moved_2 9 rfl rfl)
theorem dX3_moved_58 : decode cX3_moved 58 = .ok (.aload_n 0, 1) := dk_42 (dk_at dksX3_moved_2 10 rfl rfl)
theorem dX3_moved_59 : decode cX3_moved 59 = .ok (.getfield 25, 3) := dk_180 0 25 (dk_at dksX3_moved_2 11 rfl rfl)
theorem dX3_moved_62 : decode cX3_moved 62 = .ok (.invokevirtual 172, 3) := dk_182 0 172 (dk_at dksX3_moved_2 14 rfl rfl)
theorem dX3_moved_65 : decode cX3_moved 65 = .ok (.iconst 0, 1) := dk_3 (dk_at dksX3_moved_2 17 rfl rfl)
theorem dX3_moved_66 : decode cX3_moved 66 = .ok (.istore_n 3, 1) := dk_62 (dk_at dksX3_moved_2 18 rfl rfl)
theorem dX3_moved_67 : decode cX3_moved 67 = .ok (.iload_n 2, 1) := dk_28 (dk_at dksX3_moved_2 19 rfl rfl)
theorem dX3_moved_68 : decode cX3_moved 68 = .ok (.ifCond .lt 7, 3) := dk_155 0 7 (dk_at dksX3_moved_2 20 rfl rfl)
theorem dX3_moved_71 : decode cX3_moved 71 = .ok (.iconst 1, 1) := dk_4 (dk_at dksX3_moved_2 23 rfl rfl)
theorem dX3_moved_72 : decode cX3_moved 72 = .ok (.goto 4, 3) := dk_167 0 4 (dk_at dksX3_moved_3 0 rfl rfl)
theorem dX3_moved_75 : decode cX3_moved 75 = .ok (.iconst 0, 1) := dk_3 (dk_at dksX3_moved_3 3 rfl rfl)
theorem dX3_moved_76 : decode cX3_moved 76 = .ok (.istore 4, 2) := dk_54 4 (dk_at dksX3_moved_3 4 rfl rfl)
theorem dX3_moved_78 : decode cX3_moved 78 = .ok (.iconst 0, 1) := dk_3 (dk_at dksX3_moved_3 6 rfl rfl)
theorem dX3_moved_79 : decode cX3_moved 79 = .ok (.istore 5, 2) := dk_54 5 (dk_at dksX3_moved_3 7 rfl rfl)
theorem dX3_moved_81 : decode cX3_moved 81 = .ok (.iload 5, 2) := dk_21 5 (dk_at dksX3_moved_3 9 rfl rfl)
theorem dX3_moved_83 : decode cX3_moved 83 = .ok (.aload_n 0, 1) := dk_42 (dk_at dksX3_moved_3 11 rfl rfl)
theorem dX3_moved_84 : decode cX3_moved 84 = .ok (.getfield 7, 3) := dk_180 0 7 (dk_at dksX3_moved_3 12 rfl rfl)
theorem dX3_moved_87 : decode cX3_moved 87 = .ok (.iconst 2, 1) := dk_5 (dk_at dksX3_moved_3 15 rfl rfl)
theorem dX3_moved_88 : decode cX3_moved 88 = .ok (.iaload, 1) := dk_46 (dk_at dksX3_moved_3 16 rfl rfl)
theorem dX3_moved_89 : decode cX3_moved 89 = .ok (.if_icmp .ge 73, 3) := dk_162 0 73 (dk_at dksX3_moved_3 17 rfl rfl)
theorem dX3_moved_92 : decode cX3_moved 92 = .ok (.iload 4, 2) := dk_21 4 (dk_at dksX3_moved_3 20 rfl rfl)
theorem dX3_moved_94 : decode cX3_moved 94 = .ok (.ifCond .eq 31, 3) := dk_153 0 31 (dk_at dksX3_moved_4 0 rfl rfl)
theorem dX3_moved_97 : decode cX3_moved 97 = .ok (.aload_n 0, 1) := dk_42 (dk_at dksX3_moved_4 3 rfl rfl)
theorem dX3_moved_98 : decode cX3_moved 98 = .ok (.getfield 22, 3) := dk_180 0 22 (dk_at dksX3_moved_4 4 rfl rfl)
theorem dX3_moved_101 : decode cX3_moved 101 = .ok (.iload 5, 2) := dk_21 5 (dk_at dksX3_moved_4 7 rfl rfl)
theorem dX3_moved_103 : decode cX3_moved 103 = .ok (.iaload, 1) := dk_46 (dk_at dksX3_moved_4 9 rfl rfl)
theorem dX3_moved_104 : decode cX3_moved 104 = .ok (.bipush (-9), 2) := dk_16 247 (dk_at dksX3_moved_4 10 rfl rfl)
theorem dX3_moved_106 : decode cX3_moved 106 = .ok (.if_icmp .eq 19, 3) := dk_159 0 19 (dk_at dksX3_moved_4 12 rfl rfl)
theorem dX3_moved_109 : decode cX3_moved 109 = .ok (.aload_n 0, 1) := dk_42 (dk_at dksX3_moved_4 15 rfl rfl)
theorem dX3_moved_110 : decode cX3_moved 110 = .ok (.getfield 25, 3) := dk_180 0 25 (dk_at dksX3_moved_4 16 rfl rfl)
theorem dX3_moved_113 : decode cX3_moved 113 = .ok (.iload 5, 2) := dk_21 5 (dk_at dksX3_moved_4 19 rfl rfl)
theorem dX3_moved_115 : decode cX3_moved 115 = .ok (.iaload, 1) := dk_46 (dk_at dksX3_moved_4 21 rfl rfl)
theorem dX3_moved_116 : decode cX3_moved 116 = .ok (.bipush (-9), 2) := dk_16 247 (dk_at dksX3_moved_4 22 rfl rfl)
theorem dX3_moved_118 : decode cX3_moved 118 = .ok (.if_icmp .eq 7, 3) := dk_159 0 7 (dk_at dksX3_moved_5 0 rfl rfl)
theorem dX3_moved_121 : decode cX3_moved 121 = .ok (.iconst 1, 1) := dk_4 (dk_at dksX3_moved_5 3 rfl rfl)
theorem dX3_moved_122 : decode cX3_moved 122 = .ok (.goto 4, 3) := dk_167 0 4 (dk_at dksX3_moved_5 4 rfl rfl)
theorem dX3_moved_125 : decode cX3_moved 125 = .ok (.iconst 0, 1) := dk_3 (dk_at dksX3_moved_5 7 rfl rfl)
theorem dX3_moved_126 : decode cX3_moved 126 = .ok (.istore 4, 2) := dk_54 4 (dk_at dksX3_moved_5 8 rfl rfl)
theorem dX3_moved_128 : decode cX3_moved 128 = .ok (.iload_n 3, 1) := dk_29 (dk_at dksX3_moved_5 10 rfl rfl)
theorem dX3_moved_129 : decode cX3_moved 129 = .ok (.iload 5, 2) := dk_21 5 (dk_at dksX3_moved_5 11 rfl rfl)
theorem dX3_moved_131 : decode cX3_moved 131 = .ok (.iload_n 1, 1) := dk_27 (dk_at dksX3_moved_5 13 rfl rfl)
theorem dX3_moved_132 : decode cX3_moved 132 = .ok (.if_icmp .ne 7, 3) := dk_160 0 7 (dk_at dksX3_moved_5 14 rfl rfl)
theorem dX3_moved_135 : decode cX3_moved 135 = .ok (.iconst 0, 1) := dk_3 (dk_at dksX3_moved_5 17 rfl rfl)
theorem dX3_moved_136 : decode cX3_moved 136 = .ok (.goto 18, 3) := dk_167 0 18 (dk_at dksX3_moved_5 18 rfl rfl)
theorem dX3_moved_139 : decode cX3_moved 139 = .ok (.aload_n 0, 1) := dk_42 (dk_at dksX3_moved_5 21 rfl rfl)
theorem dX3_moved_140 : decode cX3_moved 140 = .ok (.getfield 25, 3) := dk_180 0 25 (dk_at dksX3_moved_6 0 rfl rfl)
theorem dX3_moved_143 : decode cX3_moved 143 = .ok (.iload 5, 2) := dk_21 5 (dk_at dksX3_moved_6 3 rfl rfl)
theorem dX3_moved_145 : decode cX3_moved 145 = .ok (.iaload, 1) := dk_46 (dk_at dksX3_moved_6 5 rfl rfl)
theorem dX3_moved_146 : decode cX3_moved 146 = .ok (.aload_n 0, 1) := dk_42 (dk_at dksX3_moved_6 6 rfl rfl)
theorem dX3_moved_147 : decode cX3_moved 147 = .ok (.getfield 22, 3) := dk_180 0 22 (dk_at dksX3_moved_6 7 rfl rfl)
theorem dX3_moved_150 : decode cX3_moved 150 = .ok (.iload 5, 2) := dk_21 5 (dk_at dksX3_moved_6 10 rfl rfl)
theorem dX3_moved_152 : decode cX3_moved 152 = .ok (.iaload, 1) := dk_46 (dk_at dksX3_moved_6 12 rfl rfl)
theorem dX3_moved_153 : decode cX3_moved 153 = .ok (.isub, 1) := dk_100 (dk_at dksX3_moved_6 13 rfl rfl)
theorem dX3_moved_154 : decode cX3_moved 154 = .ok (.iadd, 1) := dk_96 (dk_at dksX3_moved_6 14 rfl rfl)
theorem dX3_moved_155 : decode cX3_moved 155 = .ok (.istore_n 3, 1) := dk_62 (dk_at dksX3_moved_6 15 rfl rfl)
theorem dX3_moved_156 : decode cX3_moved 156 = .ok (.iinc 5 1, 3) := dk_132 5 1 (dk_at dksX3_moved_6 16 rfl rfl)
theorem dX3_moved_159 : decode cX3_moved 159 = .ok (.goto (-78), 3) := dk_167 255 178 (dk_at dksX3_moved_6 19 rfl rfl)
theorem dX3_moved_162 : decode cX3_moved 162 = .ok (.iload 4, 2) := dk_21 4 (dk_at dksX3_moved_6 22 rfl rfl)
theorem dX3_moved_164 : decode cX3_moved 164 = .ok (.ifCond .eq 10, 3) := dk_153 0 10 (dk_at dksX3_moved_7 0 rfl rfl)
theorem dX3_moved_167 : decode cX3_moved 167 = .ok (.ldc 175, 2) := dk_18 175 (dk_at dksX3_moved_7 3 rfl rfl)
theorem dX3_moved_169 : decode cX3_moved 169 = .ok (.iload_n 3, 1) := dk_29 (dk_at dksX3_moved_7 5 rfl rfl)
theorem dX3_moved_170 : decode cX3_moved 170 = .ok (.iadd, 1) := dk_96 (dk_at dksX3_moved_7 6 rfl rfl)
theorem dX3_moved_171 : decode cX3_moved 171 = .ok (.goto 5, 3) := dk_167 0 5 (dk_at dksX3_moved_7 7 rfl rfl)
theorem dX3_moved_174 : decode cX3_moved 174 = .ok (.bipush (-9), 2) := dk_16 247 (dk_at dksX3_moved_7 10 rfl rfl)
theorem dX3_moved_176 : decode cX3_moved 176 = .ok (.ireturn, 1) := dk_172 (dk_at dksX3_moved_7 12 rfl rfl)
abbrev cX3_largestSize : ByteArray := prog_10_method_62_code
def yX3_largestSize : MethodName := ⟨RX3, "largestSize", "(I)I"⟩
def dkwX3_largestSize_2 : List UInt8 := [132, 2, 255, 167, 255, 232, 28, 154, 0, 8, 16, 247, 167, 0, 4, 28, 172]
abbrev dktX3_largestSize_2 : List UInt8 := dkwX3_largestSize_2 ++ []
def dkwX3_largestSize_1 : List UInt8 := [172, 7, 61, 28, 158, 0, 26, 42, 28, 182, 0, 166, 42, 180, 0, 7, 27, 3, 184, 0, 53, 164, 0, 9]
abbrev dktX3_largestSize_1 : List UInt8 := dkwX3_largestSize_1 ++ dktX3_largestSize_2
def dkwX3_largestSize_0 : List UInt8 := [42, 3, 181, 0, 31, 42, 27, 182, 0, 105, 154, 0, 5, 2, 172, 42, 180, 0, 50, 154, 0, 6, 16, 254]
abbrev dktX3_largestSize_0 : List UInt8 := dkwX3_largestSize_0 ++ dktX3_largestSize_1
theorem dksX3_largestSize_0 : cX3_largestSize.data.toList.drop 0 = dktX3_largestSize_0 := by decide +kernel
theorem dksX3_largestSize_1 : cX3_largestSize.data.toList.drop 24 = dktX3_largestSize_1 := dk_seg dksX3_largestSize_0 24 rfl rfl
theorem dksX3_largestSize_2 : cX3_largestSize.data.toList.drop 48 = dktX3_largestSize_2 := dk_seg dksX3_largestSize_1 24 rfl rfl
theorem dX3_largestSize_0 : decode cX3_largestSize 0 = .ok (.aload_n 0, 1) := dk_42 (dk_at dksX3_largestSize_0 0 rfl rfl)
theorem dX3_largestSize_1 : decode cX3_largestSize 1 = .ok (.iconst 0, 1) := dk_3 (dk_at dksX3_largestSize_0 1 rfl rfl)
theorem dX3_largestSize_2 : decode cX3_largestSize 2 = .ok (.putfield 31, 3) := dk_181 0 31 (dk_at dksX3_largestSize_0 2 rfl rfl)
theorem dX3_largestSize_5 : decode cX3_largestSize 5 = .ok (.aload_n 0, 1) := dk_42 (dk_at dksX3_largestSize_0 5 rfl rfl)
theorem dX3_largestSize_6 : decode cX3_largestSize 6 = .ok (.iload_n 1, 1) := dk_27 (dk_at dksX3_largestSize_0 6 rfl rfl)
theorem dX3_largestSize_7 : decode cX3_largestSize 7 = .ok (.invokevirtual 105, 3) := dk_182 0 105 (dk_at dksX3_largestSize_0 7 rfl rfl)
theorem dX3_largestSize_10 : decode cX3_largestSize 10 = .ok (.ifCond .ne 5, 3) := dk_154 0 5 (dk_at dksX3_largestSize_0 10 rfl rfl)
theorem dX3_largestSize_13 : decode cX3_largestSize 13 = .ok (.iconst (-1), 1) := dk_2 (dk_at dksX3_largestSize_0 13 rfl rfl)
theorem dX3_largestSize_14 : decode cX3_largestSize 14 = .ok (.ireturn, 1) := dk_172 (dk_at dksX3_largestSize_0 14 rfl rfl)
theorem dX3_largestSize_15 : decode cX3_largestSize 15 = .ok (.aload_n 0, 1) := dk_42 (dk_at dksX3_largestSize_0 15 rfl rfl)
theorem dX3_largestSize_16 : decode cX3_largestSize 16 = .ok (.getfield 50, 3) := dk_180 0 50 (dk_at dksX3_largestSize_0 16 rfl rfl)
theorem dX3_largestSize_19 : decode cX3_largestSize 19 = .ok (.ifCond .ne 6, 3) := dk_154 0 6 (dk_at dksX3_largestSize_0 19 rfl rfl)
theorem dX3_largestSize_22 : decode cX3_largestSize 22 = .ok (.bipush (-2), 2) := dk_16 254 (dk_at dksX3_largestSize_0 22 rfl rfl)
theorem dX3_largestSize_24 : decode cX3_largestSize 24 = .ok (.ireturn, 1) := dk_172 (dk_at dksX3_largestSize_1 0 rfl rfl)
theorem dX3_largestSize_25 : decode cX3_largestSize 25 = .ok (.iconst 4, 1) := dk_7 (dk_at dksX3_largestSize_1 1 rfl rfl)
theorem dX3_largestSize_26 : decode cX3_largestSize 26 = .ok (.istore_n 2, 1) := dk_61 (dk_at dksX3_largestSize_1 2 rfl rfl)
theorem dX3_largestSize_27 : decode cX3_largestSize 27 = .ok (.iload_n 2, 1) := dk_28 (dk_at dksX3_largestSize_1 3 rfl rfl)
theorem dX3_largestSize_28 : decode cX3_largestSize 28 = .ok (.ifCond .le 26, 3) := dk_158 0 26 (dk_at dksX3_largestSize_1 4 rfl rfl)
theorem dX3_largestSize_31 : decode cX3_largestSize 31 = .ok (.aload_n 0, 1) := dk_42 (dk_at dksX3_largestSize_1 7 rfl rfl)
theorem dX3_largestSize_32 : decode cX3_largestSize 32 = .ok (.iload_n 2, 1) := dk_28 (dk_at dksX3_largestSize_1 8 rfl rfl)
theorem dX3_largestSize_33 : decode cX3_largestSize 33 = .ok (.invokevirtual 166, 3) := dk_182 0 166 (dk_at dksX3_largestSize_1 9 rfl rfl)
theorem dX3_largestSize_36 : decode cX3_largestSize 36 = .ok (.aload_n 0, 1) := dk_42 (dk_at dksX3_largestSize_1 12 rfl rfl)
theorem dX3_largestSize_37 : decode cX3_largestSize 37 = .ok (.getfield 7, 3) := dk_180 0 7 (dk_at dksX3_largestSize_1 13 rfl rfl)
theorem dX3_largestSize_40 : decode cX3_largestSize 40 = .ok (.iload_n 1, 1) := dk_27 (dk_at dksX3_largestSize_1 16 rfl rfl)
theorem dX3_largestSize_41 : decode cX3_largestSize 41 = .ok (.iconst 0, 1) := dk_3 (dk_at dksX3_largestSize_1 17 rfl rfl)
theorem dX3_largestSize_42 : decode cX3_largestSize 42 = .ok (.invokestatic 53, 3) := dk_184 0 53 (dk_at dksX3_largestSize_1 18 rfl rfl)
theorem dX3_largestSize_45 : decode cX3_largestSize 45 = .ok (.if_icmp .le 9, 3) := dk_164 0 9 (dk_at dksX3_largestSize_1 21 rfl rfl)
theorem dX3_largestSize_48 : decode cX3_largestSize 48 = .ok (.iinc 2 (-1), 3) := dk_132 2 255 (dk_at dksX3_largestSize_2 0 rfl rfl)
theorem dX3_largestSize_51 : decode cX3_largestSize 51 = .ok (.goto (-24), 3) := dk_167 255 232 (dk_at dksX3_largestSize_2 3 rfl rfl)
theorem dX3_largestSize_54 : decode cX3_largestSize 54 = .ok (.iload_n 2, 1) := dk_28 (dk_at dksX3_largestSize_2 6 rfl rfl)
theorem dX3_largestSize_55 : decode cX3_largestSize 55 = .ok (.ifCond .ne 8, 3) := dk_154 0 8 (dk_at dksX3_largestSize_2 7 rfl rfl)
theorem dX3_largestSize_58 : decode cX3_largestSize 58 = .ok (.bipush (-9), 2) := dk_16 247 (dk_at dksX3_largestSize_2 10 rfl rfl)
theorem dX3_largestSize_60 : decode cX3_largestSize 60 = .ok (.goto 4, 3) := dk_167 0 4 (dk_at dksX3_largestSize_2 12 rfl rfl)
theorem dX3_largestSize_63 : decode cX3_largestSize 63 = .ok (.iload_n 2, 1) := dk_28 (dk_at dksX3_largestSize_2 15 rfl rfl)
theorem dX3_largestSize_64 : decode cX3_largestSize 64 = .ok (.ireturn, 1) := dk_172 (dk_at dksX3_largestSize_2 16 rfl rfl)
theorem q44 : (Jvm.Cond.initialized "TrophyPlatesModel") ∈ lw_all := lw_g (lw_at lw_m1 14 rfl) rfl
theorem q541 : (Jvm.Cond.selects "TrophyPlatesModel" ({ cls := "java/lang/Object", name := "getClass", desc := "()Ljava/lang/Class;" } : Jvm.MethodName) ({ cls := "java/lang/Object", name := "getClass", desc := "()Ljava/lang/Class;" } : Jvm.MethodName)) ∈ lw_all := lw_g (lw_at lw_m3 31 rfl) rfl
theorem q827 : (Jvm.Cond.selects "TrophyPlatesModel" ({ cls := "java/lang/Object", name := "hashCode", desc := "()I" } : Jvm.MethodName) ({ cls := "java/lang/Object", name := "hashCode", desc := "()I" } : Jvm.MethodName)) ∈ lw_all := lw_g (lw_at lw_m4 77 rfl) rfl
theorem q1265 : (Jvm.Cond.selects "TrophyPlatesModel" ({ cls := "java/lang/Object", name := "equals", desc := "(Ljava/lang/Object;)Z" } : Jvm.MethodName) ({ cls := "java/lang/Object", name := "equals", desc := "(Ljava/lang/Object;)Z" } : Jvm.MethodName)) ∈ lw_all := lw_g (lw_at lw_m6 35 rfl) rfl
theorem q2126 : (Jvm.Cond.instantiable "TrophyPlatesModel" (13 : Nat)) ∈ lw_all := lw_g (lw_at lw_m9 176 rfl) rfl
theorem q2128 : (Jvm.Cond.instanceMethod ({ cls := "TrophyPlatesModel", name := "<init>", desc := "()V" } : Jvm.MethodName)) ∈ lw_all := lw_g (lw_at lw_m9 178 rfl) rfl
theorem q2129 : (Jvm.Cond.code ({ cls := "TrophyPlatesModel", name := "<init>", desc := "()V" } : Jvm.MethodName) prog_10_method_1_code (1 : Nat) (Option.none : Option Jvm.ClassFile.FieldType)) ∈ lw_all := lw_g (lw_at lw_m9 179 rfl) rfl
theorem q2130 : (Jvm.Cond.methodLink "TrophyPlatesModel" (1 : Nat) ({ cls := "java/lang/Object", name := "<init>", desc := "()V" } : Jvm.MethodName)) ∈ lw_all := lw_g (lw_at lw_m9 180 rfl) rfl
theorem q2131 : (Jvm.Cond.fieldLink "TrophyPlatesModel" (31 : Nat) "TrophyPlatesModel" "thrown" "I") ∈ lw_all := lw_g (lw_at lw_m9 181 rfl) rfl
theorem q2132 : (Jvm.Cond.fieldLink "TrophyPlatesModel" (7 : Nat) "TrophyPlatesModel" "s" "[I") ∈ lw_all := lw_g (lw_at lw_m9 182 rfl) rfl
theorem q2133 : (Jvm.Cond.fieldLink "TrophyPlatesModel" (13 : Nat) "TrophyPlatesModel" "w" "[I") ∈ lw_all := lw_g (lw_at lw_m9 183 rfl) rfl
theorem q2134 : (Jvm.Cond.fieldLink "TrophyPlatesModel" (16 : Nat) "TrophyPlatesModel" "saved" "[I") ∈ lw_all := lw_g (lw_at lw_m9 184 rfl) rfl
theorem q2135 : (Jvm.Cond.fieldLink "TrophyPlatesModel" (35 : Nat) "TrophyPlatesModel" "savedMany" "I") ∈ lw_all := lw_g (lw_at lw_m9 185 rfl) rfl
theorem q2136 : (Jvm.Cond.fieldLink "TrophyPlatesModel" (19 : Nat) "TrophyPlatesModel" "text" "[I") ∈ lw_all := lw_g (lw_at lw_m9 186 rfl) rfl
theorem q2137 : (Jvm.Cond.fieldLink "TrophyPlatesModel" (50 : Nat) "TrophyPlatesModel" "length" "I") ∈ lw_all := lw_g (lw_at lw_m9 187 rfl) rfl
theorem q2138 : (Jvm.Cond.fieldLink "TrophyPlatesModel" (74 : Nat) "TrophyPlatesModel" "found" "I") ∈ lw_all := lw_g (lw_at lw_m9 188 rfl) rfl
theorem q2139 : (Jvm.Cond.fieldLink "TrophyPlatesModel" (89 : Nat) "TrophyPlatesModel" "foundSide" "I") ∈ lw_all := lw_g (lw_at lw_m9 189 rfl) rfl
theorem q2140 : (Jvm.Cond.fieldLink "TrophyPlatesModel" (77 : Nat) "TrophyPlatesModel" "isToGrind" "Z") ∈ lw_all := lw_g (lw_at lw_m9 190 rfl) rfl
theorem q2141 : (Jvm.Cond.fieldLink "TrophyPlatesModel" (22 : Nat) "TrophyPlatesModel" "now" "[I") ∈ lw_all := lw_g (lw_at lw_m9 191 rfl) rfl
theorem q2142 : (Jvm.Cond.fieldLink "TrophyPlatesModel" (25 : Nat) "TrophyPlatesModel" "then" "[I") ∈ lw_all := lw_g (lw_at lw_m9 192 rfl) rfl
theorem q2143 : (Jvm.Cond.fieldLink "TrophyPlatesModel" (28 : Nat) "TrophyPlatesModel" "aside" "[I") ∈ lw_all := lw_g (lw_at lw_m9 193 rfl) rfl
theorem q2144 : (Jvm.Cond.lays "TrophyPlatesModel" "TrophyPlatesModel" "thrown" "I") ∈ lw_all := lw_g (lw_at lw_m9 194 rfl) rfl
theorem q2145 : (Jvm.Cond.soleField "TrophyPlatesModel" "thrown") ∈ lw_all := lw_g (lw_at lw_m9 195 rfl) rfl
theorem q2146 : (Jvm.Cond.laysFinal "TrophyPlatesModel" "TrophyPlatesModel" "s" "[I") ∈ lw_all := lw_g (lw_at lw_m9 196 rfl) rfl
theorem q2147 : (Jvm.Cond.soleField "TrophyPlatesModel" "s") ∈ lw_all := lw_g (lw_at lw_m9 197 rfl) rfl
theorem q2148 : (Jvm.Cond.laysFinal "TrophyPlatesModel" "TrophyPlatesModel" "w" "[I") ∈ lw_all := lw_g (lw_at lw_m9 198 rfl) rfl
theorem q2149 : (Jvm.Cond.soleField "TrophyPlatesModel" "w") ∈ lw_all := lw_g (lw_at lw_m9 199 rfl) rfl
theorem q2150 : (Jvm.Cond.laysFinal "TrophyPlatesModel" "TrophyPlatesModel" "saved" "[I") ∈ lw_all := lw_g (lw_at lw_m9 200 rfl) rfl
theorem q2151 : (Jvm.Cond.soleField "TrophyPlatesModel" "saved") ∈ lw_all := lw_g (lw_at lw_m9 201 rfl) rfl
theorem q2152 : (Jvm.Cond.lays "TrophyPlatesModel" "TrophyPlatesModel" "savedMany" "I") ∈ lw_all := lw_g (lw_at lw_m9 202 rfl) rfl
theorem q2153 : (Jvm.Cond.soleField "TrophyPlatesModel" "savedMany") ∈ lw_all := lw_g (lw_at lw_m9 203 rfl) rfl
theorem q2154 : (Jvm.Cond.laysFinal "TrophyPlatesModel" "TrophyPlatesModel" "text" "[I") ∈ lw_all := lw_g (lw_at lw_m9 204 rfl) rfl
theorem q2155 : (Jvm.Cond.soleField "TrophyPlatesModel" "text") ∈ lw_all := lw_g (lw_at lw_m9 205 rfl) rfl
theorem q2156 : (Jvm.Cond.lays "TrophyPlatesModel" "TrophyPlatesModel" "length" "I") ∈ lw_all := lw_g (lw_at lw_m9 206 rfl) rfl
theorem q2157 : (Jvm.Cond.soleField "TrophyPlatesModel" "length") ∈ lw_all := lw_g (lw_at lw_m9 207 rfl) rfl
theorem q2158 : (Jvm.Cond.lays "TrophyPlatesModel" "TrophyPlatesModel" "found" "I") ∈ lw_all := lw_g (lw_at lw_m9 208 rfl) rfl
theorem q2159 : (Jvm.Cond.soleField "TrophyPlatesModel" "found") ∈ lw_all := lw_g (lw_at lw_m9 209 rfl) rfl
theorem q2160 : (Jvm.Cond.lays "TrophyPlatesModel" "TrophyPlatesModel" "foundSide" "I") ∈ lw_all := lw_g (lw_at lw_m9 210 rfl) rfl
theorem q2161 : (Jvm.Cond.soleField "TrophyPlatesModel" "foundSide") ∈ lw_all := lw_g (lw_at lw_m9 211 rfl) rfl
theorem q2162 : (Jvm.Cond.lays "TrophyPlatesModel" "TrophyPlatesModel" "isToGrind" "Z") ∈ lw_all := lw_g (lw_at lw_m9 212 rfl) rfl
theorem q2163 : (Jvm.Cond.soleField "TrophyPlatesModel" "isToGrind") ∈ lw_all := lw_g (lw_at lw_m9 213 rfl) rfl
theorem q2164 : (Jvm.Cond.laysFinal "TrophyPlatesModel" "TrophyPlatesModel" "now" "[I") ∈ lw_all := lw_g (lw_at lw_m9 214 rfl) rfl
theorem q2165 : (Jvm.Cond.soleField "TrophyPlatesModel" "now") ∈ lw_all := lw_g (lw_at lw_m9 215 rfl) rfl
theorem q2166 : (Jvm.Cond.laysFinal "TrophyPlatesModel" "TrophyPlatesModel" "then" "[I") ∈ lw_all := lw_g (lw_at lw_m9 216 rfl) rfl
theorem q2167 : (Jvm.Cond.soleField "TrophyPlatesModel" "then") ∈ lw_all := lw_g (lw_at lw_m9 217 rfl) rfl
theorem q2168 : (Jvm.Cond.laysFinal "TrophyPlatesModel" "TrophyPlatesModel" "aside" "[I") ∈ lw_all := lw_g (lw_at lw_m9 218 rfl) rfl
theorem q2169 : (Jvm.Cond.soleField "TrophyPlatesModel" "aside") ∈ lw_all := lw_g (lw_at lw_m9 219 rfl) rfl
theorem q2170 : (Jvm.Cond.superclass "TrophyPlatesModel" "java/lang/Object") ∈ lw_all := lw_g (lw_at lw_m9 220 rfl) rfl
theorem q2172 : (Jvm.Cond.instanceMethod ({ cls := "TrophyPlatesModel", name := "cut", desc := "(II)I" } : Jvm.MethodName)) ∈ lw_all := lw_g (lw_at lw_m9 222 rfl) rfl
theorem q2173 : (Jvm.Cond.selects "TrophyPlatesModel" ({ cls := "TrophyPlatesModel", name := "cut", desc := "(II)I" } : Jvm.MethodName) ({ cls := "TrophyPlatesModel", name := "cut", desc := "(II)I" } : Jvm.MethodName)) ∈ lw_all := lw_g (lw_at lw_m9 223 rfl) rfl
theorem q2174 : (Jvm.Cond.code ({ cls := "TrophyPlatesModel", name := "cut", desc := "(II)I" } : Jvm.MethodName) prog_10_method_29_code (5 : Nat) (Option.some Jvm.ClassFile.FieldType.int)) ∈ lw_all := lw_g (lw_at lw_m9 224 rfl) rfl
theorem q2175 : (Jvm.Cond.methodLink "TrophyPlatesModel" (38 : Nat) ({ cls := "TrophyPlatesModel", name := "in", desc := "(III)Z" } : Jvm.MethodName)) ∈ lw_all := lw_g (lw_at lw_m9 225 rfl) rfl
theorem q2176 : (Jvm.Cond.static ({ cls := "TrophyPlatesModel", name := "in", desc := "(III)Z" } : Jvm.MethodName)) ∈ lw_all := lw_g (lw_at lw_m9 226 rfl) rfl
theorem q2177 : (Jvm.Cond.code ({ cls := "TrophyPlatesModel", name := "in", desc := "(III)Z" } : Jvm.MethodName) prog_10_method_3_code (3 : Nat) (Option.some Jvm.ClassFile.FieldType.boolean)) ∈ lw_all := lw_g (lw_at lw_m9 227 rfl) rfl
theorem q2178 : (Jvm.Cond.methodLink "TrophyPlatesModel" (102 : Nat) ({ cls := "TrophyPlatesModel", name := "act", desc := "()V" } : Jvm.MethodName)) ∈ lw_all := lw_g (lw_at lw_m9 228 rfl) rfl
theorem q2179 : (Jvm.Cond.privateMethod ({ cls := "TrophyPlatesModel", name := "act", desc := "()V" } : Jvm.MethodName)) ∈ lw_tbl := lw_at lw_m9 229 rfl
theorem q2180 : (Jvm.Cond.instanceMethod ({ cls := "TrophyPlatesModel", name := "act", desc := "()V" } : Jvm.MethodName)) ∈ lw_all := lw_g (lw_at lw_m9 230 rfl) rfl
theorem q2181 : (Jvm.Cond.code ({ cls := "TrophyPlatesModel", name := "act", desc := "()V" } : Jvm.MethodName) prog_10_method_4_code (2 : Nat) (Option.none : Option Jvm.ClassFile.FieldType)) ∈ lw_all := lw_g (lw_at lw_m9 231 rfl) rfl
theorem q2182 : (Jvm.Cond.methodLink "TrophyPlatesModel" (63 : Nat) ({ cls := "TrophyPlatesModel", name := "setPlate", desc := "([IIII)V" } : Jvm.MethodName)) ∈ lw_all := lw_g (lw_at lw_m9 232 rfl) rfl
theorem q2183 : (Jvm.Cond.static ({ cls := "TrophyPlatesModel", name := "setPlate", desc := "([IIII)V" } : Jvm.MethodName)) ∈ lw_all := lw_g (lw_at lw_m9 233 rfl) rfl
theorem q2184 : (Jvm.Cond.code ({ cls := "TrophyPlatesModel", name := "setPlate", desc := "([IIII)V" } : Jvm.MethodName) prog_10_method_6_code (4 : Nat) (Option.none : Option Jvm.ClassFile.FieldType)) ∈ lw_all := lw_g (lw_at lw_m9 234 rfl) rfl
theorem q2186 : (Jvm.Cond.instanceMethod ({ cls := "TrophyPlatesModel", name := "spoil", desc := "(I)I" } : Jvm.MethodName)) ∈ lw_all := lw_g (lw_at lw_m9 236 rfl) rfl
theorem q2187 : (Jvm.Cond.selects "TrophyPlatesModel" ({ cls := "TrophyPlatesModel", name := "spoil", desc := "(I)I" } : Jvm.MethodName) ({ cls := "TrophyPlatesModel", name := "spoil", desc := "(I)I" } : Jvm.MethodName)) ∈ lw_all := lw_g (lw_at lw_m9 237 rfl) rfl
theorem q2188 : (Jvm.Cond.code ({ cls := "TrophyPlatesModel", name := "spoil", desc := "(I)I" } : Jvm.MethodName) prog_10_method_30_code (2 : Nat) (Option.some Jvm.ClassFile.FieldType.int)) ∈ lw_all := lw_g (lw_at lw_m9 238 rfl) rfl
theorem q2189 : (Jvm.Cond.methodLink "TrophyPlatesModel" (105 : Nat) ({ cls := "TrophyPlatesModel", name := "isPlate", desc := "(I)Z" } : Jvm.MethodName)) ∈ lw_all := lw_g (lw_at lw_m9 239 rfl) rfl
theorem q2190 : (Jvm.Cond.privateMethod ({ cls := "TrophyPlatesModel", name := "isPlate", desc := "(I)Z" } : Jvm.MethodName)) ∈ lw_tbl := lw_at lw_m10 0 rfl
theorem q2191 : (Jvm.Cond.instanceMethod ({ cls := "TrophyPlatesModel", name := "isPlate", desc := "(I)Z" } : Jvm.MethodName)) ∈ lw_all := lw_g (lw_at lw_m10 1 rfl) rfl
theorem q2192 : (Jvm.Cond.code ({ cls := "TrophyPlatesModel", name := "isPlate", desc := "(I)Z" } : Jvm.MethodName) prog_10_method_8_code (2 : Nat) (Option.some Jvm.ClassFile.FieldType.boolean)) ∈ lw_all := lw_g (lw_at lw_m10 2 rfl) rfl
theorem q2193 : (Jvm.Cond.methodLink "TrophyPlatesModel" (53 : Nat) ({ cls := "TrophyPlatesModel", name := "ofPlate", desc := "([III)I" } : Jvm.MethodName)) ∈ lw_all := lw_g (lw_at lw_m10 3 rfl) rfl
theorem q2194 : (Jvm.Cond.static ({ cls := "TrophyPlatesModel", name := "ofPlate", desc := "([III)I" } : Jvm.MethodName)) ∈ lw_all := lw_g (lw_at lw_m10 4 rfl) rfl
theorem q2195 : (Jvm.Cond.code ({ cls := "TrophyPlatesModel", name := "ofPlate", desc := "([III)I" } : Jvm.MethodName) prog_10_method_5_code (3 : Nat) (Option.some Jvm.ClassFile.FieldType.int)) ∈ lw_all := lw_g (lw_at lw_m10 5 rfl) rfl
theorem q2196 : (Jvm.Cond.methodLink "TrophyPlatesModel" (109 : Nat) ({ cls := "TrophyPlatesModel", name := "platesIn", desc := "([II)I" } : Jvm.MethodName)) ∈ lw_all := lw_g (lw_at lw_m10 6 rfl) rfl
theorem q2197 : (Jvm.Cond.static ({ cls := "TrophyPlatesModel", name := "platesIn", desc := "([II)I" } : Jvm.MethodName)) ∈ lw_all := lw_g (lw_at lw_m10 7 rfl) rfl
theorem q2198 : (Jvm.Cond.code ({ cls := "TrophyPlatesModel", name := "platesIn", desc := "([II)I" } : Jvm.MethodName) prog_10_method_28_code (4 : Nat) (Option.some Jvm.ClassFile.FieldType.int)) ∈ lw_all := lw_g (lw_at lw_m10 8 rfl) rfl
theorem q2200 : (Jvm.Cond.instanceMethod ({ cls := "TrophyPlatesModel", name := "grind", desc := "(II)I" } : Jvm.MethodName)) ∈ lw_all := lw_g (lw_at lw_m10 10 rfl) rfl
theorem q2201 : (Jvm.Cond.selects "TrophyPlatesModel" ({ cls := "TrophyPlatesModel", name := "grind", desc := "(II)I" } : Jvm.MethodName) ({ cls := "TrophyPlatesModel", name := "grind", desc := "(II)I" } : Jvm.MethodName)) ∈ lw_all := lw_g (lw_at lw_m10 11 rfl) rfl
theorem q2202 : (Jvm.Cond.code ({ cls := "TrophyPlatesModel", name := "grind", desc := "(II)I" } : Jvm.MethodName) prog_10_method_31_code (4 : Nat) (Option.some Jvm.ClassFile.FieldType.int)) ∈ lw_all := lw_g (lw_at lw_m10 12 rfl) rfl
theorem q2203 : (Jvm.Cond.methodLink "TrophyPlatesModel" (56 : Nat) ({ cls := "TrophyPlatesModel", name := "depthOf", desc := "([III)I" } : Jvm.MethodName)) ∈ lw_all := lw_g (lw_at lw_m10 13 rfl) rfl
theorem q2204 : (Jvm.Cond.static ({ cls := "TrophyPlatesModel", name := "depthOf", desc := "([III)I" } : Jvm.MethodName)) ∈ lw_all := lw_g (lw_at lw_m10 14 rfl) rfl
theorem q2205 : (Jvm.Cond.code ({ cls := "TrophyPlatesModel", name := "depthOf", desc := "([III)I" } : Jvm.MethodName) prog_10_method_16_code (3 : Nat) (Option.some Jvm.ClassFile.FieldType.int)) ∈ lw_all := lw_g (lw_at lw_m10 15 rfl) rfl
theorem q2206 : (Jvm.Cond.methodLink "TrophyPlatesModel" (59 : Nat) ({ cls := "TrophyPlatesModel", name := "leftOver", desc := "([IIIII)I" } : Jvm.MethodName)) ∈ lw_all := lw_g (lw_at lw_m10 16 rfl) rfl
theorem q2207 : (Jvm.Cond.static ({ cls := "TrophyPlatesModel", name := "leftOver", desc := "([IIIII)I" } : Jvm.MethodName)) ∈ lw_all := lw_g (lw_at lw_m10 17 rfl) rfl
theorem q2208 : (Jvm.Cond.code ({ cls := "TrophyPlatesModel", name := "leftOver", desc := "([IIIII)I" } : Jvm.MethodName) prog_10_method_17_code (5 : Nat) (Option.some Jvm.ClassFile.FieldType.int)) ∈ lw_all := lw_g (lw_at lw_m10 18 rfl) rfl
theorem q2209 : (Jvm.Cond.methodLink "TrophyPlatesModel" (112 : Nat) ({ cls := "TrophyPlatesModel", name := "grindSide", desc := "([III)V" } : Jvm.MethodName)) ∈ lw_all := lw_g (lw_at lw_m10 19 rfl) rfl
theorem q2210 : (Jvm.Cond.static ({ cls := "TrophyPlatesModel", name := "grindSide", desc := "([III)V" } : Jvm.MethodName)) ∈ lw_all := lw_g (lw_at lw_m10 20 rfl) rfl
theorem q2211 : (Jvm.Cond.code ({ cls := "TrophyPlatesModel", name := "grindSide", desc := "([III)V" } : Jvm.MethodName) prog_10_method_20_code (3 : Nat) (Option.none : Option Jvm.ClassFile.FieldType)) ∈ lw_all := lw_g (lw_at lw_m10 21 rfl) rfl
theorem q2213 : (Jvm.Cond.instanceMethod ({ cls := "TrophyPlatesModel", name := "addShield", desc := "(I)I" } : Jvm.MethodName)) ∈ lw_all := lw_g (lw_at lw_m10 23 rfl) rfl
theorem q2214 : (Jvm.Cond.selects "TrophyPlatesModel" ({ cls := "TrophyPlatesModel", name := "addShield", desc := "(I)I" } : Jvm.MethodName) ({ cls := "TrophyPlatesModel", name := "addShield", desc := "(I)I" } : Jvm.MethodName)) ∈ lw_all := lw_g (lw_at lw_m10 24 rfl) rfl
theorem q2215 : (Jvm.Cond.code ({ cls := "TrophyPlatesModel", name := "addShield", desc := "(I)I" } : Jvm.MethodName) prog_10_method_32_code (2 : Nat) (Option.some Jvm.ClassFile.FieldType.int)) ∈ lw_all := lw_g (lw_at lw_m10 25 rfl) rfl
theorem q2217 : (Jvm.Cond.instanceMethod ({ cls := "TrophyPlatesModel", name := "takeOff", desc := "(II)I" } : Jvm.MethodName)) ∈ lw_all := lw_g (lw_at lw_m10 27 rfl) rfl
theorem q2218 : (Jvm.Cond.selects "TrophyPlatesModel" ({ cls := "TrophyPlatesModel", name := "takeOff", desc := "(II)I" } : Jvm.MethodName) ({ cls := "TrophyPlatesModel", name := "takeOff", desc := "(II)I" } : Jvm.MethodName)) ∈ lw_all := lw_g (lw_at lw_m10 28 rfl) rfl
theorem q2219 : (Jvm.Cond.code ({ cls := "TrophyPlatesModel", name := "takeOff", desc := "(II)I" } : Jvm.MethodName) prog_10_method_33_code (4 : Nat) (Option.some Jvm.ClassFile.FieldType.int)) ∈ lw_all := lw_g (lw_at lw_m10 29 rfl) rfl
theorem q2220 : (Jvm.Cond.methodLink "TrophyPlatesModel" (116 : Nat) ({ cls := "TrophyPlatesModel", name := "isShield", desc := "(I)Z" } : Jvm.MethodName)) ∈ lw_all := lw_g (lw_at lw_m10 30 rfl) rfl
theorem q2221 : (Jvm.Cond.privateMethod ({ cls := "TrophyPlatesModel", name := "isShield", desc := "(I)Z" } : Jvm.MethodName)) ∈ lw_tbl := lw_at lw_m10 31 rfl
theorem q2222 : (Jvm.Cond.instanceMethod ({ cls := "TrophyPlatesModel", name := "isShield", desc := "(I)Z" } : Jvm.MethodName)) ∈ lw_all := lw_g (lw_at lw_m10 32 rfl) rfl
theorem q2223 : (Jvm.Cond.code ({ cls := "TrophyPlatesModel", name := "isShield", desc := "(I)Z" } : Jvm.MethodName) prog_10_method_9_code (2 : Nat) (Option.some Jvm.ClassFile.FieldType.boolean)) ∈ lw_all := lw_g (lw_at lw_m10 33 rfl) rfl
theorem q2224 : (Jvm.Cond.methodLink "TrophyPlatesModel" (119 : Nat) ({ cls := "TrophyPlatesModel", name := "isYear", desc := "(I)Z" } : Jvm.MethodName)) ∈ lw_all := lw_g (lw_at lw_m10 34 rfl) rfl
theorem q2225 : (Jvm.Cond.static ({ cls := "TrophyPlatesModel", name := "isYear", desc := "(I)Z" } : Jvm.MethodName)) ∈ lw_all := lw_g (lw_at lw_m10 35 rfl) rfl
theorem q2226 : (Jvm.Cond.code ({ cls := "TrophyPlatesModel", name := "isYear", desc := "(I)Z" } : Jvm.MethodName) prog_10_method_11_code (1 : Nat) (Option.some Jvm.ClassFile.FieldType.boolean)) ∈ lw_all := lw_g (lw_at lw_m10 36 rfl) rfl
theorem q2227 : (Jvm.Cond.methodLink "TrophyPlatesModel" (99 : Nat) ({ cls := "TrophyPlatesModel", name := "plateOn", desc := "([III)I" } : Jvm.MethodName)) ∈ lw_all := lw_g (lw_at lw_m10 37 rfl) rfl
theorem q2228 : (Jvm.Cond.static ({ cls := "TrophyPlatesModel", name := "plateOn", desc := "([III)I" } : Jvm.MethodName)) ∈ lw_all := lw_g (lw_at lw_m10 38 rfl) rfl
theorem q2229 : (Jvm.Cond.code ({ cls := "TrophyPlatesModel", name := "plateOn", desc := "([III)I" } : Jvm.MethodName) prog_10_method_24_code (6 : Nat) (Option.some Jvm.ClassFile.FieldType.int)) ∈ lw_all := lw_g (lw_at lw_m10 39 rfl) rfl
theorem q2231 : (Jvm.Cond.instanceMethod ({ cls := "TrophyPlatesModel", name := "append", desc := "(I)I" } : Jvm.MethodName)) ∈ lw_all := lw_g (lw_at lw_m10 41 rfl) rfl
theorem q2232 : (Jvm.Cond.selects "TrophyPlatesModel" ({ cls := "TrophyPlatesModel", name := "append", desc := "(I)I" } : Jvm.MethodName) ({ cls := "TrophyPlatesModel", name := "append", desc := "(I)I" } : Jvm.MethodName)) ∈ lw_all := lw_g (lw_at lw_m10 42 rfl) rfl
theorem q2233 : (Jvm.Cond.code ({ cls := "TrophyPlatesModel", name := "append", desc := "(I)I" } : Jvm.MethodName) prog_10_method_34_code (2 : Nat) (Option.some Jvm.ClassFile.FieldType.int)) ∈ lw_all := lw_g (lw_at lw_m10 43 rfl) rfl
theorem q2235 : (Jvm.Cond.instanceMethod ({ cls := "TrophyPlatesModel", name := "clearText", desc := "()I" } : Jvm.MethodName)) ∈ lw_all := lw_g (lw_at lw_m10 45 rfl) rfl
theorem q2236 : (Jvm.Cond.selects "TrophyPlatesModel" ({ cls := "TrophyPlatesModel", name := "clearText", desc := "()I" } : Jvm.MethodName) ({ cls := "TrophyPlatesModel", name := "clearText", desc := "()I" } : Jvm.MethodName)) ∈ lw_all := lw_g (lw_at lw_m10 46 rfl) rfl
theorem q2237 : (Jvm.Cond.code ({ cls := "TrophyPlatesModel", name := "clearText", desc := "()I" } : Jvm.MethodName) prog_10_method_35_code (2 : Nat) (Option.some Jvm.ClassFile.FieldType.int)) ∈ lw_all := lw_g (lw_at lw_m10 47 rfl) rfl
theorem q2239 : (Jvm.Cond.instanceMethod ({ cls := "TrophyPlatesModel", name := "order", desc := "(IIIII)I" } : Jvm.MethodName)) ∈ lw_all := lw_g (lw_at lw_m10 49 rfl) rfl
theorem q2240 : (Jvm.Cond.selects "TrophyPlatesModel" ({ cls := "TrophyPlatesModel", name := "order", desc := "(IIIII)I" } : Jvm.MethodName) ({ cls := "TrophyPlatesModel", name := "order", desc := "(IIIII)I" } : Jvm.MethodName)) ∈ lw_all := lw_g (lw_at lw_m10 50 rfl) rfl
theorem q2241 : (Jvm.Cond.code ({ cls := "TrophyPlatesModel", name := "order", desc := "(IIIII)I" } : Jvm.MethodName) prog_10_method_40_code (7 : Nat) (Option.some Jvm.ClassFile.FieldType.int)) ∈ lw_all := lw_g (lw_at lw_m10 51 rfl) rfl
theorem q2242 : (Jvm.Cond.methodLink "TrophyPlatesModel" (122 : Nat) ({ cls := "TrophyPlatesModel", name := "isOrdered", desc := "(II)Z" } : Jvm.MethodName)) ∈ lw_all := lw_g (lw_at lw_m10 52 rfl) rfl
theorem q2243 : (Jvm.Cond.privateMethod ({ cls := "TrophyPlatesModel", name := "isOrdered", desc := "(II)Z" } : Jvm.MethodName)) ∈ lw_tbl := lw_at lw_m10 53 rfl
theorem q2244 : (Jvm.Cond.instanceMethod ({ cls := "TrophyPlatesModel", name := "isOrdered", desc := "(II)Z" } : Jvm.MethodName)) ∈ lw_all := lw_g (lw_at lw_m10 54 rfl) rfl
theorem q2245 : (Jvm.Cond.code ({ cls := "TrophyPlatesModel", name := "isOrdered", desc := "(II)Z" } : Jvm.MethodName) prog_10_method_37_code (5 : Nat) (Option.some Jvm.ClassFile.FieldType.boolean)) ∈ lw_all := lw_g (lw_at lw_m10 55 rfl) rfl
theorem q2246 : (Jvm.Cond.methodLink "TrophyPlatesModel" (42 : Nat) ({ cls := "TrophyPlatesModel", name := "of", desc := "([III)I" } : Jvm.MethodName)) ∈ lw_all := lw_g (lw_at lw_m10 56 rfl) rfl
theorem q2247 : (Jvm.Cond.static ({ cls := "TrophyPlatesModel", name := "of", desc := "([III)I" } : Jvm.MethodName)) ∈ lw_all := lw_g (lw_at lw_m10 57 rfl) rfl
theorem q2248 : (Jvm.Cond.code ({ cls := "TrophyPlatesModel", name := "of", desc := "([III)I" } : Jvm.MethodName) prog_10_method_7_code (3 : Nat) (Option.some Jvm.ClassFile.FieldType.int)) ∈ lw_all := lw_g (lw_at lw_m10 58 rfl) rfl
theorem q2249 : (Jvm.Cond.methodLink "TrophyPlatesModel" (126 : Nat) ({ cls := "TrophyPlatesModel", name := "rushes", desc := "([I)I" } : Jvm.MethodName)) ∈ lw_all := lw_g (lw_at lw_m10 59 rfl) rfl
theorem q2250 : (Jvm.Cond.static ({ cls := "TrophyPlatesModel", name := "rushes", desc := "([I)I" } : Jvm.MethodName)) ∈ lw_all := lw_g (lw_at lw_m10 60 rfl) rfl
theorem q2251 : (Jvm.Cond.code ({ cls := "TrophyPlatesModel", name := "rushes", desc := "([I)I" } : Jvm.MethodName) prog_10_method_36_code (3 : Nat) (Option.some Jvm.ClassFile.FieldType.int)) ∈ lw_all := lw_g (lw_at lw_m10 61 rfl) rfl
theorem q2252 : (Jvm.Cond.methodLink "TrophyPlatesModel" (130 : Nat) ({ cls := "TrophyPlatesModel", name := "putIn", desc := "([II)V" } : Jvm.MethodName)) ∈ lw_all := lw_g (lw_at lw_m10 62 rfl) rfl
theorem q2253 : (Jvm.Cond.privateMethod ({ cls := "TrophyPlatesModel", name := "putIn", desc := "([II)V" } : Jvm.MethodName)) ∈ lw_tbl := lw_at lw_m10 63 rfl
theorem q2254 : (Jvm.Cond.instanceMethod ({ cls := "TrophyPlatesModel", name := "putIn", desc := "([II)V" } : Jvm.MethodName)) ∈ lw_all := lw_g (lw_at lw_m10 64 rfl) rfl
theorem q2255 : (Jvm.Cond.code ({ cls := "TrophyPlatesModel", name := "putIn", desc := "([II)V" } : Jvm.MethodName) prog_10_method_39_code (4 : Nat) (Option.none : Option Jvm.ClassFile.FieldType)) ∈ lw_all := lw_g (lw_at lw_m10 65 rfl) rfl
theorem q2257 : (Jvm.Cond.instanceMethod ({ cls := "TrophyPlatesModel", name := "hurry", desc := "(I)I" } : Jvm.MethodName)) ∈ lw_all := lw_g (lw_at lw_m10 67 rfl) rfl
theorem q2258 : (Jvm.Cond.selects "TrophyPlatesModel" ({ cls := "TrophyPlatesModel", name := "hurry", desc := "(I)I" } : Jvm.MethodName) ({ cls := "TrophyPlatesModel", name := "hurry", desc := "(I)I" } : Jvm.MethodName)) ∈ lw_all := lw_g (lw_at lw_m10 68 rfl) rfl
theorem q2259 : (Jvm.Cond.code ({ cls := "TrophyPlatesModel", name := "hurry", desc := "(I)I" } : Jvm.MethodName) prog_10_method_42_code (2 : Nat) (Option.some Jvm.ClassFile.FieldType.int)) ∈ lw_all := lw_g (lw_at lw_m10 69 rfl) rfl
theorem q2260 : (Jvm.Cond.methodLink "TrophyPlatesModel" (137 : Nat) ({ cls := "TrophyPlatesModel", name := "isOrder", desc := "(I)Z" } : Jvm.MethodName)) ∈ lw_all := lw_g (lw_at lw_m10 70 rfl) rfl
theorem q2261 : (Jvm.Cond.privateMethod ({ cls := "TrophyPlatesModel", name := "isOrder", desc := "(I)Z" } : Jvm.MethodName)) ∈ lw_tbl := lw_at lw_m10 71 rfl
theorem q2262 : (Jvm.Cond.instanceMethod ({ cls := "TrophyPlatesModel", name := "isOrder", desc := "(I)Z" } : Jvm.MethodName)) ∈ lw_all := lw_g (lw_at lw_m10 72 rfl) rfl
theorem q2263 : (Jvm.Cond.code ({ cls := "TrophyPlatesModel", name := "isOrder", desc := "(I)Z" } : Jvm.MethodName) prog_10_method_10_code (2 : Nat) (Option.some Jvm.ClassFile.FieldType.boolean)) ∈ lw_all := lw_g (lw_at lw_m10 73 rfl) rfl
theorem q2264 : (Jvm.Cond.methodLink "TrophyPlatesModel" (140 : Nat) ({ cls := "TrophyPlatesModel", name := "hurryIn", desc := "([II)I" } : Jvm.MethodName)) ∈ lw_all := lw_g (lw_at lw_m10 74 rfl) rfl
theorem q2265 : (Jvm.Cond.privateMethod ({ cls := "TrophyPlatesModel", name := "hurryIn", desc := "([II)I" } : Jvm.MethodName)) ∈ lw_tbl := lw_at lw_m10 75 rfl
theorem q2266 : (Jvm.Cond.instanceMethod ({ cls := "TrophyPlatesModel", name := "hurryIn", desc := "([II)I" } : Jvm.MethodName)) ∈ lw_all := lw_g (lw_at lw_m10 76 rfl) rfl
theorem q2267 : (Jvm.Cond.code ({ cls := "TrophyPlatesModel", name := "hurryIn", desc := "([II)I" } : Jvm.MethodName) prog_10_method_41_code (5 : Nat) (Option.some Jvm.ClassFile.FieldType.int)) ∈ lw_all := lw_g (lw_at lw_m10 77 rfl) rfl
theorem q2268 : (Jvm.Cond.methodLink "TrophyPlatesModel" (134 : Nat) ({ cls := "TrophyPlatesModel", name := "takeOut", desc := "([II)V" } : Jvm.MethodName)) ∈ lw_all := lw_g (lw_at lw_m10 78 rfl) rfl
theorem q2269 : (Jvm.Cond.privateMethod ({ cls := "TrophyPlatesModel", name := "takeOut", desc := "([II)V" } : Jvm.MethodName)) ∈ lw_tbl := lw_at lw_m10 79 rfl
theorem q2270 : (Jvm.Cond.instanceMethod ({ cls := "TrophyPlatesModel", name := "takeOut", desc := "([II)V" } : Jvm.MethodName)) ∈ lw_all := lw_g (lw_at lw_m10 80 rfl) rfl
theorem q2271 : (Jvm.Cond.code ({ cls := "TrophyPlatesModel", name := "takeOut", desc := "([II)V" } : Jvm.MethodName) prog_10_method_38_code (4 : Nat) (Option.none : Option Jvm.ClassFile.FieldType)) ∈ lw_all := lw_g (lw_at lw_m10 81 rfl) rfl
theorem q2273 : (Jvm.Cond.instanceMethod ({ cls := "TrophyPlatesModel", name := "cancel", desc := "(I)I" } : Jvm.MethodName)) ∈ lw_all := lw_g (lw_at lw_m10 83 rfl) rfl
theorem q2274 : (Jvm.Cond.selects "TrophyPlatesModel" ({ cls := "TrophyPlatesModel", name := "cancel", desc := "(I)I" } : Jvm.MethodName) ({ cls := "TrophyPlatesModel", name := "cancel", desc := "(I)I" } : Jvm.MethodName)) ∈ lw_all := lw_g (lw_at lw_m10 84 rfl) rfl
theorem q2275 : (Jvm.Cond.code ({ cls := "TrophyPlatesModel", name := "cancel", desc := "(I)I" } : Jvm.MethodName) prog_10_method_44_code (2 : Nat) (Option.some Jvm.ClassFile.FieldType.int)) ∈ lw_all := lw_g (lw_at lw_m10 85 rfl) rfl
theorem q2276 : (Jvm.Cond.methodLink "TrophyPlatesModel" (143 : Nat) ({ cls := "TrophyPlatesModel", name := "rest", desc := "([I)V" } : Jvm.MethodName)) ∈ lw_all := lw_g (lw_at lw_m10 86 rfl) rfl
theorem q2277 : (Jvm.Cond.static ({ cls := "TrophyPlatesModel", name := "rest", desc := "([I)V" } : Jvm.MethodName)) ∈ lw_all := lw_g (lw_at lw_m10 87 rfl) rfl
theorem q2278 : (Jvm.Cond.code ({ cls := "TrophyPlatesModel", name := "rest", desc := "([I)V" } : Jvm.MethodName) prog_10_method_43_code (1 : Nat) (Option.none : Option Jvm.ClassFile.FieldType)) ∈ lw_all := lw_g (lw_at lw_m10 88 rfl) rfl
theorem q2280 : (Jvm.Cond.instanceMethod ({ cls := "TrophyPlatesModel", name := "work", desc := "(I)I" } : Jvm.MethodName)) ∈ lw_all := lw_g (lw_at lw_m10 90 rfl) rfl
theorem q2281 : (Jvm.Cond.selects "TrophyPlatesModel" ({ cls := "TrophyPlatesModel", name := "work", desc := "(I)I" } : Jvm.MethodName) ({ cls := "TrophyPlatesModel", name := "work", desc := "(I)I" } : Jvm.MethodName)) ∈ lw_all := lw_g (lw_at lw_m10 91 rfl) rfl
theorem q2282 : (Jvm.Cond.code ({ cls := "TrophyPlatesModel", name := "work", desc := "(I)I" } : Jvm.MethodName) prog_10_method_47_code (5 : Nat) (Option.some Jvm.ClassFile.FieldType.int)) ∈ lw_all := lw_g (lw_at lw_m10 92 rfl) rfl
theorem q2283 : (Jvm.Cond.methodLink "TrophyPlatesModel" (159 : Nat) ({ cls := "TrophyPlatesModel", name := "goesOn", desc := "([I)Z" } : Jvm.MethodName)) ∈ lw_all := lw_g (lw_at lw_m10 93 rfl) rfl
theorem q2284 : (Jvm.Cond.privateMethod ({ cls := "TrophyPlatesModel", name := "goesOn", desc := "([I)Z" } : Jvm.MethodName)) ∈ lw_tbl := lw_at lw_m10 94 rfl
theorem q2285 : (Jvm.Cond.instanceMethod ({ cls := "TrophyPlatesModel", name := "goesOn", desc := "([I)Z" } : Jvm.MethodName)) ∈ lw_all := lw_g (lw_at lw_m10 95 rfl) rfl
theorem q2286 : (Jvm.Cond.code ({ cls := "TrophyPlatesModel", name := "goesOn", desc := "([I)Z" } : Jvm.MethodName) prog_10_method_45_code (3 : Nat) (Option.some Jvm.ClassFile.FieldType.boolean)) ∈ lw_all := lw_g (lw_at lw_m10 96 rfl) rfl
theorem q2287 : (Jvm.Cond.methodLink "TrophyPlatesModel" (147 : Nat) ({ cls := "TrophyPlatesModel", name := "nameLength", desc := "([II)I" } : Jvm.MethodName)) ∈ lw_all := lw_g (lw_at lw_m10 97 rfl) rfl
theorem q2288 : (Jvm.Cond.static ({ cls := "TrophyPlatesModel", name := "nameLength", desc := "([II)I" } : Jvm.MethodName)) ∈ lw_all := lw_g (lw_at lw_m10 98 rfl) rfl
theorem q2289 : (Jvm.Cond.code ({ cls := "TrophyPlatesModel", name := "nameLength", desc := "([II)I" } : Jvm.MethodName) prog_10_method_13_code (5 : Nat) (Option.some Jvm.ClassFile.FieldType.int)) ∈ lw_all := lw_g (lw_at lw_m10 99 rfl) rfl
theorem q2290 : (Jvm.Cond.methodLink "TrophyPlatesModel" (46 : Nat) ({ cls := "TrophyPlatesModel", name := "widthOf", desc := "(I)I" } : Jvm.MethodName)) ∈ lw_all := lw_g (lw_at lw_m10 100 rfl) rfl
theorem q2291 : (Jvm.Cond.static ({ cls := "TrophyPlatesModel", name := "widthOf", desc := "(I)I" } : Jvm.MethodName)) ∈ lw_all := lw_g (lw_at lw_m10 101 rfl) rfl
theorem q2292 : (Jvm.Cond.code ({ cls := "TrophyPlatesModel", name := "widthOf", desc := "(I)I" } : Jvm.MethodName) prog_10_method_12_code (1 : Nat) (Option.some Jvm.ClassFile.FieldType.int)) ∈ lw_all := lw_g (lw_at lw_m10 102 rfl) rfl
theorem q2293 : (Jvm.Cond.methodLink "TrophyPlatesModel" (150 : Nat) ({ cls := "TrophyPlatesModel", name := "findPlate", desc := "([III)Z" } : Jvm.MethodName)) ∈ lw_all := lw_g (lw_at lw_m10 103 rfl) rfl
theorem q2294 : (Jvm.Cond.privateMethod ({ cls := "TrophyPlatesModel", name := "findPlate", desc := "([III)Z" } : Jvm.MethodName)) ∈ lw_tbl := lw_at lw_m10 104 rfl
theorem q2295 : (Jvm.Cond.instanceMethod ({ cls := "TrophyPlatesModel", name := "findPlate", desc := "([III)Z" } : Jvm.MethodName)) ∈ lw_all := lw_g (lw_at lw_m10 105 rfl) rfl
theorem q2296 : (Jvm.Cond.code ({ cls := "TrophyPlatesModel", name := "findPlate", desc := "([III)Z" } : Jvm.MethodName) prog_10_method_23_code (8 : Nat) (Option.some Jvm.ClassFile.FieldType.boolean)) ∈ lw_all := lw_g (lw_at lw_m10 106 rfl) rfl
theorem q2297 : (Jvm.Cond.methodLink "TrophyPlatesModel" (81 : Nat) ({ cls := "TrophyPlatesModel", name := "mayTake", desc := "([IIIIZ)Z" } : Jvm.MethodName)) ∈ lw_all := lw_g (lw_at lw_m10 107 rfl) rfl
theorem q2298 : (Jvm.Cond.static ({ cls := "TrophyPlatesModel", name := "mayTake", desc := "([IIIIZ)Z" } : Jvm.MethodName)) ∈ lw_all := lw_g (lw_at lw_m10 108 rfl) rfl
theorem q2299 : (Jvm.Cond.code ({ cls := "TrophyPlatesModel", name := "mayTake", desc := "([IIIIZ)Z" } : Jvm.MethodName) prog_10_method_22_code (5 : Nat) (Option.some Jvm.ClassFile.FieldType.boolean)) ∈ lw_all := lw_g (lw_at lw_m10 109 rfl) rfl
theorem q2300 : (Jvm.Cond.methodLink "TrophyPlatesModel" (67 : Nat) ({ cls := "TrophyPlatesModel", name := "canBeGround", desc := "([IIII)Z" } : Jvm.MethodName)) ∈ lw_all := lw_g (lw_at lw_m10 110 rfl) rfl
theorem q2301 : (Jvm.Cond.static ({ cls := "TrophyPlatesModel", name := "canBeGround", desc := "([IIII)Z" } : Jvm.MethodName)) ∈ lw_all := lw_g (lw_at lw_m10 111 rfl) rfl
theorem q2302 : (Jvm.Cond.code ({ cls := "TrophyPlatesModel", name := "canBeGround", desc := "([IIII)Z" } : Jvm.MethodName) prog_10_method_19_code (5 : Nat) (Option.some Jvm.ClassFile.FieldType.boolean)) ∈ lw_all := lw_g (lw_at lw_m10 112 rfl) rfl
theorem q2303 : (Jvm.Cond.methodLink "TrophyPlatesModel" (71 : Nat) ({ cls := "TrophyPlatesModel", name := "isReady", desc := "([IIII)Z" } : Jvm.MethodName)) ∈ lw_all := lw_g (lw_at lw_m10 113 rfl) rfl
theorem q2304 : (Jvm.Cond.static ({ cls := "TrophyPlatesModel", name := "isReady", desc := "([IIII)Z" } : Jvm.MethodName)) ∈ lw_all := lw_g (lw_at lw_m10 114 rfl) rfl
theorem q2305 : (Jvm.Cond.code ({ cls := "TrophyPlatesModel", name := "isReady", desc := "([IIII)Z" } : Jvm.MethodName) prog_10_method_18_code (4 : Nat) (Option.some Jvm.ClassFile.FieldType.boolean)) ∈ lw_all := lw_g (lw_at lw_m10 115 rfl) rfl
theorem q2306 : (Jvm.Cond.methodLink "TrophyPlatesModel" (85 : Nat) ({ cls := "TrophyPlatesModel", name := "isBetter", desc := "([III)Z" } : Jvm.MethodName)) ∈ lw_all := lw_g (lw_at lw_m10 116 rfl) rfl
theorem q2307 : (Jvm.Cond.static ({ cls := "TrophyPlatesModel", name := "isBetter", desc := "([III)Z" } : Jvm.MethodName)) ∈ lw_all := lw_g (lw_at lw_m10 117 rfl) rfl
theorem q2308 : (Jvm.Cond.code ({ cls := "TrophyPlatesModel", name := "isBetter", desc := "([III)Z" } : Jvm.MethodName) prog_10_method_21_code (4 : Nat) (Option.some Jvm.ClassFile.FieldType.boolean)) ∈ lw_all := lw_g (lw_at lw_m10 118 rfl) rfl
theorem q2309 : (Jvm.Cond.methodLink "TrophyPlatesModel" (153 : Nat) ({ cls := "TrophyPlatesModel", name := "effort", desc := "([II)I" } : Jvm.MethodName)) ∈ lw_all := lw_g (lw_at lw_m10 119 rfl) rfl
theorem q2310 : (Jvm.Cond.static ({ cls := "TrophyPlatesModel", name := "effort", desc := "([II)I" } : Jvm.MethodName)) ∈ lw_all := lw_g (lw_at lw_m10 120 rfl) rfl
theorem q2311 : (Jvm.Cond.code ({ cls := "TrophyPlatesModel", name := "effort", desc := "([II)I" } : Jvm.MethodName) prog_10_method_15_code (2 : Nat) (Option.some Jvm.ClassFile.FieldType.int)) ∈ lw_all := lw_g (lw_at lw_m10 121 rfl) rfl
theorem q2312 : (Jvm.Cond.methodLink "TrophyPlatesModel" (163 : Nat) ({ cls := "TrophyPlatesModel", name := "finish", desc := "([I)V" } : Jvm.MethodName)) ∈ lw_all := lw_g (lw_at lw_m10 122 rfl) rfl
theorem q2313 : (Jvm.Cond.privateMethod ({ cls := "TrophyPlatesModel", name := "finish", desc := "([I)V" } : Jvm.MethodName)) ∈ lw_tbl := lw_at lw_m10 123 rfl
theorem q2314 : (Jvm.Cond.instanceMethod ({ cls := "TrophyPlatesModel", name := "finish", desc := "([I)V" } : Jvm.MethodName)) ∈ lw_all := lw_g (lw_at lw_m10 124 rfl) rfl
theorem q2315 : (Jvm.Cond.code ({ cls := "TrophyPlatesModel", name := "finish", desc := "([I)V" } : Jvm.MethodName) prog_10_method_46_code (4 : Nat) (Option.none : Option Jvm.ClassFile.FieldType)) ∈ lw_all := lw_g (lw_at lw_m10 125 rfl) rfl
theorem q2316 : (Jvm.Cond.methodLink "TrophyPlatesModel" (156 : Nat) ({ cls := "TrophyPlatesModel", name := "fix", desc := "([IIII)V" } : Jvm.MethodName)) ∈ lw_all := lw_g (lw_at lw_m10 126 rfl) rfl
theorem q2317 : (Jvm.Cond.static ({ cls := "TrophyPlatesModel", name := "fix", desc := "([IIII)V" } : Jvm.MethodName)) ∈ lw_all := lw_g (lw_at lw_m10 127 rfl) rfl
theorem q2318 : (Jvm.Cond.code ({ cls := "TrophyPlatesModel", name := "fix", desc := "([IIII)V" } : Jvm.MethodName) prog_10_method_27_code (4 : Nat) (Option.none : Option Jvm.ClassFile.FieldType)) ∈ lw_all := lw_g (lw_at lw_m10 128 rfl) rfl
theorem q2319 : (Jvm.Cond.methodLink "TrophyPlatesModel" (92 : Nat) ({ cls := "TrophyPlatesModel", name := "platesOn", desc := "([II)I" } : Jvm.MethodName)) ∈ lw_all := lw_g (lw_at lw_m10 129 rfl) rfl
theorem q2320 : (Jvm.Cond.static ({ cls := "TrophyPlatesModel", name := "platesOn", desc := "([II)I" } : Jvm.MethodName)) ∈ lw_all := lw_g (lw_at lw_m10 130 rfl) rfl
theorem q2321 : (Jvm.Cond.code ({ cls := "TrophyPlatesModel", name := "platesOn", desc := "([II)I" } : Jvm.MethodName) prog_10_method_25_code (4 : Nat) (Option.some Jvm.ClassFile.FieldType.int)) ∈ lw_all := lw_g (lw_at lw_m10 131 rfl) rfl
theorem q2322 : (Jvm.Cond.methodLink "TrophyPlatesModel" (96 : Nat) ({ cls := "TrophyPlatesModel", name := "yearOn", desc := "([III)I" } : Jvm.MethodName)) ∈ lw_all := lw_g (lw_at lw_m10 132 rfl) rfl
theorem q2323 : (Jvm.Cond.static ({ cls := "TrophyPlatesModel", name := "yearOn", desc := "([III)I" } : Jvm.MethodName)) ∈ lw_all := lw_g (lw_at lw_m10 133 rfl) rfl
theorem q2324 : (Jvm.Cond.code ({ cls := "TrophyPlatesModel", name := "yearOn", desc := "([III)I" } : Jvm.MethodName) prog_10_method_26_code (7 : Nat) (Option.some Jvm.ClassFile.FieldType.int)) ∈ lw_all := lw_g (lw_at lw_m10 134 rfl) rfl
theorem q2326 : (Jvm.Cond.instanceMethod ({ cls := "TrophyPlatesModel", name := "slip", desc := "()I" } : Jvm.MethodName)) ∈ lw_all := lw_g (lw_at lw_m10 136 rfl) rfl
theorem q2327 : (Jvm.Cond.selects "TrophyPlatesModel" ({ cls := "TrophyPlatesModel", name := "slip", desc := "()I" } : Jvm.MethodName) ({ cls := "TrophyPlatesModel", name := "slip", desc := "()I" } : Jvm.MethodName)) ∈ lw_all := lw_g (lw_at lw_m10 137 rfl) rfl
theorem q2328 : (Jvm.Cond.code ({ cls := "TrophyPlatesModel", name := "slip", desc := "()I" } : Jvm.MethodName) prog_10_method_48_code (5 : Nat) (Option.some Jvm.ClassFile.FieldType.int)) ∈ lw_all := lw_g (lw_at lw_m10 138 rfl) rfl
theorem q2330 : (Jvm.Cond.instanceMethod ({ cls := "TrophyPlatesModel", name := "undo", desc := "()I" } : Jvm.MethodName)) ∈ lw_all := lw_g (lw_at lw_m10 140 rfl) rfl
theorem q2331 : (Jvm.Cond.selects "TrophyPlatesModel" ({ cls := "TrophyPlatesModel", name := "undo", desc := "()I" } : Jvm.MethodName) ({ cls := "TrophyPlatesModel", name := "undo", desc := "()I" } : Jvm.MethodName)) ∈ lw_all := lw_g (lw_at lw_m10 141 rfl) rfl
theorem q2332 : (Jvm.Cond.code ({ cls := "TrophyPlatesModel", name := "undo", desc := "()I" } : Jvm.MethodName) prog_10_method_49_code (2 : Nat) (Option.some Jvm.ClassFile.FieldType.int)) ∈ lw_all := lw_g (lw_at lw_m10 142 rfl) rfl
theorem q2334 : (Jvm.Cond.instanceMethod ({ cls := "TrophyPlatesModel", name := "count", desc := "(I)I" } : Jvm.MethodName)) ∈ lw_all := lw_g (lw_at lw_m10 144 rfl) rfl
theorem q2335 : (Jvm.Cond.selects "TrophyPlatesModel" ({ cls := "TrophyPlatesModel", name := "count", desc := "(I)I" } : Jvm.MethodName) ({ cls := "TrophyPlatesModel", name := "count", desc := "(I)I" } : Jvm.MethodName)) ∈ lw_all := lw_g (lw_at lw_m10 145 rfl) rfl
theorem q2336 : (Jvm.Cond.code ({ cls := "TrophyPlatesModel", name := "count", desc := "(I)I" } : Jvm.MethodName) prog_10_method_50_code (3 : Nat) (Option.some Jvm.ClassFile.FieldType.int)) ∈ lw_all := lw_g (lw_at lw_m10 146 rfl) rfl
theorem q2338 : (Jvm.Cond.instanceMethod ({ cls := "TrophyPlatesModel", name := "plate", desc := "(II)I" } : Jvm.MethodName)) ∈ lw_all := lw_g (lw_at lw_m10 148 rfl) rfl
theorem q2339 : (Jvm.Cond.selects "TrophyPlatesModel" ({ cls := "TrophyPlatesModel", name := "plate", desc := "(II)I" } : Jvm.MethodName) ({ cls := "TrophyPlatesModel", name := "plate", desc := "(II)I" } : Jvm.MethodName)) ∈ lw_all := lw_g (lw_at lw_m10 149 rfl) rfl
theorem q2340 : (Jvm.Cond.code ({ cls := "TrophyPlatesModel", name := "plate", desc := "(II)I" } : Jvm.MethodName) prog_10_method_51_code (3 : Nat) (Option.some Jvm.ClassFile.FieldType.int)) ∈ lw_all := lw_g (lw_at lw_m10 150 rfl) rfl
theorem q2342 : (Jvm.Cond.instanceMethod ({ cls := "TrophyPlatesModel", name := "shield", desc := "(II)I" } : Jvm.MethodName)) ∈ lw_all := lw_g (lw_at lw_m10 152 rfl) rfl
theorem q2343 : (Jvm.Cond.selects "TrophyPlatesModel" ({ cls := "TrophyPlatesModel", name := "shield", desc := "(II)I" } : Jvm.MethodName) ({ cls := "TrophyPlatesModel", name := "shield", desc := "(II)I" } : Jvm.MethodName)) ∈ lw_all := lw_g (lw_at lw_m10 153 rfl) rfl
theorem q2344 : (Jvm.Cond.code ({ cls := "TrophyPlatesModel", name := "shield", desc := "(II)I" } : Jvm.MethodName) prog_10_method_52_code (6 : Nat) (Option.some Jvm.ClassFile.FieldType.int)) ∈ lw_all := lw_g (lw_at lw_m10 154 rfl) rfl
theorem q2346 : (Jvm.Cond.instanceMethod ({ cls := "TrophyPlatesModel", name := "plateFor", desc := "(II)I" } : Jvm.MethodName)) ∈ lw_all := lw_g (lw_at lw_m10 156 rfl) rfl
theorem q2347 : (Jvm.Cond.selects "TrophyPlatesModel" ({ cls := "TrophyPlatesModel", name := "plateFor", desc := "(II)I" } : Jvm.MethodName) ({ cls := "TrophyPlatesModel", name := "plateFor", desc := "(II)I" } : Jvm.MethodName)) ∈ lw_all := lw_g (lw_at lw_m10 157 rfl) rfl
theorem q2348 : (Jvm.Cond.code ({ cls := "TrophyPlatesModel", name := "plateFor", desc := "(II)I" } : Jvm.MethodName) prog_10_method_53_code (3 : Nat) (Option.some Jvm.ClassFile.FieldType.int)) ∈ lw_all := lw_g (lw_at lw_m10 158 rfl) rfl
theorem q2350 : (Jvm.Cond.instanceMethod ({ cls := "TrophyPlatesModel", name := "orderOf", desc := "(II)I" } : Jvm.MethodName)) ∈ lw_all := lw_g (lw_at lw_m10 160 rfl) rfl
theorem q2351 : (Jvm.Cond.selects "TrophyPlatesModel" ({ cls := "TrophyPlatesModel", name := "orderOf", desc := "(II)I" } : Jvm.MethodName) ({ cls := "TrophyPlatesModel", name := "orderOf", desc := "(II)I" } : Jvm.MethodName)) ∈ lw_all := lw_g (lw_at lw_m10 161 rfl) rfl
theorem q2352 : (Jvm.Cond.code ({ cls := "TrophyPlatesModel", name := "orderOf", desc := "(II)I" } : Jvm.MethodName) prog_10_method_54_code (3 : Nat) (Option.some Jvm.ClassFile.FieldType.int)) ∈ lw_all := lw_g (lw_at lw_m10 162 rfl) rfl
theorem q2354 : (Jvm.Cond.instanceMethod ({ cls := "TrophyPlatesModel", name := "letter", desc := "(II)I" } : Jvm.MethodName)) ∈ lw_all := lw_g (lw_at lw_m10 164 rfl) rfl
theorem q2355 : (Jvm.Cond.selects "TrophyPlatesModel" ({ cls := "TrophyPlatesModel", name := "letter", desc := "(II)I" } : Jvm.MethodName) ({ cls := "TrophyPlatesModel", name := "letter", desc := "(II)I" } : Jvm.MethodName)) ∈ lw_all := lw_g (lw_at lw_m10 165 rfl) rfl
theorem q2356 : (Jvm.Cond.code ({ cls := "TrophyPlatesModel", name := "letter", desc := "(II)I" } : Jvm.MethodName) prog_10_method_55_code (3 : Nat) (Option.some Jvm.ClassFile.FieldType.int)) ∈ lw_all := lw_g (lw_at lw_m10 166 rfl) rfl
theorem q2358 : (Jvm.Cond.instanceMethod ({ cls := "TrophyPlatesModel", name := "lengthOf", desc := "(I)I" } : Jvm.MethodName)) ∈ lw_all := lw_g (lw_at lw_m10 168 rfl) rfl
theorem q2359 : (Jvm.Cond.selects "TrophyPlatesModel" ({ cls := "TrophyPlatesModel", name := "lengthOf", desc := "(I)I" } : Jvm.MethodName) ({ cls := "TrophyPlatesModel", name := "lengthOf", desc := "(I)I" } : Jvm.MethodName)) ∈ lw_all := lw_g (lw_at lw_m10 169 rfl) rfl
theorem q2360 : (Jvm.Cond.code ({ cls := "TrophyPlatesModel", name := "lengthOf", desc := "(I)I" } : Jvm.MethodName) prog_10_method_56_code (2 : Nat) (Option.some Jvm.ClassFile.FieldType.int)) ∈ lw_all := lw_g (lw_at lw_m10 170 rfl) rfl
theorem q2361 : (Jvm.Cond.methodLink "TrophyPlatesModel" (166 : Nat) ({ cls := "TrophyPlatesModel", name := "textLength", desc := "(I)I" } : Jvm.MethodName)) ∈ lw_all := lw_g (lw_at lw_m10 171 rfl) rfl
theorem q2362 : (Jvm.Cond.privateMethod ({ cls := "TrophyPlatesModel", name := "textLength", desc := "(I)I" } : Jvm.MethodName)) ∈ lw_tbl := lw_at lw_m10 172 rfl
theorem q2363 : (Jvm.Cond.instanceMethod ({ cls := "TrophyPlatesModel", name := "textLength", desc := "(I)I" } : Jvm.MethodName)) ∈ lw_all := lw_g (lw_at lw_m10 173 rfl) rfl
theorem q2364 : (Jvm.Cond.code ({ cls := "TrophyPlatesModel", name := "textLength", desc := "(I)I" } : Jvm.MethodName) prog_10_method_14_code (4 : Nat) (Option.some Jvm.ClassFile.FieldType.int)) ∈ lw_all := lw_g (lw_at lw_m10 174 rfl) rfl
theorem q2366 : (Jvm.Cond.instanceMethod ({ cls := "TrophyPlatesModel", name := "plateFound", desc := "(III)I" } : Jvm.MethodName)) ∈ lw_all := lw_g (lw_at lw_m10 176 rfl) rfl
theorem q2367 : (Jvm.Cond.selects "TrophyPlatesModel" ({ cls := "TrophyPlatesModel", name := "plateFound", desc := "(III)I" } : Jvm.MethodName) ({ cls := "TrophyPlatesModel", name := "plateFound", desc := "(III)I" } : Jvm.MethodName)) ∈ lw_all := lw_g (lw_at lw_m10 177 rfl) rfl
theorem q2368 : (Jvm.Cond.code ({ cls := "TrophyPlatesModel", name := "plateFound", desc := "(III)I" } : Jvm.MethodName) prog_10_method_57_code (4 : Nat) (Option.some Jvm.ClassFile.FieldType.int)) ∈ lw_all := lw_g (lw_at lw_m10 178 rfl) rfl
theorem q2370 : (Jvm.Cond.instanceMethod ({ cls := "TrophyPlatesModel", name := "doneIn", desc := "(I)I" } : Jvm.MethodName)) ∈ lw_all := lw_g (lw_at lw_m10 180 rfl) rfl
theorem q2371 : (Jvm.Cond.selects "TrophyPlatesModel" ({ cls := "TrophyPlatesModel", name := "doneIn", desc := "(I)I" } : Jvm.MethodName) ({ cls := "TrophyPlatesModel", name := "doneIn", desc := "(I)I" } : Jvm.MethodName)) ∈ lw_all := lw_g (lw_at lw_m10 181 rfl) rfl
theorem q2372 : (Jvm.Cond.code ({ cls := "TrophyPlatesModel", name := "doneIn", desc := "(I)I" } : Jvm.MethodName) prog_10_method_60_code (2 : Nat) (Option.some Jvm.ClassFile.FieldType.int)) ∈ lw_all := lw_g (lw_at lw_m10 182 rfl) rfl
theorem q2373 : (Jvm.Cond.methodLink "TrophyPlatesModel" (169 : Nat) ({ cls := "TrophyPlatesModel", name := "tryNow", desc := "()V" } : Jvm.MethodName)) ∈ lw_all := lw_g (lw_at lw_m10 183 rfl) rfl
theorem q2374 : (Jvm.Cond.privateMethod ({ cls := "TrophyPlatesModel", name := "tryNow", desc := "()V" } : Jvm.MethodName)) ∈ lw_tbl := lw_at lw_m10 184 rfl
theorem q2375 : (Jvm.Cond.instanceMethod ({ cls := "TrophyPlatesModel", name := "tryNow", desc := "()V" } : Jvm.MethodName)) ∈ lw_all := lw_g (lw_at lw_m10 185 rfl) rfl
theorem q2376 : (Jvm.Cond.code ({ cls := "TrophyPlatesModel", name := "tryNow", desc := "()V" } : Jvm.MethodName) prog_10_method_58_code (2 : Nat) (Option.none : Option Jvm.ClassFile.FieldType)) ∈ lw_all := lw_g (lw_at lw_m10 186 rfl) rfl
theorem q2377 : (Jvm.Cond.methodLink "TrophyPlatesModel" (172 : Nat) ({ cls := "TrophyPlatesModel", name := "workOn", desc := "([I)V" } : Jvm.MethodName)) ∈ lw_all := lw_g (lw_at lw_m10 187 rfl) rfl
theorem q2378 : (Jvm.Cond.privateMethod ({ cls := "TrophyPlatesModel", name := "workOn", desc := "([I)V" } : Jvm.MethodName)) ∈ lw_tbl := lw_at lw_m10 188 rfl
theorem q2379 : (Jvm.Cond.instanceMethod ({ cls := "TrophyPlatesModel", name := "workOn", desc := "([I)V" } : Jvm.MethodName)) ∈ lw_all := lw_g (lw_at lw_m10 189 rfl) rfl
theorem q2380 : (Jvm.Cond.code ({ cls := "TrophyPlatesModel", name := "workOn", desc := "([I)V" } : Jvm.MethodName) prog_10_method_59_code (3 : Nat) (Option.none : Option Jvm.ClassFile.FieldType)) ∈ lw_all := lw_g (lw_at lw_m10 190 rfl) rfl
theorem q2382 : (Jvm.Cond.instanceMethod ({ cls := "TrophyPlatesModel", name := "moved", desc := "(I)I" } : Jvm.MethodName)) ∈ lw_all := lw_g (lw_at lw_m10 192 rfl) rfl
theorem q2383 : (Jvm.Cond.selects "TrophyPlatesModel" ({ cls := "TrophyPlatesModel", name := "moved", desc := "(I)I" } : Jvm.MethodName) ({ cls := "TrophyPlatesModel", name := "moved", desc := "(I)I" } : Jvm.MethodName)) ∈ lw_all := lw_g (lw_at lw_m10 193 rfl) rfl
theorem q2384 : (Jvm.Cond.code ({ cls := "TrophyPlatesModel", name := "moved", desc := "(I)I" } : Jvm.MethodName) prog_10_method_61_code (6 : Nat) (Option.some Jvm.ClassFile.FieldType.int)) ∈ lw_all := lw_g (lw_at lw_m10 194 rfl) rfl
theorem q2385 : (Jvm.Cond.constant "TrophyPlatesModel" (175 : Nat) (100000 : Int32)) ∈ lw_all := lw_g (lw_at lw_m10 195 rfl) rfl
theorem q2387 : (Jvm.Cond.instanceMethod ({ cls := "TrophyPlatesModel", name := "largestSize", desc := "(I)I" } : Jvm.MethodName)) ∈ lw_all := lw_g (lw_at lw_m10 197 rfl) rfl
theorem q2388 : (Jvm.Cond.selects "TrophyPlatesModel" ({ cls := "TrophyPlatesModel", name := "largestSize", desc := "(I)I" } : Jvm.MethodName) ({ cls := "TrophyPlatesModel", name := "largestSize", desc := "(I)I" } : Jvm.MethodName)) ∈ lw_all := lw_g (lw_at lw_m10 198 rfl) rfl
theorem q2389 : (Jvm.Cond.code ({ cls := "TrophyPlatesModel", name := "largestSize", desc := "(I)I" } : Jvm.MethodName) prog_10_method_62_code (3 : Nat) (Option.some Jvm.ClassFile.FieldType.int)) ∈ lw_all := lw_g (lw_at lw_m10 199 rfl) rfl
theorem q2417 : (Jvm.Cond.castable "TrophyPlatesModel" "java/lang/Object") ∈ lw_tbl := lw_at lw_m10 227 rfl
theorem in_X3 : ∀ w ∈ wsX30, w ∈ lw_all := lw_in wsX30 [2144, 2146, 2148, 2150, 2152, 2154, 2156, 2158, 2160, 2162, 2164, 2166, 2168] (by decide +kernel) (by decide +kernel)
/-! the law's own entry -/
set_option maxRecDepth 100000
abbrev cL_law : ByteArray := code
def dkwL_law_31 : List UInt8 := [159, 0, 5, 3, 172, 132, 3, 6, 167, 252, 233, 4, 172]
abbrev dktL_law_31 : List UInt8 := dkwL_law_31 ++ []
def dkwL_law_30 : List UInt8 := [159, 0, 28, 3, 172, 43, 42, 29, 4, 96, 46, 182, 0, 110, 44, 42, 29, 4, 96, 46, 182, 0, 113]
abbrev dktL_law_30 : List UInt8 := dkwL_law_30 ++ dktL_law_31
def dkwL_law_29 : List UInt8 := [159, 0, 51, 3, 172, 43, 42, 29, 4, 96, 46, 182, 0, 106, 44, 42, 29, 4, 96, 46, 182, 0, 109]
abbrev dktL_law_29 : List UInt8 := dkwL_law_29 ++ dktL_law_30
def dkwL_law_28 : List UInt8 := [159, 0, 74, 3, 172, 43, 42, 29, 4, 96, 46, 182, 0, 102, 44, 42, 29, 4, 96, 46, 182, 0, 105]
abbrev dktL_law_28 : List UInt8 := dkwL_law_28 ++ dktL_law_29
def dkwL_law_27 : List UInt8 := [182, 0, 97, 44, 42, 29, 4, 96, 46, 42, 29, 5, 96, 46, 42, 29, 6, 96, 46, 182, 0, 101]
abbrev dktL_law_27 : List UInt8 := dkwL_law_27 ++ dktL_law_28
def dkwL_law_26 : List UInt8 := [182, 0, 96, 159, 0, 117, 3, 172, 43, 42, 29, 4, 96, 46, 42, 29, 5, 96, 46, 42, 29, 6, 96, 46]
abbrev dktL_law_26 : List UInt8 := dkwL_law_26 ++ dktL_law_27
def dkwL_law_25 : List UInt8 := [182, 0, 92, 159, 0, 140, 3, 172, 43, 42, 29, 4, 96, 46, 182, 0, 93, 44, 42, 29, 4, 96, 46]
abbrev dktL_law_25 : List UInt8 := dkwL_law_25 ++ dktL_law_26
def dkwL_law_24 : List UInt8 := [29, 4, 96, 46, 42, 29, 5, 96, 46, 182, 0, 89, 44, 42, 29, 4, 96, 46, 42, 29, 5, 96, 46]
abbrev dktL_law_24 : List UInt8 := dkwL_law_24 ++ dktL_law_25
def dkwL_law_23 : List UInt8 := [182, 0, 85, 44, 42, 29, 4, 96, 46, 42, 29, 5, 96, 46, 182, 0, 88, 159, 0, 173, 3, 172, 43, 42]
abbrev dktL_law_23 : List UInt8 := dkwL_law_23 ++ dktL_law_24
def dkwL_law_22 : List UInt8 := [5, 96, 46, 182, 0, 84, 159, 0, 206, 3, 172, 43, 42, 29, 4, 96, 46, 42, 29, 5, 96, 46]
abbrev dktL_law_22 : List UInt8 := dkwL_law_22 ++ dktL_law_23
def dkwL_law_21 : List UInt8 := [3, 172, 43, 42, 29, 4, 96, 46, 42, 29, 5, 96, 46, 182, 0, 81, 44, 42, 29, 4, 96, 46, 42, 29]
abbrev dktL_law_21 : List UInt8 := dkwL_law_21 ++ dktL_law_22
def dkwL_law_20 : List UInt8 := [29, 5, 96, 46, 182, 0, 77, 44, 42, 29, 4, 96, 46, 42, 29, 5, 96, 46, 182, 0, 80, 159, 0, 239]
abbrev dktL_law_20 : List UInt8 := dkwL_law_20 ++ dktL_law_21
def dkwL_law_19 : List UInt8 := [29, 4, 96, 46, 42, 29, 5, 96, 46, 182, 0, 76, 159, 1, 16, 3, 172, 43, 42, 29, 4, 96, 46, 42]
abbrev dktL_law_19 : List UInt8 := dkwL_law_19 ++ dktL_law_20
def dkwL_law_18 : List UInt8 := [182, 0, 72, 159, 1, 49, 3, 172, 43, 42, 29, 4, 96, 46, 42, 29, 5, 96, 46, 182, 0, 73, 44, 42]
abbrev dktL_law_18 : List UInt8 := dkwL_law_18 ++ dktL_law_19
def dkwL_law_17 : List UInt8 := [182, 0, 68, 159, 1, 72, 3, 172, 43, 42, 29, 4, 96, 46, 182, 0, 69, 44, 42, 29, 4, 96, 46]
abbrev dktL_law_17 : List UInt8 := dkwL_law_17 ++ dktL_law_18
def dkwL_law_16 : List UInt8 := [159, 1, 98, 3, 172, 43, 182, 0, 61, 44, 182, 0, 64, 159, 1, 85, 3, 172, 43, 182, 0, 65, 44]
abbrev dktL_law_16 : List UInt8 := dkwL_law_16 ++ dktL_law_17
def dkwL_law_15 : List UInt8 := [159, 1, 121, 3, 172, 43, 42, 29, 4, 96, 46, 182, 0, 57, 44, 42, 29, 4, 96, 46, 182, 0, 60]
abbrev dktL_law_15 : List UInt8 := dkwL_law_15 ++ dktL_law_16
def dkwL_law_14 : List UInt8 := [159, 1, 144, 3, 172, 43, 42, 29, 4, 96, 46, 182, 0, 53, 44, 42, 29, 4, 96, 46, 182, 0, 56]
abbrev dktL_law_14 : List UInt8 := dkwL_law_14 ++ dktL_law_15
def dkwL_law_13 : List UInt8 := [159, 1, 167, 3, 172, 43, 42, 29, 4, 96, 46, 182, 0, 49, 44, 42, 29, 4, 96, 46, 182, 0, 52]
abbrev dktL_law_13 : List UInt8 := dkwL_law_13 ++ dktL_law_14
def dkwL_law_12 : List UInt8 := [46, 42, 29, 5, 96, 46, 42, 29, 6, 96, 46, 42, 29, 7, 96, 46, 42, 29, 8, 96, 46, 182, 0, 48]
abbrev dktL_law_12 : List UInt8 := dkwL_law_12 ++ dktL_law_13
def dkwL_law_11 : List UInt8 := [46, 42, 29, 6, 96, 46, 42, 29, 7, 96, 46, 42, 29, 8, 96, 46, 182, 0, 44, 44, 42, 29, 4, 96]
abbrev dktL_law_11 : List UInt8 := dkwL_law_11 ++ dktL_law_12
def dkwL_law_10 : List UInt8 := [172, 43, 182, 0, 39, 44, 182, 0, 43, 159, 1, 230, 3, 172, 43, 42, 29, 4, 96, 46, 42, 29, 5, 96]
abbrev dktL_law_10 : List UInt8 := dkwL_law_10 ++ dktL_law_11
def dkwL_law_9 : List UInt8 := [3, 172, 43, 42, 29, 4, 96, 46, 182, 0, 35, 44, 42, 29, 4, 96, 46, 182, 0, 38, 159, 1, 243, 3]
abbrev dktL_law_9 : List UInt8 := dkwL_law_9 ++ dktL_law_10
def dkwL_law_8 : List UInt8 := [29, 5, 96, 46, 182, 0, 31, 44, 42, 29, 4, 96, 46, 42, 29, 5, 96, 46, 182, 0, 34, 159, 2, 10]
abbrev dktL_law_8 : List UInt8 := dkwL_law_8 ++ dktL_law_9
def dkwL_law_7 : List UInt8 := [182, 0, 27, 44, 42, 29, 4, 96, 46, 182, 0, 30, 159, 2, 43, 3, 172, 43, 42, 29, 4, 96, 46, 42]
abbrev dktL_law_7 : List UInt8 := dkwL_law_7 ++ dktL_law_8
def dkwL_law_6 : List UInt8 := [29, 4, 96, 46, 42, 29, 5, 96, 46, 182, 0, 26, 159, 2, 66, 3, 172, 43, 42, 29, 4, 96, 46]
abbrev dktL_law_6 : List UInt8 := dkwL_law_6 ++ dktL_law_7
def dkwL_law_5 : List UInt8 := [182, 0, 22, 159, 2, 99, 3, 172, 43, 42, 29, 4, 96, 46, 42, 29, 5, 96, 46, 182, 0, 23, 44, 42]
abbrev dktL_law_5 : List UInt8 := dkwL_law_5 ++ dktL_law_6
def dkwL_law_4 : List UInt8 := [46, 182, 0, 17, 159, 2, 122, 3, 172, 43, 42, 29, 4, 96, 46, 182, 0, 18, 44, 42, 29, 4, 96, 46]
abbrev dktL_law_4 : List UInt8 := dkwL_law_4 ++ dktL_law_5
def dkwL_law_3 : List UInt8 := [43, 42, 29, 4, 96, 46, 42, 29, 5, 96, 46, 182, 0, 13, 44, 42, 29, 4, 96, 46, 42, 29, 5, 96]
abbrev dktL_law_3 : List UInt8 := dkwL_law_3 ++ dktL_law_4
def dkwL_law_2 : List UInt8 := [170, 0, 0, 0, 0, 3, 5, 0, 0, 0, 0, 0, 0, 0, 23, 0, 0, 0, 111, 0, 0, 0, 144, 0, 0, 0, 167, 0, 0, 0, 200, 0, 0, 0, 223, 0, 0, 1, 0, 0, 0, 1, 23, 0, 0, 1, 36, 0, 0, 1, 99, 0, 0, 1, 122, 0, 0, 1, 145, 0, 0, 1, 168, 0, 0, 1, 181, 0, 0, 1, 194, 0, 0, 1, 217, 0, 0, 1, 250, 0, 0, 2, 27, 0, 0, 2, 60, 0, 0, 2, 93, 0, 0, 2, 126, 0, 0, 2, 149, 0, 0, 2, 192, 0, 0, 2, 215, 0, 0, 2, 238]
abbrev dktL_law_2 : List UInt8 := dkwL_law_2 ++ dktL_law_3
def dkwL_law_1 : List UInt8 := [163, 3, 20, 42, 29, 46, 16, 31, 126]
abbrev dktL_law_1 : List UInt8 := dkwL_law_1 ++ dktL_law_2
def dkwL_law_0 : List UInt8 := [187, 0, 7, 89, 183, 0, 9, 76, 187, 0, 10, 89, 183, 0, 12, 77, 3, 62, 29, 42, 190, 16, 6, 100]
abbrev dktL_law_0 : List UInt8 := dkwL_law_0 ++ dktL_law_1
theorem dksL_law_0 : cL_law.data.toList.drop 0 = dktL_law_0 := by decide +kernel
theorem dksL_law_1 : cL_law.data.toList.drop 24 = dktL_law_1 := dk_seg dksL_law_0 24 rfl rfl
theorem dksL_law_2 : cL_law.data.toList.drop 33 = dktL_law_2 := dk_seg dksL_law_1 9 rfl rfl
theorem dksL_law_3 : cL_law.data.toList.drop 144 = dktL_law_3 := dk_seg dksL_law_2 111 rfl rfl
theorem dksL_law_4 : cL_law.data.toList.drop 168 = dktL_law_4 := dk_seg dksL_law_3 24 rfl rfl
theorem dksL_law_5 : cL_law.data.toList.drop 192 = dktL_law_5 := dk_seg dksL_law_4 24 rfl rfl
theorem dksL_law_6 : cL_law.data.toList.drop 216 = dktL_law_6 := dk_seg dksL_law_5 24 rfl rfl
theorem dksL_law_7 : cL_law.data.toList.drop 239 = dktL_law_7 := dk_seg dksL_law_6 23 rfl rfl
theorem dksL_law_8 : cL_law.data.toList.drop 263 = dktL_law_8 := dk_seg dksL_law_7 24 rfl rfl
theorem dksL_law_9 : cL_law.data.toList.drop 287 = dktL_law_9 := dk_seg dksL_law_8 24 rfl rfl
theorem dksL_law_10 : cL_law.data.toList.drop 311 = dktL_law_10 := dk_seg dksL_law_9 24 rfl rfl
theorem dksL_law_11 : cL_law.data.toList.drop 335 = dktL_law_11 := dk_seg dksL_law_10 24 rfl rfl
theorem dksL_law_12 : cL_law.data.toList.drop 359 = dktL_law_12 := dk_seg dksL_law_11 24 rfl rfl
theorem dksL_law_13 : cL_law.data.toList.drop 383 = dktL_law_13 := dk_seg dksL_law_12 24 rfl rfl
theorem dksL_law_14 : cL_law.data.toList.drop 406 = dktL_law_14 := dk_seg dksL_law_13 23 rfl rfl
theorem dksL_law_15 : cL_law.data.toList.drop 429 = dktL_law_15 := dk_seg dksL_law_14 23 rfl rfl
theorem dksL_law_16 : cL_law.data.toList.drop 452 = dktL_law_16 := dk_seg dksL_law_15 23 rfl rfl
theorem dksL_law_17 : cL_law.data.toList.drop 475 = dktL_law_17 := dk_seg dksL_law_16 23 rfl rfl
theorem dksL_law_18 : cL_law.data.toList.drop 498 = dktL_law_18 := dk_seg dksL_law_17 23 rfl rfl
theorem dksL_law_19 : cL_law.data.toList.drop 522 = dktL_law_19 := dk_seg dksL_law_18 24 rfl rfl
theorem dksL_law_20 : cL_law.data.toList.drop 546 = dktL_law_20 := dk_seg dksL_law_19 24 rfl rfl
theorem dksL_law_21 : cL_law.data.toList.drop 570 = dktL_law_21 := dk_seg dksL_law_20 24 rfl rfl
theorem dksL_law_22 : cL_law.data.toList.drop 594 = dktL_law_22 := dk_seg dksL_law_21 24 rfl rfl
theorem dksL_law_23 : cL_law.data.toList.drop 616 = dktL_law_23 := dk_seg dksL_law_22 22 rfl rfl
theorem dksL_law_24 : cL_law.data.toList.drop 640 = dktL_law_24 := dk_seg dksL_law_23 24 rfl rfl
theorem dksL_law_25 : cL_law.data.toList.drop 663 = dktL_law_25 := dk_seg dksL_law_24 23 rfl rfl
theorem dksL_law_26 : cL_law.data.toList.drop 686 = dktL_law_26 := dk_seg dksL_law_25 23 rfl rfl
theorem dksL_law_27 : cL_law.data.toList.drop 710 = dktL_law_27 := dk_seg dksL_law_26 24 rfl rfl
theorem dksL_law_28 : cL_law.data.toList.drop 732 = dktL_law_28 := dk_seg dksL_law_27 22 rfl rfl
theorem dksL_law_29 : cL_law.data.toList.drop 755 = dktL_law_29 := dk_seg dksL_law_28 23 rfl rfl
theorem dksL_law_30 : cL_law.data.toList.drop 778 = dktL_law_30 := dk_seg dksL_law_29 23 rfl rfl
theorem dksL_law_31 : cL_law.data.toList.drop 801 = dktL_law_31 := dk_seg dksL_law_30 23 rfl rfl
theorem dL_law_0 : decode cL_law 0 = .ok (.new 7, 3) := dk_187 0 7 (dk_at dksL_law_0 0 rfl rfl)
theorem dL_law_3 : decode cL_law 3 = .ok (.dup, 1) := dk_89 (dk_at dksL_law_0 3 rfl rfl)
theorem dL_law_4 : decode cL_law 4 = .ok (.invokespecial 9, 3) := dk_183 0 9 (dk_at dksL_law_0 4 rfl rfl)
theorem dL_law_7 : decode cL_law 7 = .ok (.astore_n 1, 1) := dk_76 (dk_at dksL_law_0 7 rfl rfl)
theorem dL_law_8 : decode cL_law 8 = .ok (.new 10, 3) := dk_187 0 10 (dk_at dksL_law_0 8 rfl rfl)
theorem dL_law_11 : decode cL_law 11 = .ok (.dup, 1) := dk_89 (dk_at dksL_law_0 11 rfl rfl)
theorem dL_law_12 : decode cL_law 12 = .ok (.invokespecial 12, 3) := dk_183 0 12 (dk_at dksL_law_0 12 rfl rfl)
theorem dL_law_15 : decode cL_law 15 = .ok (.astore_n 2, 1) := dk_77 (dk_at dksL_law_0 15 rfl rfl)
theorem dL_law_16 : decode cL_law 16 = .ok (.iconst 0, 1) := dk_3 (dk_at dksL_law_0 16 rfl rfl)
theorem dL_law_17 : decode cL_law 17 = .ok (.istore_n 3, 1) := dk_62 (dk_at dksL_law_0 17 rfl rfl)
theorem dL_law_18 : decode cL_law 18 = .ok (.iload_n 3, 1) := dk_29 (dk_at dksL_law_0 18 rfl rfl)
theorem dL_law_19 : decode cL_law 19 = .ok (.aload_n 0, 1) := dk_42 (dk_at dksL_law_0 19 rfl rfl)
theorem dL_law_20 : decode cL_law 20 = .ok (.arraylength, 1) := dk_190 (dk_at dksL_law_0 20 rfl rfl)
theorem dL_law_21 : decode cL_law 21 = .ok (.bipush 6, 2) := dk_16 6 (dk_at dksL_law_0 21 rfl rfl)
theorem dL_law_23 : decode cL_law 23 = .ok (.isub, 1) := dk_100 (dk_at dksL_law_0 23 rfl rfl)
theorem dL_law_24 : decode cL_law 24 = .ok (.if_icmp .gt 788, 3) := dk_163 3 20 (dk_at dksL_law_1 0 rfl rfl)
theorem dL_law_27 : decode cL_law 27 = .ok (.aload_n 0, 1) := dk_42 (dk_at dksL_law_1 3 rfl rfl)
theorem dL_law_28 : decode cL_law 28 = .ok (.iload_n 3, 1) := dk_29 (dk_at dksL_law_1 4 rfl rfl)
theorem dL_law_29 : decode cL_law 29 = .ok (.iaload, 1) := dk_46 (dk_at dksL_law_1 5 rfl rfl)
theorem dL_law_30 : decode cL_law 30 = .ok (.bipush 31, 2) := dk_16 31 (dk_at dksL_law_1 6 rfl rfl)
theorem dL_law_32 : decode cL_law 32 = .ok (.iand, 1) := dk_126 (dk_at dksL_law_1 8 rfl rfl)
theorem dL_law_33 : decode cL_law 33 = .ok (.tableswitch 773 0 23 #[111, 144, 167, 200, 223, 256, 279, 292, 355, 378, 401, 424, 437, 450, 473, 506, 539, 572, 605, 638, 661, 704, 727, 750], 111) := by decide +kernel
theorem dL_law_144 : decode cL_law 144 = .ok (.aload_n 1, 1) := dk_43 (dk_at dksL_law_3 0 rfl rfl)
theorem dL_law_145 : decode cL_law 145 = .ok (.aload_n 0, 1) := dk_42 (dk_at dksL_law_3 1 rfl rfl)
theorem dL_law_146 : decode cL_law 146 = .ok (.iload_n 3, 1) := dk_29 (dk_at dksL_law_3 2 rfl rfl)
theorem dL_law_147 : decode cL_law 147 = .ok (.iconst 1, 1) := dk_4 (dk_at dksL_law_3 3 rfl rfl)
theorem dL_law_148 : decode cL_law 148 = .ok (.iadd, 1) := dk_96 (dk_at dksL_law_3 4 rfl rfl)
theorem dL_law_149 : decode cL_law 149 = .ok (.iaload, 1) := dk_46 (dk_at dksL_law_3 5 rfl rfl)
theorem dL_law_150 : decode cL_law 150 = .ok (.aload_n 0, 1) := dk_42 (dk_at dksL_law_3 6 rfl rfl)
theorem dL_law_151 : decode cL_law 151 = .ok (.iload_n 3, 1) := dk_29 (dk_at dksL_law_3 7 rfl rfl)
theorem dL_law_152 : decode cL_law 152 = .ok (.iconst 2, 1) := dk_5 (dk_at dksL_law_3 8 rfl rfl)
theorem dL_law_153 : decode cL_law 153 = .ok (.iadd, 1) := dk_96 (dk_at dksL_law_3 9 rfl rfl)
theorem dL_law_154 : decode cL_law 154 = .ok (.iaload, 1) := dk_46 (dk_at dksL_law_3 10 rfl rfl)
theorem dL_law_155 : decode cL_law 155 = .ok (.invokevirtual 13, 3) := dk_182 0 13 (dk_at dksL_law_3 11 rfl rfl)
theorem dL_law_158 : decode cL_law 158 = .ok (.aload_n 2, 1) := dk_44 (dk_at dksL_law_3 14 rfl rfl)
theorem dL_law_159 : decode cL_law 159 = .ok (.aload_n 0, 1) := dk_42 (dk_at dksL_law_3 15 rfl rfl)
theorem dL_law_160 : decode cL_law 160 = .ok (.iload_n 3, 1) := dk_29 (dk_at dksL_law_3 16 rfl rfl)
theorem dL_law_161 : decode cL_law 161 = .ok (.iconst 1, 1) := dk_4 (dk_at dksL_law_3 17 rfl rfl)
theorem dL_law_162 : decode cL_law 162 = .ok (.iadd, 1) := dk_96 (dk_at dksL_law_3 18 rfl rfl)
theorem dL_law_163 : decode cL_law 163 = .ok (.iaload, 1) := dk_46 (dk_at dksL_law_3 19 rfl rfl)
theorem dL_law_164 : decode cL_law 164 = .ok (.aload_n 0, 1) := dk_42 (dk_at dksL_law_3 20 rfl rfl)
theorem dL_law_165 : decode cL_law 165 = .ok (.iload_n 3, 1) := dk_29 (dk_at dksL_law_3 21 rfl rfl)
theorem dL_law_166 : decode cL_law 166 = .ok (.iconst 2, 1) := dk_5 (dk_at dksL_law_3 22 rfl rfl)
theorem dL_law_167 : decode cL_law 167 = .ok (.iadd, 1) := dk_96 (dk_at dksL_law_3 23 rfl rfl)
theorem dL_law_168 : decode cL_law 168 = .ok (.iaload, 1) := dk_46 (dk_at dksL_law_4 0 rfl rfl)
theorem dL_law_169 : decode cL_law 169 = .ok (.invokevirtual 17, 3) := dk_182 0 17 (dk_at dksL_law_4 1 rfl rfl)
theorem dL_law_172 : decode cL_law 172 = .ok (.if_icmp .eq 634, 3) := dk_159 2 122 (dk_at dksL_law_4 4 rfl rfl)
theorem dL_law_175 : decode cL_law 175 = .ok (.iconst 0, 1) := dk_3 (dk_at dksL_law_4 7 rfl rfl)
theorem dL_law_176 : decode cL_law 176 = .ok (.ireturn, 1) := dk_172 (dk_at dksL_law_4 8 rfl rfl)
theorem dL_law_177 : decode cL_law 177 = .ok (.aload_n 1, 1) := dk_43 (dk_at dksL_law_4 9 rfl rfl)
theorem dL_law_178 : decode cL_law 178 = .ok (.aload_n 0, 1) := dk_42 (dk_at dksL_law_4 10 rfl rfl)
theorem dL_law_179 : decode cL_law 179 = .ok (.iload_n 3, 1) := dk_29 (dk_at dksL_law_4 11 rfl rfl)
theorem dL_law_180 : decode cL_law 180 = .ok (.iconst 1, 1) := dk_4 (dk_at dksL_law_4 12 rfl rfl)
theorem dL_law_181 : decode cL_law 181 = .ok (.iadd, 1) := dk_96 (dk_at dksL_law_4 13 rfl rfl)
theorem dL_law_182 : decode cL_law 182 = .ok (.iaload, 1) := dk_46 (dk_at dksL_law_4 14 rfl rfl)
theorem dL_law_183 : decode cL_law 183 = .ok (.invokevirtual 18, 3) := dk_182 0 18 (dk_at dksL_law_4 15 rfl rfl)
theorem dL_law_186 : decode cL_law 186 = .ok (.aload_n 2, 1) := dk_44 (dk_at dksL_law_4 18 rfl rfl)
theorem dL_law_187 : decode cL_law 187 = .ok (.aload_n 0, 1) := dk_42 (dk_at dksL_law_4 19 rfl rfl)
theorem dL_law_188 : decode cL_law 188 = .ok (.iload_n 3, 1) := dk_29 (dk_at dksL_law_4 20 rfl rfl)
theorem dL_law_189 : decode cL_law 189 = .ok (.iconst 1, 1) := dk_4 (dk_at dksL_law_4 21 rfl rfl)
theorem dL_law_190 : decode cL_law 190 = .ok (.iadd, 1) := dk_96 (dk_at dksL_law_4 22 rfl rfl)
theorem dL_law_191 : decode cL_law 191 = .ok (.iaload, 1) := dk_46 (dk_at dksL_law_4 23 rfl rfl)
theorem dL_law_192 : decode cL_law 192 = .ok (.invokevirtual 22, 3) := dk_182 0 22 (dk_at dksL_law_5 0 rfl rfl)
theorem dL_law_195 : decode cL_law 195 = .ok (.if_icmp .eq 611, 3) := dk_159 2 99 (dk_at dksL_law_5 3 rfl rfl)
theorem dL_law_198 : decode cL_law 198 = .ok (.iconst 0, 1) := dk_3 (dk_at dksL_law_5 6 rfl rfl)
theorem dL_law_199 : decode cL_law 199 = .ok (.ireturn, 1) := dk_172 (dk_at dksL_law_5 7 rfl rfl)
theorem dL_law_200 : decode cL_law 200 = .ok (.aload_n 1, 1) := dk_43 (dk_at dksL_law_5 8 rfl rfl)
theorem dL_law_201 : decode cL_law 201 = .ok (.aload_n 0, 1) := dk_42 (dk_at dksL_law_5 9 rfl rfl)
theorem dL_law_202 : decode cL_law 202 = .ok (.iload_n 3, 1) := dk_29 (dk_at dksL_law_5 10 rfl rfl)
theorem dL_law_203 : decode cL_law 203 = .ok (.iconst 1, 1) := dk_4 (dk_at dksL_law_5 11 rfl rfl)
theorem dL_law_204 : decode cL_law 204 = .ok (.iadd, 1) := dk_96 (dk_at dksL_law_5 12 rfl rfl)
theorem dL_law_205 : decode cL_law 205 = .ok (.iaload, 1) := dk_46 (dk_at dksL_law_5 13 rfl rfl)
theorem dL_law_206 : decode cL_law 206 = .ok (.aload_n 0, 1) := dk_42 (dk_at dksL_law_5 14 rfl rfl)
theorem dL_law_207 : decode cL_law 207 = .ok (.iload_n 3, 1) := dk_29 (dk_at dksL_law_5 15 rfl rfl)
theorem dL_law_208 : decode cL_law 208 = .ok (.iconst 2, 1) := dk_5 (dk_at dksL_law_5 16 rfl rfl)
theorem dL_law_209 : decode cL_law 209 = .ok (.iadd, 1) := dk_96 (dk_at dksL_law_5 17 rfl rfl)
theorem dL_law_210 : decode cL_law 210 = .ok (.iaload, 1) := dk_46 (dk_at dksL_law_5 18 rfl rfl)
theorem dL_law_211 : decode cL_law 211 = .ok (.invokevirtual 23, 3) := dk_182 0 23 (dk_at dksL_law_5 19 rfl rfl)
theorem dL_law_214 : decode cL_law 214 = .ok (.aload_n 2, 1) := dk_44 (dk_at dksL_law_5 22 rfl rfl)
theorem dL_law_215 : decode cL_law 215 = .ok (.aload_n 0, 1) := dk_42 (dk_at dksL_law_5 23 rfl rfl)
theorem dL_law_216 : decode cL_law 216 = .ok (.iload_n 3, 1) := dk_29 (dk_at dksL_law_6 0 rfl rfl)
theorem dL_law_217 : decode cL_law 217 = .ok (.iconst 1, 1) := dk_4 (dk_at dksL_law_6 1 rfl rfl)
theorem dL_law_218 : decode cL_law 218 = .ok (.iadd, 1) := dk_96 (dk_at dksL_law_6 2 rfl rfl)
theorem dL_law_219 : decode cL_law 219 = .ok (.iaload, 1) := dk_46 (dk_at dksL_law_6 3 rfl rfl)
theorem dL_law_220 : decode cL_law 220 = .ok (.aload_n 0, 1) := dk_42 (dk_at dksL_law_6 4 rfl rfl)
theorem dL_law_221 : decode cL_law 221 = .ok (.iload_n 3, 1) := dk_29 (dk_at dksL_law_6 5 rfl rfl)
theorem dL_law_222 : decode cL_law 222 = .ok (.iconst 2, 1) := dk_5 (dk_at dksL_law_6 6 rfl rfl)
theorem dL_law_223 : decode cL_law 223 = .ok (.iadd, 1) := dk_96 (dk_at dksL_law_6 7 rfl rfl)
theorem dL_law_224 : decode cL_law 224 = .ok (.iaload, 1) := dk_46 (dk_at dksL_law_6 8 rfl rfl)
theorem dL_law_225 : decode cL_law 225 = .ok (.invokevirtual 26, 3) := dk_182 0 26 (dk_at dksL_law_6 9 rfl rfl)
theorem dL_law_228 : decode cL_law 228 = .ok (.if_icmp .eq 578, 3) := dk_159 2 66 (dk_at dksL_law_6 12 rfl rfl)
theorem dL_law_231 : decode cL_law 231 = .ok (.iconst 0, 1) := dk_3 (dk_at dksL_law_6 15 rfl rfl)
theorem dL_law_232 : decode cL_law 232 = .ok (.ireturn, 1) := dk_172 (dk_at dksL_law_6 16 rfl rfl)
theorem dL_law_233 : decode cL_law 233 = .ok (.aload_n 1, 1) := dk_43 (dk_at dksL_law_6 17 rfl rfl)
theorem dL_law_234 : decode cL_law 234 = .ok (.aload_n 0, 1) := dk_42 (dk_at dksL_law_6 18 rfl rfl)
theorem dL_law_235 : decode cL_law 235 = .ok (.iload_n 3, 1) := dk_29 (dk_at dksL_law_6 19 rfl rfl)
theorem dL_law_236 : decode cL_law 236 = .ok (.iconst 1, 1) := dk_4 (dk_at dksL_law_6 20 rfl rfl)
theorem dL_law_237 : decode cL_law 237 = .ok (.iadd, 1) := dk_96 (dk_at dksL_law_6 21 rfl rfl)
theorem dL_law_238 : decode cL_law 238 = .ok (.iaload, 1) := dk_46 (dk_at dksL_law_6 22 rfl rfl)
theorem dL_law_239 : decode cL_law 239 = .ok (.invokevirtual 27, 3) := dk_182 0 27 (dk_at dksL_law_7 0 rfl rfl)
theorem dL_law_242 : decode cL_law 242 = .ok (.aload_n 2, 1) := dk_44 (dk_at dksL_law_7 3 rfl rfl)
theorem dL_law_243 : decode cL_law 243 = .ok (.aload_n 0, 1) := dk_42 (dk_at dksL_law_7 4 rfl rfl)
theorem dL_law_244 : decode cL_law 244 = .ok (.iload_n 3, 1) := dk_29 (dk_at dksL_law_7 5 rfl rfl)
theorem dL_law_245 : decode cL_law 245 = .ok (.iconst 1, 1) := dk_4 (dk_at dksL_law_7 6 rfl rfl)
theorem dL_law_246 : decode cL_law 246 = .ok (.iadd, 1) := dk_96 (dk_at dksL_law_7 7 rfl rfl)
theorem dL_law_247 : decode cL_law 247 = .ok (.iaload, 1) := dk_46 (dk_at dksL_law_7 8 rfl rfl)
theorem dL_law_248 : decode cL_law 248 = .ok (.invokevirtual 30, 3) := dk_182 0 30 (dk_at dksL_law_7 9 rfl rfl)
theorem dL_law_251 : decode cL_law 251 = .ok (.if_icmp .eq 555, 3) := dk_159 2 43 (dk_at dksL_law_7 12 rfl rfl)
theorem dL_law_254 : decode cL_law 254 = .ok (.iconst 0, 1) := dk_3 (dk_at dksL_law_7 15 rfl rfl)
theorem dL_law_255 : decode cL_law 255 = .ok (.ireturn, 1) := dk_172 (dk_at dksL_law_7 16 rfl rfl)
theorem dL_law_256 : decode cL_law 256 = .ok (.aload_n 1, 1) := dk_43 (dk_at dksL_law_7 17 rfl rfl)
theorem dL_law_257 : decode cL_law 257 = .ok (.aload_n 0, 1) := dk_42 (dk_at dksL_law_7 18 rfl rfl)
theorem dL_law_258 : decode cL_law 258 = .ok (.iload_n 3, 1) := dk_29 (dk_at dksL_law_7 19 rfl rfl)
theorem dL_law_259 : decode cL_law 259 = .ok (.iconst 1, 1) := dk_4 (dk_at dksL_law_7 20 rfl rfl)
theorem dL_law_260 : decode cL_law 260 = .ok (.iadd, 1) := dk_96 (dk_at dksL_law_7 21 rfl rfl)
theorem dL_law_261 : decode cL_law 261 = .ok (.iaload, 1) := dk_46 (dk_at dksL_law_7 22 rfl rfl)
theorem dL_law_262 : decode cL_law 262 = .ok (.aload_n 0, 1) := dk_42 (dk_at dksL_law_7 23 rfl rfl)
theorem dL_law_263 : decode cL_law 263 = .ok (.iload_n 3, 1) := dk_29 (dk_at dksL_law_8 0 rfl rfl)
theorem dL_law_264 : decode cL_law 264 = .ok (.iconst 2, 1) := dk_5 (dk_at dksL_law_8 1 rfl rfl)
theorem dL_law_265 : decode cL_law 265 = .ok (.iadd, 1) := dk_96 (dk_at dksL_law_8 2 rfl rfl)
theorem dL_law_266 : decode cL_law 266 = .ok (.iaload, 1) := dk_46 (dk_at dksL_law_8 3 rfl rfl)
theorem dL_law_267 : decode cL_law 267 = .ok (.invokevirtual 31, 3) := dk_182 0 31 (dk_at dksL_law_8 4 rfl rfl)
theorem dL_law_270 : decode cL_law 270 = .ok (.aload_n 2, 1) := dk_44 (dk_at dksL_law_8 7 rfl rfl)
theorem dL_law_271 : decode cL_law 271 = .ok (.aload_n 0, 1) := dk_42 (dk_at dksL_law_8 8 rfl rfl)
theorem dL_law_272 : decode cL_law 272 = .ok (.iload_n 3, 1) := dk_29 (dk_at dksL_law_8 9 rfl rfl)
theorem dL_law_273 : decode cL_law 273 = .ok (.iconst 1, 1) := dk_4 (dk_at dksL_law_8 10 rfl rfl)
theorem dL_law_274 : decode cL_law 274 = .ok (.iadd, 1) := dk_96 (dk_at dksL_law_8 11 rfl rfl)
theorem dL_law_275 : decode cL_law 275 = .ok (.iaload, 1) := dk_46 (dk_at dksL_law_8 12 rfl rfl)
theorem dL_law_276 : decode cL_law 276 = .ok (.aload_n 0, 1) := dk_42 (dk_at dksL_law_8 13 rfl rfl)
theorem dL_law_277 : decode cL_law 277 = .ok (.iload_n 3, 1) := dk_29 (dk_at dksL_law_8 14 rfl rfl)
theorem dL_law_278 : decode cL_law 278 = .ok (.iconst 2, 1) := dk_5 (dk_at dksL_law_8 15 rfl rfl)
theorem dL_law_279 : decode cL_law 279 = .ok (.iadd, 1) := dk_96 (dk_at dksL_law_8 16 rfl rfl)
theorem dL_law_280 : decode cL_law 280 = .ok (.iaload, 1) := dk_46 (dk_at dksL_law_8 17 rfl rfl)
theorem dL_law_281 : decode cL_law 281 = .ok (.invokevirtual 34, 3) := dk_182 0 34 (dk_at dksL_law_8 18 rfl rfl)
theorem dL_law_284 : decode cL_law 284 = .ok (.if_icmp .eq 522, 3) := dk_159 2 10 (dk_at dksL_law_8 21 rfl rfl)
theorem dL_law_287 : decode cL_law 287 = .ok (.iconst 0, 1) := dk_3 (dk_at dksL_law_9 0 rfl rfl)
theorem dL_law_288 : decode cL_law 288 = .ok (.ireturn, 1) := dk_172 (dk_at dksL_law_9 1 rfl rfl)
theorem dL_law_289 : decode cL_law 289 = .ok (.aload_n 1, 1) := dk_43 (dk_at dksL_law_9 2 rfl rfl)
theorem dL_law_290 : decode cL_law 290 = .ok (.aload_n 0, 1) := dk_42 (dk_at dksL_law_9 3 rfl rfl)
theorem dL_law_291 : decode cL_law 291 = .ok (.iload_n 3, 1) := dk_29 (dk_at dksL_law_9 4 rfl rfl)
theorem dL_law_292 : decode cL_law 292 = .ok (.iconst 1, 1) := dk_4 (dk_at dksL_law_9 5 rfl rfl)
theorem dL_law_293 : decode cL_law 293 = .ok (.iadd, 1) := dk_96 (dk_at dksL_law_9 6 rfl rfl)
theorem dL_law_294 : decode cL_law 294 = .ok (.iaload, 1) := dk_46 (dk_at dksL_law_9 7 rfl rfl)
theorem dL_law_295 : decode cL_law 295 = .ok (.invokevirtual 35, 3) := dk_182 0 35 (dk_at dksL_law_9 8 rfl rfl)
theorem dL_law_298 : decode cL_law 298 = .ok (.aload_n 2, 1) := dk_44 (dk_at dksL_law_9 11 rfl rfl)
theorem dL_law_299 : decode cL_law 299 = .ok (.aload_n 0, 1) := dk_42 (dk_at dksL_law_9 12 rfl rfl)
theorem dL_law_300 : decode cL_law 300 = .ok (.iload_n 3, 1) := dk_29 (dk_at dksL_law_9 13 rfl rfl)
theorem dL_law_301 : decode cL_law 301 = .ok (.iconst 1, 1) := dk_4 (dk_at dksL_law_9 14 rfl rfl)
theorem dL_law_302 : decode cL_law 302 = .ok (.iadd, 1) := dk_96 (dk_at dksL_law_9 15 rfl rfl)
theorem dL_law_303 : decode cL_law 303 = .ok (.iaload, 1) := dk_46 (dk_at dksL_law_9 16 rfl rfl)
theorem dL_law_304 : decode cL_law 304 = .ok (.invokevirtual 38, 3) := dk_182 0 38 (dk_at dksL_law_9 17 rfl rfl)
theorem dL_law_307 : decode cL_law 307 = .ok (.if_icmp .eq 499, 3) := dk_159 1 243 (dk_at dksL_law_9 20 rfl rfl)
theorem dL_law_310 : decode cL_law 310 = .ok (.iconst 0, 1) := dk_3 (dk_at dksL_law_9 23 rfl rfl)
theorem dL_law_311 : decode cL_law 311 = .ok (.ireturn, 1) := dk_172 (dk_at dksL_law_10 0 rfl rfl)
theorem dL_law_312 : decode cL_law 312 = .ok (.aload_n 1, 1) := dk_43 (dk_at dksL_law_10 1 rfl rfl)
theorem dL_law_313 : decode cL_law 313 = .ok (.invokevirtual 39, 3) := dk_182 0 39 (dk_at dksL_law_10 2 rfl rfl)
theorem dL_law_316 : decode cL_law 316 = .ok (.aload_n 2, 1) := dk_44 (dk_at dksL_law_10 5 rfl rfl)
theorem dL_law_317 : decode cL_law 317 = .ok (.invokevirtual 43, 3) := dk_182 0 43 (dk_at dksL_law_10 6 rfl rfl)
theorem dL_law_320 : decode cL_law 320 = .ok (.if_icmp .eq 486, 3) := dk_159 1 230 (dk_at dksL_law_10 9 rfl rfl)
theorem dL_law_323 : decode cL_law 323 = .ok (.iconst 0, 1) := dk_3 (dk_at dksL_law_10 12 rfl rfl)
theorem dL_law_324 : decode cL_law 324 = .ok (.ireturn, 1) := dk_172 (dk_at dksL_law_10 13 rfl rfl)
theorem dL_law_325 : decode cL_law 325 = .ok (.aload_n 1, 1) := dk_43 (dk_at dksL_law_10 14 rfl rfl)
theorem dL_law_326 : decode cL_law 326 = .ok (.aload_n 0, 1) := dk_42 (dk_at dksL_law_10 15 rfl rfl)
theorem dL_law_327 : decode cL_law 327 = .ok (.iload_n 3, 1) := dk_29 (dk_at dksL_law_10 16 rfl rfl)
theorem dL_law_328 : decode cL_law 328 = .ok (.iconst 1, 1) := dk_4 (dk_at dksL_law_10 17 rfl rfl)
theorem dL_law_329 : decode cL_law 329 = .ok (.iadd, 1) := dk_96 (dk_at dksL_law_10 18 rfl rfl)
theorem dL_law_330 : decode cL_law 330 = .ok (.iaload, 1) := dk_46 (dk_at dksL_law_10 19 rfl rfl)
theorem dL_law_331 : decode cL_law 331 = .ok (.aload_n 0, 1) := dk_42 (dk_at dksL_law_10 20 rfl rfl)
theorem dL_law_332 : decode cL_law 332 = .ok (.iload_n 3, 1) := dk_29 (dk_at dksL_law_10 21 rfl rfl)
theorem dL_law_333 : decode cL_law 333 = .ok (.iconst 2, 1) := dk_5 (dk_at dksL_law_10 22 rfl rfl)
theorem dL_law_334 : decode cL_law 334 = .ok (.iadd, 1) := dk_96 (dk_at dksL_law_10 23 rfl rfl)
theorem dL_law_335 : decode cL_law 335 = .ok (.iaload, 1) := dk_46 (dk_at dksL_law_11 0 rfl rfl)
theorem dL_law_336 : decode cL_law 336 = .ok (.aload_n 0, 1) := dk_42 (dk_at dksL_law_11 1 rfl rfl)
theorem dL_law_337 : decode cL_law 337 = .ok (.iload_n 3, 1) := dk_29 (dk_at dksL_law_11 2 rfl rfl)
theorem dL_law_338 : decode cL_law 338 = .ok (.iconst 3, 1) := dk_6 (dk_at dksL_law_11 3 rfl rfl)
theorem dL_law_339 : decode cL_law 339 = .ok (.iadd, 1) := dk_96 (dk_at dksL_law_11 4 rfl rfl)
theorem dL_law_340 : decode cL_law 340 = .ok (.iaload, 1) := dk_46 (dk_at dksL_law_11 5 rfl rfl)
theorem dL_law_341 : decode cL_law 341 = .ok (.aload_n 0, 1) := dk_42 (dk_at dksL_law_11 6 rfl rfl)
theorem dL_law_342 : decode cL_law 342 = .ok (.iload_n 3, 1) := dk_29 (dk_at dksL_law_11 7 rfl rfl)
theorem dL_law_343 : decode cL_law 343 = .ok (.iconst 4, 1) := dk_7 (dk_at dksL_law_11 8 rfl rfl)
theorem dL_law_344 : decode cL_law 344 = .ok (.iadd, 1) := dk_96 (dk_at dksL_law_11 9 rfl rfl)
theorem dL_law_345 : decode cL_law 345 = .ok (.iaload, 1) := dk_46 (dk_at dksL_law_11 10 rfl rfl)
theorem dL_law_346 : decode cL_law 346 = .ok (.aload_n 0, 1) := dk_42 (dk_at dksL_law_11 11 rfl rfl)
theorem dL_law_347 : decode cL_law 347 = .ok (.iload_n 3, 1) := dk_29 (dk_at dksL_law_11 12 rfl rfl)
theorem dL_law_348 : decode cL_law 348 = .ok (.iconst 5, 1) := dk_8 (dk_at dksL_law_11 13 rfl rfl)
theorem dL_law_349 : decode cL_law 349 = .ok (.iadd, 1) := dk_96 (dk_at dksL_law_11 14 rfl rfl)
theorem dL_law_350 : decode cL_law 350 = .ok (.iaload, 1) := dk_46 (dk_at dksL_law_11 15 rfl rfl)
theorem dL_law_351 : decode cL_law 351 = .ok (.invokevirtual 44, 3) := dk_182 0 44 (dk_at dksL_law_11 16 rfl rfl)
theorem dL_law_354 : decode cL_law 354 = .ok (.aload_n 2, 1) := dk_44 (dk_at dksL_law_11 19 rfl rfl)
theorem dL_law_355 : decode cL_law 355 = .ok (.aload_n 0, 1) := dk_42 (dk_at dksL_law_11 20 rfl rfl)
theorem dL_law_356 : decode cL_law 356 = .ok (.iload_n 3, 1) := dk_29 (dk_at dksL_law_11 21 rfl rfl)
theorem dL_law_357 : decode cL_law 357 = .ok (.iconst 1, 1) := dk_4 (dk_at dksL_law_11 22 rfl rfl)
theorem dL_law_358 : decode cL_law 358 = .ok (.iadd, 1) := dk_96 (dk_at dksL_law_11 23 rfl rfl)
theorem dL_law_359 : decode cL_law 359 = .ok (.iaload, 1) := dk_46 (dk_at dksL_law_12 0 rfl rfl)
theorem dL_law_360 : decode cL_law 360 = .ok (.aload_n 0, 1) := dk_42 (dk_at dksL_law_12 1 rfl rfl)
theorem dL_law_361 : decode cL_law 361 = .ok (.iload_n 3, 1) := dk_29 (dk_at dksL_law_12 2 rfl rfl)
theorem dL_law_362 : decode cL_law 362 = .ok (.iconst 2, 1) := dk_5 (dk_at dksL_law_12 3 rfl rfl)
theorem dL_law_363 : decode cL_law 363 = .ok (.iadd, 1) := dk_96 (dk_at dksL_law_12 4 rfl rfl)
theorem dL_law_364 : decode cL_law 364 = .ok (.iaload, 1) := dk_46 (dk_at dksL_law_12 5 rfl rfl)
theorem dL_law_365 : decode cL_law 365 = .ok (.aload_n 0, 1) := dk_42 (dk_at dksL_law_12 6 rfl rfl)
theorem dL_law_366 : decode cL_law 366 = .ok (.iload_n 3, 1) := dk_29 (dk_at dksL_law_12 7 rfl rfl)
theorem dL_law_367 : decode cL_law 367 = .ok (.iconst 3, 1) := dk_6 (dk_at dksL_law_12 8 rfl rfl)
theorem dL_law_368 : decode cL_law 368 = .ok (.iadd, 1) := dk_96 (dk_at dksL_law_12 9 rfl rfl)
theorem dL_law_369 : decode cL_law 369 = .ok (.iaload, 1) := dk_46 (dk_at dksL_law_12 10 rfl rfl)
theorem dL_law_370 : decode cL_law 370 = .ok (.aload_n 0, 1) := dk_42 (dk_at dksL_law_12 11 rfl rfl)
theorem dL_law_371 : decode cL_law 371 = .ok (.iload_n 3, 1) := dk_29 (dk_at dksL_law_12 12 rfl rfl)
theorem dL_law_372 : decode cL_law 372 = .ok (.iconst 4, 1) := dk_7 (dk_at dksL_law_12 13 rfl rfl)
theorem dL_law_373 : decode cL_law 373 = .ok (.iadd, 1) := dk_96 (dk_at dksL_law_12 14 rfl rfl)
theorem dL_law_374 : decode cL_law 374 = .ok (.iaload, 1) := dk_46 (dk_at dksL_law_12 15 rfl rfl)
theorem dL_law_375 : decode cL_law 375 = .ok (.aload_n 0, 1) := dk_42 (dk_at dksL_law_12 16 rfl rfl)
theorem dL_law_376 : decode cL_law 376 = .ok (.iload_n 3, 1) := dk_29 (dk_at dksL_law_12 17 rfl rfl)
theorem dL_law_377 : decode cL_law 377 = .ok (.iconst 5, 1) := dk_8 (dk_at dksL_law_12 18 rfl rfl)
theorem dL_law_378 : decode cL_law 378 = .ok (.iadd, 1) := dk_96 (dk_at dksL_law_12 19 rfl rfl)
theorem dL_law_379 : decode cL_law 379 = .ok (.iaload, 1) := dk_46 (dk_at dksL_law_12 20 rfl rfl)
theorem dL_law_380 : decode cL_law 380 = .ok (.invokevirtual 48, 3) := dk_182 0 48 (dk_at dksL_law_12 21 rfl rfl)
theorem dL_law_383 : decode cL_law 383 = .ok (.if_icmp .eq 423, 3) := dk_159 1 167 (dk_at dksL_law_13 0 rfl rfl)
theorem dL_law_386 : decode cL_law 386 = .ok (.iconst 0, 1) := dk_3 (dk_at dksL_law_13 3 rfl rfl)
theorem dL_law_387 : decode cL_law 387 = .ok (.ireturn, 1) := dk_172 (dk_at dksL_law_13 4 rfl rfl)
theorem dL_law_388 : decode cL_law 388 = .ok (.aload_n 1, 1) := dk_43 (dk_at dksL_law_13 5 rfl rfl)
theorem dL_law_389 : decode cL_law 389 = .ok (.aload_n 0, 1) := dk_42 (dk_at dksL_law_13 6 rfl rfl)
theorem dL_law_390 : decode cL_law 390 = .ok (.iload_n 3, 1) := dk_29 (dk_at dksL_law_13 7 rfl rfl)
theorem dL_law_391 : decode cL_law 391 = .ok (.iconst 1, 1) := dk_4 (dk_at dksL_law_13 8 rfl rfl)
theorem dL_law_392 : decode cL_law 392 = .ok (.iadd, 1) := dk_96 (dk_at dksL_law_13 9 rfl rfl)
theorem dL_law_393 : decode cL_law 393 = .ok (.iaload, 1) := dk_46 (dk_at dksL_law_13 10 rfl rfl)
theorem dL_law_394 : decode cL_law 394 = .ok (.invokevirtual 49, 3) := dk_182 0 49 (dk_at dksL_law_13 11 rfl rfl)
theorem dL_law_397 : decode cL_law 397 = .ok (.aload_n 2, 1) := dk_44 (dk_at dksL_law_13 14 rfl rfl)
theorem dL_law_398 : decode cL_law 398 = .ok (.aload_n 0, 1) := dk_42 (dk_at dksL_law_13 15 rfl rfl)
theorem dL_law_399 : decode cL_law 399 = .ok (.iload_n 3, 1) := dk_29 (dk_at dksL_law_13 16 rfl rfl)
theorem dL_law_400 : decode cL_law 400 = .ok (.iconst 1, 1) := dk_4 (dk_at dksL_law_13 17 rfl rfl)
theorem dL_law_401 : decode cL_law 401 = .ok (.iadd, 1) := dk_96 (dk_at dksL_law_13 18 rfl rfl)
theorem dL_law_402 : decode cL_law 402 = .ok (.iaload, 1) := dk_46 (dk_at dksL_law_13 19 rfl rfl)
theorem dL_law_403 : decode cL_law 403 = .ok (.invokevirtual 52, 3) := dk_182 0 52 (dk_at dksL_law_13 20 rfl rfl)
theorem dL_law_406 : decode cL_law 406 = .ok (.if_icmp .eq 400, 3) := dk_159 1 144 (dk_at dksL_law_14 0 rfl rfl)
theorem dL_law_409 : decode cL_law 409 = .ok (.iconst 0, 1) := dk_3 (dk_at dksL_law_14 3 rfl rfl)
theorem dL_law_410 : decode cL_law 410 = .ok (.ireturn, 1) := dk_172 (dk_at dksL_law_14 4 rfl rfl)
theorem dL_law_411 : decode cL_law 411 = .ok (.aload_n 1, 1) := dk_43 (dk_at dksL_law_14 5 rfl rfl)
theorem dL_law_412 : decode cL_law 412 = .ok (.aload_n 0, 1) := dk_42 (dk_at dksL_law_14 6 rfl rfl)
theorem dL_law_413 : decode cL_law 413 = .ok (.iload_n 3, 1) := dk_29 (dk_at dksL_law_14 7 rfl rfl)
theorem dL_law_414 : decode cL_law 414 = .ok (.iconst 1, 1) := dk_4 (dk_at dksL_law_14 8 rfl rfl)
theorem dL_law_415 : decode cL_law 415 = .ok (.iadd, 1) := dk_96 (dk_at dksL_law_14 9 rfl rfl)
theorem dL_law_416 : decode cL_law 416 = .ok (.iaload, 1) := dk_46 (dk_at dksL_law_14 10 rfl rfl)
theorem dL_law_417 : decode cL_law 417 = .ok (.invokevirtual 53, 3) := dk_182 0 53 (dk_at dksL_law_14 11 rfl rfl)
theorem dL_law_420 : decode cL_law 420 = .ok (.aload_n 2, 1) := dk_44 (dk_at dksL_law_14 14 rfl rfl)
theorem dL_law_421 : decode cL_law 421 = .ok (.aload_n 0, 1) := dk_42 (dk_at dksL_law_14 15 rfl rfl)
theorem dL_law_422 : decode cL_law 422 = .ok (.iload_n 3, 1) := dk_29 (dk_at dksL_law_14 16 rfl rfl)
theorem dL_law_423 : decode cL_law 423 = .ok (.iconst 1, 1) := dk_4 (dk_at dksL_law_14 17 rfl rfl)
theorem dL_law_424 : decode cL_law 424 = .ok (.iadd, 1) := dk_96 (dk_at dksL_law_14 18 rfl rfl)
theorem dL_law_425 : decode cL_law 425 = .ok (.iaload, 1) := dk_46 (dk_at dksL_law_14 19 rfl rfl)
theorem dL_law_426 : decode cL_law 426 = .ok (.invokevirtual 56, 3) := dk_182 0 56 (dk_at dksL_law_14 20 rfl rfl)
theorem dL_law_429 : decode cL_law 429 = .ok (.if_icmp .eq 377, 3) := dk_159 1 121 (dk_at dksL_law_15 0 rfl rfl)
theorem dL_law_432 : decode cL_law 432 = .ok (.iconst 0, 1) := dk_3 (dk_at dksL_law_15 3 rfl rfl)
theorem dL_law_433 : decode cL_law 433 = .ok (.ireturn, 1) := dk_172 (dk_at dksL_law_15 4 rfl rfl)
theorem dL_law_434 : decode cL_law 434 = .ok (.aload_n 1, 1) := dk_43 (dk_at dksL_law_15 5 rfl rfl)
theorem dL_law_435 : decode cL_law 435 = .ok (.aload_n 0, 1) := dk_42 (dk_at dksL_law_15 6 rfl rfl)
theorem dL_law_436 : decode cL_law 436 = .ok (.iload_n 3, 1) := dk_29 (dk_at dksL_law_15 7 rfl rfl)
theorem dL_law_437 : decode cL_law 437 = .ok (.iconst 1, 1) := dk_4 (dk_at dksL_law_15 8 rfl rfl)
theorem dL_law_438 : decode cL_law 438 = .ok (.iadd, 1) := dk_96 (dk_at dksL_law_15 9 rfl rfl)
theorem dL_law_439 : decode cL_law 439 = .ok (.iaload, 1) := dk_46 (dk_at dksL_law_15 10 rfl rfl)
theorem dL_law_440 : decode cL_law 440 = .ok (.invokevirtual 57, 3) := dk_182 0 57 (dk_at dksL_law_15 11 rfl rfl)
theorem dL_law_443 : decode cL_law 443 = .ok (.aload_n 2, 1) := dk_44 (dk_at dksL_law_15 14 rfl rfl)
theorem dL_law_444 : decode cL_law 444 = .ok (.aload_n 0, 1) := dk_42 (dk_at dksL_law_15 15 rfl rfl)
theorem dL_law_445 : decode cL_law 445 = .ok (.iload_n 3, 1) := dk_29 (dk_at dksL_law_15 16 rfl rfl)
theorem dL_law_446 : decode cL_law 446 = .ok (.iconst 1, 1) := dk_4 (dk_at dksL_law_15 17 rfl rfl)
theorem dL_law_447 : decode cL_law 447 = .ok (.iadd, 1) := dk_96 (dk_at dksL_law_15 18 rfl rfl)
theorem dL_law_448 : decode cL_law 448 = .ok (.iaload, 1) := dk_46 (dk_at dksL_law_15 19 rfl rfl)
theorem dL_law_449 : decode cL_law 449 = .ok (.invokevirtual 60, 3) := dk_182 0 60 (dk_at dksL_law_15 20 rfl rfl)
theorem dL_law_452 : decode cL_law 452 = .ok (.if_icmp .eq 354, 3) := dk_159 1 98 (dk_at dksL_law_16 0 rfl rfl)
theorem dL_law_455 : decode cL_law 455 = .ok (.iconst 0, 1) := dk_3 (dk_at dksL_law_16 3 rfl rfl)
theorem dL_law_456 : decode cL_law 456 = .ok (.ireturn, 1) := dk_172 (dk_at dksL_law_16 4 rfl rfl)
theorem dL_law_457 : decode cL_law 457 = .ok (.aload_n 1, 1) := dk_43 (dk_at dksL_law_16 5 rfl rfl)
theorem dL_law_458 : decode cL_law 458 = .ok (.invokevirtual 61, 3) := dk_182 0 61 (dk_at dksL_law_16 6 rfl rfl)
theorem dL_law_461 : decode cL_law 461 = .ok (.aload_n 2, 1) := dk_44 (dk_at dksL_law_16 9 rfl rfl)
theorem dL_law_462 : decode cL_law 462 = .ok (.invokevirtual 64, 3) := dk_182 0 64 (dk_at dksL_law_16 10 rfl rfl)
theorem dL_law_465 : decode cL_law 465 = .ok (.if_icmp .eq 341, 3) := dk_159 1 85 (dk_at dksL_law_16 13 rfl rfl)
theorem dL_law_468 : decode cL_law 468 = .ok (.iconst 0, 1) := dk_3 (dk_at dksL_law_16 16 rfl rfl)
theorem dL_law_469 : decode cL_law 469 = .ok (.ireturn, 1) := dk_172 (dk_at dksL_law_16 17 rfl rfl)
theorem dL_law_470 : decode cL_law 470 = .ok (.aload_n 1, 1) := dk_43 (dk_at dksL_law_16 18 rfl rfl)
theorem dL_law_471 : decode cL_law 471 = .ok (.invokevirtual 65, 3) := dk_182 0 65 (dk_at dksL_law_16 19 rfl rfl)
theorem dL_law_474 : decode cL_law 474 = .ok (.aload_n 2, 1) := dk_44 (dk_at dksL_law_16 22 rfl rfl)
theorem dL_law_475 : decode cL_law 475 = .ok (.invokevirtual 68, 3) := dk_182 0 68 (dk_at dksL_law_17 0 rfl rfl)
theorem dL_law_478 : decode cL_law 478 = .ok (.if_icmp .eq 328, 3) := dk_159 1 72 (dk_at dksL_law_17 3 rfl rfl)
theorem dL_law_481 : decode cL_law 481 = .ok (.iconst 0, 1) := dk_3 (dk_at dksL_law_17 6 rfl rfl)
theorem dL_law_482 : decode cL_law 482 = .ok (.ireturn, 1) := dk_172 (dk_at dksL_law_17 7 rfl rfl)
theorem dL_law_483 : decode cL_law 483 = .ok (.aload_n 1, 1) := dk_43 (dk_at dksL_law_17 8 rfl rfl)
theorem dL_law_484 : decode cL_law 484 = .ok (.aload_n 0, 1) := dk_42 (dk_at dksL_law_17 9 rfl rfl)
theorem dL_law_485 : decode cL_law 485 = .ok (.iload_n 3, 1) := dk_29 (dk_at dksL_law_17 10 rfl rfl)
theorem dL_law_486 : decode cL_law 486 = .ok (.iconst 1, 1) := dk_4 (dk_at dksL_law_17 11 rfl rfl)
theorem dL_law_487 : decode cL_law 487 = .ok (.iadd, 1) := dk_96 (dk_at dksL_law_17 12 rfl rfl)
theorem dL_law_488 : decode cL_law 488 = .ok (.iaload, 1) := dk_46 (dk_at dksL_law_17 13 rfl rfl)
theorem dL_law_489 : decode cL_law 489 = .ok (.invokevirtual 69, 3) := dk_182 0 69 (dk_at dksL_law_17 14 rfl rfl)
theorem dL_law_492 : decode cL_law 492 = .ok (.aload_n 2, 1) := dk_44 (dk_at dksL_law_17 17 rfl rfl)
theorem dL_law_493 : decode cL_law 493 = .ok (.aload_n 0, 1) := dk_42 (dk_at dksL_law_17 18 rfl rfl)
theorem dL_law_494 : decode cL_law 494 = .ok (.iload_n 3, 1) := dk_29 (dk_at dksL_law_17 19 rfl rfl)
theorem dL_law_495 : decode cL_law 495 = .ok (.iconst 1, 1) := dk_4 (dk_at dksL_law_17 20 rfl rfl)
theorem dL_law_496 : decode cL_law 496 = .ok (.iadd, 1) := dk_96 (dk_at dksL_law_17 21 rfl rfl)
theorem dL_law_497 : decode cL_law 497 = .ok (.iaload, 1) := dk_46 (dk_at dksL_law_17 22 rfl rfl)
theorem dL_law_498 : decode cL_law 498 = .ok (.invokevirtual 72, 3) := dk_182 0 72 (dk_at dksL_law_18 0 rfl rfl)
theorem dL_law_501 : decode cL_law 501 = .ok (.if_icmp .eq 305, 3) := dk_159 1 49 (dk_at dksL_law_18 3 rfl rfl)
theorem dL_law_504 : decode cL_law 504 = .ok (.iconst 0, 1) := dk_3 (dk_at dksL_law_18 6 rfl rfl)
theorem dL_law_505 : decode cL_law 505 = .ok (.ireturn, 1) := dk_172 (dk_at dksL_law_18 7 rfl rfl)
theorem dL_law_506 : decode cL_law 506 = .ok (.aload_n 1, 1) := dk_43 (dk_at dksL_law_18 8 rfl rfl)
theorem dL_law_507 : decode cL_law 507 = .ok (.aload_n 0, 1) := dk_42 (dk_at dksL_law_18 9 rfl rfl)
theorem dL_law_508 : decode cL_law 508 = .ok (.iload_n 3, 1) := dk_29 (dk_at dksL_law_18 10 rfl rfl)
theorem dL_law_509 : decode cL_law 509 = .ok (.iconst 1, 1) := dk_4 (dk_at dksL_law_18 11 rfl rfl)
theorem dL_law_510 : decode cL_law 510 = .ok (.iadd, 1) := dk_96 (dk_at dksL_law_18 12 rfl rfl)
theorem dL_law_511 : decode cL_law 511 = .ok (.iaload, 1) := dk_46 (dk_at dksL_law_18 13 rfl rfl)
theorem dL_law_512 : decode cL_law 512 = .ok (.aload_n 0, 1) := dk_42 (dk_at dksL_law_18 14 rfl rfl)
theorem dL_law_513 : decode cL_law 513 = .ok (.iload_n 3, 1) := dk_29 (dk_at dksL_law_18 15 rfl rfl)
theorem dL_law_514 : decode cL_law 514 = .ok (.iconst 2, 1) := dk_5 (dk_at dksL_law_18 16 rfl rfl)
theorem dL_law_515 : decode cL_law 515 = .ok (.iadd, 1) := dk_96 (dk_at dksL_law_18 17 rfl rfl)
theorem dL_law_516 : decode cL_law 516 = .ok (.iaload, 1) := dk_46 (dk_at dksL_law_18 18 rfl rfl)
theorem dL_law_517 : decode cL_law 517 = .ok (.invokevirtual 73, 3) := dk_182 0 73 (dk_at dksL_law_18 19 rfl rfl)
theorem dL_law_520 : decode cL_law 520 = .ok (.aload_n 2, 1) := dk_44 (dk_at dksL_law_18 22 rfl rfl)
theorem dL_law_521 : decode cL_law 521 = .ok (.aload_n 0, 1) := dk_42 (dk_at dksL_law_18 23 rfl rfl)
theorem dL_law_522 : decode cL_law 522 = .ok (.iload_n 3, 1) := dk_29 (dk_at dksL_law_19 0 rfl rfl)
theorem dL_law_523 : decode cL_law 523 = .ok (.iconst 1, 1) := dk_4 (dk_at dksL_law_19 1 rfl rfl)
theorem dL_law_524 : decode cL_law 524 = .ok (.iadd, 1) := dk_96 (dk_at dksL_law_19 2 rfl rfl)
theorem dL_law_525 : decode cL_law 525 = .ok (.iaload, 1) := dk_46 (dk_at dksL_law_19 3 rfl rfl)
theorem dL_law_526 : decode cL_law 526 = .ok (.aload_n 0, 1) := dk_42 (dk_at dksL_law_19 4 rfl rfl)
theorem dL_law_527 : decode cL_law 527 = .ok (.iload_n 3, 1) := dk_29 (dk_at dksL_law_19 5 rfl rfl)
theorem dL_law_528 : decode cL_law 528 = .ok (.iconst 2, 1) := dk_5 (dk_at dksL_law_19 6 rfl rfl)
theorem dL_law_529 : decode cL_law 529 = .ok (.iadd, 1) := dk_96 (dk_at dksL_law_19 7 rfl rfl)
theorem dL_law_530 : decode cL_law 530 = .ok (.iaload, 1) := dk_46 (dk_at dksL_law_19 8 rfl rfl)
theorem dL_law_531 : decode cL_law 531 = .ok (.invokevirtual 76, 3) := dk_182 0 76 (dk_at dksL_law_19 9 rfl rfl)
theorem dL_law_534 : decode cL_law 534 = .ok (.if_icmp .eq 272, 3) := dk_159 1 16 (dk_at dksL_law_19 12 rfl rfl)
theorem dL_law_537 : decode cL_law 537 = .ok (.iconst 0, 1) := dk_3 (dk_at dksL_law_19 15 rfl rfl)
theorem dL_law_538 : decode cL_law 538 = .ok (.ireturn, 1) := dk_172 (dk_at dksL_law_19 16 rfl rfl)
theorem dL_law_539 : decode cL_law 539 = .ok (.aload_n 1, 1) := dk_43 (dk_at dksL_law_19 17 rfl rfl)
theorem dL_law_540 : decode cL_law 540 = .ok (.aload_n 0, 1) := dk_42 (dk_at dksL_law_19 18 rfl rfl)
theorem dL_law_541 : decode cL_law 541 = .ok (.iload_n 3, 1) := dk_29 (dk_at dksL_law_19 19 rfl rfl)
theorem dL_law_542 : decode cL_law 542 = .ok (.iconst 1, 1) := dk_4 (dk_at dksL_law_19 20 rfl rfl)
theorem dL_law_543 : decode cL_law 543 = .ok (.iadd, 1) := dk_96 (dk_at dksL_law_19 21 rfl rfl)
theorem dL_law_544 : decode cL_law 544 = .ok (.iaload, 1) := dk_46 (dk_at dksL_law_19 22 rfl rfl)
theorem dL_law_545 : decode cL_law 545 = .ok (.aload_n 0, 1) := dk_42 (dk_at dksL_law_19 23 rfl rfl)
theorem dL_law_546 : decode cL_law 546 = .ok (.iload_n 3, 1) := dk_29 (dk_at dksL_law_20 0 rfl rfl)
theorem dL_law_547 : decode cL_law 547 = .ok (.iconst 2, 1) := dk_5 (dk_at dksL_law_20 1 rfl rfl)
theorem dL_law_548 : decode cL_law 548 = .ok (.iadd, 1) := dk_96 (dk_at dksL_law_20 2 rfl rfl)
theorem dL_law_549 : decode cL_law 549 = .ok (.iaload, 1) := dk_46 (dk_at dksL_law_20 3 rfl rfl)
theorem dL_law_550 : decode cL_law 550 = .ok (.invokevirtual 77, 3) := dk_182 0 77 (dk_at dksL_law_20 4 rfl rfl)
theorem dL_law_553 : decode cL_law 553 = .ok (.aload_n 2, 1) := dk_44 (dk_at dksL_law_20 7 rfl rfl)
theorem dL_law_554 : decode cL_law 554 = .ok (.aload_n 0, 1) := dk_42 (dk_at dksL_law_20 8 rfl rfl)
theorem dL_law_555 : decode cL_law 555 = .ok (.iload_n 3, 1) := dk_29 (dk_at dksL_law_20 9 rfl rfl)
theorem dL_law_556 : decode cL_law 556 = .ok (.iconst 1, 1) := dk_4 (dk_at dksL_law_20 10 rfl rfl)
theorem dL_law_557 : decode cL_law 557 = .ok (.iadd, 1) := dk_96 (dk_at dksL_law_20 11 rfl rfl)
theorem dL_law_558 : decode cL_law 558 = .ok (.iaload, 1) := dk_46 (dk_at dksL_law_20 12 rfl rfl)
theorem dL_law_559 : decode cL_law 559 = .ok (.aload_n 0, 1) := dk_42 (dk_at dksL_law_20 13 rfl rfl)
theorem dL_law_560 : decode cL_law 560 = .ok (.iload_n 3, 1) := dk_29 (dk_at dksL_law_20 14 rfl rfl)
theorem dL_law_561 : decode cL_law 561 = .ok (.iconst 2, 1) := dk_5 (dk_at dksL_law_20 15 rfl rfl)
theorem dL_law_562 : decode cL_law 562 = .ok (.iadd, 1) := dk_96 (dk_at dksL_law_20 16 rfl rfl)
theorem dL_law_563 : decode cL_law 563 = .ok (.iaload, 1) := dk_46 (dk_at dksL_law_20 17 rfl rfl)
theorem dL_law_564 : decode cL_law 564 = .ok (.invokevirtual 80, 3) := dk_182 0 80 (dk_at dksL_law_20 18 rfl rfl)
theorem dL_law_567 : decode cL_law 567 = .ok (.if_icmp .eq 239, 3) := dk_159 0 239 (dk_at dksL_law_20 21 rfl rfl)
theorem dL_law_570 : decode cL_law 570 = .ok (.iconst 0, 1) := dk_3 (dk_at dksL_law_21 0 rfl rfl)
theorem dL_law_571 : decode cL_law 571 = .ok (.ireturn, 1) := dk_172 (dk_at dksL_law_21 1 rfl rfl)
theorem dL_law_572 : decode cL_law 572 = .ok (.aload_n 1, 1) := dk_43 (dk_at dksL_law_21 2 rfl rfl)
theorem dL_law_573 : decode cL_law 573 = .ok (.aload_n 0, 1) := dk_42 (dk_at dksL_law_21 3 rfl rfl)
theorem dL_law_574 : decode cL_law 574 = .ok (.iload_n 3, 1) := dk_29 (dk_at dksL_law_21 4 rfl rfl)
theorem dL_law_575 : decode cL_law 575 = .ok (.iconst 1, 1) := dk_4 (dk_at dksL_law_21 5 rfl rfl)
theorem dL_law_576 : decode cL_law 576 = .ok (.iadd, 1) := dk_96 (dk_at dksL_law_21 6 rfl rfl)
theorem dL_law_577 : decode cL_law 577 = .ok (.iaload, 1) := dk_46 (dk_at dksL_law_21 7 rfl rfl)
theorem dL_law_578 : decode cL_law 578 = .ok (.aload_n 0, 1) := dk_42 (dk_at dksL_law_21 8 rfl rfl)
theorem dL_law_579 : decode cL_law 579 = .ok (.iload_n 3, 1) := dk_29 (dk_at dksL_law_21 9 rfl rfl)
theorem dL_law_580 : decode cL_law 580 = .ok (.iconst 2, 1) := dk_5 (dk_at dksL_law_21 10 rfl rfl)
theorem dL_law_581 : decode cL_law 581 = .ok (.iadd, 1) := dk_96 (dk_at dksL_law_21 11 rfl rfl)
theorem dL_law_582 : decode cL_law 582 = .ok (.iaload, 1) := dk_46 (dk_at dksL_law_21 12 rfl rfl)
theorem dL_law_583 : decode cL_law 583 = .ok (.invokevirtual 81, 3) := dk_182 0 81 (dk_at dksL_law_21 13 rfl rfl)
theorem dL_law_586 : decode cL_law 586 = .ok (.aload_n 2, 1) := dk_44 (dk_at dksL_law_21 16 rfl rfl)
theorem dL_law_587 : decode cL_law 587 = .ok (.aload_n 0, 1) := dk_42 (dk_at dksL_law_21 17 rfl rfl)
theorem dL_law_588 : decode cL_law 588 = .ok (.iload_n 3, 1) := dk_29 (dk_at dksL_law_21 18 rfl rfl)
theorem dL_law_589 : decode cL_law 589 = .ok (.iconst 1, 1) := dk_4 (dk_at dksL_law_21 19 rfl rfl)
theorem dL_law_590 : decode cL_law 590 = .ok (.iadd, 1) := dk_96 (dk_at dksL_law_21 20 rfl rfl)
theorem dL_law_591 : decode cL_law 591 = .ok (.iaload, 1) := dk_46 (dk_at dksL_law_21 21 rfl rfl)
theorem dL_law_592 : decode cL_law 592 = .ok (.aload_n 0, 1) := dk_42 (dk_at dksL_law_21 22 rfl rfl)
theorem dL_law_593 : decode cL_law 593 = .ok (.iload_n 3, 1) := dk_29 (dk_at dksL_law_21 23 rfl rfl)
theorem dL_law_594 : decode cL_law 594 = .ok (.iconst 2, 1) := dk_5 (dk_at dksL_law_22 0 rfl rfl)
theorem dL_law_595 : decode cL_law 595 = .ok (.iadd, 1) := dk_96 (dk_at dksL_law_22 1 rfl rfl)
theorem dL_law_596 : decode cL_law 596 = .ok (.iaload, 1) := dk_46 (dk_at dksL_law_22 2 rfl rfl)
theorem dL_law_597 : decode cL_law 597 = .ok (.invokevirtual 84, 3) := dk_182 0 84 (dk_at dksL_law_22 3 rfl rfl)
theorem dL_law_600 : decode cL_law 600 = .ok (.if_icmp .eq 206, 3) := dk_159 0 206 (dk_at dksL_law_22 6 rfl rfl)
theorem dL_law_603 : decode cL_law 603 = .ok (.iconst 0, 1) := dk_3 (dk_at dksL_law_22 9 rfl rfl)
theorem dL_law_604 : decode cL_law 604 = .ok (.ireturn, 1) := dk_172 (dk_at dksL_law_22 10 rfl rfl)
theorem dL_law_605 : decode cL_law 605 = .ok (.aload_n 1, 1) := dk_43 (dk_at dksL_law_22 11 rfl rfl)
theorem dL_law_606 : decode cL_law 606 = .ok (.aload_n 0, 1) := dk_42 (dk_at dksL_law_22 12 rfl rfl)
theorem dL_law_607 : decode cL_law 607 = .ok (.iload_n 3, 1) := dk_29 (dk_at dksL_law_22 13 rfl rfl)
theorem dL_law_608 : decode cL_law 608 = .ok (.iconst 1, 1) := dk_4 (dk_at dksL_law_22 14 rfl rfl)
theorem dL_law_609 : decode cL_law 609 = .ok (.iadd, 1) := dk_96 (dk_at dksL_law_22 15 rfl rfl)
theorem dL_law_610 : decode cL_law 610 = .ok (.iaload, 1) := dk_46 (dk_at dksL_law_22 16 rfl rfl)
theorem dL_law_611 : decode cL_law 611 = .ok (.aload_n 0, 1) := dk_42 (dk_at dksL_law_22 17 rfl rfl)
theorem dL_law_612 : decode cL_law 612 = .ok (.iload_n 3, 1) := dk_29 (dk_at dksL_law_22 18 rfl rfl)
theorem dL_law_613 : decode cL_law 613 = .ok (.iconst 2, 1) := dk_5 (dk_at dksL_law_22 19 rfl rfl)
theorem dL_law_614 : decode cL_law 614 = .ok (.iadd, 1) := dk_96 (dk_at dksL_law_22 20 rfl rfl)
theorem dL_law_615 : decode cL_law 615 = .ok (.iaload, 1) := dk_46 (dk_at dksL_law_22 21 rfl rfl)
theorem dL_law_616 : decode cL_law 616 = .ok (.invokevirtual 85, 3) := dk_182 0 85 (dk_at dksL_law_23 0 rfl rfl)
theorem dL_law_619 : decode cL_law 619 = .ok (.aload_n 2, 1) := dk_44 (dk_at dksL_law_23 3 rfl rfl)
theorem dL_law_620 : decode cL_law 620 = .ok (.aload_n 0, 1) := dk_42 (dk_at dksL_law_23 4 rfl rfl)
theorem dL_law_621 : decode cL_law 621 = .ok (.iload_n 3, 1) := dk_29 (dk_at dksL_law_23 5 rfl rfl)
theorem dL_law_622 : decode cL_law 622 = .ok (.iconst 1, 1) := dk_4 (dk_at dksL_law_23 6 rfl rfl)
theorem dL_law_623 : decode cL_law 623 = .ok (.iadd, 1) := dk_96 (dk_at dksL_law_23 7 rfl rfl)
theorem dL_law_624 : decode cL_law 624 = .ok (.iaload, 1) := dk_46 (dk_at dksL_law_23 8 rfl rfl)
theorem dL_law_625 : decode cL_law 625 = .ok (.aload_n 0, 1) := dk_42 (dk_at dksL_law_23 9 rfl rfl)
theorem dL_law_626 : decode cL_law 626 = .ok (.iload_n 3, 1) := dk_29 (dk_at dksL_law_23 10 rfl rfl)
theorem dL_law_627 : decode cL_law 627 = .ok (.iconst 2, 1) := dk_5 (dk_at dksL_law_23 11 rfl rfl)
theorem dL_law_628 : decode cL_law 628 = .ok (.iadd, 1) := dk_96 (dk_at dksL_law_23 12 rfl rfl)
theorem dL_law_629 : decode cL_law 629 = .ok (.iaload, 1) := dk_46 (dk_at dksL_law_23 13 rfl rfl)
theorem dL_law_630 : decode cL_law 630 = .ok (.invokevirtual 88, 3) := dk_182 0 88 (dk_at dksL_law_23 14 rfl rfl)
theorem dL_law_633 : decode cL_law 633 = .ok (.if_icmp .eq 173, 3) := dk_159 0 173 (dk_at dksL_law_23 17 rfl rfl)
theorem dL_law_636 : decode cL_law 636 = .ok (.iconst 0, 1) := dk_3 (dk_at dksL_law_23 20 rfl rfl)
theorem dL_law_637 : decode cL_law 637 = .ok (.ireturn, 1) := dk_172 (dk_at dksL_law_23 21 rfl rfl)
theorem dL_law_638 : decode cL_law 638 = .ok (.aload_n 1, 1) := dk_43 (dk_at dksL_law_23 22 rfl rfl)
theorem dL_law_639 : decode cL_law 639 = .ok (.aload_n 0, 1) := dk_42 (dk_at dksL_law_23 23 rfl rfl)
theorem dL_law_640 : decode cL_law 640 = .ok (.iload_n 3, 1) := dk_29 (dk_at dksL_law_24 0 rfl rfl)
theorem dL_law_641 : decode cL_law 641 = .ok (.iconst 1, 1) := dk_4 (dk_at dksL_law_24 1 rfl rfl)
theorem dL_law_642 : decode cL_law 642 = .ok (.iadd, 1) := dk_96 (dk_at dksL_law_24 2 rfl rfl)
theorem dL_law_643 : decode cL_law 643 = .ok (.iaload, 1) := dk_46 (dk_at dksL_law_24 3 rfl rfl)
theorem dL_law_644 : decode cL_law 644 = .ok (.aload_n 0, 1) := dk_42 (dk_at dksL_law_24 4 rfl rfl)
theorem dL_law_645 : decode cL_law 645 = .ok (.iload_n 3, 1) := dk_29 (dk_at dksL_law_24 5 rfl rfl)
theorem dL_law_646 : decode cL_law 646 = .ok (.iconst 2, 1) := dk_5 (dk_at dksL_law_24 6 rfl rfl)
theorem dL_law_647 : decode cL_law 647 = .ok (.iadd, 1) := dk_96 (dk_at dksL_law_24 7 rfl rfl)
theorem dL_law_648 : decode cL_law 648 = .ok (.iaload, 1) := dk_46 (dk_at dksL_law_24 8 rfl rfl)
theorem dL_law_649 : decode cL_law 649 = .ok (.invokevirtual 89, 3) := dk_182 0 89 (dk_at dksL_law_24 9 rfl rfl)
theorem dL_law_652 : decode cL_law 652 = .ok (.aload_n 2, 1) := dk_44 (dk_at dksL_law_24 12 rfl rfl)
theorem dL_law_653 : decode cL_law 653 = .ok (.aload_n 0, 1) := dk_42 (dk_at dksL_law_24 13 rfl rfl)
theorem dL_law_654 : decode cL_law 654 = .ok (.iload_n 3, 1) := dk_29 (dk_at dksL_law_24 14 rfl rfl)
theorem dL_law_655 : decode cL_law 655 = .ok (.iconst 1, 1) := dk_4 (dk_at dksL_law_24 15 rfl rfl)
theorem dL_law_656 : decode cL_law 656 = .ok (.iadd, 1) := dk_96 (dk_at dksL_law_24 16 rfl rfl)
theorem dL_law_657 : decode cL_law 657 = .ok (.iaload, 1) := dk_46 (dk_at dksL_law_24 17 rfl rfl)
theorem dL_law_658 : decode cL_law 658 = .ok (.aload_n 0, 1) := dk_42 (dk_at dksL_law_24 18 rfl rfl)
theorem dL_law_659 : decode cL_law 659 = .ok (.iload_n 3, 1) := dk_29 (dk_at dksL_law_24 19 rfl rfl)
theorem dL_law_660 : decode cL_law 660 = .ok (.iconst 2, 1) := dk_5 (dk_at dksL_law_24 20 rfl rfl)
theorem dL_law_661 : decode cL_law 661 = .ok (.iadd, 1) := dk_96 (dk_at dksL_law_24 21 rfl rfl)
theorem dL_law_662 : decode cL_law 662 = .ok (.iaload, 1) := dk_46 (dk_at dksL_law_24 22 rfl rfl)
theorem dL_law_663 : decode cL_law 663 = .ok (.invokevirtual 92, 3) := dk_182 0 92 (dk_at dksL_law_25 0 rfl rfl)
theorem dL_law_666 : decode cL_law 666 = .ok (.if_icmp .eq 140, 3) := dk_159 0 140 (dk_at dksL_law_25 3 rfl rfl)
theorem dL_law_669 : decode cL_law 669 = .ok (.iconst 0, 1) := dk_3 (dk_at dksL_law_25 6 rfl rfl)
theorem dL_law_670 : decode cL_law 670 = .ok (.ireturn, 1) := dk_172 (dk_at dksL_law_25 7 rfl rfl)
theorem dL_law_671 : decode cL_law 671 = .ok (.aload_n 1, 1) := dk_43 (dk_at dksL_law_25 8 rfl rfl)
theorem dL_law_672 : decode cL_law 672 = .ok (.aload_n 0, 1) := dk_42 (dk_at dksL_law_25 9 rfl rfl)
theorem dL_law_673 : decode cL_law 673 = .ok (.iload_n 3, 1) := dk_29 (dk_at dksL_law_25 10 rfl rfl)
theorem dL_law_674 : decode cL_law 674 = .ok (.iconst 1, 1) := dk_4 (dk_at dksL_law_25 11 rfl rfl)
theorem dL_law_675 : decode cL_law 675 = .ok (.iadd, 1) := dk_96 (dk_at dksL_law_25 12 rfl rfl)
theorem dL_law_676 : decode cL_law 676 = .ok (.iaload, 1) := dk_46 (dk_at dksL_law_25 13 rfl rfl)
theorem dL_law_677 : decode cL_law 677 = .ok (.invokevirtual 93, 3) := dk_182 0 93 (dk_at dksL_law_25 14 rfl rfl)
theorem dL_law_680 : decode cL_law 680 = .ok (.aload_n 2, 1) := dk_44 (dk_at dksL_law_25 17 rfl rfl)
theorem dL_law_681 : decode cL_law 681 = .ok (.aload_n 0, 1) := dk_42 (dk_at dksL_law_25 18 rfl rfl)
theorem dL_law_682 : decode cL_law 682 = .ok (.iload_n 3, 1) := dk_29 (dk_at dksL_law_25 19 rfl rfl)
theorem dL_law_683 : decode cL_law 683 = .ok (.iconst 1, 1) := dk_4 (dk_at dksL_law_25 20 rfl rfl)
theorem dL_law_684 : decode cL_law 684 = .ok (.iadd, 1) := dk_96 (dk_at dksL_law_25 21 rfl rfl)
theorem dL_law_685 : decode cL_law 685 = .ok (.iaload, 1) := dk_46 (dk_at dksL_law_25 22 rfl rfl)
theorem dL_law_686 : decode cL_law 686 = .ok (.invokevirtual 96, 3) := dk_182 0 96 (dk_at dksL_law_26 0 rfl rfl)
theorem dL_law_689 : decode cL_law 689 = .ok (.if_icmp .eq 117, 3) := dk_159 0 117 (dk_at dksL_law_26 3 rfl rfl)
theorem dL_law_692 : decode cL_law 692 = .ok (.iconst 0, 1) := dk_3 (dk_at dksL_law_26 6 rfl rfl)
theorem dL_law_693 : decode cL_law 693 = .ok (.ireturn, 1) := dk_172 (dk_at dksL_law_26 7 rfl rfl)
theorem dL_law_694 : decode cL_law 694 = .ok (.aload_n 1, 1) := dk_43 (dk_at dksL_law_26 8 rfl rfl)
theorem dL_law_695 : decode cL_law 695 = .ok (.aload_n 0, 1) := dk_42 (dk_at dksL_law_26 9 rfl rfl)
theorem dL_law_696 : decode cL_law 696 = .ok (.iload_n 3, 1) := dk_29 (dk_at dksL_law_26 10 rfl rfl)
theorem dL_law_697 : decode cL_law 697 = .ok (.iconst 1, 1) := dk_4 (dk_at dksL_law_26 11 rfl rfl)
theorem dL_law_698 : decode cL_law 698 = .ok (.iadd, 1) := dk_96 (dk_at dksL_law_26 12 rfl rfl)
theorem dL_law_699 : decode cL_law 699 = .ok (.iaload, 1) := dk_46 (dk_at dksL_law_26 13 rfl rfl)
theorem dL_law_700 : decode cL_law 700 = .ok (.aload_n 0, 1) := dk_42 (dk_at dksL_law_26 14 rfl rfl)
theorem dL_law_701 : decode cL_law 701 = .ok (.iload_n 3, 1) := dk_29 (dk_at dksL_law_26 15 rfl rfl)
theorem dL_law_702 : decode cL_law 702 = .ok (.iconst 2, 1) := dk_5 (dk_at dksL_law_26 16 rfl rfl)
theorem dL_law_703 : decode cL_law 703 = .ok (.iadd, 1) := dk_96 (dk_at dksL_law_26 17 rfl rfl)
theorem dL_law_704 : decode cL_law 704 = .ok (.iaload, 1) := dk_46 (dk_at dksL_law_26 18 rfl rfl)
theorem dL_law_705 : decode cL_law 705 = .ok (.aload_n 0, 1) := dk_42 (dk_at dksL_law_26 19 rfl rfl)
theorem dL_law_706 : decode cL_law 706 = .ok (.iload_n 3, 1) := dk_29 (dk_at dksL_law_26 20 rfl rfl)
theorem dL_law_707 : decode cL_law 707 = .ok (.iconst 3, 1) := dk_6 (dk_at dksL_law_26 21 rfl rfl)
theorem dL_law_708 : decode cL_law 708 = .ok (.iadd, 1) := dk_96 (dk_at dksL_law_26 22 rfl rfl)
theorem dL_law_709 : decode cL_law 709 = .ok (.iaload, 1) := dk_46 (dk_at dksL_law_26 23 rfl rfl)
theorem dL_law_710 : decode cL_law 710 = .ok (.invokevirtual 97, 3) := dk_182 0 97 (dk_at dksL_law_27 0 rfl rfl)
theorem dL_law_713 : decode cL_law 713 = .ok (.aload_n 2, 1) := dk_44 (dk_at dksL_law_27 3 rfl rfl)
theorem dL_law_714 : decode cL_law 714 = .ok (.aload_n 0, 1) := dk_42 (dk_at dksL_law_27 4 rfl rfl)
theorem dL_law_715 : decode cL_law 715 = .ok (.iload_n 3, 1) := dk_29 (dk_at dksL_law_27 5 rfl rfl)
theorem dL_law_716 : decode cL_law 716 = .ok (.iconst 1, 1) := dk_4 (dk_at dksL_law_27 6 rfl rfl)
theorem dL_law_717 : decode cL_law 717 = .ok (.iadd, 1) := dk_96 (dk_at dksL_law_27 7 rfl rfl)
theorem dL_law_718 : decode cL_law 718 = .ok (.iaload, 1) := dk_46 (dk_at dksL_law_27 8 rfl rfl)
theorem dL_law_719 : decode cL_law 719 = .ok (.aload_n 0, 1) := dk_42 (dk_at dksL_law_27 9 rfl rfl)
theorem dL_law_720 : decode cL_law 720 = .ok (.iload_n 3, 1) := dk_29 (dk_at dksL_law_27 10 rfl rfl)
theorem dL_law_721 : decode cL_law 721 = .ok (.iconst 2, 1) := dk_5 (dk_at dksL_law_27 11 rfl rfl)
theorem dL_law_722 : decode cL_law 722 = .ok (.iadd, 1) := dk_96 (dk_at dksL_law_27 12 rfl rfl)
theorem dL_law_723 : decode cL_law 723 = .ok (.iaload, 1) := dk_46 (dk_at dksL_law_27 13 rfl rfl)
theorem dL_law_724 : decode cL_law 724 = .ok (.aload_n 0, 1) := dk_42 (dk_at dksL_law_27 14 rfl rfl)
theorem dL_law_725 : decode cL_law 725 = .ok (.iload_n 3, 1) := dk_29 (dk_at dksL_law_27 15 rfl rfl)
theorem dL_law_726 : decode cL_law 726 = .ok (.iconst 3, 1) := dk_6 (dk_at dksL_law_27 16 rfl rfl)
theorem dL_law_727 : decode cL_law 727 = .ok (.iadd, 1) := dk_96 (dk_at dksL_law_27 17 rfl rfl)
theorem dL_law_728 : decode cL_law 728 = .ok (.iaload, 1) := dk_46 (dk_at dksL_law_27 18 rfl rfl)
theorem dL_law_729 : decode cL_law 729 = .ok (.invokevirtual 101, 3) := dk_182 0 101 (dk_at dksL_law_27 19 rfl rfl)
theorem dL_law_732 : decode cL_law 732 = .ok (.if_icmp .eq 74, 3) := dk_159 0 74 (dk_at dksL_law_28 0 rfl rfl)
theorem dL_law_735 : decode cL_law 735 = .ok (.iconst 0, 1) := dk_3 (dk_at dksL_law_28 3 rfl rfl)
theorem dL_law_736 : decode cL_law 736 = .ok (.ireturn, 1) := dk_172 (dk_at dksL_law_28 4 rfl rfl)
theorem dL_law_737 : decode cL_law 737 = .ok (.aload_n 1, 1) := dk_43 (dk_at dksL_law_28 5 rfl rfl)
theorem dL_law_738 : decode cL_law 738 = .ok (.aload_n 0, 1) := dk_42 (dk_at dksL_law_28 6 rfl rfl)
theorem dL_law_739 : decode cL_law 739 = .ok (.iload_n 3, 1) := dk_29 (dk_at dksL_law_28 7 rfl rfl)
theorem dL_law_740 : decode cL_law 740 = .ok (.iconst 1, 1) := dk_4 (dk_at dksL_law_28 8 rfl rfl)
theorem dL_law_741 : decode cL_law 741 = .ok (.iadd, 1) := dk_96 (dk_at dksL_law_28 9 rfl rfl)
theorem dL_law_742 : decode cL_law 742 = .ok (.iaload, 1) := dk_46 (dk_at dksL_law_28 10 rfl rfl)
theorem dL_law_743 : decode cL_law 743 = .ok (.invokevirtual 102, 3) := dk_182 0 102 (dk_at dksL_law_28 11 rfl rfl)
theorem dL_law_746 : decode cL_law 746 = .ok (.aload_n 2, 1) := dk_44 (dk_at dksL_law_28 14 rfl rfl)
theorem dL_law_747 : decode cL_law 747 = .ok (.aload_n 0, 1) := dk_42 (dk_at dksL_law_28 15 rfl rfl)
theorem dL_law_748 : decode cL_law 748 = .ok (.iload_n 3, 1) := dk_29 (dk_at dksL_law_28 16 rfl rfl)
theorem dL_law_749 : decode cL_law 749 = .ok (.iconst 1, 1) := dk_4 (dk_at dksL_law_28 17 rfl rfl)
theorem dL_law_750 : decode cL_law 750 = .ok (.iadd, 1) := dk_96 (dk_at dksL_law_28 18 rfl rfl)
theorem dL_law_751 : decode cL_law 751 = .ok (.iaload, 1) := dk_46 (dk_at dksL_law_28 19 rfl rfl)
theorem dL_law_752 : decode cL_law 752 = .ok (.invokevirtual 105, 3) := dk_182 0 105 (dk_at dksL_law_28 20 rfl rfl)
theorem dL_law_755 : decode cL_law 755 = .ok (.if_icmp .eq 51, 3) := dk_159 0 51 (dk_at dksL_law_29 0 rfl rfl)
theorem dL_law_758 : decode cL_law 758 = .ok (.iconst 0, 1) := dk_3 (dk_at dksL_law_29 3 rfl rfl)
theorem dL_law_759 : decode cL_law 759 = .ok (.ireturn, 1) := dk_172 (dk_at dksL_law_29 4 rfl rfl)
theorem dL_law_760 : decode cL_law 760 = .ok (.aload_n 1, 1) := dk_43 (dk_at dksL_law_29 5 rfl rfl)
theorem dL_law_761 : decode cL_law 761 = .ok (.aload_n 0, 1) := dk_42 (dk_at dksL_law_29 6 rfl rfl)
theorem dL_law_762 : decode cL_law 762 = .ok (.iload_n 3, 1) := dk_29 (dk_at dksL_law_29 7 rfl rfl)
theorem dL_law_763 : decode cL_law 763 = .ok (.iconst 1, 1) := dk_4 (dk_at dksL_law_29 8 rfl rfl)
theorem dL_law_764 : decode cL_law 764 = .ok (.iadd, 1) := dk_96 (dk_at dksL_law_29 9 rfl rfl)
theorem dL_law_765 : decode cL_law 765 = .ok (.iaload, 1) := dk_46 (dk_at dksL_law_29 10 rfl rfl)
theorem dL_law_766 : decode cL_law 766 = .ok (.invokevirtual 106, 3) := dk_182 0 106 (dk_at dksL_law_29 11 rfl rfl)
theorem dL_law_769 : decode cL_law 769 = .ok (.aload_n 2, 1) := dk_44 (dk_at dksL_law_29 14 rfl rfl)
theorem dL_law_770 : decode cL_law 770 = .ok (.aload_n 0, 1) := dk_42 (dk_at dksL_law_29 15 rfl rfl)
theorem dL_law_771 : decode cL_law 771 = .ok (.iload_n 3, 1) := dk_29 (dk_at dksL_law_29 16 rfl rfl)
theorem dL_law_772 : decode cL_law 772 = .ok (.iconst 1, 1) := dk_4 (dk_at dksL_law_29 17 rfl rfl)
theorem dL_law_773 : decode cL_law 773 = .ok (.iadd, 1) := dk_96 (dk_at dksL_law_29 18 rfl rfl)
theorem dL_law_774 : decode cL_law 774 = .ok (.iaload, 1) := dk_46 (dk_at dksL_law_29 19 rfl rfl)
theorem dL_law_775 : decode cL_law 775 = .ok (.invokevirtual 109, 3) := dk_182 0 109 (dk_at dksL_law_29 20 rfl rfl)
theorem dL_law_778 : decode cL_law 778 = .ok (.if_icmp .eq 28, 3) := dk_159 0 28 (dk_at dksL_law_30 0 rfl rfl)
theorem dL_law_781 : decode cL_law 781 = .ok (.iconst 0, 1) := dk_3 (dk_at dksL_law_30 3 rfl rfl)
theorem dL_law_782 : decode cL_law 782 = .ok (.ireturn, 1) := dk_172 (dk_at dksL_law_30 4 rfl rfl)
theorem dL_law_783 : decode cL_law 783 = .ok (.aload_n 1, 1) := dk_43 (dk_at dksL_law_30 5 rfl rfl)
theorem dL_law_784 : decode cL_law 784 = .ok (.aload_n 0, 1) := dk_42 (dk_at dksL_law_30 6 rfl rfl)
theorem dL_law_785 : decode cL_law 785 = .ok (.iload_n 3, 1) := dk_29 (dk_at dksL_law_30 7 rfl rfl)
theorem dL_law_786 : decode cL_law 786 = .ok (.iconst 1, 1) := dk_4 (dk_at dksL_law_30 8 rfl rfl)
theorem dL_law_787 : decode cL_law 787 = .ok (.iadd, 1) := dk_96 (dk_at dksL_law_30 9 rfl rfl)
theorem dL_law_788 : decode cL_law 788 = .ok (.iaload, 1) := dk_46 (dk_at dksL_law_30 10 rfl rfl)
theorem dL_law_789 : decode cL_law 789 = .ok (.invokevirtual 110, 3) := dk_182 0 110 (dk_at dksL_law_30 11 rfl rfl)
theorem dL_law_792 : decode cL_law 792 = .ok (.aload_n 2, 1) := dk_44 (dk_at dksL_law_30 14 rfl rfl)
theorem dL_law_793 : decode cL_law 793 = .ok (.aload_n 0, 1) := dk_42 (dk_at dksL_law_30 15 rfl rfl)
theorem dL_law_794 : decode cL_law 794 = .ok (.iload_n 3, 1) := dk_29 (dk_at dksL_law_30 16 rfl rfl)
theorem dL_law_795 : decode cL_law 795 = .ok (.iconst 1, 1) := dk_4 (dk_at dksL_law_30 17 rfl rfl)
theorem dL_law_796 : decode cL_law 796 = .ok (.iadd, 1) := dk_96 (dk_at dksL_law_30 18 rfl rfl)
theorem dL_law_797 : decode cL_law 797 = .ok (.iaload, 1) := dk_46 (dk_at dksL_law_30 19 rfl rfl)
theorem dL_law_798 : decode cL_law 798 = .ok (.invokevirtual 113, 3) := dk_182 0 113 (dk_at dksL_law_30 20 rfl rfl)
theorem dL_law_801 : decode cL_law 801 = .ok (.if_icmp .eq 5, 3) := dk_159 0 5 (dk_at dksL_law_31 0 rfl rfl)
theorem dL_law_804 : decode cL_law 804 = .ok (.iconst 0, 1) := dk_3 (dk_at dksL_law_31 3 rfl rfl)
theorem dL_law_805 : decode cL_law 805 = .ok (.ireturn, 1) := dk_172 (dk_at dksL_law_31 4 rfl rfl)
theorem dL_law_806 : decode cL_law 806 = .ok (.iinc 3 6, 3) := dk_132 3 6 (dk_at dksL_law_31 5 rfl rfl)
theorem dL_law_809 : decode cL_law 809 = .ok (.goto (-791), 3) := dk_167 252 233 (dk_at dksL_law_31 8 rfl rfl)
theorem dL_law_812 : decode cL_law 812 = .ok (.iconst 1, 1) := dk_4 (dk_at dksL_law_31 11 rfl rfl)
theorem dL_law_813 : decode cL_law 813 = .ok (.ireturn, 1) := dk_172 (dk_at dksL_law_31 12 rfl rfl)
