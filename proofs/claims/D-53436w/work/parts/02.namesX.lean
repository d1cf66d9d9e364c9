/-! TrophyPlates -/
set_option maxRecDepth 100000
def RX0 : String := "TrophyPlates"
def TX0 : u_T := fun k => match k with
  | 0 => ("TrophyPlates", "shop", "LTrophyPlates$Shop;", false)
  | 1 => ("TrophyPlates", "history", "LTrophyPlates$Stack;", true)
  | _ => ("TrophyPlates", "text", "Ljava/lang/StringBuilder;", true)
def tyX0 : Nat → FieldType := fun k => match k with
  | 0 => .object "TrophyPlates$Shop"
  | 1 => .object "TrophyPlates$Stack"
  | _ => .object "java/lang/StringBuilder"
abbrev wsX00 : List Cond := u_ws RX0 TX0 3
theorem nmX0 : ∀ a, a < 3 → ∀ b, b < 3 → a ≠ b → (TX0 a).2.1 ≠ (TX0 b).2.1 := by decide +kernel
theorem tyX0_ok : ∀ k, k < 3 → parseFieldDescriptor (TX0 k).2.2.1 = some (tyX0 k) := by decide +kernel
abbrev cX0_init : ByteArray := prog_1_method_5_code
def yX0_init : MethodName := ⟨RX0, "<init>", "()V"⟩
def dkwX0_init_1 : List UInt8 := [181, 0, 39, 42, 187, 0, 43, 89, 183, 0, 45, 181, 0, 46, 177]
abbrev dktX0_init_1 : List UInt8 := dkwX0_init_1 ++ []
def dkwX0_init_0 : List UInt8 := [42, 183, 0, 23, 42, 187, 0, 29, 89, 183, 0, 31, 181, 0, 32, 42, 187, 0, 36, 89, 183, 0, 38]
abbrev dktX0_init_0 : List UInt8 := dkwX0_init_0 ++ dktX0_init_1
theorem dksX0_init_0 : cX0_init.data.toList.drop 0 = dktX0_init_0 := by decide +kernel
theorem dksX0_init_1 : cX0_init.data.toList.drop 23 = dktX0_init_1 := dk_seg dksX0_init_0 23 rfl rfl
theorem dX0_init_0 : decode cX0_init 0 = .ok (.aload_n 0, 1) := dk_42 (dk_at dksX0_init_0 0 rfl rfl)
theorem dX0_init_1 : decode cX0_init 1 = .ok (.invokespecial 23, 3) := dk_183 0 23 (dk_at dksX0_init_0 1 rfl rfl)
theorem dX0_init_4 : decode cX0_init 4 = .ok (.aload_n 0, 1) := dk_42 (dk_at dksX0_init_0 4 rfl rfl)
theorem dX0_init_5 : decode cX0_init 5 = .ok (.new 29, 3) := dk_187 0 29 (dk_at dksX0_init_0 5 rfl rfl)
theorem dX0_init_8 : decode cX0_init 8 = .ok (.dup, 1) := dk_89 (dk_at dksX0_init_0 8 rfl rfl)
theorem dX0_init_9 : decode cX0_init 9 = .ok (.invokespecial 31, 3) := dk_183 0 31 (dk_at dksX0_init_0 9 rfl rfl)
theorem dX0_init_12 : decode cX0_init 12 = .ok (.putfield 32, 3) := dk_181 0 32 (dk_at dksX0_init_0 12 rfl rfl)
theorem dX0_init_15 : decode cX0_init 15 = .ok (.aload_n 0, 1) := dk_42 (dk_at dksX0_init_0 15 rfl rfl)
theorem dX0_init_16 : decode cX0_init 16 = .ok (.new 36, 3) := dk_187 0 36 (dk_at dksX0_init_0 16 rfl rfl)
theorem dX0_init_19 : decode cX0_init 19 = .ok (.dup, 1) := dk_89 (dk_at dksX0_init_0 19 rfl rfl)
theorem dX0_init_20 : decode cX0_init 20 = .ok (.invokespecial 38, 3) := dk_183 0 38 (dk_at dksX0_init_0 20 rfl rfl)
theorem dX0_init_23 : decode cX0_init 23 = .ok (.putfield 39, 3) := dk_181 0 39 (dk_at dksX0_init_1 0 rfl rfl)
theorem dX0_init_26 : decode cX0_init 26 = .ok (.aload_n 0, 1) := dk_42 (dk_at dksX0_init_1 3 rfl rfl)
theorem dX0_init_27 : decode cX0_init 27 = .ok (.new 43, 3) := dk_187 0 43 (dk_at dksX0_init_1 4 rfl rfl)
theorem dX0_init_30 : decode cX0_init 30 = .ok (.dup, 1) := dk_89 (dk_at dksX0_init_1 7 rfl rfl)
theorem dX0_init_31 : decode cX0_init 31 = .ok (.invokespecial 45, 3) := dk_183 0 45 (dk_at dksX0_init_1 8 rfl rfl)
theorem dX0_init_34 : decode cX0_init 34 = .ok (.putfield 46, 3) := dk_181 0 46 (dk_at dksX0_init_1 11 rfl rfl)
theorem dX0_init_37 : decode cX0_init 37 = .ok (.return_, 1) := dk_177 (dk_at dksX0_init_1 14 rfl rfl)
abbrev cX0_cut : ByteArray := prog_1_method_7_code
def yX0_cut : MethodName := ⟨RX0, "cut", "(II)I"⟩
def dkwX0_cut_3 : List UInt8 := [180, 0, 62, 185, 0, 66, 1, 0, 4, 100, 172]
abbrev dktX0_cut_3 : List UInt8 := dkwX0_cut_3 ++ []
def dkwX0_cut_2 : List UInt8 := [180, 0, 62, 187, 0, 74, 89, 27, 28, 183, 0, 76, 185, 0, 79, 2, 0, 62, 42, 180, 0, 32]
abbrev dktX0_cut_2 : List UInt8 := dkwX0_cut_2 ++ dktX0_cut_3
def dkwX0_cut_1 : List UInt8 := [42, 180, 0, 32, 180, 0, 62, 185, 0, 66, 1, 0, 16, 20, 160, 0, 6, 16, 253, 172, 42, 182, 0, 71]
abbrev dktX0_cut_1 : List UInt8 := dkwX0_cut_1 ++ dktX0_cut_2
def dkwX0_cut_0 : List UInt8 := [27, 16, 10, 17, 0, 200, 184, 0, 58, 153, 0, 13, 28, 8, 16, 30, 184, 0, 58, 154, 0, 5, 2, 172]
abbrev dktX0_cut_0 : List UInt8 := dkwX0_cut_0 ++ dktX0_cut_1
theorem dksX0_cut_0 : cX0_cut.data.toList.drop 0 = dktX0_cut_0 := by decide +kernel
theorem dksX0_cut_1 : cX0_cut.data.toList.drop 24 = dktX0_cut_1 := dk_seg dksX0_cut_0 24 rfl rfl
theorem dksX0_cut_2 : cX0_cut.data.toList.drop 48 = dktX0_cut_2 := dk_seg dksX0_cut_1 24 rfl rfl
theorem dksX0_cut_3 : cX0_cut.data.toList.drop 70 = dktX0_cut_3 := dk_seg dksX0_cut_2 22 rfl rfl
theorem dX0_cut_0 : decode cX0_cut 0 = .ok (.iload_n 1, 1) := dk_27 (dk_at dksX0_cut_0 0 rfl rfl)
theorem dX0_cut_1 : decode cX0_cut 1 = .ok (.bipush 10, 2) := dk_16 10 (dk_at dksX0_cut_0 1 rfl rfl)
theorem dX0_cut_3 : decode cX0_cut 3 = .ok (.sipush 200, 3) := dk_17 0 200 (dk_at dksX0_cut_0 3 rfl rfl)
theorem dX0_cut_6 : decode cX0_cut 6 = .ok (.invokestatic 58, 3) := dk_184 0 58 (dk_at dksX0_cut_0 6 rfl rfl)
theorem dX0_cut_9 : decode cX0_cut 9 = .ok (.ifCond .eq 13, 3) := dk_153 0 13 (dk_at dksX0_cut_0 9 rfl rfl)
theorem dX0_cut_12 : decode cX0_cut 12 = .ok (.iload_n 2, 1) := dk_28 (dk_at dksX0_cut_0 12 rfl rfl)
theorem dX0_cut_13 : decode cX0_cut 13 = .ok (.iconst 5, 1) := dk_8 (dk_at dksX0_cut_0 13 rfl rfl)
theorem dX0_cut_14 : decode cX0_cut 14 = .ok (.bipush 30, 2) := dk_16 30 (dk_at dksX0_cut_0 14 rfl rfl)
theorem dX0_cut_16 : decode cX0_cut 16 = .ok (.invokestatic 58, 3) := dk_184 0 58 (dk_at dksX0_cut_0 16 rfl rfl)
theorem dX0_cut_19 : decode cX0_cut 19 = .ok (.ifCond .ne 5, 3) := dk_154 0 5 (dk_at dksX0_cut_0 19 rfl rfl)
theorem dX0_cut_22 : decode cX0_cut 22 = .ok (.iconst (-1), 1) := dk_2 (dk_at dksX0_cut_0 22 rfl rfl)
theorem dX0_cut_23 : decode cX0_cut 23 = .ok (.ireturn, 1) := dk_172 (dk_at dksX0_cut_0 23 rfl rfl)
theorem dX0_cut_24 : decode cX0_cut 24 = .ok (.aload_n 0, 1) := dk_42 (dk_at dksX0_cut_1 0 rfl rfl)
theorem dX0_cut_25 : decode cX0_cut 25 = .ok (.getfield 32, 3) := dk_180 0 32 (dk_at dksX0_cut_1 1 rfl rfl)
theorem dX0_cut_28 : decode cX0_cut 28 = .ok (.getfield 62, 3) := dk_180 0 62 (dk_at dksX0_cut_1 4 rfl rfl)
theorem dX0_cut_31 : decode cX0_cut 31 = .ok (.invokeinterface 66 1, 5) := by decide +kernel
theorem dX0_cut_36 : decode cX0_cut 36 = .ok (.bipush 20, 2) := dk_16 20 (dk_at dksX0_cut_1 12 rfl rfl)
theorem dX0_cut_38 : decode cX0_cut 38 = .ok (.if_icmp .ne 6, 3) := dk_160 0 6 (dk_at dksX0_cut_1 14 rfl rfl)
theorem dX0_cut_41 : decode cX0_cut 41 = .ok (.bipush (-3), 2) := dk_16 253 (dk_at dksX0_cut_1 17 rfl rfl)
theorem dX0_cut_43 : decode cX0_cut 43 = .ok (.ireturn, 1) := dk_172 (dk_at dksX0_cut_1 19 rfl rfl)
theorem dX0_cut_44 : decode cX0_cut 44 = .ok (.aload_n 0, 1) := dk_42 (dk_at dksX0_cut_1 20 rfl rfl)
theorem dX0_cut_45 : decode cX0_cut 45 = .ok (.invokevirtual 71, 3) := dk_182 0 71 (dk_at dksX0_cut_1 21 rfl rfl)
theorem dX0_cut_48 : decode cX0_cut 48 = .ok (.getfield 62, 3) := dk_180 0 62 (dk_at dksX0_cut_2 0 rfl rfl)
theorem dX0_cut_51 : decode cX0_cut 51 = .ok (.new 74, 3) := dk_187 0 74 (dk_at dksX0_cut_2 3 rfl rfl)
theorem dX0_cut_54 : decode cX0_cut 54 = .ok (.dup, 1) := dk_89 (dk_at dksX0_cut_2 6 rfl rfl)
theorem dX0_cut_55 : decode cX0_cut 55 = .ok (.iload_n 1, 1) := dk_27 (dk_at dksX0_cut_2 7 rfl rfl)
theorem dX0_cut_56 : decode cX0_cut 56 = .ok (.iload_n 2, 1) := dk_28 (dk_at dksX0_cut_2 8 rfl rfl)
theorem dX0_cut_57 : decode cX0_cut 57 = .ok (.invokespecial 76, 3) := dk_183 0 76 (dk_at dksX0_cut_2 9 rfl rfl)
theorem dX0_cut_60 : decode cX0_cut 60 = .ok (.invokeinterface 79 2, 5) := by decide +kernel
theorem dX0_cut_65 : decode cX0_cut 65 = .ok (.istore_n 3, 1) := dk_62 (dk_at dksX0_cut_2 17 rfl rfl)
theorem dX0_cut_66 : decode cX0_cut 66 = .ok (.aload_n 0, 1) := dk_42 (dk_at dksX0_cut_2 18 rfl rfl)
theorem dX0_cut_67 : decode cX0_cut 67 = .ok (.getfield 32, 3) := dk_180 0 32 (dk_at dksX0_cut_2 19 rfl rfl)
theorem dX0_cut_70 : decode cX0_cut 70 = .ok (.getfield 62, 3) := dk_180 0 62 (dk_at dksX0_cut_3 0 rfl rfl)
theorem dX0_cut_73 : decode cX0_cut 73 = .ok (.invokeinterface 66 1, 5) := by decide +kernel
theorem dX0_cut_78 : decode cX0_cut 78 = .ok (.iconst 1, 1) := dk_4 (dk_at dksX0_cut_3 8 rfl rfl)
theorem dX0_cut_79 : decode cX0_cut 79 = .ok (.isub, 1) := dk_100 (dk_at dksX0_cut_3 9 rfl rfl)
theorem dX0_cut_80 : decode cX0_cut 80 = .ok (.ireturn, 1) := dk_172 (dk_at dksX0_cut_3 10 rfl rfl)
abbrev cX0_isBetween : ByteArray := prog_1_method_2_code
def yX0_isBetween : MethodName := ⟨RX0, "isBetween", "(III)Z"⟩
def dkwX0_isBetween_0 : List UInt8 := [26, 27, 161, 0, 12, 26, 28, 163, 0, 7, 4, 167, 0, 4, 3, 172]
abbrev dktX0_isBetween_0 : List UInt8 := dkwX0_isBetween_0 ++ []
theorem dksX0_isBetween_0 : cX0_isBetween.data.toList.drop 0 = dktX0_isBetween_0 := by decide +kernel
theorem dX0_isBetween_0 : decode cX0_isBetween 0 = .ok (.iload_n 0, 1) := dk_26 (dk_at dksX0_isBetween_0 0 rfl rfl)
theorem dX0_isBetween_1 : decode cX0_isBetween 1 = .ok (.iload_n 1, 1) := dk_27 (dk_at dksX0_isBetween_0 1 rfl rfl)
theorem dX0_isBetween_2 : decode cX0_isBetween 2 = .ok (.if_icmp .lt 12, 3) := dk_161 0 12 (dk_at dksX0_isBetween_0 2 rfl rfl)
theorem dX0_isBetween_5 : decode cX0_isBetween 5 = .ok (.iload_n 0, 1) := dk_26 (dk_at dksX0_isBetween_0 5 rfl rfl)
theorem dX0_isBetween_6 : decode cX0_isBetween 6 = .ok (.iload_n 2, 1) := dk_28 (dk_at dksX0_isBetween_0 6 rfl rfl)
theorem dX0_isBetween_7 : decode cX0_isBetween 7 = .ok (.if_icmp .gt 7, 3) := dk_163 0 7 (dk_at dksX0_isBetween_0 7 rfl rfl)
theorem dX0_isBetween_10 : decode cX0_isBetween 10 = .ok (.iconst 1, 1) := dk_4 (dk_at dksX0_isBetween_0 10 rfl rfl)
theorem dX0_isBetween_11 : decode cX0_isBetween 11 = .ok (.goto 4, 3) := dk_167 0 4 (dk_at dksX0_isBetween_0 11 rfl rfl)
theorem dX0_isBetween_14 : decode cX0_isBetween 14 = .ok (.iconst 0, 1) := dk_3 (dk_at dksX0_isBetween_0 14 rfl rfl)
theorem dX0_isBetween_15 : decode cX0_isBetween 15 = .ok (.ireturn, 1) := dk_172 (dk_at dksX0_isBetween_0 15 rfl rfl)
abbrev cX0_act : ByteArray := prog_1_method_6_code
def yX0_act : MethodName := ⟨RX0, "act", "()LTrophyPlates$Shop;"⟩
def dkwX0_act_1 : List UInt8 := [180, 0, 32, 176]
abbrev dktX0_act_1 : List UInt8 := dkwX0_act_1 ++ []
def dkwX0_act_0 : List UInt8 := [42, 180, 0, 39, 42, 180, 0, 32, 182, 0, 50, 42, 42, 180, 0, 32, 182, 0, 54, 181, 0, 32, 42]
abbrev dktX0_act_0 : List UInt8 := dkwX0_act_0 ++ dktX0_act_1
theorem dksX0_act_0 : cX0_act.data.toList.drop 0 = dktX0_act_0 := by decide +kernel
theorem dksX0_act_1 : cX0_act.data.toList.drop 23 = dktX0_act_1 := dk_seg dksX0_act_0 23 rfl rfl
theorem dX0_act_0 : decode cX0_act 0 = .ok (.aload_n 0, 1) := dk_42 (dk_at dksX0_act_0 0 rfl rfl)
theorem dX0_act_1 : decode cX0_act 1 = .ok (.getfield 39, 3) := dk_180 0 39 (dk_at dksX0_act_0 1 rfl rfl)
theorem dX0_act_4 : decode cX0_act 4 = .ok (.aload_n 0, 1) := dk_42 (dk_at dksX0_act_0 4 rfl rfl)
theorem dX0_act_5 : decode cX0_act 5 = .ok (.getfield 32, 3) := dk_180 0 32 (dk_at dksX0_act_0 5 rfl rfl)
theorem dX0_act_8 : decode cX0_act 8 = .ok (.invokevirtual 50, 3) := dk_182 0 50 (dk_at dksX0_act_0 8 rfl rfl)
theorem dX0_act_11 : decode cX0_act 11 = .ok (.aload_n 0, 1) := dk_42 (dk_at dksX0_act_0 11 rfl rfl)
theorem dX0_act_12 : decode cX0_act 12 = .ok (.aload_n 0, 1) := dk_42 (dk_at dksX0_act_0 12 rfl rfl)
theorem dX0_act_13 : decode cX0_act 13 = .ok (.getfield 32, 3) := dk_180 0 32 (dk_at dksX0_act_0 13 rfl rfl)
theorem dX0_act_16 : decode cX0_act 16 = .ok (.invokevirtual 54, 3) := dk_182 0 54 (dk_at dksX0_act_0 16 rfl rfl)
theorem dX0_act_19 : decode cX0_act 19 = .ok (.putfield 32, 3) := dk_181 0 32 (dk_at dksX0_act_0 19 rfl rfl)
theorem dX0_act_22 : decode cX0_act 22 = .ok (.aload_n 0, 1) := dk_42 (dk_at dksX0_act_0 22 rfl rfl)
theorem dX0_act_23 : decode cX0_act 23 = .ok (.getfield 32, 3) := dk_180 0 32 (dk_at dksX0_act_1 0 rfl rfl)
theorem dX0_act_26 : decode cX0_act 26 = .ok (.areturn, 1) := dk_176 (dk_at dksX0_act_1 3 rfl rfl)
abbrev cX0_spoil : ByteArray := prog_1_method_8_code
def yX0_spoil : MethodName := ⟨RX0, "spoil", "(I)I"⟩
def dkwX0_spoil_2 : List UInt8 := [27, 185, 0, 87, 2, 0, 192, 0, 74, 6, 181, 0, 91, 42, 180, 0, 32, 6, 182, 0, 95, 172]
abbrev dktX0_spoil_2 : List UInt8 := dkwX0_spoil_2 ++ []
def dkwX0_spoil_1 : List UInt8 := [185, 0, 87, 2, 0, 192, 0, 74, 180, 0, 91, 153, 0, 6, 16, 254, 172, 42, 182, 0, 71, 180, 0, 62]
abbrev dktX0_spoil_1 : List UInt8 := dkwX0_spoil_1 ++ dktX0_spoil_2
def dkwX0_spoil_0 : List UInt8 := [42, 180, 0, 32, 27, 182, 0, 83, 154, 0, 5, 2, 172, 42, 180, 0, 32, 180, 0, 62, 27]
abbrev dktX0_spoil_0 : List UInt8 := dkwX0_spoil_0 ++ dktX0_spoil_1
theorem dksX0_spoil_0 : cX0_spoil.data.toList.drop 0 = dktX0_spoil_0 := by decide +kernel
theorem dksX0_spoil_1 : cX0_spoil.data.toList.drop 21 = dktX0_spoil_1 := dk_seg dksX0_spoil_0 21 rfl rfl
theorem dksX0_spoil_2 : cX0_spoil.data.toList.drop 45 = dktX0_spoil_2 := dk_seg dksX0_spoil_1 24 rfl rfl
theorem dX0_spoil_0 : decode cX0_spoil 0 = .ok (.aload_n 0, 1) := dk_42 (dk_at dksX0_spoil_0 0 rfl rfl)
theorem dX0_spoil_1 : decode cX0_spoil 1 = .ok (.getfield 32, 3) := dk_180 0 32 (dk_at dksX0_spoil_0 1 rfl rfl)
theorem dX0_spoil_4 : decode cX0_spoil 4 = .ok (.iload_n 1, 1) := dk_27 (dk_at dksX0_spoil_0 4 rfl rfl)
theorem dX0_spoil_5 : decode cX0_spoil 5 = .ok (.invokevirtual 83, 3) := dk_182 0 83 (dk_at dksX0_spoil_0 5 rfl rfl)
theorem dX0_spoil_8 : decode cX0_spoil 8 = .ok (.ifCond .ne 5, 3) := dk_154 0 5 (dk_at dksX0_spoil_0 8 rfl rfl)
theorem dX0_spoil_11 : decode cX0_spoil 11 = .ok (.iconst (-1), 1) := dk_2 (dk_at dksX0_spoil_0 11 rfl rfl)
theorem dX0_spoil_12 : decode cX0_spoil 12 = .ok (.ireturn, 1) := dk_172 (dk_at dksX0_spoil_0 12 rfl rfl)
theorem dX0_spoil_13 : decode cX0_spoil 13 = .ok (.aload_n 0, 1) := dk_42 (dk_at dksX0_spoil_0 13 rfl rfl)
theorem dX0_spoil_14 : decode cX0_spoil 14 = .ok (.getfield 32, 3) := dk_180 0 32 (dk_at dksX0_spoil_0 14 rfl rfl)
theorem dX0_spoil_17 : decode cX0_spoil 17 = .ok (.getfield 62, 3) := dk_180 0 62 (dk_at dksX0_spoil_0 17 rfl rfl)
theorem dX0_spoil_20 : decode cX0_spoil 20 = .ok (.iload_n 1, 1) := dk_27 (dk_at dksX0_spoil_0 20 rfl rfl)
theorem dX0_spoil_21 : decode cX0_spoil 21 = .ok (.invokeinterface 87 2, 5) := by decide +kernel
theorem dX0_spoil_26 : decode cX0_spoil 26 = .ok (.checkcast 74, 3) := dk_192 0 74 (dk_at dksX0_spoil_1 5 rfl rfl)
theorem dX0_spoil_29 : decode cX0_spoil 29 = .ok (.getfield 91, 3) := dk_180 0 91 (dk_at dksX0_spoil_1 8 rfl rfl)
theorem dX0_spoil_32 : decode cX0_spoil 32 = .ok (.ifCond .eq 6, 3) := dk_153 0 6 (dk_at dksX0_spoil_1 11 rfl rfl)
theorem dX0_spoil_35 : decode cX0_spoil 35 = .ok (.bipush (-2), 2) := dk_16 254 (dk_at dksX0_spoil_1 14 rfl rfl)
theorem dX0_spoil_37 : decode cX0_spoil 37 = .ok (.ireturn, 1) := dk_172 (dk_at dksX0_spoil_1 16 rfl rfl)
theorem dX0_spoil_38 : decode cX0_spoil 38 = .ok (.aload_n 0, 1) := dk_42 (dk_at dksX0_spoil_1 17 rfl rfl)
theorem dX0_spoil_39 : decode cX0_spoil 39 = .ok (.invokevirtual 71, 3) := dk_182 0 71 (dk_at dksX0_spoil_1 18 rfl rfl)
theorem dX0_spoil_42 : decode cX0_spoil 42 = .ok (.getfield 62, 3) := dk_180 0 62 (dk_at dksX0_spoil_1 21 rfl rfl)
theorem dX0_spoil_45 : decode cX0_spoil 45 = .ok (.iload_n 1, 1) := dk_27 (dk_at dksX0_spoil_2 0 rfl rfl)
theorem dX0_spoil_46 : decode cX0_spoil 46 = .ok (.invokeinterface 87 2, 5) := by decide +kernel
theorem dX0_spoil_51 : decode cX0_spoil 51 = .ok (.checkcast 74, 3) := dk_192 0 74 (dk_at dksX0_spoil_2 6 rfl rfl)
theorem dX0_spoil_54 : decode cX0_spoil 54 = .ok (.iconst 3, 1) := dk_6 (dk_at dksX0_spoil_2 9 rfl rfl)
theorem dX0_spoil_55 : decode cX0_spoil 55 = .ok (.putfield 91, 3) := dk_181 0 91 (dk_at dksX0_spoil_2 10 rfl rfl)
theorem dX0_spoil_58 : decode cX0_spoil 58 = .ok (.aload_n 0, 1) := dk_42 (dk_at dksX0_spoil_2 13 rfl rfl)
theorem dX0_spoil_59 : decode cX0_spoil 59 = .ok (.getfield 32, 3) := dk_180 0 32 (dk_at dksX0_spoil_2 14 rfl rfl)
theorem dX0_spoil_62 : decode cX0_spoil 62 = .ok (.iconst 3, 1) := dk_6 (dk_at dksX0_spoil_2 17 rfl rfl)
theorem dX0_spoil_63 : decode cX0_spoil 63 = .ok (.invokevirtual 95, 3) := dk_182 0 95 (dk_at dksX0_spoil_2 18 rfl rfl)
theorem dX0_spoil_66 : decode cX0_spoil 66 = .ok (.ireturn, 1) := dk_172 (dk_at dksX0_spoil_2 21 rfl rfl)
abbrev cX0_grind : ByteArray := prog_1_method_9_code
def yX0_grind : MethodName := ⟨RX0, "grind", "(II)I"⟩
def dkwX0_grind_4 : List UInt8 := [185, 0, 87, 2, 0, 192, 0, 74, 180, 0, 108, 172]
abbrev dktX0_grind_4 : List UInt8 := dkwX0_grind_4 ++ []
def dkwX0_grind_3 : List UInt8 := [162, 0, 6, 16, 254, 172, 42, 182, 0, 71, 27, 28, 182, 0, 105, 42, 180, 0, 32, 180, 0, 62, 27]
abbrev dktX0_grind_3 : List UInt8 := dkwX0_grind_3 ++ dktX0_grind_4
def dkwX0_grind_2 : List UInt8 := [180, 0, 99, 28, 46, 153, 0, 21, 45, 28, 182, 0, 102, 45, 180, 0, 99, 4, 28, 100, 46, 100, 5]
abbrev dktX0_grind_2 : List UInt8 := dkwX0_grind_2 ++ dktX0_grind_3
def dkwX0_grind_1 : List UInt8 := [180, 0, 32, 180, 0, 62, 27, 185, 0, 87, 2, 0, 192, 0, 74, 78, 45, 180, 0, 91, 154, 0, 30, 45]
abbrev dktX0_grind_1 : List UInt8 := dkwX0_grind_1 ++ dktX0_grind_2
def dkwX0_grind_0 : List UInt8 := [42, 180, 0, 32, 27, 182, 0, 83, 153, 0, 12, 28, 3, 4, 184, 0, 58, 154, 0, 5, 2, 172, 42]
abbrev dktX0_grind_0 : List UInt8 := dkwX0_grind_0 ++ dktX0_grind_1
theorem dksX0_grind_0 : cX0_grind.data.toList.drop 0 = dktX0_grind_0 := by decide +kernel
theorem dksX0_grind_1 : cX0_grind.data.toList.drop 23 = dktX0_grind_1 := dk_seg dksX0_grind_0 23 rfl rfl
theorem dksX0_grind_2 : cX0_grind.data.toList.drop 47 = dktX0_grind_2 := dk_seg dksX0_grind_1 24 rfl rfl
theorem dksX0_grind_3 : cX0_grind.data.toList.drop 70 = dktX0_grind_3 := dk_seg dksX0_grind_2 23 rfl rfl
theorem dksX0_grind_4 : cX0_grind.data.toList.drop 93 = dktX0_grind_4 := dk_seg dksX0_grind_3 23 rfl rfl
theorem dX0_grind_0 : decode cX0_grind 0 = .ok (.aload_n 0, 1) := dk_42 (dk_at dksX0_grind_0 0 rfl rfl)
theorem dX0_grind_1 : decode cX0_grind 1 = .ok (.getfield 32, 3) := dk_180 0 32 (dk_at dksX0_grind_0 1 rfl rfl)
theorem dX0_grind_4 : decode cX0_grind 4 = .ok (.iload_n 1, 1) := dk_27 (dk_at dksX0_grind_0 4 rfl rfl)
theorem dX0_grind_5 : decode cX0_grind 5 = .ok (.invokevirtual 83, 3) := dk_182 0 83 (dk_at dksX0_grind_0 5 rfl rfl)
theorem dX0_grind_8 : decode cX0_grind 8 = .ok (.ifCond .eq 12, 3) := dk_153 0 12 (dk_at dksX0_grind_0 8 rfl rfl)
theorem dX0_grind_11 : decode cX0_grind 11 = .ok (.iload_n 2, 1) := dk_28 (dk_at dksX0_grind_0 11 rfl rfl)
theorem dX0_grind_12 : decode cX0_grind 12 = .ok (.iconst 0, 1) := dk_3 (dk_at dksX0_grind_0 12 rfl rfl)
theorem dX0_grind_13 : decode cX0_grind 13 = .ok (.iconst 1, 1) := dk_4 (dk_at dksX0_grind_0 13 rfl rfl)
theorem dX0_grind_14 : decode cX0_grind 14 = .ok (.invokestatic 58, 3) := dk_184 0 58 (dk_at dksX0_grind_0 14 rfl rfl)
theorem dX0_grind_17 : decode cX0_grind 17 = .ok (.ifCond .ne 5, 3) := dk_154 0 5 (dk_at dksX0_grind_0 17 rfl rfl)
theorem dX0_grind_20 : decode cX0_grind 20 = .ok (.iconst (-1), 1) := dk_2 (dk_at dksX0_grind_0 20 rfl rfl)
theorem dX0_grind_21 : decode cX0_grind 21 = .ok (.ireturn, 1) := dk_172 (dk_at dksX0_grind_0 21 rfl rfl)
theorem dX0_grind_22 : decode cX0_grind 22 = .ok (.aload_n 0, 1) := dk_42 (dk_at dksX0_grind_0 22 rfl rfl)
theorem dX0_grind_23 : decode cX0_grind 23 = .ok (.getfield 32, 3) := dk_180 0 32 (dk_at dksX0_grind_1 0 rfl rfl)
theorem dX0_grind_26 : decode cX0_grind 26 = .ok (.getfield 62, 3) := dk_180 0 62 (dk_at dksX0_grind_1 3 rfl rfl)
theorem dX0_grind_29 : decode cX0_grind 29 = .ok (.iload_n 1, 1) := dk_27 (dk_at dksX0_grind_1 6 rfl rfl)
theorem dX0_grind_30 : decode cX0_grind 30 = .ok (.invokeinterface 87 2, 5) := by decide +kernel
theorem dX0_grind_35 : decode cX0_grind 35 = .ok (.checkcast 74, 3) := dk_192 0 74 (dk_at dksX0_grind_1 12 rfl rfl)
theorem dX0_grind_38 : decode cX0_grind 38 = .ok (.astore_n 3, 1) := dk_78 (dk_at dksX0_grind_1 15 rfl rfl)
theorem dX0_grind_39 : decode cX0_grind 39 = .ok (.aload_n 3, 1) := dk_45 (dk_at dksX0_grind_1 16 rfl rfl)
theorem dX0_grind_40 : decode cX0_grind 40 = .ok (.getfield 91, 3) := dk_180 0 91 (dk_at dksX0_grind_1 17 rfl rfl)
theorem dX0_grind_43 : decode cX0_grind 43 = .ok (.ifCond .ne 30, 3) := dk_154 0 30 (dk_at dksX0_grind_1 20 rfl rfl)
theorem dX0_grind_46 : decode cX0_grind 46 = .ok (.aload_n 3, 1) := dk_45 (dk_at dksX0_grind_1 23 rfl rfl)
theorem dX0_grind_47 : decode cX0_grind 47 = .ok (.getfield 99, 3) := dk_180 0 99 (dk_at dksX0_grind_2 0 rfl rfl)
theorem dX0_grind_50 : decode cX0_grind 50 = .ok (.iload_n 2, 1) := dk_28 (dk_at dksX0_grind_2 3 rfl rfl)
theorem dX0_grind_51 : decode cX0_grind 51 = .ok (.iaload, 1) := dk_46 (dk_at dksX0_grind_2 4 rfl rfl)
theorem dX0_grind_52 : decode cX0_grind 52 = .ok (.ifCond .eq 21, 3) := dk_153 0 21 (dk_at dksX0_grind_2 5 rfl rfl)
theorem dX0_grind_55 : decode cX0_grind 55 = .ok (.aload_n 3, 1) := dk_45 (dk_at dksX0_grind_2 8 rfl rfl)
theorem dX0_grind_56 : decode cX0_grind 56 = .ok (.iload_n 2, 1) := dk_28 (dk_at dksX0_grind_2 9 rfl rfl)
theorem dX0_grind_57 : decode cX0_grind 57 = .ok (.invokevirtual 102, 3) := dk_182 0 102 (dk_at dksX0_grind_2 10 rfl rfl)
theorem dX0_grind_60 : decode cX0_grind 60 = .ok (.aload_n 3, 1) := dk_45 (dk_at dksX0_grind_2 13 rfl rfl)
theorem dX0_grind_61 : decode cX0_grind 61 = .ok (.getfield 99, 3) := dk_180 0 99 (dk_at dksX0_grind_2 14 rfl rfl)
theorem dX0_grind_64 : decode cX0_grind 64 = .ok (.iconst 1, 1) := dk_4 (dk_at dksX0_grind_2 17 rfl rfl)
theorem dX0_grind_65 : decode cX0_grind 65 = .ok (.iload_n 2, 1) := dk_28 (dk_at dksX0_grind_2 18 rfl rfl)
theorem dX0_grind_66 : decode cX0_grind 66 = .ok (.isub, 1) := dk_100 (dk_at dksX0_grind_2 19 rfl rfl)
theorem dX0_grind_67 : decode cX0_grind 67 = .ok (.iaload, 1) := dk_46 (dk_at dksX0_grind_2 20 rfl rfl)
theorem dX0_grind_68 : decode cX0_grind 68 = .ok (.isub, 1) := dk_100 (dk_at dksX0_grind_2 21 rfl rfl)
theorem dX0_grind_69 : decode cX0_grind 69 = .ok (.iconst 2, 1) := dk_5 (dk_at dksX0_grind_2 22 rfl rfl)
theorem dX0_grind_70 : decode cX0_grind 70 = .ok (.if_icmp .ge 6, 3) := dk_162 0 6 (dk_at dksX0_grind_3 0 rfl rfl)
theorem dX0_grind_73 : decode cX0_grind 73 = .ok (.bipush (-2), 2) := dk_16 254 (dk_at dksX0_grind_3 3 rfl rfl)
theorem dX0_grind_75 : decode cX0_grind 75 = .ok (.ireturn, 1) := dk_172 (dk_at dksX0_grind_3 5 rfl rfl)
theorem dX0_grind_76 : decode cX0_grind 76 = .ok (.aload_n 0, 1) := dk_42 (dk_at dksX0_grind_3 6 rfl rfl)
theorem dX0_grind_77 : decode cX0_grind 77 = .ok (.invokevirtual 71, 3) := dk_182 0 71 (dk_at dksX0_grind_3 7 rfl rfl)
theorem dX0_grind_80 : decode cX0_grind 80 = .ok (.iload_n 1, 1) := dk_27 (dk_at dksX0_grind_3 10 rfl rfl)
theorem dX0_grind_81 : decode cX0_grind 81 = .ok (.iload_n 2, 1) := dk_28 (dk_at dksX0_grind_3 11 rfl rfl)
theorem dX0_grind_82 : decode cX0_grind 82 = .ok (.invokevirtual 105, 3) := dk_182 0 105 (dk_at dksX0_grind_3 12 rfl rfl)
theorem dX0_grind_85 : decode cX0_grind 85 = .ok (.aload_n 0, 1) := dk_42 (dk_at dksX0_grind_3 15 rfl rfl)
theorem dX0_grind_86 : decode cX0_grind 86 = .ok (.getfield 32, 3) := dk_180 0 32 (dk_at dksX0_grind_3 16 rfl rfl)
theorem dX0_grind_89 : decode cX0_grind 89 = .ok (.getfield 62, 3) := dk_180 0 62 (dk_at dksX0_grind_3 19 rfl rfl)
theorem dX0_grind_92 : decode cX0_grind 92 = .ok (.iload_n 1, 1) := dk_27 (dk_at dksX0_grind_3 22 rfl rfl)
theorem dX0_grind_93 : decode cX0_grind 93 = .ok (.invokeinterface 87 2, 5) := by decide +kernel
theorem dX0_grind_98 : decode cX0_grind 98 = .ok (.checkcast 74, 3) := dk_192 0 74 (dk_at dksX0_grind_4 5 rfl rfl)
theorem dX0_grind_101 : decode cX0_grind 101 = .ok (.getfield 108, 3) := dk_180 0 108 (dk_at dksX0_grind_4 8 rfl rfl)
theorem dX0_grind_104 : decode cX0_grind 104 = .ok (.ireturn, 1) := dk_172 (dk_at dksX0_grind_4 11 rfl rfl)
abbrev cX0_addShield : ByteArray := prog_1_method_10_code
def yX0_addShield : MethodName := ⟨RX0, "addShield", "(I)I"⟩
def dkwX0_addShield_2 : List UInt8 := [96, 181, 0, 111, 44, 180, 0, 111, 4, 100, 172]
abbrev dktX0_addShield_2 : List UInt8 := dkwX0_addShield_2 ++ []
def dkwX0_addShield_1 : List UInt8 := [16, 253, 172, 42, 182, 0, 71, 77, 44, 180, 0, 114, 44, 180, 0, 111, 27, 79, 44, 89, 180, 0, 111, 4]
abbrev dktX0_addShield_1 : List UInt8 := dkwX0_addShield_1 ++ dktX0_addShield_2
def dkwX0_addShield_0 : List UInt8 := [27, 5, 16, 6, 184, 0, 58, 154, 0, 5, 2, 172, 42, 180, 0, 32, 180, 0, 111, 6, 160, 0, 6]
abbrev dktX0_addShield_0 : List UInt8 := dkwX0_addShield_0 ++ dktX0_addShield_1
theorem dksX0_addShield_0 : cX0_addShield.data.toList.drop 0 = dktX0_addShield_0 := by decide +kernel
theorem dksX0_addShield_1 : cX0_addShield.data.toList.drop 23 = dktX0_addShield_1 := dk_seg dksX0_addShield_0 23 rfl rfl
theorem dksX0_addShield_2 : cX0_addShield.data.toList.drop 47 = dktX0_addShield_2 := dk_seg dksX0_addShield_1 24 rfl rfl
theorem dX0_addShield_0 : decode cX0_addShield 0 = .ok (.iload_n 1, 1) := dk_27 (dk_at dksX0_addShield_0 0 rfl rfl)
theorem dX0_addShield_1 : decode cX0_addShield 1 = .ok (.iconst 2, 1) := dk_5 (dk_at dksX0_addShield_0 1 rfl rfl)
theorem dX0_addShield_2 : decode cX0_addShield 2 = .ok (.bipush 6, 2) := dk_16 6 (dk_at dksX0_addShield_0 2 rfl rfl)
theorem dX0_addShield_4 : decode cX0_addShield 4 = .ok (.invokestatic 58, 3) := dk_184 0 58 (dk_at dksX0_addShield_0 4 rfl rfl)
theorem dX0_addShield_7 : decode cX0_addShield 7 = .ok (.ifCond .ne 5, 3) := dk_154 0 5 (dk_at dksX0_addShield_0 7 rfl rfl)
theorem dX0_addShield_10 : decode cX0_addShield 10 = .ok (.iconst (-1), 1) := dk_2 (dk_at dksX0_addShield_0 10 rfl rfl)
theorem dX0_addShield_11 : decode cX0_addShield 11 = .ok (.ireturn, 1) := dk_172 (dk_at dksX0_addShield_0 11 rfl rfl)
theorem dX0_addShield_12 : decode cX0_addShield 12 = .ok (.aload_n 0, 1) := dk_42 (dk_at dksX0_addShield_0 12 rfl rfl)
theorem dX0_addShield_13 : decode cX0_addShield 13 = .ok (.getfield 32, 3) := dk_180 0 32 (dk_at dksX0_addShield_0 13 rfl rfl)
theorem dX0_addShield_16 : decode cX0_addShield 16 = .ok (.getfield 111, 3) := dk_180 0 111 (dk_at dksX0_addShield_0 16 rfl rfl)
theorem dX0_addShield_19 : decode cX0_addShield 19 = .ok (.iconst 3, 1) := dk_6 (dk_at dksX0_addShield_0 19 rfl rfl)
theorem dX0_addShield_20 : decode cX0_addShield 20 = .ok (.if_icmp .ne 6, 3) := dk_160 0 6 (dk_at dksX0_addShield_0 20 rfl rfl)
theorem dX0_addShield_23 : decode cX0_addShield 23 = .ok (.bipush (-3), 2) := dk_16 253 (dk_at dksX0_addShield_1 0 rfl rfl)
theorem dX0_addShield_25 : decode cX0_addShield 25 = .ok (.ireturn, 1) := dk_172 (dk_at dksX0_addShield_1 2 rfl rfl)
theorem dX0_addShield_26 : decode cX0_addShield 26 = .ok (.aload_n 0, 1) := dk_42 (dk_at dksX0_addShield_1 3 rfl rfl)
theorem dX0_addShield_27 : decode cX0_addShield 27 = .ok (.invokevirtual 71, 3) := dk_182 0 71 (dk_at dksX0_addShield_1 4 rfl rfl)
theorem dX0_addShield_30 : decode cX0_addShield 30 = .ok (.astore_n 2, 1) := dk_77 (dk_at dksX0_addShield_1 7 rfl rfl)
theorem dX0_addShield_31 : decode cX0_addShield 31 = .ok (.aload_n 2, 1) := dk_44 (dk_at dksX0_addShield_1 8 rfl rfl)
theorem dX0_addShield_32 : decode cX0_addShield 32 = .ok (.getfield 114, 3) := dk_180 0 114 (dk_at dksX0_addShield_1 9 rfl rfl)
theorem dX0_addShield_35 : decode cX0_addShield 35 = .ok (.aload_n 2, 1) := dk_44 (dk_at dksX0_addShield_1 12 rfl rfl)
theorem dX0_addShield_36 : decode cX0_addShield 36 = .ok (.getfield 111, 3) := dk_180 0 111 (dk_at dksX0_addShield_1 13 rfl rfl)
theorem dX0_addShield_39 : decode cX0_addShield 39 = .ok (.iload_n 1, 1) := dk_27 (dk_at dksX0_addShield_1 16 rfl rfl)
theorem dX0_addShield_40 : decode cX0_addShield 40 = .ok (.iastore, 1) := dk_79 (dk_at dksX0_addShield_1 17 rfl rfl)
theorem dX0_addShield_41 : decode cX0_addShield 41 = .ok (.aload_n 2, 1) := dk_44 (dk_at dksX0_addShield_1 18 rfl rfl)
theorem dX0_addShield_42 : decode cX0_addShield 42 = .ok (.dup, 1) := dk_89 (dk_at dksX0_addShield_1 19 rfl rfl)
theorem dX0_addShield_43 : decode cX0_addShield 43 = .ok (.getfield 111, 3) := dk_180 0 111 (dk_at dksX0_addShield_1 20 rfl rfl)
theorem dX0_addShield_46 : decode cX0_addShield 46 = .ok (.iconst 1, 1) := dk_4 (dk_at dksX0_addShield_1 23 rfl rfl)
theorem dX0_addShield_47 : decode cX0_addShield 47 = .ok (.iadd, 1) := dk_96 (dk_at dksX0_addShield_2 0 rfl rfl)
theorem dX0_addShield_48 : decode cX0_addShield 48 = .ok (.putfield 111, 3) := dk_181 0 111 (dk_at dksX0_addShield_2 1 rfl rfl)
theorem dX0_addShield_51 : decode cX0_addShield 51 = .ok (.aload_n 2, 1) := dk_44 (dk_at dksX0_addShield_2 4 rfl rfl)
theorem dX0_addShield_52 : decode cX0_addShield 52 = .ok (.getfield 111, 3) := dk_180 0 111 (dk_at dksX0_addShield_2 5 rfl rfl)
theorem dX0_addShield_55 : decode cX0_addShield 55 = .ok (.iconst 1, 1) := dk_4 (dk_at dksX0_addShield_2 8 rfl rfl)
theorem dX0_addShield_56 : decode cX0_addShield 56 = .ok (.isub, 1) := dk_100 (dk_at dksX0_addShield_2 9 rfl rfl)
theorem dX0_addShield_57 : decode cX0_addShield 57 = .ok (.ireturn, 1) := dk_172 (dk_at dksX0_addShield_2 10 rfl rfl)
abbrev cX0_takeOff : ByteArray := prog_1_method_12_code
def yX0_takeOff : MethodName := ⟨RX0, "takeOff", "(II)I"⟩
def dkwX0_takeOff_1 : List UInt8 := [160, 0, 6, 16, 254, 172, 42, 182, 0, 71, 27, 28, 182, 0, 127, 172]
abbrev dktX0_takeOff_1 : List UInt8 := dkwX0_takeOff_1 ++ []
def dkwX0_takeOff_0 : List UInt8 := [42, 27, 28, 182, 0, 120, 154, 0, 5, 2, 172, 42, 180, 0, 32, 27, 28, 182, 0, 124, 16, 247]
abbrev dktX0_takeOff_0 : List UInt8 := dkwX0_takeOff_0 ++ dktX0_takeOff_1
theorem dksX0_takeOff_0 : cX0_takeOff.data.toList.drop 0 = dktX0_takeOff_0 := by decide +kernel
theorem dksX0_takeOff_1 : cX0_takeOff.data.toList.drop 22 = dktX0_takeOff_1 := dk_seg dksX0_takeOff_0 22 rfl rfl
theorem dX0_takeOff_0 : decode cX0_takeOff 0 = .ok (.aload_n 0, 1) := dk_42 (dk_at dksX0_takeOff_0 0 rfl rfl)
theorem dX0_takeOff_1 : decode cX0_takeOff 1 = .ok (.iload_n 1, 1) := dk_27 (dk_at dksX0_takeOff_0 1 rfl rfl)
theorem dX0_takeOff_2 : decode cX0_takeOff 2 = .ok (.iload_n 2, 1) := dk_28 (dk_at dksX0_takeOff_0 2 rfl rfl)
theorem dX0_takeOff_3 : decode cX0_takeOff 3 = .ok (.invokevirtual 120, 3) := dk_182 0 120 (dk_at dksX0_takeOff_0 3 rfl rfl)
theorem dX0_takeOff_6 : decode cX0_takeOff 6 = .ok (.ifCond .ne 5, 3) := dk_154 0 5 (dk_at dksX0_takeOff_0 6 rfl rfl)
theorem dX0_takeOff_9 : decode cX0_takeOff 9 = .ok (.iconst (-1), 1) := dk_2 (dk_at dksX0_takeOff_0 9 rfl rfl)
theorem dX0_takeOff_10 : decode cX0_takeOff 10 = .ok (.ireturn, 1) := dk_172 (dk_at dksX0_takeOff_0 10 rfl rfl)
theorem dX0_takeOff_11 : decode cX0_takeOff 11 = .ok (.aload_n 0, 1) := dk_42 (dk_at dksX0_takeOff_0 11 rfl rfl)
theorem dX0_takeOff_12 : decode cX0_takeOff 12 = .ok (.getfield 32, 3) := dk_180 0 32 (dk_at dksX0_takeOff_0 12 rfl rfl)
theorem dX0_takeOff_15 : decode cX0_takeOff 15 = .ok (.iload_n 1, 1) := dk_27 (dk_at dksX0_takeOff_0 15 rfl rfl)
theorem dX0_takeOff_16 : decode cX0_takeOff 16 = .ok (.iload_n 2, 1) := dk_28 (dk_at dksX0_takeOff_0 16 rfl rfl)
theorem dX0_takeOff_17 : decode cX0_takeOff 17 = .ok (.invokevirtual 124, 3) := dk_182 0 124 (dk_at dksX0_takeOff_0 17 rfl rfl)
theorem dX0_takeOff_20 : decode cX0_takeOff 20 = .ok (.bipush (-9), 2) := dk_16 247 (dk_at dksX0_takeOff_0 20 rfl rfl)
theorem dX0_takeOff_22 : decode cX0_takeOff 22 = .ok (.if_icmp .ne 6, 3) := dk_160 0 6 (dk_at dksX0_takeOff_1 0 rfl rfl)
theorem dX0_takeOff_25 : decode cX0_takeOff 25 = .ok (.bipush (-2), 2) := dk_16 254 (dk_at dksX0_takeOff_1 3 rfl rfl)
theorem dX0_takeOff_27 : decode cX0_takeOff 27 = .ok (.ireturn, 1) := dk_172 (dk_at dksX0_takeOff_1 5 rfl rfl)
theorem dX0_takeOff_28 : decode cX0_takeOff 28 = .ok (.aload_n 0, 1) := dk_42 (dk_at dksX0_takeOff_1 6 rfl rfl)
theorem dX0_takeOff_29 : decode cX0_takeOff 29 = .ok (.invokevirtual 71, 3) := dk_182 0 71 (dk_at dksX0_takeOff_1 7 rfl rfl)
theorem dX0_takeOff_32 : decode cX0_takeOff 32 = .ok (.iload_n 1, 1) := dk_27 (dk_at dksX0_takeOff_1 10 rfl rfl)
theorem dX0_takeOff_33 : decode cX0_takeOff 33 = .ok (.iload_n 2, 1) := dk_28 (dk_at dksX0_takeOff_1 11 rfl rfl)
theorem dX0_takeOff_34 : decode cX0_takeOff 34 = .ok (.invokevirtual 127, 3) := dk_182 0 127 (dk_at dksX0_takeOff_1 12 rfl rfl)
theorem dX0_takeOff_37 : decode cX0_takeOff 37 = .ok (.ireturn, 1) := dk_172 (dk_at dksX0_takeOff_1 15 rfl rfl)
abbrev cX0_isPlace : ByteArray := prog_1_method_11_code
def yX0_isPlace : MethodName := ⟨RX0, "isPlace", "(II)Z"⟩
def dkwX0_isPlace_1 : List UInt8 := [167, 0, 4, 3, 172]
abbrev dktX0_isPlace_1 : List UInt8 := dkwX0_isPlace_1 ++ []
def dkwX0_isPlace_0 : List UInt8 := [42, 180, 0, 32, 27, 182, 0, 117, 153, 0, 18, 28, 4, 17, 3, 231, 184, 0, 58, 153, 0, 7, 4]
abbrev dktX0_isPlace_0 : List UInt8 := dkwX0_isPlace_0 ++ dktX0_isPlace_1
theorem dksX0_isPlace_0 : cX0_isPlace.data.toList.drop 0 = dktX0_isPlace_0 := by decide +kernel
theorem dksX0_isPlace_1 : cX0_isPlace.data.toList.drop 23 = dktX0_isPlace_1 := dk_seg dksX0_isPlace_0 23 rfl rfl
theorem dX0_isPlace_0 : decode cX0_isPlace 0 = .ok (.aload_n 0, 1) := dk_42 (dk_at dksX0_isPlace_0 0 rfl rfl)
theorem dX0_isPlace_1 : decode cX0_isPlace 1 = .ok (.getfield 32, 3) := dk_180 0 32 (dk_at dksX0_isPlace_0 1 rfl rfl)
theorem dX0_isPlace_4 : decode cX0_isPlace 4 = .ok (.iload_n 1, 1) := dk_27 (dk_at dksX0_isPlace_0 4 rfl rfl)
theorem dX0_isPlace_5 : decode cX0_isPlace 5 = .ok (.invokevirtual 117, 3) := dk_182 0 117 (dk_at dksX0_isPlace_0 5 rfl rfl)
theorem dX0_isPlace_8 : decode cX0_isPlace 8 = .ok (.ifCond .eq 18, 3) := dk_153 0 18 (dk_at dksX0_isPlace_0 8 rfl rfl)
theorem dX0_isPlace_11 : decode cX0_isPlace 11 = .ok (.iload_n 2, 1) := dk_28 (dk_at dksX0_isPlace_0 11 rfl rfl)
theorem dX0_isPlace_12 : decode cX0_isPlace 12 = .ok (.iconst 1, 1) := dk_4 (dk_at dksX0_isPlace_0 12 rfl rfl)
theorem dX0_isPlace_13 : decode cX0_isPlace 13 = .ok (.sipush 999, 3) := dk_17 3 231 (dk_at dksX0_isPlace_0 13 rfl rfl)
theorem dX0_isPlace_16 : decode cX0_isPlace 16 = .ok (.invokestatic 58, 3) := dk_184 0 58 (dk_at dksX0_isPlace_0 16 rfl rfl)
theorem dX0_isPlace_19 : decode cX0_isPlace 19 = .ok (.ifCond .eq 7, 3) := dk_153 0 7 (dk_at dksX0_isPlace_0 19 rfl rfl)
theorem dX0_isPlace_22 : decode cX0_isPlace 22 = .ok (.iconst 1, 1) := dk_4 (dk_at dksX0_isPlace_0 22 rfl rfl)
theorem dX0_isPlace_23 : decode cX0_isPlace 23 = .ok (.goto 4, 3) := dk_167 0 4 (dk_at dksX0_isPlace_1 0 rfl rfl)
theorem dX0_isPlace_26 : decode cX0_isPlace 26 = .ok (.iconst 0, 1) := dk_3 (dk_at dksX0_isPlace_1 3 rfl rfl)
theorem dX0_isPlace_27 : decode cX0_isPlace 27 = .ok (.ireturn, 1) := dk_172 (dk_at dksX0_isPlace_1 4 rfl rfl)
abbrev cX0_append : ByteArray := prog_1_method_13_code
def yX0_append : MethodName := ⟨RX0, "append", "(I)I"⟩
def dkwX0_append_1 : List UInt8 := [160, 0, 6, 16, 253, 172, 42, 180, 0, 46, 27, 146, 182, 0, 131, 87, 42, 180, 0, 46, 182, 0, 130, 172]
abbrev dktX0_append_1 : List UInt8 := dkwX0_append_1 ++ []
def dkwX0_append_0 : List UInt8 := [27, 16, 97, 16, 122, 184, 0, 58, 154, 0, 5, 2, 172, 42, 180, 0, 46, 182, 0, 130, 16, 12]
abbrev dktX0_append_0 : List UInt8 := dkwX0_append_0 ++ dktX0_append_1
theorem dksX0_append_0 : cX0_append.data.toList.drop 0 = dktX0_append_0 := by decide +kernel
theorem dksX0_append_1 : cX0_append.data.toList.drop 22 = dktX0_append_1 := dk_seg dksX0_append_0 22 rfl rfl
theorem dX0_append_0 : decode cX0_append 0 = .ok (.iload_n 1, 1) := dk_27 (dk_at dksX0_append_0 0 rfl rfl)
theorem dX0_append_1 : decode cX0_append 1 = .ok (.bipush 97, 2) := dk_16 97 (dk_at dksX0_append_0 1 rfl rfl)
theorem dX0_append_3 : decode cX0_append 3 = .ok (.bipush 122, 2) := dk_16 122 (dk_at dksX0_append_0 3 rfl rfl)
theorem dX0_append_5 : decode cX0_append 5 = .ok (.invokestatic 58, 3) := dk_184 0 58 (dk_at dksX0_append_0 5 rfl rfl)
theorem dX0_append_8 : decode cX0_append 8 = .ok (.ifCond .ne 5, 3) := dk_154 0 5 (dk_at dksX0_append_0 8 rfl rfl)
theorem dX0_append_11 : decode cX0_append 11 = .ok (.iconst (-1), 1) := dk_2 (dk_at dksX0_append_0 11 rfl rfl)
theorem dX0_append_12 : decode cX0_append 12 = .ok (.ireturn, 1) := dk_172 (dk_at dksX0_append_0 12 rfl rfl)
theorem dX0_append_13 : decode cX0_append 13 = .ok (.aload_n 0, 1) := dk_42 (dk_at dksX0_append_0 13 rfl rfl)
theorem dX0_append_14 : decode cX0_append 14 = .ok (.getfield 46, 3) := dk_180 0 46 (dk_at dksX0_append_0 14 rfl rfl)
theorem dX0_append_17 : decode cX0_append 17 = .ok (.invokevirtual 130, 3) := dk_182 0 130 (dk_at dksX0_append_0 17 rfl rfl)
theorem dX0_append_20 : decode cX0_append 20 = .ok (.bipush 12, 2) := dk_16 12 (dk_at dksX0_append_0 20 rfl rfl)
theorem dX0_append_22 : decode cX0_append 22 = .ok (.if_icmp .ne 6, 3) := dk_160 0 6 (dk_at dksX0_append_1 0 rfl rfl)
theorem dX0_append_25 : decode cX0_append 25 = .ok (.bipush (-3), 2) := dk_16 253 (dk_at dksX0_append_1 3 rfl rfl)
theorem dX0_append_27 : decode cX0_append 27 = .ok (.ireturn, 1) := dk_172 (dk_at dksX0_append_1 5 rfl rfl)
theorem dX0_append_28 : decode cX0_append 28 = .ok (.aload_n 0, 1) := dk_42 (dk_at dksX0_append_1 6 rfl rfl)
theorem dX0_append_29 : decode cX0_append 29 = .ok (.getfield 46, 3) := dk_180 0 46 (dk_at dksX0_append_1 7 rfl rfl)
theorem dX0_append_32 : decode cX0_append 32 = .ok (.iload_n 1, 1) := dk_27 (dk_at dksX0_append_1 10 rfl rfl)
theorem dX0_append_33 : decode cX0_append 33 = .ok (.i2c, 1) := dk_146 (dk_at dksX0_append_1 11 rfl rfl)
theorem dX0_append_34 : decode cX0_append 34 = .ok (.invokevirtual 131, 3) := dk_182 0 131 (dk_at dksX0_append_1 12 rfl rfl)
theorem dX0_append_37 : decode cX0_append 37 = .ok (.pop, 1) := dk_87 (dk_at dksX0_append_1 15 rfl rfl)
theorem dX0_append_38 : decode cX0_append 38 = .ok (.aload_n 0, 1) := dk_42 (dk_at dksX0_append_1 16 rfl rfl)
theorem dX0_append_39 : decode cX0_append 39 = .ok (.getfield 46, 3) := dk_180 0 46 (dk_at dksX0_append_1 17 rfl rfl)
theorem dX0_append_42 : decode cX0_append 42 = .ok (.invokevirtual 130, 3) := dk_182 0 130 (dk_at dksX0_append_1 20 rfl rfl)
theorem dX0_append_45 : decode cX0_append 45 = .ok (.ireturn, 1) := dk_172 (dk_at dksX0_append_1 23 rfl rfl)
abbrev cX0_clearText : ByteArray := prog_1_method_14_code
def yX0_clearText : MethodName := ⟨RX0, "clearText", "()I"⟩
def dkwX0_clearText_0 : List UInt8 := [42, 180, 0, 46, 182, 0, 130, 60, 42, 180, 0, 46, 3, 182, 0, 135, 27, 172]
abbrev dktX0_clearText_0 : List UInt8 := dkwX0_clearText_0 ++ []
theorem dksX0_clearText_0 : cX0_clearText.data.toList.drop 0 = dktX0_clearText_0 := by decide +kernel
theorem dX0_clearText_0 : decode cX0_clearText 0 = .ok (.aload_n 0, 1) := dk_42 (dk_at dksX0_clearText_0 0 rfl rfl)
theorem dX0_clearText_1 : decode cX0_clearText 1 = .ok (.getfield 46, 3) := dk_180 0 46 (dk_at dksX0_clearText_0 1 rfl rfl)
theorem dX0_clearText_4 : decode cX0_clearText 4 = .ok (.invokevirtual 130, 3) := dk_182 0 130 (dk_at dksX0_clearText_0 4 rfl rfl)
theorem dX0_clearText_7 : decode cX0_clearText 7 = .ok (.istore_n 1, 1) := dk_60 (dk_at dksX0_clearText_0 7 rfl rfl)
theorem dX0_clearText_8 : decode cX0_clearText 8 = .ok (.aload_n 0, 1) := dk_42 (dk_at dksX0_clearText_0 8 rfl rfl)
theorem dX0_clearText_9 : decode cX0_clearText 9 = .ok (.getfield 46, 3) := dk_180 0 46 (dk_at dksX0_clearText_0 9 rfl rfl)
theorem dX0_clearText_12 : decode cX0_clearText 12 = .ok (.iconst 0, 1) := dk_3 (dk_at dksX0_clearText_0 12 rfl rfl)
theorem dX0_clearText_13 : decode cX0_clearText 13 = .ok (.invokevirtual 135, 3) := dk_182 0 135 (dk_at dksX0_clearText_0 13 rfl rfl)
theorem dX0_clearText_16 : decode cX0_clearText 16 = .ok (.iload_n 1, 1) := dk_27 (dk_at dksX0_clearText_0 16 rfl rfl)
theorem dX0_clearText_17 : decode cX0_clearText 17 = .ok (.ireturn, 1) := dk_172 (dk_at dksX0_clearText_0 17 rfl rfl)
abbrev cX0_order : ByteArray := prog_1_method_17_code
def yX0_order : MethodName := ⟨RX0, "order", "(IIIII)I"⟩
def dkwX0_order_6 : List UInt8 := [180, 0, 46, 3, 182, 0, 135, 42, 182, 0, 71, 25, 7, 182, 0, 164, 172]
abbrev dktX0_order_6 : List UInt8 := dkwX0_order_6 ++ []
def dkwX0_order_5 : List UInt8 := [182, 0, 157, 29, 21, 4, 21, 5, 4, 160, 0, 7, 4, 167, 0, 4, 3, 183, 0, 161, 58, 7, 42]
abbrev dktX0_order_5 : List UInt8 := dkwX0_order_5 ++ dktX0_order_6
def dkwX0_order_4 : List UInt8 := [185, 0, 66, 1, 0, 16, 10, 160, 0, 6, 16, 253, 172, 187, 0, 155, 89, 25, 6, 42, 180, 0, 46]
abbrev dktX0_order_4 : List UInt8 := dkwX0_order_4 ++ dktX0_order_5
def dkwX0_order_3 : List UInt8 := [180, 0, 32, 25, 6, 182, 0, 148, 153, 0, 6, 16, 254, 172, 42, 180, 0, 32, 180, 0, 152]
abbrev dktX0_order_3 : List UInt8 := dkwX0_order_3 ++ dktX0_order_4
def dkwX0_order_2 : List UInt8 := [180, 0, 46, 182, 0, 130, 153, 0, 29, 42, 180, 0, 32, 27, 28, 182, 0, 124, 16, 247, 160, 0, 15, 42]
abbrev dktX0_order_2 : List UInt8 := dkwX0_order_2 ++ dktX0_order_3
def dkwX0_order_1 : List UInt8 := [21, 5, 3, 4, 184, 0, 58, 154, 0, 5, 2, 172, 187, 0, 145, 89, 27, 28, 183, 0, 147, 58, 6, 42]
abbrev dktX0_order_1 : List UInt8 := dkwX0_order_1 ++ dktX0_order_2
def dkwX0_order_0 : List UInt8 := [42, 27, 28, 182, 0, 120, 153, 0, 28, 29, 184, 0, 139, 153, 0, 21, 21, 4, 184, 0, 142, 153, 0, 13]
abbrev dktX0_order_0 : List UInt8 := dkwX0_order_0 ++ dktX0_order_1
theorem dksX0_order_0 : cX0_order.data.toList.drop 0 = dktX0_order_0 := by decide +kernel
theorem dksX0_order_1 : cX0_order.data.toList.drop 24 = dktX0_order_1 := dk_seg dksX0_order_0 24 rfl rfl
theorem dksX0_order_2 : cX0_order.data.toList.drop 48 = dktX0_order_2 := dk_seg dksX0_order_1 24 rfl rfl
theorem dksX0_order_3 : cX0_order.data.toList.drop 72 = dktX0_order_3 := dk_seg dksX0_order_2 24 rfl rfl
theorem dksX0_order_4 : cX0_order.data.toList.drop 93 = dktX0_order_4 := dk_seg dksX0_order_3 21 rfl rfl
theorem dksX0_order_5 : cX0_order.data.toList.drop 116 = dktX0_order_5 := dk_seg dksX0_order_4 23 rfl rfl
theorem dksX0_order_6 : cX0_order.data.toList.drop 139 = dktX0_order_6 := dk_seg dksX0_order_5 23 rfl rfl
theorem dX0_order_0 : decode cX0_order 0 = .ok (.aload_n 0, 1) := dk_42 (dk_at dksX0_order_0 0 rfl rfl)
theorem dX0_order_1 : decode cX0_order 1 = .ok (.iload_n 1, 1) := dk_27 (dk_at dksX0_order_0 1 rfl rfl)
theorem dX0_order_2 : decode cX0_order 2 = .ok (.iload_n 2, 1) := dk_28 (dk_at dksX0_order_0 2 rfl rfl)
theorem dX0_order_3 : decode cX0_order 3 = .ok (.invokevirtual 120, 3) := dk_182 0 120 (dk_at dksX0_order_0 3 rfl rfl)
theorem dX0_order_6 : decode cX0_order 6 = .ok (.ifCond .eq 28, 3) := dk_153 0 28 (dk_at dksX0_order_0 6 rfl rfl)
theorem dX0_order_9 : decode cX0_order 9 = .ok (.iload_n 3, 1) := dk_29 (dk_at dksX0_order_0 9 rfl rfl)
theorem dX0_order_10 : decode cX0_order 10 = .ok (.invokestatic 139, 3) := dk_184 0 139 (dk_at dksX0_order_0 10 rfl rfl)
theorem dX0_order_13 : decode cX0_order 13 = .ok (.ifCond .eq 21, 3) := dk_153 0 21 (dk_at dksX0_order_0 13 rfl rfl)
theorem dX0_order_16 : decode cX0_order 16 = .ok (.iload 4, 2) := dk_21 4 (dk_at dksX0_order_0 16 rfl rfl)
theorem dX0_order_18 : decode cX0_order 18 = .ok (.invokestatic 142, 3) := dk_184 0 142 (dk_at dksX0_order_0 18 rfl rfl)
theorem dX0_order_21 : decode cX0_order 21 = .ok (.ifCond .eq 13, 3) := dk_153 0 13 (dk_at dksX0_order_0 21 rfl rfl)
theorem dX0_order_24 : decode cX0_order 24 = .ok (.iload 5, 2) := dk_21 5 (dk_at dksX0_order_1 0 rfl rfl)
theorem dX0_order_26 : decode cX0_order 26 = .ok (.iconst 0, 1) := dk_3 (dk_at dksX0_order_1 2 rfl rfl)
theorem dX0_order_27 : decode cX0_order 27 = .ok (.iconst 1, 1) := dk_4 (dk_at dksX0_order_1 3 rfl rfl)
theorem dX0_order_28 : decode cX0_order 28 = .ok (.invokestatic 58, 3) := dk_184 0 58 (dk_at dksX0_order_1 4 rfl rfl)
theorem dX0_order_31 : decode cX0_order 31 = .ok (.ifCond .ne 5, 3) := dk_154 0 5 (dk_at dksX0_order_1 7 rfl rfl)
theorem dX0_order_34 : decode cX0_order 34 = .ok (.iconst (-1), 1) := dk_2 (dk_at dksX0_order_1 10 rfl rfl)
theorem dX0_order_35 : decode cX0_order 35 = .ok (.ireturn, 1) := dk_172 (dk_at dksX0_order_1 11 rfl rfl)
theorem dX0_order_36 : decode cX0_order 36 = .ok (.new 145, 3) := dk_187 0 145 (dk_at dksX0_order_1 12 rfl rfl)
theorem dX0_order_39 : decode cX0_order 39 = .ok (.dup, 1) := dk_89 (dk_at dksX0_order_1 15 rfl rfl)
theorem dX0_order_40 : decode cX0_order 40 = .ok (.iload_n 1, 1) := dk_27 (dk_at dksX0_order_1 16 rfl rfl)
theorem dX0_order_41 : decode cX0_order 41 = .ok (.iload_n 2, 1) := dk_28 (dk_at dksX0_order_1 17 rfl rfl)
theorem dX0_order_42 : decode cX0_order 42 = .ok (.invokespecial 147, 3) := dk_183 0 147 (dk_at dksX0_order_1 18 rfl rfl)
theorem dX0_order_45 : decode cX0_order 45 = .ok (.astore 6, 2) := dk_58 6 (dk_at dksX0_order_1 21 rfl rfl)
theorem dX0_order_47 : decode cX0_order 47 = .ok (.aload_n 0, 1) := dk_42 (dk_at dksX0_order_1 23 rfl rfl)
theorem dX0_order_48 : decode cX0_order 48 = .ok (.getfield 46, 3) := dk_180 0 46 (dk_at dksX0_order_2 0 rfl rfl)
theorem dX0_order_51 : decode cX0_order 51 = .ok (.invokevirtual 130, 3) := dk_182 0 130 (dk_at dksX0_order_2 3 rfl rfl)
theorem dX0_order_54 : decode cX0_order 54 = .ok (.ifCond .eq 29, 3) := dk_153 0 29 (dk_at dksX0_order_2 6 rfl rfl)
theorem dX0_order_57 : decode cX0_order 57 = .ok (.aload_n 0, 1) := dk_42 (dk_at dksX0_order_2 9 rfl rfl)
theorem dX0_order_58 : decode cX0_order 58 = .ok (.getfield 32, 3) := dk_180 0 32 (dk_at dksX0_order_2 10 rfl rfl)
theorem dX0_order_61 : decode cX0_order 61 = .ok (.iload_n 1, 1) := dk_27 (dk_at dksX0_order_2 13 rfl rfl)
theorem dX0_order_62 : decode cX0_order 62 = .ok (.iload_n 2, 1) := dk_28 (dk_at dksX0_order_2 14 rfl rfl)
theorem dX0_order_63 : decode cX0_order 63 = .ok (.invokevirtual 124, 3) := dk_182 0 124 (dk_at dksX0_order_2 15 rfl rfl)
theorem dX0_order_66 : decode cX0_order 66 = .ok (.bipush (-9), 2) := dk_16 247 (dk_at dksX0_order_2 18 rfl rfl)
theorem dX0_order_68 : decode cX0_order 68 = .ok (.if_icmp .ne 15, 3) := dk_160 0 15 (dk_at dksX0_order_2 20 rfl rfl)
theorem dX0_order_71 : decode cX0_order 71 = .ok (.aload_n 0, 1) := dk_42 (dk_at dksX0_order_2 23 rfl rfl)
theorem dX0_order_72 : decode cX0_order 72 = .ok (.getfield 32, 3) := dk_180 0 32 (dk_at dksX0_order_3 0 rfl rfl)
theorem dX0_order_75 : decode cX0_order 75 = .ok (.aload 6, 2) := dk_25 6 (dk_at dksX0_order_3 3 rfl rfl)
theorem dX0_order_77 : decode cX0_order 77 = .ok (.invokevirtual 148, 3) := dk_182 0 148 (dk_at dksX0_order_3 5 rfl rfl)
theorem dX0_order_80 : decode cX0_order 80 = .ok (.ifCond .eq 6, 3) := dk_153 0 6 (dk_at dksX0_order_3 8 rfl rfl)
theorem dX0_order_83 : decode cX0_order 83 = .ok (.bipush (-2), 2) := dk_16 254 (dk_at dksX0_order_3 11 rfl rfl)
theorem dX0_order_85 : decode cX0_order 85 = .ok (.ireturn, 1) := dk_172 (dk_at dksX0_order_3 13 rfl rfl)
theorem dX0_order_86 : decode cX0_order 86 = .ok (.aload_n 0, 1) := dk_42 (dk_at dksX0_order_3 14 rfl rfl)
theorem dX0_order_87 : decode cX0_order 87 = .ok (.getfield 32, 3) := dk_180 0 32 (dk_at dksX0_order_3 15 rfl rfl)
theorem dX0_order_90 : decode cX0_order 90 = .ok (.getfield 152, 3) := dk_180 0 152 (dk_at dksX0_order_3 18 rfl rfl)
theorem dX0_order_93 : decode cX0_order 93 = .ok (.invokeinterface 66 1, 5) := by decide +kernel
theorem dX0_order_98 : decode cX0_order 98 = .ok (.bipush 10, 2) := dk_16 10 (dk_at dksX0_order_4 5 rfl rfl)
theorem dX0_order_100 : decode cX0_order 100 = .ok (.if_icmp .ne 6, 3) := dk_160 0 6 (dk_at dksX0_order_4 7 rfl rfl)
theorem dX0_order_103 : decode cX0_order 103 = .ok (.bipush (-3), 2) := dk_16 253 (dk_at dksX0_order_4 10 rfl rfl)
theorem dX0_order_105 : decode cX0_order 105 = .ok (.ireturn, 1) := dk_172 (dk_at dksX0_order_4 12 rfl rfl)
theorem dX0_order_106 : decode cX0_order 106 = .ok (.new 155, 3) := dk_187 0 155 (dk_at dksX0_order_4 13 rfl rfl)
theorem dX0_order_109 : decode cX0_order 109 = .ok (.dup, 1) := dk_89 (dk_at dksX0_order_4 16 rfl rfl)
theorem dX0_order_110 : decode cX0_order 110 = .ok (.aload 6, 2) := dk_25 6 (dk_at dksX0_order_4 17 rfl rfl)
theorem dX0_order_112 : decode cX0_order 112 = .ok (.aload_n 0, 1) := dk_42 (dk_at dksX0_order_4 19 rfl rfl)
theorem dX0_order_113 : decode cX0_order 113 = .ok (.getfield 46, 3) := dk_180 0 46 (dk_at dksX0_order_4 20 rfl rfl)
theorem dX0_order_116 : decode cX0_order 116 = .ok (.invokevirtual 157, 3) := dk_182 0 157 (dk_at dksX0_order_5 0 rfl rfl)
theorem dX0_order_119 : decode cX0_order 119 = .ok (.iload_n 3, 1) := dk_29 (dk_at dksX0_order_5 3 rfl rfl)
theorem dX0_order_120 : decode cX0_order 120 = .ok (.iload 4, 2) := dk_21 4 (dk_at dksX0_order_5 4 rfl rfl)
theorem dX0_order_122 : decode cX0_order 122 = .ok (.iload 5, 2) := dk_21 5 (dk_at dksX0_order_5 6 rfl rfl)
theorem dX0_order_124 : decode cX0_order 124 = .ok (.iconst 1, 1) := dk_4 (dk_at dksX0_order_5 8 rfl rfl)
theorem dX0_order_125 : decode cX0_order 125 = .ok (.if_icmp .ne 7, 3) := dk_160 0 7 (dk_at dksX0_order_5 9 rfl rfl)
theorem dX0_order_128 : decode cX0_order 128 = .ok (.iconst 1, 1) := dk_4 (dk_at dksX0_order_5 12 rfl rfl)
theorem dX0_order_129 : decode cX0_order 129 = .ok (.goto 4, 3) := dk_167 0 4 (dk_at dksX0_order_5 13 rfl rfl)
theorem dX0_order_132 : decode cX0_order 132 = .ok (.iconst 0, 1) := dk_3 (dk_at dksX0_order_5 16 rfl rfl)
theorem dX0_order_133 : decode cX0_order 133 = .ok (.invokespecial 161, 3) := dk_183 0 161 (dk_at dksX0_order_5 17 rfl rfl)
theorem dX0_order_136 : decode cX0_order 136 = .ok (.astore 7, 2) := dk_58 7 (dk_at dksX0_order_5 20 rfl rfl)
theorem dX0_order_138 : decode cX0_order 138 = .ok (.aload_n 0, 1) := dk_42 (dk_at dksX0_order_5 22 rfl rfl)
theorem dX0_order_139 : decode cX0_order 139 = .ok (.getfield 46, 3) := dk_180 0 46 (dk_at dksX0_order_6 0 rfl rfl)
theorem dX0_order_142 : decode cX0_order 142 = .ok (.iconst 0, 1) := dk_3 (dk_at dksX0_order_6 3 rfl rfl)
theorem dX0_order_143 : decode cX0_order 143 = .ok (.invokevirtual 135, 3) := dk_182 0 135 (dk_at dksX0_order_6 4 rfl rfl)
theorem dX0_order_146 : decode cX0_order 146 = .ok (.aload_n 0, 1) := dk_42 (dk_at dksX0_order_6 7 rfl rfl)
theorem dX0_order_147 : decode cX0_order 147 = .ok (.invokevirtual 71, 3) := dk_182 0 71 (dk_at dksX0_order_6 8 rfl rfl)
theorem dX0_order_150 : decode cX0_order 150 = .ok (.aload 7, 2) := dk_25 7 (dk_at dksX0_order_6 11 rfl rfl)
theorem dX0_order_152 : decode cX0_order 152 = .ok (.invokevirtual 164, 3) := dk_182 0 164 (dk_at dksX0_order_6 13 rfl rfl)
theorem dX0_order_155 : decode cX0_order 155 = .ok (.ireturn, 1) := dk_172 (dk_at dksX0_order_6 16 rfl rfl)
abbrev cX0_isSize : ByteArray := prog_1_method_15_code
def yX0_isSize : MethodName := ⟨RX0, "isSize", "(I)Z"⟩
def dkwX0_isSize_0 : List UInt8 := [26, 4, 7, 184, 0, 58, 172]
abbrev dktX0_isSize_0 : List UInt8 := dkwX0_isSize_0 ++ []
theorem dksX0_isSize_0 : cX0_isSize.data.toList.drop 0 = dktX0_isSize_0 := by decide +kernel
theorem dX0_isSize_0 : decode cX0_isSize 0 = .ok (.iload_n 0, 1) := dk_26 (dk_at dksX0_isSize_0 0 rfl rfl)
theorem dX0_isSize_1 : decode cX0_isSize 1 = .ok (.iconst 1, 1) := dk_4 (dk_at dksX0_isSize_0 1 rfl rfl)
theorem dX0_isSize_2 : decode cX0_isSize 2 = .ok (.iconst 4, 1) := dk_7 (dk_at dksX0_isSize_0 2 rfl rfl)
theorem dX0_isSize_3 : decode cX0_isSize 3 = .ok (.invokestatic 58, 3) := dk_184 0 58 (dk_at dksX0_isSize_0 3 rfl rfl)
theorem dX0_isSize_6 : decode cX0_isSize 6 = .ok (.ireturn, 1) := dk_172 (dk_at dksX0_isSize_0 6 rfl rfl)
abbrev cX0_isDepth : ByteArray := prog_1_method_16_code
def yX0_isDepth : MethodName := ⟨RX0, "isDepth", "(I)Z"⟩
def dkwX0_isDepth_0 : List UInt8 := [26, 4, 8, 184, 0, 58, 172]
abbrev dktX0_isDepth_0 : List UInt8 := dkwX0_isDepth_0 ++ []
theorem dksX0_isDepth_0 : cX0_isDepth.data.toList.drop 0 = dktX0_isDepth_0 := by decide +kernel
theorem dX0_isDepth_0 : decode cX0_isDepth 0 = .ok (.iload_n 0, 1) := dk_26 (dk_at dksX0_isDepth_0 0 rfl rfl)
theorem dX0_isDepth_1 : decode cX0_isDepth 1 = .ok (.iconst 1, 1) := dk_4 (dk_at dksX0_isDepth_0 1 rfl rfl)
theorem dX0_isDepth_2 : decode cX0_isDepth 2 = .ok (.iconst 5, 1) := dk_8 (dk_at dksX0_isDepth_0 2 rfl rfl)
theorem dX0_isDepth_3 : decode cX0_isDepth 3 = .ok (.invokestatic 58, 3) := dk_184 0 58 (dk_at dksX0_isDepth_0 3 rfl rfl)
theorem dX0_isDepth_6 : decode cX0_isDepth 6 = .ok (.ireturn, 1) := dk_172 (dk_at dksX0_isDepth_0 6 rfl rfl)
abbrev cX0_hurry : ByteArray := prog_1_method_18_code
def yX0_hurry : MethodName := ⟨RX0, "hurry", "(I)I"⟩
def dkwX0_hurry_2 : List UInt8 := [182, 0, 175, 172]
abbrev dktX0_hurry_2 : List UInt8 := dkwX0_hurry_2 ++ []
def dkwX0_hurry_1 : List UInt8 := [185, 0, 87, 2, 0, 192, 0, 155, 180, 0, 171, 153, 0, 8, 16, 254, 167, 0, 11, 42, 182, 0, 71, 27]
abbrev dktX0_hurry_1 : List UInt8 := dkwX0_hurry_1 ++ dktX0_hurry_2
def dkwX0_hurry_0 : List UInt8 := [42, 180, 0, 32, 27, 182, 0, 168, 154, 0, 5, 2, 172, 42, 180, 0, 32, 180, 0, 152, 27]
abbrev dktX0_hurry_0 : List UInt8 := dkwX0_hurry_0 ++ dktX0_hurry_1
theorem dksX0_hurry_0 : cX0_hurry.data.toList.drop 0 = dktX0_hurry_0 := by decide +kernel
theorem dksX0_hurry_1 : cX0_hurry.data.toList.drop 21 = dktX0_hurry_1 := dk_seg dksX0_hurry_0 21 rfl rfl
theorem dksX0_hurry_2 : cX0_hurry.data.toList.drop 45 = dktX0_hurry_2 := dk_seg dksX0_hurry_1 24 rfl rfl
theorem dX0_hurry_0 : decode cX0_hurry 0 = .ok (.aload_n 0, 1) := dk_42 (dk_at dksX0_hurry_0 0 rfl rfl)
theorem dX0_hurry_1 : decode cX0_hurry 1 = .ok (.getfield 32, 3) := dk_180 0 32 (dk_at dksX0_hurry_0 1 rfl rfl)
theorem dX0_hurry_4 : decode cX0_hurry 4 = .ok (.iload_n 1, 1) := dk_27 (dk_at dksX0_hurry_0 4 rfl rfl)
theorem dX0_hurry_5 : decode cX0_hurry 5 = .ok (.invokevirtual 168, 3) := dk_182 0 168 (dk_at dksX0_hurry_0 5 rfl rfl)
theorem dX0_hurry_8 : decode cX0_hurry 8 = .ok (.ifCond .ne 5, 3) := dk_154 0 5 (dk_at dksX0_hurry_0 8 rfl rfl)
theorem dX0_hurry_11 : decode cX0_hurry 11 = .ok (.iconst (-1), 1) := dk_2 (dk_at dksX0_hurry_0 11 rfl rfl)
theorem dX0_hurry_12 : decode cX0_hurry 12 = .ok (.ireturn, 1) := dk_172 (dk_at dksX0_hurry_0 12 rfl rfl)
theorem dX0_hurry_13 : decode cX0_hurry 13 = .ok (.aload_n 0, 1) := dk_42 (dk_at dksX0_hurry_0 13 rfl rfl)
theorem dX0_hurry_14 : decode cX0_hurry 14 = .ok (.getfield 32, 3) := dk_180 0 32 (dk_at dksX0_hurry_0 14 rfl rfl)
theorem dX0_hurry_17 : decode cX0_hurry 17 = .ok (.getfield 152, 3) := dk_180 0 152 (dk_at dksX0_hurry_0 17 rfl rfl)
theorem dX0_hurry_20 : decode cX0_hurry 20 = .ok (.iload_n 1, 1) := dk_27 (dk_at dksX0_hurry_0 20 rfl rfl)
theorem dX0_hurry_21 : decode cX0_hurry 21 = .ok (.invokeinterface 87 2, 5) := by decide +kernel
theorem dX0_hurry_26 : decode cX0_hurry 26 = .ok (.checkcast 155, 3) := dk_192 0 155 (dk_at dksX0_hurry_1 5 rfl rfl)
theorem dX0_hurry_29 : decode cX0_hurry 29 = .ok (.getfield 171, 3) := dk_180 0 171 (dk_at dksX0_hurry_1 8 rfl rfl)
theorem dX0_hurry_32 : decode cX0_hurry 32 = .ok (.ifCond .eq 8, 3) := dk_153 0 8 (dk_at dksX0_hurry_1 11 rfl rfl)
theorem dX0_hurry_35 : decode cX0_hurry 35 = .ok (.bipush (-2), 2) := dk_16 254 (dk_at dksX0_hurry_1 14 rfl rfl)
theorem dX0_hurry_37 : decode cX0_hurry 37 = .ok (.goto 11, 3) := dk_167 0 11 (dk_at dksX0_hurry_1 16 rfl rfl)
theorem dX0_hurry_40 : decode cX0_hurry 40 = .ok (.aload_n 0, 1) := dk_42 (dk_at dksX0_hurry_1 19 rfl rfl)
theorem dX0_hurry_41 : decode cX0_hurry 41 = .ok (.invokevirtual 71, 3) := dk_182 0 71 (dk_at dksX0_hurry_1 20 rfl rfl)
theorem dX0_hurry_44 : decode cX0_hurry 44 = .ok (.iload_n 1, 1) := dk_27 (dk_at dksX0_hurry_1 23 rfl rfl)
theorem dX0_hurry_45 : decode cX0_hurry 45 = .ok (.invokevirtual 175, 3) := dk_182 0 175 (dk_at dksX0_hurry_2 0 rfl rfl)
theorem dX0_hurry_48 : decode cX0_hurry 48 = .ok (.ireturn, 1) := dk_172 (dk_at dksX0_hurry_2 3 rfl rfl)
abbrev cX0_cancel : ByteArray := prog_1_method_19_code
def yX0_cancel : MethodName := ⟨RX0, "cancel", "(I)I"⟩
def dkwX0_cancel_1 : List UInt8 := [180, 0, 32, 180, 0, 152, 185, 0, 66, 1, 0, 172]
abbrev dktX0_cancel_1 : List UInt8 := dkwX0_cancel_1 ++ []
def dkwX0_cancel_0 : List UInt8 := [42, 180, 0, 32, 27, 182, 0, 168, 154, 0, 5, 2, 172, 42, 182, 0, 71, 27, 182, 0, 178, 42]
abbrev dktX0_cancel_0 : List UInt8 := dkwX0_cancel_0 ++ dktX0_cancel_1
theorem dksX0_cancel_0 : cX0_cancel.data.toList.drop 0 = dktX0_cancel_0 := by decide +kernel
theorem dksX0_cancel_1 : cX0_cancel.data.toList.drop 22 = dktX0_cancel_1 := dk_seg dksX0_cancel_0 22 rfl rfl
theorem dX0_cancel_0 : decode cX0_cancel 0 = .ok (.aload_n 0, 1) := dk_42 (dk_at dksX0_cancel_0 0 rfl rfl)
theorem dX0_cancel_1 : decode cX0_cancel 1 = .ok (.getfield 32, 3) := dk_180 0 32 (dk_at dksX0_cancel_0 1 rfl rfl)
theorem dX0_cancel_4 : decode cX0_cancel 4 = .ok (.iload_n 1, 1) := dk_27 (dk_at dksX0_cancel_0 4 rfl rfl)
theorem dX0_cancel_5 : decode cX0_cancel 5 = .ok (.invokevirtual 168, 3) := dk_182 0 168 (dk_at dksX0_cancel_0 5 rfl rfl)
theorem dX0_cancel_8 : decode cX0_cancel 8 = .ok (.ifCond .ne 5, 3) := dk_154 0 5 (dk_at dksX0_cancel_0 8 rfl rfl)
theorem dX0_cancel_11 : decode cX0_cancel 11 = .ok (.iconst (-1), 1) := dk_2 (dk_at dksX0_cancel_0 11 rfl rfl)
theorem dX0_cancel_12 : decode cX0_cancel 12 = .ok (.ireturn, 1) := dk_172 (dk_at dksX0_cancel_0 12 rfl rfl)
theorem dX0_cancel_13 : decode cX0_cancel 13 = .ok (.aload_n 0, 1) := dk_42 (dk_at dksX0_cancel_0 13 rfl rfl)
theorem dX0_cancel_14 : decode cX0_cancel 14 = .ok (.invokevirtual 71, 3) := dk_182 0 71 (dk_at dksX0_cancel_0 14 rfl rfl)
theorem dX0_cancel_17 : decode cX0_cancel 17 = .ok (.iload_n 1, 1) := dk_27 (dk_at dksX0_cancel_0 17 rfl rfl)
theorem dX0_cancel_18 : decode cX0_cancel 18 = .ok (.invokevirtual 178, 3) := dk_182 0 178 (dk_at dksX0_cancel_0 18 rfl rfl)
theorem dX0_cancel_21 : decode cX0_cancel 21 = .ok (.aload_n 0, 1) := dk_42 (dk_at dksX0_cancel_0 21 rfl rfl)
theorem dX0_cancel_22 : decode cX0_cancel 22 = .ok (.getfield 32, 3) := dk_180 0 32 (dk_at dksX0_cancel_1 0 rfl rfl)
theorem dX0_cancel_25 : decode cX0_cancel 25 = .ok (.getfield 152, 3) := dk_180 0 152 (dk_at dksX0_cancel_1 3 rfl rfl)
theorem dX0_cancel_28 : decode cX0_cancel 28 = .ok (.invokeinterface 66 1, 5) := by decide +kernel
theorem dX0_cancel_33 : decode cX0_cancel 33 = .ok (.ireturn, 1) := dk_172 (dk_at dksX0_cancel_1 11 rfl rfl)
abbrev cX0_work : ByteArray := prog_1_method_20_code
def yX0_work : MethodName := ⟨RX0, "work", "(I)I"⟩
def dkwX0_work_0 : List UInt8 := [27, 4, 17, 2, 88, 184, 0, 58, 153, 0, 14, 42, 182, 0, 71, 27, 182, 0, 181, 167, 0, 4, 2, 172]
abbrev dktX0_work_0 : List UInt8 := dkwX0_work_0 ++ []
theorem dksX0_work_0 : cX0_work.data.toList.drop 0 = dktX0_work_0 := by decide +kernel
theorem dX0_work_0 : decode cX0_work 0 = .ok (.iload_n 1, 1) := dk_27 (dk_at dksX0_work_0 0 rfl rfl)
theorem dX0_work_1 : decode cX0_work 1 = .ok (.iconst 1, 1) := dk_4 (dk_at dksX0_work_0 1 rfl rfl)
theorem dX0_work_2 : decode cX0_work 2 = .ok (.sipush 600, 3) := dk_17 2 88 (dk_at dksX0_work_0 2 rfl rfl)
theorem dX0_work_5 : decode cX0_work 5 = .ok (.invokestatic 58, 3) := dk_184 0 58 (dk_at dksX0_work_0 5 rfl rfl)
theorem dX0_work_8 : decode cX0_work 8 = .ok (.ifCond .eq 14, 3) := dk_153 0 14 (dk_at dksX0_work_0 8 rfl rfl)
theorem dX0_work_11 : decode cX0_work 11 = .ok (.aload_n 0, 1) := dk_42 (dk_at dksX0_work_0 11 rfl rfl)
theorem dX0_work_12 : decode cX0_work 12 = .ok (.invokevirtual 71, 3) := dk_182 0 71 (dk_at dksX0_work_0 12 rfl rfl)
theorem dX0_work_15 : decode cX0_work 15 = .ok (.iload_n 1, 1) := dk_27 (dk_at dksX0_work_0 15 rfl rfl)
theorem dX0_work_16 : decode cX0_work 16 = .ok (.invokevirtual 181, 3) := dk_182 0 181 (dk_at dksX0_work_0 16 rfl rfl)
theorem dX0_work_19 : decode cX0_work 19 = .ok (.goto 4, 3) := dk_167 0 4 (dk_at dksX0_work_0 19 rfl rfl)
theorem dX0_work_22 : decode cX0_work 22 = .ok (.iconst (-1), 1) := dk_2 (dk_at dksX0_work_0 22 rfl rfl)
theorem dX0_work_23 : decode cX0_work 23 = .ok (.ireturn, 1) := dk_172 (dk_at dksX0_work_0 23 rfl rfl)
abbrev cX0_lengthOf : ByteArray := prog_1_method_4_code
def yX0_lengthOf : MethodName := ⟨RX0, "lengthOf", "(Ljava/lang/CharSequence;I)I"⟩
def dkwX0_lengthOf_2 : List UInt8 := [167, 255, 226, 27, 28, 104, 172]
abbrev dktX0_lengthOf_2 : List UInt8 := dkwX0_lengthOf_2 ++ []
def dkwX0_lengthOf_1 : List UInt8 := [162, 0, 26, 28, 178, 0, 1, 42, 29, 185, 0, 19, 2, 0, 16, 97, 100, 46, 96, 61, 132, 3, 1]
abbrev dktX0_lengthOf_1 : List UInt8 := dkwX0_lengthOf_1 ++ dktX0_lengthOf_2
def dkwX0_lengthOf_0 : List UInt8 := [3, 42, 185, 0, 7, 1, 0, 4, 100, 184, 0, 13, 61, 3, 62, 29, 42, 185, 0, 7, 1, 0]
abbrev dktX0_lengthOf_0 : List UInt8 := dkwX0_lengthOf_0 ++ dktX0_lengthOf_1
theorem dksX0_lengthOf_0 : cX0_lengthOf.data.toList.drop 0 = dktX0_lengthOf_0 := by decide +kernel
theorem dksX0_lengthOf_1 : cX0_lengthOf.data.toList.drop 22 = dktX0_lengthOf_1 := dk_seg dksX0_lengthOf_0 22 rfl rfl
theorem dksX0_lengthOf_2 : cX0_lengthOf.data.toList.drop 45 = dktX0_lengthOf_2 := dk_seg dksX0_lengthOf_1 23 rfl rfl
theorem dX0_lengthOf_0 : decode cX0_lengthOf 0 = .ok (.iconst 0, 1) := dk_3 (dk_at dksX0_lengthOf_0 0 rfl rfl)
theorem dX0_lengthOf_1 : decode cX0_lengthOf 1 = .ok (.aload_n 0, 1) := dk_42 (dk_at dksX0_lengthOf_0 1 rfl rfl)
theorem dX0_lengthOf_2 : decode cX0_lengthOf 2 = .ok (.invokeinterface 7 1, 5) := by decide +kernel
theorem dX0_lengthOf_7 : decode cX0_lengthOf 7 = .ok (.iconst 1, 1) := dk_4 (dk_at dksX0_lengthOf_0 7 rfl rfl)
theorem dX0_lengthOf_8 : decode cX0_lengthOf 8 = .ok (.isub, 1) := dk_100 (dk_at dksX0_lengthOf_0 8 rfl rfl)
theorem dX0_lengthOf_9 : decode cX0_lengthOf 9 = .ok (.invokestatic 13, 3) := dk_184 0 13 (dk_at dksX0_lengthOf_0 9 rfl rfl)
theorem dX0_lengthOf_12 : decode cX0_lengthOf 12 = .ok (.istore_n 2, 1) := dk_61 (dk_at dksX0_lengthOf_0 12 rfl rfl)
theorem dX0_lengthOf_13 : decode cX0_lengthOf 13 = .ok (.iconst 0, 1) := dk_3 (dk_at dksX0_lengthOf_0 13 rfl rfl)
theorem dX0_lengthOf_14 : decode cX0_lengthOf 14 = .ok (.istore_n 3, 1) := dk_62 (dk_at dksX0_lengthOf_0 14 rfl rfl)
theorem dX0_lengthOf_15 : decode cX0_lengthOf 15 = .ok (.iload_n 3, 1) := dk_29 (dk_at dksX0_lengthOf_0 15 rfl rfl)
theorem dX0_lengthOf_16 : decode cX0_lengthOf 16 = .ok (.aload_n 0, 1) := dk_42 (dk_at dksX0_lengthOf_0 16 rfl rfl)
theorem dX0_lengthOf_17 : decode cX0_lengthOf 17 = .ok (.invokeinterface 7 1, 5) := by decide +kernel
theorem dX0_lengthOf_22 : decode cX0_lengthOf 22 = .ok (.if_icmp .ge 26, 3) := dk_162 0 26 (dk_at dksX0_lengthOf_1 0 rfl rfl)
theorem dX0_lengthOf_25 : decode cX0_lengthOf 25 = .ok (.iload_n 2, 1) := dk_28 (dk_at dksX0_lengthOf_1 3 rfl rfl)
theorem dX0_lengthOf_26 : decode cX0_lengthOf 26 = .ok (.getstatic 1, 3) := dk_178 0 1 (dk_at dksX0_lengthOf_1 4 rfl rfl)
theorem dX0_lengthOf_29 : decode cX0_lengthOf 29 = .ok (.aload_n 0, 1) := dk_42 (dk_at dksX0_lengthOf_1 7 rfl rfl)
theorem dX0_lengthOf_30 : decode cX0_lengthOf 30 = .ok (.iload_n 3, 1) := dk_29 (dk_at dksX0_lengthOf_1 8 rfl rfl)
theorem dX0_lengthOf_31 : decode cX0_lengthOf 31 = .ok (.invokeinterface 19 2, 5) := by decide +kernel
theorem dX0_lengthOf_36 : decode cX0_lengthOf 36 = .ok (.bipush 97, 2) := dk_16 97 (dk_at dksX0_lengthOf_1 14 rfl rfl)
theorem dX0_lengthOf_38 : decode cX0_lengthOf 38 = .ok (.isub, 1) := dk_100 (dk_at dksX0_lengthOf_1 16 rfl rfl)
theorem dX0_lengthOf_39 : decode cX0_lengthOf 39 = .ok (.iaload, 1) := dk_46 (dk_at dksX0_lengthOf_1 17 rfl rfl)
theorem dX0_lengthOf_40 : decode cX0_lengthOf 40 = .ok (.iadd, 1) := dk_96 (dk_at dksX0_lengthOf_1 18 rfl rfl)
theorem dX0_lengthOf_41 : decode cX0_lengthOf 41 = .ok (.istore_n 2, 1) := dk_61 (dk_at dksX0_lengthOf_1 19 rfl rfl)
theorem dX0_lengthOf_42 : decode cX0_lengthOf 42 = .ok (.iinc 3 1, 3) := dk_132 3 1 (dk_at dksX0_lengthOf_1 20 rfl rfl)
theorem dX0_lengthOf_45 : decode cX0_lengthOf 45 = .ok (.goto (-30), 3) := dk_167 255 226 (dk_at dksX0_lengthOf_2 0 rfl rfl)
theorem dX0_lengthOf_48 : decode cX0_lengthOf 48 = .ok (.iload_n 1, 1) := dk_27 (dk_at dksX0_lengthOf_2 3 rfl rfl)
theorem dX0_lengthOf_49 : decode cX0_lengthOf 49 = .ok (.iload_n 2, 1) := dk_28 (dk_at dksX0_lengthOf_2 4 rfl rfl)
theorem dX0_lengthOf_50 : decode cX0_lengthOf 50 = .ok (.imul, 1) := dk_104 (dk_at dksX0_lengthOf_2 5 rfl rfl)
theorem dX0_lengthOf_51 : decode cX0_lengthOf 51 = .ok (.ireturn, 1) := dk_172 (dk_at dksX0_lengthOf_2 6 rfl rfl)
abbrev cX0_isAhead : ByteArray := prog_1_method_3_code
def yX0_isAhead : MethodName := ⟨RX0, "isAhead", "([I[I)Z"⟩
def dkwX0_isAhead_1 : List UInt8 := [162, 0, 7, 4, 167, 0, 4, 3, 172, 132, 2, 1, 167, 255, 223, 3, 172]
abbrev dktX0_isAhead_1 : List UInt8 := dkwX0_isAhead_1 ++ []
def dkwX0_isAhead_0 : List UInt8 := [3, 61, 28, 42, 190, 162, 0, 33, 42, 28, 46, 43, 28, 46, 159, 0, 18, 42, 28, 46, 43, 28, 46]
abbrev dktX0_isAhead_0 : List UInt8 := dkwX0_isAhead_0 ++ dktX0_isAhead_1
theorem dksX0_isAhead_0 : cX0_isAhead.data.toList.drop 0 = dktX0_isAhead_0 := by decide +kernel
theorem dksX0_isAhead_1 : cX0_isAhead.data.toList.drop 23 = dktX0_isAhead_1 := dk_seg dksX0_isAhead_0 23 rfl rfl
theorem dX0_isAhead_0 : decode cX0_isAhead 0 = .ok (.iconst 0, 1) := dk_3 (dk_at dksX0_isAhead_0 0 rfl rfl)
theorem dX0_isAhead_1 : decode cX0_isAhead 1 = .ok (.istore_n 2, 1) := dk_61 (dk_at dksX0_isAhead_0 1 rfl rfl)
theorem dX0_isAhead_2 : decode cX0_isAhead 2 = .ok (.iload_n 2, 1) := dk_28 (dk_at dksX0_isAhead_0 2 rfl rfl)
theorem dX0_isAhead_3 : decode cX0_isAhead 3 = .ok (.aload_n 0, 1) := dk_42 (dk_at dksX0_isAhead_0 3 rfl rfl)
theorem dX0_isAhead_4 : decode cX0_isAhead 4 = .ok (.arraylength, 1) := dk_190 (dk_at dksX0_isAhead_0 4 rfl rfl)
theorem dX0_isAhead_5 : decode cX0_isAhead 5 = .ok (.if_icmp .ge 33, 3) := dk_162 0 33 (dk_at dksX0_isAhead_0 5 rfl rfl)
theorem dX0_isAhead_8 : decode cX0_isAhead 8 = .ok (.aload_n 0, 1) := dk_42 (dk_at dksX0_isAhead_0 8 rfl rfl)
theorem dX0_isAhead_9 : decode cX0_isAhead 9 = .ok (.iload_n 2, 1) := dk_28 (dk_at dksX0_isAhead_0 9 rfl rfl)
theorem dX0_isAhead_10 : decode cX0_isAhead 10 = .ok (.iaload, 1) := dk_46 (dk_at dksX0_isAhead_0 10 rfl rfl)
theorem dX0_isAhead_11 : decode cX0_isAhead 11 = .ok (.aload_n 1, 1) := dk_43 (dk_at dksX0_isAhead_0 11 rfl rfl)
theorem dX0_isAhead_12 : decode cX0_isAhead 12 = .ok (.iload_n 2, 1) := dk_28 (dk_at dksX0_isAhead_0 12 rfl rfl)
theorem dX0_isAhead_13 : decode cX0_isAhead 13 = .ok (.iaload, 1) := dk_46 (dk_at dksX0_isAhead_0 13 rfl rfl)
theorem dX0_isAhead_14 : decode cX0_isAhead 14 = .ok (.if_icmp .eq 18, 3) := dk_159 0 18 (dk_at dksX0_isAhead_0 14 rfl rfl)
theorem dX0_isAhead_17 : decode cX0_isAhead 17 = .ok (.aload_n 0, 1) := dk_42 (dk_at dksX0_isAhead_0 17 rfl rfl)
theorem dX0_isAhead_18 : decode cX0_isAhead 18 = .ok (.iload_n 2, 1) := dk_28 (dk_at dksX0_isAhead_0 18 rfl rfl)
theorem dX0_isAhead_19 : decode cX0_isAhead 19 = .ok (.iaload, 1) := dk_46 (dk_at dksX0_isAhead_0 19 rfl rfl)
theorem dX0_isAhead_20 : decode cX0_isAhead 20 = .ok (.aload_n 1, 1) := dk_43 (dk_at dksX0_isAhead_0 20 rfl rfl)
theorem dX0_isAhead_21 : decode cX0_isAhead 21 = .ok (.iload_n 2, 1) := dk_28 (dk_at dksX0_isAhead_0 21 rfl rfl)
theorem dX0_isAhead_22 : decode cX0_isAhead 22 = .ok (.iaload, 1) := dk_46 (dk_at dksX0_isAhead_0 22 rfl rfl)
theorem dX0_isAhead_23 : decode cX0_isAhead 23 = .ok (.if_icmp .ge 7, 3) := dk_162 0 7 (dk_at dksX0_isAhead_1 0 rfl rfl)
theorem dX0_isAhead_26 : decode cX0_isAhead 26 = .ok (.iconst 1, 1) := dk_4 (dk_at dksX0_isAhead_1 3 rfl rfl)
theorem dX0_isAhead_27 : decode cX0_isAhead 27 = .ok (.goto 4, 3) := dk_167 0 4 (dk_at dksX0_isAhead_1 4 rfl rfl)
theorem dX0_isAhead_30 : decode cX0_isAhead 30 = .ok (.iconst 0, 1) := dk_3 (dk_at dksX0_isAhead_1 7 rfl rfl)
theorem dX0_isAhead_31 : decode cX0_isAhead 31 = .ok (.ireturn, 1) := dk_172 (dk_at dksX0_isAhead_1 8 rfl rfl)
theorem dX0_isAhead_32 : decode cX0_isAhead 32 = .ok (.iinc 2 1, 3) := dk_132 2 1 (dk_at dksX0_isAhead_1 9 rfl rfl)
theorem dX0_isAhead_35 : decode cX0_isAhead 35 = .ok (.goto (-33), 3) := dk_167 255 223 (dk_at dksX0_isAhead_1 12 rfl rfl)
theorem dX0_isAhead_38 : decode cX0_isAhead 38 = .ok (.iconst 0, 1) := dk_3 (dk_at dksX0_isAhead_1 15 rfl rfl)
theorem dX0_isAhead_39 : decode cX0_isAhead 39 = .ok (.ireturn, 1) := dk_172 (dk_at dksX0_isAhead_1 16 rfl rfl)
abbrev cX0_slip : ByteArray := prog_1_method_21_code
def yX0_slip : MethodName := ⟨RX0, "slip", "()I"⟩
def dkwX0_slip_0 : List UInt8 := [42, 180, 0, 32, 180, 0, 184, 199, 0, 8, 16, 254, 167, 0, 10, 42, 182, 0, 71, 182, 0, 188, 172]
abbrev dktX0_slip_0 : List UInt8 := dkwX0_slip_0 ++ []
theorem dksX0_slip_0 : cX0_slip.data.toList.drop 0 = dktX0_slip_0 := by decide +kernel
theorem dX0_slip_0 : decode cX0_slip 0 = .ok (.aload_n 0, 1) := dk_42 (dk_at dksX0_slip_0 0 rfl rfl)
theorem dX0_slip_1 : decode cX0_slip 1 = .ok (.getfield 32, 3) := dk_180 0 32 (dk_at dksX0_slip_0 1 rfl rfl)
theorem dX0_slip_4 : decode cX0_slip 4 = .ok (.getfield 184, 3) := dk_180 0 184 (dk_at dksX0_slip_0 4 rfl rfl)
theorem dX0_slip_7 : decode cX0_slip 7 = .ok (.ifnonnull 8, 3) := dk_199 0 8 (dk_at dksX0_slip_0 7 rfl rfl)
theorem dX0_slip_10 : decode cX0_slip 10 = .ok (.bipush (-2), 2) := dk_16 254 (dk_at dksX0_slip_0 10 rfl rfl)
theorem dX0_slip_12 : decode cX0_slip 12 = .ok (.goto 10, 3) := dk_167 0 10 (dk_at dksX0_slip_0 12 rfl rfl)
theorem dX0_slip_15 : decode cX0_slip 15 = .ok (.aload_n 0, 1) := dk_42 (dk_at dksX0_slip_0 15 rfl rfl)
theorem dX0_slip_16 : decode cX0_slip 16 = .ok (.invokevirtual 71, 3) := dk_182 0 71 (dk_at dksX0_slip_0 16 rfl rfl)
theorem dX0_slip_19 : decode cX0_slip 19 = .ok (.invokevirtual 188, 3) := dk_182 0 188 (dk_at dksX0_slip_0 19 rfl rfl)
theorem dX0_slip_22 : decode cX0_slip 22 = .ok (.ireturn, 1) := dk_172 (dk_at dksX0_slip_0 22 rfl rfl)
abbrev cX0_undo : ByteArray := prog_1_method_22_code
def yX0_undo : MethodName := ⟨RX0, "undo", "()I"⟩
def dkwX0_undo_1 : List UInt8 := [42, 180, 0, 39, 180, 0, 191, 172]
abbrev dktX0_undo_1 : List UInt8 := dkwX0_undo_1 ++ []
def dkwX0_undo_0 : List UInt8 := [42, 180, 0, 39, 180, 0, 191, 154, 0, 6, 16, 254, 172, 42, 42, 180, 0, 39, 182, 0, 193, 181, 0, 32]
abbrev dktX0_undo_0 : List UInt8 := dkwX0_undo_0 ++ dktX0_undo_1
theorem dksX0_undo_0 : cX0_undo.data.toList.drop 0 = dktX0_undo_0 := by decide +kernel
theorem dksX0_undo_1 : cX0_undo.data.toList.drop 24 = dktX0_undo_1 := dk_seg dksX0_undo_0 24 rfl rfl
theorem dX0_undo_0 : decode cX0_undo 0 = .ok (.aload_n 0, 1) := dk_42 (dk_at dksX0_undo_0 0 rfl rfl)
theorem dX0_undo_1 : decode cX0_undo 1 = .ok (.getfield 39, 3) := dk_180 0 39 (dk_at dksX0_undo_0 1 rfl rfl)
theorem dX0_undo_4 : decode cX0_undo 4 = .ok (.getfield 191, 3) := dk_180 0 191 (dk_at dksX0_undo_0 4 rfl rfl)
theorem dX0_undo_7 : decode cX0_undo 7 = .ok (.ifCond .ne 6, 3) := dk_154 0 6 (dk_at dksX0_undo_0 7 rfl rfl)
theorem dX0_undo_10 : decode cX0_undo 10 = .ok (.bipush (-2), 2) := dk_16 254 (dk_at dksX0_undo_0 10 rfl rfl)
theorem dX0_undo_12 : decode cX0_undo 12 = .ok (.ireturn, 1) := dk_172 (dk_at dksX0_undo_0 12 rfl rfl)
theorem dX0_undo_13 : decode cX0_undo 13 = .ok (.aload_n 0, 1) := dk_42 (dk_at dksX0_undo_0 13 rfl rfl)
theorem dX0_undo_14 : decode cX0_undo 14 = .ok (.aload_n 0, 1) := dk_42 (dk_at dksX0_undo_0 14 rfl rfl)
theorem dX0_undo_15 : decode cX0_undo 15 = .ok (.getfield 39, 3) := dk_180 0 39 (dk_at dksX0_undo_0 15 rfl rfl)
theorem dX0_undo_18 : decode cX0_undo 18 = .ok (.invokevirtual 193, 3) := dk_182 0 193 (dk_at dksX0_undo_0 18 rfl rfl)
theorem dX0_undo_21 : decode cX0_undo 21 = .ok (.putfield 32, 3) := dk_181 0 32 (dk_at dksX0_undo_0 21 rfl rfl)
theorem dX0_undo_24 : decode cX0_undo 24 = .ok (.aload_n 0, 1) := dk_42 (dk_at dksX0_undo_1 0 rfl rfl)
theorem dX0_undo_25 : decode cX0_undo 25 = .ok (.getfield 39, 3) := dk_180 0 39 (dk_at dksX0_undo_1 1 rfl rfl)
theorem dX0_undo_28 : decode cX0_undo 28 = .ok (.getfield 191, 3) := dk_180 0 191 (dk_at dksX0_undo_1 4 rfl rfl)
theorem dX0_undo_31 : decode cX0_undo 31 = .ok (.ireturn, 1) := dk_172 (dk_at dksX0_undo_1 7 rfl rfl)
abbrev cX0_count : ByteArray := prog_1_method_23_code
def yX0_count : MethodName := ⟨RX0, "count", "(I)I"⟩
def dkwX0_count_8 : List UInt8 := [2, 172]
abbrev dktX0_count_8 : List UInt8 := dkwX0_count_8 ++ []
def dkwX0_count_7 : List UInt8 := [42, 180, 0, 32, 180, 0, 215, 172, 42, 180, 0, 39, 180, 0, 191, 172, 42, 180, 0, 46, 182, 0, 130, 172]
abbrev dktX0_count_7 : List UInt8 := dkwX0_count_7 ++ dktX0_count_8
def dkwX0_count_6 : List UInt8 := [42, 180, 0, 32, 180, 0, 206, 172, 42, 180, 0, 32, 180, 0, 209, 172, 42, 180, 0, 32, 180, 0, 212, 172]
abbrev dktX0_count_6 : List UInt8 := dkwX0_count_6 ++ dktX0_count_7
def dkwX0_count_5 : List UInt8 := [180, 0, 152, 42, 180, 0, 32, 180, 0, 184, 185, 0, 199, 2, 0, 172, 42, 180, 0, 32, 180, 0, 203, 172]
abbrev dktX0_count_5 : List UInt8 := dkwX0_count_5 ++ dktX0_count_6
def dkwX0_count_4 : List UInt8 := [182, 0, 196, 172, 42, 180, 0, 32, 180, 0, 184, 199, 0, 8, 16, 247, 167, 0, 22, 42, 180, 0, 32]
abbrev dktX0_count_4 : List UInt8 := dkwX0_count_4 ++ dktX0_count_5
def dkwX0_count_3 : List UInt8 := [180, 0, 32, 180, 0, 111, 172, 42, 180, 0, 32, 180, 0, 152, 185, 0, 66, 1, 0, 172, 42, 180, 0, 32]
abbrev dktX0_count_3 : List UInt8 := dkwX0_count_3 ++ dktX0_count_4
def dkwX0_count_2 : List UInt8 := [42, 180, 0, 32, 27, 182, 0, 95, 172, 42, 180, 0, 32, 180, 0, 62, 185, 0, 66, 1, 0, 172, 42]
abbrev dktX0_count_2 : List UInt8 := dkwX0_count_2 ++ dktX0_count_3
def dkwX0_count_1 : List UInt8 := [170, 0, 0, 0, 0, 0, 221, 0, 0, 0, 0, 0, 0, 0, 15, 0, 0, 0, 79, 0, 0, 0, 79, 0, 0, 0, 79, 0, 0, 0, 79, 0, 0, 0, 88, 0, 0, 0, 101, 0, 0, 0, 109, 0, 0, 0, 122, 0, 0, 0, 130, 0, 0, 0, 165, 0, 0, 0, 173, 0, 0, 0, 181, 0, 0, 0, 189, 0, 0, 0, 197, 0, 0, 0, 205, 0, 0, 0, 213]
abbrev dktX0_count_1 : List UInt8 := dkwX0_count_1 ++ dktX0_count_2
def dkwX0_count_0 : List UInt8 := [27]
abbrev dktX0_count_0 : List UInt8 := dkwX0_count_0 ++ dktX0_count_1
theorem dksX0_count_0 : cX0_count.data.toList.drop 0 = dktX0_count_0 := by decide +kernel
theorem dksX0_count_1 : cX0_count.data.toList.drop 1 = dktX0_count_1 := dk_seg dksX0_count_0 1 rfl rfl
theorem dksX0_count_2 : cX0_count.data.toList.drop 80 = dktX0_count_2 := dk_seg dksX0_count_1 79 rfl rfl
theorem dksX0_count_3 : cX0_count.data.toList.drop 103 = dktX0_count_3 := dk_seg dksX0_count_2 23 rfl rfl
theorem dksX0_count_4 : cX0_count.data.toList.drop 127 = dktX0_count_4 := dk_seg dksX0_count_3 24 rfl rfl
theorem dksX0_count_5 : cX0_count.data.toList.drop 150 = dktX0_count_5 := dk_seg dksX0_count_4 23 rfl rfl
theorem dksX0_count_6 : cX0_count.data.toList.drop 174 = dktX0_count_6 := dk_seg dksX0_count_5 24 rfl rfl
theorem dksX0_count_7 : cX0_count.data.toList.drop 198 = dktX0_count_7 := dk_seg dksX0_count_6 24 rfl rfl
theorem dksX0_count_8 : cX0_count.data.toList.drop 222 = dktX0_count_8 := dk_seg dksX0_count_7 24 rfl rfl
theorem dX0_count_0 : decode cX0_count 0 = .ok (.iload_n 1, 1) := dk_27 (dk_at dksX0_count_0 0 rfl rfl)
theorem dX0_count_1 : decode cX0_count 1 = .ok (.tableswitch 221 0 15 #[79, 79, 79, 79, 88, 101, 109, 122, 130, 165, 173, 181, 189, 197, 205, 213], 79) := by decide +kernel
theorem dX0_count_80 : decode cX0_count 80 = .ok (.aload_n 0, 1) := dk_42 (dk_at dksX0_count_2 0 rfl rfl)
theorem dX0_count_81 : decode cX0_count 81 = .ok (.getfield 32, 3) := dk_180 0 32 (dk_at dksX0_count_2 1 rfl rfl)
theorem dX0_count_84 : decode cX0_count 84 = .ok (.iload_n 1, 1) := dk_27 (dk_at dksX0_count_2 4 rfl rfl)
theorem dX0_count_85 : decode cX0_count 85 = .ok (.invokevirtual 95, 3) := dk_182 0 95 (dk_at dksX0_count_2 5 rfl rfl)
theorem dX0_count_88 : decode cX0_count 88 = .ok (.ireturn, 1) := dk_172 (dk_at dksX0_count_2 8 rfl rfl)
theorem dX0_count_89 : decode cX0_count 89 = .ok (.aload_n 0, 1) := dk_42 (dk_at dksX0_count_2 9 rfl rfl)
theorem dX0_count_90 : decode cX0_count 90 = .ok (.getfield 32, 3) := dk_180 0 32 (dk_at dksX0_count_2 10 rfl rfl)
theorem dX0_count_93 : decode cX0_count 93 = .ok (.getfield 62, 3) := dk_180 0 62 (dk_at dksX0_count_2 13 rfl rfl)
theorem dX0_count_96 : decode cX0_count 96 = .ok (.invokeinterface 66 1, 5) := by decide +kernel
theorem dX0_count_101 : decode cX0_count 101 = .ok (.ireturn, 1) := dk_172 (dk_at dksX0_count_2 21 rfl rfl)
theorem dX0_count_102 : decode cX0_count 102 = .ok (.aload_n 0, 1) := dk_42 (dk_at dksX0_count_2 22 rfl rfl)
theorem dX0_count_103 : decode cX0_count 103 = .ok (.getfield 32, 3) := dk_180 0 32 (dk_at dksX0_count_3 0 rfl rfl)
theorem dX0_count_106 : decode cX0_count 106 = .ok (.getfield 111, 3) := dk_180 0 111 (dk_at dksX0_count_3 3 rfl rfl)
theorem dX0_count_109 : decode cX0_count 109 = .ok (.ireturn, 1) := dk_172 (dk_at dksX0_count_3 6 rfl rfl)
theorem dX0_count_110 : decode cX0_count 110 = .ok (.aload_n 0, 1) := dk_42 (dk_at dksX0_count_3 7 rfl rfl)
theorem dX0_count_111 : decode cX0_count 111 = .ok (.getfield 32, 3) := dk_180 0 32 (dk_at dksX0_count_3 8 rfl rfl)
theorem dX0_count_114 : decode cX0_count 114 = .ok (.getfield 152, 3) := dk_180 0 152 (dk_at dksX0_count_3 11 rfl rfl)
theorem dX0_count_117 : decode cX0_count 117 = .ok (.invokeinterface 66 1, 5) := by decide +kernel
theorem dX0_count_122 : decode cX0_count 122 = .ok (.ireturn, 1) := dk_172 (dk_at dksX0_count_3 19 rfl rfl)
theorem dX0_count_123 : decode cX0_count 123 = .ok (.aload_n 0, 1) := dk_42 (dk_at dksX0_count_3 20 rfl rfl)
theorem dX0_count_124 : decode cX0_count 124 = .ok (.getfield 32, 3) := dk_180 0 32 (dk_at dksX0_count_3 21 rfl rfl)
theorem dX0_count_127 : decode cX0_count 127 = .ok (.invokevirtual 196, 3) := dk_182 0 196 (dk_at dksX0_count_4 0 rfl rfl)
theorem dX0_count_130 : decode cX0_count 130 = .ok (.ireturn, 1) := dk_172 (dk_at dksX0_count_4 3 rfl rfl)
theorem dX0_count_131 : decode cX0_count 131 = .ok (.aload_n 0, 1) := dk_42 (dk_at dksX0_count_4 4 rfl rfl)
theorem dX0_count_132 : decode cX0_count 132 = .ok (.getfield 32, 3) := dk_180 0 32 (dk_at dksX0_count_4 5 rfl rfl)
theorem dX0_count_135 : decode cX0_count 135 = .ok (.getfield 184, 3) := dk_180 0 184 (dk_at dksX0_count_4 8 rfl rfl)
theorem dX0_count_138 : decode cX0_count 138 = .ok (.ifnonnull 8, 3) := dk_199 0 8 (dk_at dksX0_count_4 11 rfl rfl)
theorem dX0_count_141 : decode cX0_count 141 = .ok (.bipush (-9), 2) := dk_16 247 (dk_at dksX0_count_4 14 rfl rfl)
theorem dX0_count_143 : decode cX0_count 143 = .ok (.goto 22, 3) := dk_167 0 22 (dk_at dksX0_count_4 16 rfl rfl)
theorem dX0_count_146 : decode cX0_count 146 = .ok (.aload_n 0, 1) := dk_42 (dk_at dksX0_count_4 19 rfl rfl)
theorem dX0_count_147 : decode cX0_count 147 = .ok (.getfield 32, 3) := dk_180 0 32 (dk_at dksX0_count_4 20 rfl rfl)
theorem dX0_count_150 : decode cX0_count 150 = .ok (.getfield 152, 3) := dk_180 0 152 (dk_at dksX0_count_5 0 rfl rfl)
theorem dX0_count_153 : decode cX0_count 153 = .ok (.aload_n 0, 1) := dk_42 (dk_at dksX0_count_5 3 rfl rfl)
theorem dX0_count_154 : decode cX0_count 154 = .ok (.getfield 32, 3) := dk_180 0 32 (dk_at dksX0_count_5 4 rfl rfl)
theorem dX0_count_157 : decode cX0_count 157 = .ok (.getfield 184, 3) := dk_180 0 184 (dk_at dksX0_count_5 7 rfl rfl)
theorem dX0_count_160 : decode cX0_count 160 = .ok (.invokeinterface 199 2, 5) := by decide +kernel
theorem dX0_count_165 : decode cX0_count 165 = .ok (.ireturn, 1) := dk_172 (dk_at dksX0_count_5 15 rfl rfl)
theorem dX0_count_166 : decode cX0_count 166 = .ok (.aload_n 0, 1) := dk_42 (dk_at dksX0_count_5 16 rfl rfl)
theorem dX0_count_167 : decode cX0_count 167 = .ok (.getfield 32, 3) := dk_180 0 32 (dk_at dksX0_count_5 17 rfl rfl)
theorem dX0_count_170 : decode cX0_count 170 = .ok (.getfield 203, 3) := dk_180 0 203 (dk_at dksX0_count_5 20 rfl rfl)
theorem dX0_count_173 : decode cX0_count 173 = .ok (.ireturn, 1) := dk_172 (dk_at dksX0_count_5 23 rfl rfl)
theorem dX0_count_174 : decode cX0_count 174 = .ok (.aload_n 0, 1) := dk_42 (dk_at dksX0_count_6 0 rfl rfl)
theorem dX0_count_175 : decode cX0_count 175 = .ok (.getfield 32, 3) := dk_180 0 32 (dk_at dksX0_count_6 1 rfl rfl)
theorem dX0_count_178 : decode cX0_count 178 = .ok (.getfield 206, 3) := dk_180 0 206 (dk_at dksX0_count_6 4 rfl rfl)
theorem dX0_count_181 : decode cX0_count 181 = .ok (.ireturn, 1) := dk_172 (dk_at dksX0_count_6 7 rfl rfl)
theorem dX0_count_182 : decode cX0_count 182 = .ok (.aload_n 0, 1) := dk_42 (dk_at dksX0_count_6 8 rfl rfl)
theorem dX0_count_183 : decode cX0_count 183 = .ok (.getfield 32, 3) := dk_180 0 32 (dk_at dksX0_count_6 9 rfl rfl)
theorem dX0_count_186 : decode cX0_count 186 = .ok (.getfield 209, 3) := dk_180 0 209 (dk_at dksX0_count_6 12 rfl rfl)
theorem dX0_count_189 : decode cX0_count 189 = .ok (.ireturn, 1) := dk_172 (dk_at dksX0_count_6 15 rfl rfl)
theorem dX0_count_190 : decode cX0_count 190 = .ok (.aload_n 0, 1) := dk_42 (dk_at dksX0_count_6 16 rfl rfl)
theorem dX0_count_191 : decode cX0_count 191 = .ok (.getfield 32, 3) := dk_180 0 32 (dk_at dksX0_count_6 17 rfl rfl)
theorem dX0_count_194 : decode cX0_count 194 = .ok (.getfield 212, 3) := dk_180 0 212 (dk_at dksX0_count_6 20 rfl rfl)
theorem dX0_count_197 : decode cX0_count 197 = .ok (.ireturn, 1) := dk_172 (dk_at dksX0_count_6 23 rfl rfl)
theorem dX0_count_198 : decode cX0_count 198 = .ok (.aload_n 0, 1) := dk_42 (dk_at dksX0_count_7 0 rfl rfl)
theorem dX0_count_199 : decode cX0_count 199 = .ok (.getfield 32, 3) := dk_180 0 32 (dk_at dksX0_count_7 1 rfl rfl)
theorem dX0_count_202 : decode cX0_count 202 = .ok (.getfield 215, 3) := dk_180 0 215 (dk_at dksX0_count_7 4 rfl rfl)
theorem dX0_count_205 : decode cX0_count 205 = .ok (.ireturn, 1) := dk_172 (dk_at dksX0_count_7 7 rfl rfl)
theorem dX0_count_206 : decode cX0_count 206 = .ok (.aload_n 0, 1) := dk_42 (dk_at dksX0_count_7 8 rfl rfl)
theorem dX0_count_207 : decode cX0_count 207 = .ok (.getfield 39, 3) := dk_180 0 39 (dk_at dksX0_count_7 9 rfl rfl)
theorem dX0_count_210 : decode cX0_count 210 = .ok (.getfield 191, 3) := dk_180 0 191 (dk_at dksX0_count_7 12 rfl rfl)
theorem dX0_count_213 : decode cX0_count 213 = .ok (.ireturn, 1) := dk_172 (dk_at dksX0_count_7 15 rfl rfl)
theorem dX0_count_214 : decode cX0_count 214 = .ok (.aload_n 0, 1) := dk_42 (dk_at dksX0_count_7 16 rfl rfl)
theorem dX0_count_215 : decode cX0_count 215 = .ok (.getfield 46, 3) := dk_180 0 46 (dk_at dksX0_count_7 17 rfl rfl)
theorem dX0_count_218 : decode cX0_count 218 = .ok (.invokevirtual 130, 3) := dk_182 0 130 (dk_at dksX0_count_7 20 rfl rfl)
theorem dX0_count_221 : decode cX0_count 221 = .ok (.ireturn, 1) := dk_172 (dk_at dksX0_count_7 23 rfl rfl)
theorem dX0_count_222 : decode cX0_count 222 = .ok (.iconst (-1), 1) := dk_2 (dk_at dksX0_count_8 0 rfl rfl)
theorem dX0_count_223 : decode cX0_count 223 = .ok (.ireturn, 1) := dk_172 (dk_at dksX0_count_8 1 rfl rfl)
abbrev cX0_plate : ByteArray := prog_1_method_25_code
def yX0_plate : MethodName := ⟨RX0, "plate", "(II)I"⟩
def dkwX0_plate_4 : List UInt8 := [42, 27, 182, 1, 10, 28, 8, 100, 46, 172, 2, 172]
abbrev dktX0_plate_4 : List UInt8 := dkwX0_plate_4 ++ []
def dkwX0_plate_3 : List UInt8 := [45, 180, 1, 7, 172, 45, 180, 0, 108, 172, 45, 180, 0, 91, 172, 45, 180, 0, 99, 28, 6, 100, 46, 172]
abbrev dktX0_plate_3 : List UInt8 := dkwX0_plate_3 ++ dktX0_plate_4
def dkwX0_plate_2 : List UInt8 := [170, 0, 0, 0, 75, 0, 0, 0, 0, 0, 0, 0, 6, 0, 0, 0, 41, 0, 0, 0, 46, 0, 0, 0, 51, 0, 0, 0, 56, 0, 0, 0, 56, 0, 0, 0, 65, 0, 0, 0, 65]
abbrev dktX0_plate_2 : List UInt8 := dkwX0_plate_2 ++ dktX0_plate_3
def dkwX0_plate_1 : List UInt8 := [185, 0, 87, 2, 0, 192, 0, 74, 78, 28]
abbrev dktX0_plate_1 : List UInt8 := dkwX0_plate_1 ++ dktX0_plate_2
def dkwX0_plate_0 : List UInt8 := [42, 180, 0, 32, 27, 182, 0, 83, 154, 0, 5, 2, 172, 42, 180, 0, 32, 180, 0, 62, 27]
abbrev dktX0_plate_0 : List UInt8 := dkwX0_plate_0 ++ dktX0_plate_1
theorem dksX0_plate_0 : cX0_plate.data.toList.drop 0 = dktX0_plate_0 := by decide +kernel
theorem dksX0_plate_1 : cX0_plate.data.toList.drop 21 = dktX0_plate_1 := dk_seg dksX0_plate_0 21 rfl rfl
theorem dksX0_plate_2 : cX0_plate.data.toList.drop 31 = dktX0_plate_2 := dk_seg dksX0_plate_1 10 rfl rfl
theorem dksX0_plate_3 : cX0_plate.data.toList.drop 72 = dktX0_plate_3 := dk_seg dksX0_plate_2 41 rfl rfl
theorem dksX0_plate_4 : cX0_plate.data.toList.drop 96 = dktX0_plate_4 := dk_seg dksX0_plate_3 24 rfl rfl
theorem dX0_plate_0 : decode cX0_plate 0 = .ok (.aload_n 0, 1) := dk_42 (dk_at dksX0_plate_0 0 rfl rfl)
theorem dX0_plate_1 : decode cX0_plate 1 = .ok (.getfield 32, 3) := dk_180 0 32 (dk_at dksX0_plate_0 1 rfl rfl)
theorem dX0_plate_4 : decode cX0_plate 4 = .ok (.iload_n 1, 1) := dk_27 (dk_at dksX0_plate_0 4 rfl rfl)
theorem dX0_plate_5 : decode cX0_plate 5 = .ok (.invokevirtual 83, 3) := dk_182 0 83 (dk_at dksX0_plate_0 5 rfl rfl)
theorem dX0_plate_8 : decode cX0_plate 8 = .ok (.ifCond .ne 5, 3) := dk_154 0 5 (dk_at dksX0_plate_0 8 rfl rfl)
theorem dX0_plate_11 : decode cX0_plate 11 = .ok (.iconst (-1), 1) := dk_2 (dk_at dksX0_plate_0 11 rfl rfl)
theorem dX0_plate_12 : decode cX0_plate 12 = .ok (.ireturn, 1) := dk_172 (dk_at dksX0_plate_0 12 rfl rfl)
theorem dX0_plate_13 : decode cX0_plate 13 = .ok (.aload_n 0, 1) := dk_42 (dk_at dksX0_plate_0 13 rfl rfl)
theorem dX0_plate_14 : decode cX0_plate 14 = .ok (.getfield 32, 3) := dk_180 0 32 (dk_at dksX0_plate_0 14 rfl rfl)
theorem dX0_plate_17 : decode cX0_plate 17 = .ok (.getfield 62, 3) := dk_180 0 62 (dk_at dksX0_plate_0 17 rfl rfl)
theorem dX0_plate_20 : decode cX0_plate 20 = .ok (.iload_n 1, 1) := dk_27 (dk_at dksX0_plate_0 20 rfl rfl)
theorem dX0_plate_21 : decode cX0_plate 21 = .ok (.invokeinterface 87 2, 5) := by decide +kernel
theorem dX0_plate_26 : decode cX0_plate 26 = .ok (.checkcast 74, 3) := dk_192 0 74 (dk_at dksX0_plate_1 5 rfl rfl)
theorem dX0_plate_29 : decode cX0_plate 29 = .ok (.astore_n 3, 1) := dk_78 (dk_at dksX0_plate_1 8 rfl rfl)
theorem dX0_plate_30 : decode cX0_plate 30 = .ok (.iload_n 2, 1) := dk_28 (dk_at dksX0_plate_1 9 rfl rfl)
theorem dX0_plate_31 : decode cX0_plate 31 = .ok (.tableswitch 75 0 6 #[41, 46, 51, 56, 56, 65, 65], 41) := by decide +kernel
theorem dX0_plate_72 : decode cX0_plate 72 = .ok (.aload_n 3, 1) := dk_45 (dk_at dksX0_plate_3 0 rfl rfl)
theorem dX0_plate_73 : decode cX0_plate 73 = .ok (.getfield 263, 3) := dk_180 1 7 (dk_at dksX0_plate_3 1 rfl rfl)
theorem dX0_plate_76 : decode cX0_plate 76 = .ok (.ireturn, 1) := dk_172 (dk_at dksX0_plate_3 4 rfl rfl)
theorem dX0_plate_77 : decode cX0_plate 77 = .ok (.aload_n 3, 1) := dk_45 (dk_at dksX0_plate_3 5 rfl rfl)
theorem dX0_plate_78 : decode cX0_plate 78 = .ok (.getfield 108, 3) := dk_180 0 108 (dk_at dksX0_plate_3 6 rfl rfl)
theorem dX0_plate_81 : decode cX0_plate 81 = .ok (.ireturn, 1) := dk_172 (dk_at dksX0_plate_3 9 rfl rfl)
theorem dX0_plate_82 : decode cX0_plate 82 = .ok (.aload_n 3, 1) := dk_45 (dk_at dksX0_plate_3 10 rfl rfl)
theorem dX0_plate_83 : decode cX0_plate 83 = .ok (.getfield 91, 3) := dk_180 0 91 (dk_at dksX0_plate_3 11 rfl rfl)
theorem dX0_plate_86 : decode cX0_plate 86 = .ok (.ireturn, 1) := dk_172 (dk_at dksX0_plate_3 14 rfl rfl)
theorem dX0_plate_87 : decode cX0_plate 87 = .ok (.aload_n 3, 1) := dk_45 (dk_at dksX0_plate_3 15 rfl rfl)
theorem dX0_plate_88 : decode cX0_plate 88 = .ok (.getfield 99, 3) := dk_180 0 99 (dk_at dksX0_plate_3 16 rfl rfl)
theorem dX0_plate_91 : decode cX0_plate 91 = .ok (.iload_n 2, 1) := dk_28 (dk_at dksX0_plate_3 19 rfl rfl)
theorem dX0_plate_92 : decode cX0_plate 92 = .ok (.iconst 3, 1) := dk_6 (dk_at dksX0_plate_3 20 rfl rfl)
theorem dX0_plate_93 : decode cX0_plate 93 = .ok (.isub, 1) := dk_100 (dk_at dksX0_plate_3 21 rfl rfl)
theorem dX0_plate_94 : decode cX0_plate 94 = .ok (.iaload, 1) := dk_46 (dk_at dksX0_plate_3 22 rfl rfl)
theorem dX0_plate_95 : decode cX0_plate 95 = .ok (.ireturn, 1) := dk_172 (dk_at dksX0_plate_3 23 rfl rfl)
theorem dX0_plate_96 : decode cX0_plate 96 = .ok (.aload_n 0, 1) := dk_42 (dk_at dksX0_plate_4 0 rfl rfl)
theorem dX0_plate_97 : decode cX0_plate 97 = .ok (.iload_n 1, 1) := dk_27 (dk_at dksX0_plate_4 1 rfl rfl)
theorem dX0_plate_98 : decode cX0_plate 98 = .ok (.invokevirtual 266, 3) := dk_182 1 10 (dk_at dksX0_plate_4 2 rfl rfl)
theorem dX0_plate_101 : decode cX0_plate 101 = .ok (.iload_n 2, 1) := dk_28 (dk_at dksX0_plate_4 5 rfl rfl)
theorem dX0_plate_102 : decode cX0_plate 102 = .ok (.iconst 5, 1) := dk_8 (dk_at dksX0_plate_4 6 rfl rfl)
theorem dX0_plate_103 : decode cX0_plate 103 = .ok (.isub, 1) := dk_100 (dk_at dksX0_plate_4 7 rfl rfl)
theorem dX0_plate_104 : decode cX0_plate 104 = .ok (.iaload, 1) := dk_46 (dk_at dksX0_plate_4 8 rfl rfl)
theorem dX0_plate_105 : decode cX0_plate 105 = .ok (.ireturn, 1) := dk_172 (dk_at dksX0_plate_4 9 rfl rfl)
theorem dX0_plate_106 : decode cX0_plate 106 = .ok (.iconst (-1), 1) := dk_2 (dk_at dksX0_plate_4 10 rfl rfl)
theorem dX0_plate_107 : decode cX0_plate 107 = .ok (.ireturn, 1) := dk_172 (dk_at dksX0_plate_4 11 rfl rfl)
abbrev cX0_whereIs : ByteArray := prog_1_method_24_code
def yX0_whereIs : MethodName := ⟨RX0, "whereIs", "(I)[I"⟩
def dkwX0_whereIs_4 : List UInt8 := [185, 0, 254, 1, 0, 192, 0, 145, 180, 1, 4, 79, 167, 255, 187, 44, 176]
abbrev dktX0_whereIs_4 : List UInt8 := dkwX0_whereIs_4 ++ []
def dkwX0_whereIs_3 : List UInt8 := [160, 0, 35, 44, 3, 25, 4, 185, 0, 254, 1, 0, 192, 0, 145, 180, 1, 1, 79, 44, 4, 25, 4]
abbrev dktX0_whereIs_3 : List UInt8 := dkwX0_whereIs_3 ++ dktX0_whereIs_4
def dkwX0_whereIs_2 : List UInt8 := [185, 0, 240, 1, 0, 192, 0, 244, 58, 4, 25, 4, 185, 0, 246, 1, 0, 192, 0, 249, 182, 0, 251, 27]
abbrev dktX0_whereIs_2 : List UInt8 := dkwX0_whereIs_2 ++ dktX0_whereIs_3
def dkwX0_whereIs_1 : List UInt8 := [185, 0, 222, 1, 0, 185, 0, 228, 1, 0, 78, 45, 185, 0, 234, 1, 0, 153, 0, 66, 45]
abbrev dktX0_whereIs_1 : List UInt8 := dkwX0_whereIs_1 ++ dktX0_whereIs_2
def dkwX0_whereIs_0 : List UInt8 := [5, 188, 10, 89, 3, 16, 247, 79, 89, 4, 16, 247, 79, 77, 42, 180, 0, 32, 180, 0, 218]
abbrev dktX0_whereIs_0 : List UInt8 := dkwX0_whereIs_0 ++ dktX0_whereIs_1
theorem dksX0_whereIs_0 : cX0_whereIs.data.toList.drop 0 = dktX0_whereIs_0 := by decide +kernel
theorem dksX0_whereIs_1 : cX0_whereIs.data.toList.drop 21 = dktX0_whereIs_1 := dk_seg dksX0_whereIs_0 21 rfl rfl
theorem dksX0_whereIs_2 : cX0_whereIs.data.toList.drop 42 = dktX0_whereIs_2 := dk_seg dksX0_whereIs_1 21 rfl rfl
theorem dksX0_whereIs_3 : cX0_whereIs.data.toList.drop 66 = dktX0_whereIs_3 := dk_seg dksX0_whereIs_2 24 rfl rfl
theorem dksX0_whereIs_4 : cX0_whereIs.data.toList.drop 89 = dktX0_whereIs_4 := dk_seg dksX0_whereIs_3 23 rfl rfl
theorem dX0_whereIs_0 : decode cX0_whereIs 0 = .ok (.iconst 2, 1) := dk_5 (dk_at dksX0_whereIs_0 0 rfl rfl)
theorem dX0_whereIs_1 : decode cX0_whereIs 1 = .ok (.newarray .int, 2) := dk_188_10 (dk_at dksX0_whereIs_0 1 rfl rfl)
theorem dX0_whereIs_3 : decode cX0_whereIs 3 = .ok (.dup, 1) := dk_89 (dk_at dksX0_whereIs_0 3 rfl rfl)
theorem dX0_whereIs_4 : decode cX0_whereIs 4 = .ok (.iconst 0, 1) := dk_3 (dk_at dksX0_whereIs_0 4 rfl rfl)
theorem dX0_whereIs_5 : decode cX0_whereIs 5 = .ok (.bipush (-9), 2) := dk_16 247 (dk_at dksX0_whereIs_0 5 rfl rfl)
theorem dX0_whereIs_7 : decode cX0_whereIs 7 = .ok (.iastore, 1) := dk_79 (dk_at dksX0_whereIs_0 7 rfl rfl)
theorem dX0_whereIs_8 : decode cX0_whereIs 8 = .ok (.dup, 1) := dk_89 (dk_at dksX0_whereIs_0 8 rfl rfl)
theorem dX0_whereIs_9 : decode cX0_whereIs 9 = .ok (.iconst 1, 1) := dk_4 (dk_at dksX0_whereIs_0 9 rfl rfl)
theorem dX0_whereIs_10 : decode cX0_whereIs 10 = .ok (.bipush (-9), 2) := dk_16 247 (dk_at dksX0_whereIs_0 10 rfl rfl)
theorem dX0_whereIs_12 : decode cX0_whereIs 12 = .ok (.iastore, 1) := dk_79 (dk_at dksX0_whereIs_0 12 rfl rfl)
theorem dX0_whereIs_13 : decode cX0_whereIs 13 = .ok (.astore_n 2, 1) := dk_77 (dk_at dksX0_whereIs_0 13 rfl rfl)
theorem dX0_whereIs_14 : decode cX0_whereIs 14 = .ok (.aload_n 0, 1) := dk_42 (dk_at dksX0_whereIs_0 14 rfl rfl)
theorem dX0_whereIs_15 : decode cX0_whereIs 15 = .ok (.getfield 32, 3) := dk_180 0 32 (dk_at dksX0_whereIs_0 15 rfl rfl)
theorem dX0_whereIs_18 : decode cX0_whereIs 18 = .ok (.getfield 218, 3) := dk_180 0 218 (dk_at dksX0_whereIs_0 18 rfl rfl)
theorem dX0_whereIs_21 : decode cX0_whereIs 21 = .ok (.invokeinterface 222 1, 5) := by decide +kernel
theorem dX0_whereIs_26 : decode cX0_whereIs 26 = .ok (.invokeinterface 228 1, 5) := by decide +kernel
theorem dX0_whereIs_31 : decode cX0_whereIs 31 = .ok (.astore_n 3, 1) := dk_78 (dk_at dksX0_whereIs_1 10 rfl rfl)
theorem dX0_whereIs_32 : decode cX0_whereIs 32 = .ok (.aload_n 3, 1) := dk_45 (dk_at dksX0_whereIs_1 11 rfl rfl)
theorem dX0_whereIs_33 : decode cX0_whereIs 33 = .ok (.invokeinterface 234 1, 5) := by decide +kernel
theorem dX0_whereIs_38 : decode cX0_whereIs 38 = .ok (.ifCond .eq 66, 3) := dk_153 0 66 (dk_at dksX0_whereIs_1 17 rfl rfl)
theorem dX0_whereIs_41 : decode cX0_whereIs 41 = .ok (.aload_n 3, 1) := dk_45 (dk_at dksX0_whereIs_1 20 rfl rfl)
theorem dX0_whereIs_42 : decode cX0_whereIs 42 = .ok (.invokeinterface 240 1, 5) := by decide +kernel
theorem dX0_whereIs_47 : decode cX0_whereIs 47 = .ok (.checkcast 244, 3) := dk_192 0 244 (dk_at dksX0_whereIs_2 5 rfl rfl)
theorem dX0_whereIs_50 : decode cX0_whereIs 50 = .ok (.astore 4, 2) := dk_58 4 (dk_at dksX0_whereIs_2 8 rfl rfl)
theorem dX0_whereIs_52 : decode cX0_whereIs 52 = .ok (.aload 4, 2) := dk_25 4 (dk_at dksX0_whereIs_2 10 rfl rfl)
theorem dX0_whereIs_54 : decode cX0_whereIs 54 = .ok (.invokeinterface 246 1, 5) := by decide +kernel
theorem dX0_whereIs_59 : decode cX0_whereIs 59 = .ok (.checkcast 249, 3) := dk_192 0 249 (dk_at dksX0_whereIs_2 17 rfl rfl)
theorem dX0_whereIs_62 : decode cX0_whereIs 62 = .ok (.invokevirtual 251, 3) := dk_182 0 251 (dk_at dksX0_whereIs_2 20 rfl rfl)
theorem dX0_whereIs_65 : decode cX0_whereIs 65 = .ok (.iload_n 1, 1) := dk_27 (dk_at dksX0_whereIs_2 23 rfl rfl)
theorem dX0_whereIs_66 : decode cX0_whereIs 66 = .ok (.if_icmp .ne 35, 3) := dk_160 0 35 (dk_at dksX0_whereIs_3 0 rfl rfl)
theorem dX0_whereIs_69 : decode cX0_whereIs 69 = .ok (.aload_n 2, 1) := dk_44 (dk_at dksX0_whereIs_3 3 rfl rfl)
theorem dX0_whereIs_70 : decode cX0_whereIs 70 = .ok (.iconst 0, 1) := dk_3 (dk_at dksX0_whereIs_3 4 rfl rfl)
theorem dX0_whereIs_71 : decode cX0_whereIs 71 = .ok (.aload 4, 2) := dk_25 4 (dk_at dksX0_whereIs_3 5 rfl rfl)
theorem dX0_whereIs_73 : decode cX0_whereIs 73 = .ok (.invokeinterface 254 1, 5) := by decide +kernel
theorem dX0_whereIs_78 : decode cX0_whereIs 78 = .ok (.checkcast 145, 3) := dk_192 0 145 (dk_at dksX0_whereIs_3 12 rfl rfl)
theorem dX0_whereIs_81 : decode cX0_whereIs 81 = .ok (.getfield 257, 3) := dk_180 1 1 (dk_at dksX0_whereIs_3 15 rfl rfl)
theorem dX0_whereIs_84 : decode cX0_whereIs 84 = .ok (.iastore, 1) := dk_79 (dk_at dksX0_whereIs_3 18 rfl rfl)
theorem dX0_whereIs_85 : decode cX0_whereIs 85 = .ok (.aload_n 2, 1) := dk_44 (dk_at dksX0_whereIs_3 19 rfl rfl)
theorem dX0_whereIs_86 : decode cX0_whereIs 86 = .ok (.iconst 1, 1) := dk_4 (dk_at dksX0_whereIs_3 20 rfl rfl)
theorem dX0_whereIs_87 : decode cX0_whereIs 87 = .ok (.aload 4, 2) := dk_25 4 (dk_at dksX0_whereIs_3 21 rfl rfl)
theorem dX0_whereIs_89 : decode cX0_whereIs 89 = .ok (.invokeinterface 254 1, 5) := by decide +kernel
theorem dX0_whereIs_94 : decode cX0_whereIs 94 = .ok (.checkcast 145, 3) := dk_192 0 145 (dk_at dksX0_whereIs_4 5 rfl rfl)
theorem dX0_whereIs_97 : decode cX0_whereIs 97 = .ok (.getfield 260, 3) := dk_180 1 4 (dk_at dksX0_whereIs_4 8 rfl rfl)
theorem dX0_whereIs_100 : decode cX0_whereIs 100 = .ok (.iastore, 1) := dk_79 (dk_at dksX0_whereIs_4 11 rfl rfl)
theorem dX0_whereIs_101 : decode cX0_whereIs 101 = .ok (.goto (-69), 3) := dk_167 255 187 (dk_at dksX0_whereIs_4 12 rfl rfl)
theorem dX0_whereIs_104 : decode cX0_whereIs 104 = .ok (.aload_n 2, 1) := dk_44 (dk_at dksX0_whereIs_4 15 rfl rfl)
theorem dX0_whereIs_105 : decode cX0_whereIs 105 = .ok (.areturn, 1) := dk_176 (dk_at dksX0_whereIs_4 16 rfl rfl)
abbrev cX0_shield : ByteArray := prog_1_method_26_code
def yX0_shield : MethodName := ⟨RX0, "shield", "(II)I"⟩
def dkwX0_shield_4 : List UInt8 := [167, 0, 12, 21, 5, 21, 4, 100, 4, 96, 29, 100, 172, 2, 172]
abbrev dktX0_shield_4 : List UInt8 := dkwX0_shield_4 ++ []
def dkwX0_shield_3 : List UInt8 := [42, 180, 0, 32, 180, 0, 114, 27, 46, 172, 29, 172, 21, 4, 172, 21, 5, 172, 29, 154, 0, 7, 3]
abbrev dktX0_shield_3 : List UInt8 := dkwX0_shield_3 ++ dktX0_shield_4
def dkwX0_shield_2 : List UInt8 := [170, 0, 0, 0, 0, 0, 71, 0, 0, 0, 0, 0, 0, 0, 4, 0, 0, 0, 35, 0, 0, 0, 45, 0, 0, 0, 47, 0, 0, 0, 50, 0, 0, 0, 53]
abbrev dktX0_shield_2 : List UInt8 := dkwX0_shield_2 ++ dktX0_shield_3
def dkwX0_shield_1 : List UInt8 := [180, 0, 32, 27, 3, 182, 1, 17, 54, 4, 42, 180, 0, 32, 27, 4, 182, 1, 17, 54, 5, 28]
abbrev dktX0_shield_1 : List UInt8 := dkwX0_shield_1 ++ dktX0_shield_2
def dkwX0_shield_0 : List UInt8 := [42, 180, 0, 32, 27, 182, 0, 117, 154, 0, 5, 2, 172, 42, 180, 0, 32, 27, 182, 1, 14, 62, 42]
abbrev dktX0_shield_0 : List UInt8 := dkwX0_shield_0 ++ dktX0_shield_1
theorem dksX0_shield_0 : cX0_shield.data.toList.drop 0 = dktX0_shield_0 := by decide +kernel
theorem dksX0_shield_1 : cX0_shield.data.toList.drop 23 = dktX0_shield_1 := dk_seg dksX0_shield_0 23 rfl rfl
theorem dksX0_shield_2 : cX0_shield.data.toList.drop 45 = dktX0_shield_2 := dk_seg dksX0_shield_1 22 rfl rfl
theorem dksX0_shield_3 : cX0_shield.data.toList.drop 80 = dktX0_shield_3 := dk_seg dksX0_shield_2 35 rfl rfl
theorem dksX0_shield_4 : cX0_shield.data.toList.drop 103 = dktX0_shield_4 := dk_seg dksX0_shield_3 23 rfl rfl
theorem dX0_shield_0 : decode cX0_shield 0 = .ok (.aload_n 0, 1) := dk_42 (dk_at dksX0_shield_0 0 rfl rfl)
theorem dX0_shield_1 : decode cX0_shield 1 = .ok (.getfield 32, 3) := dk_180 0 32 (dk_at dksX0_shield_0 1 rfl rfl)
theorem dX0_shield_4 : decode cX0_shield 4 = .ok (.iload_n 1, 1) := dk_27 (dk_at dksX0_shield_0 4 rfl rfl)
theorem dX0_shield_5 : decode cX0_shield 5 = .ok (.invokevirtual 117, 3) := dk_182 0 117 (dk_at dksX0_shield_0 5 rfl rfl)
theorem dX0_shield_8 : decode cX0_shield 8 = .ok (.ifCond .ne 5, 3) := dk_154 0 5 (dk_at dksX0_shield_0 8 rfl rfl)
theorem dX0_shield_11 : decode cX0_shield 11 = .ok (.iconst (-1), 1) := dk_2 (dk_at dksX0_shield_0 11 rfl rfl)
theorem dX0_shield_12 : decode cX0_shield 12 = .ok (.ireturn, 1) := dk_172 (dk_at dksX0_shield_0 12 rfl rfl)
theorem dX0_shield_13 : decode cX0_shield 13 = .ok (.aload_n 0, 1) := dk_42 (dk_at dksX0_shield_0 13 rfl rfl)
theorem dX0_shield_14 : decode cX0_shield 14 = .ok (.getfield 32, 3) := dk_180 0 32 (dk_at dksX0_shield_0 14 rfl rfl)
theorem dX0_shield_17 : decode cX0_shield 17 = .ok (.iload_n 1, 1) := dk_27 (dk_at dksX0_shield_0 17 rfl rfl)
theorem dX0_shield_18 : decode cX0_shield 18 = .ok (.invokevirtual 270, 3) := dk_182 1 14 (dk_at dksX0_shield_0 18 rfl rfl)
theorem dX0_shield_21 : decode cX0_shield 21 = .ok (.istore_n 3, 1) := dk_62 (dk_at dksX0_shield_0 21 rfl rfl)
theorem dX0_shield_22 : decode cX0_shield 22 = .ok (.aload_n 0, 1) := dk_42 (dk_at dksX0_shield_0 22 rfl rfl)
theorem dX0_shield_23 : decode cX0_shield 23 = .ok (.getfield 32, 3) := dk_180 0 32 (dk_at dksX0_shield_1 0 rfl rfl)
theorem dX0_shield_26 : decode cX0_shield 26 = .ok (.iload_n 1, 1) := dk_27 (dk_at dksX0_shield_1 3 rfl rfl)
theorem dX0_shield_27 : decode cX0_shield 27 = .ok (.iconst 0, 1) := dk_3 (dk_at dksX0_shield_1 4 rfl rfl)
theorem dX0_shield_28 : decode cX0_shield 28 = .ok (.invokevirtual 273, 3) := dk_182 1 17 (dk_at dksX0_shield_1 5 rfl rfl)
theorem dX0_shield_31 : decode cX0_shield 31 = .ok (.istore 4, 2) := dk_54 4 (dk_at dksX0_shield_1 8 rfl rfl)
theorem dX0_shield_33 : decode cX0_shield 33 = .ok (.aload_n 0, 1) := dk_42 (dk_at dksX0_shield_1 10 rfl rfl)
theorem dX0_shield_34 : decode cX0_shield 34 = .ok (.getfield 32, 3) := dk_180 0 32 (dk_at dksX0_shield_1 11 rfl rfl)
theorem dX0_shield_37 : decode cX0_shield 37 = .ok (.iload_n 1, 1) := dk_27 (dk_at dksX0_shield_1 14 rfl rfl)
theorem dX0_shield_38 : decode cX0_shield 38 = .ok (.iconst 1, 1) := dk_4 (dk_at dksX0_shield_1 15 rfl rfl)
theorem dX0_shield_39 : decode cX0_shield 39 = .ok (.invokevirtual 273, 3) := dk_182 1 17 (dk_at dksX0_shield_1 16 rfl rfl)
theorem dX0_shield_42 : decode cX0_shield 42 = .ok (.istore 5, 2) := dk_54 5 (dk_at dksX0_shield_1 19 rfl rfl)
theorem dX0_shield_44 : decode cX0_shield 44 = .ok (.iload_n 2, 1) := dk_28 (dk_at dksX0_shield_1 21 rfl rfl)
theorem dX0_shield_45 : decode cX0_shield 45 = .ok (.tableswitch 71 0 4 #[35, 45, 47, 50, 53], 35) := by decide +kernel
theorem dX0_shield_80 : decode cX0_shield 80 = .ok (.aload_n 0, 1) := dk_42 (dk_at dksX0_shield_3 0 rfl rfl)
theorem dX0_shield_81 : decode cX0_shield 81 = .ok (.getfield 32, 3) := dk_180 0 32 (dk_at dksX0_shield_3 1 rfl rfl)
theorem dX0_shield_84 : decode cX0_shield 84 = .ok (.getfield 114, 3) := dk_180 0 114 (dk_at dksX0_shield_3 4 rfl rfl)
theorem dX0_shield_87 : decode cX0_shield 87 = .ok (.iload_n 1, 1) := dk_27 (dk_at dksX0_shield_3 7 rfl rfl)
theorem dX0_shield_88 : decode cX0_shield 88 = .ok (.iaload, 1) := dk_46 (dk_at dksX0_shield_3 8 rfl rfl)
theorem dX0_shield_89 : decode cX0_shield 89 = .ok (.ireturn, 1) := dk_172 (dk_at dksX0_shield_3 9 rfl rfl)
theorem dX0_shield_90 : decode cX0_shield 90 = .ok (.iload_n 3, 1) := dk_29 (dk_at dksX0_shield_3 10 rfl rfl)
theorem dX0_shield_91 : decode cX0_shield 91 = .ok (.ireturn, 1) := dk_172 (dk_at dksX0_shield_3 11 rfl rfl)
theorem dX0_shield_92 : decode cX0_shield 92 = .ok (.iload 4, 2) := dk_21 4 (dk_at dksX0_shield_3 12 rfl rfl)
theorem dX0_shield_94 : decode cX0_shield 94 = .ok (.ireturn, 1) := dk_172 (dk_at dksX0_shield_3 14 rfl rfl)
theorem dX0_shield_95 : decode cX0_shield 95 = .ok (.iload 5, 2) := dk_21 5 (dk_at dksX0_shield_3 15 rfl rfl)
theorem dX0_shield_97 : decode cX0_shield 97 = .ok (.ireturn, 1) := dk_172 (dk_at dksX0_shield_3 17 rfl rfl)
theorem dX0_shield_98 : decode cX0_shield 98 = .ok (.iload_n 3, 1) := dk_29 (dk_at dksX0_shield_3 18 rfl rfl)
theorem dX0_shield_99 : decode cX0_shield 99 = .ok (.ifCond .ne 7, 3) := dk_154 0 7 (dk_at dksX0_shield_3 19 rfl rfl)
theorem dX0_shield_102 : decode cX0_shield 102 = .ok (.iconst 0, 1) := dk_3 (dk_at dksX0_shield_3 22 rfl rfl)
theorem dX0_shield_103 : decode cX0_shield 103 = .ok (.goto 12, 3) := dk_167 0 12 (dk_at dksX0_shield_4 0 rfl rfl)
theorem dX0_shield_106 : decode cX0_shield 106 = .ok (.iload 5, 2) := dk_21 5 (dk_at dksX0_shield_4 3 rfl rfl)
theorem dX0_shield_108 : decode cX0_shield 108 = .ok (.iload 4, 2) := dk_21 4 (dk_at dksX0_shield_4 5 rfl rfl)
theorem dX0_shield_110 : decode cX0_shield 110 = .ok (.isub, 1) := dk_100 (dk_at dksX0_shield_4 7 rfl rfl)
theorem dX0_shield_111 : decode cX0_shield 111 = .ok (.iconst 1, 1) := dk_4 (dk_at dksX0_shield_4 8 rfl rfl)
theorem dX0_shield_112 : decode cX0_shield 112 = .ok (.iadd, 1) := dk_96 (dk_at dksX0_shield_4 9 rfl rfl)
theorem dX0_shield_113 : decode cX0_shield 113 = .ok (.iload_n 3, 1) := dk_29 (dk_at dksX0_shield_4 10 rfl rfl)
theorem dX0_shield_114 : decode cX0_shield 114 = .ok (.isub, 1) := dk_100 (dk_at dksX0_shield_4 11 rfl rfl)
theorem dX0_shield_115 : decode cX0_shield 115 = .ok (.ireturn, 1) := dk_172 (dk_at dksX0_shield_4 12 rfl rfl)
theorem dX0_shield_116 : decode cX0_shield 116 = .ok (.iconst (-1), 1) := dk_2 (dk_at dksX0_shield_4 13 rfl rfl)
theorem dX0_shield_117 : decode cX0_shield 117 = .ok (.ireturn, 1) := dk_172 (dk_at dksX0_shield_4 14 rfl rfl)
abbrev cX0_plateFor : ByteArray := prog_1_method_27_code
def yX0_plateFor : MethodName := ⟨RX0, "plateFor", "(II)I"⟩
def dkwX0_plateFor_0 : List UInt8 := [42, 27, 28, 182, 0, 120, 153, 0, 15, 42, 180, 0, 32, 27, 28, 182, 0, 124, 167, 0, 4, 2, 172]
abbrev dktX0_plateFor_0 : List UInt8 := dkwX0_plateFor_0 ++ []
theorem dksX0_plateFor_0 : cX0_plateFor.data.toList.drop 0 = dktX0_plateFor_0 := by decide +kernel
theorem dX0_plateFor_0 : decode cX0_plateFor 0 = .ok (.aload_n 0, 1) := dk_42 (dk_at dksX0_plateFor_0 0 rfl rfl)
theorem dX0_plateFor_1 : decode cX0_plateFor 1 = .ok (.iload_n 1, 1) := dk_27 (dk_at dksX0_plateFor_0 1 rfl rfl)
theorem dX0_plateFor_2 : decode cX0_plateFor 2 = .ok (.iload_n 2, 1) := dk_28 (dk_at dksX0_plateFor_0 2 rfl rfl)
theorem dX0_plateFor_3 : decode cX0_plateFor 3 = .ok (.invokevirtual 120, 3) := dk_182 0 120 (dk_at dksX0_plateFor_0 3 rfl rfl)
theorem dX0_plateFor_6 : decode cX0_plateFor 6 = .ok (.ifCond .eq 15, 3) := dk_153 0 15 (dk_at dksX0_plateFor_0 6 rfl rfl)
theorem dX0_plateFor_9 : decode cX0_plateFor 9 = .ok (.aload_n 0, 1) := dk_42 (dk_at dksX0_plateFor_0 9 rfl rfl)
theorem dX0_plateFor_10 : decode cX0_plateFor 10 = .ok (.getfield 32, 3) := dk_180 0 32 (dk_at dksX0_plateFor_0 10 rfl rfl)
theorem dX0_plateFor_13 : decode cX0_plateFor 13 = .ok (.iload_n 1, 1) := dk_27 (dk_at dksX0_plateFor_0 13 rfl rfl)
theorem dX0_plateFor_14 : decode cX0_plateFor 14 = .ok (.iload_n 2, 1) := dk_28 (dk_at dksX0_plateFor_0 14 rfl rfl)
theorem dX0_plateFor_15 : decode cX0_plateFor 15 = .ok (.invokevirtual 124, 3) := dk_182 0 124 (dk_at dksX0_plateFor_0 15 rfl rfl)
theorem dX0_plateFor_18 : decode cX0_plateFor 18 = .ok (.goto 4, 3) := dk_167 0 4 (dk_at dksX0_plateFor_0 18 rfl rfl)
theorem dX0_plateFor_21 : decode cX0_plateFor 21 = .ok (.iconst (-1), 1) := dk_2 (dk_at dksX0_plateFor_0 21 rfl rfl)
theorem dX0_plateFor_22 : decode cX0_plateFor 22 = .ok (.ireturn, 1) := dk_172 (dk_at dksX0_plateFor_0 22 rfl rfl)
abbrev cX0_orderOf : ByteArray := prog_1_method_28_code
def yX0_orderOf : MethodName := ⟨RX0, "orderOf", "(II)I"⟩
def dkwX0_orderOf_5 : List UInt8 := [172, 45, 182, 1, 35, 172, 45, 182, 1, 36, 172, 2, 172]
abbrev dktX0_orderOf_5 : List UInt8 := dkwX0_orderOf_5 ++ []
def dkwX0_orderOf_4 : List UInt8 := [180, 1, 25, 172, 45, 180, 0, 171, 153, 0, 7, 4, 167, 0, 4, 3, 172, 45, 180, 1, 28, 182, 1, 32]
abbrev dktX0_orderOf_4 : List UInt8 := dkwX0_orderOf_4 ++ dktX0_orderOf_5
def dkwX0_orderOf_3 : List UInt8 := [45, 180, 1, 20, 180, 1, 1, 172, 45, 180, 1, 20, 180, 1, 4, 172, 45, 180, 1, 24, 172, 45]
abbrev dktX0_orderOf_3 : List UInt8 := dkwX0_orderOf_3 ++ dktX0_orderOf_4
def dkwX0_orderOf_2 : List UInt8 := [170, 0, 0, 0, 102, 0, 0, 0, 0, 0, 0, 0, 7, 0, 0, 0, 45, 0, 0, 0, 53, 0, 0, 0, 61, 0, 0, 0, 66, 0, 0, 0, 71, 0, 0, 0, 84, 0, 0, 0, 92, 0, 0, 0, 97]
abbrev dktX0_orderOf_2 : List UInt8 := dkwX0_orderOf_2 ++ dktX0_orderOf_3
def dkwX0_orderOf_1 : List UInt8 := [185, 0, 87, 2, 0, 192, 0, 155, 78, 28]
abbrev dktX0_orderOf_1 : List UInt8 := dkwX0_orderOf_1 ++ dktX0_orderOf_2
def dkwX0_orderOf_0 : List UInt8 := [42, 180, 0, 32, 27, 182, 0, 168, 154, 0, 5, 2, 172, 42, 180, 0, 32, 180, 0, 152, 27]
abbrev dktX0_orderOf_0 : List UInt8 := dkwX0_orderOf_0 ++ dktX0_orderOf_1
theorem dksX0_orderOf_0 : cX0_orderOf.data.toList.drop 0 = dktX0_orderOf_0 := by decide +kernel
theorem dksX0_orderOf_1 : cX0_orderOf.data.toList.drop 21 = dktX0_orderOf_1 := dk_seg dksX0_orderOf_0 21 rfl rfl
theorem dksX0_orderOf_2 : cX0_orderOf.data.toList.drop 31 = dktX0_orderOf_2 := dk_seg dksX0_orderOf_1 10 rfl rfl
theorem dksX0_orderOf_3 : cX0_orderOf.data.toList.drop 76 = dktX0_orderOf_3 := dk_seg dksX0_orderOf_2 45 rfl rfl
theorem dksX0_orderOf_4 : cX0_orderOf.data.toList.drop 98 = dktX0_orderOf_4 := dk_seg dksX0_orderOf_3 22 rfl rfl
theorem dksX0_orderOf_5 : cX0_orderOf.data.toList.drop 122 = dktX0_orderOf_5 := dk_seg dksX0_orderOf_4 24 rfl rfl
theorem dX0_orderOf_0 : decode cX0_orderOf 0 = .ok (.aload_n 0, 1) := dk_42 (dk_at dksX0_orderOf_0 0 rfl rfl)
theorem dX0_orderOf_1 : decode cX0_orderOf 1 = .ok (.getfield 32, 3) := dk_180 0 32 (dk_at dksX0_orderOf_0 1 rfl rfl)
theorem dX0_orderOf_4 : decode cX0_orderOf 4 = .ok (.iload_n 1, 1) := dk_27 (dk_at dksX0_orderOf_0 4 rfl rfl)
theorem dX0_orderOf_5 : decode cX0_orderOf 5 = .ok (.invokevirtual 168, 3) := dk_182 0 168 (dk_at dksX0_orderOf_0 5 rfl rfl)
theorem dX0_orderOf_8 : decode cX0_orderOf 8 = .ok (.ifCond .ne 5, 3) := dk_154 0 5 (dk_at dksX0_orderOf_0 8 rfl rfl)
theorem dX0_orderOf_11 : decode cX0_orderOf 11 = .ok (.iconst (-1), 1) := dk_2 (dk_at dksX0_orderOf_0 11 rfl rfl)
theorem dX0_orderOf_12 : decode cX0_orderOf 12 = .ok (.ireturn, 1) := dk_172 (dk_at dksX0_orderOf_0 12 rfl rfl)
theorem dX0_orderOf_13 : decode cX0_orderOf 13 = .ok (.aload_n 0, 1) := dk_42 (dk_at dksX0_orderOf_0 13 rfl rfl)
theorem dX0_orderOf_14 : decode cX0_orderOf 14 = .ok (.getfield 32, 3) := dk_180 0 32 (dk_at dksX0_orderOf_0 14 rfl rfl)
theorem dX0_orderOf_17 : decode cX0_orderOf 17 = .ok (.getfield 152, 3) := dk_180 0 152 (dk_at dksX0_orderOf_0 17 rfl rfl)
theorem dX0_orderOf_20 : decode cX0_orderOf 20 = .ok (.iload_n 1, 1) := dk_27 (dk_at dksX0_orderOf_0 20 rfl rfl)
theorem dX0_orderOf_21 : decode cX0_orderOf 21 = .ok (.invokeinterface 87 2, 5) := by decide +kernel
theorem dX0_orderOf_26 : decode cX0_orderOf 26 = .ok (.checkcast 155, 3) := dk_192 0 155 (dk_at dksX0_orderOf_1 5 rfl rfl)
theorem dX0_orderOf_29 : decode cX0_orderOf 29 = .ok (.astore_n 3, 1) := dk_78 (dk_at dksX0_orderOf_1 8 rfl rfl)
theorem dX0_orderOf_30 : decode cX0_orderOf 30 = .ok (.iload_n 2, 1) := dk_28 (dk_at dksX0_orderOf_1 9 rfl rfl)
theorem dX0_orderOf_31 : decode cX0_orderOf 31 = .ok (.tableswitch 102 0 7 #[45, 53, 61, 66, 71, 84, 92, 97], 45) := by decide +kernel
theorem dX0_orderOf_76 : decode cX0_orderOf 76 = .ok (.aload_n 3, 1) := dk_45 (dk_at dksX0_orderOf_3 0 rfl rfl)
theorem dX0_orderOf_77 : decode cX0_orderOf 77 = .ok (.getfield 276, 3) := dk_180 1 20 (dk_at dksX0_orderOf_3 1 rfl rfl)
theorem dX0_orderOf_80 : decode cX0_orderOf 80 = .ok (.getfield 257, 3) := dk_180 1 1 (dk_at dksX0_orderOf_3 4 rfl rfl)
theorem dX0_orderOf_83 : decode cX0_orderOf 83 = .ok (.ireturn, 1) := dk_172 (dk_at dksX0_orderOf_3 7 rfl rfl)
theorem dX0_orderOf_84 : decode cX0_orderOf 84 = .ok (.aload_n 3, 1) := dk_45 (dk_at dksX0_orderOf_3 8 rfl rfl)
theorem dX0_orderOf_85 : decode cX0_orderOf 85 = .ok (.getfield 276, 3) := dk_180 1 20 (dk_at dksX0_orderOf_3 9 rfl rfl)
theorem dX0_orderOf_88 : decode cX0_orderOf 88 = .ok (.getfield 260, 3) := dk_180 1 4 (dk_at dksX0_orderOf_3 12 rfl rfl)
theorem dX0_orderOf_91 : decode cX0_orderOf 91 = .ok (.ireturn, 1) := dk_172 (dk_at dksX0_orderOf_3 15 rfl rfl)
theorem dX0_orderOf_92 : decode cX0_orderOf 92 = .ok (.aload_n 3, 1) := dk_45 (dk_at dksX0_orderOf_3 16 rfl rfl)
theorem dX0_orderOf_93 : decode cX0_orderOf 93 = .ok (.getfield 280, 3) := dk_180 1 24 (dk_at dksX0_orderOf_3 17 rfl rfl)
theorem dX0_orderOf_96 : decode cX0_orderOf 96 = .ok (.ireturn, 1) := dk_172 (dk_at dksX0_orderOf_3 20 rfl rfl)
theorem dX0_orderOf_97 : decode cX0_orderOf 97 = .ok (.aload_n 3, 1) := dk_45 (dk_at dksX0_orderOf_3 21 rfl rfl)
theorem dX0_orderOf_98 : decode cX0_orderOf 98 = .ok (.getfield 281, 3) := dk_180 1 25 (dk_at dksX0_orderOf_4 0 rfl rfl)
theorem dX0_orderOf_101 : decode cX0_orderOf 101 = .ok (.ireturn, 1) := dk_172 (dk_at dksX0_orderOf_4 3 rfl rfl)
theorem dX0_orderOf_102 : decode cX0_orderOf 102 = .ok (.aload_n 3, 1) := dk_45 (dk_at dksX0_orderOf_4 4 rfl rfl)
theorem dX0_orderOf_103 : decode cX0_orderOf 103 = .ok (.getfield 171, 3) := dk_180 0 171 (dk_at dksX0_orderOf_4 5 rfl rfl)
theorem dX0_orderOf_106 : decode cX0_orderOf 106 = .ok (.ifCond .eq 7, 3) := dk_153 0 7 (dk_at dksX0_orderOf_4 8 rfl rfl)
theorem dX0_orderOf_109 : decode cX0_orderOf 109 = .ok (.iconst 1, 1) := dk_4 (dk_at dksX0_orderOf_4 11 rfl rfl)
theorem dX0_orderOf_110 : decode cX0_orderOf 110 = .ok (.goto 4, 3) := dk_167 0 4 (dk_at dksX0_orderOf_4 12 rfl rfl)
theorem dX0_orderOf_113 : decode cX0_orderOf 113 = .ok (.iconst 0, 1) := dk_3 (dk_at dksX0_orderOf_4 15 rfl rfl)
theorem dX0_orderOf_114 : decode cX0_orderOf 114 = .ok (.ireturn, 1) := dk_172 (dk_at dksX0_orderOf_4 16 rfl rfl)
theorem dX0_orderOf_115 : decode cX0_orderOf 115 = .ok (.aload_n 3, 1) := dk_45 (dk_at dksX0_orderOf_4 17 rfl rfl)
theorem dX0_orderOf_116 : decode cX0_orderOf 116 = .ok (.getfield 284, 3) := dk_180 1 28 (dk_at dksX0_orderOf_4 18 rfl rfl)
theorem dX0_orderOf_119 : decode cX0_orderOf 119 = .ok (.invokevirtual 288, 3) := dk_182 1 32 (dk_at dksX0_orderOf_4 21 rfl rfl)
theorem dX0_orderOf_122 : decode cX0_orderOf 122 = .ok (.ireturn, 1) := dk_172 (dk_at dksX0_orderOf_5 0 rfl rfl)
theorem dX0_orderOf_123 : decode cX0_orderOf 123 = .ok (.aload_n 3, 1) := dk_45 (dk_at dksX0_orderOf_5 1 rfl rfl)
theorem dX0_orderOf_124 : decode cX0_orderOf 124 = .ok (.invokevirtual 291, 3) := dk_182 1 35 (dk_at dksX0_orderOf_5 2 rfl rfl)
theorem dX0_orderOf_127 : decode cX0_orderOf 127 = .ok (.ireturn, 1) := dk_172 (dk_at dksX0_orderOf_5 5 rfl rfl)
theorem dX0_orderOf_128 : decode cX0_orderOf 128 = .ok (.aload_n 3, 1) := dk_45 (dk_at dksX0_orderOf_5 6 rfl rfl)
theorem dX0_orderOf_129 : decode cX0_orderOf 129 = .ok (.invokevirtual 292, 3) := dk_182 1 36 (dk_at dksX0_orderOf_5 7 rfl rfl)
theorem dX0_orderOf_132 : decode cX0_orderOf 132 = .ok (.ireturn, 1) := dk_172 (dk_at dksX0_orderOf_5 10 rfl rfl)
theorem dX0_orderOf_133 : decode cX0_orderOf 133 = .ok (.iconst (-1), 1) := dk_2 (dk_at dksX0_orderOf_5 11 rfl rfl)
theorem dX0_orderOf_134 : decode cX0_orderOf 134 = .ok (.ireturn, 1) := dk_172 (dk_at dksX0_orderOf_5 12 rfl rfl)
abbrev cX0_letter : ByteArray := prog_1_method_29_code
def yX0_letter : MethodName := ⟨RX0, "letter", "(II)I"⟩
def dkwX0_letter_2 : List UInt8 := [182, 1, 39, 167, 0, 5, 16, 247, 172]
abbrev dktX0_letter_2 : List UInt8 := dkwX0_letter_2 ++ []
def dkwX0_letter_1 : List UInt8 := [27, 185, 0, 87, 2, 0, 192, 0, 155, 180, 1, 28, 78, 28, 45, 182, 1, 32, 162, 0, 11, 45, 28]
abbrev dktX0_letter_1 : List UInt8 := dkwX0_letter_1 ++ dktX0_letter_2
def dkwX0_letter_0 : List UInt8 := [42, 180, 0, 32, 27, 182, 0, 168, 153, 0, 7, 28, 156, 0, 5, 2, 172, 42, 180, 0, 32, 180, 0, 152]
abbrev dktX0_letter_0 : List UInt8 := dkwX0_letter_0 ++ dktX0_letter_1
theorem dksX0_letter_0 : cX0_letter.data.toList.drop 0 = dktX0_letter_0 := by decide +kernel
theorem dksX0_letter_1 : cX0_letter.data.toList.drop 24 = dktX0_letter_1 := dk_seg dksX0_letter_0 24 rfl rfl
theorem dksX0_letter_2 : cX0_letter.data.toList.drop 47 = dktX0_letter_2 := dk_seg dksX0_letter_1 23 rfl rfl
theorem dX0_letter_0 : decode cX0_letter 0 = .ok (.aload_n 0, 1) := dk_42 (dk_at dksX0_letter_0 0 rfl rfl)
theorem dX0_letter_1 : decode cX0_letter 1 = .ok (.getfield 32, 3) := dk_180 0 32 (dk_at dksX0_letter_0 1 rfl rfl)
theorem dX0_letter_4 : decode cX0_letter 4 = .ok (.iload_n 1, 1) := dk_27 (dk_at dksX0_letter_0 4 rfl rfl)
theorem dX0_letter_5 : decode cX0_letter 5 = .ok (.invokevirtual 168, 3) := dk_182 0 168 (dk_at dksX0_letter_0 5 rfl rfl)
theorem dX0_letter_8 : decode cX0_letter 8 = .ok (.ifCond .eq 7, 3) := dk_153 0 7 (dk_at dksX0_letter_0 8 rfl rfl)
theorem dX0_letter_11 : decode cX0_letter 11 = .ok (.iload_n 2, 1) := dk_28 (dk_at dksX0_letter_0 11 rfl rfl)
theorem dX0_letter_12 : decode cX0_letter 12 = .ok (.ifCond .ge 5, 3) := dk_156 0 5 (dk_at dksX0_letter_0 12 rfl rfl)
theorem dX0_letter_15 : decode cX0_letter 15 = .ok (.iconst (-1), 1) := dk_2 (dk_at dksX0_letter_0 15 rfl rfl)
theorem dX0_letter_16 : decode cX0_letter 16 = .ok (.ireturn, 1) := dk_172 (dk_at dksX0_letter_0 16 rfl rfl)
theorem dX0_letter_17 : decode cX0_letter 17 = .ok (.aload_n 0, 1) := dk_42 (dk_at dksX0_letter_0 17 rfl rfl)
theorem dX0_letter_18 : decode cX0_letter 18 = .ok (.getfield 32, 3) := dk_180 0 32 (dk_at dksX0_letter_0 18 rfl rfl)
theorem dX0_letter_21 : decode cX0_letter 21 = .ok (.getfield 152, 3) := dk_180 0 152 (dk_at dksX0_letter_0 21 rfl rfl)
theorem dX0_letter_24 : decode cX0_letter 24 = .ok (.iload_n 1, 1) := dk_27 (dk_at dksX0_letter_1 0 rfl rfl)
theorem dX0_letter_25 : decode cX0_letter 25 = .ok (.invokeinterface 87 2, 5) := by decide +kernel
theorem dX0_letter_30 : decode cX0_letter 30 = .ok (.checkcast 155, 3) := dk_192 0 155 (dk_at dksX0_letter_1 6 rfl rfl)
theorem dX0_letter_33 : decode cX0_letter 33 = .ok (.getfield 284, 3) := dk_180 1 28 (dk_at dksX0_letter_1 9 rfl rfl)
theorem dX0_letter_36 : decode cX0_letter 36 = .ok (.astore_n 3, 1) := dk_78 (dk_at dksX0_letter_1 12 rfl rfl)
theorem dX0_letter_37 : decode cX0_letter 37 = .ok (.iload_n 2, 1) := dk_28 (dk_at dksX0_letter_1 13 rfl rfl)
theorem dX0_letter_38 : decode cX0_letter 38 = .ok (.aload_n 3, 1) := dk_45 (dk_at dksX0_letter_1 14 rfl rfl)
theorem dX0_letter_39 : decode cX0_letter 39 = .ok (.invokevirtual 288, 3) := dk_182 1 32 (dk_at dksX0_letter_1 15 rfl rfl)
theorem dX0_letter_42 : decode cX0_letter 42 = .ok (.if_icmp .ge 11, 3) := dk_162 0 11 (dk_at dksX0_letter_1 18 rfl rfl)
theorem dX0_letter_45 : decode cX0_letter 45 = .ok (.aload_n 3, 1) := dk_45 (dk_at dksX0_letter_1 21 rfl rfl)
theorem dX0_letter_46 : decode cX0_letter 46 = .ok (.iload_n 2, 1) := dk_28 (dk_at dksX0_letter_1 22 rfl rfl)
theorem dX0_letter_47 : decode cX0_letter 47 = .ok (.invokevirtual 295, 3) := dk_182 1 39 (dk_at dksX0_letter_2 0 rfl rfl)
theorem dX0_letter_50 : decode cX0_letter 50 = .ok (.goto 5, 3) := dk_167 0 5 (dk_at dksX0_letter_2 3 rfl rfl)
theorem dX0_letter_53 : decode cX0_letter 53 = .ok (.bipush (-9), 2) := dk_16 247 (dk_at dksX0_letter_2 6 rfl rfl)
theorem dX0_letter_55 : decode cX0_letter 55 = .ok (.ireturn, 1) := dk_172 (dk_at dksX0_letter_2 8 rfl rfl)
abbrev cX0_lengthOf_2 : ByteArray := prog_1_method_30_code
def yX0_lengthOf_2 : MethodName := ⟨RX0, "lengthOf", "(I)I"⟩
def dkwX0_lengthOf_2_0 : List UInt8 := [27, 184, 0, 139, 153, 0, 14, 42, 180, 0, 46, 27, 184, 1, 40, 167, 0, 4, 2, 172]
abbrev dktX0_lengthOf_2_0 : List UInt8 := dkwX0_lengthOf_2_0 ++ []
theorem dksX0_lengthOf_2_0 : cX0_lengthOf_2.data.toList.drop 0 = dktX0_lengthOf_2_0 := by decide +kernel
theorem dX0_lengthOf_2_0 : decode cX0_lengthOf_2 0 = .ok (.iload_n 1, 1) := dk_27 (dk_at dksX0_lengthOf_2_0 0 rfl rfl)
theorem dX0_lengthOf_2_1 : decode cX0_lengthOf_2 1 = .ok (.invokestatic 139, 3) := dk_184 0 139 (dk_at dksX0_lengthOf_2_0 1 rfl rfl)
theorem dX0_lengthOf_2_4 : decode cX0_lengthOf_2 4 = .ok (.ifCond .eq 14, 3) := dk_153 0 14 (dk_at dksX0_lengthOf_2_0 4 rfl rfl)
theorem dX0_lengthOf_2_7 : decode cX0_lengthOf_2 7 = .ok (.aload_n 0, 1) := dk_42 (dk_at dksX0_lengthOf_2_0 7 rfl rfl)
theorem dX0_lengthOf_2_8 : decode cX0_lengthOf_2 8 = .ok (.getfield 46, 3) := dk_180 0 46 (dk_at dksX0_lengthOf_2_0 8 rfl rfl)
theorem dX0_lengthOf_2_11 : decode cX0_lengthOf_2 11 = .ok (.iload_n 1, 1) := dk_27 (dk_at dksX0_lengthOf_2_0 11 rfl rfl)
theorem dX0_lengthOf_2_12 : decode cX0_lengthOf_2 12 = .ok (.invokestatic 296, 3) := dk_184 1 40 (dk_at dksX0_lengthOf_2_0 12 rfl rfl)
theorem dX0_lengthOf_2_15 : decode cX0_lengthOf_2 15 = .ok (.goto 4, 3) := dk_167 0 4 (dk_at dksX0_lengthOf_2_0 15 rfl rfl)
theorem dX0_lengthOf_2_18 : decode cX0_lengthOf_2 18 = .ok (.iconst (-1), 1) := dk_2 (dk_at dksX0_lengthOf_2_0 18 rfl rfl)
theorem dX0_lengthOf_2_19 : decode cX0_lengthOf_2 19 = .ok (.ireturn, 1) := dk_172 (dk_at dksX0_lengthOf_2_0 19 rfl rfl)
abbrev cX0_plateFound : ByteArray := prog_1_method_31_code
def yX0_plateFound : MethodName := ⟨RX0, "plateFound", "(III)I"⟩
def dkwX0_plateFound_4 : List UInt8 := [153, 0, 7, 4, 167, 0, 4, 3, 172]
abbrev dktX0_plateFound_4 : List UInt8 := dkwX0_plateFound_4 ++ []
def dkwX0_plateFound_3 : List UInt8 := [180, 1, 48, 167, 0, 29, 29, 4, 160, 0, 11, 25, 4, 180, 1, 51, 167, 0, 16, 25, 4, 180, 1, 54]
abbrev dktX0_plateFound_3 : List UInt8 := dkwX0_plateFound_3 ++ dktX0_plateFound_4
def dkwX0_plateFound_2 : List UInt8 := [184, 1, 40, 28, 182, 1, 44, 58, 4, 25, 4, 199, 0, 6, 16, 247, 172, 29, 154, 0, 11, 25, 4]
abbrev dktX0_plateFound_2 : List UInt8 := dkwX0_plateFound_2 ++ dktX0_plateFound_3
def dkwX0_plateFound_1 : List UInt8 := [172, 42, 180, 0, 46, 182, 0, 130, 154, 0, 6, 16, 254, 172, 42, 180, 0, 32, 42, 180, 0, 46, 27]
abbrev dktX0_plateFound_1 : List UInt8 := dkwX0_plateFound_1 ++ dktX0_plateFound_2
def dkwX0_plateFound_0 : List UInt8 := [27, 184, 0, 139, 153, 0, 19, 28, 184, 0, 142, 153, 0, 12, 29, 3, 5, 184, 0, 58, 154, 0, 5, 2]
abbrev dktX0_plateFound_0 : List UInt8 := dkwX0_plateFound_0 ++ dktX0_plateFound_1
theorem dksX0_plateFound_0 : cX0_plateFound.data.toList.drop 0 = dktX0_plateFound_0 := by decide +kernel
theorem dksX0_plateFound_1 : cX0_plateFound.data.toList.drop 24 = dktX0_plateFound_1 := dk_seg dksX0_plateFound_0 24 rfl rfl
theorem dksX0_plateFound_2 : cX0_plateFound.data.toList.drop 47 = dktX0_plateFound_2 := dk_seg dksX0_plateFound_1 23 rfl rfl
theorem dksX0_plateFound_3 : cX0_plateFound.data.toList.drop 70 = dktX0_plateFound_3 := dk_seg dksX0_plateFound_2 23 rfl rfl
theorem dksX0_plateFound_4 : cX0_plateFound.data.toList.drop 94 = dktX0_plateFound_4 := dk_seg dksX0_plateFound_3 24 rfl rfl
theorem dX0_plateFound_0 : decode cX0_plateFound 0 = .ok (.iload_n 1, 1) := dk_27 (dk_at dksX0_plateFound_0 0 rfl rfl)
theorem dX0_plateFound_1 : decode cX0_plateFound 1 = .ok (.invokestatic 139, 3) := dk_184 0 139 (dk_at dksX0_plateFound_0 1 rfl rfl)
theorem dX0_plateFound_4 : decode cX0_plateFound 4 = .ok (.ifCond .eq 19, 3) := dk_153 0 19 (dk_at dksX0_plateFound_0 4 rfl rfl)
theorem dX0_plateFound_7 : decode cX0_plateFound 7 = .ok (.iload_n 2, 1) := dk_28 (dk_at dksX0_plateFound_0 7 rfl rfl)
theorem dX0_plateFound_8 : decode cX0_plateFound 8 = .ok (.invokestatic 142, 3) := dk_184 0 142 (dk_at dksX0_plateFound_0 8 rfl rfl)
theorem dX0_plateFound_11 : decode cX0_plateFound 11 = .ok (.ifCond .eq 12, 3) := dk_153 0 12 (dk_at dksX0_plateFound_0 11 rfl rfl)
theorem dX0_plateFound_14 : decode cX0_plateFound 14 = .ok (.iload_n 3, 1) := dk_29 (dk_at dksX0_plateFound_0 14 rfl rfl)
theorem dX0_plateFound_15 : decode cX0_plateFound 15 = .ok (.iconst 0, 1) := dk_3 (dk_at dksX0_plateFound_0 15 rfl rfl)
theorem dX0_plateFound_16 : decode cX0_plateFound 16 = .ok (.iconst 2, 1) := dk_5 (dk_at dksX0_plateFound_0 16 rfl rfl)
theorem dX0_plateFound_17 : decode cX0_plateFound 17 = .ok (.invokestatic 58, 3) := dk_184 0 58 (dk_at dksX0_plateFound_0 17 rfl rfl)
theorem dX0_plateFound_20 : decode cX0_plateFound 20 = .ok (.ifCond .ne 5, 3) := dk_154 0 5 (dk_at dksX0_plateFound_0 20 rfl rfl)
theorem dX0_plateFound_23 : decode cX0_plateFound 23 = .ok (.iconst (-1), 1) := dk_2 (dk_at dksX0_plateFound_0 23 rfl rfl)
theorem dX0_plateFound_24 : decode cX0_plateFound 24 = .ok (.ireturn, 1) := dk_172 (dk_at dksX0_plateFound_1 0 rfl rfl)
theorem dX0_plateFound_25 : decode cX0_plateFound 25 = .ok (.aload_n 0, 1) := dk_42 (dk_at dksX0_plateFound_1 1 rfl rfl)
theorem dX0_plateFound_26 : decode cX0_plateFound 26 = .ok (.getfield 46, 3) := dk_180 0 46 (dk_at dksX0_plateFound_1 2 rfl rfl)
theorem dX0_plateFound_29 : decode cX0_plateFound 29 = .ok (.invokevirtual 130, 3) := dk_182 0 130 (dk_at dksX0_plateFound_1 5 rfl rfl)
theorem dX0_plateFound_32 : decode cX0_plateFound 32 = .ok (.ifCond .ne 6, 3) := dk_154 0 6 (dk_at dksX0_plateFound_1 8 rfl rfl)
theorem dX0_plateFound_35 : decode cX0_plateFound 35 = .ok (.bipush (-2), 2) := dk_16 254 (dk_at dksX0_plateFound_1 11 rfl rfl)
theorem dX0_plateFound_37 : decode cX0_plateFound 37 = .ok (.ireturn, 1) := dk_172 (dk_at dksX0_plateFound_1 13 rfl rfl)
theorem dX0_plateFound_38 : decode cX0_plateFound 38 = .ok (.aload_n 0, 1) := dk_42 (dk_at dksX0_plateFound_1 14 rfl rfl)
theorem dX0_plateFound_39 : decode cX0_plateFound 39 = .ok (.getfield 32, 3) := dk_180 0 32 (dk_at dksX0_plateFound_1 15 rfl rfl)
theorem dX0_plateFound_42 : decode cX0_plateFound 42 = .ok (.aload_n 0, 1) := dk_42 (dk_at dksX0_plateFound_1 18 rfl rfl)
theorem dX0_plateFound_43 : decode cX0_plateFound 43 = .ok (.getfield 46, 3) := dk_180 0 46 (dk_at dksX0_plateFound_1 19 rfl rfl)
theorem dX0_plateFound_46 : decode cX0_plateFound 46 = .ok (.iload_n 1, 1) := dk_27 (dk_at dksX0_plateFound_1 22 rfl rfl)
theorem dX0_plateFound_47 : decode cX0_plateFound 47 = .ok (.invokestatic 296, 3) := dk_184 1 40 (dk_at dksX0_plateFound_2 0 rfl rfl)
theorem dX0_plateFound_50 : decode cX0_plateFound 50 = .ok (.iload_n 2, 1) := dk_28 (dk_at dksX0_plateFound_2 3 rfl rfl)
theorem dX0_plateFound_51 : decode cX0_plateFound 51 = .ok (.invokevirtual 300, 3) := dk_182 1 44 (dk_at dksX0_plateFound_2 4 rfl rfl)
theorem dX0_plateFound_54 : decode cX0_plateFound 54 = .ok (.astore 4, 2) := dk_58 4 (dk_at dksX0_plateFound_2 7 rfl rfl)
theorem dX0_plateFound_56 : decode cX0_plateFound 56 = .ok (.aload 4, 2) := dk_25 4 (dk_at dksX0_plateFound_2 9 rfl rfl)
theorem dX0_plateFound_58 : decode cX0_plateFound 58 = .ok (.ifnonnull 6, 3) := dk_199 0 6 (dk_at dksX0_plateFound_2 11 rfl rfl)
theorem dX0_plateFound_61 : decode cX0_plateFound 61 = .ok (.bipush (-9), 2) := dk_16 247 (dk_at dksX0_plateFound_2 14 rfl rfl)
theorem dX0_plateFound_63 : decode cX0_plateFound 63 = .ok (.ireturn, 1) := dk_172 (dk_at dksX0_plateFound_2 16 rfl rfl)
theorem dX0_plateFound_64 : decode cX0_plateFound 64 = .ok (.iload_n 3, 1) := dk_29 (dk_at dksX0_plateFound_2 17 rfl rfl)
theorem dX0_plateFound_65 : decode cX0_plateFound 65 = .ok (.ifCond .ne 11, 3) := dk_154 0 11 (dk_at dksX0_plateFound_2 18 rfl rfl)
theorem dX0_plateFound_68 : decode cX0_plateFound 68 = .ok (.aload 4, 2) := dk_25 4 (dk_at dksX0_plateFound_2 21 rfl rfl)
theorem dX0_plateFound_70 : decode cX0_plateFound 70 = .ok (.getfield 304, 3) := dk_180 1 48 (dk_at dksX0_plateFound_3 0 rfl rfl)
theorem dX0_plateFound_73 : decode cX0_plateFound 73 = .ok (.goto 29, 3) := dk_167 0 29 (dk_at dksX0_plateFound_3 3 rfl rfl)
theorem dX0_plateFound_76 : decode cX0_plateFound 76 = .ok (.iload_n 3, 1) := dk_29 (dk_at dksX0_plateFound_3 6 rfl rfl)
theorem dX0_plateFound_77 : decode cX0_plateFound 77 = .ok (.iconst 1, 1) := dk_4 (dk_at dksX0_plateFound_3 7 rfl rfl)
theorem dX0_plateFound_78 : decode cX0_plateFound 78 = .ok (.if_icmp .ne 11, 3) := dk_160 0 11 (dk_at dksX0_plateFound_3 8 rfl rfl)
theorem dX0_plateFound_81 : decode cX0_plateFound 81 = .ok (.aload 4, 2) := dk_25 4 (dk_at dksX0_plateFound_3 11 rfl rfl)
theorem dX0_plateFound_83 : decode cX0_plateFound 83 = .ok (.getfield 307, 3) := dk_180 1 51 (dk_at dksX0_plateFound_3 13 rfl rfl)
theorem dX0_plateFound_86 : decode cX0_plateFound 86 = .ok (.goto 16, 3) := dk_167 0 16 (dk_at dksX0_plateFound_3 16 rfl rfl)
theorem dX0_plateFound_89 : decode cX0_plateFound 89 = .ok (.aload 4, 2) := dk_25 4 (dk_at dksX0_plateFound_3 19 rfl rfl)
theorem dX0_plateFound_91 : decode cX0_plateFound 91 = .ok (.getfield 310, 3) := dk_180 1 54 (dk_at dksX0_plateFound_3 21 rfl rfl)
theorem dX0_plateFound_94 : decode cX0_plateFound 94 = .ok (.ifCond .eq 7, 3) := dk_153 0 7 (dk_at dksX0_plateFound_4 0 rfl rfl)
theorem dX0_plateFound_97 : decode cX0_plateFound 97 = .ok (.iconst 1, 1) := dk_4 (dk_at dksX0_plateFound_4 3 rfl rfl)
theorem dX0_plateFound_98 : decode cX0_plateFound 98 = .ok (.goto 4, 3) := dk_167 0 4 (dk_at dksX0_plateFound_4 4 rfl rfl)
theorem dX0_plateFound_101 : decode cX0_plateFound 101 = .ok (.iconst 0, 1) := dk_3 (dk_at dksX0_plateFound_4 7 rfl rfl)
theorem dX0_plateFound_102 : decode cX0_plateFound 102 = .ok (.ireturn, 1) := dk_172 (dk_at dksX0_plateFound_4 8 rfl rfl)
abbrev cX0_doneIn : ByteArray := prog_1_method_32_code
def yX0_doneIn : MethodName := ⟨RX0, "doneIn", "(I)I"⟩
def dkwX0_doneIn_2 : List UInt8 := [44, 199, 0, 8, 16, 247, 167, 0, 7, 44, 182, 0, 251, 172]
abbrev dktX0_doneIn_2 : List UInt8 := dkwX0_doneIn_2 ++ []
def dkwX0_doneIn_1 : List UInt8 := [180, 0, 152, 27, 185, 0, 87, 2, 0, 192, 0, 155, 180, 1, 20, 185, 1, 61, 2, 0, 192, 0, 249, 77]
abbrev dktX0_doneIn_1 : List UInt8 := dkwX0_doneIn_1 ++ dktX0_doneIn_2
def dkwX0_doneIn_0 : List UInt8 := [42, 180, 0, 32, 27, 182, 0, 168, 154, 0, 5, 2, 172, 42, 180, 0, 32, 182, 1, 57, 42, 180, 0, 32]
abbrev dktX0_doneIn_0 : List UInt8 := dkwX0_doneIn_0 ++ dktX0_doneIn_1
theorem dksX0_doneIn_0 : cX0_doneIn.data.toList.drop 0 = dktX0_doneIn_0 := by decide +kernel
theorem dksX0_doneIn_1 : cX0_doneIn.data.toList.drop 24 = dktX0_doneIn_1 := dk_seg dksX0_doneIn_0 24 rfl rfl
theorem dksX0_doneIn_2 : cX0_doneIn.data.toList.drop 48 = dktX0_doneIn_2 := dk_seg dksX0_doneIn_1 24 rfl rfl
theorem dX0_doneIn_0 : decode cX0_doneIn 0 = .ok (.aload_n 0, 1) := dk_42 (dk_at dksX0_doneIn_0 0 rfl rfl)
theorem dX0_doneIn_1 : decode cX0_doneIn 1 = .ok (.getfield 32, 3) := dk_180 0 32 (dk_at dksX0_doneIn_0 1 rfl rfl)
theorem dX0_doneIn_4 : decode cX0_doneIn 4 = .ok (.iload_n 1, 1) := dk_27 (dk_at dksX0_doneIn_0 4 rfl rfl)
theorem dX0_doneIn_5 : decode cX0_doneIn 5 = .ok (.invokevirtual 168, 3) := dk_182 0 168 (dk_at dksX0_doneIn_0 5 rfl rfl)
theorem dX0_doneIn_8 : decode cX0_doneIn 8 = .ok (.ifCond .ne 5, 3) := dk_154 0 5 (dk_at dksX0_doneIn_0 8 rfl rfl)
theorem dX0_doneIn_11 : decode cX0_doneIn 11 = .ok (.iconst (-1), 1) := dk_2 (dk_at dksX0_doneIn_0 11 rfl rfl)
theorem dX0_doneIn_12 : decode cX0_doneIn 12 = .ok (.ireturn, 1) := dk_172 (dk_at dksX0_doneIn_0 12 rfl rfl)
theorem dX0_doneIn_13 : decode cX0_doneIn 13 = .ok (.aload_n 0, 1) := dk_42 (dk_at dksX0_doneIn_0 13 rfl rfl)
theorem dX0_doneIn_14 : decode cX0_doneIn 14 = .ok (.getfield 32, 3) := dk_180 0 32 (dk_at dksX0_doneIn_0 14 rfl rfl)
theorem dX0_doneIn_17 : decode cX0_doneIn 17 = .ok (.invokevirtual 313, 3) := dk_182 1 57 (dk_at dksX0_doneIn_0 17 rfl rfl)
theorem dX0_doneIn_20 : decode cX0_doneIn 20 = .ok (.aload_n 0, 1) := dk_42 (dk_at dksX0_doneIn_0 20 rfl rfl)
theorem dX0_doneIn_21 : decode cX0_doneIn 21 = .ok (.getfield 32, 3) := dk_180 0 32 (dk_at dksX0_doneIn_0 21 rfl rfl)
theorem dX0_doneIn_24 : decode cX0_doneIn 24 = .ok (.getfield 152, 3) := dk_180 0 152 (dk_at dksX0_doneIn_1 0 rfl rfl)
theorem dX0_doneIn_27 : decode cX0_doneIn 27 = .ok (.iload_n 1, 1) := dk_27 (dk_at dksX0_doneIn_1 3 rfl rfl)
theorem dX0_doneIn_28 : decode cX0_doneIn 28 = .ok (.invokeinterface 87 2, 5) := by decide +kernel
theorem dX0_doneIn_33 : decode cX0_doneIn 33 = .ok (.checkcast 155, 3) := dk_192 0 155 (dk_at dksX0_doneIn_1 9 rfl rfl)
theorem dX0_doneIn_36 : decode cX0_doneIn 36 = .ok (.getfield 276, 3) := dk_180 1 20 (dk_at dksX0_doneIn_1 12 rfl rfl)
theorem dX0_doneIn_39 : decode cX0_doneIn 39 = .ok (.invokeinterface 317 2, 5) := by decide +kernel
theorem dX0_doneIn_44 : decode cX0_doneIn 44 = .ok (.checkcast 249, 3) := dk_192 0 249 (dk_at dksX0_doneIn_1 20 rfl rfl)
theorem dX0_doneIn_47 : decode cX0_doneIn 47 = .ok (.astore_n 2, 1) := dk_77 (dk_at dksX0_doneIn_1 23 rfl rfl)
theorem dX0_doneIn_48 : decode cX0_doneIn 48 = .ok (.aload_n 2, 1) := dk_44 (dk_at dksX0_doneIn_2 0 rfl rfl)
theorem dX0_doneIn_49 : decode cX0_doneIn 49 = .ok (.ifnonnull 8, 3) := dk_199 0 8 (dk_at dksX0_doneIn_2 1 rfl rfl)
theorem dX0_doneIn_52 : decode cX0_doneIn 52 = .ok (.bipush (-9), 2) := dk_16 247 (dk_at dksX0_doneIn_2 4 rfl rfl)
theorem dX0_doneIn_54 : decode cX0_doneIn 54 = .ok (.goto 7, 3) := dk_167 0 7 (dk_at dksX0_doneIn_2 6 rfl rfl)
theorem dX0_doneIn_57 : decode cX0_doneIn 57 = .ok (.aload_n 2, 1) := dk_44 (dk_at dksX0_doneIn_2 9 rfl rfl)
theorem dX0_doneIn_58 : decode cX0_doneIn 58 = .ok (.invokevirtual 251, 3) := dk_182 0 251 (dk_at dksX0_doneIn_2 10 rfl rfl)
theorem dX0_doneIn_61 : decode cX0_doneIn 61 = .ok (.ireturn, 1) := dk_172 (dk_at dksX0_doneIn_2 13 rfl rfl)
abbrev cX0_moved : ByteArray := prog_1_method_33_code
def yX0_moved : MethodName := ⟨RX0, "moved", "(I)I"⟩
def dkwX0_moved_9 : List UInt8 := [19, 1, 68, 21, 6, 96, 172]
abbrev dktX0_moved_9 : List UInt8 := dkwX0_moved_9 ++ []
def dkwX0_moved_8 : List UInt8 := [25, 8, 180, 1, 20, 185, 1, 61, 2, 0, 192, 0, 249, 182, 0, 251, 100, 96, 54, 6, 167, 255, 137]
abbrev dktX0_moved_8 : List UInt8 := dkwX0_moved_8 ++ dktX0_moved_9
def dkwX0_moved_7 : List UInt8 := [167, 0, 40, 25, 5, 25, 8, 180, 1, 20, 185, 1, 61, 2, 0, 192, 0, 249, 182, 0, 251, 25, 4]
abbrev dktX0_moved_7 : List UInt8 := dkwX0_moved_7 ++ dktX0_moved_8
def dkwX0_moved_6 : List UInt8 := [16, 247, 172, 21, 6, 25, 8, 42, 180, 0, 32, 180, 0, 152, 27, 185, 0, 87, 2, 0, 166, 0, 7, 3]
abbrev dktX0_moved_6 : List UInt8 := dkwX0_moved_6 ++ dktX0_moved_7
def dkwX0_moved_5 : List UInt8 := [185, 1, 65, 2, 0, 153, 0, 18, 25, 5, 25, 8, 180, 1, 20, 185, 1, 65, 2, 0, 154, 0, 6]
abbrev dktX0_moved_5 : List UInt8 := dkwX0_moved_5 ++ dktX0_moved_6
def dkwX0_moved_4 : List UInt8 := [153, 0, 115, 25, 7, 185, 0, 240, 1, 0, 192, 0, 155, 58, 8, 25, 4, 25, 8, 180, 1, 20]
abbrev dktX0_moved_4 : List UInt8 := dkwX0_moved_4 ++ dktX0_moved_5
def dkwX0_moved_3 : List UInt8 := [54, 6, 42, 180, 0, 32, 180, 0, 152, 185, 1, 64, 1, 0, 58, 7, 25, 7, 185, 0, 234, 1, 0]
abbrev dktX0_moved_3 : List UInt8 := dkwX0_moved_3 ++ dktX0_moved_4
def dkwX0_moved_2 : List UInt8 := [77, 44, 27, 182, 0, 175, 62, 42, 180, 0, 32, 182, 1, 57, 58, 4, 44, 182, 1, 57, 58, 5, 3]
abbrev dktX0_moved_2 : List UInt8 := dkwX0_moved_2 ++ dktX0_moved_3
def dkwX0_moved_1 : List UInt8 := [185, 0, 87, 2, 0, 192, 0, 155, 180, 0, 171, 153, 0, 6, 16, 254, 172, 42, 180, 0, 32, 182, 0, 54]
abbrev dktX0_moved_1 : List UInt8 := dkwX0_moved_1 ++ dktX0_moved_2
def dkwX0_moved_0 : List UInt8 := [42, 180, 0, 32, 27, 182, 0, 168, 154, 0, 5, 2, 172, 42, 180, 0, 32, 180, 0, 152, 27]
abbrev dktX0_moved_0 : List UInt8 := dkwX0_moved_0 ++ dktX0_moved_1
theorem dksX0_moved_0 : cX0_moved.data.toList.drop 0 = dktX0_moved_0 := by decide +kernel
theorem dksX0_moved_1 : cX0_moved.data.toList.drop 21 = dktX0_moved_1 := dk_seg dksX0_moved_0 21 rfl rfl
theorem dksX0_moved_2 : cX0_moved.data.toList.drop 45 = dktX0_moved_2 := dk_seg dksX0_moved_1 24 rfl rfl
theorem dksX0_moved_3 : cX0_moved.data.toList.drop 68 = dktX0_moved_3 := dk_seg dksX0_moved_2 23 rfl rfl
theorem dksX0_moved_4 : cX0_moved.data.toList.drop 91 = dktX0_moved_4 := dk_seg dksX0_moved_3 23 rfl rfl
theorem dksX0_moved_5 : cX0_moved.data.toList.drop 113 = dktX0_moved_5 := dk_seg dksX0_moved_4 22 rfl rfl
theorem dksX0_moved_6 : cX0_moved.data.toList.drop 136 = dktX0_moved_6 := dk_seg dksX0_moved_5 23 rfl rfl
theorem dksX0_moved_7 : cX0_moved.data.toList.drop 160 = dktX0_moved_7 := dk_seg dksX0_moved_6 24 rfl rfl
theorem dksX0_moved_8 : cX0_moved.data.toList.drop 183 = dktX0_moved_8 := dk_seg dksX0_moved_7 23 rfl rfl
theorem dksX0_moved_9 : cX0_moved.data.toList.drop 206 = dktX0_moved_9 := dk_seg dksX0_moved_8 23 rfl rfl
theorem dX0_moved_0 : decode cX0_moved 0 = .ok (.aload_n 0, 1) := dk_42 (dk_at dksX0_moved_0 0 rfl rfl)
theorem dX0_moved_1 : decode cX0_moved 1 = .ok (.getfield 32, 3) := dk_180 0 32 (dk_at dksX0_moved_0 1 rfl rfl)
theorem dX0_moved_4 : decode cX0_moved 4 = .ok (.iload_n 1, 1) := dk_27 (dk_at dksX0_moved_0 4 rfl rfl)
theorem dX0_moved_5 : decode cX0_moved 5 = .ok (.invokevirtual 168, 3) := dk_182 0 168 (dk_at dksX0_moved_0 5 rfl rfl)
theorem dX0_moved_8 : decode cX0_moved 8 = .ok (.ifCond .ne 5, 3) := dk_154 0 5 (dk_at dksX0_moved_0 8 rfl rfl)
theorem dX0_moved_11 : decode cX0_moved 11 = .ok (.iconst (-1), 1) := dk_2 (dk_at dksX0_moved_0 11 rfl rfl)
theorem dX0_moved_12 : decode cX0_moved 12 = .ok (.ireturn, 1) := dk_172 (dk_at dksX0_moved_0 12 rfl rfl)
theorem dX0_moved_13 : decode cX0_moved 13 = .ok (.aload_n 0, 1) := dk_42 (dk_at dksX0_moved_0 13 rfl rfl)
theorem dX0_moved_14 : decode cX0_moved 14 = .ok (.getfield 32, 3) := dk_180 0 32 (dk_at dksX0_moved_0 14 rfl rfl)
theorem dX0_moved_17 : decode cX0_moved 17 = .ok (.getfield 152, 3) := dk_180 0 152 (dk_at dksX0_moved_0 17 rfl rfl)
theorem dX0_moved_20 : decode cX0_moved 20 = .ok (.iload_n 1, 1) := dk_27 (dk_at dksX0_moved_0 20 rfl rfl)
theorem dX0_moved_21 : decode cX0_moved 21 = .ok (.invokeinterface 87 2, 5) := by decide +kernel
theorem dX0_moved_26 : decode cX0_moved 26 = .ok (.checkcast 155, 3) := dk_192 0 155 (dk_at dksX0_moved_1 5 rfl rfl)
theorem dX0_moved_29 : decode cX0_moved 29 = .ok (.getfield 171, 3) := dk_180 0 171 (dk_at dksX0_moved_1 8 rfl rfl)
theorem dX0_moved_32 : decode cX0_moved 32 = .ok (.ifCond .eq 6, 3) := dk_153 0 6 (dk_at dksX0_moved_1 11 rfl rfl)
theorem dX0_moved_35 : decode cX0_moved 35 = .ok (.bipush (-2), 2) := dk_16 254 (dk_at dksX0_moved_1 14 rfl rfl)
theorem dX0_moved_37 : decode cX0_moved 37 = .ok (.ireturn, 1) := dk_172 (dk_at dksX0_moved_1 16 rfl rfl)
theorem dX0_moved_38 : decode cX0_moved 38 = .ok (.aload_n 0, 1) := dk_42 (dk_at dksX0_moved_1 17 rfl rfl)
theorem dX0_moved_39 : decode cX0_moved 39 = .ok (.getfield 32, 3) := dk_180 0 32 (dk_at dksX0_moved_1 18 rfl rfl)
theorem dX0_moved_42 : decode cX0_moved 42 = .ok (.invokevirtual 54, 3) := dk_182 0 54 (dk_at dksX0_moved_1 21 rfl rfl)
theorem dX0_moved_45 : decode cX0_moved 45 = .ok (.astore_n 2, 1) := dk_77 (dk_at dksX0_moved_2 0 rfl rfl)
theorem dX0_moved_46 : decode cX0_moved 46 = .ok (.aload_n 2, 1) := dk_44 (dk_at dksX0_moved_2 1 rfl rfl)
theorem dX0_moved_47 : decode cX0_moved 47 = .ok (.iload_n 1, 1) := dk_27 (dk_at dksX0_moved_2 2 rfl rfl)
theorem dX0_moved_48 : decode cX0_moved 48 = .ok (.invokevirtual 175, 3) := dk_182 0 175 (dk_at dksX0_moved_2 3 rfl rfl)
theorem dX0_moved_51 : decode cX0_moved 51 = .ok (.istore_n 3, 1) := dk_62 (dk_at dksX0_moved_2 6 rfl rfl)
theorem dX0_moved_52 : decode cX0_moved 52 = .ok (.aload_n 0, 1) := dk_42 (dk_at dksX0_moved_2 7 rfl rfl)
theorem dX0_moved_53 : decode cX0_moved 53 = .ok (.getfield 32, 3) := dk_180 0 32 (dk_at dksX0_moved_2 8 rfl rfl)
theorem dX0_moved_56 : decode cX0_moved 56 = .ok (.invokevirtual 313, 3) := dk_182 1 57 (dk_at dksX0_moved_2 11 rfl rfl)
theorem dX0_moved_59 : decode cX0_moved 59 = .ok (.astore 4, 2) := dk_58 4 (dk_at dksX0_moved_2 14 rfl rfl)
theorem dX0_moved_61 : decode cX0_moved 61 = .ok (.aload_n 2, 1) := dk_44 (dk_at dksX0_moved_2 16 rfl rfl)
theorem dX0_moved_62 : decode cX0_moved 62 = .ok (.invokevirtual 313, 3) := dk_182 1 57 (dk_at dksX0_moved_2 17 rfl rfl)
theorem dX0_moved_65 : decode cX0_moved 65 = .ok (.astore 5, 2) := dk_58 5 (dk_at dksX0_moved_2 20 rfl rfl)
theorem dX0_moved_67 : decode cX0_moved 67 = .ok (.iconst 0, 1) := dk_3 (dk_at dksX0_moved_2 22 rfl rfl)
theorem dX0_moved_68 : decode cX0_moved 68 = .ok (.istore 6, 2) := dk_54 6 (dk_at dksX0_moved_3 0 rfl rfl)
theorem dX0_moved_70 : decode cX0_moved 70 = .ok (.aload_n 0, 1) := dk_42 (dk_at dksX0_moved_3 2 rfl rfl)
theorem dX0_moved_71 : decode cX0_moved 71 = .ok (.getfield 32, 3) := dk_180 0 32 (dk_at dksX0_moved_3 3 rfl rfl)
theorem dX0_moved_74 : decode cX0_moved 74 = .ok (.getfield 152, 3) := dk_180 0 152 (dk_at dksX0_moved_3 6 rfl rfl)
theorem dX0_moved_77 : decode cX0_moved 77 = .ok (.invokeinterface 320 1, 5) := by decide +kernel
theorem dX0_moved_82 : decode cX0_moved 82 = .ok (.astore 7, 2) := dk_58 7 (dk_at dksX0_moved_3 14 rfl rfl)
theorem dX0_moved_84 : decode cX0_moved 84 = .ok (.aload 7, 2) := dk_25 7 (dk_at dksX0_moved_3 16 rfl rfl)
theorem dX0_moved_86 : decode cX0_moved 86 = .ok (.invokeinterface 234 1, 5) := by decide +kernel
theorem dX0_moved_91 : decode cX0_moved 91 = .ok (.ifCond .eq 115, 3) := dk_153 0 115 (dk_at dksX0_moved_4 0 rfl rfl)
theorem dX0_moved_94 : decode cX0_moved 94 = .ok (.aload 7, 2) := dk_25 7 (dk_at dksX0_moved_4 3 rfl rfl)
theorem dX0_moved_96 : decode cX0_moved 96 = .ok (.invokeinterface 240 1, 5) := by decide +kernel
theorem dX0_moved_101 : decode cX0_moved 101 = .ok (.checkcast 155, 3) := dk_192 0 155 (dk_at dksX0_moved_4 10 rfl rfl)
theorem dX0_moved_104 : decode cX0_moved 104 = .ok (.astore 8, 2) := dk_58 8 (dk_at dksX0_moved_4 13 rfl rfl)
theorem dX0_moved_106 : decode cX0_moved 106 = .ok (.aload 4, 2) := dk_25 4 (dk_at dksX0_moved_4 15 rfl rfl)
theorem dX0_moved_108 : decode cX0_moved 108 = .ok (.aload 8, 2) := dk_25 8 (dk_at dksX0_moved_4 17 rfl rfl)
theorem dX0_moved_110 : decode cX0_moved 110 = .ok (.getfield 276, 3) := dk_180 1 20 (dk_at dksX0_moved_4 19 rfl rfl)
theorem dX0_moved_113 : decode cX0_moved 113 = .ok (.invokeinterface 321 2, 5) := by decide +kernel
theorem dX0_moved_118 : decode cX0_moved 118 = .ok (.ifCond .eq 18, 3) := dk_153 0 18 (dk_at dksX0_moved_5 5 rfl rfl)
theorem dX0_moved_121 : decode cX0_moved 121 = .ok (.aload 5, 2) := dk_25 5 (dk_at dksX0_moved_5 8 rfl rfl)
theorem dX0_moved_123 : decode cX0_moved 123 = .ok (.aload 8, 2) := dk_25 8 (dk_at dksX0_moved_5 10 rfl rfl)
theorem dX0_moved_125 : decode cX0_moved 125 = .ok (.getfield 276, 3) := dk_180 1 20 (dk_at dksX0_moved_5 12 rfl rfl)
theorem dX0_moved_128 : decode cX0_moved 128 = .ok (.invokeinterface 321 2, 5) := by decide +kernel
theorem dX0_moved_133 : decode cX0_moved 133 = .ok (.ifCond .ne 6, 3) := dk_154 0 6 (dk_at dksX0_moved_5 20 rfl rfl)
theorem dX0_moved_136 : decode cX0_moved 136 = .ok (.bipush (-9), 2) := dk_16 247 (dk_at dksX0_moved_6 0 rfl rfl)
theorem dX0_moved_138 : decode cX0_moved 138 = .ok (.ireturn, 1) := dk_172 (dk_at dksX0_moved_6 2 rfl rfl)
theorem dX0_moved_139 : decode cX0_moved 139 = .ok (.iload 6, 2) := dk_21 6 (dk_at dksX0_moved_6 3 rfl rfl)
theorem dX0_moved_141 : decode cX0_moved 141 = .ok (.aload 8, 2) := dk_25 8 (dk_at dksX0_moved_6 5 rfl rfl)
theorem dX0_moved_143 : decode cX0_moved 143 = .ok (.aload_n 0, 1) := dk_42 (dk_at dksX0_moved_6 7 rfl rfl)
theorem dX0_moved_144 : decode cX0_moved 144 = .ok (.getfield 32, 3) := dk_180 0 32 (dk_at dksX0_moved_6 8 rfl rfl)
theorem dX0_moved_147 : decode cX0_moved 147 = .ok (.getfield 152, 3) := dk_180 0 152 (dk_at dksX0_moved_6 11 rfl rfl)
theorem dX0_moved_150 : decode cX0_moved 150 = .ok (.iload_n 1, 1) := dk_27 (dk_at dksX0_moved_6 14 rfl rfl)
theorem dX0_moved_151 : decode cX0_moved 151 = .ok (.invokeinterface 87 2, 5) := by decide +kernel
theorem dX0_moved_156 : decode cX0_moved 156 = .ok (.if_acmp .ne 7, 3) := dk_166 0 7 (dk_at dksX0_moved_6 20 rfl rfl)
theorem dX0_moved_159 : decode cX0_moved 159 = .ok (.iconst 0, 1) := dk_3 (dk_at dksX0_moved_6 23 rfl rfl)
theorem dX0_moved_160 : decode cX0_moved 160 = .ok (.goto 40, 3) := dk_167 0 40 (dk_at dksX0_moved_7 0 rfl rfl)
theorem dX0_moved_163 : decode cX0_moved 163 = .ok (.aload 5, 2) := dk_25 5 (dk_at dksX0_moved_7 3 rfl rfl)
theorem dX0_moved_165 : decode cX0_moved 165 = .ok (.aload 8, 2) := dk_25 8 (dk_at dksX0_moved_7 5 rfl rfl)
theorem dX0_moved_167 : decode cX0_moved 167 = .ok (.getfield 276, 3) := dk_180 1 20 (dk_at dksX0_moved_7 7 rfl rfl)
theorem dX0_moved_170 : decode cX0_moved 170 = .ok (.invokeinterface 317 2, 5) := by decide +kernel
theorem dX0_moved_175 : decode cX0_moved 175 = .ok (.checkcast 249, 3) := dk_192 0 249 (dk_at dksX0_moved_7 15 rfl rfl)
theorem dX0_moved_178 : decode cX0_moved 178 = .ok (.invokevirtual 251, 3) := dk_182 0 251 (dk_at dksX0_moved_7 18 rfl rfl)
theorem dX0_moved_181 : decode cX0_moved 181 = .ok (.aload 4, 2) := dk_25 4 (dk_at dksX0_moved_7 21 rfl rfl)
theorem dX0_moved_183 : decode cX0_moved 183 = .ok (.aload 8, 2) := dk_25 8 (dk_at dksX0_moved_8 0 rfl rfl)
theorem dX0_moved_185 : decode cX0_moved 185 = .ok (.getfield 276, 3) := dk_180 1 20 (dk_at dksX0_moved_8 2 rfl rfl)
theorem dX0_moved_188 : decode cX0_moved 188 = .ok (.invokeinterface 317 2, 5) := by decide +kernel
theorem dX0_moved_193 : decode cX0_moved 193 = .ok (.checkcast 249, 3) := dk_192 0 249 (dk_at dksX0_moved_8 10 rfl rfl)
theorem dX0_moved_196 : decode cX0_moved 196 = .ok (.invokevirtual 251, 3) := dk_182 0 251 (dk_at dksX0_moved_8 13 rfl rfl)
theorem dX0_moved_199 : decode cX0_moved 199 = .ok (.isub, 1) := dk_100 (dk_at dksX0_moved_8 16 rfl rfl)
theorem dX0_moved_200 : decode cX0_moved 200 = .ok (.iadd, 1) := dk_96 (dk_at dksX0_moved_8 17 rfl rfl)
theorem dX0_moved_201 : decode cX0_moved 201 = .ok (.istore 6, 2) := dk_54 6 (dk_at dksX0_moved_8 18 rfl rfl)
theorem dX0_moved_203 : decode cX0_moved 203 = .ok (.goto (-119), 3) := dk_167 255 137 (dk_at dksX0_moved_8 20 rfl rfl)
theorem dX0_moved_206 : decode cX0_moved 206 = .ok (.ldc_w 324, 3) := dk_19 1 68 (dk_at dksX0_moved_9 0 rfl rfl)
theorem dX0_moved_209 : decode cX0_moved 209 = .ok (.iload 6, 2) := dk_21 6 (dk_at dksX0_moved_9 3 rfl rfl)
theorem dX0_moved_211 : decode cX0_moved 211 = .ok (.iadd, 1) := dk_96 (dk_at dksX0_moved_9 5 rfl rfl)
theorem dX0_moved_212 : decode cX0_moved 212 = .ok (.ireturn, 1) := dk_172 (dk_at dksX0_moved_9 6 rfl rfl)
abbrev cX0_largestSize : ByteArray := prog_1_method_34_code
def yX0_largestSize : MethodName := ⟨RX0, "largestSize", "(I)I"⟩
def dkwX0_largestSize_3 : List UInt8 := [154, 0, 8, 16, 247, 167, 0, 4, 28, 172]
abbrev dktX0_largestSize_3 : List UInt8 := dkwX0_largestSize_3 ++ []
def dkwX0_largestSize_2 : List UInt8 := [27, 185, 0, 87, 2, 0, 192, 0, 74, 180, 1, 7, 164, 0, 9, 132, 2, 255, 167, 255, 219, 28]
abbrev dktX0_largestSize_2 : List UInt8 := dkwX0_largestSize_2 ++ dktX0_largestSize_3
def dkwX0_largestSize_1 : List UInt8 := [16, 254, 172, 7, 61, 28, 158, 0, 39, 42, 180, 0, 46, 28, 184, 1, 40, 42, 180, 0, 32, 180, 0, 62]
abbrev dktX0_largestSize_1 : List UInt8 := dkwX0_largestSize_1 ++ dktX0_largestSize_2
def dkwX0_largestSize_0 : List UInt8 := [42, 180, 0, 32, 27, 182, 0, 83, 154, 0, 5, 2, 172, 42, 180, 0, 46, 182, 0, 130, 154, 0, 6]
abbrev dktX0_largestSize_0 : List UInt8 := dkwX0_largestSize_0 ++ dktX0_largestSize_1
theorem dksX0_largestSize_0 : cX0_largestSize.data.toList.drop 0 = dktX0_largestSize_0 := by decide +kernel
theorem dksX0_largestSize_1 : cX0_largestSize.data.toList.drop 23 = dktX0_largestSize_1 := dk_seg dksX0_largestSize_0 23 rfl rfl
theorem dksX0_largestSize_2 : cX0_largestSize.data.toList.drop 47 = dktX0_largestSize_2 := dk_seg dksX0_largestSize_1 24 rfl rfl
theorem dksX0_largestSize_3 : cX0_largestSize.data.toList.drop 69 = dktX0_largestSize_3 := dk_seg dksX0_largestSize_2 22 rfl rfl
theorem dX0_largestSize_0 : decode cX0_largestSize 0 = .ok (.aload_n 0, 1) := dk_42 (dk_at dksX0_largestSize_0 0 rfl rfl)
theorem dX0_largestSize_1 : decode cX0_largestSize 1 = .ok (.getfield 32, 3) := dk_180 0 32 (dk_at dksX0_largestSize_0 1 rfl rfl)
theorem dX0_largestSize_4 : decode cX0_largestSize 4 = .ok (.iload_n 1, 1) := dk_27 (dk_at dksX0_largestSize_0 4 rfl rfl)
theorem dX0_largestSize_5 : decode cX0_largestSize 5 = .ok (.invokevirtual 83, 3) := dk_182 0 83 (dk_at dksX0_largestSize_0 5 rfl rfl)
theorem dX0_largestSize_8 : decode cX0_largestSize 8 = .ok (.ifCond .ne 5, 3) := dk_154 0 5 (dk_at dksX0_largestSize_0 8 rfl rfl)
theorem dX0_largestSize_11 : decode cX0_largestSize 11 = .ok (.iconst (-1), 1) := dk_2 (dk_at dksX0_largestSize_0 11 rfl rfl)
theorem dX0_largestSize_12 : decode cX0_largestSize 12 = .ok (.ireturn, 1) := dk_172 (dk_at dksX0_largestSize_0 12 rfl rfl)
theorem dX0_largestSize_13 : decode cX0_largestSize 13 = .ok (.aload_n 0, 1) := dk_42 (dk_at dksX0_largestSize_0 13 rfl rfl)
theorem dX0_largestSize_14 : decode cX0_largestSize 14 = .ok (.getfield 46, 3) := dk_180 0 46 (dk_at dksX0_largestSize_0 14 rfl rfl)
theorem dX0_largestSize_17 : decode cX0_largestSize 17 = .ok (.invokevirtual 130, 3) := dk_182 0 130 (dk_at dksX0_largestSize_0 17 rfl rfl)
theorem dX0_largestSize_20 : decode cX0_largestSize 20 = .ok (.ifCond .ne 6, 3) := dk_154 0 6 (dk_at dksX0_largestSize_0 20 rfl rfl)
theorem dX0_largestSize_23 : decode cX0_largestSize 23 = .ok (.bipush (-2), 2) := dk_16 254 (dk_at dksX0_largestSize_1 0 rfl rfl)
theorem dX0_largestSize_25 : decode cX0_largestSize 25 = .ok (.ireturn, 1) := dk_172 (dk_at dksX0_largestSize_1 2 rfl rfl)
theorem dX0_largestSize_26 : decode cX0_largestSize 26 = .ok (.iconst 4, 1) := dk_7 (dk_at dksX0_largestSize_1 3 rfl rfl)
theorem dX0_largestSize_27 : decode cX0_largestSize 27 = .ok (.istore_n 2, 1) := dk_61 (dk_at dksX0_largestSize_1 4 rfl rfl)
theorem dX0_largestSize_28 : decode cX0_largestSize 28 = .ok (.iload_n 2, 1) := dk_28 (dk_at dksX0_largestSize_1 5 rfl rfl)
theorem dX0_largestSize_29 : decode cX0_largestSize 29 = .ok (.ifCond .le 39, 3) := dk_158 0 39 (dk_at dksX0_largestSize_1 6 rfl rfl)
theorem dX0_largestSize_32 : decode cX0_largestSize 32 = .ok (.aload_n 0, 1) := dk_42 (dk_at dksX0_largestSize_1 9 rfl rfl)
theorem dX0_largestSize_33 : decode cX0_largestSize 33 = .ok (.getfield 46, 3) := dk_180 0 46 (dk_at dksX0_largestSize_1 10 rfl rfl)
theorem dX0_largestSize_36 : decode cX0_largestSize 36 = .ok (.iload_n 2, 1) := dk_28 (dk_at dksX0_largestSize_1 13 rfl rfl)
theorem dX0_largestSize_37 : decode cX0_largestSize 37 = .ok (.invokestatic 296, 3) := dk_184 1 40 (dk_at dksX0_largestSize_1 14 rfl rfl)
theorem dX0_largestSize_40 : decode cX0_largestSize 40 = .ok (.aload_n 0, 1) := dk_42 (dk_at dksX0_largestSize_1 17 rfl rfl)
theorem dX0_largestSize_41 : decode cX0_largestSize 41 = .ok (.getfield 32, 3) := dk_180 0 32 (dk_at dksX0_largestSize_1 18 rfl rfl)
theorem dX0_largestSize_44 : decode cX0_largestSize 44 = .ok (.getfield 62, 3) := dk_180 0 62 (dk_at dksX0_largestSize_1 21 rfl rfl)
theorem dX0_largestSize_47 : decode cX0_largestSize 47 = .ok (.iload_n 1, 1) := dk_27 (dk_at dksX0_largestSize_2 0 rfl rfl)
theorem dX0_largestSize_48 : decode cX0_largestSize 48 = .ok (.invokeinterface 87 2, 5) := by decide +kernel
theorem dX0_largestSize_53 : decode cX0_largestSize 53 = .ok (.checkcast 74, 3) := dk_192 0 74 (dk_at dksX0_largestSize_2 6 rfl rfl)
theorem dX0_largestSize_56 : decode cX0_largestSize 56 = .ok (.getfield 263, 3) := dk_180 1 7 (dk_at dksX0_largestSize_2 9 rfl rfl)
theorem dX0_largestSize_59 : decode cX0_largestSize 59 = .ok (.if_icmp .le 9, 3) := dk_164 0 9 (dk_at dksX0_largestSize_2 12 rfl rfl)
theorem dX0_largestSize_62 : decode cX0_largestSize 62 = .ok (.iinc 2 (-1), 3) := dk_132 2 255 (dk_at dksX0_largestSize_2 15 rfl rfl)
theorem dX0_largestSize_65 : decode cX0_largestSize 65 = .ok (.goto (-37), 3) := dk_167 255 219 (dk_at dksX0_largestSize_2 18 rfl rfl)
theorem dX0_largestSize_68 : decode cX0_largestSize 68 = .ok (.iload_n 2, 1) := dk_28 (dk_at dksX0_largestSize_2 21 rfl rfl)
theorem dX0_largestSize_69 : decode cX0_largestSize 69 = .ok (.ifCond .ne 8, 3) := dk_154 0 8 (dk_at dksX0_largestSize_3 0 rfl rfl)
theorem dX0_largestSize_72 : decode cX0_largestSize 72 = .ok (.bipush (-9), 2) := dk_16 247 (dk_at dksX0_largestSize_3 3 rfl rfl)
theorem dX0_largestSize_74 : decode cX0_largestSize 74 = .ok (.goto 4, 3) := dk_167 0 4 (dk_at dksX0_largestSize_3 5 rfl rfl)
theorem dX0_largestSize_77 : decode cX0_largestSize 77 = .ok (.iload_n 2, 1) := dk_28 (dk_at dksX0_largestSize_3 8 rfl rfl)
theorem dX0_largestSize_78 : decode cX0_largestSize 78 = .ok (.ireturn, 1) := dk_172 (dk_at dksX0_largestSize_3 9 rfl rfl)
theorem q31 : (Jvm.Cond.initialized "TrophyPlates") ∈ lw_all := lw_g (lw_at lw_m1 1 rfl) rfl
theorem q80 : (Jvm.Cond.instantiable "TrophyPlates" (3 : Nat)) ∈ lw_all := lw_g (lw_at lw_m1 50 rfl) rfl
theorem q82 : (Jvm.Cond.instanceMethod ({ cls := "TrophyPlates", name := "<init>", desc := "()V" } : Jvm.MethodName)) ∈ lw_all := lw_g (lw_at lw_m1 52 rfl) rfl
theorem q83 : (Jvm.Cond.code ({ cls := "TrophyPlates", name := "<init>", desc := "()V" } : Jvm.MethodName) prog_1_method_5_code (1 : Nat) (Option.none : Option Jvm.ClassFile.FieldType)) ∈ lw_all := lw_g (lw_at lw_m1 53 rfl) rfl
theorem q84 : (Jvm.Cond.methodLink "TrophyPlates" (23 : Nat) ({ cls := "java/lang/Object", name := "<init>", desc := "()V" } : Jvm.MethodName)) ∈ lw_all := lw_g (lw_at lw_m1 54 rfl) rfl
theorem q87 : (Jvm.Cond.classLink "TrophyPlates" (29 : Nat) "TrophyPlates$Shop") ∈ lw_all := lw_g (lw_at lw_m1 57 rfl) rfl
theorem q89 : (Jvm.Cond.methodLinkNest "TrophyPlates" (31 : Nat) ({ cls := "TrophyPlates$Shop", name := "<init>", desc := "()V" } : Jvm.MethodName) "TrophyPlates") ∈ lw_tbl := lw_at lw_m1 59 rfl
theorem q185 : (Jvm.Cond.fieldLinkNest "TrophyPlates" (62 : Nat) "TrophyPlates$Shop" "plates" "Ljava/util/List;" "TrophyPlates") ∈ lw_tbl := lw_at lw_m1 155 rfl
theorem q187 : (Jvm.Cond.fieldLinkNest "TrophyPlates" (152 : Nat) "TrophyPlates$Shop" "orders" "Ljava/util/List;" "TrophyPlates") ∈ lw_tbl := lw_at lw_m1 157 rfl
theorem q189 : (Jvm.Cond.fieldLinkNest "TrophyPlates" (218 : Nat) "TrophyPlates$Shop" "fixed" "Ljava/util/Map;" "TrophyPlates") ∈ lw_tbl := lw_at lw_m1 159 rfl
theorem q191 : (Jvm.Cond.fieldLinkNest "TrophyPlates" (114 : Nat) "TrophyPlates$Shop" "places" "[I" "TrophyPlates") ∈ lw_tbl := lw_at lw_m1 161 rfl
theorem q193 : (Jvm.Cond.fieldLinkNest "TrophyPlates" (111 : Nat) "TrophyPlates$Shop" "shields" "I" "TrophyPlates") ∈ lw_tbl := lw_at lw_m1 163 rfl
theorem q195 : (Jvm.Cond.fieldLinkNest "TrophyPlates" (184 : Nat) "TrophyPlates$Shop" "atWork" "LTrophyPlates$Order;" "TrophyPlates") ∈ lw_tbl := lw_at lw_m1 165 rfl
theorem q197 : (Jvm.Cond.fieldLinkNest "TrophyPlates" (206 : Nat) "TrophyPlates$Shop" "plate" "I" "TrophyPlates") ∈ lw_tbl := lw_at lw_m1 167 rfl
theorem q200 : (Jvm.Cond.fieldLinkNest "TrophyPlates" (203 : Nat) "TrophyPlates$Shop" "left" "I" "TrophyPlates") ∈ lw_tbl := lw_at lw_m1 170 rfl
theorem q202 : (Jvm.Cond.fieldLinkNest "TrophyPlates" (209 : Nat) "TrophyPlates$Shop" "done" "I" "TrophyPlates") ∈ lw_tbl := lw_at lw_m1 172 rfl
theorem q204 : (Jvm.Cond.fieldLinkNest "TrophyPlates" (212 : Nat) "TrophyPlates$Shop" "slips" "I" "TrophyPlates") ∈ lw_tbl := lw_at lw_m1 174 rfl
theorem q206 : (Jvm.Cond.fieldLinkNest "TrophyPlates" (215 : Nat) "TrophyPlates$Shop" "ground" "I" "TrophyPlates") ∈ lw_tbl := lw_at lw_m1 176 rfl
theorem q233 : (Jvm.Cond.classLink "TrophyPlates" (36 : Nat) "TrophyPlates$Stack") ∈ lw_all := lw_g (lw_at lw_m1 203 rfl) rfl
theorem q235 : (Jvm.Cond.methodLink "TrophyPlates" (38 : Nat) ({ cls := "TrophyPlates$Stack", name := "<init>", desc := "()V" } : Jvm.MethodName)) ∈ lw_all := lw_g (lw_at lw_m1 205 rfl) rfl
theorem q245 : (Jvm.Cond.fieldLinkNest "TrophyPlates" (191 : Nat) "TrophyPlates$Stack" "size" "I" "TrophyPlates") ∈ lw_tbl := lw_at lw_m1 215 rfl
theorem q253 : (Jvm.Cond.classLink "TrophyPlates" (43 : Nat) "java/lang/StringBuilder") ∈ lw_all := lw_g (lw_at lw_m1 223 rfl) rfl
theorem q255 : (Jvm.Cond.methodLink "TrophyPlates" (45 : Nat) ({ cls := "java/lang/StringBuilder", name := "<init>", desc := "()V" } : Jvm.MethodName)) ∈ lw_all := lw_g (lw_at lw_m1 225 rfl) rfl
theorem q286 : (Jvm.Cond.fieldLink "TrophyPlates" (32 : Nat) "TrophyPlates" "shop" "LTrophyPlates$Shop;") ∈ lw_all := lw_g (lw_at lw_m2 16 rfl) rfl
theorem q287 : (Jvm.Cond.fieldLink "TrophyPlates" (39 : Nat) "TrophyPlates" "history" "LTrophyPlates$Stack;") ∈ lw_all := lw_g (lw_at lw_m2 17 rfl) rfl
theorem q288 : (Jvm.Cond.fieldLink "TrophyPlates" (46 : Nat) "TrophyPlates" "text" "Ljava/lang/StringBuilder;") ∈ lw_all := lw_g (lw_at lw_m2 18 rfl) rfl
theorem q289 : (Jvm.Cond.lays "TrophyPlates" "TrophyPlates" "shop" "LTrophyPlates$Shop;") ∈ lw_all := lw_g (lw_at lw_m2 19 rfl) rfl
theorem q290 : (Jvm.Cond.soleField "TrophyPlates" "shop") ∈ lw_all := lw_g (lw_at lw_m2 20 rfl) rfl
theorem q291 : (Jvm.Cond.laysFinal "TrophyPlates" "TrophyPlates" "history" "LTrophyPlates$Stack;") ∈ lw_all := lw_g (lw_at lw_m2 21 rfl) rfl
theorem q292 : (Jvm.Cond.soleField "TrophyPlates" "history") ∈ lw_all := lw_g (lw_at lw_m2 22 rfl) rfl
theorem q293 : (Jvm.Cond.laysFinal "TrophyPlates" "TrophyPlates" "text" "Ljava/lang/StringBuilder;") ∈ lw_all := lw_g (lw_at lw_m2 23 rfl) rfl
theorem q294 : (Jvm.Cond.soleField "TrophyPlates" "text") ∈ lw_all := lw_g (lw_at lw_m2 24 rfl) rfl
theorem q295 : (Jvm.Cond.superclass "TrophyPlates" "java/lang/Object") ∈ lw_all := lw_g (lw_at lw_m2 25 rfl) rfl
theorem q297 : (Jvm.Cond.instanceMethod ({ cls := "TrophyPlates", name := "cut", desc := "(II)I" } : Jvm.MethodName)) ∈ lw_all := lw_g (lw_at lw_m2 27 rfl) rfl
theorem q298 : (Jvm.Cond.selects "TrophyPlates" ({ cls := "TrophyPlates", name := "cut", desc := "(II)I" } : Jvm.MethodName) ({ cls := "TrophyPlates", name := "cut", desc := "(II)I" } : Jvm.MethodName)) ∈ lw_all := lw_g (lw_at lw_m2 28 rfl) rfl
theorem q299 : (Jvm.Cond.code ({ cls := "TrophyPlates", name := "cut", desc := "(II)I" } : Jvm.MethodName) prog_1_method_7_code (4 : Nat) (Option.some Jvm.ClassFile.FieldType.int)) ∈ lw_all := lw_g (lw_at lw_m2 29 rfl) rfl
theorem q300 : (Jvm.Cond.methodLink "TrophyPlates" (58 : Nat) ({ cls := "TrophyPlates", name := "isBetween", desc := "(III)Z" } : Jvm.MethodName)) ∈ lw_all := lw_g (lw_at lw_m2 30 rfl) rfl
theorem q301 : (Jvm.Cond.static ({ cls := "TrophyPlates", name := "isBetween", desc := "(III)Z" } : Jvm.MethodName)) ∈ lw_all := lw_g (lw_at lw_m2 31 rfl) rfl
theorem q302 : (Jvm.Cond.code ({ cls := "TrophyPlates", name := "isBetween", desc := "(III)Z" } : Jvm.MethodName) prog_1_method_2_code (3 : Nat) (Option.some Jvm.ClassFile.FieldType.boolean)) ∈ lw_all := lw_g (lw_at lw_m2 32 rfl) rfl
theorem q303 : (Jvm.Cond.interfaceEntry "TrophyPlates" (66 : Nat)) ∈ lw_tbl := lw_at lw_m2 33 rfl
theorem q304 : (Jvm.Cond.methodLink "TrophyPlates" (66 : Nat) ({ cls := "java/util/List", name := "size", desc := "()I" } : Jvm.MethodName)) ∈ lw_all := lw_g (lw_at lw_m2 34 rfl) rfl
theorem q313 : (Jvm.Cond.methodLink "TrophyPlates" (71 : Nat) ({ cls := "TrophyPlates", name := "act", desc := "()LTrophyPlates$Shop;" } : Jvm.MethodName)) ∈ lw_all := lw_g (lw_at lw_m2 43 rfl) rfl
theorem q314 : (Jvm.Cond.privateMethod ({ cls := "TrophyPlates", name := "act", desc := "()LTrophyPlates$Shop;" } : Jvm.MethodName)) ∈ lw_tbl := lw_at lw_m2 44 rfl
theorem q315 : (Jvm.Cond.instanceMethod ({ cls := "TrophyPlates", name := "act", desc := "()LTrophyPlates$Shop;" } : Jvm.MethodName)) ∈ lw_all := lw_g (lw_at lw_m2 45 rfl) rfl
theorem q316 : (Jvm.Cond.code ({ cls := "TrophyPlates", name := "act", desc := "()LTrophyPlates$Shop;" } : Jvm.MethodName) prog_1_method_6_code (1 : Nat) (Option.some (Jvm.ClassFile.FieldType.object "TrophyPlates$Shop"))) ∈ lw_all := lw_g (lw_at lw_m2 46 rfl) rfl
theorem q317 : (Jvm.Cond.methodLink "TrophyPlates" (50 : Nat) ({ cls := "TrophyPlates$Stack", name := "push", desc := "(LTrophyPlates$Shop;)V" } : Jvm.MethodName)) ∈ lw_all := lw_g (lw_at lw_m2 47 rfl) rfl
theorem q336 : (Jvm.Cond.methodLink "TrophyPlates" (54 : Nat) ({ cls := "TrophyPlates$Shop", name := "copy", desc := "()LTrophyPlates$Shop;" } : Jvm.MethodName)) ∈ lw_all := lw_g (lw_at lw_m2 66 rfl) rfl
theorem q477 : (Jvm.Cond.fieldLinkNest "TrophyPlates" (263 : Nat) "TrophyPlates$Plate" "width" "I" "TrophyPlates") ∈ lw_tbl := lw_at lw_m2 207 rfl
theorem q479 : (Jvm.Cond.fieldLinkNest "TrophyPlates" (108 : Nat) "TrophyPlates$Plate" "thickness" "I" "TrophyPlates") ∈ lw_tbl := lw_at lw_m2 209 rfl
theorem q483 : (Jvm.Cond.fieldLinkNest "TrophyPlates" (91 : Nat) "TrophyPlates$Plate" "state" "I" "TrophyPlates") ∈ lw_tbl := lw_at lw_m2 213 rfl
theorem q485 : (Jvm.Cond.fieldLinkNest "TrophyPlates" (99 : Nat) "TrophyPlates$Plate" "depths" "[I" "TrophyPlates") ∈ lw_tbl := lw_at lw_m2 215 rfl
theorem q533 : (Jvm.Cond.selects "TrophyPlates" ({ cls := "java/lang/Object", name := "getClass", desc := "()Ljava/lang/Class;" } : Jvm.MethodName) ({ cls := "java/lang/Object", name := "getClass", desc := "()Ljava/lang/Class;" } : Jvm.MethodName)) ∈ lw_all := lw_g (lw_at lw_m3 23 rfl) rfl
theorem q817 : (Jvm.Cond.selects "TrophyPlates" ({ cls := "java/lang/Object", name := "hashCode", desc := "()I" } : Jvm.MethodName) ({ cls := "java/lang/Object", name := "hashCode", desc := "()I" } : Jvm.MethodName)) ∈ lw_all := lw_g (lw_at lw_m4 67 rfl) rfl
theorem q1254 : (Jvm.Cond.selects "TrophyPlates" ({ cls := "java/lang/Object", name := "equals", desc := "(Ljava/lang/Object;)Z" } : Jvm.MethodName) ({ cls := "java/lang/Object", name := "equals", desc := "(Ljava/lang/Object;)Z" } : Jvm.MethodName)) ∈ lw_all := lw_g (lw_at lw_m6 24 rfl) rfl
theorem q1372 : (Jvm.Cond.classLink "TrophyPlates" (74 : Nat) "TrophyPlates$Plate") ∈ lw_all := lw_g (lw_at lw_m6 142 rfl) rfl
theorem q1373 : (Jvm.Cond.methodLink "TrophyPlates" (76 : Nat) ({ cls := "TrophyPlates$Plate", name := "<init>", desc := "(II)V" } : Jvm.MethodName)) ∈ lw_all := lw_g (lw_at lw_m6 143 rfl) rfl
theorem q1376 : (Jvm.Cond.interfaceEntry "TrophyPlates" (79 : Nat)) ∈ lw_tbl := lw_at lw_m6 146 rfl
theorem q1377 : (Jvm.Cond.methodLink "TrophyPlates" (79 : Nat) ({ cls := "java/util/List", name := "add", desc := "(Ljava/lang/Object;)Z" } : Jvm.MethodName)) ∈ lw_all := lw_g (lw_at lw_m6 147 rfl) rfl
theorem q1379 : (Jvm.Cond.instanceMethod ({ cls := "TrophyPlates", name := "spoil", desc := "(I)I" } : Jvm.MethodName)) ∈ lw_all := lw_g (lw_at lw_m6 149 rfl) rfl
theorem q1380 : (Jvm.Cond.selects "TrophyPlates" ({ cls := "TrophyPlates", name := "spoil", desc := "(I)I" } : Jvm.MethodName) ({ cls := "TrophyPlates", name := "spoil", desc := "(I)I" } : Jvm.MethodName)) ∈ lw_all := lw_g (lw_at lw_m6 150 rfl) rfl
theorem q1381 : (Jvm.Cond.code ({ cls := "TrophyPlates", name := "spoil", desc := "(I)I" } : Jvm.MethodName) prog_1_method_8_code (2 : Nat) (Option.some Jvm.ClassFile.FieldType.int)) ∈ lw_all := lw_g (lw_at lw_m6 151 rfl) rfl
theorem q1382 : (Jvm.Cond.methodLink "TrophyPlates" (83 : Nat) ({ cls := "TrophyPlates$Shop", name := "isPlate", desc := "(I)Z" } : Jvm.MethodName)) ∈ lw_all := lw_g (lw_at lw_m6 152 rfl) rfl
theorem q1389 : (Jvm.Cond.interfaceEntry "TrophyPlates" (87 : Nat)) ∈ lw_tbl := lw_at lw_m6 159 rfl
theorem q1390 : (Jvm.Cond.methodLink "TrophyPlates" (87 : Nat) ({ cls := "java/util/List", name := "get", desc := "(I)Ljava/lang/Object;" } : Jvm.MethodName)) ∈ lw_all := lw_g (lw_at lw_m6 160 rfl) rfl
theorem q1408 : (Jvm.Cond.methodLink "TrophyPlates" (95 : Nat) ({ cls := "TrophyPlates$Shop", name := "platesIn", desc := "(I)I" } : Jvm.MethodName)) ∈ lw_all := lw_g (lw_at lw_m6 178 rfl) rfl
theorem q1413 : (Jvm.Cond.instanceMethod ({ cls := "TrophyPlates", name := "grind", desc := "(II)I" } : Jvm.MethodName)) ∈ lw_all := lw_g (lw_at lw_m6 183 rfl) rfl
theorem q1414 : (Jvm.Cond.selects "TrophyPlates" ({ cls := "TrophyPlates", name := "grind", desc := "(II)I" } : Jvm.MethodName) ({ cls := "TrophyPlates", name := "grind", desc := "(II)I" } : Jvm.MethodName)) ∈ lw_all := lw_g (lw_at lw_m6 184 rfl) rfl
theorem q1415 : (Jvm.Cond.code ({ cls := "TrophyPlates", name := "grind", desc := "(II)I" } : Jvm.MethodName) prog_1_method_9_code (4 : Nat) (Option.some Jvm.ClassFile.FieldType.int)) ∈ lw_all := lw_g (lw_at lw_m6 185 rfl) rfl
theorem q1416 : (Jvm.Cond.methodLink "TrophyPlates" (102 : Nat) ({ cls := "TrophyPlates$Plate", name := "thicknessWithout", desc := "(I)I" } : Jvm.MethodName)) ∈ lw_all := lw_g (lw_at lw_m6 186 rfl) rfl
theorem q1420 : (Jvm.Cond.methodLinkNest "TrophyPlates" (105 : Nat) ({ cls := "TrophyPlates$Shop", name := "grind", desc := "(II)V" } : Jvm.MethodName) "TrophyPlates") ∈ lw_tbl := lw_at lw_m6 190 rfl
theorem q1432 : (Jvm.Cond.instanceMethod ({ cls := "TrophyPlates", name := "addShield", desc := "(I)I" } : Jvm.MethodName)) ∈ lw_all := lw_g (lw_at lw_m6 202 rfl) rfl
theorem q1433 : (Jvm.Cond.selects "TrophyPlates" ({ cls := "TrophyPlates", name := "addShield", desc := "(I)I" } : Jvm.MethodName) ({ cls := "TrophyPlates", name := "addShield", desc := "(I)I" } : Jvm.MethodName)) ∈ lw_all := lw_g (lw_at lw_m6 203 rfl) rfl
theorem q1434 : (Jvm.Cond.code ({ cls := "TrophyPlates", name := "addShield", desc := "(I)I" } : Jvm.MethodName) prog_1_method_10_code (3 : Nat) (Option.some Jvm.ClassFile.FieldType.int)) ∈ lw_all := lw_g (lw_at lw_m6 204 rfl) rfl
theorem q1436 : (Jvm.Cond.instanceMethod ({ cls := "TrophyPlates", name := "takeOff", desc := "(II)I" } : Jvm.MethodName)) ∈ lw_all := lw_g (lw_at lw_m6 206 rfl) rfl
theorem q1437 : (Jvm.Cond.selects "TrophyPlates" ({ cls := "TrophyPlates", name := "takeOff", desc := "(II)I" } : Jvm.MethodName) ({ cls := "TrophyPlates", name := "takeOff", desc := "(II)I" } : Jvm.MethodName)) ∈ lw_all := lw_g (lw_at lw_m6 207 rfl) rfl
theorem q1438 : (Jvm.Cond.code ({ cls := "TrophyPlates", name := "takeOff", desc := "(II)I" } : Jvm.MethodName) prog_1_method_12_code (3 : Nat) (Option.some Jvm.ClassFile.FieldType.int)) ∈ lw_all := lw_g (lw_at lw_m6 208 rfl) rfl
theorem q1439 : (Jvm.Cond.methodLink "TrophyPlates" (120 : Nat) ({ cls := "TrophyPlates", name := "isPlace", desc := "(II)Z" } : Jvm.MethodName)) ∈ lw_all := lw_g (lw_at lw_m6 209 rfl) rfl
theorem q1440 : (Jvm.Cond.privateMethod ({ cls := "TrophyPlates", name := "isPlace", desc := "(II)Z" } : Jvm.MethodName)) ∈ lw_tbl := lw_at lw_m6 210 rfl
theorem q1441 : (Jvm.Cond.instanceMethod ({ cls := "TrophyPlates", name := "isPlace", desc := "(II)Z" } : Jvm.MethodName)) ∈ lw_all := lw_g (lw_at lw_m6 211 rfl) rfl
theorem q1442 : (Jvm.Cond.code ({ cls := "TrophyPlates", name := "isPlace", desc := "(II)Z" } : Jvm.MethodName) prog_1_method_11_code (3 : Nat) (Option.some Jvm.ClassFile.FieldType.boolean)) ∈ lw_all := lw_g (lw_at lw_m6 212 rfl) rfl
theorem q1443 : (Jvm.Cond.methodLink "TrophyPlates" (117 : Nat) ({ cls := "TrophyPlates$Shop", name := "isShield", desc := "(I)Z" } : Jvm.MethodName)) ∈ lw_all := lw_g (lw_at lw_m6 213 rfl) rfl
theorem q1447 : (Jvm.Cond.methodLink "TrophyPlates" (124 : Nat) ({ cls := "TrophyPlates$Shop", name := "plateFor", desc := "(II)I" } : Jvm.MethodName)) ∈ lw_all := lw_g (lw_at lw_m6 217 rfl) rfl
theorem q1458 : (Jvm.Cond.fieldLinkNest "TrophyPlates" (257 : Nat) "TrophyPlates$Place" "shield" "I" "TrophyPlates") ∈ lw_tbl := lw_at lw_m6 228 rfl
theorem q1461 : (Jvm.Cond.fieldLinkNest "TrophyPlates" (260 : Nat) "TrophyPlates$Place" "year" "I" "TrophyPlates") ∈ lw_tbl := lw_at lw_m6 231 rfl
theorem q1497 : (Jvm.Cond.methodLink "TrophyPlates" (127 : Nat) ({ cls := "TrophyPlates$Shop", name := "takeOff", desc := "(II)I" } : Jvm.MethodName)) ∈ lw_all := lw_g (lw_at lw_m7 27 rfl) rfl
theorem q1534 : (Jvm.Cond.instanceMethod ({ cls := "TrophyPlates", name := "append", desc := "(I)I" } : Jvm.MethodName)) ∈ lw_all := lw_g (lw_at lw_m7 64 rfl) rfl
theorem q1535 : (Jvm.Cond.selects "TrophyPlates" ({ cls := "TrophyPlates", name := "append", desc := "(I)I" } : Jvm.MethodName) ({ cls := "TrophyPlates", name := "append", desc := "(I)I" } : Jvm.MethodName)) ∈ lw_all := lw_g (lw_at lw_m7 65 rfl) rfl
theorem q1536 : (Jvm.Cond.code ({ cls := "TrophyPlates", name := "append", desc := "(I)I" } : Jvm.MethodName) prog_1_method_13_code (2 : Nat) (Option.some Jvm.ClassFile.FieldType.int)) ∈ lw_all := lw_g (lw_at lw_m7 66 rfl) rfl
theorem q1537 : (Jvm.Cond.methodLink "TrophyPlates" (130 : Nat) ({ cls := "java/lang/StringBuilder", name := "length", desc := "()I" } : Jvm.MethodName)) ∈ lw_all := lw_g (lw_at lw_m7 67 rfl) rfl
theorem q1544 : (Jvm.Cond.methodLink "TrophyPlates" (131 : Nat) ({ cls := "java/lang/StringBuilder", name := "append", desc := "(C)Ljava/lang/StringBuilder;" } : Jvm.MethodName)) ∈ lw_all := lw_g (lw_at lw_m7 74 rfl) rfl
theorem q1607 : (Jvm.Cond.instanceMethod ({ cls := "TrophyPlates", name := "clearText", desc := "()I" } : Jvm.MethodName)) ∈ lw_all := lw_g (lw_at lw_m7 137 rfl) rfl
theorem q1608 : (Jvm.Cond.selects "TrophyPlates" ({ cls := "TrophyPlates", name := "clearText", desc := "()I" } : Jvm.MethodName) ({ cls := "TrophyPlates", name := "clearText", desc := "()I" } : Jvm.MethodName)) ∈ lw_all := lw_g (lw_at lw_m7 138 rfl) rfl
theorem q1609 : (Jvm.Cond.code ({ cls := "TrophyPlates", name := "clearText", desc := "()I" } : Jvm.MethodName) prog_1_method_14_code (2 : Nat) (Option.some Jvm.ClassFile.FieldType.int)) ∈ lw_all := lw_g (lw_at lw_m7 139 rfl) rfl
theorem q1610 : (Jvm.Cond.methodLink "TrophyPlates" (135 : Nat) ({ cls := "java/lang/StringBuilder", name := "setLength", desc := "(I)V" } : Jvm.MethodName)) ∈ lw_all := lw_g (lw_at lw_m7 140 rfl) rfl
theorem q1631 : (Jvm.Cond.instanceMethod ({ cls := "TrophyPlates", name := "order", desc := "(IIIII)I" } : Jvm.MethodName)) ∈ lw_all := lw_g (lw_at lw_m7 161 rfl) rfl
theorem q1632 : (Jvm.Cond.selects "TrophyPlates" ({ cls := "TrophyPlates", name := "order", desc := "(IIIII)I" } : Jvm.MethodName) ({ cls := "TrophyPlates", name := "order", desc := "(IIIII)I" } : Jvm.MethodName)) ∈ lw_all := lw_g (lw_at lw_m7 162 rfl) rfl
theorem q1633 : (Jvm.Cond.code ({ cls := "TrophyPlates", name := "order", desc := "(IIIII)I" } : Jvm.MethodName) prog_1_method_17_code (8 : Nat) (Option.some Jvm.ClassFile.FieldType.int)) ∈ lw_all := lw_g (lw_at lw_m7 163 rfl) rfl
theorem q1634 : (Jvm.Cond.methodLink "TrophyPlates" (139 : Nat) ({ cls := "TrophyPlates", name := "isSize", desc := "(I)Z" } : Jvm.MethodName)) ∈ lw_all := lw_g (lw_at lw_m7 164 rfl) rfl
theorem q1635 : (Jvm.Cond.static ({ cls := "TrophyPlates", name := "isSize", desc := "(I)Z" } : Jvm.MethodName)) ∈ lw_all := lw_g (lw_at lw_m7 165 rfl) rfl
theorem q1636 : (Jvm.Cond.code ({ cls := "TrophyPlates", name := "isSize", desc := "(I)Z" } : Jvm.MethodName) prog_1_method_15_code (1 : Nat) (Option.some Jvm.ClassFile.FieldType.boolean)) ∈ lw_all := lw_g (lw_at lw_m7 166 rfl) rfl
theorem q1637 : (Jvm.Cond.methodLink "TrophyPlates" (142 : Nat) ({ cls := "TrophyPlates", name := "isDepth", desc := "(I)Z" } : Jvm.MethodName)) ∈ lw_all := lw_g (lw_at lw_m7 167 rfl) rfl
theorem q1638 : (Jvm.Cond.static ({ cls := "TrophyPlates", name := "isDepth", desc := "(I)Z" } : Jvm.MethodName)) ∈ lw_all := lw_g (lw_at lw_m7 168 rfl) rfl
theorem q1639 : (Jvm.Cond.code ({ cls := "TrophyPlates", name := "isDepth", desc := "(I)Z" } : Jvm.MethodName) prog_1_method_16_code (1 : Nat) (Option.some Jvm.ClassFile.FieldType.boolean)) ∈ lw_all := lw_g (lw_at lw_m7 169 rfl) rfl
theorem q1640 : (Jvm.Cond.classLink "TrophyPlates" (145 : Nat) "TrophyPlates$Place") ∈ lw_all := lw_g (lw_at lw_m7 170 rfl) rfl
theorem q1641 : (Jvm.Cond.methodLink "TrophyPlates" (147 : Nat) ({ cls := "TrophyPlates$Place", name := "<init>", desc := "(II)V" } : Jvm.MethodName)) ∈ lw_all := lw_g (lw_at lw_m7 171 rfl) rfl
theorem q1642 : (Jvm.Cond.methodLink "TrophyPlates" (148 : Nat) ({ cls := "TrophyPlates$Shop", name := "isOrdered", desc := "(LTrophyPlates$Place;)Z" } : Jvm.MethodName)) ∈ lw_all := lw_g (lw_at lw_m7 172 rfl) rfl
theorem q1685 : (Jvm.Cond.classLink "TrophyPlates" (155 : Nat) "TrophyPlates$Order") ∈ lw_all := lw_g (lw_at lw_m7 215 rfl) rfl
theorem q1687 : (Jvm.Cond.methodLink "TrophyPlates" (157 : Nat) ({ cls := "java/lang/StringBuilder", name := "toString", desc := "()Ljava/lang/String;" } : Jvm.MethodName)) ∈ lw_all := lw_g (lw_at lw_m7 217 rfl) rfl
theorem q1739 : (Jvm.Cond.methodLink "TrophyPlates" (161 : Nat) ({ cls := "TrophyPlates$Order", name := "<init>", desc := "(LTrophyPlates$Place;Ljava/lang/String;IIZ)V" } : Jvm.MethodName)) ∈ lw_all := lw_g (lw_at lw_m8 29 rfl) rfl
theorem q1745 : (Jvm.Cond.fieldLinkNest "TrophyPlates" (276 : Nat) "TrophyPlates$Order" "place" "LTrophyPlates$Place;" "TrophyPlates") ∈ lw_tbl := lw_at lw_m8 35 rfl
theorem q1747 : (Jvm.Cond.fieldLinkNest "TrophyPlates" (284 : Nat) "TrophyPlates$Order" "name" "Ljava/lang/String;" "TrophyPlates") ∈ lw_tbl := lw_at lw_m8 37 rfl
theorem q1749 : (Jvm.Cond.fieldLinkNest "TrophyPlates" (280 : Nat) "TrophyPlates$Order" "size" "I" "TrophyPlates") ∈ lw_tbl := lw_at lw_m8 39 rfl
theorem q1752 : (Jvm.Cond.fieldLinkNest "TrophyPlates" (281 : Nat) "TrophyPlates$Order" "depth" "I" "TrophyPlates") ∈ lw_tbl := lw_at lw_m8 42 rfl
theorem q1755 : (Jvm.Cond.fieldLinkNest "TrophyPlates" (171 : Nat) "TrophyPlates$Order" "isRush" "Z" "TrophyPlates") ∈ lw_tbl := lw_at lw_m8 45 rfl
theorem q1767 : (Jvm.Cond.methodLink "TrophyPlates" (164 : Nat) ({ cls := "TrophyPlates$Shop", name := "line", desc := "(LTrophyPlates$Order;)I" } : Jvm.MethodName)) ∈ lw_all := lw_g (lw_at lw_m8 57 rfl) rfl
theorem q1790 : (Jvm.Cond.instanceMethod ({ cls := "TrophyPlates", name := "hurry", desc := "(I)I" } : Jvm.MethodName)) ∈ lw_all := lw_g (lw_at lw_m8 80 rfl) rfl
theorem q1791 : (Jvm.Cond.selects "TrophyPlates" ({ cls := "TrophyPlates", name := "hurry", desc := "(I)I" } : Jvm.MethodName) ({ cls := "TrophyPlates", name := "hurry", desc := "(I)I" } : Jvm.MethodName)) ∈ lw_all := lw_g (lw_at lw_m8 81 rfl) rfl
theorem q1792 : (Jvm.Cond.code ({ cls := "TrophyPlates", name := "hurry", desc := "(I)I" } : Jvm.MethodName) prog_1_method_18_code (2 : Nat) (Option.some Jvm.ClassFile.FieldType.int)) ∈ lw_all := lw_g (lw_at lw_m8 82 rfl) rfl
theorem q1793 : (Jvm.Cond.methodLink "TrophyPlates" (168 : Nat) ({ cls := "TrophyPlates$Shop", name := "isOrder", desc := "(I)Z" } : Jvm.MethodName)) ∈ lw_all := lw_g (lw_at lw_m8 83 rfl) rfl
theorem q1797 : (Jvm.Cond.methodLink "TrophyPlates" (175 : Nat) ({ cls := "TrophyPlates$Shop", name := "hurry", desc := "(I)I" } : Jvm.MethodName)) ∈ lw_all := lw_g (lw_at lw_m8 87 rfl) rfl
theorem q1820 : (Jvm.Cond.instanceMethod ({ cls := "TrophyPlates", name := "cancel", desc := "(I)I" } : Jvm.MethodName)) ∈ lw_all := lw_g (lw_at lw_m8 110 rfl) rfl
theorem q1821 : (Jvm.Cond.selects "TrophyPlates" ({ cls := "TrophyPlates", name := "cancel", desc := "(I)I" } : Jvm.MethodName) ({ cls := "TrophyPlates", name := "cancel", desc := "(I)I" } : Jvm.MethodName)) ∈ lw_all := lw_g (lw_at lw_m8 111 rfl) rfl
theorem q1822 : (Jvm.Cond.code ({ cls := "TrophyPlates", name := "cancel", desc := "(I)I" } : Jvm.MethodName) prog_1_method_19_code (2 : Nat) (Option.some Jvm.ClassFile.FieldType.int)) ∈ lw_all := lw_g (lw_at lw_m8 112 rfl) rfl
theorem q1823 : (Jvm.Cond.methodLink "TrophyPlates" (178 : Nat) ({ cls := "TrophyPlates$Shop", name := "cancel", desc := "(I)V" } : Jvm.MethodName)) ∈ lw_all := lw_g (lw_at lw_m8 113 rfl) rfl
theorem q1832 : (Jvm.Cond.instanceMethod ({ cls := "TrophyPlates", name := "work", desc := "(I)I" } : Jvm.MethodName)) ∈ lw_all := lw_g (lw_at lw_m8 122 rfl) rfl
theorem q1833 : (Jvm.Cond.selects "TrophyPlates" ({ cls := "TrophyPlates", name := "work", desc := "(I)I" } : Jvm.MethodName) ({ cls := "TrophyPlates", name := "work", desc := "(I)I" } : Jvm.MethodName)) ∈ lw_all := lw_g (lw_at lw_m8 123 rfl) rfl
theorem q1834 : (Jvm.Cond.code ({ cls := "TrophyPlates", name := "work", desc := "(I)I" } : Jvm.MethodName) prog_1_method_20_code (2 : Nat) (Option.some Jvm.ClassFile.FieldType.int)) ∈ lw_all := lw_g (lw_at lw_m8 124 rfl) rfl
theorem q1835 : (Jvm.Cond.methodLink "TrophyPlates" (181 : Nat) ({ cls := "TrophyPlates$Shop", name := "work", desc := "(I)I" } : Jvm.MethodName)) ∈ lw_all := lw_g (lw_at lw_m8 125 rfl) rfl
theorem q1852 : (Jvm.Cond.static ({ cls := "TrophyPlates", name := "lengthOf", desc := "(Ljava/lang/CharSequence;I)I" } : Jvm.MethodName)) ∈ lw_all := lw_g (lw_at lw_m8 142 rfl) rfl
theorem q1853 : (Jvm.Cond.code ({ cls := "TrophyPlates", name := "lengthOf", desc := "(Ljava/lang/CharSequence;I)I" } : Jvm.MethodName) prog_1_method_4_code (4 : Nat) (Option.some Jvm.ClassFile.FieldType.int)) ∈ lw_all := lw_g (lw_at lw_m8 143 rfl) rfl
theorem q1854 : (Jvm.Cond.interfaceEntry "TrophyPlates" (7 : Nat)) ∈ lw_tbl := lw_at lw_m8 144 rfl
theorem q1855 : (Jvm.Cond.methodLink "TrophyPlates" (7 : Nat) ({ cls := "java/lang/CharSequence", name := "length", desc := "()I" } : Jvm.MethodName)) ∈ lw_all := lw_g (lw_at lw_m8 145 rfl) rfl
theorem q1868 : (Jvm.Cond.methodLink "TrophyPlates" (13 : Nat) ({ cls := "java/lang/Math", name := "max", desc := "(II)I" } : Jvm.MethodName)) ∈ lw_all := lw_g (lw_at lw_m8 158 rfl) rfl
theorem q1869 : (Jvm.Cond.fieldLink "TrophyPlates" (1 : Nat) "TrophyPlates" "WIDTHS" "[I") ∈ lw_all := lw_g (lw_at lw_m8 159 rfl) rfl
theorem q1870 : (Jvm.Cond.laysStatic "TrophyPlates" "WIDTHS" "[I") ∈ lw_tbl := lw_at lw_m8 160 rfl
theorem q1871 : (Jvm.Cond.interfaceEntry "TrophyPlates" (19 : Nat)) ∈ lw_tbl := lw_at lw_m8 161 rfl
theorem q1872 : (Jvm.Cond.methodLink "TrophyPlates" (19 : Nat) ({ cls := "java/lang/CharSequence", name := "charAt", desc := "(I)C" } : Jvm.MethodName)) ∈ lw_all := lw_g (lw_at lw_m8 162 rfl) rfl
theorem q1919 : (Jvm.Cond.static ({ cls := "TrophyPlates", name := "isAhead", desc := "([I[I)Z" } : Jvm.MethodName)) ∈ lw_all := lw_g (lw_at lw_m8 209 rfl) rfl
theorem q1920 : (Jvm.Cond.code ({ cls := "TrophyPlates", name := "isAhead", desc := "([I[I)Z" } : Jvm.MethodName) prog_1_method_3_code (3 : Nat) (Option.some Jvm.ClassFile.FieldType.boolean)) ∈ lw_all := lw_g (lw_at lw_m8 210 rfl) rfl
theorem q1929 : (Jvm.Cond.fieldLinkNest "TrophyPlates" (304 : Nat) "TrophyPlates$Found" "plate" "I" "TrophyPlates") ∈ lw_tbl := lw_at lw_m8 219 rfl
theorem q1932 : (Jvm.Cond.fieldLinkNest "TrophyPlates" (307 : Nat) "TrophyPlates$Found" "side" "I" "TrophyPlates") ∈ lw_tbl := lw_at lw_m8 222 rfl
theorem q1935 : (Jvm.Cond.fieldLinkNest "TrophyPlates" (310 : Nat) "TrophyPlates$Found" "isGround" "Z" "TrophyPlates") ∈ lw_tbl := lw_at lw_m8 225 rfl
theorem q2003 : (Jvm.Cond.instanceMethod ({ cls := "TrophyPlates", name := "slip", desc := "()I" } : Jvm.MethodName)) ∈ lw_all := lw_g (lw_at lw_m9 53 rfl) rfl
theorem q2004 : (Jvm.Cond.selects "TrophyPlates" ({ cls := "TrophyPlates", name := "slip", desc := "()I" } : Jvm.MethodName) ({ cls := "TrophyPlates", name := "slip", desc := "()I" } : Jvm.MethodName)) ∈ lw_all := lw_g (lw_at lw_m9 54 rfl) rfl
theorem q2005 : (Jvm.Cond.code ({ cls := "TrophyPlates", name := "slip", desc := "()I" } : Jvm.MethodName) prog_1_method_21_code (1 : Nat) (Option.some Jvm.ClassFile.FieldType.int)) ∈ lw_all := lw_g (lw_at lw_m9 55 rfl) rfl
theorem q2006 : (Jvm.Cond.methodLink "TrophyPlates" (188 : Nat) ({ cls := "TrophyPlates$Shop", name := "slip", desc := "()I" } : Jvm.MethodName)) ∈ lw_all := lw_g (lw_at lw_m9 56 rfl) rfl
theorem q2013 : (Jvm.Cond.instanceMethod ({ cls := "TrophyPlates", name := "undo", desc := "()I" } : Jvm.MethodName)) ∈ lw_all := lw_g (lw_at lw_m9 63 rfl) rfl
theorem q2014 : (Jvm.Cond.selects "TrophyPlates" ({ cls := "TrophyPlates", name := "undo", desc := "()I" } : Jvm.MethodName) ({ cls := "TrophyPlates", name := "undo", desc := "()I" } : Jvm.MethodName)) ∈ lw_all := lw_g (lw_at lw_m9 64 rfl) rfl
theorem q2015 : (Jvm.Cond.code ({ cls := "TrophyPlates", name := "undo", desc := "()I" } : Jvm.MethodName) prog_1_method_22_code (1 : Nat) (Option.some Jvm.ClassFile.FieldType.int)) ∈ lw_all := lw_g (lw_at lw_m9 65 rfl) rfl
theorem q2016 : (Jvm.Cond.methodLink "TrophyPlates" (193 : Nat) ({ cls := "TrophyPlates$Stack", name := "pop", desc := "()LTrophyPlates$Shop;" } : Jvm.MethodName)) ∈ lw_all := lw_g (lw_at lw_m9 66 rfl) rfl
theorem q2021 : (Jvm.Cond.instanceMethod ({ cls := "TrophyPlates", name := "count", desc := "(I)I" } : Jvm.MethodName)) ∈ lw_all := lw_g (lw_at lw_m9 71 rfl) rfl
theorem q2022 : (Jvm.Cond.selects "TrophyPlates" ({ cls := "TrophyPlates", name := "count", desc := "(I)I" } : Jvm.MethodName) ({ cls := "TrophyPlates", name := "count", desc := "(I)I" } : Jvm.MethodName)) ∈ lw_all := lw_g (lw_at lw_m9 72 rfl) rfl
theorem q2023 : (Jvm.Cond.code ({ cls := "TrophyPlates", name := "count", desc := "(I)I" } : Jvm.MethodName) prog_1_method_23_code (2 : Nat) (Option.some Jvm.ClassFile.FieldType.int)) ∈ lw_all := lw_g (lw_at lw_m9 73 rfl) rfl
theorem q2024 : (Jvm.Cond.methodLink "TrophyPlates" (196 : Nat) ({ cls := "TrophyPlates$Shop", name := "rushes", desc := "()I" } : Jvm.MethodName)) ∈ lw_all := lw_g (lw_at lw_m9 74 rfl) rfl
theorem q2025 : (Jvm.Cond.interfaceEntry "TrophyPlates" (199 : Nat)) ∈ lw_tbl := lw_at lw_m9 75 rfl
theorem q2026 : (Jvm.Cond.methodLink "TrophyPlates" (199 : Nat) ({ cls := "java/util/List", name := "indexOf", desc := "(Ljava/lang/Object;)I" } : Jvm.MethodName)) ∈ lw_all := lw_g (lw_at lw_m9 76 rfl) rfl
theorem q2039 : (Jvm.Cond.instanceMethod ({ cls := "TrophyPlates", name := "plate", desc := "(II)I" } : Jvm.MethodName)) ∈ lw_all := lw_g (lw_at lw_m9 89 rfl) rfl
theorem q2040 : (Jvm.Cond.selects "TrophyPlates" ({ cls := "TrophyPlates", name := "plate", desc := "(II)I" } : Jvm.MethodName) ({ cls := "TrophyPlates", name := "plate", desc := "(II)I" } : Jvm.MethodName)) ∈ lw_all := lw_g (lw_at lw_m9 90 rfl) rfl
theorem q2041 : (Jvm.Cond.code ({ cls := "TrophyPlates", name := "plate", desc := "(II)I" } : Jvm.MethodName) prog_1_method_25_code (4 : Nat) (Option.some Jvm.ClassFile.FieldType.int)) ∈ lw_all := lw_g (lw_at lw_m9 91 rfl) rfl
theorem q2042 : (Jvm.Cond.methodLink "TrophyPlates" (266 : Nat) ({ cls := "TrophyPlates", name := "whereIs", desc := "(I)[I" } : Jvm.MethodName)) ∈ lw_all := lw_g (lw_at lw_m9 92 rfl) rfl
theorem q2043 : (Jvm.Cond.privateMethod ({ cls := "TrophyPlates", name := "whereIs", desc := "(I)[I" } : Jvm.MethodName)) ∈ lw_tbl := lw_at lw_m9 93 rfl
theorem q2044 : (Jvm.Cond.instanceMethod ({ cls := "TrophyPlates", name := "whereIs", desc := "(I)[I" } : Jvm.MethodName)) ∈ lw_all := lw_g (lw_at lw_m9 94 rfl) rfl
theorem q2045 : (Jvm.Cond.code ({ cls := "TrophyPlates", name := "whereIs", desc := "(I)[I" } : Jvm.MethodName) prog_1_method_24_code (5 : Nat) (Option.some (Jvm.ClassFile.FieldType.array Jvm.ClassFile.FieldType.int))) ∈ lw_all := lw_g (lw_at lw_m9 95 rfl) rfl
theorem q2046 : (Jvm.Cond.interfaceEntry "TrophyPlates" (222 : Nat)) ∈ lw_tbl := lw_at lw_m9 96 rfl
theorem q2047 : (Jvm.Cond.methodLink "TrophyPlates" (222 : Nat) ({ cls := "java/util/Map", name := "entrySet", desc := "()Ljava/util/Set;" } : Jvm.MethodName)) ∈ lw_all := lw_g (lw_at lw_m9 97 rfl) rfl
theorem q2048 : (Jvm.Cond.interfaceEntry "TrophyPlates" (228 : Nat)) ∈ lw_tbl := lw_at lw_m9 98 rfl
theorem q2049 : (Jvm.Cond.methodLink "TrophyPlates" (228 : Nat) ({ cls := "java/util/Set", name := "iterator", desc := "()Ljava/util/Iterator;" } : Jvm.MethodName)) ∈ lw_all := lw_g (lw_at lw_m9 99 rfl) rfl
theorem q2050 : (Jvm.Cond.interfaceEntry "TrophyPlates" (234 : Nat)) ∈ lw_tbl := lw_at lw_m9 100 rfl
theorem q2051 : (Jvm.Cond.methodLink "TrophyPlates" (234 : Nat) ({ cls := "java/util/Iterator", name := "hasNext", desc := "()Z" } : Jvm.MethodName)) ∈ lw_all := lw_g (lw_at lw_m9 101 rfl) rfl
theorem q2052 : (Jvm.Cond.interfaceEntry "TrophyPlates" (240 : Nat)) ∈ lw_tbl := lw_at lw_m9 102 rfl
theorem q2053 : (Jvm.Cond.methodLink "TrophyPlates" (240 : Nat) ({ cls := "java/util/Iterator", name := "next", desc := "()Ljava/lang/Object;" } : Jvm.MethodName)) ∈ lw_all := lw_g (lw_at lw_m9 103 rfl) rfl
theorem q2054 : (Jvm.Cond.classLink "TrophyPlates" (244 : Nat) "java/util/Map$Entry") ∈ lw_all := lw_g (lw_at lw_m9 104 rfl) rfl
theorem q2055 : (Jvm.Cond.interfaceEntry "TrophyPlates" (246 : Nat)) ∈ lw_tbl := lw_at lw_m9 105 rfl
theorem q2056 : (Jvm.Cond.methodLink "TrophyPlates" (246 : Nat) ({ cls := "java/util/Map$Entry", name := "getValue", desc := "()Ljava/lang/Object;" } : Jvm.MethodName)) ∈ lw_all := lw_g (lw_at lw_m9 106 rfl) rfl
theorem q2057 : (Jvm.Cond.classLink "TrophyPlates" (249 : Nat) "java/lang/Integer") ∈ lw_all := lw_g (lw_at lw_m9 107 rfl) rfl
theorem q2058 : (Jvm.Cond.methodLink "TrophyPlates" (251 : Nat) ({ cls := "java/lang/Integer", name := "intValue", desc := "()I" } : Jvm.MethodName)) ∈ lw_all := lw_g (lw_at lw_m9 108 rfl) rfl
theorem q2059 : (Jvm.Cond.interfaceEntry "TrophyPlates" (254 : Nat)) ∈ lw_tbl := lw_at lw_m9 109 rfl
theorem q2060 : (Jvm.Cond.methodLink "TrophyPlates" (254 : Nat) ({ cls := "java/util/Map$Entry", name := "getKey", desc := "()Ljava/lang/Object;" } : Jvm.MethodName)) ∈ lw_all := lw_g (lw_at lw_m9 110 rfl) rfl
theorem q2062 : (Jvm.Cond.instanceMethod ({ cls := "TrophyPlates", name := "shield", desc := "(II)I" } : Jvm.MethodName)) ∈ lw_all := lw_g (lw_at lw_m9 112 rfl) rfl
theorem q2063 : (Jvm.Cond.selects "TrophyPlates" ({ cls := "TrophyPlates", name := "shield", desc := "(II)I" } : Jvm.MethodName) ({ cls := "TrophyPlates", name := "shield", desc := "(II)I" } : Jvm.MethodName)) ∈ lw_all := lw_g (lw_at lw_m9 113 rfl) rfl
theorem q2064 : (Jvm.Cond.code ({ cls := "TrophyPlates", name := "shield", desc := "(II)I" } : Jvm.MethodName) prog_1_method_26_code (6 : Nat) (Option.some Jvm.ClassFile.FieldType.int)) ∈ lw_all := lw_g (lw_at lw_m9 114 rfl) rfl
theorem q2065 : (Jvm.Cond.methodLink "TrophyPlates" (270 : Nat) ({ cls := "TrophyPlates$Shop", name := "platesOn", desc := "(I)I" } : Jvm.MethodName)) ∈ lw_all := lw_g (lw_at lw_m9 115 rfl) rfl
theorem q2066 : (Jvm.Cond.methodLink "TrophyPlates" (273 : Nat) ({ cls := "TrophyPlates$Shop", name := "year", desc := "(IZ)I" } : Jvm.MethodName)) ∈ lw_all := lw_g (lw_at lw_m9 116 rfl) rfl
theorem q2068 : (Jvm.Cond.instanceMethod ({ cls := "TrophyPlates", name := "plateFor", desc := "(II)I" } : Jvm.MethodName)) ∈ lw_all := lw_g (lw_at lw_m9 118 rfl) rfl
theorem q2069 : (Jvm.Cond.selects "TrophyPlates" ({ cls := "TrophyPlates", name := "plateFor", desc := "(II)I" } : Jvm.MethodName) ({ cls := "TrophyPlates", name := "plateFor", desc := "(II)I" } : Jvm.MethodName)) ∈ lw_all := lw_g (lw_at lw_m9 119 rfl) rfl
theorem q2070 : (Jvm.Cond.code ({ cls := "TrophyPlates", name := "plateFor", desc := "(II)I" } : Jvm.MethodName) prog_1_method_27_code (3 : Nat) (Option.some Jvm.ClassFile.FieldType.int)) ∈ lw_all := lw_g (lw_at lw_m9 120 rfl) rfl
theorem q2072 : (Jvm.Cond.instanceMethod ({ cls := "TrophyPlates", name := "orderOf", desc := "(II)I" } : Jvm.MethodName)) ∈ lw_all := lw_g (lw_at lw_m9 122 rfl) rfl
theorem q2073 : (Jvm.Cond.selects "TrophyPlates" ({ cls := "TrophyPlates", name := "orderOf", desc := "(II)I" } : Jvm.MethodName) ({ cls := "TrophyPlates", name := "orderOf", desc := "(II)I" } : Jvm.MethodName)) ∈ lw_all := lw_g (lw_at lw_m9 123 rfl) rfl
theorem q2074 : (Jvm.Cond.code ({ cls := "TrophyPlates", name := "orderOf", desc := "(II)I" } : Jvm.MethodName) prog_1_method_28_code (4 : Nat) (Option.some Jvm.ClassFile.FieldType.int)) ∈ lw_all := lw_g (lw_at lw_m9 124 rfl) rfl
theorem q2075 : (Jvm.Cond.methodLink "TrophyPlates" (288 : Nat) ({ cls := "java/lang/String", name := "length", desc := "()I" } : Jvm.MethodName)) ∈ lw_all := lw_g (lw_at lw_m9 125 rfl) rfl
theorem q2076 : (Jvm.Cond.methodLink "TrophyPlates" (291 : Nat) ({ cls := "TrophyPlates$Order", name := "length", desc := "()I" } : Jvm.MethodName)) ∈ lw_all := lw_g (lw_at lw_m9 126 rfl) rfl
theorem q2077 : (Jvm.Cond.methodLink "TrophyPlates" (292 : Nat) ({ cls := "TrophyPlates$Order", name := "effort", desc := "()I" } : Jvm.MethodName)) ∈ lw_all := lw_g (lw_at lw_m9 127 rfl) rfl
theorem q2079 : (Jvm.Cond.instanceMethod ({ cls := "TrophyPlates", name := "letter", desc := "(II)I" } : Jvm.MethodName)) ∈ lw_all := lw_g (lw_at lw_m9 129 rfl) rfl
theorem q2080 : (Jvm.Cond.selects "TrophyPlates" ({ cls := "TrophyPlates", name := "letter", desc := "(II)I" } : Jvm.MethodName) ({ cls := "TrophyPlates", name := "letter", desc := "(II)I" } : Jvm.MethodName)) ∈ lw_all := lw_g (lw_at lw_m9 130 rfl) rfl
theorem q2081 : (Jvm.Cond.code ({ cls := "TrophyPlates", name := "letter", desc := "(II)I" } : Jvm.MethodName) prog_1_method_29_code (4 : Nat) (Option.some Jvm.ClassFile.FieldType.int)) ∈ lw_all := lw_g (lw_at lw_m9 131 rfl) rfl
theorem q2082 : (Jvm.Cond.methodLink "TrophyPlates" (295 : Nat) ({ cls := "java/lang/String", name := "charAt", desc := "(I)C" } : Jvm.MethodName)) ∈ lw_all := lw_g (lw_at lw_m9 132 rfl) rfl
theorem q2084 : (Jvm.Cond.instanceMethod ({ cls := "TrophyPlates", name := "lengthOf", desc := "(I)I" } : Jvm.MethodName)) ∈ lw_all := lw_g (lw_at lw_m9 134 rfl) rfl
theorem q2085 : (Jvm.Cond.selects "TrophyPlates" ({ cls := "TrophyPlates", name := "lengthOf", desc := "(I)I" } : Jvm.MethodName) ({ cls := "TrophyPlates", name := "lengthOf", desc := "(I)I" } : Jvm.MethodName)) ∈ lw_all := lw_g (lw_at lw_m9 135 rfl) rfl
theorem q2086 : (Jvm.Cond.code ({ cls := "TrophyPlates", name := "lengthOf", desc := "(I)I" } : Jvm.MethodName) prog_1_method_30_code (2 : Nat) (Option.some Jvm.ClassFile.FieldType.int)) ∈ lw_all := lw_g (lw_at lw_m9 136 rfl) rfl
theorem q2087 : (Jvm.Cond.methodLink "TrophyPlates" (296 : Nat) ({ cls := "TrophyPlates", name := "lengthOf", desc := "(Ljava/lang/CharSequence;I)I" } : Jvm.MethodName)) ∈ lw_all := lw_g (lw_at lw_m9 137 rfl) rfl
theorem q2089 : (Jvm.Cond.instanceMethod ({ cls := "TrophyPlates", name := "plateFound", desc := "(III)I" } : Jvm.MethodName)) ∈ lw_all := lw_g (lw_at lw_m9 139 rfl) rfl
theorem q2090 : (Jvm.Cond.selects "TrophyPlates" ({ cls := "TrophyPlates", name := "plateFound", desc := "(III)I" } : Jvm.MethodName) ({ cls := "TrophyPlates", name := "plateFound", desc := "(III)I" } : Jvm.MethodName)) ∈ lw_all := lw_g (lw_at lw_m9 140 rfl) rfl
theorem q2091 : (Jvm.Cond.code ({ cls := "TrophyPlates", name := "plateFound", desc := "(III)I" } : Jvm.MethodName) prog_1_method_31_code (5 : Nat) (Option.some Jvm.ClassFile.FieldType.int)) ∈ lw_all := lw_g (lw_at lw_m9 141 rfl) rfl
theorem q2092 : (Jvm.Cond.methodLink "TrophyPlates" (300 : Nat) ({ cls := "TrophyPlates$Shop", name := "find", desc := "(II)LTrophyPlates$Found;" } : Jvm.MethodName)) ∈ lw_all := lw_g (lw_at lw_m9 142 rfl) rfl
theorem q2094 : (Jvm.Cond.instanceMethod ({ cls := "TrophyPlates", name := "doneIn", desc := "(I)I" } : Jvm.MethodName)) ∈ lw_all := lw_g (lw_at lw_m9 144 rfl) rfl
theorem q2095 : (Jvm.Cond.selects "TrophyPlates" ({ cls := "TrophyPlates", name := "doneIn", desc := "(I)I" } : Jvm.MethodName) ({ cls := "TrophyPlates", name := "doneIn", desc := "(I)I" } : Jvm.MethodName)) ∈ lw_all := lw_g (lw_at lw_m9 145 rfl) rfl
theorem q2096 : (Jvm.Cond.code ({ cls := "TrophyPlates", name := "doneIn", desc := "(I)I" } : Jvm.MethodName) prog_1_method_32_code (3 : Nat) (Option.some Jvm.ClassFile.FieldType.int)) ∈ lw_all := lw_g (lw_at lw_m9 146 rfl) rfl
theorem q2097 : (Jvm.Cond.methodLink "TrophyPlates" (313 : Nat) ({ cls := "TrophyPlates$Shop", name := "times", desc := "()Ljava/util/Map;" } : Jvm.MethodName)) ∈ lw_all := lw_g (lw_at lw_m9 147 rfl) rfl
theorem q2103 : (Jvm.Cond.interfaceEntry "TrophyPlates" (317 : Nat)) ∈ lw_tbl := lw_at lw_m9 153 rfl
theorem q2104 : (Jvm.Cond.methodLink "TrophyPlates" (317 : Nat) ({ cls := "java/util/Map", name := "get", desc := "(Ljava/lang/Object;)Ljava/lang/Object;" } : Jvm.MethodName)) ∈ lw_all := lw_g (lw_at lw_m9 154 rfl) rfl
theorem q2106 : (Jvm.Cond.instanceMethod ({ cls := "TrophyPlates", name := "moved", desc := "(I)I" } : Jvm.MethodName)) ∈ lw_all := lw_g (lw_at lw_m9 156 rfl) rfl
theorem q2107 : (Jvm.Cond.selects "TrophyPlates" ({ cls := "TrophyPlates", name := "moved", desc := "(I)I" } : Jvm.MethodName) ({ cls := "TrophyPlates", name := "moved", desc := "(I)I" } : Jvm.MethodName)) ∈ lw_all := lw_g (lw_at lw_m9 157 rfl) rfl
theorem q2108 : (Jvm.Cond.code ({ cls := "TrophyPlates", name := "moved", desc := "(I)I" } : Jvm.MethodName) prog_1_method_33_code (9 : Nat) (Option.some Jvm.ClassFile.FieldType.int)) ∈ lw_all := lw_g (lw_at lw_m9 158 rfl) rfl
theorem q2109 : (Jvm.Cond.interfaceEntry "TrophyPlates" (320 : Nat)) ∈ lw_tbl := lw_at lw_m9 159 rfl
theorem q2110 : (Jvm.Cond.methodLink "TrophyPlates" (320 : Nat) ({ cls := "java/util/List", name := "iterator", desc := "()Ljava/util/Iterator;" } : Jvm.MethodName)) ∈ lw_all := lw_g (lw_at lw_m9 160 rfl) rfl
theorem q2111 : (Jvm.Cond.interfaceEntry "TrophyPlates" (321 : Nat)) ∈ lw_tbl := lw_at lw_m9 161 rfl
theorem q2112 : (Jvm.Cond.methodLink "TrophyPlates" (321 : Nat) ({ cls := "java/util/Map", name := "containsKey", desc := "(Ljava/lang/Object;)Z" } : Jvm.MethodName)) ∈ lw_all := lw_g (lw_at lw_m9 162 rfl) rfl
theorem q2120 : (Jvm.Cond.constant "TrophyPlates" (324 : Nat) (100000 : Int32)) ∈ lw_all := lw_g (lw_at lw_m9 170 rfl) rfl
theorem q2122 : (Jvm.Cond.instanceMethod ({ cls := "TrophyPlates", name := "largestSize", desc := "(I)I" } : Jvm.MethodName)) ∈ lw_all := lw_g (lw_at lw_m9 172 rfl) rfl
theorem q2123 : (Jvm.Cond.selects "TrophyPlates" ({ cls := "TrophyPlates", name := "largestSize", desc := "(I)I" } : Jvm.MethodName) ({ cls := "TrophyPlates", name := "largestSize", desc := "(I)I" } : Jvm.MethodName)) ∈ lw_all := lw_g (lw_at lw_m9 173 rfl) rfl
theorem q2124 : (Jvm.Cond.code ({ cls := "TrophyPlates", name := "largestSize", desc := "(I)I" } : Jvm.MethodName) prog_1_method_34_code (3 : Nat) (Option.some Jvm.ClassFile.FieldType.int)) ∈ lw_all := lw_g (lw_at lw_m9 174 rfl) rfl
theorem q2411 : (Jvm.Cond.castable "TrophyPlates" "java/lang/Object") ∈ lw_tbl := lw_at lw_m10 221 rfl
theorem in_X0 : ∀ w ∈ wsX00, w ∈ lw_all := lw_in wsX00 [289, 291, 293] (by decide +kernel) (by decide +kernel)
/-! TrophyPlates$Shop -/
set_option maxRecDepth 100000
def RX1 : String := "TrophyPlates$Shop"
def TX1 : u_T := fun k => match k with
  | 0 => ("TrophyPlates$Shop", "plates", "Ljava/util/List;", true)
  | 1 => ("TrophyPlates$Shop", "orders", "Ljava/util/List;", true)
  | 2 => ("TrophyPlates$Shop", "fixed", "Ljava/util/Map;", true)
  | 3 => ("TrophyPlates$Shop", "places", "[I", true)
  | 4 => ("TrophyPlates$Shop", "shields", "I", false)
  | 5 => ("TrophyPlates$Shop", "atWork", "LTrophyPlates$Order;", false)
  | 6 => ("TrophyPlates$Shop", "plate", "I", false)
  | 7 => ("TrophyPlates$Shop", "side", "I", false)
  | 8 => ("TrophyPlates$Shop", "left", "I", false)
  | 9 => ("TrophyPlates$Shop", "done", "I", false)
  | 10 => ("TrophyPlates$Shop", "slips", "I", false)
  | _ => ("TrophyPlates$Shop", "ground", "I", false)
def tyX1 : Nat → FieldType := fun k => match k with
  | 0 => .object "java/util/List"
  | 1 => .object "java/util/List"
  | 2 => .object "java/util/Map"
  | 3 => .array .int
  | 4 => .int
  | 5 => .object "TrophyPlates$Order"
  | 6 => .int
  | 7 => .int
  | 8 => .int
  | 9 => .int
  | 10 => .int
  | _ => .int
abbrev wsX10 : List Cond := u_ws RX1 TX1 12
theorem nmX1 : ∀ a, a < 12 → ∀ b, b < 12 → a ≠ b → (TX1 a).2.1 ≠ (TX1 b).2.1 := by decide +kernel
theorem tyX1_ok : ∀ k, k < 12 → parseFieldDescriptor (TX1 k).2.2.1 = some (tyX1 k) := by decide +kernel
abbrev cX1_init : ByteArray := prog_6_method_1_code
def yX1_init : MethodName := ⟨RX1, "<init>", "()V"⟩
def dkwX1_init_2 : List UInt8 := [181, 0, 32, 42, 16, 247, 181, 0, 36, 42, 16, 247, 181, 0, 39, 177]
abbrev dktX1_init_2 : List UInt8 := dkwX1_init_2 ++ []
def dkwX1_init_1 : List UInt8 := [181, 0, 18, 42, 187, 0, 21, 89, 183, 0, 23, 181, 0, 24, 42, 6, 188, 10, 181, 0, 28, 42, 16, 247]
abbrev dktX1_init_1 : List UInt8 := dkwX1_init_1 ++ dktX1_init_2
def dkwX1_init_0 : List UInt8 := [42, 183, 0, 3, 42, 187, 0, 9, 89, 183, 0, 11, 181, 0, 12, 42, 187, 0, 9, 89, 183, 0, 11]
abbrev dktX1_init_0 : List UInt8 := dkwX1_init_0 ++ dktX1_init_1
theorem dksX1_init_0 : cX1_init.data.toList.drop 0 = dktX1_init_0 := by decide +kernel
theorem dksX1_init_1 : cX1_init.data.toList.drop 23 = dktX1_init_1 := dk_seg dksX1_init_0 23 rfl rfl
theorem dksX1_init_2 : cX1_init.data.toList.drop 47 = dktX1_init_2 := dk_seg dksX1_init_1 24 rfl rfl
theorem dX1_init_0 : decode cX1_init 0 = .ok (.aload_n 0, 1) := dk_42 (dk_at dksX1_init_0 0 rfl rfl)
theorem dX1_init_1 : decode cX1_init 1 = .ok (.invokespecial 3, 3) := dk_183 0 3 (dk_at dksX1_init_0 1 rfl rfl)
theorem dX1_init_4 : decode cX1_init 4 = .ok (.aload_n 0, 1) := dk_42 (dk_at dksX1_init_0 4 rfl rfl)
theorem dX1_init_5 : decode cX1_init 5 = .ok (.new 9, 3) := dk_187 0 9 (dk_at dksX1_init_0 5 rfl rfl)
theorem dX1_init_8 : decode cX1_init 8 = .ok (.dup, 1) := dk_89 (dk_at dksX1_init_0 8 rfl rfl)
theorem dX1_init_9 : decode cX1_init 9 = .ok (.invokespecial 11, 3) := dk_183 0 11 (dk_at dksX1_init_0 9 rfl rfl)
theorem dX1_init_12 : decode cX1_init 12 = .ok (.putfield 12, 3) := dk_181 0 12 (dk_at dksX1_init_0 12 rfl rfl)
theorem dX1_init_15 : decode cX1_init 15 = .ok (.aload_n 0, 1) := dk_42 (dk_at dksX1_init_0 15 rfl rfl)
theorem dX1_init_16 : decode cX1_init 16 = .ok (.new 9, 3) := dk_187 0 9 (dk_at dksX1_init_0 16 rfl rfl)
theorem dX1_init_19 : decode cX1_init 19 = .ok (.dup, 1) := dk_89 (dk_at dksX1_init_0 19 rfl rfl)
theorem dX1_init_20 : decode cX1_init 20 = .ok (.invokespecial 11, 3) := dk_183 0 11 (dk_at dksX1_init_0 20 rfl rfl)
theorem dX1_init_23 : decode cX1_init 23 = .ok (.putfield 18, 3) := dk_181 0 18 (dk_at dksX1_init_1 0 rfl rfl)
theorem dX1_init_26 : decode cX1_init 26 = .ok (.aload_n 0, 1) := dk_42 (dk_at dksX1_init_1 3 rfl rfl)
theorem dX1_init_27 : decode cX1_init 27 = .ok (.new 21, 3) := dk_187 0 21 (dk_at dksX1_init_1 4 rfl rfl)
theorem dX1_init_30 : decode cX1_init 30 = .ok (.dup, 1) := dk_89 (dk_at dksX1_init_1 7 rfl rfl)
theorem dX1_init_31 : decode cX1_init 31 = .ok (.invokespecial 23, 3) := dk_183 0 23 (dk_at dksX1_init_1 8 rfl rfl)
theorem dX1_init_34 : decode cX1_init 34 = .ok (.putfield 24, 3) := dk_181 0 24 (dk_at dksX1_init_1 11 rfl rfl)
theorem dX1_init_37 : decode cX1_init 37 = .ok (.aload_n 0, 1) := dk_42 (dk_at dksX1_init_1 14 rfl rfl)
theorem dX1_init_38 : decode cX1_init 38 = .ok (.iconst 3, 1) := dk_6 (dk_at dksX1_init_1 15 rfl rfl)
theorem dX1_init_39 : decode cX1_init 39 = .ok (.newarray .int, 2) := dk_188_10 (dk_at dksX1_init_1 16 rfl rfl)
theorem dX1_init_41 : decode cX1_init 41 = .ok (.putfield 28, 3) := dk_181 0 28 (dk_at dksX1_init_1 18 rfl rfl)
theorem dX1_init_44 : decode cX1_init 44 = .ok (.aload_n 0, 1) := dk_42 (dk_at dksX1_init_1 21 rfl rfl)
theorem dX1_init_45 : decode cX1_init 45 = .ok (.bipush (-9), 2) := dk_16 247 (dk_at dksX1_init_1 22 rfl rfl)
theorem dX1_init_47 : decode cX1_init 47 = .ok (.putfield 32, 3) := dk_181 0 32 (dk_at dksX1_init_2 0 rfl rfl)
theorem dX1_init_50 : decode cX1_init 50 = .ok (.aload_n 0, 1) := dk_42 (dk_at dksX1_init_2 3 rfl rfl)
theorem dX1_init_51 : decode cX1_init 51 = .ok (.bipush (-9), 2) := dk_16 247 (dk_at dksX1_init_2 4 rfl rfl)
theorem dX1_init_53 : decode cX1_init 53 = .ok (.putfield 36, 3) := dk_181 0 36 (dk_at dksX1_init_2 6 rfl rfl)
theorem dX1_init_56 : decode cX1_init 56 = .ok (.aload_n 0, 1) := dk_42 (dk_at dksX1_init_2 9 rfl rfl)
theorem dX1_init_57 : decode cX1_init 57 = .ok (.bipush (-9), 2) := dk_16 247 (dk_at dksX1_init_2 10 rfl rfl)
theorem dX1_init_59 : decode cX1_init 59 = .ok (.putfield 39, 3) := dk_181 0 39 (dk_at dksX1_init_2 12 rfl rfl)
theorem dX1_init_62 : decode cX1_init 62 = .ok (.return_, 1) := dk_177 (dk_at dksX1_init_2 15 rfl rfl)
abbrev cX1_copy : ByteArray := prog_6_method_2_code
def yX1_copy : MethodName := ⟨RX1, "copy", "()LTrophyPlates$Shop;"⟩
def dkwX1_copy_10 : List UInt8 := [180, 0, 112, 181, 0, 112, 43, 42, 180, 0, 115, 181, 0, 115, 43, 176]
abbrev dktX1_copy_10 : List UInt8 := dkwX1_copy_10 ++ []
def dkwX1_copy_9 : List UInt8 := [180, 0, 36, 181, 0, 36, 43, 42, 180, 0, 39, 181, 0, 39, 43, 42, 180, 0, 109, 181, 0, 109, 43, 42]
abbrev dktX1_copy_9 : List UInt8 := dkwX1_copy_9 ++ dktX1_copy_10
def dkwX1_copy_8 : List UInt8 := [180, 0, 102, 181, 0, 102, 43, 42, 180, 0, 105, 181, 0, 105, 43, 42, 180, 0, 32, 181, 0, 32, 43, 42]
abbrev dktX1_copy_8 : List UInt8 := dkwX1_copy_8 ++ dktX1_copy_9
def dkwX1_copy_7 : List UInt8 := [192, 0, 90, 58, 4, 167, 255, 205, 42, 180, 0, 28, 3, 43, 180, 0, 28, 3, 6, 184, 0, 96, 43, 42]
abbrev dktX1_copy_7 : List UInt8 := dkwX1_copy_7 ++ dktX1_copy_8
def dkwX1_copy_6 : List UInt8 := [45, 185, 0, 82, 1, 0, 192, 0, 85, 45, 185, 0, 87, 1, 0, 192, 0, 90, 185, 0, 92, 3, 0]
abbrev dktX1_copy_6 : List UInt8 := dkwX1_copy_6 ++ dktX1_copy_7
def dkwX1_copy_5 : List UInt8 := [77, 44, 185, 0, 49, 1, 0, 153, 0, 48, 44, 185, 0, 55, 1, 0, 192, 0, 80, 78, 43, 180, 0, 24]
abbrev dktX1_copy_5 : List UInt8 := dkwX1_copy_5 ++ dktX1_copy_6
def dkwX1_copy_4 : List UInt8 := [185, 0, 65, 2, 0, 54, 4, 167, 255, 225, 42, 180, 0, 24, 185, 0, 71, 1, 0, 185, 0, 77, 1, 0]
abbrev dktX1_copy_4 : List UInt8 := dkwX1_copy_4 ++ dktX1_copy_5
def dkwX1_copy_3 : List UInt8 := [185, 0, 49, 1, 0, 153, 0, 28, 44, 185, 0, 55, 1, 0, 192, 0, 69, 78, 43, 180, 0, 18, 45]
abbrev dktX1_copy_3 : List UInt8 := dkwX1_copy_3 ++ dktX1_copy_4
def dkwX1_copy_2 : List UInt8 := [185, 0, 65, 2, 0, 87, 167, 255, 223, 42, 180, 0, 18, 185, 0, 43, 1, 0, 77, 44]
abbrev dktX1_copy_2 : List UInt8 := dkwX1_copy_2 ++ dktX1_copy_3
def dkwX1_copy_1 : List UInt8 := [153, 0, 30, 44, 185, 0, 55, 1, 0, 192, 0, 59, 78, 43, 180, 0, 12, 45, 182, 0, 61]
abbrev dktX1_copy_1 : List UInt8 := dkwX1_copy_1 ++ dktX1_copy_2
def dkwX1_copy_0 : List UInt8 := [187, 0, 13, 89, 183, 0, 42, 76, 42, 180, 0, 12, 185, 0, 43, 1, 0, 77, 44, 185, 0, 49, 1, 0]
abbrev dktX1_copy_0 : List UInt8 := dkwX1_copy_0 ++ dktX1_copy_1
theorem dksX1_copy_0 : cX1_copy.data.toList.drop 0 = dktX1_copy_0 := by decide +kernel
theorem dksX1_copy_1 : cX1_copy.data.toList.drop 24 = dktX1_copy_1 := dk_seg dksX1_copy_0 24 rfl rfl
theorem dksX1_copy_2 : cX1_copy.data.toList.drop 45 = dktX1_copy_2 := dk_seg dksX1_copy_1 21 rfl rfl
theorem dksX1_copy_3 : cX1_copy.data.toList.drop 65 = dktX1_copy_3 := dk_seg dksX1_copy_2 20 rfl rfl
theorem dksX1_copy_4 : cX1_copy.data.toList.drop 88 = dktX1_copy_4 := dk_seg dksX1_copy_3 23 rfl rfl
theorem dksX1_copy_5 : cX1_copy.data.toList.drop 112 = dktX1_copy_5 := dk_seg dksX1_copy_4 24 rfl rfl
theorem dksX1_copy_6 : cX1_copy.data.toList.drop 136 = dktX1_copy_6 := dk_seg dksX1_copy_5 24 rfl rfl
theorem dksX1_copy_7 : cX1_copy.data.toList.drop 159 = dktX1_copy_7 := dk_seg dksX1_copy_6 23 rfl rfl
theorem dksX1_copy_8 : cX1_copy.data.toList.drop 183 = dktX1_copy_8 := dk_seg dksX1_copy_7 24 rfl rfl
theorem dksX1_copy_9 : cX1_copy.data.toList.drop 207 = dktX1_copy_9 := dk_seg dksX1_copy_8 24 rfl rfl
theorem dksX1_copy_10 : cX1_copy.data.toList.drop 231 = dktX1_copy_10 := dk_seg dksX1_copy_9 24 rfl rfl
theorem dX1_copy_0 : decode cX1_copy 0 = .ok (.new 13, 3) := dk_187 0 13 (dk_at dksX1_copy_0 0 rfl rfl)
theorem dX1_copy_3 : decode cX1_copy 3 = .ok (.dup, 1) := dk_89 (dk_at dksX1_copy_0 3 rfl rfl)
theorem dX1_copy_4 : decode cX1_copy 4 = .ok (.invokespecial 42, 3) := dk_183 0 42 (dk_at dksX1_copy_0 4 rfl rfl)
theorem dX1_copy_7 : decode cX1_copy 7 = .ok (.astore_n 1, 1) := dk_76 (dk_at dksX1_copy_0 7 rfl rfl)
theorem dX1_copy_8 : decode cX1_copy 8 = .ok (.aload_n 0, 1) := dk_42 (dk_at dksX1_copy_0 8 rfl rfl)
theorem dX1_copy_9 : decode cX1_copy 9 = .ok (.getfield 12, 3) := dk_180 0 12 (dk_at dksX1_copy_0 9 rfl rfl)
theorem dX1_copy_12 : decode cX1_copy 12 = .ok (.invokeinterface 43 1, 5) := by decide +kernel
theorem dX1_copy_17 : decode cX1_copy 17 = .ok (.astore_n 2, 1) := dk_77 (dk_at dksX1_copy_0 17 rfl rfl)
theorem dX1_copy_18 : decode cX1_copy 18 = .ok (.aload_n 2, 1) := dk_44 (dk_at dksX1_copy_0 18 rfl rfl)
theorem dX1_copy_19 : decode cX1_copy 19 = .ok (.invokeinterface 49 1, 5) := by decide +kernel
theorem dX1_copy_24 : decode cX1_copy 24 = .ok (.ifCond .eq 30, 3) := dk_153 0 30 (dk_at dksX1_copy_1 0 rfl rfl)
theorem dX1_copy_27 : decode cX1_copy 27 = .ok (.aload_n 2, 1) := dk_44 (dk_at dksX1_copy_1 3 rfl rfl)
theorem dX1_copy_28 : decode cX1_copy 28 = .ok (.invokeinterface 55 1, 5) := by decide +kernel
theorem dX1_copy_33 : decode cX1_copy 33 = .ok (.checkcast 59, 3) := dk_192 0 59 (dk_at dksX1_copy_1 9 rfl rfl)
theorem dX1_copy_36 : decode cX1_copy 36 = .ok (.astore_n 3, 1) := dk_78 (dk_at dksX1_copy_1 12 rfl rfl)
theorem dX1_copy_37 : decode cX1_copy 37 = .ok (.aload_n 1, 1) := dk_43 (dk_at dksX1_copy_1 13 rfl rfl)
theorem dX1_copy_38 : decode cX1_copy 38 = .ok (.getfield 12, 3) := dk_180 0 12 (dk_at dksX1_copy_1 14 rfl rfl)
theorem dX1_copy_41 : decode cX1_copy 41 = .ok (.aload_n 3, 1) := dk_45 (dk_at dksX1_copy_1 17 rfl rfl)
theorem dX1_copy_42 : decode cX1_copy 42 = .ok (.invokevirtual 61, 3) := dk_182 0 61 (dk_at dksX1_copy_1 18 rfl rfl)
theorem dX1_copy_45 : decode cX1_copy 45 = .ok (.invokeinterface 65 2, 5) := by decide +kernel
theorem dX1_copy_50 : decode cX1_copy 50 = .ok (.pop, 1) := dk_87 (dk_at dksX1_copy_2 5 rfl rfl)
theorem dX1_copy_51 : decode cX1_copy 51 = .ok (.goto (-33), 3) := dk_167 255 223 (dk_at dksX1_copy_2 6 rfl rfl)
theorem dX1_copy_54 : decode cX1_copy 54 = .ok (.aload_n 0, 1) := dk_42 (dk_at dksX1_copy_2 9 rfl rfl)
theorem dX1_copy_55 : decode cX1_copy 55 = .ok (.getfield 18, 3) := dk_180 0 18 (dk_at dksX1_copy_2 10 rfl rfl)
theorem dX1_copy_58 : decode cX1_copy 58 = .ok (.invokeinterface 43 1, 5) := by decide +kernel
theorem dX1_copy_63 : decode cX1_copy 63 = .ok (.astore_n 2, 1) := dk_77 (dk_at dksX1_copy_2 18 rfl rfl)
theorem dX1_copy_64 : decode cX1_copy 64 = .ok (.aload_n 2, 1) := dk_44 (dk_at dksX1_copy_2 19 rfl rfl)
theorem dX1_copy_65 : decode cX1_copy 65 = .ok (.invokeinterface 49 1, 5) := by decide +kernel
theorem dX1_copy_70 : decode cX1_copy 70 = .ok (.ifCond .eq 28, 3) := dk_153 0 28 (dk_at dksX1_copy_3 5 rfl rfl)
theorem dX1_copy_73 : decode cX1_copy 73 = .ok (.aload_n 2, 1) := dk_44 (dk_at dksX1_copy_3 8 rfl rfl)
theorem dX1_copy_74 : decode cX1_copy 74 = .ok (.invokeinterface 55 1, 5) := by decide +kernel
theorem dX1_copy_79 : decode cX1_copy 79 = .ok (.checkcast 69, 3) := dk_192 0 69 (dk_at dksX1_copy_3 14 rfl rfl)
theorem dX1_copy_82 : decode cX1_copy 82 = .ok (.astore_n 3, 1) := dk_78 (dk_at dksX1_copy_3 17 rfl rfl)
theorem dX1_copy_83 : decode cX1_copy 83 = .ok (.aload_n 1, 1) := dk_43 (dk_at dksX1_copy_3 18 rfl rfl)
theorem dX1_copy_84 : decode cX1_copy 84 = .ok (.getfield 18, 3) := dk_180 0 18 (dk_at dksX1_copy_3 19 rfl rfl)
theorem dX1_copy_87 : decode cX1_copy 87 = .ok (.aload_n 3, 1) := dk_45 (dk_at dksX1_copy_3 22 rfl rfl)
theorem dX1_copy_88 : decode cX1_copy 88 = .ok (.invokeinterface 65 2, 5) := by decide +kernel
theorem dX1_copy_93 : decode cX1_copy 93 = .ok (.istore 4, 2) := dk_54 4 (dk_at dksX1_copy_4 5 rfl rfl)
theorem dX1_copy_95 : decode cX1_copy 95 = .ok (.goto (-31), 3) := dk_167 255 225 (dk_at dksX1_copy_4 7 rfl rfl)
theorem dX1_copy_98 : decode cX1_copy 98 = .ok (.aload_n 0, 1) := dk_42 (dk_at dksX1_copy_4 10 rfl rfl)
theorem dX1_copy_99 : decode cX1_copy 99 = .ok (.getfield 24, 3) := dk_180 0 24 (dk_at dksX1_copy_4 11 rfl rfl)
theorem dX1_copy_102 : decode cX1_copy 102 = .ok (.invokeinterface 71 1, 5) := by decide +kernel
theorem dX1_copy_107 : decode cX1_copy 107 = .ok (.invokeinterface 77 1, 5) := by decide +kernel
theorem dX1_copy_112 : decode cX1_copy 112 = .ok (.astore_n 2, 1) := dk_77 (dk_at dksX1_copy_5 0 rfl rfl)
theorem dX1_copy_113 : decode cX1_copy 113 = .ok (.aload_n 2, 1) := dk_44 (dk_at dksX1_copy_5 1 rfl rfl)
theorem dX1_copy_114 : decode cX1_copy 114 = .ok (.invokeinterface 49 1, 5) := by decide +kernel
theorem dX1_copy_119 : decode cX1_copy 119 = .ok (.ifCond .eq 48, 3) := dk_153 0 48 (dk_at dksX1_copy_5 7 rfl rfl)
theorem dX1_copy_122 : decode cX1_copy 122 = .ok (.aload_n 2, 1) := dk_44 (dk_at dksX1_copy_5 10 rfl rfl)
theorem dX1_copy_123 : decode cX1_copy 123 = .ok (.invokeinterface 55 1, 5) := by decide +kernel
theorem dX1_copy_128 : decode cX1_copy 128 = .ok (.checkcast 80, 3) := dk_192 0 80 (dk_at dksX1_copy_5 16 rfl rfl)
theorem dX1_copy_131 : decode cX1_copy 131 = .ok (.astore_n 3, 1) := dk_78 (dk_at dksX1_copy_5 19 rfl rfl)
theorem dX1_copy_132 : decode cX1_copy 132 = .ok (.aload_n 1, 1) := dk_43 (dk_at dksX1_copy_5 20 rfl rfl)
theorem dX1_copy_133 : decode cX1_copy 133 = .ok (.getfield 24, 3) := dk_180 0 24 (dk_at dksX1_copy_5 21 rfl rfl)
theorem dX1_copy_136 : decode cX1_copy 136 = .ok (.aload_n 3, 1) := dk_45 (dk_at dksX1_copy_6 0 rfl rfl)
theorem dX1_copy_137 : decode cX1_copy 137 = .ok (.invokeinterface 82 1, 5) := by decide +kernel
theorem dX1_copy_142 : decode cX1_copy 142 = .ok (.checkcast 85, 3) := dk_192 0 85 (dk_at dksX1_copy_6 6 rfl rfl)
theorem dX1_copy_145 : decode cX1_copy 145 = .ok (.aload_n 3, 1) := dk_45 (dk_at dksX1_copy_6 9 rfl rfl)
theorem dX1_copy_146 : decode cX1_copy 146 = .ok (.invokeinterface 87 1, 5) := by decide +kernel
theorem dX1_copy_151 : decode cX1_copy 151 = .ok (.checkcast 90, 3) := dk_192 0 90 (dk_at dksX1_copy_6 15 rfl rfl)
theorem dX1_copy_154 : decode cX1_copy 154 = .ok (.invokeinterface 92 3, 5) := by decide +kernel
theorem dX1_copy_159 : decode cX1_copy 159 = .ok (.checkcast 90, 3) := dk_192 0 90 (dk_at dksX1_copy_7 0 rfl rfl)
theorem dX1_copy_162 : decode cX1_copy 162 = .ok (.astore 4, 2) := dk_58 4 (dk_at dksX1_copy_7 3 rfl rfl)
theorem dX1_copy_164 : decode cX1_copy 164 = .ok (.goto (-51), 3) := dk_167 255 205 (dk_at dksX1_copy_7 5 rfl rfl)
theorem dX1_copy_167 : decode cX1_copy 167 = .ok (.aload_n 0, 1) := dk_42 (dk_at dksX1_copy_7 8 rfl rfl)
theorem dX1_copy_168 : decode cX1_copy 168 = .ok (.getfield 28, 3) := dk_180 0 28 (dk_at dksX1_copy_7 9 rfl rfl)
theorem dX1_copy_171 : decode cX1_copy 171 = .ok (.iconst 0, 1) := dk_3 (dk_at dksX1_copy_7 12 rfl rfl)
theorem dX1_copy_172 : decode cX1_copy 172 = .ok (.aload_n 1, 1) := dk_43 (dk_at dksX1_copy_7 13 rfl rfl)
theorem dX1_copy_173 : decode cX1_copy 173 = .ok (.getfield 28, 3) := dk_180 0 28 (dk_at dksX1_copy_7 14 rfl rfl)
theorem dX1_copy_176 : decode cX1_copy 176 = .ok (.iconst 0, 1) := dk_3 (dk_at dksX1_copy_7 17 rfl rfl)
theorem dX1_copy_177 : decode cX1_copy 177 = .ok (.iconst 3, 1) := dk_6 (dk_at dksX1_copy_7 18 rfl rfl)
theorem dX1_copy_178 : decode cX1_copy 178 = .ok (.invokestatic 96, 3) := dk_184 0 96 (dk_at dksX1_copy_7 19 rfl rfl)
theorem dX1_copy_181 : decode cX1_copy 181 = .ok (.aload_n 1, 1) := dk_43 (dk_at dksX1_copy_7 22 rfl rfl)
theorem dX1_copy_182 : decode cX1_copy 182 = .ok (.aload_n 0, 1) := dk_42 (dk_at dksX1_copy_7 23 rfl rfl)
theorem dX1_copy_183 : decode cX1_copy 183 = .ok (.getfield 102, 3) := dk_180 0 102 (dk_at dksX1_copy_8 0 rfl rfl)
theorem dX1_copy_186 : decode cX1_copy 186 = .ok (.putfield 102, 3) := dk_181 0 102 (dk_at dksX1_copy_8 3 rfl rfl)
theorem dX1_copy_189 : decode cX1_copy 189 = .ok (.aload_n 1, 1) := dk_43 (dk_at dksX1_copy_8 6 rfl rfl)
theorem dX1_copy_190 : decode cX1_copy 190 = .ok (.aload_n 0, 1) := dk_42 (dk_at dksX1_copy_8 7 rfl rfl)
theorem dX1_copy_191 : decode cX1_copy 191 = .ok (.getfield 105, 3) := dk_180 0 105 (dk_at dksX1_copy_8 8 rfl rfl)
theorem dX1_copy_194 : decode cX1_copy 194 = .ok (.putfield 105, 3) := dk_181 0 105 (dk_at dksX1_copy_8 11 rfl rfl)
theorem dX1_copy_197 : decode cX1_copy 197 = .ok (.aload_n 1, 1) := dk_43 (dk_at dksX1_copy_8 14 rfl rfl)
theorem dX1_copy_198 : decode cX1_copy 198 = .ok (.aload_n 0, 1) := dk_42 (dk_at dksX1_copy_8 15 rfl rfl)
theorem dX1_copy_199 : decode cX1_copy 199 = .ok (.getfield 32, 3) := dk_180 0 32 (dk_at dksX1_copy_8 16 rfl rfl)
theorem dX1_copy_202 : decode cX1_copy 202 = .ok (.putfield 32, 3) := dk_181 0 32 (dk_at dksX1_copy_8 19 rfl rfl)
theorem dX1_copy_205 : decode cX1_copy 205 = .ok (.aload_n 1, 1) := dk_43 (dk_at dksX1_copy_8 22 rfl rfl)
theorem dX1_copy_206 : decode cX1_copy 206 = .ok (.aload_n 0, 1) := dk_42 (dk_at dksX1_copy_8 23 rfl rfl)
theorem dX1_copy_207 : decode cX1_copy 207 = .ok (.getfield 36, 3) := dk_180 0 36 (dk_at dksX1_copy_9 0 rfl rfl)
theorem dX1_copy_210 : decode cX1_copy 210 = .ok (.putfield 36, 3) := dk_181 0 36 (dk_at dksX1_copy_9 3 rfl rfl)
theorem dX1_copy_213 : decode cX1_copy 213 = .ok (.aload_n 1, 1) := dk_43 (dk_at dksX1_copy_9 6 rfl rfl)
theorem dX1_copy_214 : decode cX1_copy 214 = .ok (.aload_n 0, 1) := dk_42 (dk_at dksX1_copy_9 7 rfl rfl)
theorem dX1_copy_215 : decode cX1_copy 215 = .ok (.getfield 39, 3) := dk_180 0 39 (dk_at dksX1_copy_9 8 rfl rfl)
theorem dX1_copy_218 : decode cX1_copy 218 = .ok (.putfield 39, 3) := dk_181 0 39 (dk_at dksX1_copy_9 11 rfl rfl)
theorem dX1_copy_221 : decode cX1_copy 221 = .ok (.aload_n 1, 1) := dk_43 (dk_at dksX1_copy_9 14 rfl rfl)
theorem dX1_copy_222 : decode cX1_copy 222 = .ok (.aload_n 0, 1) := dk_42 (dk_at dksX1_copy_9 15 rfl rfl)
theorem dX1_copy_223 : decode cX1_copy 223 = .ok (.getfield 109, 3) := dk_180 0 109 (dk_at dksX1_copy_9 16 rfl rfl)
theorem dX1_copy_226 : decode cX1_copy 226 = .ok (.putfield 109, 3) := dk_181 0 109 (dk_at dksX1_copy_9 19 rfl rfl)
theorem dX1_copy_229 : decode cX1_copy 229 = .ok (.aload_n 1, 1) := dk_43 (dk_at dksX1_copy_9 22 rfl rfl)
theorem dX1_copy_230 : decode cX1_copy 230 = .ok (.aload_n 0, 1) := dk_42 (dk_at dksX1_copy_9 23 rfl rfl)
theorem dX1_copy_231 : decode cX1_copy 231 = .ok (.getfield 112, 3) := dk_180 0 112 (dk_at dksX1_copy_10 0 rfl rfl)
theorem dX1_copy_234 : decode cX1_copy 234 = .ok (.putfield 112, 3) := dk_181 0 112 (dk_at dksX1_copy_10 3 rfl rfl)
theorem dX1_copy_237 : decode cX1_copy 237 = .ok (.aload_n 1, 1) := dk_43 (dk_at dksX1_copy_10 6 rfl rfl)
theorem dX1_copy_238 : decode cX1_copy 238 = .ok (.aload_n 0, 1) := dk_42 (dk_at dksX1_copy_10 7 rfl rfl)
theorem dX1_copy_239 : decode cX1_copy 239 = .ok (.getfield 115, 3) := dk_180 0 115 (dk_at dksX1_copy_10 8 rfl rfl)
theorem dX1_copy_242 : decode cX1_copy 242 = .ok (.putfield 115, 3) := dk_181 0 115 (dk_at dksX1_copy_10 11 rfl rfl)
theorem dX1_copy_245 : decode cX1_copy 245 = .ok (.aload_n 1, 1) := dk_43 (dk_at dksX1_copy_10 14 rfl rfl)
theorem dX1_copy_246 : decode cX1_copy 246 = .ok (.areturn, 1) := dk_176 (dk_at dksX1_copy_10 15 rfl rfl)
abbrev cX1_isPlate : ByteArray := prog_6_method_3_code
def yX1_isPlate : MethodName := ⟨RX1, "isPlate", "(I)Z"⟩
def dkwX1_isPlate_0 : List UInt8 := [27, 3, 42, 180, 0, 12, 185, 0, 118, 1, 0, 4, 100, 184, 0, 122, 172]
abbrev dktX1_isPlate_0 : List UInt8 := dkwX1_isPlate_0 ++ []
theorem dksX1_isPlate_0 : cX1_isPlate.data.toList.drop 0 = dktX1_isPlate_0 := by decide +kernel
theorem dX1_isPlate_0 : decode cX1_isPlate 0 = .ok (.iload_n 1, 1) := dk_27 (dk_at dksX1_isPlate_0 0 rfl rfl)
theorem dX1_isPlate_1 : decode cX1_isPlate 1 = .ok (.iconst 0, 1) := dk_3 (dk_at dksX1_isPlate_0 1 rfl rfl)
theorem dX1_isPlate_2 : decode cX1_isPlate 2 = .ok (.aload_n 0, 1) := dk_42 (dk_at dksX1_isPlate_0 2 rfl rfl)
theorem dX1_isPlate_3 : decode cX1_isPlate 3 = .ok (.getfield 12, 3) := dk_180 0 12 (dk_at dksX1_isPlate_0 3 rfl rfl)
theorem dX1_isPlate_6 : decode cX1_isPlate 6 = .ok (.invokeinterface 118 1, 5) := by decide +kernel
theorem dX1_isPlate_11 : decode cX1_isPlate 11 = .ok (.iconst 1, 1) := dk_4 (dk_at dksX1_isPlate_0 11 rfl rfl)
theorem dX1_isPlate_12 : decode cX1_isPlate 12 = .ok (.isub, 1) := dk_100 (dk_at dksX1_isPlate_0 12 rfl rfl)
theorem dX1_isPlate_13 : decode cX1_isPlate 13 = .ok (.invokestatic 122, 3) := dk_184 0 122 (dk_at dksX1_isPlate_0 13 rfl rfl)
theorem dX1_isPlate_16 : decode cX1_isPlate 16 = .ok (.ireturn, 1) := dk_172 (dk_at dksX1_isPlate_0 16 rfl rfl)
abbrev cX1_platesIn : ByteArray := prog_6_method_7_code
def yX1_platesIn : MethodName := ⟨RX1, "platesIn", "(I)I"⟩
def dkwX1_platesIn_2 : List UInt8 := [3, 96, 61, 167, 255, 219, 28, 172]
abbrev dktX1_platesIn_2 : List UInt8 := dkwX1_platesIn_2 ++ []
def dkwX1_platesIn_1 : List UInt8 := [185, 0, 55, 1, 0, 192, 0, 59, 58, 4, 28, 25, 4, 180, 0, 136, 27, 160, 0, 7, 4, 167, 0, 4]
abbrev dktX1_platesIn_1 : List UInt8 := dkwX1_platesIn_1 ++ dktX1_platesIn_2
def dkwX1_platesIn_0 : List UInt8 := [3, 61, 42, 180, 0, 12, 185, 0, 43, 1, 0, 78, 45, 185, 0, 49, 1, 0, 153, 0, 34, 45]
abbrev dktX1_platesIn_0 : List UInt8 := dkwX1_platesIn_0 ++ dktX1_platesIn_1
theorem dksX1_platesIn_0 : cX1_platesIn.data.toList.drop 0 = dktX1_platesIn_0 := by decide +kernel
theorem dksX1_platesIn_1 : cX1_platesIn.data.toList.drop 22 = dktX1_platesIn_1 := dk_seg dksX1_platesIn_0 22 rfl rfl
theorem dksX1_platesIn_2 : cX1_platesIn.data.toList.drop 46 = dktX1_platesIn_2 := dk_seg dksX1_platesIn_1 24 rfl rfl
theorem dX1_platesIn_0 : decode cX1_platesIn 0 = .ok (.iconst 0, 1) := dk_3 (dk_at dksX1_platesIn_0 0 rfl rfl)
theorem dX1_platesIn_1 : decode cX1_platesIn 1 = .ok (.istore_n 2, 1) := dk_61 (dk_at dksX1_platesIn_0 1 rfl rfl)
theorem dX1_platesIn_2 : decode cX1_platesIn 2 = .ok (.aload_n 0, 1) := dk_42 (dk_at dksX1_platesIn_0 2 rfl rfl)
theorem dX1_platesIn_3 : decode cX1_platesIn 3 = .ok (.getfield 12, 3) := dk_180 0 12 (dk_at dksX1_platesIn_0 3 rfl rfl)
theorem dX1_platesIn_6 : decode cX1_platesIn 6 = .ok (.invokeinterface 43 1, 5) := by decide +kernel
theorem dX1_platesIn_11 : decode cX1_platesIn 11 = .ok (.astore_n 3, 1) := dk_78 (dk_at dksX1_platesIn_0 11 rfl rfl)
theorem dX1_platesIn_12 : decode cX1_platesIn 12 = .ok (.aload_n 3, 1) := dk_45 (dk_at dksX1_platesIn_0 12 rfl rfl)
theorem dX1_platesIn_13 : decode cX1_platesIn 13 = .ok (.invokeinterface 49 1, 5) := by decide +kernel
theorem dX1_platesIn_18 : decode cX1_platesIn 18 = .ok (.ifCond .eq 34, 3) := dk_153 0 34 (dk_at dksX1_platesIn_0 18 rfl rfl)
theorem dX1_platesIn_21 : decode cX1_platesIn 21 = .ok (.aload_n 3, 1) := dk_45 (dk_at dksX1_platesIn_0 21 rfl rfl)
theorem dX1_platesIn_22 : decode cX1_platesIn 22 = .ok (.invokeinterface 55 1, 5) := by decide +kernel
theorem dX1_platesIn_27 : decode cX1_platesIn 27 = .ok (.checkcast 59, 3) := dk_192 0 59 (dk_at dksX1_platesIn_1 5 rfl rfl)
theorem dX1_platesIn_30 : decode cX1_platesIn 30 = .ok (.astore 4, 2) := dk_58 4 (dk_at dksX1_platesIn_1 8 rfl rfl)
theorem dX1_platesIn_32 : decode cX1_platesIn 32 = .ok (.iload_n 2, 1) := dk_28 (dk_at dksX1_platesIn_1 10 rfl rfl)
theorem dX1_platesIn_33 : decode cX1_platesIn 33 = .ok (.aload 4, 2) := dk_25 4 (dk_at dksX1_platesIn_1 11 rfl rfl)
theorem dX1_platesIn_35 : decode cX1_platesIn 35 = .ok (.getfield 136, 3) := dk_180 0 136 (dk_at dksX1_platesIn_1 13 rfl rfl)
theorem dX1_platesIn_38 : decode cX1_platesIn 38 = .ok (.iload_n 1, 1) := dk_27 (dk_at dksX1_platesIn_1 16 rfl rfl)
theorem dX1_platesIn_39 : decode cX1_platesIn 39 = .ok (.if_icmp .ne 7, 3) := dk_160 0 7 (dk_at dksX1_platesIn_1 17 rfl rfl)
theorem dX1_platesIn_42 : decode cX1_platesIn 42 = .ok (.iconst 1, 1) := dk_4 (dk_at dksX1_platesIn_1 20 rfl rfl)
theorem dX1_platesIn_43 : decode cX1_platesIn 43 = .ok (.goto 4, 3) := dk_167 0 4 (dk_at dksX1_platesIn_1 21 rfl rfl)
theorem dX1_platesIn_46 : decode cX1_platesIn 46 = .ok (.iconst 0, 1) := dk_3 (dk_at dksX1_platesIn_2 0 rfl rfl)
theorem dX1_platesIn_47 : decode cX1_platesIn 47 = .ok (.iadd, 1) := dk_96 (dk_at dksX1_platesIn_2 1 rfl rfl)
theorem dX1_platesIn_48 : decode cX1_platesIn 48 = .ok (.istore_n 2, 1) := dk_61 (dk_at dksX1_platesIn_2 2 rfl rfl)
theorem dX1_platesIn_49 : decode cX1_platesIn 49 = .ok (.goto (-37), 3) := dk_167 255 219 (dk_at dksX1_platesIn_2 3 rfl rfl)
theorem dX1_platesIn_52 : decode cX1_platesIn 52 = .ok (.iload_n 2, 1) := dk_28 (dk_at dksX1_platesIn_2 6 rfl rfl)
theorem dX1_platesIn_53 : decode cX1_platesIn 53 = .ok (.ireturn, 1) := dk_172 (dk_at dksX1_platesIn_2 7 rfl rfl)
abbrev cX1_grind : ByteArray := prog_6_method_15_code
def yX1_grind : MethodName := ⟨RX1, "grind", "(II)V"⟩
def dkwX1_grind_1 : List UInt8 := [181, 0, 115, 177]
abbrev dktX1_grind_1 : List UInt8 := dkwX1_grind_1 ++ []
def dkwX1_grind_0 : List UInt8 := [42, 180, 0, 12, 27, 185, 0, 169, 2, 0, 192, 0, 59, 28, 182, 0, 194, 42, 89, 180, 0, 115, 4, 96]
abbrev dktX1_grind_0 : List UInt8 := dkwX1_grind_0 ++ dktX1_grind_1
theorem dksX1_grind_0 : cX1_grind.data.toList.drop 0 = dktX1_grind_0 := by decide +kernel
theorem dksX1_grind_1 : cX1_grind.data.toList.drop 24 = dktX1_grind_1 := dk_seg dksX1_grind_0 24 rfl rfl
theorem dX1_grind_0 : decode cX1_grind 0 = .ok (.aload_n 0, 1) := dk_42 (dk_at dksX1_grind_0 0 rfl rfl)
theorem dX1_grind_1 : decode cX1_grind 1 = .ok (.getfield 12, 3) := dk_180 0 12 (dk_at dksX1_grind_0 1 rfl rfl)
theorem dX1_grind_4 : decode cX1_grind 4 = .ok (.iload_n 1, 1) := dk_27 (dk_at dksX1_grind_0 4 rfl rfl)
theorem dX1_grind_5 : decode cX1_grind 5 = .ok (.invokeinterface 169 2, 5) := by decide +kernel
theorem dX1_grind_10 : decode cX1_grind 10 = .ok (.checkcast 59, 3) := dk_192 0 59 (dk_at dksX1_grind_0 10 rfl rfl)
theorem dX1_grind_13 : decode cX1_grind 13 = .ok (.iload_n 2, 1) := dk_28 (dk_at dksX1_grind_0 13 rfl rfl)
theorem dX1_grind_14 : decode cX1_grind 14 = .ok (.invokevirtual 194, 3) := dk_182 0 194 (dk_at dksX1_grind_0 14 rfl rfl)
theorem dX1_grind_17 : decode cX1_grind 17 = .ok (.aload_n 0, 1) := dk_42 (dk_at dksX1_grind_0 17 rfl rfl)
theorem dX1_grind_18 : decode cX1_grind 18 = .ok (.dup, 1) := dk_89 (dk_at dksX1_grind_0 18 rfl rfl)
theorem dX1_grind_19 : decode cX1_grind 19 = .ok (.getfield 115, 3) := dk_180 0 115 (dk_at dksX1_grind_0 19 rfl rfl)
theorem dX1_grind_22 : decode cX1_grind 22 = .ok (.iconst 1, 1) := dk_4 (dk_at dksX1_grind_0 22 rfl rfl)
theorem dX1_grind_23 : decode cX1_grind 23 = .ok (.iadd, 1) := dk_96 (dk_at dksX1_grind_0 23 rfl rfl)
theorem dX1_grind_24 : decode cX1_grind 24 = .ok (.putfield 115, 3) := dk_181 0 115 (dk_at dksX1_grind_1 0 rfl rfl)
theorem dX1_grind_27 : decode cX1_grind 27 = .ok (.return_, 1) := dk_177 (dk_at dksX1_grind_1 3 rfl rfl)
abbrev cX1_isShield : ByteArray := prog_6_method_4_code
def yX1_isShield : MethodName := ⟨RX1, "isShield", "(I)Z"⟩
def dkwX1_isShield_0 : List UInt8 := [27, 3, 42, 180, 0, 102, 4, 100, 184, 0, 122, 172]
abbrev dktX1_isShield_0 : List UInt8 := dkwX1_isShield_0 ++ []
theorem dksX1_isShield_0 : cX1_isShield.data.toList.drop 0 = dktX1_isShield_0 := by decide +kernel
theorem dX1_isShield_0 : decode cX1_isShield 0 = .ok (.iload_n 1, 1) := dk_27 (dk_at dksX1_isShield_0 0 rfl rfl)
theorem dX1_isShield_1 : decode cX1_isShield 1 = .ok (.iconst 0, 1) := dk_3 (dk_at dksX1_isShield_0 1 rfl rfl)
theorem dX1_isShield_2 : decode cX1_isShield 2 = .ok (.aload_n 0, 1) := dk_42 (dk_at dksX1_isShield_0 2 rfl rfl)
theorem dX1_isShield_3 : decode cX1_isShield 3 = .ok (.getfield 102, 3) := dk_180 0 102 (dk_at dksX1_isShield_0 3 rfl rfl)
theorem dX1_isShield_6 : decode cX1_isShield 6 = .ok (.iconst 1, 1) := dk_4 (dk_at dksX1_isShield_0 6 rfl rfl)
theorem dX1_isShield_7 : decode cX1_isShield 7 = .ok (.isub, 1) := dk_100 (dk_at dksX1_isShield_0 7 rfl rfl)
theorem dX1_isShield_8 : decode cX1_isShield 8 = .ok (.invokestatic 122, 3) := dk_184 0 122 (dk_at dksX1_isShield_0 8 rfl rfl)
theorem dX1_isShield_11 : decode cX1_isShield 11 = .ok (.ireturn, 1) := dk_172 (dk_at dksX1_isShield_0 11 rfl rfl)
abbrev cX1_plateFor : ByteArray := prog_6_method_6_code
def yX1_plateFor : MethodName := ⟨RX1, "plateFor", "(II)I"⟩
def dkwX1_plateFor_1 : List UInt8 := [199, 0, 8, 16, 247, 167, 0, 7, 45, 182, 0, 133, 172]
abbrev dktX1_plateFor_1 : List UInt8 := dkwX1_plateFor_1 ++ []
def dkwX1_plateFor_0 : List UInt8 := [42, 180, 0, 24, 187, 0, 85, 89, 27, 28, 183, 0, 126, 185, 0, 129, 2, 0, 192, 0, 90, 78, 45]
abbrev dktX1_plateFor_0 : List UInt8 := dkwX1_plateFor_0 ++ dktX1_plateFor_1
theorem dksX1_plateFor_0 : cX1_plateFor.data.toList.drop 0 = dktX1_plateFor_0 := by decide +kernel
theorem dksX1_plateFor_1 : cX1_plateFor.data.toList.drop 23 = dktX1_plateFor_1 := dk_seg dksX1_plateFor_0 23 rfl rfl
theorem dX1_plateFor_0 : decode cX1_plateFor 0 = .ok (.aload_n 0, 1) := dk_42 (dk_at dksX1_plateFor_0 0 rfl rfl)
theorem dX1_plateFor_1 : decode cX1_plateFor 1 = .ok (.getfield 24, 3) := dk_180 0 24 (dk_at dksX1_plateFor_0 1 rfl rfl)
theorem dX1_plateFor_4 : decode cX1_plateFor 4 = .ok (.new 85, 3) := dk_187 0 85 (dk_at dksX1_plateFor_0 4 rfl rfl)
theorem dX1_plateFor_7 : decode cX1_plateFor 7 = .ok (.dup, 1) := dk_89 (dk_at dksX1_plateFor_0 7 rfl rfl)
theorem dX1_plateFor_8 : decode cX1_plateFor 8 = .ok (.iload_n 1, 1) := dk_27 (dk_at dksX1_plateFor_0 8 rfl rfl)
theorem dX1_plateFor_9 : decode cX1_plateFor 9 = .ok (.iload_n 2, 1) := dk_28 (dk_at dksX1_plateFor_0 9 rfl rfl)
theorem dX1_plateFor_10 : decode cX1_plateFor 10 = .ok (.invokespecial 126, 3) := dk_183 0 126 (dk_at dksX1_plateFor_0 10 rfl rfl)
theorem dX1_plateFor_13 : decode cX1_plateFor 13 = .ok (.invokeinterface 129 2, 5) := by decide +kernel
theorem dX1_plateFor_18 : decode cX1_plateFor 18 = .ok (.checkcast 90, 3) := dk_192 0 90 (dk_at dksX1_plateFor_0 18 rfl rfl)
theorem dX1_plateFor_21 : decode cX1_plateFor 21 = .ok (.astore_n 3, 1) := dk_78 (dk_at dksX1_plateFor_0 21 rfl rfl)
theorem dX1_plateFor_22 : decode cX1_plateFor 22 = .ok (.aload_n 3, 1) := dk_45 (dk_at dksX1_plateFor_0 22 rfl rfl)
theorem dX1_plateFor_23 : decode cX1_plateFor 23 = .ok (.ifnonnull 8, 3) := dk_199 0 8 (dk_at dksX1_plateFor_1 0 rfl rfl)
theorem dX1_plateFor_26 : decode cX1_plateFor 26 = .ok (.bipush (-9), 2) := dk_16 247 (dk_at dksX1_plateFor_1 3 rfl rfl)
theorem dX1_plateFor_28 : decode cX1_plateFor 28 = .ok (.goto 7, 3) := dk_167 0 7 (dk_at dksX1_plateFor_1 5 rfl rfl)
theorem dX1_plateFor_31 : decode cX1_plateFor 31 = .ok (.aload_n 3, 1) := dk_45 (dk_at dksX1_plateFor_1 8 rfl rfl)
theorem dX1_plateFor_32 : decode cX1_plateFor 32 = .ok (.invokevirtual 133, 3) := dk_182 0 133 (dk_at dksX1_plateFor_1 9 rfl rfl)
theorem dX1_plateFor_35 : decode cX1_plateFor 35 = .ok (.ireturn, 1) := dk_172 (dk_at dksX1_plateFor_1 12 rfl rfl)
abbrev cX1_takeOff : ByteArray := prog_6_method_19_code
def yX1_takeOff : MethodName := ⟨RX1, "takeOff", "(II)I"⟩
def dkwX1_takeOff_1 : List UInt8 := [62, 42, 180, 0, 12, 29, 185, 0, 169, 2, 0, 192, 0, 59, 3, 181, 0, 136, 29, 172]
abbrev dktX1_takeOff_1 : List UInt8 := dkwX1_takeOff_1 ++ []
def dkwX1_takeOff_0 : List UInt8 := [42, 180, 0, 24, 187, 0, 85, 89, 27, 28, 183, 0, 126, 185, 0, 240, 2, 0, 192, 0, 90, 182, 0, 133]
abbrev dktX1_takeOff_0 : List UInt8 := dkwX1_takeOff_0 ++ dktX1_takeOff_1
theorem dksX1_takeOff_0 : cX1_takeOff.data.toList.drop 0 = dktX1_takeOff_0 := by decide +kernel
theorem dksX1_takeOff_1 : cX1_takeOff.data.toList.drop 24 = dktX1_takeOff_1 := dk_seg dksX1_takeOff_0 24 rfl rfl
theorem dX1_takeOff_0 : decode cX1_takeOff 0 = .ok (.aload_n 0, 1) := dk_42 (dk_at dksX1_takeOff_0 0 rfl rfl)
theorem dX1_takeOff_1 : decode cX1_takeOff 1 = .ok (.getfield 24, 3) := dk_180 0 24 (dk_at dksX1_takeOff_0 1 rfl rfl)
theorem dX1_takeOff_4 : decode cX1_takeOff 4 = .ok (.new 85, 3) := dk_187 0 85 (dk_at dksX1_takeOff_0 4 rfl rfl)
theorem dX1_takeOff_7 : decode cX1_takeOff 7 = .ok (.dup, 1) := dk_89 (dk_at dksX1_takeOff_0 7 rfl rfl)
theorem dX1_takeOff_8 : decode cX1_takeOff 8 = .ok (.iload_n 1, 1) := dk_27 (dk_at dksX1_takeOff_0 8 rfl rfl)
theorem dX1_takeOff_9 : decode cX1_takeOff 9 = .ok (.iload_n 2, 1) := dk_28 (dk_at dksX1_takeOff_0 9 rfl rfl)
theorem dX1_takeOff_10 : decode cX1_takeOff 10 = .ok (.invokespecial 126, 3) := dk_183 0 126 (dk_at dksX1_takeOff_0 10 rfl rfl)
theorem dX1_takeOff_13 : decode cX1_takeOff 13 = .ok (.invokeinterface 240 2, 5) := by decide +kernel
theorem dX1_takeOff_18 : decode cX1_takeOff 18 = .ok (.checkcast 90, 3) := dk_192 0 90 (dk_at dksX1_takeOff_0 18 rfl rfl)
theorem dX1_takeOff_21 : decode cX1_takeOff 21 = .ok (.invokevirtual 133, 3) := dk_182 0 133 (dk_at dksX1_takeOff_0 21 rfl rfl)
theorem dX1_takeOff_24 : decode cX1_takeOff 24 = .ok (.istore_n 3, 1) := dk_62 (dk_at dksX1_takeOff_1 0 rfl rfl)
theorem dX1_takeOff_25 : decode cX1_takeOff 25 = .ok (.aload_n 0, 1) := dk_42 (dk_at dksX1_takeOff_1 1 rfl rfl)
theorem dX1_takeOff_26 : decode cX1_takeOff 26 = .ok (.getfield 12, 3) := dk_180 0 12 (dk_at dksX1_takeOff_1 2 rfl rfl)
theorem dX1_takeOff_29 : decode cX1_takeOff 29 = .ok (.iload_n 3, 1) := dk_29 (dk_at dksX1_takeOff_1 5 rfl rfl)
theorem dX1_takeOff_30 : decode cX1_takeOff 30 = .ok (.invokeinterface 169 2, 5) := by decide +kernel
theorem dX1_takeOff_35 : decode cX1_takeOff 35 = .ok (.checkcast 59, 3) := dk_192 0 59 (dk_at dksX1_takeOff_1 11 rfl rfl)
theorem dX1_takeOff_38 : decode cX1_takeOff 38 = .ok (.iconst 0, 1) := dk_3 (dk_at dksX1_takeOff_1 14 rfl rfl)
theorem dX1_takeOff_39 : decode cX1_takeOff 39 = .ok (.putfield 136, 3) := dk_181 0 136 (dk_at dksX1_takeOff_1 15 rfl rfl)
theorem dX1_takeOff_42 : decode cX1_takeOff 42 = .ok (.iload_n 3, 1) := dk_29 (dk_at dksX1_takeOff_1 18 rfl rfl)
theorem dX1_takeOff_43 : decode cX1_takeOff 43 = .ok (.ireturn, 1) := dk_172 (dk_at dksX1_takeOff_1 19 rfl rfl)
abbrev cX1_isOrdered : ByteArray := prog_6_method_11_code
def yX1_isOrdered : MethodName := ⟨RX1, "isOrdered", "(LTrophyPlates$Place;)Z"⟩
def dkwX1_isOrdered_2 : List UInt8 := [54, 5, 167, 255, 225, 44, 43, 182, 0, 160, 172]
abbrev dktX1_isOrdered_2 : List UInt8 := dkwX1_isOrdered_2 ++ []
def dkwX1_isOrdered_1 : List UInt8 := [153, 0, 28, 45, 185, 0, 55, 1, 0, 192, 0, 69, 58, 4, 44, 25, 4, 180, 0, 155, 182, 0, 159]
abbrev dktX1_isOrdered_1 : List UInt8 := dkwX1_isOrdered_1 ++ dktX1_isOrdered_2
def dkwX1_isOrdered_0 : List UInt8 := [187, 0, 152, 89, 183, 0, 154, 77, 42, 180, 0, 18, 185, 0, 43, 1, 0, 78, 45, 185, 0, 49, 1, 0]
abbrev dktX1_isOrdered_0 : List UInt8 := dkwX1_isOrdered_0 ++ dktX1_isOrdered_1
theorem dksX1_isOrdered_0 : cX1_isOrdered.data.toList.drop 0 = dktX1_isOrdered_0 := by decide +kernel
theorem dksX1_isOrdered_1 : cX1_isOrdered.data.toList.drop 24 = dktX1_isOrdered_1 := dk_seg dksX1_isOrdered_0 24 rfl rfl
theorem dksX1_isOrdered_2 : cX1_isOrdered.data.toList.drop 47 = dktX1_isOrdered_2 := dk_seg dksX1_isOrdered_1 23 rfl rfl
theorem dX1_isOrdered_0 : decode cX1_isOrdered 0 = .ok (.new 152, 3) := dk_187 0 152 (dk_at dksX1_isOrdered_0 0 rfl rfl)
theorem dX1_isOrdered_3 : decode cX1_isOrdered 3 = .ok (.dup, 1) := dk_89 (dk_at dksX1_isOrdered_0 3 rfl rfl)
theorem dX1_isOrdered_4 : decode cX1_isOrdered 4 = .ok (.invokespecial 154, 3) := dk_183 0 154 (dk_at dksX1_isOrdered_0 4 rfl rfl)
theorem dX1_isOrdered_7 : decode cX1_isOrdered 7 = .ok (.astore_n 2, 1) := dk_77 (dk_at dksX1_isOrdered_0 7 rfl rfl)
theorem dX1_isOrdered_8 : decode cX1_isOrdered 8 = .ok (.aload_n 0, 1) := dk_42 (dk_at dksX1_isOrdered_0 8 rfl rfl)
theorem dX1_isOrdered_9 : decode cX1_isOrdered 9 = .ok (.getfield 18, 3) := dk_180 0 18 (dk_at dksX1_isOrdered_0 9 rfl rfl)
theorem dX1_isOrdered_12 : decode cX1_isOrdered 12 = .ok (.invokeinterface 43 1, 5) := by decide +kernel
theorem dX1_isOrdered_17 : decode cX1_isOrdered 17 = .ok (.astore_n 3, 1) := dk_78 (dk_at dksX1_isOrdered_0 17 rfl rfl)
theorem dX1_isOrdered_18 : decode cX1_isOrdered 18 = .ok (.aload_n 3, 1) := dk_45 (dk_at dksX1_isOrdered_0 18 rfl rfl)
theorem dX1_isOrdered_19 : decode cX1_isOrdered 19 = .ok (.invokeinterface 49 1, 5) := by decide +kernel
theorem dX1_isOrdered_24 : decode cX1_isOrdered 24 = .ok (.ifCond .eq 28, 3) := dk_153 0 28 (dk_at dksX1_isOrdered_1 0 rfl rfl)
theorem dX1_isOrdered_27 : decode cX1_isOrdered 27 = .ok (.aload_n 3, 1) := dk_45 (dk_at dksX1_isOrdered_1 3 rfl rfl)
theorem dX1_isOrdered_28 : decode cX1_isOrdered 28 = .ok (.invokeinterface 55 1, 5) := by decide +kernel
theorem dX1_isOrdered_33 : decode cX1_isOrdered 33 = .ok (.checkcast 69, 3) := dk_192 0 69 (dk_at dksX1_isOrdered_1 9 rfl rfl)
theorem dX1_isOrdered_36 : decode cX1_isOrdered 36 = .ok (.astore 4, 2) := dk_58 4 (dk_at dksX1_isOrdered_1 12 rfl rfl)
theorem dX1_isOrdered_38 : decode cX1_isOrdered 38 = .ok (.aload_n 2, 1) := dk_44 (dk_at dksX1_isOrdered_1 14 rfl rfl)
theorem dX1_isOrdered_39 : decode cX1_isOrdered 39 = .ok (.aload 4, 2) := dk_25 4 (dk_at dksX1_isOrdered_1 15 rfl rfl)
theorem dX1_isOrdered_41 : decode cX1_isOrdered 41 = .ok (.getfield 155, 3) := dk_180 0 155 (dk_at dksX1_isOrdered_1 17 rfl rfl)
theorem dX1_isOrdered_44 : decode cX1_isOrdered 44 = .ok (.invokevirtual 159, 3) := dk_182 0 159 (dk_at dksX1_isOrdered_1 20 rfl rfl)
theorem dX1_isOrdered_47 : decode cX1_isOrdered 47 = .ok (.istore 5, 2) := dk_54 5 (dk_at dksX1_isOrdered_2 0 rfl rfl)
theorem dX1_isOrdered_49 : decode cX1_isOrdered 49 = .ok (.goto (-31), 3) := dk_167 255 225 (dk_at dksX1_isOrdered_2 2 rfl rfl)
theorem dX1_isOrdered_52 : decode cX1_isOrdered 52 = .ok (.aload_n 2, 1) := dk_44 (dk_at dksX1_isOrdered_2 5 rfl rfl)
theorem dX1_isOrdered_53 : decode cX1_isOrdered 53 = .ok (.aload_n 1, 1) := dk_43 (dk_at dksX1_isOrdered_2 6 rfl rfl)
theorem dX1_isOrdered_54 : decode cX1_isOrdered 54 = .ok (.invokevirtual 160, 3) := dk_182 0 160 (dk_at dksX1_isOrdered_2 7 rfl rfl)
theorem dX1_isOrdered_57 : decode cX1_isOrdered 57 = .ok (.ireturn, 1) := dk_172 (dk_at dksX1_isOrdered_2 10 rfl rfl)
abbrev cX1_line : ByteArray := prog_6_method_12_code
def yX1_line : MethodName := ⟨RX1, "line", "(LTrophyPlates$Order;)I"⟩
def dkwX1_line_1 : List UInt8 := [42, 180, 0, 18, 28, 43, 185, 0, 166, 3, 0, 28, 172]
abbrev dktX1_line_1 : List UInt8 := dkwX1_line_1 ++ []
def dkwX1_line_0 : List UInt8 := [43, 180, 0, 148, 153, 0, 10, 42, 182, 0, 163, 167, 0, 12, 42, 180, 0, 18, 185, 0, 118, 1, 0, 61]
abbrev dktX1_line_0 : List UInt8 := dkwX1_line_0 ++ dktX1_line_1
theorem dksX1_line_0 : cX1_line.data.toList.drop 0 = dktX1_line_0 := by decide +kernel
theorem dksX1_line_1 : cX1_line.data.toList.drop 24 = dktX1_line_1 := dk_seg dksX1_line_0 24 rfl rfl
theorem dX1_line_0 : decode cX1_line 0 = .ok (.aload_n 1, 1) := dk_43 (dk_at dksX1_line_0 0 rfl rfl)
theorem dX1_line_1 : decode cX1_line 1 = .ok (.getfield 148, 3) := dk_180 0 148 (dk_at dksX1_line_0 1 rfl rfl)
theorem dX1_line_4 : decode cX1_line 4 = .ok (.ifCond .eq 10, 3) := dk_153 0 10 (dk_at dksX1_line_0 4 rfl rfl)
theorem dX1_line_7 : decode cX1_line 7 = .ok (.aload_n 0, 1) := dk_42 (dk_at dksX1_line_0 7 rfl rfl)
theorem dX1_line_8 : decode cX1_line 8 = .ok (.invokevirtual 163, 3) := dk_182 0 163 (dk_at dksX1_line_0 8 rfl rfl)
theorem dX1_line_11 : decode cX1_line 11 = .ok (.goto 12, 3) := dk_167 0 12 (dk_at dksX1_line_0 11 rfl rfl)
theorem dX1_line_14 : decode cX1_line 14 = .ok (.aload_n 0, 1) := dk_42 (dk_at dksX1_line_0 14 rfl rfl)
theorem dX1_line_15 : decode cX1_line 15 = .ok (.getfield 18, 3) := dk_180 0 18 (dk_at dksX1_line_0 15 rfl rfl)
theorem dX1_line_18 : decode cX1_line 18 = .ok (.invokeinterface 118 1, 5) := by decide +kernel
theorem dX1_line_23 : decode cX1_line 23 = .ok (.istore_n 2, 1) := dk_61 (dk_at dksX1_line_0 23 rfl rfl)
theorem dX1_line_24 : decode cX1_line 24 = .ok (.aload_n 0, 1) := dk_42 (dk_at dksX1_line_1 0 rfl rfl)
theorem dX1_line_25 : decode cX1_line 25 = .ok (.getfield 18, 3) := dk_180 0 18 (dk_at dksX1_line_1 1 rfl rfl)
theorem dX1_line_28 : decode cX1_line 28 = .ok (.iload_n 2, 1) := dk_28 (dk_at dksX1_line_1 4 rfl rfl)
theorem dX1_line_29 : decode cX1_line 29 = .ok (.aload_n 1, 1) := dk_43 (dk_at dksX1_line_1 5 rfl rfl)
theorem dX1_line_30 : decode cX1_line 30 = .ok (.invokeinterface 166 3, 5) := by decide +kernel
theorem dX1_line_35 : decode cX1_line 35 = .ok (.iload_n 2, 1) := dk_28 (dk_at dksX1_line_1 11 rfl rfl)
theorem dX1_line_36 : decode cX1_line 36 = .ok (.ireturn, 1) := dk_172 (dk_at dksX1_line_1 12 rfl rfl)
abbrev cX1_rushes : ByteArray := prog_6_method_10_code
def yX1_rushes : MethodName := ⟨RX1, "rushes", "()I"⟩
def dkwX1_rushes_2 : List UInt8 := [167, 255, 222, 27, 172]
abbrev dktX1_rushes_2 : List UInt8 := dkwX1_rushes_2 ++ []
def dkwX1_rushes_1 : List UInt8 := [185, 0, 55, 1, 0, 192, 0, 69, 78, 27, 45, 180, 0, 148, 153, 0, 7, 4, 167, 0, 4, 3, 96, 60]
abbrev dktX1_rushes_1 : List UInt8 := dkwX1_rushes_1 ++ dktX1_rushes_2
def dkwX1_rushes_0 : List UInt8 := [3, 60, 42, 180, 0, 18, 185, 0, 43, 1, 0, 77, 44, 185, 0, 49, 1, 0, 153, 0, 31, 44]
abbrev dktX1_rushes_0 : List UInt8 := dkwX1_rushes_0 ++ dktX1_rushes_1
theorem dksX1_rushes_0 : cX1_rushes.data.toList.drop 0 = dktX1_rushes_0 := by decide +kernel
theorem dksX1_rushes_1 : cX1_rushes.data.toList.drop 22 = dktX1_rushes_1 := dk_seg dksX1_rushes_0 22 rfl rfl
theorem dksX1_rushes_2 : cX1_rushes.data.toList.drop 46 = dktX1_rushes_2 := dk_seg dksX1_rushes_1 24 rfl rfl
theorem dX1_rushes_0 : decode cX1_rushes 0 = .ok (.iconst 0, 1) := dk_3 (dk_at dksX1_rushes_0 0 rfl rfl)
theorem dX1_rushes_1 : decode cX1_rushes 1 = .ok (.istore_n 1, 1) := dk_60 (dk_at dksX1_rushes_0 1 rfl rfl)
theorem dX1_rushes_2 : decode cX1_rushes 2 = .ok (.aload_n 0, 1) := dk_42 (dk_at dksX1_rushes_0 2 rfl rfl)
theorem dX1_rushes_3 : decode cX1_rushes 3 = .ok (.getfield 18, 3) := dk_180 0 18 (dk_at dksX1_rushes_0 3 rfl rfl)
theorem dX1_rushes_6 : decode cX1_rushes 6 = .ok (.invokeinterface 43 1, 5) := by decide +kernel
theorem dX1_rushes_11 : decode cX1_rushes 11 = .ok (.astore_n 2, 1) := dk_77 (dk_at dksX1_rushes_0 11 rfl rfl)
theorem dX1_rushes_12 : decode cX1_rushes 12 = .ok (.aload_n 2, 1) := dk_44 (dk_at dksX1_rushes_0 12 rfl rfl)
theorem dX1_rushes_13 : decode cX1_rushes 13 = .ok (.invokeinterface 49 1, 5) := by decide +kernel
theorem dX1_rushes_18 : decode cX1_rushes 18 = .ok (.ifCond .eq 31, 3) := dk_153 0 31 (dk_at dksX1_rushes_0 18 rfl rfl)
theorem dX1_rushes_21 : decode cX1_rushes 21 = .ok (.aload_n 2, 1) := dk_44 (dk_at dksX1_rushes_0 21 rfl rfl)
theorem dX1_rushes_22 : decode cX1_rushes 22 = .ok (.invokeinterface 55 1, 5) := by decide +kernel
theorem dX1_rushes_27 : decode cX1_rushes 27 = .ok (.checkcast 69, 3) := dk_192 0 69 (dk_at dksX1_rushes_1 5 rfl rfl)
theorem dX1_rushes_30 : decode cX1_rushes 30 = .ok (.astore_n 3, 1) := dk_78 (dk_at dksX1_rushes_1 8 rfl rfl)
theorem dX1_rushes_31 : decode cX1_rushes 31 = .ok (.iload_n 1, 1) := dk_27 (dk_at dksX1_rushes_1 9 rfl rfl)
theorem dX1_rushes_32 : decode cX1_rushes 32 = .ok (.aload_n 3, 1) := dk_45 (dk_at dksX1_rushes_1 10 rfl rfl)
theorem dX1_rushes_33 : decode cX1_rushes 33 = .ok (.getfield 148, 3) := dk_180 0 148 (dk_at dksX1_rushes_1 11 rfl rfl)
theorem dX1_rushes_36 : decode cX1_rushes 36 = .ok (.ifCond .eq 7, 3) := dk_153 0 7 (dk_at dksX1_rushes_1 14 rfl rfl)
theorem dX1_rushes_39 : decode cX1_rushes 39 = .ok (.iconst 1, 1) := dk_4 (dk_at dksX1_rushes_1 17 rfl rfl)
theorem dX1_rushes_40 : decode cX1_rushes 40 = .ok (.goto 4, 3) := dk_167 0 4 (dk_at dksX1_rushes_1 18 rfl rfl)
theorem dX1_rushes_43 : decode cX1_rushes 43 = .ok (.iconst 0, 1) := dk_3 (dk_at dksX1_rushes_1 21 rfl rfl)
theorem dX1_rushes_44 : decode cX1_rushes 44 = .ok (.iadd, 1) := dk_96 (dk_at dksX1_rushes_1 22 rfl rfl)
theorem dX1_rushes_45 : decode cX1_rushes 45 = .ok (.istore_n 1, 1) := dk_60 (dk_at dksX1_rushes_1 23 rfl rfl)
theorem dX1_rushes_46 : decode cX1_rushes 46 = .ok (.goto (-34), 3) := dk_167 255 222 (dk_at dksX1_rushes_2 0 rfl rfl)
theorem dX1_rushes_49 : decode cX1_rushes 49 = .ok (.iload_n 1, 1) := dk_27 (dk_at dksX1_rushes_2 3 rfl rfl)
theorem dX1_rushes_50 : decode cX1_rushes 50 = .ok (.ireturn, 1) := dk_172 (dk_at dksX1_rushes_2 4 rfl rfl)
abbrev cX1_isOrder : ByteArray := prog_6_method_5_code
def yX1_isOrder : MethodName := ⟨RX1, "isOrder", "(I)Z"⟩
def dkwX1_isOrder_0 : List UInt8 := [27, 3, 42, 180, 0, 18, 185, 0, 118, 1, 0, 4, 100, 184, 0, 122, 172]
abbrev dktX1_isOrder_0 : List UInt8 := dkwX1_isOrder_0 ++ []
theorem dksX1_isOrder_0 : cX1_isOrder.data.toList.drop 0 = dktX1_isOrder_0 := by decide +kernel
theorem dX1_isOrder_0 : decode cX1_isOrder 0 = .ok (.iload_n 1, 1) := dk_27 (dk_at dksX1_isOrder_0 0 rfl rfl)
theorem dX1_isOrder_1 : decode cX1_isOrder 1 = .ok (.iconst 0, 1) := dk_3 (dk_at dksX1_isOrder_0 1 rfl rfl)
theorem dX1_isOrder_2 : decode cX1_isOrder 2 = .ok (.aload_n 0, 1) := dk_42 (dk_at dksX1_isOrder_0 2 rfl rfl)
theorem dX1_isOrder_3 : decode cX1_isOrder 3 = .ok (.getfield 18, 3) := dk_180 0 18 (dk_at dksX1_isOrder_0 3 rfl rfl)
theorem dX1_isOrder_6 : decode cX1_isOrder 6 = .ok (.invokeinterface 118 1, 5) := by decide +kernel
theorem dX1_isOrder_11 : decode cX1_isOrder 11 = .ok (.iconst 1, 1) := dk_4 (dk_at dksX1_isOrder_0 11 rfl rfl)
theorem dX1_isOrder_12 : decode cX1_isOrder 12 = .ok (.isub, 1) := dk_100 (dk_at dksX1_isOrder_0 12 rfl rfl)
theorem dX1_isOrder_13 : decode cX1_isOrder 13 = .ok (.invokestatic 122, 3) := dk_184 0 122 (dk_at dksX1_isOrder_0 13 rfl rfl)
theorem dX1_isOrder_16 : decode cX1_isOrder 16 = .ok (.ireturn, 1) := dk_172 (dk_at dksX1_isOrder_0 16 rfl rfl)
abbrev cX1_hurry : ByteArray := prog_6_method_24_code
def yX1_hurry : MethodName := ⟨RX1, "hurry", "(I)I"⟩
def dkwX1_hurry_2 : List UInt8 := [182, 1, 12, 172]
abbrev dktX1_hurry_2 : List UInt8 := dkwX1_hurry_2 ++ []
def dkwX1_hurry_1 : List UInt8 := [42, 44, 42, 180, 0, 105, 166, 0, 7, 45, 167, 0, 7, 42, 180, 0, 105, 181, 0, 105, 42, 45]
abbrev dktX1_hurry_1 : List UInt8 := dkwX1_hurry_1 ++ dktX1_hurry_2
def dkwX1_hurry_0 : List UInt8 := [42, 180, 0, 18, 27, 185, 1, 7, 2, 0, 192, 0, 69, 77, 187, 0, 69, 89, 44, 4, 183, 1, 9, 78]
abbrev dktX1_hurry_0 : List UInt8 := dkwX1_hurry_0 ++ dktX1_hurry_1
theorem dksX1_hurry_0 : cX1_hurry.data.toList.drop 0 = dktX1_hurry_0 := by decide +kernel
theorem dksX1_hurry_1 : cX1_hurry.data.toList.drop 24 = dktX1_hurry_1 := dk_seg dksX1_hurry_0 24 rfl rfl
theorem dksX1_hurry_2 : cX1_hurry.data.toList.drop 46 = dktX1_hurry_2 := dk_seg dksX1_hurry_1 22 rfl rfl
theorem dX1_hurry_0 : decode cX1_hurry 0 = .ok (.aload_n 0, 1) := dk_42 (dk_at dksX1_hurry_0 0 rfl rfl)
theorem dX1_hurry_1 : decode cX1_hurry 1 = .ok (.getfield 18, 3) := dk_180 0 18 (dk_at dksX1_hurry_0 1 rfl rfl)
theorem dX1_hurry_4 : decode cX1_hurry 4 = .ok (.iload_n 1, 1) := dk_27 (dk_at dksX1_hurry_0 4 rfl rfl)
theorem dX1_hurry_5 : decode cX1_hurry 5 = .ok (.invokeinterface 263 2, 5) := by decide +kernel
theorem dX1_hurry_10 : decode cX1_hurry 10 = .ok (.checkcast 69, 3) := dk_192 0 69 (dk_at dksX1_hurry_0 10 rfl rfl)
theorem dX1_hurry_13 : decode cX1_hurry 13 = .ok (.astore_n 2, 1) := dk_77 (dk_at dksX1_hurry_0 13 rfl rfl)
theorem dX1_hurry_14 : decode cX1_hurry 14 = .ok (.new 69, 3) := dk_187 0 69 (dk_at dksX1_hurry_0 14 rfl rfl)
theorem dX1_hurry_17 : decode cX1_hurry 17 = .ok (.dup, 1) := dk_89 (dk_at dksX1_hurry_0 17 rfl rfl)
theorem dX1_hurry_18 : decode cX1_hurry 18 = .ok (.aload_n 2, 1) := dk_44 (dk_at dksX1_hurry_0 18 rfl rfl)
theorem dX1_hurry_19 : decode cX1_hurry 19 = .ok (.iconst 1, 1) := dk_4 (dk_at dksX1_hurry_0 19 rfl rfl)
theorem dX1_hurry_20 : decode cX1_hurry 20 = .ok (.invokespecial 265, 3) := dk_183 1 9 (dk_at dksX1_hurry_0 20 rfl rfl)
theorem dX1_hurry_23 : decode cX1_hurry 23 = .ok (.astore_n 3, 1) := dk_78 (dk_at dksX1_hurry_0 23 rfl rfl)
theorem dX1_hurry_24 : decode cX1_hurry 24 = .ok (.aload_n 0, 1) := dk_42 (dk_at dksX1_hurry_1 0 rfl rfl)
theorem dX1_hurry_25 : decode cX1_hurry 25 = .ok (.aload_n 2, 1) := dk_44 (dk_at dksX1_hurry_1 1 rfl rfl)
theorem dX1_hurry_26 : decode cX1_hurry 26 = .ok (.aload_n 0, 1) := dk_42 (dk_at dksX1_hurry_1 2 rfl rfl)
theorem dX1_hurry_27 : decode cX1_hurry 27 = .ok (.getfield 105, 3) := dk_180 0 105 (dk_at dksX1_hurry_1 3 rfl rfl)
theorem dX1_hurry_30 : decode cX1_hurry 30 = .ok (.if_acmp .ne 7, 3) := dk_166 0 7 (dk_at dksX1_hurry_1 6 rfl rfl)
theorem dX1_hurry_33 : decode cX1_hurry 33 = .ok (.aload_n 3, 1) := dk_45 (dk_at dksX1_hurry_1 9 rfl rfl)
theorem dX1_hurry_34 : decode cX1_hurry 34 = .ok (.goto 7, 3) := dk_167 0 7 (dk_at dksX1_hurry_1 10 rfl rfl)
theorem dX1_hurry_37 : decode cX1_hurry 37 = .ok (.aload_n 0, 1) := dk_42 (dk_at dksX1_hurry_1 13 rfl rfl)
theorem dX1_hurry_38 : decode cX1_hurry 38 = .ok (.getfield 105, 3) := dk_180 0 105 (dk_at dksX1_hurry_1 14 rfl rfl)
theorem dX1_hurry_41 : decode cX1_hurry 41 = .ok (.putfield 105, 3) := dk_181 0 105 (dk_at dksX1_hurry_1 17 rfl rfl)
theorem dX1_hurry_44 : decode cX1_hurry 44 = .ok (.aload_n 0, 1) := dk_42 (dk_at dksX1_hurry_1 20 rfl rfl)
theorem dX1_hurry_45 : decode cX1_hurry 45 = .ok (.aload_n 3, 1) := dk_45 (dk_at dksX1_hurry_1 21 rfl rfl)
theorem dX1_hurry_46 : decode cX1_hurry 46 = .ok (.invokevirtual 268, 3) := dk_182 1 12 (dk_at dksX1_hurry_2 0 rfl rfl)
theorem dX1_hurry_49 : decode cX1_hurry 49 = .ok (.ireturn, 1) := dk_172 (dk_at dksX1_hurry_2 3 rfl rfl)
abbrev cX1_cancel : ByteArray := prog_6_method_23_code
def yX1_cancel : MethodName := ⟨RX1, "cancel", "(I)V"⟩
def dkwX1_cancel_1 : List UInt8 := [180, 0, 12, 42, 180, 0, 32, 185, 0, 169, 2, 0, 192, 0, 59, 3, 181, 0, 136, 42, 182, 0, 237, 177]
abbrev dktX1_cancel_1 : List UInt8 := dkwX1_cancel_1 ++ []
def dkwX1_cancel_0 : List UInt8 := [42, 180, 0, 18, 27, 185, 1, 7, 2, 0, 192, 0, 69, 77, 44, 42, 180, 0, 105, 166, 0, 27, 42]
abbrev dktX1_cancel_0 : List UInt8 := dkwX1_cancel_0 ++ dktX1_cancel_1
theorem dksX1_cancel_0 : cX1_cancel.data.toList.drop 0 = dktX1_cancel_0 := by decide +kernel
theorem dksX1_cancel_1 : cX1_cancel.data.toList.drop 23 = dktX1_cancel_1 := dk_seg dksX1_cancel_0 23 rfl rfl
theorem dX1_cancel_0 : decode cX1_cancel 0 = .ok (.aload_n 0, 1) := dk_42 (dk_at dksX1_cancel_0 0 rfl rfl)
theorem dX1_cancel_1 : decode cX1_cancel 1 = .ok (.getfield 18, 3) := dk_180 0 18 (dk_at dksX1_cancel_0 1 rfl rfl)
theorem dX1_cancel_4 : decode cX1_cancel 4 = .ok (.iload_n 1, 1) := dk_27 (dk_at dksX1_cancel_0 4 rfl rfl)
theorem dX1_cancel_5 : decode cX1_cancel 5 = .ok (.invokeinterface 263 2, 5) := by decide +kernel
theorem dX1_cancel_10 : decode cX1_cancel 10 = .ok (.checkcast 69, 3) := dk_192 0 69 (dk_at dksX1_cancel_0 10 rfl rfl)
theorem dX1_cancel_13 : decode cX1_cancel 13 = .ok (.astore_n 2, 1) := dk_77 (dk_at dksX1_cancel_0 13 rfl rfl)
theorem dX1_cancel_14 : decode cX1_cancel 14 = .ok (.aload_n 2, 1) := dk_44 (dk_at dksX1_cancel_0 14 rfl rfl)
theorem dX1_cancel_15 : decode cX1_cancel 15 = .ok (.aload_n 0, 1) := dk_42 (dk_at dksX1_cancel_0 15 rfl rfl)
theorem dX1_cancel_16 : decode cX1_cancel 16 = .ok (.getfield 105, 3) := dk_180 0 105 (dk_at dksX1_cancel_0 16 rfl rfl)
theorem dX1_cancel_19 : decode cX1_cancel 19 = .ok (.if_acmp .ne 27, 3) := dk_166 0 27 (dk_at dksX1_cancel_0 19 rfl rfl)
theorem dX1_cancel_22 : decode cX1_cancel 22 = .ok (.aload_n 0, 1) := dk_42 (dk_at dksX1_cancel_0 22 rfl rfl)
theorem dX1_cancel_23 : decode cX1_cancel 23 = .ok (.getfield 12, 3) := dk_180 0 12 (dk_at dksX1_cancel_1 0 rfl rfl)
theorem dX1_cancel_26 : decode cX1_cancel 26 = .ok (.aload_n 0, 1) := dk_42 (dk_at dksX1_cancel_1 3 rfl rfl)
theorem dX1_cancel_27 : decode cX1_cancel 27 = .ok (.getfield 32, 3) := dk_180 0 32 (dk_at dksX1_cancel_1 4 rfl rfl)
theorem dX1_cancel_30 : decode cX1_cancel 30 = .ok (.invokeinterface 169 2, 5) := by decide +kernel
theorem dX1_cancel_35 : decode cX1_cancel 35 = .ok (.checkcast 59, 3) := dk_192 0 59 (dk_at dksX1_cancel_1 12 rfl rfl)
theorem dX1_cancel_38 : decode cX1_cancel 38 = .ok (.iconst 0, 1) := dk_3 (dk_at dksX1_cancel_1 15 rfl rfl)
theorem dX1_cancel_39 : decode cX1_cancel 39 = .ok (.putfield 136, 3) := dk_181 0 136 (dk_at dksX1_cancel_1 16 rfl rfl)
theorem dX1_cancel_42 : decode cX1_cancel 42 = .ok (.aload_n 0, 1) := dk_42 (dk_at dksX1_cancel_1 19 rfl rfl)
theorem dX1_cancel_43 : decode cX1_cancel 43 = .ok (.invokevirtual 237, 3) := dk_182 0 237 (dk_at dksX1_cancel_1 20 rfl rfl)
theorem dX1_cancel_46 : decode cX1_cancel 46 = .ok (.return_, 1) := dk_177 (dk_at dksX1_cancel_1 23 rfl rfl)
abbrev cX1_rest : ByteArray := prog_6_method_17_code
def yX1_rest : MethodName := ⟨RX1, "rest", "()V"⟩
def dkwX1_rest_0 : List UInt8 := [42, 1, 181, 0, 105, 42, 16, 247, 181, 0, 32, 42, 16, 247, 181, 0, 36, 42, 16, 247, 181, 0, 39, 177]
abbrev dktX1_rest_0 : List UInt8 := dkwX1_rest_0 ++ []
theorem dksX1_rest_0 : cX1_rest.data.toList.drop 0 = dktX1_rest_0 := by decide +kernel
theorem dX1_rest_0 : decode cX1_rest 0 = .ok (.aload_n 0, 1) := dk_42 (dk_at dksX1_rest_0 0 rfl rfl)
theorem dX1_rest_1 : decode cX1_rest 1 = .ok (.aconst_null, 1) := dk_1 (dk_at dksX1_rest_0 1 rfl rfl)
theorem dX1_rest_2 : decode cX1_rest 2 = .ok (.putfield 105, 3) := dk_181 0 105 (dk_at dksX1_rest_0 2 rfl rfl)
theorem dX1_rest_5 : decode cX1_rest 5 = .ok (.aload_n 0, 1) := dk_42 (dk_at dksX1_rest_0 5 rfl rfl)
theorem dX1_rest_6 : decode cX1_rest 6 = .ok (.bipush (-9), 2) := dk_16 247 (dk_at dksX1_rest_0 6 rfl rfl)
theorem dX1_rest_8 : decode cX1_rest 8 = .ok (.putfield 32, 3) := dk_181 0 32 (dk_at dksX1_rest_0 8 rfl rfl)
theorem dX1_rest_11 : decode cX1_rest 11 = .ok (.aload_n 0, 1) := dk_42 (dk_at dksX1_rest_0 11 rfl rfl)
theorem dX1_rest_12 : decode cX1_rest 12 = .ok (.bipush (-9), 2) := dk_16 247 (dk_at dksX1_rest_0 12 rfl rfl)
theorem dX1_rest_14 : decode cX1_rest 14 = .ok (.putfield 36, 3) := dk_181 0 36 (dk_at dksX1_rest_0 14 rfl rfl)
theorem dX1_rest_17 : decode cX1_rest 17 = .ok (.aload_n 0, 1) := dk_42 (dk_at dksX1_rest_0 17 rfl rfl)
theorem dX1_rest_18 : decode cX1_rest 18 = .ok (.bipush (-9), 2) := dk_16 247 (dk_at dksX1_rest_0 18 rfl rfl)
theorem dX1_rest_20 : decode cX1_rest 20 = .ok (.putfield 39, 3) := dk_181 0 39 (dk_at dksX1_rest_0 20 rfl rfl)
theorem dX1_rest_23 : decode cX1_rest 23 = .ok (.return_, 1) := dk_177 (dk_at dksX1_rest_0 23 rfl rfl)
abbrev cX1_work : ByteArray := prog_6_method_21_code
def yX1_work : MethodName := ⟨RX1, "work", "(I)I"⟩
def dkwX1_work_1 : List UInt8 := [42, 29, 182, 0, 253, 54, 4, 167, 255, 239, 42, 180, 0, 109, 28, 100, 172]
abbrev dktX1_work_1 : List UInt8 := dkwX1_work_1 ++ []
def dkwX1_work_0 : List UInt8 := [42, 180, 0, 109, 61, 27, 62, 42, 29, 182, 0, 253, 54, 4, 21, 4, 158, 0, 18, 29, 21, 4, 100, 62]
abbrev dktX1_work_0 : List UInt8 := dkwX1_work_0 ++ dktX1_work_1
theorem dksX1_work_0 : cX1_work.data.toList.drop 0 = dktX1_work_0 := by decide +kernel
theorem dksX1_work_1 : cX1_work.data.toList.drop 24 = dktX1_work_1 := dk_seg dksX1_work_0 24 rfl rfl
theorem dX1_work_0 : decode cX1_work 0 = .ok (.aload_n 0, 1) := dk_42 (dk_at dksX1_work_0 0 rfl rfl)
theorem dX1_work_1 : decode cX1_work 1 = .ok (.getfield 109, 3) := dk_180 0 109 (dk_at dksX1_work_0 1 rfl rfl)
theorem dX1_work_4 : decode cX1_work 4 = .ok (.istore_n 2, 1) := dk_61 (dk_at dksX1_work_0 4 rfl rfl)
theorem dX1_work_5 : decode cX1_work 5 = .ok (.iload_n 1, 1) := dk_27 (dk_at dksX1_work_0 5 rfl rfl)
theorem dX1_work_6 : decode cX1_work 6 = .ok (.istore_n 3, 1) := dk_62 (dk_at dksX1_work_0 6 rfl rfl)
theorem dX1_work_7 : decode cX1_work 7 = .ok (.aload_n 0, 1) := dk_42 (dk_at dksX1_work_0 7 rfl rfl)
theorem dX1_work_8 : decode cX1_work 8 = .ok (.iload_n 3, 1) := dk_29 (dk_at dksX1_work_0 8 rfl rfl)
theorem dX1_work_9 : decode cX1_work 9 = .ok (.invokevirtual 253, 3) := dk_182 0 253 (dk_at dksX1_work_0 9 rfl rfl)
theorem dX1_work_12 : decode cX1_work 12 = .ok (.istore 4, 2) := dk_54 4 (dk_at dksX1_work_0 12 rfl rfl)
theorem dX1_work_14 : decode cX1_work 14 = .ok (.iload 4, 2) := dk_21 4 (dk_at dksX1_work_0 14 rfl rfl)
theorem dX1_work_16 : decode cX1_work 16 = .ok (.ifCond .le 18, 3) := dk_158 0 18 (dk_at dksX1_work_0 16 rfl rfl)
theorem dX1_work_19 : decode cX1_work 19 = .ok (.iload_n 3, 1) := dk_29 (dk_at dksX1_work_0 19 rfl rfl)
theorem dX1_work_20 : decode cX1_work 20 = .ok (.iload 4, 2) := dk_21 4 (dk_at dksX1_work_0 20 rfl rfl)
theorem dX1_work_22 : decode cX1_work 22 = .ok (.isub, 1) := dk_100 (dk_at dksX1_work_0 22 rfl rfl)
theorem dX1_work_23 : decode cX1_work 23 = .ok (.istore_n 3, 1) := dk_62 (dk_at dksX1_work_0 23 rfl rfl)
theorem dX1_work_24 : decode cX1_work 24 = .ok (.aload_n 0, 1) := dk_42 (dk_at dksX1_work_1 0 rfl rfl)
theorem dX1_work_25 : decode cX1_work 25 = .ok (.iload_n 3, 1) := dk_29 (dk_at dksX1_work_1 1 rfl rfl)
theorem dX1_work_26 : decode cX1_work 26 = .ok (.invokevirtual 253, 3) := dk_182 0 253 (dk_at dksX1_work_1 2 rfl rfl)
theorem dX1_work_29 : decode cX1_work 29 = .ok (.istore 4, 2) := dk_54 4 (dk_at dksX1_work_1 5 rfl rfl)
theorem dX1_work_31 : decode cX1_work 31 = .ok (.goto (-17), 3) := dk_167 255 239 (dk_at dksX1_work_1 7 rfl rfl)
theorem dX1_work_34 : decode cX1_work 34 = .ok (.aload_n 0, 1) := dk_42 (dk_at dksX1_work_1 10 rfl rfl)
theorem dX1_work_35 : decode cX1_work 35 = .ok (.getfield 109, 3) := dk_180 0 109 (dk_at dksX1_work_1 11 rfl rfl)
theorem dX1_work_38 : decode cX1_work 38 = .ok (.iload_n 2, 1) := dk_28 (dk_at dksX1_work_1 14 rfl rfl)
theorem dX1_work_39 : decode cX1_work 39 = .ok (.isub, 1) := dk_100 (dk_at dksX1_work_1 15 rfl rfl)
theorem dX1_work_40 : decode cX1_work 40 = .ok (.ireturn, 1) := dk_172 (dk_at dksX1_work_1 16 rfl rfl)
abbrev cX1_step : ByteArray := prog_6_method_20_code
def yX1_step : MethodName := ⟨RX1, "step", "(I)I"⟩
def dkwX1_step_2 : List UInt8 := [42, 182, 0, 250, 28, 172]
abbrev dktX1_step_2 : List UInt8 := dkwX1_step_2 ++ []
def dkwX1_step_1 : List UInt8 := [180, 0, 39, 184, 0, 245, 61, 42, 89, 180, 0, 39, 28, 100, 181, 0, 39, 42, 180, 0, 39, 154, 0, 7]
abbrev dktX1_step_1 : List UInt8 := dkwX1_step_1 ++ dktX1_step_2
def dkwX1_step_0 : List UInt8 := [27, 153, 0, 17, 42, 180, 0, 105, 199, 0, 12, 42, 182, 0, 242, 154, 0, 5, 3, 172, 27, 42]
abbrev dktX1_step_0 : List UInt8 := dkwX1_step_0 ++ dktX1_step_1
theorem dksX1_step_0 : cX1_step.data.toList.drop 0 = dktX1_step_0 := by decide +kernel
theorem dksX1_step_1 : cX1_step.data.toList.drop 22 = dktX1_step_1 := dk_seg dksX1_step_0 22 rfl rfl
theorem dksX1_step_2 : cX1_step.data.toList.drop 46 = dktX1_step_2 := dk_seg dksX1_step_1 24 rfl rfl
theorem dX1_step_0 : decode cX1_step 0 = .ok (.iload_n 1, 1) := dk_27 (dk_at dksX1_step_0 0 rfl rfl)
theorem dX1_step_1 : decode cX1_step 1 = .ok (.ifCond .eq 17, 3) := dk_153 0 17 (dk_at dksX1_step_0 1 rfl rfl)
theorem dX1_step_4 : decode cX1_step 4 = .ok (.aload_n 0, 1) := dk_42 (dk_at dksX1_step_0 4 rfl rfl)
theorem dX1_step_5 : decode cX1_step 5 = .ok (.getfield 105, 3) := dk_180 0 105 (dk_at dksX1_step_0 5 rfl rfl)
theorem dX1_step_8 : decode cX1_step 8 = .ok (.ifnonnull 12, 3) := dk_199 0 12 (dk_at dksX1_step_0 8 rfl rfl)
theorem dX1_step_11 : decode cX1_step 11 = .ok (.aload_n 0, 1) := dk_42 (dk_at dksX1_step_0 11 rfl rfl)
theorem dX1_step_12 : decode cX1_step 12 = .ok (.invokevirtual 242, 3) := dk_182 0 242 (dk_at dksX1_step_0 12 rfl rfl)
theorem dX1_step_15 : decode cX1_step 15 = .ok (.ifCond .ne 5, 3) := dk_154 0 5 (dk_at dksX1_step_0 15 rfl rfl)
theorem dX1_step_18 : decode cX1_step 18 = .ok (.iconst 0, 1) := dk_3 (dk_at dksX1_step_0 18 rfl rfl)
theorem dX1_step_19 : decode cX1_step 19 = .ok (.ireturn, 1) := dk_172 (dk_at dksX1_step_0 19 rfl rfl)
theorem dX1_step_20 : decode cX1_step 20 = .ok (.iload_n 1, 1) := dk_27 (dk_at dksX1_step_0 20 rfl rfl)
theorem dX1_step_21 : decode cX1_step 21 = .ok (.aload_n 0, 1) := dk_42 (dk_at dksX1_step_0 21 rfl rfl)
theorem dX1_step_22 : decode cX1_step 22 = .ok (.getfield 39, 3) := dk_180 0 39 (dk_at dksX1_step_1 0 rfl rfl)
theorem dX1_step_25 : decode cX1_step 25 = .ok (.invokestatic 245, 3) := dk_184 0 245 (dk_at dksX1_step_1 3 rfl rfl)
theorem dX1_step_28 : decode cX1_step 28 = .ok (.istore_n 2, 1) := dk_61 (dk_at dksX1_step_1 6 rfl rfl)
theorem dX1_step_29 : decode cX1_step 29 = .ok (.aload_n 0, 1) := dk_42 (dk_at dksX1_step_1 7 rfl rfl)
theorem dX1_step_30 : decode cX1_step 30 = .ok (.dup, 1) := dk_89 (dk_at dksX1_step_1 8 rfl rfl)
theorem dX1_step_31 : decode cX1_step 31 = .ok (.getfield 39, 3) := dk_180 0 39 (dk_at dksX1_step_1 9 rfl rfl)
theorem dX1_step_34 : decode cX1_step 34 = .ok (.iload_n 2, 1) := dk_28 (dk_at dksX1_step_1 12 rfl rfl)
theorem dX1_step_35 : decode cX1_step 35 = .ok (.isub, 1) := dk_100 (dk_at dksX1_step_1 13 rfl rfl)
theorem dX1_step_36 : decode cX1_step 36 = .ok (.putfield 39, 3) := dk_181 0 39 (dk_at dksX1_step_1 14 rfl rfl)
theorem dX1_step_39 : decode cX1_step 39 = .ok (.aload_n 0, 1) := dk_42 (dk_at dksX1_step_1 17 rfl rfl)
theorem dX1_step_40 : decode cX1_step 40 = .ok (.getfield 39, 3) := dk_180 0 39 (dk_at dksX1_step_1 18 rfl rfl)
theorem dX1_step_43 : decode cX1_step 43 = .ok (.ifCond .ne 7, 3) := dk_154 0 7 (dk_at dksX1_step_1 21 rfl rfl)
theorem dX1_step_46 : decode cX1_step 46 = .ok (.aload_n 0, 1) := dk_42 (dk_at dksX1_step_2 0 rfl rfl)
theorem dX1_step_47 : decode cX1_step 47 = .ok (.invokevirtual 250, 3) := dk_182 0 250 (dk_at dksX1_step_2 1 rfl rfl)
theorem dX1_step_50 : decode cX1_step 50 = .ok (.iload_n 2, 1) := dk_28 (dk_at dksX1_step_2 4 rfl rfl)
theorem dX1_step_51 : decode cX1_step 51 = .ok (.ireturn, 1) := dk_172 (dk_at dksX1_step_2 5 rfl rfl)
abbrev cX1_begin : ByteArray := prog_6_method_16_code
def yX1_begin : MethodName := ⟨RX1, "begin", "()Z"⟩
def dkwX1_begin_6 : List UInt8 := [167, 255, 120, 42, 180, 0, 105, 198, 0, 7, 4, 167, 0, 4, 3, 172]
abbrev dktX1_begin_6 : List UInt8 := dkwX1_begin_6 ++ []
def dkwX1_begin_5 : List UInt8 := [180, 0, 12, 42, 180, 0, 32, 185, 0, 169, 2, 0, 192, 0, 59, 4, 181, 0, 136, 132, 1, 1]
abbrev dktX1_begin_5 : List UInt8 := dkwX1_begin_5 ++ dktX1_begin_6
def dkwX1_begin_4 : List UInt8 := [96, 181, 0, 39, 45, 180, 0, 212, 153, 0, 15, 42, 42, 180, 0, 32, 42, 180, 0, 36, 182, 0, 215, 42]
abbrev dktX1_begin_4 : List UInt8 := dkwX1_begin_4 ++ dktX1_begin_5
def dkwX1_begin_3 : List UInt8 := [180, 0, 208, 181, 0, 36, 42, 44, 182, 0, 209, 45, 180, 0, 212, 153, 0, 8, 16, 10, 167, 0, 4, 3]
abbrev dktX1_begin_3 : List UInt8 := dkwX1_begin_3 ++ dktX1_begin_4
def dkwX1_begin_2 : List UInt8 := [182, 0, 204, 78, 45, 198, 0, 85, 42, 44, 181, 0, 105, 42, 45, 180, 0, 207, 181, 0, 32, 42, 45]
abbrev dktX1_begin_2 : List UInt8 := dkwX1_begin_2 ++ dktX1_begin_3
def dkwX1_begin_1 : List UInt8 := [180, 0, 18, 27, 185, 0, 169, 2, 0, 192, 0, 69, 77, 42, 44, 182, 0, 198, 44, 180, 0, 201]
abbrev dktX1_begin_1 : List UInt8 := dkwX1_begin_1 ++ dktX1_begin_2
def dkwX1_begin_0 : List UInt8 := [3, 60, 27, 42, 180, 0, 18, 185, 0, 118, 1, 0, 162, 0, 129, 42, 180, 0, 105, 199, 0, 122, 42]
abbrev dktX1_begin_0 : List UInt8 := dkwX1_begin_0 ++ dktX1_begin_1
theorem dksX1_begin_0 : cX1_begin.data.toList.drop 0 = dktX1_begin_0 := by decide +kernel
theorem dksX1_begin_1 : cX1_begin.data.toList.drop 23 = dktX1_begin_1 := dk_seg dksX1_begin_0 23 rfl rfl
theorem dksX1_begin_2 : cX1_begin.data.toList.drop 45 = dktX1_begin_2 := dk_seg dksX1_begin_1 22 rfl rfl
theorem dksX1_begin_3 : cX1_begin.data.toList.drop 68 = dktX1_begin_3 := dk_seg dksX1_begin_2 23 rfl rfl
theorem dksX1_begin_4 : cX1_begin.data.toList.drop 92 = dktX1_begin_4 := dk_seg dksX1_begin_3 24 rfl rfl
theorem dksX1_begin_5 : cX1_begin.data.toList.drop 116 = dktX1_begin_5 := dk_seg dksX1_begin_4 24 rfl rfl
theorem dksX1_begin_6 : cX1_begin.data.toList.drop 138 = dktX1_begin_6 := dk_seg dksX1_begin_5 22 rfl rfl
theorem dX1_begin_0 : decode cX1_begin 0 = .ok (.iconst 0, 1) := dk_3 (dk_at dksX1_begin_0 0 rfl rfl)
theorem dX1_begin_1 : decode cX1_begin 1 = .ok (.istore_n 1, 1) := dk_60 (dk_at dksX1_begin_0 1 rfl rfl)
theorem dX1_begin_2 : decode cX1_begin 2 = .ok (.iload_n 1, 1) := dk_27 (dk_at dksX1_begin_0 2 rfl rfl)
theorem dX1_begin_3 : decode cX1_begin 3 = .ok (.aload_n 0, 1) := dk_42 (dk_at dksX1_begin_0 3 rfl rfl)
theorem dX1_begin_4 : decode cX1_begin 4 = .ok (.getfield 18, 3) := dk_180 0 18 (dk_at dksX1_begin_0 4 rfl rfl)
theorem dX1_begin_7 : decode cX1_begin 7 = .ok (.invokeinterface 118 1, 5) := by decide +kernel
theorem dX1_begin_12 : decode cX1_begin 12 = .ok (.if_icmp .ge 129, 3) := dk_162 0 129 (dk_at dksX1_begin_0 12 rfl rfl)
theorem dX1_begin_15 : decode cX1_begin 15 = .ok (.aload_n 0, 1) := dk_42 (dk_at dksX1_begin_0 15 rfl rfl)
theorem dX1_begin_16 : decode cX1_begin 16 = .ok (.getfield 105, 3) := dk_180 0 105 (dk_at dksX1_begin_0 16 rfl rfl)
theorem dX1_begin_19 : decode cX1_begin 19 = .ok (.ifnonnull 122, 3) := dk_199 0 122 (dk_at dksX1_begin_0 19 rfl rfl)
theorem dX1_begin_22 : decode cX1_begin 22 = .ok (.aload_n 0, 1) := dk_42 (dk_at dksX1_begin_0 22 rfl rfl)
theorem dX1_begin_23 : decode cX1_begin 23 = .ok (.getfield 18, 3) := dk_180 0 18 (dk_at dksX1_begin_1 0 rfl rfl)
theorem dX1_begin_26 : decode cX1_begin 26 = .ok (.iload_n 1, 1) := dk_27 (dk_at dksX1_begin_1 3 rfl rfl)
theorem dX1_begin_27 : decode cX1_begin 27 = .ok (.invokeinterface 169 2, 5) := by decide +kernel
theorem dX1_begin_32 : decode cX1_begin 32 = .ok (.checkcast 69, 3) := dk_192 0 69 (dk_at dksX1_begin_1 9 rfl rfl)
theorem dX1_begin_35 : decode cX1_begin 35 = .ok (.astore_n 2, 1) := dk_77 (dk_at dksX1_begin_1 12 rfl rfl)
theorem dX1_begin_36 : decode cX1_begin 36 = .ok (.aload_n 0, 1) := dk_42 (dk_at dksX1_begin_1 13 rfl rfl)
theorem dX1_begin_37 : decode cX1_begin 37 = .ok (.aload_n 2, 1) := dk_44 (dk_at dksX1_begin_1 14 rfl rfl)
theorem dX1_begin_38 : decode cX1_begin 38 = .ok (.invokevirtual 198, 3) := dk_182 0 198 (dk_at dksX1_begin_1 15 rfl rfl)
theorem dX1_begin_41 : decode cX1_begin 41 = .ok (.aload_n 2, 1) := dk_44 (dk_at dksX1_begin_1 18 rfl rfl)
theorem dX1_begin_42 : decode cX1_begin 42 = .ok (.getfield 201, 3) := dk_180 0 201 (dk_at dksX1_begin_1 19 rfl rfl)
theorem dX1_begin_45 : decode cX1_begin 45 = .ok (.invokevirtual 204, 3) := dk_182 0 204 (dk_at dksX1_begin_2 0 rfl rfl)
theorem dX1_begin_48 : decode cX1_begin 48 = .ok (.astore_n 3, 1) := dk_78 (dk_at dksX1_begin_2 3 rfl rfl)
theorem dX1_begin_49 : decode cX1_begin 49 = .ok (.aload_n 3, 1) := dk_45 (dk_at dksX1_begin_2 4 rfl rfl)
theorem dX1_begin_50 : decode cX1_begin 50 = .ok (.ifnull 85, 3) := dk_198 0 85 (dk_at dksX1_begin_2 5 rfl rfl)
theorem dX1_begin_53 : decode cX1_begin 53 = .ok (.aload_n 0, 1) := dk_42 (dk_at dksX1_begin_2 8 rfl rfl)
theorem dX1_begin_54 : decode cX1_begin 54 = .ok (.aload_n 2, 1) := dk_44 (dk_at dksX1_begin_2 9 rfl rfl)
theorem dX1_begin_55 : decode cX1_begin 55 = .ok (.putfield 105, 3) := dk_181 0 105 (dk_at dksX1_begin_2 10 rfl rfl)
theorem dX1_begin_58 : decode cX1_begin 58 = .ok (.aload_n 0, 1) := dk_42 (dk_at dksX1_begin_2 13 rfl rfl)
theorem dX1_begin_59 : decode cX1_begin 59 = .ok (.aload_n 3, 1) := dk_45 (dk_at dksX1_begin_2 14 rfl rfl)
theorem dX1_begin_60 : decode cX1_begin 60 = .ok (.getfield 207, 3) := dk_180 0 207 (dk_at dksX1_begin_2 15 rfl rfl)
theorem dX1_begin_63 : decode cX1_begin 63 = .ok (.putfield 32, 3) := dk_181 0 32 (dk_at dksX1_begin_2 18 rfl rfl)
theorem dX1_begin_66 : decode cX1_begin 66 = .ok (.aload_n 0, 1) := dk_42 (dk_at dksX1_begin_2 21 rfl rfl)
theorem dX1_begin_67 : decode cX1_begin 67 = .ok (.aload_n 3, 1) := dk_45 (dk_at dksX1_begin_2 22 rfl rfl)
theorem dX1_begin_68 : decode cX1_begin 68 = .ok (.getfield 208, 3) := dk_180 0 208 (dk_at dksX1_begin_3 0 rfl rfl)
theorem dX1_begin_71 : decode cX1_begin 71 = .ok (.putfield 36, 3) := dk_181 0 36 (dk_at dksX1_begin_3 3 rfl rfl)
theorem dX1_begin_74 : decode cX1_begin 74 = .ok (.aload_n 0, 1) := dk_42 (dk_at dksX1_begin_3 6 rfl rfl)
theorem dX1_begin_75 : decode cX1_begin 75 = .ok (.aload_n 2, 1) := dk_44 (dk_at dksX1_begin_3 7 rfl rfl)
theorem dX1_begin_76 : decode cX1_begin 76 = .ok (.invokevirtual 209, 3) := dk_182 0 209 (dk_at dksX1_begin_3 8 rfl rfl)
theorem dX1_begin_79 : decode cX1_begin 79 = .ok (.aload_n 3, 1) := dk_45 (dk_at dksX1_begin_3 11 rfl rfl)
theorem dX1_begin_80 : decode cX1_begin 80 = .ok (.getfield 212, 3) := dk_180 0 212 (dk_at dksX1_begin_3 12 rfl rfl)
theorem dX1_begin_83 : decode cX1_begin 83 = .ok (.ifCond .eq 8, 3) := dk_153 0 8 (dk_at dksX1_begin_3 15 rfl rfl)
theorem dX1_begin_86 : decode cX1_begin 86 = .ok (.bipush 10, 2) := dk_16 10 (dk_at dksX1_begin_3 18 rfl rfl)
theorem dX1_begin_88 : decode cX1_begin 88 = .ok (.goto 4, 3) := dk_167 0 4 (dk_at dksX1_begin_3 20 rfl rfl)
theorem dX1_begin_91 : decode cX1_begin 91 = .ok (.iconst 0, 1) := dk_3 (dk_at dksX1_begin_3 23 rfl rfl)
theorem dX1_begin_92 : decode cX1_begin 92 = .ok (.iadd, 1) := dk_96 (dk_at dksX1_begin_4 0 rfl rfl)
theorem dX1_begin_93 : decode cX1_begin 93 = .ok (.putfield 39, 3) := dk_181 0 39 (dk_at dksX1_begin_4 1 rfl rfl)
theorem dX1_begin_96 : decode cX1_begin 96 = .ok (.aload_n 3, 1) := dk_45 (dk_at dksX1_begin_4 4 rfl rfl)
theorem dX1_begin_97 : decode cX1_begin 97 = .ok (.getfield 212, 3) := dk_180 0 212 (dk_at dksX1_begin_4 5 rfl rfl)
theorem dX1_begin_100 : decode cX1_begin 100 = .ok (.ifCond .eq 15, 3) := dk_153 0 15 (dk_at dksX1_begin_4 8 rfl rfl)
theorem dX1_begin_103 : decode cX1_begin 103 = .ok (.aload_n 0, 1) := dk_42 (dk_at dksX1_begin_4 11 rfl rfl)
theorem dX1_begin_104 : decode cX1_begin 104 = .ok (.aload_n 0, 1) := dk_42 (dk_at dksX1_begin_4 12 rfl rfl)
theorem dX1_begin_105 : decode cX1_begin 105 = .ok (.getfield 32, 3) := dk_180 0 32 (dk_at dksX1_begin_4 13 rfl rfl)
theorem dX1_begin_108 : decode cX1_begin 108 = .ok (.aload_n 0, 1) := dk_42 (dk_at dksX1_begin_4 16 rfl rfl)
theorem dX1_begin_109 : decode cX1_begin 109 = .ok (.getfield 36, 3) := dk_180 0 36 (dk_at dksX1_begin_4 17 rfl rfl)
theorem dX1_begin_112 : decode cX1_begin 112 = .ok (.invokevirtual 215, 3) := dk_182 0 215 (dk_at dksX1_begin_4 20 rfl rfl)
theorem dX1_begin_115 : decode cX1_begin 115 = .ok (.aload_n 0, 1) := dk_42 (dk_at dksX1_begin_4 23 rfl rfl)
theorem dX1_begin_116 : decode cX1_begin 116 = .ok (.getfield 12, 3) := dk_180 0 12 (dk_at dksX1_begin_5 0 rfl rfl)
theorem dX1_begin_119 : decode cX1_begin 119 = .ok (.aload_n 0, 1) := dk_42 (dk_at dksX1_begin_5 3 rfl rfl)
theorem dX1_begin_120 : decode cX1_begin 120 = .ok (.getfield 32, 3) := dk_180 0 32 (dk_at dksX1_begin_5 4 rfl rfl)
theorem dX1_begin_123 : decode cX1_begin 123 = .ok (.invokeinterface 169 2, 5) := by decide +kernel
theorem dX1_begin_128 : decode cX1_begin 128 = .ok (.checkcast 59, 3) := dk_192 0 59 (dk_at dksX1_begin_5 12 rfl rfl)
theorem dX1_begin_131 : decode cX1_begin 131 = .ok (.iconst 1, 1) := dk_4 (dk_at dksX1_begin_5 15 rfl rfl)
theorem dX1_begin_132 : decode cX1_begin 132 = .ok (.putfield 136, 3) := dk_181 0 136 (dk_at dksX1_begin_5 16 rfl rfl)
theorem dX1_begin_135 : decode cX1_begin 135 = .ok (.iinc 1 1, 3) := dk_132 1 1 (dk_at dksX1_begin_5 19 rfl rfl)
theorem dX1_begin_138 : decode cX1_begin 138 = .ok (.goto (-136), 3) := dk_167 255 120 (dk_at dksX1_begin_6 0 rfl rfl)
theorem dX1_begin_141 : decode cX1_begin 141 = .ok (.aload_n 0, 1) := dk_42 (dk_at dksX1_begin_6 3 rfl rfl)
theorem dX1_begin_142 : decode cX1_begin 142 = .ok (.getfield 105, 3) := dk_180 0 105 (dk_at dksX1_begin_6 4 rfl rfl)
theorem dX1_begin_145 : decode cX1_begin 145 = .ok (.ifnull 7, 3) := dk_198 0 7 (dk_at dksX1_begin_6 7 rfl rfl)
theorem dX1_begin_148 : decode cX1_begin 148 = .ok (.iconst 1, 1) := dk_4 (dk_at dksX1_begin_6 10 rfl rfl)
theorem dX1_begin_149 : decode cX1_begin 149 = .ok (.goto 4, 3) := dk_167 0 4 (dk_at dksX1_begin_6 11 rfl rfl)
theorem dX1_begin_152 : decode cX1_begin 152 = .ok (.iconst 0, 1) := dk_3 (dk_at dksX1_begin_6 14 rfl rfl)
theorem dX1_begin_153 : decode cX1_begin 153 = .ok (.ireturn, 1) := dk_172 (dk_at dksX1_begin_6 15 rfl rfl)
abbrev cX1_find : ByteArray := prog_6_method_14_code
def yX1_find : MethodName := ⟨RX1, "find", "(II)LTrophyPlates$Found;"⟩
def dkwX1_find_0 : List UInt8 := [42, 27, 28, 3, 182, 0, 190, 78, 45, 199, 0, 13, 42, 27, 28, 4, 182, 0, 190, 167, 0, 4, 45, 176]
abbrev dktX1_find_0 : List UInt8 := dkwX1_find_0 ++ []
theorem dksX1_find_0 : cX1_find.data.toList.drop 0 = dktX1_find_0 := by decide +kernel
theorem dX1_find_0 : decode cX1_find 0 = .ok (.aload_n 0, 1) := dk_42 (dk_at dksX1_find_0 0 rfl rfl)
theorem dX1_find_1 : decode cX1_find 1 = .ok (.iload_n 1, 1) := dk_27 (dk_at dksX1_find_0 1 rfl rfl)
theorem dX1_find_2 : decode cX1_find 2 = .ok (.iload_n 2, 1) := dk_28 (dk_at dksX1_find_0 2 rfl rfl)
theorem dX1_find_3 : decode cX1_find 3 = .ok (.iconst 0, 1) := dk_3 (dk_at dksX1_find_0 3 rfl rfl)
theorem dX1_find_4 : decode cX1_find 4 = .ok (.invokevirtual 190, 3) := dk_182 0 190 (dk_at dksX1_find_0 4 rfl rfl)
theorem dX1_find_7 : decode cX1_find 7 = .ok (.astore_n 3, 1) := dk_78 (dk_at dksX1_find_0 7 rfl rfl)
theorem dX1_find_8 : decode cX1_find 8 = .ok (.aload_n 3, 1) := dk_45 (dk_at dksX1_find_0 8 rfl rfl)
theorem dX1_find_9 : decode cX1_find 9 = .ok (.ifnonnull 13, 3) := dk_199 0 13 (dk_at dksX1_find_0 9 rfl rfl)
theorem dX1_find_12 : decode cX1_find 12 = .ok (.aload_n 0, 1) := dk_42 (dk_at dksX1_find_0 12 rfl rfl)
theorem dX1_find_13 : decode cX1_find 13 = .ok (.iload_n 1, 1) := dk_27 (dk_at dksX1_find_0 13 rfl rfl)
theorem dX1_find_14 : decode cX1_find 14 = .ok (.iload_n 2, 1) := dk_28 (dk_at dksX1_find_0 14 rfl rfl)
theorem dX1_find_15 : decode cX1_find 15 = .ok (.iconst 1, 1) := dk_4 (dk_at dksX1_find_0 15 rfl rfl)
theorem dX1_find_16 : decode cX1_find 16 = .ok (.invokevirtual 190, 3) := dk_182 0 190 (dk_at dksX1_find_0 16 rfl rfl)
theorem dX1_find_19 : decode cX1_find 19 = .ok (.goto 4, 3) := dk_167 0 4 (dk_at dksX1_find_0 19 rfl rfl)
theorem dX1_find_22 : decode cX1_find 22 = .ok (.aload_n 3, 1) := dk_45 (dk_at dksX1_find_0 22 rfl rfl)
theorem dX1_find_23 : decode cX1_find 23 = .ok (.areturn, 1) := dk_176 (dk_at dksX1_find_0 23 rfl rfl)
abbrev cX1_find_2 : ByteArray := prog_6_method_13_code
def yX1_find_2 : MethodName := ⟨RX1, "find", "(IIZ)LTrophyPlates$Found;"⟩
def dkwX1_find_2_6 : List UInt8 := [183, 0, 187, 58, 4, 25, 9, 58, 5, 132, 6, 1, 167, 255, 131, 25, 4, 176]
abbrev dktX1_find_2_6 : List UInt8 := dkwX1_find_2_6 ++ []
def dkwX1_find_2_5 : List UInt8 := [198, 0, 13, 25, 9, 25, 5, 184, 0, 181, 153, 0, 21, 187, 0, 185, 89, 21, 6, 21, 8, 29]
abbrev dktX1_find_2_5 : List UInt8 := dkwX1_find_2_5 ++ dktX1_find_2_6
def dkwX1_find_2_4 : List UInt8 := [25, 7, 180, 0, 175, 79, 89, 4, 25, 7, 180, 0, 178, 79, 89, 5, 21, 6, 79, 58, 9, 25, 4]
abbrev dktX1_find_2_4 : List UInt8 := dkwX1_find_2_4 ++ dktX1_find_2_5
def dkwX1_find_2_3 : List UInt8 := [154, 0, 78, 25, 7, 180, 0, 175, 27, 161, 0, 69, 21, 8, 16, 247, 159, 0, 62, 6, 188, 10, 89, 3]
abbrev dktX1_find_2_3 : List UInt8 := dkwX1_find_2_3 ++ dktX1_find_2_4
def dkwX1_find_2_2 : List UInt8 := [185, 0, 169, 2, 0, 192, 0, 59, 58, 7, 25, 7, 28, 29, 182, 0, 172, 54, 8, 25, 7, 180, 0, 136]
abbrev dktX1_find_2_2 : List UInt8 := dkwX1_find_2_2 ++ dktX1_find_2_3
def dkwX1_find_2_1 : List UInt8 := [21, 6, 42, 180, 0, 12, 185, 0, 118, 1, 0, 162, 0, 117, 42, 180, 0, 12, 21, 6]
abbrev dktX1_find_2_1 : List UInt8 := dkwX1_find_2_1 ++ dktX1_find_2_2
def dkwX1_find_2_0 : List UInt8 := [1, 58, 4, 6, 188, 10, 89, 3, 3, 79, 89, 4, 3, 79, 89, 5, 3, 79, 58, 5, 3, 54, 6]
abbrev dktX1_find_2_0 : List UInt8 := dkwX1_find_2_0 ++ dktX1_find_2_1
theorem dksX1_find_2_0 : cX1_find_2.data.toList.drop 0 = dktX1_find_2_0 := by decide +kernel
theorem dksX1_find_2_1 : cX1_find_2.data.toList.drop 23 = dktX1_find_2_1 := dk_seg dksX1_find_2_0 23 rfl rfl
theorem dksX1_find_2_2 : cX1_find_2.data.toList.drop 43 = dktX1_find_2_2 := dk_seg dksX1_find_2_1 20 rfl rfl
theorem dksX1_find_2_3 : cX1_find_2.data.toList.drop 67 = dktX1_find_2_3 := dk_seg dksX1_find_2_2 24 rfl rfl
theorem dksX1_find_2_4 : cX1_find_2.data.toList.drop 91 = dktX1_find_2_4 := dk_seg dksX1_find_2_3 24 rfl rfl
theorem dksX1_find_2_5 : cX1_find_2.data.toList.drop 114 = dktX1_find_2_5 := dk_seg dksX1_find_2_4 23 rfl rfl
theorem dksX1_find_2_6 : cX1_find_2.data.toList.drop 136 = dktX1_find_2_6 := dk_seg dksX1_find_2_5 22 rfl rfl
theorem dX1_find_2_0 : decode cX1_find_2 0 = .ok (.aconst_null, 1) := dk_1 (dk_at dksX1_find_2_0 0 rfl rfl)
theorem dX1_find_2_1 : decode cX1_find_2 1 = .ok (.astore 4, 2) := dk_58 4 (dk_at dksX1_find_2_0 1 rfl rfl)
theorem dX1_find_2_3 : decode cX1_find_2 3 = .ok (.iconst 3, 1) := dk_6 (dk_at dksX1_find_2_0 3 rfl rfl)
theorem dX1_find_2_4 : decode cX1_find_2 4 = .ok (.newarray .int, 2) := dk_188_10 (dk_at dksX1_find_2_0 4 rfl rfl)
theorem dX1_find_2_6 : decode cX1_find_2 6 = .ok (.dup, 1) := dk_89 (dk_at dksX1_find_2_0 6 rfl rfl)
theorem dX1_find_2_7 : decode cX1_find_2 7 = .ok (.iconst 0, 1) := dk_3 (dk_at dksX1_find_2_0 7 rfl rfl)
theorem dX1_find_2_8 : decode cX1_find_2 8 = .ok (.iconst 0, 1) := dk_3 (dk_at dksX1_find_2_0 8 rfl rfl)
theorem dX1_find_2_9 : decode cX1_find_2 9 = .ok (.iastore, 1) := dk_79 (dk_at dksX1_find_2_0 9 rfl rfl)
theorem dX1_find_2_10 : decode cX1_find_2 10 = .ok (.dup, 1) := dk_89 (dk_at dksX1_find_2_0 10 rfl rfl)
theorem dX1_find_2_11 : decode cX1_find_2 11 = .ok (.iconst 1, 1) := dk_4 (dk_at dksX1_find_2_0 11 rfl rfl)
theorem dX1_find_2_12 : decode cX1_find_2 12 = .ok (.iconst 0, 1) := dk_3 (dk_at dksX1_find_2_0 12 rfl rfl)
theorem dX1_find_2_13 : decode cX1_find_2 13 = .ok (.iastore, 1) := dk_79 (dk_at dksX1_find_2_0 13 rfl rfl)
theorem dX1_find_2_14 : decode cX1_find_2 14 = .ok (.dup, 1) := dk_89 (dk_at dksX1_find_2_0 14 rfl rfl)
theorem dX1_find_2_15 : decode cX1_find_2 15 = .ok (.iconst 2, 1) := dk_5 (dk_at dksX1_find_2_0 15 rfl rfl)
theorem dX1_find_2_16 : decode cX1_find_2 16 = .ok (.iconst 0, 1) := dk_3 (dk_at dksX1_find_2_0 16 rfl rfl)
theorem dX1_find_2_17 : decode cX1_find_2 17 = .ok (.iastore, 1) := dk_79 (dk_at dksX1_find_2_0 17 rfl rfl)
theorem dX1_find_2_18 : decode cX1_find_2 18 = .ok (.astore 5, 2) := dk_58 5 (dk_at dksX1_find_2_0 18 rfl rfl)
theorem dX1_find_2_20 : decode cX1_find_2 20 = .ok (.iconst 0, 1) := dk_3 (dk_at dksX1_find_2_0 20 rfl rfl)
theorem dX1_find_2_21 : decode cX1_find_2 21 = .ok (.istore 6, 2) := dk_54 6 (dk_at dksX1_find_2_0 21 rfl rfl)
theorem dX1_find_2_23 : decode cX1_find_2 23 = .ok (.iload 6, 2) := dk_21 6 (dk_at dksX1_find_2_1 0 rfl rfl)
theorem dX1_find_2_25 : decode cX1_find_2 25 = .ok (.aload_n 0, 1) := dk_42 (dk_at dksX1_find_2_1 2 rfl rfl)
theorem dX1_find_2_26 : decode cX1_find_2 26 = .ok (.getfield 12, 3) := dk_180 0 12 (dk_at dksX1_find_2_1 3 rfl rfl)
theorem dX1_find_2_29 : decode cX1_find_2 29 = .ok (.invokeinterface 118 1, 5) := by decide +kernel
theorem dX1_find_2_34 : decode cX1_find_2 34 = .ok (.if_icmp .ge 117, 3) := dk_162 0 117 (dk_at dksX1_find_2_1 11 rfl rfl)
theorem dX1_find_2_37 : decode cX1_find_2 37 = .ok (.aload_n 0, 1) := dk_42 (dk_at dksX1_find_2_1 14 rfl rfl)
theorem dX1_find_2_38 : decode cX1_find_2 38 = .ok (.getfield 12, 3) := dk_180 0 12 (dk_at dksX1_find_2_1 15 rfl rfl)
theorem dX1_find_2_41 : decode cX1_find_2 41 = .ok (.iload 6, 2) := dk_21 6 (dk_at dksX1_find_2_1 18 rfl rfl)
theorem dX1_find_2_43 : decode cX1_find_2 43 = .ok (.invokeinterface 169 2, 5) := by decide +kernel
theorem dX1_find_2_48 : decode cX1_find_2 48 = .ok (.checkcast 59, 3) := dk_192 0 59 (dk_at dksX1_find_2_2 5 rfl rfl)
theorem dX1_find_2_51 : decode cX1_find_2 51 = .ok (.astore 7, 2) := dk_58 7 (dk_at dksX1_find_2_2 8 rfl rfl)
theorem dX1_find_2_53 : decode cX1_find_2 53 = .ok (.aload 7, 2) := dk_25 7 (dk_at dksX1_find_2_2 10 rfl rfl)
theorem dX1_find_2_55 : decode cX1_find_2 55 = .ok (.iload_n 2, 1) := dk_28 (dk_at dksX1_find_2_2 12 rfl rfl)
theorem dX1_find_2_56 : decode cX1_find_2 56 = .ok (.iload_n 3, 1) := dk_29 (dk_at dksX1_find_2_2 13 rfl rfl)
theorem dX1_find_2_57 : decode cX1_find_2 57 = .ok (.invokevirtual 172, 3) := dk_182 0 172 (dk_at dksX1_find_2_2 14 rfl rfl)
theorem dX1_find_2_60 : decode cX1_find_2 60 = .ok (.istore 8, 2) := dk_54 8 (dk_at dksX1_find_2_2 17 rfl rfl)
theorem dX1_find_2_62 : decode cX1_find_2 62 = .ok (.aload 7, 2) := dk_25 7 (dk_at dksX1_find_2_2 19 rfl rfl)
theorem dX1_find_2_64 : decode cX1_find_2 64 = .ok (.getfield 136, 3) := dk_180 0 136 (dk_at dksX1_find_2_2 21 rfl rfl)
theorem dX1_find_2_67 : decode cX1_find_2 67 = .ok (.ifCond .ne 78, 3) := dk_154 0 78 (dk_at dksX1_find_2_3 0 rfl rfl)
theorem dX1_find_2_70 : decode cX1_find_2 70 = .ok (.aload 7, 2) := dk_25 7 (dk_at dksX1_find_2_3 3 rfl rfl)
theorem dX1_find_2_72 : decode cX1_find_2 72 = .ok (.getfield 175, 3) := dk_180 0 175 (dk_at dksX1_find_2_3 5 rfl rfl)
theorem dX1_find_2_75 : decode cX1_find_2 75 = .ok (.iload_n 1, 1) := dk_27 (dk_at dksX1_find_2_3 8 rfl rfl)
theorem dX1_find_2_76 : decode cX1_find_2 76 = .ok (.if_icmp .lt 69, 3) := dk_161 0 69 (dk_at dksX1_find_2_3 9 rfl rfl)
theorem dX1_find_2_79 : decode cX1_find_2 79 = .ok (.iload 8, 2) := dk_21 8 (dk_at dksX1_find_2_3 12 rfl rfl)
theorem dX1_find_2_81 : decode cX1_find_2 81 = .ok (.bipush (-9), 2) := dk_16 247 (dk_at dksX1_find_2_3 14 rfl rfl)
theorem dX1_find_2_83 : decode cX1_find_2 83 = .ok (.if_icmp .eq 62, 3) := dk_159 0 62 (dk_at dksX1_find_2_3 16 rfl rfl)
theorem dX1_find_2_86 : decode cX1_find_2 86 = .ok (.iconst 3, 1) := dk_6 (dk_at dksX1_find_2_3 19 rfl rfl)
theorem dX1_find_2_87 : decode cX1_find_2 87 = .ok (.newarray .int, 2) := dk_188_10 (dk_at dksX1_find_2_3 20 rfl rfl)
theorem dX1_find_2_89 : decode cX1_find_2 89 = .ok (.dup, 1) := dk_89 (dk_at dksX1_find_2_3 22 rfl rfl)
theorem dX1_find_2_90 : decode cX1_find_2 90 = .ok (.iconst 0, 1) := dk_3 (dk_at dksX1_find_2_3 23 rfl rfl)
theorem dX1_find_2_91 : decode cX1_find_2 91 = .ok (.aload 7, 2) := dk_25 7 (dk_at dksX1_find_2_4 0 rfl rfl)
theorem dX1_find_2_93 : decode cX1_find_2 93 = .ok (.getfield 175, 3) := dk_180 0 175 (dk_at dksX1_find_2_4 2 rfl rfl)
theorem dX1_find_2_96 : decode cX1_find_2 96 = .ok (.iastore, 1) := dk_79 (dk_at dksX1_find_2_4 5 rfl rfl)
theorem dX1_find_2_97 : decode cX1_find_2 97 = .ok (.dup, 1) := dk_89 (dk_at dksX1_find_2_4 6 rfl rfl)
theorem dX1_find_2_98 : decode cX1_find_2 98 = .ok (.iconst 1, 1) := dk_4 (dk_at dksX1_find_2_4 7 rfl rfl)
theorem dX1_find_2_99 : decode cX1_find_2 99 = .ok (.aload 7, 2) := dk_25 7 (dk_at dksX1_find_2_4 8 rfl rfl)
theorem dX1_find_2_101 : decode cX1_find_2 101 = .ok (.getfield 178, 3) := dk_180 0 178 (dk_at dksX1_find_2_4 10 rfl rfl)
theorem dX1_find_2_104 : decode cX1_find_2 104 = .ok (.iastore, 1) := dk_79 (dk_at dksX1_find_2_4 13 rfl rfl)
theorem dX1_find_2_105 : decode cX1_find_2 105 = .ok (.dup, 1) := dk_89 (dk_at dksX1_find_2_4 14 rfl rfl)
theorem dX1_find_2_106 : decode cX1_find_2 106 = .ok (.iconst 2, 1) := dk_5 (dk_at dksX1_find_2_4 15 rfl rfl)
theorem dX1_find_2_107 : decode cX1_find_2 107 = .ok (.iload 6, 2) := dk_21 6 (dk_at dksX1_find_2_4 16 rfl rfl)
theorem dX1_find_2_109 : decode cX1_find_2 109 = .ok (.iastore, 1) := dk_79 (dk_at dksX1_find_2_4 18 rfl rfl)
theorem dX1_find_2_110 : decode cX1_find_2 110 = .ok (.astore 9, 2) := dk_58 9 (dk_at dksX1_find_2_4 19 rfl rfl)
theorem dX1_find_2_112 : decode cX1_find_2 112 = .ok (.aload 4, 2) := dk_25 4 (dk_at dksX1_find_2_4 21 rfl rfl)
theorem dX1_find_2_114 : decode cX1_find_2 114 = .ok (.ifnull 13, 3) := dk_198 0 13 (dk_at dksX1_find_2_5 0 rfl rfl)
theorem dX1_find_2_117 : decode cX1_find_2 117 = .ok (.aload 9, 2) := dk_25 9 (dk_at dksX1_find_2_5 3 rfl rfl)
theorem dX1_find_2_119 : decode cX1_find_2 119 = .ok (.aload 5, 2) := dk_25 5 (dk_at dksX1_find_2_5 5 rfl rfl)
theorem dX1_find_2_121 : decode cX1_find_2 121 = .ok (.invokestatic 181, 3) := dk_184 0 181 (dk_at dksX1_find_2_5 7 rfl rfl)
theorem dX1_find_2_124 : decode cX1_find_2 124 = .ok (.ifCond .eq 21, 3) := dk_153 0 21 (dk_at dksX1_find_2_5 10 rfl rfl)
theorem dX1_find_2_127 : decode cX1_find_2 127 = .ok (.new 185, 3) := dk_187 0 185 (dk_at dksX1_find_2_5 13 rfl rfl)
theorem dX1_find_2_130 : decode cX1_find_2 130 = .ok (.dup, 1) := dk_89 (dk_at dksX1_find_2_5 16 rfl rfl)
theorem dX1_find_2_131 : decode cX1_find_2 131 = .ok (.iload 6, 2) := dk_21 6 (dk_at dksX1_find_2_5 17 rfl rfl)
theorem dX1_find_2_133 : decode cX1_find_2 133 = .ok (.iload 8, 2) := dk_21 8 (dk_at dksX1_find_2_5 19 rfl rfl)
theorem dX1_find_2_135 : decode cX1_find_2 135 = .ok (.iload_n 3, 1) := dk_29 (dk_at dksX1_find_2_5 21 rfl rfl)
theorem dX1_find_2_136 : decode cX1_find_2 136 = .ok (.invokespecial 187, 3) := dk_183 0 187 (dk_at dksX1_find_2_6 0 rfl rfl)
theorem dX1_find_2_139 : decode cX1_find_2 139 = .ok (.astore 4, 2) := dk_58 4 (dk_at dksX1_find_2_6 3 rfl rfl)
theorem dX1_find_2_141 : decode cX1_find_2 141 = .ok (.aload 9, 2) := dk_25 9 (dk_at dksX1_find_2_6 5 rfl rfl)
theorem dX1_find_2_143 : decode cX1_find_2 143 = .ok (.astore 5, 2) := dk_58 5 (dk_at dksX1_find_2_6 7 rfl rfl)
theorem dX1_find_2_145 : decode cX1_find_2 145 = .ok (.iinc 6 1, 3) := dk_132 6 1 (dk_at dksX1_find_2_6 9 rfl rfl)
theorem dX1_find_2_148 : decode cX1_find_2 148 = .ok (.goto (-125), 3) := dk_167 255 131 (dk_at dksX1_find_2_6 12 rfl rfl)
theorem dX1_find_2_151 : decode cX1_find_2 151 = .ok (.aload 4, 2) := dk_25 4 (dk_at dksX1_find_2_6 15 rfl rfl)
theorem dX1_find_2_153 : decode cX1_find_2 153 = .ok (.areturn, 1) := dk_176 (dk_at dksX1_find_2_6 17 rfl rfl)
abbrev cX1_fix : ByteArray := prog_6_method_18_code
def yX1_fix : MethodName := ⟨RX1, "fix", "()V"⟩
def dkwX1_fix_5 : List UInt8 := [54, 4, 42, 89, 180, 0, 109, 4, 96, 181, 0, 109, 42, 182, 0, 237, 177]
abbrev dktX1_fix_5 : List UInt8 := dkwX1_fix_5 ++ []
def dkwX1_fix_4 : List UInt8 := [29, 3, 182, 0, 228, 182, 0, 230, 54, 4, 42, 180, 0, 18, 42, 180, 0, 105, 185, 0, 234, 2, 0]
abbrev dktX1_fix_4 : List UInt8 := dkwX1_fix_4 ++ dktX1_fix_5
def dkwX1_fix_3 : List UInt8 := [180, 0, 155, 180, 0, 142, 62, 42, 29, 182, 0, 224, 42, 180, 0, 28, 29, 46, 164, 0, 16, 42, 29, 42]
abbrev dktX1_fix_3 : List UInt8 := dkwX1_fix_3 ++ dktX1_fix_4
def dkwX1_fix_2 : List UInt8 := [180, 0, 155, 42, 180, 0, 32, 184, 0, 220, 185, 0, 92, 3, 0, 192, 0, 90, 77, 42, 180, 0, 105]
abbrev dktX1_fix_2 : List UInt8 := dkwX1_fix_2 ++ dktX1_fix_3
def dkwX1_fix_1 : List UInt8 := [180, 0, 36, 42, 180, 0, 105, 180, 0, 201, 79, 43, 5, 181, 0, 136, 42, 180, 0, 24, 42, 180, 0, 105]
abbrev dktX1_fix_1 : List UInt8 := dkwX1_fix_1 ++ dktX1_fix_2
def dkwX1_fix_0 : List UInt8 := [42, 180, 0, 12, 42, 180, 0, 32, 185, 0, 169, 2, 0, 192, 0, 59, 76, 43, 180, 0, 217, 42]
abbrev dktX1_fix_0 : List UInt8 := dkwX1_fix_0 ++ dktX1_fix_1
theorem dksX1_fix_0 : cX1_fix.data.toList.drop 0 = dktX1_fix_0 := by decide +kernel
theorem dksX1_fix_1 : cX1_fix.data.toList.drop 22 = dktX1_fix_1 := dk_seg dksX1_fix_0 22 rfl rfl
theorem dksX1_fix_2 : cX1_fix.data.toList.drop 46 = dktX1_fix_2 := dk_seg dksX1_fix_1 24 rfl rfl
theorem dksX1_fix_3 : cX1_fix.data.toList.drop 69 = dktX1_fix_3 := dk_seg dksX1_fix_2 23 rfl rfl
theorem dksX1_fix_4 : cX1_fix.data.toList.drop 93 = dktX1_fix_4 := dk_seg dksX1_fix_3 24 rfl rfl
theorem dksX1_fix_5 : cX1_fix.data.toList.drop 116 = dktX1_fix_5 := dk_seg dksX1_fix_4 23 rfl rfl
theorem dX1_fix_0 : decode cX1_fix 0 = .ok (.aload_n 0, 1) := dk_42 (dk_at dksX1_fix_0 0 rfl rfl)
theorem dX1_fix_1 : decode cX1_fix 1 = .ok (.getfield 12, 3) := dk_180 0 12 (dk_at dksX1_fix_0 1 rfl rfl)
theorem dX1_fix_4 : decode cX1_fix 4 = .ok (.aload_n 0, 1) := dk_42 (dk_at dksX1_fix_0 4 rfl rfl)
theorem dX1_fix_5 : decode cX1_fix 5 = .ok (.getfield 32, 3) := dk_180 0 32 (dk_at dksX1_fix_0 5 rfl rfl)
theorem dX1_fix_8 : decode cX1_fix 8 = .ok (.invokeinterface 169 2, 5) := by decide +kernel
theorem dX1_fix_13 : decode cX1_fix 13 = .ok (.checkcast 59, 3) := dk_192 0 59 (dk_at dksX1_fix_0 13 rfl rfl)
theorem dX1_fix_16 : decode cX1_fix 16 = .ok (.astore_n 1, 1) := dk_76 (dk_at dksX1_fix_0 16 rfl rfl)
theorem dX1_fix_17 : decode cX1_fix 17 = .ok (.aload_n 1, 1) := dk_43 (dk_at dksX1_fix_0 17 rfl rfl)
theorem dX1_fix_18 : decode cX1_fix 18 = .ok (.getfield 217, 3) := dk_180 0 217 (dk_at dksX1_fix_0 18 rfl rfl)
theorem dX1_fix_21 : decode cX1_fix 21 = .ok (.aload_n 0, 1) := dk_42 (dk_at dksX1_fix_0 21 rfl rfl)
theorem dX1_fix_22 : decode cX1_fix 22 = .ok (.getfield 36, 3) := dk_180 0 36 (dk_at dksX1_fix_1 0 rfl rfl)
theorem dX1_fix_25 : decode cX1_fix 25 = .ok (.aload_n 0, 1) := dk_42 (dk_at dksX1_fix_1 3 rfl rfl)
theorem dX1_fix_26 : decode cX1_fix 26 = .ok (.getfield 105, 3) := dk_180 0 105 (dk_at dksX1_fix_1 4 rfl rfl)
theorem dX1_fix_29 : decode cX1_fix 29 = .ok (.getfield 201, 3) := dk_180 0 201 (dk_at dksX1_fix_1 7 rfl rfl)
theorem dX1_fix_32 : decode cX1_fix 32 = .ok (.iastore, 1) := dk_79 (dk_at dksX1_fix_1 10 rfl rfl)
theorem dX1_fix_33 : decode cX1_fix 33 = .ok (.aload_n 1, 1) := dk_43 (dk_at dksX1_fix_1 11 rfl rfl)
theorem dX1_fix_34 : decode cX1_fix 34 = .ok (.iconst 2, 1) := dk_5 (dk_at dksX1_fix_1 12 rfl rfl)
theorem dX1_fix_35 : decode cX1_fix 35 = .ok (.putfield 136, 3) := dk_181 0 136 (dk_at dksX1_fix_1 13 rfl rfl)
theorem dX1_fix_38 : decode cX1_fix 38 = .ok (.aload_n 0, 1) := dk_42 (dk_at dksX1_fix_1 16 rfl rfl)
theorem dX1_fix_39 : decode cX1_fix 39 = .ok (.getfield 24, 3) := dk_180 0 24 (dk_at dksX1_fix_1 17 rfl rfl)
theorem dX1_fix_42 : decode cX1_fix 42 = .ok (.aload_n 0, 1) := dk_42 (dk_at dksX1_fix_1 20 rfl rfl)
theorem dX1_fix_43 : decode cX1_fix 43 = .ok (.getfield 105, 3) := dk_180 0 105 (dk_at dksX1_fix_1 21 rfl rfl)
theorem dX1_fix_46 : decode cX1_fix 46 = .ok (.getfield 155, 3) := dk_180 0 155 (dk_at dksX1_fix_2 0 rfl rfl)
theorem dX1_fix_49 : decode cX1_fix 49 = .ok (.aload_n 0, 1) := dk_42 (dk_at dksX1_fix_2 3 rfl rfl)
theorem dX1_fix_50 : decode cX1_fix 50 = .ok (.getfield 32, 3) := dk_180 0 32 (dk_at dksX1_fix_2 4 rfl rfl)
theorem dX1_fix_53 : decode cX1_fix 53 = .ok (.invokestatic 220, 3) := dk_184 0 220 (dk_at dksX1_fix_2 7 rfl rfl)
theorem dX1_fix_56 : decode cX1_fix 56 = .ok (.invokeinterface 92 3, 5) := by decide +kernel
theorem dX1_fix_61 : decode cX1_fix 61 = .ok (.checkcast 90, 3) := dk_192 0 90 (dk_at dksX1_fix_2 15 rfl rfl)
theorem dX1_fix_64 : decode cX1_fix 64 = .ok (.astore_n 2, 1) := dk_77 (dk_at dksX1_fix_2 18 rfl rfl)
theorem dX1_fix_65 : decode cX1_fix 65 = .ok (.aload_n 0, 1) := dk_42 (dk_at dksX1_fix_2 19 rfl rfl)
theorem dX1_fix_66 : decode cX1_fix 66 = .ok (.getfield 105, 3) := dk_180 0 105 (dk_at dksX1_fix_2 20 rfl rfl)
theorem dX1_fix_69 : decode cX1_fix 69 = .ok (.getfield 155, 3) := dk_180 0 155 (dk_at dksX1_fix_3 0 rfl rfl)
theorem dX1_fix_72 : decode cX1_fix 72 = .ok (.getfield 142, 3) := dk_180 0 142 (dk_at dksX1_fix_3 3 rfl rfl)
theorem dX1_fix_75 : decode cX1_fix 75 = .ok (.istore_n 3, 1) := dk_62 (dk_at dksX1_fix_3 6 rfl rfl)
theorem dX1_fix_76 : decode cX1_fix 76 = .ok (.aload_n 0, 1) := dk_42 (dk_at dksX1_fix_3 7 rfl rfl)
theorem dX1_fix_77 : decode cX1_fix 77 = .ok (.iload_n 3, 1) := dk_29 (dk_at dksX1_fix_3 8 rfl rfl)
theorem dX1_fix_78 : decode cX1_fix 78 = .ok (.invokevirtual 224, 3) := dk_182 0 224 (dk_at dksX1_fix_3 9 rfl rfl)
theorem dX1_fix_81 : decode cX1_fix 81 = .ok (.aload_n 0, 1) := dk_42 (dk_at dksX1_fix_3 12 rfl rfl)
theorem dX1_fix_82 : decode cX1_fix 82 = .ok (.getfield 28, 3) := dk_180 0 28 (dk_at dksX1_fix_3 13 rfl rfl)
theorem dX1_fix_85 : decode cX1_fix 85 = .ok (.iload_n 3, 1) := dk_29 (dk_at dksX1_fix_3 16 rfl rfl)
theorem dX1_fix_86 : decode cX1_fix 86 = .ok (.iaload, 1) := dk_46 (dk_at dksX1_fix_3 17 rfl rfl)
theorem dX1_fix_87 : decode cX1_fix 87 = .ok (.if_icmp .le 16, 3) := dk_164 0 16 (dk_at dksX1_fix_3 18 rfl rfl)
theorem dX1_fix_90 : decode cX1_fix 90 = .ok (.aload_n 0, 1) := dk_42 (dk_at dksX1_fix_3 21 rfl rfl)
theorem dX1_fix_91 : decode cX1_fix 91 = .ok (.iload_n 3, 1) := dk_29 (dk_at dksX1_fix_3 22 rfl rfl)
theorem dX1_fix_92 : decode cX1_fix 92 = .ok (.aload_n 0, 1) := dk_42 (dk_at dksX1_fix_3 23 rfl rfl)
theorem dX1_fix_93 : decode cX1_fix 93 = .ok (.iload_n 3, 1) := dk_29 (dk_at dksX1_fix_4 0 rfl rfl)
theorem dX1_fix_94 : decode cX1_fix 94 = .ok (.iconst 0, 1) := dk_3 (dk_at dksX1_fix_4 1 rfl rfl)
theorem dX1_fix_95 : decode cX1_fix 95 = .ok (.invokevirtual 228, 3) := dk_182 0 228 (dk_at dksX1_fix_4 2 rfl rfl)
theorem dX1_fix_98 : decode cX1_fix 98 = .ok (.invokevirtual 230, 3) := dk_182 0 230 (dk_at dksX1_fix_4 5 rfl rfl)
theorem dX1_fix_101 : decode cX1_fix 101 = .ok (.istore 4, 2) := dk_54 4 (dk_at dksX1_fix_4 8 rfl rfl)
theorem dX1_fix_103 : decode cX1_fix 103 = .ok (.aload_n 0, 1) := dk_42 (dk_at dksX1_fix_4 10 rfl rfl)
theorem dX1_fix_104 : decode cX1_fix 104 = .ok (.getfield 18, 3) := dk_180 0 18 (dk_at dksX1_fix_4 11 rfl rfl)
theorem dX1_fix_107 : decode cX1_fix 107 = .ok (.aload_n 0, 1) := dk_42 (dk_at dksX1_fix_4 14 rfl rfl)
theorem dX1_fix_108 : decode cX1_fix 108 = .ok (.getfield 105, 3) := dk_180 0 105 (dk_at dksX1_fix_4 15 rfl rfl)
theorem dX1_fix_111 : decode cX1_fix 111 = .ok (.invokeinterface 234 2, 5) := by decide +kernel
theorem dX1_fix_116 : decode cX1_fix 116 = .ok (.istore 4, 2) := dk_54 4 (dk_at dksX1_fix_5 0 rfl rfl)
theorem dX1_fix_118 : decode cX1_fix 118 = .ok (.aload_n 0, 1) := dk_42 (dk_at dksX1_fix_5 2 rfl rfl)
theorem dX1_fix_119 : decode cX1_fix 119 = .ok (.dup, 1) := dk_89 (dk_at dksX1_fix_5 3 rfl rfl)
theorem dX1_fix_120 : decode cX1_fix 120 = .ok (.getfield 109, 3) := dk_180 0 109 (dk_at dksX1_fix_5 4 rfl rfl)
theorem dX1_fix_123 : decode cX1_fix 123 = .ok (.iconst 1, 1) := dk_4 (dk_at dksX1_fix_5 7 rfl rfl)
theorem dX1_fix_124 : decode cX1_fix 124 = .ok (.iadd, 1) := dk_96 (dk_at dksX1_fix_5 8 rfl rfl)
theorem dX1_fix_125 : decode cX1_fix 125 = .ok (.putfield 109, 3) := dk_181 0 109 (dk_at dksX1_fix_5 9 rfl rfl)
theorem dX1_fix_128 : decode cX1_fix 128 = .ok (.aload_n 0, 1) := dk_42 (dk_at dksX1_fix_5 12 rfl rfl)
theorem dX1_fix_129 : decode cX1_fix 129 = .ok (.invokevirtual 237, 3) := dk_182 0 237 (dk_at dksX1_fix_5 13 rfl rfl)
theorem dX1_fix_132 : decode cX1_fix 132 = .ok (.return_, 1) := dk_177 (dk_at dksX1_fix_5 16 rfl rfl)
abbrev cX1_platesOn : ByteArray := prog_6_method_8_code
def yX1_platesOn : MethodName := ⟨RX1, "platesOn", "(I)I"⟩
def dkwX1_platesOn_2 : List UInt8 := [4, 167, 0, 4, 3, 96, 61, 167, 255, 219, 28, 172]
abbrev dktX1_platesOn_2 : List UInt8 := dkwX1_platesOn_2 ++ []
def dkwX1_platesOn_1 : List UInt8 := [153, 0, 34, 45, 185, 0, 55, 1, 0, 192, 0, 85, 58, 4, 28, 25, 4, 180, 0, 142, 27, 160, 0, 7]
abbrev dktX1_platesOn_1 : List UInt8 := dkwX1_platesOn_1 ++ dktX1_platesOn_2
def dkwX1_platesOn_0 : List UInt8 := [3, 61, 42, 180, 0, 24, 185, 0, 139, 1, 0, 185, 0, 77, 1, 0, 78, 45, 185, 0, 49, 1, 0]
abbrev dktX1_platesOn_0 : List UInt8 := dkwX1_platesOn_0 ++ dktX1_platesOn_1
theorem dksX1_platesOn_0 : cX1_platesOn.data.toList.drop 0 = dktX1_platesOn_0 := by decide +kernel
theorem dksX1_platesOn_1 : cX1_platesOn.data.toList.drop 23 = dktX1_platesOn_1 := dk_seg dksX1_platesOn_0 23 rfl rfl
theorem dksX1_platesOn_2 : cX1_platesOn.data.toList.drop 47 = dktX1_platesOn_2 := dk_seg dksX1_platesOn_1 24 rfl rfl
theorem dX1_platesOn_0 : decode cX1_platesOn 0 = .ok (.iconst 0, 1) := dk_3 (dk_at dksX1_platesOn_0 0 rfl rfl)
theorem dX1_platesOn_1 : decode cX1_platesOn 1 = .ok (.istore_n 2, 1) := dk_61 (dk_at dksX1_platesOn_0 1 rfl rfl)
theorem dX1_platesOn_2 : decode cX1_platesOn 2 = .ok (.aload_n 0, 1) := dk_42 (dk_at dksX1_platesOn_0 2 rfl rfl)
theorem dX1_platesOn_3 : decode cX1_platesOn 3 = .ok (.getfield 24, 3) := dk_180 0 24 (dk_at dksX1_platesOn_0 3 rfl rfl)
theorem dX1_platesOn_6 : decode cX1_platesOn 6 = .ok (.invokeinterface 139 1, 5) := by decide +kernel
theorem dX1_platesOn_11 : decode cX1_platesOn 11 = .ok (.invokeinterface 77 1, 5) := by decide +kernel
theorem dX1_platesOn_16 : decode cX1_platesOn 16 = .ok (.astore_n 3, 1) := dk_78 (dk_at dksX1_platesOn_0 16 rfl rfl)
theorem dX1_platesOn_17 : decode cX1_platesOn 17 = .ok (.aload_n 3, 1) := dk_45 (dk_at dksX1_platesOn_0 17 rfl rfl)
theorem dX1_platesOn_18 : decode cX1_platesOn 18 = .ok (.invokeinterface 49 1, 5) := by decide +kernel
theorem dX1_platesOn_23 : decode cX1_platesOn 23 = .ok (.ifCond .eq 34, 3) := dk_153 0 34 (dk_at dksX1_platesOn_1 0 rfl rfl)
theorem dX1_platesOn_26 : decode cX1_platesOn 26 = .ok (.aload_n 3, 1) := dk_45 (dk_at dksX1_platesOn_1 3 rfl rfl)
theorem dX1_platesOn_27 : decode cX1_platesOn 27 = .ok (.invokeinterface 55 1, 5) := by decide +kernel
theorem dX1_platesOn_32 : decode cX1_platesOn 32 = .ok (.checkcast 85, 3) := dk_192 0 85 (dk_at dksX1_platesOn_1 9 rfl rfl)
theorem dX1_platesOn_35 : decode cX1_platesOn 35 = .ok (.astore 4, 2) := dk_58 4 (dk_at dksX1_platesOn_1 12 rfl rfl)
theorem dX1_platesOn_37 : decode cX1_platesOn 37 = .ok (.iload_n 2, 1) := dk_28 (dk_at dksX1_platesOn_1 14 rfl rfl)
theorem dX1_platesOn_38 : decode cX1_platesOn 38 = .ok (.aload 4, 2) := dk_25 4 (dk_at dksX1_platesOn_1 15 rfl rfl)
theorem dX1_platesOn_40 : decode cX1_platesOn 40 = .ok (.getfield 142, 3) := dk_180 0 142 (dk_at dksX1_platesOn_1 17 rfl rfl)
theorem dX1_platesOn_43 : decode cX1_platesOn 43 = .ok (.iload_n 1, 1) := dk_27 (dk_at dksX1_platesOn_1 20 rfl rfl)
theorem dX1_platesOn_44 : decode cX1_platesOn 44 = .ok (.if_icmp .ne 7, 3) := dk_160 0 7 (dk_at dksX1_platesOn_1 21 rfl rfl)
theorem dX1_platesOn_47 : decode cX1_platesOn 47 = .ok (.iconst 1, 1) := dk_4 (dk_at dksX1_platesOn_2 0 rfl rfl)
theorem dX1_platesOn_48 : decode cX1_platesOn 48 = .ok (.goto 4, 3) := dk_167 0 4 (dk_at dksX1_platesOn_2 1 rfl rfl)
theorem dX1_platesOn_51 : decode cX1_platesOn 51 = .ok (.iconst 0, 1) := dk_3 (dk_at dksX1_platesOn_2 4 rfl rfl)
theorem dX1_platesOn_52 : decode cX1_platesOn 52 = .ok (.iadd, 1) := dk_96 (dk_at dksX1_platesOn_2 5 rfl rfl)
theorem dX1_platesOn_53 : decode cX1_platesOn 53 = .ok (.istore_n 2, 1) := dk_61 (dk_at dksX1_platesOn_2 6 rfl rfl)
theorem dX1_platesOn_54 : decode cX1_platesOn 54 = .ok (.goto (-37), 3) := dk_167 255 219 (dk_at dksX1_platesOn_2 7 rfl rfl)
theorem dX1_platesOn_57 : decode cX1_platesOn 57 = .ok (.iload_n 2, 1) := dk_28 (dk_at dksX1_platesOn_2 10 rfl rfl)
theorem dX1_platesOn_58 : decode cX1_platesOn 58 = .ok (.ireturn, 1) := dk_172 (dk_at dksX1_platesOn_2 11 rfl rfl)
abbrev cX1_year : ByteArray := prog_6_method_9_code
def yX1_year : MethodName := ⟨RX1, "year", "(IZ)I"⟩
def dkwX1_year_4 : List UInt8 := [153, 0, 11, 25, 5, 180, 0, 145, 167, 0, 4, 29, 62, 167, 255, 172, 29, 172]
abbrev dktX1_year_4 : List UInt8 := dkwX1_year_4 ++ []
def dkwX1_year_3 : List UInt8 := [29, 162, 0, 7, 4, 167, 0, 4, 3, 54, 6, 25, 5, 180, 0, 142, 27, 160, 0, 16, 21, 6]
abbrev dktX1_year_3 : List UInt8 := dkwX1_year_3 ++ dktX1_year_4
def dkwX1_year_2 : List UInt8 := [159, 0, 28, 28, 153, 0, 15, 25, 5, 180, 0, 145, 29, 164, 0, 19, 167, 0, 12, 25, 5, 180, 0, 145]
abbrev dktX1_year_2 : List UInt8 := dkwX1_year_2 ++ dktX1_year_3
def dkwX1_year_1 : List UInt8 := [185, 0, 49, 1, 0, 153, 0, 80, 25, 4, 185, 0, 55, 1, 0, 192, 0, 85, 58, 5, 29, 16, 247]
abbrev dktX1_year_1 : List UInt8 := dkwX1_year_1 ++ dktX1_year_2
def dkwX1_year_0 : List UInt8 := [16, 247, 62, 42, 180, 0, 24, 185, 0, 139, 1, 0, 185, 0, 77, 1, 0, 58, 4, 25, 4]
abbrev dktX1_year_0 : List UInt8 := dkwX1_year_0 ++ dktX1_year_1
theorem dksX1_year_0 : cX1_year.data.toList.drop 0 = dktX1_year_0 := by decide +kernel
theorem dksX1_year_1 : cX1_year.data.toList.drop 21 = dktX1_year_1 := dk_seg dksX1_year_0 21 rfl rfl
theorem dksX1_year_2 : cX1_year.data.toList.drop 44 = dktX1_year_2 := dk_seg dksX1_year_1 23 rfl rfl
theorem dksX1_year_3 : cX1_year.data.toList.drop 68 = dktX1_year_3 := dk_seg dksX1_year_2 24 rfl rfl
theorem dksX1_year_4 : cX1_year.data.toList.drop 90 = dktX1_year_4 := dk_seg dksX1_year_3 22 rfl rfl
theorem dX1_year_0 : decode cX1_year 0 = .ok (.bipush (-9), 2) := dk_16 247 (dk_at dksX1_year_0 0 rfl rfl)
theorem dX1_year_2 : decode cX1_year 2 = .ok (.istore_n 3, 1) := dk_62 (dk_at dksX1_year_0 2 rfl rfl)
theorem dX1_year_3 : decode cX1_year 3 = .ok (.aload_n 0, 1) := dk_42 (dk_at dksX1_year_0 3 rfl rfl)
theorem dX1_year_4 : decode cX1_year 4 = .ok (.getfield 24, 3) := dk_180 0 24 (dk_at dksX1_year_0 4 rfl rfl)
theorem dX1_year_7 : decode cX1_year 7 = .ok (.invokeinterface 139 1, 5) := by decide +kernel
theorem dX1_year_12 : decode cX1_year 12 = .ok (.invokeinterface 77 1, 5) := by decide +kernel
theorem dX1_year_17 : decode cX1_year 17 = .ok (.astore 4, 2) := dk_58 4 (dk_at dksX1_year_0 17 rfl rfl)
theorem dX1_year_19 : decode cX1_year 19 = .ok (.aload 4, 2) := dk_25 4 (dk_at dksX1_year_0 19 rfl rfl)
theorem dX1_year_21 : decode cX1_year 21 = .ok (.invokeinterface 49 1, 5) := by decide +kernel
theorem dX1_year_26 : decode cX1_year 26 = .ok (.ifCond .eq 80, 3) := dk_153 0 80 (dk_at dksX1_year_1 5 rfl rfl)
theorem dX1_year_29 : decode cX1_year 29 = .ok (.aload 4, 2) := dk_25 4 (dk_at dksX1_year_1 8 rfl rfl)
theorem dX1_year_31 : decode cX1_year 31 = .ok (.invokeinterface 55 1, 5) := by decide +kernel
theorem dX1_year_36 : decode cX1_year 36 = .ok (.checkcast 85, 3) := dk_192 0 85 (dk_at dksX1_year_1 15 rfl rfl)
theorem dX1_year_39 : decode cX1_year 39 = .ok (.astore 5, 2) := dk_58 5 (dk_at dksX1_year_1 18 rfl rfl)
theorem dX1_year_41 : decode cX1_year 41 = .ok (.iload_n 3, 1) := dk_29 (dk_at dksX1_year_1 20 rfl rfl)
theorem dX1_year_42 : decode cX1_year 42 = .ok (.bipush (-9), 2) := dk_16 247 (dk_at dksX1_year_1 21 rfl rfl)
theorem dX1_year_44 : decode cX1_year 44 = .ok (.if_icmp .eq 28, 3) := dk_159 0 28 (dk_at dksX1_year_2 0 rfl rfl)
theorem dX1_year_47 : decode cX1_year 47 = .ok (.iload_n 2, 1) := dk_28 (dk_at dksX1_year_2 3 rfl rfl)
theorem dX1_year_48 : decode cX1_year 48 = .ok (.ifCond .eq 15, 3) := dk_153 0 15 (dk_at dksX1_year_2 4 rfl rfl)
theorem dX1_year_51 : decode cX1_year 51 = .ok (.aload 5, 2) := dk_25 5 (dk_at dksX1_year_2 7 rfl rfl)
theorem dX1_year_53 : decode cX1_year 53 = .ok (.getfield 145, 3) := dk_180 0 145 (dk_at dksX1_year_2 9 rfl rfl)
theorem dX1_year_56 : decode cX1_year 56 = .ok (.iload_n 3, 1) := dk_29 (dk_at dksX1_year_2 12 rfl rfl)
theorem dX1_year_57 : decode cX1_year 57 = .ok (.if_icmp .le 19, 3) := dk_164 0 19 (dk_at dksX1_year_2 13 rfl rfl)
theorem dX1_year_60 : decode cX1_year 60 = .ok (.goto 12, 3) := dk_167 0 12 (dk_at dksX1_year_2 16 rfl rfl)
theorem dX1_year_63 : decode cX1_year 63 = .ok (.aload 5, 2) := dk_25 5 (dk_at dksX1_year_2 19 rfl rfl)
theorem dX1_year_65 : decode cX1_year 65 = .ok (.getfield 145, 3) := dk_180 0 145 (dk_at dksX1_year_2 21 rfl rfl)
theorem dX1_year_68 : decode cX1_year 68 = .ok (.iload_n 3, 1) := dk_29 (dk_at dksX1_year_3 0 rfl rfl)
theorem dX1_year_69 : decode cX1_year 69 = .ok (.if_icmp .ge 7, 3) := dk_162 0 7 (dk_at dksX1_year_3 1 rfl rfl)
theorem dX1_year_72 : decode cX1_year 72 = .ok (.iconst 1, 1) := dk_4 (dk_at dksX1_year_3 4 rfl rfl)
theorem dX1_year_73 : decode cX1_year 73 = .ok (.goto 4, 3) := dk_167 0 4 (dk_at dksX1_year_3 5 rfl rfl)
theorem dX1_year_76 : decode cX1_year 76 = .ok (.iconst 0, 1) := dk_3 (dk_at dksX1_year_3 8 rfl rfl)
theorem dX1_year_77 : decode cX1_year 77 = .ok (.istore 6, 2) := dk_54 6 (dk_at dksX1_year_3 9 rfl rfl)
theorem dX1_year_79 : decode cX1_year 79 = .ok (.aload 5, 2) := dk_25 5 (dk_at dksX1_year_3 11 rfl rfl)
theorem dX1_year_81 : decode cX1_year 81 = .ok (.getfield 142, 3) := dk_180 0 142 (dk_at dksX1_year_3 13 rfl rfl)
theorem dX1_year_84 : decode cX1_year 84 = .ok (.iload_n 1, 1) := dk_27 (dk_at dksX1_year_3 16 rfl rfl)
theorem dX1_year_85 : decode cX1_year 85 = .ok (.if_icmp .ne 16, 3) := dk_160 0 16 (dk_at dksX1_year_3 17 rfl rfl)
theorem dX1_year_88 : decode cX1_year 88 = .ok (.iload 6, 2) := dk_21 6 (dk_at dksX1_year_3 20 rfl rfl)
theorem dX1_year_90 : decode cX1_year 90 = .ok (.ifCond .eq 11, 3) := dk_153 0 11 (dk_at dksX1_year_4 0 rfl rfl)
theorem dX1_year_93 : decode cX1_year 93 = .ok (.aload 5, 2) := dk_25 5 (dk_at dksX1_year_4 3 rfl rfl)
theorem dX1_year_95 : decode cX1_year 95 = .ok (.getfield 145, 3) := dk_180 0 145 (dk_at dksX1_year_4 5 rfl rfl)
theorem dX1_year_98 : decode cX1_year 98 = .ok (.goto 4, 3) := dk_167 0 4 (dk_at dksX1_year_4 8 rfl rfl)
theorem dX1_year_101 : decode cX1_year 101 = .ok (.iload_n 3, 1) := dk_29 (dk_at dksX1_year_4 11 rfl rfl)
theorem dX1_year_102 : decode cX1_year 102 = .ok (.istore_n 3, 1) := dk_62 (dk_at dksX1_year_4 12 rfl rfl)
theorem dX1_year_103 : decode cX1_year 103 = .ok (.goto (-84), 3) := dk_167 255 172 (dk_at dksX1_year_4 13 rfl rfl)
theorem dX1_year_106 : decode cX1_year 106 = .ok (.iload_n 3, 1) := dk_29 (dk_at dksX1_year_4 16 rfl rfl)
theorem dX1_year_107 : decode cX1_year 107 = .ok (.ireturn, 1) := dk_172 (dk_at dksX1_year_4 17 rfl rfl)
abbrev cX1_slip : ByteArray := prog_6_method_22_code
def yX1_slip : MethodName := ⟨RX1, "slip", "()I"⟩
def dkwX1_slip_6 : List UInt8 := [182, 0, 237, 6, 172]
abbrev dktX1_slip_6 : List UInt8 := dkwX1_slip_6 ++ []
def dkwX1_slip_5 : List UInt8 := [42, 42, 180, 0, 105, 182, 0, 209, 16, 10, 96, 181, 0, 39, 5, 172, 43, 6, 181, 0, 136, 42]
abbrev dktX1_slip_5 : List UInt8 := dkwX1_slip_5 ++ dktX1_slip_6
def dkwX1_slip_4 : List UInt8 := [180, 0, 105, 180, 0, 201, 182, 1, 4, 153, 0, 31, 42, 42, 180, 0, 32, 42, 180, 0, 36, 182, 0, 215]
abbrev dktX1_slip_4 : List UInt8 := dkwX1_slip_4 ++ dktX1_slip_5
def dkwX1_slip_3 : List UInt8 := [181, 0, 36, 42, 42, 180, 0, 105, 182, 0, 209, 181, 0, 39, 4, 172, 43, 42, 180, 0, 36, 42]
abbrev dktX1_slip_3 : List UInt8 := dkwX1_slip_3 ++ dktX1_slip_4
def dkwX1_slip_2 : List UInt8 := [180, 0, 36, 100, 42, 180, 0, 105, 180, 0, 201, 182, 1, 0, 153, 0, 26, 42, 4, 42, 180, 0, 36, 100]
abbrev dktX1_slip_2 : List UInt8 := dkwX1_slip_2 ++ dktX1_slip_3
def dkwX1_slip_1 : List UInt8 := [192, 0, 59, 76, 43, 180, 0, 217, 42, 180, 0, 36, 42, 180, 0, 105, 180, 0, 201, 79, 43, 4, 42]
abbrev dktX1_slip_1 : List UInt8 := dkwX1_slip_1 ++ dktX1_slip_2
def dkwX1_slip_0 : List UInt8 := [42, 89, 180, 0, 112, 4, 96, 181, 0, 112, 42, 180, 0, 12, 42, 180, 0, 32, 185, 0, 169, 2, 0]
abbrev dktX1_slip_0 : List UInt8 := dkwX1_slip_0 ++ dktX1_slip_1
theorem dksX1_slip_0 : cX1_slip.data.toList.drop 0 = dktX1_slip_0 := by decide +kernel
theorem dksX1_slip_1 : cX1_slip.data.toList.drop 23 = dktX1_slip_1 := dk_seg dksX1_slip_0 23 rfl rfl
theorem dksX1_slip_2 : cX1_slip.data.toList.drop 46 = dktX1_slip_2 := dk_seg dksX1_slip_1 23 rfl rfl
theorem dksX1_slip_3 : cX1_slip.data.toList.drop 70 = dktX1_slip_3 := dk_seg dksX1_slip_2 24 rfl rfl
theorem dksX1_slip_4 : cX1_slip.data.toList.drop 92 = dktX1_slip_4 := dk_seg dksX1_slip_3 22 rfl rfl
theorem dksX1_slip_5 : cX1_slip.data.toList.drop 116 = dktX1_slip_5 := dk_seg dksX1_slip_4 24 rfl rfl
theorem dksX1_slip_6 : cX1_slip.data.toList.drop 138 = dktX1_slip_6 := dk_seg dksX1_slip_5 22 rfl rfl
theorem dX1_slip_0 : decode cX1_slip 0 = .ok (.aload_n 0, 1) := dk_42 (dk_at dksX1_slip_0 0 rfl rfl)
theorem dX1_slip_1 : decode cX1_slip 1 = .ok (.dup, 1) := dk_89 (dk_at dksX1_slip_0 1 rfl rfl)
theorem dX1_slip_2 : decode cX1_slip 2 = .ok (.getfield 112, 3) := dk_180 0 112 (dk_at dksX1_slip_0 2 rfl rfl)
theorem dX1_slip_5 : decode cX1_slip 5 = .ok (.iconst 1, 1) := dk_4 (dk_at dksX1_slip_0 5 rfl rfl)
theorem dX1_slip_6 : decode cX1_slip 6 = .ok (.iadd, 1) := dk_96 (dk_at dksX1_slip_0 6 rfl rfl)
theorem dX1_slip_7 : decode cX1_slip 7 = .ok (.putfield 112, 3) := dk_181 0 112 (dk_at dksX1_slip_0 7 rfl rfl)
theorem dX1_slip_10 : decode cX1_slip 10 = .ok (.aload_n 0, 1) := dk_42 (dk_at dksX1_slip_0 10 rfl rfl)
theorem dX1_slip_11 : decode cX1_slip 11 = .ok (.getfield 12, 3) := dk_180 0 12 (dk_at dksX1_slip_0 11 rfl rfl)
theorem dX1_slip_14 : decode cX1_slip 14 = .ok (.aload_n 0, 1) := dk_42 (dk_at dksX1_slip_0 14 rfl rfl)
theorem dX1_slip_15 : decode cX1_slip 15 = .ok (.getfield 32, 3) := dk_180 0 32 (dk_at dksX1_slip_0 15 rfl rfl)
theorem dX1_slip_18 : decode cX1_slip 18 = .ok (.invokeinterface 169 2, 5) := by decide +kernel
theorem dX1_slip_23 : decode cX1_slip 23 = .ok (.checkcast 59, 3) := dk_192 0 59 (dk_at dksX1_slip_1 0 rfl rfl)
theorem dX1_slip_26 : decode cX1_slip 26 = .ok (.astore_n 1, 1) := dk_76 (dk_at dksX1_slip_1 3 rfl rfl)
theorem dX1_slip_27 : decode cX1_slip 27 = .ok (.aload_n 1, 1) := dk_43 (dk_at dksX1_slip_1 4 rfl rfl)
theorem dX1_slip_28 : decode cX1_slip 28 = .ok (.getfield 217, 3) := dk_180 0 217 (dk_at dksX1_slip_1 5 rfl rfl)
theorem dX1_slip_31 : decode cX1_slip 31 = .ok (.aload_n 0, 1) := dk_42 (dk_at dksX1_slip_1 8 rfl rfl)
theorem dX1_slip_32 : decode cX1_slip 32 = .ok (.getfield 36, 3) := dk_180 0 36 (dk_at dksX1_slip_1 9 rfl rfl)
theorem dX1_slip_35 : decode cX1_slip 35 = .ok (.aload_n 0, 1) := dk_42 (dk_at dksX1_slip_1 12 rfl rfl)
theorem dX1_slip_36 : decode cX1_slip 36 = .ok (.getfield 105, 3) := dk_180 0 105 (dk_at dksX1_slip_1 13 rfl rfl)
theorem dX1_slip_39 : decode cX1_slip 39 = .ok (.getfield 201, 3) := dk_180 0 201 (dk_at dksX1_slip_1 16 rfl rfl)
theorem dX1_slip_42 : decode cX1_slip 42 = .ok (.iastore, 1) := dk_79 (dk_at dksX1_slip_1 19 rfl rfl)
theorem dX1_slip_43 : decode cX1_slip 43 = .ok (.aload_n 1, 1) := dk_43 (dk_at dksX1_slip_1 20 rfl rfl)
theorem dX1_slip_44 : decode cX1_slip 44 = .ok (.iconst 1, 1) := dk_4 (dk_at dksX1_slip_1 21 rfl rfl)
theorem dX1_slip_45 : decode cX1_slip 45 = .ok (.aload_n 0, 1) := dk_42 (dk_at dksX1_slip_1 22 rfl rfl)
theorem dX1_slip_46 : decode cX1_slip 46 = .ok (.getfield 36, 3) := dk_180 0 36 (dk_at dksX1_slip_2 0 rfl rfl)
theorem dX1_slip_49 : decode cX1_slip 49 = .ok (.isub, 1) := dk_100 (dk_at dksX1_slip_2 3 rfl rfl)
theorem dX1_slip_50 : decode cX1_slip 50 = .ok (.aload_n 0, 1) := dk_42 (dk_at dksX1_slip_2 4 rfl rfl)
theorem dX1_slip_51 : decode cX1_slip 51 = .ok (.getfield 105, 3) := dk_180 0 105 (dk_at dksX1_slip_2 5 rfl rfl)
theorem dX1_slip_54 : decode cX1_slip 54 = .ok (.getfield 201, 3) := dk_180 0 201 (dk_at dksX1_slip_2 8 rfl rfl)
theorem dX1_slip_57 : decode cX1_slip 57 = .ok (.invokevirtual 256, 3) := dk_182 1 0 (dk_at dksX1_slip_2 11 rfl rfl)
theorem dX1_slip_60 : decode cX1_slip 60 = .ok (.ifCond .eq 26, 3) := dk_153 0 26 (dk_at dksX1_slip_2 14 rfl rfl)
theorem dX1_slip_63 : decode cX1_slip 63 = .ok (.aload_n 0, 1) := dk_42 (dk_at dksX1_slip_2 17 rfl rfl)
theorem dX1_slip_64 : decode cX1_slip 64 = .ok (.iconst 1, 1) := dk_4 (dk_at dksX1_slip_2 18 rfl rfl)
theorem dX1_slip_65 : decode cX1_slip 65 = .ok (.aload_n 0, 1) := dk_42 (dk_at dksX1_slip_2 19 rfl rfl)
theorem dX1_slip_66 : decode cX1_slip 66 = .ok (.getfield 36, 3) := dk_180 0 36 (dk_at dksX1_slip_2 20 rfl rfl)
theorem dX1_slip_69 : decode cX1_slip 69 = .ok (.isub, 1) := dk_100 (dk_at dksX1_slip_2 23 rfl rfl)
theorem dX1_slip_70 : decode cX1_slip 70 = .ok (.putfield 36, 3) := dk_181 0 36 (dk_at dksX1_slip_3 0 rfl rfl)
theorem dX1_slip_73 : decode cX1_slip 73 = .ok (.aload_n 0, 1) := dk_42 (dk_at dksX1_slip_3 3 rfl rfl)
theorem dX1_slip_74 : decode cX1_slip 74 = .ok (.aload_n 0, 1) := dk_42 (dk_at dksX1_slip_3 4 rfl rfl)
theorem dX1_slip_75 : decode cX1_slip 75 = .ok (.getfield 105, 3) := dk_180 0 105 (dk_at dksX1_slip_3 5 rfl rfl)
theorem dX1_slip_78 : decode cX1_slip 78 = .ok (.invokevirtual 209, 3) := dk_182 0 209 (dk_at dksX1_slip_3 8 rfl rfl)
theorem dX1_slip_81 : decode cX1_slip 81 = .ok (.putfield 39, 3) := dk_181 0 39 (dk_at dksX1_slip_3 11 rfl rfl)
theorem dX1_slip_84 : decode cX1_slip 84 = .ok (.iconst 1, 1) := dk_4 (dk_at dksX1_slip_3 14 rfl rfl)
theorem dX1_slip_85 : decode cX1_slip 85 = .ok (.ireturn, 1) := dk_172 (dk_at dksX1_slip_3 15 rfl rfl)
theorem dX1_slip_86 : decode cX1_slip 86 = .ok (.aload_n 1, 1) := dk_43 (dk_at dksX1_slip_3 16 rfl rfl)
theorem dX1_slip_87 : decode cX1_slip 87 = .ok (.aload_n 0, 1) := dk_42 (dk_at dksX1_slip_3 17 rfl rfl)
theorem dX1_slip_88 : decode cX1_slip 88 = .ok (.getfield 36, 3) := dk_180 0 36 (dk_at dksX1_slip_3 18 rfl rfl)
theorem dX1_slip_91 : decode cX1_slip 91 = .ok (.aload_n 0, 1) := dk_42 (dk_at dksX1_slip_3 21 rfl rfl)
theorem dX1_slip_92 : decode cX1_slip 92 = .ok (.getfield 105, 3) := dk_180 0 105 (dk_at dksX1_slip_4 0 rfl rfl)
theorem dX1_slip_95 : decode cX1_slip 95 = .ok (.getfield 201, 3) := dk_180 0 201 (dk_at dksX1_slip_4 3 rfl rfl)
theorem dX1_slip_98 : decode cX1_slip 98 = .ok (.invokevirtual 260, 3) := dk_182 1 4 (dk_at dksX1_slip_4 6 rfl rfl)
theorem dX1_slip_101 : decode cX1_slip 101 = .ok (.ifCond .eq 31, 3) := dk_153 0 31 (dk_at dksX1_slip_4 9 rfl rfl)
theorem dX1_slip_104 : decode cX1_slip 104 = .ok (.aload_n 0, 1) := dk_42 (dk_at dksX1_slip_4 12 rfl rfl)
theorem dX1_slip_105 : decode cX1_slip 105 = .ok (.aload_n 0, 1) := dk_42 (dk_at dksX1_slip_4 13 rfl rfl)
theorem dX1_slip_106 : decode cX1_slip 106 = .ok (.getfield 32, 3) := dk_180 0 32 (dk_at dksX1_slip_4 14 rfl rfl)
theorem dX1_slip_109 : decode cX1_slip 109 = .ok (.aload_n 0, 1) := dk_42 (dk_at dksX1_slip_4 17 rfl rfl)
theorem dX1_slip_110 : decode cX1_slip 110 = .ok (.getfield 36, 3) := dk_180 0 36 (dk_at dksX1_slip_4 18 rfl rfl)
theorem dX1_slip_113 : decode cX1_slip 113 = .ok (.invokevirtual 215, 3) := dk_182 0 215 (dk_at dksX1_slip_4 21 rfl rfl)
theorem dX1_slip_116 : decode cX1_slip 116 = .ok (.aload_n 0, 1) := dk_42 (dk_at dksX1_slip_5 0 rfl rfl)
theorem dX1_slip_117 : decode cX1_slip 117 = .ok (.aload_n 0, 1) := dk_42 (dk_at dksX1_slip_5 1 rfl rfl)
theorem dX1_slip_118 : decode cX1_slip 118 = .ok (.getfield 105, 3) := dk_180 0 105 (dk_at dksX1_slip_5 2 rfl rfl)
theorem dX1_slip_121 : decode cX1_slip 121 = .ok (.invokevirtual 209, 3) := dk_182 0 209 (dk_at dksX1_slip_5 5 rfl rfl)
theorem dX1_slip_124 : decode cX1_slip 124 = .ok (.bipush 10, 2) := dk_16 10 (dk_at dksX1_slip_5 8 rfl rfl)
theorem dX1_slip_126 : decode cX1_slip 126 = .ok (.iadd, 1) := dk_96 (dk_at dksX1_slip_5 10 rfl rfl)
theorem dX1_slip_127 : decode cX1_slip 127 = .ok (.putfield 39, 3) := dk_181 0 39 (dk_at dksX1_slip_5 11 rfl rfl)
theorem dX1_slip_130 : decode cX1_slip 130 = .ok (.iconst 2, 1) := dk_5 (dk_at dksX1_slip_5 14 rfl rfl)
theorem dX1_slip_131 : decode cX1_slip 131 = .ok (.ireturn, 1) := dk_172 (dk_at dksX1_slip_5 15 rfl rfl)
theorem dX1_slip_132 : decode cX1_slip 132 = .ok (.aload_n 1, 1) := dk_43 (dk_at dksX1_slip_5 16 rfl rfl)
theorem dX1_slip_133 : decode cX1_slip 133 = .ok (.iconst 3, 1) := dk_6 (dk_at dksX1_slip_5 17 rfl rfl)
theorem dX1_slip_134 : decode cX1_slip 134 = .ok (.putfield 136, 3) := dk_181 0 136 (dk_at dksX1_slip_5 18 rfl rfl)
theorem dX1_slip_137 : decode cX1_slip 137 = .ok (.aload_n 0, 1) := dk_42 (dk_at dksX1_slip_5 21 rfl rfl)
theorem dX1_slip_138 : decode cX1_slip 138 = .ok (.invokevirtual 237, 3) := dk_182 0 237 (dk_at dksX1_slip_6 0 rfl rfl)
theorem dX1_slip_141 : decode cX1_slip 141 = .ok (.iconst 3, 1) := dk_6 (dk_at dksX1_slip_6 3 rfl rfl)
theorem dX1_slip_142 : decode cX1_slip 142 = .ok (.ireturn, 1) := dk_172 (dk_at dksX1_slip_6 4 rfl rfl)
abbrev cX1_times : ByteArray := prog_6_method_25_code
def yX1_times : MethodName := ⟨RX1, "times", "()Ljava/util/Map;"⟩
def dkwX1_times_3 : List UInt8 := [29, 184, 0, 220, 185, 0, 92, 3, 0, 192, 0, 90, 58, 6, 167, 255, 188, 44, 176]
abbrev dktX1_times_3 : List UInt8 := dkwX1_times_3 ++ []
def dkwX1_times_2 : List UInt8 := [19, 1, 19, 182, 0, 253, 54, 4, 29, 21, 4, 96, 62, 25, 5, 198, 0, 23, 44, 25, 5, 180, 0, 155]
abbrev dktX1_times_2 : List UInt8 := dkwX1_times_2 ++ dktX1_times_3
def dkwX1_times_1 : List UInt8 := [180, 0, 105, 199, 0, 10, 43, 182, 0, 242, 153, 0, 10, 43, 180, 0, 105, 167, 0, 4, 1, 58, 5, 43]
abbrev dktX1_times_1 : List UInt8 := dkwX1_times_1 ++ dktX1_times_2
def dkwX1_times_0 : List UInt8 := [42, 182, 1, 16, 76, 187, 0, 21, 89, 183, 0, 23, 77, 3, 62, 2, 54, 4, 21, 4, 153, 0, 69, 43]
abbrev dktX1_times_0 : List UInt8 := dkwX1_times_0 ++ dktX1_times_1
theorem dksX1_times_0 : cX1_times.data.toList.drop 0 = dktX1_times_0 := by decide +kernel
theorem dksX1_times_1 : cX1_times.data.toList.drop 24 = dktX1_times_1 := dk_seg dksX1_times_0 24 rfl rfl
theorem dksX1_times_2 : cX1_times.data.toList.drop 48 = dktX1_times_2 := dk_seg dksX1_times_1 24 rfl rfl
theorem dksX1_times_3 : cX1_times.data.toList.drop 72 = dktX1_times_3 := dk_seg dksX1_times_2 24 rfl rfl
theorem dX1_times_0 : decode cX1_times 0 = .ok (.aload_n 0, 1) := dk_42 (dk_at dksX1_times_0 0 rfl rfl)
theorem dX1_times_1 : decode cX1_times 1 = .ok (.invokevirtual 272, 3) := dk_182 1 16 (dk_at dksX1_times_0 1 rfl rfl)
theorem dX1_times_4 : decode cX1_times 4 = .ok (.astore_n 1, 1) := dk_76 (dk_at dksX1_times_0 4 rfl rfl)
theorem dX1_times_5 : decode cX1_times 5 = .ok (.new 21, 3) := dk_187 0 21 (dk_at dksX1_times_0 5 rfl rfl)
theorem dX1_times_8 : decode cX1_times 8 = .ok (.dup, 1) := dk_89 (dk_at dksX1_times_0 8 rfl rfl)
theorem dX1_times_9 : decode cX1_times 9 = .ok (.invokespecial 23, 3) := dk_183 0 23 (dk_at dksX1_times_0 9 rfl rfl)
theorem dX1_times_12 : decode cX1_times 12 = .ok (.astore_n 2, 1) := dk_77 (dk_at dksX1_times_0 12 rfl rfl)
theorem dX1_times_13 : decode cX1_times 13 = .ok (.iconst 0, 1) := dk_3 (dk_at dksX1_times_0 13 rfl rfl)
theorem dX1_times_14 : decode cX1_times 14 = .ok (.istore_n 3, 1) := dk_62 (dk_at dksX1_times_0 14 rfl rfl)
theorem dX1_times_15 : decode cX1_times 15 = .ok (.iconst (-1), 1) := dk_2 (dk_at dksX1_times_0 15 rfl rfl)
theorem dX1_times_16 : decode cX1_times 16 = .ok (.istore 4, 2) := dk_54 4 (dk_at dksX1_times_0 16 rfl rfl)
theorem dX1_times_18 : decode cX1_times 18 = .ok (.iload 4, 2) := dk_21 4 (dk_at dksX1_times_0 18 rfl rfl)
theorem dX1_times_20 : decode cX1_times 20 = .ok (.ifCond .eq 69, 3) := dk_153 0 69 (dk_at dksX1_times_0 20 rfl rfl)
theorem dX1_times_23 : decode cX1_times 23 = .ok (.aload_n 1, 1) := dk_43 (dk_at dksX1_times_0 23 rfl rfl)
theorem dX1_times_24 : decode cX1_times 24 = .ok (.getfield 105, 3) := dk_180 0 105 (dk_at dksX1_times_1 0 rfl rfl)
theorem dX1_times_27 : decode cX1_times 27 = .ok (.ifnonnull 10, 3) := dk_199 0 10 (dk_at dksX1_times_1 3 rfl rfl)
theorem dX1_times_30 : decode cX1_times 30 = .ok (.aload_n 1, 1) := dk_43 (dk_at dksX1_times_1 6 rfl rfl)
theorem dX1_times_31 : decode cX1_times 31 = .ok (.invokevirtual 242, 3) := dk_182 0 242 (dk_at dksX1_times_1 7 rfl rfl)
theorem dX1_times_34 : decode cX1_times 34 = .ok (.ifCond .eq 10, 3) := dk_153 0 10 (dk_at dksX1_times_1 10 rfl rfl)
theorem dX1_times_37 : decode cX1_times 37 = .ok (.aload_n 1, 1) := dk_43 (dk_at dksX1_times_1 13 rfl rfl)
theorem dX1_times_38 : decode cX1_times 38 = .ok (.getfield 105, 3) := dk_180 0 105 (dk_at dksX1_times_1 14 rfl rfl)
theorem dX1_times_41 : decode cX1_times 41 = .ok (.goto 4, 3) := dk_167 0 4 (dk_at dksX1_times_1 17 rfl rfl)
theorem dX1_times_44 : decode cX1_times 44 = .ok (.aconst_null, 1) := dk_1 (dk_at dksX1_times_1 20 rfl rfl)
theorem dX1_times_45 : decode cX1_times 45 = .ok (.astore 5, 2) := dk_58 5 (dk_at dksX1_times_1 21 rfl rfl)
theorem dX1_times_47 : decode cX1_times 47 = .ok (.aload_n 1, 1) := dk_43 (dk_at dksX1_times_1 23 rfl rfl)
theorem dX1_times_48 : decode cX1_times 48 = .ok (.ldc_w 275, 3) := dk_19 1 19 (dk_at dksX1_times_2 0 rfl rfl)
theorem dX1_times_51 : decode cX1_times 51 = .ok (.invokevirtual 253, 3) := dk_182 0 253 (dk_at dksX1_times_2 3 rfl rfl)
theorem dX1_times_54 : decode cX1_times 54 = .ok (.istore 4, 2) := dk_54 4 (dk_at dksX1_times_2 6 rfl rfl)
theorem dX1_times_56 : decode cX1_times 56 = .ok (.iload_n 3, 1) := dk_29 (dk_at dksX1_times_2 8 rfl rfl)
theorem dX1_times_57 : decode cX1_times 57 = .ok (.iload 4, 2) := dk_21 4 (dk_at dksX1_times_2 9 rfl rfl)
theorem dX1_times_59 : decode cX1_times 59 = .ok (.iadd, 1) := dk_96 (dk_at dksX1_times_2 11 rfl rfl)
theorem dX1_times_60 : decode cX1_times 60 = .ok (.istore_n 3, 1) := dk_62 (dk_at dksX1_times_2 12 rfl rfl)
theorem dX1_times_61 : decode cX1_times 61 = .ok (.aload 5, 2) := dk_25 5 (dk_at dksX1_times_2 13 rfl rfl)
theorem dX1_times_63 : decode cX1_times 63 = .ok (.ifnull 23, 3) := dk_198 0 23 (dk_at dksX1_times_2 15 rfl rfl)
theorem dX1_times_66 : decode cX1_times 66 = .ok (.aload_n 2, 1) := dk_44 (dk_at dksX1_times_2 18 rfl rfl)
theorem dX1_times_67 : decode cX1_times 67 = .ok (.aload 5, 2) := dk_25 5 (dk_at dksX1_times_2 19 rfl rfl)
theorem dX1_times_69 : decode cX1_times 69 = .ok (.getfield 155, 3) := dk_180 0 155 (dk_at dksX1_times_2 21 rfl rfl)
theorem dX1_times_72 : decode cX1_times 72 = .ok (.iload_n 3, 1) := dk_29 (dk_at dksX1_times_3 0 rfl rfl)
theorem dX1_times_73 : decode cX1_times 73 = .ok (.invokestatic 220, 3) := dk_184 0 220 (dk_at dksX1_times_3 1 rfl rfl)
theorem dX1_times_76 : decode cX1_times 76 = .ok (.invokeinterface 92 3, 5) := by decide +kernel
theorem dX1_times_81 : decode cX1_times 81 = .ok (.checkcast 90, 3) := dk_192 0 90 (dk_at dksX1_times_3 9 rfl rfl)
theorem dX1_times_84 : decode cX1_times 84 = .ok (.astore 6, 2) := dk_58 6 (dk_at dksX1_times_3 12 rfl rfl)
theorem dX1_times_86 : decode cX1_times 86 = .ok (.goto (-68), 3) := dk_167 255 188 (dk_at dksX1_times_3 14 rfl rfl)
theorem dX1_times_89 : decode cX1_times 89 = .ok (.aload_n 2, 1) := dk_44 (dk_at dksX1_times_3 17 rfl rfl)
theorem dX1_times_90 : decode cX1_times 90 = .ok (.areturn, 1) := dk_176 (dk_at dksX1_times_3 18 rfl rfl)
theorem q32 : (Jvm.Cond.initialized "TrophyPlates$Shop") ∈ lw_all := lw_g (lw_at lw_m1 2 rfl) rfl
theorem q88 : (Jvm.Cond.instantiable "TrophyPlates$Shop" (12 : Nat)) ∈ lw_all := lw_g (lw_at lw_m1 58 rfl) rfl
theorem q90 : (Jvm.Cond.instanceMethod ({ cls := "TrophyPlates$Shop", name := "<init>", desc := "()V" } : Jvm.MethodName)) ∈ lw_all := lw_g (lw_at lw_m1 60 rfl) rfl
theorem q91 : (Jvm.Cond.code ({ cls := "TrophyPlates$Shop", name := "<init>", desc := "()V" } : Jvm.MethodName) prog_6_method_1_code (1 : Nat) (Option.none : Option Jvm.ClassFile.FieldType)) ∈ lw_all := lw_g (lw_at lw_m1 61 rfl) rfl
theorem q92 : (Jvm.Cond.methodLink "TrophyPlates$Shop" (3 : Nat) ({ cls := "java/lang/Object", name := "<init>", desc := "()V" } : Jvm.MethodName)) ∈ lw_all := lw_g (lw_at lw_m1 62 rfl) rfl
theorem q93 : (Jvm.Cond.classLink "TrophyPlates$Shop" (9 : Nat) "java/util/ArrayList") ∈ lw_all := lw_g (lw_at lw_m1 63 rfl) rfl
theorem q95 : (Jvm.Cond.methodLink "TrophyPlates$Shop" (11 : Nat) ({ cls := "java/util/ArrayList", name := "<init>", desc := "()V" } : Jvm.MethodName)) ∈ lw_all := lw_g (lw_at lw_m1 65 rfl) rfl
theorem q122 : (Jvm.Cond.classLink "TrophyPlates$Shop" (21 : Nat) "java/util/LinkedHashMap") ∈ lw_all := lw_g (lw_at lw_m1 92 rfl) rfl
theorem q124 : (Jvm.Cond.methodLink "TrophyPlates$Shop" (23 : Nat) ({ cls := "java/util/LinkedHashMap", name := "<init>", desc := "()V" } : Jvm.MethodName)) ∈ lw_all := lw_g (lw_at lw_m1 94 rfl) rfl
theorem q184 : (Jvm.Cond.fieldLink "TrophyPlates$Shop" (12 : Nat) "TrophyPlates$Shop" "plates" "Ljava/util/List;") ∈ lw_all := lw_g (lw_at lw_m1 154 rfl) rfl
theorem q186 : (Jvm.Cond.fieldLink "TrophyPlates$Shop" (18 : Nat) "TrophyPlates$Shop" "orders" "Ljava/util/List;") ∈ lw_all := lw_g (lw_at lw_m1 156 rfl) rfl
theorem q188 : (Jvm.Cond.fieldLink "TrophyPlates$Shop" (24 : Nat) "TrophyPlates$Shop" "fixed" "Ljava/util/Map;") ∈ lw_all := lw_g (lw_at lw_m1 158 rfl) rfl
theorem q190 : (Jvm.Cond.fieldLink "TrophyPlates$Shop" (28 : Nat) "TrophyPlates$Shop" "places" "[I") ∈ lw_all := lw_g (lw_at lw_m1 160 rfl) rfl
theorem q192 : (Jvm.Cond.fieldLink "TrophyPlates$Shop" (102 : Nat) "TrophyPlates$Shop" "shields" "I") ∈ lw_all := lw_g (lw_at lw_m1 162 rfl) rfl
theorem q194 : (Jvm.Cond.fieldLink "TrophyPlates$Shop" (105 : Nat) "TrophyPlates$Shop" "atWork" "LTrophyPlates$Order;") ∈ lw_all := lw_g (lw_at lw_m1 164 rfl) rfl
theorem q196 : (Jvm.Cond.fieldLink "TrophyPlates$Shop" (32 : Nat) "TrophyPlates$Shop" "plate" "I") ∈ lw_all := lw_g (lw_at lw_m1 166 rfl) rfl
theorem q198 : (Jvm.Cond.fieldLink "TrophyPlates$Shop" (36 : Nat) "TrophyPlates$Shop" "side" "I") ∈ lw_all := lw_g (lw_at lw_m1 168 rfl) rfl
theorem q199 : (Jvm.Cond.fieldLink "TrophyPlates$Shop" (39 : Nat) "TrophyPlates$Shop" "left" "I") ∈ lw_all := lw_g (lw_at lw_m1 169 rfl) rfl
theorem q201 : (Jvm.Cond.fieldLink "TrophyPlates$Shop" (109 : Nat) "TrophyPlates$Shop" "done" "I") ∈ lw_all := lw_g (lw_at lw_m1 171 rfl) rfl
theorem q203 : (Jvm.Cond.fieldLink "TrophyPlates$Shop" (112 : Nat) "TrophyPlates$Shop" "slips" "I") ∈ lw_all := lw_g (lw_at lw_m1 173 rfl) rfl
theorem q205 : (Jvm.Cond.fieldLink "TrophyPlates$Shop" (115 : Nat) "TrophyPlates$Shop" "ground" "I") ∈ lw_all := lw_g (lw_at lw_m1 175 rfl) rfl
theorem q207 : (Jvm.Cond.laysFinal "TrophyPlates$Shop" "TrophyPlates$Shop" "plates" "Ljava/util/List;") ∈ lw_all := lw_g (lw_at lw_m1 177 rfl) rfl
theorem q208 : (Jvm.Cond.soleField "TrophyPlates$Shop" "plates") ∈ lw_all := lw_g (lw_at lw_m1 178 rfl) rfl
theorem q209 : (Jvm.Cond.laysFinal "TrophyPlates$Shop" "TrophyPlates$Shop" "orders" "Ljava/util/List;") ∈ lw_all := lw_g (lw_at lw_m1 179 rfl) rfl
theorem q210 : (Jvm.Cond.soleField "TrophyPlates$Shop" "orders") ∈ lw_all := lw_g (lw_at lw_m1 180 rfl) rfl
theorem q211 : (Jvm.Cond.laysFinal "TrophyPlates$Shop" "TrophyPlates$Shop" "fixed" "Ljava/util/Map;") ∈ lw_all := lw_g (lw_at lw_m1 181 rfl) rfl
theorem q212 : (Jvm.Cond.soleField "TrophyPlates$Shop" "fixed") ∈ lw_all := lw_g (lw_at lw_m1 182 rfl) rfl
theorem q213 : (Jvm.Cond.laysFinal "TrophyPlates$Shop" "TrophyPlates$Shop" "places" "[I") ∈ lw_all := lw_g (lw_at lw_m1 183 rfl) rfl
theorem q214 : (Jvm.Cond.soleField "TrophyPlates$Shop" "places") ∈ lw_all := lw_g (lw_at lw_m1 184 rfl) rfl
theorem q215 : (Jvm.Cond.lays "TrophyPlates$Shop" "TrophyPlates$Shop" "shields" "I") ∈ lw_all := lw_g (lw_at lw_m1 185 rfl) rfl
theorem q216 : (Jvm.Cond.soleField "TrophyPlates$Shop" "shields") ∈ lw_all := lw_g (lw_at lw_m1 186 rfl) rfl
theorem q217 : (Jvm.Cond.lays "TrophyPlates$Shop" "TrophyPlates$Shop" "atWork" "LTrophyPlates$Order;") ∈ lw_all := lw_g (lw_at lw_m1 187 rfl) rfl
theorem q218 : (Jvm.Cond.soleField "TrophyPlates$Shop" "atWork") ∈ lw_all := lw_g (lw_at lw_m1 188 rfl) rfl
theorem q219 : (Jvm.Cond.lays "TrophyPlates$Shop" "TrophyPlates$Shop" "plate" "I") ∈ lw_all := lw_g (lw_at lw_m1 189 rfl) rfl
theorem q220 : (Jvm.Cond.soleField "TrophyPlates$Shop" "plate") ∈ lw_all := lw_g (lw_at lw_m1 190 rfl) rfl
theorem q221 : (Jvm.Cond.lays "TrophyPlates$Shop" "TrophyPlates$Shop" "side" "I") ∈ lw_all := lw_g (lw_at lw_m1 191 rfl) rfl
theorem q222 : (Jvm.Cond.soleField "TrophyPlates$Shop" "side") ∈ lw_all := lw_g (lw_at lw_m1 192 rfl) rfl
theorem q223 : (Jvm.Cond.lays "TrophyPlates$Shop" "TrophyPlates$Shop" "left" "I") ∈ lw_all := lw_g (lw_at lw_m1 193 rfl) rfl
theorem q224 : (Jvm.Cond.soleField "TrophyPlates$Shop" "left") ∈ lw_all := lw_g (lw_at lw_m1 194 rfl) rfl
theorem q225 : (Jvm.Cond.lays "TrophyPlates$Shop" "TrophyPlates$Shop" "done" "I") ∈ lw_all := lw_g (lw_at lw_m1 195 rfl) rfl
theorem q226 : (Jvm.Cond.soleField "TrophyPlates$Shop" "done") ∈ lw_all := lw_g (lw_at lw_m1 196 rfl) rfl
theorem q227 : (Jvm.Cond.lays "TrophyPlates$Shop" "TrophyPlates$Shop" "slips" "I") ∈ lw_all := lw_g (lw_at lw_m1 197 rfl) rfl
theorem q228 : (Jvm.Cond.soleField "TrophyPlates$Shop" "slips") ∈ lw_all := lw_g (lw_at lw_m1 198 rfl) rfl
theorem q229 : (Jvm.Cond.lays "TrophyPlates$Shop" "TrophyPlates$Shop" "ground" "I") ∈ lw_all := lw_g (lw_at lw_m1 199 rfl) rfl
theorem q230 : (Jvm.Cond.soleField "TrophyPlates$Shop" "ground") ∈ lw_all := lw_g (lw_at lw_m1 200 rfl) rfl
theorem q231 : (Jvm.Cond.superclass "TrophyPlates$Shop" "java/lang/Object") ∈ lw_all := lw_g (lw_at lw_m1 201 rfl) rfl
theorem q337 : (Jvm.Cond.instanceMethod ({ cls := "TrophyPlates$Shop", name := "copy", desc := "()LTrophyPlates$Shop;" } : Jvm.MethodName)) ∈ lw_all := lw_g (lw_at lw_m2 67 rfl) rfl
theorem q338 : (Jvm.Cond.selects "TrophyPlates$Shop" ({ cls := "TrophyPlates$Shop", name := "copy", desc := "()LTrophyPlates$Shop;" } : Jvm.MethodName) ({ cls := "TrophyPlates$Shop", name := "copy", desc := "()LTrophyPlates$Shop;" } : Jvm.MethodName)) ∈ lw_all := lw_g (lw_at lw_m2 68 rfl) rfl
theorem q339 : (Jvm.Cond.code ({ cls := "TrophyPlates$Shop", name := "copy", desc := "()LTrophyPlates$Shop;" } : Jvm.MethodName) prog_6_method_2_code (5 : Nat) (Option.some (Jvm.ClassFile.FieldType.object "TrophyPlates$Shop"))) ∈ lw_all := lw_g (lw_at lw_m2 69 rfl) rfl
theorem q340 : (Jvm.Cond.classLink "TrophyPlates$Shop" (13 : Nat) "TrophyPlates$Shop") ∈ lw_all := lw_g (lw_at lw_m2 70 rfl) rfl
theorem q341 : (Jvm.Cond.methodLink "TrophyPlates$Shop" (42 : Nat) ({ cls := "TrophyPlates$Shop", name := "<init>", desc := "()V" } : Jvm.MethodName)) ∈ lw_all := lw_g (lw_at lw_m2 71 rfl) rfl
theorem q342 : (Jvm.Cond.interfaceEntry "TrophyPlates$Shop" (43 : Nat)) ∈ lw_tbl := lw_at lw_m2 72 rfl
theorem q343 : (Jvm.Cond.methodLink "TrophyPlates$Shop" (43 : Nat) ({ cls := "java/util/List", name := "iterator", desc := "()Ljava/util/Iterator;" } : Jvm.MethodName)) ∈ lw_all := lw_g (lw_at lw_m2 73 rfl) rfl
theorem q370 : (Jvm.Cond.interfaceEntry "TrophyPlates$Shop" (49 : Nat)) ∈ lw_tbl := lw_at lw_m2 100 rfl
theorem q371 : (Jvm.Cond.methodLink "TrophyPlates$Shop" (49 : Nat) ({ cls := "java/util/Iterator", name := "hasNext", desc := "()Z" } : Jvm.MethodName)) ∈ lw_all := lw_g (lw_at lw_m2 101 rfl) rfl
theorem q398 : (Jvm.Cond.interfaceEntry "TrophyPlates$Shop" (55 : Nat)) ∈ lw_tbl := lw_at lw_m2 128 rfl
theorem q399 : (Jvm.Cond.methodLink "TrophyPlates$Shop" (55 : Nat) ({ cls := "java/util/Iterator", name := "next", desc := "()Ljava/lang/Object;" } : Jvm.MethodName)) ∈ lw_all := lw_g (lw_at lw_m2 129 rfl) rfl
theorem q464 : (Jvm.Cond.classLink "TrophyPlates$Shop" (59 : Nat) "TrophyPlates$Plate") ∈ lw_all := lw_g (lw_at lw_m2 194 rfl) rfl
theorem q465 : (Jvm.Cond.methodLink "TrophyPlates$Shop" (61 : Nat) ({ cls := "TrophyPlates$Plate", name := "copy", desc := "()LTrophyPlates$Plate;" } : Jvm.MethodName)) ∈ lw_all := lw_g (lw_at lw_m2 195 rfl) rfl
theorem q476 : (Jvm.Cond.fieldLinkNest "TrophyPlates$Shop" (175 : Nat) "TrophyPlates$Plate" "width" "I" "TrophyPlates") ∈ lw_tbl := lw_at lw_m2 206 rfl
theorem q480 : (Jvm.Cond.fieldLinkNest "TrophyPlates$Shop" (178 : Nat) "TrophyPlates$Plate" "thickness" "I" "TrophyPlates") ∈ lw_tbl := lw_at lw_m2 210 rfl
theorem q482 : (Jvm.Cond.fieldLinkNest "TrophyPlates$Shop" (136 : Nat) "TrophyPlates$Plate" "state" "I" "TrophyPlates") ∈ lw_tbl := lw_at lw_m2 212 rfl
theorem q486 : (Jvm.Cond.fieldLinkNest "TrophyPlates$Shop" (217 : Nat) "TrophyPlates$Plate" "depths" "[I" "TrophyPlates") ∈ lw_tbl := lw_at lw_m2 216 rfl
theorem q496 : (Jvm.Cond.interfaceEntry "TrophyPlates$Shop" (65 : Nat)) ∈ lw_tbl := lw_at lw_m2 226 rfl
theorem q497 : (Jvm.Cond.methodLink "TrophyPlates$Shop" (65 : Nat) ({ cls := "java/util/List", name := "add", desc := "(Ljava/lang/Object;)Z" } : Jvm.MethodName)) ∈ lw_all := lw_g (lw_at lw_m2 227 rfl) rfl
theorem q538 : (Jvm.Cond.selects "TrophyPlates$Shop" ({ cls := "java/lang/Object", name := "getClass", desc := "()Ljava/lang/Class;" } : Jvm.MethodName) ({ cls := "java/lang/Object", name := "getClass", desc := "()Ljava/lang/Class;" } : Jvm.MethodName)) ∈ lw_all := lw_g (lw_at lw_m3 28 rfl) rfl
theorem q578 : (Jvm.Cond.classLink "TrophyPlates$Shop" (69 : Nat) "TrophyPlates$Order") ∈ lw_all := lw_g (lw_at lw_m3 68 rfl) rfl
theorem q579 : (Jvm.Cond.interfaceEntry "TrophyPlates$Shop" (71 : Nat)) ∈ lw_tbl := lw_at lw_m3 69 rfl
theorem q580 : (Jvm.Cond.methodLink "TrophyPlates$Shop" (71 : Nat) ({ cls := "java/util/Map", name := "entrySet", desc := "()Ljava/util/Set;" } : Jvm.MethodName)) ∈ lw_all := lw_g (lw_at lw_m3 70 rfl) rfl
theorem q626 : (Jvm.Cond.interfaceEntry "TrophyPlates$Shop" (77 : Nat)) ∈ lw_tbl := lw_at lw_m3 116 rfl
theorem q627 : (Jvm.Cond.methodLink "TrophyPlates$Shop" (77 : Nat) ({ cls := "java/util/Set", name := "iterator", desc := "()Ljava/util/Iterator;" } : Jvm.MethodName)) ∈ lw_all := lw_g (lw_at lw_m3 117 rfl) rfl
theorem q771 : (Jvm.Cond.classLink "TrophyPlates$Shop" (80 : Nat) "java/util/Map$Entry") ∈ lw_all := lw_g (lw_at lw_m4 21 rfl) rfl
theorem q772 : (Jvm.Cond.interfaceEntry "TrophyPlates$Shop" (82 : Nat)) ∈ lw_tbl := lw_at lw_m4 22 rfl
theorem q773 : (Jvm.Cond.methodLink "TrophyPlates$Shop" (82 : Nat) ({ cls := "java/util/Map$Entry", name := "getKey", desc := "()Ljava/lang/Object;" } : Jvm.MethodName)) ∈ lw_all := lw_g (lw_at lw_m4 23 rfl) rfl
theorem q786 : (Jvm.Cond.classLink "TrophyPlates$Shop" (85 : Nat) "TrophyPlates$Place") ∈ lw_all := lw_g (lw_at lw_m4 36 rfl) rfl
theorem q787 : (Jvm.Cond.interfaceEntry "TrophyPlates$Shop" (87 : Nat)) ∈ lw_tbl := lw_at lw_m4 37 rfl
theorem q788 : (Jvm.Cond.methodLink "TrophyPlates$Shop" (87 : Nat) ({ cls := "java/util/Map$Entry", name := "getValue", desc := "()Ljava/lang/Object;" } : Jvm.MethodName)) ∈ lw_all := lw_g (lw_at lw_m4 38 rfl) rfl
theorem q800 : (Jvm.Cond.classLink "TrophyPlates$Shop" (90 : Nat) "java/lang/Integer") ∈ lw_all := lw_g (lw_at lw_m4 50 rfl) rfl
theorem q801 : (Jvm.Cond.interfaceEntry "TrophyPlates$Shop" (92 : Nat)) ∈ lw_tbl := lw_at lw_m4 51 rfl
theorem q802 : (Jvm.Cond.methodLink "TrophyPlates$Shop" (92 : Nat) ({ cls := "java/util/Map", name := "put", desc := "(Ljava/lang/Object;Ljava/lang/Object;)Ljava/lang/Object;" } : Jvm.MethodName)) ∈ lw_all := lw_g (lw_at lw_m4 52 rfl) rfl
theorem q824 : (Jvm.Cond.selects "TrophyPlates$Shop" ({ cls := "java/lang/Object", name := "hashCode", desc := "()I" } : Jvm.MethodName) ({ cls := "java/lang/Object", name := "hashCode", desc := "()I" } : Jvm.MethodName)) ∈ lw_all := lw_g (lw_at lw_m4 74 rfl) rfl
theorem q1262 : (Jvm.Cond.selects "TrophyPlates$Shop" ({ cls := "java/lang/Object", name := "equals", desc := "(Ljava/lang/Object;)Z" } : Jvm.MethodName) ({ cls := "java/lang/Object", name := "equals", desc := "(Ljava/lang/Object;)Z" } : Jvm.MethodName)) ∈ lw_all := lw_g (lw_at lw_m6 32 rfl) rfl
theorem q1371 : (Jvm.Cond.methodLink "TrophyPlates$Shop" (96 : Nat) ({ cls := "java/lang/System", name := "arraycopy", desc := "(Ljava/lang/Object;ILjava/lang/Object;II)V" } : Jvm.MethodName)) ∈ lw_all := lw_g (lw_at lw_m6 141 rfl) rfl
theorem q1383 : (Jvm.Cond.instanceMethod ({ cls := "TrophyPlates$Shop", name := "isPlate", desc := "(I)Z" } : Jvm.MethodName)) ∈ lw_all := lw_g (lw_at lw_m6 153 rfl) rfl
theorem q1384 : (Jvm.Cond.selects "TrophyPlates$Shop" ({ cls := "TrophyPlates$Shop", name := "isPlate", desc := "(I)Z" } : Jvm.MethodName) ({ cls := "TrophyPlates$Shop", name := "isPlate", desc := "(I)Z" } : Jvm.MethodName)) ∈ lw_all := lw_g (lw_at lw_m6 154 rfl) rfl
theorem q1385 : (Jvm.Cond.code ({ cls := "TrophyPlates$Shop", name := "isPlate", desc := "(I)Z" } : Jvm.MethodName) prog_6_method_3_code (2 : Nat) (Option.some Jvm.ClassFile.FieldType.boolean)) ∈ lw_all := lw_g (lw_at lw_m6 155 rfl) rfl
theorem q1386 : (Jvm.Cond.interfaceEntry "TrophyPlates$Shop" (118 : Nat)) ∈ lw_tbl := lw_at lw_m6 156 rfl
theorem q1387 : (Jvm.Cond.methodLink "TrophyPlates$Shop" (118 : Nat) ({ cls := "java/util/List", name := "size", desc := "()I" } : Jvm.MethodName)) ∈ lw_all := lw_g (lw_at lw_m6 157 rfl) rfl
theorem q1388 : (Jvm.Cond.methodLinkNest "TrophyPlates$Shop" (122 : Nat) ({ cls := "TrophyPlates", name := "isBetween", desc := "(III)Z" } : Jvm.MethodName) "TrophyPlates") ∈ lw_tbl := lw_at lw_m6 158 rfl
theorem q1409 : (Jvm.Cond.instanceMethod ({ cls := "TrophyPlates$Shop", name := "platesIn", desc := "(I)I" } : Jvm.MethodName)) ∈ lw_all := lw_g (lw_at lw_m6 179 rfl) rfl
theorem q1410 : (Jvm.Cond.selects "TrophyPlates$Shop" ({ cls := "TrophyPlates$Shop", name := "platesIn", desc := "(I)I" } : Jvm.MethodName) ({ cls := "TrophyPlates$Shop", name := "platesIn", desc := "(I)I" } : Jvm.MethodName)) ∈ lw_all := lw_g (lw_at lw_m6 180 rfl) rfl
theorem q1411 : (Jvm.Cond.code ({ cls := "TrophyPlates$Shop", name := "platesIn", desc := "(I)I" } : Jvm.MethodName) prog_6_method_7_code (5 : Nat) (Option.some Jvm.ClassFile.FieldType.int)) ∈ lw_all := lw_g (lw_at lw_m6 181 rfl) rfl
theorem q1421 : (Jvm.Cond.privateMethod ({ cls := "TrophyPlates$Shop", name := "grind", desc := "(II)V" } : Jvm.MethodName)) ∈ lw_tbl := lw_at lw_m6 191 rfl
theorem q1422 : (Jvm.Cond.instanceMethod ({ cls := "TrophyPlates$Shop", name := "grind", desc := "(II)V" } : Jvm.MethodName)) ∈ lw_all := lw_g (lw_at lw_m6 192 rfl) rfl
theorem q1423 : (Jvm.Cond.code ({ cls := "TrophyPlates$Shop", name := "grind", desc := "(II)V" } : Jvm.MethodName) prog_6_method_15_code (3 : Nat) (Option.none : Option Jvm.ClassFile.FieldType)) ∈ lw_all := lw_g (lw_at lw_m6 193 rfl) rfl
theorem q1424 : (Jvm.Cond.interfaceEntry "TrophyPlates$Shop" (169 : Nat)) ∈ lw_tbl := lw_at lw_m6 194 rfl
theorem q1425 : (Jvm.Cond.methodLink "TrophyPlates$Shop" (169 : Nat) ({ cls := "java/util/List", name := "get", desc := "(I)Ljava/lang/Object;" } : Jvm.MethodName)) ∈ lw_all := lw_g (lw_at lw_m6 195 rfl) rfl
theorem q1426 : (Jvm.Cond.methodLink "TrophyPlates$Shop" (194 : Nat) ({ cls := "TrophyPlates$Plate", name := "grind", desc := "(I)V" } : Jvm.MethodName)) ∈ lw_all := lw_g (lw_at lw_m6 196 rfl) rfl
theorem q1444 : (Jvm.Cond.instanceMethod ({ cls := "TrophyPlates$Shop", name := "isShield", desc := "(I)Z" } : Jvm.MethodName)) ∈ lw_all := lw_g (lw_at lw_m6 214 rfl) rfl
theorem q1445 : (Jvm.Cond.selects "TrophyPlates$Shop" ({ cls := "TrophyPlates$Shop", name := "isShield", desc := "(I)Z" } : Jvm.MethodName) ({ cls := "TrophyPlates$Shop", name := "isShield", desc := "(I)Z" } : Jvm.MethodName)) ∈ lw_all := lw_g (lw_at lw_m6 215 rfl) rfl
theorem q1446 : (Jvm.Cond.code ({ cls := "TrophyPlates$Shop", name := "isShield", desc := "(I)Z" } : Jvm.MethodName) prog_6_method_4_code (2 : Nat) (Option.some Jvm.ClassFile.FieldType.boolean)) ∈ lw_all := lw_g (lw_at lw_m6 216 rfl) rfl
theorem q1448 : (Jvm.Cond.instanceMethod ({ cls := "TrophyPlates$Shop", name := "plateFor", desc := "(II)I" } : Jvm.MethodName)) ∈ lw_all := lw_g (lw_at lw_m6 218 rfl) rfl
theorem q1449 : (Jvm.Cond.selects "TrophyPlates$Shop" ({ cls := "TrophyPlates$Shop", name := "plateFor", desc := "(II)I" } : Jvm.MethodName) ({ cls := "TrophyPlates$Shop", name := "plateFor", desc := "(II)I" } : Jvm.MethodName)) ∈ lw_all := lw_g (lw_at lw_m6 219 rfl) rfl
theorem q1450 : (Jvm.Cond.code ({ cls := "TrophyPlates$Shop", name := "plateFor", desc := "(II)I" } : Jvm.MethodName) prog_6_method_6_code (4 : Nat) (Option.some Jvm.ClassFile.FieldType.int)) ∈ lw_all := lw_g (lw_at lw_m6 220 rfl) rfl
theorem q1452 : (Jvm.Cond.methodLink "TrophyPlates$Shop" (126 : Nat) ({ cls := "TrophyPlates$Place", name := "<init>", desc := "(II)V" } : Jvm.MethodName)) ∈ lw_all := lw_g (lw_at lw_m6 222 rfl) rfl
theorem q1457 : (Jvm.Cond.fieldLinkNest "TrophyPlates$Shop" (142 : Nat) "TrophyPlates$Place" "shield" "I" "TrophyPlates") ∈ lw_tbl := lw_at lw_m6 227 rfl
theorem q1460 : (Jvm.Cond.fieldLinkNest "TrophyPlates$Shop" (145 : Nat) "TrophyPlates$Place" "year" "I" "TrophyPlates") ∈ lw_tbl := lw_at lw_m6 230 rfl
theorem q1467 : (Jvm.Cond.interfaceEntry "TrophyPlates$Shop" (129 : Nat)) ∈ lw_tbl := lw_at lw_m6 237 rfl
theorem q1468 : (Jvm.Cond.methodLink "TrophyPlates$Shop" (129 : Nat) ({ cls := "java/util/Map", name := "get", desc := "(Ljava/lang/Object;)Ljava/lang/Object;" } : Jvm.MethodName)) ∈ lw_all := lw_g (lw_at lw_m6 238 rfl) rfl
theorem q1496 : (Jvm.Cond.methodLink "TrophyPlates$Shop" (133 : Nat) ({ cls := "java/lang/Integer", name := "intValue", desc := "()I" } : Jvm.MethodName)) ∈ lw_all := lw_g (lw_at lw_m7 26 rfl) rfl
theorem q1498 : (Jvm.Cond.instanceMethod ({ cls := "TrophyPlates$Shop", name := "takeOff", desc := "(II)I" } : Jvm.MethodName)) ∈ lw_all := lw_g (lw_at lw_m7 28 rfl) rfl
theorem q1499 : (Jvm.Cond.selects "TrophyPlates$Shop" ({ cls := "TrophyPlates$Shop", name := "takeOff", desc := "(II)I" } : Jvm.MethodName) ({ cls := "TrophyPlates$Shop", name := "takeOff", desc := "(II)I" } : Jvm.MethodName)) ∈ lw_all := lw_g (lw_at lw_m7 29 rfl) rfl
theorem q1500 : (Jvm.Cond.code ({ cls := "TrophyPlates$Shop", name := "takeOff", desc := "(II)I" } : Jvm.MethodName) prog_6_method_19_code (4 : Nat) (Option.some Jvm.ClassFile.FieldType.int)) ∈ lw_all := lw_g (lw_at lw_m7 30 rfl) rfl
theorem q1501 : (Jvm.Cond.interfaceEntry "TrophyPlates$Shop" (240 : Nat)) ∈ lw_tbl := lw_at lw_m7 31 rfl
theorem q1502 : (Jvm.Cond.methodLink "TrophyPlates$Shop" (240 : Nat) ({ cls := "java/util/Map", name := "remove", desc := "(Ljava/lang/Object;)Ljava/lang/Object;" } : Jvm.MethodName)) ∈ lw_all := lw_g (lw_at lw_m7 32 rfl) rfl
theorem q1643 : (Jvm.Cond.instanceMethod ({ cls := "TrophyPlates$Shop", name := "isOrdered", desc := "(LTrophyPlates$Place;)Z" } : Jvm.MethodName)) ∈ lw_all := lw_g (lw_at lw_m7 173 rfl) rfl
theorem q1644 : (Jvm.Cond.selects "TrophyPlates$Shop" ({ cls := "TrophyPlates$Shop", name := "isOrdered", desc := "(LTrophyPlates$Place;)Z" } : Jvm.MethodName) ({ cls := "TrophyPlates$Shop", name := "isOrdered", desc := "(LTrophyPlates$Place;)Z" } : Jvm.MethodName)) ∈ lw_all := lw_g (lw_at lw_m7 174 rfl) rfl
theorem q1645 : (Jvm.Cond.code ({ cls := "TrophyPlates$Shop", name := "isOrdered", desc := "(LTrophyPlates$Place;)Z" } : Jvm.MethodName) prog_6_method_11_code (6 : Nat) (Option.some Jvm.ClassFile.FieldType.boolean)) ∈ lw_all := lw_g (lw_at lw_m7 175 rfl) rfl
theorem q1646 : (Jvm.Cond.classLink "TrophyPlates$Shop" (152 : Nat) "java/util/HashSet") ∈ lw_all := lw_g (lw_at lw_m7 176 rfl) rfl
theorem q1648 : (Jvm.Cond.methodLink "TrophyPlates$Shop" (154 : Nat) ({ cls := "java/util/HashSet", name := "<init>", desc := "()V" } : Jvm.MethodName)) ∈ lw_all := lw_g (lw_at lw_m7 178 rfl) rfl
theorem q1668 : (Jvm.Cond.methodLink "TrophyPlates$Shop" (159 : Nat) ({ cls := "java/util/HashSet", name := "add", desc := "(Ljava/lang/Object;)Z" } : Jvm.MethodName)) ∈ lw_all := lw_g (lw_at lw_m7 198 rfl) rfl
theorem q1675 : (Jvm.Cond.methodLink "TrophyPlates$Shop" (160 : Nat) ({ cls := "java/util/HashSet", name := "contains", desc := "(Ljava/lang/Object;)Z" } : Jvm.MethodName)) ∈ lw_all := lw_g (lw_at lw_m7 205 rfl) rfl
theorem q1744 : (Jvm.Cond.fieldLinkNest "TrophyPlates$Shop" (155 : Nat) "TrophyPlates$Order" "place" "LTrophyPlates$Place;" "TrophyPlates") ∈ lw_tbl := lw_at lw_m8 34 rfl
theorem q1751 : (Jvm.Cond.fieldLinkNest "TrophyPlates$Shop" (201 : Nat) "TrophyPlates$Order" "depth" "I" "TrophyPlates") ∈ lw_tbl := lw_at lw_m8 41 rfl
theorem q1754 : (Jvm.Cond.fieldLinkNest "TrophyPlates$Shop" (148 : Nat) "TrophyPlates$Order" "isRush" "Z" "TrophyPlates") ∈ lw_tbl := lw_at lw_m8 44 rfl
theorem q1768 : (Jvm.Cond.instanceMethod ({ cls := "TrophyPlates$Shop", name := "line", desc := "(LTrophyPlates$Order;)I" } : Jvm.MethodName)) ∈ lw_all := lw_g (lw_at lw_m8 58 rfl) rfl
theorem q1769 : (Jvm.Cond.selects "TrophyPlates$Shop" ({ cls := "TrophyPlates$Shop", name := "line", desc := "(LTrophyPlates$Order;)I" } : Jvm.MethodName) ({ cls := "TrophyPlates$Shop", name := "line", desc := "(LTrophyPlates$Order;)I" } : Jvm.MethodName)) ∈ lw_all := lw_g (lw_at lw_m8 59 rfl) rfl
theorem q1770 : (Jvm.Cond.code ({ cls := "TrophyPlates$Shop", name := "line", desc := "(LTrophyPlates$Order;)I" } : Jvm.MethodName) prog_6_method_12_code (3 : Nat) (Option.some Jvm.ClassFile.FieldType.int)) ∈ lw_all := lw_g (lw_at lw_m8 60 rfl) rfl
theorem q1771 : (Jvm.Cond.methodLink "TrophyPlates$Shop" (163 : Nat) ({ cls := "TrophyPlates$Shop", name := "rushes", desc := "()I" } : Jvm.MethodName)) ∈ lw_all := lw_g (lw_at lw_m8 61 rfl) rfl
theorem q1772 : (Jvm.Cond.instanceMethod ({ cls := "TrophyPlates$Shop", name := "rushes", desc := "()I" } : Jvm.MethodName)) ∈ lw_all := lw_g (lw_at lw_m8 62 rfl) rfl
theorem q1773 : (Jvm.Cond.selects "TrophyPlates$Shop" ({ cls := "TrophyPlates$Shop", name := "rushes", desc := "()I" } : Jvm.MethodName) ({ cls := "TrophyPlates$Shop", name := "rushes", desc := "()I" } : Jvm.MethodName)) ∈ lw_all := lw_g (lw_at lw_m8 63 rfl) rfl
theorem q1774 : (Jvm.Cond.code ({ cls := "TrophyPlates$Shop", name := "rushes", desc := "()I" } : Jvm.MethodName) prog_6_method_10_code (4 : Nat) (Option.some Jvm.ClassFile.FieldType.int)) ∈ lw_all := lw_g (lw_at lw_m8 64 rfl) rfl
theorem q1775 : (Jvm.Cond.interfaceEntry "TrophyPlates$Shop" (166 : Nat)) ∈ lw_tbl := lw_at lw_m8 65 rfl
theorem q1776 : (Jvm.Cond.methodLink "TrophyPlates$Shop" (166 : Nat) ({ cls := "java/util/List", name := "add", desc := "(ILjava/lang/Object;)V" } : Jvm.MethodName)) ∈ lw_all := lw_g (lw_at lw_m8 66 rfl) rfl
theorem q1794 : (Jvm.Cond.instanceMethod ({ cls := "TrophyPlates$Shop", name := "isOrder", desc := "(I)Z" } : Jvm.MethodName)) ∈ lw_all := lw_g (lw_at lw_m8 84 rfl) rfl
theorem q1795 : (Jvm.Cond.selects "TrophyPlates$Shop" ({ cls := "TrophyPlates$Shop", name := "isOrder", desc := "(I)Z" } : Jvm.MethodName) ({ cls := "TrophyPlates$Shop", name := "isOrder", desc := "(I)Z" } : Jvm.MethodName)) ∈ lw_all := lw_g (lw_at lw_m8 85 rfl) rfl
theorem q1796 : (Jvm.Cond.code ({ cls := "TrophyPlates$Shop", name := "isOrder", desc := "(I)Z" } : Jvm.MethodName) prog_6_method_5_code (2 : Nat) (Option.some Jvm.ClassFile.FieldType.boolean)) ∈ lw_all := lw_g (lw_at lw_m8 86 rfl) rfl
theorem q1798 : (Jvm.Cond.instanceMethod ({ cls := "TrophyPlates$Shop", name := "hurry", desc := "(I)I" } : Jvm.MethodName)) ∈ lw_all := lw_g (lw_at lw_m8 88 rfl) rfl
theorem q1799 : (Jvm.Cond.selects "TrophyPlates$Shop" ({ cls := "TrophyPlates$Shop", name := "hurry", desc := "(I)I" } : Jvm.MethodName) ({ cls := "TrophyPlates$Shop", name := "hurry", desc := "(I)I" } : Jvm.MethodName)) ∈ lw_all := lw_g (lw_at lw_m8 89 rfl) rfl
theorem q1800 : (Jvm.Cond.code ({ cls := "TrophyPlates$Shop", name := "hurry", desc := "(I)I" } : Jvm.MethodName) prog_6_method_24_code (4 : Nat) (Option.some Jvm.ClassFile.FieldType.int)) ∈ lw_all := lw_g (lw_at lw_m8 90 rfl) rfl
theorem q1801 : (Jvm.Cond.interfaceEntry "TrophyPlates$Shop" (263 : Nat)) ∈ lw_tbl := lw_at lw_m8 91 rfl
theorem q1802 : (Jvm.Cond.methodLink "TrophyPlates$Shop" (263 : Nat) ({ cls := "java/util/List", name := "remove", desc := "(I)Ljava/lang/Object;" } : Jvm.MethodName)) ∈ lw_all := lw_g (lw_at lw_m8 92 rfl) rfl
theorem q1814 : (Jvm.Cond.methodLink "TrophyPlates$Shop" (265 : Nat) ({ cls := "TrophyPlates$Order", name := "<init>", desc := "(LTrophyPlates$Order;Z)V" } : Jvm.MethodName)) ∈ lw_all := lw_g (lw_at lw_m8 104 rfl) rfl
theorem q1818 : (Jvm.Cond.methodLink "TrophyPlates$Shop" (268 : Nat) ({ cls := "TrophyPlates$Shop", name := "line", desc := "(LTrophyPlates$Order;)I" } : Jvm.MethodName)) ∈ lw_all := lw_g (lw_at lw_m8 108 rfl) rfl
theorem q1824 : (Jvm.Cond.instanceMethod ({ cls := "TrophyPlates$Shop", name := "cancel", desc := "(I)V" } : Jvm.MethodName)) ∈ lw_all := lw_g (lw_at lw_m8 114 rfl) rfl
theorem q1825 : (Jvm.Cond.selects "TrophyPlates$Shop" ({ cls := "TrophyPlates$Shop", name := "cancel", desc := "(I)V" } : Jvm.MethodName) ({ cls := "TrophyPlates$Shop", name := "cancel", desc := "(I)V" } : Jvm.MethodName)) ∈ lw_all := lw_g (lw_at lw_m8 115 rfl) rfl
theorem q1826 : (Jvm.Cond.code ({ cls := "TrophyPlates$Shop", name := "cancel", desc := "(I)V" } : Jvm.MethodName) prog_6_method_23_code (3 : Nat) (Option.none : Option Jvm.ClassFile.FieldType)) ∈ lw_all := lw_g (lw_at lw_m8 116 rfl) rfl
theorem q1827 : (Jvm.Cond.methodLink "TrophyPlates$Shop" (237 : Nat) ({ cls := "TrophyPlates$Shop", name := "rest", desc := "()V" } : Jvm.MethodName)) ∈ lw_all := lw_g (lw_at lw_m8 117 rfl) rfl
theorem q1828 : (Jvm.Cond.privateMethod ({ cls := "TrophyPlates$Shop", name := "rest", desc := "()V" } : Jvm.MethodName)) ∈ lw_tbl := lw_at lw_m8 118 rfl
theorem q1829 : (Jvm.Cond.instanceMethod ({ cls := "TrophyPlates$Shop", name := "rest", desc := "()V" } : Jvm.MethodName)) ∈ lw_all := lw_g (lw_at lw_m8 119 rfl) rfl
theorem q1830 : (Jvm.Cond.code ({ cls := "TrophyPlates$Shop", name := "rest", desc := "()V" } : Jvm.MethodName) prog_6_method_17_code (1 : Nat) (Option.none : Option Jvm.ClassFile.FieldType)) ∈ lw_all := lw_g (lw_at lw_m8 120 rfl) rfl
theorem q1836 : (Jvm.Cond.instanceMethod ({ cls := "TrophyPlates$Shop", name := "work", desc := "(I)I" } : Jvm.MethodName)) ∈ lw_all := lw_g (lw_at lw_m8 126 rfl) rfl
theorem q1837 : (Jvm.Cond.selects "TrophyPlates$Shop" ({ cls := "TrophyPlates$Shop", name := "work", desc := "(I)I" } : Jvm.MethodName) ({ cls := "TrophyPlates$Shop", name := "work", desc := "(I)I" } : Jvm.MethodName)) ∈ lw_all := lw_g (lw_at lw_m8 127 rfl) rfl
theorem q1838 : (Jvm.Cond.code ({ cls := "TrophyPlates$Shop", name := "work", desc := "(I)I" } : Jvm.MethodName) prog_6_method_21_code (5 : Nat) (Option.some Jvm.ClassFile.FieldType.int)) ∈ lw_all := lw_g (lw_at lw_m8 128 rfl) rfl
theorem q1839 : (Jvm.Cond.methodLink "TrophyPlates$Shop" (253 : Nat) ({ cls := "TrophyPlates$Shop", name := "step", desc := "(I)I" } : Jvm.MethodName)) ∈ lw_all := lw_g (lw_at lw_m8 129 rfl) rfl
theorem q1840 : (Jvm.Cond.privateMethod ({ cls := "TrophyPlates$Shop", name := "step", desc := "(I)I" } : Jvm.MethodName)) ∈ lw_tbl := lw_at lw_m8 130 rfl
theorem q1841 : (Jvm.Cond.instanceMethod ({ cls := "TrophyPlates$Shop", name := "step", desc := "(I)I" } : Jvm.MethodName)) ∈ lw_all := lw_g (lw_at lw_m8 131 rfl) rfl
theorem q1842 : (Jvm.Cond.code ({ cls := "TrophyPlates$Shop", name := "step", desc := "(I)I" } : Jvm.MethodName) prog_6_method_20_code (3 : Nat) (Option.some Jvm.ClassFile.FieldType.int)) ∈ lw_all := lw_g (lw_at lw_m8 132 rfl) rfl
theorem q1843 : (Jvm.Cond.methodLink "TrophyPlates$Shop" (242 : Nat) ({ cls := "TrophyPlates$Shop", name := "begin", desc := "()Z" } : Jvm.MethodName)) ∈ lw_all := lw_g (lw_at lw_m8 133 rfl) rfl
theorem q1844 : (Jvm.Cond.privateMethod ({ cls := "TrophyPlates$Shop", name := "begin", desc := "()Z" } : Jvm.MethodName)) ∈ lw_tbl := lw_at lw_m8 134 rfl
theorem q1845 : (Jvm.Cond.instanceMethod ({ cls := "TrophyPlates$Shop", name := "begin", desc := "()Z" } : Jvm.MethodName)) ∈ lw_all := lw_g (lw_at lw_m8 135 rfl) rfl
theorem q1846 : (Jvm.Cond.code ({ cls := "TrophyPlates$Shop", name := "begin", desc := "()Z" } : Jvm.MethodName) prog_6_method_16_code (4 : Nat) (Option.some Jvm.ClassFile.FieldType.boolean)) ∈ lw_all := lw_g (lw_at lw_m8 136 rfl) rfl
theorem q1847 : (Jvm.Cond.methodLink "TrophyPlates$Shop" (198 : Nat) ({ cls := "TrophyPlates$Order", name := "length", desc := "()I" } : Jvm.MethodName)) ∈ lw_all := lw_g (lw_at lw_m8 137 rfl) rfl
theorem q1898 : (Jvm.Cond.methodLink "TrophyPlates$Shop" (204 : Nat) ({ cls := "TrophyPlates$Shop", name := "find", desc := "(II)LTrophyPlates$Found;" } : Jvm.MethodName)) ∈ lw_all := lw_g (lw_at lw_m8 188 rfl) rfl
theorem q1899 : (Jvm.Cond.instanceMethod ({ cls := "TrophyPlates$Shop", name := "find", desc := "(II)LTrophyPlates$Found;" } : Jvm.MethodName)) ∈ lw_all := lw_g (lw_at lw_m8 189 rfl) rfl
theorem q1900 : (Jvm.Cond.selects "TrophyPlates$Shop" ({ cls := "TrophyPlates$Shop", name := "find", desc := "(II)LTrophyPlates$Found;" } : Jvm.MethodName) ({ cls := "TrophyPlates$Shop", name := "find", desc := "(II)LTrophyPlates$Found;" } : Jvm.MethodName)) ∈ lw_all := lw_g (lw_at lw_m8 190 rfl) rfl
theorem q1901 : (Jvm.Cond.code ({ cls := "TrophyPlates$Shop", name := "find", desc := "(II)LTrophyPlates$Found;" } : Jvm.MethodName) prog_6_method_14_code (4 : Nat) (Option.some (Jvm.ClassFile.FieldType.object "TrophyPlates$Found"))) ∈ lw_all := lw_g (lw_at lw_m8 191 rfl) rfl
theorem q1902 : (Jvm.Cond.methodLink "TrophyPlates$Shop" (190 : Nat) ({ cls := "TrophyPlates$Shop", name := "find", desc := "(IIZ)LTrophyPlates$Found;" } : Jvm.MethodName)) ∈ lw_all := lw_g (lw_at lw_m8 192 rfl) rfl
theorem q1903 : (Jvm.Cond.privateMethod ({ cls := "TrophyPlates$Shop", name := "find", desc := "(IIZ)LTrophyPlates$Found;" } : Jvm.MethodName)) ∈ lw_tbl := lw_at lw_m8 193 rfl
theorem q1904 : (Jvm.Cond.instanceMethod ({ cls := "TrophyPlates$Shop", name := "find", desc := "(IIZ)LTrophyPlates$Found;" } : Jvm.MethodName)) ∈ lw_all := lw_g (lw_at lw_m8 194 rfl) rfl
theorem q1905 : (Jvm.Cond.code ({ cls := "TrophyPlates$Shop", name := "find", desc := "(IIZ)LTrophyPlates$Found;" } : Jvm.MethodName) prog_6_method_13_code (10 : Nat) (Option.some (Jvm.ClassFile.FieldType.object "TrophyPlates$Found"))) ∈ lw_all := lw_g (lw_at lw_m8 195 rfl) rfl
theorem q1906 : (Jvm.Cond.methodLink "TrophyPlates$Shop" (172 : Nat) ({ cls := "TrophyPlates$Plate", name := "side", desc := "(IZ)I" } : Jvm.MethodName)) ∈ lw_all := lw_g (lw_at lw_m8 196 rfl) rfl
theorem q1918 : (Jvm.Cond.methodLinkNest "TrophyPlates$Shop" (181 : Nat) ({ cls := "TrophyPlates", name := "isAhead", desc := "([I[I)Z" } : Jvm.MethodName) "TrophyPlates") ∈ lw_tbl := lw_at lw_m8 208 rfl
theorem q1921 : (Jvm.Cond.classLink "TrophyPlates$Shop" (185 : Nat) "TrophyPlates$Found") ∈ lw_all := lw_g (lw_at lw_m8 211 rfl) rfl
theorem q1923 : (Jvm.Cond.methodLink "TrophyPlates$Shop" (187 : Nat) ({ cls := "TrophyPlates$Found", name := "<init>", desc := "(IIZ)V" } : Jvm.MethodName)) ∈ lw_all := lw_g (lw_at lw_m8 213 rfl) rfl
theorem q1928 : (Jvm.Cond.fieldLinkNest "TrophyPlates$Shop" (207 : Nat) "TrophyPlates$Found" "plate" "I" "TrophyPlates") ∈ lw_tbl := lw_at lw_m8 218 rfl
theorem q1931 : (Jvm.Cond.fieldLinkNest "TrophyPlates$Shop" (208 : Nat) "TrophyPlates$Found" "side" "I" "TrophyPlates") ∈ lw_tbl := lw_at lw_m8 221 rfl
theorem q1934 : (Jvm.Cond.fieldLinkNest "TrophyPlates$Shop" (212 : Nat) "TrophyPlates$Found" "isGround" "Z" "TrophyPlates") ∈ lw_tbl := lw_at lw_m8 224 rfl
theorem q1943 : (Jvm.Cond.methodLink "TrophyPlates$Shop" (209 : Nat) ({ cls := "TrophyPlates$Order", name := "effort", desc := "()I" } : Jvm.MethodName)) ∈ lw_all := lw_g (lw_at lw_m8 233 rfl) rfl
theorem q1948 : (Jvm.Cond.methodLink "TrophyPlates$Shop" (215 : Nat) ({ cls := "TrophyPlates$Shop", name := "grind", desc := "(II)V" } : Jvm.MethodName)) ∈ lw_all := lw_g (lw_at lw_m8 238 rfl) rfl
theorem q1949 : (Jvm.Cond.methodLink "TrophyPlates$Shop" (245 : Nat) ({ cls := "java/lang/Math", name := "min", desc := "(II)I" } : Jvm.MethodName)) ∈ lw_all := lw_g (lw_at lw_m8 239 rfl) rfl
theorem q1950 : (Jvm.Cond.methodLink "TrophyPlates$Shop" (250 : Nat) ({ cls := "TrophyPlates$Shop", name := "fix", desc := "()V" } : Jvm.MethodName)) ∈ lw_all := lw_g (lw_at lw_m9 0 rfl) rfl
theorem q1951 : (Jvm.Cond.privateMethod ({ cls := "TrophyPlates$Shop", name := "fix", desc := "()V" } : Jvm.MethodName)) ∈ lw_tbl := lw_at lw_m9 1 rfl
theorem q1952 : (Jvm.Cond.instanceMethod ({ cls := "TrophyPlates$Shop", name := "fix", desc := "()V" } : Jvm.MethodName)) ∈ lw_all := lw_g (lw_at lw_m9 2 rfl) rfl
theorem q1953 : (Jvm.Cond.code ({ cls := "TrophyPlates$Shop", name := "fix", desc := "()V" } : Jvm.MethodName) prog_6_method_18_code (5 : Nat) (Option.none : Option Jvm.ClassFile.FieldType)) ∈ lw_all := lw_g (lw_at lw_m9 3 rfl) rfl
theorem q1954 : (Jvm.Cond.methodLink "TrophyPlates$Shop" (220 : Nat) ({ cls := "java/lang/Integer", name := "valueOf", desc := "(I)Ljava/lang/Integer;" } : Jvm.MethodName)) ∈ lw_all := lw_g (lw_at lw_m9 4 rfl) rfl
theorem q1973 : (Jvm.Cond.methodLink "TrophyPlates$Shop" (224 : Nat) ({ cls := "TrophyPlates$Shop", name := "platesOn", desc := "(I)I" } : Jvm.MethodName)) ∈ lw_all := lw_g (lw_at lw_m9 23 rfl) rfl
theorem q1974 : (Jvm.Cond.instanceMethod ({ cls := "TrophyPlates$Shop", name := "platesOn", desc := "(I)I" } : Jvm.MethodName)) ∈ lw_all := lw_g (lw_at lw_m9 24 rfl) rfl
theorem q1975 : (Jvm.Cond.selects "TrophyPlates$Shop" ({ cls := "TrophyPlates$Shop", name := "platesOn", desc := "(I)I" } : Jvm.MethodName) ({ cls := "TrophyPlates$Shop", name := "platesOn", desc := "(I)I" } : Jvm.MethodName)) ∈ lw_all := lw_g (lw_at lw_m9 25 rfl) rfl
theorem q1976 : (Jvm.Cond.code ({ cls := "TrophyPlates$Shop", name := "platesOn", desc := "(I)I" } : Jvm.MethodName) prog_6_method_8_code (5 : Nat) (Option.some Jvm.ClassFile.FieldType.int)) ∈ lw_all := lw_g (lw_at lw_m9 26 rfl) rfl
theorem q1977 : (Jvm.Cond.interfaceEntry "TrophyPlates$Shop" (139 : Nat)) ∈ lw_tbl := lw_at lw_m9 27 rfl
theorem q1978 : (Jvm.Cond.methodLink "TrophyPlates$Shop" (139 : Nat) ({ cls := "java/util/Map", name := "keySet", desc := "()Ljava/util/Set;" } : Jvm.MethodName)) ∈ lw_all := lw_g (lw_at lw_m9 28 rfl) rfl
theorem q1987 : (Jvm.Cond.methodLink "TrophyPlates$Shop" (228 : Nat) ({ cls := "TrophyPlates$Shop", name := "year", desc := "(IZ)I" } : Jvm.MethodName)) ∈ lw_all := lw_g (lw_at lw_m9 37 rfl) rfl
theorem q1988 : (Jvm.Cond.instanceMethod ({ cls := "TrophyPlates$Shop", name := "year", desc := "(IZ)I" } : Jvm.MethodName)) ∈ lw_all := lw_g (lw_at lw_m9 38 rfl) rfl
theorem q1989 : (Jvm.Cond.selects "TrophyPlates$Shop" ({ cls := "TrophyPlates$Shop", name := "year", desc := "(IZ)I" } : Jvm.MethodName) ({ cls := "TrophyPlates$Shop", name := "year", desc := "(IZ)I" } : Jvm.MethodName)) ∈ lw_all := lw_g (lw_at lw_m9 39 rfl) rfl
theorem q1990 : (Jvm.Cond.code ({ cls := "TrophyPlates$Shop", name := "year", desc := "(IZ)I" } : Jvm.MethodName) prog_6_method_9_code (7 : Nat) (Option.some Jvm.ClassFile.FieldType.int)) ∈ lw_all := lw_g (lw_at lw_m9 40 rfl) rfl
theorem q1991 : (Jvm.Cond.methodLink "TrophyPlates$Shop" (230 : Nat) ({ cls := "TrophyPlates$Shop", name := "takeOff", desc := "(II)I" } : Jvm.MethodName)) ∈ lw_all := lw_g (lw_at lw_m9 41 rfl) rfl
theorem q1992 : (Jvm.Cond.interfaceEntry "TrophyPlates$Shop" (234 : Nat)) ∈ lw_tbl := lw_at lw_m9 42 rfl
theorem q1993 : (Jvm.Cond.methodLink "TrophyPlates$Shop" (234 : Nat) ({ cls := "java/util/List", name := "remove", desc := "(Ljava/lang/Object;)Z" } : Jvm.MethodName)) ∈ lw_all := lw_g (lw_at lw_m9 43 rfl) rfl
theorem q2007 : (Jvm.Cond.instanceMethod ({ cls := "TrophyPlates$Shop", name := "slip", desc := "()I" } : Jvm.MethodName)) ∈ lw_all := lw_g (lw_at lw_m9 57 rfl) rfl
theorem q2008 : (Jvm.Cond.selects "TrophyPlates$Shop" ({ cls := "TrophyPlates$Shop", name := "slip", desc := "()I" } : Jvm.MethodName) ({ cls := "TrophyPlates$Shop", name := "slip", desc := "()I" } : Jvm.MethodName)) ∈ lw_all := lw_g (lw_at lw_m9 58 rfl) rfl
theorem q2009 : (Jvm.Cond.code ({ cls := "TrophyPlates$Shop", name := "slip", desc := "()I" } : Jvm.MethodName) prog_6_method_22_code (2 : Nat) (Option.some Jvm.ClassFile.FieldType.int)) ∈ lw_all := lw_g (lw_at lw_m9 59 rfl) rfl
theorem q2010 : (Jvm.Cond.methodLink "TrophyPlates$Shop" (256 : Nat) ({ cls := "TrophyPlates$Plate", name := "isReady", desc := "(II)Z" } : Jvm.MethodName)) ∈ lw_all := lw_g (lw_at lw_m9 60 rfl) rfl
theorem q2011 : (Jvm.Cond.methodLink "TrophyPlates$Shop" (260 : Nat) ({ cls := "TrophyPlates$Plate", name := "canBeGround", desc := "(II)Z" } : Jvm.MethodName)) ∈ lw_all := lw_g (lw_at lw_m9 61 rfl) rfl
theorem q2098 : (Jvm.Cond.instanceMethod ({ cls := "TrophyPlates$Shop", name := "times", desc := "()Ljava/util/Map;" } : Jvm.MethodName)) ∈ lw_all := lw_g (lw_at lw_m9 148 rfl) rfl
theorem q2099 : (Jvm.Cond.selects "TrophyPlates$Shop" ({ cls := "TrophyPlates$Shop", name := "times", desc := "()Ljava/util/Map;" } : Jvm.MethodName) ({ cls := "TrophyPlates$Shop", name := "times", desc := "()Ljava/util/Map;" } : Jvm.MethodName)) ∈ lw_all := lw_g (lw_at lw_m9 149 rfl) rfl
theorem q2100 : (Jvm.Cond.code ({ cls := "TrophyPlates$Shop", name := "times", desc := "()Ljava/util/Map;" } : Jvm.MethodName) prog_6_method_25_code (7 : Nat) (Option.some (Jvm.ClassFile.FieldType.object "java/util/Map"))) ∈ lw_all := lw_g (lw_at lw_m9 150 rfl) rfl
theorem q2101 : (Jvm.Cond.methodLink "TrophyPlates$Shop" (272 : Nat) ({ cls := "TrophyPlates$Shop", name := "copy", desc := "()LTrophyPlates$Shop;" } : Jvm.MethodName)) ∈ lw_all := lw_g (lw_at lw_m9 151 rfl) rfl
theorem q2102 : (Jvm.Cond.constant "TrophyPlates$Shop" (275 : Nat) (100000 : Int32)) ∈ lw_all := lw_g (lw_at lw_m9 152 rfl) rfl
theorem q2412 : (Jvm.Cond.castable "TrophyPlates$Shop" "java/lang/Object") ∈ lw_tbl := lw_at lw_m10 222 rfl
theorem in_X1 : ∀ w ∈ wsX10, w ∈ lw_all := lw_in wsX10 [207, 209, 211, 213, 215, 217, 219, 221, 223, 225, 227, 229] (by decide +kernel) (by decide +kernel)
/-! TrophyPlates$Stack -/
set_option maxRecDepth 100000
def RX2 : String := "TrophyPlates$Stack"
def TX2 : u_T := fun k => match k with
  | 0 => ("TrophyPlates$Stack", "most", "I", true)
  | 1 => ("TrophyPlates$Stack", "top", "LTrophyPlates$Stack$Node;", false)
  | _ => ("TrophyPlates$Stack", "size", "I", false)
def tyX2 : Nat → FieldType := fun k => match k with
  | 0 => .int
  | 1 => .object "TrophyPlates$Stack$Node"
  | _ => .int
abbrev wsX20 : List Cond := u_ws RX2 TX2 3
theorem nmX2 : ∀ a, a < 3 → ∀ b, b < 3 → a ≠ b → (TX2 a).2.1 ≠ (TX2 b).2.1 := by decide +kernel
theorem tyX2_ok : ∀ k, k < 3 → parseFieldDescriptor (TX2 k).2.2.1 = some (tyX2 k) := by decide +kernel
abbrev cX2_init : ByteArray := prog_7_method_1_code
def yX2_init : MethodName := ⟨RX2, "<init>", "()V"⟩
def dkwX2_init_0 : List UInt8 := [42, 8, 183, 0, 3, 177]
abbrev dktX2_init_0 : List UInt8 := dkwX2_init_0 ++ []
theorem dksX2_init_0 : cX2_init.data.toList.drop 0 = dktX2_init_0 := by decide +kernel
theorem dX2_init_0 : decode cX2_init 0 = .ok (.aload_n 0, 1) := dk_42 (dk_at dksX2_init_0 0 rfl rfl)
theorem dX2_init_1 : decode cX2_init 1 = .ok (.iconst 5, 1) := dk_8 (dk_at dksX2_init_0 1 rfl rfl)
theorem dX2_init_2 : decode cX2_init 2 = .ok (.invokespecial 3, 3) := dk_183 0 3 (dk_at dksX2_init_0 2 rfl rfl)
theorem dX2_init_5 : decode cX2_init 5 = .ok (.return_, 1) := dk_177 (dk_at dksX2_init_0 5 rfl rfl)
abbrev cX2_init_2 : ByteArray := prog_7_method_2_code
def yX2_init_2 : MethodName := ⟨RX2, "<init>", "(I)V"⟩
def dkwX2_init_2_0 : List UInt8 := [42, 183, 0, 9, 42, 27, 181, 0, 14, 177]
abbrev dktX2_init_2_0 : List UInt8 := dkwX2_init_2_0 ++ []
theorem dksX2_init_2_0 : cX2_init_2.data.toList.drop 0 = dktX2_init_2_0 := by decide +kernel
theorem dX2_init_2_0 : decode cX2_init_2 0 = .ok (.aload_n 0, 1) := dk_42 (dk_at dksX2_init_2_0 0 rfl rfl)
theorem dX2_init_2_1 : decode cX2_init_2 1 = .ok (.invokespecial 9, 3) := dk_183 0 9 (dk_at dksX2_init_2_0 1 rfl rfl)
theorem dX2_init_2_4 : decode cX2_init_2 4 = .ok (.aload_n 0, 1) := dk_42 (dk_at dksX2_init_2_0 4 rfl rfl)
theorem dX2_init_2_5 : decode cX2_init_2 5 = .ok (.iload_n 1, 1) := dk_27 (dk_at dksX2_init_2_0 5 rfl rfl)
theorem dX2_init_2_6 : decode cX2_init_2 6 = .ok (.putfield 14, 3) := dk_181 0 14 (dk_at dksX2_init_2_0 6 rfl rfl)
theorem dX2_init_2_9 : decode cX2_init_2 9 = .ok (.return_, 1) := dk_177 (dk_at dksX2_init_2_0 9 rfl rfl)
abbrev cX2_push : ByteArray := prog_7_method_3_code
def yX2_push : MethodName := ⟨RX2, "push", "(LTrophyPlates$Shop;)V"⟩
def dkwX2_push_3 : List UInt8 := [180, 0, 14, 181, 0, 27, 177]
abbrev dktX2_push_3 : List UInt8 := dkwX2_push_3 ++ []
def dkwX2_push_2 : List UInt8 := [180, 0, 14, 162, 0, 14, 44, 180, 0, 30, 77, 132, 3, 1, 167, 255, 240, 44, 1, 181, 0, 30, 42, 42]
abbrev dktX2_push_2 : List UInt8 := dkwX2_push_2 ++ dktX2_push_3
def dkwX2_push_1 : List UInt8 := [181, 0, 27, 42, 180, 0, 27, 42, 180, 0, 14, 164, 0, 42, 42, 180, 0, 20, 77, 4, 62, 29, 42]
abbrev dktX2_push_1 : List UInt8 := dkwX2_push_1 ++ dktX2_push_2
def dkwX2_push_0 : List UInt8 := [42, 187, 0, 18, 89, 43, 42, 180, 0, 20, 183, 0, 24, 181, 0, 20, 42, 89, 180, 0, 27, 4, 96]
abbrev dktX2_push_0 : List UInt8 := dkwX2_push_0 ++ dktX2_push_1
theorem dksX2_push_0 : cX2_push.data.toList.drop 0 = dktX2_push_0 := by decide +kernel
theorem dksX2_push_1 : cX2_push.data.toList.drop 23 = dktX2_push_1 := dk_seg dksX2_push_0 23 rfl rfl
theorem dksX2_push_2 : cX2_push.data.toList.drop 46 = dktX2_push_2 := dk_seg dksX2_push_1 23 rfl rfl
theorem dksX2_push_3 : cX2_push.data.toList.drop 70 = dktX2_push_3 := dk_seg dksX2_push_2 24 rfl rfl
theorem dX2_push_0 : decode cX2_push 0 = .ok (.aload_n 0, 1) := dk_42 (dk_at dksX2_push_0 0 rfl rfl)
theorem dX2_push_1 : decode cX2_push 1 = .ok (.new 18, 3) := dk_187 0 18 (dk_at dksX2_push_0 1 rfl rfl)
theorem dX2_push_4 : decode cX2_push 4 = .ok (.dup, 1) := dk_89 (dk_at dksX2_push_0 4 rfl rfl)
theorem dX2_push_5 : decode cX2_push 5 = .ok (.aload_n 1, 1) := dk_43 (dk_at dksX2_push_0 5 rfl rfl)
theorem dX2_push_6 : decode cX2_push 6 = .ok (.aload_n 0, 1) := dk_42 (dk_at dksX2_push_0 6 rfl rfl)
theorem dX2_push_7 : decode cX2_push 7 = .ok (.getfield 20, 3) := dk_180 0 20 (dk_at dksX2_push_0 7 rfl rfl)
theorem dX2_push_10 : decode cX2_push 10 = .ok (.invokespecial 24, 3) := dk_183 0 24 (dk_at dksX2_push_0 10 rfl rfl)
theorem dX2_push_13 : decode cX2_push 13 = .ok (.putfield 20, 3) := dk_181 0 20 (dk_at dksX2_push_0 13 rfl rfl)
theorem dX2_push_16 : decode cX2_push 16 = .ok (.aload_n 0, 1) := dk_42 (dk_at dksX2_push_0 16 rfl rfl)
theorem dX2_push_17 : decode cX2_push 17 = .ok (.dup, 1) := dk_89 (dk_at dksX2_push_0 17 rfl rfl)
theorem dX2_push_18 : decode cX2_push 18 = .ok (.getfield 27, 3) := dk_180 0 27 (dk_at dksX2_push_0 18 rfl rfl)
theorem dX2_push_21 : decode cX2_push 21 = .ok (.iconst 1, 1) := dk_4 (dk_at dksX2_push_0 21 rfl rfl)
theorem dX2_push_22 : decode cX2_push 22 = .ok (.iadd, 1) := dk_96 (dk_at dksX2_push_0 22 rfl rfl)
theorem dX2_push_23 : decode cX2_push 23 = .ok (.putfield 27, 3) := dk_181 0 27 (dk_at dksX2_push_1 0 rfl rfl)
theorem dX2_push_26 : decode cX2_push 26 = .ok (.aload_n 0, 1) := dk_42 (dk_at dksX2_push_1 3 rfl rfl)
theorem dX2_push_27 : decode cX2_push 27 = .ok (.getfield 27, 3) := dk_180 0 27 (dk_at dksX2_push_1 4 rfl rfl)
theorem dX2_push_30 : decode cX2_push 30 = .ok (.aload_n 0, 1) := dk_42 (dk_at dksX2_push_1 7 rfl rfl)
theorem dX2_push_31 : decode cX2_push 31 = .ok (.getfield 14, 3) := dk_180 0 14 (dk_at dksX2_push_1 8 rfl rfl)
theorem dX2_push_34 : decode cX2_push 34 = .ok (.if_icmp .le 42, 3) := dk_164 0 42 (dk_at dksX2_push_1 11 rfl rfl)
theorem dX2_push_37 : decode cX2_push 37 = .ok (.aload_n 0, 1) := dk_42 (dk_at dksX2_push_1 14 rfl rfl)
theorem dX2_push_38 : decode cX2_push 38 = .ok (.getfield 20, 3) := dk_180 0 20 (dk_at dksX2_push_1 15 rfl rfl)
theorem dX2_push_41 : decode cX2_push 41 = .ok (.astore_n 2, 1) := dk_77 (dk_at dksX2_push_1 18 rfl rfl)
theorem dX2_push_42 : decode cX2_push 42 = .ok (.iconst 1, 1) := dk_4 (dk_at dksX2_push_1 19 rfl rfl)
theorem dX2_push_43 : decode cX2_push 43 = .ok (.istore_n 3, 1) := dk_62 (dk_at dksX2_push_1 20 rfl rfl)
theorem dX2_push_44 : decode cX2_push 44 = .ok (.iload_n 3, 1) := dk_29 (dk_at dksX2_push_1 21 rfl rfl)
theorem dX2_push_45 : decode cX2_push 45 = .ok (.aload_n 0, 1) := dk_42 (dk_at dksX2_push_1 22 rfl rfl)
theorem dX2_push_46 : decode cX2_push 46 = .ok (.getfield 14, 3) := dk_180 0 14 (dk_at dksX2_push_2 0 rfl rfl)
theorem dX2_push_49 : decode cX2_push 49 = .ok (.if_icmp .ge 14, 3) := dk_162 0 14 (dk_at dksX2_push_2 3 rfl rfl)
theorem dX2_push_52 : decode cX2_push 52 = .ok (.aload_n 2, 1) := dk_44 (dk_at dksX2_push_2 6 rfl rfl)
theorem dX2_push_53 : decode cX2_push 53 = .ok (.getfield 30, 3) := dk_180 0 30 (dk_at dksX2_push_2 7 rfl rfl)
theorem dX2_push_56 : decode cX2_push 56 = .ok (.astore_n 2, 1) := dk_77 (dk_at dksX2_push_2 10 rfl rfl)
theorem dX2_push_57 : decode cX2_push 57 = .ok (.iinc 3 1, 3) := dk_132 3 1 (dk_at dksX2_push_2 11 rfl rfl)
theorem dX2_push_60 : decode cX2_push 60 = .ok (.goto (-16), 3) := dk_167 255 240 (dk_at dksX2_push_2 14 rfl rfl)
theorem dX2_push_63 : decode cX2_push 63 = .ok (.aload_n 2, 1) := dk_44 (dk_at dksX2_push_2 17 rfl rfl)
theorem dX2_push_64 : decode cX2_push 64 = .ok (.aconst_null, 1) := dk_1 (dk_at dksX2_push_2 18 rfl rfl)
theorem dX2_push_65 : decode cX2_push 65 = .ok (.putfield 30, 3) := dk_181 0 30 (dk_at dksX2_push_2 19 rfl rfl)
theorem dX2_push_68 : decode cX2_push 68 = .ok (.aload_n 0, 1) := dk_42 (dk_at dksX2_push_2 22 rfl rfl)
theorem dX2_push_69 : decode cX2_push 69 = .ok (.aload_n 0, 1) := dk_42 (dk_at dksX2_push_2 23 rfl rfl)
theorem dX2_push_70 : decode cX2_push 70 = .ok (.getfield 14, 3) := dk_180 0 14 (dk_at dksX2_push_3 0 rfl rfl)
theorem dX2_push_73 : decode cX2_push 73 = .ok (.putfield 27, 3) := dk_181 0 27 (dk_at dksX2_push_3 3 rfl rfl)
theorem dX2_push_76 : decode cX2_push 76 = .ok (.return_, 1) := dk_177 (dk_at dksX2_push_3 6 rfl rfl)
abbrev cX2_pop : ByteArray := prog_7_method_4_code
def yX2_pop : MethodName := ⟨RX2, "pop", "()LTrophyPlates$Shop;"⟩
def dkwX2_pop_1 : List UInt8 := [4, 100, 181, 0, 27, 43, 176]
abbrev dktX2_pop_1 : List UInt8 := dkwX2_pop_1 ++ []
def dkwX2_pop_0 : List UInt8 := [42, 180, 0, 20, 180, 0, 33, 76, 42, 42, 180, 0, 20, 180, 0, 30, 181, 0, 20, 42, 89, 180, 0, 27]
abbrev dktX2_pop_0 : List UInt8 := dkwX2_pop_0 ++ dktX2_pop_1
theorem dksX2_pop_0 : cX2_pop.data.toList.drop 0 = dktX2_pop_0 := by decide +kernel
theorem dksX2_pop_1 : cX2_pop.data.toList.drop 24 = dktX2_pop_1 := dk_seg dksX2_pop_0 24 rfl rfl
theorem dX2_pop_0 : decode cX2_pop 0 = .ok (.aload_n 0, 1) := dk_42 (dk_at dksX2_pop_0 0 rfl rfl)
theorem dX2_pop_1 : decode cX2_pop 1 = .ok (.getfield 20, 3) := dk_180 0 20 (dk_at dksX2_pop_0 1 rfl rfl)
theorem dX2_pop_4 : decode cX2_pop 4 = .ok (.getfield 33, 3) := dk_180 0 33 (dk_at dksX2_pop_0 4 rfl rfl)
theorem dX2_pop_7 : decode cX2_pop 7 = .ok (.astore_n 1, 1) := dk_76 (dk_at dksX2_pop_0 7 rfl rfl)
theorem dX2_pop_8 : decode cX2_pop 8 = .ok (.aload_n 0, 1) := dk_42 (dk_at dksX2_pop_0 8 rfl rfl)
theorem dX2_pop_9 : decode cX2_pop 9 = .ok (.aload_n 0, 1) := dk_42 (dk_at dksX2_pop_0 9 rfl rfl)
theorem dX2_pop_10 : decode cX2_pop 10 = .ok (.getfield 20, 3) := dk_180 0 20 (dk_at dksX2_pop_0 10 rfl rfl)
theorem dX2_pop_13 : decode cX2_pop 13 = .ok (.getfield 30, 3) := dk_180 0 30 (dk_at dksX2_pop_0 13 rfl rfl)
theorem dX2_pop_16 : decode cX2_pop 16 = .ok (.putfield 20, 3) := dk_181 0 20 (dk_at dksX2_pop_0 16 rfl rfl)
theorem dX2_pop_19 : decode cX2_pop 19 = .ok (.aload_n 0, 1) := dk_42 (dk_at dksX2_pop_0 19 rfl rfl)
theorem dX2_pop_20 : decode cX2_pop 20 = .ok (.dup, 1) := dk_89 (dk_at dksX2_pop_0 20 rfl rfl)
theorem dX2_pop_21 : decode cX2_pop 21 = .ok (.getfield 27, 3) := dk_180 0 27 (dk_at dksX2_pop_0 21 rfl rfl)
theorem dX2_pop_24 : decode cX2_pop 24 = .ok (.iconst 1, 1) := dk_4 (dk_at dksX2_pop_1 0 rfl rfl)
theorem dX2_pop_25 : decode cX2_pop 25 = .ok (.isub, 1) := dk_100 (dk_at dksX2_pop_1 1 rfl rfl)
theorem dX2_pop_26 : decode cX2_pop 26 = .ok (.putfield 27, 3) := dk_181 0 27 (dk_at dksX2_pop_1 2 rfl rfl)
theorem dX2_pop_29 : decode cX2_pop 29 = .ok (.aload_n 1, 1) := dk_43 (dk_at dksX2_pop_1 5 rfl rfl)
theorem dX2_pop_30 : decode cX2_pop 30 = .ok (.areturn, 1) := dk_176 (dk_at dksX2_pop_1 6 rfl rfl)
theorem q39 : (Jvm.Cond.initialized "TrophyPlates$Stack") ∈ lw_all := lw_g (lw_at lw_m1 9 rfl) rfl
theorem q234 : (Jvm.Cond.instantiable "TrophyPlates$Stack" (3 : Nat)) ∈ lw_all := lw_g (lw_at lw_m1 204 rfl) rfl
theorem q236 : (Jvm.Cond.instanceMethod ({ cls := "TrophyPlates$Stack", name := "<init>", desc := "()V" } : Jvm.MethodName)) ∈ lw_all := lw_g (lw_at lw_m1 206 rfl) rfl
theorem q237 : (Jvm.Cond.code ({ cls := "TrophyPlates$Stack", name := "<init>", desc := "()V" } : Jvm.MethodName) prog_7_method_1_code (1 : Nat) (Option.none : Option Jvm.ClassFile.FieldType)) ∈ lw_all := lw_g (lw_at lw_m1 207 rfl) rfl
theorem q238 : (Jvm.Cond.methodLink "TrophyPlates$Stack" (3 : Nat) ({ cls := "TrophyPlates$Stack", name := "<init>", desc := "(I)V" } : Jvm.MethodName)) ∈ lw_all := lw_g (lw_at lw_m1 208 rfl) rfl
theorem q239 : (Jvm.Cond.instanceMethod ({ cls := "TrophyPlates$Stack", name := "<init>", desc := "(I)V" } : Jvm.MethodName)) ∈ lw_all := lw_g (lw_at lw_m1 209 rfl) rfl
theorem q240 : (Jvm.Cond.code ({ cls := "TrophyPlates$Stack", name := "<init>", desc := "(I)V" } : Jvm.MethodName) prog_7_method_2_code (2 : Nat) (Option.none : Option Jvm.ClassFile.FieldType)) ∈ lw_all := lw_g (lw_at lw_m1 210 rfl) rfl
theorem q241 : (Jvm.Cond.methodLink "TrophyPlates$Stack" (9 : Nat) ({ cls := "java/lang/Object", name := "<init>", desc := "()V" } : Jvm.MethodName)) ∈ lw_all := lw_g (lw_at lw_m1 211 rfl) rfl
theorem q242 : (Jvm.Cond.fieldLink "TrophyPlates$Stack" (14 : Nat) "TrophyPlates$Stack" "most" "I") ∈ lw_all := lw_g (lw_at lw_m1 212 rfl) rfl
theorem q243 : (Jvm.Cond.fieldLink "TrophyPlates$Stack" (20 : Nat) "TrophyPlates$Stack" "top" "LTrophyPlates$Stack$Node;") ∈ lw_all := lw_g (lw_at lw_m1 213 rfl) rfl
theorem q244 : (Jvm.Cond.fieldLink "TrophyPlates$Stack" (27 : Nat) "TrophyPlates$Stack" "size" "I") ∈ lw_all := lw_g (lw_at lw_m1 214 rfl) rfl
theorem q246 : (Jvm.Cond.laysFinal "TrophyPlates$Stack" "TrophyPlates$Stack" "most" "I") ∈ lw_all := lw_g (lw_at lw_m1 216 rfl) rfl
theorem q247 : (Jvm.Cond.soleField "TrophyPlates$Stack" "most") ∈ lw_all := lw_g (lw_at lw_m1 217 rfl) rfl
theorem q248 : (Jvm.Cond.lays "TrophyPlates$Stack" "TrophyPlates$Stack" "top" "LTrophyPlates$Stack$Node;") ∈ lw_all := lw_g (lw_at lw_m1 218 rfl) rfl
theorem q249 : (Jvm.Cond.soleField "TrophyPlates$Stack" "top") ∈ lw_all := lw_g (lw_at lw_m1 219 rfl) rfl
theorem q250 : (Jvm.Cond.lays "TrophyPlates$Stack" "TrophyPlates$Stack" "size" "I") ∈ lw_all := lw_g (lw_at lw_m1 220 rfl) rfl
theorem q251 : (Jvm.Cond.soleField "TrophyPlates$Stack" "size") ∈ lw_all := lw_g (lw_at lw_m1 221 rfl) rfl
theorem q252 : (Jvm.Cond.superclass "TrophyPlates$Stack" "java/lang/Object") ∈ lw_all := lw_g (lw_at lw_m1 222 rfl) rfl
theorem q318 : (Jvm.Cond.instanceMethod ({ cls := "TrophyPlates$Stack", name := "push", desc := "(LTrophyPlates$Shop;)V" } : Jvm.MethodName)) ∈ lw_all := lw_g (lw_at lw_m2 48 rfl) rfl
theorem q319 : (Jvm.Cond.selects "TrophyPlates$Stack" ({ cls := "TrophyPlates$Stack", name := "push", desc := "(LTrophyPlates$Shop;)V" } : Jvm.MethodName) ({ cls := "TrophyPlates$Stack", name := "push", desc := "(LTrophyPlates$Shop;)V" } : Jvm.MethodName)) ∈ lw_all := lw_g (lw_at lw_m2 49 rfl) rfl
theorem q320 : (Jvm.Cond.code ({ cls := "TrophyPlates$Stack", name := "push", desc := "(LTrophyPlates$Shop;)V" } : Jvm.MethodName) prog_7_method_3_code (4 : Nat) (Option.none : Option Jvm.ClassFile.FieldType)) ∈ lw_all := lw_g (lw_at lw_m2 50 rfl) rfl
theorem q321 : (Jvm.Cond.classLink "TrophyPlates$Stack" (18 : Nat) "TrophyPlates$Stack$Node") ∈ lw_all := lw_g (lw_at lw_m2 51 rfl) rfl
theorem q323 : (Jvm.Cond.methodLink "TrophyPlates$Stack" (24 : Nat) ({ cls := "TrophyPlates$Stack$Node", name := "<init>", desc := "(LTrophyPlates$Shop;LTrophyPlates$Stack$Node;)V" } : Jvm.MethodName)) ∈ lw_all := lw_g (lw_at lw_m2 53 rfl) rfl
theorem q328 : (Jvm.Cond.fieldLinkNest "TrophyPlates$Stack" (33 : Nat) "TrophyPlates$Stack$Node" "shop" "LTrophyPlates$Shop;" "TrophyPlates") ∈ lw_tbl := lw_at lw_m2 58 rfl
theorem q330 : (Jvm.Cond.fieldLinkNest "TrophyPlates$Stack" (30 : Nat) "TrophyPlates$Stack$Node" "below" "LTrophyPlates$Stack$Node;" "TrophyPlates") ∈ lw_tbl := lw_at lw_m2 60 rfl
theorem q539 : (Jvm.Cond.selects "TrophyPlates$Stack" ({ cls := "java/lang/Object", name := "getClass", desc := "()Ljava/lang/Class;" } : Jvm.MethodName) ({ cls := "java/lang/Object", name := "getClass", desc := "()Ljava/lang/Class;" } : Jvm.MethodName)) ∈ lw_all := lw_g (lw_at lw_m3 29 rfl) rfl
theorem q825 : (Jvm.Cond.selects "TrophyPlates$Stack" ({ cls := "java/lang/Object", name := "hashCode", desc := "()I" } : Jvm.MethodName) ({ cls := "java/lang/Object", name := "hashCode", desc := "()I" } : Jvm.MethodName)) ∈ lw_all := lw_g (lw_at lw_m4 75 rfl) rfl
theorem q1263 : (Jvm.Cond.selects "TrophyPlates$Stack" ({ cls := "java/lang/Object", name := "equals", desc := "(Ljava/lang/Object;)Z" } : Jvm.MethodName) ({ cls := "java/lang/Object", name := "equals", desc := "(Ljava/lang/Object;)Z" } : Jvm.MethodName)) ∈ lw_all := lw_g (lw_at lw_m6 33 rfl) rfl
theorem q2017 : (Jvm.Cond.instanceMethod ({ cls := "TrophyPlates$Stack", name := "pop", desc := "()LTrophyPlates$Shop;" } : Jvm.MethodName)) ∈ lw_all := lw_g (lw_at lw_m9 67 rfl) rfl
theorem q2018 : (Jvm.Cond.selects "TrophyPlates$Stack" ({ cls := "TrophyPlates$Stack", name := "pop", desc := "()LTrophyPlates$Shop;" } : Jvm.MethodName) ({ cls := "TrophyPlates$Stack", name := "pop", desc := "()LTrophyPlates$Shop;" } : Jvm.MethodName)) ∈ lw_all := lw_g (lw_at lw_m9 68 rfl) rfl
theorem q2019 : (Jvm.Cond.code ({ cls := "TrophyPlates$Stack", name := "pop", desc := "()LTrophyPlates$Shop;" } : Jvm.MethodName) prog_7_method_4_code (2 : Nat) (Option.some (Jvm.ClassFile.FieldType.object "TrophyPlates$Shop"))) ∈ lw_all := lw_g (lw_at lw_m9 69 rfl) rfl
theorem q2415 : (Jvm.Cond.castable "TrophyPlates$Stack" "java/lang/Object") ∈ lw_tbl := lw_at lw_m10 225 rfl
theorem in_X2 : ∀ w ∈ wsX20, w ∈ lw_all := lw_in wsX20 [246, 248, 250] (by decide +kernel) (by decide +kernel)
/-! TrophyPlates$Stack$Node -/
set_option maxRecDepth 100000
def RX4 : String := "TrophyPlates$Stack$Node"
def TX4 : u_T := fun k => match k with
  | 0 => ("TrophyPlates$Stack$Node", "shop", "LTrophyPlates$Shop;", true)
  | _ => ("TrophyPlates$Stack$Node", "below", "LTrophyPlates$Stack$Node;", false)
def tyX4 : Nat → FieldType := fun k => match k with
  | 0 => .object "TrophyPlates$Shop"
  | _ => .object "TrophyPlates$Stack$Node"
abbrev wsX40 : List Cond := u_ws RX4 TX4 2
theorem nmX4 : ∀ a, a < 2 → ∀ b, b < 2 → a ≠ b → (TX4 a).2.1 ≠ (TX4 b).2.1 := by decide +kernel
theorem tyX4_ok : ∀ k, k < 2 → parseFieldDescriptor (TX4 k).2.2.1 = some (tyX4 k) := by decide +kernel
abbrev cX4_init : ByteArray := prog_8_method_1_code
def yX4_init : MethodName := ⟨RX4, "<init>", "(LTrophyPlates$Shop;LTrophyPlates$Stack$Node;)V"⟩
def dkwX4_init_0 : List UInt8 := [42, 183, 0, 1, 42, 43, 181, 0, 7, 42, 44, 181, 0, 13, 177]
abbrev dktX4_init_0 : List UInt8 := dkwX4_init_0 ++ []
theorem dksX4_init_0 : cX4_init.data.toList.drop 0 = dktX4_init_0 := by decide +kernel
theorem dX4_init_0 : decode cX4_init 0 = .ok (.aload_n 0, 1) := dk_42 (dk_at dksX4_init_0 0 rfl rfl)
theorem dX4_init_1 : decode cX4_init 1 = .ok (.invokespecial 1, 3) := dk_183 0 1 (dk_at dksX4_init_0 1 rfl rfl)
theorem dX4_init_4 : decode cX4_init 4 = .ok (.aload_n 0, 1) := dk_42 (dk_at dksX4_init_0 4 rfl rfl)
theorem dX4_init_5 : decode cX4_init 5 = .ok (.aload_n 1, 1) := dk_43 (dk_at dksX4_init_0 5 rfl rfl)
theorem dX4_init_6 : decode cX4_init 6 = .ok (.putfield 7, 3) := dk_181 0 7 (dk_at dksX4_init_0 6 rfl rfl)
theorem dX4_init_9 : decode cX4_init 9 = .ok (.aload_n 0, 1) := dk_42 (dk_at dksX4_init_0 9 rfl rfl)
theorem dX4_init_10 : decode cX4_init 10 = .ok (.aload_n 2, 1) := dk_44 (dk_at dksX4_init_0 10 rfl rfl)
theorem dX4_init_11 : decode cX4_init 11 = .ok (.putfield 13, 3) := dk_181 0 13 (dk_at dksX4_init_0 11 rfl rfl)
theorem dX4_init_14 : decode cX4_init 14 = .ok (.return_, 1) := dk_177 (dk_at dksX4_init_0 14 rfl rfl)
theorem q45 : (Jvm.Cond.initialized "TrophyPlates$Stack$Node") ∈ lw_all := lw_g (lw_at lw_m1 15 rfl) rfl
theorem q322 : (Jvm.Cond.instantiable "TrophyPlates$Stack$Node" (2 : Nat)) ∈ lw_all := lw_g (lw_at lw_m2 52 rfl) rfl
theorem q324 : (Jvm.Cond.instanceMethod ({ cls := "TrophyPlates$Stack$Node", name := "<init>", desc := "(LTrophyPlates$Shop;LTrophyPlates$Stack$Node;)V" } : Jvm.MethodName)) ∈ lw_all := lw_g (lw_at lw_m2 54 rfl) rfl
theorem q325 : (Jvm.Cond.code ({ cls := "TrophyPlates$Stack$Node", name := "<init>", desc := "(LTrophyPlates$Shop;LTrophyPlates$Stack$Node;)V" } : Jvm.MethodName) prog_8_method_1_code (3 : Nat) (Option.none : Option Jvm.ClassFile.FieldType)) ∈ lw_all := lw_g (lw_at lw_m2 55 rfl) rfl
theorem q326 : (Jvm.Cond.methodLink "TrophyPlates$Stack$Node" (1 : Nat) ({ cls := "java/lang/Object", name := "<init>", desc := "()V" } : Jvm.MethodName)) ∈ lw_all := lw_g (lw_at lw_m2 56 rfl) rfl
theorem q327 : (Jvm.Cond.fieldLink "TrophyPlates$Stack$Node" (7 : Nat) "TrophyPlates$Stack$Node" "shop" "LTrophyPlates$Shop;") ∈ lw_all := lw_g (lw_at lw_m2 57 rfl) rfl
theorem q329 : (Jvm.Cond.fieldLink "TrophyPlates$Stack$Node" (13 : Nat) "TrophyPlates$Stack$Node" "below" "LTrophyPlates$Stack$Node;") ∈ lw_all := lw_g (lw_at lw_m2 59 rfl) rfl
theorem q331 : (Jvm.Cond.laysFinal "TrophyPlates$Stack$Node" "TrophyPlates$Stack$Node" "shop" "LTrophyPlates$Shop;") ∈ lw_all := lw_g (lw_at lw_m2 61 rfl) rfl
theorem q332 : (Jvm.Cond.soleField "TrophyPlates$Stack$Node" "shop") ∈ lw_all := lw_g (lw_at lw_m2 62 rfl) rfl
theorem q333 : (Jvm.Cond.lays "TrophyPlates$Stack$Node" "TrophyPlates$Stack$Node" "below" "LTrophyPlates$Stack$Node;") ∈ lw_all := lw_g (lw_at lw_m2 63 rfl) rfl
theorem q334 : (Jvm.Cond.soleField "TrophyPlates$Stack$Node" "below") ∈ lw_all := lw_g (lw_at lw_m2 64 rfl) rfl
theorem q335 : (Jvm.Cond.superclass "TrophyPlates$Stack$Node" "java/lang/Object") ∈ lw_all := lw_g (lw_at lw_m2 65 rfl) rfl
theorem q540 : (Jvm.Cond.selects "TrophyPlates$Stack$Node" ({ cls := "java/lang/Object", name := "getClass", desc := "()Ljava/lang/Class;" } : Jvm.MethodName) ({ cls := "java/lang/Object", name := "getClass", desc := "()Ljava/lang/Class;" } : Jvm.MethodName)) ∈ lw_all := lw_g (lw_at lw_m3 30 rfl) rfl
theorem q826 : (Jvm.Cond.selects "TrophyPlates$Stack$Node" ({ cls := "java/lang/Object", name := "hashCode", desc := "()I" } : Jvm.MethodName) ({ cls := "java/lang/Object", name := "hashCode", desc := "()I" } : Jvm.MethodName)) ∈ lw_all := lw_g (lw_at lw_m4 76 rfl) rfl
theorem q1264 : (Jvm.Cond.selects "TrophyPlates$Stack$Node" ({ cls := "java/lang/Object", name := "equals", desc := "(Ljava/lang/Object;)Z" } : Jvm.MethodName) ({ cls := "java/lang/Object", name := "equals", desc := "(Ljava/lang/Object;)Z" } : Jvm.MethodName)) ∈ lw_all := lw_g (lw_at lw_m6 34 rfl) rfl
theorem q2418 : (Jvm.Cond.castable "TrophyPlates$Stack$Node" "java/lang/Object") ∈ lw_tbl := lw_at lw_m10 228 rfl
theorem in_X4 : ∀ w ∈ wsX40, w ∈ lw_all := lw_in wsX40 [331, 333] (by decide +kernel) (by decide +kernel)
/-! TrophyPlates$Plate -/
set_option maxRecDepth 100000
def RX5 : String := "TrophyPlates$Plate"
def TX5 : u_T := fun k => match k with
  | 0 => ("TrophyPlates$Plate", "width", "I", true)
  | 1 => ("TrophyPlates$Plate", "thickness", "I", false)
  | 2 => ("TrophyPlates$Plate", "state", "I", false)
  | _ => ("TrophyPlates$Plate", "depths", "[I", true)
def tyX5 : Nat → FieldType := fun k => match k with
  | 0 => .int
  | 1 => .int
  | 2 => .int
  | _ => .array .int
abbrev wsX50 : List Cond := u_ws RX5 TX5 4
theorem nmX5 : ∀ a, a < 4 → ∀ b, b < 4 → a ≠ b → (TX5 a).2.1 ≠ (TX5 b).2.1 := by decide +kernel
theorem tyX5_ok : ∀ k, k < 4 → parseFieldDescriptor (TX5 k).2.2.1 = some (tyX5 k) := by decide +kernel
abbrev cX5_copy : ByteArray := prog_5_method_3_code
def yX5_copy : MethodName := ⟨RX5, "copy", "()LTrophyPlates$Plate;"⟩
def dkwX5_copy_1 : List UInt8 := [89, 4, 42, 180, 0, 21, 4, 46, 79, 183, 0, 3, 76, 43, 42, 180, 0, 25, 181, 0, 25, 43, 176]
abbrev dktX5_copy_1 : List UInt8 := dkwX5_copy_1 ++ []
def dkwX5_copy_0 : List UInt8 := [187, 0, 4, 89, 42, 180, 0, 14, 42, 180, 0, 18, 5, 188, 10, 89, 3, 42, 180, 0, 21, 3, 46, 79]
abbrev dktX5_copy_0 : List UInt8 := dkwX5_copy_0 ++ dktX5_copy_1
theorem dksX5_copy_0 : cX5_copy.data.toList.drop 0 = dktX5_copy_0 := by decide +kernel
theorem dksX5_copy_1 : cX5_copy.data.toList.drop 24 = dktX5_copy_1 := dk_seg dksX5_copy_0 24 rfl rfl
theorem dX5_copy_0 : decode cX5_copy 0 = .ok (.new 4, 3) := dk_187 0 4 (dk_at dksX5_copy_0 0 rfl rfl)
theorem dX5_copy_3 : decode cX5_copy 3 = .ok (.dup, 1) := dk_89 (dk_at dksX5_copy_0 3 rfl rfl)
theorem dX5_copy_4 : decode cX5_copy 4 = .ok (.aload_n 0, 1) := dk_42 (dk_at dksX5_copy_0 4 rfl rfl)
theorem dX5_copy_5 : decode cX5_copy 5 = .ok (.getfield 14, 3) := dk_180 0 14 (dk_at dksX5_copy_0 5 rfl rfl)
theorem dX5_copy_8 : decode cX5_copy 8 = .ok (.aload_n 0, 1) := dk_42 (dk_at dksX5_copy_0 8 rfl rfl)
theorem dX5_copy_9 : decode cX5_copy 9 = .ok (.getfield 18, 3) := dk_180 0 18 (dk_at dksX5_copy_0 9 rfl rfl)
theorem dX5_copy_12 : decode cX5_copy 12 = .ok (.iconst 2, 1) := dk_5 (dk_at dksX5_copy_0 12 rfl rfl)
theorem dX5_copy_13 : decode cX5_copy 13 = .ok (.newarray .int, 2) := dk_188_10 (dk_at dksX5_copy_0 13 rfl rfl)
theorem dX5_copy_15 : decode cX5_copy 15 = .ok (.dup, 1) := dk_89 (dk_at dksX5_copy_0 15 rfl rfl)
theorem dX5_copy_16 : decode cX5_copy 16 = .ok (.iconst 0, 1) := dk_3 (dk_at dksX5_copy_0 16 rfl rfl)
theorem dX5_copy_17 : decode cX5_copy 17 = .ok (.aload_n 0, 1) := dk_42 (dk_at dksX5_copy_0 17 rfl rfl)
theorem dX5_copy_18 : decode cX5_copy 18 = .ok (.getfield 21, 3) := dk_180 0 21 (dk_at dksX5_copy_0 18 rfl rfl)
theorem dX5_copy_21 : decode cX5_copy 21 = .ok (.iconst 0, 1) := dk_3 (dk_at dksX5_copy_0 21 rfl rfl)
theorem dX5_copy_22 : decode cX5_copy 22 = .ok (.iaload, 1) := dk_46 (dk_at dksX5_copy_0 22 rfl rfl)
theorem dX5_copy_23 : decode cX5_copy 23 = .ok (.iastore, 1) := dk_79 (dk_at dksX5_copy_0 23 rfl rfl)
theorem dX5_copy_24 : decode cX5_copy 24 = .ok (.dup, 1) := dk_89 (dk_at dksX5_copy_1 0 rfl rfl)
theorem dX5_copy_25 : decode cX5_copy 25 = .ok (.iconst 1, 1) := dk_4 (dk_at dksX5_copy_1 1 rfl rfl)
theorem dX5_copy_26 : decode cX5_copy 26 = .ok (.aload_n 0, 1) := dk_42 (dk_at dksX5_copy_1 2 rfl rfl)
theorem dX5_copy_27 : decode cX5_copy 27 = .ok (.getfield 21, 3) := dk_180 0 21 (dk_at dksX5_copy_1 3 rfl rfl)
theorem dX5_copy_30 : decode cX5_copy 30 = .ok (.iconst 1, 1) := dk_4 (dk_at dksX5_copy_1 6 rfl rfl)
theorem dX5_copy_31 : decode cX5_copy 31 = .ok (.iaload, 1) := dk_46 (dk_at dksX5_copy_1 7 rfl rfl)
theorem dX5_copy_32 : decode cX5_copy 32 = .ok (.iastore, 1) := dk_79 (dk_at dksX5_copy_1 8 rfl rfl)
theorem dX5_copy_33 : decode cX5_copy 33 = .ok (.invokespecial 3, 3) := dk_183 0 3 (dk_at dksX5_copy_1 9 rfl rfl)
theorem dX5_copy_36 : decode cX5_copy 36 = .ok (.astore_n 1, 1) := dk_76 (dk_at dksX5_copy_1 12 rfl rfl)
theorem dX5_copy_37 : decode cX5_copy 37 = .ok (.aload_n 1, 1) := dk_43 (dk_at dksX5_copy_1 13 rfl rfl)
theorem dX5_copy_38 : decode cX5_copy 38 = .ok (.aload_n 0, 1) := dk_42 (dk_at dksX5_copy_1 14 rfl rfl)
theorem dX5_copy_39 : decode cX5_copy 39 = .ok (.getfield 25, 3) := dk_180 0 25 (dk_at dksX5_copy_1 15 rfl rfl)
theorem dX5_copy_42 : decode cX5_copy 42 = .ok (.putfield 25, 3) := dk_181 0 25 (dk_at dksX5_copy_1 18 rfl rfl)
theorem dX5_copy_45 : decode cX5_copy 45 = .ok (.aload_n 1, 1) := dk_43 (dk_at dksX5_copy_1 21 rfl rfl)
theorem dX5_copy_46 : decode cX5_copy 46 = .ok (.areturn, 1) := dk_176 (dk_at dksX5_copy_1 22 rfl rfl)
abbrev cX5_init : ByteArray := prog_5_method_2_code
def yX5_init : MethodName := ⟨RX5, "<init>", "(II[I)V"⟩
def dkwX5_init_0 : List UInt8 := [42, 183, 0, 9, 42, 27, 181, 0, 14, 42, 28, 181, 0, 18, 42, 45, 181, 0, 21, 177]
abbrev dktX5_init_0 : List UInt8 := dkwX5_init_0 ++ []
theorem dksX5_init_0 : cX5_init.data.toList.drop 0 = dktX5_init_0 := by decide +kernel
theorem dX5_init_0 : decode cX5_init 0 = .ok (.aload_n 0, 1) := dk_42 (dk_at dksX5_init_0 0 rfl rfl)
theorem dX5_init_1 : decode cX5_init 1 = .ok (.invokespecial 9, 3) := dk_183 0 9 (dk_at dksX5_init_0 1 rfl rfl)
theorem dX5_init_4 : decode cX5_init 4 = .ok (.aload_n 0, 1) := dk_42 (dk_at dksX5_init_0 4 rfl rfl)
theorem dX5_init_5 : decode cX5_init 5 = .ok (.iload_n 1, 1) := dk_27 (dk_at dksX5_init_0 5 rfl rfl)
theorem dX5_init_6 : decode cX5_init 6 = .ok (.putfield 14, 3) := dk_181 0 14 (dk_at dksX5_init_0 6 rfl rfl)
theorem dX5_init_9 : decode cX5_init 9 = .ok (.aload_n 0, 1) := dk_42 (dk_at dksX5_init_0 9 rfl rfl)
theorem dX5_init_10 : decode cX5_init 10 = .ok (.iload_n 2, 1) := dk_28 (dk_at dksX5_init_0 10 rfl rfl)
theorem dX5_init_11 : decode cX5_init 11 = .ok (.putfield 18, 3) := dk_181 0 18 (dk_at dksX5_init_0 11 rfl rfl)
theorem dX5_init_14 : decode cX5_init 14 = .ok (.aload_n 0, 1) := dk_42 (dk_at dksX5_init_0 14 rfl rfl)
theorem dX5_init_15 : decode cX5_init 15 = .ok (.aload_n 3, 1) := dk_45 (dk_at dksX5_init_0 15 rfl rfl)
theorem dX5_init_16 : decode cX5_init 16 = .ok (.putfield 21, 3) := dk_181 0 21 (dk_at dksX5_init_0 16 rfl rfl)
theorem dX5_init_19 : decode cX5_init 19 = .ok (.return_, 1) := dk_177 (dk_at dksX5_init_0 19 rfl rfl)
abbrev cX5_init_2 : ByteArray := prog_5_method_1_code
def yX5_init_2 : MethodName := ⟨RX5, "<init>", "(II)V"⟩
def dkwX5_init_2_0 : List UInt8 := [42, 27, 28, 5, 188, 10, 89, 3, 3, 79, 89, 4, 3, 79, 183, 0, 3, 177]
abbrev dktX5_init_2_0 : List UInt8 := dkwX5_init_2_0 ++ []
theorem dksX5_init_2_0 : cX5_init_2.data.toList.drop 0 = dktX5_init_2_0 := by decide +kernel
theorem dX5_init_2_0 : decode cX5_init_2 0 = .ok (.aload_n 0, 1) := dk_42 (dk_at dksX5_init_2_0 0 rfl rfl)
theorem dX5_init_2_1 : decode cX5_init_2 1 = .ok (.iload_n 1, 1) := dk_27 (dk_at dksX5_init_2_0 1 rfl rfl)
theorem dX5_init_2_2 : decode cX5_init_2 2 = .ok (.iload_n 2, 1) := dk_28 (dk_at dksX5_init_2_0 2 rfl rfl)
theorem dX5_init_2_3 : decode cX5_init_2 3 = .ok (.iconst 2, 1) := dk_5 (dk_at dksX5_init_2_0 3 rfl rfl)
theorem dX5_init_2_4 : decode cX5_init_2 4 = .ok (.newarray .int, 2) := dk_188_10 (dk_at dksX5_init_2_0 4 rfl rfl)
theorem dX5_init_2_6 : decode cX5_init_2 6 = .ok (.dup, 1) := dk_89 (dk_at dksX5_init_2_0 6 rfl rfl)
theorem dX5_init_2_7 : decode cX5_init_2 7 = .ok (.iconst 0, 1) := dk_3 (dk_at dksX5_init_2_0 7 rfl rfl)
theorem dX5_init_2_8 : decode cX5_init_2 8 = .ok (.iconst 0, 1) := dk_3 (dk_at dksX5_init_2_0 8 rfl rfl)
theorem dX5_init_2_9 : decode cX5_init_2 9 = .ok (.iastore, 1) := dk_79 (dk_at dksX5_init_2_0 9 rfl rfl)
theorem dX5_init_2_10 : decode cX5_init_2 10 = .ok (.dup, 1) := dk_89 (dk_at dksX5_init_2_0 10 rfl rfl)
theorem dX5_init_2_11 : decode cX5_init_2 11 = .ok (.iconst 1, 1) := dk_4 (dk_at dksX5_init_2_0 11 rfl rfl)
theorem dX5_init_2_12 : decode cX5_init_2 12 = .ok (.iconst 0, 1) := dk_3 (dk_at dksX5_init_2_0 12 rfl rfl)
theorem dX5_init_2_13 : decode cX5_init_2 13 = .ok (.iastore, 1) := dk_79 (dk_at dksX5_init_2_0 13 rfl rfl)
theorem dX5_init_2_14 : decode cX5_init_2 14 = .ok (.invokespecial 3, 3) := dk_183 0 3 (dk_at dksX5_init_2_0 14 rfl rfl)
theorem dX5_init_2_17 : decode cX5_init_2 17 = .ok (.return_, 1) := dk_177 (dk_at dksX5_init_2_0 17 rfl rfl)
abbrev cX5_thicknessWithout : ByteArray := prog_5_method_5_code
def yX5_thicknessWithout : MethodName := ⟨RX5, "thicknessWithout", "(I)I"⟩
def dkwX5_thicknessWithout_0 : List UInt8 := [42, 180, 0, 18, 42, 180, 0, 21, 27, 46, 100, 4, 100, 172]
abbrev dktX5_thicknessWithout_0 : List UInt8 := dkwX5_thicknessWithout_0 ++ []
theorem dksX5_thicknessWithout_0 : cX5_thicknessWithout.data.toList.drop 0 = dktX5_thicknessWithout_0 := by decide +kernel
theorem dX5_thicknessWithout_0 : decode cX5_thicknessWithout 0 = .ok (.aload_n 0, 1) := dk_42 (dk_at dksX5_thicknessWithout_0 0 rfl rfl)
theorem dX5_thicknessWithout_1 : decode cX5_thicknessWithout 1 = .ok (.getfield 18, 3) := dk_180 0 18 (dk_at dksX5_thicknessWithout_0 1 rfl rfl)
theorem dX5_thicknessWithout_4 : decode cX5_thicknessWithout 4 = .ok (.aload_n 0, 1) := dk_42 (dk_at dksX5_thicknessWithout_0 4 rfl rfl)
theorem dX5_thicknessWithout_5 : decode cX5_thicknessWithout 5 = .ok (.getfield 21, 3) := dk_180 0 21 (dk_at dksX5_thicknessWithout_0 5 rfl rfl)
theorem dX5_thicknessWithout_8 : decode cX5_thicknessWithout 8 = .ok (.iload_n 1, 1) := dk_27 (dk_at dksX5_thicknessWithout_0 8 rfl rfl)
theorem dX5_thicknessWithout_9 : decode cX5_thicknessWithout 9 = .ok (.iaload, 1) := dk_46 (dk_at dksX5_thicknessWithout_0 9 rfl rfl)
theorem dX5_thicknessWithout_10 : decode cX5_thicknessWithout 10 = .ok (.isub, 1) := dk_100 (dk_at dksX5_thicknessWithout_0 10 rfl rfl)
theorem dX5_thicknessWithout_11 : decode cX5_thicknessWithout 11 = .ok (.iconst 1, 1) := dk_4 (dk_at dksX5_thicknessWithout_0 11 rfl rfl)
theorem dX5_thicknessWithout_12 : decode cX5_thicknessWithout 12 = .ok (.isub, 1) := dk_100 (dk_at dksX5_thicknessWithout_0 12 rfl rfl)
theorem dX5_thicknessWithout_13 : decode cX5_thicknessWithout 13 = .ok (.ireturn, 1) := dk_172 (dk_at dksX5_thicknessWithout_0 13 rfl rfl)
abbrev cX5_grind : ByteArray := prog_5_method_7_code
def yX5_grind : MethodName := ⟨RX5, "grind", "(I)V"⟩
def dkwX5_grind_0 : List UInt8 := [42, 42, 27, 182, 0, 28, 181, 0, 18, 42, 180, 0, 21, 27, 3, 79, 177]
abbrev dktX5_grind_0 : List UInt8 := dkwX5_grind_0 ++ []
theorem dksX5_grind_0 : cX5_grind.data.toList.drop 0 = dktX5_grind_0 := by decide +kernel
theorem dX5_grind_0 : decode cX5_grind 0 = .ok (.aload_n 0, 1) := dk_42 (dk_at dksX5_grind_0 0 rfl rfl)
theorem dX5_grind_1 : decode cX5_grind 1 = .ok (.aload_n 0, 1) := dk_42 (dk_at dksX5_grind_0 1 rfl rfl)
theorem dX5_grind_2 : decode cX5_grind 2 = .ok (.iload_n 1, 1) := dk_27 (dk_at dksX5_grind_0 2 rfl rfl)
theorem dX5_grind_3 : decode cX5_grind 3 = .ok (.invokevirtual 28, 3) := dk_182 0 28 (dk_at dksX5_grind_0 3 rfl rfl)
theorem dX5_grind_6 : decode cX5_grind 6 = .ok (.putfield 18, 3) := dk_181 0 18 (dk_at dksX5_grind_0 6 rfl rfl)
theorem dX5_grind_9 : decode cX5_grind 9 = .ok (.aload_n 0, 1) := dk_42 (dk_at dksX5_grind_0 9 rfl rfl)
theorem dX5_grind_10 : decode cX5_grind 10 = .ok (.getfield 21, 3) := dk_180 0 21 (dk_at dksX5_grind_0 10 rfl rfl)
theorem dX5_grind_13 : decode cX5_grind 13 = .ok (.iload_n 1, 1) := dk_27 (dk_at dksX5_grind_0 13 rfl rfl)
theorem dX5_grind_14 : decode cX5_grind 14 = .ok (.iconst 0, 1) := dk_3 (dk_at dksX5_grind_0 14 rfl rfl)
theorem dX5_grind_15 : decode cX5_grind 15 = .ok (.iastore, 1) := dk_79 (dk_at dksX5_grind_0 15 rfl rfl)
theorem dX5_grind_16 : decode cX5_grind 16 = .ok (.return_, 1) := dk_177 (dk_at dksX5_grind_0 16 rfl rfl)
abbrev cX5_side : ByteArray := prog_5_method_8_code
def yX5_side : MethodName := ⟨RX5, "side", "(IZ)I"⟩
def dkwX5_side_1 : List UInt8 := [167, 0, 12, 42, 29, 27, 182, 0, 36, 153, 0, 5, 29, 172, 132, 3, 1, 167, 255, 217, 16, 247, 172]
abbrev dktX5_side_1 : List UInt8 := dkwX5_side_1 ++ []
def dkwX5_side_0 : List UInt8 := [3, 62, 29, 42, 180, 0, 21, 190, 162, 0, 36, 28, 153, 0, 15, 42, 29, 27, 182, 0, 32, 153, 0, 17]
abbrev dktX5_side_0 : List UInt8 := dkwX5_side_0 ++ dktX5_side_1
theorem dksX5_side_0 : cX5_side.data.toList.drop 0 = dktX5_side_0 := by decide +kernel
theorem dksX5_side_1 : cX5_side.data.toList.drop 24 = dktX5_side_1 := dk_seg dksX5_side_0 24 rfl rfl
theorem dX5_side_0 : decode cX5_side 0 = .ok (.iconst 0, 1) := dk_3 (dk_at dksX5_side_0 0 rfl rfl)
theorem dX5_side_1 : decode cX5_side 1 = .ok (.istore_n 3, 1) := dk_62 (dk_at dksX5_side_0 1 rfl rfl)
theorem dX5_side_2 : decode cX5_side 2 = .ok (.iload_n 3, 1) := dk_29 (dk_at dksX5_side_0 2 rfl rfl)
theorem dX5_side_3 : decode cX5_side 3 = .ok (.aload_n 0, 1) := dk_42 (dk_at dksX5_side_0 3 rfl rfl)
theorem dX5_side_4 : decode cX5_side 4 = .ok (.getfield 21, 3) := dk_180 0 21 (dk_at dksX5_side_0 4 rfl rfl)
theorem dX5_side_7 : decode cX5_side 7 = .ok (.arraylength, 1) := dk_190 (dk_at dksX5_side_0 7 rfl rfl)
theorem dX5_side_8 : decode cX5_side 8 = .ok (.if_icmp .ge 36, 3) := dk_162 0 36 (dk_at dksX5_side_0 8 rfl rfl)
theorem dX5_side_11 : decode cX5_side 11 = .ok (.iload_n 2, 1) := dk_28 (dk_at dksX5_side_0 11 rfl rfl)
theorem dX5_side_12 : decode cX5_side 12 = .ok (.ifCond .eq 15, 3) := dk_153 0 15 (dk_at dksX5_side_0 12 rfl rfl)
theorem dX5_side_15 : decode cX5_side 15 = .ok (.aload_n 0, 1) := dk_42 (dk_at dksX5_side_0 15 rfl rfl)
theorem dX5_side_16 : decode cX5_side 16 = .ok (.iload_n 3, 1) := dk_29 (dk_at dksX5_side_0 16 rfl rfl)
theorem dX5_side_17 : decode cX5_side 17 = .ok (.iload_n 1, 1) := dk_27 (dk_at dksX5_side_0 17 rfl rfl)
theorem dX5_side_18 : decode cX5_side 18 = .ok (.invokevirtual 32, 3) := dk_182 0 32 (dk_at dksX5_side_0 18 rfl rfl)
theorem dX5_side_21 : decode cX5_side 21 = .ok (.ifCond .eq 17, 3) := dk_153 0 17 (dk_at dksX5_side_0 21 rfl rfl)
theorem dX5_side_24 : decode cX5_side 24 = .ok (.goto 12, 3) := dk_167 0 12 (dk_at dksX5_side_1 0 rfl rfl)
theorem dX5_side_27 : decode cX5_side 27 = .ok (.aload_n 0, 1) := dk_42 (dk_at dksX5_side_1 3 rfl rfl)
theorem dX5_side_28 : decode cX5_side 28 = .ok (.iload_n 3, 1) := dk_29 (dk_at dksX5_side_1 4 rfl rfl)
theorem dX5_side_29 : decode cX5_side 29 = .ok (.iload_n 1, 1) := dk_27 (dk_at dksX5_side_1 5 rfl rfl)
theorem dX5_side_30 : decode cX5_side 30 = .ok (.invokevirtual 36, 3) := dk_182 0 36 (dk_at dksX5_side_1 6 rfl rfl)
theorem dX5_side_33 : decode cX5_side 33 = .ok (.ifCond .eq 5, 3) := dk_153 0 5 (dk_at dksX5_side_1 9 rfl rfl)
theorem dX5_side_36 : decode cX5_side 36 = .ok (.iload_n 3, 1) := dk_29 (dk_at dksX5_side_1 12 rfl rfl)
theorem dX5_side_37 : decode cX5_side 37 = .ok (.ireturn, 1) := dk_172 (dk_at dksX5_side_1 13 rfl rfl)
theorem dX5_side_38 : decode cX5_side 38 = .ok (.iinc 3 1, 3) := dk_132 3 1 (dk_at dksX5_side_1 14 rfl rfl)
theorem dX5_side_41 : decode cX5_side 41 = .ok (.goto (-39), 3) := dk_167 255 217 (dk_at dksX5_side_1 17 rfl rfl)
theorem dX5_side_44 : decode cX5_side 44 = .ok (.bipush (-9), 2) := dk_16 247 (dk_at dksX5_side_1 20 rfl rfl)
theorem dX5_side_46 : decode cX5_side 46 = .ok (.ireturn, 1) := dk_172 (dk_at dksX5_side_1 22 rfl rfl)
abbrev cX5_canBeGround : ByteArray := prog_5_method_6_code
def yX5_canBeGround : MethodName := ⟨RX5, "canBeGround", "(II)Z"⟩
def dkwX5_canBeGround_1 : List UInt8 := [100, 5, 161, 0, 7, 4, 167, 0, 4, 3, 172]
abbrev dktX5_canBeGround_1 : List UInt8 := dkwX5_canBeGround_1 ++ []
def dkwX5_canBeGround_0 : List UInt8 := [42, 180, 0, 21, 27, 46, 158, 0, 27, 42, 27, 182, 0, 28, 28, 100, 42, 180, 0, 21, 4, 27, 100, 46]
abbrev dktX5_canBeGround_0 : List UInt8 := dkwX5_canBeGround_0 ++ dktX5_canBeGround_1
theorem dksX5_canBeGround_0 : cX5_canBeGround.data.toList.drop 0 = dktX5_canBeGround_0 := by decide +kernel
theorem dksX5_canBeGround_1 : cX5_canBeGround.data.toList.drop 24 = dktX5_canBeGround_1 := dk_seg dksX5_canBeGround_0 24 rfl rfl
theorem dX5_canBeGround_0 : decode cX5_canBeGround 0 = .ok (.aload_n 0, 1) := dk_42 (dk_at dksX5_canBeGround_0 0 rfl rfl)
theorem dX5_canBeGround_1 : decode cX5_canBeGround 1 = .ok (.getfield 21, 3) := dk_180 0 21 (dk_at dksX5_canBeGround_0 1 rfl rfl)
theorem dX5_canBeGround_4 : decode cX5_canBeGround 4 = .ok (.iload_n 1, 1) := dk_27 (dk_at dksX5_canBeGround_0 4 rfl rfl)
theorem dX5_canBeGround_5 : decode cX5_canBeGround 5 = .ok (.iaload, 1) := dk_46 (dk_at dksX5_canBeGround_0 5 rfl rfl)
theorem dX5_canBeGround_6 : decode cX5_canBeGround 6 = .ok (.ifCond .le 27, 3) := dk_158 0 27 (dk_at dksX5_canBeGround_0 6 rfl rfl)
theorem dX5_canBeGround_9 : decode cX5_canBeGround 9 = .ok (.aload_n 0, 1) := dk_42 (dk_at dksX5_canBeGround_0 9 rfl rfl)
theorem dX5_canBeGround_10 : decode cX5_canBeGround 10 = .ok (.iload_n 1, 1) := dk_27 (dk_at dksX5_canBeGround_0 10 rfl rfl)
theorem dX5_canBeGround_11 : decode cX5_canBeGround 11 = .ok (.invokevirtual 28, 3) := dk_182 0 28 (dk_at dksX5_canBeGround_0 11 rfl rfl)
theorem dX5_canBeGround_14 : decode cX5_canBeGround 14 = .ok (.iload_n 2, 1) := dk_28 (dk_at dksX5_canBeGround_0 14 rfl rfl)
theorem dX5_canBeGround_15 : decode cX5_canBeGround 15 = .ok (.isub, 1) := dk_100 (dk_at dksX5_canBeGround_0 15 rfl rfl)
theorem dX5_canBeGround_16 : decode cX5_canBeGround 16 = .ok (.aload_n 0, 1) := dk_42 (dk_at dksX5_canBeGround_0 16 rfl rfl)
theorem dX5_canBeGround_17 : decode cX5_canBeGround 17 = .ok (.getfield 21, 3) := dk_180 0 21 (dk_at dksX5_canBeGround_0 17 rfl rfl)
theorem dX5_canBeGround_20 : decode cX5_canBeGround 20 = .ok (.iconst 1, 1) := dk_4 (dk_at dksX5_canBeGround_0 20 rfl rfl)
theorem dX5_canBeGround_21 : decode cX5_canBeGround 21 = .ok (.iload_n 1, 1) := dk_27 (dk_at dksX5_canBeGround_0 21 rfl rfl)
theorem dX5_canBeGround_22 : decode cX5_canBeGround 22 = .ok (.isub, 1) := dk_100 (dk_at dksX5_canBeGround_0 22 rfl rfl)
theorem dX5_canBeGround_23 : decode cX5_canBeGround 23 = .ok (.iaload, 1) := dk_46 (dk_at dksX5_canBeGround_0 23 rfl rfl)
theorem dX5_canBeGround_24 : decode cX5_canBeGround 24 = .ok (.isub, 1) := dk_100 (dk_at dksX5_canBeGround_1 0 rfl rfl)
theorem dX5_canBeGround_25 : decode cX5_canBeGround 25 = .ok (.iconst 2, 1) := dk_5 (dk_at dksX5_canBeGround_1 1 rfl rfl)
theorem dX5_canBeGround_26 : decode cX5_canBeGround 26 = .ok (.if_icmp .lt 7, 3) := dk_161 0 7 (dk_at dksX5_canBeGround_1 2 rfl rfl)
theorem dX5_canBeGround_29 : decode cX5_canBeGround 29 = .ok (.iconst 1, 1) := dk_4 (dk_at dksX5_canBeGround_1 5 rfl rfl)
theorem dX5_canBeGround_30 : decode cX5_canBeGround 30 = .ok (.goto 4, 3) := dk_167 0 4 (dk_at dksX5_canBeGround_1 6 rfl rfl)
theorem dX5_canBeGround_33 : decode cX5_canBeGround 33 = .ok (.iconst 0, 1) := dk_3 (dk_at dksX5_canBeGround_1 9 rfl rfl)
theorem dX5_canBeGround_34 : decode cX5_canBeGround 34 = .ok (.ireturn, 1) := dk_172 (dk_at dksX5_canBeGround_1 10 rfl rfl)
abbrev cX5_isReady : ByteArray := prog_5_method_4_code
def yX5_isReady : MethodName := ⟨RX5, "isReady", "(II)Z"⟩
def dkwX5_isReady_1 : List UInt8 := [5, 161, 0, 7, 4, 167, 0, 4, 3, 172]
abbrev dktX5_isReady_1 : List UInt8 := dkwX5_isReady_1 ++ []
def dkwX5_isReady_0 : List UInt8 := [42, 180, 0, 21, 27, 46, 154, 0, 26, 42, 180, 0, 18, 28, 100, 42, 180, 0, 21, 4, 27, 100, 46, 100]
abbrev dktX5_isReady_0 : List UInt8 := dkwX5_isReady_0 ++ dktX5_isReady_1
theorem dksX5_isReady_0 : cX5_isReady.data.toList.drop 0 = dktX5_isReady_0 := by decide +kernel
theorem dksX5_isReady_1 : cX5_isReady.data.toList.drop 24 = dktX5_isReady_1 := dk_seg dksX5_isReady_0 24 rfl rfl
theorem dX5_isReady_0 : decode cX5_isReady 0 = .ok (.aload_n 0, 1) := dk_42 (dk_at dksX5_isReady_0 0 rfl rfl)
theorem dX5_isReady_1 : decode cX5_isReady 1 = .ok (.getfield 21, 3) := dk_180 0 21 (dk_at dksX5_isReady_0 1 rfl rfl)
theorem dX5_isReady_4 : decode cX5_isReady 4 = .ok (.iload_n 1, 1) := dk_27 (dk_at dksX5_isReady_0 4 rfl rfl)
theorem dX5_isReady_5 : decode cX5_isReady 5 = .ok (.iaload, 1) := dk_46 (dk_at dksX5_isReady_0 5 rfl rfl)
theorem dX5_isReady_6 : decode cX5_isReady 6 = .ok (.ifCond .ne 26, 3) := dk_154 0 26 (dk_at dksX5_isReady_0 6 rfl rfl)
theorem dX5_isReady_9 : decode cX5_isReady 9 = .ok (.aload_n 0, 1) := dk_42 (dk_at dksX5_isReady_0 9 rfl rfl)
theorem dX5_isReady_10 : decode cX5_isReady 10 = .ok (.getfield 18, 3) := dk_180 0 18 (dk_at dksX5_isReady_0 10 rfl rfl)
theorem dX5_isReady_13 : decode cX5_isReady 13 = .ok (.iload_n 2, 1) := dk_28 (dk_at dksX5_isReady_0 13 rfl rfl)
theorem dX5_isReady_14 : decode cX5_isReady 14 = .ok (.isub, 1) := dk_100 (dk_at dksX5_isReady_0 14 rfl rfl)
theorem dX5_isReady_15 : decode cX5_isReady 15 = .ok (.aload_n 0, 1) := dk_42 (dk_at dksX5_isReady_0 15 rfl rfl)
theorem dX5_isReady_16 : decode cX5_isReady 16 = .ok (.getfield 21, 3) := dk_180 0 21 (dk_at dksX5_isReady_0 16 rfl rfl)
theorem dX5_isReady_19 : decode cX5_isReady 19 = .ok (.iconst 1, 1) := dk_4 (dk_at dksX5_isReady_0 19 rfl rfl)
theorem dX5_isReady_20 : decode cX5_isReady 20 = .ok (.iload_n 1, 1) := dk_27 (dk_at dksX5_isReady_0 20 rfl rfl)
theorem dX5_isReady_21 : decode cX5_isReady 21 = .ok (.isub, 1) := dk_100 (dk_at dksX5_isReady_0 21 rfl rfl)
theorem dX5_isReady_22 : decode cX5_isReady 22 = .ok (.iaload, 1) := dk_46 (dk_at dksX5_isReady_0 22 rfl rfl)
theorem dX5_isReady_23 : decode cX5_isReady 23 = .ok (.isub, 1) := dk_100 (dk_at dksX5_isReady_0 23 rfl rfl)
theorem dX5_isReady_24 : decode cX5_isReady 24 = .ok (.iconst 2, 1) := dk_5 (dk_at dksX5_isReady_1 0 rfl rfl)
theorem dX5_isReady_25 : decode cX5_isReady 25 = .ok (.if_icmp .lt 7, 3) := dk_161 0 7 (dk_at dksX5_isReady_1 1 rfl rfl)
theorem dX5_isReady_28 : decode cX5_isReady 28 = .ok (.iconst 1, 1) := dk_4 (dk_at dksX5_isReady_1 4 rfl rfl)
theorem dX5_isReady_29 : decode cX5_isReady 29 = .ok (.goto 4, 3) := dk_167 0 4 (dk_at dksX5_isReady_1 5 rfl rfl)
theorem dX5_isReady_32 : decode cX5_isReady 32 = .ok (.iconst 0, 1) := dk_3 (dk_at dksX5_isReady_1 8 rfl rfl)
theorem dX5_isReady_33 : decode cX5_isReady 33 = .ok (.ireturn, 1) := dk_172 (dk_at dksX5_isReady_1 9 rfl rfl)
theorem q47 : (Jvm.Cond.initialized "TrophyPlates$Plate") ∈ lw_all := lw_g (lw_at lw_m1 17 rfl) rfl
theorem q466 : (Jvm.Cond.instanceMethod ({ cls := "TrophyPlates$Plate", name := "copy", desc := "()LTrophyPlates$Plate;" } : Jvm.MethodName)) ∈ lw_all := lw_g (lw_at lw_m2 196 rfl) rfl
theorem q467 : (Jvm.Cond.selects "TrophyPlates$Plate" ({ cls := "TrophyPlates$Plate", name := "copy", desc := "()LTrophyPlates$Plate;" } : Jvm.MethodName) ({ cls := "TrophyPlates$Plate", name := "copy", desc := "()LTrophyPlates$Plate;" } : Jvm.MethodName)) ∈ lw_all := lw_g (lw_at lw_m2 197 rfl) rfl
theorem q468 : (Jvm.Cond.code ({ cls := "TrophyPlates$Plate", name := "copy", desc := "()LTrophyPlates$Plate;" } : Jvm.MethodName) prog_5_method_3_code (2 : Nat) (Option.some (Jvm.ClassFile.FieldType.object "TrophyPlates$Plate"))) ∈ lw_all := lw_g (lw_at lw_m2 198 rfl) rfl
theorem q469 : (Jvm.Cond.classLink "TrophyPlates$Plate" (4 : Nat) "TrophyPlates$Plate") ∈ lw_all := lw_g (lw_at lw_m2 199 rfl) rfl
theorem q470 : (Jvm.Cond.instantiable "TrophyPlates$Plate" (4 : Nat)) ∈ lw_all := lw_g (lw_at lw_m2 200 rfl) rfl
theorem q471 : (Jvm.Cond.methodLink "TrophyPlates$Plate" (3 : Nat) ({ cls := "TrophyPlates$Plate", name := "<init>", desc := "(II[I)V" } : Jvm.MethodName)) ∈ lw_all := lw_g (lw_at lw_m2 201 rfl) rfl
theorem q472 : (Jvm.Cond.instanceMethod ({ cls := "TrophyPlates$Plate", name := "<init>", desc := "(II[I)V" } : Jvm.MethodName)) ∈ lw_all := lw_g (lw_at lw_m2 202 rfl) rfl
theorem q473 : (Jvm.Cond.code ({ cls := "TrophyPlates$Plate", name := "<init>", desc := "(II[I)V" } : Jvm.MethodName) prog_5_method_2_code (4 : Nat) (Option.none : Option Jvm.ClassFile.FieldType)) ∈ lw_all := lw_g (lw_at lw_m2 203 rfl) rfl
theorem q474 : (Jvm.Cond.methodLink "TrophyPlates$Plate" (9 : Nat) ({ cls := "java/lang/Object", name := "<init>", desc := "()V" } : Jvm.MethodName)) ∈ lw_all := lw_g (lw_at lw_m2 204 rfl) rfl
theorem q475 : (Jvm.Cond.fieldLink "TrophyPlates$Plate" (14 : Nat) "TrophyPlates$Plate" "width" "I") ∈ lw_all := lw_g (lw_at lw_m2 205 rfl) rfl
theorem q478 : (Jvm.Cond.fieldLink "TrophyPlates$Plate" (18 : Nat) "TrophyPlates$Plate" "thickness" "I") ∈ lw_all := lw_g (lw_at lw_m2 208 rfl) rfl
theorem q481 : (Jvm.Cond.fieldLink "TrophyPlates$Plate" (25 : Nat) "TrophyPlates$Plate" "state" "I") ∈ lw_all := lw_g (lw_at lw_m2 211 rfl) rfl
theorem q484 : (Jvm.Cond.fieldLink "TrophyPlates$Plate" (21 : Nat) "TrophyPlates$Plate" "depths" "[I") ∈ lw_all := lw_g (lw_at lw_m2 214 rfl) rfl
theorem q487 : (Jvm.Cond.laysFinal "TrophyPlates$Plate" "TrophyPlates$Plate" "width" "I") ∈ lw_all := lw_g (lw_at lw_m2 217 rfl) rfl
theorem q488 : (Jvm.Cond.soleField "TrophyPlates$Plate" "width") ∈ lw_all := lw_g (lw_at lw_m2 218 rfl) rfl
theorem q489 : (Jvm.Cond.lays "TrophyPlates$Plate" "TrophyPlates$Plate" "thickness" "I") ∈ lw_all := lw_g (lw_at lw_m2 219 rfl) rfl
theorem q490 : (Jvm.Cond.soleField "TrophyPlates$Plate" "thickness") ∈ lw_all := lw_g (lw_at lw_m2 220 rfl) rfl
theorem q491 : (Jvm.Cond.lays "TrophyPlates$Plate" "TrophyPlates$Plate" "state" "I") ∈ lw_all := lw_g (lw_at lw_m2 221 rfl) rfl
theorem q492 : (Jvm.Cond.soleField "TrophyPlates$Plate" "state") ∈ lw_all := lw_g (lw_at lw_m2 222 rfl) rfl
theorem q493 : (Jvm.Cond.laysFinal "TrophyPlates$Plate" "TrophyPlates$Plate" "depths" "[I") ∈ lw_all := lw_g (lw_at lw_m2 223 rfl) rfl
theorem q494 : (Jvm.Cond.soleField "TrophyPlates$Plate" "depths") ∈ lw_all := lw_g (lw_at lw_m2 224 rfl) rfl
theorem q495 : (Jvm.Cond.superclass "TrophyPlates$Plate" "java/lang/Object") ∈ lw_all := lw_g (lw_at lw_m2 225 rfl) rfl
theorem q537 : (Jvm.Cond.selects "TrophyPlates$Plate" ({ cls := "java/lang/Object", name := "getClass", desc := "()Ljava/lang/Class;" } : Jvm.MethodName) ({ cls := "java/lang/Object", name := "getClass", desc := "()Ljava/lang/Class;" } : Jvm.MethodName)) ∈ lw_all := lw_g (lw_at lw_m3 27 rfl) rfl
theorem q823 : (Jvm.Cond.selects "TrophyPlates$Plate" ({ cls := "java/lang/Object", name := "hashCode", desc := "()I" } : Jvm.MethodName) ({ cls := "java/lang/Object", name := "hashCode", desc := "()I" } : Jvm.MethodName)) ∈ lw_all := lw_g (lw_at lw_m4 73 rfl) rfl
theorem q1261 : (Jvm.Cond.selects "TrophyPlates$Plate" ({ cls := "java/lang/Object", name := "equals", desc := "(Ljava/lang/Object;)Z" } : Jvm.MethodName) ({ cls := "java/lang/Object", name := "equals", desc := "(Ljava/lang/Object;)Z" } : Jvm.MethodName)) ∈ lw_all := lw_g (lw_at lw_m6 31 rfl) rfl
theorem q1374 : (Jvm.Cond.instanceMethod ({ cls := "TrophyPlates$Plate", name := "<init>", desc := "(II)V" } : Jvm.MethodName)) ∈ lw_all := lw_g (lw_at lw_m6 144 rfl) rfl
theorem q1375 : (Jvm.Cond.code ({ cls := "TrophyPlates$Plate", name := "<init>", desc := "(II)V" } : Jvm.MethodName) prog_5_method_1_code (3 : Nat) (Option.none : Option Jvm.ClassFile.FieldType)) ∈ lw_all := lw_g (lw_at lw_m6 145 rfl) rfl
theorem q1417 : (Jvm.Cond.instanceMethod ({ cls := "TrophyPlates$Plate", name := "thicknessWithout", desc := "(I)I" } : Jvm.MethodName)) ∈ lw_all := lw_g (lw_at lw_m6 187 rfl) rfl
theorem q1418 : (Jvm.Cond.selects "TrophyPlates$Plate" ({ cls := "TrophyPlates$Plate", name := "thicknessWithout", desc := "(I)I" } : Jvm.MethodName) ({ cls := "TrophyPlates$Plate", name := "thicknessWithout", desc := "(I)I" } : Jvm.MethodName)) ∈ lw_all := lw_g (lw_at lw_m6 188 rfl) rfl
theorem q1419 : (Jvm.Cond.code ({ cls := "TrophyPlates$Plate", name := "thicknessWithout", desc := "(I)I" } : Jvm.MethodName) prog_5_method_5_code (2 : Nat) (Option.some Jvm.ClassFile.FieldType.int)) ∈ lw_all := lw_g (lw_at lw_m6 189 rfl) rfl
theorem q1427 : (Jvm.Cond.instanceMethod ({ cls := "TrophyPlates$Plate", name := "grind", desc := "(I)V" } : Jvm.MethodName)) ∈ lw_all := lw_g (lw_at lw_m6 197 rfl) rfl
theorem q1428 : (Jvm.Cond.selects "TrophyPlates$Plate" ({ cls := "TrophyPlates$Plate", name := "grind", desc := "(I)V" } : Jvm.MethodName) ({ cls := "TrophyPlates$Plate", name := "grind", desc := "(I)V" } : Jvm.MethodName)) ∈ lw_all := lw_g (lw_at lw_m6 198 rfl) rfl
theorem q1429 : (Jvm.Cond.code ({ cls := "TrophyPlates$Plate", name := "grind", desc := "(I)V" } : Jvm.MethodName) prog_5_method_7_code (2 : Nat) (Option.none : Option Jvm.ClassFile.FieldType)) ∈ lw_all := lw_g (lw_at lw_m6 199 rfl) rfl
theorem q1430 : (Jvm.Cond.methodLink "TrophyPlates$Plate" (28 : Nat) ({ cls := "TrophyPlates$Plate", name := "thicknessWithout", desc := "(I)I" } : Jvm.MethodName)) ∈ lw_all := lw_g (lw_at lw_m6 200 rfl) rfl
theorem q1907 : (Jvm.Cond.instanceMethod ({ cls := "TrophyPlates$Plate", name := "side", desc := "(IZ)I" } : Jvm.MethodName)) ∈ lw_all := lw_g (lw_at lw_m8 197 rfl) rfl
theorem q1908 : (Jvm.Cond.selects "TrophyPlates$Plate" ({ cls := "TrophyPlates$Plate", name := "side", desc := "(IZ)I" } : Jvm.MethodName) ({ cls := "TrophyPlates$Plate", name := "side", desc := "(IZ)I" } : Jvm.MethodName)) ∈ lw_all := lw_g (lw_at lw_m8 198 rfl) rfl
theorem q1909 : (Jvm.Cond.code ({ cls := "TrophyPlates$Plate", name := "side", desc := "(IZ)I" } : Jvm.MethodName) prog_5_method_8_code (4 : Nat) (Option.some Jvm.ClassFile.FieldType.int)) ∈ lw_all := lw_g (lw_at lw_m8 199 rfl) rfl
theorem q1910 : (Jvm.Cond.methodLink "TrophyPlates$Plate" (32 : Nat) ({ cls := "TrophyPlates$Plate", name := "canBeGround", desc := "(II)Z" } : Jvm.MethodName)) ∈ lw_all := lw_g (lw_at lw_m8 200 rfl) rfl
theorem q1911 : (Jvm.Cond.instanceMethod ({ cls := "TrophyPlates$Plate", name := "canBeGround", desc := "(II)Z" } : Jvm.MethodName)) ∈ lw_all := lw_g (lw_at lw_m8 201 rfl) rfl
theorem q1912 : (Jvm.Cond.selects "TrophyPlates$Plate" ({ cls := "TrophyPlates$Plate", name := "canBeGround", desc := "(II)Z" } : Jvm.MethodName) ({ cls := "TrophyPlates$Plate", name := "canBeGround", desc := "(II)Z" } : Jvm.MethodName)) ∈ lw_all := lw_g (lw_at lw_m8 202 rfl) rfl
theorem q1913 : (Jvm.Cond.code ({ cls := "TrophyPlates$Plate", name := "canBeGround", desc := "(II)Z" } : Jvm.MethodName) prog_5_method_6_code (3 : Nat) (Option.some Jvm.ClassFile.FieldType.boolean)) ∈ lw_all := lw_g (lw_at lw_m8 203 rfl) rfl
theorem q1914 : (Jvm.Cond.methodLink "TrophyPlates$Plate" (36 : Nat) ({ cls := "TrophyPlates$Plate", name := "isReady", desc := "(II)Z" } : Jvm.MethodName)) ∈ lw_all := lw_g (lw_at lw_m8 204 rfl) rfl
theorem q1915 : (Jvm.Cond.instanceMethod ({ cls := "TrophyPlates$Plate", name := "isReady", desc := "(II)Z" } : Jvm.MethodName)) ∈ lw_all := lw_g (lw_at lw_m8 205 rfl) rfl
theorem q1916 : (Jvm.Cond.selects "TrophyPlates$Plate" ({ cls := "TrophyPlates$Plate", name := "isReady", desc := "(II)Z" } : Jvm.MethodName) ({ cls := "TrophyPlates$Plate", name := "isReady", desc := "(II)Z" } : Jvm.MethodName)) ∈ lw_all := lw_g (lw_at lw_m8 206 rfl) rfl
theorem q1917 : (Jvm.Cond.code ({ cls := "TrophyPlates$Plate", name := "isReady", desc := "(II)Z" } : Jvm.MethodName) prog_5_method_4_code (3 : Nat) (Option.some Jvm.ClassFile.FieldType.boolean)) ∈ lw_all := lw_g (lw_at lw_m8 207 rfl) rfl
theorem q2420 : (Jvm.Cond.castable "TrophyPlates$Plate" "java/lang/Object") ∈ lw_tbl := lw_at lw_m10 230 rfl
theorem in_X5 : ∀ w ∈ wsX50, w ∈ lw_all := lw_in wsX50 [487, 489, 491, 493] (by decide +kernel) (by decide +kernel)
/-! TrophyPlates$Place -/
set_option maxRecDepth 100000
def RX6 : String := "TrophyPlates$Place"
def TX6 : u_T := fun k => match k with
  | 0 => ("TrophyPlates$Place", "shield", "I", true)
  | _ => ("TrophyPlates$Place", "year", "I", true)
def tyX6 : Nat → FieldType := fun k => match k with
  | 0 => .int
  | _ => .int
abbrev wsX60 : List Cond := u_ws RX6 TX6 2
theorem nmX6 : ∀ a, a < 2 → ∀ b, b < 2 → a ≠ b → (TX6 a).2.1 ≠ (TX6 b).2.1 := by decide +kernel
theorem tyX6_ok : ∀ k, k < 2 → parseFieldDescriptor (TX6 k).2.2.1 = some (tyX6 k) := by decide +kernel
abbrev cX6_hashCode : ByteArray := prog_4_method_3_code
def yX6_hashCode : MethodName := ⟨RX6, "hashCode", "()I"⟩
def dkwX6_hashCode_0 : List UInt8 := [17, 3, 241, 42, 180, 0, 7, 104, 42, 180, 0, 13, 96, 172]
abbrev dktX6_hashCode_0 : List UInt8 := dkwX6_hashCode_0 ++ []
theorem dksX6_hashCode_0 : cX6_hashCode.data.toList.drop 0 = dktX6_hashCode_0 := by decide +kernel
theorem dX6_hashCode_0 : decode cX6_hashCode 0 = .ok (.sipush 1009, 3) := dk_17 3 241 (dk_at dksX6_hashCode_0 0 rfl rfl)
theorem dX6_hashCode_3 : decode cX6_hashCode 3 = .ok (.aload_n 0, 1) := dk_42 (dk_at dksX6_hashCode_0 3 rfl rfl)
theorem dX6_hashCode_4 : decode cX6_hashCode 4 = .ok (.getfield 7, 3) := dk_180 0 7 (dk_at dksX6_hashCode_0 4 rfl rfl)
theorem dX6_hashCode_7 : decode cX6_hashCode 7 = .ok (.imul, 1) := dk_104 (dk_at dksX6_hashCode_0 7 rfl rfl)
theorem dX6_hashCode_8 : decode cX6_hashCode 8 = .ok (.aload_n 0, 1) := dk_42 (dk_at dksX6_hashCode_0 8 rfl rfl)
theorem dX6_hashCode_9 : decode cX6_hashCode 9 = .ok (.getfield 13, 3) := dk_180 0 13 (dk_at dksX6_hashCode_0 9 rfl rfl)
theorem dX6_hashCode_12 : decode cX6_hashCode 12 = .ok (.iadd, 1) := dk_96 (dk_at dksX6_hashCode_0 12 rfl rfl)
theorem dX6_hashCode_13 : decode cX6_hashCode 13 = .ok (.ireturn, 1) := dk_172 (dk_at dksX6_hashCode_0 13 rfl rfl)
abbrev cX6_equals : ByteArray := prog_4_method_2_code
def yX6_equals : MethodName := ⟨RX6, "equals", "(Ljava/lang/Object;)Z"⟩
def dkwX6_equals_1 : List UInt8 := [192, 0, 8, 180, 0, 13, 42, 180, 0, 13, 160, 0, 7, 4, 167, 0, 4, 3, 172]
abbrev dktX6_equals_1 : List UInt8 := dkwX6_equals_1 ++ []
def dkwX6_equals_0 : List UInt8 := [43, 193, 0, 8, 153, 0, 35, 43, 192, 0, 8, 180, 0, 7, 42, 180, 0, 7, 160, 0, 21, 43]
abbrev dktX6_equals_0 : List UInt8 := dkwX6_equals_0 ++ dktX6_equals_1
theorem dksX6_equals_0 : cX6_equals.data.toList.drop 0 = dktX6_equals_0 := by decide +kernel
theorem dksX6_equals_1 : cX6_equals.data.toList.drop 22 = dktX6_equals_1 := dk_seg dksX6_equals_0 22 rfl rfl
theorem dX6_equals_0 : decode cX6_equals 0 = .ok (.aload_n 1, 1) := dk_43 (dk_at dksX6_equals_0 0 rfl rfl)
theorem dX6_equals_1 : decode cX6_equals 1 = .ok (.instanceof 8, 3) := dk_193 0 8 (dk_at dksX6_equals_0 1 rfl rfl)
theorem dX6_equals_4 : decode cX6_equals 4 = .ok (.ifCond .eq 35, 3) := dk_153 0 35 (dk_at dksX6_equals_0 4 rfl rfl)
theorem dX6_equals_7 : decode cX6_equals 7 = .ok (.aload_n 1, 1) := dk_43 (dk_at dksX6_equals_0 7 rfl rfl)
theorem dX6_equals_8 : decode cX6_equals 8 = .ok (.checkcast 8, 3) := dk_192 0 8 (dk_at dksX6_equals_0 8 rfl rfl)
theorem dX6_equals_11 : decode cX6_equals 11 = .ok (.getfield 7, 3) := dk_180 0 7 (dk_at dksX6_equals_0 11 rfl rfl)
theorem dX6_equals_14 : decode cX6_equals 14 = .ok (.aload_n 0, 1) := dk_42 (dk_at dksX6_equals_0 14 rfl rfl)
theorem dX6_equals_15 : decode cX6_equals 15 = .ok (.getfield 7, 3) := dk_180 0 7 (dk_at dksX6_equals_0 15 rfl rfl)
theorem dX6_equals_18 : decode cX6_equals 18 = .ok (.if_icmp .ne 21, 3) := dk_160 0 21 (dk_at dksX6_equals_0 18 rfl rfl)
theorem dX6_equals_21 : decode cX6_equals 21 = .ok (.aload_n 1, 1) := dk_43 (dk_at dksX6_equals_0 21 rfl rfl)
theorem dX6_equals_22 : decode cX6_equals 22 = .ok (.checkcast 8, 3) := dk_192 0 8 (dk_at dksX6_equals_1 0 rfl rfl)
theorem dX6_equals_25 : decode cX6_equals 25 = .ok (.getfield 13, 3) := dk_180 0 13 (dk_at dksX6_equals_1 3 rfl rfl)
theorem dX6_equals_28 : decode cX6_equals 28 = .ok (.aload_n 0, 1) := dk_42 (dk_at dksX6_equals_1 6 rfl rfl)
theorem dX6_equals_29 : decode cX6_equals 29 = .ok (.getfield 13, 3) := dk_180 0 13 (dk_at dksX6_equals_1 7 rfl rfl)
theorem dX6_equals_32 : decode cX6_equals 32 = .ok (.if_icmp .ne 7, 3) := dk_160 0 7 (dk_at dksX6_equals_1 10 rfl rfl)
theorem dX6_equals_35 : decode cX6_equals 35 = .ok (.iconst 1, 1) := dk_4 (dk_at dksX6_equals_1 13 rfl rfl)
theorem dX6_equals_36 : decode cX6_equals 36 = .ok (.goto 4, 3) := dk_167 0 4 (dk_at dksX6_equals_1 14 rfl rfl)
theorem dX6_equals_39 : decode cX6_equals 39 = .ok (.iconst 0, 1) := dk_3 (dk_at dksX6_equals_1 17 rfl rfl)
theorem dX6_equals_40 : decode cX6_equals 40 = .ok (.ireturn, 1) := dk_172 (dk_at dksX6_equals_1 18 rfl rfl)
abbrev cX6_init : ByteArray := prog_4_method_1_code
def yX6_init : MethodName := ⟨RX6, "<init>", "(II)V"⟩
def dkwX6_init_0 : List UInt8 := [42, 183, 0, 1, 42, 27, 181, 0, 7, 42, 28, 181, 0, 13, 177]
abbrev dktX6_init_0 : List UInt8 := dkwX6_init_0 ++ []
theorem dksX6_init_0 : cX6_init.data.toList.drop 0 = dktX6_init_0 := by decide +kernel
theorem dX6_init_0 : decode cX6_init 0 = .ok (.aload_n 0, 1) := dk_42 (dk_at dksX6_init_0 0 rfl rfl)
theorem dX6_init_1 : decode cX6_init 1 = .ok (.invokespecial 1, 3) := dk_183 0 1 (dk_at dksX6_init_0 1 rfl rfl)
theorem dX6_init_4 : decode cX6_init 4 = .ok (.aload_n 0, 1) := dk_42 (dk_at dksX6_init_0 4 rfl rfl)
theorem dX6_init_5 : decode cX6_init 5 = .ok (.iload_n 1, 1) := dk_27 (dk_at dksX6_init_0 5 rfl rfl)
theorem dX6_init_6 : decode cX6_init 6 = .ok (.putfield 7, 3) := dk_181 0 7 (dk_at dksX6_init_0 6 rfl rfl)
theorem dX6_init_9 : decode cX6_init 9 = .ok (.aload_n 0, 1) := dk_42 (dk_at dksX6_init_0 9 rfl rfl)
theorem dX6_init_10 : decode cX6_init 10 = .ok (.iload_n 2, 1) := dk_28 (dk_at dksX6_init_0 10 rfl rfl)
theorem dX6_init_11 : decode cX6_init 11 = .ok (.putfield 13, 3) := dk_181 0 13 (dk_at dksX6_init_0 11 rfl rfl)
theorem dX6_init_14 : decode cX6_init 14 = .ok (.return_, 1) := dk_177 (dk_at dksX6_init_0 14 rfl rfl)
theorem q74 : (Jvm.Cond.initialized "TrophyPlates$Place") ∈ lw_all := lw_g (lw_at lw_m1 44 rfl) rfl
theorem q536 : (Jvm.Cond.selects "TrophyPlates$Place" ({ cls := "java/lang/Object", name := "getClass", desc := "()Ljava/lang/Class;" } : Jvm.MethodName) ({ cls := "java/lang/Object", name := "getClass", desc := "()Ljava/lang/Class;" } : Jvm.MethodName)) ∈ lw_all := lw_g (lw_at lw_m3 26 rfl) rfl
theorem q820 : (Jvm.Cond.selects "TrophyPlates$Place" ({ cls := "java/lang/Object", name := "hashCode", desc := "()I" } : Jvm.MethodName) ({ cls := "TrophyPlates$Place", name := "hashCode", desc := "()I" } : Jvm.MethodName)) ∈ lw_all := lw_g (lw_at lw_m4 70 rfl) rfl
theorem q821 : (Jvm.Cond.instanceMethod ({ cls := "TrophyPlates$Place", name := "hashCode", desc := "()I" } : Jvm.MethodName)) ∈ lw_all := lw_g (lw_at lw_m4 71 rfl) rfl
theorem q822 : (Jvm.Cond.code ({ cls := "TrophyPlates$Place", name := "hashCode", desc := "()I" } : Jvm.MethodName) prog_4_method_3_code (1 : Nat) (Option.some Jvm.ClassFile.FieldType.int)) ∈ lw_all := lw_g (lw_at lw_m4 72 rfl) rfl
theorem q1257 : (Jvm.Cond.selects "TrophyPlates$Place" ({ cls := "java/lang/Object", name := "equals", desc := "(Ljava/lang/Object;)Z" } : Jvm.MethodName) ({ cls := "TrophyPlates$Place", name := "equals", desc := "(Ljava/lang/Object;)Z" } : Jvm.MethodName)) ∈ lw_all := lw_g (lw_at lw_m6 27 rfl) rfl
theorem q1258 : (Jvm.Cond.instanceMethod ({ cls := "TrophyPlates$Place", name := "equals", desc := "(Ljava/lang/Object;)Z" } : Jvm.MethodName)) ∈ lw_all := lw_g (lw_at lw_m6 28 rfl) rfl
theorem q1259 : (Jvm.Cond.code ({ cls := "TrophyPlates$Place", name := "equals", desc := "(Ljava/lang/Object;)Z" } : Jvm.MethodName) prog_4_method_2_code (2 : Nat) (Option.some Jvm.ClassFile.FieldType.boolean)) ∈ lw_all := lw_g (lw_at lw_m6 29 rfl) rfl
theorem q1260 : (Jvm.Cond.classLink "TrophyPlates$Place" (8 : Nat) "TrophyPlates$Place") ∈ lw_all := lw_g (lw_at lw_m6 30 rfl) rfl
theorem q1451 : (Jvm.Cond.instantiable "TrophyPlates$Place" (2 : Nat)) ∈ lw_all := lw_g (lw_at lw_m6 221 rfl) rfl
theorem q1453 : (Jvm.Cond.instanceMethod ({ cls := "TrophyPlates$Place", name := "<init>", desc := "(II)V" } : Jvm.MethodName)) ∈ lw_all := lw_g (lw_at lw_m6 223 rfl) rfl
theorem q1454 : (Jvm.Cond.code ({ cls := "TrophyPlates$Place", name := "<init>", desc := "(II)V" } : Jvm.MethodName) prog_4_method_1_code (3 : Nat) (Option.none : Option Jvm.ClassFile.FieldType)) ∈ lw_all := lw_g (lw_at lw_m6 224 rfl) rfl
theorem q1455 : (Jvm.Cond.methodLink "TrophyPlates$Place" (1 : Nat) ({ cls := "java/lang/Object", name := "<init>", desc := "()V" } : Jvm.MethodName)) ∈ lw_all := lw_g (lw_at lw_m6 225 rfl) rfl
theorem q1456 : (Jvm.Cond.fieldLink "TrophyPlates$Place" (7 : Nat) "TrophyPlates$Place" "shield" "I") ∈ lw_all := lw_g (lw_at lw_m6 226 rfl) rfl
theorem q1459 : (Jvm.Cond.fieldLink "TrophyPlates$Place" (13 : Nat) "TrophyPlates$Place" "year" "I") ∈ lw_all := lw_g (lw_at lw_m6 229 rfl) rfl
theorem q1462 : (Jvm.Cond.laysFinal "TrophyPlates$Place" "TrophyPlates$Place" "shield" "I") ∈ lw_all := lw_g (lw_at lw_m6 232 rfl) rfl
theorem q1463 : (Jvm.Cond.soleField "TrophyPlates$Place" "shield") ∈ lw_all := lw_g (lw_at lw_m6 233 rfl) rfl
theorem q1464 : (Jvm.Cond.laysFinal "TrophyPlates$Place" "TrophyPlates$Place" "year" "I") ∈ lw_all := lw_g (lw_at lw_m6 234 rfl) rfl
theorem q1465 : (Jvm.Cond.soleField "TrophyPlates$Place" "year") ∈ lw_all := lw_g (lw_at lw_m6 235 rfl) rfl
theorem q1466 : (Jvm.Cond.superclass "TrophyPlates$Place" "java/lang/Object") ∈ lw_all := lw_g (lw_at lw_m6 236 rfl) rfl
theorem q2426 : (Jvm.Cond.castable "TrophyPlates$Place" "java/lang/Object") ∈ lw_tbl := lw_at lw_m10 236 rfl
theorem in_X6 : ∀ w ∈ wsX60, w ∈ lw_all := lw_in wsX60 [1462, 1464] (by decide +kernel) (by decide +kernel)
/-! TrophyPlates$Order -/
set_option maxRecDepth 100000
def RX7 : String := "TrophyPlates$Order"
def TX7 : u_T := fun k => match k with
  | 0 => ("TrophyPlates$Order", "place", "LTrophyPlates$Place;", true)
  | 1 => ("TrophyPlates$Order", "name", "Ljava/lang/String;", true)
  | 2 => ("TrophyPlates$Order", "size", "I", true)
  | 3 => ("TrophyPlates$Order", "depth", "I", true)
  | _ => ("TrophyPlates$Order", "isRush", "Z", false)
def tyX7 : Nat → FieldType := fun k => match k with
  | 0 => .object "TrophyPlates$Place"
  | 1 => .object "java/lang/String"
  | 2 => .int
  | 3 => .int
  | _ => .boolean
abbrev wsX70 : List Cond := u_ws RX7 TX7 5
theorem nmX7 : ∀ a, a < 5 → ∀ b, b < 5 → a ≠ b → (TX7 a).2.1 ≠ (TX7 b).2.1 := by decide +kernel
theorem tyX7_ok : ∀ k, k < 5 → parseFieldDescriptor (TX7 k).2.2.1 = some (tyX7 k) := by decide +kernel
abbrev cX7_init : ByteArray := prog_3_method_1_code
def yX7_init : MethodName := ⟨RX7, "<init>", "(LTrophyPlates$Place;Ljava/lang/String;IIZ)V"⟩
def dkwX7_init_1 : List UInt8 := [181, 0, 21, 42, 21, 5, 181, 0, 24, 177]
abbrev dktX7_init_1 : List UInt8 := dkwX7_init_1 ++ []
def dkwX7_init_0 : List UInt8 := [42, 183, 0, 1, 42, 43, 181, 0, 7, 42, 44, 181, 0, 13, 42, 29, 181, 0, 17, 42, 21, 4]
abbrev dktX7_init_0 : List UInt8 := dkwX7_init_0 ++ dktX7_init_1
theorem dksX7_init_0 : cX7_init.data.toList.drop 0 = dktX7_init_0 := by decide +kernel
theorem dksX7_init_1 : cX7_init.data.toList.drop 22 = dktX7_init_1 := dk_seg dksX7_init_0 22 rfl rfl
theorem dX7_init_0 : decode cX7_init 0 = .ok (.aload_n 0, 1) := dk_42 (dk_at dksX7_init_0 0 rfl rfl)
theorem dX7_init_1 : decode cX7_init 1 = .ok (.invokespecial 1, 3) := dk_183 0 1 (dk_at dksX7_init_0 1 rfl rfl)
theorem dX7_init_4 : decode cX7_init 4 = .ok (.aload_n 0, 1) := dk_42 (dk_at dksX7_init_0 4 rfl rfl)
theorem dX7_init_5 : decode cX7_init 5 = .ok (.aload_n 1, 1) := dk_43 (dk_at dksX7_init_0 5 rfl rfl)
theorem dX7_init_6 : decode cX7_init 6 = .ok (.putfield 7, 3) := dk_181 0 7 (dk_at dksX7_init_0 6 rfl rfl)
theorem dX7_init_9 : decode cX7_init 9 = .ok (.aload_n 0, 1) := dk_42 (dk_at dksX7_init_0 9 rfl rfl)
theorem dX7_init_10 : decode cX7_init 10 = .ok (.aload_n 2, 1) := dk_44 (dk_at dksX7_init_0 10 rfl rfl)
theorem dX7_init_11 : decode cX7_init 11 = .ok (.putfield 13, 3) := dk_181 0 13 (dk_at dksX7_init_0 11 rfl rfl)
theorem dX7_init_14 : decode cX7_init 14 = .ok (.aload_n 0, 1) := dk_42 (dk_at dksX7_init_0 14 rfl rfl)
theorem dX7_init_15 : decode cX7_init 15 = .ok (.iload_n 3, 1) := dk_29 (dk_at dksX7_init_0 15 rfl rfl)
theorem dX7_init_16 : decode cX7_init 16 = .ok (.putfield 17, 3) := dk_181 0 17 (dk_at dksX7_init_0 16 rfl rfl)
theorem dX7_init_19 : decode cX7_init 19 = .ok (.aload_n 0, 1) := dk_42 (dk_at dksX7_init_0 19 rfl rfl)
theorem dX7_init_20 : decode cX7_init 20 = .ok (.iload 4, 2) := dk_21 4 (dk_at dksX7_init_0 20 rfl rfl)
theorem dX7_init_22 : decode cX7_init 22 = .ok (.putfield 21, 3) := dk_181 0 21 (dk_at dksX7_init_1 0 rfl rfl)
theorem dX7_init_25 : decode cX7_init 25 = .ok (.aload_n 0, 1) := dk_42 (dk_at dksX7_init_1 3 rfl rfl)
theorem dX7_init_26 : decode cX7_init 26 = .ok (.iload 5, 2) := dk_21 5 (dk_at dksX7_init_1 4 rfl rfl)
theorem dX7_init_28 : decode cX7_init 28 = .ok (.putfield 24, 3) := dk_181 0 24 (dk_at dksX7_init_1 6 rfl rfl)
theorem dX7_init_31 : decode cX7_init 31 = .ok (.return_, 1) := dk_177 (dk_at dksX7_init_1 9 rfl rfl)
abbrev cX7_init_2 : ByteArray := prog_3_method_2_code
def yX7_init_2 : MethodName := ⟨RX7, "<init>", "(LTrophyPlates$Order;Z)V"⟩
def dkwX7_init_2_0 : List UInt8 := [42, 43, 180, 0, 7, 43, 180, 0, 13, 43, 180, 0, 17, 43, 180, 0, 21, 28, 183, 0, 28, 177]
abbrev dktX7_init_2_0 : List UInt8 := dkwX7_init_2_0 ++ []
theorem dksX7_init_2_0 : cX7_init_2.data.toList.drop 0 = dktX7_init_2_0 := by decide +kernel
theorem dX7_init_2_0 : decode cX7_init_2 0 = .ok (.aload_n 0, 1) := dk_42 (dk_at dksX7_init_2_0 0 rfl rfl)
theorem dX7_init_2_1 : decode cX7_init_2 1 = .ok (.aload_n 1, 1) := dk_43 (dk_at dksX7_init_2_0 1 rfl rfl)
theorem dX7_init_2_2 : decode cX7_init_2 2 = .ok (.getfield 7, 3) := dk_180 0 7 (dk_at dksX7_init_2_0 2 rfl rfl)
theorem dX7_init_2_5 : decode cX7_init_2 5 = .ok (.aload_n 1, 1) := dk_43 (dk_at dksX7_init_2_0 5 rfl rfl)
theorem dX7_init_2_6 : decode cX7_init_2 6 = .ok (.getfield 13, 3) := dk_180 0 13 (dk_at dksX7_init_2_0 6 rfl rfl)
theorem dX7_init_2_9 : decode cX7_init_2 9 = .ok (.aload_n 1, 1) := dk_43 (dk_at dksX7_init_2_0 9 rfl rfl)
theorem dX7_init_2_10 : decode cX7_init_2 10 = .ok (.getfield 17, 3) := dk_180 0 17 (dk_at dksX7_init_2_0 10 rfl rfl)
theorem dX7_init_2_13 : decode cX7_init_2 13 = .ok (.aload_n 1, 1) := dk_43 (dk_at dksX7_init_2_0 13 rfl rfl)
theorem dX7_init_2_14 : decode cX7_init_2 14 = .ok (.getfield 21, 3) := dk_180 0 21 (dk_at dksX7_init_2_0 14 rfl rfl)
theorem dX7_init_2_17 : decode cX7_init_2 17 = .ok (.iload_n 2, 1) := dk_28 (dk_at dksX7_init_2_0 17 rfl rfl)
theorem dX7_init_2_18 : decode cX7_init_2 18 = .ok (.invokespecial 28, 3) := dk_183 0 28 (dk_at dksX7_init_2_0 18 rfl rfl)
theorem dX7_init_2_21 : decode cX7_init_2 21 = .ok (.return_, 1) := dk_177 (dk_at dksX7_init_2_0 21 rfl rfl)
abbrev cX7_length : ByteArray := prog_3_method_4_code
def yX7_length : MethodName := ⟨RX7, "length", "()I"⟩
def dkwX7_length_0 : List UInt8 := [42, 180, 0, 13, 42, 180, 0, 17, 184, 0, 37, 172]
abbrev dktX7_length_0 : List UInt8 := dkwX7_length_0 ++ []
theorem dksX7_length_0 : cX7_length.data.toList.drop 0 = dktX7_length_0 := by decide +kernel
theorem dX7_length_0 : decode cX7_length 0 = .ok (.aload_n 0, 1) := dk_42 (dk_at dksX7_length_0 0 rfl rfl)
theorem dX7_length_1 : decode cX7_length 1 = .ok (.getfield 13, 3) := dk_180 0 13 (dk_at dksX7_length_0 1 rfl rfl)
theorem dX7_length_4 : decode cX7_length 4 = .ok (.aload_n 0, 1) := dk_42 (dk_at dksX7_length_0 4 rfl rfl)
theorem dX7_length_5 : decode cX7_length 5 = .ok (.getfield 17, 3) := dk_180 0 17 (dk_at dksX7_length_0 5 rfl rfl)
theorem dX7_length_8 : decode cX7_length 8 = .ok (.invokestatic 37, 3) := dk_184 0 37 (dk_at dksX7_length_0 8 rfl rfl)
theorem dX7_length_11 : decode cX7_length 11 = .ok (.ireturn, 1) := dk_172 (dk_at dksX7_length_0 11 rfl rfl)
abbrev cX7_effort : ByteArray := prog_3_method_3_code
def yX7_effort : MethodName := ⟨RX7, "effort", "()I"⟩
def dkwX7_effort_0 : List UInt8 := [42, 180, 0, 13, 182, 0, 31, 42, 180, 0, 17, 42, 180, 0, 21, 96, 104, 172]
abbrev dktX7_effort_0 : List UInt8 := dkwX7_effort_0 ++ []
theorem dksX7_effort_0 : cX7_effort.data.toList.drop 0 = dktX7_effort_0 := by decide +kernel
theorem dX7_effort_0 : decode cX7_effort 0 = .ok (.aload_n 0, 1) := dk_42 (dk_at dksX7_effort_0 0 rfl rfl)
theorem dX7_effort_1 : decode cX7_effort 1 = .ok (.getfield 13, 3) := dk_180 0 13 (dk_at dksX7_effort_0 1 rfl rfl)
theorem dX7_effort_4 : decode cX7_effort 4 = .ok (.invokevirtual 31, 3) := dk_182 0 31 (dk_at dksX7_effort_0 4 rfl rfl)
theorem dX7_effort_7 : decode cX7_effort 7 = .ok (.aload_n 0, 1) := dk_42 (dk_at dksX7_effort_0 7 rfl rfl)
theorem dX7_effort_8 : decode cX7_effort 8 = .ok (.getfield 17, 3) := dk_180 0 17 (dk_at dksX7_effort_0 8 rfl rfl)
theorem dX7_effort_11 : decode cX7_effort 11 = .ok (.aload_n 0, 1) := dk_42 (dk_at dksX7_effort_0 11 rfl rfl)
theorem dX7_effort_12 : decode cX7_effort 12 = .ok (.getfield 21, 3) := dk_180 0 21 (dk_at dksX7_effort_0 12 rfl rfl)
theorem dX7_effort_15 : decode cX7_effort 15 = .ok (.iadd, 1) := dk_96 (dk_at dksX7_effort_0 15 rfl rfl)
theorem dX7_effort_16 : decode cX7_effort 16 = .ok (.imul, 1) := dk_104 (dk_at dksX7_effort_0 16 rfl rfl)
theorem dX7_effort_17 : decode cX7_effort 17 = .ok (.ireturn, 1) := dk_172 (dk_at dksX7_effort_0 17 rfl rfl)
theorem q76 : (Jvm.Cond.initialized "TrophyPlates$Order") ∈ lw_all := lw_g (lw_at lw_m1 46 rfl) rfl
theorem q535 : (Jvm.Cond.selects "TrophyPlates$Order" ({ cls := "java/lang/Object", name := "getClass", desc := "()Ljava/lang/Class;" } : Jvm.MethodName) ({ cls := "java/lang/Object", name := "getClass", desc := "()Ljava/lang/Class;" } : Jvm.MethodName)) ∈ lw_all := lw_g (lw_at lw_m3 25 rfl) rfl
theorem q819 : (Jvm.Cond.selects "TrophyPlates$Order" ({ cls := "java/lang/Object", name := "hashCode", desc := "()I" } : Jvm.MethodName) ({ cls := "java/lang/Object", name := "hashCode", desc := "()I" } : Jvm.MethodName)) ∈ lw_all := lw_g (lw_at lw_m4 69 rfl) rfl
theorem q1256 : (Jvm.Cond.selects "TrophyPlates$Order" ({ cls := "java/lang/Object", name := "equals", desc := "(Ljava/lang/Object;)Z" } : Jvm.MethodName) ({ cls := "java/lang/Object", name := "equals", desc := "(Ljava/lang/Object;)Z" } : Jvm.MethodName)) ∈ lw_all := lw_g (lw_at lw_m6 26 rfl) rfl
theorem q1686 : (Jvm.Cond.instantiable "TrophyPlates$Order" (5 : Nat)) ∈ lw_all := lw_g (lw_at lw_m7 216 rfl) rfl
theorem q1740 : (Jvm.Cond.instanceMethod ({ cls := "TrophyPlates$Order", name := "<init>", desc := "(LTrophyPlates$Place;Ljava/lang/String;IIZ)V" } : Jvm.MethodName)) ∈ lw_all := lw_g (lw_at lw_m8 30 rfl) rfl
theorem q1741 : (Jvm.Cond.code ({ cls := "TrophyPlates$Order", name := "<init>", desc := "(LTrophyPlates$Place;Ljava/lang/String;IIZ)V" } : Jvm.MethodName) prog_3_method_1_code (6 : Nat) (Option.none : Option Jvm.ClassFile.FieldType)) ∈ lw_all := lw_g (lw_at lw_m8 31 rfl) rfl
theorem q1742 : (Jvm.Cond.methodLink "TrophyPlates$Order" (1 : Nat) ({ cls := "java/lang/Object", name := "<init>", desc := "()V" } : Jvm.MethodName)) ∈ lw_all := lw_g (lw_at lw_m8 32 rfl) rfl
theorem q1743 : (Jvm.Cond.fieldLink "TrophyPlates$Order" (7 : Nat) "TrophyPlates$Order" "place" "LTrophyPlates$Place;") ∈ lw_all := lw_g (lw_at lw_m8 33 rfl) rfl
theorem q1746 : (Jvm.Cond.fieldLink "TrophyPlates$Order" (13 : Nat) "TrophyPlates$Order" "name" "Ljava/lang/String;") ∈ lw_all := lw_g (lw_at lw_m8 36 rfl) rfl
theorem q1748 : (Jvm.Cond.fieldLink "TrophyPlates$Order" (17 : Nat) "TrophyPlates$Order" "size" "I") ∈ lw_all := lw_g (lw_at lw_m8 38 rfl) rfl
theorem q1750 : (Jvm.Cond.fieldLink "TrophyPlates$Order" (21 : Nat) "TrophyPlates$Order" "depth" "I") ∈ lw_all := lw_g (lw_at lw_m8 40 rfl) rfl
theorem q1753 : (Jvm.Cond.fieldLink "TrophyPlates$Order" (24 : Nat) "TrophyPlates$Order" "isRush" "Z") ∈ lw_all := lw_g (lw_at lw_m8 43 rfl) rfl
theorem q1756 : (Jvm.Cond.laysFinal "TrophyPlates$Order" "TrophyPlates$Order" "place" "LTrophyPlates$Place;") ∈ lw_all := lw_g (lw_at lw_m8 46 rfl) rfl
theorem q1757 : (Jvm.Cond.soleField "TrophyPlates$Order" "place") ∈ lw_all := lw_g (lw_at lw_m8 47 rfl) rfl
theorem q1758 : (Jvm.Cond.laysFinal "TrophyPlates$Order" "TrophyPlates$Order" "name" "Ljava/lang/String;") ∈ lw_all := lw_g (lw_at lw_m8 48 rfl) rfl
theorem q1759 : (Jvm.Cond.soleField "TrophyPlates$Order" "name") ∈ lw_all := lw_g (lw_at lw_m8 49 rfl) rfl
theorem q1760 : (Jvm.Cond.laysFinal "TrophyPlates$Order" "TrophyPlates$Order" "size" "I") ∈ lw_all := lw_g (lw_at lw_m8 50 rfl) rfl
theorem q1761 : (Jvm.Cond.soleField "TrophyPlates$Order" "size") ∈ lw_all := lw_g (lw_at lw_m8 51 rfl) rfl
theorem q1762 : (Jvm.Cond.laysFinal "TrophyPlates$Order" "TrophyPlates$Order" "depth" "I") ∈ lw_all := lw_g (lw_at lw_m8 52 rfl) rfl
theorem q1763 : (Jvm.Cond.soleField "TrophyPlates$Order" "depth") ∈ lw_all := lw_g (lw_at lw_m8 53 rfl) rfl
theorem q1764 : (Jvm.Cond.lays "TrophyPlates$Order" "TrophyPlates$Order" "isRush" "Z") ∈ lw_all := lw_g (lw_at lw_m8 54 rfl) rfl
theorem q1765 : (Jvm.Cond.soleField "TrophyPlates$Order" "isRush") ∈ lw_all := lw_g (lw_at lw_m8 55 rfl) rfl
theorem q1766 : (Jvm.Cond.superclass "TrophyPlates$Order" "java/lang/Object") ∈ lw_all := lw_g (lw_at lw_m8 56 rfl) rfl
theorem q1815 : (Jvm.Cond.instanceMethod ({ cls := "TrophyPlates$Order", name := "<init>", desc := "(LTrophyPlates$Order;Z)V" } : Jvm.MethodName)) ∈ lw_all := lw_g (lw_at lw_m8 105 rfl) rfl
theorem q1816 : (Jvm.Cond.code ({ cls := "TrophyPlates$Order", name := "<init>", desc := "(LTrophyPlates$Order;Z)V" } : Jvm.MethodName) prog_3_method_2_code (3 : Nat) (Option.none : Option Jvm.ClassFile.FieldType)) ∈ lw_all := lw_g (lw_at lw_m8 106 rfl) rfl
theorem q1817 : (Jvm.Cond.methodLink "TrophyPlates$Order" (28 : Nat) ({ cls := "TrophyPlates$Order", name := "<init>", desc := "(LTrophyPlates$Place;Ljava/lang/String;IIZ)V" } : Jvm.MethodName)) ∈ lw_all := lw_g (lw_at lw_m8 107 rfl) rfl
theorem q1848 : (Jvm.Cond.instanceMethod ({ cls := "TrophyPlates$Order", name := "length", desc := "()I" } : Jvm.MethodName)) ∈ lw_all := lw_g (lw_at lw_m8 138 rfl) rfl
theorem q1849 : (Jvm.Cond.selects "TrophyPlates$Order" ({ cls := "TrophyPlates$Order", name := "length", desc := "()I" } : Jvm.MethodName) ({ cls := "TrophyPlates$Order", name := "length", desc := "()I" } : Jvm.MethodName)) ∈ lw_all := lw_g (lw_at lw_m8 139 rfl) rfl
theorem q1850 : (Jvm.Cond.code ({ cls := "TrophyPlates$Order", name := "length", desc := "()I" } : Jvm.MethodName) prog_3_method_4_code (1 : Nat) (Option.some Jvm.ClassFile.FieldType.int)) ∈ lw_all := lw_g (lw_at lw_m8 140 rfl) rfl
theorem q1851 : (Jvm.Cond.methodLinkNest "TrophyPlates$Order" (37 : Nat) ({ cls := "TrophyPlates", name := "lengthOf", desc := "(Ljava/lang/CharSequence;I)I" } : Jvm.MethodName) "TrophyPlates") ∈ lw_tbl := lw_at lw_m8 141 rfl
theorem q1944 : (Jvm.Cond.instanceMethod ({ cls := "TrophyPlates$Order", name := "effort", desc := "()I" } : Jvm.MethodName)) ∈ lw_all := lw_g (lw_at lw_m8 234 rfl) rfl
theorem q1945 : (Jvm.Cond.selects "TrophyPlates$Order" ({ cls := "TrophyPlates$Order", name := "effort", desc := "()I" } : Jvm.MethodName) ({ cls := "TrophyPlates$Order", name := "effort", desc := "()I" } : Jvm.MethodName)) ∈ lw_all := lw_g (lw_at lw_m8 235 rfl) rfl
theorem q1946 : (Jvm.Cond.code ({ cls := "TrophyPlates$Order", name := "effort", desc := "()I" } : Jvm.MethodName) prog_3_method_3_code (1 : Nat) (Option.some Jvm.ClassFile.FieldType.int)) ∈ lw_all := lw_g (lw_at lw_m8 236 rfl) rfl
theorem q1947 : (Jvm.Cond.methodLink "TrophyPlates$Order" (31 : Nat) ({ cls := "java/lang/String", name := "length", desc := "()I" } : Jvm.MethodName)) ∈ lw_all := lw_g (lw_at lw_m8 237 rfl) rfl
theorem q2429 : (Jvm.Cond.castable "TrophyPlates$Order" "java/lang/Object") ∈ lw_tbl := lw_at lw_m10 239 rfl
theorem in_X7 : ∀ w ∈ wsX70, w ∈ lw_all := lw_in wsX70 [1756, 1758, 1760, 1762, 1764] (by decide +kernel) (by decide +kernel)
/-! TrophyPlates$Found -/
set_option maxRecDepth 100000
def RX8 : String := "TrophyPlates$Found"
def TX8 : u_T := fun k => match k with
  | 0 => ("TrophyPlates$Found", "plate", "I", true)
  | 1 => ("TrophyPlates$Found", "side", "I", true)
  | _ => ("TrophyPlates$Found", "isGround", "Z", true)
def tyX8 : Nat → FieldType := fun k => match k with
  | 0 => .int
  | 1 => .int
  | _ => .boolean
abbrev wsX80 : List Cond := u_ws RX8 TX8 3
theorem nmX8 : ∀ a, a < 3 → ∀ b, b < 3 → a ≠ b → (TX8 a).2.1 ≠ (TX8 b).2.1 := by decide +kernel
theorem tyX8_ok : ∀ k, k < 3 → parseFieldDescriptor (TX8 k).2.2.1 = some (tyX8 k) := by decide +kernel
abbrev cX8_init : ByteArray := prog_2_method_1_code
def yX8_init : MethodName := ⟨RX8, "<init>", "(IIZ)V"⟩
def dkwX8_init_0 : List UInt8 := [42, 183, 0, 1, 42, 27, 181, 0, 7, 42, 28, 181, 0, 13, 42, 29, 181, 0, 16, 177]
abbrev dktX8_init_0 : List UInt8 := dkwX8_init_0 ++ []
theorem dksX8_init_0 : cX8_init.data.toList.drop 0 = dktX8_init_0 := by decide +kernel
theorem dX8_init_0 : decode cX8_init 0 = .ok (.aload_n 0, 1) := dk_42 (dk_at dksX8_init_0 0 rfl rfl)
theorem dX8_init_1 : decode cX8_init 1 = .ok (.invokespecial 1, 3) := dk_183 0 1 (dk_at dksX8_init_0 1 rfl rfl)
theorem dX8_init_4 : decode cX8_init 4 = .ok (.aload_n 0, 1) := dk_42 (dk_at dksX8_init_0 4 rfl rfl)
theorem dX8_init_5 : decode cX8_init 5 = .ok (.iload_n 1, 1) := dk_27 (dk_at dksX8_init_0 5 rfl rfl)
theorem dX8_init_6 : decode cX8_init 6 = .ok (.putfield 7, 3) := dk_181 0 7 (dk_at dksX8_init_0 6 rfl rfl)
theorem dX8_init_9 : decode cX8_init 9 = .ok (.aload_n 0, 1) := dk_42 (dk_at dksX8_init_0 9 rfl rfl)
theorem dX8_init_10 : decode cX8_init 10 = .ok (.iload_n 2, 1) := dk_28 (dk_at dksX8_init_0 10 rfl rfl)
theorem dX8_init_11 : decode cX8_init 11 = .ok (.putfield 13, 3) := dk_181 0 13 (dk_at dksX8_init_0 11 rfl rfl)
theorem dX8_init_14 : decode cX8_init 14 = .ok (.aload_n 0, 1) := dk_42 (dk_at dksX8_init_0 14 rfl rfl)
theorem dX8_init_15 : decode cX8_init 15 = .ok (.iload_n 3, 1) := dk_29 (dk_at dksX8_init_0 15 rfl rfl)
theorem dX8_init_16 : decode cX8_init 16 = .ok (.putfield 16, 3) := dk_181 0 16 (dk_at dksX8_init_0 16 rfl rfl)
theorem dX8_init_19 : decode cX8_init 19 = .ok (.return_, 1) := dk_177 (dk_at dksX8_init_0 19 rfl rfl)
theorem q77 : (Jvm.Cond.initialized "TrophyPlates$Found") ∈ lw_all := lw_g (lw_at lw_m1 47 rfl) rfl
theorem q534 : (Jvm.Cond.selects "TrophyPlates$Found" ({ cls := "java/lang/Object", name := "getClass", desc := "()Ljava/lang/Class;" } : Jvm.MethodName) ({ cls := "java/lang/Object", name := "getClass", desc := "()Ljava/lang/Class;" } : Jvm.MethodName)) ∈ lw_all := lw_g (lw_at lw_m3 24 rfl) rfl
theorem q818 : (Jvm.Cond.selects "TrophyPlates$Found" ({ cls := "java/lang/Object", name := "hashCode", desc := "()I" } : Jvm.MethodName) ({ cls := "java/lang/Object", name := "hashCode", desc := "()I" } : Jvm.MethodName)) ∈ lw_all := lw_g (lw_at lw_m4 68 rfl) rfl
theorem q1255 : (Jvm.Cond.selects "TrophyPlates$Found" ({ cls := "java/lang/Object", name := "equals", desc := "(Ljava/lang/Object;)Z" } : Jvm.MethodName) ({ cls := "java/lang/Object", name := "equals", desc := "(Ljava/lang/Object;)Z" } : Jvm.MethodName)) ∈ lw_all := lw_g (lw_at lw_m6 25 rfl) rfl
theorem q1922 : (Jvm.Cond.instantiable "TrophyPlates$Found" (3 : Nat)) ∈ lw_all := lw_g (lw_at lw_m8 212 rfl) rfl
theorem q1924 : (Jvm.Cond.instanceMethod ({ cls := "TrophyPlates$Found", name := "<init>", desc := "(IIZ)V" } : Jvm.MethodName)) ∈ lw_all := lw_g (lw_at lw_m8 214 rfl) rfl
theorem q1925 : (Jvm.Cond.code ({ cls := "TrophyPlates$Found", name := "<init>", desc := "(IIZ)V" } : Jvm.MethodName) prog_2_method_1_code (4 : Nat) (Option.none : Option Jvm.ClassFile.FieldType)) ∈ lw_all := lw_g (lw_at lw_m8 215 rfl) rfl
theorem q1926 : (Jvm.Cond.methodLink "TrophyPlates$Found" (1 : Nat) ({ cls := "java/lang/Object", name := "<init>", desc := "()V" } : Jvm.MethodName)) ∈ lw_all := lw_g (lw_at lw_m8 216 rfl) rfl
theorem q1927 : (Jvm.Cond.fieldLink "TrophyPlates$Found" (7 : Nat) "TrophyPlates$Found" "plate" "I") ∈ lw_all := lw_g (lw_at lw_m8 217 rfl) rfl
theorem q1930 : (Jvm.Cond.fieldLink "TrophyPlates$Found" (13 : Nat) "TrophyPlates$Found" "side" "I") ∈ lw_all := lw_g (lw_at lw_m8 220 rfl) rfl
theorem q1933 : (Jvm.Cond.fieldLink "TrophyPlates$Found" (16 : Nat) "TrophyPlates$Found" "isGround" "Z") ∈ lw_all := lw_g (lw_at lw_m8 223 rfl) rfl
theorem q1936 : (Jvm.Cond.laysFinal "TrophyPlates$Found" "TrophyPlates$Found" "plate" "I") ∈ lw_all := lw_g (lw_at lw_m8 226 rfl) rfl
theorem q1937 : (Jvm.Cond.soleField "TrophyPlates$Found" "plate") ∈ lw_all := lw_g (lw_at lw_m8 227 rfl) rfl
theorem q1938 : (Jvm.Cond.laysFinal "TrophyPlates$Found" "TrophyPlates$Found" "side" "I") ∈ lw_all := lw_g (lw_at lw_m8 228 rfl) rfl
theorem q1939 : (Jvm.Cond.soleField "TrophyPlates$Found" "side") ∈ lw_all := lw_g (lw_at lw_m8 229 rfl) rfl
theorem q1940 : (Jvm.Cond.laysFinal "TrophyPlates$Found" "TrophyPlates$Found" "isGround" "Z") ∈ lw_all := lw_g (lw_at lw_m8 230 rfl) rfl
theorem q1941 : (Jvm.Cond.soleField "TrophyPlates$Found" "isGround") ∈ lw_all := lw_g (lw_at lw_m8 231 rfl) rfl
theorem q1942 : (Jvm.Cond.superclass "TrophyPlates$Found" "java/lang/Object") ∈ lw_all := lw_g (lw_at lw_m8 232 rfl) rfl
theorem q2437 : (Jvm.Cond.castable "TrophyPlates$Found" "java/lang/Object") ∈ lw_tbl := lw_at lw_m11 7 rfl
theorem in_X8 : ∀ w ∈ wsX80, w ∈ lw_all := lw_in wsX80 [1936, 1938, 1940] (by decide +kernel) (by decide +kernel)
