/-! JokePumpModel -/
set_option maxRecDepth 100000
def RX2 : String := "JokePumpModel"
def TX2 : u_T := fun k => match k with
  | 0 => ("JokePumpModel", "why", "I", false)
  | 1 => ("JokePumpModel", "detail", "I", false)
  | 2 => ("JokePumpModel", "whyBehind", "I", false)
  | 3 => ("JokePumpModel", "detailBehind", "I", false)
  | 4 => ("JokePumpModel", "whyNow", "I", false)
  | 5 => ("JokePumpModel", "detailNow", "I", false)
  | 6 => ("JokePumpModel", "w", "[I", true)
  | 7 => ("JokePumpModel", "undos", "[I", true)
  | 8 => ("JokePumpModel", "savedRow", "[I", true)
  | 9 => ("JokePumpModel", "mind", "[I", true)
  | 10 => ("JokePumpModel", "ahead", "[I", true)
  | 11 => ("JokePumpModel", "changes", "I", false)
  | 12 => ("JokePumpModel", "firstChange", "I", false)
  | 13 => ("JokePumpModel", "isSaved", "Z", false)
  | 14 => ("JokePumpModel", "line", "[C", true)
  | 15 => ("JokePumpModel", "lineLength", "I", false)
  | 16 => ("JokePumpModel", "input", "[C", true)
  | 17 => ("JokePumpModel", "inputMany", "I", false)
  | 18 => ("JokePumpModel", "inputAt", "I", false)
  | 19 => ("JokePumpModel", "faultAt", "I", false)
  | 20 => ("JokePumpModel", "numbers", "[I", true)
  | 21 => ("JokePumpModel", "sort", "I", false)
  | _ => ("JokePumpModel", "done", "I", false)
def tyX2 : Nat → FieldType := fun k => match k with
  | 0 => .int
  | 1 => .int
  | 2 => .int
  | 3 => .int
  | 4 => .int
  | 5 => .int
  | 6 => .array .int
  | 7 => .array .int
  | 8 => .array .int
  | 9 => .array .int
  | 10 => .array .int
  | 11 => .int
  | 12 => .int
  | 13 => .boolean
  | 14 => .array .char
  | 15 => .int
  | 16 => .array .char
  | 17 => .int
  | 18 => .int
  | 19 => .int
  | 20 => .array .int
  | 21 => .int
  | _ => .int
abbrev wsX20 : List Cond := u_ws RX2 TX2 23
set_option maxRecDepth 100000 in
theorem nmX2 : ∀ a, a < 23 → ∀ b, b < 23 → a ≠ b → (TX2 a).2.1 ≠ (TX2 b).2.1 := by decide +kernel
set_option maxRecDepth 100000 in
theorem tyX2_ok : ∀ k, k < 23 → parseFieldDescriptor (TX2 k).2.2.1 = some (tyX2 k) := by decide +kernel
abbrev cX2_reason : ByteArray := prog_27_method_4_code
def yX2_reason : MethodName := ⟨RX2, "reason", "(IZ)I"⟩
def dkwX2_reason_2 : List UInt8 := [154, 0, 6, 16, 250, 172, 28, 153, 0, 10, 42, 180, 0, 23, 167, 0, 7, 42, 180, 0, 16, 172]
abbrev dktX2_reason_2 : List UInt8 := dkwX2_reason_2 ++ []
def dkwX2_reason_1 : List UInt8 := [154, 0, 19, 28, 153, 0, 10, 42, 180, 0, 13, 167, 0, 7, 42, 180, 0, 10, 172, 42, 180, 0, 16]
abbrev dktX2_reason_1 : List UInt8 := dkwX2_reason_1 ++ dktX2_reason_2
def dkwX2_reason_0 : List UInt8 := [27, 3, 4, 184, 0, 19, 154, 0, 6, 16, 254, 172, 42, 180, 0, 10, 154, 0, 6, 16, 253, 172, 27]
abbrev dktX2_reason_0 : List UInt8 := dkwX2_reason_0 ++ dktX2_reason_1
theorem dksX2_reason_0 : cX2_reason.data.toList.drop 0 = dktX2_reason_0 := by decide +kernel
theorem dksX2_reason_1 : cX2_reason.data.toList.drop 23 = dktX2_reason_1 := dk_seg dksX2_reason_0 23 rfl rfl
theorem dksX2_reason_2 : cX2_reason.data.toList.drop 46 = dktX2_reason_2 := dk_seg dksX2_reason_1 23 rfl rfl
theorem dX2_reason_0 : decode cX2_reason 0 = .ok (.iload_n 1, 1) := dk_27 (dk_at dksX2_reason_0 0 rfl rfl)
theorem dX2_reason_1 : decode cX2_reason 1 = .ok (.iconst 0, 1) := dk_3 (dk_at dksX2_reason_0 1 rfl rfl)
theorem dX2_reason_2 : decode cX2_reason 2 = .ok (.iconst 1, 1) := dk_4 (dk_at dksX2_reason_0 2 rfl rfl)
theorem dX2_reason_3 : decode cX2_reason 3 = .ok (.invokestatic 19, 3) := dk_184 0 19 (dk_at dksX2_reason_0 3 rfl rfl)
theorem dX2_reason_6 : decode cX2_reason 6 = .ok (.ifCond .ne 6, 3) := dk_154 0 6 (dk_at dksX2_reason_0 6 rfl rfl)
theorem dX2_reason_9 : decode cX2_reason 9 = .ok (.bipush (-2), 2) := dk_16 254 (dk_at dksX2_reason_0 9 rfl rfl)
theorem dX2_reason_11 : decode cX2_reason 11 = .ok (.ireturn, 1) := dk_172 (dk_at dksX2_reason_0 11 rfl rfl)
theorem dX2_reason_12 : decode cX2_reason 12 = .ok (.aload_n 0, 1) := dk_42 (dk_at dksX2_reason_0 12 rfl rfl)
theorem dX2_reason_13 : decode cX2_reason 13 = .ok (.getfield 10, 3) := dk_180 0 10 (dk_at dksX2_reason_0 13 rfl rfl)
theorem dX2_reason_16 : decode cX2_reason 16 = .ok (.ifCond .ne 6, 3) := dk_154 0 6 (dk_at dksX2_reason_0 16 rfl rfl)
theorem dX2_reason_19 : decode cX2_reason 19 = .ok (.bipush (-3), 2) := dk_16 253 (dk_at dksX2_reason_0 19 rfl rfl)
theorem dX2_reason_21 : decode cX2_reason 21 = .ok (.ireturn, 1) := dk_172 (dk_at dksX2_reason_0 21 rfl rfl)
theorem dX2_reason_22 : decode cX2_reason 22 = .ok (.iload_n 1, 1) := dk_27 (dk_at dksX2_reason_0 22 rfl rfl)
theorem dX2_reason_23 : decode cX2_reason 23 = .ok (.ifCond .ne 19, 3) := dk_154 0 19 (dk_at dksX2_reason_1 0 rfl rfl)
theorem dX2_reason_26 : decode cX2_reason 26 = .ok (.iload_n 2, 1) := dk_28 (dk_at dksX2_reason_1 3 rfl rfl)
theorem dX2_reason_27 : decode cX2_reason 27 = .ok (.ifCond .eq 10, 3) := dk_153 0 10 (dk_at dksX2_reason_1 4 rfl rfl)
theorem dX2_reason_30 : decode cX2_reason 30 = .ok (.aload_n 0, 1) := dk_42 (dk_at dksX2_reason_1 7 rfl rfl)
theorem dX2_reason_31 : decode cX2_reason 31 = .ok (.getfield 13, 3) := dk_180 0 13 (dk_at dksX2_reason_1 8 rfl rfl)
theorem dX2_reason_34 : decode cX2_reason 34 = .ok (.goto 7, 3) := dk_167 0 7 (dk_at dksX2_reason_1 11 rfl rfl)
theorem dX2_reason_37 : decode cX2_reason 37 = .ok (.aload_n 0, 1) := dk_42 (dk_at dksX2_reason_1 14 rfl rfl)
theorem dX2_reason_38 : decode cX2_reason 38 = .ok (.getfield 10, 3) := dk_180 0 10 (dk_at dksX2_reason_1 15 rfl rfl)
theorem dX2_reason_41 : decode cX2_reason 41 = .ok (.ireturn, 1) := dk_172 (dk_at dksX2_reason_1 18 rfl rfl)
theorem dX2_reason_42 : decode cX2_reason 42 = .ok (.aload_n 0, 1) := dk_42 (dk_at dksX2_reason_1 19 rfl rfl)
theorem dX2_reason_43 : decode cX2_reason 43 = .ok (.getfield 16, 3) := dk_180 0 16 (dk_at dksX2_reason_1 20 rfl rfl)
theorem dX2_reason_46 : decode cX2_reason 46 = .ok (.ifCond .ne 6, 3) := dk_154 0 6 (dk_at dksX2_reason_2 0 rfl rfl)
theorem dX2_reason_49 : decode cX2_reason 49 = .ok (.bipush (-6), 2) := dk_16 250 (dk_at dksX2_reason_2 3 rfl rfl)
theorem dX2_reason_51 : decode cX2_reason 51 = .ok (.ireturn, 1) := dk_172 (dk_at dksX2_reason_2 5 rfl rfl)
theorem dX2_reason_52 : decode cX2_reason 52 = .ok (.iload_n 2, 1) := dk_28 (dk_at dksX2_reason_2 6 rfl rfl)
theorem dX2_reason_53 : decode cX2_reason 53 = .ok (.ifCond .eq 10, 3) := dk_153 0 10 (dk_at dksX2_reason_2 7 rfl rfl)
theorem dX2_reason_56 : decode cX2_reason 56 = .ok (.aload_n 0, 1) := dk_42 (dk_at dksX2_reason_2 10 rfl rfl)
theorem dX2_reason_57 : decode cX2_reason 57 = .ok (.getfield 23, 3) := dk_180 0 23 (dk_at dksX2_reason_2 11 rfl rfl)
theorem dX2_reason_60 : decode cX2_reason 60 = .ok (.goto 7, 3) := dk_167 0 7 (dk_at dksX2_reason_2 14 rfl rfl)
theorem dX2_reason_63 : decode cX2_reason 63 = .ok (.aload_n 0, 1) := dk_42 (dk_at dksX2_reason_2 17 rfl rfl)
theorem dX2_reason_64 : decode cX2_reason 64 = .ok (.getfield 16, 3) := dk_180 0 16 (dk_at dksX2_reason_2 18 rfl rfl)
theorem dX2_reason_67 : decode cX2_reason 67 = .ok (.ireturn, 1) := dk_172 (dk_at dksX2_reason_2 21 rfl rfl)
abbrev cX2_isBetween : ByteArray := prog_27_method_1_code
def yX2_isBetween : MethodName := ⟨RX2, "isBetween", "(III)Z"⟩
def dkwX2_isBetween_0 : List UInt8 := [27, 26, 163, 0, 12, 26, 28, 163, 0, 7, 4, 167, 0, 4, 3, 172]
abbrev dktX2_isBetween_0 : List UInt8 := dkwX2_isBetween_0 ++ []
theorem dksX2_isBetween_0 : cX2_isBetween.data.toList.drop 0 = dktX2_isBetween_0 := by decide +kernel
theorem dX2_isBetween_0 : decode cX2_isBetween 0 = .ok (.iload_n 1, 1) := dk_27 (dk_at dksX2_isBetween_0 0 rfl rfl)
theorem dX2_isBetween_1 : decode cX2_isBetween 1 = .ok (.iload_n 0, 1) := dk_26 (dk_at dksX2_isBetween_0 1 rfl rfl)
theorem dX2_isBetween_2 : decode cX2_isBetween 2 = .ok (.if_icmp .gt 12, 3) := dk_163 0 12 (dk_at dksX2_isBetween_0 2 rfl rfl)
theorem dX2_isBetween_5 : decode cX2_isBetween 5 = .ok (.iload_n 0, 1) := dk_26 (dk_at dksX2_isBetween_0 5 rfl rfl)
theorem dX2_isBetween_6 : decode cX2_isBetween 6 = .ok (.iload_n 2, 1) := dk_28 (dk_at dksX2_isBetween_0 6 rfl rfl)
theorem dX2_isBetween_7 : decode cX2_isBetween 7 = .ok (.if_icmp .gt 7, 3) := dk_163 0 7 (dk_at dksX2_isBetween_0 7 rfl rfl)
theorem dX2_isBetween_10 : decode cX2_isBetween 10 = .ok (.iconst 1, 1) := dk_4 (dk_at dksX2_isBetween_0 10 rfl rfl)
theorem dX2_isBetween_11 : decode cX2_isBetween 11 = .ok (.goto 4, 3) := dk_167 0 4 (dk_at dksX2_isBetween_0 11 rfl rfl)
theorem dX2_isBetween_14 : decode cX2_isBetween 14 = .ok (.iconst 0, 1) := dk_3 (dk_at dksX2_isBetween_0 14 rfl rfl)
theorem dX2_isBetween_15 : decode cX2_isBetween 15 = .ok (.ireturn, 1) := dk_172 (dk_at dksX2_isBetween_0 15 rfl rfl)
abbrev cX2_init : ByteArray := prog_27_method_5_code
def yX2_init : MethodName := ⟨RX2, "<init>", "()V"⟩
def dkwX2_init_4 : List UInt8 := [27, 7, 162, 0, 19, 42, 180, 0, 32, 16, 14, 27, 96, 5, 79, 132, 1, 1, 167, 255, 238, 177]
abbrev dktX2_init_4 : List UInt8 := dkwX2_init_4 ++ []
def dkwX2_init_3 : List UInt8 := [42, 7, 188, 10, 181, 0, 58, 42, 180, 0, 32, 5, 6, 79, 42, 180, 0, 32, 8, 16, 9, 79, 3, 60]
abbrev dktX2_init_3 : List UInt8 := dkwX2_init_3 ++ dktX2_init_4
def dkwX2_init_2 : List UInt8 := [181, 0, 45, 42, 16, 60, 188, 5, 181, 0, 48, 42, 16, 60, 188, 5, 181, 0, 52, 42, 2, 181, 0, 55]
abbrev dktX2_init_2 : List UInt8 := dkwX2_init_2 ++ dktX2_init_3
def dkwX2_init_1 : List UInt8 := [17, 1, 18, 188, 10, 181, 0, 39, 42, 17, 1, 18, 188, 10, 181, 0, 42, 42, 17, 1, 18, 188, 10]
abbrev dktX2_init_1 : List UInt8 := dkwX2_init_1 ++ dktX2_init_2
def dkwX2_init_0 : List UInt8 := [42, 183, 0, 26, 42, 17, 1, 18, 188, 10, 181, 0, 32, 42, 17, 8, 144, 188, 10, 181, 0, 36, 42]
abbrev dktX2_init_0 : List UInt8 := dkwX2_init_0 ++ dktX2_init_1
theorem dksX2_init_0 : cX2_init.data.toList.drop 0 = dktX2_init_0 := by decide +kernel
theorem dksX2_init_1 : cX2_init.data.toList.drop 23 = dktX2_init_1 := dk_seg dksX2_init_0 23 rfl rfl
theorem dksX2_init_2 : cX2_init.data.toList.drop 46 = dktX2_init_2 := dk_seg dksX2_init_1 23 rfl rfl
theorem dksX2_init_3 : cX2_init.data.toList.drop 70 = dktX2_init_3 := dk_seg dksX2_init_2 24 rfl rfl
theorem dksX2_init_4 : cX2_init.data.toList.drop 94 = dktX2_init_4 := dk_seg dksX2_init_3 24 rfl rfl
theorem dX2_init_0 : decode cX2_init 0 = .ok (.aload_n 0, 1) := dk_42 (dk_at dksX2_init_0 0 rfl rfl)
theorem dX2_init_1 : decode cX2_init 1 = .ok (.invokespecial 26, 3) := dk_183 0 26 (dk_at dksX2_init_0 1 rfl rfl)
theorem dX2_init_4 : decode cX2_init 4 = .ok (.aload_n 0, 1) := dk_42 (dk_at dksX2_init_0 4 rfl rfl)
theorem dX2_init_5 : decode cX2_init 5 = .ok (.sipush 274, 3) := dk_17 1 18 (dk_at dksX2_init_0 5 rfl rfl)
theorem dX2_init_8 : decode cX2_init 8 = .ok (.newarray .int, 2) := dk_188_10 (dk_at dksX2_init_0 8 rfl rfl)
theorem dX2_init_10 : decode cX2_init 10 = .ok (.putfield 32, 3) := dk_181 0 32 (dk_at dksX2_init_0 10 rfl rfl)
theorem dX2_init_13 : decode cX2_init 13 = .ok (.aload_n 0, 1) := dk_42 (dk_at dksX2_init_0 13 rfl rfl)
theorem dX2_init_14 : decode cX2_init 14 = .ok (.sipush 2192, 3) := dk_17 8 144 (dk_at dksX2_init_0 14 rfl rfl)
theorem dX2_init_17 : decode cX2_init 17 = .ok (.newarray .int, 2) := dk_188_10 (dk_at dksX2_init_0 17 rfl rfl)
theorem dX2_init_19 : decode cX2_init 19 = .ok (.putfield 36, 3) := dk_181 0 36 (dk_at dksX2_init_0 19 rfl rfl)
theorem dX2_init_22 : decode cX2_init 22 = .ok (.aload_n 0, 1) := dk_42 (dk_at dksX2_init_0 22 rfl rfl)
theorem dX2_init_23 : decode cX2_init 23 = .ok (.sipush 274, 3) := dk_17 1 18 (dk_at dksX2_init_1 0 rfl rfl)
theorem dX2_init_26 : decode cX2_init 26 = .ok (.newarray .int, 2) := dk_188_10 (dk_at dksX2_init_1 3 rfl rfl)
theorem dX2_init_28 : decode cX2_init 28 = .ok (.putfield 39, 3) := dk_181 0 39 (dk_at dksX2_init_1 5 rfl rfl)
theorem dX2_init_31 : decode cX2_init 31 = .ok (.aload_n 0, 1) := dk_42 (dk_at dksX2_init_1 8 rfl rfl)
theorem dX2_init_32 : decode cX2_init 32 = .ok (.sipush 274, 3) := dk_17 1 18 (dk_at dksX2_init_1 9 rfl rfl)
theorem dX2_init_35 : decode cX2_init 35 = .ok (.newarray .int, 2) := dk_188_10 (dk_at dksX2_init_1 12 rfl rfl)
theorem dX2_init_37 : decode cX2_init 37 = .ok (.putfield 42, 3) := dk_181 0 42 (dk_at dksX2_init_1 14 rfl rfl)
theorem dX2_init_40 : decode cX2_init 40 = .ok (.aload_n 0, 1) := dk_42 (dk_at dksX2_init_1 17 rfl rfl)
theorem dX2_init_41 : decode cX2_init 41 = .ok (.sipush 274, 3) := dk_17 1 18 (dk_at dksX2_init_1 18 rfl rfl)
theorem dX2_init_44 : decode cX2_init 44 = .ok (.newarray .int, 2) := dk_188_10 (dk_at dksX2_init_1 21 rfl rfl)
theorem dX2_init_46 : decode cX2_init 46 = .ok (.putfield 45, 3) := dk_181 0 45 (dk_at dksX2_init_2 0 rfl rfl)
theorem dX2_init_49 : decode cX2_init 49 = .ok (.aload_n 0, 1) := dk_42 (dk_at dksX2_init_2 3 rfl rfl)
theorem dX2_init_50 : decode cX2_init 50 = .ok (.bipush 60, 2) := dk_16 60 (dk_at dksX2_init_2 4 rfl rfl)
theorem dX2_init_52 : decode cX2_init 52 = .ok (.newarray .char, 2) := dk_188_5 (dk_at dksX2_init_2 6 rfl rfl)
theorem dX2_init_54 : decode cX2_init 54 = .ok (.putfield 48, 3) := dk_181 0 48 (dk_at dksX2_init_2 8 rfl rfl)
theorem dX2_init_57 : decode cX2_init 57 = .ok (.aload_n 0, 1) := dk_42 (dk_at dksX2_init_2 11 rfl rfl)
theorem dX2_init_58 : decode cX2_init 58 = .ok (.bipush 60, 2) := dk_16 60 (dk_at dksX2_init_2 12 rfl rfl)
theorem dX2_init_60 : decode cX2_init 60 = .ok (.newarray .char, 2) := dk_188_5 (dk_at dksX2_init_2 14 rfl rfl)
theorem dX2_init_62 : decode cX2_init 62 = .ok (.putfield 52, 3) := dk_181 0 52 (dk_at dksX2_init_2 16 rfl rfl)
theorem dX2_init_65 : decode cX2_init 65 = .ok (.aload_n 0, 1) := dk_42 (dk_at dksX2_init_2 19 rfl rfl)
theorem dX2_init_66 : decode cX2_init 66 = .ok (.iconst (-1), 1) := dk_2 (dk_at dksX2_init_2 20 rfl rfl)
theorem dX2_init_67 : decode cX2_init 67 = .ok (.putfield 55, 3) := dk_181 0 55 (dk_at dksX2_init_2 21 rfl rfl)
theorem dX2_init_70 : decode cX2_init 70 = .ok (.aload_n 0, 1) := dk_42 (dk_at dksX2_init_3 0 rfl rfl)
theorem dX2_init_71 : decode cX2_init 71 = .ok (.iconst 4, 1) := dk_7 (dk_at dksX2_init_3 1 rfl rfl)
theorem dX2_init_72 : decode cX2_init 72 = .ok (.newarray .int, 2) := dk_188_10 (dk_at dksX2_init_3 2 rfl rfl)
theorem dX2_init_74 : decode cX2_init 74 = .ok (.putfield 58, 3) := dk_181 0 58 (dk_at dksX2_init_3 4 rfl rfl)
theorem dX2_init_77 : decode cX2_init 77 = .ok (.aload_n 0, 1) := dk_42 (dk_at dksX2_init_3 7 rfl rfl)
theorem dX2_init_78 : decode cX2_init 78 = .ok (.getfield 32, 3) := dk_180 0 32 (dk_at dksX2_init_3 8 rfl rfl)
theorem dX2_init_81 : decode cX2_init 81 = .ok (.iconst 2, 1) := dk_5 (dk_at dksX2_init_3 11 rfl rfl)
theorem dX2_init_82 : decode cX2_init 82 = .ok (.iconst 3, 1) := dk_6 (dk_at dksX2_init_3 12 rfl rfl)
theorem dX2_init_83 : decode cX2_init 83 = .ok (.iastore, 1) := dk_79 (dk_at dksX2_init_3 13 rfl rfl)
theorem dX2_init_84 : decode cX2_init 84 = .ok (.aload_n 0, 1) := dk_42 (dk_at dksX2_init_3 14 rfl rfl)
theorem dX2_init_85 : decode cX2_init 85 = .ok (.getfield 32, 3) := dk_180 0 32 (dk_at dksX2_init_3 15 rfl rfl)
theorem dX2_init_88 : decode cX2_init 88 = .ok (.iconst 5, 1) := dk_8 (dk_at dksX2_init_3 18 rfl rfl)
theorem dX2_init_89 : decode cX2_init 89 = .ok (.bipush 9, 2) := dk_16 9 (dk_at dksX2_init_3 19 rfl rfl)
theorem dX2_init_91 : decode cX2_init 91 = .ok (.iastore, 1) := dk_79 (dk_at dksX2_init_3 21 rfl rfl)
theorem dX2_init_92 : decode cX2_init 92 = .ok (.iconst 0, 1) := dk_3 (dk_at dksX2_init_3 22 rfl rfl)
theorem dX2_init_93 : decode cX2_init 93 = .ok (.istore_n 1, 1) := dk_60 (dk_at dksX2_init_3 23 rfl rfl)
theorem dX2_init_94 : decode cX2_init 94 = .ok (.iload_n 1, 1) := dk_27 (dk_at dksX2_init_4 0 rfl rfl)
theorem dX2_init_95 : decode cX2_init 95 = .ok (.iconst 4, 1) := dk_7 (dk_at dksX2_init_4 1 rfl rfl)
theorem dX2_init_96 : decode cX2_init 96 = .ok (.if_icmp .ge 19, 3) := dk_162 0 19 (dk_at dksX2_init_4 2 rfl rfl)
theorem dX2_init_99 : decode cX2_init 99 = .ok (.aload_n 0, 1) := dk_42 (dk_at dksX2_init_4 5 rfl rfl)
theorem dX2_init_100 : decode cX2_init 100 = .ok (.getfield 32, 3) := dk_180 0 32 (dk_at dksX2_init_4 6 rfl rfl)
theorem dX2_init_103 : decode cX2_init 103 = .ok (.bipush 14, 2) := dk_16 14 (dk_at dksX2_init_4 9 rfl rfl)
theorem dX2_init_105 : decode cX2_init 105 = .ok (.iload_n 1, 1) := dk_27 (dk_at dksX2_init_4 11 rfl rfl)
theorem dX2_init_106 : decode cX2_init 106 = .ok (.iadd, 1) := dk_96 (dk_at dksX2_init_4 12 rfl rfl)
theorem dX2_init_107 : decode cX2_init 107 = .ok (.iconst 2, 1) := dk_5 (dk_at dksX2_init_4 13 rfl rfl)
theorem dX2_init_108 : decode cX2_init 108 = .ok (.iastore, 1) := dk_79 (dk_at dksX2_init_4 14 rfl rfl)
theorem dX2_init_109 : decode cX2_init 109 = .ok (.iinc 1 1, 3) := dk_132 1 1 (dk_at dksX2_init_4 15 rfl rfl)
theorem dX2_init_112 : decode cX2_init 112 = .ok (.goto (-18), 3) := dk_167 255 238 (dk_at dksX2_init_4 18 rfl rfl)
theorem dX2_init_115 : decode cX2_init 115 = .ok (.return_, 1) := dk_177 (dk_at dksX2_init_4 21 rfl rfl)
abbrev cX2_joke : ByteArray := prog_27_method_21_code
def yX2_joke : MethodName := ⟨RX2, "joke", "(IIII)I"⟩
def dkwX2_joke_1 : List UInt8 := [182, 0, 107, 42, 27, 28, 29, 21, 4, 182, 0, 110, 172]
abbrev dktX2_joke_1 : List UInt8 := dkwX2_joke_1 ++ []
def dkwX2_joke_0 : List UInt8 := [42, 27, 28, 29, 21, 4, 182, 0, 100, 54, 5, 21, 5, 153, 0, 10, 42, 21, 5, 182, 0, 104, 172, 42]
abbrev dktX2_joke_0 : List UInt8 := dkwX2_joke_0 ++ dktX2_joke_1
theorem dksX2_joke_0 : cX2_joke.data.toList.drop 0 = dktX2_joke_0 := by decide +kernel
theorem dksX2_joke_1 : cX2_joke.data.toList.drop 24 = dktX2_joke_1 := dk_seg dksX2_joke_0 24 rfl rfl
theorem dX2_joke_0 : decode cX2_joke 0 = .ok (.aload_n 0, 1) := dk_42 (dk_at dksX2_joke_0 0 rfl rfl)
theorem dX2_joke_1 : decode cX2_joke 1 = .ok (.iload_n 1, 1) := dk_27 (dk_at dksX2_joke_0 1 rfl rfl)
theorem dX2_joke_2 : decode cX2_joke 2 = .ok (.iload_n 2, 1) := dk_28 (dk_at dksX2_joke_0 2 rfl rfl)
theorem dX2_joke_3 : decode cX2_joke 3 = .ok (.iload_n 3, 1) := dk_29 (dk_at dksX2_joke_0 3 rfl rfl)
theorem dX2_joke_4 : decode cX2_joke 4 = .ok (.iload 4, 2) := dk_21 4 (dk_at dksX2_joke_0 4 rfl rfl)
theorem dX2_joke_6 : decode cX2_joke 6 = .ok (.invokevirtual 100, 3) := dk_182 0 100 (dk_at dksX2_joke_0 6 rfl rfl)
theorem dX2_joke_9 : decode cX2_joke 9 = .ok (.istore 5, 2) := dk_54 5 (dk_at dksX2_joke_0 9 rfl rfl)
theorem dX2_joke_11 : decode cX2_joke 11 = .ok (.iload 5, 2) := dk_21 5 (dk_at dksX2_joke_0 11 rfl rfl)
theorem dX2_joke_13 : decode cX2_joke 13 = .ok (.ifCond .eq 10, 3) := dk_153 0 10 (dk_at dksX2_joke_0 13 rfl rfl)
theorem dX2_joke_16 : decode cX2_joke 16 = .ok (.aload_n 0, 1) := dk_42 (dk_at dksX2_joke_0 16 rfl rfl)
theorem dX2_joke_17 : decode cX2_joke 17 = .ok (.iload 5, 2) := dk_21 5 (dk_at dksX2_joke_0 17 rfl rfl)
theorem dX2_joke_19 : decode cX2_joke 19 = .ok (.invokevirtual 104, 3) := dk_182 0 104 (dk_at dksX2_joke_0 19 rfl rfl)
theorem dX2_joke_22 : decode cX2_joke 22 = .ok (.ireturn, 1) := dk_172 (dk_at dksX2_joke_0 22 rfl rfl)
theorem dX2_joke_23 : decode cX2_joke 23 = .ok (.aload_n 0, 1) := dk_42 (dk_at dksX2_joke_0 23 rfl rfl)
theorem dX2_joke_24 : decode cX2_joke 24 = .ok (.invokevirtual 107, 3) := dk_182 0 107 (dk_at dksX2_joke_1 0 rfl rfl)
theorem dX2_joke_27 : decode cX2_joke 27 = .ok (.aload_n 0, 1) := dk_42 (dk_at dksX2_joke_1 3 rfl rfl)
theorem dX2_joke_28 : decode cX2_joke 28 = .ok (.iload_n 1, 1) := dk_27 (dk_at dksX2_joke_1 4 rfl rfl)
theorem dX2_joke_29 : decode cX2_joke 29 = .ok (.iload_n 2, 1) := dk_28 (dk_at dksX2_joke_1 5 rfl rfl)
theorem dX2_joke_30 : decode cX2_joke 30 = .ok (.iload_n 3, 1) := dk_29 (dk_at dksX2_joke_1 6 rfl rfl)
theorem dX2_joke_31 : decode cX2_joke 31 = .ok (.iload 4, 2) := dk_21 4 (dk_at dksX2_joke_1 7 rfl rfl)
theorem dX2_joke_33 : decode cX2_joke 33 = .ok (.invokevirtual 110, 3) := dk_182 0 110 (dk_at dksX2_joke_1 9 rfl rfl)
theorem dX2_joke_36 : decode cX2_joke 36 = .ok (.ireturn, 1) := dk_172 (dk_at dksX2_joke_1 12 rfl rfl)
abbrev cX2_notJoke : ByteArray := prog_27_method_19_code
def yX2_notJoke : MethodName := ⟨RX2, "notJoke", "(IIII)I"⟩
def dkwX2_notJoke_6 : List UInt8 := [3, 172]
abbrev dktX2_notJoke_6 : List UInt8 := dkwX2_notJoke_6 ++ []
def dkwX2_notJoke_5 : List UInt8 := [182, 0, 88, 172, 42, 27, 182, 0, 97, 16, 6, 160, 0, 13, 42, 4, 16, 6, 182, 0, 88, 167, 0, 4]
abbrev dktX2_notJoke_5 : List UInt8 := dkwX2_notJoke_5 ++ dktX2_notJoke_6
def dkwX2_notJoke_4 : List UInt8 := [182, 0, 94, 182, 0, 88, 172, 42, 180, 0, 32, 3, 46, 16, 12, 160, 0, 11, 42, 4, 16, 12]
abbrev dktX2_notJoke_4 : List UInt8 := dkwX2_notJoke_4 ++ dktX2_notJoke_5
def dkwX2_notJoke_3 : List UInt8 := [29, 182, 0, 91, 182, 0, 88, 172, 42, 27, 28, 182, 0, 94, 155, 0, 15, 42, 5, 42, 27, 28]
abbrev dktX2_notJoke_3 : List UInt8 := dkwX2_notJoke_3 ++ dktX2_notJoke_4
def dkwX2_notJoke_2 : List UInt8 := [182, 0, 85, 153, 0, 10, 42, 6, 29, 182, 0, 88, 172, 42, 29, 182, 0, 91, 155, 0, 14, 42, 7, 42]
abbrev dktX2_notJoke_2 : List UInt8 := dkwX2_notJoke_2 ++ dktX2_notJoke_3
def dkwX2_notJoke_1 : List UInt8 := [184, 0, 19, 153, 0, 14, 21, 4, 4, 16, 9, 184, 0, 19, 154, 0, 6, 16, 254, 172, 42, 29]
abbrev dktX2_notJoke_1 : List UInt8 := dkwX2_notJoke_1 ++ dktX2_notJoke_2
def dkwX2_notJoke_0 : List UInt8 := [27, 184, 0, 81, 154, 0, 5, 2, 172, 28, 4, 16, 30, 184, 0, 19, 153, 0, 24, 29, 3, 16, 63]
abbrev dktX2_notJoke_0 : List UInt8 := dkwX2_notJoke_0 ++ dktX2_notJoke_1
theorem dksX2_notJoke_0 : cX2_notJoke.data.toList.drop 0 = dktX2_notJoke_0 := by decide +kernel
theorem dksX2_notJoke_1 : cX2_notJoke.data.toList.drop 23 = dktX2_notJoke_1 := dk_seg dksX2_notJoke_0 23 rfl rfl
theorem dksX2_notJoke_2 : cX2_notJoke.data.toList.drop 45 = dktX2_notJoke_2 := dk_seg dksX2_notJoke_1 22 rfl rfl
theorem dksX2_notJoke_3 : cX2_notJoke.data.toList.drop 69 = dktX2_notJoke_3 := dk_seg dksX2_notJoke_2 24 rfl rfl
theorem dksX2_notJoke_4 : cX2_notJoke.data.toList.drop 91 = dktX2_notJoke_4 := dk_seg dksX2_notJoke_3 22 rfl rfl
theorem dksX2_notJoke_5 : cX2_notJoke.data.toList.drop 113 = dktX2_notJoke_5 := dk_seg dksX2_notJoke_4 22 rfl rfl
theorem dksX2_notJoke_6 : cX2_notJoke.data.toList.drop 137 = dktX2_notJoke_6 := dk_seg dksX2_notJoke_5 24 rfl rfl
theorem dX2_notJoke_0 : decode cX2_notJoke 0 = .ok (.iload_n 1, 1) := dk_27 (dk_at dksX2_notJoke_0 0 rfl rfl)
theorem dX2_notJoke_1 : decode cX2_notJoke 1 = .ok (.invokestatic 81, 3) := dk_184 0 81 (dk_at dksX2_notJoke_0 1 rfl rfl)
theorem dX2_notJoke_4 : decode cX2_notJoke 4 = .ok (.ifCond .ne 5, 3) := dk_154 0 5 (dk_at dksX2_notJoke_0 4 rfl rfl)
theorem dX2_notJoke_7 : decode cX2_notJoke 7 = .ok (.iconst (-1), 1) := dk_2 (dk_at dksX2_notJoke_0 7 rfl rfl)
theorem dX2_notJoke_8 : decode cX2_notJoke 8 = .ok (.ireturn, 1) := dk_172 (dk_at dksX2_notJoke_0 8 rfl rfl)
theorem dX2_notJoke_9 : decode cX2_notJoke 9 = .ok (.iload_n 2, 1) := dk_28 (dk_at dksX2_notJoke_0 9 rfl rfl)
theorem dX2_notJoke_10 : decode cX2_notJoke 10 = .ok (.iconst 1, 1) := dk_4 (dk_at dksX2_notJoke_0 10 rfl rfl)
theorem dX2_notJoke_11 : decode cX2_notJoke 11 = .ok (.bipush 30, 2) := dk_16 30 (dk_at dksX2_notJoke_0 11 rfl rfl)
theorem dX2_notJoke_13 : decode cX2_notJoke 13 = .ok (.invokestatic 19, 3) := dk_184 0 19 (dk_at dksX2_notJoke_0 13 rfl rfl)
theorem dX2_notJoke_16 : decode cX2_notJoke 16 = .ok (.ifCond .eq 24, 3) := dk_153 0 24 (dk_at dksX2_notJoke_0 16 rfl rfl)
theorem dX2_notJoke_19 : decode cX2_notJoke 19 = .ok (.iload_n 3, 1) := dk_29 (dk_at dksX2_notJoke_0 19 rfl rfl)
theorem dX2_notJoke_20 : decode cX2_notJoke 20 = .ok (.iconst 0, 1) := dk_3 (dk_at dksX2_notJoke_0 20 rfl rfl)
theorem dX2_notJoke_21 : decode cX2_notJoke 21 = .ok (.bipush 63, 2) := dk_16 63 (dk_at dksX2_notJoke_0 21 rfl rfl)
theorem dX2_notJoke_23 : decode cX2_notJoke 23 = .ok (.invokestatic 19, 3) := dk_184 0 19 (dk_at dksX2_notJoke_1 0 rfl rfl)
theorem dX2_notJoke_26 : decode cX2_notJoke 26 = .ok (.ifCond .eq 14, 3) := dk_153 0 14 (dk_at dksX2_notJoke_1 3 rfl rfl)
theorem dX2_notJoke_29 : decode cX2_notJoke 29 = .ok (.iload 4, 2) := dk_21 4 (dk_at dksX2_notJoke_1 6 rfl rfl)
theorem dX2_notJoke_31 : decode cX2_notJoke 31 = .ok (.iconst 1, 1) := dk_4 (dk_at dksX2_notJoke_1 8 rfl rfl)
theorem dX2_notJoke_32 : decode cX2_notJoke 32 = .ok (.bipush 9, 2) := dk_16 9 (dk_at dksX2_notJoke_1 9 rfl rfl)
theorem dX2_notJoke_34 : decode cX2_notJoke 34 = .ok (.invokestatic 19, 3) := dk_184 0 19 (dk_at dksX2_notJoke_1 11 rfl rfl)
theorem dX2_notJoke_37 : decode cX2_notJoke 37 = .ok (.ifCond .ne 6, 3) := dk_154 0 6 (dk_at dksX2_notJoke_1 14 rfl rfl)
theorem dX2_notJoke_40 : decode cX2_notJoke 40 = .ok (.bipush (-2), 2) := dk_16 254 (dk_at dksX2_notJoke_1 17 rfl rfl)
theorem dX2_notJoke_42 : decode cX2_notJoke 42 = .ok (.ireturn, 1) := dk_172 (dk_at dksX2_notJoke_1 19 rfl rfl)
theorem dX2_notJoke_43 : decode cX2_notJoke 43 = .ok (.aload_n 0, 1) := dk_42 (dk_at dksX2_notJoke_1 20 rfl rfl)
theorem dX2_notJoke_44 : decode cX2_notJoke 44 = .ok (.iload_n 3, 1) := dk_29 (dk_at dksX2_notJoke_1 21 rfl rfl)
theorem dX2_notJoke_45 : decode cX2_notJoke 45 = .ok (.invokevirtual 85, 3) := dk_182 0 85 (dk_at dksX2_notJoke_2 0 rfl rfl)
theorem dX2_notJoke_48 : decode cX2_notJoke 48 = .ok (.ifCond .eq 10, 3) := dk_153 0 10 (dk_at dksX2_notJoke_2 3 rfl rfl)
theorem dX2_notJoke_51 : decode cX2_notJoke 51 = .ok (.aload_n 0, 1) := dk_42 (dk_at dksX2_notJoke_2 6 rfl rfl)
theorem dX2_notJoke_52 : decode cX2_notJoke 52 = .ok (.iconst 3, 1) := dk_6 (dk_at dksX2_notJoke_2 7 rfl rfl)
theorem dX2_notJoke_53 : decode cX2_notJoke 53 = .ok (.iload_n 3, 1) := dk_29 (dk_at dksX2_notJoke_2 8 rfl rfl)
theorem dX2_notJoke_54 : decode cX2_notJoke 54 = .ok (.invokevirtual 88, 3) := dk_182 0 88 (dk_at dksX2_notJoke_2 9 rfl rfl)
theorem dX2_notJoke_57 : decode cX2_notJoke 57 = .ok (.ireturn, 1) := dk_172 (dk_at dksX2_notJoke_2 12 rfl rfl)
theorem dX2_notJoke_58 : decode cX2_notJoke 58 = .ok (.aload_n 0, 1) := dk_42 (dk_at dksX2_notJoke_2 13 rfl rfl)
theorem dX2_notJoke_59 : decode cX2_notJoke 59 = .ok (.iload_n 3, 1) := dk_29 (dk_at dksX2_notJoke_2 14 rfl rfl)
theorem dX2_notJoke_60 : decode cX2_notJoke 60 = .ok (.invokevirtual 91, 3) := dk_182 0 91 (dk_at dksX2_notJoke_2 15 rfl rfl)
theorem dX2_notJoke_63 : decode cX2_notJoke 63 = .ok (.ifCond .lt 14, 3) := dk_155 0 14 (dk_at dksX2_notJoke_2 18 rfl rfl)
theorem dX2_notJoke_66 : decode cX2_notJoke 66 = .ok (.aload_n 0, 1) := dk_42 (dk_at dksX2_notJoke_2 21 rfl rfl)
theorem dX2_notJoke_67 : decode cX2_notJoke 67 = .ok (.iconst 4, 1) := dk_7 (dk_at dksX2_notJoke_2 22 rfl rfl)
theorem dX2_notJoke_68 : decode cX2_notJoke 68 = .ok (.aload_n 0, 1) := dk_42 (dk_at dksX2_notJoke_2 23 rfl rfl)
theorem dX2_notJoke_69 : decode cX2_notJoke 69 = .ok (.iload_n 3, 1) := dk_29 (dk_at dksX2_notJoke_3 0 rfl rfl)
theorem dX2_notJoke_70 : decode cX2_notJoke 70 = .ok (.invokevirtual 91, 3) := dk_182 0 91 (dk_at dksX2_notJoke_3 1 rfl rfl)
theorem dX2_notJoke_73 : decode cX2_notJoke 73 = .ok (.invokevirtual 88, 3) := dk_182 0 88 (dk_at dksX2_notJoke_3 4 rfl rfl)
theorem dX2_notJoke_76 : decode cX2_notJoke 76 = .ok (.ireturn, 1) := dk_172 (dk_at dksX2_notJoke_3 7 rfl rfl)
theorem dX2_notJoke_77 : decode cX2_notJoke 77 = .ok (.aload_n 0, 1) := dk_42 (dk_at dksX2_notJoke_3 8 rfl rfl)
theorem dX2_notJoke_78 : decode cX2_notJoke 78 = .ok (.iload_n 1, 1) := dk_27 (dk_at dksX2_notJoke_3 9 rfl rfl)
theorem dX2_notJoke_79 : decode cX2_notJoke 79 = .ok (.iload_n 2, 1) := dk_28 (dk_at dksX2_notJoke_3 10 rfl rfl)
theorem dX2_notJoke_80 : decode cX2_notJoke 80 = .ok (.invokevirtual 94, 3) := dk_182 0 94 (dk_at dksX2_notJoke_3 11 rfl rfl)
theorem dX2_notJoke_83 : decode cX2_notJoke 83 = .ok (.ifCond .lt 15, 3) := dk_155 0 15 (dk_at dksX2_notJoke_3 14 rfl rfl)
theorem dX2_notJoke_86 : decode cX2_notJoke 86 = .ok (.aload_n 0, 1) := dk_42 (dk_at dksX2_notJoke_3 17 rfl rfl)
theorem dX2_notJoke_87 : decode cX2_notJoke 87 = .ok (.iconst 2, 1) := dk_5 (dk_at dksX2_notJoke_3 18 rfl rfl)
theorem dX2_notJoke_88 : decode cX2_notJoke 88 = .ok (.aload_n 0, 1) := dk_42 (dk_at dksX2_notJoke_3 19 rfl rfl)
theorem dX2_notJoke_89 : decode cX2_notJoke 89 = .ok (.iload_n 1, 1) := dk_27 (dk_at dksX2_notJoke_3 20 rfl rfl)
theorem dX2_notJoke_90 : decode cX2_notJoke 90 = .ok (.iload_n 2, 1) := dk_28 (dk_at dksX2_notJoke_3 21 rfl rfl)
theorem dX2_notJoke_91 : decode cX2_notJoke 91 = .ok (.invokevirtual 94, 3) := dk_182 0 94 (dk_at dksX2_notJoke_4 0 rfl rfl)
theorem dX2_notJoke_94 : decode cX2_notJoke 94 = .ok (.invokevirtual 88, 3) := dk_182 0 88 (dk_at dksX2_notJoke_4 3 rfl rfl)
theorem dX2_notJoke_97 : decode cX2_notJoke 97 = .ok (.ireturn, 1) := dk_172 (dk_at dksX2_notJoke_4 6 rfl rfl)
theorem dX2_notJoke_98 : decode cX2_notJoke 98 = .ok (.aload_n 0, 1) := dk_42 (dk_at dksX2_notJoke_4 7 rfl rfl)
theorem dX2_notJoke_99 : decode cX2_notJoke 99 = .ok (.getfield 32, 3) := dk_180 0 32 (dk_at dksX2_notJoke_4 8 rfl rfl)
theorem dX2_notJoke_102 : decode cX2_notJoke 102 = .ok (.iconst 0, 1) := dk_3 (dk_at dksX2_notJoke_4 11 rfl rfl)
theorem dX2_notJoke_103 : decode cX2_notJoke 103 = .ok (.iaload, 1) := dk_46 (dk_at dksX2_notJoke_4 12 rfl rfl)
theorem dX2_notJoke_104 : decode cX2_notJoke 104 = .ok (.bipush 12, 2) := dk_16 12 (dk_at dksX2_notJoke_4 13 rfl rfl)
theorem dX2_notJoke_106 : decode cX2_notJoke 106 = .ok (.if_icmp .ne 11, 3) := dk_160 0 11 (dk_at dksX2_notJoke_4 15 rfl rfl)
theorem dX2_notJoke_109 : decode cX2_notJoke 109 = .ok (.aload_n 0, 1) := dk_42 (dk_at dksX2_notJoke_4 18 rfl rfl)
theorem dX2_notJoke_110 : decode cX2_notJoke 110 = .ok (.iconst 1, 1) := dk_4 (dk_at dksX2_notJoke_4 19 rfl rfl)
theorem dX2_notJoke_111 : decode cX2_notJoke 111 = .ok (.bipush 12, 2) := dk_16 12 (dk_at dksX2_notJoke_4 20 rfl rfl)
theorem dX2_notJoke_113 : decode cX2_notJoke 113 = .ok (.invokevirtual 88, 3) := dk_182 0 88 (dk_at dksX2_notJoke_5 0 rfl rfl)
theorem dX2_notJoke_116 : decode cX2_notJoke 116 = .ok (.ireturn, 1) := dk_172 (dk_at dksX2_notJoke_5 3 rfl rfl)
theorem dX2_notJoke_117 : decode cX2_notJoke 117 = .ok (.aload_n 0, 1) := dk_42 (dk_at dksX2_notJoke_5 4 rfl rfl)
theorem dX2_notJoke_118 : decode cX2_notJoke 118 = .ok (.iload_n 1, 1) := dk_27 (dk_at dksX2_notJoke_5 5 rfl rfl)
theorem dX2_notJoke_119 : decode cX2_notJoke 119 = .ok (.invokevirtual 97, 3) := dk_182 0 97 (dk_at dksX2_notJoke_5 6 rfl rfl)
theorem dX2_notJoke_122 : decode cX2_notJoke 122 = .ok (.bipush 6, 2) := dk_16 6 (dk_at dksX2_notJoke_5 9 rfl rfl)
theorem dX2_notJoke_124 : decode cX2_notJoke 124 = .ok (.if_icmp .ne 13, 3) := dk_160 0 13 (dk_at dksX2_notJoke_5 11 rfl rfl)
theorem dX2_notJoke_127 : decode cX2_notJoke 127 = .ok (.aload_n 0, 1) := dk_42 (dk_at dksX2_notJoke_5 14 rfl rfl)
theorem dX2_notJoke_128 : decode cX2_notJoke 128 = .ok (.iconst 1, 1) := dk_4 (dk_at dksX2_notJoke_5 15 rfl rfl)
theorem dX2_notJoke_129 : decode cX2_notJoke 129 = .ok (.bipush 6, 2) := dk_16 6 (dk_at dksX2_notJoke_5 16 rfl rfl)
theorem dX2_notJoke_131 : decode cX2_notJoke 131 = .ok (.invokevirtual 88, 3) := dk_182 0 88 (dk_at dksX2_notJoke_5 18 rfl rfl)
theorem dX2_notJoke_134 : decode cX2_notJoke 134 = .ok (.goto 4, 3) := dk_167 0 4 (dk_at dksX2_notJoke_5 21 rfl rfl)
theorem dX2_notJoke_137 : decode cX2_notJoke 137 = .ok (.iconst 0, 1) := dk_3 (dk_at dksX2_notJoke_6 0 rfl rfl)
theorem dX2_notJoke_138 : decode cX2_notJoke 138 = .ok (.ireturn, 1) := dk_172 (dk_at dksX2_notJoke_6 1 rfl rfl)
abbrev cX2_isWell : ByteArray := prog_27_method_12_code
def yX2_isWell : MethodName := ⟨RX2, "isWell", "(I)Z"⟩
def dkwX2_isWell_0 : List UInt8 := [26, 3, 6, 184, 0, 19, 172]
abbrev dktX2_isWell_0 : List UInt8 := dkwX2_isWell_0 ++ []
theorem dksX2_isWell_0 : cX2_isWell.data.toList.drop 0 = dktX2_isWell_0 := by decide +kernel
theorem dX2_isWell_0 : decode cX2_isWell 0 = .ok (.iload_n 0, 1) := dk_26 (dk_at dksX2_isWell_0 0 rfl rfl)
theorem dX2_isWell_1 : decode cX2_isWell 1 = .ok (.iconst 0, 1) := dk_3 (dk_at dksX2_isWell_0 1 rfl rfl)
theorem dX2_isWell_2 : decode cX2_isWell 2 = .ok (.iconst 3, 1) := dk_6 (dk_at dksX2_isWell_0 2 rfl rfl)
theorem dX2_isWell_3 : decode cX2_isWell 3 = .ok (.invokestatic 19, 3) := dk_184 0 19 (dk_at dksX2_isWell_0 3 rfl rfl)
theorem dX2_isWell_6 : decode cX2_isWell 6 = .ok (.ireturn, 1) := dk_172 (dk_at dksX2_isWell_0 6 rfl rfl)
abbrev cX2_isKnownSign : ByteArray := prog_27_method_13_code
def yX2_isKnownSign : MethodName := ⟨RX2, "isKnownSign", "(I)Z"⟩
def dkwX2_isKnownSign_1 : List UInt8 := [167, 0, 4, 3, 172]
abbrev dktX2_isKnownSign_1 : List UInt8 := dkwX2_isKnownSign_1 ++ []
def dkwX2_isKnownSign_0 : List UInt8 := [42, 180, 0, 32, 16, 12, 27, 16, 32, 108, 96, 46, 27, 16, 32, 112, 122, 4, 126, 4, 160, 0, 7, 4]
abbrev dktX2_isKnownSign_0 : List UInt8 := dkwX2_isKnownSign_0 ++ dktX2_isKnownSign_1
theorem dksX2_isKnownSign_0 : cX2_isKnownSign.data.toList.drop 0 = dktX2_isKnownSign_0 := by decide +kernel
theorem dksX2_isKnownSign_1 : cX2_isKnownSign.data.toList.drop 24 = dktX2_isKnownSign_1 := dk_seg dksX2_isKnownSign_0 24 rfl rfl
theorem dX2_isKnownSign_0 : decode cX2_isKnownSign 0 = .ok (.aload_n 0, 1) := dk_42 (dk_at dksX2_isKnownSign_0 0 rfl rfl)
theorem dX2_isKnownSign_1 : decode cX2_isKnownSign 1 = .ok (.getfield 32, 3) := dk_180 0 32 (dk_at dksX2_isKnownSign_0 1 rfl rfl)
theorem dX2_isKnownSign_4 : decode cX2_isKnownSign 4 = .ok (.bipush 12, 2) := dk_16 12 (dk_at dksX2_isKnownSign_0 4 rfl rfl)
theorem dX2_isKnownSign_6 : decode cX2_isKnownSign 6 = .ok (.iload_n 1, 1) := dk_27 (dk_at dksX2_isKnownSign_0 6 rfl rfl)
theorem dX2_isKnownSign_7 : decode cX2_isKnownSign 7 = .ok (.bipush 32, 2) := dk_16 32 (dk_at dksX2_isKnownSign_0 7 rfl rfl)
theorem dX2_isKnownSign_9 : decode cX2_isKnownSign 9 = .ok (.idiv, 1) := dk_108 (dk_at dksX2_isKnownSign_0 9 rfl rfl)
theorem dX2_isKnownSign_10 : decode cX2_isKnownSign 10 = .ok (.iadd, 1) := dk_96 (dk_at dksX2_isKnownSign_0 10 rfl rfl)
theorem dX2_isKnownSign_11 : decode cX2_isKnownSign 11 = .ok (.iaload, 1) := dk_46 (dk_at dksX2_isKnownSign_0 11 rfl rfl)
theorem dX2_isKnownSign_12 : decode cX2_isKnownSign 12 = .ok (.iload_n 1, 1) := dk_27 (dk_at dksX2_isKnownSign_0 12 rfl rfl)
theorem dX2_isKnownSign_13 : decode cX2_isKnownSign 13 = .ok (.bipush 32, 2) := dk_16 32 (dk_at dksX2_isKnownSign_0 13 rfl rfl)
theorem dX2_isKnownSign_15 : decode cX2_isKnownSign 15 = .ok (.irem, 1) := dk_112 (dk_at dksX2_isKnownSign_0 15 rfl rfl)
theorem dX2_isKnownSign_16 : decode cX2_isKnownSign 16 = .ok (.ishr, 1) := dk_122 (dk_at dksX2_isKnownSign_0 16 rfl rfl)
theorem dX2_isKnownSign_17 : decode cX2_isKnownSign 17 = .ok (.iconst 1, 1) := dk_4 (dk_at dksX2_isKnownSign_0 17 rfl rfl)
theorem dX2_isKnownSign_18 : decode cX2_isKnownSign 18 = .ok (.iand, 1) := dk_126 (dk_at dksX2_isKnownSign_0 18 rfl rfl)
theorem dX2_isKnownSign_19 : decode cX2_isKnownSign 19 = .ok (.iconst 1, 1) := dk_4 (dk_at dksX2_isKnownSign_0 19 rfl rfl)
theorem dX2_isKnownSign_20 : decode cX2_isKnownSign 20 = .ok (.if_icmp .ne 7, 3) := dk_160 0 7 (dk_at dksX2_isKnownSign_0 20 rfl rfl)
theorem dX2_isKnownSign_23 : decode cX2_isKnownSign 23 = .ok (.iconst 1, 1) := dk_4 (dk_at dksX2_isKnownSign_0 23 rfl rfl)
theorem dX2_isKnownSign_24 : decode cX2_isKnownSign 24 = .ok (.goto 4, 3) := dk_167 0 4 (dk_at dksX2_isKnownSign_1 0 rfl rfl)
theorem dX2_isKnownSign_27 : decode cX2_isKnownSign 27 = .ok (.iconst 0, 1) := dk_3 (dk_at dksX2_isKnownSign_1 3 rfl rfl)
theorem dX2_isKnownSign_28 : decode cX2_isKnownSign 28 = .ok (.ireturn, 1) := dk_172 (dk_at dksX2_isKnownSign_1 4 rfl rfl)
abbrev cX2_isNot : ByteArray := prog_27_method_2_code
def yX2_isNot : MethodName := ⟨RX2, "isNot", "(II)I"⟩
def dkwX2_isNot_0 : List UInt8 := [42, 27, 181, 0, 1, 42, 28, 181, 0, 7, 16, 251, 172]
abbrev dktX2_isNot_0 : List UInt8 := dkwX2_isNot_0 ++ []
theorem dksX2_isNot_0 : cX2_isNot.data.toList.drop 0 = dktX2_isNot_0 := by decide +kernel
theorem dX2_isNot_0 : decode cX2_isNot 0 = .ok (.aload_n 0, 1) := dk_42 (dk_at dksX2_isNot_0 0 rfl rfl)
theorem dX2_isNot_1 : decode cX2_isNot 1 = .ok (.iload_n 1, 1) := dk_27 (dk_at dksX2_isNot_0 1 rfl rfl)
theorem dX2_isNot_2 : decode cX2_isNot 2 = .ok (.putfield 1, 3) := dk_181 0 1 (dk_at dksX2_isNot_0 2 rfl rfl)
theorem dX2_isNot_5 : decode cX2_isNot 5 = .ok (.aload_n 0, 1) := dk_42 (dk_at dksX2_isNot_0 5 rfl rfl)
theorem dX2_isNot_6 : decode cX2_isNot 6 = .ok (.iload_n 2, 1) := dk_28 (dk_at dksX2_isNot_0 6 rfl rfl)
theorem dX2_isNot_7 : decode cX2_isNot 7 = .ok (.putfield 7, 3) := dk_181 0 7 (dk_at dksX2_isNot_0 7 rfl rfl)
theorem dX2_isNot_10 : decode cX2_isNot 10 = .ok (.bipush (-5), 2) := dk_16 251 (dk_at dksX2_isNot_0 10 rfl rfl)
theorem dX2_isNot_12 : decode cX2_isNot 12 = .ok (.ireturn, 1) := dk_172 (dk_at dksX2_isNot_0 12 rfl rfl)
abbrev cX2_jokeWith : ByteArray := prog_27_method_15_code
def yX2_jokeWith : MethodName := ⟨RX2, "jokeWith", "(I)I"⟩
def dkwX2_jokeWith_1 : List UInt8 := [132, 2, 1, 167, 255, 231, 2, 172]
abbrev dktX2_jokeWith_1 : List UInt8 := dkwX2_jokeWith_1 ++ []
def dkwX2_jokeWith_0 : List UInt8 := [3, 61, 28, 42, 180, 0, 32, 3, 46, 162, 0, 21, 42, 28, 5, 182, 0, 73, 27, 160, 0, 5, 28, 172]
abbrev dktX2_jokeWith_0 : List UInt8 := dkwX2_jokeWith_0 ++ dktX2_jokeWith_1
theorem dksX2_jokeWith_0 : cX2_jokeWith.data.toList.drop 0 = dktX2_jokeWith_0 := by decide +kernel
theorem dksX2_jokeWith_1 : cX2_jokeWith.data.toList.drop 24 = dktX2_jokeWith_1 := dk_seg dksX2_jokeWith_0 24 rfl rfl
theorem dX2_jokeWith_0 : decode cX2_jokeWith 0 = .ok (.iconst 0, 1) := dk_3 (dk_at dksX2_jokeWith_0 0 rfl rfl)
theorem dX2_jokeWith_1 : decode cX2_jokeWith 1 = .ok (.istore_n 2, 1) := dk_61 (dk_at dksX2_jokeWith_0 1 rfl rfl)
theorem dX2_jokeWith_2 : decode cX2_jokeWith 2 = .ok (.iload_n 2, 1) := dk_28 (dk_at dksX2_jokeWith_0 2 rfl rfl)
theorem dX2_jokeWith_3 : decode cX2_jokeWith 3 = .ok (.aload_n 0, 1) := dk_42 (dk_at dksX2_jokeWith_0 3 rfl rfl)
theorem dX2_jokeWith_4 : decode cX2_jokeWith 4 = .ok (.getfield 32, 3) := dk_180 0 32 (dk_at dksX2_jokeWith_0 4 rfl rfl)
theorem dX2_jokeWith_7 : decode cX2_jokeWith 7 = .ok (.iconst 0, 1) := dk_3 (dk_at dksX2_jokeWith_0 7 rfl rfl)
theorem dX2_jokeWith_8 : decode cX2_jokeWith 8 = .ok (.iaload, 1) := dk_46 (dk_at dksX2_jokeWith_0 8 rfl rfl)
theorem dX2_jokeWith_9 : decode cX2_jokeWith 9 = .ok (.if_icmp .ge 21, 3) := dk_162 0 21 (dk_at dksX2_jokeWith_0 9 rfl rfl)
theorem dX2_jokeWith_12 : decode cX2_jokeWith 12 = .ok (.aload_n 0, 1) := dk_42 (dk_at dksX2_jokeWith_0 12 rfl rfl)
theorem dX2_jokeWith_13 : decode cX2_jokeWith 13 = .ok (.iload_n 2, 1) := dk_28 (dk_at dksX2_jokeWith_0 13 rfl rfl)
theorem dX2_jokeWith_14 : decode cX2_jokeWith 14 = .ok (.iconst 2, 1) := dk_5 (dk_at dksX2_jokeWith_0 14 rfl rfl)
theorem dX2_jokeWith_15 : decode cX2_jokeWith 15 = .ok (.invokevirtual 73, 3) := dk_182 0 73 (dk_at dksX2_jokeWith_0 15 rfl rfl)
theorem dX2_jokeWith_18 : decode cX2_jokeWith 18 = .ok (.iload_n 1, 1) := dk_27 (dk_at dksX2_jokeWith_0 18 rfl rfl)
theorem dX2_jokeWith_19 : decode cX2_jokeWith 19 = .ok (.if_icmp .ne 5, 3) := dk_160 0 5 (dk_at dksX2_jokeWith_0 19 rfl rfl)
theorem dX2_jokeWith_22 : decode cX2_jokeWith 22 = .ok (.iload_n 2, 1) := dk_28 (dk_at dksX2_jokeWith_0 22 rfl rfl)
theorem dX2_jokeWith_23 : decode cX2_jokeWith 23 = .ok (.ireturn, 1) := dk_172 (dk_at dksX2_jokeWith_0 23 rfl rfl)
theorem dX2_jokeWith_24 : decode cX2_jokeWith 24 = .ok (.iinc 2 1, 3) := dk_132 2 1 (dk_at dksX2_jokeWith_1 0 rfl rfl)
theorem dX2_jokeWith_27 : decode cX2_jokeWith 27 = .ok (.goto (-25), 3) := dk_167 255 231 (dk_at dksX2_jokeWith_1 3 rfl rfl)
theorem dX2_jokeWith_30 : decode cX2_jokeWith 30 = .ok (.iconst (-1), 1) := dk_2 (dk_at dksX2_jokeWith_1 6 rfl rfl)
theorem dX2_jokeWith_31 : decode cX2_jokeWith 31 = .ok (.ireturn, 1) := dk_172 (dk_at dksX2_jokeWith_1 7 rfl rfl)
abbrev cX2_is : ByteArray := prog_27_method_10_code
def yX2_is : MethodName := ⟨RX2, "is", "(II)I"⟩
def dkwX2_is_0 : List UInt8 := [42, 180, 0, 32, 16, 22, 8, 27, 104, 96, 28, 96, 46, 172]
abbrev dktX2_is_0 : List UInt8 := dkwX2_is_0 ++ []
theorem dksX2_is_0 : cX2_is.data.toList.drop 0 = dktX2_is_0 := by decide +kernel
theorem dX2_is_0 : decode cX2_is 0 = .ok (.aload_n 0, 1) := dk_42 (dk_at dksX2_is_0 0 rfl rfl)
theorem dX2_is_1 : decode cX2_is 1 = .ok (.getfield 32, 3) := dk_180 0 32 (dk_at dksX2_is_0 1 rfl rfl)
theorem dX2_is_4 : decode cX2_is 4 = .ok (.bipush 22, 2) := dk_16 22 (dk_at dksX2_is_0 4 rfl rfl)
theorem dX2_is_6 : decode cX2_is 6 = .ok (.iconst 5, 1) := dk_8 (dk_at dksX2_is_0 6 rfl rfl)
theorem dX2_is_7 : decode cX2_is 7 = .ok (.iload_n 1, 1) := dk_27 (dk_at dksX2_is_0 7 rfl rfl)
theorem dX2_is_8 : decode cX2_is 8 = .ok (.imul, 1) := dk_104 (dk_at dksX2_is_0 8 rfl rfl)
theorem dX2_is_9 : decode cX2_is 9 = .ok (.iadd, 1) := dk_96 (dk_at dksX2_is_0 9 rfl rfl)
theorem dX2_is_10 : decode cX2_is 10 = .ok (.iload_n 2, 1) := dk_28 (dk_at dksX2_is_0 10 rfl rfl)
theorem dX2_is_11 : decode cX2_is 11 = .ok (.iadd, 1) := dk_96 (dk_at dksX2_is_0 11 rfl rfl)
theorem dX2_is_12 : decode cX2_is 12 = .ok (.iaload, 1) := dk_46 (dk_at dksX2_is_0 12 rfl rfl)
theorem dX2_is_13 : decode cX2_is 13 = .ok (.ireturn, 1) := dk_172 (dk_at dksX2_is_0 13 rfl rfl)
abbrev cX2_jokeAt : ByteArray := prog_27_method_16_code
def yX2_jokeAt : MethodName := ⟨RX2, "jokeAt", "(II)I"⟩
def dkwX2_jokeAt_1 : List UInt8 := [4, 182, 0, 73, 28, 160, 0, 5, 29, 172, 132, 3, 1, 167, 255, 221, 2, 172]
abbrev dktX2_jokeAt_1 : List UInt8 := dkwX2_jokeAt_1 ++ []
def dkwX2_jokeAt_0 : List UInt8 := [3, 62, 29, 42, 180, 0, 32, 3, 46, 162, 0, 31, 42, 29, 3, 182, 0, 73, 27, 160, 0, 15, 42, 29]
abbrev dktX2_jokeAt_0 : List UInt8 := dkwX2_jokeAt_0 ++ dktX2_jokeAt_1
theorem dksX2_jokeAt_0 : cX2_jokeAt.data.toList.drop 0 = dktX2_jokeAt_0 := by decide +kernel
theorem dksX2_jokeAt_1 : cX2_jokeAt.data.toList.drop 24 = dktX2_jokeAt_1 := dk_seg dksX2_jokeAt_0 24 rfl rfl
theorem dX2_jokeAt_0 : decode cX2_jokeAt 0 = .ok (.iconst 0, 1) := dk_3 (dk_at dksX2_jokeAt_0 0 rfl rfl)
theorem dX2_jokeAt_1 : decode cX2_jokeAt 1 = .ok (.istore_n 3, 1) := dk_62 (dk_at dksX2_jokeAt_0 1 rfl rfl)
theorem dX2_jokeAt_2 : decode cX2_jokeAt 2 = .ok (.iload_n 3, 1) := dk_29 (dk_at dksX2_jokeAt_0 2 rfl rfl)
theorem dX2_jokeAt_3 : decode cX2_jokeAt 3 = .ok (.aload_n 0, 1) := dk_42 (dk_at dksX2_jokeAt_0 3 rfl rfl)
theorem dX2_jokeAt_4 : decode cX2_jokeAt 4 = .ok (.getfield 32, 3) := dk_180 0 32 (dk_at dksX2_jokeAt_0 4 rfl rfl)
theorem dX2_jokeAt_7 : decode cX2_jokeAt 7 = .ok (.iconst 0, 1) := dk_3 (dk_at dksX2_jokeAt_0 7 rfl rfl)
theorem dX2_jokeAt_8 : decode cX2_jokeAt 8 = .ok (.iaload, 1) := dk_46 (dk_at dksX2_jokeAt_0 8 rfl rfl)
theorem dX2_jokeAt_9 : decode cX2_jokeAt 9 = .ok (.if_icmp .ge 31, 3) := dk_162 0 31 (dk_at dksX2_jokeAt_0 9 rfl rfl)
theorem dX2_jokeAt_12 : decode cX2_jokeAt 12 = .ok (.aload_n 0, 1) := dk_42 (dk_at dksX2_jokeAt_0 12 rfl rfl)
theorem dX2_jokeAt_13 : decode cX2_jokeAt 13 = .ok (.iload_n 3, 1) := dk_29 (dk_at dksX2_jokeAt_0 13 rfl rfl)
theorem dX2_jokeAt_14 : decode cX2_jokeAt 14 = .ok (.iconst 0, 1) := dk_3 (dk_at dksX2_jokeAt_0 14 rfl rfl)
theorem dX2_jokeAt_15 : decode cX2_jokeAt 15 = .ok (.invokevirtual 73, 3) := dk_182 0 73 (dk_at dksX2_jokeAt_0 15 rfl rfl)
theorem dX2_jokeAt_18 : decode cX2_jokeAt 18 = .ok (.iload_n 1, 1) := dk_27 (dk_at dksX2_jokeAt_0 18 rfl rfl)
theorem dX2_jokeAt_19 : decode cX2_jokeAt 19 = .ok (.if_icmp .ne 15, 3) := dk_160 0 15 (dk_at dksX2_jokeAt_0 19 rfl rfl)
theorem dX2_jokeAt_22 : decode cX2_jokeAt 22 = .ok (.aload_n 0, 1) := dk_42 (dk_at dksX2_jokeAt_0 22 rfl rfl)
theorem dX2_jokeAt_23 : decode cX2_jokeAt 23 = .ok (.iload_n 3, 1) := dk_29 (dk_at dksX2_jokeAt_0 23 rfl rfl)
theorem dX2_jokeAt_24 : decode cX2_jokeAt 24 = .ok (.iconst 1, 1) := dk_4 (dk_at dksX2_jokeAt_1 0 rfl rfl)
theorem dX2_jokeAt_25 : decode cX2_jokeAt 25 = .ok (.invokevirtual 73, 3) := dk_182 0 73 (dk_at dksX2_jokeAt_1 1 rfl rfl)
theorem dX2_jokeAt_28 : decode cX2_jokeAt 28 = .ok (.iload_n 2, 1) := dk_28 (dk_at dksX2_jokeAt_1 4 rfl rfl)
theorem dX2_jokeAt_29 : decode cX2_jokeAt 29 = .ok (.if_icmp .ne 5, 3) := dk_160 0 5 (dk_at dksX2_jokeAt_1 5 rfl rfl)
theorem dX2_jokeAt_32 : decode cX2_jokeAt 32 = .ok (.iload_n 3, 1) := dk_29 (dk_at dksX2_jokeAt_1 8 rfl rfl)
theorem dX2_jokeAt_33 : decode cX2_jokeAt 33 = .ok (.ireturn, 1) := dk_172 (dk_at dksX2_jokeAt_1 9 rfl rfl)
theorem dX2_jokeAt_34 : decode cX2_jokeAt 34 = .ok (.iinc 3 1, 3) := dk_132 3 1 (dk_at dksX2_jokeAt_1 10 rfl rfl)
theorem dX2_jokeAt_37 : decode cX2_jokeAt 37 = .ok (.goto (-35), 3) := dk_167 255 221 (dk_at dksX2_jokeAt_1 13 rfl rfl)
theorem dX2_jokeAt_40 : decode cX2_jokeAt 40 = .ok (.iconst (-1), 1) := dk_2 (dk_at dksX2_jokeAt_1 16 rfl rfl)
theorem dX2_jokeAt_41 : decode cX2_jokeAt 41 = .ok (.ireturn, 1) := dk_172 (dk_at dksX2_jokeAt_1 17 rfl rfl)
abbrev cX2_jokesIn : ByteArray := prog_27_method_14_code
def yX2_jokesIn : MethodName := ⟨RX2, "jokesIn", "(I)I"⟩
def dkwX2_jokesIn_1 : List UInt8 := [160, 0, 7, 4, 167, 0, 4, 3, 96, 61, 132, 3, 1, 167, 255, 225, 28, 172]
abbrev dktX2_jokesIn_1 : List UInt8 := dkwX2_jokesIn_1 ++ []
def dkwX2_jokesIn_0 : List UInt8 := [3, 61, 3, 62, 29, 42, 180, 0, 32, 3, 46, 162, 0, 27, 28, 42, 29, 3, 182, 0, 73, 27]
abbrev dktX2_jokesIn_0 : List UInt8 := dkwX2_jokesIn_0 ++ dktX2_jokesIn_1
theorem dksX2_jokesIn_0 : cX2_jokesIn.data.toList.drop 0 = dktX2_jokesIn_0 := by decide +kernel
theorem dksX2_jokesIn_1 : cX2_jokesIn.data.toList.drop 22 = dktX2_jokesIn_1 := dk_seg dksX2_jokesIn_0 22 rfl rfl
theorem dX2_jokesIn_0 : decode cX2_jokesIn 0 = .ok (.iconst 0, 1) := dk_3 (dk_at dksX2_jokesIn_0 0 rfl rfl)
theorem dX2_jokesIn_1 : decode cX2_jokesIn 1 = .ok (.istore_n 2, 1) := dk_61 (dk_at dksX2_jokesIn_0 1 rfl rfl)
theorem dX2_jokesIn_2 : decode cX2_jokesIn 2 = .ok (.iconst 0, 1) := dk_3 (dk_at dksX2_jokesIn_0 2 rfl rfl)
theorem dX2_jokesIn_3 : decode cX2_jokesIn 3 = .ok (.istore_n 3, 1) := dk_62 (dk_at dksX2_jokesIn_0 3 rfl rfl)
theorem dX2_jokesIn_4 : decode cX2_jokesIn 4 = .ok (.iload_n 3, 1) := dk_29 (dk_at dksX2_jokesIn_0 4 rfl rfl)
theorem dX2_jokesIn_5 : decode cX2_jokesIn 5 = .ok (.aload_n 0, 1) := dk_42 (dk_at dksX2_jokesIn_0 5 rfl rfl)
theorem dX2_jokesIn_6 : decode cX2_jokesIn 6 = .ok (.getfield 32, 3) := dk_180 0 32 (dk_at dksX2_jokesIn_0 6 rfl rfl)
theorem dX2_jokesIn_9 : decode cX2_jokesIn 9 = .ok (.iconst 0, 1) := dk_3 (dk_at dksX2_jokesIn_0 9 rfl rfl)
theorem dX2_jokesIn_10 : decode cX2_jokesIn 10 = .ok (.iaload, 1) := dk_46 (dk_at dksX2_jokesIn_0 10 rfl rfl)
theorem dX2_jokesIn_11 : decode cX2_jokesIn 11 = .ok (.if_icmp .ge 27, 3) := dk_162 0 27 (dk_at dksX2_jokesIn_0 11 rfl rfl)
theorem dX2_jokesIn_14 : decode cX2_jokesIn 14 = .ok (.iload_n 2, 1) := dk_28 (dk_at dksX2_jokesIn_0 14 rfl rfl)
theorem dX2_jokesIn_15 : decode cX2_jokesIn 15 = .ok (.aload_n 0, 1) := dk_42 (dk_at dksX2_jokesIn_0 15 rfl rfl)
theorem dX2_jokesIn_16 : decode cX2_jokesIn 16 = .ok (.iload_n 3, 1) := dk_29 (dk_at dksX2_jokesIn_0 16 rfl rfl)
theorem dX2_jokesIn_17 : decode cX2_jokesIn 17 = .ok (.iconst 0, 1) := dk_3 (dk_at dksX2_jokesIn_0 17 rfl rfl)
theorem dX2_jokesIn_18 : decode cX2_jokesIn 18 = .ok (.invokevirtual 73, 3) := dk_182 0 73 (dk_at dksX2_jokesIn_0 18 rfl rfl)
theorem dX2_jokesIn_21 : decode cX2_jokesIn 21 = .ok (.iload_n 1, 1) := dk_27 (dk_at dksX2_jokesIn_0 21 rfl rfl)
theorem dX2_jokesIn_22 : decode cX2_jokesIn 22 = .ok (.if_icmp .ne 7, 3) := dk_160 0 7 (dk_at dksX2_jokesIn_1 0 rfl rfl)
theorem dX2_jokesIn_25 : decode cX2_jokesIn 25 = .ok (.iconst 1, 1) := dk_4 (dk_at dksX2_jokesIn_1 3 rfl rfl)
theorem dX2_jokesIn_26 : decode cX2_jokesIn 26 = .ok (.goto 4, 3) := dk_167 0 4 (dk_at dksX2_jokesIn_1 4 rfl rfl)
theorem dX2_jokesIn_29 : decode cX2_jokesIn 29 = .ok (.iconst 0, 1) := dk_3 (dk_at dksX2_jokesIn_1 7 rfl rfl)
theorem dX2_jokesIn_30 : decode cX2_jokesIn 30 = .ok (.iadd, 1) := dk_96 (dk_at dksX2_jokesIn_1 8 rfl rfl)
theorem dX2_jokesIn_31 : decode cX2_jokesIn 31 = .ok (.istore_n 2, 1) := dk_61 (dk_at dksX2_jokesIn_1 9 rfl rfl)
theorem dX2_jokesIn_32 : decode cX2_jokesIn 32 = .ok (.iinc 3 1, 3) := dk_132 3 1 (dk_at dksX2_jokesIn_1 10 rfl rfl)
theorem dX2_jokesIn_35 : decode cX2_jokesIn 35 = .ok (.goto (-31), 3) := dk_167 255 225 (dk_at dksX2_jokesIn_1 13 rfl rfl)
theorem dX2_jokesIn_38 : decode cX2_jokesIn 38 = .ok (.iload_n 2, 1) := dk_28 (dk_at dksX2_jokesIn_1 16 rfl rfl)
theorem dX2_jokesIn_39 : decode cX2_jokesIn 39 = .ok (.ireturn, 1) := dk_172 (dk_at dksX2_jokesIn_1 17 rfl rfl)
abbrev cX2_answers : ByteArray := prog_27_method_3_code
def yX2_answers : MethodName := ⟨RX2, "answers", "(I)I"⟩
def dkwX2_answers_1 : List UInt8 := [42, 3, 181, 0, 16, 27, 172]
abbrev dktX2_answers_1 : List UInt8 := dkwX2_answers_1 ++ []
def dkwX2_answers_0 : List UInt8 := [27, 16, 251, 159, 0, 5, 27, 172, 42, 42, 180, 0, 1, 181, 0, 10, 42, 42, 180, 0, 7, 181, 0, 13]
abbrev dktX2_answers_0 : List UInt8 := dkwX2_answers_0 ++ dktX2_answers_1
theorem dksX2_answers_0 : cX2_answers.data.toList.drop 0 = dktX2_answers_0 := by decide +kernel
theorem dksX2_answers_1 : cX2_answers.data.toList.drop 24 = dktX2_answers_1 := dk_seg dksX2_answers_0 24 rfl rfl
theorem dX2_answers_0 : decode cX2_answers 0 = .ok (.iload_n 1, 1) := dk_27 (dk_at dksX2_answers_0 0 rfl rfl)
theorem dX2_answers_1 : decode cX2_answers 1 = .ok (.bipush (-5), 2) := dk_16 251 (dk_at dksX2_answers_0 1 rfl rfl)
theorem dX2_answers_3 : decode cX2_answers 3 = .ok (.if_icmp .eq 5, 3) := dk_159 0 5 (dk_at dksX2_answers_0 3 rfl rfl)
theorem dX2_answers_6 : decode cX2_answers 6 = .ok (.iload_n 1, 1) := dk_27 (dk_at dksX2_answers_0 6 rfl rfl)
theorem dX2_answers_7 : decode cX2_answers 7 = .ok (.ireturn, 1) := dk_172 (dk_at dksX2_answers_0 7 rfl rfl)
theorem dX2_answers_8 : decode cX2_answers 8 = .ok (.aload_n 0, 1) := dk_42 (dk_at dksX2_answers_0 8 rfl rfl)
theorem dX2_answers_9 : decode cX2_answers 9 = .ok (.aload_n 0, 1) := dk_42 (dk_at dksX2_answers_0 9 rfl rfl)
theorem dX2_answers_10 : decode cX2_answers 10 = .ok (.getfield 1, 3) := dk_180 0 1 (dk_at dksX2_answers_0 10 rfl rfl)
theorem dX2_answers_13 : decode cX2_answers 13 = .ok (.putfield 10, 3) := dk_181 0 10 (dk_at dksX2_answers_0 13 rfl rfl)
theorem dX2_answers_16 : decode cX2_answers 16 = .ok (.aload_n 0, 1) := dk_42 (dk_at dksX2_answers_0 16 rfl rfl)
theorem dX2_answers_17 : decode cX2_answers 17 = .ok (.aload_n 0, 1) := dk_42 (dk_at dksX2_answers_0 17 rfl rfl)
theorem dX2_answers_18 : decode cX2_answers 18 = .ok (.getfield 7, 3) := dk_180 0 7 (dk_at dksX2_answers_0 18 rfl rfl)
theorem dX2_answers_21 : decode cX2_answers 21 = .ok (.putfield 13, 3) := dk_181 0 13 (dk_at dksX2_answers_0 21 rfl rfl)
theorem dX2_answers_24 : decode cX2_answers 24 = .ok (.aload_n 0, 1) := dk_42 (dk_at dksX2_answers_1 0 rfl rfl)
theorem dX2_answers_25 : decode cX2_answers 25 = .ok (.iconst 0, 1) := dk_3 (dk_at dksX2_answers_1 1 rfl rfl)
theorem dX2_answers_26 : decode cX2_answers 26 = .ok (.putfield 16, 3) := dk_181 0 16 (dk_at dksX2_answers_1 2 rfl rfl)
theorem dX2_answers_29 : decode cX2_answers 29 = .ok (.iload_n 1, 1) := dk_27 (dk_at dksX2_answers_1 5 rfl rfl)
theorem dX2_answers_30 : decode cX2_answers 30 = .ok (.ireturn, 1) := dk_172 (dk_at dksX2_answers_1 6 rfl rfl)
abbrev cX2_remembers : ByteArray := prog_27_method_9_code
def yX2_remembers : MethodName := ⟨RX2, "remembers", "()V"⟩
def dkwX2_remembers_0 : List UInt8 := [42, 182, 0, 67, 42, 182, 0, 70, 177]
abbrev dktX2_remembers_0 : List UInt8 := dkwX2_remembers_0 ++ []
theorem dksX2_remembers_0 : cX2_remembers.data.toList.drop 0 = dktX2_remembers_0 := by decide +kernel
theorem dX2_remembers_0 : decode cX2_remembers 0 = .ok (.aload_n 0, 1) := dk_42 (dk_at dksX2_remembers_0 0 rfl rfl)
theorem dX2_remembers_1 : decode cX2_remembers 1 = .ok (.invokevirtual 67, 3) := dk_182 0 67 (dk_at dksX2_remembers_0 1 rfl rfl)
theorem dX2_remembers_4 : decode cX2_remembers 4 = .ok (.aload_n 0, 1) := dk_42 (dk_at dksX2_remembers_0 4 rfl rfl)
theorem dX2_remembers_5 : decode cX2_remembers 5 = .ok (.invokevirtual 70, 3) := dk_182 0 70 (dk_at dksX2_remembers_0 5 rfl rfl)
theorem dX2_remembers_8 : decode cX2_remembers 8 = .ok (.return_, 1) := dk_177 (dk_at dksX2_remembers_0 8 rfl rfl)
abbrev cX2_thinks : ByteArray := prog_27_method_6_code
def yX2_thinks : MethodName := ⟨RX2, "thinks", "()V"⟩
def dkwX2_thinks_1 : List UInt8 := [167, 255, 234, 177]
abbrev dktX2_thinks_1 : List UInt8 := dkwX2_thinks_1 ++ []
def dkwX2_thinks_0 : List UInt8 := [3, 60, 27, 17, 1, 18, 162, 0, 21, 42, 180, 0, 42, 27, 42, 180, 0, 32, 27, 46, 79, 132, 1, 1]
abbrev dktX2_thinks_0 : List UInt8 := dkwX2_thinks_0 ++ dktX2_thinks_1
theorem dksX2_thinks_0 : cX2_thinks.data.toList.drop 0 = dktX2_thinks_0 := by decide +kernel
theorem dksX2_thinks_1 : cX2_thinks.data.toList.drop 24 = dktX2_thinks_1 := dk_seg dksX2_thinks_0 24 rfl rfl
theorem dX2_thinks_0 : decode cX2_thinks 0 = .ok (.iconst 0, 1) := dk_3 (dk_at dksX2_thinks_0 0 rfl rfl)
theorem dX2_thinks_1 : decode cX2_thinks 1 = .ok (.istore_n 1, 1) := dk_60 (dk_at dksX2_thinks_0 1 rfl rfl)
theorem dX2_thinks_2 : decode cX2_thinks 2 = .ok (.iload_n 1, 1) := dk_27 (dk_at dksX2_thinks_0 2 rfl rfl)
theorem dX2_thinks_3 : decode cX2_thinks 3 = .ok (.sipush 274, 3) := dk_17 1 18 (dk_at dksX2_thinks_0 3 rfl rfl)
theorem dX2_thinks_6 : decode cX2_thinks 6 = .ok (.if_icmp .ge 21, 3) := dk_162 0 21 (dk_at dksX2_thinks_0 6 rfl rfl)
theorem dX2_thinks_9 : decode cX2_thinks 9 = .ok (.aload_n 0, 1) := dk_42 (dk_at dksX2_thinks_0 9 rfl rfl)
theorem dX2_thinks_10 : decode cX2_thinks 10 = .ok (.getfield 42, 3) := dk_180 0 42 (dk_at dksX2_thinks_0 10 rfl rfl)
theorem dX2_thinks_13 : decode cX2_thinks 13 = .ok (.iload_n 1, 1) := dk_27 (dk_at dksX2_thinks_0 13 rfl rfl)
theorem dX2_thinks_14 : decode cX2_thinks 14 = .ok (.aload_n 0, 1) := dk_42 (dk_at dksX2_thinks_0 14 rfl rfl)
theorem dX2_thinks_15 : decode cX2_thinks 15 = .ok (.getfield 32, 3) := dk_180 0 32 (dk_at dksX2_thinks_0 15 rfl rfl)
theorem dX2_thinks_18 : decode cX2_thinks 18 = .ok (.iload_n 1, 1) := dk_27 (dk_at dksX2_thinks_0 18 rfl rfl)
theorem dX2_thinks_19 : decode cX2_thinks 19 = .ok (.iaload, 1) := dk_46 (dk_at dksX2_thinks_0 19 rfl rfl)
theorem dX2_thinks_20 : decode cX2_thinks 20 = .ok (.iastore, 1) := dk_79 (dk_at dksX2_thinks_0 20 rfl rfl)
theorem dX2_thinks_21 : decode cX2_thinks 21 = .ok (.iinc 1 1, 3) := dk_132 1 1 (dk_at dksX2_thinks_0 21 rfl rfl)
theorem dX2_thinks_24 : decode cX2_thinks 24 = .ok (.goto (-22), 3) := dk_167 255 234 (dk_at dksX2_thinks_1 0 rfl rfl)
theorem dX2_thinks_27 : decode cX2_thinks 27 = .ok (.return_, 1) := dk_177 (dk_at dksX2_thinks_1 3 rfl rfl)
abbrev cX2_keepsMind : ByteArray := prog_27_method_8_code
def yX2_keepsMind : MethodName := ⟨RX2, "keepsMind", "()V"⟩
def dkwX2_keepsMind_3 : List UInt8 := [132, 2, 1, 167, 255, 228, 42, 89, 180, 0, 61, 4, 96, 181, 0, 61, 177]
abbrev dktX2_keepsMind_3 : List UInt8 := dkwX2_keepsMind_3 ++ []
def dkwX2_keepsMind_2 : List UInt8 := [17, 1, 18, 162, 0, 27, 42, 180, 0, 36, 17, 1, 18, 27, 104, 28, 96, 42, 180, 0, 42, 28, 46, 79]
abbrev dktX2_keepsMind_2 : List UInt8 := dkwX2_keepsMind_2 ++ dktX2_keepsMind_3
def dkwX2_keepsMind_1 : List UInt8 := [180, 0, 61, 4, 100, 181, 0, 61, 42, 180, 0, 64, 42, 180, 0, 61, 96, 16, 8, 112, 60, 3, 61, 28]
abbrev dktX2_keepsMind_1 : List UInt8 := dkwX2_keepsMind_1 ++ dktX2_keepsMind_2
def dkwX2_keepsMind_0 : List UInt8 := [42, 180, 0, 61, 16, 8, 160, 0, 26, 42, 42, 180, 0, 64, 4, 96, 16, 8, 112, 181, 0, 64, 42, 89]
abbrev dktX2_keepsMind_0 : List UInt8 := dkwX2_keepsMind_0 ++ dktX2_keepsMind_1
theorem dksX2_keepsMind_0 : cX2_keepsMind.data.toList.drop 0 = dktX2_keepsMind_0 := by decide +kernel
theorem dksX2_keepsMind_1 : cX2_keepsMind.data.toList.drop 24 = dktX2_keepsMind_1 := dk_seg dksX2_keepsMind_0 24 rfl rfl
theorem dksX2_keepsMind_2 : cX2_keepsMind.data.toList.drop 48 = dktX2_keepsMind_2 := dk_seg dksX2_keepsMind_1 24 rfl rfl
theorem dksX2_keepsMind_3 : cX2_keepsMind.data.toList.drop 72 = dktX2_keepsMind_3 := dk_seg dksX2_keepsMind_2 24 rfl rfl
theorem dX2_keepsMind_0 : decode cX2_keepsMind 0 = .ok (.aload_n 0, 1) := dk_42 (dk_at dksX2_keepsMind_0 0 rfl rfl)
theorem dX2_keepsMind_1 : decode cX2_keepsMind 1 = .ok (.getfield 61, 3) := dk_180 0 61 (dk_at dksX2_keepsMind_0 1 rfl rfl)
theorem dX2_keepsMind_4 : decode cX2_keepsMind 4 = .ok (.bipush 8, 2) := dk_16 8 (dk_at dksX2_keepsMind_0 4 rfl rfl)
theorem dX2_keepsMind_6 : decode cX2_keepsMind 6 = .ok (.if_icmp .ne 26, 3) := dk_160 0 26 (dk_at dksX2_keepsMind_0 6 rfl rfl)
theorem dX2_keepsMind_9 : decode cX2_keepsMind 9 = .ok (.aload_n 0, 1) := dk_42 (dk_at dksX2_keepsMind_0 9 rfl rfl)
theorem dX2_keepsMind_10 : decode cX2_keepsMind 10 = .ok (.aload_n 0, 1) := dk_42 (dk_at dksX2_keepsMind_0 10 rfl rfl)
theorem dX2_keepsMind_11 : decode cX2_keepsMind 11 = .ok (.getfield 64, 3) := dk_180 0 64 (dk_at dksX2_keepsMind_0 11 rfl rfl)
theorem dX2_keepsMind_14 : decode cX2_keepsMind 14 = .ok (.iconst 1, 1) := dk_4 (dk_at dksX2_keepsMind_0 14 rfl rfl)
theorem dX2_keepsMind_15 : decode cX2_keepsMind 15 = .ok (.iadd, 1) := dk_96 (dk_at dksX2_keepsMind_0 15 rfl rfl)
theorem dX2_keepsMind_16 : decode cX2_keepsMind 16 = .ok (.bipush 8, 2) := dk_16 8 (dk_at dksX2_keepsMind_0 16 rfl rfl)
theorem dX2_keepsMind_18 : decode cX2_keepsMind 18 = .ok (.irem, 1) := dk_112 (dk_at dksX2_keepsMind_0 18 rfl rfl)
theorem dX2_keepsMind_19 : decode cX2_keepsMind 19 = .ok (.putfield 64, 3) := dk_181 0 64 (dk_at dksX2_keepsMind_0 19 rfl rfl)
theorem dX2_keepsMind_22 : decode cX2_keepsMind 22 = .ok (.aload_n 0, 1) := dk_42 (dk_at dksX2_keepsMind_0 22 rfl rfl)
theorem dX2_keepsMind_23 : decode cX2_keepsMind 23 = .ok (.dup, 1) := dk_89 (dk_at dksX2_keepsMind_0 23 rfl rfl)
theorem dX2_keepsMind_24 : decode cX2_keepsMind 24 = .ok (.getfield 61, 3) := dk_180 0 61 (dk_at dksX2_keepsMind_1 0 rfl rfl)
theorem dX2_keepsMind_27 : decode cX2_keepsMind 27 = .ok (.iconst 1, 1) := dk_4 (dk_at dksX2_keepsMind_1 3 rfl rfl)
theorem dX2_keepsMind_28 : decode cX2_keepsMind 28 = .ok (.isub, 1) := dk_100 (dk_at dksX2_keepsMind_1 4 rfl rfl)
theorem dX2_keepsMind_29 : decode cX2_keepsMind 29 = .ok (.putfield 61, 3) := dk_181 0 61 (dk_at dksX2_keepsMind_1 5 rfl rfl)
theorem dX2_keepsMind_32 : decode cX2_keepsMind 32 = .ok (.aload_n 0, 1) := dk_42 (dk_at dksX2_keepsMind_1 8 rfl rfl)
theorem dX2_keepsMind_33 : decode cX2_keepsMind 33 = .ok (.getfield 64, 3) := dk_180 0 64 (dk_at dksX2_keepsMind_1 9 rfl rfl)
theorem dX2_keepsMind_36 : decode cX2_keepsMind 36 = .ok (.aload_n 0, 1) := dk_42 (dk_at dksX2_keepsMind_1 12 rfl rfl)
theorem dX2_keepsMind_37 : decode cX2_keepsMind 37 = .ok (.getfield 61, 3) := dk_180 0 61 (dk_at dksX2_keepsMind_1 13 rfl rfl)
theorem dX2_keepsMind_40 : decode cX2_keepsMind 40 = .ok (.iadd, 1) := dk_96 (dk_at dksX2_keepsMind_1 16 rfl rfl)
theorem dX2_keepsMind_41 : decode cX2_keepsMind 41 = .ok (.bipush 8, 2) := dk_16 8 (dk_at dksX2_keepsMind_1 17 rfl rfl)
theorem dX2_keepsMind_43 : decode cX2_keepsMind 43 = .ok (.irem, 1) := dk_112 (dk_at dksX2_keepsMind_1 19 rfl rfl)
theorem dX2_keepsMind_44 : decode cX2_keepsMind 44 = .ok (.istore_n 1, 1) := dk_60 (dk_at dksX2_keepsMind_1 20 rfl rfl)
theorem dX2_keepsMind_45 : decode cX2_keepsMind 45 = .ok (.iconst 0, 1) := dk_3 (dk_at dksX2_keepsMind_1 21 rfl rfl)
theorem dX2_keepsMind_46 : decode cX2_keepsMind 46 = .ok (.istore_n 2, 1) := dk_61 (dk_at dksX2_keepsMind_1 22 rfl rfl)
theorem dX2_keepsMind_47 : decode cX2_keepsMind 47 = .ok (.iload_n 2, 1) := dk_28 (dk_at dksX2_keepsMind_1 23 rfl rfl)
theorem dX2_keepsMind_48 : decode cX2_keepsMind 48 = .ok (.sipush 274, 3) := dk_17 1 18 (dk_at dksX2_keepsMind_2 0 rfl rfl)
theorem dX2_keepsMind_51 : decode cX2_keepsMind 51 = .ok (.if_icmp .ge 27, 3) := dk_162 0 27 (dk_at dksX2_keepsMind_2 3 rfl rfl)
theorem dX2_keepsMind_54 : decode cX2_keepsMind 54 = .ok (.aload_n 0, 1) := dk_42 (dk_at dksX2_keepsMind_2 6 rfl rfl)
theorem dX2_keepsMind_55 : decode cX2_keepsMind 55 = .ok (.getfield 36, 3) := dk_180 0 36 (dk_at dksX2_keepsMind_2 7 rfl rfl)
theorem dX2_keepsMind_58 : decode cX2_keepsMind 58 = .ok (.sipush 274, 3) := dk_17 1 18 (dk_at dksX2_keepsMind_2 10 rfl rfl)
theorem dX2_keepsMind_61 : decode cX2_keepsMind 61 = .ok (.iload_n 1, 1) := dk_27 (dk_at dksX2_keepsMind_2 13 rfl rfl)
theorem dX2_keepsMind_62 : decode cX2_keepsMind 62 = .ok (.imul, 1) := dk_104 (dk_at dksX2_keepsMind_2 14 rfl rfl)
theorem dX2_keepsMind_63 : decode cX2_keepsMind 63 = .ok (.iload_n 2, 1) := dk_28 (dk_at dksX2_keepsMind_2 15 rfl rfl)
theorem dX2_keepsMind_64 : decode cX2_keepsMind 64 = .ok (.iadd, 1) := dk_96 (dk_at dksX2_keepsMind_2 16 rfl rfl)
theorem dX2_keepsMind_65 : decode cX2_keepsMind 65 = .ok (.aload_n 0, 1) := dk_42 (dk_at dksX2_keepsMind_2 17 rfl rfl)
theorem dX2_keepsMind_66 : decode cX2_keepsMind 66 = .ok (.getfield 42, 3) := dk_180 0 42 (dk_at dksX2_keepsMind_2 18 rfl rfl)
theorem dX2_keepsMind_69 : decode cX2_keepsMind 69 = .ok (.iload_n 2, 1) := dk_28 (dk_at dksX2_keepsMind_2 21 rfl rfl)
theorem dX2_keepsMind_70 : decode cX2_keepsMind 70 = .ok (.iaload, 1) := dk_46 (dk_at dksX2_keepsMind_2 22 rfl rfl)
theorem dX2_keepsMind_71 : decode cX2_keepsMind 71 = .ok (.iastore, 1) := dk_79 (dk_at dksX2_keepsMind_2 23 rfl rfl)
theorem dX2_keepsMind_72 : decode cX2_keepsMind 72 = .ok (.iinc 2 1, 3) := dk_132 2 1 (dk_at dksX2_keepsMind_3 0 rfl rfl)
theorem dX2_keepsMind_75 : decode cX2_keepsMind 75 = .ok (.goto (-28), 3) := dk_167 255 228 (dk_at dksX2_keepsMind_3 3 rfl rfl)
theorem dX2_keepsMind_78 : decode cX2_keepsMind 78 = .ok (.aload_n 0, 1) := dk_42 (dk_at dksX2_keepsMind_3 6 rfl rfl)
theorem dX2_keepsMind_79 : decode cX2_keepsMind 79 = .ok (.dup, 1) := dk_89 (dk_at dksX2_keepsMind_3 7 rfl rfl)
theorem dX2_keepsMind_80 : decode cX2_keepsMind 80 = .ok (.getfield 61, 3) := dk_180 0 61 (dk_at dksX2_keepsMind_3 8 rfl rfl)
theorem dX2_keepsMind_83 : decode cX2_keepsMind 83 = .ok (.iconst 1, 1) := dk_4 (dk_at dksX2_keepsMind_3 11 rfl rfl)
theorem dX2_keepsMind_84 : decode cX2_keepsMind 84 = .ok (.iadd, 1) := dk_96 (dk_at dksX2_keepsMind_3 12 rfl rfl)
theorem dX2_keepsMind_85 : decode cX2_keepsMind 85 = .ok (.putfield 61, 3) := dk_181 0 61 (dk_at dksX2_keepsMind_3 13 rfl rfl)
theorem dX2_keepsMind_88 : decode cX2_keepsMind 88 = .ok (.return_, 1) := dk_177 (dk_at dksX2_keepsMind_3 16 rfl rfl)
abbrev cX2_comes : ByteArray := prog_27_method_20_code
def yX2_comes : MethodName := ⟨RX2, "comes", "(IIII)I"⟩
def dkwX2_comes_3 : List UInt8 := [46, 4, 96, 79, 42, 180, 0, 32, 3, 92, 46, 4, 96, 79, 42, 180, 0, 32, 3, 46, 4, 100, 172]
abbrev dktX2_comes_3 : List UInt8 := dkwX2_comes_3 ++ []
def dkwX2_comes_2 : List UInt8 := [21, 5, 6, 96, 21, 4, 79, 42, 180, 0, 32, 21, 5, 7, 96, 3, 79, 42, 180, 0, 32, 16, 7, 92]
abbrev dktX2_comes_2 : List UInt8 := dkwX2_comes_2 ++ dktX2_comes_3
def dkwX2_comes_1 : List UInt8 := [180, 0, 32, 21, 5, 4, 96, 28, 79, 42, 180, 0, 32, 21, 5, 5, 96, 29, 79, 42, 180, 0, 32]
abbrev dktX2_comes_1 : List UInt8 := dkwX2_comes_1 ++ dktX2_comes_2
def dkwX2_comes_0 : List UInt8 := [16, 22, 8, 42, 180, 0, 32, 3, 46, 104, 96, 54, 5, 42, 180, 0, 32, 21, 5, 3, 96, 27, 79, 42]
abbrev dktX2_comes_0 : List UInt8 := dkwX2_comes_0 ++ dktX2_comes_1
theorem dksX2_comes_0 : cX2_comes.data.toList.drop 0 = dktX2_comes_0 := by decide +kernel
theorem dksX2_comes_1 : cX2_comes.data.toList.drop 24 = dktX2_comes_1 := dk_seg dksX2_comes_0 24 rfl rfl
theorem dksX2_comes_2 : cX2_comes.data.toList.drop 47 = dktX2_comes_2 := dk_seg dksX2_comes_1 23 rfl rfl
theorem dksX2_comes_3 : cX2_comes.data.toList.drop 71 = dktX2_comes_3 := dk_seg dksX2_comes_2 24 rfl rfl
theorem dX2_comes_0 : decode cX2_comes 0 = .ok (.bipush 22, 2) := dk_16 22 (dk_at dksX2_comes_0 0 rfl rfl)
theorem dX2_comes_2 : decode cX2_comes 2 = .ok (.iconst 5, 1) := dk_8 (dk_at dksX2_comes_0 2 rfl rfl)
theorem dX2_comes_3 : decode cX2_comes 3 = .ok (.aload_n 0, 1) := dk_42 (dk_at dksX2_comes_0 3 rfl rfl)
theorem dX2_comes_4 : decode cX2_comes 4 = .ok (.getfield 32, 3) := dk_180 0 32 (dk_at dksX2_comes_0 4 rfl rfl)
theorem dX2_comes_7 : decode cX2_comes 7 = .ok (.iconst 0, 1) := dk_3 (dk_at dksX2_comes_0 7 rfl rfl)
theorem dX2_comes_8 : decode cX2_comes 8 = .ok (.iaload, 1) := dk_46 (dk_at dksX2_comes_0 8 rfl rfl)
theorem dX2_comes_9 : decode cX2_comes 9 = .ok (.imul, 1) := dk_104 (dk_at dksX2_comes_0 9 rfl rfl)
theorem dX2_comes_10 : decode cX2_comes 10 = .ok (.iadd, 1) := dk_96 (dk_at dksX2_comes_0 10 rfl rfl)
theorem dX2_comes_11 : decode cX2_comes 11 = .ok (.istore 5, 2) := dk_54 5 (dk_at dksX2_comes_0 11 rfl rfl)
theorem dX2_comes_13 : decode cX2_comes 13 = .ok (.aload_n 0, 1) := dk_42 (dk_at dksX2_comes_0 13 rfl rfl)
theorem dX2_comes_14 : decode cX2_comes 14 = .ok (.getfield 32, 3) := dk_180 0 32 (dk_at dksX2_comes_0 14 rfl rfl)
theorem dX2_comes_17 : decode cX2_comes 17 = .ok (.iload 5, 2) := dk_21 5 (dk_at dksX2_comes_0 17 rfl rfl)
theorem dX2_comes_19 : decode cX2_comes 19 = .ok (.iconst 0, 1) := dk_3 (dk_at dksX2_comes_0 19 rfl rfl)
theorem dX2_comes_20 : decode cX2_comes 20 = .ok (.iadd, 1) := dk_96 (dk_at dksX2_comes_0 20 rfl rfl)
theorem dX2_comes_21 : decode cX2_comes 21 = .ok (.iload_n 1, 1) := dk_27 (dk_at dksX2_comes_0 21 rfl rfl)
theorem dX2_comes_22 : decode cX2_comes 22 = .ok (.iastore, 1) := dk_79 (dk_at dksX2_comes_0 22 rfl rfl)
theorem dX2_comes_23 : decode cX2_comes 23 = .ok (.aload_n 0, 1) := dk_42 (dk_at dksX2_comes_0 23 rfl rfl)
theorem dX2_comes_24 : decode cX2_comes 24 = .ok (.getfield 32, 3) := dk_180 0 32 (dk_at dksX2_comes_1 0 rfl rfl)
theorem dX2_comes_27 : decode cX2_comes 27 = .ok (.iload 5, 2) := dk_21 5 (dk_at dksX2_comes_1 3 rfl rfl)
theorem dX2_comes_29 : decode cX2_comes 29 = .ok (.iconst 1, 1) := dk_4 (dk_at dksX2_comes_1 5 rfl rfl)
theorem dX2_comes_30 : decode cX2_comes 30 = .ok (.iadd, 1) := dk_96 (dk_at dksX2_comes_1 6 rfl rfl)
theorem dX2_comes_31 : decode cX2_comes 31 = .ok (.iload_n 2, 1) := dk_28 (dk_at dksX2_comes_1 7 rfl rfl)
theorem dX2_comes_32 : decode cX2_comes 32 = .ok (.iastore, 1) := dk_79 (dk_at dksX2_comes_1 8 rfl rfl)
theorem dX2_comes_33 : decode cX2_comes 33 = .ok (.aload_n 0, 1) := dk_42 (dk_at dksX2_comes_1 9 rfl rfl)
theorem dX2_comes_34 : decode cX2_comes 34 = .ok (.getfield 32, 3) := dk_180 0 32 (dk_at dksX2_comes_1 10 rfl rfl)
theorem dX2_comes_37 : decode cX2_comes 37 = .ok (.iload 5, 2) := dk_21 5 (dk_at dksX2_comes_1 13 rfl rfl)
theorem dX2_comes_39 : decode cX2_comes 39 = .ok (.iconst 2, 1) := dk_5 (dk_at dksX2_comes_1 15 rfl rfl)
theorem dX2_comes_40 : decode cX2_comes 40 = .ok (.iadd, 1) := dk_96 (dk_at dksX2_comes_1 16 rfl rfl)
theorem dX2_comes_41 : decode cX2_comes 41 = .ok (.iload_n 3, 1) := dk_29 (dk_at dksX2_comes_1 17 rfl rfl)
theorem dX2_comes_42 : decode cX2_comes 42 = .ok (.iastore, 1) := dk_79 (dk_at dksX2_comes_1 18 rfl rfl)
theorem dX2_comes_43 : decode cX2_comes 43 = .ok (.aload_n 0, 1) := dk_42 (dk_at dksX2_comes_1 19 rfl rfl)
theorem dX2_comes_44 : decode cX2_comes 44 = .ok (.getfield 32, 3) := dk_180 0 32 (dk_at dksX2_comes_1 20 rfl rfl)
theorem dX2_comes_47 : decode cX2_comes 47 = .ok (.iload 5, 2) := dk_21 5 (dk_at dksX2_comes_2 0 rfl rfl)
theorem dX2_comes_49 : decode cX2_comes 49 = .ok (.iconst 3, 1) := dk_6 (dk_at dksX2_comes_2 2 rfl rfl)
theorem dX2_comes_50 : decode cX2_comes 50 = .ok (.iadd, 1) := dk_96 (dk_at dksX2_comes_2 3 rfl rfl)
theorem dX2_comes_51 : decode cX2_comes 51 = .ok (.iload 4, 2) := dk_21 4 (dk_at dksX2_comes_2 4 rfl rfl)
theorem dX2_comes_53 : decode cX2_comes 53 = .ok (.iastore, 1) := dk_79 (dk_at dksX2_comes_2 6 rfl rfl)
theorem dX2_comes_54 : decode cX2_comes 54 = .ok (.aload_n 0, 1) := dk_42 (dk_at dksX2_comes_2 7 rfl rfl)
theorem dX2_comes_55 : decode cX2_comes 55 = .ok (.getfield 32, 3) := dk_180 0 32 (dk_at dksX2_comes_2 8 rfl rfl)
theorem dX2_comes_58 : decode cX2_comes 58 = .ok (.iload 5, 2) := dk_21 5 (dk_at dksX2_comes_2 11 rfl rfl)
theorem dX2_comes_60 : decode cX2_comes 60 = .ok (.iconst 4, 1) := dk_7 (dk_at dksX2_comes_2 13 rfl rfl)
theorem dX2_comes_61 : decode cX2_comes 61 = .ok (.iadd, 1) := dk_96 (dk_at dksX2_comes_2 14 rfl rfl)
theorem dX2_comes_62 : decode cX2_comes 62 = .ok (.iconst 0, 1) := dk_3 (dk_at dksX2_comes_2 15 rfl rfl)
theorem dX2_comes_63 : decode cX2_comes 63 = .ok (.iastore, 1) := dk_79 (dk_at dksX2_comes_2 16 rfl rfl)
theorem dX2_comes_64 : decode cX2_comes 64 = .ok (.aload_n 0, 1) := dk_42 (dk_at dksX2_comes_2 17 rfl rfl)
theorem dX2_comes_65 : decode cX2_comes 65 = .ok (.getfield 32, 3) := dk_180 0 32 (dk_at dksX2_comes_2 18 rfl rfl)
theorem dX2_comes_68 : decode cX2_comes 68 = .ok (.bipush 7, 2) := dk_16 7 (dk_at dksX2_comes_2 21 rfl rfl)
theorem dX2_comes_70 : decode cX2_comes 70 = .ok (.dup2, 1) := dk_92 (dk_at dksX2_comes_2 23 rfl rfl)
theorem dX2_comes_71 : decode cX2_comes 71 = .ok (.iaload, 1) := dk_46 (dk_at dksX2_comes_3 0 rfl rfl)
theorem dX2_comes_72 : decode cX2_comes 72 = .ok (.iconst 1, 1) := dk_4 (dk_at dksX2_comes_3 1 rfl rfl)
theorem dX2_comes_73 : decode cX2_comes 73 = .ok (.iadd, 1) := dk_96 (dk_at dksX2_comes_3 2 rfl rfl)
theorem dX2_comes_74 : decode cX2_comes 74 = .ok (.iastore, 1) := dk_79 (dk_at dksX2_comes_3 3 rfl rfl)
theorem dX2_comes_75 : decode cX2_comes 75 = .ok (.aload_n 0, 1) := dk_42 (dk_at dksX2_comes_3 4 rfl rfl)
theorem dX2_comes_76 : decode cX2_comes 76 = .ok (.getfield 32, 3) := dk_180 0 32 (dk_at dksX2_comes_3 5 rfl rfl)
theorem dX2_comes_79 : decode cX2_comes 79 = .ok (.iconst 0, 1) := dk_3 (dk_at dksX2_comes_3 8 rfl rfl)
theorem dX2_comes_80 : decode cX2_comes 80 = .ok (.dup2, 1) := dk_92 (dk_at dksX2_comes_3 9 rfl rfl)
theorem dX2_comes_81 : decode cX2_comes 81 = .ok (.iaload, 1) := dk_46 (dk_at dksX2_comes_3 10 rfl rfl)
theorem dX2_comes_82 : decode cX2_comes 82 = .ok (.iconst 1, 1) := dk_4 (dk_at dksX2_comes_3 11 rfl rfl)
theorem dX2_comes_83 : decode cX2_comes 83 = .ok (.iadd, 1) := dk_96 (dk_at dksX2_comes_3 12 rfl rfl)
theorem dX2_comes_84 : decode cX2_comes 84 = .ok (.iastore, 1) := dk_79 (dk_at dksX2_comes_3 13 rfl rfl)
theorem dX2_comes_85 : decode cX2_comes 85 = .ok (.aload_n 0, 1) := dk_42 (dk_at dksX2_comes_3 14 rfl rfl)
theorem dX2_comes_86 : decode cX2_comes 86 = .ok (.getfield 32, 3) := dk_180 0 32 (dk_at dksX2_comes_3 15 rfl rfl)
theorem dX2_comes_89 : decode cX2_comes 89 = .ok (.iconst 0, 1) := dk_3 (dk_at dksX2_comes_3 18 rfl rfl)
theorem dX2_comes_90 : decode cX2_comes 90 = .ok (.iaload, 1) := dk_46 (dk_at dksX2_comes_3 19 rfl rfl)
theorem dX2_comes_91 : decode cX2_comes 91 = .ok (.iconst 1, 1) := dk_4 (dk_at dksX2_comes_3 20 rfl rfl)
theorem dX2_comes_92 : decode cX2_comes 92 = .ok (.isub, 1) := dk_100 (dk_at dksX2_comes_3 21 rfl rfl)
theorem dX2_comes_93 : decode cX2_comes 93 = .ok (.ireturn, 1) := dk_172 (dk_at dksX2_comes_3 22 rfl rfl)
abbrev cX2_prime : ByteArray := prog_27_method_24_code
def yX2_prime : MethodName := ⟨RX2, "prime", "(I)I"⟩
def dkwX2_prime_1 : List UInt8 := [182, 0, 119, 172]
abbrev dktX2_prime_1 : List UInt8 := dkwX2_prime_1 ++ []
def dkwX2_prime_0 : List UInt8 := [42, 27, 182, 0, 116, 61, 28, 153, 0, 9, 42, 28, 182, 0, 104, 172, 42, 182, 0, 107, 42, 27]
abbrev dktX2_prime_0 : List UInt8 := dkwX2_prime_0 ++ dktX2_prime_1
theorem dksX2_prime_0 : cX2_prime.data.toList.drop 0 = dktX2_prime_0 := by decide +kernel
theorem dksX2_prime_1 : cX2_prime.data.toList.drop 22 = dktX2_prime_1 := dk_seg dksX2_prime_0 22 rfl rfl
theorem dX2_prime_0 : decode cX2_prime 0 = .ok (.aload_n 0, 1) := dk_42 (dk_at dksX2_prime_0 0 rfl rfl)
theorem dX2_prime_1 : decode cX2_prime 1 = .ok (.iload_n 1, 1) := dk_27 (dk_at dksX2_prime_0 1 rfl rfl)
theorem dX2_prime_2 : decode cX2_prime 2 = .ok (.invokevirtual 116, 3) := dk_182 0 116 (dk_at dksX2_prime_0 2 rfl rfl)
theorem dX2_prime_5 : decode cX2_prime 5 = .ok (.istore_n 2, 1) := dk_61 (dk_at dksX2_prime_0 5 rfl rfl)
theorem dX2_prime_6 : decode cX2_prime 6 = .ok (.iload_n 2, 1) := dk_28 (dk_at dksX2_prime_0 6 rfl rfl)
theorem dX2_prime_7 : decode cX2_prime 7 = .ok (.ifCond .eq 9, 3) := dk_153 0 9 (dk_at dksX2_prime_0 7 rfl rfl)
theorem dX2_prime_10 : decode cX2_prime 10 = .ok (.aload_n 0, 1) := dk_42 (dk_at dksX2_prime_0 10 rfl rfl)
theorem dX2_prime_11 : decode cX2_prime 11 = .ok (.iload_n 2, 1) := dk_28 (dk_at dksX2_prime_0 11 rfl rfl)
theorem dX2_prime_12 : decode cX2_prime 12 = .ok (.invokevirtual 104, 3) := dk_182 0 104 (dk_at dksX2_prime_0 12 rfl rfl)
theorem dX2_prime_15 : decode cX2_prime 15 = .ok (.ireturn, 1) := dk_172 (dk_at dksX2_prime_0 15 rfl rfl)
theorem dX2_prime_16 : decode cX2_prime 16 = .ok (.aload_n 0, 1) := dk_42 (dk_at dksX2_prime_0 16 rfl rfl)
theorem dX2_prime_17 : decode cX2_prime 17 = .ok (.invokevirtual 107, 3) := dk_182 0 107 (dk_at dksX2_prime_0 17 rfl rfl)
theorem dX2_prime_20 : decode cX2_prime 20 = .ok (.aload_n 0, 1) := dk_42 (dk_at dksX2_prime_0 20 rfl rfl)
theorem dX2_prime_21 : decode cX2_prime 21 = .ok (.iload_n 1, 1) := dk_27 (dk_at dksX2_prime_0 21 rfl rfl)
theorem dX2_prime_22 : decode cX2_prime 22 = .ok (.invokevirtual 119, 3) := dk_182 0 119 (dk_at dksX2_prime_1 0 rfl rfl)
theorem dX2_prime_25 : decode cX2_prime 25 = .ok (.ireturn, 1) := dk_172 (dk_at dksX2_prime_1 3 rfl rfl)
abbrev cX2_notPrime : ByteArray := prog_27_method_22_code
def yX2_notPrime : MethodName := ⟨RX2, "notPrime", "(I)I"⟩
def dkwX2_notPrime_2 : List UInt8 := [182, 0, 88, 167, 0, 4, 3, 172]
abbrev dktX2_notPrime_2 : List UInt8 := dkwX2_notPrime_2 ++ []
def dkwX2_notPrime_1 : List UInt8 := [182, 0, 88, 172, 42, 180, 0, 32, 8, 46, 154, 0, 18, 42, 16, 6, 42, 180, 0, 32, 7, 46]
abbrev dktX2_notPrime_1 : List UInt8 := dkwX2_notPrime_1 ++ dktX2_notPrime_2
def dkwX2_notPrime_0 : List UInt8 := [42, 27, 182, 0, 113, 154, 0, 5, 2, 172, 42, 27, 7, 182, 0, 73, 4, 160, 0, 10, 42, 8, 27]
abbrev dktX2_notPrime_0 : List UInt8 := dkwX2_notPrime_0 ++ dktX2_notPrime_1
theorem dksX2_notPrime_0 : cX2_notPrime.data.toList.drop 0 = dktX2_notPrime_0 := by decide +kernel
theorem dksX2_notPrime_1 : cX2_notPrime.data.toList.drop 23 = dktX2_notPrime_1 := dk_seg dksX2_notPrime_0 23 rfl rfl
theorem dksX2_notPrime_2 : cX2_notPrime.data.toList.drop 45 = dktX2_notPrime_2 := dk_seg dksX2_notPrime_1 22 rfl rfl
theorem dX2_notPrime_0 : decode cX2_notPrime 0 = .ok (.aload_n 0, 1) := dk_42 (dk_at dksX2_notPrime_0 0 rfl rfl)
theorem dX2_notPrime_1 : decode cX2_notPrime 1 = .ok (.iload_n 1, 1) := dk_27 (dk_at dksX2_notPrime_0 1 rfl rfl)
theorem dX2_notPrime_2 : decode cX2_notPrime 2 = .ok (.invokevirtual 113, 3) := dk_182 0 113 (dk_at dksX2_notPrime_0 2 rfl rfl)
theorem dX2_notPrime_5 : decode cX2_notPrime 5 = .ok (.ifCond .ne 5, 3) := dk_154 0 5 (dk_at dksX2_notPrime_0 5 rfl rfl)
theorem dX2_notPrime_8 : decode cX2_notPrime 8 = .ok (.iconst (-1), 1) := dk_2 (dk_at dksX2_notPrime_0 8 rfl rfl)
theorem dX2_notPrime_9 : decode cX2_notPrime 9 = .ok (.ireturn, 1) := dk_172 (dk_at dksX2_notPrime_0 9 rfl rfl)
theorem dX2_notPrime_10 : decode cX2_notPrime 10 = .ok (.aload_n 0, 1) := dk_42 (dk_at dksX2_notPrime_0 10 rfl rfl)
theorem dX2_notPrime_11 : decode cX2_notPrime 11 = .ok (.iload_n 1, 1) := dk_27 (dk_at dksX2_notPrime_0 11 rfl rfl)
theorem dX2_notPrime_12 : decode cX2_notPrime 12 = .ok (.iconst 4, 1) := dk_7 (dk_at dksX2_notPrime_0 12 rfl rfl)
theorem dX2_notPrime_13 : decode cX2_notPrime 13 = .ok (.invokevirtual 73, 3) := dk_182 0 73 (dk_at dksX2_notPrime_0 13 rfl rfl)
theorem dX2_notPrime_16 : decode cX2_notPrime 16 = .ok (.iconst 1, 1) := dk_4 (dk_at dksX2_notPrime_0 16 rfl rfl)
theorem dX2_notPrime_17 : decode cX2_notPrime 17 = .ok (.if_icmp .ne 10, 3) := dk_160 0 10 (dk_at dksX2_notPrime_0 17 rfl rfl)
theorem dX2_notPrime_20 : decode cX2_notPrime 20 = .ok (.aload_n 0, 1) := dk_42 (dk_at dksX2_notPrime_0 20 rfl rfl)
theorem dX2_notPrime_21 : decode cX2_notPrime 21 = .ok (.iconst 5, 1) := dk_8 (dk_at dksX2_notPrime_0 21 rfl rfl)
theorem dX2_notPrime_22 : decode cX2_notPrime 22 = .ok (.iload_n 1, 1) := dk_27 (dk_at dksX2_notPrime_0 22 rfl rfl)
theorem dX2_notPrime_23 : decode cX2_notPrime 23 = .ok (.invokevirtual 88, 3) := dk_182 0 88 (dk_at dksX2_notPrime_1 0 rfl rfl)
theorem dX2_notPrime_26 : decode cX2_notPrime 26 = .ok (.ireturn, 1) := dk_172 (dk_at dksX2_notPrime_1 3 rfl rfl)
theorem dX2_notPrime_27 : decode cX2_notPrime 27 = .ok (.aload_n 0, 1) := dk_42 (dk_at dksX2_notPrime_1 4 rfl rfl)
theorem dX2_notPrime_28 : decode cX2_notPrime 28 = .ok (.getfield 32, 3) := dk_180 0 32 (dk_at dksX2_notPrime_1 5 rfl rfl)
theorem dX2_notPrime_31 : decode cX2_notPrime 31 = .ok (.iconst 5, 1) := dk_8 (dk_at dksX2_notPrime_1 8 rfl rfl)
theorem dX2_notPrime_32 : decode cX2_notPrime 32 = .ok (.iaload, 1) := dk_46 (dk_at dksX2_notPrime_1 9 rfl rfl)
theorem dX2_notPrime_33 : decode cX2_notPrime 33 = .ok (.ifCond .ne 18, 3) := dk_154 0 18 (dk_at dksX2_notPrime_1 10 rfl rfl)
theorem dX2_notPrime_36 : decode cX2_notPrime 36 = .ok (.aload_n 0, 1) := dk_42 (dk_at dksX2_notPrime_1 13 rfl rfl)
theorem dX2_notPrime_37 : decode cX2_notPrime 37 = .ok (.bipush 6, 2) := dk_16 6 (dk_at dksX2_notPrime_1 14 rfl rfl)
theorem dX2_notPrime_39 : decode cX2_notPrime 39 = .ok (.aload_n 0, 1) := dk_42 (dk_at dksX2_notPrime_1 16 rfl rfl)
theorem dX2_notPrime_40 : decode cX2_notPrime 40 = .ok (.getfield 32, 3) := dk_180 0 32 (dk_at dksX2_notPrime_1 17 rfl rfl)
theorem dX2_notPrime_43 : decode cX2_notPrime 43 = .ok (.iconst 4, 1) := dk_7 (dk_at dksX2_notPrime_1 20 rfl rfl)
theorem dX2_notPrime_44 : decode cX2_notPrime 44 = .ok (.iaload, 1) := dk_46 (dk_at dksX2_notPrime_1 21 rfl rfl)
theorem dX2_notPrime_45 : decode cX2_notPrime 45 = .ok (.invokevirtual 88, 3) := dk_182 0 88 (dk_at dksX2_notPrime_2 0 rfl rfl)
theorem dX2_notPrime_48 : decode cX2_notPrime 48 = .ok (.goto 4, 3) := dk_167 0 4 (dk_at dksX2_notPrime_2 3 rfl rfl)
theorem dX2_notPrime_51 : decode cX2_notPrime 51 = .ok (.iconst 0, 1) := dk_3 (dk_at dksX2_notPrime_2 6 rfl rfl)
theorem dX2_notPrime_52 : decode cX2_notPrime 52 = .ok (.ireturn, 1) := dk_172 (dk_at dksX2_notPrime_2 7 rfl rfl)
abbrev cX2_isJoke : ByteArray := prog_27_method_11_code
def yX2_isJoke : MethodName := ⟨RX2, "isJoke", "(I)Z"⟩
def dkwX2_isJoke_0 : List UInt8 := [27, 3, 42, 180, 0, 32, 3, 46, 4, 100, 184, 0, 19, 172]
abbrev dktX2_isJoke_0 : List UInt8 := dkwX2_isJoke_0 ++ []
theorem dksX2_isJoke_0 : cX2_isJoke.data.toList.drop 0 = dktX2_isJoke_0 := by decide +kernel
theorem dX2_isJoke_0 : decode cX2_isJoke 0 = .ok (.iload_n 1, 1) := dk_27 (dk_at dksX2_isJoke_0 0 rfl rfl)
theorem dX2_isJoke_1 : decode cX2_isJoke 1 = .ok (.iconst 0, 1) := dk_3 (dk_at dksX2_isJoke_0 1 rfl rfl)
theorem dX2_isJoke_2 : decode cX2_isJoke 2 = .ok (.aload_n 0, 1) := dk_42 (dk_at dksX2_isJoke_0 2 rfl rfl)
theorem dX2_isJoke_3 : decode cX2_isJoke 3 = .ok (.getfield 32, 3) := dk_180 0 32 (dk_at dksX2_isJoke_0 3 rfl rfl)
theorem dX2_isJoke_6 : decode cX2_isJoke 6 = .ok (.iconst 0, 1) := dk_3 (dk_at dksX2_isJoke_0 6 rfl rfl)
theorem dX2_isJoke_7 : decode cX2_isJoke 7 = .ok (.iaload, 1) := dk_46 (dk_at dksX2_isJoke_0 7 rfl rfl)
theorem dX2_isJoke_8 : decode cX2_isJoke 8 = .ok (.iconst 1, 1) := dk_4 (dk_at dksX2_isJoke_0 8 rfl rfl)
theorem dX2_isJoke_9 : decode cX2_isJoke 9 = .ok (.isub, 1) := dk_100 (dk_at dksX2_isJoke_0 9 rfl rfl)
theorem dX2_isJoke_10 : decode cX2_isJoke 10 = .ok (.invokestatic 19, 3) := dk_184 0 19 (dk_at dksX2_isJoke_0 10 rfl rfl)
theorem dX2_isJoke_13 : decode cX2_isJoke 13 = .ok (.ireturn, 1) := dk_172 (dk_at dksX2_isJoke_0 13 rfl rfl)
abbrev cX2_primes : ByteArray := prog_27_method_23_code
def yX2_primes : MethodName := ⟨RX2, "primes", "(I)I"⟩
def dkwX2_primes_1 : List UInt8 := [42, 180, 0, 32, 8, 46, 172]
abbrev dktX2_primes_1 : List UInt8 := dkwX2_primes_1 ++ []
def dkwX2_primes_0 : List UInt8 := [42, 180, 0, 32, 16, 22, 8, 27, 104, 96, 7, 96, 4, 79, 42, 180, 0, 32, 8, 92, 46, 4, 100, 79]
abbrev dktX2_primes_0 : List UInt8 := dkwX2_primes_0 ++ dktX2_primes_1
theorem dksX2_primes_0 : cX2_primes.data.toList.drop 0 = dktX2_primes_0 := by decide +kernel
theorem dksX2_primes_1 : cX2_primes.data.toList.drop 24 = dktX2_primes_1 := dk_seg dksX2_primes_0 24 rfl rfl
theorem dX2_primes_0 : decode cX2_primes 0 = .ok (.aload_n 0, 1) := dk_42 (dk_at dksX2_primes_0 0 rfl rfl)
theorem dX2_primes_1 : decode cX2_primes 1 = .ok (.getfield 32, 3) := dk_180 0 32 (dk_at dksX2_primes_0 1 rfl rfl)
theorem dX2_primes_4 : decode cX2_primes 4 = .ok (.bipush 22, 2) := dk_16 22 (dk_at dksX2_primes_0 4 rfl rfl)
theorem dX2_primes_6 : decode cX2_primes 6 = .ok (.iconst 5, 1) := dk_8 (dk_at dksX2_primes_0 6 rfl rfl)
theorem dX2_primes_7 : decode cX2_primes 7 = .ok (.iload_n 1, 1) := dk_27 (dk_at dksX2_primes_0 7 rfl rfl)
theorem dX2_primes_8 : decode cX2_primes 8 = .ok (.imul, 1) := dk_104 (dk_at dksX2_primes_0 8 rfl rfl)
theorem dX2_primes_9 : decode cX2_primes 9 = .ok (.iadd, 1) := dk_96 (dk_at dksX2_primes_0 9 rfl rfl)
theorem dX2_primes_10 : decode cX2_primes 10 = .ok (.iconst 4, 1) := dk_7 (dk_at dksX2_primes_0 10 rfl rfl)
theorem dX2_primes_11 : decode cX2_primes 11 = .ok (.iadd, 1) := dk_96 (dk_at dksX2_primes_0 11 rfl rfl)
theorem dX2_primes_12 : decode cX2_primes 12 = .ok (.iconst 1, 1) := dk_4 (dk_at dksX2_primes_0 12 rfl rfl)
theorem dX2_primes_13 : decode cX2_primes 13 = .ok (.iastore, 1) := dk_79 (dk_at dksX2_primes_0 13 rfl rfl)
theorem dX2_primes_14 : decode cX2_primes 14 = .ok (.aload_n 0, 1) := dk_42 (dk_at dksX2_primes_0 14 rfl rfl)
theorem dX2_primes_15 : decode cX2_primes 15 = .ok (.getfield 32, 3) := dk_180 0 32 (dk_at dksX2_primes_0 15 rfl rfl)
theorem dX2_primes_18 : decode cX2_primes 18 = .ok (.iconst 5, 1) := dk_8 (dk_at dksX2_primes_0 18 rfl rfl)
theorem dX2_primes_19 : decode cX2_primes 19 = .ok (.dup2, 1) := dk_92 (dk_at dksX2_primes_0 19 rfl rfl)
theorem dX2_primes_20 : decode cX2_primes 20 = .ok (.iaload, 1) := dk_46 (dk_at dksX2_primes_0 20 rfl rfl)
theorem dX2_primes_21 : decode cX2_primes 21 = .ok (.iconst 1, 1) := dk_4 (dk_at dksX2_primes_0 21 rfl rfl)
theorem dX2_primes_22 : decode cX2_primes 22 = .ok (.isub, 1) := dk_100 (dk_at dksX2_primes_0 22 rfl rfl)
theorem dX2_primes_23 : decode cX2_primes 23 = .ok (.iastore, 1) := dk_79 (dk_at dksX2_primes_0 23 rfl rfl)
theorem dX2_primes_24 : decode cX2_primes 24 = .ok (.aload_n 0, 1) := dk_42 (dk_at dksX2_primes_1 0 rfl rfl)
theorem dX2_primes_25 : decode cX2_primes 25 = .ok (.getfield 32, 3) := dk_180 0 32 (dk_at dksX2_primes_1 1 rfl rfl)
theorem dX2_primes_28 : decode cX2_primes 28 = .ok (.iconst 5, 1) := dk_8 (dk_at dksX2_primes_1 4 rfl rfl)
theorem dX2_primes_29 : decode cX2_primes 29 = .ok (.iaload, 1) := dk_46 (dk_at dksX2_primes_1 5 rfl rfl)
theorem dX2_primes_30 : decode cX2_primes 30 = .ok (.ireturn, 1) := dk_172 (dk_at dksX2_primes_1 6 rfl rfl)
abbrev cX2_drop : ByteArray := prog_27_method_28_code
def yX2_drop : MethodName := ⟨RX2, "drop", "(I)I"⟩
def dkwX2_drop_0 : List UInt8 := [42, 27, 182, 0, 126, 61, 28, 153, 0, 5, 28, 172, 42, 182, 0, 107, 42, 27, 182, 0, 129, 172]
abbrev dktX2_drop_0 : List UInt8 := dkwX2_drop_0 ++ []
theorem dksX2_drop_0 : cX2_drop.data.toList.drop 0 = dktX2_drop_0 := by decide +kernel
theorem dX2_drop_0 : decode cX2_drop 0 = .ok (.aload_n 0, 1) := dk_42 (dk_at dksX2_drop_0 0 rfl rfl)
theorem dX2_drop_1 : decode cX2_drop 1 = .ok (.iload_n 1, 1) := dk_27 (dk_at dksX2_drop_0 1 rfl rfl)
theorem dX2_drop_2 : decode cX2_drop 2 = .ok (.invokevirtual 126, 3) := dk_182 0 126 (dk_at dksX2_drop_0 2 rfl rfl)
theorem dX2_drop_5 : decode cX2_drop 5 = .ok (.istore_n 2, 1) := dk_61 (dk_at dksX2_drop_0 5 rfl rfl)
theorem dX2_drop_6 : decode cX2_drop 6 = .ok (.iload_n 2, 1) := dk_28 (dk_at dksX2_drop_0 6 rfl rfl)
theorem dX2_drop_7 : decode cX2_drop 7 = .ok (.ifCond .eq 5, 3) := dk_153 0 5 (dk_at dksX2_drop_0 7 rfl rfl)
theorem dX2_drop_10 : decode cX2_drop 10 = .ok (.iload_n 2, 1) := dk_28 (dk_at dksX2_drop_0 10 rfl rfl)
theorem dX2_drop_11 : decode cX2_drop 11 = .ok (.ireturn, 1) := dk_172 (dk_at dksX2_drop_0 11 rfl rfl)
theorem dX2_drop_12 : decode cX2_drop 12 = .ok (.aload_n 0, 1) := dk_42 (dk_at dksX2_drop_0 12 rfl rfl)
theorem dX2_drop_13 : decode cX2_drop 13 = .ok (.invokevirtual 107, 3) := dk_182 0 107 (dk_at dksX2_drop_0 13 rfl rfl)
theorem dX2_drop_16 : decode cX2_drop 16 = .ok (.aload_n 0, 1) := dk_42 (dk_at dksX2_drop_0 16 rfl rfl)
theorem dX2_drop_17 : decode cX2_drop 17 = .ok (.iload_n 1, 1) := dk_27 (dk_at dksX2_drop_0 17 rfl rfl)
theorem dX2_drop_18 : decode cX2_drop 18 = .ok (.invokevirtual 129, 3) := dk_182 0 129 (dk_at dksX2_drop_0 18 rfl rfl)
theorem dX2_drop_21 : decode cX2_drop 21 = .ok (.ireturn, 1) := dk_172 (dk_at dksX2_drop_0 21 rfl rfl)
abbrev cX2_notDrop : ByteArray := prog_27_method_26_code
def yX2_notDrop : MethodName := ⟨RX2, "notDrop", "(I)I"⟩
def dkwX2_notDrop_0 : List UInt8 := [42, 27, 182, 0, 113, 153, 0, 7, 3, 167, 0, 4, 2, 172]
abbrev dktX2_notDrop_0 : List UInt8 := dkwX2_notDrop_0 ++ []
theorem dksX2_notDrop_0 : cX2_notDrop.data.toList.drop 0 = dktX2_notDrop_0 := by decide +kernel
theorem dX2_notDrop_0 : decode cX2_notDrop 0 = .ok (.aload_n 0, 1) := dk_42 (dk_at dksX2_notDrop_0 0 rfl rfl)
theorem dX2_notDrop_1 : decode cX2_notDrop 1 = .ok (.iload_n 1, 1) := dk_27 (dk_at dksX2_notDrop_0 1 rfl rfl)
theorem dX2_notDrop_2 : decode cX2_notDrop 2 = .ok (.invokevirtual 113, 3) := dk_182 0 113 (dk_at dksX2_notDrop_0 2 rfl rfl)
theorem dX2_notDrop_5 : decode cX2_notDrop 5 = .ok (.ifCond .eq 7, 3) := dk_153 0 7 (dk_at dksX2_notDrop_0 5 rfl rfl)
theorem dX2_notDrop_8 : decode cX2_notDrop 8 = .ok (.iconst 0, 1) := dk_3 (dk_at dksX2_notDrop_0 8 rfl rfl)
theorem dX2_notDrop_9 : decode cX2_notDrop 9 = .ok (.goto 4, 3) := dk_167 0 4 (dk_at dksX2_notDrop_0 9 rfl rfl)
theorem dX2_notDrop_12 : decode cX2_notDrop 12 = .ok (.iconst (-1), 1) := dk_2 (dk_at dksX2_notDrop_0 12 rfl rfl)
theorem dX2_notDrop_13 : decode cX2_notDrop 13 = .ok (.ireturn, 1) := dk_172 (dk_at dksX2_notDrop_0 13 rfl rfl)
abbrev cX2_drops : ByteArray := prog_27_method_27_code
def yX2_drops : MethodName := ⟨RX2, "drops", "(I)I"⟩
def dkwX2_drops_0 : List UInt8 := [42, 27, 182, 0, 122, 42, 180, 0, 32, 16, 8, 92, 46, 4, 96, 79, 42, 180, 0, 32, 3, 46, 172]
abbrev dktX2_drops_0 : List UInt8 := dkwX2_drops_0 ++ []
theorem dksX2_drops_0 : cX2_drops.data.toList.drop 0 = dktX2_drops_0 := by decide +kernel
theorem dX2_drops_0 : decode cX2_drops 0 = .ok (.aload_n 0, 1) := dk_42 (dk_at dksX2_drops_0 0 rfl rfl)
theorem dX2_drops_1 : decode cX2_drops 1 = .ok (.iload_n 1, 1) := dk_27 (dk_at dksX2_drops_0 1 rfl rfl)
theorem dX2_drops_2 : decode cX2_drops 2 = .ok (.invokevirtual 122, 3) := dk_182 0 122 (dk_at dksX2_drops_0 2 rfl rfl)
theorem dX2_drops_5 : decode cX2_drops 5 = .ok (.aload_n 0, 1) := dk_42 (dk_at dksX2_drops_0 5 rfl rfl)
theorem dX2_drops_6 : decode cX2_drops 6 = .ok (.getfield 32, 3) := dk_180 0 32 (dk_at dksX2_drops_0 6 rfl rfl)
theorem dX2_drops_9 : decode cX2_drops 9 = .ok (.bipush 8, 2) := dk_16 8 (dk_at dksX2_drops_0 9 rfl rfl)
theorem dX2_drops_11 : decode cX2_drops 11 = .ok (.dup2, 1) := dk_92 (dk_at dksX2_drops_0 11 rfl rfl)
theorem dX2_drops_12 : decode cX2_drops 12 = .ok (.iaload, 1) := dk_46 (dk_at dksX2_drops_0 12 rfl rfl)
theorem dX2_drops_13 : decode cX2_drops 13 = .ok (.iconst 1, 1) := dk_4 (dk_at dksX2_drops_0 13 rfl rfl)
theorem dX2_drops_14 : decode cX2_drops 14 = .ok (.iadd, 1) := dk_96 (dk_at dksX2_drops_0 14 rfl rfl)
theorem dX2_drops_15 : decode cX2_drops 15 = .ok (.iastore, 1) := dk_79 (dk_at dksX2_drops_0 15 rfl rfl)
theorem dX2_drops_16 : decode cX2_drops 16 = .ok (.aload_n 0, 1) := dk_42 (dk_at dksX2_drops_0 16 rfl rfl)
theorem dX2_drops_17 : decode cX2_drops 17 = .ok (.getfield 32, 3) := dk_180 0 32 (dk_at dksX2_drops_0 17 rfl rfl)
theorem dX2_drops_20 : decode cX2_drops 20 = .ok (.iconst 0, 1) := dk_3 (dk_at dksX2_drops_0 20 rfl rfl)
theorem dX2_drops_21 : decode cX2_drops 21 = .ok (.iaload, 1) := dk_46 (dk_at dksX2_drops_0 21 rfl rfl)
theorem dX2_drops_22 : decode cX2_drops 22 = .ok (.ireturn, 1) := dk_172 (dk_at dksX2_drops_0 22 rfl rfl)
abbrev cX2_goes : ByteArray := prog_27_method_25_code
def yX2_goes : MethodName := ⟨RX2, "goes", "(I)V"⟩
def dkwX2_goes_3 : List UInt8 := [132, 3, 1, 167, 255, 239, 177]
abbrev dktX2_goes_3 : List UInt8 := dkwX2_goes_3 ++ []
def dkwX2_goes_2 : List UInt8 := [132, 3, 1, 167, 255, 234, 3, 62, 29, 8, 162, 0, 18, 42, 180, 0, 32, 28, 29, 96, 3, 79]
abbrev dktX2_goes_2 : List UInt8 := dkwX2_goes_2 ++ dktX2_goes_3
def dkwX2_goes_1 : List UInt8 := [8, 27, 104, 96, 62, 29, 28, 162, 0, 23, 42, 180, 0, 32, 29, 42, 180, 0, 32, 29, 8, 96, 46, 79]
abbrev dktX2_goes_1 : List UInt8 := dkwX2_goes_1 ++ dktX2_goes_2
def dkwX2_goes_0 : List UInt8 := [42, 180, 0, 32, 3, 92, 46, 4, 100, 79, 16, 22, 8, 42, 180, 0, 32, 3, 46, 104, 96, 61, 16, 22]
abbrev dktX2_goes_0 : List UInt8 := dkwX2_goes_0 ++ dktX2_goes_1
theorem dksX2_goes_0 : cX2_goes.data.toList.drop 0 = dktX2_goes_0 := by decide +kernel
theorem dksX2_goes_1 : cX2_goes.data.toList.drop 24 = dktX2_goes_1 := dk_seg dksX2_goes_0 24 rfl rfl
theorem dksX2_goes_2 : cX2_goes.data.toList.drop 48 = dktX2_goes_2 := dk_seg dksX2_goes_1 24 rfl rfl
theorem dksX2_goes_3 : cX2_goes.data.toList.drop 70 = dktX2_goes_3 := dk_seg dksX2_goes_2 22 rfl rfl
theorem dX2_goes_0 : decode cX2_goes 0 = .ok (.aload_n 0, 1) := dk_42 (dk_at dksX2_goes_0 0 rfl rfl)
theorem dX2_goes_1 : decode cX2_goes 1 = .ok (.getfield 32, 3) := dk_180 0 32 (dk_at dksX2_goes_0 1 rfl rfl)
theorem dX2_goes_4 : decode cX2_goes 4 = .ok (.iconst 0, 1) := dk_3 (dk_at dksX2_goes_0 4 rfl rfl)
theorem dX2_goes_5 : decode cX2_goes 5 = .ok (.dup2, 1) := dk_92 (dk_at dksX2_goes_0 5 rfl rfl)
theorem dX2_goes_6 : decode cX2_goes 6 = .ok (.iaload, 1) := dk_46 (dk_at dksX2_goes_0 6 rfl rfl)
theorem dX2_goes_7 : decode cX2_goes 7 = .ok (.iconst 1, 1) := dk_4 (dk_at dksX2_goes_0 7 rfl rfl)
theorem dX2_goes_8 : decode cX2_goes 8 = .ok (.isub, 1) := dk_100 (dk_at dksX2_goes_0 8 rfl rfl)
theorem dX2_goes_9 : decode cX2_goes 9 = .ok (.iastore, 1) := dk_79 (dk_at dksX2_goes_0 9 rfl rfl)
theorem dX2_goes_10 : decode cX2_goes 10 = .ok (.bipush 22, 2) := dk_16 22 (dk_at dksX2_goes_0 10 rfl rfl)
theorem dX2_goes_12 : decode cX2_goes 12 = .ok (.iconst 5, 1) := dk_8 (dk_at dksX2_goes_0 12 rfl rfl)
theorem dX2_goes_13 : decode cX2_goes 13 = .ok (.aload_n 0, 1) := dk_42 (dk_at dksX2_goes_0 13 rfl rfl)
theorem dX2_goes_14 : decode cX2_goes 14 = .ok (.getfield 32, 3) := dk_180 0 32 (dk_at dksX2_goes_0 14 rfl rfl)
theorem dX2_goes_17 : decode cX2_goes 17 = .ok (.iconst 0, 1) := dk_3 (dk_at dksX2_goes_0 17 rfl rfl)
theorem dX2_goes_18 : decode cX2_goes 18 = .ok (.iaload, 1) := dk_46 (dk_at dksX2_goes_0 18 rfl rfl)
theorem dX2_goes_19 : decode cX2_goes 19 = .ok (.imul, 1) := dk_104 (dk_at dksX2_goes_0 19 rfl rfl)
theorem dX2_goes_20 : decode cX2_goes 20 = .ok (.iadd, 1) := dk_96 (dk_at dksX2_goes_0 20 rfl rfl)
theorem dX2_goes_21 : decode cX2_goes 21 = .ok (.istore_n 2, 1) := dk_61 (dk_at dksX2_goes_0 21 rfl rfl)
theorem dX2_goes_22 : decode cX2_goes 22 = .ok (.bipush 22, 2) := dk_16 22 (dk_at dksX2_goes_0 22 rfl rfl)
theorem dX2_goes_24 : decode cX2_goes 24 = .ok (.iconst 5, 1) := dk_8 (dk_at dksX2_goes_1 0 rfl rfl)
theorem dX2_goes_25 : decode cX2_goes 25 = .ok (.iload_n 1, 1) := dk_27 (dk_at dksX2_goes_1 1 rfl rfl)
theorem dX2_goes_26 : decode cX2_goes 26 = .ok (.imul, 1) := dk_104 (dk_at dksX2_goes_1 2 rfl rfl)
theorem dX2_goes_27 : decode cX2_goes 27 = .ok (.iadd, 1) := dk_96 (dk_at dksX2_goes_1 3 rfl rfl)
theorem dX2_goes_28 : decode cX2_goes 28 = .ok (.istore_n 3, 1) := dk_62 (dk_at dksX2_goes_1 4 rfl rfl)
theorem dX2_goes_29 : decode cX2_goes 29 = .ok (.iload_n 3, 1) := dk_29 (dk_at dksX2_goes_1 5 rfl rfl)
theorem dX2_goes_30 : decode cX2_goes 30 = .ok (.iload_n 2, 1) := dk_28 (dk_at dksX2_goes_1 6 rfl rfl)
theorem dX2_goes_31 : decode cX2_goes 31 = .ok (.if_icmp .ge 23, 3) := dk_162 0 23 (dk_at dksX2_goes_1 7 rfl rfl)
theorem dX2_goes_34 : decode cX2_goes 34 = .ok (.aload_n 0, 1) := dk_42 (dk_at dksX2_goes_1 10 rfl rfl)
theorem dX2_goes_35 : decode cX2_goes 35 = .ok (.getfield 32, 3) := dk_180 0 32 (dk_at dksX2_goes_1 11 rfl rfl)
theorem dX2_goes_38 : decode cX2_goes 38 = .ok (.iload_n 3, 1) := dk_29 (dk_at dksX2_goes_1 14 rfl rfl)
theorem dX2_goes_39 : decode cX2_goes 39 = .ok (.aload_n 0, 1) := dk_42 (dk_at dksX2_goes_1 15 rfl rfl)
theorem dX2_goes_40 : decode cX2_goes 40 = .ok (.getfield 32, 3) := dk_180 0 32 (dk_at dksX2_goes_1 16 rfl rfl)
theorem dX2_goes_43 : decode cX2_goes 43 = .ok (.iload_n 3, 1) := dk_29 (dk_at dksX2_goes_1 19 rfl rfl)
theorem dX2_goes_44 : decode cX2_goes 44 = .ok (.iconst 5, 1) := dk_8 (dk_at dksX2_goes_1 20 rfl rfl)
theorem dX2_goes_45 : decode cX2_goes 45 = .ok (.iadd, 1) := dk_96 (dk_at dksX2_goes_1 21 rfl rfl)
theorem dX2_goes_46 : decode cX2_goes 46 = .ok (.iaload, 1) := dk_46 (dk_at dksX2_goes_1 22 rfl rfl)
theorem dX2_goes_47 : decode cX2_goes 47 = .ok (.iastore, 1) := dk_79 (dk_at dksX2_goes_1 23 rfl rfl)
theorem dX2_goes_48 : decode cX2_goes 48 = .ok (.iinc 3 1, 3) := dk_132 3 1 (dk_at dksX2_goes_2 0 rfl rfl)
theorem dX2_goes_51 : decode cX2_goes 51 = .ok (.goto (-22), 3) := dk_167 255 234 (dk_at dksX2_goes_2 3 rfl rfl)
theorem dX2_goes_54 : decode cX2_goes 54 = .ok (.iconst 0, 1) := dk_3 (dk_at dksX2_goes_2 6 rfl rfl)
theorem dX2_goes_55 : decode cX2_goes 55 = .ok (.istore_n 3, 1) := dk_62 (dk_at dksX2_goes_2 7 rfl rfl)
theorem dX2_goes_56 : decode cX2_goes 56 = .ok (.iload_n 3, 1) := dk_29 (dk_at dksX2_goes_2 8 rfl rfl)
theorem dX2_goes_57 : decode cX2_goes 57 = .ok (.iconst 5, 1) := dk_8 (dk_at dksX2_goes_2 9 rfl rfl)
theorem dX2_goes_58 : decode cX2_goes 58 = .ok (.if_icmp .ge 18, 3) := dk_162 0 18 (dk_at dksX2_goes_2 10 rfl rfl)
theorem dX2_goes_61 : decode cX2_goes 61 = .ok (.aload_n 0, 1) := dk_42 (dk_at dksX2_goes_2 13 rfl rfl)
theorem dX2_goes_62 : decode cX2_goes 62 = .ok (.getfield 32, 3) := dk_180 0 32 (dk_at dksX2_goes_2 14 rfl rfl)
theorem dX2_goes_65 : decode cX2_goes 65 = .ok (.iload_n 2, 1) := dk_28 (dk_at dksX2_goes_2 17 rfl rfl)
theorem dX2_goes_66 : decode cX2_goes 66 = .ok (.iload_n 3, 1) := dk_29 (dk_at dksX2_goes_2 18 rfl rfl)
theorem dX2_goes_67 : decode cX2_goes 67 = .ok (.iadd, 1) := dk_96 (dk_at dksX2_goes_2 19 rfl rfl)
theorem dX2_goes_68 : decode cX2_goes 68 = .ok (.iconst 0, 1) := dk_3 (dk_at dksX2_goes_2 20 rfl rfl)
theorem dX2_goes_69 : decode cX2_goes 69 = .ok (.iastore, 1) := dk_79 (dk_at dksX2_goes_2 21 rfl rfl)
theorem dX2_goes_70 : decode cX2_goes 70 = .ok (.iinc 3 1, 3) := dk_132 3 1 (dk_at dksX2_goes_3 0 rfl rfl)
theorem dX2_goes_73 : decode cX2_goes 73 = .ok (.goto (-17), 3) := dk_167 255 239 (dk_at dksX2_goes_3 3 rfl rfl)
theorem dX2_goes_76 : decode cX2_goes 76 = .ok (.return_, 1) := dk_177 (dk_at dksX2_goes_3 6 rfl rfl)
abbrev cX2_drain : ByteArray := prog_27_method_31_code
def yX2_drain : MethodName := ⟨RX2, "drain", "(I)I"⟩
def dkwX2_drain_1 : List UInt8 := [182, 0, 135, 172]
abbrev dktX2_drain_1 : List UInt8 := dkwX2_drain_1 ++ []
def dkwX2_drain_0 : List UInt8 := [42, 27, 182, 0, 132, 61, 28, 153, 0, 9, 42, 28, 182, 0, 104, 172, 42, 182, 0, 107, 42, 27]
abbrev dktX2_drain_0 : List UInt8 := dkwX2_drain_0 ++ dktX2_drain_1
theorem dksX2_drain_0 : cX2_drain.data.toList.drop 0 = dktX2_drain_0 := by decide +kernel
theorem dksX2_drain_1 : cX2_drain.data.toList.drop 22 = dktX2_drain_1 := dk_seg dksX2_drain_0 22 rfl rfl
theorem dX2_drain_0 : decode cX2_drain 0 = .ok (.aload_n 0, 1) := dk_42 (dk_at dksX2_drain_0 0 rfl rfl)
theorem dX2_drain_1 : decode cX2_drain 1 = .ok (.iload_n 1, 1) := dk_27 (dk_at dksX2_drain_0 1 rfl rfl)
theorem dX2_drain_2 : decode cX2_drain 2 = .ok (.invokevirtual 132, 3) := dk_182 0 132 (dk_at dksX2_drain_0 2 rfl rfl)
theorem dX2_drain_5 : decode cX2_drain 5 = .ok (.istore_n 2, 1) := dk_61 (dk_at dksX2_drain_0 5 rfl rfl)
theorem dX2_drain_6 : decode cX2_drain 6 = .ok (.iload_n 2, 1) := dk_28 (dk_at dksX2_drain_0 6 rfl rfl)
theorem dX2_drain_7 : decode cX2_drain 7 = .ok (.ifCond .eq 9, 3) := dk_153 0 9 (dk_at dksX2_drain_0 7 rfl rfl)
theorem dX2_drain_10 : decode cX2_drain 10 = .ok (.aload_n 0, 1) := dk_42 (dk_at dksX2_drain_0 10 rfl rfl)
theorem dX2_drain_11 : decode cX2_drain 11 = .ok (.iload_n 2, 1) := dk_28 (dk_at dksX2_drain_0 11 rfl rfl)
theorem dX2_drain_12 : decode cX2_drain 12 = .ok (.invokevirtual 104, 3) := dk_182 0 104 (dk_at dksX2_drain_0 12 rfl rfl)
theorem dX2_drain_15 : decode cX2_drain 15 = .ok (.ireturn, 1) := dk_172 (dk_at dksX2_drain_0 15 rfl rfl)
theorem dX2_drain_16 : decode cX2_drain 16 = .ok (.aload_n 0, 1) := dk_42 (dk_at dksX2_drain_0 16 rfl rfl)
theorem dX2_drain_17 : decode cX2_drain 17 = .ok (.invokevirtual 107, 3) := dk_182 0 107 (dk_at dksX2_drain_0 17 rfl rfl)
theorem dX2_drain_20 : decode cX2_drain 20 = .ok (.aload_n 0, 1) := dk_42 (dk_at dksX2_drain_0 20 rfl rfl)
theorem dX2_drain_21 : decode cX2_drain 21 = .ok (.iload_n 1, 1) := dk_27 (dk_at dksX2_drain_0 21 rfl rfl)
theorem dX2_drain_22 : decode cX2_drain 22 = .ok (.invokevirtual 135, 3) := dk_182 0 135 (dk_at dksX2_drain_1 0 rfl rfl)
theorem dX2_drain_25 : decode cX2_drain 25 = .ok (.ireturn, 1) := dk_172 (dk_at dksX2_drain_1 3 rfl rfl)
abbrev cX2_notDrain : ByteArray := prog_27_method_29_code
def yX2_notDrain : MethodName := ⟨RX2, "notDrain", "(I)I"⟩
def dkwX2_notDrain_1 : List UInt8 := [16, 7, 42, 180, 0, 32, 7, 46, 182, 0, 88, 167, 0, 4, 3, 172]
abbrev dktX2_notDrain_1 : List UInt8 := dkwX2_notDrain_1 ++ []
def dkwX2_notDrain_0 : List UInt8 := [27, 4, 16, 50, 184, 0, 19, 154, 0, 6, 16, 254, 172, 42, 180, 0, 32, 7, 46, 27, 162, 0, 18, 42]
abbrev dktX2_notDrain_0 : List UInt8 := dkwX2_notDrain_0 ++ dktX2_notDrain_1
theorem dksX2_notDrain_0 : cX2_notDrain.data.toList.drop 0 = dktX2_notDrain_0 := by decide +kernel
theorem dksX2_notDrain_1 : cX2_notDrain.data.toList.drop 24 = dktX2_notDrain_1 := dk_seg dksX2_notDrain_0 24 rfl rfl
theorem dX2_notDrain_0 : decode cX2_notDrain 0 = .ok (.iload_n 1, 1) := dk_27 (dk_at dksX2_notDrain_0 0 rfl rfl)
theorem dX2_notDrain_1 : decode cX2_notDrain 1 = .ok (.iconst 1, 1) := dk_4 (dk_at dksX2_notDrain_0 1 rfl rfl)
theorem dX2_notDrain_2 : decode cX2_notDrain 2 = .ok (.bipush 50, 2) := dk_16 50 (dk_at dksX2_notDrain_0 2 rfl rfl)
theorem dX2_notDrain_4 : decode cX2_notDrain 4 = .ok (.invokestatic 19, 3) := dk_184 0 19 (dk_at dksX2_notDrain_0 4 rfl rfl)
theorem dX2_notDrain_7 : decode cX2_notDrain 7 = .ok (.ifCond .ne 6, 3) := dk_154 0 6 (dk_at dksX2_notDrain_0 7 rfl rfl)
theorem dX2_notDrain_10 : decode cX2_notDrain 10 = .ok (.bipush (-2), 2) := dk_16 254 (dk_at dksX2_notDrain_0 10 rfl rfl)
theorem dX2_notDrain_12 : decode cX2_notDrain 12 = .ok (.ireturn, 1) := dk_172 (dk_at dksX2_notDrain_0 12 rfl rfl)
theorem dX2_notDrain_13 : decode cX2_notDrain 13 = .ok (.aload_n 0, 1) := dk_42 (dk_at dksX2_notDrain_0 13 rfl rfl)
theorem dX2_notDrain_14 : decode cX2_notDrain 14 = .ok (.getfield 32, 3) := dk_180 0 32 (dk_at dksX2_notDrain_0 14 rfl rfl)
theorem dX2_notDrain_17 : decode cX2_notDrain 17 = .ok (.iconst 4, 1) := dk_7 (dk_at dksX2_notDrain_0 17 rfl rfl)
theorem dX2_notDrain_18 : decode cX2_notDrain 18 = .ok (.iaload, 1) := dk_46 (dk_at dksX2_notDrain_0 18 rfl rfl)
theorem dX2_notDrain_19 : decode cX2_notDrain 19 = .ok (.iload_n 1, 1) := dk_27 (dk_at dksX2_notDrain_0 19 rfl rfl)
theorem dX2_notDrain_20 : decode cX2_notDrain 20 = .ok (.if_icmp .ge 18, 3) := dk_162 0 18 (dk_at dksX2_notDrain_0 20 rfl rfl)
theorem dX2_notDrain_23 : decode cX2_notDrain 23 = .ok (.aload_n 0, 1) := dk_42 (dk_at dksX2_notDrain_0 23 rfl rfl)
theorem dX2_notDrain_24 : decode cX2_notDrain 24 = .ok (.bipush 7, 2) := dk_16 7 (dk_at dksX2_notDrain_1 0 rfl rfl)
theorem dX2_notDrain_26 : decode cX2_notDrain 26 = .ok (.aload_n 0, 1) := dk_42 (dk_at dksX2_notDrain_1 2 rfl rfl)
theorem dX2_notDrain_27 : decode cX2_notDrain 27 = .ok (.getfield 32, 3) := dk_180 0 32 (dk_at dksX2_notDrain_1 3 rfl rfl)
theorem dX2_notDrain_30 : decode cX2_notDrain 30 = .ok (.iconst 4, 1) := dk_7 (dk_at dksX2_notDrain_1 6 rfl rfl)
theorem dX2_notDrain_31 : decode cX2_notDrain 31 = .ok (.iaload, 1) := dk_46 (dk_at dksX2_notDrain_1 7 rfl rfl)
theorem dX2_notDrain_32 : decode cX2_notDrain 32 = .ok (.invokevirtual 88, 3) := dk_182 0 88 (dk_at dksX2_notDrain_1 8 rfl rfl)
theorem dX2_notDrain_35 : decode cX2_notDrain 35 = .ok (.goto 4, 3) := dk_167 0 4 (dk_at dksX2_notDrain_1 11 rfl rfl)
theorem dX2_notDrain_38 : decode cX2_notDrain 38 = .ok (.iconst 0, 1) := dk_3 (dk_at dksX2_notDrain_1 14 rfl rfl)
theorem dX2_notDrain_39 : decode cX2_notDrain 39 = .ok (.ireturn, 1) := dk_172 (dk_at dksX2_notDrain_1 15 rfl rfl)
abbrev cX2_drains : ByteArray := prog_27_method_30_code
def yX2_drains : MethodName := ⟨RX2, "drains", "(I)I"⟩
def dkwX2_drains_2 : List UInt8 := [180, 0, 32, 8, 16, 9, 79, 42, 180, 0, 32, 8, 46, 172]
abbrev dktX2_drains_2 : List UInt8 := dkwX2_drains_2 ++ []
def dkwX2_drains_1 : List UInt8 := [180, 0, 32, 8, 92, 46, 27, 16, 10, 108, 96, 79, 42, 180, 0, 32, 8, 46, 16, 9, 164, 0, 11, 42]
abbrev dktX2_drains_1 : List UInt8 := dkwX2_drains_1 ++ dktX2_drains_2
def dkwX2_drains_0 : List UInt8 := [42, 180, 0, 32, 7, 92, 46, 27, 100, 79, 42, 180, 0, 32, 16, 10, 92, 46, 27, 96, 79, 42]
abbrev dktX2_drains_0 : List UInt8 := dkwX2_drains_0 ++ dktX2_drains_1
theorem dksX2_drains_0 : cX2_drains.data.toList.drop 0 = dktX2_drains_0 := by decide +kernel
theorem dksX2_drains_1 : cX2_drains.data.toList.drop 22 = dktX2_drains_1 := dk_seg dksX2_drains_0 22 rfl rfl
theorem dksX2_drains_2 : cX2_drains.data.toList.drop 46 = dktX2_drains_2 := dk_seg dksX2_drains_1 24 rfl rfl
theorem dX2_drains_0 : decode cX2_drains 0 = .ok (.aload_n 0, 1) := dk_42 (dk_at dksX2_drains_0 0 rfl rfl)
theorem dX2_drains_1 : decode cX2_drains 1 = .ok (.getfield 32, 3) := dk_180 0 32 (dk_at dksX2_drains_0 1 rfl rfl)
theorem dX2_drains_4 : decode cX2_drains 4 = .ok (.iconst 4, 1) := dk_7 (dk_at dksX2_drains_0 4 rfl rfl)
theorem dX2_drains_5 : decode cX2_drains 5 = .ok (.dup2, 1) := dk_92 (dk_at dksX2_drains_0 5 rfl rfl)
theorem dX2_drains_6 : decode cX2_drains 6 = .ok (.iaload, 1) := dk_46 (dk_at dksX2_drains_0 6 rfl rfl)
theorem dX2_drains_7 : decode cX2_drains 7 = .ok (.iload_n 1, 1) := dk_27 (dk_at dksX2_drains_0 7 rfl rfl)
theorem dX2_drains_8 : decode cX2_drains 8 = .ok (.isub, 1) := dk_100 (dk_at dksX2_drains_0 8 rfl rfl)
theorem dX2_drains_9 : decode cX2_drains 9 = .ok (.iastore, 1) := dk_79 (dk_at dksX2_drains_0 9 rfl rfl)
theorem dX2_drains_10 : decode cX2_drains 10 = .ok (.aload_n 0, 1) := dk_42 (dk_at dksX2_drains_0 10 rfl rfl)
theorem dX2_drains_11 : decode cX2_drains 11 = .ok (.getfield 32, 3) := dk_180 0 32 (dk_at dksX2_drains_0 11 rfl rfl)
theorem dX2_drains_14 : decode cX2_drains 14 = .ok (.bipush 10, 2) := dk_16 10 (dk_at dksX2_drains_0 14 rfl rfl)
theorem dX2_drains_16 : decode cX2_drains 16 = .ok (.dup2, 1) := dk_92 (dk_at dksX2_drains_0 16 rfl rfl)
theorem dX2_drains_17 : decode cX2_drains 17 = .ok (.iaload, 1) := dk_46 (dk_at dksX2_drains_0 17 rfl rfl)
theorem dX2_drains_18 : decode cX2_drains 18 = .ok (.iload_n 1, 1) := dk_27 (dk_at dksX2_drains_0 18 rfl rfl)
theorem dX2_drains_19 : decode cX2_drains 19 = .ok (.iadd, 1) := dk_96 (dk_at dksX2_drains_0 19 rfl rfl)
theorem dX2_drains_20 : decode cX2_drains 20 = .ok (.iastore, 1) := dk_79 (dk_at dksX2_drains_0 20 rfl rfl)
theorem dX2_drains_21 : decode cX2_drains 21 = .ok (.aload_n 0, 1) := dk_42 (dk_at dksX2_drains_0 21 rfl rfl)
theorem dX2_drains_22 : decode cX2_drains 22 = .ok (.getfield 32, 3) := dk_180 0 32 (dk_at dksX2_drains_1 0 rfl rfl)
theorem dX2_drains_25 : decode cX2_drains 25 = .ok (.iconst 5, 1) := dk_8 (dk_at dksX2_drains_1 3 rfl rfl)
theorem dX2_drains_26 : decode cX2_drains 26 = .ok (.dup2, 1) := dk_92 (dk_at dksX2_drains_1 4 rfl rfl)
theorem dX2_drains_27 : decode cX2_drains 27 = .ok (.iaload, 1) := dk_46 (dk_at dksX2_drains_1 5 rfl rfl)
theorem dX2_drains_28 : decode cX2_drains 28 = .ok (.iload_n 1, 1) := dk_27 (dk_at dksX2_drains_1 6 rfl rfl)
theorem dX2_drains_29 : decode cX2_drains 29 = .ok (.bipush 10, 2) := dk_16 10 (dk_at dksX2_drains_1 7 rfl rfl)
theorem dX2_drains_31 : decode cX2_drains 31 = .ok (.idiv, 1) := dk_108 (dk_at dksX2_drains_1 9 rfl rfl)
theorem dX2_drains_32 : decode cX2_drains 32 = .ok (.iadd, 1) := dk_96 (dk_at dksX2_drains_1 10 rfl rfl)
theorem dX2_drains_33 : decode cX2_drains 33 = .ok (.iastore, 1) := dk_79 (dk_at dksX2_drains_1 11 rfl rfl)
theorem dX2_drains_34 : decode cX2_drains 34 = .ok (.aload_n 0, 1) := dk_42 (dk_at dksX2_drains_1 12 rfl rfl)
theorem dX2_drains_35 : decode cX2_drains 35 = .ok (.getfield 32, 3) := dk_180 0 32 (dk_at dksX2_drains_1 13 rfl rfl)
theorem dX2_drains_38 : decode cX2_drains 38 = .ok (.iconst 5, 1) := dk_8 (dk_at dksX2_drains_1 16 rfl rfl)
theorem dX2_drains_39 : decode cX2_drains 39 = .ok (.iaload, 1) := dk_46 (dk_at dksX2_drains_1 17 rfl rfl)
theorem dX2_drains_40 : decode cX2_drains 40 = .ok (.bipush 9, 2) := dk_16 9 (dk_at dksX2_drains_1 18 rfl rfl)
theorem dX2_drains_42 : decode cX2_drains 42 = .ok (.if_icmp .le 11, 3) := dk_164 0 11 (dk_at dksX2_drains_1 20 rfl rfl)
theorem dX2_drains_45 : decode cX2_drains 45 = .ok (.aload_n 0, 1) := dk_42 (dk_at dksX2_drains_1 23 rfl rfl)
theorem dX2_drains_46 : decode cX2_drains 46 = .ok (.getfield 32, 3) := dk_180 0 32 (dk_at dksX2_drains_2 0 rfl rfl)
theorem dX2_drains_49 : decode cX2_drains 49 = .ok (.iconst 5, 1) := dk_8 (dk_at dksX2_drains_2 3 rfl rfl)
theorem dX2_drains_50 : decode cX2_drains 50 = .ok (.bipush 9, 2) := dk_16 9 (dk_at dksX2_drains_2 4 rfl rfl)
theorem dX2_drains_52 : decode cX2_drains 52 = .ok (.iastore, 1) := dk_79 (dk_at dksX2_drains_2 6 rfl rfl)
theorem dX2_drains_53 : decode cX2_drains 53 = .ok (.aload_n 0, 1) := dk_42 (dk_at dksX2_drains_2 7 rfl rfl)
theorem dX2_drains_54 : decode cX2_drains 54 = .ok (.getfield 32, 3) := dk_180 0 32 (dk_at dksX2_drains_2 8 rfl rfl)
theorem dX2_drains_57 : decode cX2_drains 57 = .ok (.iconst 5, 1) := dk_8 (dk_at dksX2_drains_2 11 rfl rfl)
theorem dX2_drains_58 : decode cX2_drains 58 = .ok (.iaload, 1) := dk_46 (dk_at dksX2_drains_2 12 rfl rfl)
theorem dX2_drains_59 : decode cX2_drains 59 = .ok (.ireturn, 1) := dk_172 (dk_at dksX2_drains_2 13 rfl rfl)
abbrev cX2_stroke : ByteArray := prog_27_method_34_code
def yX2_stroke : MethodName := ⟨RX2, "stroke", "(I)I"⟩
def dkwX2_stroke_1 : List UInt8 := [182, 0, 141, 172]
abbrev dktX2_stroke_1 : List UInt8 := dkwX2_stroke_1 ++ []
def dkwX2_stroke_0 : List UInt8 := [42, 27, 182, 0, 138, 61, 28, 153, 0, 9, 42, 28, 182, 0, 104, 172, 42, 182, 0, 107, 42, 5, 27]
abbrev dktX2_stroke_0 : List UInt8 := dkwX2_stroke_0 ++ dktX2_stroke_1
theorem dksX2_stroke_0 : cX2_stroke.data.toList.drop 0 = dktX2_stroke_0 := by decide +kernel
theorem dksX2_stroke_1 : cX2_stroke.data.toList.drop 23 = dktX2_stroke_1 := dk_seg dksX2_stroke_0 23 rfl rfl
theorem dX2_stroke_0 : decode cX2_stroke 0 = .ok (.aload_n 0, 1) := dk_42 (dk_at dksX2_stroke_0 0 rfl rfl)
theorem dX2_stroke_1 : decode cX2_stroke 1 = .ok (.iload_n 1, 1) := dk_27 (dk_at dksX2_stroke_0 1 rfl rfl)
theorem dX2_stroke_2 : decode cX2_stroke 2 = .ok (.invokevirtual 138, 3) := dk_182 0 138 (dk_at dksX2_stroke_0 2 rfl rfl)
theorem dX2_stroke_5 : decode cX2_stroke 5 = .ok (.istore_n 2, 1) := dk_61 (dk_at dksX2_stroke_0 5 rfl rfl)
theorem dX2_stroke_6 : decode cX2_stroke 6 = .ok (.iload_n 2, 1) := dk_28 (dk_at dksX2_stroke_0 6 rfl rfl)
theorem dX2_stroke_7 : decode cX2_stroke 7 = .ok (.ifCond .eq 9, 3) := dk_153 0 9 (dk_at dksX2_stroke_0 7 rfl rfl)
theorem dX2_stroke_10 : decode cX2_stroke 10 = .ok (.aload_n 0, 1) := dk_42 (dk_at dksX2_stroke_0 10 rfl rfl)
theorem dX2_stroke_11 : decode cX2_stroke 11 = .ok (.iload_n 2, 1) := dk_28 (dk_at dksX2_stroke_0 11 rfl rfl)
theorem dX2_stroke_12 : decode cX2_stroke 12 = .ok (.invokevirtual 104, 3) := dk_182 0 104 (dk_at dksX2_stroke_0 12 rfl rfl)
theorem dX2_stroke_15 : decode cX2_stroke 15 = .ok (.ireturn, 1) := dk_172 (dk_at dksX2_stroke_0 15 rfl rfl)
theorem dX2_stroke_16 : decode cX2_stroke 16 = .ok (.aload_n 0, 1) := dk_42 (dk_at dksX2_stroke_0 16 rfl rfl)
theorem dX2_stroke_17 : decode cX2_stroke 17 = .ok (.invokevirtual 107, 3) := dk_182 0 107 (dk_at dksX2_stroke_0 17 rfl rfl)
theorem dX2_stroke_20 : decode cX2_stroke 20 = .ok (.aload_n 0, 1) := dk_42 (dk_at dksX2_stroke_0 20 rfl rfl)
theorem dX2_stroke_21 : decode cX2_stroke 21 = .ok (.iconst 2, 1) := dk_5 (dk_at dksX2_stroke_0 21 rfl rfl)
theorem dX2_stroke_22 : decode cX2_stroke 22 = .ok (.iload_n 1, 1) := dk_27 (dk_at dksX2_stroke_0 22 rfl rfl)
theorem dX2_stroke_23 : decode cX2_stroke 23 = .ok (.invokevirtual 141, 3) := dk_182 0 141 (dk_at dksX2_stroke_1 0 rfl rfl)
theorem dX2_stroke_26 : decode cX2_stroke 26 = .ok (.ireturn, 1) := dk_172 (dk_at dksX2_stroke_1 3 rfl rfl)
abbrev cX2_notStroke : ByteArray := prog_27_method_33_code
def yX2_notStroke : MethodName := ⟨RX2, "notStroke", "(I)I"⟩
def dkwX2_notStroke_1 : List UInt8 := [8, 27, 182, 0, 88, 167, 0, 4, 3, 172]
abbrev dktX2_notStroke_1 : List UInt8 := dkwX2_notStroke_1 ++ []
def dkwX2_notStroke_0 : List UInt8 := [27, 4, 16, 10, 184, 0, 19, 154, 0, 6, 16, 254, 172, 42, 180, 0, 32, 5, 46, 27, 160, 0, 12, 42]
abbrev dktX2_notStroke_0 : List UInt8 := dkwX2_notStroke_0 ++ dktX2_notStroke_1
theorem dksX2_notStroke_0 : cX2_notStroke.data.toList.drop 0 = dktX2_notStroke_0 := by decide +kernel
theorem dksX2_notStroke_1 : cX2_notStroke.data.toList.drop 24 = dktX2_notStroke_1 := dk_seg dksX2_notStroke_0 24 rfl rfl
theorem dX2_notStroke_0 : decode cX2_notStroke 0 = .ok (.iload_n 1, 1) := dk_27 (dk_at dksX2_notStroke_0 0 rfl rfl)
theorem dX2_notStroke_1 : decode cX2_notStroke 1 = .ok (.iconst 1, 1) := dk_4 (dk_at dksX2_notStroke_0 1 rfl rfl)
theorem dX2_notStroke_2 : decode cX2_notStroke 2 = .ok (.bipush 10, 2) := dk_16 10 (dk_at dksX2_notStroke_0 2 rfl rfl)
theorem dX2_notStroke_4 : decode cX2_notStroke 4 = .ok (.invokestatic 19, 3) := dk_184 0 19 (dk_at dksX2_notStroke_0 4 rfl rfl)
theorem dX2_notStroke_7 : decode cX2_notStroke 7 = .ok (.ifCond .ne 6, 3) := dk_154 0 6 (dk_at dksX2_notStroke_0 7 rfl rfl)
theorem dX2_notStroke_10 : decode cX2_notStroke 10 = .ok (.bipush (-2), 2) := dk_16 254 (dk_at dksX2_notStroke_0 10 rfl rfl)
theorem dX2_notStroke_12 : decode cX2_notStroke 12 = .ok (.ireturn, 1) := dk_172 (dk_at dksX2_notStroke_0 12 rfl rfl)
theorem dX2_notStroke_13 : decode cX2_notStroke 13 = .ok (.aload_n 0, 1) := dk_42 (dk_at dksX2_notStroke_0 13 rfl rfl)
theorem dX2_notStroke_14 : decode cX2_notStroke 14 = .ok (.getfield 32, 3) := dk_180 0 32 (dk_at dksX2_notStroke_0 14 rfl rfl)
theorem dX2_notStroke_17 : decode cX2_notStroke 17 = .ok (.iconst 2, 1) := dk_5 (dk_at dksX2_notStroke_0 17 rfl rfl)
theorem dX2_notStroke_18 : decode cX2_notStroke 18 = .ok (.iaload, 1) := dk_46 (dk_at dksX2_notStroke_0 18 rfl rfl)
theorem dX2_notStroke_19 : decode cX2_notStroke 19 = .ok (.iload_n 1, 1) := dk_27 (dk_at dksX2_notStroke_0 19 rfl rfl)
theorem dX2_notStroke_20 : decode cX2_notStroke 20 = .ok (.if_icmp .ne 12, 3) := dk_160 0 12 (dk_at dksX2_notStroke_0 20 rfl rfl)
theorem dX2_notStroke_23 : decode cX2_notStroke 23 = .ok (.aload_n 0, 1) := dk_42 (dk_at dksX2_notStroke_0 23 rfl rfl)
theorem dX2_notStroke_24 : decode cX2_notStroke 24 = .ok (.iconst 5, 1) := dk_8 (dk_at dksX2_notStroke_1 0 rfl rfl)
theorem dX2_notStroke_25 : decode cX2_notStroke 25 = .ok (.iload_n 1, 1) := dk_27 (dk_at dksX2_notStroke_1 1 rfl rfl)
theorem dX2_notStroke_26 : decode cX2_notStroke 26 = .ok (.invokevirtual 88, 3) := dk_182 0 88 (dk_at dksX2_notStroke_1 2 rfl rfl)
theorem dX2_notStroke_29 : decode cX2_notStroke 29 = .ok (.goto 4, 3) := dk_167 0 4 (dk_at dksX2_notStroke_1 5 rfl rfl)
theorem dX2_notStroke_32 : decode cX2_notStroke 32 = .ok (.iconst 0, 1) := dk_3 (dk_at dksX2_notStroke_1 8 rfl rfl)
theorem dX2_notStroke_33 : decode cX2_notStroke 33 = .ok (.ireturn, 1) := dk_172 (dk_at dksX2_notStroke_1 9 rfl rfl)
abbrev cX2_tells : ByteArray := prog_27_method_32_code
def yX2_tells : MethodName := ⟨RX2, "tells", "(II)I"⟩
def dkwX2_tells_0 : List UInt8 := [42, 180, 0, 32, 27, 46, 62, 42, 180, 0, 32, 27, 28, 79, 29, 172]
abbrev dktX2_tells_0 : List UInt8 := dkwX2_tells_0 ++ []
theorem dksX2_tells_0 : cX2_tells.data.toList.drop 0 = dktX2_tells_0 := by decide +kernel
theorem dX2_tells_0 : decode cX2_tells 0 = .ok (.aload_n 0, 1) := dk_42 (dk_at dksX2_tells_0 0 rfl rfl)
theorem dX2_tells_1 : decode cX2_tells 1 = .ok (.getfield 32, 3) := dk_180 0 32 (dk_at dksX2_tells_0 1 rfl rfl)
theorem dX2_tells_4 : decode cX2_tells 4 = .ok (.iload_n 1, 1) := dk_27 (dk_at dksX2_tells_0 4 rfl rfl)
theorem dX2_tells_5 : decode cX2_tells 5 = .ok (.iaload, 1) := dk_46 (dk_at dksX2_tells_0 5 rfl rfl)
theorem dX2_tells_6 : decode cX2_tells 6 = .ok (.istore_n 3, 1) := dk_62 (dk_at dksX2_tells_0 6 rfl rfl)
theorem dX2_tells_7 : decode cX2_tells 7 = .ok (.aload_n 0, 1) := dk_42 (dk_at dksX2_tells_0 7 rfl rfl)
theorem dX2_tells_8 : decode cX2_tells 8 = .ok (.getfield 32, 3) := dk_180 0 32 (dk_at dksX2_tells_0 8 rfl rfl)
theorem dX2_tells_11 : decode cX2_tells 11 = .ok (.iload_n 1, 1) := dk_27 (dk_at dksX2_tells_0 11 rfl rfl)
theorem dX2_tells_12 : decode cX2_tells 12 = .ok (.iload_n 2, 1) := dk_28 (dk_at dksX2_tells_0 12 rfl rfl)
theorem dX2_tells_13 : decode cX2_tells 13 = .ok (.iastore, 1) := dk_79 (dk_at dksX2_tells_0 13 rfl rfl)
theorem dX2_tells_14 : decode cX2_tells 14 = .ok (.iload_n 3, 1) := dk_29 (dk_at dksX2_tells_0 14 rfl rfl)
theorem dX2_tells_15 : decode cX2_tells 15 = .ok (.ireturn, 1) := dk_172 (dk_at dksX2_tells_0 15 rfl rfl)
abbrev cX2_bucket : ByteArray := prog_27_method_36_code
def yX2_bucket : MethodName := ⟨RX2, "bucket", "(II)I"⟩
def dkwX2_bucket_1 : List UInt8 := [27, 96, 28, 182, 0, 141, 172]
abbrev dktX2_bucket_1 : List UInt8 := dkwX2_bucket_1 ++ []
def dkwX2_bucket_0 : List UInt8 := [42, 27, 28, 182, 0, 144, 62, 29, 153, 0, 9, 42, 29, 182, 0, 104, 172, 42, 182, 0, 107, 42, 16, 14]
abbrev dktX2_bucket_0 : List UInt8 := dkwX2_bucket_0 ++ dktX2_bucket_1
theorem dksX2_bucket_0 : cX2_bucket.data.toList.drop 0 = dktX2_bucket_0 := by decide +kernel
theorem dksX2_bucket_1 : cX2_bucket.data.toList.drop 24 = dktX2_bucket_1 := dk_seg dksX2_bucket_0 24 rfl rfl
theorem dX2_bucket_0 : decode cX2_bucket 0 = .ok (.aload_n 0, 1) := dk_42 (dk_at dksX2_bucket_0 0 rfl rfl)
theorem dX2_bucket_1 : decode cX2_bucket 1 = .ok (.iload_n 1, 1) := dk_27 (dk_at dksX2_bucket_0 1 rfl rfl)
theorem dX2_bucket_2 : decode cX2_bucket 2 = .ok (.iload_n 2, 1) := dk_28 (dk_at dksX2_bucket_0 2 rfl rfl)
theorem dX2_bucket_3 : decode cX2_bucket 3 = .ok (.invokevirtual 144, 3) := dk_182 0 144 (dk_at dksX2_bucket_0 3 rfl rfl)
theorem dX2_bucket_6 : decode cX2_bucket 6 = .ok (.istore_n 3, 1) := dk_62 (dk_at dksX2_bucket_0 6 rfl rfl)
theorem dX2_bucket_7 : decode cX2_bucket 7 = .ok (.iload_n 3, 1) := dk_29 (dk_at dksX2_bucket_0 7 rfl rfl)
theorem dX2_bucket_8 : decode cX2_bucket 8 = .ok (.ifCond .eq 9, 3) := dk_153 0 9 (dk_at dksX2_bucket_0 8 rfl rfl)
theorem dX2_bucket_11 : decode cX2_bucket 11 = .ok (.aload_n 0, 1) := dk_42 (dk_at dksX2_bucket_0 11 rfl rfl)
theorem dX2_bucket_12 : decode cX2_bucket 12 = .ok (.iload_n 3, 1) := dk_29 (dk_at dksX2_bucket_0 12 rfl rfl)
theorem dX2_bucket_13 : decode cX2_bucket 13 = .ok (.invokevirtual 104, 3) := dk_182 0 104 (dk_at dksX2_bucket_0 13 rfl rfl)
theorem dX2_bucket_16 : decode cX2_bucket 16 = .ok (.ireturn, 1) := dk_172 (dk_at dksX2_bucket_0 16 rfl rfl)
theorem dX2_bucket_17 : decode cX2_bucket 17 = .ok (.aload_n 0, 1) := dk_42 (dk_at dksX2_bucket_0 17 rfl rfl)
theorem dX2_bucket_18 : decode cX2_bucket 18 = .ok (.invokevirtual 107, 3) := dk_182 0 107 (dk_at dksX2_bucket_0 18 rfl rfl)
theorem dX2_bucket_21 : decode cX2_bucket 21 = .ok (.aload_n 0, 1) := dk_42 (dk_at dksX2_bucket_0 21 rfl rfl)
theorem dX2_bucket_22 : decode cX2_bucket 22 = .ok (.bipush 14, 2) := dk_16 14 (dk_at dksX2_bucket_0 22 rfl rfl)
theorem dX2_bucket_24 : decode cX2_bucket 24 = .ok (.iload_n 1, 1) := dk_27 (dk_at dksX2_bucket_1 0 rfl rfl)
theorem dX2_bucket_25 : decode cX2_bucket 25 = .ok (.iadd, 1) := dk_96 (dk_at dksX2_bucket_1 1 rfl rfl)
theorem dX2_bucket_26 : decode cX2_bucket 26 = .ok (.iload_n 2, 1) := dk_28 (dk_at dksX2_bucket_1 2 rfl rfl)
theorem dX2_bucket_27 : decode cX2_bucket 27 = .ok (.invokevirtual 141, 3) := dk_182 0 141 (dk_at dksX2_bucket_1 3 rfl rfl)
theorem dX2_bucket_30 : decode cX2_bucket 30 = .ok (.ireturn, 1) := dk_172 (dk_at dksX2_bucket_1 6 rfl rfl)
abbrev cX2_notBucket : ByteArray := prog_27_method_35_code
def yX2_notBucket : MethodName := ⟨RX2, "notBucket", "(II)I"⟩
def dkwX2_notBucket_1 : List UInt8 := [180, 0, 32, 16, 14, 27, 96, 46, 28, 160, 0, 12, 42, 8, 27, 182, 0, 88, 167, 0, 4, 3, 172]
abbrev dktX2_notBucket_1 : List UInt8 := dkwX2_notBucket_1 ++ []
def dkwX2_notBucket_0 : List UInt8 := [27, 184, 0, 81, 154, 0, 5, 2, 172, 28, 4, 8, 184, 0, 19, 154, 0, 6, 16, 254, 172, 42]
abbrev dktX2_notBucket_0 : List UInt8 := dkwX2_notBucket_0 ++ dktX2_notBucket_1
theorem dksX2_notBucket_0 : cX2_notBucket.data.toList.drop 0 = dktX2_notBucket_0 := by decide +kernel
theorem dksX2_notBucket_1 : cX2_notBucket.data.toList.drop 22 = dktX2_notBucket_1 := dk_seg dksX2_notBucket_0 22 rfl rfl
theorem dX2_notBucket_0 : decode cX2_notBucket 0 = .ok (.iload_n 1, 1) := dk_27 (dk_at dksX2_notBucket_0 0 rfl rfl)
theorem dX2_notBucket_1 : decode cX2_notBucket 1 = .ok (.invokestatic 81, 3) := dk_184 0 81 (dk_at dksX2_notBucket_0 1 rfl rfl)
theorem dX2_notBucket_4 : decode cX2_notBucket 4 = .ok (.ifCond .ne 5, 3) := dk_154 0 5 (dk_at dksX2_notBucket_0 4 rfl rfl)
theorem dX2_notBucket_7 : decode cX2_notBucket 7 = .ok (.iconst (-1), 1) := dk_2 (dk_at dksX2_notBucket_0 7 rfl rfl)
theorem dX2_notBucket_8 : decode cX2_notBucket 8 = .ok (.ireturn, 1) := dk_172 (dk_at dksX2_notBucket_0 8 rfl rfl)
theorem dX2_notBucket_9 : decode cX2_notBucket 9 = .ok (.iload_n 2, 1) := dk_28 (dk_at dksX2_notBucket_0 9 rfl rfl)
theorem dX2_notBucket_10 : decode cX2_notBucket 10 = .ok (.iconst 1, 1) := dk_4 (dk_at dksX2_notBucket_0 10 rfl rfl)
theorem dX2_notBucket_11 : decode cX2_notBucket 11 = .ok (.iconst 5, 1) := dk_8 (dk_at dksX2_notBucket_0 11 rfl rfl)
theorem dX2_notBucket_12 : decode cX2_notBucket 12 = .ok (.invokestatic 19, 3) := dk_184 0 19 (dk_at dksX2_notBucket_0 12 rfl rfl)
theorem dX2_notBucket_15 : decode cX2_notBucket 15 = .ok (.ifCond .ne 6, 3) := dk_154 0 6 (dk_at dksX2_notBucket_0 15 rfl rfl)
theorem dX2_notBucket_18 : decode cX2_notBucket 18 = .ok (.bipush (-2), 2) := dk_16 254 (dk_at dksX2_notBucket_0 18 rfl rfl)
theorem dX2_notBucket_20 : decode cX2_notBucket 20 = .ok (.ireturn, 1) := dk_172 (dk_at dksX2_notBucket_0 20 rfl rfl)
theorem dX2_notBucket_21 : decode cX2_notBucket 21 = .ok (.aload_n 0, 1) := dk_42 (dk_at dksX2_notBucket_0 21 rfl rfl)
theorem dX2_notBucket_22 : decode cX2_notBucket 22 = .ok (.getfield 32, 3) := dk_180 0 32 (dk_at dksX2_notBucket_1 0 rfl rfl)
theorem dX2_notBucket_25 : decode cX2_notBucket 25 = .ok (.bipush 14, 2) := dk_16 14 (dk_at dksX2_notBucket_1 3 rfl rfl)
theorem dX2_notBucket_27 : decode cX2_notBucket 27 = .ok (.iload_n 1, 1) := dk_27 (dk_at dksX2_notBucket_1 5 rfl rfl)
theorem dX2_notBucket_28 : decode cX2_notBucket 28 = .ok (.iadd, 1) := dk_96 (dk_at dksX2_notBucket_1 6 rfl rfl)
theorem dX2_notBucket_29 : decode cX2_notBucket 29 = .ok (.iaload, 1) := dk_46 (dk_at dksX2_notBucket_1 7 rfl rfl)
theorem dX2_notBucket_30 : decode cX2_notBucket 30 = .ok (.iload_n 2, 1) := dk_28 (dk_at dksX2_notBucket_1 8 rfl rfl)
theorem dX2_notBucket_31 : decode cX2_notBucket 31 = .ok (.if_icmp .ne 12, 3) := dk_160 0 12 (dk_at dksX2_notBucket_1 9 rfl rfl)
theorem dX2_notBucket_34 : decode cX2_notBucket 34 = .ok (.aload_n 0, 1) := dk_42 (dk_at dksX2_notBucket_1 12 rfl rfl)
theorem dX2_notBucket_35 : decode cX2_notBucket 35 = .ok (.iconst 5, 1) := dk_8 (dk_at dksX2_notBucket_1 13 rfl rfl)
theorem dX2_notBucket_36 : decode cX2_notBucket 36 = .ok (.iload_n 1, 1) := dk_27 (dk_at dksX2_notBucket_1 14 rfl rfl)
theorem dX2_notBucket_37 : decode cX2_notBucket 37 = .ok (.invokevirtual 88, 3) := dk_182 0 88 (dk_at dksX2_notBucket_1 15 rfl rfl)
theorem dX2_notBucket_40 : decode cX2_notBucket 40 = .ok (.goto 4, 3) := dk_167 0 4 (dk_at dksX2_notBucket_1 18 rfl rfl)
theorem dX2_notBucket_43 : decode cX2_notBucket 43 = .ok (.iconst 0, 1) := dk_3 (dk_at dksX2_notBucket_1 21 rfl rfl)
theorem dX2_notBucket_44 : decode cX2_notBucket 44 = .ok (.ireturn, 1) := dk_172 (dk_at dksX2_notBucket_1 22 rfl rfl)
abbrev cX2_go : ByteArray := prog_27_method_39_code
def yX2_go : MethodName := ⟨RX2, "go", "(I)I"⟩
def dkwX2_go_1 : List UInt8 := [182, 0, 150, 172]
abbrev dktX2_go_1 : List UInt8 := dkwX2_go_1 ++ []
def dkwX2_go_0 : List UInt8 := [42, 27, 182, 0, 147, 61, 28, 153, 0, 9, 42, 28, 182, 0, 104, 172, 42, 182, 0, 107, 42, 27]
abbrev dktX2_go_0 : List UInt8 := dkwX2_go_0 ++ dktX2_go_1
theorem dksX2_go_0 : cX2_go.data.toList.drop 0 = dktX2_go_0 := by decide +kernel
theorem dksX2_go_1 : cX2_go.data.toList.drop 22 = dktX2_go_1 := dk_seg dksX2_go_0 22 rfl rfl
theorem dX2_go_0 : decode cX2_go 0 = .ok (.aload_n 0, 1) := dk_42 (dk_at dksX2_go_0 0 rfl rfl)
theorem dX2_go_1 : decode cX2_go 1 = .ok (.iload_n 1, 1) := dk_27 (dk_at dksX2_go_0 1 rfl rfl)
theorem dX2_go_2 : decode cX2_go 2 = .ok (.invokevirtual 147, 3) := dk_182 0 147 (dk_at dksX2_go_0 2 rfl rfl)
theorem dX2_go_5 : decode cX2_go 5 = .ok (.istore_n 2, 1) := dk_61 (dk_at dksX2_go_0 5 rfl rfl)
theorem dX2_go_6 : decode cX2_go 6 = .ok (.iload_n 2, 1) := dk_28 (dk_at dksX2_go_0 6 rfl rfl)
theorem dX2_go_7 : decode cX2_go 7 = .ok (.ifCond .eq 9, 3) := dk_153 0 9 (dk_at dksX2_go_0 7 rfl rfl)
theorem dX2_go_10 : decode cX2_go 10 = .ok (.aload_n 0, 1) := dk_42 (dk_at dksX2_go_0 10 rfl rfl)
theorem dX2_go_11 : decode cX2_go 11 = .ok (.iload_n 2, 1) := dk_28 (dk_at dksX2_go_0 11 rfl rfl)
theorem dX2_go_12 : decode cX2_go 12 = .ok (.invokevirtual 104, 3) := dk_182 0 104 (dk_at dksX2_go_0 12 rfl rfl)
theorem dX2_go_15 : decode cX2_go 15 = .ok (.ireturn, 1) := dk_172 (dk_at dksX2_go_0 15 rfl rfl)
theorem dX2_go_16 : decode cX2_go 16 = .ok (.aload_n 0, 1) := dk_42 (dk_at dksX2_go_0 16 rfl rfl)
theorem dX2_go_17 : decode cX2_go 17 = .ok (.invokevirtual 107, 3) := dk_182 0 107 (dk_at dksX2_go_0 17 rfl rfl)
theorem dX2_go_20 : decode cX2_go 20 = .ok (.aload_n 0, 1) := dk_42 (dk_at dksX2_go_0 20 rfl rfl)
theorem dX2_go_21 : decode cX2_go 21 = .ok (.iload_n 1, 1) := dk_27 (dk_at dksX2_go_0 21 rfl rfl)
theorem dX2_go_22 : decode cX2_go 22 = .ok (.invokevirtual 150, 3) := dk_182 0 150 (dk_at dksX2_go_1 0 rfl rfl)
theorem dX2_go_25 : decode cX2_go 25 = .ok (.ireturn, 1) := dk_172 (dk_at dksX2_go_1 3 rfl rfl)
abbrev cX2_notGo : ByteArray := prog_27_method_37_code
def yX2_notGo : MethodName := ⟨RX2, "notGo", "(I)I"⟩
def dkwX2_notGo_1 : List UInt8 := [182, 0, 88, 167, 0, 4, 3, 172]
abbrev dktX2_notGo_1 : List UInt8 := dkwX2_notGo_1 ++ []
def dkwX2_notGo_0 : List UInt8 := [27, 184, 0, 81, 154, 0, 5, 2, 172, 42, 180, 0, 32, 4, 46, 27, 160, 0, 12, 42, 8, 27]
abbrev dktX2_notGo_0 : List UInt8 := dkwX2_notGo_0 ++ dktX2_notGo_1
theorem dksX2_notGo_0 : cX2_notGo.data.toList.drop 0 = dktX2_notGo_0 := by decide +kernel
theorem dksX2_notGo_1 : cX2_notGo.data.toList.drop 22 = dktX2_notGo_1 := dk_seg dksX2_notGo_0 22 rfl rfl
theorem dX2_notGo_0 : decode cX2_notGo 0 = .ok (.iload_n 1, 1) := dk_27 (dk_at dksX2_notGo_0 0 rfl rfl)
theorem dX2_notGo_1 : decode cX2_notGo 1 = .ok (.invokestatic 81, 3) := dk_184 0 81 (dk_at dksX2_notGo_0 1 rfl rfl)
theorem dX2_notGo_4 : decode cX2_notGo 4 = .ok (.ifCond .ne 5, 3) := dk_154 0 5 (dk_at dksX2_notGo_0 4 rfl rfl)
theorem dX2_notGo_7 : decode cX2_notGo 7 = .ok (.iconst (-1), 1) := dk_2 (dk_at dksX2_notGo_0 7 rfl rfl)
theorem dX2_notGo_8 : decode cX2_notGo 8 = .ok (.ireturn, 1) := dk_172 (dk_at dksX2_notGo_0 8 rfl rfl)
theorem dX2_notGo_9 : decode cX2_notGo 9 = .ok (.aload_n 0, 1) := dk_42 (dk_at dksX2_notGo_0 9 rfl rfl)
theorem dX2_notGo_10 : decode cX2_notGo 10 = .ok (.getfield 32, 3) := dk_180 0 32 (dk_at dksX2_notGo_0 10 rfl rfl)
theorem dX2_notGo_13 : decode cX2_notGo 13 = .ok (.iconst 1, 1) := dk_4 (dk_at dksX2_notGo_0 13 rfl rfl)
theorem dX2_notGo_14 : decode cX2_notGo 14 = .ok (.iaload, 1) := dk_46 (dk_at dksX2_notGo_0 14 rfl rfl)
theorem dX2_notGo_15 : decode cX2_notGo 15 = .ok (.iload_n 1, 1) := dk_27 (dk_at dksX2_notGo_0 15 rfl rfl)
theorem dX2_notGo_16 : decode cX2_notGo 16 = .ok (.if_icmp .ne 12, 3) := dk_160 0 12 (dk_at dksX2_notGo_0 16 rfl rfl)
theorem dX2_notGo_19 : decode cX2_notGo 19 = .ok (.aload_n 0, 1) := dk_42 (dk_at dksX2_notGo_0 19 rfl rfl)
theorem dX2_notGo_20 : decode cX2_notGo 20 = .ok (.iconst 5, 1) := dk_8 (dk_at dksX2_notGo_0 20 rfl rfl)
theorem dX2_notGo_21 : decode cX2_notGo 21 = .ok (.iload_n 1, 1) := dk_27 (dk_at dksX2_notGo_0 21 rfl rfl)
theorem dX2_notGo_22 : decode cX2_notGo 22 = .ok (.invokevirtual 88, 3) := dk_182 0 88 (dk_at dksX2_notGo_1 0 rfl rfl)
theorem dX2_notGo_25 : decode cX2_notGo 25 = .ok (.goto 4, 3) := dk_167 0 4 (dk_at dksX2_notGo_1 3 rfl rfl)
theorem dX2_notGo_28 : decode cX2_notGo 28 = .ok (.iconst 0, 1) := dk_3 (dk_at dksX2_notGo_1 6 rfl rfl)
theorem dX2_notGo_29 : decode cX2_notGo 29 = .ok (.ireturn, 1) := dk_172 (dk_at dksX2_notGo_1 7 rfl rfl)
abbrev cX2_moves : ByteArray := prog_27_method_38_code
def yX2_moves : MethodName := ⟨RX2, "moves", "(I)I"⟩
def dkwX2_moves_0 : List UInt8 := [42, 180, 0, 32, 6, 3, 79, 42, 4, 27, 182, 0, 141, 172]
abbrev dktX2_moves_0 : List UInt8 := dkwX2_moves_0 ++ []
theorem dksX2_moves_0 : cX2_moves.data.toList.drop 0 = dktX2_moves_0 := by decide +kernel
theorem dX2_moves_0 : decode cX2_moves 0 = .ok (.aload_n 0, 1) := dk_42 (dk_at dksX2_moves_0 0 rfl rfl)
theorem dX2_moves_1 : decode cX2_moves 1 = .ok (.getfield 32, 3) := dk_180 0 32 (dk_at dksX2_moves_0 1 rfl rfl)
theorem dX2_moves_4 : decode cX2_moves 4 = .ok (.iconst 3, 1) := dk_6 (dk_at dksX2_moves_0 4 rfl rfl)
theorem dX2_moves_5 : decode cX2_moves 5 = .ok (.iconst 0, 1) := dk_3 (dk_at dksX2_moves_0 5 rfl rfl)
theorem dX2_moves_6 : decode cX2_moves 6 = .ok (.iastore, 1) := dk_79 (dk_at dksX2_moves_0 6 rfl rfl)
theorem dX2_moves_7 : decode cX2_moves 7 = .ok (.aload_n 0, 1) := dk_42 (dk_at dksX2_moves_0 7 rfl rfl)
theorem dX2_moves_8 : decode cX2_moves 8 = .ok (.iconst 1, 1) := dk_4 (dk_at dksX2_moves_0 8 rfl rfl)
theorem dX2_moves_9 : decode cX2_moves 9 = .ok (.iload_n 1, 1) := dk_27 (dk_at dksX2_moves_0 9 rfl rfl)
theorem dX2_moves_10 : decode cX2_moves 10 = .ok (.invokevirtual 141, 3) := dk_182 0 141 (dk_at dksX2_moves_0 10 rfl rfl)
theorem dX2_moves_13 : decode cX2_moves 13 = .ok (.ireturn, 1) := dk_172 (dk_at dksX2_moves_0 13 rfl rfl)
abbrev cX2_pump : ByteArray := prog_27_method_46_code
def yX2_pump : MethodName := ⟨RX2, "pump", "(I)I"⟩
def dkwX2_pump_1 : List UInt8 := [182, 0, 185, 172]
abbrev dktX2_pump_1 : List UInt8 := dkwX2_pump_1 ++ []
def dkwX2_pump_0 : List UInt8 := [42, 27, 182, 0, 182, 61, 28, 153, 0, 9, 42, 28, 182, 0, 104, 172, 42, 182, 0, 107, 42, 27]
abbrev dktX2_pump_0 : List UInt8 := dkwX2_pump_0 ++ dktX2_pump_1
theorem dksX2_pump_0 : cX2_pump.data.toList.drop 0 = dktX2_pump_0 := by decide +kernel
theorem dksX2_pump_1 : cX2_pump.data.toList.drop 22 = dktX2_pump_1 := dk_seg dksX2_pump_0 22 rfl rfl
theorem dX2_pump_0 : decode cX2_pump 0 = .ok (.aload_n 0, 1) := dk_42 (dk_at dksX2_pump_0 0 rfl rfl)
theorem dX2_pump_1 : decode cX2_pump 1 = .ok (.iload_n 1, 1) := dk_27 (dk_at dksX2_pump_0 1 rfl rfl)
theorem dX2_pump_2 : decode cX2_pump 2 = .ok (.invokevirtual 182, 3) := dk_182 0 182 (dk_at dksX2_pump_0 2 rfl rfl)
theorem dX2_pump_5 : decode cX2_pump 5 = .ok (.istore_n 2, 1) := dk_61 (dk_at dksX2_pump_0 5 rfl rfl)
theorem dX2_pump_6 : decode cX2_pump 6 = .ok (.iload_n 2, 1) := dk_28 (dk_at dksX2_pump_0 6 rfl rfl)
theorem dX2_pump_7 : decode cX2_pump 7 = .ok (.ifCond .eq 9, 3) := dk_153 0 9 (dk_at dksX2_pump_0 7 rfl rfl)
theorem dX2_pump_10 : decode cX2_pump 10 = .ok (.aload_n 0, 1) := dk_42 (dk_at dksX2_pump_0 10 rfl rfl)
theorem dX2_pump_11 : decode cX2_pump 11 = .ok (.iload_n 2, 1) := dk_28 (dk_at dksX2_pump_0 11 rfl rfl)
theorem dX2_pump_12 : decode cX2_pump 12 = .ok (.invokevirtual 104, 3) := dk_182 0 104 (dk_at dksX2_pump_0 12 rfl rfl)
theorem dX2_pump_15 : decode cX2_pump 15 = .ok (.ireturn, 1) := dk_172 (dk_at dksX2_pump_0 15 rfl rfl)
theorem dX2_pump_16 : decode cX2_pump 16 = .ok (.aload_n 0, 1) := dk_42 (dk_at dksX2_pump_0 16 rfl rfl)
theorem dX2_pump_17 : decode cX2_pump 17 = .ok (.invokevirtual 107, 3) := dk_182 0 107 (dk_at dksX2_pump_0 17 rfl rfl)
theorem dX2_pump_20 : decode cX2_pump 20 = .ok (.aload_n 0, 1) := dk_42 (dk_at dksX2_pump_0 20 rfl rfl)
theorem dX2_pump_21 : decode cX2_pump 21 = .ok (.iload_n 1, 1) := dk_27 (dk_at dksX2_pump_0 21 rfl rfl)
theorem dX2_pump_22 : decode cX2_pump 22 = .ok (.invokevirtual 185, 3) := dk_182 0 185 (dk_at dksX2_pump_1 0 rfl rfl)
theorem dX2_pump_25 : decode cX2_pump 25 = .ok (.ireturn, 1) := dk_172 (dk_at dksX2_pump_1 3 rfl rfl)
abbrev cX2_notPump : ByteArray := prog_27_method_45_code
def yX2_notPump : MethodName := ⟨RX2, "notPump", "(I)I"⟩
def dkwX2_notPump_1 : List UInt8 := [42, 16, 8, 42, 180, 0, 32, 7, 46, 182, 0, 88, 167, 0, 4, 3, 172]
abbrev dktX2_notPump_1 : List UInt8 := dkwX2_notPump_1 ++ []
def dkwX2_notPump_0 : List UInt8 := [27, 4, 16, 9, 184, 0, 19, 154, 0, 6, 16, 254, 172, 42, 180, 0, 32, 7, 46, 16, 40, 164, 0, 18]
abbrev dktX2_notPump_0 : List UInt8 := dkwX2_notPump_0 ++ dktX2_notPump_1
theorem dksX2_notPump_0 : cX2_notPump.data.toList.drop 0 = dktX2_notPump_0 := by decide +kernel
theorem dksX2_notPump_1 : cX2_notPump.data.toList.drop 24 = dktX2_notPump_1 := dk_seg dksX2_notPump_0 24 rfl rfl
theorem dX2_notPump_0 : decode cX2_notPump 0 = .ok (.iload_n 1, 1) := dk_27 (dk_at dksX2_notPump_0 0 rfl rfl)
theorem dX2_notPump_1 : decode cX2_notPump 1 = .ok (.iconst 1, 1) := dk_4 (dk_at dksX2_notPump_0 1 rfl rfl)
theorem dX2_notPump_2 : decode cX2_notPump 2 = .ok (.bipush 9, 2) := dk_16 9 (dk_at dksX2_notPump_0 2 rfl rfl)
theorem dX2_notPump_4 : decode cX2_notPump 4 = .ok (.invokestatic 19, 3) := dk_184 0 19 (dk_at dksX2_notPump_0 4 rfl rfl)
theorem dX2_notPump_7 : decode cX2_notPump 7 = .ok (.ifCond .ne 6, 3) := dk_154 0 6 (dk_at dksX2_notPump_0 7 rfl rfl)
theorem dX2_notPump_10 : decode cX2_notPump 10 = .ok (.bipush (-2), 2) := dk_16 254 (dk_at dksX2_notPump_0 10 rfl rfl)
theorem dX2_notPump_12 : decode cX2_notPump 12 = .ok (.ireturn, 1) := dk_172 (dk_at dksX2_notPump_0 12 rfl rfl)
theorem dX2_notPump_13 : decode cX2_notPump 13 = .ok (.aload_n 0, 1) := dk_42 (dk_at dksX2_notPump_0 13 rfl rfl)
theorem dX2_notPump_14 : decode cX2_notPump 14 = .ok (.getfield 32, 3) := dk_180 0 32 (dk_at dksX2_notPump_0 14 rfl rfl)
theorem dX2_notPump_17 : decode cX2_notPump 17 = .ok (.iconst 4, 1) := dk_7 (dk_at dksX2_notPump_0 17 rfl rfl)
theorem dX2_notPump_18 : decode cX2_notPump 18 = .ok (.iaload, 1) := dk_46 (dk_at dksX2_notPump_0 18 rfl rfl)
theorem dX2_notPump_19 : decode cX2_notPump 19 = .ok (.bipush 40, 2) := dk_16 40 (dk_at dksX2_notPump_0 19 rfl rfl)
theorem dX2_notPump_21 : decode cX2_notPump 21 = .ok (.if_icmp .le 18, 3) := dk_164 0 18 (dk_at dksX2_notPump_0 21 rfl rfl)
theorem dX2_notPump_24 : decode cX2_notPump 24 = .ok (.aload_n 0, 1) := dk_42 (dk_at dksX2_notPump_1 0 rfl rfl)
theorem dX2_notPump_25 : decode cX2_notPump 25 = .ok (.bipush 8, 2) := dk_16 8 (dk_at dksX2_notPump_1 1 rfl rfl)
theorem dX2_notPump_27 : decode cX2_notPump 27 = .ok (.aload_n 0, 1) := dk_42 (dk_at dksX2_notPump_1 3 rfl rfl)
theorem dX2_notPump_28 : decode cX2_notPump 28 = .ok (.getfield 32, 3) := dk_180 0 32 (dk_at dksX2_notPump_1 4 rfl rfl)
theorem dX2_notPump_31 : decode cX2_notPump 31 = .ok (.iconst 4, 1) := dk_7 (dk_at dksX2_notPump_1 7 rfl rfl)
theorem dX2_notPump_32 : decode cX2_notPump 32 = .ok (.iaload, 1) := dk_46 (dk_at dksX2_notPump_1 8 rfl rfl)
theorem dX2_notPump_33 : decode cX2_notPump 33 = .ok (.invokevirtual 88, 3) := dk_182 0 88 (dk_at dksX2_notPump_1 9 rfl rfl)
theorem dX2_notPump_36 : decode cX2_notPump 36 = .ok (.goto 4, 3) := dk_167 0 4 (dk_at dksX2_notPump_1 12 rfl rfl)
theorem dX2_notPump_39 : decode cX2_notPump 39 = .ok (.iconst 0, 1) := dk_3 (dk_at dksX2_notPump_1 15 rfl rfl)
theorem dX2_notPump_40 : decode cX2_notPump 40 = .ok (.ireturn, 1) := dk_172 (dk_at dksX2_notPump_1 16 rfl rfl)
abbrev cX2_pumps : ByteArray := prog_27_method_44_code
def yX2_pumps : MethodName := ⟨RX2, "pumps", "(I)I"⟩
def dkwX2_pumps_1 : List UInt8 := [182, 0, 178, 96, 61, 132, 3, 1, 167, 255, 230, 28, 172]
abbrev dktX2_pumps_1 : List UInt8 := dkwX2_pumps_1 ++ []
def dkwX2_pumps_0 : List UInt8 := [3, 61, 3, 62, 29, 27, 162, 0, 27, 42, 180, 0, 32, 7, 46, 16, 40, 163, 0, 16, 28, 42]
abbrev dktX2_pumps_0 : List UInt8 := dkwX2_pumps_0 ++ dktX2_pumps_1
theorem dksX2_pumps_0 : cX2_pumps.data.toList.drop 0 = dktX2_pumps_0 := by decide +kernel
theorem dksX2_pumps_1 : cX2_pumps.data.toList.drop 22 = dktX2_pumps_1 := dk_seg dksX2_pumps_0 22 rfl rfl
theorem dX2_pumps_0 : decode cX2_pumps 0 = .ok (.iconst 0, 1) := dk_3 (dk_at dksX2_pumps_0 0 rfl rfl)
theorem dX2_pumps_1 : decode cX2_pumps 1 = .ok (.istore_n 2, 1) := dk_61 (dk_at dksX2_pumps_0 1 rfl rfl)
theorem dX2_pumps_2 : decode cX2_pumps 2 = .ok (.iconst 0, 1) := dk_3 (dk_at dksX2_pumps_0 2 rfl rfl)
theorem dX2_pumps_3 : decode cX2_pumps 3 = .ok (.istore_n 3, 1) := dk_62 (dk_at dksX2_pumps_0 3 rfl rfl)
theorem dX2_pumps_4 : decode cX2_pumps 4 = .ok (.iload_n 3, 1) := dk_29 (dk_at dksX2_pumps_0 4 rfl rfl)
theorem dX2_pumps_5 : decode cX2_pumps 5 = .ok (.iload_n 1, 1) := dk_27 (dk_at dksX2_pumps_0 5 rfl rfl)
theorem dX2_pumps_6 : decode cX2_pumps 6 = .ok (.if_icmp .ge 27, 3) := dk_162 0 27 (dk_at dksX2_pumps_0 6 rfl rfl)
theorem dX2_pumps_9 : decode cX2_pumps 9 = .ok (.aload_n 0, 1) := dk_42 (dk_at dksX2_pumps_0 9 rfl rfl)
theorem dX2_pumps_10 : decode cX2_pumps 10 = .ok (.getfield 32, 3) := dk_180 0 32 (dk_at dksX2_pumps_0 10 rfl rfl)
theorem dX2_pumps_13 : decode cX2_pumps 13 = .ok (.iconst 4, 1) := dk_7 (dk_at dksX2_pumps_0 13 rfl rfl)
theorem dX2_pumps_14 : decode cX2_pumps 14 = .ok (.iaload, 1) := dk_46 (dk_at dksX2_pumps_0 14 rfl rfl)
theorem dX2_pumps_15 : decode cX2_pumps 15 = .ok (.bipush 40, 2) := dk_16 40 (dk_at dksX2_pumps_0 15 rfl rfl)
theorem dX2_pumps_17 : decode cX2_pumps 17 = .ok (.if_icmp .gt 16, 3) := dk_163 0 16 (dk_at dksX2_pumps_0 17 rfl rfl)
theorem dX2_pumps_20 : decode cX2_pumps 20 = .ok (.iload_n 2, 1) := dk_28 (dk_at dksX2_pumps_0 20 rfl rfl)
theorem dX2_pumps_21 : decode cX2_pumps 21 = .ok (.aload_n 0, 1) := dk_42 (dk_at dksX2_pumps_0 21 rfl rfl)
theorem dX2_pumps_22 : decode cX2_pumps 22 = .ok (.invokevirtual 178, 3) := dk_182 0 178 (dk_at dksX2_pumps_1 0 rfl rfl)
theorem dX2_pumps_25 : decode cX2_pumps 25 = .ok (.iadd, 1) := dk_96 (dk_at dksX2_pumps_1 3 rfl rfl)
theorem dX2_pumps_26 : decode cX2_pumps 26 = .ok (.istore_n 2, 1) := dk_61 (dk_at dksX2_pumps_1 4 rfl rfl)
theorem dX2_pumps_27 : decode cX2_pumps 27 = .ok (.iinc 3 1, 3) := dk_132 3 1 (dk_at dksX2_pumps_1 5 rfl rfl)
theorem dX2_pumps_30 : decode cX2_pumps 30 = .ok (.goto (-26), 3) := dk_167 255 230 (dk_at dksX2_pumps_1 8 rfl rfl)
theorem dX2_pumps_33 : decode cX2_pumps 33 = .ok (.iload_n 2, 1) := dk_28 (dk_at dksX2_pumps_1 11 rfl rfl)
theorem dX2_pumps_34 : decode cX2_pumps 34 = .ok (.ireturn, 1) := dk_172 (dk_at dksX2_pumps_1 12 rfl rfl)
abbrev cX2_strokesOnce : ByteArray := prog_27_method_43_code
def yX2_strokesOnce : MethodName := ⟨RX2, "strokesOnce", "()I"⟩
def dkwX2_strokesOnce_5 : List UInt8 := [167, 255, 209, 28, 172]
abbrev dktX2_strokesOnce_5 : List UInt8 := dkwX2_strokesOnce_5 ++ []
def dkwX2_strokesOnce_4 : List UInt8 := [180, 0, 32, 6, 46, 163, 0, 21, 42, 29, 182, 0, 175, 132, 2, 1, 42, 27, 3, 182, 0, 172, 62]
abbrev dktX2_strokesOnce_4 : List UInt8 := dkwX2_strokesOnce_4 ++ dktX2_strokesOnce_5
def dkwX2_strokesOnce_3 : List UInt8 := [180, 0, 32, 16, 14, 27, 96, 46, 162, 0, 40, 29, 155, 0, 36, 42, 29, 4, 182, 0, 73, 42]
abbrev dktX2_strokesOnce_3 : List UInt8 := dkwX2_strokesOnce_3 ++ dktX2_strokesOnce_4
def dkwX2_strokesOnce_2 : List UInt8 := [42, 180, 0, 32, 16, 9, 92, 46, 4, 96, 79, 3, 61, 42, 27, 3, 182, 0, 172, 62, 28, 42]
abbrev dktX2_strokesOnce_2 : List UInt8 := dkwX2_strokesOnce_2 ++ dktX2_strokesOnce_3
def dkwX2_strokesOnce_1 : List UInt8 := [184, 0, 169, 79, 42, 180, 0, 32, 7, 92, 46, 4, 42, 180, 0, 32, 6, 46, 16, 10, 108, 96, 96, 79]
abbrev dktX2_strokesOnce_1 : List UInt8 := dkwX2_strokesOnce_1 ++ dktX2_strokesOnce_2
def dkwX2_strokesOnce_0 : List UInt8 := [42, 180, 0, 32, 4, 46, 60, 42, 180, 0, 32, 6, 42, 180, 0, 32, 6, 46, 42, 180, 0, 32, 5, 46]
abbrev dktX2_strokesOnce_0 : List UInt8 := dkwX2_strokesOnce_0 ++ dktX2_strokesOnce_1
theorem dksX2_strokesOnce_0 : cX2_strokesOnce.data.toList.drop 0 = dktX2_strokesOnce_0 := by decide +kernel
theorem dksX2_strokesOnce_1 : cX2_strokesOnce.data.toList.drop 24 = dktX2_strokesOnce_1 := dk_seg dksX2_strokesOnce_0 24 rfl rfl
theorem dksX2_strokesOnce_2 : cX2_strokesOnce.data.toList.drop 48 = dktX2_strokesOnce_2 := dk_seg dksX2_strokesOnce_1 24 rfl rfl
theorem dksX2_strokesOnce_3 : cX2_strokesOnce.data.toList.drop 70 = dktX2_strokesOnce_3 := dk_seg dksX2_strokesOnce_2 22 rfl rfl
theorem dksX2_strokesOnce_4 : cX2_strokesOnce.data.toList.drop 92 = dktX2_strokesOnce_4 := dk_seg dksX2_strokesOnce_3 22 rfl rfl
theorem dksX2_strokesOnce_5 : cX2_strokesOnce.data.toList.drop 115 = dktX2_strokesOnce_5 := dk_seg dksX2_strokesOnce_4 23 rfl rfl
theorem dX2_strokesOnce_0 : decode cX2_strokesOnce 0 = .ok (.aload_n 0, 1) := dk_42 (dk_at dksX2_strokesOnce_0 0 rfl rfl)
theorem dX2_strokesOnce_1 : decode cX2_strokesOnce 1 = .ok (.getfield 32, 3) := dk_180 0 32 (dk_at dksX2_strokesOnce_0 1 rfl rfl)
theorem dX2_strokesOnce_4 : decode cX2_strokesOnce 4 = .ok (.iconst 1, 1) := dk_4 (dk_at dksX2_strokesOnce_0 4 rfl rfl)
theorem dX2_strokesOnce_5 : decode cX2_strokesOnce 5 = .ok (.iaload, 1) := dk_46 (dk_at dksX2_strokesOnce_0 5 rfl rfl)
theorem dX2_strokesOnce_6 : decode cX2_strokesOnce 6 = .ok (.istore_n 1, 1) := dk_60 (dk_at dksX2_strokesOnce_0 6 rfl rfl)
theorem dX2_strokesOnce_7 : decode cX2_strokesOnce 7 = .ok (.aload_n 0, 1) := dk_42 (dk_at dksX2_strokesOnce_0 7 rfl rfl)
theorem dX2_strokesOnce_8 : decode cX2_strokesOnce 8 = .ok (.getfield 32, 3) := dk_180 0 32 (dk_at dksX2_strokesOnce_0 8 rfl rfl)
theorem dX2_strokesOnce_11 : decode cX2_strokesOnce 11 = .ok (.iconst 3, 1) := dk_6 (dk_at dksX2_strokesOnce_0 11 rfl rfl)
theorem dX2_strokesOnce_12 : decode cX2_strokesOnce 12 = .ok (.aload_n 0, 1) := dk_42 (dk_at dksX2_strokesOnce_0 12 rfl rfl)
theorem dX2_strokesOnce_13 : decode cX2_strokesOnce 13 = .ok (.getfield 32, 3) := dk_180 0 32 (dk_at dksX2_strokesOnce_0 13 rfl rfl)
theorem dX2_strokesOnce_16 : decode cX2_strokesOnce 16 = .ok (.iconst 3, 1) := dk_6 (dk_at dksX2_strokesOnce_0 16 rfl rfl)
theorem dX2_strokesOnce_17 : decode cX2_strokesOnce 17 = .ok (.iaload, 1) := dk_46 (dk_at dksX2_strokesOnce_0 17 rfl rfl)
theorem dX2_strokesOnce_18 : decode cX2_strokesOnce 18 = .ok (.aload_n 0, 1) := dk_42 (dk_at dksX2_strokesOnce_0 18 rfl rfl)
theorem dX2_strokesOnce_19 : decode cX2_strokesOnce 19 = .ok (.getfield 32, 3) := dk_180 0 32 (dk_at dksX2_strokesOnce_0 19 rfl rfl)
theorem dX2_strokesOnce_22 : decode cX2_strokesOnce 22 = .ok (.iconst 2, 1) := dk_5 (dk_at dksX2_strokesOnce_0 22 rfl rfl)
theorem dX2_strokesOnce_23 : decode cX2_strokesOnce 23 = .ok (.iaload, 1) := dk_46 (dk_at dksX2_strokesOnce_0 23 rfl rfl)
theorem dX2_strokesOnce_24 : decode cX2_strokesOnce 24 = .ok (.invokestatic 169, 3) := dk_184 0 169 (dk_at dksX2_strokesOnce_1 0 rfl rfl)
theorem dX2_strokesOnce_27 : decode cX2_strokesOnce 27 = .ok (.iastore, 1) := dk_79 (dk_at dksX2_strokesOnce_1 3 rfl rfl)
theorem dX2_strokesOnce_28 : decode cX2_strokesOnce 28 = .ok (.aload_n 0, 1) := dk_42 (dk_at dksX2_strokesOnce_1 4 rfl rfl)
theorem dX2_strokesOnce_29 : decode cX2_strokesOnce 29 = .ok (.getfield 32, 3) := dk_180 0 32 (dk_at dksX2_strokesOnce_1 5 rfl rfl)
theorem dX2_strokesOnce_32 : decode cX2_strokesOnce 32 = .ok (.iconst 4, 1) := dk_7 (dk_at dksX2_strokesOnce_1 8 rfl rfl)
theorem dX2_strokesOnce_33 : decode cX2_strokesOnce 33 = .ok (.dup2, 1) := dk_92 (dk_at dksX2_strokesOnce_1 9 rfl rfl)
theorem dX2_strokesOnce_34 : decode cX2_strokesOnce 34 = .ok (.iaload, 1) := dk_46 (dk_at dksX2_strokesOnce_1 10 rfl rfl)
theorem dX2_strokesOnce_35 : decode cX2_strokesOnce 35 = .ok (.iconst 1, 1) := dk_4 (dk_at dksX2_strokesOnce_1 11 rfl rfl)
theorem dX2_strokesOnce_36 : decode cX2_strokesOnce 36 = .ok (.aload_n 0, 1) := dk_42 (dk_at dksX2_strokesOnce_1 12 rfl rfl)
theorem dX2_strokesOnce_37 : decode cX2_strokesOnce 37 = .ok (.getfield 32, 3) := dk_180 0 32 (dk_at dksX2_strokesOnce_1 13 rfl rfl)
theorem dX2_strokesOnce_40 : decode cX2_strokesOnce 40 = .ok (.iconst 3, 1) := dk_6 (dk_at dksX2_strokesOnce_1 16 rfl rfl)
theorem dX2_strokesOnce_41 : decode cX2_strokesOnce 41 = .ok (.iaload, 1) := dk_46 (dk_at dksX2_strokesOnce_1 17 rfl rfl)
theorem dX2_strokesOnce_42 : decode cX2_strokesOnce 42 = .ok (.bipush 10, 2) := dk_16 10 (dk_at dksX2_strokesOnce_1 18 rfl rfl)
theorem dX2_strokesOnce_44 : decode cX2_strokesOnce 44 = .ok (.idiv, 1) := dk_108 (dk_at dksX2_strokesOnce_1 20 rfl rfl)
theorem dX2_strokesOnce_45 : decode cX2_strokesOnce 45 = .ok (.iadd, 1) := dk_96 (dk_at dksX2_strokesOnce_1 21 rfl rfl)
theorem dX2_strokesOnce_46 : decode cX2_strokesOnce 46 = .ok (.iadd, 1) := dk_96 (dk_at dksX2_strokesOnce_1 22 rfl rfl)
theorem dX2_strokesOnce_47 : decode cX2_strokesOnce 47 = .ok (.iastore, 1) := dk_79 (dk_at dksX2_strokesOnce_1 23 rfl rfl)
theorem dX2_strokesOnce_48 : decode cX2_strokesOnce 48 = .ok (.aload_n 0, 1) := dk_42 (dk_at dksX2_strokesOnce_2 0 rfl rfl)
theorem dX2_strokesOnce_49 : decode cX2_strokesOnce 49 = .ok (.getfield 32, 3) := dk_180 0 32 (dk_at dksX2_strokesOnce_2 1 rfl rfl)
theorem dX2_strokesOnce_52 : decode cX2_strokesOnce 52 = .ok (.bipush 9, 2) := dk_16 9 (dk_at dksX2_strokesOnce_2 4 rfl rfl)
theorem dX2_strokesOnce_54 : decode cX2_strokesOnce 54 = .ok (.dup2, 1) := dk_92 (dk_at dksX2_strokesOnce_2 6 rfl rfl)
theorem dX2_strokesOnce_55 : decode cX2_strokesOnce 55 = .ok (.iaload, 1) := dk_46 (dk_at dksX2_strokesOnce_2 7 rfl rfl)
theorem dX2_strokesOnce_56 : decode cX2_strokesOnce 56 = .ok (.iconst 1, 1) := dk_4 (dk_at dksX2_strokesOnce_2 8 rfl rfl)
theorem dX2_strokesOnce_57 : decode cX2_strokesOnce 57 = .ok (.iadd, 1) := dk_96 (dk_at dksX2_strokesOnce_2 9 rfl rfl)
theorem dX2_strokesOnce_58 : decode cX2_strokesOnce 58 = .ok (.iastore, 1) := dk_79 (dk_at dksX2_strokesOnce_2 10 rfl rfl)
theorem dX2_strokesOnce_59 : decode cX2_strokesOnce 59 = .ok (.iconst 0, 1) := dk_3 (dk_at dksX2_strokesOnce_2 11 rfl rfl)
theorem dX2_strokesOnce_60 : decode cX2_strokesOnce 60 = .ok (.istore_n 2, 1) := dk_61 (dk_at dksX2_strokesOnce_2 12 rfl rfl)
theorem dX2_strokesOnce_61 : decode cX2_strokesOnce 61 = .ok (.aload_n 0, 1) := dk_42 (dk_at dksX2_strokesOnce_2 13 rfl rfl)
theorem dX2_strokesOnce_62 : decode cX2_strokesOnce 62 = .ok (.iload_n 1, 1) := dk_27 (dk_at dksX2_strokesOnce_2 14 rfl rfl)
theorem dX2_strokesOnce_63 : decode cX2_strokesOnce 63 = .ok (.iconst 0, 1) := dk_3 (dk_at dksX2_strokesOnce_2 15 rfl rfl)
theorem dX2_strokesOnce_64 : decode cX2_strokesOnce 64 = .ok (.invokevirtual 172, 3) := dk_182 0 172 (dk_at dksX2_strokesOnce_2 16 rfl rfl)
theorem dX2_strokesOnce_67 : decode cX2_strokesOnce 67 = .ok (.istore_n 3, 1) := dk_62 (dk_at dksX2_strokesOnce_2 19 rfl rfl)
theorem dX2_strokesOnce_68 : decode cX2_strokesOnce 68 = .ok (.iload_n 2, 1) := dk_28 (dk_at dksX2_strokesOnce_2 20 rfl rfl)
theorem dX2_strokesOnce_69 : decode cX2_strokesOnce 69 = .ok (.aload_n 0, 1) := dk_42 (dk_at dksX2_strokesOnce_2 21 rfl rfl)
theorem dX2_strokesOnce_70 : decode cX2_strokesOnce 70 = .ok (.getfield 32, 3) := dk_180 0 32 (dk_at dksX2_strokesOnce_3 0 rfl rfl)
theorem dX2_strokesOnce_73 : decode cX2_strokesOnce 73 = .ok (.bipush 14, 2) := dk_16 14 (dk_at dksX2_strokesOnce_3 3 rfl rfl)
theorem dX2_strokesOnce_75 : decode cX2_strokesOnce 75 = .ok (.iload_n 1, 1) := dk_27 (dk_at dksX2_strokesOnce_3 5 rfl rfl)
theorem dX2_strokesOnce_76 : decode cX2_strokesOnce 76 = .ok (.iadd, 1) := dk_96 (dk_at dksX2_strokesOnce_3 6 rfl rfl)
theorem dX2_strokesOnce_77 : decode cX2_strokesOnce 77 = .ok (.iaload, 1) := dk_46 (dk_at dksX2_strokesOnce_3 7 rfl rfl)
theorem dX2_strokesOnce_78 : decode cX2_strokesOnce 78 = .ok (.if_icmp .ge 40, 3) := dk_162 0 40 (dk_at dksX2_strokesOnce_3 8 rfl rfl)
theorem dX2_strokesOnce_81 : decode cX2_strokesOnce 81 = .ok (.iload_n 3, 1) := dk_29 (dk_at dksX2_strokesOnce_3 11 rfl rfl)
theorem dX2_strokesOnce_82 : decode cX2_strokesOnce 82 = .ok (.ifCond .lt 36, 3) := dk_155 0 36 (dk_at dksX2_strokesOnce_3 12 rfl rfl)
theorem dX2_strokesOnce_85 : decode cX2_strokesOnce 85 = .ok (.aload_n 0, 1) := dk_42 (dk_at dksX2_strokesOnce_3 15 rfl rfl)
theorem dX2_strokesOnce_86 : decode cX2_strokesOnce 86 = .ok (.iload_n 3, 1) := dk_29 (dk_at dksX2_strokesOnce_3 16 rfl rfl)
theorem dX2_strokesOnce_87 : decode cX2_strokesOnce 87 = .ok (.iconst 1, 1) := dk_4 (dk_at dksX2_strokesOnce_3 17 rfl rfl)
theorem dX2_strokesOnce_88 : decode cX2_strokesOnce 88 = .ok (.invokevirtual 73, 3) := dk_182 0 73 (dk_at dksX2_strokesOnce_3 18 rfl rfl)
theorem dX2_strokesOnce_91 : decode cX2_strokesOnce 91 = .ok (.aload_n 0, 1) := dk_42 (dk_at dksX2_strokesOnce_3 21 rfl rfl)
theorem dX2_strokesOnce_92 : decode cX2_strokesOnce 92 = .ok (.getfield 32, 3) := dk_180 0 32 (dk_at dksX2_strokesOnce_4 0 rfl rfl)
theorem dX2_strokesOnce_95 : decode cX2_strokesOnce 95 = .ok (.iconst 3, 1) := dk_6 (dk_at dksX2_strokesOnce_4 3 rfl rfl)
theorem dX2_strokesOnce_96 : decode cX2_strokesOnce 96 = .ok (.iaload, 1) := dk_46 (dk_at dksX2_strokesOnce_4 4 rfl rfl)
theorem dX2_strokesOnce_97 : decode cX2_strokesOnce 97 = .ok (.if_icmp .gt 21, 3) := dk_163 0 21 (dk_at dksX2_strokesOnce_4 5 rfl rfl)
theorem dX2_strokesOnce_100 : decode cX2_strokesOnce 100 = .ok (.aload_n 0, 1) := dk_42 (dk_at dksX2_strokesOnce_4 8 rfl rfl)
theorem dX2_strokesOnce_101 : decode cX2_strokesOnce 101 = .ok (.iload_n 3, 1) := dk_29 (dk_at dksX2_strokesOnce_4 9 rfl rfl)
theorem dX2_strokesOnce_102 : decode cX2_strokesOnce 102 = .ok (.invokevirtual 175, 3) := dk_182 0 175 (dk_at dksX2_strokesOnce_4 10 rfl rfl)
theorem dX2_strokesOnce_105 : decode cX2_strokesOnce 105 = .ok (.iinc 2 1, 3) := dk_132 2 1 (dk_at dksX2_strokesOnce_4 13 rfl rfl)
theorem dX2_strokesOnce_108 : decode cX2_strokesOnce 108 = .ok (.aload_n 0, 1) := dk_42 (dk_at dksX2_strokesOnce_4 16 rfl rfl)
theorem dX2_strokesOnce_109 : decode cX2_strokesOnce 109 = .ok (.iload_n 1, 1) := dk_27 (dk_at dksX2_strokesOnce_4 17 rfl rfl)
theorem dX2_strokesOnce_110 : decode cX2_strokesOnce 110 = .ok (.iconst 0, 1) := dk_3 (dk_at dksX2_strokesOnce_4 18 rfl rfl)
theorem dX2_strokesOnce_111 : decode cX2_strokesOnce 111 = .ok (.invokevirtual 172, 3) := dk_182 0 172 (dk_at dksX2_strokesOnce_4 19 rfl rfl)
theorem dX2_strokesOnce_114 : decode cX2_strokesOnce 114 = .ok (.istore_n 3, 1) := dk_62 (dk_at dksX2_strokesOnce_4 22 rfl rfl)
theorem dX2_strokesOnce_115 : decode cX2_strokesOnce 115 = .ok (.goto (-47), 3) := dk_167 255 209 (dk_at dksX2_strokesOnce_5 0 rfl rfl)
theorem dX2_strokesOnce_118 : decode cX2_strokesOnce 118 = .ok (.iload_n 2, 1) := dk_28 (dk_at dksX2_strokesOnce_5 3 rfl rfl)
theorem dX2_strokesOnce_119 : decode cX2_strokesOnce 119 = .ok (.ireturn, 1) := dk_172 (dk_at dksX2_strokesOnce_5 4 rfl rfl)
abbrev cX2_nextReach : ByteArray := prog_27_method_42_code
def yX2_nextReach : MethodName := ⟨RX2, "nextReach", "(II)I"⟩
def dkwX2_nextReach_0 : List UInt8 := [26, 27, 96, 16, 30, 162, 0, 9, 26, 27, 96, 167, 0, 5, 16, 30, 172]
abbrev dktX2_nextReach_0 : List UInt8 := dkwX2_nextReach_0 ++ []
theorem dksX2_nextReach_0 : cX2_nextReach.data.toList.drop 0 = dktX2_nextReach_0 := by decide +kernel
theorem dX2_nextReach_0 : decode cX2_nextReach 0 = .ok (.iload_n 0, 1) := dk_26 (dk_at dksX2_nextReach_0 0 rfl rfl)
theorem dX2_nextReach_1 : decode cX2_nextReach 1 = .ok (.iload_n 1, 1) := dk_27 (dk_at dksX2_nextReach_0 1 rfl rfl)
theorem dX2_nextReach_2 : decode cX2_nextReach 2 = .ok (.iadd, 1) := dk_96 (dk_at dksX2_nextReach_0 2 rfl rfl)
theorem dX2_nextReach_3 : decode cX2_nextReach 3 = .ok (.bipush 30, 2) := dk_16 30 (dk_at dksX2_nextReach_0 3 rfl rfl)
theorem dX2_nextReach_5 : decode cX2_nextReach 5 = .ok (.if_icmp .ge 9, 3) := dk_162 0 9 (dk_at dksX2_nextReach_0 5 rfl rfl)
theorem dX2_nextReach_8 : decode cX2_nextReach 8 = .ok (.iload_n 0, 1) := dk_26 (dk_at dksX2_nextReach_0 8 rfl rfl)
theorem dX2_nextReach_9 : decode cX2_nextReach 9 = .ok (.iload_n 1, 1) := dk_27 (dk_at dksX2_nextReach_0 9 rfl rfl)
theorem dX2_nextReach_10 : decode cX2_nextReach 10 = .ok (.iadd, 1) := dk_96 (dk_at dksX2_nextReach_0 10 rfl rfl)
theorem dX2_nextReach_11 : decode cX2_nextReach 11 = .ok (.goto 5, 3) := dk_167 0 5 (dk_at dksX2_nextReach_0 11 rfl rfl)
theorem dX2_nextReach_14 : decode cX2_nextReach 14 = .ok (.bipush 30, 2) := dk_16 30 (dk_at dksX2_nextReach_0 14 rfl rfl)
theorem dX2_nextReach_16 : decode cX2_nextReach 16 = .ok (.ireturn, 1) := dk_172 (dk_at dksX2_nextReach_0 16 rfl rfl)
abbrev cX2_atPlace : ByteArray := prog_27_method_18_code
def yX2_atPlace : MethodName := ⟨RX2, "atPlace", "(II)I"⟩
def dkwX2_atPlace_1 : List UInt8 := [182, 0, 77, 28, 160, 0, 5, 29, 172, 132, 3, 1, 167, 255, 222, 2, 172]
abbrev dktX2_atPlace_1 : List UInt8 := dkwX2_atPlace_1 ++ []
def dkwX2_atPlace_0 : List UInt8 := [3, 62, 29, 42, 180, 0, 32, 3, 46, 162, 0, 30, 42, 29, 3, 182, 0, 73, 27, 160, 0, 14, 42, 29]
abbrev dktX2_atPlace_0 : List UInt8 := dkwX2_atPlace_0 ++ dktX2_atPlace_1
theorem dksX2_atPlace_0 : cX2_atPlace.data.toList.drop 0 = dktX2_atPlace_0 := by decide +kernel
theorem dksX2_atPlace_1 : cX2_atPlace.data.toList.drop 24 = dktX2_atPlace_1 := dk_seg dksX2_atPlace_0 24 rfl rfl
theorem dX2_atPlace_0 : decode cX2_atPlace 0 = .ok (.iconst 0, 1) := dk_3 (dk_at dksX2_atPlace_0 0 rfl rfl)
theorem dX2_atPlace_1 : decode cX2_atPlace 1 = .ok (.istore_n 3, 1) := dk_62 (dk_at dksX2_atPlace_0 1 rfl rfl)
theorem dX2_atPlace_2 : decode cX2_atPlace 2 = .ok (.iload_n 3, 1) := dk_29 (dk_at dksX2_atPlace_0 2 rfl rfl)
theorem dX2_atPlace_3 : decode cX2_atPlace 3 = .ok (.aload_n 0, 1) := dk_42 (dk_at dksX2_atPlace_0 3 rfl rfl)
theorem dX2_atPlace_4 : decode cX2_atPlace 4 = .ok (.getfield 32, 3) := dk_180 0 32 (dk_at dksX2_atPlace_0 4 rfl rfl)
theorem dX2_atPlace_7 : decode cX2_atPlace 7 = .ok (.iconst 0, 1) := dk_3 (dk_at dksX2_atPlace_0 7 rfl rfl)
theorem dX2_atPlace_8 : decode cX2_atPlace 8 = .ok (.iaload, 1) := dk_46 (dk_at dksX2_atPlace_0 8 rfl rfl)
theorem dX2_atPlace_9 : decode cX2_atPlace 9 = .ok (.if_icmp .ge 30, 3) := dk_162 0 30 (dk_at dksX2_atPlace_0 9 rfl rfl)
theorem dX2_atPlace_12 : decode cX2_atPlace 12 = .ok (.aload_n 0, 1) := dk_42 (dk_at dksX2_atPlace_0 12 rfl rfl)
theorem dX2_atPlace_13 : decode cX2_atPlace 13 = .ok (.iload_n 3, 1) := dk_29 (dk_at dksX2_atPlace_0 13 rfl rfl)
theorem dX2_atPlace_14 : decode cX2_atPlace 14 = .ok (.iconst 0, 1) := dk_3 (dk_at dksX2_atPlace_0 14 rfl rfl)
theorem dX2_atPlace_15 : decode cX2_atPlace 15 = .ok (.invokevirtual 73, 3) := dk_182 0 73 (dk_at dksX2_atPlace_0 15 rfl rfl)
theorem dX2_atPlace_18 : decode cX2_atPlace 18 = .ok (.iload_n 1, 1) := dk_27 (dk_at dksX2_atPlace_0 18 rfl rfl)
theorem dX2_atPlace_19 : decode cX2_atPlace 19 = .ok (.if_icmp .ne 14, 3) := dk_160 0 14 (dk_at dksX2_atPlace_0 19 rfl rfl)
theorem dX2_atPlace_22 : decode cX2_atPlace 22 = .ok (.aload_n 0, 1) := dk_42 (dk_at dksX2_atPlace_0 22 rfl rfl)
theorem dX2_atPlace_23 : decode cX2_atPlace 23 = .ok (.iload_n 3, 1) := dk_29 (dk_at dksX2_atPlace_0 23 rfl rfl)
theorem dX2_atPlace_24 : decode cX2_atPlace 24 = .ok (.invokevirtual 77, 3) := dk_182 0 77 (dk_at dksX2_atPlace_1 0 rfl rfl)
theorem dX2_atPlace_27 : decode cX2_atPlace 27 = .ok (.iload_n 2, 1) := dk_28 (dk_at dksX2_atPlace_1 3 rfl rfl)
theorem dX2_atPlace_28 : decode cX2_atPlace 28 = .ok (.if_icmp .ne 5, 3) := dk_160 0 5 (dk_at dksX2_atPlace_1 4 rfl rfl)
theorem dX2_atPlace_31 : decode cX2_atPlace 31 = .ok (.iload_n 3, 1) := dk_29 (dk_at dksX2_atPlace_1 7 rfl rfl)
theorem dX2_atPlace_32 : decode cX2_atPlace 32 = .ok (.ireturn, 1) := dk_172 (dk_at dksX2_atPlace_1 8 rfl rfl)
theorem dX2_atPlace_33 : decode cX2_atPlace 33 = .ok (.iinc 3 1, 3) := dk_132 3 1 (dk_at dksX2_atPlace_1 9 rfl rfl)
theorem dX2_atPlace_36 : decode cX2_atPlace 36 = .ok (.goto (-34), 3) := dk_167 255 222 (dk_at dksX2_atPlace_1 12 rfl rfl)
theorem dX2_atPlace_39 : decode cX2_atPlace 39 = .ok (.iconst (-1), 1) := dk_2 (dk_at dksX2_atPlace_1 15 rfl rfl)
theorem dX2_atPlace_40 : decode cX2_atPlace 40 = .ok (.ireturn, 1) := dk_172 (dk_at dksX2_atPlace_1 16 rfl rfl)
abbrev cX2_above : ByteArray := prog_27_method_17_code
def yX2_above : MethodName := ⟨RX2, "above", "(I)I"⟩
def dkwX2_above_2 : List UInt8 := [167, 0, 4, 3, 96, 61, 132, 3, 1, 167, 255, 205, 28, 172]
abbrev dktX2_above_2 : List UInt8 := dkwX2_above_2 ++ []
def dkwX2_above_1 : List UInt8 := [182, 0, 73, 160, 0, 22, 42, 29, 4, 182, 0, 73, 42, 27, 4, 182, 0, 73, 162, 0, 7, 4]
abbrev dktX2_above_1 : List UInt8 := dkwX2_above_1 ++ dktX2_above_2
def dkwX2_above_0 : List UInt8 := [3, 61, 3, 62, 29, 42, 180, 0, 32, 3, 46, 162, 0, 47, 28, 42, 29, 3, 182, 0, 73, 42, 27, 3]
abbrev dktX2_above_0 : List UInt8 := dkwX2_above_0 ++ dktX2_above_1
theorem dksX2_above_0 : cX2_above.data.toList.drop 0 = dktX2_above_0 := by decide +kernel
theorem dksX2_above_1 : cX2_above.data.toList.drop 24 = dktX2_above_1 := dk_seg dksX2_above_0 24 rfl rfl
theorem dksX2_above_2 : cX2_above.data.toList.drop 46 = dktX2_above_2 := dk_seg dksX2_above_1 22 rfl rfl
theorem dX2_above_0 : decode cX2_above 0 = .ok (.iconst 0, 1) := dk_3 (dk_at dksX2_above_0 0 rfl rfl)
theorem dX2_above_1 : decode cX2_above 1 = .ok (.istore_n 2, 1) := dk_61 (dk_at dksX2_above_0 1 rfl rfl)
theorem dX2_above_2 : decode cX2_above 2 = .ok (.iconst 0, 1) := dk_3 (dk_at dksX2_above_0 2 rfl rfl)
theorem dX2_above_3 : decode cX2_above 3 = .ok (.istore_n 3, 1) := dk_62 (dk_at dksX2_above_0 3 rfl rfl)
theorem dX2_above_4 : decode cX2_above 4 = .ok (.iload_n 3, 1) := dk_29 (dk_at dksX2_above_0 4 rfl rfl)
theorem dX2_above_5 : decode cX2_above 5 = .ok (.aload_n 0, 1) := dk_42 (dk_at dksX2_above_0 5 rfl rfl)
theorem dX2_above_6 : decode cX2_above 6 = .ok (.getfield 32, 3) := dk_180 0 32 (dk_at dksX2_above_0 6 rfl rfl)
theorem dX2_above_9 : decode cX2_above 9 = .ok (.iconst 0, 1) := dk_3 (dk_at dksX2_above_0 9 rfl rfl)
theorem dX2_above_10 : decode cX2_above 10 = .ok (.iaload, 1) := dk_46 (dk_at dksX2_above_0 10 rfl rfl)
theorem dX2_above_11 : decode cX2_above 11 = .ok (.if_icmp .ge 47, 3) := dk_162 0 47 (dk_at dksX2_above_0 11 rfl rfl)
theorem dX2_above_14 : decode cX2_above 14 = .ok (.iload_n 2, 1) := dk_28 (dk_at dksX2_above_0 14 rfl rfl)
theorem dX2_above_15 : decode cX2_above 15 = .ok (.aload_n 0, 1) := dk_42 (dk_at dksX2_above_0 15 rfl rfl)
theorem dX2_above_16 : decode cX2_above 16 = .ok (.iload_n 3, 1) := dk_29 (dk_at dksX2_above_0 16 rfl rfl)
theorem dX2_above_17 : decode cX2_above 17 = .ok (.iconst 0, 1) := dk_3 (dk_at dksX2_above_0 17 rfl rfl)
theorem dX2_above_18 : decode cX2_above 18 = .ok (.invokevirtual 73, 3) := dk_182 0 73 (dk_at dksX2_above_0 18 rfl rfl)
theorem dX2_above_21 : decode cX2_above 21 = .ok (.aload_n 0, 1) := dk_42 (dk_at dksX2_above_0 21 rfl rfl)
theorem dX2_above_22 : decode cX2_above 22 = .ok (.iload_n 1, 1) := dk_27 (dk_at dksX2_above_0 22 rfl rfl)
theorem dX2_above_23 : decode cX2_above 23 = .ok (.iconst 0, 1) := dk_3 (dk_at dksX2_above_0 23 rfl rfl)
theorem dX2_above_24 : decode cX2_above 24 = .ok (.invokevirtual 73, 3) := dk_182 0 73 (dk_at dksX2_above_1 0 rfl rfl)
theorem dX2_above_27 : decode cX2_above 27 = .ok (.if_icmp .ne 22, 3) := dk_160 0 22 (dk_at dksX2_above_1 3 rfl rfl)
theorem dX2_above_30 : decode cX2_above 30 = .ok (.aload_n 0, 1) := dk_42 (dk_at dksX2_above_1 6 rfl rfl)
theorem dX2_above_31 : decode cX2_above 31 = .ok (.iload_n 3, 1) := dk_29 (dk_at dksX2_above_1 7 rfl rfl)
theorem dX2_above_32 : decode cX2_above 32 = .ok (.iconst 1, 1) := dk_4 (dk_at dksX2_above_1 8 rfl rfl)
theorem dX2_above_33 : decode cX2_above 33 = .ok (.invokevirtual 73, 3) := dk_182 0 73 (dk_at dksX2_above_1 9 rfl rfl)
theorem dX2_above_36 : decode cX2_above 36 = .ok (.aload_n 0, 1) := dk_42 (dk_at dksX2_above_1 12 rfl rfl)
theorem dX2_above_37 : decode cX2_above 37 = .ok (.iload_n 1, 1) := dk_27 (dk_at dksX2_above_1 13 rfl rfl)
theorem dX2_above_38 : decode cX2_above 38 = .ok (.iconst 1, 1) := dk_4 (dk_at dksX2_above_1 14 rfl rfl)
theorem dX2_above_39 : decode cX2_above 39 = .ok (.invokevirtual 73, 3) := dk_182 0 73 (dk_at dksX2_above_1 15 rfl rfl)
theorem dX2_above_42 : decode cX2_above 42 = .ok (.if_icmp .ge 7, 3) := dk_162 0 7 (dk_at dksX2_above_1 18 rfl rfl)
theorem dX2_above_45 : decode cX2_above 45 = .ok (.iconst 1, 1) := dk_4 (dk_at dksX2_above_1 21 rfl rfl)
theorem dX2_above_46 : decode cX2_above 46 = .ok (.goto 4, 3) := dk_167 0 4 (dk_at dksX2_above_2 0 rfl rfl)
theorem dX2_above_49 : decode cX2_above 49 = .ok (.iconst 0, 1) := dk_3 (dk_at dksX2_above_2 3 rfl rfl)
theorem dX2_above_50 : decode cX2_above 50 = .ok (.iadd, 1) := dk_96 (dk_at dksX2_above_2 4 rfl rfl)
theorem dX2_above_51 : decode cX2_above 51 = .ok (.istore_n 2, 1) := dk_61 (dk_at dksX2_above_2 5 rfl rfl)
theorem dX2_above_52 : decode cX2_above 52 = .ok (.iinc 3 1, 3) := dk_132 3 1 (dk_at dksX2_above_2 6 rfl rfl)
theorem dX2_above_55 : decode cX2_above 55 = .ok (.goto (-51), 3) := dk_167 255 205 (dk_at dksX2_above_2 9 rfl rfl)
theorem dX2_above_58 : decode cX2_above 58 = .ok (.iload_n 2, 1) := dk_28 (dk_at dksX2_above_2 12 rfl rfl)
theorem dX2_above_59 : decode cX2_above 59 = .ok (.ireturn, 1) := dk_172 (dk_at dksX2_above_2 13 rfl rfl)
abbrev cX2_lifts : ByteArray := prog_27_method_41_code
def yX2_lifts : MethodName := ⟨RX2, "lifts", "(I)V"⟩
def dkwX2_lifts_6 : List UInt8 := [27, 182, 0, 122, 177]
abbrev dktX2_lifts_6 : List UInt8 := dkwX2_lifts_6 ++ []
def dkwX2_lifts_5 : List UInt8 := [79, 42, 180, 0, 32, 16, 11, 42, 180, 0, 32, 16, 11, 46, 184, 0, 165, 36, 98, 184, 0, 159, 79, 42]
abbrev dktX2_lifts_5 : List UInt8 := dkwX2_lifts_5 ++ dktX2_lifts_6
def dkwX2_lifts_4 : List UInt8 := [46, 4, 96, 79, 42, 180, 0, 32, 16, 12, 29, 16, 32, 108, 96, 92, 46, 4, 29, 16, 32, 112, 120, 128]
abbrev dktX2_lifts_4 : List UInt8 := dkwX2_lifts_4 ++ dktX2_lifts_5
def dkwX2_lifts_3 : List UInt8 := [180, 0, 32, 16, 6, 92, 46, 4, 96, 79, 42, 180, 0, 32, 16, 18, 42, 27, 3, 182, 0, 73, 96, 92]
abbrev dktX2_lifts_3 : List UInt8 := dkwX2_lifts_3 ++ dktX2_lifts_4
def dkwX2_lifts_2 : List UInt8 := [4, 96, 42, 27, 3, 182, 0, 73, 79, 42, 180, 0, 32, 21, 4, 5, 96, 36, 184, 0, 159, 79, 42]
abbrev dktX2_lifts_2 : List UInt8 := dkwX2_lifts_2 ++ dktX2_lifts_3
def dkwX2_lifts_1 : List UInt8 := [180, 0, 32, 16, 6, 46, 104, 96, 54, 4, 42, 180, 0, 32, 21, 4, 29, 79, 42, 180, 0, 32, 21, 4]
abbrev dktX2_lifts_1 : List UInt8 := dkwX2_lifts_1 ++ dktX2_lifts_2
def dkwX2_lifts_0 : List UInt8 := [42, 27, 42, 180, 0, 32, 7, 46, 182, 0, 155, 69, 42, 27, 5, 182, 0, 73, 62, 16, 82, 6, 42]
abbrev dktX2_lifts_0 : List UInt8 := dkwX2_lifts_0 ++ dktX2_lifts_1
theorem dksX2_lifts_0 : cX2_lifts.data.toList.drop 0 = dktX2_lifts_0 := by decide +kernel
theorem dksX2_lifts_1 : cX2_lifts.data.toList.drop 23 = dktX2_lifts_1 := dk_seg dksX2_lifts_0 23 rfl rfl
theorem dksX2_lifts_2 : cX2_lifts.data.toList.drop 47 = dktX2_lifts_2 := dk_seg dksX2_lifts_1 24 rfl rfl
theorem dksX2_lifts_3 : cX2_lifts.data.toList.drop 70 = dktX2_lifts_3 := dk_seg dksX2_lifts_2 23 rfl rfl
theorem dksX2_lifts_4 : cX2_lifts.data.toList.drop 94 = dktX2_lifts_4 := dk_seg dksX2_lifts_3 24 rfl rfl
theorem dksX2_lifts_5 : cX2_lifts.data.toList.drop 118 = dktX2_lifts_5 := dk_seg dksX2_lifts_4 24 rfl rfl
theorem dksX2_lifts_6 : cX2_lifts.data.toList.drop 142 = dktX2_lifts_6 := dk_seg dksX2_lifts_5 24 rfl rfl
theorem dX2_lifts_0 : decode cX2_lifts 0 = .ok (.aload_n 0, 1) := dk_42 (dk_at dksX2_lifts_0 0 rfl rfl)
theorem dX2_lifts_1 : decode cX2_lifts 1 = .ok (.iload_n 1, 1) := dk_27 (dk_at dksX2_lifts_0 1 rfl rfl)
theorem dX2_lifts_2 : decode cX2_lifts 2 = .ok (.aload_n 0, 1) := dk_42 (dk_at dksX2_lifts_0 2 rfl rfl)
theorem dX2_lifts_3 : decode cX2_lifts 3 = .ok (.getfield 32, 3) := dk_180 0 32 (dk_at dksX2_lifts_0 3 rfl rfl)
theorem dX2_lifts_6 : decode cX2_lifts 6 = .ok (.iconst 4, 1) := dk_7 (dk_at dksX2_lifts_0 6 rfl rfl)
theorem dX2_lifts_7 : decode cX2_lifts 7 = .ok (.iaload, 1) := dk_46 (dk_at dksX2_lifts_0 7 rfl rfl)
theorem dX2_lifts_8 : decode cX2_lifts 8 = .ok (.invokevirtual 155, 3) := dk_182 0 155 (dk_at dksX2_lifts_0 8 rfl rfl)
theorem dX2_lifts_11 : decode cX2_lifts 11 = .ok (.fstore_n 2, 1) := dk_69 (dk_at dksX2_lifts_0 11 rfl rfl)
theorem dX2_lifts_12 : decode cX2_lifts 12 = .ok (.aload_n 0, 1) := dk_42 (dk_at dksX2_lifts_0 12 rfl rfl)
theorem dX2_lifts_13 : decode cX2_lifts 13 = .ok (.iload_n 1, 1) := dk_27 (dk_at dksX2_lifts_0 13 rfl rfl)
theorem dX2_lifts_14 : decode cX2_lifts 14 = .ok (.iconst 2, 1) := dk_5 (dk_at dksX2_lifts_0 14 rfl rfl)
theorem dX2_lifts_15 : decode cX2_lifts 15 = .ok (.invokevirtual 73, 3) := dk_182 0 73 (dk_at dksX2_lifts_0 15 rfl rfl)
theorem dX2_lifts_18 : decode cX2_lifts 18 = .ok (.istore_n 3, 1) := dk_62 (dk_at dksX2_lifts_0 18 rfl rfl)
theorem dX2_lifts_19 : decode cX2_lifts 19 = .ok (.bipush 82, 2) := dk_16 82 (dk_at dksX2_lifts_0 19 rfl rfl)
theorem dX2_lifts_21 : decode cX2_lifts 21 = .ok (.iconst 3, 1) := dk_6 (dk_at dksX2_lifts_0 21 rfl rfl)
theorem dX2_lifts_22 : decode cX2_lifts 22 = .ok (.aload_n 0, 1) := dk_42 (dk_at dksX2_lifts_0 22 rfl rfl)
theorem dX2_lifts_23 : decode cX2_lifts 23 = .ok (.getfield 32, 3) := dk_180 0 32 (dk_at dksX2_lifts_1 0 rfl rfl)
theorem dX2_lifts_26 : decode cX2_lifts 26 = .ok (.bipush 6, 2) := dk_16 6 (dk_at dksX2_lifts_1 3 rfl rfl)
theorem dX2_lifts_28 : decode cX2_lifts 28 = .ok (.iaload, 1) := dk_46 (dk_at dksX2_lifts_1 5 rfl rfl)
theorem dX2_lifts_29 : decode cX2_lifts 29 = .ok (.imul, 1) := dk_104 (dk_at dksX2_lifts_1 6 rfl rfl)
theorem dX2_lifts_30 : decode cX2_lifts 30 = .ok (.iadd, 1) := dk_96 (dk_at dksX2_lifts_1 7 rfl rfl)
theorem dX2_lifts_31 : decode cX2_lifts 31 = .ok (.istore 4, 2) := dk_54 4 (dk_at dksX2_lifts_1 8 rfl rfl)
theorem dX2_lifts_33 : decode cX2_lifts 33 = .ok (.aload_n 0, 1) := dk_42 (dk_at dksX2_lifts_1 10 rfl rfl)
theorem dX2_lifts_34 : decode cX2_lifts 34 = .ok (.getfield 32, 3) := dk_180 0 32 (dk_at dksX2_lifts_1 11 rfl rfl)
theorem dX2_lifts_37 : decode cX2_lifts 37 = .ok (.iload 4, 2) := dk_21 4 (dk_at dksX2_lifts_1 14 rfl rfl)
theorem dX2_lifts_39 : decode cX2_lifts 39 = .ok (.iload_n 3, 1) := dk_29 (dk_at dksX2_lifts_1 16 rfl rfl)
theorem dX2_lifts_40 : decode cX2_lifts 40 = .ok (.iastore, 1) := dk_79 (dk_at dksX2_lifts_1 17 rfl rfl)
theorem dX2_lifts_41 : decode cX2_lifts 41 = .ok (.aload_n 0, 1) := dk_42 (dk_at dksX2_lifts_1 18 rfl rfl)
theorem dX2_lifts_42 : decode cX2_lifts 42 = .ok (.getfield 32, 3) := dk_180 0 32 (dk_at dksX2_lifts_1 19 rfl rfl)
theorem dX2_lifts_45 : decode cX2_lifts 45 = .ok (.iload 4, 2) := dk_21 4 (dk_at dksX2_lifts_1 22 rfl rfl)
theorem dX2_lifts_47 : decode cX2_lifts 47 = .ok (.iconst 1, 1) := dk_4 (dk_at dksX2_lifts_2 0 rfl rfl)
theorem dX2_lifts_48 : decode cX2_lifts 48 = .ok (.iadd, 1) := dk_96 (dk_at dksX2_lifts_2 1 rfl rfl)
theorem dX2_lifts_49 : decode cX2_lifts 49 = .ok (.aload_n 0, 1) := dk_42 (dk_at dksX2_lifts_2 2 rfl rfl)
theorem dX2_lifts_50 : decode cX2_lifts 50 = .ok (.iload_n 1, 1) := dk_27 (dk_at dksX2_lifts_2 3 rfl rfl)
theorem dX2_lifts_51 : decode cX2_lifts 51 = .ok (.iconst 0, 1) := dk_3 (dk_at dksX2_lifts_2 4 rfl rfl)
theorem dX2_lifts_52 : decode cX2_lifts 52 = .ok (.invokevirtual 73, 3) := dk_182 0 73 (dk_at dksX2_lifts_2 5 rfl rfl)
theorem dX2_lifts_55 : decode cX2_lifts 55 = .ok (.iastore, 1) := dk_79 (dk_at dksX2_lifts_2 8 rfl rfl)
theorem dX2_lifts_56 : decode cX2_lifts 56 = .ok (.aload_n 0, 1) := dk_42 (dk_at dksX2_lifts_2 9 rfl rfl)
theorem dX2_lifts_57 : decode cX2_lifts 57 = .ok (.getfield 32, 3) := dk_180 0 32 (dk_at dksX2_lifts_2 10 rfl rfl)
theorem dX2_lifts_60 : decode cX2_lifts 60 = .ok (.iload 4, 2) := dk_21 4 (dk_at dksX2_lifts_2 13 rfl rfl)
theorem dX2_lifts_62 : decode cX2_lifts 62 = .ok (.iconst 2, 1) := dk_5 (dk_at dksX2_lifts_2 15 rfl rfl)
theorem dX2_lifts_63 : decode cX2_lifts 63 = .ok (.iadd, 1) := dk_96 (dk_at dksX2_lifts_2 16 rfl rfl)
theorem dX2_lifts_64 : decode cX2_lifts 64 = .ok (.fload_n 2, 1) := dk_36 (dk_at dksX2_lifts_2 17 rfl rfl)
theorem dX2_lifts_65 : decode cX2_lifts 65 = .ok (.invokestatic 159, 3) := dk_184 0 159 (dk_at dksX2_lifts_2 18 rfl rfl)
theorem dX2_lifts_68 : decode cX2_lifts 68 = .ok (.iastore, 1) := dk_79 (dk_at dksX2_lifts_2 21 rfl rfl)
theorem dX2_lifts_69 : decode cX2_lifts 69 = .ok (.aload_n 0, 1) := dk_42 (dk_at dksX2_lifts_2 22 rfl rfl)
theorem dX2_lifts_70 : decode cX2_lifts 70 = .ok (.getfield 32, 3) := dk_180 0 32 (dk_at dksX2_lifts_3 0 rfl rfl)
theorem dX2_lifts_73 : decode cX2_lifts 73 = .ok (.bipush 6, 2) := dk_16 6 (dk_at dksX2_lifts_3 3 rfl rfl)
theorem dX2_lifts_75 : decode cX2_lifts 75 = .ok (.dup2, 1) := dk_92 (dk_at dksX2_lifts_3 5 rfl rfl)
theorem dX2_lifts_76 : decode cX2_lifts 76 = .ok (.iaload, 1) := dk_46 (dk_at dksX2_lifts_3 6 rfl rfl)
theorem dX2_lifts_77 : decode cX2_lifts 77 = .ok (.iconst 1, 1) := dk_4 (dk_at dksX2_lifts_3 7 rfl rfl)
theorem dX2_lifts_78 : decode cX2_lifts 78 = .ok (.iadd, 1) := dk_96 (dk_at dksX2_lifts_3 8 rfl rfl)
theorem dX2_lifts_79 : decode cX2_lifts 79 = .ok (.iastore, 1) := dk_79 (dk_at dksX2_lifts_3 9 rfl rfl)
theorem dX2_lifts_80 : decode cX2_lifts 80 = .ok (.aload_n 0, 1) := dk_42 (dk_at dksX2_lifts_3 10 rfl rfl)
theorem dX2_lifts_81 : decode cX2_lifts 81 = .ok (.getfield 32, 3) := dk_180 0 32 (dk_at dksX2_lifts_3 11 rfl rfl)
theorem dX2_lifts_84 : decode cX2_lifts 84 = .ok (.bipush 18, 2) := dk_16 18 (dk_at dksX2_lifts_3 14 rfl rfl)
theorem dX2_lifts_86 : decode cX2_lifts 86 = .ok (.aload_n 0, 1) := dk_42 (dk_at dksX2_lifts_3 16 rfl rfl)
theorem dX2_lifts_87 : decode cX2_lifts 87 = .ok (.iload_n 1, 1) := dk_27 (dk_at dksX2_lifts_3 17 rfl rfl)
theorem dX2_lifts_88 : decode cX2_lifts 88 = .ok (.iconst 0, 1) := dk_3 (dk_at dksX2_lifts_3 18 rfl rfl)
theorem dX2_lifts_89 : decode cX2_lifts 89 = .ok (.invokevirtual 73, 3) := dk_182 0 73 (dk_at dksX2_lifts_3 19 rfl rfl)
theorem dX2_lifts_92 : decode cX2_lifts 92 = .ok (.iadd, 1) := dk_96 (dk_at dksX2_lifts_3 22 rfl rfl)
theorem dX2_lifts_93 : decode cX2_lifts 93 = .ok (.dup2, 1) := dk_92 (dk_at dksX2_lifts_3 23 rfl rfl)
theorem dX2_lifts_94 : decode cX2_lifts 94 = .ok (.iaload, 1) := dk_46 (dk_at dksX2_lifts_4 0 rfl rfl)
theorem dX2_lifts_95 : decode cX2_lifts 95 = .ok (.iconst 1, 1) := dk_4 (dk_at dksX2_lifts_4 1 rfl rfl)
theorem dX2_lifts_96 : decode cX2_lifts 96 = .ok (.iadd, 1) := dk_96 (dk_at dksX2_lifts_4 2 rfl rfl)
theorem dX2_lifts_97 : decode cX2_lifts 97 = .ok (.iastore, 1) := dk_79 (dk_at dksX2_lifts_4 3 rfl rfl)
theorem dX2_lifts_98 : decode cX2_lifts 98 = .ok (.aload_n 0, 1) := dk_42 (dk_at dksX2_lifts_4 4 rfl rfl)
theorem dX2_lifts_99 : decode cX2_lifts 99 = .ok (.getfield 32, 3) := dk_180 0 32 (dk_at dksX2_lifts_4 5 rfl rfl)
theorem dX2_lifts_102 : decode cX2_lifts 102 = .ok (.bipush 12, 2) := dk_16 12 (dk_at dksX2_lifts_4 8 rfl rfl)
theorem dX2_lifts_104 : decode cX2_lifts 104 = .ok (.iload_n 3, 1) := dk_29 (dk_at dksX2_lifts_4 10 rfl rfl)
theorem dX2_lifts_105 : decode cX2_lifts 105 = .ok (.bipush 32, 2) := dk_16 32 (dk_at dksX2_lifts_4 11 rfl rfl)
theorem dX2_lifts_107 : decode cX2_lifts 107 = .ok (.idiv, 1) := dk_108 (dk_at dksX2_lifts_4 13 rfl rfl)
theorem dX2_lifts_108 : decode cX2_lifts 108 = .ok (.iadd, 1) := dk_96 (dk_at dksX2_lifts_4 14 rfl rfl)
theorem dX2_lifts_109 : decode cX2_lifts 109 = .ok (.dup2, 1) := dk_92 (dk_at dksX2_lifts_4 15 rfl rfl)
theorem dX2_lifts_110 : decode cX2_lifts 110 = .ok (.iaload, 1) := dk_46 (dk_at dksX2_lifts_4 16 rfl rfl)
theorem dX2_lifts_111 : decode cX2_lifts 111 = .ok (.iconst 1, 1) := dk_4 (dk_at dksX2_lifts_4 17 rfl rfl)
theorem dX2_lifts_112 : decode cX2_lifts 112 = .ok (.iload_n 3, 1) := dk_29 (dk_at dksX2_lifts_4 18 rfl rfl)
theorem dX2_lifts_113 : decode cX2_lifts 113 = .ok (.bipush 32, 2) := dk_16 32 (dk_at dksX2_lifts_4 19 rfl rfl)
theorem dX2_lifts_115 : decode cX2_lifts 115 = .ok (.irem, 1) := dk_112 (dk_at dksX2_lifts_4 21 rfl rfl)
theorem dX2_lifts_116 : decode cX2_lifts 116 = .ok (.ishl, 1) := dk_120 (dk_at dksX2_lifts_4 22 rfl rfl)
theorem dX2_lifts_117 : decode cX2_lifts 117 = .ok (.ior, 1) := dk_128 (dk_at dksX2_lifts_4 23 rfl rfl)
theorem dX2_lifts_118 : decode cX2_lifts 118 = .ok (.iastore, 1) := dk_79 (dk_at dksX2_lifts_5 0 rfl rfl)
theorem dX2_lifts_119 : decode cX2_lifts 119 = .ok (.aload_n 0, 1) := dk_42 (dk_at dksX2_lifts_5 1 rfl rfl)
theorem dX2_lifts_120 : decode cX2_lifts 120 = .ok (.getfield 32, 3) := dk_180 0 32 (dk_at dksX2_lifts_5 2 rfl rfl)
theorem dX2_lifts_123 : decode cX2_lifts 123 = .ok (.bipush 11, 2) := dk_16 11 (dk_at dksX2_lifts_5 5 rfl rfl)
theorem dX2_lifts_125 : decode cX2_lifts 125 = .ok (.aload_n 0, 1) := dk_42 (dk_at dksX2_lifts_5 7 rfl rfl)
theorem dX2_lifts_126 : decode cX2_lifts 126 = .ok (.getfield 32, 3) := dk_180 0 32 (dk_at dksX2_lifts_5 8 rfl rfl)
theorem dX2_lifts_129 : decode cX2_lifts 129 = .ok (.bipush 11, 2) := dk_16 11 (dk_at dksX2_lifts_5 11 rfl rfl)
theorem dX2_lifts_131 : decode cX2_lifts 131 = .ok (.iaload, 1) := dk_46 (dk_at dksX2_lifts_5 13 rfl rfl)
theorem dX2_lifts_132 : decode cX2_lifts 132 = .ok (.invokestatic 165, 3) := dk_184 0 165 (dk_at dksX2_lifts_5 14 rfl rfl)
theorem dX2_lifts_135 : decode cX2_lifts 135 = .ok (.fload_n 2, 1) := dk_36 (dk_at dksX2_lifts_5 17 rfl rfl)
theorem dX2_lifts_136 : decode cX2_lifts 136 = .ok (.fadd, 1) := dk_98 (dk_at dksX2_lifts_5 18 rfl rfl)
theorem dX2_lifts_137 : decode cX2_lifts 137 = .ok (.invokestatic 159, 3) := dk_184 0 159 (dk_at dksX2_lifts_5 19 rfl rfl)
theorem dX2_lifts_140 : decode cX2_lifts 140 = .ok (.iastore, 1) := dk_79 (dk_at dksX2_lifts_5 22 rfl rfl)
theorem dX2_lifts_141 : decode cX2_lifts 141 = .ok (.aload_n 0, 1) := dk_42 (dk_at dksX2_lifts_5 23 rfl rfl)
theorem dX2_lifts_142 : decode cX2_lifts 142 = .ok (.iload_n 1, 1) := dk_27 (dk_at dksX2_lifts_6 0 rfl rfl)
theorem dX2_lifts_143 : decode cX2_lifts 143 = .ok (.invokevirtual 122, 3) := dk_182 0 122 (dk_at dksX2_lifts_6 1 rfl rfl)
theorem dX2_lifts_146 : decode cX2_lifts 146 = .ok (.return_, 1) := dk_177 (dk_at dksX2_lifts_6 4 rfl rfl)
abbrev cX2_laughOf : ByteArray := prog_27_method_40_code
def yX2_laughOf : MethodName := ⟨RX2, "laughOf", "(II)F"⟩
def dkwX2_laughOf_1 : List UInt8 := [12, 28, 134, 18, 154, 110, 98, 110, 174]
abbrev dktX2_laughOf_1 : List UInt8 := dkwX2_laughOf_1 ++ []
def dkwX2_laughOf_0 : List UInt8 := [42, 27, 6, 182, 0, 73, 134, 70, 42, 27, 7, 182, 0, 73, 4, 160, 0, 8, 37, 18, 153, 106, 70, 37]
abbrev dktX2_laughOf_0 : List UInt8 := dkwX2_laughOf_0 ++ dktX2_laughOf_1
theorem dksX2_laughOf_0 : cX2_laughOf.data.toList.drop 0 = dktX2_laughOf_0 := by decide +kernel
theorem dksX2_laughOf_1 : cX2_laughOf.data.toList.drop 24 = dktX2_laughOf_1 := dk_seg dksX2_laughOf_0 24 rfl rfl
theorem dX2_laughOf_0 : decode cX2_laughOf 0 = .ok (.aload_n 0, 1) := dk_42 (dk_at dksX2_laughOf_0 0 rfl rfl)
theorem dX2_laughOf_1 : decode cX2_laughOf 1 = .ok (.iload_n 1, 1) := dk_27 (dk_at dksX2_laughOf_0 1 rfl rfl)
theorem dX2_laughOf_2 : decode cX2_laughOf 2 = .ok (.iconst 3, 1) := dk_6 (dk_at dksX2_laughOf_0 2 rfl rfl)
theorem dX2_laughOf_3 : decode cX2_laughOf 3 = .ok (.invokevirtual 73, 3) := dk_182 0 73 (dk_at dksX2_laughOf_0 3 rfl rfl)
theorem dX2_laughOf_6 : decode cX2_laughOf 6 = .ok (.i2f, 1) := dk_134 (dk_at dksX2_laughOf_0 6 rfl rfl)
theorem dX2_laughOf_7 : decode cX2_laughOf 7 = .ok (.fstore_n 3, 1) := dk_70 (dk_at dksX2_laughOf_0 7 rfl rfl)
theorem dX2_laughOf_8 : decode cX2_laughOf 8 = .ok (.aload_n 0, 1) := dk_42 (dk_at dksX2_laughOf_0 8 rfl rfl)
theorem dX2_laughOf_9 : decode cX2_laughOf 9 = .ok (.iload_n 1, 1) := dk_27 (dk_at dksX2_laughOf_0 9 rfl rfl)
theorem dX2_laughOf_10 : decode cX2_laughOf 10 = .ok (.iconst 4, 1) := dk_7 (dk_at dksX2_laughOf_0 10 rfl rfl)
theorem dX2_laughOf_11 : decode cX2_laughOf 11 = .ok (.invokevirtual 73, 3) := dk_182 0 73 (dk_at dksX2_laughOf_0 11 rfl rfl)
theorem dX2_laughOf_14 : decode cX2_laughOf 14 = .ok (.iconst 1, 1) := dk_4 (dk_at dksX2_laughOf_0 14 rfl rfl)
theorem dX2_laughOf_15 : decode cX2_laughOf 15 = .ok (.if_icmp .ne 8, 3) := dk_160 0 8 (dk_at dksX2_laughOf_0 15 rfl rfl)
theorem dX2_laughOf_18 : decode cX2_laughOf 18 = .ok (.fload_n 3, 1) := dk_37 (dk_at dksX2_laughOf_0 18 rfl rfl)
theorem dX2_laughOf_19 : decode cX2_laughOf 19 = .ok (.ldc 153, 2) := dk_18 153 (dk_at dksX2_laughOf_0 19 rfl rfl)
theorem dX2_laughOf_21 : decode cX2_laughOf 21 = .ok (.fmul, 1) := dk_106 (dk_at dksX2_laughOf_0 21 rfl rfl)
theorem dX2_laughOf_22 : decode cX2_laughOf 22 = .ok (.fstore_n 3, 1) := dk_70 (dk_at dksX2_laughOf_0 22 rfl rfl)
theorem dX2_laughOf_23 : decode cX2_laughOf 23 = .ok (.fload_n 3, 1) := dk_37 (dk_at dksX2_laughOf_0 23 rfl rfl)
theorem dX2_laughOf_24 : decode cX2_laughOf 24 = .ok (.fconst 1, 1) := dk_12 (dk_at dksX2_laughOf_1 0 rfl rfl)
theorem dX2_laughOf_25 : decode cX2_laughOf 25 = .ok (.iload_n 2, 1) := dk_28 (dk_at dksX2_laughOf_1 1 rfl rfl)
theorem dX2_laughOf_26 : decode cX2_laughOf 26 = .ok (.i2f, 1) := dk_134 (dk_at dksX2_laughOf_1 2 rfl rfl)
theorem dX2_laughOf_27 : decode cX2_laughOf 27 = .ok (.ldc 154, 2) := dk_18 154 (dk_at dksX2_laughOf_1 3 rfl rfl)
theorem dX2_laughOf_29 : decode cX2_laughOf 29 = .ok (.fdiv, 1) := dk_110 (dk_at dksX2_laughOf_1 5 rfl rfl)
theorem dX2_laughOf_30 : decode cX2_laughOf 30 = .ok (.fadd, 1) := dk_98 (dk_at dksX2_laughOf_1 6 rfl rfl)
theorem dX2_laughOf_31 : decode cX2_laughOf 31 = .ok (.fdiv, 1) := dk_110 (dk_at dksX2_laughOf_1 7 rfl rfl)
theorem dX2_laughOf_32 : decode cX2_laughOf 32 = .ok (.freturn, 1) := dk_174 (dk_at dksX2_laughOf_1 8 rfl rfl)
abbrev cX2_jokeOf : ByteArray := prog_27_method_47_code
def yX2_jokeOf : MethodName := ⟨RX2, "jokeOf", "(II)I"⟩
def dkwX2_jokeOf_1 : List UInt8 := [160, 0, 11, 42, 27, 182, 0, 77, 167, 0, 9, 42, 27, 28, 182, 0, 73, 172]
abbrev dktX2_jokeOf_1 : List UInt8 := dkwX2_jokeOf_1 ++ []
def dkwX2_jokeOf_0 : List UInt8 := [42, 27, 182, 0, 113, 154, 0, 5, 2, 172, 28, 3, 8, 184, 0, 19, 154, 0, 6, 16, 254, 172, 28, 8]
abbrev dktX2_jokeOf_0 : List UInt8 := dkwX2_jokeOf_0 ++ dktX2_jokeOf_1
theorem dksX2_jokeOf_0 : cX2_jokeOf.data.toList.drop 0 = dktX2_jokeOf_0 := by decide +kernel
theorem dksX2_jokeOf_1 : cX2_jokeOf.data.toList.drop 24 = dktX2_jokeOf_1 := dk_seg dksX2_jokeOf_0 24 rfl rfl
theorem dX2_jokeOf_0 : decode cX2_jokeOf 0 = .ok (.aload_n 0, 1) := dk_42 (dk_at dksX2_jokeOf_0 0 rfl rfl)
theorem dX2_jokeOf_1 : decode cX2_jokeOf 1 = .ok (.iload_n 1, 1) := dk_27 (dk_at dksX2_jokeOf_0 1 rfl rfl)
theorem dX2_jokeOf_2 : decode cX2_jokeOf 2 = .ok (.invokevirtual 113, 3) := dk_182 0 113 (dk_at dksX2_jokeOf_0 2 rfl rfl)
theorem dX2_jokeOf_5 : decode cX2_jokeOf 5 = .ok (.ifCond .ne 5, 3) := dk_154 0 5 (dk_at dksX2_jokeOf_0 5 rfl rfl)
theorem dX2_jokeOf_8 : decode cX2_jokeOf 8 = .ok (.iconst (-1), 1) := dk_2 (dk_at dksX2_jokeOf_0 8 rfl rfl)
theorem dX2_jokeOf_9 : decode cX2_jokeOf 9 = .ok (.ireturn, 1) := dk_172 (dk_at dksX2_jokeOf_0 9 rfl rfl)
theorem dX2_jokeOf_10 : decode cX2_jokeOf 10 = .ok (.iload_n 2, 1) := dk_28 (dk_at dksX2_jokeOf_0 10 rfl rfl)
theorem dX2_jokeOf_11 : decode cX2_jokeOf 11 = .ok (.iconst 0, 1) := dk_3 (dk_at dksX2_jokeOf_0 11 rfl rfl)
theorem dX2_jokeOf_12 : decode cX2_jokeOf 12 = .ok (.iconst 5, 1) := dk_8 (dk_at dksX2_jokeOf_0 12 rfl rfl)
theorem dX2_jokeOf_13 : decode cX2_jokeOf 13 = .ok (.invokestatic 19, 3) := dk_184 0 19 (dk_at dksX2_jokeOf_0 13 rfl rfl)
theorem dX2_jokeOf_16 : decode cX2_jokeOf 16 = .ok (.ifCond .ne 6, 3) := dk_154 0 6 (dk_at dksX2_jokeOf_0 16 rfl rfl)
theorem dX2_jokeOf_19 : decode cX2_jokeOf 19 = .ok (.bipush (-2), 2) := dk_16 254 (dk_at dksX2_jokeOf_0 19 rfl rfl)
theorem dX2_jokeOf_21 : decode cX2_jokeOf 21 = .ok (.ireturn, 1) := dk_172 (dk_at dksX2_jokeOf_0 21 rfl rfl)
theorem dX2_jokeOf_22 : decode cX2_jokeOf 22 = .ok (.iload_n 2, 1) := dk_28 (dk_at dksX2_jokeOf_0 22 rfl rfl)
theorem dX2_jokeOf_23 : decode cX2_jokeOf 23 = .ok (.iconst 5, 1) := dk_8 (dk_at dksX2_jokeOf_0 23 rfl rfl)
theorem dX2_jokeOf_24 : decode cX2_jokeOf 24 = .ok (.if_icmp .ne 11, 3) := dk_160 0 11 (dk_at dksX2_jokeOf_1 0 rfl rfl)
theorem dX2_jokeOf_27 : decode cX2_jokeOf 27 = .ok (.aload_n 0, 1) := dk_42 (dk_at dksX2_jokeOf_1 3 rfl rfl)
theorem dX2_jokeOf_28 : decode cX2_jokeOf 28 = .ok (.iload_n 1, 1) := dk_27 (dk_at dksX2_jokeOf_1 4 rfl rfl)
theorem dX2_jokeOf_29 : decode cX2_jokeOf 29 = .ok (.invokevirtual 77, 3) := dk_182 0 77 (dk_at dksX2_jokeOf_1 5 rfl rfl)
theorem dX2_jokeOf_32 : decode cX2_jokeOf 32 = .ok (.goto 9, 3) := dk_167 0 9 (dk_at dksX2_jokeOf_1 8 rfl rfl)
theorem dX2_jokeOf_35 : decode cX2_jokeOf 35 = .ok (.aload_n 0, 1) := dk_42 (dk_at dksX2_jokeOf_1 11 rfl rfl)
theorem dX2_jokeOf_36 : decode cX2_jokeOf 36 = .ok (.iload_n 1, 1) := dk_27 (dk_at dksX2_jokeOf_1 12 rfl rfl)
theorem dX2_jokeOf_37 : decode cX2_jokeOf 37 = .ok (.iload_n 2, 1) := dk_28 (dk_at dksX2_jokeOf_1 13 rfl rfl)
theorem dX2_jokeOf_38 : decode cX2_jokeOf 38 = .ok (.invokevirtual 73, 3) := dk_182 0 73 (dk_at dksX2_jokeOf_1 14 rfl rfl)
theorem dX2_jokeOf_41 : decode cX2_jokeOf 41 = .ok (.ireturn, 1) := dk_172 (dk_at dksX2_jokeOf_1 17 rfl rfl)
abbrev cX2_wellOf : ByteArray := prog_27_method_48_code
def yX2_wellOf : MethodName := ⟨RX2, "wellOf", "(II)I"⟩
def dkwX2_wellOf_4 : List UInt8 := [46, 172, 16, 254, 172]
abbrev dktX2_wellOf_4 : List UInt8 := dkwX2_wellOf_4 ++ []
def dkwX2_wellOf_3 : List UInt8 := [3, 167, 0, 14, 42, 42, 27, 3, 182, 0, 172, 4, 182, 0, 73, 172, 42, 180, 0, 32, 16, 18, 27, 96]
abbrev dktX2_wellOf_3 : List UInt8 := dkwX2_wellOf_3 ++ dktX2_wellOf_4
def dkwX2_wellOf_2 : List UInt8 := [42, 180, 0, 32, 16, 14, 27, 96, 46, 172, 42, 27, 182, 0, 97, 172, 42, 27, 182, 0, 97, 154, 0, 7]
abbrev dktX2_wellOf_2 : List UInt8 := dkwX2_wellOf_2 ++ dktX2_wellOf_3
def dkwX2_wellOf_1 : List UInt8 := [170, 0, 0, 0, 0, 80, 0, 0, 0, 0, 0, 0, 0, 3, 0, 0, 0, 30, 0, 0, 0, 40, 0, 0, 0, 46, 0, 0, 0, 70]
abbrev dktX2_wellOf_1 : List UInt8 := dkwX2_wellOf_1 ++ dktX2_wellOf_2
def dkwX2_wellOf_0 : List UInt8 := [27, 184, 0, 81, 154, 0, 5, 2, 172, 28]
abbrev dktX2_wellOf_0 : List UInt8 := dkwX2_wellOf_0 ++ dktX2_wellOf_1
theorem dksX2_wellOf_0 : cX2_wellOf.data.toList.drop 0 = dktX2_wellOf_0 := by decide +kernel
theorem dksX2_wellOf_1 : cX2_wellOf.data.toList.drop 10 = dktX2_wellOf_1 := dk_seg dksX2_wellOf_0 10 rfl rfl
theorem dksX2_wellOf_2 : cX2_wellOf.data.toList.drop 40 = dktX2_wellOf_2 := dk_seg dksX2_wellOf_1 30 rfl rfl
theorem dksX2_wellOf_3 : cX2_wellOf.data.toList.drop 64 = dktX2_wellOf_3 := dk_seg dksX2_wellOf_2 24 rfl rfl
theorem dksX2_wellOf_4 : cX2_wellOf.data.toList.drop 88 = dktX2_wellOf_4 := dk_seg dksX2_wellOf_3 24 rfl rfl
theorem dX2_wellOf_0 : decode cX2_wellOf 0 = .ok (.iload_n 1, 1) := dk_27 (dk_at dksX2_wellOf_0 0 rfl rfl)
theorem dX2_wellOf_1 : decode cX2_wellOf 1 = .ok (.invokestatic 81, 3) := dk_184 0 81 (dk_at dksX2_wellOf_0 1 rfl rfl)
theorem dX2_wellOf_4 : decode cX2_wellOf 4 = .ok (.ifCond .ne 5, 3) := dk_154 0 5 (dk_at dksX2_wellOf_0 4 rfl rfl)
theorem dX2_wellOf_7 : decode cX2_wellOf 7 = .ok (.iconst (-1), 1) := dk_2 (dk_at dksX2_wellOf_0 7 rfl rfl)
theorem dX2_wellOf_8 : decode cX2_wellOf 8 = .ok (.ireturn, 1) := dk_172 (dk_at dksX2_wellOf_0 8 rfl rfl)
theorem dX2_wellOf_9 : decode cX2_wellOf 9 = .ok (.iload_n 2, 1) := dk_28 (dk_at dksX2_wellOf_0 9 rfl rfl)
theorem dX2_wellOf_10 : decode cX2_wellOf 10 = .ok (.tableswitch 80 0 3 #[30, 40, 46, 70], 30) := by decide +kernel
theorem dX2_wellOf_40 : decode cX2_wellOf 40 = .ok (.aload_n 0, 1) := dk_42 (dk_at dksX2_wellOf_2 0 rfl rfl)
theorem dX2_wellOf_41 : decode cX2_wellOf 41 = .ok (.getfield 32, 3) := dk_180 0 32 (dk_at dksX2_wellOf_2 1 rfl rfl)
theorem dX2_wellOf_44 : decode cX2_wellOf 44 = .ok (.bipush 14, 2) := dk_16 14 (dk_at dksX2_wellOf_2 4 rfl rfl)
theorem dX2_wellOf_46 : decode cX2_wellOf 46 = .ok (.iload_n 1, 1) := dk_27 (dk_at dksX2_wellOf_2 6 rfl rfl)
theorem dX2_wellOf_47 : decode cX2_wellOf 47 = .ok (.iadd, 1) := dk_96 (dk_at dksX2_wellOf_2 7 rfl rfl)
theorem dX2_wellOf_48 : decode cX2_wellOf 48 = .ok (.iaload, 1) := dk_46 (dk_at dksX2_wellOf_2 8 rfl rfl)
theorem dX2_wellOf_49 : decode cX2_wellOf 49 = .ok (.ireturn, 1) := dk_172 (dk_at dksX2_wellOf_2 9 rfl rfl)
theorem dX2_wellOf_50 : decode cX2_wellOf 50 = .ok (.aload_n 0, 1) := dk_42 (dk_at dksX2_wellOf_2 10 rfl rfl)
theorem dX2_wellOf_51 : decode cX2_wellOf 51 = .ok (.iload_n 1, 1) := dk_27 (dk_at dksX2_wellOf_2 11 rfl rfl)
theorem dX2_wellOf_52 : decode cX2_wellOf 52 = .ok (.invokevirtual 97, 3) := dk_182 0 97 (dk_at dksX2_wellOf_2 12 rfl rfl)
theorem dX2_wellOf_55 : decode cX2_wellOf 55 = .ok (.ireturn, 1) := dk_172 (dk_at dksX2_wellOf_2 15 rfl rfl)
theorem dX2_wellOf_56 : decode cX2_wellOf 56 = .ok (.aload_n 0, 1) := dk_42 (dk_at dksX2_wellOf_2 16 rfl rfl)
theorem dX2_wellOf_57 : decode cX2_wellOf 57 = .ok (.iload_n 1, 1) := dk_27 (dk_at dksX2_wellOf_2 17 rfl rfl)
theorem dX2_wellOf_58 : decode cX2_wellOf 58 = .ok (.invokevirtual 97, 3) := dk_182 0 97 (dk_at dksX2_wellOf_2 18 rfl rfl)
theorem dX2_wellOf_61 : decode cX2_wellOf 61 = .ok (.ifCond .ne 7, 3) := dk_154 0 7 (dk_at dksX2_wellOf_2 21 rfl rfl)
theorem dX2_wellOf_64 : decode cX2_wellOf 64 = .ok (.iconst 0, 1) := dk_3 (dk_at dksX2_wellOf_3 0 rfl rfl)
theorem dX2_wellOf_65 : decode cX2_wellOf 65 = .ok (.goto 14, 3) := dk_167 0 14 (dk_at dksX2_wellOf_3 1 rfl rfl)
theorem dX2_wellOf_68 : decode cX2_wellOf 68 = .ok (.aload_n 0, 1) := dk_42 (dk_at dksX2_wellOf_3 4 rfl rfl)
theorem dX2_wellOf_69 : decode cX2_wellOf 69 = .ok (.aload_n 0, 1) := dk_42 (dk_at dksX2_wellOf_3 5 rfl rfl)
theorem dX2_wellOf_70 : decode cX2_wellOf 70 = .ok (.iload_n 1, 1) := dk_27 (dk_at dksX2_wellOf_3 6 rfl rfl)
theorem dX2_wellOf_71 : decode cX2_wellOf 71 = .ok (.iconst 0, 1) := dk_3 (dk_at dksX2_wellOf_3 7 rfl rfl)
theorem dX2_wellOf_72 : decode cX2_wellOf 72 = .ok (.invokevirtual 172, 3) := dk_182 0 172 (dk_at dksX2_wellOf_3 8 rfl rfl)
theorem dX2_wellOf_75 : decode cX2_wellOf 75 = .ok (.iconst 1, 1) := dk_4 (dk_at dksX2_wellOf_3 11 rfl rfl)
theorem dX2_wellOf_76 : decode cX2_wellOf 76 = .ok (.invokevirtual 73, 3) := dk_182 0 73 (dk_at dksX2_wellOf_3 12 rfl rfl)
theorem dX2_wellOf_79 : decode cX2_wellOf 79 = .ok (.ireturn, 1) := dk_172 (dk_at dksX2_wellOf_3 15 rfl rfl)
theorem dX2_wellOf_80 : decode cX2_wellOf 80 = .ok (.aload_n 0, 1) := dk_42 (dk_at dksX2_wellOf_3 16 rfl rfl)
theorem dX2_wellOf_81 : decode cX2_wellOf 81 = .ok (.getfield 32, 3) := dk_180 0 32 (dk_at dksX2_wellOf_3 17 rfl rfl)
theorem dX2_wellOf_84 : decode cX2_wellOf 84 = .ok (.bipush 18, 2) := dk_16 18 (dk_at dksX2_wellOf_3 20 rfl rfl)
theorem dX2_wellOf_86 : decode cX2_wellOf 86 = .ok (.iload_n 1, 1) := dk_27 (dk_at dksX2_wellOf_3 22 rfl rfl)
theorem dX2_wellOf_87 : decode cX2_wellOf 87 = .ok (.iadd, 1) := dk_96 (dk_at dksX2_wellOf_3 23 rfl rfl)
theorem dX2_wellOf_88 : decode cX2_wellOf 88 = .ok (.iaload, 1) := dk_46 (dk_at dksX2_wellOf_4 0 rfl rfl)
theorem dX2_wellOf_89 : decode cX2_wellOf 89 = .ok (.ireturn, 1) := dk_172 (dk_at dksX2_wellOf_4 1 rfl rfl)
theorem dX2_wellOf_90 : decode cX2_wellOf 90 = .ok (.bipush (-2), 2) := dk_16 254 (dk_at dksX2_wellOf_4 2 rfl rfl)
theorem dX2_wellOf_92 : decode cX2_wellOf 92 = .ok (.ireturn, 1) := dk_172 (dk_at dksX2_wellOf_4 4 rfl rfl)
abbrev cX2_isKnown : ByteArray := prog_27_method_49_code
def yX2_isKnown : MethodName := ⟨RX2, "isKnown", "(I)I"⟩
def dkwX2_isKnown_1 : List UInt8 := [3, 172]
abbrev dktX2_isKnown_1 : List UInt8 := dkwX2_isKnown_1 ++ []
def dkwX2_isKnown_0 : List UInt8 := [27, 3, 16, 63, 184, 0, 19, 154, 0, 5, 2, 172, 42, 27, 182, 0, 85, 153, 0, 7, 4, 167, 0, 4]
abbrev dktX2_isKnown_0 : List UInt8 := dkwX2_isKnown_0 ++ dktX2_isKnown_1
theorem dksX2_isKnown_0 : cX2_isKnown.data.toList.drop 0 = dktX2_isKnown_0 := by decide +kernel
theorem dksX2_isKnown_1 : cX2_isKnown.data.toList.drop 24 = dktX2_isKnown_1 := dk_seg dksX2_isKnown_0 24 rfl rfl
theorem dX2_isKnown_0 : decode cX2_isKnown 0 = .ok (.iload_n 1, 1) := dk_27 (dk_at dksX2_isKnown_0 0 rfl rfl)
theorem dX2_isKnown_1 : decode cX2_isKnown 1 = .ok (.iconst 0, 1) := dk_3 (dk_at dksX2_isKnown_0 1 rfl rfl)
theorem dX2_isKnown_2 : decode cX2_isKnown 2 = .ok (.bipush 63, 2) := dk_16 63 (dk_at dksX2_isKnown_0 2 rfl rfl)
theorem dX2_isKnown_4 : decode cX2_isKnown 4 = .ok (.invokestatic 19, 3) := dk_184 0 19 (dk_at dksX2_isKnown_0 4 rfl rfl)
theorem dX2_isKnown_7 : decode cX2_isKnown 7 = .ok (.ifCond .ne 5, 3) := dk_154 0 5 (dk_at dksX2_isKnown_0 7 rfl rfl)
theorem dX2_isKnown_10 : decode cX2_isKnown 10 = .ok (.iconst (-1), 1) := dk_2 (dk_at dksX2_isKnown_0 10 rfl rfl)
theorem dX2_isKnown_11 : decode cX2_isKnown 11 = .ok (.ireturn, 1) := dk_172 (dk_at dksX2_isKnown_0 11 rfl rfl)
theorem dX2_isKnown_12 : decode cX2_isKnown 12 = .ok (.aload_n 0, 1) := dk_42 (dk_at dksX2_isKnown_0 12 rfl rfl)
theorem dX2_isKnown_13 : decode cX2_isKnown 13 = .ok (.iload_n 1, 1) := dk_27 (dk_at dksX2_isKnown_0 13 rfl rfl)
theorem dX2_isKnown_14 : decode cX2_isKnown 14 = .ok (.invokevirtual 85, 3) := dk_182 0 85 (dk_at dksX2_isKnown_0 14 rfl rfl)
theorem dX2_isKnown_17 : decode cX2_isKnown 17 = .ok (.ifCond .eq 7, 3) := dk_153 0 7 (dk_at dksX2_isKnown_0 17 rfl rfl)
theorem dX2_isKnown_20 : decode cX2_isKnown 20 = .ok (.iconst 1, 1) := dk_4 (dk_at dksX2_isKnown_0 20 rfl rfl)
theorem dX2_isKnown_21 : decode cX2_isKnown 21 = .ok (.goto 4, 3) := dk_167 0 4 (dk_at dksX2_isKnown_0 21 rfl rfl)
theorem dX2_isKnown_24 : decode cX2_isKnown 24 = .ok (.iconst 0, 1) := dk_3 (dk_at dksX2_isKnown_1 0 rfl rfl)
theorem dX2_isKnown_25 : decode cX2_isKnown 25 = .ok (.ireturn, 1) := dk_172 (dk_at dksX2_isKnown_1 1 rfl rfl)
abbrev cX2_laughBits : ByteArray := prog_27_method_50_code
def yX2_laughBits : MethodName := ⟨RX2, "laughBits", "(II)I"⟩
def dkwX2_laughBits_1 : List UInt8 := [182, 0, 155, 184, 0, 159, 167, 0, 5, 16, 254, 172]
abbrev dktX2_laughBits_1 : List UInt8 := dkwX2_laughBits_1 ++ []
def dkwX2_laughBits_0 : List UInt8 := [42, 27, 182, 0, 113, 154, 0, 5, 2, 172, 28, 3, 16, 50, 184, 0, 19, 153, 0, 15, 42, 27, 28]
abbrev dktX2_laughBits_0 : List UInt8 := dkwX2_laughBits_0 ++ dktX2_laughBits_1
theorem dksX2_laughBits_0 : cX2_laughBits.data.toList.drop 0 = dktX2_laughBits_0 := by decide +kernel
theorem dksX2_laughBits_1 : cX2_laughBits.data.toList.drop 23 = dktX2_laughBits_1 := dk_seg dksX2_laughBits_0 23 rfl rfl
theorem dX2_laughBits_0 : decode cX2_laughBits 0 = .ok (.aload_n 0, 1) := dk_42 (dk_at dksX2_laughBits_0 0 rfl rfl)
theorem dX2_laughBits_1 : decode cX2_laughBits 1 = .ok (.iload_n 1, 1) := dk_27 (dk_at dksX2_laughBits_0 1 rfl rfl)
theorem dX2_laughBits_2 : decode cX2_laughBits 2 = .ok (.invokevirtual 113, 3) := dk_182 0 113 (dk_at dksX2_laughBits_0 2 rfl rfl)
theorem dX2_laughBits_5 : decode cX2_laughBits 5 = .ok (.ifCond .ne 5, 3) := dk_154 0 5 (dk_at dksX2_laughBits_0 5 rfl rfl)
theorem dX2_laughBits_8 : decode cX2_laughBits 8 = .ok (.iconst (-1), 1) := dk_2 (dk_at dksX2_laughBits_0 8 rfl rfl)
theorem dX2_laughBits_9 : decode cX2_laughBits 9 = .ok (.ireturn, 1) := dk_172 (dk_at dksX2_laughBits_0 9 rfl rfl)
theorem dX2_laughBits_10 : decode cX2_laughBits 10 = .ok (.iload_n 2, 1) := dk_28 (dk_at dksX2_laughBits_0 10 rfl rfl)
theorem dX2_laughBits_11 : decode cX2_laughBits 11 = .ok (.iconst 0, 1) := dk_3 (dk_at dksX2_laughBits_0 11 rfl rfl)
theorem dX2_laughBits_12 : decode cX2_laughBits 12 = .ok (.bipush 50, 2) := dk_16 50 (dk_at dksX2_laughBits_0 12 rfl rfl)
theorem dX2_laughBits_14 : decode cX2_laughBits 14 = .ok (.invokestatic 19, 3) := dk_184 0 19 (dk_at dksX2_laughBits_0 14 rfl rfl)
theorem dX2_laughBits_17 : decode cX2_laughBits 17 = .ok (.ifCond .eq 15, 3) := dk_153 0 15 (dk_at dksX2_laughBits_0 17 rfl rfl)
theorem dX2_laughBits_20 : decode cX2_laughBits 20 = .ok (.aload_n 0, 1) := dk_42 (dk_at dksX2_laughBits_0 20 rfl rfl)
theorem dX2_laughBits_21 : decode cX2_laughBits 21 = .ok (.iload_n 1, 1) := dk_27 (dk_at dksX2_laughBits_0 21 rfl rfl)
theorem dX2_laughBits_22 : decode cX2_laughBits 22 = .ok (.iload_n 2, 1) := dk_28 (dk_at dksX2_laughBits_0 22 rfl rfl)
theorem dX2_laughBits_23 : decode cX2_laughBits 23 = .ok (.invokevirtual 155, 3) := dk_182 0 155 (dk_at dksX2_laughBits_1 0 rfl rfl)
theorem dX2_laughBits_26 : decode cX2_laughBits 26 = .ok (.invokestatic 159, 3) := dk_184 0 159 (dk_at dksX2_laughBits_1 3 rfl rfl)
theorem dX2_laughBits_29 : decode cX2_laughBits 29 = .ok (.goto 5, 3) := dk_167 0 5 (dk_at dksX2_laughBits_1 6 rfl rfl)
theorem dX2_laughBits_32 : decode cX2_laughBits 32 = .ok (.bipush (-2), 2) := dk_16 254 (dk_at dksX2_laughBits_1 9 rfl rfl)
theorem dX2_laughBits_34 : decode cX2_laughBits 34 = .ok (.ireturn, 1) := dk_172 (dk_at dksX2_laughBits_1 11 rfl rfl)
abbrev cX2_laughs : ByteArray := prog_27_method_51_code
def yX2_laughs : MethodName := ⟨RX2, "laughs", "()F"⟩
def dkwX2_laughs_0 : List UInt8 := [42, 180, 0, 32, 16, 11, 46, 184, 0, 165, 174]
abbrev dktX2_laughs_0 : List UInt8 := dkwX2_laughs_0 ++ []
theorem dksX2_laughs_0 : cX2_laughs.data.toList.drop 0 = dktX2_laughs_0 := by decide +kernel
theorem dX2_laughs_0 : decode cX2_laughs 0 = .ok (.aload_n 0, 1) := dk_42 (dk_at dksX2_laughs_0 0 rfl rfl)
theorem dX2_laughs_1 : decode cX2_laughs 1 = .ok (.getfield 32, 3) := dk_180 0 32 (dk_at dksX2_laughs_0 1 rfl rfl)
theorem dX2_laughs_4 : decode cX2_laughs 4 = .ok (.bipush 11, 2) := dk_16 11 (dk_at dksX2_laughs_0 4 rfl rfl)
theorem dX2_laughs_6 : decode cX2_laughs 6 = .ok (.iaload, 1) := dk_46 (dk_at dksX2_laughs_0 6 rfl rfl)
theorem dX2_laughs_7 : decode cX2_laughs 7 = .ok (.invokestatic 165, 3) := dk_184 0 165 (dk_at dksX2_laughs_0 7 rfl rfl)
theorem dX2_laughs_10 : decode cX2_laughs 10 = .ok (.freturn, 1) := dk_174 (dk_at dksX2_laughs_0 10 rfl rfl)
abbrev cX2_laughsAgain : ByteArray := prog_27_method_52_code
def yX2_laughsAgain : MethodName := ⟨RX2, "laughsAgain", "()F"⟩
def dkwX2_laughsAgain_1 : List UInt8 := [104, 96, 5, 96, 46, 184, 0, 165, 98, 68, 132, 2, 1, 167, 255, 223, 35, 174]
abbrev dktX2_laughsAgain_1 : List UInt8 := dkwX2_laughsAgain_1 ++ []
def dkwX2_laughsAgain_0 : List UInt8 := [11, 68, 3, 61, 28, 42, 180, 0, 32, 16, 6, 46, 162, 0, 28, 35, 42, 180, 0, 32, 16, 82, 6, 28]
abbrev dktX2_laughsAgain_0 : List UInt8 := dkwX2_laughsAgain_0 ++ dktX2_laughsAgain_1
theorem dksX2_laughsAgain_0 : cX2_laughsAgain.data.toList.drop 0 = dktX2_laughsAgain_0 := by decide +kernel
theorem dksX2_laughsAgain_1 : cX2_laughsAgain.data.toList.drop 24 = dktX2_laughsAgain_1 := dk_seg dksX2_laughsAgain_0 24 rfl rfl
theorem dX2_laughsAgain_0 : decode cX2_laughsAgain 0 = .ok (.fconst 0, 1) := dk_11 (dk_at dksX2_laughsAgain_0 0 rfl rfl)
theorem dX2_laughsAgain_1 : decode cX2_laughsAgain 1 = .ok (.fstore_n 1, 1) := dk_68 (dk_at dksX2_laughsAgain_0 1 rfl rfl)
theorem dX2_laughsAgain_2 : decode cX2_laughsAgain 2 = .ok (.iconst 0, 1) := dk_3 (dk_at dksX2_laughsAgain_0 2 rfl rfl)
theorem dX2_laughsAgain_3 : decode cX2_laughsAgain 3 = .ok (.istore_n 2, 1) := dk_61 (dk_at dksX2_laughsAgain_0 3 rfl rfl)
theorem dX2_laughsAgain_4 : decode cX2_laughsAgain 4 = .ok (.iload_n 2, 1) := dk_28 (dk_at dksX2_laughsAgain_0 4 rfl rfl)
theorem dX2_laughsAgain_5 : decode cX2_laughsAgain 5 = .ok (.aload_n 0, 1) := dk_42 (dk_at dksX2_laughsAgain_0 5 rfl rfl)
theorem dX2_laughsAgain_6 : decode cX2_laughsAgain 6 = .ok (.getfield 32, 3) := dk_180 0 32 (dk_at dksX2_laughsAgain_0 6 rfl rfl)
theorem dX2_laughsAgain_9 : decode cX2_laughsAgain 9 = .ok (.bipush 6, 2) := dk_16 6 (dk_at dksX2_laughsAgain_0 9 rfl rfl)
theorem dX2_laughsAgain_11 : decode cX2_laughsAgain 11 = .ok (.iaload, 1) := dk_46 (dk_at dksX2_laughsAgain_0 11 rfl rfl)
theorem dX2_laughsAgain_12 : decode cX2_laughsAgain 12 = .ok (.if_icmp .ge 28, 3) := dk_162 0 28 (dk_at dksX2_laughsAgain_0 12 rfl rfl)
theorem dX2_laughsAgain_15 : decode cX2_laughsAgain 15 = .ok (.fload_n 1, 1) := dk_35 (dk_at dksX2_laughsAgain_0 15 rfl rfl)
theorem dX2_laughsAgain_16 : decode cX2_laughsAgain 16 = .ok (.aload_n 0, 1) := dk_42 (dk_at dksX2_laughsAgain_0 16 rfl rfl)
theorem dX2_laughsAgain_17 : decode cX2_laughsAgain 17 = .ok (.getfield 32, 3) := dk_180 0 32 (dk_at dksX2_laughsAgain_0 17 rfl rfl)
theorem dX2_laughsAgain_20 : decode cX2_laughsAgain 20 = .ok (.bipush 82, 2) := dk_16 82 (dk_at dksX2_laughsAgain_0 20 rfl rfl)
theorem dX2_laughsAgain_22 : decode cX2_laughsAgain 22 = .ok (.iconst 3, 1) := dk_6 (dk_at dksX2_laughsAgain_0 22 rfl rfl)
theorem dX2_laughsAgain_23 : decode cX2_laughsAgain 23 = .ok (.iload_n 2, 1) := dk_28 (dk_at dksX2_laughsAgain_0 23 rfl rfl)
theorem dX2_laughsAgain_24 : decode cX2_laughsAgain 24 = .ok (.imul, 1) := dk_104 (dk_at dksX2_laughsAgain_1 0 rfl rfl)
theorem dX2_laughsAgain_25 : decode cX2_laughsAgain 25 = .ok (.iadd, 1) := dk_96 (dk_at dksX2_laughsAgain_1 1 rfl rfl)
theorem dX2_laughsAgain_26 : decode cX2_laughsAgain 26 = .ok (.iconst 2, 1) := dk_5 (dk_at dksX2_laughsAgain_1 2 rfl rfl)
theorem dX2_laughsAgain_27 : decode cX2_laughsAgain 27 = .ok (.iadd, 1) := dk_96 (dk_at dksX2_laughsAgain_1 3 rfl rfl)
theorem dX2_laughsAgain_28 : decode cX2_laughsAgain 28 = .ok (.iaload, 1) := dk_46 (dk_at dksX2_laughsAgain_1 4 rfl rfl)
theorem dX2_laughsAgain_29 : decode cX2_laughsAgain 29 = .ok (.invokestatic 165, 3) := dk_184 0 165 (dk_at dksX2_laughsAgain_1 5 rfl rfl)
theorem dX2_laughsAgain_32 : decode cX2_laughsAgain 32 = .ok (.fadd, 1) := dk_98 (dk_at dksX2_laughsAgain_1 8 rfl rfl)
theorem dX2_laughsAgain_33 : decode cX2_laughsAgain 33 = .ok (.fstore_n 1, 1) := dk_68 (dk_at dksX2_laughsAgain_1 9 rfl rfl)
theorem dX2_laughsAgain_34 : decode cX2_laughsAgain 34 = .ok (.iinc 2 1, 3) := dk_132 2 1 (dk_at dksX2_laughsAgain_1 10 rfl rfl)
theorem dX2_laughsAgain_37 : decode cX2_laughsAgain 37 = .ok (.goto (-33), 3) := dk_167 255 223 (dk_at dksX2_laughsAgain_1 13 rfl rfl)
theorem dX2_laughsAgain_40 : decode cX2_laughsAgain 40 = .ok (.fload_n 1, 1) := dk_35 (dk_at dksX2_laughsAgain_1 16 rfl rfl)
theorem dX2_laughsAgain_41 : decode cX2_laughsAgain 41 = .ok (.freturn, 1) := dk_174 (dk_at dksX2_laughsAgain_1 17 rfl rfl)
abbrev cX2_wholeLaughs : ByteArray := prog_27_method_53_code
def yX2_wholeLaughs : MethodName := ⟨RX2, "wholeLaughs", "()I"⟩
def dkwX2_wholeLaughs_0 : List UInt8 := [42, 182, 0, 188, 139, 172]
abbrev dktX2_wholeLaughs_0 : List UInt8 := dkwX2_wholeLaughs_0 ++ []
theorem dksX2_wholeLaughs_0 : cX2_wholeLaughs.data.toList.drop 0 = dktX2_wholeLaughs_0 := by decide +kernel
theorem dX2_wholeLaughs_0 : decode cX2_wholeLaughs 0 = .ok (.aload_n 0, 1) := dk_42 (dk_at dksX2_wholeLaughs_0 0 rfl rfl)
theorem dX2_wholeLaughs_1 : decode cX2_wholeLaughs 1 = .ok (.invokevirtual 188, 3) := dk_182 0 188 (dk_at dksX2_wholeLaughs_0 1 rfl rfl)
theorem dX2_wholeLaughs_4 : decode cX2_wholeLaughs 4 = .ok (.f2i, 1) := dk_139 (dk_at dksX2_wholeLaughs_0 4 rfl rfl)
theorem dX2_wholeLaughs_5 : decode cX2_wholeLaughs 5 = .ok (.ireturn, 1) := dk_172 (dk_at dksX2_wholeLaughs_0 5 rfl rfl)
abbrev cX2_liftedOf : ByteArray := prog_27_method_54_code
def yX2_liftedOf : MethodName := ⟨RX2, "liftedOf", "(II)I"⟩
def dkwX2_liftedOf_2 : List UInt8 := [104, 96, 28, 96, 46, 167, 0, 5, 16, 254, 172]
abbrev dktX2_liftedOf_2 : List UInt8 := dkwX2_liftedOf_2 ++ []
def dkwX2_liftedOf_1 : List UInt8 := [184, 0, 19, 153, 0, 29, 42, 180, 0, 32, 16, 82, 6, 42, 180, 0, 32, 16, 6, 46, 4, 100, 27, 100]
abbrev dktX2_liftedOf_1 : List UInt8 := dkwX2_liftedOf_1 ++ dktX2_liftedOf_2
def dkwX2_liftedOf_0 : List UInt8 := [27, 3, 42, 180, 0, 32, 16, 6, 46, 4, 100, 184, 0, 19, 154, 0, 5, 2, 172, 28, 3, 5]
abbrev dktX2_liftedOf_0 : List UInt8 := dkwX2_liftedOf_0 ++ dktX2_liftedOf_1
theorem dksX2_liftedOf_0 : cX2_liftedOf.data.toList.drop 0 = dktX2_liftedOf_0 := by decide +kernel
theorem dksX2_liftedOf_1 : cX2_liftedOf.data.toList.drop 22 = dktX2_liftedOf_1 := dk_seg dksX2_liftedOf_0 22 rfl rfl
theorem dksX2_liftedOf_2 : cX2_liftedOf.data.toList.drop 46 = dktX2_liftedOf_2 := dk_seg dksX2_liftedOf_1 24 rfl rfl
theorem dX2_liftedOf_0 : decode cX2_liftedOf 0 = .ok (.iload_n 1, 1) := dk_27 (dk_at dksX2_liftedOf_0 0 rfl rfl)
theorem dX2_liftedOf_1 : decode cX2_liftedOf 1 = .ok (.iconst 0, 1) := dk_3 (dk_at dksX2_liftedOf_0 1 rfl rfl)
theorem dX2_liftedOf_2 : decode cX2_liftedOf 2 = .ok (.aload_n 0, 1) := dk_42 (dk_at dksX2_liftedOf_0 2 rfl rfl)
theorem dX2_liftedOf_3 : decode cX2_liftedOf 3 = .ok (.getfield 32, 3) := dk_180 0 32 (dk_at dksX2_liftedOf_0 3 rfl rfl)
theorem dX2_liftedOf_6 : decode cX2_liftedOf 6 = .ok (.bipush 6, 2) := dk_16 6 (dk_at dksX2_liftedOf_0 6 rfl rfl)
theorem dX2_liftedOf_8 : decode cX2_liftedOf 8 = .ok (.iaload, 1) := dk_46 (dk_at dksX2_liftedOf_0 8 rfl rfl)
theorem dX2_liftedOf_9 : decode cX2_liftedOf 9 = .ok (.iconst 1, 1) := dk_4 (dk_at dksX2_liftedOf_0 9 rfl rfl)
theorem dX2_liftedOf_10 : decode cX2_liftedOf 10 = .ok (.isub, 1) := dk_100 (dk_at dksX2_liftedOf_0 10 rfl rfl)
theorem dX2_liftedOf_11 : decode cX2_liftedOf 11 = .ok (.invokestatic 19, 3) := dk_184 0 19 (dk_at dksX2_liftedOf_0 11 rfl rfl)
theorem dX2_liftedOf_14 : decode cX2_liftedOf 14 = .ok (.ifCond .ne 5, 3) := dk_154 0 5 (dk_at dksX2_liftedOf_0 14 rfl rfl)
theorem dX2_liftedOf_17 : decode cX2_liftedOf 17 = .ok (.iconst (-1), 1) := dk_2 (dk_at dksX2_liftedOf_0 17 rfl rfl)
theorem dX2_liftedOf_18 : decode cX2_liftedOf 18 = .ok (.ireturn, 1) := dk_172 (dk_at dksX2_liftedOf_0 18 rfl rfl)
theorem dX2_liftedOf_19 : decode cX2_liftedOf 19 = .ok (.iload_n 2, 1) := dk_28 (dk_at dksX2_liftedOf_0 19 rfl rfl)
theorem dX2_liftedOf_20 : decode cX2_liftedOf 20 = .ok (.iconst 0, 1) := dk_3 (dk_at dksX2_liftedOf_0 20 rfl rfl)
theorem dX2_liftedOf_21 : decode cX2_liftedOf 21 = .ok (.iconst 2, 1) := dk_5 (dk_at dksX2_liftedOf_0 21 rfl rfl)
theorem dX2_liftedOf_22 : decode cX2_liftedOf 22 = .ok (.invokestatic 19, 3) := dk_184 0 19 (dk_at dksX2_liftedOf_1 0 rfl rfl)
theorem dX2_liftedOf_25 : decode cX2_liftedOf 25 = .ok (.ifCond .eq 29, 3) := dk_153 0 29 (dk_at dksX2_liftedOf_1 3 rfl rfl)
theorem dX2_liftedOf_28 : decode cX2_liftedOf 28 = .ok (.aload_n 0, 1) := dk_42 (dk_at dksX2_liftedOf_1 6 rfl rfl)
theorem dX2_liftedOf_29 : decode cX2_liftedOf 29 = .ok (.getfield 32, 3) := dk_180 0 32 (dk_at dksX2_liftedOf_1 7 rfl rfl)
theorem dX2_liftedOf_32 : decode cX2_liftedOf 32 = .ok (.bipush 82, 2) := dk_16 82 (dk_at dksX2_liftedOf_1 10 rfl rfl)
theorem dX2_liftedOf_34 : decode cX2_liftedOf 34 = .ok (.iconst 3, 1) := dk_6 (dk_at dksX2_liftedOf_1 12 rfl rfl)
theorem dX2_liftedOf_35 : decode cX2_liftedOf 35 = .ok (.aload_n 0, 1) := dk_42 (dk_at dksX2_liftedOf_1 13 rfl rfl)
theorem dX2_liftedOf_36 : decode cX2_liftedOf 36 = .ok (.getfield 32, 3) := dk_180 0 32 (dk_at dksX2_liftedOf_1 14 rfl rfl)
theorem dX2_liftedOf_39 : decode cX2_liftedOf 39 = .ok (.bipush 6, 2) := dk_16 6 (dk_at dksX2_liftedOf_1 17 rfl rfl)
theorem dX2_liftedOf_41 : decode cX2_liftedOf 41 = .ok (.iaload, 1) := dk_46 (dk_at dksX2_liftedOf_1 19 rfl rfl)
theorem dX2_liftedOf_42 : decode cX2_liftedOf 42 = .ok (.iconst 1, 1) := dk_4 (dk_at dksX2_liftedOf_1 20 rfl rfl)
theorem dX2_liftedOf_43 : decode cX2_liftedOf 43 = .ok (.isub, 1) := dk_100 (dk_at dksX2_liftedOf_1 21 rfl rfl)
theorem dX2_liftedOf_44 : decode cX2_liftedOf 44 = .ok (.iload_n 1, 1) := dk_27 (dk_at dksX2_liftedOf_1 22 rfl rfl)
theorem dX2_liftedOf_45 : decode cX2_liftedOf 45 = .ok (.isub, 1) := dk_100 (dk_at dksX2_liftedOf_1 23 rfl rfl)
theorem dX2_liftedOf_46 : decode cX2_liftedOf 46 = .ok (.imul, 1) := dk_104 (dk_at dksX2_liftedOf_2 0 rfl rfl)
theorem dX2_liftedOf_47 : decode cX2_liftedOf 47 = .ok (.iadd, 1) := dk_96 (dk_at dksX2_liftedOf_2 1 rfl rfl)
theorem dX2_liftedOf_48 : decode cX2_liftedOf 48 = .ok (.iload_n 2, 1) := dk_28 (dk_at dksX2_liftedOf_2 2 rfl rfl)
theorem dX2_liftedOf_49 : decode cX2_liftedOf 49 = .ok (.iadd, 1) := dk_96 (dk_at dksX2_liftedOf_2 3 rfl rfl)
theorem dX2_liftedOf_50 : decode cX2_liftedOf 50 = .ok (.iaload, 1) := dk_46 (dk_at dksX2_liftedOf_2 4 rfl rfl)
theorem dX2_liftedOf_51 : decode cX2_liftedOf 51 = .ok (.goto 5, 3) := dk_167 0 5 (dk_at dksX2_liftedOf_2 5 rfl rfl)
theorem dX2_liftedOf_54 : decode cX2_liftedOf 54 = .ok (.bipush (-2), 2) := dk_16 254 (dk_at dksX2_liftedOf_2 8 rfl rfl)
theorem dX2_liftedOf_56 : decode cX2_liftedOf 56 = .ok (.ireturn, 1) := dk_172 (dk_at dksX2_liftedOf_2 10 rfl rfl)
abbrev cX2_strokes : ByteArray := prog_27_method_55_code
def yX2_strokes : MethodName := ⟨RX2, "strokes", "(I)I"⟩
def dkwX2_strokes_1 : List UInt8 := [162, 0, 20, 132, 2, 1, 29, 42, 180, 0, 32, 5, 46, 184, 0, 169, 62, 167, 255, 237, 28, 172]
abbrev dktX2_strokes_1 : List UInt8 := dkwX2_strokes_1 ++ []
def dkwX2_strokes_0 : List UInt8 := [27, 4, 16, 30, 184, 0, 19, 154, 0, 6, 16, 254, 172, 3, 61, 42, 180, 0, 32, 6, 46, 62, 29, 27]
abbrev dktX2_strokes_0 : List UInt8 := dkwX2_strokes_0 ++ dktX2_strokes_1
theorem dksX2_strokes_0 : cX2_strokes.data.toList.drop 0 = dktX2_strokes_0 := by decide +kernel
theorem dksX2_strokes_1 : cX2_strokes.data.toList.drop 24 = dktX2_strokes_1 := dk_seg dksX2_strokes_0 24 rfl rfl
theorem dX2_strokes_0 : decode cX2_strokes 0 = .ok (.iload_n 1, 1) := dk_27 (dk_at dksX2_strokes_0 0 rfl rfl)
theorem dX2_strokes_1 : decode cX2_strokes 1 = .ok (.iconst 1, 1) := dk_4 (dk_at dksX2_strokes_0 1 rfl rfl)
theorem dX2_strokes_2 : decode cX2_strokes 2 = .ok (.bipush 30, 2) := dk_16 30 (dk_at dksX2_strokes_0 2 rfl rfl)
theorem dX2_strokes_4 : decode cX2_strokes 4 = .ok (.invokestatic 19, 3) := dk_184 0 19 (dk_at dksX2_strokes_0 4 rfl rfl)
theorem dX2_strokes_7 : decode cX2_strokes 7 = .ok (.ifCond .ne 6, 3) := dk_154 0 6 (dk_at dksX2_strokes_0 7 rfl rfl)
theorem dX2_strokes_10 : decode cX2_strokes 10 = .ok (.bipush (-2), 2) := dk_16 254 (dk_at dksX2_strokes_0 10 rfl rfl)
theorem dX2_strokes_12 : decode cX2_strokes 12 = .ok (.ireturn, 1) := dk_172 (dk_at dksX2_strokes_0 12 rfl rfl)
theorem dX2_strokes_13 : decode cX2_strokes 13 = .ok (.iconst 0, 1) := dk_3 (dk_at dksX2_strokes_0 13 rfl rfl)
theorem dX2_strokes_14 : decode cX2_strokes 14 = .ok (.istore_n 2, 1) := dk_61 (dk_at dksX2_strokes_0 14 rfl rfl)
theorem dX2_strokes_15 : decode cX2_strokes 15 = .ok (.aload_n 0, 1) := dk_42 (dk_at dksX2_strokes_0 15 rfl rfl)
theorem dX2_strokes_16 : decode cX2_strokes 16 = .ok (.getfield 32, 3) := dk_180 0 32 (dk_at dksX2_strokes_0 16 rfl rfl)
theorem dX2_strokes_19 : decode cX2_strokes 19 = .ok (.iconst 3, 1) := dk_6 (dk_at dksX2_strokes_0 19 rfl rfl)
theorem dX2_strokes_20 : decode cX2_strokes 20 = .ok (.iaload, 1) := dk_46 (dk_at dksX2_strokes_0 20 rfl rfl)
theorem dX2_strokes_21 : decode cX2_strokes 21 = .ok (.istore_n 3, 1) := dk_62 (dk_at dksX2_strokes_0 21 rfl rfl)
theorem dX2_strokes_22 : decode cX2_strokes 22 = .ok (.iload_n 3, 1) := dk_29 (dk_at dksX2_strokes_0 22 rfl rfl)
theorem dX2_strokes_23 : decode cX2_strokes 23 = .ok (.iload_n 1, 1) := dk_27 (dk_at dksX2_strokes_0 23 rfl rfl)
theorem dX2_strokes_24 : decode cX2_strokes 24 = .ok (.if_icmp .ge 20, 3) := dk_162 0 20 (dk_at dksX2_strokes_1 0 rfl rfl)
theorem dX2_strokes_27 : decode cX2_strokes 27 = .ok (.iinc 2 1, 3) := dk_132 2 1 (dk_at dksX2_strokes_1 3 rfl rfl)
theorem dX2_strokes_30 : decode cX2_strokes 30 = .ok (.iload_n 3, 1) := dk_29 (dk_at dksX2_strokes_1 6 rfl rfl)
theorem dX2_strokes_31 : decode cX2_strokes 31 = .ok (.aload_n 0, 1) := dk_42 (dk_at dksX2_strokes_1 7 rfl rfl)
theorem dX2_strokes_32 : decode cX2_strokes 32 = .ok (.getfield 32, 3) := dk_180 0 32 (dk_at dksX2_strokes_1 8 rfl rfl)
theorem dX2_strokes_35 : decode cX2_strokes 35 = .ok (.iconst 2, 1) := dk_5 (dk_at dksX2_strokes_1 11 rfl rfl)
theorem dX2_strokes_36 : decode cX2_strokes 36 = .ok (.iaload, 1) := dk_46 (dk_at dksX2_strokes_1 12 rfl rfl)
theorem dX2_strokes_37 : decode cX2_strokes 37 = .ok (.invokestatic 169, 3) := dk_184 0 169 (dk_at dksX2_strokes_1 13 rfl rfl)
theorem dX2_strokes_40 : decode cX2_strokes 40 = .ok (.istore_n 3, 1) := dk_62 (dk_at dksX2_strokes_1 16 rfl rfl)
theorem dX2_strokes_41 : decode cX2_strokes 41 = .ok (.goto (-19), 3) := dk_167 255 237 (dk_at dksX2_strokes_1 17 rfl rfl)
theorem dX2_strokes_44 : decode cX2_strokes 44 = .ok (.iload_n 2, 1) := dk_28 (dk_at dksX2_strokes_1 20 rfl rfl)
theorem dX2_strokes_45 : decode cX2_strokes 45 = .ok (.ireturn, 1) := dk_172 (dk_at dksX2_strokes_1 21 rfl rfl)
abbrev cX2_strokesAgain : ByteArray := prog_27_method_56_code
def yX2_strokesAgain : MethodName := ⟨RX2, "strokesAgain", "(I)I"⟩
def dkwX2_strokesAgain_0 : List UInt8 := [42, 27, 182, 0, 192, 172]
abbrev dktX2_strokesAgain_0 : List UInt8 := dkwX2_strokesAgain_0 ++ []
theorem dksX2_strokesAgain_0 : cX2_strokesAgain.data.toList.drop 0 = dktX2_strokesAgain_0 := by decide +kernel
theorem dX2_strokesAgain_0 : decode cX2_strokesAgain 0 = .ok (.aload_n 0, 1) := dk_42 (dk_at dksX2_strokesAgain_0 0 rfl rfl)
theorem dX2_strokesAgain_1 : decode cX2_strokesAgain 1 = .ok (.iload_n 1, 1) := dk_27 (dk_at dksX2_strokesAgain_0 1 rfl rfl)
theorem dX2_strokesAgain_2 : decode cX2_strokesAgain 2 = .ok (.invokevirtual 192, 3) := dk_182 0 192 (dk_at dksX2_strokesAgain_0 2 rfl rfl)
theorem dX2_strokesAgain_5 : decode cX2_strokesAgain 5 = .ok (.ireturn, 1) := dk_172 (dk_at dksX2_strokesAgain_0 5 rfl rfl)
abbrev cX2_would : ByteArray := prog_27_method_59_code
def yX2_would : MethodName := ⟨RX2, "would", "(I)I"⟩
def dkwX2_would_1 : List UInt8 := [182, 0, 198, 28, 172]
abbrev dktX2_would_1 : List UInt8 := dkwX2_would_1 ++ []
def dkwX2_would_0 : List UInt8 := [27, 3, 16, 20, 184, 0, 19, 154, 0, 6, 16, 254, 172, 42, 182, 0, 195, 42, 27, 182, 0, 185, 61, 42]
abbrev dktX2_would_0 : List UInt8 := dkwX2_would_0 ++ dktX2_would_1
theorem dksX2_would_0 : cX2_would.data.toList.drop 0 = dktX2_would_0 := by decide +kernel
theorem dksX2_would_1 : cX2_would.data.toList.drop 24 = dktX2_would_1 := dk_seg dksX2_would_0 24 rfl rfl
theorem dX2_would_0 : decode cX2_would 0 = .ok (.iload_n 1, 1) := dk_27 (dk_at dksX2_would_0 0 rfl rfl)
theorem dX2_would_1 : decode cX2_would 1 = .ok (.iconst 0, 1) := dk_3 (dk_at dksX2_would_0 1 rfl rfl)
theorem dX2_would_2 : decode cX2_would 2 = .ok (.bipush 20, 2) := dk_16 20 (dk_at dksX2_would_0 2 rfl rfl)
theorem dX2_would_4 : decode cX2_would 4 = .ok (.invokestatic 19, 3) := dk_184 0 19 (dk_at dksX2_would_0 4 rfl rfl)
theorem dX2_would_7 : decode cX2_would 7 = .ok (.ifCond .ne 6, 3) := dk_154 0 6 (dk_at dksX2_would_0 7 rfl rfl)
theorem dX2_would_10 : decode cX2_would 10 = .ok (.bipush (-2), 2) := dk_16 254 (dk_at dksX2_would_0 10 rfl rfl)
theorem dX2_would_12 : decode cX2_would 12 = .ok (.ireturn, 1) := dk_172 (dk_at dksX2_would_0 12 rfl rfl)
theorem dX2_would_13 : decode cX2_would 13 = .ok (.aload_n 0, 1) := dk_42 (dk_at dksX2_would_0 13 rfl rfl)
theorem dX2_would_14 : decode cX2_would 14 = .ok (.invokevirtual 195, 3) := dk_182 0 195 (dk_at dksX2_would_0 14 rfl rfl)
theorem dX2_would_17 : decode cX2_would 17 = .ok (.aload_n 0, 1) := dk_42 (dk_at dksX2_would_0 17 rfl rfl)
theorem dX2_would_18 : decode cX2_would 18 = .ok (.iload_n 1, 1) := dk_27 (dk_at dksX2_would_0 18 rfl rfl)
theorem dX2_would_19 : decode cX2_would 19 = .ok (.invokevirtual 185, 3) := dk_182 0 185 (dk_at dksX2_would_0 19 rfl rfl)
theorem dX2_would_22 : decode cX2_would 22 = .ok (.istore_n 2, 1) := dk_61 (dk_at dksX2_would_0 22 rfl rfl)
theorem dX2_would_23 : decode cX2_would 23 = .ok (.aload_n 0, 1) := dk_42 (dk_at dksX2_would_0 23 rfl rfl)
theorem dX2_would_24 : decode cX2_would 24 = .ok (.invokevirtual 198, 3) := dk_182 0 198 (dk_at dksX2_would_1 0 rfl rfl)
theorem dX2_would_27 : decode cX2_would 27 = .ok (.iload_n 2, 1) := dk_28 (dk_at dksX2_would_1 3 rfl rfl)
theorem dX2_would_28 : decode cX2_would 28 = .ok (.ireturn, 1) := dk_172 (dk_at dksX2_would_1 4 rfl rfl)
abbrev cX2_looksAhead : ByteArray := prog_27_method_57_code
def yX2_looksAhead : MethodName := ⟨RX2, "looksAhead", "()V"⟩
def dkwX2_looksAhead_1 : List UInt8 := [167, 255, 234, 177]
abbrev dktX2_looksAhead_1 : List UInt8 := dkwX2_looksAhead_1 ++ []
def dkwX2_looksAhead_0 : List UInt8 := [3, 60, 27, 17, 1, 18, 162, 0, 21, 42, 180, 0, 45, 27, 42, 180, 0, 32, 27, 46, 79, 132, 1, 1]
abbrev dktX2_looksAhead_0 : List UInt8 := dkwX2_looksAhead_0 ++ dktX2_looksAhead_1
theorem dksX2_looksAhead_0 : cX2_looksAhead.data.toList.drop 0 = dktX2_looksAhead_0 := by decide +kernel
theorem dksX2_looksAhead_1 : cX2_looksAhead.data.toList.drop 24 = dktX2_looksAhead_1 := dk_seg dksX2_looksAhead_0 24 rfl rfl
theorem dX2_looksAhead_0 : decode cX2_looksAhead 0 = .ok (.iconst 0, 1) := dk_3 (dk_at dksX2_looksAhead_0 0 rfl rfl)
theorem dX2_looksAhead_1 : decode cX2_looksAhead 1 = .ok (.istore_n 1, 1) := dk_60 (dk_at dksX2_looksAhead_0 1 rfl rfl)
theorem dX2_looksAhead_2 : decode cX2_looksAhead 2 = .ok (.iload_n 1, 1) := dk_27 (dk_at dksX2_looksAhead_0 2 rfl rfl)
theorem dX2_looksAhead_3 : decode cX2_looksAhead 3 = .ok (.sipush 274, 3) := dk_17 1 18 (dk_at dksX2_looksAhead_0 3 rfl rfl)
theorem dX2_looksAhead_6 : decode cX2_looksAhead 6 = .ok (.if_icmp .ge 21, 3) := dk_162 0 21 (dk_at dksX2_looksAhead_0 6 rfl rfl)
theorem dX2_looksAhead_9 : decode cX2_looksAhead 9 = .ok (.aload_n 0, 1) := dk_42 (dk_at dksX2_looksAhead_0 9 rfl rfl)
theorem dX2_looksAhead_10 : decode cX2_looksAhead 10 = .ok (.getfield 45, 3) := dk_180 0 45 (dk_at dksX2_looksAhead_0 10 rfl rfl)
theorem dX2_looksAhead_13 : decode cX2_looksAhead 13 = .ok (.iload_n 1, 1) := dk_27 (dk_at dksX2_looksAhead_0 13 rfl rfl)
theorem dX2_looksAhead_14 : decode cX2_looksAhead 14 = .ok (.aload_n 0, 1) := dk_42 (dk_at dksX2_looksAhead_0 14 rfl rfl)
theorem dX2_looksAhead_15 : decode cX2_looksAhead 15 = .ok (.getfield 32, 3) := dk_180 0 32 (dk_at dksX2_looksAhead_0 15 rfl rfl)
theorem dX2_looksAhead_18 : decode cX2_looksAhead 18 = .ok (.iload_n 1, 1) := dk_27 (dk_at dksX2_looksAhead_0 18 rfl rfl)
theorem dX2_looksAhead_19 : decode cX2_looksAhead 19 = .ok (.iaload, 1) := dk_46 (dk_at dksX2_looksAhead_0 19 rfl rfl)
theorem dX2_looksAhead_20 : decode cX2_looksAhead 20 = .ok (.iastore, 1) := dk_79 (dk_at dksX2_looksAhead_0 20 rfl rfl)
theorem dX2_looksAhead_21 : decode cX2_looksAhead 21 = .ok (.iinc 1 1, 3) := dk_132 1 1 (dk_at dksX2_looksAhead_0 21 rfl rfl)
theorem dX2_looksAhead_24 : decode cX2_looksAhead 24 = .ok (.goto (-22), 3) := dk_167 255 234 (dk_at dksX2_looksAhead_1 0 rfl rfl)
theorem dX2_looksAhead_27 : decode cX2_looksAhead 27 = .ok (.return_, 1) := dk_177 (dk_at dksX2_looksAhead_1 3 rfl rfl)
abbrev cX2_comesBack : ByteArray := prog_27_method_58_code
def yX2_comesBack : MethodName := ⟨RX2, "comesBack", "()V"⟩
def dkwX2_comesBack_1 : List UInt8 := [167, 255, 234, 177]
abbrev dktX2_comesBack_1 : List UInt8 := dkwX2_comesBack_1 ++ []
def dkwX2_comesBack_0 : List UInt8 := [3, 60, 27, 17, 1, 18, 162, 0, 21, 42, 180, 0, 32, 27, 42, 180, 0, 45, 27, 46, 79, 132, 1, 1]
abbrev dktX2_comesBack_0 : List UInt8 := dkwX2_comesBack_0 ++ dktX2_comesBack_1
theorem dksX2_comesBack_0 : cX2_comesBack.data.toList.drop 0 = dktX2_comesBack_0 := by decide +kernel
theorem dksX2_comesBack_1 : cX2_comesBack.data.toList.drop 24 = dktX2_comesBack_1 := dk_seg dksX2_comesBack_0 24 rfl rfl
theorem dX2_comesBack_0 : decode cX2_comesBack 0 = .ok (.iconst 0, 1) := dk_3 (dk_at dksX2_comesBack_0 0 rfl rfl)
theorem dX2_comesBack_1 : decode cX2_comesBack 1 = .ok (.istore_n 1, 1) := dk_60 (dk_at dksX2_comesBack_0 1 rfl rfl)
theorem dX2_comesBack_2 : decode cX2_comesBack 2 = .ok (.iload_n 1, 1) := dk_27 (dk_at dksX2_comesBack_0 2 rfl rfl)
theorem dX2_comesBack_3 : decode cX2_comesBack 3 = .ok (.sipush 274, 3) := dk_17 1 18 (dk_at dksX2_comesBack_0 3 rfl rfl)
theorem dX2_comesBack_6 : decode cX2_comesBack 6 = .ok (.if_icmp .ge 21, 3) := dk_162 0 21 (dk_at dksX2_comesBack_0 6 rfl rfl)
theorem dX2_comesBack_9 : decode cX2_comesBack 9 = .ok (.aload_n 0, 1) := dk_42 (dk_at dksX2_comesBack_0 9 rfl rfl)
theorem dX2_comesBack_10 : decode cX2_comesBack 10 = .ok (.getfield 32, 3) := dk_180 0 32 (dk_at dksX2_comesBack_0 10 rfl rfl)
theorem dX2_comesBack_13 : decode cX2_comesBack 13 = .ok (.iload_n 1, 1) := dk_27 (dk_at dksX2_comesBack_0 13 rfl rfl)
theorem dX2_comesBack_14 : decode cX2_comesBack 14 = .ok (.aload_n 0, 1) := dk_42 (dk_at dksX2_comesBack_0 14 rfl rfl)
theorem dX2_comesBack_15 : decode cX2_comesBack 15 = .ok (.getfield 45, 3) := dk_180 0 45 (dk_at dksX2_comesBack_0 15 rfl rfl)
theorem dX2_comesBack_18 : decode cX2_comesBack 18 = .ok (.iload_n 1, 1) := dk_27 (dk_at dksX2_comesBack_0 18 rfl rfl)
theorem dX2_comesBack_19 : decode cX2_comesBack 19 = .ok (.iaload, 1) := dk_46 (dk_at dksX2_comesBack_0 19 rfl rfl)
theorem dX2_comesBack_20 : decode cX2_comesBack 20 = .ok (.iastore, 1) := dk_79 (dk_at dksX2_comesBack_0 20 rfl rfl)
theorem dX2_comesBack_21 : decode cX2_comesBack 21 = .ok (.iinc 1 1, 3) := dk_132 1 1 (dk_at dksX2_comesBack_0 21 rfl rfl)
theorem dX2_comesBack_24 : decode cX2_comesBack 24 = .ok (.goto (-22), 3) := dk_167 255 234 (dk_at dksX2_comesBack_1 0 rfl rfl)
theorem dX2_comesBack_27 : decode cX2_comesBack 27 = .ok (.return_, 1) := dk_177 (dk_at dksX2_comesBack_1 3 rfl rfl)
abbrev cX2_groansIn : ByteArray := prog_27_method_60_code
def yX2_groansIn : MethodName := ⟨RX2, "groansIn", "(I)I"⟩
def dkwX2_groansIn_1 : List UInt8 := [180, 0, 32, 7, 46, 61, 42, 182, 0, 198, 28, 172]
abbrev dktX2_groansIn_1 : List UInt8 := dkwX2_groansIn_1 ++ []
def dkwX2_groansIn_0 : List UInt8 := [27, 3, 16, 20, 184, 0, 19, 154, 0, 6, 16, 254, 172, 42, 182, 0, 195, 42, 27, 182, 0, 185, 87, 42]
abbrev dktX2_groansIn_0 : List UInt8 := dkwX2_groansIn_0 ++ dktX2_groansIn_1
theorem dksX2_groansIn_0 : cX2_groansIn.data.toList.drop 0 = dktX2_groansIn_0 := by decide +kernel
theorem dksX2_groansIn_1 : cX2_groansIn.data.toList.drop 24 = dktX2_groansIn_1 := dk_seg dksX2_groansIn_0 24 rfl rfl
theorem dX2_groansIn_0 : decode cX2_groansIn 0 = .ok (.iload_n 1, 1) := dk_27 (dk_at dksX2_groansIn_0 0 rfl rfl)
theorem dX2_groansIn_1 : decode cX2_groansIn 1 = .ok (.iconst 0, 1) := dk_3 (dk_at dksX2_groansIn_0 1 rfl rfl)
theorem dX2_groansIn_2 : decode cX2_groansIn 2 = .ok (.bipush 20, 2) := dk_16 20 (dk_at dksX2_groansIn_0 2 rfl rfl)
theorem dX2_groansIn_4 : decode cX2_groansIn 4 = .ok (.invokestatic 19, 3) := dk_184 0 19 (dk_at dksX2_groansIn_0 4 rfl rfl)
theorem dX2_groansIn_7 : decode cX2_groansIn 7 = .ok (.ifCond .ne 6, 3) := dk_154 0 6 (dk_at dksX2_groansIn_0 7 rfl rfl)
theorem dX2_groansIn_10 : decode cX2_groansIn 10 = .ok (.bipush (-2), 2) := dk_16 254 (dk_at dksX2_groansIn_0 10 rfl rfl)
theorem dX2_groansIn_12 : decode cX2_groansIn 12 = .ok (.ireturn, 1) := dk_172 (dk_at dksX2_groansIn_0 12 rfl rfl)
theorem dX2_groansIn_13 : decode cX2_groansIn 13 = .ok (.aload_n 0, 1) := dk_42 (dk_at dksX2_groansIn_0 13 rfl rfl)
theorem dX2_groansIn_14 : decode cX2_groansIn 14 = .ok (.invokevirtual 195, 3) := dk_182 0 195 (dk_at dksX2_groansIn_0 14 rfl rfl)
theorem dX2_groansIn_17 : decode cX2_groansIn 17 = .ok (.aload_n 0, 1) := dk_42 (dk_at dksX2_groansIn_0 17 rfl rfl)
theorem dX2_groansIn_18 : decode cX2_groansIn 18 = .ok (.iload_n 1, 1) := dk_27 (dk_at dksX2_groansIn_0 18 rfl rfl)
theorem dX2_groansIn_19 : decode cX2_groansIn 19 = .ok (.invokevirtual 185, 3) := dk_182 0 185 (dk_at dksX2_groansIn_0 19 rfl rfl)
theorem dX2_groansIn_22 : decode cX2_groansIn 22 = .ok (.pop, 1) := dk_87 (dk_at dksX2_groansIn_0 22 rfl rfl)
theorem dX2_groansIn_23 : decode cX2_groansIn 23 = .ok (.aload_n 0, 1) := dk_42 (dk_at dksX2_groansIn_0 23 rfl rfl)
theorem dX2_groansIn_24 : decode cX2_groansIn 24 = .ok (.getfield 32, 3) := dk_180 0 32 (dk_at dksX2_groansIn_1 0 rfl rfl)
theorem dX2_groansIn_27 : decode cX2_groansIn 27 = .ok (.iconst 4, 1) := dk_7 (dk_at dksX2_groansIn_1 3 rfl rfl)
theorem dX2_groansIn_28 : decode cX2_groansIn 28 = .ok (.iaload, 1) := dk_46 (dk_at dksX2_groansIn_1 4 rfl rfl)
theorem dX2_groansIn_29 : decode cX2_groansIn 29 = .ok (.istore_n 2, 1) := dk_61 (dk_at dksX2_groansIn_1 5 rfl rfl)
theorem dX2_groansIn_30 : decode cX2_groansIn 30 = .ok (.aload_n 0, 1) := dk_42 (dk_at dksX2_groansIn_1 6 rfl rfl)
theorem dX2_groansIn_31 : decode cX2_groansIn 31 = .ok (.invokevirtual 198, 3) := dk_182 0 198 (dk_at dksX2_groansIn_1 7 rfl rfl)
theorem dX2_groansIn_34 : decode cX2_groansIn 34 = .ok (.iload_n 2, 1) := dk_28 (dk_at dksX2_groansIn_1 10 rfl rfl)
theorem dX2_groansIn_35 : decode cX2_groansIn 35 = .ok (.ireturn, 1) := dk_172 (dk_at dksX2_groansIn_1 11 rfl rfl)
abbrev cX2_bestStroke : ByteArray := prog_27_method_62_code
def yX2_bestStroke : MethodName := ⟨RX2, "bestStroke", "()I"⟩
def dkwX2_bestStroke_2 : List UInt8 := [182, 0, 201, 162, 0, 7, 29, 167, 0, 4, 28, 61, 132, 3, 1, 167, 255, 216, 28, 172]
abbrev dktX2_bestStroke_2 : List UInt8 := dkwX2_bestStroke_2 ++ []
def dkwX2_bestStroke_1 : List UInt8 := [16, 10, 163, 0, 40, 42, 42, 27, 4, 182, 0, 73, 29, 182, 0, 201, 42, 42, 27, 4, 182, 0, 73, 28]
abbrev dktX2_bestStroke_1 : List UInt8 := dkwX2_bestStroke_1 ++ dktX2_bestStroke_2
def dkwX2_bestStroke_0 : List UInt8 := [42, 42, 180, 0, 32, 4, 46, 3, 182, 0, 172, 60, 27, 156, 0, 6, 16, 250, 172, 4, 61, 5, 62, 29]
abbrev dktX2_bestStroke_0 : List UInt8 := dkwX2_bestStroke_0 ++ dktX2_bestStroke_1
theorem dksX2_bestStroke_0 : cX2_bestStroke.data.toList.drop 0 = dktX2_bestStroke_0 := by decide +kernel
theorem dksX2_bestStroke_1 : cX2_bestStroke.data.toList.drop 24 = dktX2_bestStroke_1 := dk_seg dksX2_bestStroke_0 24 rfl rfl
theorem dksX2_bestStroke_2 : cX2_bestStroke.data.toList.drop 48 = dktX2_bestStroke_2 := dk_seg dksX2_bestStroke_1 24 rfl rfl
theorem dX2_bestStroke_0 : decode cX2_bestStroke 0 = .ok (.aload_n 0, 1) := dk_42 (dk_at dksX2_bestStroke_0 0 rfl rfl)
theorem dX2_bestStroke_1 : decode cX2_bestStroke 1 = .ok (.aload_n 0, 1) := dk_42 (dk_at dksX2_bestStroke_0 1 rfl rfl)
theorem dX2_bestStroke_2 : decode cX2_bestStroke 2 = .ok (.getfield 32, 3) := dk_180 0 32 (dk_at dksX2_bestStroke_0 2 rfl rfl)
theorem dX2_bestStroke_5 : decode cX2_bestStroke 5 = .ok (.iconst 1, 1) := dk_4 (dk_at dksX2_bestStroke_0 5 rfl rfl)
theorem dX2_bestStroke_6 : decode cX2_bestStroke 6 = .ok (.iaload, 1) := dk_46 (dk_at dksX2_bestStroke_0 6 rfl rfl)
theorem dX2_bestStroke_7 : decode cX2_bestStroke 7 = .ok (.iconst 0, 1) := dk_3 (dk_at dksX2_bestStroke_0 7 rfl rfl)
theorem dX2_bestStroke_8 : decode cX2_bestStroke 8 = .ok (.invokevirtual 172, 3) := dk_182 0 172 (dk_at dksX2_bestStroke_0 8 rfl rfl)
theorem dX2_bestStroke_11 : decode cX2_bestStroke 11 = .ok (.istore_n 1, 1) := dk_60 (dk_at dksX2_bestStroke_0 11 rfl rfl)
theorem dX2_bestStroke_12 : decode cX2_bestStroke 12 = .ok (.iload_n 1, 1) := dk_27 (dk_at dksX2_bestStroke_0 12 rfl rfl)
theorem dX2_bestStroke_13 : decode cX2_bestStroke 13 = .ok (.ifCond .ge 6, 3) := dk_156 0 6 (dk_at dksX2_bestStroke_0 13 rfl rfl)
theorem dX2_bestStroke_16 : decode cX2_bestStroke 16 = .ok (.bipush (-6), 2) := dk_16 250 (dk_at dksX2_bestStroke_0 16 rfl rfl)
theorem dX2_bestStroke_18 : decode cX2_bestStroke 18 = .ok (.ireturn, 1) := dk_172 (dk_at dksX2_bestStroke_0 18 rfl rfl)
theorem dX2_bestStroke_19 : decode cX2_bestStroke 19 = .ok (.iconst 1, 1) := dk_4 (dk_at dksX2_bestStroke_0 19 rfl rfl)
theorem dX2_bestStroke_20 : decode cX2_bestStroke 20 = .ok (.istore_n 2, 1) := dk_61 (dk_at dksX2_bestStroke_0 20 rfl rfl)
theorem dX2_bestStroke_21 : decode cX2_bestStroke 21 = .ok (.iconst 2, 1) := dk_5 (dk_at dksX2_bestStroke_0 21 rfl rfl)
theorem dX2_bestStroke_22 : decode cX2_bestStroke 22 = .ok (.istore_n 3, 1) := dk_62 (dk_at dksX2_bestStroke_0 22 rfl rfl)
theorem dX2_bestStroke_23 : decode cX2_bestStroke 23 = .ok (.iload_n 3, 1) := dk_29 (dk_at dksX2_bestStroke_0 23 rfl rfl)
theorem dX2_bestStroke_24 : decode cX2_bestStroke 24 = .ok (.bipush 10, 2) := dk_16 10 (dk_at dksX2_bestStroke_1 0 rfl rfl)
theorem dX2_bestStroke_26 : decode cX2_bestStroke 26 = .ok (.if_icmp .gt 40, 3) := dk_163 0 40 (dk_at dksX2_bestStroke_1 2 rfl rfl)
theorem dX2_bestStroke_29 : decode cX2_bestStroke 29 = .ok (.aload_n 0, 1) := dk_42 (dk_at dksX2_bestStroke_1 5 rfl rfl)
theorem dX2_bestStroke_30 : decode cX2_bestStroke 30 = .ok (.aload_n 0, 1) := dk_42 (dk_at dksX2_bestStroke_1 6 rfl rfl)
theorem dX2_bestStroke_31 : decode cX2_bestStroke 31 = .ok (.iload_n 1, 1) := dk_27 (dk_at dksX2_bestStroke_1 7 rfl rfl)
theorem dX2_bestStroke_32 : decode cX2_bestStroke 32 = .ok (.iconst 1, 1) := dk_4 (dk_at dksX2_bestStroke_1 8 rfl rfl)
theorem dX2_bestStroke_33 : decode cX2_bestStroke 33 = .ok (.invokevirtual 73, 3) := dk_182 0 73 (dk_at dksX2_bestStroke_1 9 rfl rfl)
theorem dX2_bestStroke_36 : decode cX2_bestStroke 36 = .ok (.iload_n 3, 1) := dk_29 (dk_at dksX2_bestStroke_1 12 rfl rfl)
theorem dX2_bestStroke_37 : decode cX2_bestStroke 37 = .ok (.invokevirtual 201, 3) := dk_182 0 201 (dk_at dksX2_bestStroke_1 13 rfl rfl)
theorem dX2_bestStroke_40 : decode cX2_bestStroke 40 = .ok (.aload_n 0, 1) := dk_42 (dk_at dksX2_bestStroke_1 16 rfl rfl)
theorem dX2_bestStroke_41 : decode cX2_bestStroke 41 = .ok (.aload_n 0, 1) := dk_42 (dk_at dksX2_bestStroke_1 17 rfl rfl)
theorem dX2_bestStroke_42 : decode cX2_bestStroke 42 = .ok (.iload_n 1, 1) := dk_27 (dk_at dksX2_bestStroke_1 18 rfl rfl)
theorem dX2_bestStroke_43 : decode cX2_bestStroke 43 = .ok (.iconst 1, 1) := dk_4 (dk_at dksX2_bestStroke_1 19 rfl rfl)
theorem dX2_bestStroke_44 : decode cX2_bestStroke 44 = .ok (.invokevirtual 73, 3) := dk_182 0 73 (dk_at dksX2_bestStroke_1 20 rfl rfl)
theorem dX2_bestStroke_47 : decode cX2_bestStroke 47 = .ok (.iload_n 2, 1) := dk_28 (dk_at dksX2_bestStroke_1 23 rfl rfl)
theorem dX2_bestStroke_48 : decode cX2_bestStroke 48 = .ok (.invokevirtual 201, 3) := dk_182 0 201 (dk_at dksX2_bestStroke_2 0 rfl rfl)
theorem dX2_bestStroke_51 : decode cX2_bestStroke 51 = .ok (.if_icmp .ge 7, 3) := dk_162 0 7 (dk_at dksX2_bestStroke_2 3 rfl rfl)
theorem dX2_bestStroke_54 : decode cX2_bestStroke 54 = .ok (.iload_n 3, 1) := dk_29 (dk_at dksX2_bestStroke_2 6 rfl rfl)
theorem dX2_bestStroke_55 : decode cX2_bestStroke 55 = .ok (.goto 4, 3) := dk_167 0 4 (dk_at dksX2_bestStroke_2 7 rfl rfl)
theorem dX2_bestStroke_58 : decode cX2_bestStroke 58 = .ok (.iload_n 2, 1) := dk_28 (dk_at dksX2_bestStroke_2 10 rfl rfl)
theorem dX2_bestStroke_59 : decode cX2_bestStroke 59 = .ok (.istore_n 2, 1) := dk_61 (dk_at dksX2_bestStroke_2 11 rfl rfl)
theorem dX2_bestStroke_60 : decode cX2_bestStroke 60 = .ok (.iinc 3 1, 3) := dk_132 3 1 (dk_at dksX2_bestStroke_2 12 rfl rfl)
theorem dX2_bestStroke_63 : decode cX2_bestStroke 63 = .ok (.goto (-40), 3) := dk_167 255 216 (dk_at dksX2_bestStroke_2 15 rfl rfl)
theorem dX2_bestStroke_66 : decode cX2_bestStroke 66 = .ok (.iload_n 2, 1) := dk_28 (dk_at dksX2_bestStroke_2 18 rfl rfl)
theorem dX2_bestStroke_67 : decode cX2_bestStroke 67 = .ok (.ireturn, 1) := dk_172 (dk_at dksX2_bestStroke_2 19 rfl rfl)
abbrev cX2_groansTo : ByteArray := prog_27_method_61_code
def yX2_groansTo : MethodName := ⟨RX2, "groansTo", "(II)I"⟩
def dkwX2_groansTo_1 : List UInt8 := [29, 28, 184, 0, 169, 62, 21, 4, 4, 29, 16, 10, 108, 96, 96, 54, 4, 167, 255, 234, 21, 4, 172]
abbrev dktX2_groansTo_1 : List UInt8 := dkwX2_groansTo_1 ++ []
def dkwX2_groansTo_0 : List UInt8 := [42, 180, 0, 32, 6, 46, 28, 184, 0, 169, 62, 4, 29, 16, 10, 108, 96, 54, 4, 29, 27, 162, 0, 23]
abbrev dktX2_groansTo_0 : List UInt8 := dkwX2_groansTo_0 ++ dktX2_groansTo_1
theorem dksX2_groansTo_0 : cX2_groansTo.data.toList.drop 0 = dktX2_groansTo_0 := by decide +kernel
theorem dksX2_groansTo_1 : cX2_groansTo.data.toList.drop 24 = dktX2_groansTo_1 := dk_seg dksX2_groansTo_0 24 rfl rfl
theorem dX2_groansTo_0 : decode cX2_groansTo 0 = .ok (.aload_n 0, 1) := dk_42 (dk_at dksX2_groansTo_0 0 rfl rfl)
theorem dX2_groansTo_1 : decode cX2_groansTo 1 = .ok (.getfield 32, 3) := dk_180 0 32 (dk_at dksX2_groansTo_0 1 rfl rfl)
theorem dX2_groansTo_4 : decode cX2_groansTo 4 = .ok (.iconst 3, 1) := dk_6 (dk_at dksX2_groansTo_0 4 rfl rfl)
theorem dX2_groansTo_5 : decode cX2_groansTo 5 = .ok (.iaload, 1) := dk_46 (dk_at dksX2_groansTo_0 5 rfl rfl)
theorem dX2_groansTo_6 : decode cX2_groansTo 6 = .ok (.iload_n 2, 1) := dk_28 (dk_at dksX2_groansTo_0 6 rfl rfl)
theorem dX2_groansTo_7 : decode cX2_groansTo 7 = .ok (.invokestatic 169, 3) := dk_184 0 169 (dk_at dksX2_groansTo_0 7 rfl rfl)
theorem dX2_groansTo_10 : decode cX2_groansTo 10 = .ok (.istore_n 3, 1) := dk_62 (dk_at dksX2_groansTo_0 10 rfl rfl)
theorem dX2_groansTo_11 : decode cX2_groansTo 11 = .ok (.iconst 1, 1) := dk_4 (dk_at dksX2_groansTo_0 11 rfl rfl)
theorem dX2_groansTo_12 : decode cX2_groansTo 12 = .ok (.iload_n 3, 1) := dk_29 (dk_at dksX2_groansTo_0 12 rfl rfl)
theorem dX2_groansTo_13 : decode cX2_groansTo 13 = .ok (.bipush 10, 2) := dk_16 10 (dk_at dksX2_groansTo_0 13 rfl rfl)
theorem dX2_groansTo_15 : decode cX2_groansTo 15 = .ok (.idiv, 1) := dk_108 (dk_at dksX2_groansTo_0 15 rfl rfl)
theorem dX2_groansTo_16 : decode cX2_groansTo 16 = .ok (.iadd, 1) := dk_96 (dk_at dksX2_groansTo_0 16 rfl rfl)
theorem dX2_groansTo_17 : decode cX2_groansTo 17 = .ok (.istore 4, 2) := dk_54 4 (dk_at dksX2_groansTo_0 17 rfl rfl)
theorem dX2_groansTo_19 : decode cX2_groansTo 19 = .ok (.iload_n 3, 1) := dk_29 (dk_at dksX2_groansTo_0 19 rfl rfl)
theorem dX2_groansTo_20 : decode cX2_groansTo 20 = .ok (.iload_n 1, 1) := dk_27 (dk_at dksX2_groansTo_0 20 rfl rfl)
theorem dX2_groansTo_21 : decode cX2_groansTo 21 = .ok (.if_icmp .ge 23, 3) := dk_162 0 23 (dk_at dksX2_groansTo_0 21 rfl rfl)
theorem dX2_groansTo_24 : decode cX2_groansTo 24 = .ok (.iload_n 3, 1) := dk_29 (dk_at dksX2_groansTo_1 0 rfl rfl)
theorem dX2_groansTo_25 : decode cX2_groansTo 25 = .ok (.iload_n 2, 1) := dk_28 (dk_at dksX2_groansTo_1 1 rfl rfl)
theorem dX2_groansTo_26 : decode cX2_groansTo 26 = .ok (.invokestatic 169, 3) := dk_184 0 169 (dk_at dksX2_groansTo_1 2 rfl rfl)
theorem dX2_groansTo_29 : decode cX2_groansTo 29 = .ok (.istore_n 3, 1) := dk_62 (dk_at dksX2_groansTo_1 5 rfl rfl)
theorem dX2_groansTo_30 : decode cX2_groansTo 30 = .ok (.iload 4, 2) := dk_21 4 (dk_at dksX2_groansTo_1 6 rfl rfl)
theorem dX2_groansTo_32 : decode cX2_groansTo 32 = .ok (.iconst 1, 1) := dk_4 (dk_at dksX2_groansTo_1 8 rfl rfl)
theorem dX2_groansTo_33 : decode cX2_groansTo 33 = .ok (.iload_n 3, 1) := dk_29 (dk_at dksX2_groansTo_1 9 rfl rfl)
theorem dX2_groansTo_34 : decode cX2_groansTo 34 = .ok (.bipush 10, 2) := dk_16 10 (dk_at dksX2_groansTo_1 10 rfl rfl)
theorem dX2_groansTo_36 : decode cX2_groansTo 36 = .ok (.idiv, 1) := dk_108 (dk_at dksX2_groansTo_1 12 rfl rfl)
theorem dX2_groansTo_37 : decode cX2_groansTo 37 = .ok (.iadd, 1) := dk_96 (dk_at dksX2_groansTo_1 13 rfl rfl)
theorem dX2_groansTo_38 : decode cX2_groansTo 38 = .ok (.iadd, 1) := dk_96 (dk_at dksX2_groansTo_1 14 rfl rfl)
theorem dX2_groansTo_39 : decode cX2_groansTo 39 = .ok (.istore 4, 2) := dk_54 4 (dk_at dksX2_groansTo_1 15 rfl rfl)
theorem dX2_groansTo_41 : decode cX2_groansTo 41 = .ok (.goto (-22), 3) := dk_167 255 234 (dk_at dksX2_groansTo_1 17 rfl rfl)
theorem dX2_groansTo_44 : decode cX2_groansTo 44 = .ok (.iload 4, 2) := dk_21 4 (dk_at dksX2_groansTo_1 20 rfl rfl)
theorem dX2_groansTo_46 : decode cX2_groansTo 46 = .ok (.ireturn, 1) := dk_172 (dk_at dksX2_groansTo_1 22 rfl rfl)
abbrev cX2_funniest : ByteArray := prog_27_method_64_code
def yX2_funniest : MethodName := ⟨RX2, "funniest", "(I)I"⟩
def dkwX2_funniest_2 : List UInt8 := [132, 4, 1, 167, 255, 224, 29, 27, 160, 0, 5, 28, 172, 132, 2, 1, 167, 255, 196, 2, 172]
abbrev dktX2_funniest_2 : List UInt8 := dkwX2_funniest_2 ++ []
def dkwX2_funniest_1 : List UInt8 := [46, 162, 0, 27, 29, 42, 21, 4, 28, 182, 0, 204, 153, 0, 7, 4, 167, 0, 4, 3, 96, 62]
abbrev dktX2_funniest_1 : List UInt8 := dkwX2_funniest_1 ++ dktX2_funniest_2
def dkwX2_funniest_0 : List UInt8 := [3, 61, 28, 42, 180, 0, 32, 3, 46, 162, 0, 56, 3, 62, 3, 54, 4, 21, 4, 42, 180, 0, 32, 3]
abbrev dktX2_funniest_0 : List UInt8 := dkwX2_funniest_0 ++ dktX2_funniest_1
theorem dksX2_funniest_0 : cX2_funniest.data.toList.drop 0 = dktX2_funniest_0 := by decide +kernel
theorem dksX2_funniest_1 : cX2_funniest.data.toList.drop 24 = dktX2_funniest_1 := dk_seg dksX2_funniest_0 24 rfl rfl
theorem dksX2_funniest_2 : cX2_funniest.data.toList.drop 46 = dktX2_funniest_2 := dk_seg dksX2_funniest_1 22 rfl rfl
theorem dX2_funniest_0 : decode cX2_funniest 0 = .ok (.iconst 0, 1) := dk_3 (dk_at dksX2_funniest_0 0 rfl rfl)
theorem dX2_funniest_1 : decode cX2_funniest 1 = .ok (.istore_n 2, 1) := dk_61 (dk_at dksX2_funniest_0 1 rfl rfl)
theorem dX2_funniest_2 : decode cX2_funniest 2 = .ok (.iload_n 2, 1) := dk_28 (dk_at dksX2_funniest_0 2 rfl rfl)
theorem dX2_funniest_3 : decode cX2_funniest 3 = .ok (.aload_n 0, 1) := dk_42 (dk_at dksX2_funniest_0 3 rfl rfl)
theorem dX2_funniest_4 : decode cX2_funniest 4 = .ok (.getfield 32, 3) := dk_180 0 32 (dk_at dksX2_funniest_0 4 rfl rfl)
theorem dX2_funniest_7 : decode cX2_funniest 7 = .ok (.iconst 0, 1) := dk_3 (dk_at dksX2_funniest_0 7 rfl rfl)
theorem dX2_funniest_8 : decode cX2_funniest 8 = .ok (.iaload, 1) := dk_46 (dk_at dksX2_funniest_0 8 rfl rfl)
theorem dX2_funniest_9 : decode cX2_funniest 9 = .ok (.if_icmp .ge 56, 3) := dk_162 0 56 (dk_at dksX2_funniest_0 9 rfl rfl)
theorem dX2_funniest_12 : decode cX2_funniest 12 = .ok (.iconst 0, 1) := dk_3 (dk_at dksX2_funniest_0 12 rfl rfl)
theorem dX2_funniest_13 : decode cX2_funniest 13 = .ok (.istore_n 3, 1) := dk_62 (dk_at dksX2_funniest_0 13 rfl rfl)
theorem dX2_funniest_14 : decode cX2_funniest 14 = .ok (.iconst 0, 1) := dk_3 (dk_at dksX2_funniest_0 14 rfl rfl)
theorem dX2_funniest_15 : decode cX2_funniest 15 = .ok (.istore 4, 2) := dk_54 4 (dk_at dksX2_funniest_0 15 rfl rfl)
theorem dX2_funniest_17 : decode cX2_funniest 17 = .ok (.iload 4, 2) := dk_21 4 (dk_at dksX2_funniest_0 17 rfl rfl)
theorem dX2_funniest_19 : decode cX2_funniest 19 = .ok (.aload_n 0, 1) := dk_42 (dk_at dksX2_funniest_0 19 rfl rfl)
theorem dX2_funniest_20 : decode cX2_funniest 20 = .ok (.getfield 32, 3) := dk_180 0 32 (dk_at dksX2_funniest_0 20 rfl rfl)
theorem dX2_funniest_23 : decode cX2_funniest 23 = .ok (.iconst 0, 1) := dk_3 (dk_at dksX2_funniest_0 23 rfl rfl)
theorem dX2_funniest_24 : decode cX2_funniest 24 = .ok (.iaload, 1) := dk_46 (dk_at dksX2_funniest_1 0 rfl rfl)
theorem dX2_funniest_25 : decode cX2_funniest 25 = .ok (.if_icmp .ge 27, 3) := dk_162 0 27 (dk_at dksX2_funniest_1 1 rfl rfl)
theorem dX2_funniest_28 : decode cX2_funniest 28 = .ok (.iload_n 3, 1) := dk_29 (dk_at dksX2_funniest_1 4 rfl rfl)
theorem dX2_funniest_29 : decode cX2_funniest 29 = .ok (.aload_n 0, 1) := dk_42 (dk_at dksX2_funniest_1 5 rfl rfl)
theorem dX2_funniest_30 : decode cX2_funniest 30 = .ok (.iload 4, 2) := dk_21 4 (dk_at dksX2_funniest_1 6 rfl rfl)
theorem dX2_funniest_32 : decode cX2_funniest 32 = .ok (.iload_n 2, 1) := dk_28 (dk_at dksX2_funniest_1 8 rfl rfl)
theorem dX2_funniest_33 : decode cX2_funniest 33 = .ok (.invokevirtual 204, 3) := dk_182 0 204 (dk_at dksX2_funniest_1 9 rfl rfl)
theorem dX2_funniest_36 : decode cX2_funniest 36 = .ok (.ifCond .eq 7, 3) := dk_153 0 7 (dk_at dksX2_funniest_1 12 rfl rfl)
theorem dX2_funniest_39 : decode cX2_funniest 39 = .ok (.iconst 1, 1) := dk_4 (dk_at dksX2_funniest_1 15 rfl rfl)
theorem dX2_funniest_40 : decode cX2_funniest 40 = .ok (.goto 4, 3) := dk_167 0 4 (dk_at dksX2_funniest_1 16 rfl rfl)
theorem dX2_funniest_43 : decode cX2_funniest 43 = .ok (.iconst 0, 1) := dk_3 (dk_at dksX2_funniest_1 19 rfl rfl)
theorem dX2_funniest_44 : decode cX2_funniest 44 = .ok (.iadd, 1) := dk_96 (dk_at dksX2_funniest_1 20 rfl rfl)
theorem dX2_funniest_45 : decode cX2_funniest 45 = .ok (.istore_n 3, 1) := dk_62 (dk_at dksX2_funniest_1 21 rfl rfl)
theorem dX2_funniest_46 : decode cX2_funniest 46 = .ok (.iinc 4 1, 3) := dk_132 4 1 (dk_at dksX2_funniest_2 0 rfl rfl)
theorem dX2_funniest_49 : decode cX2_funniest 49 = .ok (.goto (-32), 3) := dk_167 255 224 (dk_at dksX2_funniest_2 3 rfl rfl)
theorem dX2_funniest_52 : decode cX2_funniest 52 = .ok (.iload_n 3, 1) := dk_29 (dk_at dksX2_funniest_2 6 rfl rfl)
theorem dX2_funniest_53 : decode cX2_funniest 53 = .ok (.iload_n 1, 1) := dk_27 (dk_at dksX2_funniest_2 7 rfl rfl)
theorem dX2_funniest_54 : decode cX2_funniest 54 = .ok (.if_icmp .ne 5, 3) := dk_160 0 5 (dk_at dksX2_funniest_2 8 rfl rfl)
theorem dX2_funniest_57 : decode cX2_funniest 57 = .ok (.iload_n 2, 1) := dk_28 (dk_at dksX2_funniest_2 11 rfl rfl)
theorem dX2_funniest_58 : decode cX2_funniest 58 = .ok (.ireturn, 1) := dk_172 (dk_at dksX2_funniest_2 12 rfl rfl)
theorem dX2_funniest_59 : decode cX2_funniest 59 = .ok (.iinc 2 1, 3) := dk_132 2 1 (dk_at dksX2_funniest_2 13 rfl rfl)
theorem dX2_funniest_62 : decode cX2_funniest 62 = .ok (.goto (-60), 3) := dk_167 255 196 (dk_at dksX2_funniest_2 16 rfl rfl)
theorem dX2_funniest_65 : decode cX2_funniest 65 = .ok (.iconst (-1), 1) := dk_2 (dk_at dksX2_funniest_2 19 rfl rfl)
theorem dX2_funniest_66 : decode cX2_funniest 66 = .ok (.ireturn, 1) := dk_172 (dk_at dksX2_funniest_2 20 rfl rfl)
abbrev cX2_isFunnier : ByteArray := prog_27_method_63_code
def yX2_isFunnier : MethodName := ⟨RX2, "isFunnier", "(II)Z"⟩
def dkwX2_isFunnier_3 : List UInt8 := [167, 0, 17, 3, 167, 0, 13, 27, 28, 162, 0, 7, 4, 167, 0, 4, 3, 172]
abbrev dktX2_isFunnier_3 : List UInt8 := dkwX2_isFunnier_3 ++ []
def dkwX2_isFunnier_2 : List UInt8 := [4, 182, 0, 73, 42, 27, 4, 182, 0, 73, 100, 54, 5, 21, 5, 153, 0, 16, 21, 5, 158, 0, 7, 4]
abbrev dktX2_isFunnier_2 : List UInt8 := dkwX2_isFunnier_2 ++ dktX2_isFunnier_3
def dkwX2_isFunnier_1 : List UInt8 := [56, 4, 37, 23, 4, 149, 153, 0, 16, 37, 23, 4, 149, 158, 0, 7, 4, 167, 0, 4, 3, 172, 42, 28]
abbrev dktX2_isFunnier_1 : List UInt8 := dkwX2_isFunnier_1 ++ dktX2_isFunnier_2
def dkwX2_isFunnier_0 : List UInt8 := [42, 27, 42, 180, 0, 32, 7, 46, 182, 0, 155, 70, 42, 28, 42, 180, 0, 32, 7, 46, 182, 0, 155]
abbrev dktX2_isFunnier_0 : List UInt8 := dkwX2_isFunnier_0 ++ dktX2_isFunnier_1
theorem dksX2_isFunnier_0 : cX2_isFunnier.data.toList.drop 0 = dktX2_isFunnier_0 := by decide +kernel
theorem dksX2_isFunnier_1 : cX2_isFunnier.data.toList.drop 23 = dktX2_isFunnier_1 := dk_seg dksX2_isFunnier_0 23 rfl rfl
theorem dksX2_isFunnier_2 : cX2_isFunnier.data.toList.drop 47 = dktX2_isFunnier_2 := dk_seg dksX2_isFunnier_1 24 rfl rfl
theorem dksX2_isFunnier_3 : cX2_isFunnier.data.toList.drop 71 = dktX2_isFunnier_3 := dk_seg dksX2_isFunnier_2 24 rfl rfl
theorem dX2_isFunnier_0 : decode cX2_isFunnier 0 = .ok (.aload_n 0, 1) := dk_42 (dk_at dksX2_isFunnier_0 0 rfl rfl)
theorem dX2_isFunnier_1 : decode cX2_isFunnier 1 = .ok (.iload_n 1, 1) := dk_27 (dk_at dksX2_isFunnier_0 1 rfl rfl)
theorem dX2_isFunnier_2 : decode cX2_isFunnier 2 = .ok (.aload_n 0, 1) := dk_42 (dk_at dksX2_isFunnier_0 2 rfl rfl)
theorem dX2_isFunnier_3 : decode cX2_isFunnier 3 = .ok (.getfield 32, 3) := dk_180 0 32 (dk_at dksX2_isFunnier_0 3 rfl rfl)
theorem dX2_isFunnier_6 : decode cX2_isFunnier 6 = .ok (.iconst 4, 1) := dk_7 (dk_at dksX2_isFunnier_0 6 rfl rfl)
theorem dX2_isFunnier_7 : decode cX2_isFunnier 7 = .ok (.iaload, 1) := dk_46 (dk_at dksX2_isFunnier_0 7 rfl rfl)
theorem dX2_isFunnier_8 : decode cX2_isFunnier 8 = .ok (.invokevirtual 155, 3) := dk_182 0 155 (dk_at dksX2_isFunnier_0 8 rfl rfl)
theorem dX2_isFunnier_11 : decode cX2_isFunnier 11 = .ok (.fstore_n 3, 1) := dk_70 (dk_at dksX2_isFunnier_0 11 rfl rfl)
theorem dX2_isFunnier_12 : decode cX2_isFunnier 12 = .ok (.aload_n 0, 1) := dk_42 (dk_at dksX2_isFunnier_0 12 rfl rfl)
theorem dX2_isFunnier_13 : decode cX2_isFunnier 13 = .ok (.iload_n 2, 1) := dk_28 (dk_at dksX2_isFunnier_0 13 rfl rfl)
theorem dX2_isFunnier_14 : decode cX2_isFunnier 14 = .ok (.aload_n 0, 1) := dk_42 (dk_at dksX2_isFunnier_0 14 rfl rfl)
theorem dX2_isFunnier_15 : decode cX2_isFunnier 15 = .ok (.getfield 32, 3) := dk_180 0 32 (dk_at dksX2_isFunnier_0 15 rfl rfl)
theorem dX2_isFunnier_18 : decode cX2_isFunnier 18 = .ok (.iconst 4, 1) := dk_7 (dk_at dksX2_isFunnier_0 18 rfl rfl)
theorem dX2_isFunnier_19 : decode cX2_isFunnier 19 = .ok (.iaload, 1) := dk_46 (dk_at dksX2_isFunnier_0 19 rfl rfl)
theorem dX2_isFunnier_20 : decode cX2_isFunnier 20 = .ok (.invokevirtual 155, 3) := dk_182 0 155 (dk_at dksX2_isFunnier_0 20 rfl rfl)
theorem dX2_isFunnier_23 : decode cX2_isFunnier 23 = .ok (.fstore 4, 2) := dk_56 4 (dk_at dksX2_isFunnier_1 0 rfl rfl)
theorem dX2_isFunnier_25 : decode cX2_isFunnier 25 = .ok (.fload_n 3, 1) := dk_37 (dk_at dksX2_isFunnier_1 2 rfl rfl)
theorem dX2_isFunnier_26 : decode cX2_isFunnier 26 = .ok (.fload 4, 2) := dk_23 4 (dk_at dksX2_isFunnier_1 3 rfl rfl)
theorem dX2_isFunnier_28 : decode cX2_isFunnier 28 = .ok (.fcmp .l, 1) := dk_149 (dk_at dksX2_isFunnier_1 5 rfl rfl)
theorem dX2_isFunnier_29 : decode cX2_isFunnier 29 = .ok (.ifCond .eq 16, 3) := dk_153 0 16 (dk_at dksX2_isFunnier_1 6 rfl rfl)
theorem dX2_isFunnier_32 : decode cX2_isFunnier 32 = .ok (.fload_n 3, 1) := dk_37 (dk_at dksX2_isFunnier_1 9 rfl rfl)
theorem dX2_isFunnier_33 : decode cX2_isFunnier 33 = .ok (.fload 4, 2) := dk_23 4 (dk_at dksX2_isFunnier_1 10 rfl rfl)
theorem dX2_isFunnier_35 : decode cX2_isFunnier 35 = .ok (.fcmp .l, 1) := dk_149 (dk_at dksX2_isFunnier_1 12 rfl rfl)
theorem dX2_isFunnier_36 : decode cX2_isFunnier 36 = .ok (.ifCond .le 7, 3) := dk_158 0 7 (dk_at dksX2_isFunnier_1 13 rfl rfl)
theorem dX2_isFunnier_39 : decode cX2_isFunnier 39 = .ok (.iconst 1, 1) := dk_4 (dk_at dksX2_isFunnier_1 16 rfl rfl)
theorem dX2_isFunnier_40 : decode cX2_isFunnier 40 = .ok (.goto 4, 3) := dk_167 0 4 (dk_at dksX2_isFunnier_1 17 rfl rfl)
theorem dX2_isFunnier_43 : decode cX2_isFunnier 43 = .ok (.iconst 0, 1) := dk_3 (dk_at dksX2_isFunnier_1 20 rfl rfl)
theorem dX2_isFunnier_44 : decode cX2_isFunnier 44 = .ok (.ireturn, 1) := dk_172 (dk_at dksX2_isFunnier_1 21 rfl rfl)
theorem dX2_isFunnier_45 : decode cX2_isFunnier 45 = .ok (.aload_n 0, 1) := dk_42 (dk_at dksX2_isFunnier_1 22 rfl rfl)
theorem dX2_isFunnier_46 : decode cX2_isFunnier 46 = .ok (.iload_n 2, 1) := dk_28 (dk_at dksX2_isFunnier_1 23 rfl rfl)
theorem dX2_isFunnier_47 : decode cX2_isFunnier 47 = .ok (.iconst 1, 1) := dk_4 (dk_at dksX2_isFunnier_2 0 rfl rfl)
theorem dX2_isFunnier_48 : decode cX2_isFunnier 48 = .ok (.invokevirtual 73, 3) := dk_182 0 73 (dk_at dksX2_isFunnier_2 1 rfl rfl)
theorem dX2_isFunnier_51 : decode cX2_isFunnier 51 = .ok (.aload_n 0, 1) := dk_42 (dk_at dksX2_isFunnier_2 4 rfl rfl)
theorem dX2_isFunnier_52 : decode cX2_isFunnier 52 = .ok (.iload_n 1, 1) := dk_27 (dk_at dksX2_isFunnier_2 5 rfl rfl)
theorem dX2_isFunnier_53 : decode cX2_isFunnier 53 = .ok (.iconst 1, 1) := dk_4 (dk_at dksX2_isFunnier_2 6 rfl rfl)
theorem dX2_isFunnier_54 : decode cX2_isFunnier 54 = .ok (.invokevirtual 73, 3) := dk_182 0 73 (dk_at dksX2_isFunnier_2 7 rfl rfl)
theorem dX2_isFunnier_57 : decode cX2_isFunnier 57 = .ok (.isub, 1) := dk_100 (dk_at dksX2_isFunnier_2 10 rfl rfl)
theorem dX2_isFunnier_58 : decode cX2_isFunnier 58 = .ok (.istore 5, 2) := dk_54 5 (dk_at dksX2_isFunnier_2 11 rfl rfl)
theorem dX2_isFunnier_60 : decode cX2_isFunnier 60 = .ok (.iload 5, 2) := dk_21 5 (dk_at dksX2_isFunnier_2 13 rfl rfl)
theorem dX2_isFunnier_62 : decode cX2_isFunnier 62 = .ok (.ifCond .eq 16, 3) := dk_153 0 16 (dk_at dksX2_isFunnier_2 15 rfl rfl)
theorem dX2_isFunnier_65 : decode cX2_isFunnier 65 = .ok (.iload 5, 2) := dk_21 5 (dk_at dksX2_isFunnier_2 18 rfl rfl)
theorem dX2_isFunnier_67 : decode cX2_isFunnier 67 = .ok (.ifCond .le 7, 3) := dk_158 0 7 (dk_at dksX2_isFunnier_2 20 rfl rfl)
theorem dX2_isFunnier_70 : decode cX2_isFunnier 70 = .ok (.iconst 1, 1) := dk_4 (dk_at dksX2_isFunnier_2 23 rfl rfl)
theorem dX2_isFunnier_71 : decode cX2_isFunnier 71 = .ok (.goto 17, 3) := dk_167 0 17 (dk_at dksX2_isFunnier_3 0 rfl rfl)
theorem dX2_isFunnier_74 : decode cX2_isFunnier 74 = .ok (.iconst 0, 1) := dk_3 (dk_at dksX2_isFunnier_3 3 rfl rfl)
theorem dX2_isFunnier_75 : decode cX2_isFunnier 75 = .ok (.goto 13, 3) := dk_167 0 13 (dk_at dksX2_isFunnier_3 4 rfl rfl)
theorem dX2_isFunnier_78 : decode cX2_isFunnier 78 = .ok (.iload_n 1, 1) := dk_27 (dk_at dksX2_isFunnier_3 7 rfl rfl)
theorem dX2_isFunnier_79 : decode cX2_isFunnier 79 = .ok (.iload_n 2, 1) := dk_28 (dk_at dksX2_isFunnier_3 8 rfl rfl)
theorem dX2_isFunnier_80 : decode cX2_isFunnier 80 = .ok (.if_icmp .ge 7, 3) := dk_162 0 7 (dk_at dksX2_isFunnier_3 9 rfl rfl)
theorem dX2_isFunnier_83 : decode cX2_isFunnier 83 = .ok (.iconst 1, 1) := dk_4 (dk_at dksX2_isFunnier_3 12 rfl rfl)
theorem dX2_isFunnier_84 : decode cX2_isFunnier 84 = .ok (.goto 4, 3) := dk_167 0 4 (dk_at dksX2_isFunnier_3 13 rfl rfl)
theorem dX2_isFunnier_87 : decode cX2_isFunnier 87 = .ok (.iconst 0, 1) := dk_3 (dk_at dksX2_isFunnier_3 16 rfl rfl)
theorem dX2_isFunnier_88 : decode cX2_isFunnier 88 = .ok (.ireturn, 1) := dk_172 (dk_at dksX2_isFunnier_3 17 rfl rfl)
abbrev cX2_inWell : ByteArray := prog_27_method_65_code
def yX2_inWell : MethodName := ⟨RX2, "inWell", "(II)I"⟩
def dkwX2_inWell_0 : List UInt8 := [27, 184, 0, 81, 153, 0, 12, 42, 27, 28, 182, 0, 172, 167, 0, 4, 2, 172]
abbrev dktX2_inWell_0 : List UInt8 := dkwX2_inWell_0 ++ []
theorem dksX2_inWell_0 : cX2_inWell.data.toList.drop 0 = dktX2_inWell_0 := by decide +kernel
theorem dX2_inWell_0 : decode cX2_inWell 0 = .ok (.iload_n 1, 1) := dk_27 (dk_at dksX2_inWell_0 0 rfl rfl)
theorem dX2_inWell_1 : decode cX2_inWell 1 = .ok (.invokestatic 81, 3) := dk_184 0 81 (dk_at dksX2_inWell_0 1 rfl rfl)
theorem dX2_inWell_4 : decode cX2_inWell 4 = .ok (.ifCond .eq 12, 3) := dk_153 0 12 (dk_at dksX2_inWell_0 4 rfl rfl)
theorem dX2_inWell_7 : decode cX2_inWell 7 = .ok (.aload_n 0, 1) := dk_42 (dk_at dksX2_inWell_0 7 rfl rfl)
theorem dX2_inWell_8 : decode cX2_inWell 8 = .ok (.iload_n 1, 1) := dk_27 (dk_at dksX2_inWell_0 8 rfl rfl)
theorem dX2_inWell_9 : decode cX2_inWell 9 = .ok (.iload_n 2, 1) := dk_28 (dk_at dksX2_inWell_0 9 rfl rfl)
theorem dX2_inWell_10 : decode cX2_inWell 10 = .ok (.invokevirtual 172, 3) := dk_182 0 172 (dk_at dksX2_inWell_0 10 rfl rfl)
theorem dX2_inWell_13 : decode cX2_inWell 13 = .ok (.goto 4, 3) := dk_167 0 4 (dk_at dksX2_inWell_0 13 rfl rfl)
theorem dX2_inWell_16 : decode cX2_inWell 16 = .ok (.iconst (-1), 1) := dk_2 (dk_at dksX2_inWell_0 16 rfl rfl)
theorem dX2_inWell_17 : decode cX2_inWell 17 = .ok (.ireturn, 1) := dk_172 (dk_at dksX2_inWell_0 17 rfl rfl)
abbrev cX2_fullest : ByteArray := prog_27_method_67_code
def yX2_fullest : MethodName := ⟨RX2, "fullest", "(I)I"⟩
def dkwX2_fullest_2 : List UInt8 := [28, 172, 132, 2, 1, 167, 255, 206, 2, 172]
abbrev dktX2_fullest_2 : List UInt8 := dkwX2_fullest_2 ++ []
def dkwX2_fullest_1 : List UInt8 := [182, 0, 208, 153, 0, 7, 4, 167, 0, 4, 3, 96, 62, 132, 4, 1, 167, 255, 229, 29, 27, 160, 0, 5]
abbrev dktX2_fullest_1 : List UInt8 := dkwX2_fullest_1 ++ dktX2_fullest_2
def dkwX2_fullest_0 : List UInt8 := [3, 61, 28, 7, 162, 0, 51, 3, 62, 3, 54, 4, 21, 4, 7, 162, 0, 27, 29, 42, 21, 4, 28]
abbrev dktX2_fullest_0 : List UInt8 := dkwX2_fullest_0 ++ dktX2_fullest_1
theorem dksX2_fullest_0 : cX2_fullest.data.toList.drop 0 = dktX2_fullest_0 := by decide +kernel
theorem dksX2_fullest_1 : cX2_fullest.data.toList.drop 23 = dktX2_fullest_1 := dk_seg dksX2_fullest_0 23 rfl rfl
theorem dksX2_fullest_2 : cX2_fullest.data.toList.drop 47 = dktX2_fullest_2 := dk_seg dksX2_fullest_1 24 rfl rfl
theorem dX2_fullest_0 : decode cX2_fullest 0 = .ok (.iconst 0, 1) := dk_3 (dk_at dksX2_fullest_0 0 rfl rfl)
theorem dX2_fullest_1 : decode cX2_fullest 1 = .ok (.istore_n 2, 1) := dk_61 (dk_at dksX2_fullest_0 1 rfl rfl)
theorem dX2_fullest_2 : decode cX2_fullest 2 = .ok (.iload_n 2, 1) := dk_28 (dk_at dksX2_fullest_0 2 rfl rfl)
theorem dX2_fullest_3 : decode cX2_fullest 3 = .ok (.iconst 4, 1) := dk_7 (dk_at dksX2_fullest_0 3 rfl rfl)
theorem dX2_fullest_4 : decode cX2_fullest 4 = .ok (.if_icmp .ge 51, 3) := dk_162 0 51 (dk_at dksX2_fullest_0 4 rfl rfl)
theorem dX2_fullest_7 : decode cX2_fullest 7 = .ok (.iconst 0, 1) := dk_3 (dk_at dksX2_fullest_0 7 rfl rfl)
theorem dX2_fullest_8 : decode cX2_fullest 8 = .ok (.istore_n 3, 1) := dk_62 (dk_at dksX2_fullest_0 8 rfl rfl)
theorem dX2_fullest_9 : decode cX2_fullest 9 = .ok (.iconst 0, 1) := dk_3 (dk_at dksX2_fullest_0 9 rfl rfl)
theorem dX2_fullest_10 : decode cX2_fullest 10 = .ok (.istore 4, 2) := dk_54 4 (dk_at dksX2_fullest_0 10 rfl rfl)
theorem dX2_fullest_12 : decode cX2_fullest 12 = .ok (.iload 4, 2) := dk_21 4 (dk_at dksX2_fullest_0 12 rfl rfl)
theorem dX2_fullest_14 : decode cX2_fullest 14 = .ok (.iconst 4, 1) := dk_7 (dk_at dksX2_fullest_0 14 rfl rfl)
theorem dX2_fullest_15 : decode cX2_fullest 15 = .ok (.if_icmp .ge 27, 3) := dk_162 0 27 (dk_at dksX2_fullest_0 15 rfl rfl)
theorem dX2_fullest_18 : decode cX2_fullest 18 = .ok (.iload_n 3, 1) := dk_29 (dk_at dksX2_fullest_0 18 rfl rfl)
theorem dX2_fullest_19 : decode cX2_fullest 19 = .ok (.aload_n 0, 1) := dk_42 (dk_at dksX2_fullest_0 19 rfl rfl)
theorem dX2_fullest_20 : decode cX2_fullest 20 = .ok (.iload 4, 2) := dk_21 4 (dk_at dksX2_fullest_0 20 rfl rfl)
theorem dX2_fullest_22 : decode cX2_fullest 22 = .ok (.iload_n 2, 1) := dk_28 (dk_at dksX2_fullest_0 22 rfl rfl)
theorem dX2_fullest_23 : decode cX2_fullest 23 = .ok (.invokevirtual 208, 3) := dk_182 0 208 (dk_at dksX2_fullest_1 0 rfl rfl)
theorem dX2_fullest_26 : decode cX2_fullest 26 = .ok (.ifCond .eq 7, 3) := dk_153 0 7 (dk_at dksX2_fullest_1 3 rfl rfl)
theorem dX2_fullest_29 : decode cX2_fullest 29 = .ok (.iconst 1, 1) := dk_4 (dk_at dksX2_fullest_1 6 rfl rfl)
theorem dX2_fullest_30 : decode cX2_fullest 30 = .ok (.goto 4, 3) := dk_167 0 4 (dk_at dksX2_fullest_1 7 rfl rfl)
theorem dX2_fullest_33 : decode cX2_fullest 33 = .ok (.iconst 0, 1) := dk_3 (dk_at dksX2_fullest_1 10 rfl rfl)
theorem dX2_fullest_34 : decode cX2_fullest 34 = .ok (.iadd, 1) := dk_96 (dk_at dksX2_fullest_1 11 rfl rfl)
theorem dX2_fullest_35 : decode cX2_fullest 35 = .ok (.istore_n 3, 1) := dk_62 (dk_at dksX2_fullest_1 12 rfl rfl)
theorem dX2_fullest_36 : decode cX2_fullest 36 = .ok (.iinc 4 1, 3) := dk_132 4 1 (dk_at dksX2_fullest_1 13 rfl rfl)
theorem dX2_fullest_39 : decode cX2_fullest 39 = .ok (.goto (-27), 3) := dk_167 255 229 (dk_at dksX2_fullest_1 16 rfl rfl)
theorem dX2_fullest_42 : decode cX2_fullest 42 = .ok (.iload_n 3, 1) := dk_29 (dk_at dksX2_fullest_1 19 rfl rfl)
theorem dX2_fullest_43 : decode cX2_fullest 43 = .ok (.iload_n 1, 1) := dk_27 (dk_at dksX2_fullest_1 20 rfl rfl)
theorem dX2_fullest_44 : decode cX2_fullest 44 = .ok (.if_icmp .ne 5, 3) := dk_160 0 5 (dk_at dksX2_fullest_1 21 rfl rfl)
theorem dX2_fullest_47 : decode cX2_fullest 47 = .ok (.iload_n 2, 1) := dk_28 (dk_at dksX2_fullest_2 0 rfl rfl)
theorem dX2_fullest_48 : decode cX2_fullest 48 = .ok (.ireturn, 1) := dk_172 (dk_at dksX2_fullest_2 1 rfl rfl)
theorem dX2_fullest_49 : decode cX2_fullest 49 = .ok (.iinc 2 1, 3) := dk_132 2 1 (dk_at dksX2_fullest_2 2 rfl rfl)
theorem dX2_fullest_52 : decode cX2_fullest 52 = .ok (.goto (-50), 3) := dk_167 255 206 (dk_at dksX2_fullest_2 5 rfl rfl)
theorem dX2_fullest_55 : decode cX2_fullest 55 = .ok (.iconst (-1), 1) := dk_2 (dk_at dksX2_fullest_2 8 rfl rfl)
theorem dX2_fullest_56 : decode cX2_fullest 56 = .ok (.ireturn, 1) := dk_172 (dk_at dksX2_fullest_2 9 rfl rfl)
abbrev cX2_isFuller : ByteArray := prog_27_method_66_code
def yX2_isFuller : MethodName := ⟨RX2, "isFuller", "(II)Z"⟩
def dkwX2_isFuller_3 : List UInt8 := [4, 167, 0, 4, 3, 172]
abbrev dktX2_isFuller_3 : List UInt8 := dkwX2_isFuller_3 ++ []
def dkwX2_isFuller_2 : List UInt8 := [172, 21, 4, 153, 0, 16, 21, 4, 158, 0, 7, 4, 167, 0, 17, 3, 167, 0, 13, 27, 28, 162, 0, 7]
abbrev dktX2_isFuller_2 : List UInt8 := dkwX2_isFuller_2 ++ dktX2_isFuller_3
def dkwX2_isFuller_1 : List UInt8 := [180, 0, 32, 16, 14, 28, 96, 46, 100, 54, 4, 29, 153, 0, 13, 29, 158, 0, 7, 4, 167, 0, 4, 3]
abbrev dktX2_isFuller_1 : List UInt8 := dkwX2_isFuller_1 ++ dktX2_isFuller_2
def dkwX2_isFuller_0 : List UInt8 := [42, 27, 182, 0, 97, 42, 28, 182, 0, 97, 100, 62, 42, 180, 0, 32, 16, 14, 27, 96, 46, 42]
abbrev dktX2_isFuller_0 : List UInt8 := dkwX2_isFuller_0 ++ dktX2_isFuller_1
theorem dksX2_isFuller_0 : cX2_isFuller.data.toList.drop 0 = dktX2_isFuller_0 := by decide +kernel
theorem dksX2_isFuller_1 : cX2_isFuller.data.toList.drop 22 = dktX2_isFuller_1 := dk_seg dksX2_isFuller_0 22 rfl rfl
theorem dksX2_isFuller_2 : cX2_isFuller.data.toList.drop 46 = dktX2_isFuller_2 := dk_seg dksX2_isFuller_1 24 rfl rfl
theorem dksX2_isFuller_3 : cX2_isFuller.data.toList.drop 70 = dktX2_isFuller_3 := dk_seg dksX2_isFuller_2 24 rfl rfl
theorem dX2_isFuller_0 : decode cX2_isFuller 0 = .ok (.aload_n 0, 1) := dk_42 (dk_at dksX2_isFuller_0 0 rfl rfl)
theorem dX2_isFuller_1 : decode cX2_isFuller 1 = .ok (.iload_n 1, 1) := dk_27 (dk_at dksX2_isFuller_0 1 rfl rfl)
theorem dX2_isFuller_2 : decode cX2_isFuller 2 = .ok (.invokevirtual 97, 3) := dk_182 0 97 (dk_at dksX2_isFuller_0 2 rfl rfl)
theorem dX2_isFuller_5 : decode cX2_isFuller 5 = .ok (.aload_n 0, 1) := dk_42 (dk_at dksX2_isFuller_0 5 rfl rfl)
theorem dX2_isFuller_6 : decode cX2_isFuller 6 = .ok (.iload_n 2, 1) := dk_28 (dk_at dksX2_isFuller_0 6 rfl rfl)
theorem dX2_isFuller_7 : decode cX2_isFuller 7 = .ok (.invokevirtual 97, 3) := dk_182 0 97 (dk_at dksX2_isFuller_0 7 rfl rfl)
theorem dX2_isFuller_10 : decode cX2_isFuller 10 = .ok (.isub, 1) := dk_100 (dk_at dksX2_isFuller_0 10 rfl rfl)
theorem dX2_isFuller_11 : decode cX2_isFuller 11 = .ok (.istore_n 3, 1) := dk_62 (dk_at dksX2_isFuller_0 11 rfl rfl)
theorem dX2_isFuller_12 : decode cX2_isFuller 12 = .ok (.aload_n 0, 1) := dk_42 (dk_at dksX2_isFuller_0 12 rfl rfl)
theorem dX2_isFuller_13 : decode cX2_isFuller 13 = .ok (.getfield 32, 3) := dk_180 0 32 (dk_at dksX2_isFuller_0 13 rfl rfl)
theorem dX2_isFuller_16 : decode cX2_isFuller 16 = .ok (.bipush 14, 2) := dk_16 14 (dk_at dksX2_isFuller_0 16 rfl rfl)
theorem dX2_isFuller_18 : decode cX2_isFuller 18 = .ok (.iload_n 1, 1) := dk_27 (dk_at dksX2_isFuller_0 18 rfl rfl)
theorem dX2_isFuller_19 : decode cX2_isFuller 19 = .ok (.iadd, 1) := dk_96 (dk_at dksX2_isFuller_0 19 rfl rfl)
theorem dX2_isFuller_20 : decode cX2_isFuller 20 = .ok (.iaload, 1) := dk_46 (dk_at dksX2_isFuller_0 20 rfl rfl)
theorem dX2_isFuller_21 : decode cX2_isFuller 21 = .ok (.aload_n 0, 1) := dk_42 (dk_at dksX2_isFuller_0 21 rfl rfl)
theorem dX2_isFuller_22 : decode cX2_isFuller 22 = .ok (.getfield 32, 3) := dk_180 0 32 (dk_at dksX2_isFuller_1 0 rfl rfl)
theorem dX2_isFuller_25 : decode cX2_isFuller 25 = .ok (.bipush 14, 2) := dk_16 14 (dk_at dksX2_isFuller_1 3 rfl rfl)
theorem dX2_isFuller_27 : decode cX2_isFuller 27 = .ok (.iload_n 2, 1) := dk_28 (dk_at dksX2_isFuller_1 5 rfl rfl)
theorem dX2_isFuller_28 : decode cX2_isFuller 28 = .ok (.iadd, 1) := dk_96 (dk_at dksX2_isFuller_1 6 rfl rfl)
theorem dX2_isFuller_29 : decode cX2_isFuller 29 = .ok (.iaload, 1) := dk_46 (dk_at dksX2_isFuller_1 7 rfl rfl)
theorem dX2_isFuller_30 : decode cX2_isFuller 30 = .ok (.isub, 1) := dk_100 (dk_at dksX2_isFuller_1 8 rfl rfl)
theorem dX2_isFuller_31 : decode cX2_isFuller 31 = .ok (.istore 4, 2) := dk_54 4 (dk_at dksX2_isFuller_1 9 rfl rfl)
theorem dX2_isFuller_33 : decode cX2_isFuller 33 = .ok (.iload_n 3, 1) := dk_29 (dk_at dksX2_isFuller_1 11 rfl rfl)
theorem dX2_isFuller_34 : decode cX2_isFuller 34 = .ok (.ifCond .eq 13, 3) := dk_153 0 13 (dk_at dksX2_isFuller_1 12 rfl rfl)
theorem dX2_isFuller_37 : decode cX2_isFuller 37 = .ok (.iload_n 3, 1) := dk_29 (dk_at dksX2_isFuller_1 15 rfl rfl)
theorem dX2_isFuller_38 : decode cX2_isFuller 38 = .ok (.ifCond .le 7, 3) := dk_158 0 7 (dk_at dksX2_isFuller_1 16 rfl rfl)
theorem dX2_isFuller_41 : decode cX2_isFuller 41 = .ok (.iconst 1, 1) := dk_4 (dk_at dksX2_isFuller_1 19 rfl rfl)
theorem dX2_isFuller_42 : decode cX2_isFuller 42 = .ok (.goto 4, 3) := dk_167 0 4 (dk_at dksX2_isFuller_1 20 rfl rfl)
theorem dX2_isFuller_45 : decode cX2_isFuller 45 = .ok (.iconst 0, 1) := dk_3 (dk_at dksX2_isFuller_1 23 rfl rfl)
theorem dX2_isFuller_46 : decode cX2_isFuller 46 = .ok (.ireturn, 1) := dk_172 (dk_at dksX2_isFuller_2 0 rfl rfl)
theorem dX2_isFuller_47 : decode cX2_isFuller 47 = .ok (.iload 4, 2) := dk_21 4 (dk_at dksX2_isFuller_2 1 rfl rfl)
theorem dX2_isFuller_49 : decode cX2_isFuller 49 = .ok (.ifCond .eq 16, 3) := dk_153 0 16 (dk_at dksX2_isFuller_2 3 rfl rfl)
theorem dX2_isFuller_52 : decode cX2_isFuller 52 = .ok (.iload 4, 2) := dk_21 4 (dk_at dksX2_isFuller_2 6 rfl rfl)
theorem dX2_isFuller_54 : decode cX2_isFuller 54 = .ok (.ifCond .le 7, 3) := dk_158 0 7 (dk_at dksX2_isFuller_2 8 rfl rfl)
theorem dX2_isFuller_57 : decode cX2_isFuller 57 = .ok (.iconst 1, 1) := dk_4 (dk_at dksX2_isFuller_2 11 rfl rfl)
theorem dX2_isFuller_58 : decode cX2_isFuller 58 = .ok (.goto 17, 3) := dk_167 0 17 (dk_at dksX2_isFuller_2 12 rfl rfl)
theorem dX2_isFuller_61 : decode cX2_isFuller 61 = .ok (.iconst 0, 1) := dk_3 (dk_at dksX2_isFuller_2 15 rfl rfl)
theorem dX2_isFuller_62 : decode cX2_isFuller 62 = .ok (.goto 13, 3) := dk_167 0 13 (dk_at dksX2_isFuller_2 16 rfl rfl)
theorem dX2_isFuller_65 : decode cX2_isFuller 65 = .ok (.iload_n 1, 1) := dk_27 (dk_at dksX2_isFuller_2 19 rfl rfl)
theorem dX2_isFuller_66 : decode cX2_isFuller 66 = .ok (.iload_n 2, 1) := dk_28 (dk_at dksX2_isFuller_2 20 rfl rfl)
theorem dX2_isFuller_67 : decode cX2_isFuller 67 = .ok (.if_icmp .ge 7, 3) := dk_162 0 7 (dk_at dksX2_isFuller_2 21 rfl rfl)
theorem dX2_isFuller_70 : decode cX2_isFuller 70 = .ok (.iconst 1, 1) := dk_4 (dk_at dksX2_isFuller_3 0 rfl rfl)
theorem dX2_isFuller_71 : decode cX2_isFuller 71 = .ok (.goto 4, 3) := dk_167 0 4 (dk_at dksX2_isFuller_3 1 rfl rfl)
theorem dX2_isFuller_74 : decode cX2_isFuller 74 = .ok (.iconst 0, 1) := dk_3 (dk_at dksX2_isFuller_3 4 rfl rfl)
theorem dX2_isFuller_75 : decode cX2_isFuller 75 = .ok (.ireturn, 1) := dk_172 (dk_at dksX2_isFuller_3 5 rfl rfl)
abbrev cX2_isCounted : ByteArray := prog_27_method_68_code
def yX2_isCounted : MethodName := ⟨RX2, "isCounted", "()Z"⟩
def dkwX2_isCounted_3 : List UInt8 := [184, 0, 159, 42, 182, 0, 211, 184, 0, 159, 160, 0, 7, 4, 167, 0, 4, 3, 172]
abbrev dktX2_isCounted_3 : List UInt8 := dkwX2_isCounted_3 ++ []
def dkwX2_isCounted_2 : List UInt8 := [42, 180, 0, 32, 16, 6, 46, 96, 42, 180, 0, 32, 16, 8, 46, 96, 160, 0, 24, 42, 182, 0, 188]
abbrev dktX2_isCounted_2 : List UInt8 := dkwX2_isCounted_2 ++ dktX2_isCounted_3
def dkwX2_isCounted_1 : List UInt8 := [153, 0, 5, 3, 172, 132, 1, 1, 167, 255, 228, 42, 180, 0, 32, 16, 7, 46, 42, 180, 0, 32, 3, 46]
abbrev dktX2_isCounted_1 : List UInt8 := dkwX2_isCounted_1 ++ dktX2_isCounted_2
def dkwX2_isCounted_0 : List UInt8 := [3, 60, 27, 42, 180, 0, 32, 3, 46, 162, 0, 24, 42, 42, 27, 5, 182, 0, 73, 182, 0, 85]
abbrev dktX2_isCounted_0 : List UInt8 := dkwX2_isCounted_0 ++ dktX2_isCounted_1
theorem dksX2_isCounted_0 : cX2_isCounted.data.toList.drop 0 = dktX2_isCounted_0 := by decide +kernel
theorem dksX2_isCounted_1 : cX2_isCounted.data.toList.drop 22 = dktX2_isCounted_1 := dk_seg dksX2_isCounted_0 22 rfl rfl
theorem dksX2_isCounted_2 : cX2_isCounted.data.toList.drop 46 = dktX2_isCounted_2 := dk_seg dksX2_isCounted_1 24 rfl rfl
theorem dksX2_isCounted_3 : cX2_isCounted.data.toList.drop 69 = dktX2_isCounted_3 := dk_seg dksX2_isCounted_2 23 rfl rfl
theorem dX2_isCounted_0 : decode cX2_isCounted 0 = .ok (.iconst 0, 1) := dk_3 (dk_at dksX2_isCounted_0 0 rfl rfl)
theorem dX2_isCounted_1 : decode cX2_isCounted 1 = .ok (.istore_n 1, 1) := dk_60 (dk_at dksX2_isCounted_0 1 rfl rfl)
theorem dX2_isCounted_2 : decode cX2_isCounted 2 = .ok (.iload_n 1, 1) := dk_27 (dk_at dksX2_isCounted_0 2 rfl rfl)
theorem dX2_isCounted_3 : decode cX2_isCounted 3 = .ok (.aload_n 0, 1) := dk_42 (dk_at dksX2_isCounted_0 3 rfl rfl)
theorem dX2_isCounted_4 : decode cX2_isCounted 4 = .ok (.getfield 32, 3) := dk_180 0 32 (dk_at dksX2_isCounted_0 4 rfl rfl)
theorem dX2_isCounted_7 : decode cX2_isCounted 7 = .ok (.iconst 0, 1) := dk_3 (dk_at dksX2_isCounted_0 7 rfl rfl)
theorem dX2_isCounted_8 : decode cX2_isCounted 8 = .ok (.iaload, 1) := dk_46 (dk_at dksX2_isCounted_0 8 rfl rfl)
theorem dX2_isCounted_9 : decode cX2_isCounted 9 = .ok (.if_icmp .ge 24, 3) := dk_162 0 24 (dk_at dksX2_isCounted_0 9 rfl rfl)
theorem dX2_isCounted_12 : decode cX2_isCounted 12 = .ok (.aload_n 0, 1) := dk_42 (dk_at dksX2_isCounted_0 12 rfl rfl)
theorem dX2_isCounted_13 : decode cX2_isCounted 13 = .ok (.aload_n 0, 1) := dk_42 (dk_at dksX2_isCounted_0 13 rfl rfl)
theorem dX2_isCounted_14 : decode cX2_isCounted 14 = .ok (.iload_n 1, 1) := dk_27 (dk_at dksX2_isCounted_0 14 rfl rfl)
theorem dX2_isCounted_15 : decode cX2_isCounted 15 = .ok (.iconst 2, 1) := dk_5 (dk_at dksX2_isCounted_0 15 rfl rfl)
theorem dX2_isCounted_16 : decode cX2_isCounted 16 = .ok (.invokevirtual 73, 3) := dk_182 0 73 (dk_at dksX2_isCounted_0 16 rfl rfl)
theorem dX2_isCounted_19 : decode cX2_isCounted 19 = .ok (.invokevirtual 85, 3) := dk_182 0 85 (dk_at dksX2_isCounted_0 19 rfl rfl)
theorem dX2_isCounted_22 : decode cX2_isCounted 22 = .ok (.ifCond .eq 5, 3) := dk_153 0 5 (dk_at dksX2_isCounted_1 0 rfl rfl)
theorem dX2_isCounted_25 : decode cX2_isCounted 25 = .ok (.iconst 0, 1) := dk_3 (dk_at dksX2_isCounted_1 3 rfl rfl)
theorem dX2_isCounted_26 : decode cX2_isCounted 26 = .ok (.ireturn, 1) := dk_172 (dk_at dksX2_isCounted_1 4 rfl rfl)
theorem dX2_isCounted_27 : decode cX2_isCounted 27 = .ok (.iinc 1 1, 3) := dk_132 1 1 (dk_at dksX2_isCounted_1 5 rfl rfl)
theorem dX2_isCounted_30 : decode cX2_isCounted 30 = .ok (.goto (-28), 3) := dk_167 255 228 (dk_at dksX2_isCounted_1 8 rfl rfl)
theorem dX2_isCounted_33 : decode cX2_isCounted 33 = .ok (.aload_n 0, 1) := dk_42 (dk_at dksX2_isCounted_1 11 rfl rfl)
theorem dX2_isCounted_34 : decode cX2_isCounted 34 = .ok (.getfield 32, 3) := dk_180 0 32 (dk_at dksX2_isCounted_1 12 rfl rfl)
theorem dX2_isCounted_37 : decode cX2_isCounted 37 = .ok (.bipush 7, 2) := dk_16 7 (dk_at dksX2_isCounted_1 15 rfl rfl)
theorem dX2_isCounted_39 : decode cX2_isCounted 39 = .ok (.iaload, 1) := dk_46 (dk_at dksX2_isCounted_1 17 rfl rfl)
theorem dX2_isCounted_40 : decode cX2_isCounted 40 = .ok (.aload_n 0, 1) := dk_42 (dk_at dksX2_isCounted_1 18 rfl rfl)
theorem dX2_isCounted_41 : decode cX2_isCounted 41 = .ok (.getfield 32, 3) := dk_180 0 32 (dk_at dksX2_isCounted_1 19 rfl rfl)
theorem dX2_isCounted_44 : decode cX2_isCounted 44 = .ok (.iconst 0, 1) := dk_3 (dk_at dksX2_isCounted_1 22 rfl rfl)
theorem dX2_isCounted_45 : decode cX2_isCounted 45 = .ok (.iaload, 1) := dk_46 (dk_at dksX2_isCounted_1 23 rfl rfl)
theorem dX2_isCounted_46 : decode cX2_isCounted 46 = .ok (.aload_n 0, 1) := dk_42 (dk_at dksX2_isCounted_2 0 rfl rfl)
theorem dX2_isCounted_47 : decode cX2_isCounted 47 = .ok (.getfield 32, 3) := dk_180 0 32 (dk_at dksX2_isCounted_2 1 rfl rfl)
theorem dX2_isCounted_50 : decode cX2_isCounted 50 = .ok (.bipush 6, 2) := dk_16 6 (dk_at dksX2_isCounted_2 4 rfl rfl)
theorem dX2_isCounted_52 : decode cX2_isCounted 52 = .ok (.iaload, 1) := dk_46 (dk_at dksX2_isCounted_2 6 rfl rfl)
theorem dX2_isCounted_53 : decode cX2_isCounted 53 = .ok (.iadd, 1) := dk_96 (dk_at dksX2_isCounted_2 7 rfl rfl)
theorem dX2_isCounted_54 : decode cX2_isCounted 54 = .ok (.aload_n 0, 1) := dk_42 (dk_at dksX2_isCounted_2 8 rfl rfl)
theorem dX2_isCounted_55 : decode cX2_isCounted 55 = .ok (.getfield 32, 3) := dk_180 0 32 (dk_at dksX2_isCounted_2 9 rfl rfl)
theorem dX2_isCounted_58 : decode cX2_isCounted 58 = .ok (.bipush 8, 2) := dk_16 8 (dk_at dksX2_isCounted_2 12 rfl rfl)
theorem dX2_isCounted_60 : decode cX2_isCounted 60 = .ok (.iaload, 1) := dk_46 (dk_at dksX2_isCounted_2 14 rfl rfl)
theorem dX2_isCounted_61 : decode cX2_isCounted 61 = .ok (.iadd, 1) := dk_96 (dk_at dksX2_isCounted_2 15 rfl rfl)
theorem dX2_isCounted_62 : decode cX2_isCounted 62 = .ok (.if_icmp .ne 24, 3) := dk_160 0 24 (dk_at dksX2_isCounted_2 16 rfl rfl)
theorem dX2_isCounted_65 : decode cX2_isCounted 65 = .ok (.aload_n 0, 1) := dk_42 (dk_at dksX2_isCounted_2 19 rfl rfl)
theorem dX2_isCounted_66 : decode cX2_isCounted 66 = .ok (.invokevirtual 188, 3) := dk_182 0 188 (dk_at dksX2_isCounted_2 20 rfl rfl)
theorem dX2_isCounted_69 : decode cX2_isCounted 69 = .ok (.invokestatic 159, 3) := dk_184 0 159 (dk_at dksX2_isCounted_3 0 rfl rfl)
theorem dX2_isCounted_72 : decode cX2_isCounted 72 = .ok (.aload_n 0, 1) := dk_42 (dk_at dksX2_isCounted_3 3 rfl rfl)
theorem dX2_isCounted_73 : decode cX2_isCounted 73 = .ok (.invokevirtual 211, 3) := dk_182 0 211 (dk_at dksX2_isCounted_3 4 rfl rfl)
theorem dX2_isCounted_76 : decode cX2_isCounted 76 = .ok (.invokestatic 159, 3) := dk_184 0 159 (dk_at dksX2_isCounted_3 7 rfl rfl)
theorem dX2_isCounted_79 : decode cX2_isCounted 79 = .ok (.if_icmp .ne 7, 3) := dk_160 0 7 (dk_at dksX2_isCounted_3 10 rfl rfl)
theorem dX2_isCounted_82 : decode cX2_isCounted 82 = .ok (.iconst 1, 1) := dk_4 (dk_at dksX2_isCounted_3 13 rfl rfl)
theorem dX2_isCounted_83 : decode cX2_isCounted 83 = .ok (.goto 4, 3) := dk_167 0 4 (dk_at dksX2_isCounted_3 14 rfl rfl)
theorem dX2_isCounted_86 : decode cX2_isCounted 86 = .ok (.iconst 0, 1) := dk_3 (dk_at dksX2_isCounted_3 17 rfl rfl)
theorem dX2_isCounted_87 : decode cX2_isCounted 87 = .ok (.ireturn, 1) := dk_172 (dk_at dksX2_isCounted_3 18 rfl rfl)
abbrev cX2_meanDepth : ByteArray := prog_27_method_69_code
def yX2_meanDepth : MethodName := ⟨RX2, "meanDepth", "()D"⟩
def dkwX2_meanDepth_2 : List UInt8 := [180, 0, 32, 3, 46, 135, 111, 175]
abbrev dktX2_meanDepth_2 : List UInt8 := dkwX2_meanDepth_2 ++ []
def dkwX2_meanDepth_1 : List UInt8 := [132, 2, 1, 167, 255, 234, 42, 180, 0, 32, 3, 46, 154, 0, 7, 14, 167, 0, 13, 27, 135, 42]
abbrev dktX2_meanDepth_1 : List UInt8 := dkwX2_meanDepth_1 ++ dktX2_meanDepth_2
def dkwX2_meanDepth_0 : List UInt8 := [3, 60, 3, 61, 28, 42, 180, 0, 32, 3, 46, 162, 0, 18, 27, 42, 28, 4, 182, 0, 73, 96, 60]
abbrev dktX2_meanDepth_0 : List UInt8 := dkwX2_meanDepth_0 ++ dktX2_meanDepth_1
theorem dksX2_meanDepth_0 : cX2_meanDepth.data.toList.drop 0 = dktX2_meanDepth_0 := by decide +kernel
theorem dksX2_meanDepth_1 : cX2_meanDepth.data.toList.drop 23 = dktX2_meanDepth_1 := dk_seg dksX2_meanDepth_0 23 rfl rfl
theorem dksX2_meanDepth_2 : cX2_meanDepth.data.toList.drop 45 = dktX2_meanDepth_2 := dk_seg dksX2_meanDepth_1 22 rfl rfl
theorem dX2_meanDepth_0 : decode cX2_meanDepth 0 = .ok (.iconst 0, 1) := dk_3 (dk_at dksX2_meanDepth_0 0 rfl rfl)
theorem dX2_meanDepth_1 : decode cX2_meanDepth 1 = .ok (.istore_n 1, 1) := dk_60 (dk_at dksX2_meanDepth_0 1 rfl rfl)
theorem dX2_meanDepth_2 : decode cX2_meanDepth 2 = .ok (.iconst 0, 1) := dk_3 (dk_at dksX2_meanDepth_0 2 rfl rfl)
theorem dX2_meanDepth_3 : decode cX2_meanDepth 3 = .ok (.istore_n 2, 1) := dk_61 (dk_at dksX2_meanDepth_0 3 rfl rfl)
theorem dX2_meanDepth_4 : decode cX2_meanDepth 4 = .ok (.iload_n 2, 1) := dk_28 (dk_at dksX2_meanDepth_0 4 rfl rfl)
theorem dX2_meanDepth_5 : decode cX2_meanDepth 5 = .ok (.aload_n 0, 1) := dk_42 (dk_at dksX2_meanDepth_0 5 rfl rfl)
theorem dX2_meanDepth_6 : decode cX2_meanDepth 6 = .ok (.getfield 32, 3) := dk_180 0 32 (dk_at dksX2_meanDepth_0 6 rfl rfl)
theorem dX2_meanDepth_9 : decode cX2_meanDepth 9 = .ok (.iconst 0, 1) := dk_3 (dk_at dksX2_meanDepth_0 9 rfl rfl)
theorem dX2_meanDepth_10 : decode cX2_meanDepth 10 = .ok (.iaload, 1) := dk_46 (dk_at dksX2_meanDepth_0 10 rfl rfl)
theorem dX2_meanDepth_11 : decode cX2_meanDepth 11 = .ok (.if_icmp .ge 18, 3) := dk_162 0 18 (dk_at dksX2_meanDepth_0 11 rfl rfl)
theorem dX2_meanDepth_14 : decode cX2_meanDepth 14 = .ok (.iload_n 1, 1) := dk_27 (dk_at dksX2_meanDepth_0 14 rfl rfl)
theorem dX2_meanDepth_15 : decode cX2_meanDepth 15 = .ok (.aload_n 0, 1) := dk_42 (dk_at dksX2_meanDepth_0 15 rfl rfl)
theorem dX2_meanDepth_16 : decode cX2_meanDepth 16 = .ok (.iload_n 2, 1) := dk_28 (dk_at dksX2_meanDepth_0 16 rfl rfl)
theorem dX2_meanDepth_17 : decode cX2_meanDepth 17 = .ok (.iconst 1, 1) := dk_4 (dk_at dksX2_meanDepth_0 17 rfl rfl)
theorem dX2_meanDepth_18 : decode cX2_meanDepth 18 = .ok (.invokevirtual 73, 3) := dk_182 0 73 (dk_at dksX2_meanDepth_0 18 rfl rfl)
theorem dX2_meanDepth_21 : decode cX2_meanDepth 21 = .ok (.iadd, 1) := dk_96 (dk_at dksX2_meanDepth_0 21 rfl rfl)
theorem dX2_meanDepth_22 : decode cX2_meanDepth 22 = .ok (.istore_n 1, 1) := dk_60 (dk_at dksX2_meanDepth_0 22 rfl rfl)
theorem dX2_meanDepth_23 : decode cX2_meanDepth 23 = .ok (.iinc 2 1, 3) := dk_132 2 1 (dk_at dksX2_meanDepth_1 0 rfl rfl)
theorem dX2_meanDepth_26 : decode cX2_meanDepth 26 = .ok (.goto (-22), 3) := dk_167 255 234 (dk_at dksX2_meanDepth_1 3 rfl rfl)
theorem dX2_meanDepth_29 : decode cX2_meanDepth 29 = .ok (.aload_n 0, 1) := dk_42 (dk_at dksX2_meanDepth_1 6 rfl rfl)
theorem dX2_meanDepth_30 : decode cX2_meanDepth 30 = .ok (.getfield 32, 3) := dk_180 0 32 (dk_at dksX2_meanDepth_1 7 rfl rfl)
theorem dX2_meanDepth_33 : decode cX2_meanDepth 33 = .ok (.iconst 0, 1) := dk_3 (dk_at dksX2_meanDepth_1 10 rfl rfl)
theorem dX2_meanDepth_34 : decode cX2_meanDepth 34 = .ok (.iaload, 1) := dk_46 (dk_at dksX2_meanDepth_1 11 rfl rfl)
theorem dX2_meanDepth_35 : decode cX2_meanDepth 35 = .ok (.ifCond .ne 7, 3) := dk_154 0 7 (dk_at dksX2_meanDepth_1 12 rfl rfl)
theorem dX2_meanDepth_38 : decode cX2_meanDepth 38 = .ok (.dconst 0, 1) := dk_14 (dk_at dksX2_meanDepth_1 15 rfl rfl)
theorem dX2_meanDepth_39 : decode cX2_meanDepth 39 = .ok (.goto 13, 3) := dk_167 0 13 (dk_at dksX2_meanDepth_1 16 rfl rfl)
theorem dX2_meanDepth_42 : decode cX2_meanDepth 42 = .ok (.iload_n 1, 1) := dk_27 (dk_at dksX2_meanDepth_1 19 rfl rfl)
theorem dX2_meanDepth_43 : decode cX2_meanDepth 43 = .ok (.i2d, 1) := dk_135 (dk_at dksX2_meanDepth_1 20 rfl rfl)
theorem dX2_meanDepth_44 : decode cX2_meanDepth 44 = .ok (.aload_n 0, 1) := dk_42 (dk_at dksX2_meanDepth_1 21 rfl rfl)
theorem dX2_meanDepth_45 : decode cX2_meanDepth 45 = .ok (.getfield 32, 3) := dk_180 0 32 (dk_at dksX2_meanDepth_2 0 rfl rfl)
theorem dX2_meanDepth_48 : decode cX2_meanDepth 48 = .ok (.iconst 0, 1) := dk_3 (dk_at dksX2_meanDepth_2 3 rfl rfl)
theorem dX2_meanDepth_49 : decode cX2_meanDepth 49 = .ok (.iaload, 1) := dk_46 (dk_at dksX2_meanDepth_2 4 rfl rfl)
theorem dX2_meanDepth_50 : decode cX2_meanDepth 50 = .ok (.i2d, 1) := dk_135 (dk_at dksX2_meanDepth_2 5 rfl rfl)
theorem dX2_meanDepth_51 : decode cX2_meanDepth 51 = .ok (.ddiv, 1) := dk_111 (dk_at dksX2_meanDepth_2 6 rfl rfl)
theorem dX2_meanDepth_52 : decode cX2_meanDepth 52 = .ok (.dreturn, 1) := dk_175 (dk_at dksX2_meanDepth_2 7 rfl rfl)
abbrev cX2_knownShare : ByteArray := prog_27_method_70_code
def yX2_knownShare : MethodName := ⟨RX2, "knownShare", "()F"⟩
def dkwX2_knownShare_1 : List UInt8 := [96, 60, 132, 2, 1, 167, 255, 231, 27, 134, 18, 214, 110, 174]
abbrev dktX2_knownShare_1 : List UInt8 := dkwX2_knownShare_1 ++ []
def dkwX2_knownShare_0 : List UInt8 := [3, 60, 3, 61, 28, 16, 64, 162, 0, 25, 27, 42, 28, 182, 0, 85, 153, 0, 7, 4, 167, 0, 4, 3]
abbrev dktX2_knownShare_0 : List UInt8 := dkwX2_knownShare_0 ++ dktX2_knownShare_1
theorem dksX2_knownShare_0 : cX2_knownShare.data.toList.drop 0 = dktX2_knownShare_0 := by decide +kernel
theorem dksX2_knownShare_1 : cX2_knownShare.data.toList.drop 24 = dktX2_knownShare_1 := dk_seg dksX2_knownShare_0 24 rfl rfl
theorem dX2_knownShare_0 : decode cX2_knownShare 0 = .ok (.iconst 0, 1) := dk_3 (dk_at dksX2_knownShare_0 0 rfl rfl)
theorem dX2_knownShare_1 : decode cX2_knownShare 1 = .ok (.istore_n 1, 1) := dk_60 (dk_at dksX2_knownShare_0 1 rfl rfl)
theorem dX2_knownShare_2 : decode cX2_knownShare 2 = .ok (.iconst 0, 1) := dk_3 (dk_at dksX2_knownShare_0 2 rfl rfl)
theorem dX2_knownShare_3 : decode cX2_knownShare 3 = .ok (.istore_n 2, 1) := dk_61 (dk_at dksX2_knownShare_0 3 rfl rfl)
theorem dX2_knownShare_4 : decode cX2_knownShare 4 = .ok (.iload_n 2, 1) := dk_28 (dk_at dksX2_knownShare_0 4 rfl rfl)
theorem dX2_knownShare_5 : decode cX2_knownShare 5 = .ok (.bipush 64, 2) := dk_16 64 (dk_at dksX2_knownShare_0 5 rfl rfl)
theorem dX2_knownShare_7 : decode cX2_knownShare 7 = .ok (.if_icmp .ge 25, 3) := dk_162 0 25 (dk_at dksX2_knownShare_0 7 rfl rfl)
theorem dX2_knownShare_10 : decode cX2_knownShare 10 = .ok (.iload_n 1, 1) := dk_27 (dk_at dksX2_knownShare_0 10 rfl rfl)
theorem dX2_knownShare_11 : decode cX2_knownShare 11 = .ok (.aload_n 0, 1) := dk_42 (dk_at dksX2_knownShare_0 11 rfl rfl)
theorem dX2_knownShare_12 : decode cX2_knownShare 12 = .ok (.iload_n 2, 1) := dk_28 (dk_at dksX2_knownShare_0 12 rfl rfl)
theorem dX2_knownShare_13 : decode cX2_knownShare 13 = .ok (.invokevirtual 85, 3) := dk_182 0 85 (dk_at dksX2_knownShare_0 13 rfl rfl)
theorem dX2_knownShare_16 : decode cX2_knownShare 16 = .ok (.ifCond .eq 7, 3) := dk_153 0 7 (dk_at dksX2_knownShare_0 16 rfl rfl)
theorem dX2_knownShare_19 : decode cX2_knownShare 19 = .ok (.iconst 1, 1) := dk_4 (dk_at dksX2_knownShare_0 19 rfl rfl)
theorem dX2_knownShare_20 : decode cX2_knownShare 20 = .ok (.goto 4, 3) := dk_167 0 4 (dk_at dksX2_knownShare_0 20 rfl rfl)
theorem dX2_knownShare_23 : decode cX2_knownShare 23 = .ok (.iconst 0, 1) := dk_3 (dk_at dksX2_knownShare_0 23 rfl rfl)
theorem dX2_knownShare_24 : decode cX2_knownShare 24 = .ok (.iadd, 1) := dk_96 (dk_at dksX2_knownShare_1 0 rfl rfl)
theorem dX2_knownShare_25 : decode cX2_knownShare 25 = .ok (.istore_n 1, 1) := dk_60 (dk_at dksX2_knownShare_1 1 rfl rfl)
theorem dX2_knownShare_26 : decode cX2_knownShare 26 = .ok (.iinc 2 1, 3) := dk_132 2 1 (dk_at dksX2_knownShare_1 2 rfl rfl)
theorem dX2_knownShare_29 : decode cX2_knownShare 29 = .ok (.goto (-25), 3) := dk_167 255 231 (dk_at dksX2_knownShare_1 5 rfl rfl)
theorem dX2_knownShare_32 : decode cX2_knownShare 32 = .ok (.iload_n 1, 1) := dk_27 (dk_at dksX2_knownShare_1 8 rfl rfl)
theorem dX2_knownShare_33 : decode cX2_knownShare 33 = .ok (.i2f, 1) := dk_134 (dk_at dksX2_knownShare_1 9 rfl rfl)
theorem dX2_knownShare_34 : decode cX2_knownShare 34 = .ok (.ldc 214, 2) := dk_18 214 (dk_at dksX2_knownShare_1 10 rfl rfl)
theorem dX2_knownShare_36 : decode cX2_knownShare 36 = .ok (.fdiv, 1) := dk_110 (dk_at dksX2_knownShare_1 12 rfl rfl)
theorem dX2_knownShare_37 : decode cX2_knownShare 37 = .ok (.freturn, 1) := dk_174 (dk_at dksX2_knownShare_1 13 rfl rfl)
abbrev cX2_account : ByteArray := prog_27_method_72_code
def yX2_account : MethodName := ⟨RX2, "account", "(I)I"⟩
def dkwX2_account_6 : List UInt8 := [180, 0, 61, 172, 16, 254, 172]
abbrev dktX2_account_6 : List UInt8 := dkwX2_account_6 ++ []
def dkwX2_account_5 : List UInt8 := [16, 9, 46, 172, 42, 180, 0, 32, 16, 10, 46, 172, 42, 182, 0, 215, 172, 42, 180, 0, 218, 172, 42]
abbrev dktX2_account_5 : List UInt8 := dkwX2_account_5 ++ dktX2_account_6
def dkwX2_account_4 : List UInt8 := [16, 6, 46, 172, 42, 180, 0, 32, 16, 7, 46, 172, 42, 180, 0, 32, 16, 8, 46, 172, 42, 180, 0, 32]
abbrev dktX2_account_4 : List UInt8 := dkwX2_account_4 ++ dktX2_account_5
def dkwX2_account_3 : List UInt8 := [180, 0, 32, 6, 46, 172, 42, 180, 0, 32, 7, 46, 172, 42, 180, 0, 32, 8, 46, 172, 42, 180, 0, 32]
abbrev dktX2_account_3 : List UInt8 := dkwX2_account_3 ++ dktX2_account_4
def dkwX2_account_2 : List UInt8 := [42, 180, 0, 32, 3, 46, 172, 42, 180, 0, 32, 4, 46, 172, 42, 180, 0, 32, 5, 46, 172, 42]
abbrev dktX2_account_2 : List UInt8 := dkwX2_account_2 ++ dktX2_account_3
def dkwX2_account_1 : List UInt8 := [170, 0, 0, 0, 0, 0, 168, 0, 0, 0, 0, 0, 0, 0, 13, 0, 0, 0, 71, 0, 0, 0, 78, 0, 0, 0, 85, 0, 0, 0, 92, 0, 0, 0, 99, 0, 0, 0, 106, 0, 0, 0, 113, 0, 0, 0, 121, 0, 0, 0, 129, 0, 0, 0, 137, 0, 0, 0, 145, 0, 0, 0, 153, 0, 0, 0, 158, 0, 0, 0, 163]
abbrev dktX2_account_1 : List UInt8 := dkwX2_account_1 ++ dktX2_account_2
def dkwX2_account_0 : List UInt8 := [27]
abbrev dktX2_account_0 : List UInt8 := dkwX2_account_0 ++ dktX2_account_1
theorem dksX2_account_0 : cX2_account.data.toList.drop 0 = dktX2_account_0 := by decide +kernel
theorem dksX2_account_1 : cX2_account.data.toList.drop 1 = dktX2_account_1 := dk_seg dksX2_account_0 1 rfl rfl
theorem dksX2_account_2 : cX2_account.data.toList.drop 72 = dktX2_account_2 := dk_seg dksX2_account_1 71 rfl rfl
theorem dksX2_account_3 : cX2_account.data.toList.drop 94 = dktX2_account_3 := dk_seg dksX2_account_2 22 rfl rfl
theorem dksX2_account_4 : cX2_account.data.toList.drop 118 = dktX2_account_4 := dk_seg dksX2_account_3 24 rfl rfl
theorem dksX2_account_5 : cX2_account.data.toList.drop 142 = dktX2_account_5 := dk_seg dksX2_account_4 24 rfl rfl
theorem dksX2_account_6 : cX2_account.data.toList.drop 165 = dktX2_account_6 := dk_seg dksX2_account_5 23 rfl rfl
theorem dX2_account_0 : decode cX2_account 0 = .ok (.iload_n 1, 1) := dk_27 (dk_at dksX2_account_0 0 rfl rfl)
theorem dX2_account_1 : decode cX2_account 1 = .ok (.tableswitch 168 0 13 #[71, 78, 85, 92, 99, 106, 113, 121, 129, 137, 145, 153, 158, 163], 71) := by decide +kernel
theorem dX2_account_72 : decode cX2_account 72 = .ok (.aload_n 0, 1) := dk_42 (dk_at dksX2_account_2 0 rfl rfl)
theorem dX2_account_73 : decode cX2_account 73 = .ok (.getfield 32, 3) := dk_180 0 32 (dk_at dksX2_account_2 1 rfl rfl)
theorem dX2_account_76 : decode cX2_account 76 = .ok (.iconst 0, 1) := dk_3 (dk_at dksX2_account_2 4 rfl rfl)
theorem dX2_account_77 : decode cX2_account 77 = .ok (.iaload, 1) := dk_46 (dk_at dksX2_account_2 5 rfl rfl)
theorem dX2_account_78 : decode cX2_account 78 = .ok (.ireturn, 1) := dk_172 (dk_at dksX2_account_2 6 rfl rfl)
theorem dX2_account_79 : decode cX2_account 79 = .ok (.aload_n 0, 1) := dk_42 (dk_at dksX2_account_2 7 rfl rfl)
theorem dX2_account_80 : decode cX2_account 80 = .ok (.getfield 32, 3) := dk_180 0 32 (dk_at dksX2_account_2 8 rfl rfl)
theorem dX2_account_83 : decode cX2_account 83 = .ok (.iconst 1, 1) := dk_4 (dk_at dksX2_account_2 11 rfl rfl)
theorem dX2_account_84 : decode cX2_account 84 = .ok (.iaload, 1) := dk_46 (dk_at dksX2_account_2 12 rfl rfl)
theorem dX2_account_85 : decode cX2_account 85 = .ok (.ireturn, 1) := dk_172 (dk_at dksX2_account_2 13 rfl rfl)
theorem dX2_account_86 : decode cX2_account 86 = .ok (.aload_n 0, 1) := dk_42 (dk_at dksX2_account_2 14 rfl rfl)
theorem dX2_account_87 : decode cX2_account 87 = .ok (.getfield 32, 3) := dk_180 0 32 (dk_at dksX2_account_2 15 rfl rfl)
theorem dX2_account_90 : decode cX2_account 90 = .ok (.iconst 2, 1) := dk_5 (dk_at dksX2_account_2 18 rfl rfl)
theorem dX2_account_91 : decode cX2_account 91 = .ok (.iaload, 1) := dk_46 (dk_at dksX2_account_2 19 rfl rfl)
theorem dX2_account_92 : decode cX2_account 92 = .ok (.ireturn, 1) := dk_172 (dk_at dksX2_account_2 20 rfl rfl)
theorem dX2_account_93 : decode cX2_account 93 = .ok (.aload_n 0, 1) := dk_42 (dk_at dksX2_account_2 21 rfl rfl)
theorem dX2_account_94 : decode cX2_account 94 = .ok (.getfield 32, 3) := dk_180 0 32 (dk_at dksX2_account_3 0 rfl rfl)
theorem dX2_account_97 : decode cX2_account 97 = .ok (.iconst 3, 1) := dk_6 (dk_at dksX2_account_3 3 rfl rfl)
theorem dX2_account_98 : decode cX2_account 98 = .ok (.iaload, 1) := dk_46 (dk_at dksX2_account_3 4 rfl rfl)
theorem dX2_account_99 : decode cX2_account 99 = .ok (.ireturn, 1) := dk_172 (dk_at dksX2_account_3 5 rfl rfl)
theorem dX2_account_100 : decode cX2_account 100 = .ok (.aload_n 0, 1) := dk_42 (dk_at dksX2_account_3 6 rfl rfl)
theorem dX2_account_101 : decode cX2_account 101 = .ok (.getfield 32, 3) := dk_180 0 32 (dk_at dksX2_account_3 7 rfl rfl)
theorem dX2_account_104 : decode cX2_account 104 = .ok (.iconst 4, 1) := dk_7 (dk_at dksX2_account_3 10 rfl rfl)
theorem dX2_account_105 : decode cX2_account 105 = .ok (.iaload, 1) := dk_46 (dk_at dksX2_account_3 11 rfl rfl)
theorem dX2_account_106 : decode cX2_account 106 = .ok (.ireturn, 1) := dk_172 (dk_at dksX2_account_3 12 rfl rfl)
theorem dX2_account_107 : decode cX2_account 107 = .ok (.aload_n 0, 1) := dk_42 (dk_at dksX2_account_3 13 rfl rfl)
theorem dX2_account_108 : decode cX2_account 108 = .ok (.getfield 32, 3) := dk_180 0 32 (dk_at dksX2_account_3 14 rfl rfl)
theorem dX2_account_111 : decode cX2_account 111 = .ok (.iconst 5, 1) := dk_8 (dk_at dksX2_account_3 17 rfl rfl)
theorem dX2_account_112 : decode cX2_account 112 = .ok (.iaload, 1) := dk_46 (dk_at dksX2_account_3 18 rfl rfl)
theorem dX2_account_113 : decode cX2_account 113 = .ok (.ireturn, 1) := dk_172 (dk_at dksX2_account_3 19 rfl rfl)
theorem dX2_account_114 : decode cX2_account 114 = .ok (.aload_n 0, 1) := dk_42 (dk_at dksX2_account_3 20 rfl rfl)
theorem dX2_account_115 : decode cX2_account 115 = .ok (.getfield 32, 3) := dk_180 0 32 (dk_at dksX2_account_3 21 rfl rfl)
theorem dX2_account_118 : decode cX2_account 118 = .ok (.bipush 6, 2) := dk_16 6 (dk_at dksX2_account_4 0 rfl rfl)
theorem dX2_account_120 : decode cX2_account 120 = .ok (.iaload, 1) := dk_46 (dk_at dksX2_account_4 2 rfl rfl)
theorem dX2_account_121 : decode cX2_account 121 = .ok (.ireturn, 1) := dk_172 (dk_at dksX2_account_4 3 rfl rfl)
theorem dX2_account_122 : decode cX2_account 122 = .ok (.aload_n 0, 1) := dk_42 (dk_at dksX2_account_4 4 rfl rfl)
theorem dX2_account_123 : decode cX2_account 123 = .ok (.getfield 32, 3) := dk_180 0 32 (dk_at dksX2_account_4 5 rfl rfl)
theorem dX2_account_126 : decode cX2_account 126 = .ok (.bipush 7, 2) := dk_16 7 (dk_at dksX2_account_4 8 rfl rfl)
theorem dX2_account_128 : decode cX2_account 128 = .ok (.iaload, 1) := dk_46 (dk_at dksX2_account_4 10 rfl rfl)
theorem dX2_account_129 : decode cX2_account 129 = .ok (.ireturn, 1) := dk_172 (dk_at dksX2_account_4 11 rfl rfl)
theorem dX2_account_130 : decode cX2_account 130 = .ok (.aload_n 0, 1) := dk_42 (dk_at dksX2_account_4 12 rfl rfl)
theorem dX2_account_131 : decode cX2_account 131 = .ok (.getfield 32, 3) := dk_180 0 32 (dk_at dksX2_account_4 13 rfl rfl)
theorem dX2_account_134 : decode cX2_account 134 = .ok (.bipush 8, 2) := dk_16 8 (dk_at dksX2_account_4 16 rfl rfl)
theorem dX2_account_136 : decode cX2_account 136 = .ok (.iaload, 1) := dk_46 (dk_at dksX2_account_4 18 rfl rfl)
theorem dX2_account_137 : decode cX2_account 137 = .ok (.ireturn, 1) := dk_172 (dk_at dksX2_account_4 19 rfl rfl)
theorem dX2_account_138 : decode cX2_account 138 = .ok (.aload_n 0, 1) := dk_42 (dk_at dksX2_account_4 20 rfl rfl)
theorem dX2_account_139 : decode cX2_account 139 = .ok (.getfield 32, 3) := dk_180 0 32 (dk_at dksX2_account_4 21 rfl rfl)
theorem dX2_account_142 : decode cX2_account 142 = .ok (.bipush 9, 2) := dk_16 9 (dk_at dksX2_account_5 0 rfl rfl)
theorem dX2_account_144 : decode cX2_account 144 = .ok (.iaload, 1) := dk_46 (dk_at dksX2_account_5 2 rfl rfl)
theorem dX2_account_145 : decode cX2_account 145 = .ok (.ireturn, 1) := dk_172 (dk_at dksX2_account_5 3 rfl rfl)
theorem dX2_account_146 : decode cX2_account 146 = .ok (.aload_n 0, 1) := dk_42 (dk_at dksX2_account_5 4 rfl rfl)
theorem dX2_account_147 : decode cX2_account 147 = .ok (.getfield 32, 3) := dk_180 0 32 (dk_at dksX2_account_5 5 rfl rfl)
theorem dX2_account_150 : decode cX2_account 150 = .ok (.bipush 10, 2) := dk_16 10 (dk_at dksX2_account_5 8 rfl rfl)
theorem dX2_account_152 : decode cX2_account 152 = .ok (.iaload, 1) := dk_46 (dk_at dksX2_account_5 10 rfl rfl)
theorem dX2_account_153 : decode cX2_account 153 = .ok (.ireturn, 1) := dk_172 (dk_at dksX2_account_5 11 rfl rfl)
theorem dX2_account_154 : decode cX2_account 154 = .ok (.aload_n 0, 1) := dk_42 (dk_at dksX2_account_5 12 rfl rfl)
theorem dX2_account_155 : decode cX2_account 155 = .ok (.invokevirtual 215, 3) := dk_182 0 215 (dk_at dksX2_account_5 13 rfl rfl)
theorem dX2_account_158 : decode cX2_account 158 = .ok (.ireturn, 1) := dk_172 (dk_at dksX2_account_5 16 rfl rfl)
theorem dX2_account_159 : decode cX2_account 159 = .ok (.aload_n 0, 1) := dk_42 (dk_at dksX2_account_5 17 rfl rfl)
theorem dX2_account_160 : decode cX2_account 160 = .ok (.getfield 218, 3) := dk_180 0 218 (dk_at dksX2_account_5 18 rfl rfl)
theorem dX2_account_163 : decode cX2_account 163 = .ok (.ireturn, 1) := dk_172 (dk_at dksX2_account_5 21 rfl rfl)
theorem dX2_account_164 : decode cX2_account 164 = .ok (.aload_n 0, 1) := dk_42 (dk_at dksX2_account_5 22 rfl rfl)
theorem dX2_account_165 : decode cX2_account 165 = .ok (.getfield 61, 3) := dk_180 0 61 (dk_at dksX2_account_6 0 rfl rfl)
theorem dX2_account_168 : decode cX2_account 168 = .ok (.ireturn, 1) := dk_172 (dk_at dksX2_account_6 3 rfl rfl)
theorem dX2_account_169 : decode cX2_account 169 = .ok (.bipush (-2), 2) := dk_16 254 (dk_at dksX2_account_6 4 rfl rfl)
theorem dX2_account_171 : decode cX2_account 171 = .ok (.ireturn, 1) := dk_172 (dk_at dksX2_account_6 6 rfl rfl)
abbrev cX2_primed : ByteArray := prog_27_method_71_code
def yX2_primed : MethodName := ⟨RX2, "primed", "()I"⟩
def dkwX2_primed_1 : List UInt8 := [132, 2, 1, 167, 255, 234, 27, 172]
abbrev dktX2_primed_1 : List UInt8 := dkwX2_primed_1 ++ []
def dkwX2_primed_0 : List UInt8 := [3, 60, 3, 61, 28, 42, 180, 0, 32, 3, 46, 162, 0, 18, 27, 42, 28, 7, 182, 0, 73, 96, 60]
abbrev dktX2_primed_0 : List UInt8 := dkwX2_primed_0 ++ dktX2_primed_1
theorem dksX2_primed_0 : cX2_primed.data.toList.drop 0 = dktX2_primed_0 := by decide +kernel
theorem dksX2_primed_1 : cX2_primed.data.toList.drop 23 = dktX2_primed_1 := dk_seg dksX2_primed_0 23 rfl rfl
theorem dX2_primed_0 : decode cX2_primed 0 = .ok (.iconst 0, 1) := dk_3 (dk_at dksX2_primed_0 0 rfl rfl)
theorem dX2_primed_1 : decode cX2_primed 1 = .ok (.istore_n 1, 1) := dk_60 (dk_at dksX2_primed_0 1 rfl rfl)
theorem dX2_primed_2 : decode cX2_primed 2 = .ok (.iconst 0, 1) := dk_3 (dk_at dksX2_primed_0 2 rfl rfl)
theorem dX2_primed_3 : decode cX2_primed 3 = .ok (.istore_n 2, 1) := dk_61 (dk_at dksX2_primed_0 3 rfl rfl)
theorem dX2_primed_4 : decode cX2_primed 4 = .ok (.iload_n 2, 1) := dk_28 (dk_at dksX2_primed_0 4 rfl rfl)
theorem dX2_primed_5 : decode cX2_primed 5 = .ok (.aload_n 0, 1) := dk_42 (dk_at dksX2_primed_0 5 rfl rfl)
theorem dX2_primed_6 : decode cX2_primed 6 = .ok (.getfield 32, 3) := dk_180 0 32 (dk_at dksX2_primed_0 6 rfl rfl)
theorem dX2_primed_9 : decode cX2_primed 9 = .ok (.iconst 0, 1) := dk_3 (dk_at dksX2_primed_0 9 rfl rfl)
theorem dX2_primed_10 : decode cX2_primed 10 = .ok (.iaload, 1) := dk_46 (dk_at dksX2_primed_0 10 rfl rfl)
theorem dX2_primed_11 : decode cX2_primed 11 = .ok (.if_icmp .ge 18, 3) := dk_162 0 18 (dk_at dksX2_primed_0 11 rfl rfl)
theorem dX2_primed_14 : decode cX2_primed 14 = .ok (.iload_n 1, 1) := dk_27 (dk_at dksX2_primed_0 14 rfl rfl)
theorem dX2_primed_15 : decode cX2_primed 15 = .ok (.aload_n 0, 1) := dk_42 (dk_at dksX2_primed_0 15 rfl rfl)
theorem dX2_primed_16 : decode cX2_primed 16 = .ok (.iload_n 2, 1) := dk_28 (dk_at dksX2_primed_0 16 rfl rfl)
theorem dX2_primed_17 : decode cX2_primed 17 = .ok (.iconst 4, 1) := dk_7 (dk_at dksX2_primed_0 17 rfl rfl)
theorem dX2_primed_18 : decode cX2_primed 18 = .ok (.invokevirtual 73, 3) := dk_182 0 73 (dk_at dksX2_primed_0 18 rfl rfl)
theorem dX2_primed_21 : decode cX2_primed 21 = .ok (.iadd, 1) := dk_96 (dk_at dksX2_primed_0 21 rfl rfl)
theorem dX2_primed_22 : decode cX2_primed 22 = .ok (.istore_n 1, 1) := dk_60 (dk_at dksX2_primed_0 22 rfl rfl)
theorem dX2_primed_23 : decode cX2_primed 23 = .ok (.iinc 2 1, 3) := dk_132 2 1 (dk_at dksX2_primed_1 0 rfl rfl)
theorem dX2_primed_26 : decode cX2_primed 26 = .ok (.goto (-22), 3) := dk_167 255 234 (dk_at dksX2_primed_1 3 rfl rfl)
theorem dX2_primed_29 : decode cX2_primed 29 = .ok (.iload_n 1, 1) := dk_27 (dk_at dksX2_primed_1 6 rfl rfl)
theorem dX2_primed_30 : decode cX2_primed 30 = .ok (.ireturn, 1) := dk_172 (dk_at dksX2_primed_1 7 rfl rfl)
abbrev cX2_write : ByteArray := prog_27_method_76_code
def yX2_write : MethodName := ⟨RX2, "write", "(I)I"⟩
def dkwX2_write_3 : List UInt8 := [42, 180, 0, 221, 172]
abbrev dktX2_write_3 : List UInt8 := dkwX2_write_3 ++ []
def dkwX2_write_2 : List UInt8 := [42, 27, 182, 0, 97, 162, 0, 19, 42, 42, 27, 28, 182, 0, 172, 182, 0, 230, 132, 2, 1, 167, 255, 234]
abbrev dktX2_write_2 : List UInt8 := dkwX2_write_2 ++ dktX2_write_3
def dkwX2_write_1 : List UInt8 := [16, 117, 182, 0, 224, 42, 16, 48, 42, 180, 0, 32, 16, 14, 27, 96, 46, 96, 182, 0, 224, 3, 61, 28]
abbrev dktX2_write_1 : List UInt8 := dkwX2_write_1 ++ dktX2_write_2
def dkwX2_write_0 : List UInt8 := [27, 184, 0, 81, 154, 0, 5, 2, 172, 42, 3, 181, 0, 221, 42, 16, 48, 27, 96, 182, 0, 224, 42]
abbrev dktX2_write_0 : List UInt8 := dkwX2_write_0 ++ dktX2_write_1
theorem dksX2_write_0 : cX2_write.data.toList.drop 0 = dktX2_write_0 := by decide +kernel
theorem dksX2_write_1 : cX2_write.data.toList.drop 23 = dktX2_write_1 := dk_seg dksX2_write_0 23 rfl rfl
theorem dksX2_write_2 : cX2_write.data.toList.drop 47 = dktX2_write_2 := dk_seg dksX2_write_1 24 rfl rfl
theorem dksX2_write_3 : cX2_write.data.toList.drop 71 = dktX2_write_3 := dk_seg dksX2_write_2 24 rfl rfl
theorem dX2_write_0 : decode cX2_write 0 = .ok (.iload_n 1, 1) := dk_27 (dk_at dksX2_write_0 0 rfl rfl)
theorem dX2_write_1 : decode cX2_write 1 = .ok (.invokestatic 81, 3) := dk_184 0 81 (dk_at dksX2_write_0 1 rfl rfl)
theorem dX2_write_4 : decode cX2_write 4 = .ok (.ifCond .ne 5, 3) := dk_154 0 5 (dk_at dksX2_write_0 4 rfl rfl)
theorem dX2_write_7 : decode cX2_write 7 = .ok (.iconst (-1), 1) := dk_2 (dk_at dksX2_write_0 7 rfl rfl)
theorem dX2_write_8 : decode cX2_write 8 = .ok (.ireturn, 1) := dk_172 (dk_at dksX2_write_0 8 rfl rfl)
theorem dX2_write_9 : decode cX2_write 9 = .ok (.aload_n 0, 1) := dk_42 (dk_at dksX2_write_0 9 rfl rfl)
theorem dX2_write_10 : decode cX2_write 10 = .ok (.iconst 0, 1) := dk_3 (dk_at dksX2_write_0 10 rfl rfl)
theorem dX2_write_11 : decode cX2_write 11 = .ok (.putfield 221, 3) := dk_181 0 221 (dk_at dksX2_write_0 11 rfl rfl)
theorem dX2_write_14 : decode cX2_write 14 = .ok (.aload_n 0, 1) := dk_42 (dk_at dksX2_write_0 14 rfl rfl)
theorem dX2_write_15 : decode cX2_write 15 = .ok (.bipush 48, 2) := dk_16 48 (dk_at dksX2_write_0 15 rfl rfl)
theorem dX2_write_17 : decode cX2_write 17 = .ok (.iload_n 1, 1) := dk_27 (dk_at dksX2_write_0 17 rfl rfl)
theorem dX2_write_18 : decode cX2_write 18 = .ok (.iadd, 1) := dk_96 (dk_at dksX2_write_0 18 rfl rfl)
theorem dX2_write_19 : decode cX2_write 19 = .ok (.invokevirtual 224, 3) := dk_182 0 224 (dk_at dksX2_write_0 19 rfl rfl)
theorem dX2_write_22 : decode cX2_write 22 = .ok (.aload_n 0, 1) := dk_42 (dk_at dksX2_write_0 22 rfl rfl)
theorem dX2_write_23 : decode cX2_write 23 = .ok (.bipush 117, 2) := dk_16 117 (dk_at dksX2_write_1 0 rfl rfl)
theorem dX2_write_25 : decode cX2_write 25 = .ok (.invokevirtual 224, 3) := dk_182 0 224 (dk_at dksX2_write_1 2 rfl rfl)
theorem dX2_write_28 : decode cX2_write 28 = .ok (.aload_n 0, 1) := dk_42 (dk_at dksX2_write_1 5 rfl rfl)
theorem dX2_write_29 : decode cX2_write 29 = .ok (.bipush 48, 2) := dk_16 48 (dk_at dksX2_write_1 6 rfl rfl)
theorem dX2_write_31 : decode cX2_write 31 = .ok (.aload_n 0, 1) := dk_42 (dk_at dksX2_write_1 8 rfl rfl)
theorem dX2_write_32 : decode cX2_write 32 = .ok (.getfield 32, 3) := dk_180 0 32 (dk_at dksX2_write_1 9 rfl rfl)
theorem dX2_write_35 : decode cX2_write 35 = .ok (.bipush 14, 2) := dk_16 14 (dk_at dksX2_write_1 12 rfl rfl)
theorem dX2_write_37 : decode cX2_write 37 = .ok (.iload_n 1, 1) := dk_27 (dk_at dksX2_write_1 14 rfl rfl)
theorem dX2_write_38 : decode cX2_write 38 = .ok (.iadd, 1) := dk_96 (dk_at dksX2_write_1 15 rfl rfl)
theorem dX2_write_39 : decode cX2_write 39 = .ok (.iaload, 1) := dk_46 (dk_at dksX2_write_1 16 rfl rfl)
theorem dX2_write_40 : decode cX2_write 40 = .ok (.iadd, 1) := dk_96 (dk_at dksX2_write_1 17 rfl rfl)
theorem dX2_write_41 : decode cX2_write 41 = .ok (.invokevirtual 224, 3) := dk_182 0 224 (dk_at dksX2_write_1 18 rfl rfl)
theorem dX2_write_44 : decode cX2_write 44 = .ok (.iconst 0, 1) := dk_3 (dk_at dksX2_write_1 21 rfl rfl)
theorem dX2_write_45 : decode cX2_write 45 = .ok (.istore_n 2, 1) := dk_61 (dk_at dksX2_write_1 22 rfl rfl)
theorem dX2_write_46 : decode cX2_write 46 = .ok (.iload_n 2, 1) := dk_28 (dk_at dksX2_write_1 23 rfl rfl)
theorem dX2_write_47 : decode cX2_write 47 = .ok (.aload_n 0, 1) := dk_42 (dk_at dksX2_write_2 0 rfl rfl)
theorem dX2_write_48 : decode cX2_write 48 = .ok (.iload_n 1, 1) := dk_27 (dk_at dksX2_write_2 1 rfl rfl)
theorem dX2_write_49 : decode cX2_write 49 = .ok (.invokevirtual 97, 3) := dk_182 0 97 (dk_at dksX2_write_2 2 rfl rfl)
theorem dX2_write_52 : decode cX2_write 52 = .ok (.if_icmp .ge 19, 3) := dk_162 0 19 (dk_at dksX2_write_2 5 rfl rfl)
theorem dX2_write_55 : decode cX2_write 55 = .ok (.aload_n 0, 1) := dk_42 (dk_at dksX2_write_2 8 rfl rfl)
theorem dX2_write_56 : decode cX2_write 56 = .ok (.aload_n 0, 1) := dk_42 (dk_at dksX2_write_2 9 rfl rfl)
theorem dX2_write_57 : decode cX2_write 57 = .ok (.iload_n 1, 1) := dk_27 (dk_at dksX2_write_2 10 rfl rfl)
theorem dX2_write_58 : decode cX2_write 58 = .ok (.iload_n 2, 1) := dk_28 (dk_at dksX2_write_2 11 rfl rfl)
theorem dX2_write_59 : decode cX2_write 59 = .ok (.invokevirtual 172, 3) := dk_182 0 172 (dk_at dksX2_write_2 12 rfl rfl)
theorem dX2_write_62 : decode cX2_write 62 = .ok (.invokevirtual 230, 3) := dk_182 0 230 (dk_at dksX2_write_2 15 rfl rfl)
theorem dX2_write_65 : decode cX2_write 65 = .ok (.iinc 2 1, 3) := dk_132 2 1 (dk_at dksX2_write_2 18 rfl rfl)
theorem dX2_write_68 : decode cX2_write 68 = .ok (.goto (-22), 3) := dk_167 255 234 (dk_at dksX2_write_2 21 rfl rfl)
theorem dX2_write_71 : decode cX2_write 71 = .ok (.aload_n 0, 1) := dk_42 (dk_at dksX2_write_3 0 rfl rfl)
theorem dX2_write_72 : decode cX2_write 72 = .ok (.getfield 221, 3) := dk_180 0 221 (dk_at dksX2_write_3 1 rfl rfl)
theorem dX2_write_75 : decode cX2_write 75 = .ok (.ireturn, 1) := dk_172 (dk_at dksX2_write_3 4 rfl rfl)
abbrev cX2_writes : ByteArray := prog_27_method_73_code
def yX2_writes : MethodName := ⟨RX2, "writes", "(I)V"⟩
def dkwX2_writes_0 : List UInt8 := [42, 180, 0, 48, 42, 180, 0, 221, 27, 146, 85, 42, 89, 180, 0, 221, 4, 96, 181, 0, 221, 177]
abbrev dktX2_writes_0 : List UInt8 := dkwX2_writes_0 ++ []
theorem dksX2_writes_0 : cX2_writes.data.toList.drop 0 = dktX2_writes_0 := by decide +kernel
theorem dX2_writes_0 : decode cX2_writes 0 = .ok (.aload_n 0, 1) := dk_42 (dk_at dksX2_writes_0 0 rfl rfl)
theorem dX2_writes_1 : decode cX2_writes 1 = .ok (.getfield 48, 3) := dk_180 0 48 (dk_at dksX2_writes_0 1 rfl rfl)
theorem dX2_writes_4 : decode cX2_writes 4 = .ok (.aload_n 0, 1) := dk_42 (dk_at dksX2_writes_0 4 rfl rfl)
theorem dX2_writes_5 : decode cX2_writes 5 = .ok (.getfield 221, 3) := dk_180 0 221 (dk_at dksX2_writes_0 5 rfl rfl)
theorem dX2_writes_8 : decode cX2_writes 8 = .ok (.iload_n 1, 1) := dk_27 (dk_at dksX2_writes_0 8 rfl rfl)
theorem dX2_writes_9 : decode cX2_writes 9 = .ok (.i2c, 1) := dk_146 (dk_at dksX2_writes_0 9 rfl rfl)
theorem dX2_writes_10 : decode cX2_writes 10 = .ok (.castore, 1) := dk_85 (dk_at dksX2_writes_0 10 rfl rfl)
theorem dX2_writes_11 : decode cX2_writes 11 = .ok (.aload_n 0, 1) := dk_42 (dk_at dksX2_writes_0 11 rfl rfl)
theorem dX2_writes_12 : decode cX2_writes 12 = .ok (.dup, 1) := dk_89 (dk_at dksX2_writes_0 12 rfl rfl)
theorem dX2_writes_13 : decode cX2_writes 13 = .ok (.getfield 221, 3) := dk_180 0 221 (dk_at dksX2_writes_0 13 rfl rfl)
theorem dX2_writes_16 : decode cX2_writes 16 = .ok (.iconst 1, 1) := dk_4 (dk_at dksX2_writes_0 16 rfl rfl)
theorem dX2_writes_17 : decode cX2_writes 17 = .ok (.iadd, 1) := dk_96 (dk_at dksX2_writes_0 17 rfl rfl)
theorem dX2_writes_18 : decode cX2_writes 18 = .ok (.putfield 221, 3) := dk_181 0 221 (dk_at dksX2_writes_0 18 rfl rfl)
theorem dX2_writes_21 : decode cX2_writes 21 = .ok (.return_, 1) := dk_177 (dk_at dksX2_writes_0 21 rfl rfl)
abbrev cX2_writesJoke : ByteArray := prog_27_method_75_code
def yX2_writesJoke : MethodName := ⟨RX2, "writesJoke", "(I)V"⟩
def dkwX2_writesJoke_2 : List UInt8 := [177]
abbrev dktX2_writesJoke_2 : List UInt8 := dkwX2_writesJoke_2 ++ []
def dkwX2_writesJoke_1 : List UInt8 := [27, 5, 182, 0, 73, 182, 0, 227, 42, 27, 7, 182, 0, 73, 4, 160, 0, 9, 42, 16, 33, 182, 0, 224]
abbrev dktX2_writesJoke_1 : List UInt8 := dkwX2_writesJoke_1 ++ dktX2_writesJoke_2
def dkwX2_writesJoke_0 : List UInt8 := [42, 16, 32, 182, 0, 224, 42, 42, 27, 4, 182, 0, 73, 182, 0, 227, 42, 16, 58, 182, 0, 224, 42, 42]
abbrev dktX2_writesJoke_0 : List UInt8 := dkwX2_writesJoke_0 ++ dktX2_writesJoke_1
theorem dksX2_writesJoke_0 : cX2_writesJoke.data.toList.drop 0 = dktX2_writesJoke_0 := by decide +kernel
theorem dksX2_writesJoke_1 : cX2_writesJoke.data.toList.drop 24 = dktX2_writesJoke_1 := dk_seg dksX2_writesJoke_0 24 rfl rfl
theorem dksX2_writesJoke_2 : cX2_writesJoke.data.toList.drop 48 = dktX2_writesJoke_2 := dk_seg dksX2_writesJoke_1 24 rfl rfl
theorem dX2_writesJoke_0 : decode cX2_writesJoke 0 = .ok (.aload_n 0, 1) := dk_42 (dk_at dksX2_writesJoke_0 0 rfl rfl)
theorem dX2_writesJoke_1 : decode cX2_writesJoke 1 = .ok (.bipush 32, 2) := dk_16 32 (dk_at dksX2_writesJoke_0 1 rfl rfl)
theorem dX2_writesJoke_3 : decode cX2_writesJoke 3 = .ok (.invokevirtual 224, 3) := dk_182 0 224 (dk_at dksX2_writesJoke_0 3 rfl rfl)
theorem dX2_writesJoke_6 : decode cX2_writesJoke 6 = .ok (.aload_n 0, 1) := dk_42 (dk_at dksX2_writesJoke_0 6 rfl rfl)
theorem dX2_writesJoke_7 : decode cX2_writesJoke 7 = .ok (.aload_n 0, 1) := dk_42 (dk_at dksX2_writesJoke_0 7 rfl rfl)
theorem dX2_writesJoke_8 : decode cX2_writesJoke 8 = .ok (.iload_n 1, 1) := dk_27 (dk_at dksX2_writesJoke_0 8 rfl rfl)
theorem dX2_writesJoke_9 : decode cX2_writesJoke 9 = .ok (.iconst 1, 1) := dk_4 (dk_at dksX2_writesJoke_0 9 rfl rfl)
theorem dX2_writesJoke_10 : decode cX2_writesJoke 10 = .ok (.invokevirtual 73, 3) := dk_182 0 73 (dk_at dksX2_writesJoke_0 10 rfl rfl)
theorem dX2_writesJoke_13 : decode cX2_writesJoke 13 = .ok (.invokevirtual 227, 3) := dk_182 0 227 (dk_at dksX2_writesJoke_0 13 rfl rfl)
theorem dX2_writesJoke_16 : decode cX2_writesJoke 16 = .ok (.aload_n 0, 1) := dk_42 (dk_at dksX2_writesJoke_0 16 rfl rfl)
theorem dX2_writesJoke_17 : decode cX2_writesJoke 17 = .ok (.bipush 58, 2) := dk_16 58 (dk_at dksX2_writesJoke_0 17 rfl rfl)
theorem dX2_writesJoke_19 : decode cX2_writesJoke 19 = .ok (.invokevirtual 224, 3) := dk_182 0 224 (dk_at dksX2_writesJoke_0 19 rfl rfl)
theorem dX2_writesJoke_22 : decode cX2_writesJoke 22 = .ok (.aload_n 0, 1) := dk_42 (dk_at dksX2_writesJoke_0 22 rfl rfl)
theorem dX2_writesJoke_23 : decode cX2_writesJoke 23 = .ok (.aload_n 0, 1) := dk_42 (dk_at dksX2_writesJoke_0 23 rfl rfl)
theorem dX2_writesJoke_24 : decode cX2_writesJoke 24 = .ok (.iload_n 1, 1) := dk_27 (dk_at dksX2_writesJoke_1 0 rfl rfl)
theorem dX2_writesJoke_25 : decode cX2_writesJoke 25 = .ok (.iconst 2, 1) := dk_5 (dk_at dksX2_writesJoke_1 1 rfl rfl)
theorem dX2_writesJoke_26 : decode cX2_writesJoke 26 = .ok (.invokevirtual 73, 3) := dk_182 0 73 (dk_at dksX2_writesJoke_1 2 rfl rfl)
theorem dX2_writesJoke_29 : decode cX2_writesJoke 29 = .ok (.invokevirtual 227, 3) := dk_182 0 227 (dk_at dksX2_writesJoke_1 5 rfl rfl)
theorem dX2_writesJoke_32 : decode cX2_writesJoke 32 = .ok (.aload_n 0, 1) := dk_42 (dk_at dksX2_writesJoke_1 8 rfl rfl)
theorem dX2_writesJoke_33 : decode cX2_writesJoke 33 = .ok (.iload_n 1, 1) := dk_27 (dk_at dksX2_writesJoke_1 9 rfl rfl)
theorem dX2_writesJoke_34 : decode cX2_writesJoke 34 = .ok (.iconst 4, 1) := dk_7 (dk_at dksX2_writesJoke_1 10 rfl rfl)
theorem dX2_writesJoke_35 : decode cX2_writesJoke 35 = .ok (.invokevirtual 73, 3) := dk_182 0 73 (dk_at dksX2_writesJoke_1 11 rfl rfl)
theorem dX2_writesJoke_38 : decode cX2_writesJoke 38 = .ok (.iconst 1, 1) := dk_4 (dk_at dksX2_writesJoke_1 14 rfl rfl)
theorem dX2_writesJoke_39 : decode cX2_writesJoke 39 = .ok (.if_icmp .ne 9, 3) := dk_160 0 9 (dk_at dksX2_writesJoke_1 15 rfl rfl)
theorem dX2_writesJoke_42 : decode cX2_writesJoke 42 = .ok (.aload_n 0, 1) := dk_42 (dk_at dksX2_writesJoke_1 18 rfl rfl)
theorem dX2_writesJoke_43 : decode cX2_writesJoke 43 = .ok (.bipush 33, 2) := dk_16 33 (dk_at dksX2_writesJoke_1 19 rfl rfl)
theorem dX2_writesJoke_45 : decode cX2_writesJoke 45 = .ok (.invokevirtual 224, 3) := dk_182 0 224 (dk_at dksX2_writesJoke_1 21 rfl rfl)
theorem dX2_writesJoke_48 : decode cX2_writesJoke 48 = .ok (.return_, 1) := dk_177 (dk_at dksX2_writesJoke_2 0 rfl rfl)
abbrev cX2_writesNumber : ByteArray := prog_27_method_74_code
def yX2_writesNumber : MethodName := ⟨RX2, "writesNumber", "(I)V"⟩
def dkwX2_writesNumber_1 : List UInt8 := [96, 182, 0, 224, 177]
abbrev dktX2_writesNumber_1 : List UInt8 := dkwX2_writesNumber_1 ++ []
def dkwX2_writesNumber_0 : List UInt8 := [27, 16, 9, 164, 0, 14, 42, 16, 48, 27, 16, 10, 108, 96, 182, 0, 224, 42, 16, 48, 27, 16, 10, 112]
abbrev dktX2_writesNumber_0 : List UInt8 := dkwX2_writesNumber_0 ++ dktX2_writesNumber_1
theorem dksX2_writesNumber_0 : cX2_writesNumber.data.toList.drop 0 = dktX2_writesNumber_0 := by decide +kernel
theorem dksX2_writesNumber_1 : cX2_writesNumber.data.toList.drop 24 = dktX2_writesNumber_1 := dk_seg dksX2_writesNumber_0 24 rfl rfl
theorem dX2_writesNumber_0 : decode cX2_writesNumber 0 = .ok (.iload_n 1, 1) := dk_27 (dk_at dksX2_writesNumber_0 0 rfl rfl)
theorem dX2_writesNumber_1 : decode cX2_writesNumber 1 = .ok (.bipush 9, 2) := dk_16 9 (dk_at dksX2_writesNumber_0 1 rfl rfl)
theorem dX2_writesNumber_3 : decode cX2_writesNumber 3 = .ok (.if_icmp .le 14, 3) := dk_164 0 14 (dk_at dksX2_writesNumber_0 3 rfl rfl)
theorem dX2_writesNumber_6 : decode cX2_writesNumber 6 = .ok (.aload_n 0, 1) := dk_42 (dk_at dksX2_writesNumber_0 6 rfl rfl)
theorem dX2_writesNumber_7 : decode cX2_writesNumber 7 = .ok (.bipush 48, 2) := dk_16 48 (dk_at dksX2_writesNumber_0 7 rfl rfl)
theorem dX2_writesNumber_9 : decode cX2_writesNumber 9 = .ok (.iload_n 1, 1) := dk_27 (dk_at dksX2_writesNumber_0 9 rfl rfl)
theorem dX2_writesNumber_10 : decode cX2_writesNumber 10 = .ok (.bipush 10, 2) := dk_16 10 (dk_at dksX2_writesNumber_0 10 rfl rfl)
theorem dX2_writesNumber_12 : decode cX2_writesNumber 12 = .ok (.idiv, 1) := dk_108 (dk_at dksX2_writesNumber_0 12 rfl rfl)
theorem dX2_writesNumber_13 : decode cX2_writesNumber 13 = .ok (.iadd, 1) := dk_96 (dk_at dksX2_writesNumber_0 13 rfl rfl)
theorem dX2_writesNumber_14 : decode cX2_writesNumber 14 = .ok (.invokevirtual 224, 3) := dk_182 0 224 (dk_at dksX2_writesNumber_0 14 rfl rfl)
theorem dX2_writesNumber_17 : decode cX2_writesNumber 17 = .ok (.aload_n 0, 1) := dk_42 (dk_at dksX2_writesNumber_0 17 rfl rfl)
theorem dX2_writesNumber_18 : decode cX2_writesNumber 18 = .ok (.bipush 48, 2) := dk_16 48 (dk_at dksX2_writesNumber_0 18 rfl rfl)
theorem dX2_writesNumber_20 : decode cX2_writesNumber 20 = .ok (.iload_n 1, 1) := dk_27 (dk_at dksX2_writesNumber_0 20 rfl rfl)
theorem dX2_writesNumber_21 : decode cX2_writesNumber 21 = .ok (.bipush 10, 2) := dk_16 10 (dk_at dksX2_writesNumber_0 21 rfl rfl)
theorem dX2_writesNumber_23 : decode cX2_writesNumber 23 = .ok (.irem, 1) := dk_112 (dk_at dksX2_writesNumber_0 23 rfl rfl)
theorem dX2_writesNumber_24 : decode cX2_writesNumber 24 = .ok (.iadd, 1) := dk_96 (dk_at dksX2_writesNumber_1 0 rfl rfl)
theorem dX2_writesNumber_25 : decode cX2_writesNumber 25 = .ok (.invokevirtual 224, 3) := dk_182 0 224 (dk_at dksX2_writesNumber_1 1 rfl rfl)
theorem dX2_writesNumber_28 : decode cX2_writesNumber 28 = .ok (.return_, 1) := dk_177 (dk_at dksX2_writesNumber_1 4 rfl rfl)
abbrev cX2_writePump : ByteArray := prog_27_method_77_code
def yX2_writePump : MethodName := ⟨RX2, "writePump", "()I"⟩
def dkwX2_writePump_3 : List UInt8 := [42, 16, 42, 182, 0, 224, 42, 16, 48, 42, 180, 0, 32, 8, 46, 96, 182, 0, 224, 42, 180, 0, 221, 172]
abbrev dktX2_writePump_3 : List UInt8 := dkwX2_writePump_3 ++ []
def dkwX2_writePump_2 : List UInt8 := [180, 0, 32, 6, 46, 182, 0, 227, 42, 16, 111, 182, 0, 224, 42, 42, 180, 0, 32, 7, 46, 182, 0, 227]
abbrev dktX2_writePump_2 : List UInt8 := dkwX2_writePump_2 ++ dktX2_writePump_3
def dkwX2_writePump_1 : List UInt8 := [42, 16, 94, 182, 0, 224, 42, 42, 180, 0, 32, 5, 46, 182, 0, 227, 42, 16, 126, 182, 0, 224, 42, 42]
abbrev dktX2_writePump_1 : List UInt8 := dkwX2_writePump_1 ++ dktX2_writePump_2
def dkwX2_writePump_0 : List UInt8 := [42, 3, 181, 0, 221, 42, 16, 64, 182, 0, 224, 42, 16, 48, 42, 180, 0, 32, 4, 46, 96, 182, 0, 224]
abbrev dktX2_writePump_0 : List UInt8 := dkwX2_writePump_0 ++ dktX2_writePump_1
theorem dksX2_writePump_0 : cX2_writePump.data.toList.drop 0 = dktX2_writePump_0 := by decide +kernel
theorem dksX2_writePump_1 : cX2_writePump.data.toList.drop 24 = dktX2_writePump_1 := dk_seg dksX2_writePump_0 24 rfl rfl
theorem dksX2_writePump_2 : cX2_writePump.data.toList.drop 48 = dktX2_writePump_2 := dk_seg dksX2_writePump_1 24 rfl rfl
theorem dksX2_writePump_3 : cX2_writePump.data.toList.drop 72 = dktX2_writePump_3 := dk_seg dksX2_writePump_2 24 rfl rfl
theorem dX2_writePump_0 : decode cX2_writePump 0 = .ok (.aload_n 0, 1) := dk_42 (dk_at dksX2_writePump_0 0 rfl rfl)
theorem dX2_writePump_1 : decode cX2_writePump 1 = .ok (.iconst 0, 1) := dk_3 (dk_at dksX2_writePump_0 1 rfl rfl)
theorem dX2_writePump_2 : decode cX2_writePump 2 = .ok (.putfield 221, 3) := dk_181 0 221 (dk_at dksX2_writePump_0 2 rfl rfl)
theorem dX2_writePump_5 : decode cX2_writePump 5 = .ok (.aload_n 0, 1) := dk_42 (dk_at dksX2_writePump_0 5 rfl rfl)
theorem dX2_writePump_6 : decode cX2_writePump 6 = .ok (.bipush 64, 2) := dk_16 64 (dk_at dksX2_writePump_0 6 rfl rfl)
theorem dX2_writePump_8 : decode cX2_writePump 8 = .ok (.invokevirtual 224, 3) := dk_182 0 224 (dk_at dksX2_writePump_0 8 rfl rfl)
theorem dX2_writePump_11 : decode cX2_writePump 11 = .ok (.aload_n 0, 1) := dk_42 (dk_at dksX2_writePump_0 11 rfl rfl)
theorem dX2_writePump_12 : decode cX2_writePump 12 = .ok (.bipush 48, 2) := dk_16 48 (dk_at dksX2_writePump_0 12 rfl rfl)
theorem dX2_writePump_14 : decode cX2_writePump 14 = .ok (.aload_n 0, 1) := dk_42 (dk_at dksX2_writePump_0 14 rfl rfl)
theorem dX2_writePump_15 : decode cX2_writePump 15 = .ok (.getfield 32, 3) := dk_180 0 32 (dk_at dksX2_writePump_0 15 rfl rfl)
theorem dX2_writePump_18 : decode cX2_writePump 18 = .ok (.iconst 1, 1) := dk_4 (dk_at dksX2_writePump_0 18 rfl rfl)
theorem dX2_writePump_19 : decode cX2_writePump 19 = .ok (.iaload, 1) := dk_46 (dk_at dksX2_writePump_0 19 rfl rfl)
theorem dX2_writePump_20 : decode cX2_writePump 20 = .ok (.iadd, 1) := dk_96 (dk_at dksX2_writePump_0 20 rfl rfl)
theorem dX2_writePump_21 : decode cX2_writePump 21 = .ok (.invokevirtual 224, 3) := dk_182 0 224 (dk_at dksX2_writePump_0 21 rfl rfl)
theorem dX2_writePump_24 : decode cX2_writePump 24 = .ok (.aload_n 0, 1) := dk_42 (dk_at dksX2_writePump_1 0 rfl rfl)
theorem dX2_writePump_25 : decode cX2_writePump 25 = .ok (.bipush 94, 2) := dk_16 94 (dk_at dksX2_writePump_1 1 rfl rfl)
theorem dX2_writePump_27 : decode cX2_writePump 27 = .ok (.invokevirtual 224, 3) := dk_182 0 224 (dk_at dksX2_writePump_1 3 rfl rfl)
theorem dX2_writePump_30 : decode cX2_writePump 30 = .ok (.aload_n 0, 1) := dk_42 (dk_at dksX2_writePump_1 6 rfl rfl)
theorem dX2_writePump_31 : decode cX2_writePump 31 = .ok (.aload_n 0, 1) := dk_42 (dk_at dksX2_writePump_1 7 rfl rfl)
theorem dX2_writePump_32 : decode cX2_writePump 32 = .ok (.getfield 32, 3) := dk_180 0 32 (dk_at dksX2_writePump_1 8 rfl rfl)
theorem dX2_writePump_35 : decode cX2_writePump 35 = .ok (.iconst 2, 1) := dk_5 (dk_at dksX2_writePump_1 11 rfl rfl)
theorem dX2_writePump_36 : decode cX2_writePump 36 = .ok (.iaload, 1) := dk_46 (dk_at dksX2_writePump_1 12 rfl rfl)
theorem dX2_writePump_37 : decode cX2_writePump 37 = .ok (.invokevirtual 227, 3) := dk_182 0 227 (dk_at dksX2_writePump_1 13 rfl rfl)
theorem dX2_writePump_40 : decode cX2_writePump 40 = .ok (.aload_n 0, 1) := dk_42 (dk_at dksX2_writePump_1 16 rfl rfl)
theorem dX2_writePump_41 : decode cX2_writePump 41 = .ok (.bipush 126, 2) := dk_16 126 (dk_at dksX2_writePump_1 17 rfl rfl)
theorem dX2_writePump_43 : decode cX2_writePump 43 = .ok (.invokevirtual 224, 3) := dk_182 0 224 (dk_at dksX2_writePump_1 19 rfl rfl)
theorem dX2_writePump_46 : decode cX2_writePump 46 = .ok (.aload_n 0, 1) := dk_42 (dk_at dksX2_writePump_1 22 rfl rfl)
theorem dX2_writePump_47 : decode cX2_writePump 47 = .ok (.aload_n 0, 1) := dk_42 (dk_at dksX2_writePump_1 23 rfl rfl)
theorem dX2_writePump_48 : decode cX2_writePump 48 = .ok (.getfield 32, 3) := dk_180 0 32 (dk_at dksX2_writePump_2 0 rfl rfl)
theorem dX2_writePump_51 : decode cX2_writePump 51 = .ok (.iconst 3, 1) := dk_6 (dk_at dksX2_writePump_2 3 rfl rfl)
theorem dX2_writePump_52 : decode cX2_writePump 52 = .ok (.iaload, 1) := dk_46 (dk_at dksX2_writePump_2 4 rfl rfl)
theorem dX2_writePump_53 : decode cX2_writePump 53 = .ok (.invokevirtual 227, 3) := dk_182 0 227 (dk_at dksX2_writePump_2 5 rfl rfl)
theorem dX2_writePump_56 : decode cX2_writePump 56 = .ok (.aload_n 0, 1) := dk_42 (dk_at dksX2_writePump_2 8 rfl rfl)
theorem dX2_writePump_57 : decode cX2_writePump 57 = .ok (.bipush 111, 2) := dk_16 111 (dk_at dksX2_writePump_2 9 rfl rfl)
theorem dX2_writePump_59 : decode cX2_writePump 59 = .ok (.invokevirtual 224, 3) := dk_182 0 224 (dk_at dksX2_writePump_2 11 rfl rfl)
theorem dX2_writePump_62 : decode cX2_writePump 62 = .ok (.aload_n 0, 1) := dk_42 (dk_at dksX2_writePump_2 14 rfl rfl)
theorem dX2_writePump_63 : decode cX2_writePump 63 = .ok (.aload_n 0, 1) := dk_42 (dk_at dksX2_writePump_2 15 rfl rfl)
theorem dX2_writePump_64 : decode cX2_writePump 64 = .ok (.getfield 32, 3) := dk_180 0 32 (dk_at dksX2_writePump_2 16 rfl rfl)
theorem dX2_writePump_67 : decode cX2_writePump 67 = .ok (.iconst 4, 1) := dk_7 (dk_at dksX2_writePump_2 19 rfl rfl)
theorem dX2_writePump_68 : decode cX2_writePump 68 = .ok (.iaload, 1) := dk_46 (dk_at dksX2_writePump_2 20 rfl rfl)
theorem dX2_writePump_69 : decode cX2_writePump 69 = .ok (.invokevirtual 227, 3) := dk_182 0 227 (dk_at dksX2_writePump_2 21 rfl rfl)
theorem dX2_writePump_72 : decode cX2_writePump 72 = .ok (.aload_n 0, 1) := dk_42 (dk_at dksX2_writePump_3 0 rfl rfl)
theorem dX2_writePump_73 : decode cX2_writePump 73 = .ok (.bipush 42, 2) := dk_16 42 (dk_at dksX2_writePump_3 1 rfl rfl)
theorem dX2_writePump_75 : decode cX2_writePump 75 = .ok (.invokevirtual 224, 3) := dk_182 0 224 (dk_at dksX2_writePump_3 3 rfl rfl)
theorem dX2_writePump_78 : decode cX2_writePump 78 = .ok (.aload_n 0, 1) := dk_42 (dk_at dksX2_writePump_3 6 rfl rfl)
theorem dX2_writePump_79 : decode cX2_writePump 79 = .ok (.bipush 48, 2) := dk_16 48 (dk_at dksX2_writePump_3 7 rfl rfl)
theorem dX2_writePump_81 : decode cX2_writePump 81 = .ok (.aload_n 0, 1) := dk_42 (dk_at dksX2_writePump_3 9 rfl rfl)
theorem dX2_writePump_82 : decode cX2_writePump 82 = .ok (.getfield 32, 3) := dk_180 0 32 (dk_at dksX2_writePump_3 10 rfl rfl)
theorem dX2_writePump_85 : decode cX2_writePump 85 = .ok (.iconst 5, 1) := dk_8 (dk_at dksX2_writePump_3 13 rfl rfl)
theorem dX2_writePump_86 : decode cX2_writePump 86 = .ok (.iaload, 1) := dk_46 (dk_at dksX2_writePump_3 14 rfl rfl)
theorem dX2_writePump_87 : decode cX2_writePump 87 = .ok (.iadd, 1) := dk_96 (dk_at dksX2_writePump_3 15 rfl rfl)
theorem dX2_writePump_88 : decode cX2_writePump 88 = .ok (.invokevirtual 224, 3) := dk_182 0 224 (dk_at dksX2_writePump_3 16 rfl rfl)
theorem dX2_writePump_91 : decode cX2_writePump 91 = .ok (.aload_n 0, 1) := dk_42 (dk_at dksX2_writePump_3 19 rfl rfl)
theorem dX2_writePump_92 : decode cX2_writePump 92 = .ok (.getfield 221, 3) := dk_180 0 221 (dk_at dksX2_writePump_3 20 rfl rfl)
theorem dX2_writePump_95 : decode cX2_writePump 95 = .ok (.ireturn, 1) := dk_172 (dk_at dksX2_writePump_3 23 rfl rfl)
abbrev cX2_written : ByteArray := prog_27_method_78_code
def yX2_written : MethodName := ⟨RX2, "written", "(I)I"⟩
def dkwX2_written_1 : List UInt8 := [172]
abbrev dktX2_written_1 : List UInt8 := dkwX2_written_1 ++ []
def dkwX2_written_0 : List UInt8 := [27, 3, 42, 180, 0, 221, 4, 100, 184, 0, 19, 153, 0, 12, 42, 180, 0, 48, 27, 52, 167, 0, 4, 2]
abbrev dktX2_written_0 : List UInt8 := dkwX2_written_0 ++ dktX2_written_1
theorem dksX2_written_0 : cX2_written.data.toList.drop 0 = dktX2_written_0 := by decide +kernel
theorem dksX2_written_1 : cX2_written.data.toList.drop 24 = dktX2_written_1 := dk_seg dksX2_written_0 24 rfl rfl
theorem dX2_written_0 : decode cX2_written 0 = .ok (.iload_n 1, 1) := dk_27 (dk_at dksX2_written_0 0 rfl rfl)
theorem dX2_written_1 : decode cX2_written 1 = .ok (.iconst 0, 1) := dk_3 (dk_at dksX2_written_0 1 rfl rfl)
theorem dX2_written_2 : decode cX2_written 2 = .ok (.aload_n 0, 1) := dk_42 (dk_at dksX2_written_0 2 rfl rfl)
theorem dX2_written_3 : decode cX2_written 3 = .ok (.getfield 221, 3) := dk_180 0 221 (dk_at dksX2_written_0 3 rfl rfl)
theorem dX2_written_6 : decode cX2_written 6 = .ok (.iconst 1, 1) := dk_4 (dk_at dksX2_written_0 6 rfl rfl)
theorem dX2_written_7 : decode cX2_written 7 = .ok (.isub, 1) := dk_100 (dk_at dksX2_written_0 7 rfl rfl)
theorem dX2_written_8 : decode cX2_written 8 = .ok (.invokestatic 19, 3) := dk_184 0 19 (dk_at dksX2_written_0 8 rfl rfl)
theorem dX2_written_11 : decode cX2_written 11 = .ok (.ifCond .eq 12, 3) := dk_153 0 12 (dk_at dksX2_written_0 11 rfl rfl)
theorem dX2_written_14 : decode cX2_written 14 = .ok (.aload_n 0, 1) := dk_42 (dk_at dksX2_written_0 14 rfl rfl)
theorem dX2_written_15 : decode cX2_written 15 = .ok (.getfield 48, 3) := dk_180 0 48 (dk_at dksX2_written_0 15 rfl rfl)
theorem dX2_written_18 : decode cX2_written 18 = .ok (.iload_n 1, 1) := dk_27 (dk_at dksX2_written_0 18 rfl rfl)
theorem dX2_written_19 : decode cX2_written 19 = .ok (.caload, 1) := dk_52 (dk_at dksX2_written_0 19 rfl rfl)
theorem dX2_written_20 : decode cX2_written 20 = .ok (.goto 4, 3) := dk_167 0 4 (dk_at dksX2_written_0 20 rfl rfl)
theorem dX2_written_23 : decode cX2_written 23 = .ok (.iconst (-1), 1) := dk_2 (dk_at dksX2_written_0 23 rfl rfl)
theorem dX2_written_24 : decode cX2_written 24 = .ok (.ireturn, 1) := dk_172 (dk_at dksX2_written_1 0 rfl rfl)
abbrev cX2_append : ByteArray := prog_27_method_79_code
def yX2_append : MethodName := ⟨RX2, "append", "(C)I"⟩
def dkwX2_append_2 : List UInt8 := [180, 0, 218, 172]
abbrev dktX2_append_2 : List UInt8 := dkwX2_append_2 ++ []
def dkwX2_append_1 : List UInt8 := [16, 252, 172, 42, 180, 0, 52, 42, 180, 0, 218, 27, 85, 42, 89, 180, 0, 218, 4, 96, 181, 0, 218, 42]
abbrev dktX2_append_1 : List UInt8 := dkwX2_append_1 ++ dktX2_append_2
def dkwX2_append_0 : List UInt8 := [27, 16, 32, 16, 126, 184, 0, 19, 154, 0, 6, 16, 254, 172, 42, 180, 0, 218, 16, 60, 160, 0, 6]
abbrev dktX2_append_0 : List UInt8 := dkwX2_append_0 ++ dktX2_append_1
theorem dksX2_append_0 : cX2_append.data.toList.drop 0 = dktX2_append_0 := by decide +kernel
theorem dksX2_append_1 : cX2_append.data.toList.drop 23 = dktX2_append_1 := dk_seg dksX2_append_0 23 rfl rfl
theorem dksX2_append_2 : cX2_append.data.toList.drop 47 = dktX2_append_2 := dk_seg dksX2_append_1 24 rfl rfl
theorem dX2_append_0 : decode cX2_append 0 = .ok (.iload_n 1, 1) := dk_27 (dk_at dksX2_append_0 0 rfl rfl)
theorem dX2_append_1 : decode cX2_append 1 = .ok (.bipush 32, 2) := dk_16 32 (dk_at dksX2_append_0 1 rfl rfl)
theorem dX2_append_3 : decode cX2_append 3 = .ok (.bipush 126, 2) := dk_16 126 (dk_at dksX2_append_0 3 rfl rfl)
theorem dX2_append_5 : decode cX2_append 5 = .ok (.invokestatic 19, 3) := dk_184 0 19 (dk_at dksX2_append_0 5 rfl rfl)
theorem dX2_append_8 : decode cX2_append 8 = .ok (.ifCond .ne 6, 3) := dk_154 0 6 (dk_at dksX2_append_0 8 rfl rfl)
theorem dX2_append_11 : decode cX2_append 11 = .ok (.bipush (-2), 2) := dk_16 254 (dk_at dksX2_append_0 11 rfl rfl)
theorem dX2_append_13 : decode cX2_append 13 = .ok (.ireturn, 1) := dk_172 (dk_at dksX2_append_0 13 rfl rfl)
theorem dX2_append_14 : decode cX2_append 14 = .ok (.aload_n 0, 1) := dk_42 (dk_at dksX2_append_0 14 rfl rfl)
theorem dX2_append_15 : decode cX2_append 15 = .ok (.getfield 218, 3) := dk_180 0 218 (dk_at dksX2_append_0 15 rfl rfl)
theorem dX2_append_18 : decode cX2_append 18 = .ok (.bipush 60, 2) := dk_16 60 (dk_at dksX2_append_0 18 rfl rfl)
theorem dX2_append_20 : decode cX2_append 20 = .ok (.if_icmp .ne 6, 3) := dk_160 0 6 (dk_at dksX2_append_0 20 rfl rfl)
theorem dX2_append_23 : decode cX2_append 23 = .ok (.bipush (-4), 2) := dk_16 252 (dk_at dksX2_append_1 0 rfl rfl)
theorem dX2_append_25 : decode cX2_append 25 = .ok (.ireturn, 1) := dk_172 (dk_at dksX2_append_1 2 rfl rfl)
theorem dX2_append_26 : decode cX2_append 26 = .ok (.aload_n 0, 1) := dk_42 (dk_at dksX2_append_1 3 rfl rfl)
theorem dX2_append_27 : decode cX2_append 27 = .ok (.getfield 52, 3) := dk_180 0 52 (dk_at dksX2_append_1 4 rfl rfl)
theorem dX2_append_30 : decode cX2_append 30 = .ok (.aload_n 0, 1) := dk_42 (dk_at dksX2_append_1 7 rfl rfl)
theorem dX2_append_31 : decode cX2_append 31 = .ok (.getfield 218, 3) := dk_180 0 218 (dk_at dksX2_append_1 8 rfl rfl)
theorem dX2_append_34 : decode cX2_append 34 = .ok (.iload_n 1, 1) := dk_27 (dk_at dksX2_append_1 11 rfl rfl)
theorem dX2_append_35 : decode cX2_append 35 = .ok (.castore, 1) := dk_85 (dk_at dksX2_append_1 12 rfl rfl)
theorem dX2_append_36 : decode cX2_append 36 = .ok (.aload_n 0, 1) := dk_42 (dk_at dksX2_append_1 13 rfl rfl)
theorem dX2_append_37 : decode cX2_append 37 = .ok (.dup, 1) := dk_89 (dk_at dksX2_append_1 14 rfl rfl)
theorem dX2_append_38 : decode cX2_append 38 = .ok (.getfield 218, 3) := dk_180 0 218 (dk_at dksX2_append_1 15 rfl rfl)
theorem dX2_append_41 : decode cX2_append 41 = .ok (.iconst 1, 1) := dk_4 (dk_at dksX2_append_1 18 rfl rfl)
theorem dX2_append_42 : decode cX2_append 42 = .ok (.iadd, 1) := dk_96 (dk_at dksX2_append_1 19 rfl rfl)
theorem dX2_append_43 : decode cX2_append 43 = .ok (.putfield 218, 3) := dk_181 0 218 (dk_at dksX2_append_1 20 rfl rfl)
theorem dX2_append_46 : decode cX2_append 46 = .ok (.aload_n 0, 1) := dk_42 (dk_at dksX2_append_1 23 rfl rfl)
theorem dX2_append_47 : decode cX2_append 47 = .ok (.getfield 218, 3) := dk_180 0 218 (dk_at dksX2_append_2 0 rfl rfl)
theorem dX2_append_50 : decode cX2_append 50 = .ok (.ireturn, 1) := dk_172 (dk_at dksX2_append_2 3 rfl rfl)
abbrev cX2_fault : ByteArray := prog_27_method_80_code
def yX2_fault : MethodName := ⟨RX2, "fault", "()I"⟩
def dkwX2_fault_0 : List UInt8 := [42, 180, 0, 55, 156, 0, 8, 16, 253, 167, 0, 7, 42, 180, 0, 55, 172]
abbrev dktX2_fault_0 : List UInt8 := dkwX2_fault_0 ++ []
theorem dksX2_fault_0 : cX2_fault.data.toList.drop 0 = dktX2_fault_0 := by decide +kernel
theorem dX2_fault_0 : decode cX2_fault 0 = .ok (.aload_n 0, 1) := dk_42 (dk_at dksX2_fault_0 0 rfl rfl)
theorem dX2_fault_1 : decode cX2_fault 1 = .ok (.getfield 55, 3) := dk_180 0 55 (dk_at dksX2_fault_0 1 rfl rfl)
theorem dX2_fault_4 : decode cX2_fault 4 = .ok (.ifCond .ge 8, 3) := dk_156 0 8 (dk_at dksX2_fault_0 4 rfl rfl)
theorem dX2_fault_7 : decode cX2_fault 7 = .ok (.bipush (-3), 2) := dk_16 253 (dk_at dksX2_fault_0 7 rfl rfl)
theorem dX2_fault_9 : decode cX2_fault 9 = .ok (.goto 7, 3) := dk_167 0 7 (dk_at dksX2_fault_0 9 rfl rfl)
theorem dX2_fault_12 : decode cX2_fault 12 = .ok (.aload_n 0, 1) := dk_42 (dk_at dksX2_fault_0 12 rfl rfl)
theorem dX2_fault_13 : decode cX2_fault 13 = .ok (.getfield 55, 3) := dk_180 0 55 (dk_at dksX2_fault_0 13 rfl rfl)
theorem dX2_fault_16 : decode cX2_fault 16 = .ok (.ireturn, 1) := dk_172 (dk_at dksX2_fault_0 16 rfl rfl)
abbrev cX2_read : ByteArray := prog_27_method_96_code
def yX2_read : MethodName := ⟨RX2, "read", "()I"⟩
def dkwX2_read_2 : List UInt8 := [180, 1, 14, 172, 42, 182, 1, 29, 42, 27, 182, 1, 32, 172]
abbrev dktX2_read_2 : List UInt8 := dkwX2_read_2 ++ []
def dkwX2_read_1 : List UInt8 := [182, 0, 67, 42, 182, 1, 26, 60, 42, 3, 181, 0, 218, 27, 154, 0, 12, 42, 182, 0, 70, 42]
abbrev dktX2_read_1 : List UInt8 := dkwX2_read_1 ++ dktX2_read_2
def dkwX2_read_0 : List UInt8 := [42, 182, 1, 23, 154, 0, 19, 42, 42, 180, 0, 233, 181, 0, 55, 42, 3, 181, 0, 218, 16, 254, 172, 42]
abbrev dktX2_read_0 : List UInt8 := dkwX2_read_0 ++ dktX2_read_1
theorem dksX2_read_0 : cX2_read.data.toList.drop 0 = dktX2_read_0 := by decide +kernel
theorem dksX2_read_1 : cX2_read.data.toList.drop 24 = dktX2_read_1 := dk_seg dksX2_read_0 24 rfl rfl
theorem dksX2_read_2 : cX2_read.data.toList.drop 46 = dktX2_read_2 := dk_seg dksX2_read_1 22 rfl rfl
theorem dX2_read_0 : decode cX2_read 0 = .ok (.aload_n 0, 1) := dk_42 (dk_at dksX2_read_0 0 rfl rfl)
theorem dX2_read_1 : decode cX2_read 1 = .ok (.invokevirtual 279, 3) := dk_182 1 23 (dk_at dksX2_read_0 1 rfl rfl)
theorem dX2_read_4 : decode cX2_read 4 = .ok (.ifCond .ne 19, 3) := dk_154 0 19 (dk_at dksX2_read_0 4 rfl rfl)
theorem dX2_read_7 : decode cX2_read 7 = .ok (.aload_n 0, 1) := dk_42 (dk_at dksX2_read_0 7 rfl rfl)
theorem dX2_read_8 : decode cX2_read 8 = .ok (.aload_n 0, 1) := dk_42 (dk_at dksX2_read_0 8 rfl rfl)
theorem dX2_read_9 : decode cX2_read 9 = .ok (.getfield 233, 3) := dk_180 0 233 (dk_at dksX2_read_0 9 rfl rfl)
theorem dX2_read_12 : decode cX2_read 12 = .ok (.putfield 55, 3) := dk_181 0 55 (dk_at dksX2_read_0 12 rfl rfl)
theorem dX2_read_15 : decode cX2_read 15 = .ok (.aload_n 0, 1) := dk_42 (dk_at dksX2_read_0 15 rfl rfl)
theorem dX2_read_16 : decode cX2_read 16 = .ok (.iconst 0, 1) := dk_3 (dk_at dksX2_read_0 16 rfl rfl)
theorem dX2_read_17 : decode cX2_read 17 = .ok (.putfield 218, 3) := dk_181 0 218 (dk_at dksX2_read_0 17 rfl rfl)
theorem dX2_read_20 : decode cX2_read 20 = .ok (.bipush (-2), 2) := dk_16 254 (dk_at dksX2_read_0 20 rfl rfl)
theorem dX2_read_22 : decode cX2_read 22 = .ok (.ireturn, 1) := dk_172 (dk_at dksX2_read_0 22 rfl rfl)
theorem dX2_read_23 : decode cX2_read 23 = .ok (.aload_n 0, 1) := dk_42 (dk_at dksX2_read_0 23 rfl rfl)
theorem dX2_read_24 : decode cX2_read 24 = .ok (.invokevirtual 67, 3) := dk_182 0 67 (dk_at dksX2_read_1 0 rfl rfl)
theorem dX2_read_27 : decode cX2_read 27 = .ok (.aload_n 0, 1) := dk_42 (dk_at dksX2_read_1 3 rfl rfl)
theorem dX2_read_28 : decode cX2_read 28 = .ok (.invokevirtual 282, 3) := dk_182 1 26 (dk_at dksX2_read_1 4 rfl rfl)
theorem dX2_read_31 : decode cX2_read 31 = .ok (.istore_n 1, 1) := dk_60 (dk_at dksX2_read_1 7 rfl rfl)
theorem dX2_read_32 : decode cX2_read 32 = .ok (.aload_n 0, 1) := dk_42 (dk_at dksX2_read_1 8 rfl rfl)
theorem dX2_read_33 : decode cX2_read 33 = .ok (.iconst 0, 1) := dk_3 (dk_at dksX2_read_1 9 rfl rfl)
theorem dX2_read_34 : decode cX2_read 34 = .ok (.putfield 218, 3) := dk_181 0 218 (dk_at dksX2_read_1 10 rfl rfl)
theorem dX2_read_37 : decode cX2_read 37 = .ok (.iload_n 1, 1) := dk_27 (dk_at dksX2_read_1 13 rfl rfl)
theorem dX2_read_38 : decode cX2_read 38 = .ok (.ifCond .ne 12, 3) := dk_154 0 12 (dk_at dksX2_read_1 14 rfl rfl)
theorem dX2_read_41 : decode cX2_read 41 = .ok (.aload_n 0, 1) := dk_42 (dk_at dksX2_read_1 17 rfl rfl)
theorem dX2_read_42 : decode cX2_read 42 = .ok (.invokevirtual 70, 3) := dk_182 0 70 (dk_at dksX2_read_1 18 rfl rfl)
theorem dX2_read_45 : decode cX2_read 45 = .ok (.aload_n 0, 1) := dk_42 (dk_at dksX2_read_1 21 rfl rfl)
theorem dX2_read_46 : decode cX2_read 46 = .ok (.getfield 270, 3) := dk_180 1 14 (dk_at dksX2_read_2 0 rfl rfl)
theorem dX2_read_49 : decode cX2_read 49 = .ok (.ireturn, 1) := dk_172 (dk_at dksX2_read_2 3 rfl rfl)
theorem dX2_read_50 : decode cX2_read 50 = .ok (.aload_n 0, 1) := dk_42 (dk_at dksX2_read_2 4 rfl rfl)
theorem dX2_read_51 : decode cX2_read 51 = .ok (.invokevirtual 285, 3) := dk_182 1 29 (dk_at dksX2_read_2 5 rfl rfl)
theorem dX2_read_54 : decode cX2_read 54 = .ok (.aload_n 0, 1) := dk_42 (dk_at dksX2_read_2 8 rfl rfl)
theorem dX2_read_55 : decode cX2_read 55 = .ok (.iload_n 1, 1) := dk_27 (dk_at dksX2_read_2 9 rfl rfl)
theorem dX2_read_56 : decode cX2_read 56 = .ok (.invokevirtual 288, 3) := dk_182 1 32 (dk_at dksX2_read_2 10 rfl rfl)
theorem dX2_read_59 : decode cX2_read 59 = .ok (.ireturn, 1) := dk_172 (dk_at dksX2_read_2 13 rfl rfl)
abbrev cX2_readsAll : ByteArray := prog_27_method_91_code
def yX2_readsAll : MethodName := ⟨RX2, "readsAll", "()Z"⟩
def dkwX2_readsAll_1 : List UInt8 := [182, 0, 242, 60, 167, 255, 236, 42, 180, 0, 233, 42, 180, 0, 218, 160, 0, 7, 4, 167, 0, 4, 3, 172]
abbrev dktX2_readsAll_1 : List UInt8 := dkwX2_readsAll_1 ++ []
def dkwX2_readsAll_0 : List UInt8 := [42, 3, 181, 0, 233, 4, 60, 27, 153, 0, 22, 42, 182, 1, 11, 154, 0, 5, 3, 172, 42, 16, 59]
abbrev dktX2_readsAll_0 : List UInt8 := dkwX2_readsAll_0 ++ dktX2_readsAll_1
theorem dksX2_readsAll_0 : cX2_readsAll.data.toList.drop 0 = dktX2_readsAll_0 := by decide +kernel
theorem dksX2_readsAll_1 : cX2_readsAll.data.toList.drop 23 = dktX2_readsAll_1 := dk_seg dksX2_readsAll_0 23 rfl rfl
theorem dX2_readsAll_0 : decode cX2_readsAll 0 = .ok (.aload_n 0, 1) := dk_42 (dk_at dksX2_readsAll_0 0 rfl rfl)
theorem dX2_readsAll_1 : decode cX2_readsAll 1 = .ok (.iconst 0, 1) := dk_3 (dk_at dksX2_readsAll_0 1 rfl rfl)
theorem dX2_readsAll_2 : decode cX2_readsAll 2 = .ok (.putfield 233, 3) := dk_181 0 233 (dk_at dksX2_readsAll_0 2 rfl rfl)
theorem dX2_readsAll_5 : decode cX2_readsAll 5 = .ok (.iconst 1, 1) := dk_4 (dk_at dksX2_readsAll_0 5 rfl rfl)
theorem dX2_readsAll_6 : decode cX2_readsAll 6 = .ok (.istore_n 1, 1) := dk_60 (dk_at dksX2_readsAll_0 6 rfl rfl)
theorem dX2_readsAll_7 : decode cX2_readsAll 7 = .ok (.iload_n 1, 1) := dk_27 (dk_at dksX2_readsAll_0 7 rfl rfl)
theorem dX2_readsAll_8 : decode cX2_readsAll 8 = .ok (.ifCond .eq 22, 3) := dk_153 0 22 (dk_at dksX2_readsAll_0 8 rfl rfl)
theorem dX2_readsAll_11 : decode cX2_readsAll 11 = .ok (.aload_n 0, 1) := dk_42 (dk_at dksX2_readsAll_0 11 rfl rfl)
theorem dX2_readsAll_12 : decode cX2_readsAll 12 = .ok (.invokevirtual 267, 3) := dk_182 1 11 (dk_at dksX2_readsAll_0 12 rfl rfl)
theorem dX2_readsAll_15 : decode cX2_readsAll 15 = .ok (.ifCond .ne 5, 3) := dk_154 0 5 (dk_at dksX2_readsAll_0 15 rfl rfl)
theorem dX2_readsAll_18 : decode cX2_readsAll 18 = .ok (.iconst 0, 1) := dk_3 (dk_at dksX2_readsAll_0 18 rfl rfl)
theorem dX2_readsAll_19 : decode cX2_readsAll 19 = .ok (.ireturn, 1) := dk_172 (dk_at dksX2_readsAll_0 19 rfl rfl)
theorem dX2_readsAll_20 : decode cX2_readsAll 20 = .ok (.aload_n 0, 1) := dk_42 (dk_at dksX2_readsAll_0 20 rfl rfl)
theorem dX2_readsAll_21 : decode cX2_readsAll 21 = .ok (.bipush 59, 2) := dk_16 59 (dk_at dksX2_readsAll_0 21 rfl rfl)
theorem dX2_readsAll_23 : decode cX2_readsAll 23 = .ok (.invokevirtual 242, 3) := dk_182 0 242 (dk_at dksX2_readsAll_1 0 rfl rfl)
theorem dX2_readsAll_26 : decode cX2_readsAll 26 = .ok (.istore_n 1, 1) := dk_60 (dk_at dksX2_readsAll_1 3 rfl rfl)
theorem dX2_readsAll_27 : decode cX2_readsAll 27 = .ok (.goto (-20), 3) := dk_167 255 236 (dk_at dksX2_readsAll_1 4 rfl rfl)
theorem dX2_readsAll_30 : decode cX2_readsAll 30 = .ok (.aload_n 0, 1) := dk_42 (dk_at dksX2_readsAll_1 7 rfl rfl)
theorem dX2_readsAll_31 : decode cX2_readsAll 31 = .ok (.getfield 233, 3) := dk_180 0 233 (dk_at dksX2_readsAll_1 8 rfl rfl)
theorem dX2_readsAll_34 : decode cX2_readsAll 34 = .ok (.aload_n 0, 1) := dk_42 (dk_at dksX2_readsAll_1 11 rfl rfl)
theorem dX2_readsAll_35 : decode cX2_readsAll 35 = .ok (.getfield 218, 3) := dk_180 0 218 (dk_at dksX2_readsAll_1 12 rfl rfl)
theorem dX2_readsAll_38 : decode cX2_readsAll 38 = .ok (.if_icmp .ne 7, 3) := dk_160 0 7 (dk_at dksX2_readsAll_1 15 rfl rfl)
theorem dX2_readsAll_41 : decode cX2_readsAll 41 = .ok (.iconst 1, 1) := dk_4 (dk_at dksX2_readsAll_1 18 rfl rfl)
theorem dX2_readsAll_42 : decode cX2_readsAll 42 = .ok (.goto 4, 3) := dk_167 0 4 (dk_at dksX2_readsAll_1 19 rfl rfl)
theorem dX2_readsAll_45 : decode cX2_readsAll 45 = .ok (.iconst 0, 1) := dk_3 (dk_at dksX2_readsAll_1 22 rfl rfl)
theorem dX2_readsAll_46 : decode cX2_readsAll 46 = .ok (.ireturn, 1) := dk_172 (dk_at dksX2_readsAll_1 23 rfl rfl)
abbrev cX2_readsCommand : ByteArray := prog_27_method_90_code
def yX2_readsCommand : MethodName := ⟨RX2, "readsCommand", "()Z"⟩
def dkwX2_readsCommand_5 : List UInt8 := [3, 172]
abbrev dktX2_readsCommand_5 : List UInt8 := dkwX2_readsCommand_5 ++ []
def dkwX2_readsCommand_4 : List UInt8 := [153, 0, 24, 42, 16, 32, 182, 0, 242, 153, 0, 15, 42, 3, 182, 0, 239, 153, 0, 7, 4, 167, 0, 4]
abbrev dktX2_readsCommand_4 : List UInt8 := dkwX2_readsCommand_4 ++ dktX2_readsCommand_5
def dkwX2_readsCommand_3 : List UInt8 := [153, 0, 8, 42, 182, 1, 8, 172, 42, 16, 103, 182, 0, 242, 153, 0, 33, 42, 16, 111, 182, 0, 242]
abbrev dktX2_readsCommand_3 : List UInt8 := dkwX2_readsCommand_3 ++ dktX2_readsCommand_4
def dkwX2_readsCommand_2 : List UInt8 := [182, 1, 2, 172, 42, 16, 115, 182, 0, 242, 153, 0, 8, 42, 182, 1, 5, 172, 42, 16, 98, 182, 0, 242]
abbrev dktX2_readsCommand_2 : List UInt8 := dkwX2_readsCommand_2 ++ dktX2_readsCommand_3
def dkwX2_readsCommand_1 : List UInt8 := [16, 112, 182, 0, 242, 153, 0, 8, 42, 182, 0, 255, 172, 42, 16, 100, 182, 0, 242, 153, 0, 8, 42]
abbrev dktX2_readsCommand_1 : List UInt8 := dkwX2_readsCommand_1 ++ dktX2_readsCommand_2
def dkwX2_readsCommand_0 : List UInt8 := [42, 42, 182, 0, 236, 181, 0, 248, 42, 16, 106, 182, 0, 242, 153, 0, 8, 42, 182, 0, 251, 172, 42]
abbrev dktX2_readsCommand_0 : List UInt8 := dkwX2_readsCommand_0 ++ dktX2_readsCommand_1
theorem dksX2_readsCommand_0 : cX2_readsCommand.data.toList.drop 0 = dktX2_readsCommand_0 := by decide +kernel
theorem dksX2_readsCommand_1 : cX2_readsCommand.data.toList.drop 23 = dktX2_readsCommand_1 := dk_seg dksX2_readsCommand_0 23 rfl rfl
theorem dksX2_readsCommand_2 : cX2_readsCommand.data.toList.drop 46 = dktX2_readsCommand_2 := dk_seg dksX2_readsCommand_1 23 rfl rfl
theorem dksX2_readsCommand_3 : cX2_readsCommand.data.toList.drop 70 = dktX2_readsCommand_3 := dk_seg dksX2_readsCommand_2 24 rfl rfl
theorem dksX2_readsCommand_4 : cX2_readsCommand.data.toList.drop 93 = dktX2_readsCommand_4 := dk_seg dksX2_readsCommand_3 23 rfl rfl
theorem dksX2_readsCommand_5 : cX2_readsCommand.data.toList.drop 117 = dktX2_readsCommand_5 := dk_seg dksX2_readsCommand_4 24 rfl rfl
theorem dX2_readsCommand_0 : decode cX2_readsCommand 0 = .ok (.aload_n 0, 1) := dk_42 (dk_at dksX2_readsCommand_0 0 rfl rfl)
theorem dX2_readsCommand_1 : decode cX2_readsCommand 1 = .ok (.aload_n 0, 1) := dk_42 (dk_at dksX2_readsCommand_0 1 rfl rfl)
theorem dX2_readsCommand_2 : decode cX2_readsCommand 2 = .ok (.invokevirtual 236, 3) := dk_182 0 236 (dk_at dksX2_readsCommand_0 2 rfl rfl)
theorem dX2_readsCommand_5 : decode cX2_readsCommand 5 = .ok (.putfield 248, 3) := dk_181 0 248 (dk_at dksX2_readsCommand_0 5 rfl rfl)
theorem dX2_readsCommand_8 : decode cX2_readsCommand 8 = .ok (.aload_n 0, 1) := dk_42 (dk_at dksX2_readsCommand_0 8 rfl rfl)
theorem dX2_readsCommand_9 : decode cX2_readsCommand 9 = .ok (.bipush 106, 2) := dk_16 106 (dk_at dksX2_readsCommand_0 9 rfl rfl)
theorem dX2_readsCommand_11 : decode cX2_readsCommand 11 = .ok (.invokevirtual 242, 3) := dk_182 0 242 (dk_at dksX2_readsCommand_0 11 rfl rfl)
theorem dX2_readsCommand_14 : decode cX2_readsCommand 14 = .ok (.ifCond .eq 8, 3) := dk_153 0 8 (dk_at dksX2_readsCommand_0 14 rfl rfl)
theorem dX2_readsCommand_17 : decode cX2_readsCommand 17 = .ok (.aload_n 0, 1) := dk_42 (dk_at dksX2_readsCommand_0 17 rfl rfl)
theorem dX2_readsCommand_18 : decode cX2_readsCommand 18 = .ok (.invokevirtual 251, 3) := dk_182 0 251 (dk_at dksX2_readsCommand_0 18 rfl rfl)
theorem dX2_readsCommand_21 : decode cX2_readsCommand 21 = .ok (.ireturn, 1) := dk_172 (dk_at dksX2_readsCommand_0 21 rfl rfl)
theorem dX2_readsCommand_22 : decode cX2_readsCommand 22 = .ok (.aload_n 0, 1) := dk_42 (dk_at dksX2_readsCommand_0 22 rfl rfl)
theorem dX2_readsCommand_23 : decode cX2_readsCommand 23 = .ok (.bipush 112, 2) := dk_16 112 (dk_at dksX2_readsCommand_1 0 rfl rfl)
theorem dX2_readsCommand_25 : decode cX2_readsCommand 25 = .ok (.invokevirtual 242, 3) := dk_182 0 242 (dk_at dksX2_readsCommand_1 2 rfl rfl)
theorem dX2_readsCommand_28 : decode cX2_readsCommand 28 = .ok (.ifCond .eq 8, 3) := dk_153 0 8 (dk_at dksX2_readsCommand_1 5 rfl rfl)
theorem dX2_readsCommand_31 : decode cX2_readsCommand 31 = .ok (.aload_n 0, 1) := dk_42 (dk_at dksX2_readsCommand_1 8 rfl rfl)
theorem dX2_readsCommand_32 : decode cX2_readsCommand 32 = .ok (.invokevirtual 255, 3) := dk_182 0 255 (dk_at dksX2_readsCommand_1 9 rfl rfl)
theorem dX2_readsCommand_35 : decode cX2_readsCommand 35 = .ok (.ireturn, 1) := dk_172 (dk_at dksX2_readsCommand_1 12 rfl rfl)
theorem dX2_readsCommand_36 : decode cX2_readsCommand 36 = .ok (.aload_n 0, 1) := dk_42 (dk_at dksX2_readsCommand_1 13 rfl rfl)
theorem dX2_readsCommand_37 : decode cX2_readsCommand 37 = .ok (.bipush 100, 2) := dk_16 100 (dk_at dksX2_readsCommand_1 14 rfl rfl)
theorem dX2_readsCommand_39 : decode cX2_readsCommand 39 = .ok (.invokevirtual 242, 3) := dk_182 0 242 (dk_at dksX2_readsCommand_1 16 rfl rfl)
theorem dX2_readsCommand_42 : decode cX2_readsCommand 42 = .ok (.ifCond .eq 8, 3) := dk_153 0 8 (dk_at dksX2_readsCommand_1 19 rfl rfl)
theorem dX2_readsCommand_45 : decode cX2_readsCommand 45 = .ok (.aload_n 0, 1) := dk_42 (dk_at dksX2_readsCommand_1 22 rfl rfl)
theorem dX2_readsCommand_46 : decode cX2_readsCommand 46 = .ok (.invokevirtual 258, 3) := dk_182 1 2 (dk_at dksX2_readsCommand_2 0 rfl rfl)
theorem dX2_readsCommand_49 : decode cX2_readsCommand 49 = .ok (.ireturn, 1) := dk_172 (dk_at dksX2_readsCommand_2 3 rfl rfl)
theorem dX2_readsCommand_50 : decode cX2_readsCommand 50 = .ok (.aload_n 0, 1) := dk_42 (dk_at dksX2_readsCommand_2 4 rfl rfl)
theorem dX2_readsCommand_51 : decode cX2_readsCommand 51 = .ok (.bipush 115, 2) := dk_16 115 (dk_at dksX2_readsCommand_2 5 rfl rfl)
theorem dX2_readsCommand_53 : decode cX2_readsCommand 53 = .ok (.invokevirtual 242, 3) := dk_182 0 242 (dk_at dksX2_readsCommand_2 7 rfl rfl)
theorem dX2_readsCommand_56 : decode cX2_readsCommand 56 = .ok (.ifCond .eq 8, 3) := dk_153 0 8 (dk_at dksX2_readsCommand_2 10 rfl rfl)
theorem dX2_readsCommand_59 : decode cX2_readsCommand 59 = .ok (.aload_n 0, 1) := dk_42 (dk_at dksX2_readsCommand_2 13 rfl rfl)
theorem dX2_readsCommand_60 : decode cX2_readsCommand 60 = .ok (.invokevirtual 261, 3) := dk_182 1 5 (dk_at dksX2_readsCommand_2 14 rfl rfl)
theorem dX2_readsCommand_63 : decode cX2_readsCommand 63 = .ok (.ireturn, 1) := dk_172 (dk_at dksX2_readsCommand_2 17 rfl rfl)
theorem dX2_readsCommand_64 : decode cX2_readsCommand 64 = .ok (.aload_n 0, 1) := dk_42 (dk_at dksX2_readsCommand_2 18 rfl rfl)
theorem dX2_readsCommand_65 : decode cX2_readsCommand 65 = .ok (.bipush 98, 2) := dk_16 98 (dk_at dksX2_readsCommand_2 19 rfl rfl)
theorem dX2_readsCommand_67 : decode cX2_readsCommand 67 = .ok (.invokevirtual 242, 3) := dk_182 0 242 (dk_at dksX2_readsCommand_2 21 rfl rfl)
theorem dX2_readsCommand_70 : decode cX2_readsCommand 70 = .ok (.ifCond .eq 8, 3) := dk_153 0 8 (dk_at dksX2_readsCommand_3 0 rfl rfl)
theorem dX2_readsCommand_73 : decode cX2_readsCommand 73 = .ok (.aload_n 0, 1) := dk_42 (dk_at dksX2_readsCommand_3 3 rfl rfl)
theorem dX2_readsCommand_74 : decode cX2_readsCommand 74 = .ok (.invokevirtual 264, 3) := dk_182 1 8 (dk_at dksX2_readsCommand_3 4 rfl rfl)
theorem dX2_readsCommand_77 : decode cX2_readsCommand 77 = .ok (.ireturn, 1) := dk_172 (dk_at dksX2_readsCommand_3 7 rfl rfl)
theorem dX2_readsCommand_78 : decode cX2_readsCommand 78 = .ok (.aload_n 0, 1) := dk_42 (dk_at dksX2_readsCommand_3 8 rfl rfl)
theorem dX2_readsCommand_79 : decode cX2_readsCommand 79 = .ok (.bipush 103, 2) := dk_16 103 (dk_at dksX2_readsCommand_3 9 rfl rfl)
theorem dX2_readsCommand_81 : decode cX2_readsCommand 81 = .ok (.invokevirtual 242, 3) := dk_182 0 242 (dk_at dksX2_readsCommand_3 11 rfl rfl)
theorem dX2_readsCommand_84 : decode cX2_readsCommand 84 = .ok (.ifCond .eq 33, 3) := dk_153 0 33 (dk_at dksX2_readsCommand_3 14 rfl rfl)
theorem dX2_readsCommand_87 : decode cX2_readsCommand 87 = .ok (.aload_n 0, 1) := dk_42 (dk_at dksX2_readsCommand_3 17 rfl rfl)
theorem dX2_readsCommand_88 : decode cX2_readsCommand 88 = .ok (.bipush 111, 2) := dk_16 111 (dk_at dksX2_readsCommand_3 18 rfl rfl)
theorem dX2_readsCommand_90 : decode cX2_readsCommand 90 = .ok (.invokevirtual 242, 3) := dk_182 0 242 (dk_at dksX2_readsCommand_3 20 rfl rfl)
theorem dX2_readsCommand_93 : decode cX2_readsCommand 93 = .ok (.ifCond .eq 24, 3) := dk_153 0 24 (dk_at dksX2_readsCommand_4 0 rfl rfl)
theorem dX2_readsCommand_96 : decode cX2_readsCommand 96 = .ok (.aload_n 0, 1) := dk_42 (dk_at dksX2_readsCommand_4 3 rfl rfl)
theorem dX2_readsCommand_97 : decode cX2_readsCommand 97 = .ok (.bipush 32, 2) := dk_16 32 (dk_at dksX2_readsCommand_4 4 rfl rfl)
theorem dX2_readsCommand_99 : decode cX2_readsCommand 99 = .ok (.invokevirtual 242, 3) := dk_182 0 242 (dk_at dksX2_readsCommand_4 6 rfl rfl)
theorem dX2_readsCommand_102 : decode cX2_readsCommand 102 = .ok (.ifCond .eq 15, 3) := dk_153 0 15 (dk_at dksX2_readsCommand_4 9 rfl rfl)
theorem dX2_readsCommand_105 : decode cX2_readsCommand 105 = .ok (.aload_n 0, 1) := dk_42 (dk_at dksX2_readsCommand_4 12 rfl rfl)
theorem dX2_readsCommand_106 : decode cX2_readsCommand 106 = .ok (.iconst 0, 1) := dk_3 (dk_at dksX2_readsCommand_4 13 rfl rfl)
theorem dX2_readsCommand_107 : decode cX2_readsCommand 107 = .ok (.invokevirtual 239, 3) := dk_182 0 239 (dk_at dksX2_readsCommand_4 14 rfl rfl)
theorem dX2_readsCommand_110 : decode cX2_readsCommand 110 = .ok (.ifCond .eq 7, 3) := dk_153 0 7 (dk_at dksX2_readsCommand_4 17 rfl rfl)
theorem dX2_readsCommand_113 : decode cX2_readsCommand 113 = .ok (.iconst 1, 1) := dk_4 (dk_at dksX2_readsCommand_4 20 rfl rfl)
theorem dX2_readsCommand_114 : decode cX2_readsCommand 114 = .ok (.goto 4, 3) := dk_167 0 4 (dk_at dksX2_readsCommand_4 21 rfl rfl)
theorem dX2_readsCommand_117 : decode cX2_readsCommand 117 = .ok (.iconst 0, 1) := dk_3 (dk_at dksX2_readsCommand_5 0 rfl rfl)
theorem dX2_readsCommand_118 : decode cX2_readsCommand 118 = .ok (.ireturn, 1) := dk_172 (dk_at dksX2_readsCommand_5 1 rfl rfl)
abbrev cX2_nextSign : ByteArray := prog_27_method_81_code
def yX2_nextSign : MethodName := ⟨RX2, "nextSign", "()I"⟩
def dkwX2_nextSign_1 : List UInt8 := [172]
abbrev dktX2_nextSign_1 : List UInt8 := dkwX2_nextSign_1 ++ []
def dkwX2_nextSign_0 : List UInt8 := [42, 180, 0, 233, 42, 180, 0, 218, 162, 0, 15, 42, 180, 0, 52, 42, 180, 0, 233, 52, 167, 0, 4, 2]
abbrev dktX2_nextSign_0 : List UInt8 := dkwX2_nextSign_0 ++ dktX2_nextSign_1
theorem dksX2_nextSign_0 : cX2_nextSign.data.toList.drop 0 = dktX2_nextSign_0 := by decide +kernel
theorem dksX2_nextSign_1 : cX2_nextSign.data.toList.drop 24 = dktX2_nextSign_1 := dk_seg dksX2_nextSign_0 24 rfl rfl
theorem dX2_nextSign_0 : decode cX2_nextSign 0 = .ok (.aload_n 0, 1) := dk_42 (dk_at dksX2_nextSign_0 0 rfl rfl)
theorem dX2_nextSign_1 : decode cX2_nextSign 1 = .ok (.getfield 233, 3) := dk_180 0 233 (dk_at dksX2_nextSign_0 1 rfl rfl)
theorem dX2_nextSign_4 : decode cX2_nextSign 4 = .ok (.aload_n 0, 1) := dk_42 (dk_at dksX2_nextSign_0 4 rfl rfl)
theorem dX2_nextSign_5 : decode cX2_nextSign 5 = .ok (.getfield 218, 3) := dk_180 0 218 (dk_at dksX2_nextSign_0 5 rfl rfl)
theorem dX2_nextSign_8 : decode cX2_nextSign 8 = .ok (.if_icmp .ge 15, 3) := dk_162 0 15 (dk_at dksX2_nextSign_0 8 rfl rfl)
theorem dX2_nextSign_11 : decode cX2_nextSign 11 = .ok (.aload_n 0, 1) := dk_42 (dk_at dksX2_nextSign_0 11 rfl rfl)
theorem dX2_nextSign_12 : decode cX2_nextSign 12 = .ok (.getfield 52, 3) := dk_180 0 52 (dk_at dksX2_nextSign_0 12 rfl rfl)
theorem dX2_nextSign_15 : decode cX2_nextSign 15 = .ok (.aload_n 0, 1) := dk_42 (dk_at dksX2_nextSign_0 15 rfl rfl)
theorem dX2_nextSign_16 : decode cX2_nextSign 16 = .ok (.getfield 233, 3) := dk_180 0 233 (dk_at dksX2_nextSign_0 16 rfl rfl)
theorem dX2_nextSign_19 : decode cX2_nextSign 19 = .ok (.caload, 1) := dk_52 (dk_at dksX2_nextSign_0 19 rfl rfl)
theorem dX2_nextSign_20 : decode cX2_nextSign 20 = .ok (.goto 4, 3) := dk_167 0 4 (dk_at dksX2_nextSign_0 20 rfl rfl)
theorem dX2_nextSign_23 : decode cX2_nextSign 23 = .ok (.iconst (-1), 1) := dk_2 (dk_at dksX2_nextSign_0 23 rfl rfl)
theorem dX2_nextSign_24 : decode cX2_nextSign 24 = .ok (.ireturn, 1) := dk_172 (dk_at dksX2_nextSign_1 0 rfl rfl)
abbrev cX2_reads : ByteArray := prog_27_method_82_code
def yX2_reads : MethodName := ⟨RX2, "reads", "(I)Z"⟩
def dkwX2_reads_0 : List UInt8 := [42, 182, 0, 236, 27, 159, 0, 5, 3, 172, 42, 89, 180, 0, 233, 4, 96, 181, 0, 233, 4, 172]
abbrev dktX2_reads_0 : List UInt8 := dkwX2_reads_0 ++ []
theorem dksX2_reads_0 : cX2_reads.data.toList.drop 0 = dktX2_reads_0 := by decide +kernel
theorem dX2_reads_0 : decode cX2_reads 0 = .ok (.aload_n 0, 1) := dk_42 (dk_at dksX2_reads_0 0 rfl rfl)
theorem dX2_reads_1 : decode cX2_reads 1 = .ok (.invokevirtual 236, 3) := dk_182 0 236 (dk_at dksX2_reads_0 1 rfl rfl)
theorem dX2_reads_4 : decode cX2_reads 4 = .ok (.iload_n 1, 1) := dk_27 (dk_at dksX2_reads_0 4 rfl rfl)
theorem dX2_reads_5 : decode cX2_reads 5 = .ok (.if_icmp .eq 5, 3) := dk_159 0 5 (dk_at dksX2_reads_0 5 rfl rfl)
theorem dX2_reads_8 : decode cX2_reads 8 = .ok (.iconst 0, 1) := dk_3 (dk_at dksX2_reads_0 8 rfl rfl)
theorem dX2_reads_9 : decode cX2_reads 9 = .ok (.ireturn, 1) := dk_172 (dk_at dksX2_reads_0 9 rfl rfl)
theorem dX2_reads_10 : decode cX2_reads 10 = .ok (.aload_n 0, 1) := dk_42 (dk_at dksX2_reads_0 10 rfl rfl)
theorem dX2_reads_11 : decode cX2_reads 11 = .ok (.dup, 1) := dk_89 (dk_at dksX2_reads_0 11 rfl rfl)
theorem dX2_reads_12 : decode cX2_reads 12 = .ok (.getfield 233, 3) := dk_180 0 233 (dk_at dksX2_reads_0 12 rfl rfl)
theorem dX2_reads_15 : decode cX2_reads 15 = .ok (.iconst 1, 1) := dk_4 (dk_at dksX2_reads_0 15 rfl rfl)
theorem dX2_reads_16 : decode cX2_reads 16 = .ok (.iadd, 1) := dk_96 (dk_at dksX2_reads_0 16 rfl rfl)
theorem dX2_reads_17 : decode cX2_reads 17 = .ok (.putfield 233, 3) := dk_181 0 233 (dk_at dksX2_reads_0 17 rfl rfl)
theorem dX2_reads_20 : decode cX2_reads 20 = .ok (.iconst 1, 1) := dk_4 (dk_at dksX2_reads_0 20 rfl rfl)
theorem dX2_reads_21 : decode cX2_reads 21 = .ok (.ireturn, 1) := dk_172 (dk_at dksX2_reads_0 21 rfl rfl)
abbrev cX2_readsJoke : ByteArray := prog_27_method_85_code
def yX2_readsJoke : MethodName := ⟨RX2, "readsJoke", "()Z"⟩
def dkwX2_readsJoke_4 : List UInt8 := [182, 0, 239, 153, 0, 7, 4, 167, 0, 4, 3, 172]
abbrev dktX2_readsJoke_4 : List UInt8 := dkwX2_readsJoke_4 ++ []
def dkwX2_readsJoke_3 : List UInt8 := [153, 0, 32, 42, 5, 182, 0, 245, 153, 0, 24, 42, 16, 32, 182, 0, 242, 153, 0, 15, 42, 6]
abbrev dktX2_readsJoke_3 : List UInt8 := dkwX2_readsJoke_3 ++ dktX2_readsJoke_4
def dkwX2_readsJoke_2 : List UInt8 := [182, 0, 242, 154, 0, 5, 3, 172, 42, 4, 182, 0, 245, 153, 0, 41, 42, 16, 32, 182, 0, 242]
abbrev dktX2_readsJoke_2 : List UInt8 := dkwX2_readsJoke_2 ++ dktX2_readsJoke_3
def dkwX2_readsJoke_1 : List UInt8 := [153, 0, 29, 42, 16, 32, 182, 0, 242, 153, 0, 20, 42, 3, 182, 0, 239, 153, 0, 12, 42, 16, 32]
abbrev dktX2_readsJoke_1 : List UInt8 := dkwX2_readsJoke_1 ++ dktX2_readsJoke_2
def dkwX2_readsJoke_0 : List UInt8 := [42, 16, 111, 182, 0, 242, 153, 0, 47, 42, 16, 107, 182, 0, 242, 153, 0, 38, 42, 16, 101, 182, 0, 242]
abbrev dktX2_readsJoke_0 : List UInt8 := dkwX2_readsJoke_0 ++ dktX2_readsJoke_1
theorem dksX2_readsJoke_0 : cX2_readsJoke.data.toList.drop 0 = dktX2_readsJoke_0 := by decide +kernel
theorem dksX2_readsJoke_1 : cX2_readsJoke.data.toList.drop 24 = dktX2_readsJoke_1 := dk_seg dksX2_readsJoke_0 24 rfl rfl
theorem dksX2_readsJoke_2 : cX2_readsJoke.data.toList.drop 47 = dktX2_readsJoke_2 := dk_seg dksX2_readsJoke_1 23 rfl rfl
theorem dksX2_readsJoke_3 : cX2_readsJoke.data.toList.drop 69 = dktX2_readsJoke_3 := dk_seg dksX2_readsJoke_2 22 rfl rfl
theorem dksX2_readsJoke_4 : cX2_readsJoke.data.toList.drop 91 = dktX2_readsJoke_4 := dk_seg dksX2_readsJoke_3 22 rfl rfl
theorem dX2_readsJoke_0 : decode cX2_readsJoke 0 = .ok (.aload_n 0, 1) := dk_42 (dk_at dksX2_readsJoke_0 0 rfl rfl)
theorem dX2_readsJoke_1 : decode cX2_readsJoke 1 = .ok (.bipush 111, 2) := dk_16 111 (dk_at dksX2_readsJoke_0 1 rfl rfl)
theorem dX2_readsJoke_3 : decode cX2_readsJoke 3 = .ok (.invokevirtual 242, 3) := dk_182 0 242 (dk_at dksX2_readsJoke_0 3 rfl rfl)
theorem dX2_readsJoke_6 : decode cX2_readsJoke 6 = .ok (.ifCond .eq 47, 3) := dk_153 0 47 (dk_at dksX2_readsJoke_0 6 rfl rfl)
theorem dX2_readsJoke_9 : decode cX2_readsJoke 9 = .ok (.aload_n 0, 1) := dk_42 (dk_at dksX2_readsJoke_0 9 rfl rfl)
theorem dX2_readsJoke_10 : decode cX2_readsJoke 10 = .ok (.bipush 107, 2) := dk_16 107 (dk_at dksX2_readsJoke_0 10 rfl rfl)
theorem dX2_readsJoke_12 : decode cX2_readsJoke 12 = .ok (.invokevirtual 242, 3) := dk_182 0 242 (dk_at dksX2_readsJoke_0 12 rfl rfl)
theorem dX2_readsJoke_15 : decode cX2_readsJoke 15 = .ok (.ifCond .eq 38, 3) := dk_153 0 38 (dk_at dksX2_readsJoke_0 15 rfl rfl)
theorem dX2_readsJoke_18 : decode cX2_readsJoke 18 = .ok (.aload_n 0, 1) := dk_42 (dk_at dksX2_readsJoke_0 18 rfl rfl)
theorem dX2_readsJoke_19 : decode cX2_readsJoke 19 = .ok (.bipush 101, 2) := dk_16 101 (dk_at dksX2_readsJoke_0 19 rfl rfl)
theorem dX2_readsJoke_21 : decode cX2_readsJoke 21 = .ok (.invokevirtual 242, 3) := dk_182 0 242 (dk_at dksX2_readsJoke_0 21 rfl rfl)
theorem dX2_readsJoke_24 : decode cX2_readsJoke 24 = .ok (.ifCond .eq 29, 3) := dk_153 0 29 (dk_at dksX2_readsJoke_1 0 rfl rfl)
theorem dX2_readsJoke_27 : decode cX2_readsJoke 27 = .ok (.aload_n 0, 1) := dk_42 (dk_at dksX2_readsJoke_1 3 rfl rfl)
theorem dX2_readsJoke_28 : decode cX2_readsJoke 28 = .ok (.bipush 32, 2) := dk_16 32 (dk_at dksX2_readsJoke_1 4 rfl rfl)
theorem dX2_readsJoke_30 : decode cX2_readsJoke 30 = .ok (.invokevirtual 242, 3) := dk_182 0 242 (dk_at dksX2_readsJoke_1 6 rfl rfl)
theorem dX2_readsJoke_33 : decode cX2_readsJoke 33 = .ok (.ifCond .eq 20, 3) := dk_153 0 20 (dk_at dksX2_readsJoke_1 9 rfl rfl)
theorem dX2_readsJoke_36 : decode cX2_readsJoke 36 = .ok (.aload_n 0, 1) := dk_42 (dk_at dksX2_readsJoke_1 12 rfl rfl)
theorem dX2_readsJoke_37 : decode cX2_readsJoke 37 = .ok (.iconst 0, 1) := dk_3 (dk_at dksX2_readsJoke_1 13 rfl rfl)
theorem dX2_readsJoke_38 : decode cX2_readsJoke 38 = .ok (.invokevirtual 239, 3) := dk_182 0 239 (dk_at dksX2_readsJoke_1 14 rfl rfl)
theorem dX2_readsJoke_41 : decode cX2_readsJoke 41 = .ok (.ifCond .eq 12, 3) := dk_153 0 12 (dk_at dksX2_readsJoke_1 17 rfl rfl)
theorem dX2_readsJoke_44 : decode cX2_readsJoke 44 = .ok (.aload_n 0, 1) := dk_42 (dk_at dksX2_readsJoke_1 20 rfl rfl)
theorem dX2_readsJoke_45 : decode cX2_readsJoke 45 = .ok (.bipush 32, 2) := dk_16 32 (dk_at dksX2_readsJoke_1 21 rfl rfl)
theorem dX2_readsJoke_47 : decode cX2_readsJoke 47 = .ok (.invokevirtual 242, 3) := dk_182 0 242 (dk_at dksX2_readsJoke_2 0 rfl rfl)
theorem dX2_readsJoke_50 : decode cX2_readsJoke 50 = .ok (.ifCond .ne 5, 3) := dk_154 0 5 (dk_at dksX2_readsJoke_2 3 rfl rfl)
theorem dX2_readsJoke_53 : decode cX2_readsJoke 53 = .ok (.iconst 0, 1) := dk_3 (dk_at dksX2_readsJoke_2 6 rfl rfl)
theorem dX2_readsJoke_54 : decode cX2_readsJoke 54 = .ok (.ireturn, 1) := dk_172 (dk_at dksX2_readsJoke_2 7 rfl rfl)
theorem dX2_readsJoke_55 : decode cX2_readsJoke 55 = .ok (.aload_n 0, 1) := dk_42 (dk_at dksX2_readsJoke_2 8 rfl rfl)
theorem dX2_readsJoke_56 : decode cX2_readsJoke 56 = .ok (.iconst 1, 1) := dk_4 (dk_at dksX2_readsJoke_2 9 rfl rfl)
theorem dX2_readsJoke_57 : decode cX2_readsJoke 57 = .ok (.invokevirtual 245, 3) := dk_182 0 245 (dk_at dksX2_readsJoke_2 10 rfl rfl)
theorem dX2_readsJoke_60 : decode cX2_readsJoke 60 = .ok (.ifCond .eq 41, 3) := dk_153 0 41 (dk_at dksX2_readsJoke_2 13 rfl rfl)
theorem dX2_readsJoke_63 : decode cX2_readsJoke 63 = .ok (.aload_n 0, 1) := dk_42 (dk_at dksX2_readsJoke_2 16 rfl rfl)
theorem dX2_readsJoke_64 : decode cX2_readsJoke 64 = .ok (.bipush 32, 2) := dk_16 32 (dk_at dksX2_readsJoke_2 17 rfl rfl)
theorem dX2_readsJoke_66 : decode cX2_readsJoke 66 = .ok (.invokevirtual 242, 3) := dk_182 0 242 (dk_at dksX2_readsJoke_2 19 rfl rfl)
theorem dX2_readsJoke_69 : decode cX2_readsJoke 69 = .ok (.ifCond .eq 32, 3) := dk_153 0 32 (dk_at dksX2_readsJoke_3 0 rfl rfl)
theorem dX2_readsJoke_72 : decode cX2_readsJoke 72 = .ok (.aload_n 0, 1) := dk_42 (dk_at dksX2_readsJoke_3 3 rfl rfl)
theorem dX2_readsJoke_73 : decode cX2_readsJoke 73 = .ok (.iconst 2, 1) := dk_5 (dk_at dksX2_readsJoke_3 4 rfl rfl)
theorem dX2_readsJoke_74 : decode cX2_readsJoke 74 = .ok (.invokevirtual 245, 3) := dk_182 0 245 (dk_at dksX2_readsJoke_3 5 rfl rfl)
theorem dX2_readsJoke_77 : decode cX2_readsJoke 77 = .ok (.ifCond .eq 24, 3) := dk_153 0 24 (dk_at dksX2_readsJoke_3 8 rfl rfl)
theorem dX2_readsJoke_80 : decode cX2_readsJoke 80 = .ok (.aload_n 0, 1) := dk_42 (dk_at dksX2_readsJoke_3 11 rfl rfl)
theorem dX2_readsJoke_81 : decode cX2_readsJoke 81 = .ok (.bipush 32, 2) := dk_16 32 (dk_at dksX2_readsJoke_3 12 rfl rfl)
theorem dX2_readsJoke_83 : decode cX2_readsJoke 83 = .ok (.invokevirtual 242, 3) := dk_182 0 242 (dk_at dksX2_readsJoke_3 14 rfl rfl)
theorem dX2_readsJoke_86 : decode cX2_readsJoke 86 = .ok (.ifCond .eq 15, 3) := dk_153 0 15 (dk_at dksX2_readsJoke_3 17 rfl rfl)
theorem dX2_readsJoke_89 : decode cX2_readsJoke 89 = .ok (.aload_n 0, 1) := dk_42 (dk_at dksX2_readsJoke_3 20 rfl rfl)
theorem dX2_readsJoke_90 : decode cX2_readsJoke 90 = .ok (.iconst 3, 1) := dk_6 (dk_at dksX2_readsJoke_3 21 rfl rfl)
theorem dX2_readsJoke_91 : decode cX2_readsJoke 91 = .ok (.invokevirtual 239, 3) := dk_182 0 239 (dk_at dksX2_readsJoke_4 0 rfl rfl)
theorem dX2_readsJoke_94 : decode cX2_readsJoke 94 = .ok (.ifCond .eq 7, 3) := dk_153 0 7 (dk_at dksX2_readsJoke_4 3 rfl rfl)
theorem dX2_readsJoke_97 : decode cX2_readsJoke 97 = .ok (.iconst 1, 1) := dk_4 (dk_at dksX2_readsJoke_4 6 rfl rfl)
theorem dX2_readsJoke_98 : decode cX2_readsJoke 98 = .ok (.goto 4, 3) := dk_167 0 4 (dk_at dksX2_readsJoke_4 7 rfl rfl)
theorem dX2_readsJoke_101 : decode cX2_readsJoke 101 = .ok (.iconst 0, 1) := dk_3 (dk_at dksX2_readsJoke_4 10 rfl rfl)
theorem dX2_readsJoke_102 : decode cX2_readsJoke 102 = .ok (.ireturn, 1) := dk_172 (dk_at dksX2_readsJoke_4 11 rfl rfl)
abbrev cX2_readsDigit : ByteArray := prog_27_method_83_code
def yX2_readsDigit : MethodName := ⟨RX2, "readsDigit", "(I)Z"⟩
def dkwX2_readsDigit_1 : List UInt8 := [182, 0, 236, 16, 48, 100, 79, 42, 89, 180, 0, 233, 4, 96, 181, 0, 233, 4, 172]
abbrev dktX2_readsDigit_1 : List UInt8 := dkwX2_readsDigit_1 ++ []
def dkwX2_readsDigit_0 : List UInt8 := [42, 182, 0, 236, 16, 48, 16, 57, 184, 0, 19, 154, 0, 5, 3, 172, 42, 180, 0, 58, 27, 42]
abbrev dktX2_readsDigit_0 : List UInt8 := dkwX2_readsDigit_0 ++ dktX2_readsDigit_1
theorem dksX2_readsDigit_0 : cX2_readsDigit.data.toList.drop 0 = dktX2_readsDigit_0 := by decide +kernel
theorem dksX2_readsDigit_1 : cX2_readsDigit.data.toList.drop 22 = dktX2_readsDigit_1 := dk_seg dksX2_readsDigit_0 22 rfl rfl
theorem dX2_readsDigit_0 : decode cX2_readsDigit 0 = .ok (.aload_n 0, 1) := dk_42 (dk_at dksX2_readsDigit_0 0 rfl rfl)
theorem dX2_readsDigit_1 : decode cX2_readsDigit 1 = .ok (.invokevirtual 236, 3) := dk_182 0 236 (dk_at dksX2_readsDigit_0 1 rfl rfl)
theorem dX2_readsDigit_4 : decode cX2_readsDigit 4 = .ok (.bipush 48, 2) := dk_16 48 (dk_at dksX2_readsDigit_0 4 rfl rfl)
theorem dX2_readsDigit_6 : decode cX2_readsDigit 6 = .ok (.bipush 57, 2) := dk_16 57 (dk_at dksX2_readsDigit_0 6 rfl rfl)
theorem dX2_readsDigit_8 : decode cX2_readsDigit 8 = .ok (.invokestatic 19, 3) := dk_184 0 19 (dk_at dksX2_readsDigit_0 8 rfl rfl)
theorem dX2_readsDigit_11 : decode cX2_readsDigit 11 = .ok (.ifCond .ne 5, 3) := dk_154 0 5 (dk_at dksX2_readsDigit_0 11 rfl rfl)
theorem dX2_readsDigit_14 : decode cX2_readsDigit 14 = .ok (.iconst 0, 1) := dk_3 (dk_at dksX2_readsDigit_0 14 rfl rfl)
theorem dX2_readsDigit_15 : decode cX2_readsDigit 15 = .ok (.ireturn, 1) := dk_172 (dk_at dksX2_readsDigit_0 15 rfl rfl)
theorem dX2_readsDigit_16 : decode cX2_readsDigit 16 = .ok (.aload_n 0, 1) := dk_42 (dk_at dksX2_readsDigit_0 16 rfl rfl)
theorem dX2_readsDigit_17 : decode cX2_readsDigit 17 = .ok (.getfield 58, 3) := dk_180 0 58 (dk_at dksX2_readsDigit_0 17 rfl rfl)
theorem dX2_readsDigit_20 : decode cX2_readsDigit 20 = .ok (.iload_n 1, 1) := dk_27 (dk_at dksX2_readsDigit_0 20 rfl rfl)
theorem dX2_readsDigit_21 : decode cX2_readsDigit 21 = .ok (.aload_n 0, 1) := dk_42 (dk_at dksX2_readsDigit_0 21 rfl rfl)
theorem dX2_readsDigit_22 : decode cX2_readsDigit 22 = .ok (.invokevirtual 236, 3) := dk_182 0 236 (dk_at dksX2_readsDigit_1 0 rfl rfl)
theorem dX2_readsDigit_25 : decode cX2_readsDigit 25 = .ok (.bipush 48, 2) := dk_16 48 (dk_at dksX2_readsDigit_1 3 rfl rfl)
theorem dX2_readsDigit_27 : decode cX2_readsDigit 27 = .ok (.isub, 1) := dk_100 (dk_at dksX2_readsDigit_1 5 rfl rfl)
theorem dX2_readsDigit_28 : decode cX2_readsDigit 28 = .ok (.iastore, 1) := dk_79 (dk_at dksX2_readsDigit_1 6 rfl rfl)
theorem dX2_readsDigit_29 : decode cX2_readsDigit 29 = .ok (.aload_n 0, 1) := dk_42 (dk_at dksX2_readsDigit_1 7 rfl rfl)
theorem dX2_readsDigit_30 : decode cX2_readsDigit 30 = .ok (.dup, 1) := dk_89 (dk_at dksX2_readsDigit_1 8 rfl rfl)
theorem dX2_readsDigit_31 : decode cX2_readsDigit 31 = .ok (.getfield 233, 3) := dk_180 0 233 (dk_at dksX2_readsDigit_1 9 rfl rfl)
theorem dX2_readsDigit_34 : decode cX2_readsDigit 34 = .ok (.iconst 1, 1) := dk_4 (dk_at dksX2_readsDigit_1 12 rfl rfl)
theorem dX2_readsDigit_35 : decode cX2_readsDigit 35 = .ok (.iadd, 1) := dk_96 (dk_at dksX2_readsDigit_1 13 rfl rfl)
theorem dX2_readsDigit_36 : decode cX2_readsDigit 36 = .ok (.putfield 233, 3) := dk_181 0 233 (dk_at dksX2_readsDigit_1 14 rfl rfl)
theorem dX2_readsDigit_39 : decode cX2_readsDigit 39 = .ok (.iconst 1, 1) := dk_4 (dk_at dksX2_readsDigit_1 17 rfl rfl)
theorem dX2_readsDigit_40 : decode cX2_readsDigit 40 = .ok (.ireturn, 1) := dk_172 (dk_at dksX2_readsDigit_1 18 rfl rfl)
abbrev cX2_readsNumber : ByteArray := prog_27_method_84_code
def yX2_readsNumber : MethodName := ⟨RX2, "readsNumber", "(I)Z"⟩
def dkwX2_readsNumber_2 : List UInt8 := [79, 42, 89, 180, 0, 233, 4, 96, 181, 0, 233, 4, 172]
abbrev dktX2_readsNumber_2 : List UInt8 := dkwX2_readsNumber_2 ++ []
def dkwX2_readsNumber_1 : List UInt8 := [4, 172, 42, 180, 0, 58, 27, 16, 10, 42, 180, 0, 58, 27, 46, 104, 42, 182, 0, 236, 96, 16, 48, 100]
abbrev dktX2_readsNumber_1 : List UInt8 := dkwX2_readsNumber_1 ++ dktX2_readsNumber_2
def dkwX2_readsNumber_0 : List UInt8 := [42, 27, 182, 0, 239, 154, 0, 5, 3, 172, 42, 182, 0, 236, 16, 48, 16, 57, 184, 0, 19, 154, 0, 5]
abbrev dktX2_readsNumber_0 : List UInt8 := dkwX2_readsNumber_0 ++ dktX2_readsNumber_1
theorem dksX2_readsNumber_0 : cX2_readsNumber.data.toList.drop 0 = dktX2_readsNumber_0 := by decide +kernel
theorem dksX2_readsNumber_1 : cX2_readsNumber.data.toList.drop 24 = dktX2_readsNumber_1 := dk_seg dksX2_readsNumber_0 24 rfl rfl
theorem dksX2_readsNumber_2 : cX2_readsNumber.data.toList.drop 48 = dktX2_readsNumber_2 := dk_seg dksX2_readsNumber_1 24 rfl rfl
theorem dX2_readsNumber_0 : decode cX2_readsNumber 0 = .ok (.aload_n 0, 1) := dk_42 (dk_at dksX2_readsNumber_0 0 rfl rfl)
theorem dX2_readsNumber_1 : decode cX2_readsNumber 1 = .ok (.iload_n 1, 1) := dk_27 (dk_at dksX2_readsNumber_0 1 rfl rfl)
theorem dX2_readsNumber_2 : decode cX2_readsNumber 2 = .ok (.invokevirtual 239, 3) := dk_182 0 239 (dk_at dksX2_readsNumber_0 2 rfl rfl)
theorem dX2_readsNumber_5 : decode cX2_readsNumber 5 = .ok (.ifCond .ne 5, 3) := dk_154 0 5 (dk_at dksX2_readsNumber_0 5 rfl rfl)
theorem dX2_readsNumber_8 : decode cX2_readsNumber 8 = .ok (.iconst 0, 1) := dk_3 (dk_at dksX2_readsNumber_0 8 rfl rfl)
theorem dX2_readsNumber_9 : decode cX2_readsNumber 9 = .ok (.ireturn, 1) := dk_172 (dk_at dksX2_readsNumber_0 9 rfl rfl)
theorem dX2_readsNumber_10 : decode cX2_readsNumber 10 = .ok (.aload_n 0, 1) := dk_42 (dk_at dksX2_readsNumber_0 10 rfl rfl)
theorem dX2_readsNumber_11 : decode cX2_readsNumber 11 = .ok (.invokevirtual 236, 3) := dk_182 0 236 (dk_at dksX2_readsNumber_0 11 rfl rfl)
theorem dX2_readsNumber_14 : decode cX2_readsNumber 14 = .ok (.bipush 48, 2) := dk_16 48 (dk_at dksX2_readsNumber_0 14 rfl rfl)
theorem dX2_readsNumber_16 : decode cX2_readsNumber 16 = .ok (.bipush 57, 2) := dk_16 57 (dk_at dksX2_readsNumber_0 16 rfl rfl)
theorem dX2_readsNumber_18 : decode cX2_readsNumber 18 = .ok (.invokestatic 19, 3) := dk_184 0 19 (dk_at dksX2_readsNumber_0 18 rfl rfl)
theorem dX2_readsNumber_21 : decode cX2_readsNumber 21 = .ok (.ifCond .ne 5, 3) := dk_154 0 5 (dk_at dksX2_readsNumber_0 21 rfl rfl)
theorem dX2_readsNumber_24 : decode cX2_readsNumber 24 = .ok (.iconst 1, 1) := dk_4 (dk_at dksX2_readsNumber_1 0 rfl rfl)
theorem dX2_readsNumber_25 : decode cX2_readsNumber 25 = .ok (.ireturn, 1) := dk_172 (dk_at dksX2_readsNumber_1 1 rfl rfl)
theorem dX2_readsNumber_26 : decode cX2_readsNumber 26 = .ok (.aload_n 0, 1) := dk_42 (dk_at dksX2_readsNumber_1 2 rfl rfl)
theorem dX2_readsNumber_27 : decode cX2_readsNumber 27 = .ok (.getfield 58, 3) := dk_180 0 58 (dk_at dksX2_readsNumber_1 3 rfl rfl)
theorem dX2_readsNumber_30 : decode cX2_readsNumber 30 = .ok (.iload_n 1, 1) := dk_27 (dk_at dksX2_readsNumber_1 6 rfl rfl)
theorem dX2_readsNumber_31 : decode cX2_readsNumber 31 = .ok (.bipush 10, 2) := dk_16 10 (dk_at dksX2_readsNumber_1 7 rfl rfl)
theorem dX2_readsNumber_33 : decode cX2_readsNumber 33 = .ok (.aload_n 0, 1) := dk_42 (dk_at dksX2_readsNumber_1 9 rfl rfl)
theorem dX2_readsNumber_34 : decode cX2_readsNumber 34 = .ok (.getfield 58, 3) := dk_180 0 58 (dk_at dksX2_readsNumber_1 10 rfl rfl)
theorem dX2_readsNumber_37 : decode cX2_readsNumber 37 = .ok (.iload_n 1, 1) := dk_27 (dk_at dksX2_readsNumber_1 13 rfl rfl)
theorem dX2_readsNumber_38 : decode cX2_readsNumber 38 = .ok (.iaload, 1) := dk_46 (dk_at dksX2_readsNumber_1 14 rfl rfl)
theorem dX2_readsNumber_39 : decode cX2_readsNumber 39 = .ok (.imul, 1) := dk_104 (dk_at dksX2_readsNumber_1 15 rfl rfl)
theorem dX2_readsNumber_40 : decode cX2_readsNumber 40 = .ok (.aload_n 0, 1) := dk_42 (dk_at dksX2_readsNumber_1 16 rfl rfl)
theorem dX2_readsNumber_41 : decode cX2_readsNumber 41 = .ok (.invokevirtual 236, 3) := dk_182 0 236 (dk_at dksX2_readsNumber_1 17 rfl rfl)
theorem dX2_readsNumber_44 : decode cX2_readsNumber 44 = .ok (.iadd, 1) := dk_96 (dk_at dksX2_readsNumber_1 20 rfl rfl)
theorem dX2_readsNumber_45 : decode cX2_readsNumber 45 = .ok (.bipush 48, 2) := dk_16 48 (dk_at dksX2_readsNumber_1 21 rfl rfl)
theorem dX2_readsNumber_47 : decode cX2_readsNumber 47 = .ok (.isub, 1) := dk_100 (dk_at dksX2_readsNumber_1 23 rfl rfl)
theorem dX2_readsNumber_48 : decode cX2_readsNumber 48 = .ok (.iastore, 1) := dk_79 (dk_at dksX2_readsNumber_2 0 rfl rfl)
theorem dX2_readsNumber_49 : decode cX2_readsNumber 49 = .ok (.aload_n 0, 1) := dk_42 (dk_at dksX2_readsNumber_2 1 rfl rfl)
theorem dX2_readsNumber_50 : decode cX2_readsNumber 50 = .ok (.dup, 1) := dk_89 (dk_at dksX2_readsNumber_2 2 rfl rfl)
theorem dX2_readsNumber_51 : decode cX2_readsNumber 51 = .ok (.getfield 233, 3) := dk_180 0 233 (dk_at dksX2_readsNumber_2 3 rfl rfl)
theorem dX2_readsNumber_54 : decode cX2_readsNumber 54 = .ok (.iconst 1, 1) := dk_4 (dk_at dksX2_readsNumber_2 6 rfl rfl)
theorem dX2_readsNumber_55 : decode cX2_readsNumber 55 = .ok (.iadd, 1) := dk_96 (dk_at dksX2_readsNumber_2 7 rfl rfl)
theorem dX2_readsNumber_56 : decode cX2_readsNumber 56 = .ok (.putfield 233, 3) := dk_181 0 233 (dk_at dksX2_readsNumber_2 8 rfl rfl)
theorem dX2_readsNumber_59 : decode cX2_readsNumber 59 = .ok (.iconst 1, 1) := dk_4 (dk_at dksX2_readsNumber_2 11 rfl rfl)
theorem dX2_readsNumber_60 : decode cX2_readsNumber 60 = .ok (.ireturn, 1) := dk_172 (dk_at dksX2_readsNumber_2 12 rfl rfl)
abbrev cX2_readsP : ByteArray := prog_27_method_86_code
def yX2_readsP : MethodName := ⟨RX2, "readsP", "()Z"⟩
def dkwX2_readsP_4 : List UInt8 := [182, 0, 242, 153, 0, 15, 42, 3, 182, 0, 245, 153, 0, 7, 4, 167, 0, 4, 3, 172]
abbrev dktX2_readsP_4 : List UInt8 := dkwX2_readsP_4 ++ []
def dkwX2_readsP_3 : List UInt8 := [153, 0, 42, 42, 16, 109, 182, 0, 242, 153, 0, 33, 42, 16, 101, 182, 0, 242, 153, 0, 24, 42, 16, 32]
abbrev dktX2_readsP_3 : List UInt8 := dkwX2_readsP_3 ++ dktX2_readsP_4
def dkwX2_readsP_2 : List UInt8 := [3, 172, 42, 16, 114, 181, 0, 248, 42, 16, 114, 182, 0, 242, 153, 0, 51, 42, 16, 105, 182, 0, 242]
abbrev dktX2_readsP_2 : List UInt8 := dkwX2_readsP_2 ++ dktX2_readsP_3
def dkwX2_readsP_1 : List UInt8 := [153, 0, 24, 42, 16, 32, 182, 0, 242, 153, 0, 15, 42, 3, 182, 0, 239, 153, 0, 7, 4, 167, 0, 4]
abbrev dktX2_readsP_1 : List UInt8 := dkwX2_readsP_1 ++ dktX2_readsP_2
def dkwX2_readsP_0 : List UInt8 := [42, 16, 117, 182, 0, 242, 153, 0, 44, 42, 16, 109, 182, 0, 242, 153, 0, 33, 42, 16, 112, 182, 0, 242]
abbrev dktX2_readsP_0 : List UInt8 := dkwX2_readsP_0 ++ dktX2_readsP_1
theorem dksX2_readsP_0 : cX2_readsP.data.toList.drop 0 = dktX2_readsP_0 := by decide +kernel
theorem dksX2_readsP_1 : cX2_readsP.data.toList.drop 24 = dktX2_readsP_1 := dk_seg dksX2_readsP_0 24 rfl rfl
theorem dksX2_readsP_2 : cX2_readsP.data.toList.drop 48 = dktX2_readsP_2 := dk_seg dksX2_readsP_1 24 rfl rfl
theorem dksX2_readsP_3 : cX2_readsP.data.toList.drop 71 = dktX2_readsP_3 := dk_seg dksX2_readsP_2 23 rfl rfl
theorem dksX2_readsP_4 : cX2_readsP.data.toList.drop 95 = dktX2_readsP_4 := dk_seg dksX2_readsP_3 24 rfl rfl
theorem dX2_readsP_0 : decode cX2_readsP 0 = .ok (.aload_n 0, 1) := dk_42 (dk_at dksX2_readsP_0 0 rfl rfl)
theorem dX2_readsP_1 : decode cX2_readsP 1 = .ok (.bipush 117, 2) := dk_16 117 (dk_at dksX2_readsP_0 1 rfl rfl)
theorem dX2_readsP_3 : decode cX2_readsP 3 = .ok (.invokevirtual 242, 3) := dk_182 0 242 (dk_at dksX2_readsP_0 3 rfl rfl)
theorem dX2_readsP_6 : decode cX2_readsP 6 = .ok (.ifCond .eq 44, 3) := dk_153 0 44 (dk_at dksX2_readsP_0 6 rfl rfl)
theorem dX2_readsP_9 : decode cX2_readsP 9 = .ok (.aload_n 0, 1) := dk_42 (dk_at dksX2_readsP_0 9 rfl rfl)
theorem dX2_readsP_10 : decode cX2_readsP 10 = .ok (.bipush 109, 2) := dk_16 109 (dk_at dksX2_readsP_0 10 rfl rfl)
theorem dX2_readsP_12 : decode cX2_readsP 12 = .ok (.invokevirtual 242, 3) := dk_182 0 242 (dk_at dksX2_readsP_0 12 rfl rfl)
theorem dX2_readsP_15 : decode cX2_readsP 15 = .ok (.ifCond .eq 33, 3) := dk_153 0 33 (dk_at dksX2_readsP_0 15 rfl rfl)
theorem dX2_readsP_18 : decode cX2_readsP 18 = .ok (.aload_n 0, 1) := dk_42 (dk_at dksX2_readsP_0 18 rfl rfl)
theorem dX2_readsP_19 : decode cX2_readsP 19 = .ok (.bipush 112, 2) := dk_16 112 (dk_at dksX2_readsP_0 19 rfl rfl)
theorem dX2_readsP_21 : decode cX2_readsP 21 = .ok (.invokevirtual 242, 3) := dk_182 0 242 (dk_at dksX2_readsP_0 21 rfl rfl)
theorem dX2_readsP_24 : decode cX2_readsP 24 = .ok (.ifCond .eq 24, 3) := dk_153 0 24 (dk_at dksX2_readsP_1 0 rfl rfl)
theorem dX2_readsP_27 : decode cX2_readsP 27 = .ok (.aload_n 0, 1) := dk_42 (dk_at dksX2_readsP_1 3 rfl rfl)
theorem dX2_readsP_28 : decode cX2_readsP 28 = .ok (.bipush 32, 2) := dk_16 32 (dk_at dksX2_readsP_1 4 rfl rfl)
theorem dX2_readsP_30 : decode cX2_readsP 30 = .ok (.invokevirtual 242, 3) := dk_182 0 242 (dk_at dksX2_readsP_1 6 rfl rfl)
theorem dX2_readsP_33 : decode cX2_readsP 33 = .ok (.ifCond .eq 15, 3) := dk_153 0 15 (dk_at dksX2_readsP_1 9 rfl rfl)
theorem dX2_readsP_36 : decode cX2_readsP 36 = .ok (.aload_n 0, 1) := dk_42 (dk_at dksX2_readsP_1 12 rfl rfl)
theorem dX2_readsP_37 : decode cX2_readsP 37 = .ok (.iconst 0, 1) := dk_3 (dk_at dksX2_readsP_1 13 rfl rfl)
theorem dX2_readsP_38 : decode cX2_readsP 38 = .ok (.invokevirtual 239, 3) := dk_182 0 239 (dk_at dksX2_readsP_1 14 rfl rfl)
theorem dX2_readsP_41 : decode cX2_readsP 41 = .ok (.ifCond .eq 7, 3) := dk_153 0 7 (dk_at dksX2_readsP_1 17 rfl rfl)
theorem dX2_readsP_44 : decode cX2_readsP 44 = .ok (.iconst 1, 1) := dk_4 (dk_at dksX2_readsP_1 20 rfl rfl)
theorem dX2_readsP_45 : decode cX2_readsP 45 = .ok (.goto 4, 3) := dk_167 0 4 (dk_at dksX2_readsP_1 21 rfl rfl)
theorem dX2_readsP_48 : decode cX2_readsP 48 = .ok (.iconst 0, 1) := dk_3 (dk_at dksX2_readsP_2 0 rfl rfl)
theorem dX2_readsP_49 : decode cX2_readsP 49 = .ok (.ireturn, 1) := dk_172 (dk_at dksX2_readsP_2 1 rfl rfl)
theorem dX2_readsP_50 : decode cX2_readsP 50 = .ok (.aload_n 0, 1) := dk_42 (dk_at dksX2_readsP_2 2 rfl rfl)
theorem dX2_readsP_51 : decode cX2_readsP 51 = .ok (.bipush 114, 2) := dk_16 114 (dk_at dksX2_readsP_2 3 rfl rfl)
theorem dX2_readsP_53 : decode cX2_readsP 53 = .ok (.putfield 248, 3) := dk_181 0 248 (dk_at dksX2_readsP_2 5 rfl rfl)
theorem dX2_readsP_56 : decode cX2_readsP 56 = .ok (.aload_n 0, 1) := dk_42 (dk_at dksX2_readsP_2 8 rfl rfl)
theorem dX2_readsP_57 : decode cX2_readsP 57 = .ok (.bipush 114, 2) := dk_16 114 (dk_at dksX2_readsP_2 9 rfl rfl)
theorem dX2_readsP_59 : decode cX2_readsP 59 = .ok (.invokevirtual 242, 3) := dk_182 0 242 (dk_at dksX2_readsP_2 11 rfl rfl)
theorem dX2_readsP_62 : decode cX2_readsP 62 = .ok (.ifCond .eq 51, 3) := dk_153 0 51 (dk_at dksX2_readsP_2 14 rfl rfl)
theorem dX2_readsP_65 : decode cX2_readsP 65 = .ok (.aload_n 0, 1) := dk_42 (dk_at dksX2_readsP_2 17 rfl rfl)
theorem dX2_readsP_66 : decode cX2_readsP 66 = .ok (.bipush 105, 2) := dk_16 105 (dk_at dksX2_readsP_2 18 rfl rfl)
theorem dX2_readsP_68 : decode cX2_readsP 68 = .ok (.invokevirtual 242, 3) := dk_182 0 242 (dk_at dksX2_readsP_2 20 rfl rfl)
theorem dX2_readsP_71 : decode cX2_readsP 71 = .ok (.ifCond .eq 42, 3) := dk_153 0 42 (dk_at dksX2_readsP_3 0 rfl rfl)
theorem dX2_readsP_74 : decode cX2_readsP 74 = .ok (.aload_n 0, 1) := dk_42 (dk_at dksX2_readsP_3 3 rfl rfl)
theorem dX2_readsP_75 : decode cX2_readsP 75 = .ok (.bipush 109, 2) := dk_16 109 (dk_at dksX2_readsP_3 4 rfl rfl)
theorem dX2_readsP_77 : decode cX2_readsP 77 = .ok (.invokevirtual 242, 3) := dk_182 0 242 (dk_at dksX2_readsP_3 6 rfl rfl)
theorem dX2_readsP_80 : decode cX2_readsP 80 = .ok (.ifCond .eq 33, 3) := dk_153 0 33 (dk_at dksX2_readsP_3 9 rfl rfl)
theorem dX2_readsP_83 : decode cX2_readsP 83 = .ok (.aload_n 0, 1) := dk_42 (dk_at dksX2_readsP_3 12 rfl rfl)
theorem dX2_readsP_84 : decode cX2_readsP 84 = .ok (.bipush 101, 2) := dk_16 101 (dk_at dksX2_readsP_3 13 rfl rfl)
theorem dX2_readsP_86 : decode cX2_readsP 86 = .ok (.invokevirtual 242, 3) := dk_182 0 242 (dk_at dksX2_readsP_3 15 rfl rfl)
theorem dX2_readsP_89 : decode cX2_readsP 89 = .ok (.ifCond .eq 24, 3) := dk_153 0 24 (dk_at dksX2_readsP_3 18 rfl rfl)
theorem dX2_readsP_92 : decode cX2_readsP 92 = .ok (.aload_n 0, 1) := dk_42 (dk_at dksX2_readsP_3 21 rfl rfl)
theorem dX2_readsP_93 : decode cX2_readsP 93 = .ok (.bipush 32, 2) := dk_16 32 (dk_at dksX2_readsP_3 22 rfl rfl)
theorem dX2_readsP_95 : decode cX2_readsP 95 = .ok (.invokevirtual 242, 3) := dk_182 0 242 (dk_at dksX2_readsP_4 0 rfl rfl)
theorem dX2_readsP_98 : decode cX2_readsP 98 = .ok (.ifCond .eq 15, 3) := dk_153 0 15 (dk_at dksX2_readsP_4 3 rfl rfl)
theorem dX2_readsP_101 : decode cX2_readsP 101 = .ok (.aload_n 0, 1) := dk_42 (dk_at dksX2_readsP_4 6 rfl rfl)
theorem dX2_readsP_102 : decode cX2_readsP 102 = .ok (.iconst 0, 1) := dk_3 (dk_at dksX2_readsP_4 7 rfl rfl)
theorem dX2_readsP_103 : decode cX2_readsP 103 = .ok (.invokevirtual 245, 3) := dk_182 0 245 (dk_at dksX2_readsP_4 8 rfl rfl)
theorem dX2_readsP_106 : decode cX2_readsP 106 = .ok (.ifCond .eq 7, 3) := dk_153 0 7 (dk_at dksX2_readsP_4 11 rfl rfl)
theorem dX2_readsP_109 : decode cX2_readsP 109 = .ok (.iconst 1, 1) := dk_4 (dk_at dksX2_readsP_4 14 rfl rfl)
theorem dX2_readsP_110 : decode cX2_readsP 110 = .ok (.goto 4, 3) := dk_167 0 4 (dk_at dksX2_readsP_4 15 rfl rfl)
theorem dX2_readsP_113 : decode cX2_readsP 113 = .ok (.iconst 0, 1) := dk_3 (dk_at dksX2_readsP_4 18 rfl rfl)
theorem dX2_readsP_114 : decode cX2_readsP 114 = .ok (.ireturn, 1) := dk_172 (dk_at dksX2_readsP_4 19 rfl rfl)
abbrev cX2_readsD : ByteArray := prog_27_method_87_code
def yX2_readsD : MethodName := ⟨RX2, "readsD", "()Z"⟩
def dkwX2_readsD_4 : List UInt8 := [42, 3, 182, 0, 245, 153, 0, 7, 4, 167, 0, 4, 3, 172]
abbrev dktX2_readsD_4 : List UInt8 := dkwX2_readsD_4 ++ []
def dkwX2_readsD_3 : List UInt8 := [182, 0, 242, 153, 0, 33, 42, 16, 112, 182, 0, 242, 153, 0, 24, 42, 16, 32, 182, 0, 242, 153, 0, 15]
abbrev dktX2_readsD_3 : List UInt8 := dkwX2_readsD_3 ++ dktX2_readsD_4
def dkwX2_readsD_2 : List UInt8 := [42, 3, 182, 0, 245, 153, 0, 7, 4, 167, 0, 4, 3, 172, 42, 16, 111, 181, 0, 248, 42, 16, 111]
abbrev dktX2_readsD_2 : List UInt8 := dkwX2_readsD_2 ++ dktX2_readsD_3
def dkwX2_readsD_1 : List UInt8 := [182, 0, 242, 153, 0, 33, 42, 16, 110, 182, 0, 242, 153, 0, 24, 42, 16, 32, 182, 0, 242, 153, 0, 15]
abbrev dktX2_readsD_1 : List UInt8 := dkwX2_readsD_1 ++ dktX2_readsD_2
def dkwX2_readsD_0 : List UInt8 := [42, 16, 114, 182, 0, 242, 154, 0, 5, 3, 172, 42, 16, 97, 182, 0, 242, 153, 0, 44, 42, 16, 105]
abbrev dktX2_readsD_0 : List UInt8 := dkwX2_readsD_0 ++ dktX2_readsD_1
theorem dksX2_readsD_0 : cX2_readsD.data.toList.drop 0 = dktX2_readsD_0 := by decide +kernel
theorem dksX2_readsD_1 : cX2_readsD.data.toList.drop 23 = dktX2_readsD_1 := dk_seg dksX2_readsD_0 23 rfl rfl
theorem dksX2_readsD_2 : cX2_readsD.data.toList.drop 47 = dktX2_readsD_2 := dk_seg dksX2_readsD_1 24 rfl rfl
theorem dksX2_readsD_3 : cX2_readsD.data.toList.drop 70 = dktX2_readsD_3 := dk_seg dksX2_readsD_2 23 rfl rfl
theorem dksX2_readsD_4 : cX2_readsD.data.toList.drop 94 = dktX2_readsD_4 := dk_seg dksX2_readsD_3 24 rfl rfl
theorem dX2_readsD_0 : decode cX2_readsD 0 = .ok (.aload_n 0, 1) := dk_42 (dk_at dksX2_readsD_0 0 rfl rfl)
theorem dX2_readsD_1 : decode cX2_readsD 1 = .ok (.bipush 114, 2) := dk_16 114 (dk_at dksX2_readsD_0 1 rfl rfl)
theorem dX2_readsD_3 : decode cX2_readsD 3 = .ok (.invokevirtual 242, 3) := dk_182 0 242 (dk_at dksX2_readsD_0 3 rfl rfl)
theorem dX2_readsD_6 : decode cX2_readsD 6 = .ok (.ifCond .ne 5, 3) := dk_154 0 5 (dk_at dksX2_readsD_0 6 rfl rfl)
theorem dX2_readsD_9 : decode cX2_readsD 9 = .ok (.iconst 0, 1) := dk_3 (dk_at dksX2_readsD_0 9 rfl rfl)
theorem dX2_readsD_10 : decode cX2_readsD 10 = .ok (.ireturn, 1) := dk_172 (dk_at dksX2_readsD_0 10 rfl rfl)
theorem dX2_readsD_11 : decode cX2_readsD 11 = .ok (.aload_n 0, 1) := dk_42 (dk_at dksX2_readsD_0 11 rfl rfl)
theorem dX2_readsD_12 : decode cX2_readsD 12 = .ok (.bipush 97, 2) := dk_16 97 (dk_at dksX2_readsD_0 12 rfl rfl)
theorem dX2_readsD_14 : decode cX2_readsD 14 = .ok (.invokevirtual 242, 3) := dk_182 0 242 (dk_at dksX2_readsD_0 14 rfl rfl)
theorem dX2_readsD_17 : decode cX2_readsD 17 = .ok (.ifCond .eq 44, 3) := dk_153 0 44 (dk_at dksX2_readsD_0 17 rfl rfl)
theorem dX2_readsD_20 : decode cX2_readsD 20 = .ok (.aload_n 0, 1) := dk_42 (dk_at dksX2_readsD_0 20 rfl rfl)
theorem dX2_readsD_21 : decode cX2_readsD 21 = .ok (.bipush 105, 2) := dk_16 105 (dk_at dksX2_readsD_0 21 rfl rfl)
theorem dX2_readsD_23 : decode cX2_readsD 23 = .ok (.invokevirtual 242, 3) := dk_182 0 242 (dk_at dksX2_readsD_1 0 rfl rfl)
theorem dX2_readsD_26 : decode cX2_readsD 26 = .ok (.ifCond .eq 33, 3) := dk_153 0 33 (dk_at dksX2_readsD_1 3 rfl rfl)
theorem dX2_readsD_29 : decode cX2_readsD 29 = .ok (.aload_n 0, 1) := dk_42 (dk_at dksX2_readsD_1 6 rfl rfl)
theorem dX2_readsD_30 : decode cX2_readsD 30 = .ok (.bipush 110, 2) := dk_16 110 (dk_at dksX2_readsD_1 7 rfl rfl)
theorem dX2_readsD_32 : decode cX2_readsD 32 = .ok (.invokevirtual 242, 3) := dk_182 0 242 (dk_at dksX2_readsD_1 9 rfl rfl)
theorem dX2_readsD_35 : decode cX2_readsD 35 = .ok (.ifCond .eq 24, 3) := dk_153 0 24 (dk_at dksX2_readsD_1 12 rfl rfl)
theorem dX2_readsD_38 : decode cX2_readsD 38 = .ok (.aload_n 0, 1) := dk_42 (dk_at dksX2_readsD_1 15 rfl rfl)
theorem dX2_readsD_39 : decode cX2_readsD 39 = .ok (.bipush 32, 2) := dk_16 32 (dk_at dksX2_readsD_1 16 rfl rfl)
theorem dX2_readsD_41 : decode cX2_readsD 41 = .ok (.invokevirtual 242, 3) := dk_182 0 242 (dk_at dksX2_readsD_1 18 rfl rfl)
theorem dX2_readsD_44 : decode cX2_readsD 44 = .ok (.ifCond .eq 15, 3) := dk_153 0 15 (dk_at dksX2_readsD_1 21 rfl rfl)
theorem dX2_readsD_47 : decode cX2_readsD 47 = .ok (.aload_n 0, 1) := dk_42 (dk_at dksX2_readsD_2 0 rfl rfl)
theorem dX2_readsD_48 : decode cX2_readsD 48 = .ok (.iconst 0, 1) := dk_3 (dk_at dksX2_readsD_2 1 rfl rfl)
theorem dX2_readsD_49 : decode cX2_readsD 49 = .ok (.invokevirtual 245, 3) := dk_182 0 245 (dk_at dksX2_readsD_2 2 rfl rfl)
theorem dX2_readsD_52 : decode cX2_readsD 52 = .ok (.ifCond .eq 7, 3) := dk_153 0 7 (dk_at dksX2_readsD_2 5 rfl rfl)
theorem dX2_readsD_55 : decode cX2_readsD 55 = .ok (.iconst 1, 1) := dk_4 (dk_at dksX2_readsD_2 8 rfl rfl)
theorem dX2_readsD_56 : decode cX2_readsD 56 = .ok (.goto 4, 3) := dk_167 0 4 (dk_at dksX2_readsD_2 9 rfl rfl)
theorem dX2_readsD_59 : decode cX2_readsD 59 = .ok (.iconst 0, 1) := dk_3 (dk_at dksX2_readsD_2 12 rfl rfl)
theorem dX2_readsD_60 : decode cX2_readsD 60 = .ok (.ireturn, 1) := dk_172 (dk_at dksX2_readsD_2 13 rfl rfl)
theorem dX2_readsD_61 : decode cX2_readsD 61 = .ok (.aload_n 0, 1) := dk_42 (dk_at dksX2_readsD_2 14 rfl rfl)
theorem dX2_readsD_62 : decode cX2_readsD 62 = .ok (.bipush 111, 2) := dk_16 111 (dk_at dksX2_readsD_2 15 rfl rfl)
theorem dX2_readsD_64 : decode cX2_readsD 64 = .ok (.putfield 248, 3) := dk_181 0 248 (dk_at dksX2_readsD_2 17 rfl rfl)
theorem dX2_readsD_67 : decode cX2_readsD 67 = .ok (.aload_n 0, 1) := dk_42 (dk_at dksX2_readsD_2 20 rfl rfl)
theorem dX2_readsD_68 : decode cX2_readsD 68 = .ok (.bipush 111, 2) := dk_16 111 (dk_at dksX2_readsD_2 21 rfl rfl)
theorem dX2_readsD_70 : decode cX2_readsD 70 = .ok (.invokevirtual 242, 3) := dk_182 0 242 (dk_at dksX2_readsD_3 0 rfl rfl)
theorem dX2_readsD_73 : decode cX2_readsD 73 = .ok (.ifCond .eq 33, 3) := dk_153 0 33 (dk_at dksX2_readsD_3 3 rfl rfl)
theorem dX2_readsD_76 : decode cX2_readsD 76 = .ok (.aload_n 0, 1) := dk_42 (dk_at dksX2_readsD_3 6 rfl rfl)
theorem dX2_readsD_77 : decode cX2_readsD 77 = .ok (.bipush 112, 2) := dk_16 112 (dk_at dksX2_readsD_3 7 rfl rfl)
theorem dX2_readsD_79 : decode cX2_readsD 79 = .ok (.invokevirtual 242, 3) := dk_182 0 242 (dk_at dksX2_readsD_3 9 rfl rfl)
theorem dX2_readsD_82 : decode cX2_readsD 82 = .ok (.ifCond .eq 24, 3) := dk_153 0 24 (dk_at dksX2_readsD_3 12 rfl rfl)
theorem dX2_readsD_85 : decode cX2_readsD 85 = .ok (.aload_n 0, 1) := dk_42 (dk_at dksX2_readsD_3 15 rfl rfl)
theorem dX2_readsD_86 : decode cX2_readsD 86 = .ok (.bipush 32, 2) := dk_16 32 (dk_at dksX2_readsD_3 16 rfl rfl)
theorem dX2_readsD_88 : decode cX2_readsD 88 = .ok (.invokevirtual 242, 3) := dk_182 0 242 (dk_at dksX2_readsD_3 18 rfl rfl)
theorem dX2_readsD_91 : decode cX2_readsD 91 = .ok (.ifCond .eq 15, 3) := dk_153 0 15 (dk_at dksX2_readsD_3 21 rfl rfl)
theorem dX2_readsD_94 : decode cX2_readsD 94 = .ok (.aload_n 0, 1) := dk_42 (dk_at dksX2_readsD_4 0 rfl rfl)
theorem dX2_readsD_95 : decode cX2_readsD 95 = .ok (.iconst 0, 1) := dk_3 (dk_at dksX2_readsD_4 1 rfl rfl)
theorem dX2_readsD_96 : decode cX2_readsD 96 = .ok (.invokevirtual 245, 3) := dk_182 0 245 (dk_at dksX2_readsD_4 2 rfl rfl)
theorem dX2_readsD_99 : decode cX2_readsD 99 = .ok (.ifCond .eq 7, 3) := dk_153 0 7 (dk_at dksX2_readsD_4 5 rfl rfl)
theorem dX2_readsD_102 : decode cX2_readsD 102 = .ok (.iconst 1, 1) := dk_4 (dk_at dksX2_readsD_4 8 rfl rfl)
theorem dX2_readsD_103 : decode cX2_readsD 103 = .ok (.goto 4, 3) := dk_167 0 4 (dk_at dksX2_readsD_4 9 rfl rfl)
theorem dX2_readsD_106 : decode cX2_readsD 106 = .ok (.iconst 0, 1) := dk_3 (dk_at dksX2_readsD_4 12 rfl rfl)
theorem dX2_readsD_107 : decode cX2_readsD 107 = .ok (.ireturn, 1) := dk_172 (dk_at dksX2_readsD_4 13 rfl rfl)
abbrev cX2_readsStroke : ByteArray := prog_27_method_88_code
def yX2_readsStroke : MethodName := ⟨RX2, "readsStroke", "()Z"⟩
def dkwX2_readsStroke_2 : List UInt8 := [182, 0, 242, 153, 0, 15, 42, 3, 182, 0, 245, 153, 0, 7, 4, 167, 0, 4, 3, 172]
abbrev dktX2_readsStroke_2 : List UInt8 := dkwX2_readsStroke_2 ++ []
def dkwX2_readsStroke_1 : List UInt8 := [153, 0, 42, 42, 16, 107, 182, 0, 242, 153, 0, 33, 42, 16, 101, 182, 0, 242, 153, 0, 24, 42, 16, 32]
abbrev dktX2_readsStroke_1 : List UInt8 := dkwX2_readsStroke_1 ++ dktX2_readsStroke_2
def dkwX2_readsStroke_0 : List UInt8 := [42, 16, 116, 182, 0, 242, 153, 0, 60, 42, 16, 114, 182, 0, 242, 153, 0, 51, 42, 16, 111, 182, 0, 242]
abbrev dktX2_readsStroke_0 : List UInt8 := dkwX2_readsStroke_0 ++ dktX2_readsStroke_1
theorem dksX2_readsStroke_0 : cX2_readsStroke.data.toList.drop 0 = dktX2_readsStroke_0 := by decide +kernel
theorem dksX2_readsStroke_1 : cX2_readsStroke.data.toList.drop 24 = dktX2_readsStroke_1 := dk_seg dksX2_readsStroke_0 24 rfl rfl
theorem dksX2_readsStroke_2 : cX2_readsStroke.data.toList.drop 48 = dktX2_readsStroke_2 := dk_seg dksX2_readsStroke_1 24 rfl rfl
theorem dX2_readsStroke_0 : decode cX2_readsStroke 0 = .ok (.aload_n 0, 1) := dk_42 (dk_at dksX2_readsStroke_0 0 rfl rfl)
theorem dX2_readsStroke_1 : decode cX2_readsStroke 1 = .ok (.bipush 116, 2) := dk_16 116 (dk_at dksX2_readsStroke_0 1 rfl rfl)
theorem dX2_readsStroke_3 : decode cX2_readsStroke 3 = .ok (.invokevirtual 242, 3) := dk_182 0 242 (dk_at dksX2_readsStroke_0 3 rfl rfl)
theorem dX2_readsStroke_6 : decode cX2_readsStroke 6 = .ok (.ifCond .eq 60, 3) := dk_153 0 60 (dk_at dksX2_readsStroke_0 6 rfl rfl)
theorem dX2_readsStroke_9 : decode cX2_readsStroke 9 = .ok (.aload_n 0, 1) := dk_42 (dk_at dksX2_readsStroke_0 9 rfl rfl)
theorem dX2_readsStroke_10 : decode cX2_readsStroke 10 = .ok (.bipush 114, 2) := dk_16 114 (dk_at dksX2_readsStroke_0 10 rfl rfl)
theorem dX2_readsStroke_12 : decode cX2_readsStroke 12 = .ok (.invokevirtual 242, 3) := dk_182 0 242 (dk_at dksX2_readsStroke_0 12 rfl rfl)
theorem dX2_readsStroke_15 : decode cX2_readsStroke 15 = .ok (.ifCond .eq 51, 3) := dk_153 0 51 (dk_at dksX2_readsStroke_0 15 rfl rfl)
theorem dX2_readsStroke_18 : decode cX2_readsStroke 18 = .ok (.aload_n 0, 1) := dk_42 (dk_at dksX2_readsStroke_0 18 rfl rfl)
theorem dX2_readsStroke_19 : decode cX2_readsStroke 19 = .ok (.bipush 111, 2) := dk_16 111 (dk_at dksX2_readsStroke_0 19 rfl rfl)
theorem dX2_readsStroke_21 : decode cX2_readsStroke 21 = .ok (.invokevirtual 242, 3) := dk_182 0 242 (dk_at dksX2_readsStroke_0 21 rfl rfl)
theorem dX2_readsStroke_24 : decode cX2_readsStroke 24 = .ok (.ifCond .eq 42, 3) := dk_153 0 42 (dk_at dksX2_readsStroke_1 0 rfl rfl)
theorem dX2_readsStroke_27 : decode cX2_readsStroke 27 = .ok (.aload_n 0, 1) := dk_42 (dk_at dksX2_readsStroke_1 3 rfl rfl)
theorem dX2_readsStroke_28 : decode cX2_readsStroke 28 = .ok (.bipush 107, 2) := dk_16 107 (dk_at dksX2_readsStroke_1 4 rfl rfl)
theorem dX2_readsStroke_30 : decode cX2_readsStroke 30 = .ok (.invokevirtual 242, 3) := dk_182 0 242 (dk_at dksX2_readsStroke_1 6 rfl rfl)
theorem dX2_readsStroke_33 : decode cX2_readsStroke 33 = .ok (.ifCond .eq 33, 3) := dk_153 0 33 (dk_at dksX2_readsStroke_1 9 rfl rfl)
theorem dX2_readsStroke_36 : decode cX2_readsStroke 36 = .ok (.aload_n 0, 1) := dk_42 (dk_at dksX2_readsStroke_1 12 rfl rfl)
theorem dX2_readsStroke_37 : decode cX2_readsStroke 37 = .ok (.bipush 101, 2) := dk_16 101 (dk_at dksX2_readsStroke_1 13 rfl rfl)
theorem dX2_readsStroke_39 : decode cX2_readsStroke 39 = .ok (.invokevirtual 242, 3) := dk_182 0 242 (dk_at dksX2_readsStroke_1 15 rfl rfl)
theorem dX2_readsStroke_42 : decode cX2_readsStroke 42 = .ok (.ifCond .eq 24, 3) := dk_153 0 24 (dk_at dksX2_readsStroke_1 18 rfl rfl)
theorem dX2_readsStroke_45 : decode cX2_readsStroke 45 = .ok (.aload_n 0, 1) := dk_42 (dk_at dksX2_readsStroke_1 21 rfl rfl)
theorem dX2_readsStroke_46 : decode cX2_readsStroke 46 = .ok (.bipush 32, 2) := dk_16 32 (dk_at dksX2_readsStroke_1 22 rfl rfl)
theorem dX2_readsStroke_48 : decode cX2_readsStroke 48 = .ok (.invokevirtual 242, 3) := dk_182 0 242 (dk_at dksX2_readsStroke_2 0 rfl rfl)
theorem dX2_readsStroke_51 : decode cX2_readsStroke 51 = .ok (.ifCond .eq 15, 3) := dk_153 0 15 (dk_at dksX2_readsStroke_2 3 rfl rfl)
theorem dX2_readsStroke_54 : decode cX2_readsStroke 54 = .ok (.aload_n 0, 1) := dk_42 (dk_at dksX2_readsStroke_2 6 rfl rfl)
theorem dX2_readsStroke_55 : decode cX2_readsStroke 55 = .ok (.iconst 0, 1) := dk_3 (dk_at dksX2_readsStroke_2 7 rfl rfl)
theorem dX2_readsStroke_56 : decode cX2_readsStroke 56 = .ok (.invokevirtual 245, 3) := dk_182 0 245 (dk_at dksX2_readsStroke_2 8 rfl rfl)
theorem dX2_readsStroke_59 : decode cX2_readsStroke 59 = .ok (.ifCond .eq 7, 3) := dk_153 0 7 (dk_at dksX2_readsStroke_2 11 rfl rfl)
theorem dX2_readsStroke_62 : decode cX2_readsStroke 62 = .ok (.iconst 1, 1) := dk_4 (dk_at dksX2_readsStroke_2 14 rfl rfl)
theorem dX2_readsStroke_63 : decode cX2_readsStroke 63 = .ok (.goto 4, 3) := dk_167 0 4 (dk_at dksX2_readsStroke_2 15 rfl rfl)
theorem dX2_readsStroke_66 : decode cX2_readsStroke 66 = .ok (.iconst 0, 1) := dk_3 (dk_at dksX2_readsStroke_2 18 rfl rfl)
theorem dX2_readsStroke_67 : decode cX2_readsStroke 67 = .ok (.ireturn, 1) := dk_172 (dk_at dksX2_readsStroke_2 19 rfl rfl)
abbrev cX2_readsBucket : ByteArray := prog_27_method_89_code
def yX2_readsBucket : MethodName := ⟨RX2, "readsBucket", "()Z"⟩
def dkwX2_readsBucket_3 : List UInt8 := [153, 0, 15, 42, 4, 182, 0, 239, 153, 0, 7, 4, 167, 0, 4, 3, 172]
abbrev dktX2_readsBucket_3 : List UInt8 := dkwX2_readsBucket_3 ++ []
def dkwX2_readsBucket_2 : List UInt8 := [182, 0, 242, 154, 0, 5, 3, 172, 42, 3, 182, 0, 239, 153, 0, 24, 42, 16, 32, 182, 0, 242]
abbrev dktX2_readsBucket_2 : List UInt8 := dkwX2_readsBucket_2 ++ dktX2_readsBucket_3
def dkwX2_readsBucket_1 : List UInt8 := [153, 0, 30, 42, 16, 101, 182, 0, 242, 153, 0, 21, 42, 16, 116, 182, 0, 242, 153, 0, 12, 42, 16, 32]
abbrev dktX2_readsBucket_1 : List UInt8 := dkwX2_readsBucket_1 ++ dktX2_readsBucket_2
def dkwX2_readsBucket_0 : List UInt8 := [42, 16, 117, 182, 0, 242, 153, 0, 48, 42, 16, 99, 182, 0, 242, 153, 0, 39, 42, 16, 107, 182, 0, 242]
abbrev dktX2_readsBucket_0 : List UInt8 := dkwX2_readsBucket_0 ++ dktX2_readsBucket_1
theorem dksX2_readsBucket_0 : cX2_readsBucket.data.toList.drop 0 = dktX2_readsBucket_0 := by decide +kernel
theorem dksX2_readsBucket_1 : cX2_readsBucket.data.toList.drop 24 = dktX2_readsBucket_1 := dk_seg dksX2_readsBucket_0 24 rfl rfl
theorem dksX2_readsBucket_2 : cX2_readsBucket.data.toList.drop 48 = dktX2_readsBucket_2 := dk_seg dksX2_readsBucket_1 24 rfl rfl
theorem dksX2_readsBucket_3 : cX2_readsBucket.data.toList.drop 70 = dktX2_readsBucket_3 := dk_seg dksX2_readsBucket_2 22 rfl rfl
theorem dX2_readsBucket_0 : decode cX2_readsBucket 0 = .ok (.aload_n 0, 1) := dk_42 (dk_at dksX2_readsBucket_0 0 rfl rfl)
theorem dX2_readsBucket_1 : decode cX2_readsBucket 1 = .ok (.bipush 117, 2) := dk_16 117 (dk_at dksX2_readsBucket_0 1 rfl rfl)
theorem dX2_readsBucket_3 : decode cX2_readsBucket 3 = .ok (.invokevirtual 242, 3) := dk_182 0 242 (dk_at dksX2_readsBucket_0 3 rfl rfl)
theorem dX2_readsBucket_6 : decode cX2_readsBucket 6 = .ok (.ifCond .eq 48, 3) := dk_153 0 48 (dk_at dksX2_readsBucket_0 6 rfl rfl)
theorem dX2_readsBucket_9 : decode cX2_readsBucket 9 = .ok (.aload_n 0, 1) := dk_42 (dk_at dksX2_readsBucket_0 9 rfl rfl)
theorem dX2_readsBucket_10 : decode cX2_readsBucket 10 = .ok (.bipush 99, 2) := dk_16 99 (dk_at dksX2_readsBucket_0 10 rfl rfl)
theorem dX2_readsBucket_12 : decode cX2_readsBucket 12 = .ok (.invokevirtual 242, 3) := dk_182 0 242 (dk_at dksX2_readsBucket_0 12 rfl rfl)
theorem dX2_readsBucket_15 : decode cX2_readsBucket 15 = .ok (.ifCond .eq 39, 3) := dk_153 0 39 (dk_at dksX2_readsBucket_0 15 rfl rfl)
theorem dX2_readsBucket_18 : decode cX2_readsBucket 18 = .ok (.aload_n 0, 1) := dk_42 (dk_at dksX2_readsBucket_0 18 rfl rfl)
theorem dX2_readsBucket_19 : decode cX2_readsBucket 19 = .ok (.bipush 107, 2) := dk_16 107 (dk_at dksX2_readsBucket_0 19 rfl rfl)
theorem dX2_readsBucket_21 : decode cX2_readsBucket 21 = .ok (.invokevirtual 242, 3) := dk_182 0 242 (dk_at dksX2_readsBucket_0 21 rfl rfl)
theorem dX2_readsBucket_24 : decode cX2_readsBucket 24 = .ok (.ifCond .eq 30, 3) := dk_153 0 30 (dk_at dksX2_readsBucket_1 0 rfl rfl)
theorem dX2_readsBucket_27 : decode cX2_readsBucket 27 = .ok (.aload_n 0, 1) := dk_42 (dk_at dksX2_readsBucket_1 3 rfl rfl)
theorem dX2_readsBucket_28 : decode cX2_readsBucket 28 = .ok (.bipush 101, 2) := dk_16 101 (dk_at dksX2_readsBucket_1 4 rfl rfl)
theorem dX2_readsBucket_30 : decode cX2_readsBucket 30 = .ok (.invokevirtual 242, 3) := dk_182 0 242 (dk_at dksX2_readsBucket_1 6 rfl rfl)
theorem dX2_readsBucket_33 : decode cX2_readsBucket 33 = .ok (.ifCond .eq 21, 3) := dk_153 0 21 (dk_at dksX2_readsBucket_1 9 rfl rfl)
theorem dX2_readsBucket_36 : decode cX2_readsBucket 36 = .ok (.aload_n 0, 1) := dk_42 (dk_at dksX2_readsBucket_1 12 rfl rfl)
theorem dX2_readsBucket_37 : decode cX2_readsBucket 37 = .ok (.bipush 116, 2) := dk_16 116 (dk_at dksX2_readsBucket_1 13 rfl rfl)
theorem dX2_readsBucket_39 : decode cX2_readsBucket 39 = .ok (.invokevirtual 242, 3) := dk_182 0 242 (dk_at dksX2_readsBucket_1 15 rfl rfl)
theorem dX2_readsBucket_42 : decode cX2_readsBucket 42 = .ok (.ifCond .eq 12, 3) := dk_153 0 12 (dk_at dksX2_readsBucket_1 18 rfl rfl)
theorem dX2_readsBucket_45 : decode cX2_readsBucket 45 = .ok (.aload_n 0, 1) := dk_42 (dk_at dksX2_readsBucket_1 21 rfl rfl)
theorem dX2_readsBucket_46 : decode cX2_readsBucket 46 = .ok (.bipush 32, 2) := dk_16 32 (dk_at dksX2_readsBucket_1 22 rfl rfl)
theorem dX2_readsBucket_48 : decode cX2_readsBucket 48 = .ok (.invokevirtual 242, 3) := dk_182 0 242 (dk_at dksX2_readsBucket_2 0 rfl rfl)
theorem dX2_readsBucket_51 : decode cX2_readsBucket 51 = .ok (.ifCond .ne 5, 3) := dk_154 0 5 (dk_at dksX2_readsBucket_2 3 rfl rfl)
theorem dX2_readsBucket_54 : decode cX2_readsBucket 54 = .ok (.iconst 0, 1) := dk_3 (dk_at dksX2_readsBucket_2 6 rfl rfl)
theorem dX2_readsBucket_55 : decode cX2_readsBucket 55 = .ok (.ireturn, 1) := dk_172 (dk_at dksX2_readsBucket_2 7 rfl rfl)
theorem dX2_readsBucket_56 : decode cX2_readsBucket 56 = .ok (.aload_n 0, 1) := dk_42 (dk_at dksX2_readsBucket_2 8 rfl rfl)
theorem dX2_readsBucket_57 : decode cX2_readsBucket 57 = .ok (.iconst 0, 1) := dk_3 (dk_at dksX2_readsBucket_2 9 rfl rfl)
theorem dX2_readsBucket_58 : decode cX2_readsBucket 58 = .ok (.invokevirtual 239, 3) := dk_182 0 239 (dk_at dksX2_readsBucket_2 10 rfl rfl)
theorem dX2_readsBucket_61 : decode cX2_readsBucket 61 = .ok (.ifCond .eq 24, 3) := dk_153 0 24 (dk_at dksX2_readsBucket_2 13 rfl rfl)
theorem dX2_readsBucket_64 : decode cX2_readsBucket 64 = .ok (.aload_n 0, 1) := dk_42 (dk_at dksX2_readsBucket_2 16 rfl rfl)
theorem dX2_readsBucket_65 : decode cX2_readsBucket 65 = .ok (.bipush 32, 2) := dk_16 32 (dk_at dksX2_readsBucket_2 17 rfl rfl)
theorem dX2_readsBucket_67 : decode cX2_readsBucket 67 = .ok (.invokevirtual 242, 3) := dk_182 0 242 (dk_at dksX2_readsBucket_2 19 rfl rfl)
theorem dX2_readsBucket_70 : decode cX2_readsBucket 70 = .ok (.ifCond .eq 15, 3) := dk_153 0 15 (dk_at dksX2_readsBucket_3 0 rfl rfl)
theorem dX2_readsBucket_73 : decode cX2_readsBucket 73 = .ok (.aload_n 0, 1) := dk_42 (dk_at dksX2_readsBucket_3 3 rfl rfl)
theorem dX2_readsBucket_74 : decode cX2_readsBucket 74 = .ok (.iconst 1, 1) := dk_4 (dk_at dksX2_readsBucket_3 4 rfl rfl)
theorem dX2_readsBucket_75 : decode cX2_readsBucket 75 = .ok (.invokevirtual 239, 3) := dk_182 0 239 (dk_at dksX2_readsBucket_3 5 rfl rfl)
theorem dX2_readsBucket_78 : decode cX2_readsBucket 78 = .ok (.ifCond .eq 7, 3) := dk_153 0 7 (dk_at dksX2_readsBucket_3 8 rfl rfl)
theorem dX2_readsBucket_81 : decode cX2_readsBucket 81 = .ok (.iconst 1, 1) := dk_4 (dk_at dksX2_readsBucket_3 11 rfl rfl)
theorem dX2_readsBucket_82 : decode cX2_readsBucket 82 = .ok (.goto 4, 3) := dk_167 0 4 (dk_at dksX2_readsBucket_3 12 rfl rfl)
theorem dX2_readsBucket_85 : decode cX2_readsBucket 85 = .ok (.iconst 0, 1) := dk_3 (dk_at dksX2_readsBucket_3 15 rfl rfl)
theorem dX2_readsBucket_86 : decode cX2_readsBucket 86 = .ok (.ireturn, 1) := dk_172 (dk_at dksX2_readsBucket_3 16 rfl rfl)
abbrev cX2_doesAll : ByteArray := prog_27_method_94_code
def yX2_doesAll : MethodName := ⟨RX2, "doesAll", "()I"⟩
def dkwX2_doesAll_2 : List UInt8 := [181, 1, 14, 42, 16, 59, 182, 0, 242, 60, 167, 255, 214, 3, 172]
abbrev dktX2_doesAll_2 : List UInt8 := dkwX2_doesAll_2 ++ []
def dkwX2_doesAll_1 : List UInt8 := [182, 1, 17, 61, 28, 153, 0, 5, 28, 172, 42, 182, 1, 20, 87, 42, 89, 180, 1, 14, 4, 96]
abbrev dktX2_doesAll_1 : List UInt8 := dkwX2_doesAll_1 ++ dktX2_doesAll_2
def dkwX2_doesAll_0 : List UInt8 := [42, 3, 181, 1, 14, 42, 3, 181, 0, 233, 4, 60, 27, 153, 0, 44, 42, 182, 1, 11, 87, 42]
abbrev dktX2_doesAll_0 : List UInt8 := dkwX2_doesAll_0 ++ dktX2_doesAll_1
theorem dksX2_doesAll_0 : cX2_doesAll.data.toList.drop 0 = dktX2_doesAll_0 := by decide +kernel
theorem dksX2_doesAll_1 : cX2_doesAll.data.toList.drop 22 = dktX2_doesAll_1 := dk_seg dksX2_doesAll_0 22 rfl rfl
theorem dksX2_doesAll_2 : cX2_doesAll.data.toList.drop 44 = dktX2_doesAll_2 := dk_seg dksX2_doesAll_1 22 rfl rfl
theorem dX2_doesAll_0 : decode cX2_doesAll 0 = .ok (.aload_n 0, 1) := dk_42 (dk_at dksX2_doesAll_0 0 rfl rfl)
theorem dX2_doesAll_1 : decode cX2_doesAll 1 = .ok (.iconst 0, 1) := dk_3 (dk_at dksX2_doesAll_0 1 rfl rfl)
theorem dX2_doesAll_2 : decode cX2_doesAll 2 = .ok (.putfield 270, 3) := dk_181 1 14 (dk_at dksX2_doesAll_0 2 rfl rfl)
theorem dX2_doesAll_5 : decode cX2_doesAll 5 = .ok (.aload_n 0, 1) := dk_42 (dk_at dksX2_doesAll_0 5 rfl rfl)
theorem dX2_doesAll_6 : decode cX2_doesAll 6 = .ok (.iconst 0, 1) := dk_3 (dk_at dksX2_doesAll_0 6 rfl rfl)
theorem dX2_doesAll_7 : decode cX2_doesAll 7 = .ok (.putfield 233, 3) := dk_181 0 233 (dk_at dksX2_doesAll_0 7 rfl rfl)
theorem dX2_doesAll_10 : decode cX2_doesAll 10 = .ok (.iconst 1, 1) := dk_4 (dk_at dksX2_doesAll_0 10 rfl rfl)
theorem dX2_doesAll_11 : decode cX2_doesAll 11 = .ok (.istore_n 1, 1) := dk_60 (dk_at dksX2_doesAll_0 11 rfl rfl)
theorem dX2_doesAll_12 : decode cX2_doesAll 12 = .ok (.iload_n 1, 1) := dk_27 (dk_at dksX2_doesAll_0 12 rfl rfl)
theorem dX2_doesAll_13 : decode cX2_doesAll 13 = .ok (.ifCond .eq 44, 3) := dk_153 0 44 (dk_at dksX2_doesAll_0 13 rfl rfl)
theorem dX2_doesAll_16 : decode cX2_doesAll 16 = .ok (.aload_n 0, 1) := dk_42 (dk_at dksX2_doesAll_0 16 rfl rfl)
theorem dX2_doesAll_17 : decode cX2_doesAll 17 = .ok (.invokevirtual 267, 3) := dk_182 1 11 (dk_at dksX2_doesAll_0 17 rfl rfl)
theorem dX2_doesAll_20 : decode cX2_doesAll 20 = .ok (.pop, 1) := dk_87 (dk_at dksX2_doesAll_0 20 rfl rfl)
theorem dX2_doesAll_21 : decode cX2_doesAll 21 = .ok (.aload_n 0, 1) := dk_42 (dk_at dksX2_doesAll_0 21 rfl rfl)
theorem dX2_doesAll_22 : decode cX2_doesAll 22 = .ok (.invokevirtual 273, 3) := dk_182 1 17 (dk_at dksX2_doesAll_1 0 rfl rfl)
theorem dX2_doesAll_25 : decode cX2_doesAll 25 = .ok (.istore_n 2, 1) := dk_61 (dk_at dksX2_doesAll_1 3 rfl rfl)
theorem dX2_doesAll_26 : decode cX2_doesAll 26 = .ok (.iload_n 2, 1) := dk_28 (dk_at dksX2_doesAll_1 4 rfl rfl)
theorem dX2_doesAll_27 : decode cX2_doesAll 27 = .ok (.ifCond .eq 5, 3) := dk_153 0 5 (dk_at dksX2_doesAll_1 5 rfl rfl)
theorem dX2_doesAll_30 : decode cX2_doesAll 30 = .ok (.iload_n 2, 1) := dk_28 (dk_at dksX2_doesAll_1 8 rfl rfl)
theorem dX2_doesAll_31 : decode cX2_doesAll 31 = .ok (.ireturn, 1) := dk_172 (dk_at dksX2_doesAll_1 9 rfl rfl)
theorem dX2_doesAll_32 : decode cX2_doesAll 32 = .ok (.aload_n 0, 1) := dk_42 (dk_at dksX2_doesAll_1 10 rfl rfl)
theorem dX2_doesAll_33 : decode cX2_doesAll 33 = .ok (.invokevirtual 276, 3) := dk_182 1 20 (dk_at dksX2_doesAll_1 11 rfl rfl)
theorem dX2_doesAll_36 : decode cX2_doesAll 36 = .ok (.pop, 1) := dk_87 (dk_at dksX2_doesAll_1 14 rfl rfl)
theorem dX2_doesAll_37 : decode cX2_doesAll 37 = .ok (.aload_n 0, 1) := dk_42 (dk_at dksX2_doesAll_1 15 rfl rfl)
theorem dX2_doesAll_38 : decode cX2_doesAll 38 = .ok (.dup, 1) := dk_89 (dk_at dksX2_doesAll_1 16 rfl rfl)
theorem dX2_doesAll_39 : decode cX2_doesAll 39 = .ok (.getfield 270, 3) := dk_180 1 14 (dk_at dksX2_doesAll_1 17 rfl rfl)
theorem dX2_doesAll_42 : decode cX2_doesAll 42 = .ok (.iconst 1, 1) := dk_4 (dk_at dksX2_doesAll_1 20 rfl rfl)
theorem dX2_doesAll_43 : decode cX2_doesAll 43 = .ok (.iadd, 1) := dk_96 (dk_at dksX2_doesAll_1 21 rfl rfl)
theorem dX2_doesAll_44 : decode cX2_doesAll 44 = .ok (.putfield 270, 3) := dk_181 1 14 (dk_at dksX2_doesAll_2 0 rfl rfl)
theorem dX2_doesAll_47 : decode cX2_doesAll 47 = .ok (.aload_n 0, 1) := dk_42 (dk_at dksX2_doesAll_2 3 rfl rfl)
theorem dX2_doesAll_48 : decode cX2_doesAll 48 = .ok (.bipush 59, 2) := dk_16 59 (dk_at dksX2_doesAll_2 4 rfl rfl)
theorem dX2_doesAll_50 : decode cX2_doesAll 50 = .ok (.invokevirtual 242, 3) := dk_182 0 242 (dk_at dksX2_doesAll_2 6 rfl rfl)
theorem dX2_doesAll_53 : decode cX2_doesAll 53 = .ok (.istore_n 1, 1) := dk_60 (dk_at dksX2_doesAll_2 9 rfl rfl)
theorem dX2_doesAll_54 : decode cX2_doesAll 54 = .ok (.goto (-42), 3) := dk_167 255 214 (dk_at dksX2_doesAll_2 10 rfl rfl)
theorem dX2_doesAll_57 : decode cX2_doesAll 57 = .ok (.iconst 0, 1) := dk_3 (dk_at dksX2_doesAll_2 13 rfl rfl)
theorem dX2_doesAll_58 : decode cX2_doesAll 58 = .ok (.ireturn, 1) := dk_172 (dk_at dksX2_doesAll_2 14 rfl rfl)
abbrev cX2_notNow : ByteArray := prog_27_method_92_code
def yX2_notNow : MethodName := ⟨RX2, "notNow", "()I"⟩
def dkwX2_notNow_4 : List UInt8 := [42, 27, 182, 0, 138, 172, 42, 27, 42, 180, 0, 58, 4, 46, 182, 0, 144, 172, 42, 27, 182, 0, 147, 172]
abbrev dktX2_notNow_4 : List UInt8 := dkwX2_notNow_4 ++ []
def dkwX2_notNow_3 : List UInt8 := [42, 27, 182, 0, 182, 172, 42, 27, 182, 0, 116, 172, 42, 27, 182, 0, 132, 172, 42, 27, 182, 0, 126, 172]
abbrev dktX2_notNow_3 : List UInt8 := dkwX2_notNow_3 ++ dktX2_notNow_4
def dkwX2_notNow_2 : List UInt8 := [42, 27, 42, 180, 0, 58, 4, 46, 42, 180, 0, 58, 5, 46, 42, 180, 0, 58, 6, 46, 182, 0, 100, 172]
abbrev dktX2_notNow_2 : List UInt8 := dkwX2_notNow_2 ++ dktX2_notNow_3
def dkwX2_notNow_1 : List UInt8 := [170, 0, 0, 0, 151, 0, 0, 0, 98, 0, 0, 0, 115, 0, 0, 0, 139, 0, 0, 0, 151, 0, 0, 0, 121, 0, 0, 0, 151, 0, 0, 0, 151, 0, 0, 0, 151, 0, 0, 0, 151, 0, 0, 0, 151, 0, 0, 0, 85, 0, 0, 0, 151, 0, 0, 0, 151, 0, 0, 0, 151, 0, 0, 0, 151, 0, 0, 0, 127, 0, 0, 0, 109, 0, 0, 0, 151, 0, 0, 0, 115, 0, 0, 0, 133]
abbrev dktX2_notNow_1 : List UInt8 := dkwX2_notNow_1 ++ dktX2_notNow_2
def dkwX2_notNow_0 : List UInt8 := [42, 180, 0, 58, 3, 46, 60, 42, 180, 0, 248]
abbrev dktX2_notNow_0 : List UInt8 := dkwX2_notNow_0 ++ dktX2_notNow_1
theorem dksX2_notNow_0 : cX2_notNow.data.toList.drop 0 = dktX2_notNow_0 := by decide +kernel
theorem dksX2_notNow_1 : cX2_notNow.data.toList.drop 11 = dktX2_notNow_1 := dk_seg dksX2_notNow_0 11 rfl rfl
theorem dksX2_notNow_2 : cX2_notNow.data.toList.drop 96 = dktX2_notNow_2 := dk_seg dksX2_notNow_1 85 rfl rfl
theorem dksX2_notNow_3 : cX2_notNow.data.toList.drop 120 = dktX2_notNow_3 := dk_seg dksX2_notNow_2 24 rfl rfl
theorem dksX2_notNow_4 : cX2_notNow.data.toList.drop 144 = dktX2_notNow_4 := dk_seg dksX2_notNow_3 24 rfl rfl
theorem dX2_notNow_0 : decode cX2_notNow 0 = .ok (.aload_n 0, 1) := dk_42 (dk_at dksX2_notNow_0 0 rfl rfl)
theorem dX2_notNow_1 : decode cX2_notNow 1 = .ok (.getfield 58, 3) := dk_180 0 58 (dk_at dksX2_notNow_0 1 rfl rfl)
theorem dX2_notNow_4 : decode cX2_notNow 4 = .ok (.iconst 0, 1) := dk_3 (dk_at dksX2_notNow_0 4 rfl rfl)
theorem dX2_notNow_5 : decode cX2_notNow 5 = .ok (.iaload, 1) := dk_46 (dk_at dksX2_notNow_0 5 rfl rfl)
theorem dX2_notNow_6 : decode cX2_notNow 6 = .ok (.istore_n 1, 1) := dk_60 (dk_at dksX2_notNow_0 6 rfl rfl)
theorem dX2_notNow_7 : decode cX2_notNow 7 = .ok (.aload_n 0, 1) := dk_42 (dk_at dksX2_notNow_0 7 rfl rfl)
theorem dX2_notNow_8 : decode cX2_notNow 8 = .ok (.getfield 248, 3) := dk_180 0 248 (dk_at dksX2_notNow_0 8 rfl rfl)
theorem dX2_notNow_11 : decode cX2_notNow 11 = .ok (.tableswitch 151 98 115 #[139, 151, 121, 151, 151, 151, 151, 151, 85, 151, 151, 151, 151, 127, 109, 151, 115, 133], 85) := by decide +kernel
theorem dX2_notNow_96 : decode cX2_notNow 96 = .ok (.aload_n 0, 1) := dk_42 (dk_at dksX2_notNow_2 0 rfl rfl)
theorem dX2_notNow_97 : decode cX2_notNow 97 = .ok (.iload_n 1, 1) := dk_27 (dk_at dksX2_notNow_2 1 rfl rfl)
theorem dX2_notNow_98 : decode cX2_notNow 98 = .ok (.aload_n 0, 1) := dk_42 (dk_at dksX2_notNow_2 2 rfl rfl)
theorem dX2_notNow_99 : decode cX2_notNow 99 = .ok (.getfield 58, 3) := dk_180 0 58 (dk_at dksX2_notNow_2 3 rfl rfl)
theorem dX2_notNow_102 : decode cX2_notNow 102 = .ok (.iconst 1, 1) := dk_4 (dk_at dksX2_notNow_2 6 rfl rfl)
theorem dX2_notNow_103 : decode cX2_notNow 103 = .ok (.iaload, 1) := dk_46 (dk_at dksX2_notNow_2 7 rfl rfl)
theorem dX2_notNow_104 : decode cX2_notNow 104 = .ok (.aload_n 0, 1) := dk_42 (dk_at dksX2_notNow_2 8 rfl rfl)
theorem dX2_notNow_105 : decode cX2_notNow 105 = .ok (.getfield 58, 3) := dk_180 0 58 (dk_at dksX2_notNow_2 9 rfl rfl)
theorem dX2_notNow_108 : decode cX2_notNow 108 = .ok (.iconst 2, 1) := dk_5 (dk_at dksX2_notNow_2 12 rfl rfl)
theorem dX2_notNow_109 : decode cX2_notNow 109 = .ok (.iaload, 1) := dk_46 (dk_at dksX2_notNow_2 13 rfl rfl)
theorem dX2_notNow_110 : decode cX2_notNow 110 = .ok (.aload_n 0, 1) := dk_42 (dk_at dksX2_notNow_2 14 rfl rfl)
theorem dX2_notNow_111 : decode cX2_notNow 111 = .ok (.getfield 58, 3) := dk_180 0 58 (dk_at dksX2_notNow_2 15 rfl rfl)
theorem dX2_notNow_114 : decode cX2_notNow 114 = .ok (.iconst 3, 1) := dk_6 (dk_at dksX2_notNow_2 18 rfl rfl)
theorem dX2_notNow_115 : decode cX2_notNow 115 = .ok (.iaload, 1) := dk_46 (dk_at dksX2_notNow_2 19 rfl rfl)
theorem dX2_notNow_116 : decode cX2_notNow 116 = .ok (.invokevirtual 100, 3) := dk_182 0 100 (dk_at dksX2_notNow_2 20 rfl rfl)
theorem dX2_notNow_119 : decode cX2_notNow 119 = .ok (.ireturn, 1) := dk_172 (dk_at dksX2_notNow_2 23 rfl rfl)
theorem dX2_notNow_120 : decode cX2_notNow 120 = .ok (.aload_n 0, 1) := dk_42 (dk_at dksX2_notNow_3 0 rfl rfl)
theorem dX2_notNow_121 : decode cX2_notNow 121 = .ok (.iload_n 1, 1) := dk_27 (dk_at dksX2_notNow_3 1 rfl rfl)
theorem dX2_notNow_122 : decode cX2_notNow 122 = .ok (.invokevirtual 182, 3) := dk_182 0 182 (dk_at dksX2_notNow_3 2 rfl rfl)
theorem dX2_notNow_125 : decode cX2_notNow 125 = .ok (.ireturn, 1) := dk_172 (dk_at dksX2_notNow_3 5 rfl rfl)
theorem dX2_notNow_126 : decode cX2_notNow 126 = .ok (.aload_n 0, 1) := dk_42 (dk_at dksX2_notNow_3 6 rfl rfl)
theorem dX2_notNow_127 : decode cX2_notNow 127 = .ok (.iload_n 1, 1) := dk_27 (dk_at dksX2_notNow_3 7 rfl rfl)
theorem dX2_notNow_128 : decode cX2_notNow 128 = .ok (.invokevirtual 116, 3) := dk_182 0 116 (dk_at dksX2_notNow_3 8 rfl rfl)
theorem dX2_notNow_131 : decode cX2_notNow 131 = .ok (.ireturn, 1) := dk_172 (dk_at dksX2_notNow_3 11 rfl rfl)
theorem dX2_notNow_132 : decode cX2_notNow 132 = .ok (.aload_n 0, 1) := dk_42 (dk_at dksX2_notNow_3 12 rfl rfl)
theorem dX2_notNow_133 : decode cX2_notNow 133 = .ok (.iload_n 1, 1) := dk_27 (dk_at dksX2_notNow_3 13 rfl rfl)
theorem dX2_notNow_134 : decode cX2_notNow 134 = .ok (.invokevirtual 132, 3) := dk_182 0 132 (dk_at dksX2_notNow_3 14 rfl rfl)
theorem dX2_notNow_137 : decode cX2_notNow 137 = .ok (.ireturn, 1) := dk_172 (dk_at dksX2_notNow_3 17 rfl rfl)
theorem dX2_notNow_138 : decode cX2_notNow 138 = .ok (.aload_n 0, 1) := dk_42 (dk_at dksX2_notNow_3 18 rfl rfl)
theorem dX2_notNow_139 : decode cX2_notNow 139 = .ok (.iload_n 1, 1) := dk_27 (dk_at dksX2_notNow_3 19 rfl rfl)
theorem dX2_notNow_140 : decode cX2_notNow 140 = .ok (.invokevirtual 126, 3) := dk_182 0 126 (dk_at dksX2_notNow_3 20 rfl rfl)
theorem dX2_notNow_143 : decode cX2_notNow 143 = .ok (.ireturn, 1) := dk_172 (dk_at dksX2_notNow_3 23 rfl rfl)
theorem dX2_notNow_144 : decode cX2_notNow 144 = .ok (.aload_n 0, 1) := dk_42 (dk_at dksX2_notNow_4 0 rfl rfl)
theorem dX2_notNow_145 : decode cX2_notNow 145 = .ok (.iload_n 1, 1) := dk_27 (dk_at dksX2_notNow_4 1 rfl rfl)
theorem dX2_notNow_146 : decode cX2_notNow 146 = .ok (.invokevirtual 138, 3) := dk_182 0 138 (dk_at dksX2_notNow_4 2 rfl rfl)
theorem dX2_notNow_149 : decode cX2_notNow 149 = .ok (.ireturn, 1) := dk_172 (dk_at dksX2_notNow_4 5 rfl rfl)
theorem dX2_notNow_150 : decode cX2_notNow 150 = .ok (.aload_n 0, 1) := dk_42 (dk_at dksX2_notNow_4 6 rfl rfl)
theorem dX2_notNow_151 : decode cX2_notNow 151 = .ok (.iload_n 1, 1) := dk_27 (dk_at dksX2_notNow_4 7 rfl rfl)
theorem dX2_notNow_152 : decode cX2_notNow 152 = .ok (.aload_n 0, 1) := dk_42 (dk_at dksX2_notNow_4 8 rfl rfl)
theorem dX2_notNow_153 : decode cX2_notNow 153 = .ok (.getfield 58, 3) := dk_180 0 58 (dk_at dksX2_notNow_4 9 rfl rfl)
theorem dX2_notNow_156 : decode cX2_notNow 156 = .ok (.iconst 1, 1) := dk_4 (dk_at dksX2_notNow_4 12 rfl rfl)
theorem dX2_notNow_157 : decode cX2_notNow 157 = .ok (.iaload, 1) := dk_46 (dk_at dksX2_notNow_4 13 rfl rfl)
theorem dX2_notNow_158 : decode cX2_notNow 158 = .ok (.invokevirtual 144, 3) := dk_182 0 144 (dk_at dksX2_notNow_4 14 rfl rfl)
theorem dX2_notNow_161 : decode cX2_notNow 161 = .ok (.ireturn, 1) := dk_172 (dk_at dksX2_notNow_4 17 rfl rfl)
theorem dX2_notNow_162 : decode cX2_notNow 162 = .ok (.aload_n 0, 1) := dk_42 (dk_at dksX2_notNow_4 18 rfl rfl)
theorem dX2_notNow_163 : decode cX2_notNow 163 = .ok (.iload_n 1, 1) := dk_27 (dk_at dksX2_notNow_4 19 rfl rfl)
theorem dX2_notNow_164 : decode cX2_notNow 164 = .ok (.invokevirtual 147, 3) := dk_182 0 147 (dk_at dksX2_notNow_4 20 rfl rfl)
theorem dX2_notNow_167 : decode cX2_notNow 167 = .ok (.ireturn, 1) := dk_172 (dk_at dksX2_notNow_4 23 rfl rfl)
abbrev cX2_doesNow : ByteArray := prog_27_method_93_code
def yX2_doesNow : MethodName := ⟨RX2, "doesNow", "()I"⟩
def dkwX2_doesNow_5 : List UInt8 := [182, 0, 150, 172]
abbrev dktX2_doesNow_5 : List UInt8 := dkwX2_doesNow_5 ++ []
def dkwX2_doesNow_4 : List UInt8 := [42, 5, 27, 182, 0, 141, 172, 42, 16, 14, 27, 96, 42, 180, 0, 58, 4, 46, 182, 0, 141, 172, 42, 27]
abbrev dktX2_doesNow_4 : List UInt8 := dkwX2_doesNow_4 ++ dktX2_doesNow_5
def dkwX2_doesNow_3 : List UInt8 := [42, 27, 182, 0, 185, 172, 42, 27, 182, 0, 119, 172, 42, 27, 182, 0, 135, 172, 42, 27, 182, 0, 129, 172]
abbrev dktX2_doesNow_3 : List UInt8 := dkwX2_doesNow_3 ++ dktX2_doesNow_4
def dkwX2_doesNow_2 : List UInt8 := [42, 27, 42, 180, 0, 58, 4, 46, 42, 180, 0, 58, 5, 46, 42, 180, 0, 58, 6, 46, 182, 0, 110, 172]
abbrev dktX2_doesNow_2 : List UInt8 := dkwX2_doesNow_2 ++ dktX2_doesNow_3
def dkwX2_doesNow_1 : List UInt8 := [170, 0, 0, 0, 155, 0, 0, 0, 98, 0, 0, 0, 115, 0, 0, 0, 140, 0, 0, 0, 155, 0, 0, 0, 121, 0, 0, 0, 155, 0, 0, 0, 155, 0, 0, 0, 155, 0, 0, 0, 155, 0, 0, 0, 155, 0, 0, 0, 85, 0, 0, 0, 155, 0, 0, 0, 155, 0, 0, 0, 155, 0, 0, 0, 155, 0, 0, 0, 127, 0, 0, 0, 109, 0, 0, 0, 155, 0, 0, 0, 115, 0, 0, 0, 133]
abbrev dktX2_doesNow_1 : List UInt8 := dkwX2_doesNow_1 ++ dktX2_doesNow_2
def dkwX2_doesNow_0 : List UInt8 := [42, 180, 0, 58, 3, 46, 60, 42, 180, 0, 248]
abbrev dktX2_doesNow_0 : List UInt8 := dkwX2_doesNow_0 ++ dktX2_doesNow_1
theorem dksX2_doesNow_0 : cX2_doesNow.data.toList.drop 0 = dktX2_doesNow_0 := by decide +kernel
theorem dksX2_doesNow_1 : cX2_doesNow.data.toList.drop 11 = dktX2_doesNow_1 := dk_seg dksX2_doesNow_0 11 rfl rfl
theorem dksX2_doesNow_2 : cX2_doesNow.data.toList.drop 96 = dktX2_doesNow_2 := dk_seg dksX2_doesNow_1 85 rfl rfl
theorem dksX2_doesNow_3 : cX2_doesNow.data.toList.drop 120 = dktX2_doesNow_3 := dk_seg dksX2_doesNow_2 24 rfl rfl
theorem dksX2_doesNow_4 : cX2_doesNow.data.toList.drop 144 = dktX2_doesNow_4 := dk_seg dksX2_doesNow_3 24 rfl rfl
theorem dksX2_doesNow_5 : cX2_doesNow.data.toList.drop 168 = dktX2_doesNow_5 := dk_seg dksX2_doesNow_4 24 rfl rfl
theorem dX2_doesNow_0 : decode cX2_doesNow 0 = .ok (.aload_n 0, 1) := dk_42 (dk_at dksX2_doesNow_0 0 rfl rfl)
theorem dX2_doesNow_1 : decode cX2_doesNow 1 = .ok (.getfield 58, 3) := dk_180 0 58 (dk_at dksX2_doesNow_0 1 rfl rfl)
theorem dX2_doesNow_4 : decode cX2_doesNow 4 = .ok (.iconst 0, 1) := dk_3 (dk_at dksX2_doesNow_0 4 rfl rfl)
theorem dX2_doesNow_5 : decode cX2_doesNow 5 = .ok (.iaload, 1) := dk_46 (dk_at dksX2_doesNow_0 5 rfl rfl)
theorem dX2_doesNow_6 : decode cX2_doesNow 6 = .ok (.istore_n 1, 1) := dk_60 (dk_at dksX2_doesNow_0 6 rfl rfl)
theorem dX2_doesNow_7 : decode cX2_doesNow 7 = .ok (.aload_n 0, 1) := dk_42 (dk_at dksX2_doesNow_0 7 rfl rfl)
theorem dX2_doesNow_8 : decode cX2_doesNow 8 = .ok (.getfield 248, 3) := dk_180 0 248 (dk_at dksX2_doesNow_0 8 rfl rfl)
theorem dX2_doesNow_11 : decode cX2_doesNow 11 = .ok (.tableswitch 155 98 115 #[140, 155, 121, 155, 155, 155, 155, 155, 85, 155, 155, 155, 155, 127, 109, 155, 115, 133], 85) := by decide +kernel
theorem dX2_doesNow_96 : decode cX2_doesNow 96 = .ok (.aload_n 0, 1) := dk_42 (dk_at dksX2_doesNow_2 0 rfl rfl)
theorem dX2_doesNow_97 : decode cX2_doesNow 97 = .ok (.iload_n 1, 1) := dk_27 (dk_at dksX2_doesNow_2 1 rfl rfl)
theorem dX2_doesNow_98 : decode cX2_doesNow 98 = .ok (.aload_n 0, 1) := dk_42 (dk_at dksX2_doesNow_2 2 rfl rfl)
theorem dX2_doesNow_99 : decode cX2_doesNow 99 = .ok (.getfield 58, 3) := dk_180 0 58 (dk_at dksX2_doesNow_2 3 rfl rfl)
theorem dX2_doesNow_102 : decode cX2_doesNow 102 = .ok (.iconst 1, 1) := dk_4 (dk_at dksX2_doesNow_2 6 rfl rfl)
theorem dX2_doesNow_103 : decode cX2_doesNow 103 = .ok (.iaload, 1) := dk_46 (dk_at dksX2_doesNow_2 7 rfl rfl)
theorem dX2_doesNow_104 : decode cX2_doesNow 104 = .ok (.aload_n 0, 1) := dk_42 (dk_at dksX2_doesNow_2 8 rfl rfl)
theorem dX2_doesNow_105 : decode cX2_doesNow 105 = .ok (.getfield 58, 3) := dk_180 0 58 (dk_at dksX2_doesNow_2 9 rfl rfl)
theorem dX2_doesNow_108 : decode cX2_doesNow 108 = .ok (.iconst 2, 1) := dk_5 (dk_at dksX2_doesNow_2 12 rfl rfl)
theorem dX2_doesNow_109 : decode cX2_doesNow 109 = .ok (.iaload, 1) := dk_46 (dk_at dksX2_doesNow_2 13 rfl rfl)
theorem dX2_doesNow_110 : decode cX2_doesNow 110 = .ok (.aload_n 0, 1) := dk_42 (dk_at dksX2_doesNow_2 14 rfl rfl)
theorem dX2_doesNow_111 : decode cX2_doesNow 111 = .ok (.getfield 58, 3) := dk_180 0 58 (dk_at dksX2_doesNow_2 15 rfl rfl)
theorem dX2_doesNow_114 : decode cX2_doesNow 114 = .ok (.iconst 3, 1) := dk_6 (dk_at dksX2_doesNow_2 18 rfl rfl)
theorem dX2_doesNow_115 : decode cX2_doesNow 115 = .ok (.iaload, 1) := dk_46 (dk_at dksX2_doesNow_2 19 rfl rfl)
theorem dX2_doesNow_116 : decode cX2_doesNow 116 = .ok (.invokevirtual 110, 3) := dk_182 0 110 (dk_at dksX2_doesNow_2 20 rfl rfl)
theorem dX2_doesNow_119 : decode cX2_doesNow 119 = .ok (.ireturn, 1) := dk_172 (dk_at dksX2_doesNow_2 23 rfl rfl)
theorem dX2_doesNow_120 : decode cX2_doesNow 120 = .ok (.aload_n 0, 1) := dk_42 (dk_at dksX2_doesNow_3 0 rfl rfl)
theorem dX2_doesNow_121 : decode cX2_doesNow 121 = .ok (.iload_n 1, 1) := dk_27 (dk_at dksX2_doesNow_3 1 rfl rfl)
theorem dX2_doesNow_122 : decode cX2_doesNow 122 = .ok (.invokevirtual 185, 3) := dk_182 0 185 (dk_at dksX2_doesNow_3 2 rfl rfl)
theorem dX2_doesNow_125 : decode cX2_doesNow 125 = .ok (.ireturn, 1) := dk_172 (dk_at dksX2_doesNow_3 5 rfl rfl)
theorem dX2_doesNow_126 : decode cX2_doesNow 126 = .ok (.aload_n 0, 1) := dk_42 (dk_at dksX2_doesNow_3 6 rfl rfl)
theorem dX2_doesNow_127 : decode cX2_doesNow 127 = .ok (.iload_n 1, 1) := dk_27 (dk_at dksX2_doesNow_3 7 rfl rfl)
theorem dX2_doesNow_128 : decode cX2_doesNow 128 = .ok (.invokevirtual 119, 3) := dk_182 0 119 (dk_at dksX2_doesNow_3 8 rfl rfl)
theorem dX2_doesNow_131 : decode cX2_doesNow 131 = .ok (.ireturn, 1) := dk_172 (dk_at dksX2_doesNow_3 11 rfl rfl)
theorem dX2_doesNow_132 : decode cX2_doesNow 132 = .ok (.aload_n 0, 1) := dk_42 (dk_at dksX2_doesNow_3 12 rfl rfl)
theorem dX2_doesNow_133 : decode cX2_doesNow 133 = .ok (.iload_n 1, 1) := dk_27 (dk_at dksX2_doesNow_3 13 rfl rfl)
theorem dX2_doesNow_134 : decode cX2_doesNow 134 = .ok (.invokevirtual 135, 3) := dk_182 0 135 (dk_at dksX2_doesNow_3 14 rfl rfl)
theorem dX2_doesNow_137 : decode cX2_doesNow 137 = .ok (.ireturn, 1) := dk_172 (dk_at dksX2_doesNow_3 17 rfl rfl)
theorem dX2_doesNow_138 : decode cX2_doesNow 138 = .ok (.aload_n 0, 1) := dk_42 (dk_at dksX2_doesNow_3 18 rfl rfl)
theorem dX2_doesNow_139 : decode cX2_doesNow 139 = .ok (.iload_n 1, 1) := dk_27 (dk_at dksX2_doesNow_3 19 rfl rfl)
theorem dX2_doesNow_140 : decode cX2_doesNow 140 = .ok (.invokevirtual 129, 3) := dk_182 0 129 (dk_at dksX2_doesNow_3 20 rfl rfl)
theorem dX2_doesNow_143 : decode cX2_doesNow 143 = .ok (.ireturn, 1) := dk_172 (dk_at dksX2_doesNow_3 23 rfl rfl)
theorem dX2_doesNow_144 : decode cX2_doesNow 144 = .ok (.aload_n 0, 1) := dk_42 (dk_at dksX2_doesNow_4 0 rfl rfl)
theorem dX2_doesNow_145 : decode cX2_doesNow 145 = .ok (.iconst 2, 1) := dk_5 (dk_at dksX2_doesNow_4 1 rfl rfl)
theorem dX2_doesNow_146 : decode cX2_doesNow 146 = .ok (.iload_n 1, 1) := dk_27 (dk_at dksX2_doesNow_4 2 rfl rfl)
theorem dX2_doesNow_147 : decode cX2_doesNow 147 = .ok (.invokevirtual 141, 3) := dk_182 0 141 (dk_at dksX2_doesNow_4 3 rfl rfl)
theorem dX2_doesNow_150 : decode cX2_doesNow 150 = .ok (.ireturn, 1) := dk_172 (dk_at dksX2_doesNow_4 6 rfl rfl)
theorem dX2_doesNow_151 : decode cX2_doesNow 151 = .ok (.aload_n 0, 1) := dk_42 (dk_at dksX2_doesNow_4 7 rfl rfl)
theorem dX2_doesNow_152 : decode cX2_doesNow 152 = .ok (.bipush 14, 2) := dk_16 14 (dk_at dksX2_doesNow_4 8 rfl rfl)
theorem dX2_doesNow_154 : decode cX2_doesNow 154 = .ok (.iload_n 1, 1) := dk_27 (dk_at dksX2_doesNow_4 10 rfl rfl)
theorem dX2_doesNow_155 : decode cX2_doesNow 155 = .ok (.iadd, 1) := dk_96 (dk_at dksX2_doesNow_4 11 rfl rfl)
theorem dX2_doesNow_156 : decode cX2_doesNow 156 = .ok (.aload_n 0, 1) := dk_42 (dk_at dksX2_doesNow_4 12 rfl rfl)
theorem dX2_doesNow_157 : decode cX2_doesNow 157 = .ok (.getfield 58, 3) := dk_180 0 58 (dk_at dksX2_doesNow_4 13 rfl rfl)
theorem dX2_doesNow_160 : decode cX2_doesNow 160 = .ok (.iconst 1, 1) := dk_4 (dk_at dksX2_doesNow_4 16 rfl rfl)
theorem dX2_doesNow_161 : decode cX2_doesNow 161 = .ok (.iaload, 1) := dk_46 (dk_at dksX2_doesNow_4 17 rfl rfl)
theorem dX2_doesNow_162 : decode cX2_doesNow 162 = .ok (.invokevirtual 141, 3) := dk_182 0 141 (dk_at dksX2_doesNow_4 18 rfl rfl)
theorem dX2_doesNow_165 : decode cX2_doesNow 165 = .ok (.ireturn, 1) := dk_172 (dk_at dksX2_doesNow_4 21 rfl rfl)
theorem dX2_doesNow_166 : decode cX2_doesNow 166 = .ok (.aload_n 0, 1) := dk_42 (dk_at dksX2_doesNow_4 22 rfl rfl)
theorem dX2_doesNow_167 : decode cX2_doesNow 167 = .ok (.iload_n 1, 1) := dk_27 (dk_at dksX2_doesNow_4 23 rfl rfl)
theorem dX2_doesNow_168 : decode cX2_doesNow 168 = .ok (.invokevirtual 150, 3) := dk_182 0 150 (dk_at dksX2_doesNow_5 0 rfl rfl)
theorem dX2_doesNow_171 : decode cX2_doesNow 171 = .ok (.ireturn, 1) := dk_172 (dk_at dksX2_doesNow_5 3 rfl rfl)
abbrev cX2_forgets : ByteArray := prog_27_method_7_code
def yX2_forgets : MethodName := ⟨RX2, "forgets", "()V"⟩
def dkwX2_forgets_1 : List UInt8 := [167, 255, 234, 177]
abbrev dktX2_forgets_1 : List UInt8 := dkwX2_forgets_1 ++ []
def dkwX2_forgets_0 : List UInt8 := [3, 60, 27, 17, 1, 18, 162, 0, 21, 42, 180, 0, 32, 27, 42, 180, 0, 42, 27, 46, 79, 132, 1, 1]
abbrev dktX2_forgets_0 : List UInt8 := dkwX2_forgets_0 ++ dktX2_forgets_1
theorem dksX2_forgets_0 : cX2_forgets.data.toList.drop 0 = dktX2_forgets_0 := by decide +kernel
theorem dksX2_forgets_1 : cX2_forgets.data.toList.drop 24 = dktX2_forgets_1 := dk_seg dksX2_forgets_0 24 rfl rfl
theorem dX2_forgets_0 : decode cX2_forgets 0 = .ok (.iconst 0, 1) := dk_3 (dk_at dksX2_forgets_0 0 rfl rfl)
theorem dX2_forgets_1 : decode cX2_forgets 1 = .ok (.istore_n 1, 1) := dk_60 (dk_at dksX2_forgets_0 1 rfl rfl)
theorem dX2_forgets_2 : decode cX2_forgets 2 = .ok (.iload_n 1, 1) := dk_27 (dk_at dksX2_forgets_0 2 rfl rfl)
theorem dX2_forgets_3 : decode cX2_forgets 3 = .ok (.sipush 274, 3) := dk_17 1 18 (dk_at dksX2_forgets_0 3 rfl rfl)
theorem dX2_forgets_6 : decode cX2_forgets 6 = .ok (.if_icmp .ge 21, 3) := dk_162 0 21 (dk_at dksX2_forgets_0 6 rfl rfl)
theorem dX2_forgets_9 : decode cX2_forgets 9 = .ok (.aload_n 0, 1) := dk_42 (dk_at dksX2_forgets_0 9 rfl rfl)
theorem dX2_forgets_10 : decode cX2_forgets 10 = .ok (.getfield 32, 3) := dk_180 0 32 (dk_at dksX2_forgets_0 10 rfl rfl)
theorem dX2_forgets_13 : decode cX2_forgets 13 = .ok (.iload_n 1, 1) := dk_27 (dk_at dksX2_forgets_0 13 rfl rfl)
theorem dX2_forgets_14 : decode cX2_forgets 14 = .ok (.aload_n 0, 1) := dk_42 (dk_at dksX2_forgets_0 14 rfl rfl)
theorem dX2_forgets_15 : decode cX2_forgets 15 = .ok (.getfield 42, 3) := dk_180 0 42 (dk_at dksX2_forgets_0 15 rfl rfl)
theorem dX2_forgets_18 : decode cX2_forgets 18 = .ok (.iload_n 1, 1) := dk_27 (dk_at dksX2_forgets_0 18 rfl rfl)
theorem dX2_forgets_19 : decode cX2_forgets 19 = .ok (.iaload, 1) := dk_46 (dk_at dksX2_forgets_0 19 rfl rfl)
theorem dX2_forgets_20 : decode cX2_forgets 20 = .ok (.iastore, 1) := dk_79 (dk_at dksX2_forgets_0 20 rfl rfl)
theorem dX2_forgets_21 : decode cX2_forgets 21 = .ok (.iinc 1 1, 3) := dk_132 1 1 (dk_at dksX2_forgets_0 21 rfl rfl)
theorem dX2_forgets_24 : decode cX2_forgets 24 = .ok (.goto (-22), 3) := dk_167 255 234 (dk_at dksX2_forgets_1 0 rfl rfl)
theorem dX2_forgets_27 : decode cX2_forgets 27 = .ok (.return_, 1) := dk_177 (dk_at dksX2_forgets_1 3 rfl rfl)
abbrev cX2_refuses : ByteArray := prog_27_method_95_code
def yX2_refuses : MethodName := ⟨RX2, "refuses", "(I)I"⟩
def dkwX2_refuses_1 : List UInt8 := [180, 0, 1, 167, 0, 4, 3, 181, 0, 16, 42, 42, 180, 0, 7, 181, 0, 23, 16, 251, 172]
abbrev dktX2_refuses_1 : List UInt8 := dkwX2_refuses_1 ++ []
def dkwX2_refuses_0 : List UInt8 := [42, 16, 9, 181, 0, 10, 42, 42, 180, 1, 14, 181, 0, 13, 42, 27, 16, 251, 160, 0, 10, 42]
abbrev dktX2_refuses_0 : List UInt8 := dkwX2_refuses_0 ++ dktX2_refuses_1
theorem dksX2_refuses_0 : cX2_refuses.data.toList.drop 0 = dktX2_refuses_0 := by decide +kernel
theorem dksX2_refuses_1 : cX2_refuses.data.toList.drop 22 = dktX2_refuses_1 := dk_seg dksX2_refuses_0 22 rfl rfl
theorem dX2_refuses_0 : decode cX2_refuses 0 = .ok (.aload_n 0, 1) := dk_42 (dk_at dksX2_refuses_0 0 rfl rfl)
theorem dX2_refuses_1 : decode cX2_refuses 1 = .ok (.bipush 9, 2) := dk_16 9 (dk_at dksX2_refuses_0 1 rfl rfl)
theorem dX2_refuses_3 : decode cX2_refuses 3 = .ok (.putfield 10, 3) := dk_181 0 10 (dk_at dksX2_refuses_0 3 rfl rfl)
theorem dX2_refuses_6 : decode cX2_refuses 6 = .ok (.aload_n 0, 1) := dk_42 (dk_at dksX2_refuses_0 6 rfl rfl)
theorem dX2_refuses_7 : decode cX2_refuses 7 = .ok (.aload_n 0, 1) := dk_42 (dk_at dksX2_refuses_0 7 rfl rfl)
theorem dX2_refuses_8 : decode cX2_refuses 8 = .ok (.getfield 270, 3) := dk_180 1 14 (dk_at dksX2_refuses_0 8 rfl rfl)
theorem dX2_refuses_11 : decode cX2_refuses 11 = .ok (.putfield 13, 3) := dk_181 0 13 (dk_at dksX2_refuses_0 11 rfl rfl)
theorem dX2_refuses_14 : decode cX2_refuses 14 = .ok (.aload_n 0, 1) := dk_42 (dk_at dksX2_refuses_0 14 rfl rfl)
theorem dX2_refuses_15 : decode cX2_refuses 15 = .ok (.iload_n 1, 1) := dk_27 (dk_at dksX2_refuses_0 15 rfl rfl)
theorem dX2_refuses_16 : decode cX2_refuses 16 = .ok (.bipush (-5), 2) := dk_16 251 (dk_at dksX2_refuses_0 16 rfl rfl)
theorem dX2_refuses_18 : decode cX2_refuses 18 = .ok (.if_icmp .ne 10, 3) := dk_160 0 10 (dk_at dksX2_refuses_0 18 rfl rfl)
theorem dX2_refuses_21 : decode cX2_refuses 21 = .ok (.aload_n 0, 1) := dk_42 (dk_at dksX2_refuses_0 21 rfl rfl)
theorem dX2_refuses_22 : decode cX2_refuses 22 = .ok (.getfield 1, 3) := dk_180 0 1 (dk_at dksX2_refuses_1 0 rfl rfl)
theorem dX2_refuses_25 : decode cX2_refuses 25 = .ok (.goto 4, 3) := dk_167 0 4 (dk_at dksX2_refuses_1 3 rfl rfl)
theorem dX2_refuses_28 : decode cX2_refuses 28 = .ok (.iconst 0, 1) := dk_3 (dk_at dksX2_refuses_1 6 rfl rfl)
theorem dX2_refuses_29 : decode cX2_refuses 29 = .ok (.putfield 16, 3) := dk_181 0 16 (dk_at dksX2_refuses_1 7 rfl rfl)
theorem dX2_refuses_32 : decode cX2_refuses 32 = .ok (.aload_n 0, 1) := dk_42 (dk_at dksX2_refuses_1 10 rfl rfl)
theorem dX2_refuses_33 : decode cX2_refuses 33 = .ok (.aload_n 0, 1) := dk_42 (dk_at dksX2_refuses_1 11 rfl rfl)
theorem dX2_refuses_34 : decode cX2_refuses 34 = .ok (.getfield 7, 3) := dk_180 0 7 (dk_at dksX2_refuses_1 12 rfl rfl)
theorem dX2_refuses_37 : decode cX2_refuses 37 = .ok (.putfield 23, 3) := dk_181 0 23 (dk_at dksX2_refuses_1 15 rfl rfl)
theorem dX2_refuses_40 : decode cX2_refuses 40 = .ok (.bipush (-5), 2) := dk_16 251 (dk_at dksX2_refuses_1 18 rfl rfl)
theorem dX2_refuses_42 : decode cX2_refuses 42 = .ok (.ireturn, 1) := dk_172 (dk_at dksX2_refuses_1 20 rfl rfl)
abbrev cX2_undo : ByteArray := prog_27_method_97_code
def yX2_undo : MethodName := ⟨RX2, "undo", "()I"⟩
def dkwX2_undo_2 : List UInt8 := [180, 0, 36, 17, 1, 18, 27, 104, 28, 96, 46, 79, 132, 2, 1, 167, 255, 228, 42, 180, 0, 61, 172]
abbrev dktX2_undo_2 : List UInt8 := dkwX2_undo_2 ++ []
def dkwX2_undo_1 : List UInt8 := [42, 180, 0, 61, 96, 16, 8, 112, 60, 3, 61, 28, 17, 1, 18, 162, 0, 27, 42, 180, 0, 32, 28, 42]
abbrev dktX2_undo_1 : List UInt8 := dkwX2_undo_1 ++ dktX2_undo_2
def dkwX2_undo_0 : List UInt8 := [42, 180, 0, 61, 154, 0, 6, 16, 253, 172, 42, 89, 180, 0, 61, 4, 100, 181, 0, 61, 42, 180, 0, 64]
abbrev dktX2_undo_0 : List UInt8 := dkwX2_undo_0 ++ dktX2_undo_1
theorem dksX2_undo_0 : cX2_undo.data.toList.drop 0 = dktX2_undo_0 := by decide +kernel
theorem dksX2_undo_1 : cX2_undo.data.toList.drop 24 = dktX2_undo_1 := dk_seg dksX2_undo_0 24 rfl rfl
theorem dksX2_undo_2 : cX2_undo.data.toList.drop 48 = dktX2_undo_2 := dk_seg dksX2_undo_1 24 rfl rfl
theorem dX2_undo_0 : decode cX2_undo 0 = .ok (.aload_n 0, 1) := dk_42 (dk_at dksX2_undo_0 0 rfl rfl)
theorem dX2_undo_1 : decode cX2_undo 1 = .ok (.getfield 61, 3) := dk_180 0 61 (dk_at dksX2_undo_0 1 rfl rfl)
theorem dX2_undo_4 : decode cX2_undo 4 = .ok (.ifCond .ne 6, 3) := dk_154 0 6 (dk_at dksX2_undo_0 4 rfl rfl)
theorem dX2_undo_7 : decode cX2_undo 7 = .ok (.bipush (-3), 2) := dk_16 253 (dk_at dksX2_undo_0 7 rfl rfl)
theorem dX2_undo_9 : decode cX2_undo 9 = .ok (.ireturn, 1) := dk_172 (dk_at dksX2_undo_0 9 rfl rfl)
theorem dX2_undo_10 : decode cX2_undo 10 = .ok (.aload_n 0, 1) := dk_42 (dk_at dksX2_undo_0 10 rfl rfl)
theorem dX2_undo_11 : decode cX2_undo 11 = .ok (.dup, 1) := dk_89 (dk_at dksX2_undo_0 11 rfl rfl)
theorem dX2_undo_12 : decode cX2_undo 12 = .ok (.getfield 61, 3) := dk_180 0 61 (dk_at dksX2_undo_0 12 rfl rfl)
theorem dX2_undo_15 : decode cX2_undo 15 = .ok (.iconst 1, 1) := dk_4 (dk_at dksX2_undo_0 15 rfl rfl)
theorem dX2_undo_16 : decode cX2_undo 16 = .ok (.isub, 1) := dk_100 (dk_at dksX2_undo_0 16 rfl rfl)
theorem dX2_undo_17 : decode cX2_undo 17 = .ok (.putfield 61, 3) := dk_181 0 61 (dk_at dksX2_undo_0 17 rfl rfl)
theorem dX2_undo_20 : decode cX2_undo 20 = .ok (.aload_n 0, 1) := dk_42 (dk_at dksX2_undo_0 20 rfl rfl)
theorem dX2_undo_21 : decode cX2_undo 21 = .ok (.getfield 64, 3) := dk_180 0 64 (dk_at dksX2_undo_0 21 rfl rfl)
theorem dX2_undo_24 : decode cX2_undo 24 = .ok (.aload_n 0, 1) := dk_42 (dk_at dksX2_undo_1 0 rfl rfl)
theorem dX2_undo_25 : decode cX2_undo 25 = .ok (.getfield 61, 3) := dk_180 0 61 (dk_at dksX2_undo_1 1 rfl rfl)
theorem dX2_undo_28 : decode cX2_undo 28 = .ok (.iadd, 1) := dk_96 (dk_at dksX2_undo_1 4 rfl rfl)
theorem dX2_undo_29 : decode cX2_undo 29 = .ok (.bipush 8, 2) := dk_16 8 (dk_at dksX2_undo_1 5 rfl rfl)
theorem dX2_undo_31 : decode cX2_undo 31 = .ok (.irem, 1) := dk_112 (dk_at dksX2_undo_1 7 rfl rfl)
theorem dX2_undo_32 : decode cX2_undo 32 = .ok (.istore_n 1, 1) := dk_60 (dk_at dksX2_undo_1 8 rfl rfl)
theorem dX2_undo_33 : decode cX2_undo 33 = .ok (.iconst 0, 1) := dk_3 (dk_at dksX2_undo_1 9 rfl rfl)
theorem dX2_undo_34 : decode cX2_undo 34 = .ok (.istore_n 2, 1) := dk_61 (dk_at dksX2_undo_1 10 rfl rfl)
theorem dX2_undo_35 : decode cX2_undo 35 = .ok (.iload_n 2, 1) := dk_28 (dk_at dksX2_undo_1 11 rfl rfl)
theorem dX2_undo_36 : decode cX2_undo 36 = .ok (.sipush 274, 3) := dk_17 1 18 (dk_at dksX2_undo_1 12 rfl rfl)
theorem dX2_undo_39 : decode cX2_undo 39 = .ok (.if_icmp .ge 27, 3) := dk_162 0 27 (dk_at dksX2_undo_1 15 rfl rfl)
theorem dX2_undo_42 : decode cX2_undo 42 = .ok (.aload_n 0, 1) := dk_42 (dk_at dksX2_undo_1 18 rfl rfl)
theorem dX2_undo_43 : decode cX2_undo 43 = .ok (.getfield 32, 3) := dk_180 0 32 (dk_at dksX2_undo_1 19 rfl rfl)
theorem dX2_undo_46 : decode cX2_undo 46 = .ok (.iload_n 2, 1) := dk_28 (dk_at dksX2_undo_1 22 rfl rfl)
theorem dX2_undo_47 : decode cX2_undo 47 = .ok (.aload_n 0, 1) := dk_42 (dk_at dksX2_undo_1 23 rfl rfl)
theorem dX2_undo_48 : decode cX2_undo 48 = .ok (.getfield 36, 3) := dk_180 0 36 (dk_at dksX2_undo_2 0 rfl rfl)
theorem dX2_undo_51 : decode cX2_undo 51 = .ok (.sipush 274, 3) := dk_17 1 18 (dk_at dksX2_undo_2 3 rfl rfl)
theorem dX2_undo_54 : decode cX2_undo 54 = .ok (.iload_n 1, 1) := dk_27 (dk_at dksX2_undo_2 6 rfl rfl)
theorem dX2_undo_55 : decode cX2_undo 55 = .ok (.imul, 1) := dk_104 (dk_at dksX2_undo_2 7 rfl rfl)
theorem dX2_undo_56 : decode cX2_undo 56 = .ok (.iload_n 2, 1) := dk_28 (dk_at dksX2_undo_2 8 rfl rfl)
theorem dX2_undo_57 : decode cX2_undo 57 = .ok (.iadd, 1) := dk_96 (dk_at dksX2_undo_2 9 rfl rfl)
theorem dX2_undo_58 : decode cX2_undo 58 = .ok (.iaload, 1) := dk_46 (dk_at dksX2_undo_2 10 rfl rfl)
theorem dX2_undo_59 : decode cX2_undo 59 = .ok (.iastore, 1) := dk_79 (dk_at dksX2_undo_2 11 rfl rfl)
theorem dX2_undo_60 : decode cX2_undo 60 = .ok (.iinc 2 1, 3) := dk_132 2 1 (dk_at dksX2_undo_2 12 rfl rfl)
theorem dX2_undo_63 : decode cX2_undo 63 = .ok (.goto (-28), 3) := dk_167 255 228 (dk_at dksX2_undo_2 15 rfl rfl)
theorem dX2_undo_66 : decode cX2_undo 66 = .ok (.aload_n 0, 1) := dk_42 (dk_at dksX2_undo_2 18 rfl rfl)
theorem dX2_undo_67 : decode cX2_undo 67 = .ok (.getfield 61, 3) := dk_180 0 61 (dk_at dksX2_undo_2 19 rfl rfl)
theorem dX2_undo_70 : decode cX2_undo 70 = .ok (.ireturn, 1) := dk_172 (dk_at dksX2_undo_2 22 rfl rfl)
abbrev cX2_save : ByteArray := prog_27_method_98_code
def yX2_save : MethodName := ⟨RX2, "save", "()I"⟩
def dkwX2_save_1 : List UInt8 := [167, 255, 234, 42, 4, 181, 1, 35, 42, 180, 0, 32, 3, 46, 172]
abbrev dktX2_save_1 : List UInt8 := dkwX2_save_1 ++ []
def dkwX2_save_0 : List UInt8 := [3, 60, 27, 17, 1, 18, 162, 0, 21, 42, 180, 0, 39, 27, 42, 180, 0, 32, 27, 46, 79, 132, 1, 1]
abbrev dktX2_save_0 : List UInt8 := dkwX2_save_0 ++ dktX2_save_1
theorem dksX2_save_0 : cX2_save.data.toList.drop 0 = dktX2_save_0 := by decide +kernel
theorem dksX2_save_1 : cX2_save.data.toList.drop 24 = dktX2_save_1 := dk_seg dksX2_save_0 24 rfl rfl
theorem dX2_save_0 : decode cX2_save 0 = .ok (.iconst 0, 1) := dk_3 (dk_at dksX2_save_0 0 rfl rfl)
theorem dX2_save_1 : decode cX2_save 1 = .ok (.istore_n 1, 1) := dk_60 (dk_at dksX2_save_0 1 rfl rfl)
theorem dX2_save_2 : decode cX2_save 2 = .ok (.iload_n 1, 1) := dk_27 (dk_at dksX2_save_0 2 rfl rfl)
theorem dX2_save_3 : decode cX2_save 3 = .ok (.sipush 274, 3) := dk_17 1 18 (dk_at dksX2_save_0 3 rfl rfl)
theorem dX2_save_6 : decode cX2_save 6 = .ok (.if_icmp .ge 21, 3) := dk_162 0 21 (dk_at dksX2_save_0 6 rfl rfl)
theorem dX2_save_9 : decode cX2_save 9 = .ok (.aload_n 0, 1) := dk_42 (dk_at dksX2_save_0 9 rfl rfl)
theorem dX2_save_10 : decode cX2_save 10 = .ok (.getfield 39, 3) := dk_180 0 39 (dk_at dksX2_save_0 10 rfl rfl)
theorem dX2_save_13 : decode cX2_save 13 = .ok (.iload_n 1, 1) := dk_27 (dk_at dksX2_save_0 13 rfl rfl)
theorem dX2_save_14 : decode cX2_save 14 = .ok (.aload_n 0, 1) := dk_42 (dk_at dksX2_save_0 14 rfl rfl)
theorem dX2_save_15 : decode cX2_save 15 = .ok (.getfield 32, 3) := dk_180 0 32 (dk_at dksX2_save_0 15 rfl rfl)
theorem dX2_save_18 : decode cX2_save 18 = .ok (.iload_n 1, 1) := dk_27 (dk_at dksX2_save_0 18 rfl rfl)
theorem dX2_save_19 : decode cX2_save 19 = .ok (.iaload, 1) := dk_46 (dk_at dksX2_save_0 19 rfl rfl)
theorem dX2_save_20 : decode cX2_save 20 = .ok (.iastore, 1) := dk_79 (dk_at dksX2_save_0 20 rfl rfl)
theorem dX2_save_21 : decode cX2_save 21 = .ok (.iinc 1 1, 3) := dk_132 1 1 (dk_at dksX2_save_0 21 rfl rfl)
theorem dX2_save_24 : decode cX2_save 24 = .ok (.goto (-22), 3) := dk_167 255 234 (dk_at dksX2_save_1 0 rfl rfl)
theorem dX2_save_27 : decode cX2_save 27 = .ok (.aload_n 0, 1) := dk_42 (dk_at dksX2_save_1 3 rfl rfl)
theorem dX2_save_28 : decode cX2_save 28 = .ok (.iconst 1, 1) := dk_4 (dk_at dksX2_save_1 4 rfl rfl)
theorem dX2_save_29 : decode cX2_save 29 = .ok (.putfield 291, 3) := dk_181 1 35 (dk_at dksX2_save_1 5 rfl rfl)
theorem dX2_save_32 : decode cX2_save 32 = .ok (.aload_n 0, 1) := dk_42 (dk_at dksX2_save_1 8 rfl rfl)
theorem dX2_save_33 : decode cX2_save 33 = .ok (.getfield 32, 3) := dk_180 0 32 (dk_at dksX2_save_1 9 rfl rfl)
theorem dX2_save_36 : decode cX2_save 36 = .ok (.iconst 0, 1) := dk_3 (dk_at dksX2_save_1 12 rfl rfl)
theorem dX2_save_37 : decode cX2_save 37 = .ok (.iaload, 1) := dk_46 (dk_at dksX2_save_1 13 rfl rfl)
theorem dX2_save_38 : decode cX2_save 38 = .ok (.ireturn, 1) := dk_172 (dk_at dksX2_save_1 14 rfl rfl)
abbrev cX2_restore : ByteArray := prog_27_method_99_code
def yX2_restore : MethodName := ⟨RX2, "restore", "()I"⟩
def dkwX2_restore_2 : List UInt8 := [180, 0, 32, 3, 46, 172]
abbrev dktX2_restore_2 : List UInt8 := dkwX2_restore_2 ++ []
def dkwX2_restore_1 : List UInt8 := [42, 180, 0, 39, 27, 46, 79, 132, 1, 1, 167, 255, 234, 42, 3, 181, 0, 61, 42, 3, 181, 0, 64, 42]
abbrev dktX2_restore_1 : List UInt8 := dkwX2_restore_1 ++ dktX2_restore_2
def dkwX2_restore_0 : List UInt8 := [42, 180, 1, 35, 154, 0, 6, 16, 253, 172, 3, 60, 27, 17, 1, 18, 162, 0, 21, 42, 180, 0, 32, 27]
abbrev dktX2_restore_0 : List UInt8 := dkwX2_restore_0 ++ dktX2_restore_1
theorem dksX2_restore_0 : cX2_restore.data.toList.drop 0 = dktX2_restore_0 := by decide +kernel
theorem dksX2_restore_1 : cX2_restore.data.toList.drop 24 = dktX2_restore_1 := dk_seg dksX2_restore_0 24 rfl rfl
theorem dksX2_restore_2 : cX2_restore.data.toList.drop 48 = dktX2_restore_2 := dk_seg dksX2_restore_1 24 rfl rfl
theorem dX2_restore_0 : decode cX2_restore 0 = .ok (.aload_n 0, 1) := dk_42 (dk_at dksX2_restore_0 0 rfl rfl)
theorem dX2_restore_1 : decode cX2_restore 1 = .ok (.getfield 291, 3) := dk_180 1 35 (dk_at dksX2_restore_0 1 rfl rfl)
theorem dX2_restore_4 : decode cX2_restore 4 = .ok (.ifCond .ne 6, 3) := dk_154 0 6 (dk_at dksX2_restore_0 4 rfl rfl)
theorem dX2_restore_7 : decode cX2_restore 7 = .ok (.bipush (-3), 2) := dk_16 253 (dk_at dksX2_restore_0 7 rfl rfl)
theorem dX2_restore_9 : decode cX2_restore 9 = .ok (.ireturn, 1) := dk_172 (dk_at dksX2_restore_0 9 rfl rfl)
theorem dX2_restore_10 : decode cX2_restore 10 = .ok (.iconst 0, 1) := dk_3 (dk_at dksX2_restore_0 10 rfl rfl)
theorem dX2_restore_11 : decode cX2_restore 11 = .ok (.istore_n 1, 1) := dk_60 (dk_at dksX2_restore_0 11 rfl rfl)
theorem dX2_restore_12 : decode cX2_restore 12 = .ok (.iload_n 1, 1) := dk_27 (dk_at dksX2_restore_0 12 rfl rfl)
theorem dX2_restore_13 : decode cX2_restore 13 = .ok (.sipush 274, 3) := dk_17 1 18 (dk_at dksX2_restore_0 13 rfl rfl)
theorem dX2_restore_16 : decode cX2_restore 16 = .ok (.if_icmp .ge 21, 3) := dk_162 0 21 (dk_at dksX2_restore_0 16 rfl rfl)
theorem dX2_restore_19 : decode cX2_restore 19 = .ok (.aload_n 0, 1) := dk_42 (dk_at dksX2_restore_0 19 rfl rfl)
theorem dX2_restore_20 : decode cX2_restore 20 = .ok (.getfield 32, 3) := dk_180 0 32 (dk_at dksX2_restore_0 20 rfl rfl)
theorem dX2_restore_23 : decode cX2_restore 23 = .ok (.iload_n 1, 1) := dk_27 (dk_at dksX2_restore_0 23 rfl rfl)
theorem dX2_restore_24 : decode cX2_restore 24 = .ok (.aload_n 0, 1) := dk_42 (dk_at dksX2_restore_1 0 rfl rfl)
theorem dX2_restore_25 : decode cX2_restore 25 = .ok (.getfield 39, 3) := dk_180 0 39 (dk_at dksX2_restore_1 1 rfl rfl)
theorem dX2_restore_28 : decode cX2_restore 28 = .ok (.iload_n 1, 1) := dk_27 (dk_at dksX2_restore_1 4 rfl rfl)
theorem dX2_restore_29 : decode cX2_restore 29 = .ok (.iaload, 1) := dk_46 (dk_at dksX2_restore_1 5 rfl rfl)
theorem dX2_restore_30 : decode cX2_restore 30 = .ok (.iastore, 1) := dk_79 (dk_at dksX2_restore_1 6 rfl rfl)
theorem dX2_restore_31 : decode cX2_restore 31 = .ok (.iinc 1 1, 3) := dk_132 1 1 (dk_at dksX2_restore_1 7 rfl rfl)
theorem dX2_restore_34 : decode cX2_restore 34 = .ok (.goto (-22), 3) := dk_167 255 234 (dk_at dksX2_restore_1 10 rfl rfl)
theorem dX2_restore_37 : decode cX2_restore 37 = .ok (.aload_n 0, 1) := dk_42 (dk_at dksX2_restore_1 13 rfl rfl)
theorem dX2_restore_38 : decode cX2_restore 38 = .ok (.iconst 0, 1) := dk_3 (dk_at dksX2_restore_1 14 rfl rfl)
theorem dX2_restore_39 : decode cX2_restore 39 = .ok (.putfield 61, 3) := dk_181 0 61 (dk_at dksX2_restore_1 15 rfl rfl)
theorem dX2_restore_42 : decode cX2_restore 42 = .ok (.aload_n 0, 1) := dk_42 (dk_at dksX2_restore_1 18 rfl rfl)
theorem dX2_restore_43 : decode cX2_restore 43 = .ok (.iconst 0, 1) := dk_3 (dk_at dksX2_restore_1 19 rfl rfl)
theorem dX2_restore_44 : decode cX2_restore 44 = .ok (.putfield 64, 3) := dk_181 0 64 (dk_at dksX2_restore_1 20 rfl rfl)
theorem dX2_restore_47 : decode cX2_restore 47 = .ok (.aload_n 0, 1) := dk_42 (dk_at dksX2_restore_1 23 rfl rfl)
theorem dX2_restore_48 : decode cX2_restore 48 = .ok (.getfield 32, 3) := dk_180 0 32 (dk_at dksX2_restore_2 0 rfl rfl)
theorem dX2_restore_51 : decode cX2_restore 51 = .ok (.iconst 0, 1) := dk_3 (dk_at dksX2_restore_2 3 rfl rfl)
theorem dX2_restore_52 : decode cX2_restore 52 = .ok (.iaload, 1) := dk_46 (dk_at dksX2_restore_2 4 rfl rfl)
theorem dX2_restore_53 : decode cX2_restore 53 = .ok (.ireturn, 1) := dk_172 (dk_at dksX2_restore_2 5 rfl rfl)
theorem q91 : (Jvm.Cond.initialized "JokePumpModel") ∈ lw_all := lw_g (lw_at lw_m1 7 rfl) rfl
theorem q664 : (Jvm.Cond.selects "JokePumpModel" ({ cls := "java/lang/Object", name := "getClass", desc := "()Ljava/lang/Class;" } : Jvm.MethodName) ({ cls := "java/lang/Object", name := "getClass", desc := "()Ljava/lang/Class;" } : Jvm.MethodName)) ∈ lw_all := lw_g (lw_at lw_m3 100 rfl) rfl
theorem q968 : (Jvm.Cond.selects "JokePumpModel" ({ cls := "java/lang/Object", name := "equals", desc := "(Ljava/lang/Object;)Z" } : Jvm.MethodName) ({ cls := "java/lang/Object", name := "equals", desc := "(Ljava/lang/Object;)Z" } : Jvm.MethodName)) ∈ lw_all := lw_g (lw_at lw_m4 164 rfl) rfl
theorem q1998 : (Jvm.Cond.instanceMethod ({ cls := "JokePumpModel", name := "reason", desc := "(IZ)I" } : Jvm.MethodName)) ∈ lw_all := lw_g (lw_at lw_m8 234 rfl) rfl
theorem q1999 : (Jvm.Cond.selects "JokePumpModel" ({ cls := "JokePumpModel", name := "reason", desc := "(IZ)I" } : Jvm.MethodName) ({ cls := "JokePumpModel", name := "reason", desc := "(IZ)I" } : Jvm.MethodName)) ∈ lw_all := lw_g (lw_at lw_m8 235 rfl) rfl
theorem q2000 : (Jvm.Cond.code ({ cls := "JokePumpModel", name := "reason", desc := "(IZ)I" } : Jvm.MethodName) prog_27_method_4_code (3 : Nat) (Option.some Jvm.ClassFile.FieldType.int)) ∈ lw_all := lw_g (lw_at lw_m8 236 rfl) rfl
theorem q2001 : (Jvm.Cond.methodLink "JokePumpModel" (19 : Nat) ({ cls := "JokePumpModel", name := "isBetween", desc := "(III)Z" } : Jvm.MethodName)) ∈ lw_all := lw_g (lw_at lw_m8 237 rfl) rfl
theorem q2002 : (Jvm.Cond.static ({ cls := "JokePumpModel", name := "isBetween", desc := "(III)Z" } : Jvm.MethodName)) ∈ lw_all := lw_g (lw_at lw_m8 238 rfl) rfl
theorem q2003 : (Jvm.Cond.code ({ cls := "JokePumpModel", name := "isBetween", desc := "(III)Z" } : Jvm.MethodName) prog_27_method_1_code (3 : Nat) (Option.some Jvm.ClassFile.FieldType.boolean)) ∈ lw_all := lw_g (lw_at lw_m8 239 rfl) rfl
theorem q2005 : (Jvm.Cond.instantiable "JokePumpModel" (23 : Nat)) ∈ lw_all := lw_g (lw_at lw_m9 1 rfl) rfl
theorem q2007 : (Jvm.Cond.instanceMethod ({ cls := "JokePumpModel", name := "<init>", desc := "()V" } : Jvm.MethodName)) ∈ lw_all := lw_g (lw_at lw_m9 3 rfl) rfl
theorem q2008 : (Jvm.Cond.code ({ cls := "JokePumpModel", name := "<init>", desc := "()V" } : Jvm.MethodName) prog_27_method_5_code (2 : Nat) (Option.none : Option Jvm.ClassFile.FieldType)) ∈ lw_all := lw_g (lw_at lw_m9 4 rfl) rfl
theorem q2009 : (Jvm.Cond.methodLink "JokePumpModel" (26 : Nat) ({ cls := "java/lang/Object", name := "<init>", desc := "()V" } : Jvm.MethodName)) ∈ lw_all := lw_g (lw_at lw_m9 5 rfl) rfl
theorem q2010 : (Jvm.Cond.fieldLink "JokePumpModel" (10 : Nat) "JokePumpModel" "why" "I") ∈ lw_all := lw_g (lw_at lw_m9 6 rfl) rfl
theorem q2011 : (Jvm.Cond.fieldLink "JokePumpModel" (13 : Nat) "JokePumpModel" "detail" "I") ∈ lw_all := lw_g (lw_at lw_m9 7 rfl) rfl
theorem q2012 : (Jvm.Cond.fieldLink "JokePumpModel" (16 : Nat) "JokePumpModel" "whyBehind" "I") ∈ lw_all := lw_g (lw_at lw_m9 8 rfl) rfl
theorem q2013 : (Jvm.Cond.fieldLink "JokePumpModel" (23 : Nat) "JokePumpModel" "detailBehind" "I") ∈ lw_all := lw_g (lw_at lw_m9 9 rfl) rfl
theorem q2014 : (Jvm.Cond.fieldLink "JokePumpModel" (1 : Nat) "JokePumpModel" "whyNow" "I") ∈ lw_all := lw_g (lw_at lw_m9 10 rfl) rfl
theorem q2015 : (Jvm.Cond.fieldLink "JokePumpModel" (7 : Nat) "JokePumpModel" "detailNow" "I") ∈ lw_all := lw_g (lw_at lw_m9 11 rfl) rfl
theorem q2016 : (Jvm.Cond.fieldLink "JokePumpModel" (32 : Nat) "JokePumpModel" "w" "[I") ∈ lw_all := lw_g (lw_at lw_m9 12 rfl) rfl
theorem q2017 : (Jvm.Cond.fieldLink "JokePumpModel" (36 : Nat) "JokePumpModel" "undos" "[I") ∈ lw_all := lw_g (lw_at lw_m9 13 rfl) rfl
theorem q2018 : (Jvm.Cond.fieldLink "JokePumpModel" (39 : Nat) "JokePumpModel" "savedRow" "[I") ∈ lw_all := lw_g (lw_at lw_m9 14 rfl) rfl
theorem q2019 : (Jvm.Cond.fieldLink "JokePumpModel" (42 : Nat) "JokePumpModel" "mind" "[I") ∈ lw_all := lw_g (lw_at lw_m9 15 rfl) rfl
theorem q2020 : (Jvm.Cond.fieldLink "JokePumpModel" (45 : Nat) "JokePumpModel" "ahead" "[I") ∈ lw_all := lw_g (lw_at lw_m9 16 rfl) rfl
theorem q2021 : (Jvm.Cond.fieldLink "JokePumpModel" (61 : Nat) "JokePumpModel" "changes" "I") ∈ lw_all := lw_g (lw_at lw_m9 17 rfl) rfl
theorem q2022 : (Jvm.Cond.fieldLink "JokePumpModel" (64 : Nat) "JokePumpModel" "firstChange" "I") ∈ lw_all := lw_g (lw_at lw_m9 18 rfl) rfl
theorem q2023 : (Jvm.Cond.fieldLink "JokePumpModel" (291 : Nat) "JokePumpModel" "isSaved" "Z") ∈ lw_all := lw_g (lw_at lw_m9 19 rfl) rfl
theorem q2024 : (Jvm.Cond.fieldLink "JokePumpModel" (48 : Nat) "JokePumpModel" "line" "[C") ∈ lw_all := lw_g (lw_at lw_m9 20 rfl) rfl
theorem q2025 : (Jvm.Cond.fieldLink "JokePumpModel" (221 : Nat) "JokePumpModel" "lineLength" "I") ∈ lw_all := lw_g (lw_at lw_m9 21 rfl) rfl
theorem q2026 : (Jvm.Cond.fieldLink "JokePumpModel" (52 : Nat) "JokePumpModel" "input" "[C") ∈ lw_all := lw_g (lw_at lw_m9 22 rfl) rfl
theorem q2027 : (Jvm.Cond.fieldLink "JokePumpModel" (218 : Nat) "JokePumpModel" "inputMany" "I") ∈ lw_all := lw_g (lw_at lw_m9 23 rfl) rfl
theorem q2028 : (Jvm.Cond.fieldLink "JokePumpModel" (233 : Nat) "JokePumpModel" "inputAt" "I") ∈ lw_all := lw_g (lw_at lw_m9 24 rfl) rfl
theorem q2029 : (Jvm.Cond.fieldLink "JokePumpModel" (55 : Nat) "JokePumpModel" "faultAt" "I") ∈ lw_all := lw_g (lw_at lw_m9 25 rfl) rfl
theorem q2030 : (Jvm.Cond.fieldLink "JokePumpModel" (58 : Nat) "JokePumpModel" "numbers" "[I") ∈ lw_all := lw_g (lw_at lw_m9 26 rfl) rfl
theorem q2031 : (Jvm.Cond.fieldLink "JokePumpModel" (248 : Nat) "JokePumpModel" "sort" "I") ∈ lw_all := lw_g (lw_at lw_m9 27 rfl) rfl
theorem q2032 : (Jvm.Cond.fieldLink "JokePumpModel" (270 : Nat) "JokePumpModel" "done" "I") ∈ lw_all := lw_g (lw_at lw_m9 28 rfl) rfl
theorem q2033 : (Jvm.Cond.lays "JokePumpModel" "JokePumpModel" "why" "I") ∈ lw_all := lw_g (lw_at lw_m9 29 rfl) rfl
theorem q2034 : (Jvm.Cond.soleField "JokePumpModel" "why") ∈ lw_all := lw_g (lw_at lw_m9 30 rfl) rfl
theorem q2035 : (Jvm.Cond.lays "JokePumpModel" "JokePumpModel" "detail" "I") ∈ lw_all := lw_g (lw_at lw_m9 31 rfl) rfl
theorem q2036 : (Jvm.Cond.soleField "JokePumpModel" "detail") ∈ lw_all := lw_g (lw_at lw_m9 32 rfl) rfl
theorem q2037 : (Jvm.Cond.lays "JokePumpModel" "JokePumpModel" "whyBehind" "I") ∈ lw_all := lw_g (lw_at lw_m9 33 rfl) rfl
theorem q2038 : (Jvm.Cond.soleField "JokePumpModel" "whyBehind") ∈ lw_all := lw_g (lw_at lw_m9 34 rfl) rfl
theorem q2039 : (Jvm.Cond.lays "JokePumpModel" "JokePumpModel" "detailBehind" "I") ∈ lw_all := lw_g (lw_at lw_m9 35 rfl) rfl
theorem q2040 : (Jvm.Cond.soleField "JokePumpModel" "detailBehind") ∈ lw_all := lw_g (lw_at lw_m9 36 rfl) rfl
theorem q2041 : (Jvm.Cond.lays "JokePumpModel" "JokePumpModel" "whyNow" "I") ∈ lw_all := lw_g (lw_at lw_m9 37 rfl) rfl
theorem q2042 : (Jvm.Cond.soleField "JokePumpModel" "whyNow") ∈ lw_all := lw_g (lw_at lw_m9 38 rfl) rfl
theorem q2043 : (Jvm.Cond.lays "JokePumpModel" "JokePumpModel" "detailNow" "I") ∈ lw_all := lw_g (lw_at lw_m9 39 rfl) rfl
theorem q2044 : (Jvm.Cond.soleField "JokePumpModel" "detailNow") ∈ lw_all := lw_g (lw_at lw_m9 40 rfl) rfl
theorem q2045 : (Jvm.Cond.laysFinal "JokePumpModel" "JokePumpModel" "w" "[I") ∈ lw_all := lw_g (lw_at lw_m9 41 rfl) rfl
theorem q2046 : (Jvm.Cond.soleField "JokePumpModel" "w") ∈ lw_all := lw_g (lw_at lw_m9 42 rfl) rfl
theorem q2047 : (Jvm.Cond.laysFinal "JokePumpModel" "JokePumpModel" "undos" "[I") ∈ lw_all := lw_g (lw_at lw_m9 43 rfl) rfl
theorem q2048 : (Jvm.Cond.soleField "JokePumpModel" "undos") ∈ lw_all := lw_g (lw_at lw_m9 44 rfl) rfl
theorem q2049 : (Jvm.Cond.laysFinal "JokePumpModel" "JokePumpModel" "savedRow" "[I") ∈ lw_all := lw_g (lw_at lw_m9 45 rfl) rfl
theorem q2050 : (Jvm.Cond.soleField "JokePumpModel" "savedRow") ∈ lw_all := lw_g (lw_at lw_m9 46 rfl) rfl
theorem q2051 : (Jvm.Cond.laysFinal "JokePumpModel" "JokePumpModel" "mind" "[I") ∈ lw_all := lw_g (lw_at lw_m9 47 rfl) rfl
theorem q2052 : (Jvm.Cond.soleField "JokePumpModel" "mind") ∈ lw_all := lw_g (lw_at lw_m9 48 rfl) rfl
theorem q2053 : (Jvm.Cond.laysFinal "JokePumpModel" "JokePumpModel" "ahead" "[I") ∈ lw_all := lw_g (lw_at lw_m9 49 rfl) rfl
theorem q2054 : (Jvm.Cond.soleField "JokePumpModel" "ahead") ∈ lw_all := lw_g (lw_at lw_m9 50 rfl) rfl
theorem q2055 : (Jvm.Cond.lays "JokePumpModel" "JokePumpModel" "changes" "I") ∈ lw_all := lw_g (lw_at lw_m9 51 rfl) rfl
theorem q2056 : (Jvm.Cond.soleField "JokePumpModel" "changes") ∈ lw_all := lw_g (lw_at lw_m9 52 rfl) rfl
theorem q2057 : (Jvm.Cond.lays "JokePumpModel" "JokePumpModel" "firstChange" "I") ∈ lw_all := lw_g (lw_at lw_m9 53 rfl) rfl
theorem q2058 : (Jvm.Cond.soleField "JokePumpModel" "firstChange") ∈ lw_all := lw_g (lw_at lw_m9 54 rfl) rfl
theorem q2059 : (Jvm.Cond.lays "JokePumpModel" "JokePumpModel" "isSaved" "Z") ∈ lw_all := lw_g (lw_at lw_m9 55 rfl) rfl
theorem q2060 : (Jvm.Cond.soleField "JokePumpModel" "isSaved") ∈ lw_all := lw_g (lw_at lw_m9 56 rfl) rfl
theorem q2061 : (Jvm.Cond.laysFinal "JokePumpModel" "JokePumpModel" "line" "[C") ∈ lw_all := lw_g (lw_at lw_m9 57 rfl) rfl
theorem q2062 : (Jvm.Cond.soleField "JokePumpModel" "line") ∈ lw_all := lw_g (lw_at lw_m9 58 rfl) rfl
theorem q2063 : (Jvm.Cond.lays "JokePumpModel" "JokePumpModel" "lineLength" "I") ∈ lw_all := lw_g (lw_at lw_m9 59 rfl) rfl
theorem q2064 : (Jvm.Cond.soleField "JokePumpModel" "lineLength") ∈ lw_all := lw_g (lw_at lw_m9 60 rfl) rfl
theorem q2065 : (Jvm.Cond.laysFinal "JokePumpModel" "JokePumpModel" "input" "[C") ∈ lw_all := lw_g (lw_at lw_m9 61 rfl) rfl
theorem q2066 : (Jvm.Cond.soleField "JokePumpModel" "input") ∈ lw_all := lw_g (lw_at lw_m9 62 rfl) rfl
theorem q2067 : (Jvm.Cond.lays "JokePumpModel" "JokePumpModel" "inputMany" "I") ∈ lw_all := lw_g (lw_at lw_m9 63 rfl) rfl
theorem q2068 : (Jvm.Cond.soleField "JokePumpModel" "inputMany") ∈ lw_all := lw_g (lw_at lw_m9 64 rfl) rfl
theorem q2069 : (Jvm.Cond.lays "JokePumpModel" "JokePumpModel" "inputAt" "I") ∈ lw_all := lw_g (lw_at lw_m9 65 rfl) rfl
theorem q2070 : (Jvm.Cond.soleField "JokePumpModel" "inputAt") ∈ lw_all := lw_g (lw_at lw_m9 66 rfl) rfl
theorem q2071 : (Jvm.Cond.lays "JokePumpModel" "JokePumpModel" "faultAt" "I") ∈ lw_all := lw_g (lw_at lw_m9 67 rfl) rfl
theorem q2072 : (Jvm.Cond.soleField "JokePumpModel" "faultAt") ∈ lw_all := lw_g (lw_at lw_m9 68 rfl) rfl
theorem q2073 : (Jvm.Cond.laysFinal "JokePumpModel" "JokePumpModel" "numbers" "[I") ∈ lw_all := lw_g (lw_at lw_m9 69 rfl) rfl
theorem q2074 : (Jvm.Cond.soleField "JokePumpModel" "numbers") ∈ lw_all := lw_g (lw_at lw_m9 70 rfl) rfl
theorem q2075 : (Jvm.Cond.lays "JokePumpModel" "JokePumpModel" "sort" "I") ∈ lw_all := lw_g (lw_at lw_m9 71 rfl) rfl
theorem q2076 : (Jvm.Cond.soleField "JokePumpModel" "sort") ∈ lw_all := lw_g (lw_at lw_m9 72 rfl) rfl
theorem q2077 : (Jvm.Cond.lays "JokePumpModel" "JokePumpModel" "done" "I") ∈ lw_all := lw_g (lw_at lw_m9 73 rfl) rfl
theorem q2078 : (Jvm.Cond.soleField "JokePumpModel" "done") ∈ lw_all := lw_g (lw_at lw_m9 74 rfl) rfl
theorem q2079 : (Jvm.Cond.superclass "JokePumpModel" "java/lang/Object") ∈ lw_all := lw_g (lw_at lw_m9 75 rfl) rfl
theorem q2081 : (Jvm.Cond.instanceMethod ({ cls := "JokePumpModel", name := "joke", desc := "(IIII)I" } : Jvm.MethodName)) ∈ lw_all := lw_g (lw_at lw_m9 77 rfl) rfl
theorem q2082 : (Jvm.Cond.selects "JokePumpModel" ({ cls := "JokePumpModel", name := "joke", desc := "(IIII)I" } : Jvm.MethodName) ({ cls := "JokePumpModel", name := "joke", desc := "(IIII)I" } : Jvm.MethodName)) ∈ lw_all := lw_g (lw_at lw_m9 78 rfl) rfl
theorem q2083 : (Jvm.Cond.code ({ cls := "JokePumpModel", name := "joke", desc := "(IIII)I" } : Jvm.MethodName) prog_27_method_21_code (6 : Nat) (Option.some Jvm.ClassFile.FieldType.int)) ∈ lw_all := lw_g (lw_at lw_m9 79 rfl) rfl
theorem q2084 : (Jvm.Cond.methodLink "JokePumpModel" (100 : Nat) ({ cls := "JokePumpModel", name := "notJoke", desc := "(IIII)I" } : Jvm.MethodName)) ∈ lw_all := lw_g (lw_at lw_m9 80 rfl) rfl
theorem q2085 : (Jvm.Cond.privateMethod ({ cls := "JokePumpModel", name := "notJoke", desc := "(IIII)I" } : Jvm.MethodName)) ∈ lw_tbl := lw_at lw_m9 81 rfl
theorem q2086 : (Jvm.Cond.instanceMethod ({ cls := "JokePumpModel", name := "notJoke", desc := "(IIII)I" } : Jvm.MethodName)) ∈ lw_all := lw_g (lw_at lw_m9 82 rfl) rfl
theorem q2087 : (Jvm.Cond.code ({ cls := "JokePumpModel", name := "notJoke", desc := "(IIII)I" } : Jvm.MethodName) prog_27_method_19_code (5 : Nat) (Option.some Jvm.ClassFile.FieldType.int)) ∈ lw_all := lw_g (lw_at lw_m9 83 rfl) rfl
theorem q2088 : (Jvm.Cond.methodLink "JokePumpModel" (81 : Nat) ({ cls := "JokePumpModel", name := "isWell", desc := "(I)Z" } : Jvm.MethodName)) ∈ lw_all := lw_g (lw_at lw_m9 84 rfl) rfl
theorem q2089 : (Jvm.Cond.static ({ cls := "JokePumpModel", name := "isWell", desc := "(I)Z" } : Jvm.MethodName)) ∈ lw_all := lw_g (lw_at lw_m9 85 rfl) rfl
theorem q2090 : (Jvm.Cond.code ({ cls := "JokePumpModel", name := "isWell", desc := "(I)Z" } : Jvm.MethodName) prog_27_method_12_code (1 : Nat) (Option.some Jvm.ClassFile.FieldType.boolean)) ∈ lw_all := lw_g (lw_at lw_m9 86 rfl) rfl
theorem q2091 : (Jvm.Cond.methodLink "JokePumpModel" (85 : Nat) ({ cls := "JokePumpModel", name := "isKnownSign", desc := "(I)Z" } : Jvm.MethodName)) ∈ lw_all := lw_g (lw_at lw_m9 87 rfl) rfl
theorem q2092 : (Jvm.Cond.privateMethod ({ cls := "JokePumpModel", name := "isKnownSign", desc := "(I)Z" } : Jvm.MethodName)) ∈ lw_tbl := lw_at lw_m9 88 rfl
theorem q2093 : (Jvm.Cond.instanceMethod ({ cls := "JokePumpModel", name := "isKnownSign", desc := "(I)Z" } : Jvm.MethodName)) ∈ lw_all := lw_g (lw_at lw_m9 89 rfl) rfl
theorem q2094 : (Jvm.Cond.code ({ cls := "JokePumpModel", name := "isKnownSign", desc := "(I)Z" } : Jvm.MethodName) prog_27_method_13_code (2 : Nat) (Option.some Jvm.ClassFile.FieldType.boolean)) ∈ lw_all := lw_g (lw_at lw_m9 90 rfl) rfl
theorem q2095 : (Jvm.Cond.methodLink "JokePumpModel" (88 : Nat) ({ cls := "JokePumpModel", name := "isNot", desc := "(II)I" } : Jvm.MethodName)) ∈ lw_all := lw_g (lw_at lw_m9 91 rfl) rfl
theorem q2096 : (Jvm.Cond.privateMethod ({ cls := "JokePumpModel", name := "isNot", desc := "(II)I" } : Jvm.MethodName)) ∈ lw_tbl := lw_at lw_m9 92 rfl
theorem q2097 : (Jvm.Cond.instanceMethod ({ cls := "JokePumpModel", name := "isNot", desc := "(II)I" } : Jvm.MethodName)) ∈ lw_all := lw_g (lw_at lw_m9 93 rfl) rfl
theorem q2098 : (Jvm.Cond.code ({ cls := "JokePumpModel", name := "isNot", desc := "(II)I" } : Jvm.MethodName) prog_27_method_2_code (3 : Nat) (Option.some Jvm.ClassFile.FieldType.int)) ∈ lw_all := lw_g (lw_at lw_m9 94 rfl) rfl
theorem q2099 : (Jvm.Cond.methodLink "JokePumpModel" (91 : Nat) ({ cls := "JokePumpModel", name := "jokeWith", desc := "(I)I" } : Jvm.MethodName)) ∈ lw_all := lw_g (lw_at lw_m9 95 rfl) rfl
theorem q2100 : (Jvm.Cond.privateMethod ({ cls := "JokePumpModel", name := "jokeWith", desc := "(I)I" } : Jvm.MethodName)) ∈ lw_tbl := lw_at lw_m9 96 rfl
theorem q2101 : (Jvm.Cond.instanceMethod ({ cls := "JokePumpModel", name := "jokeWith", desc := "(I)I" } : Jvm.MethodName)) ∈ lw_all := lw_g (lw_at lw_m9 97 rfl) rfl
theorem q2102 : (Jvm.Cond.code ({ cls := "JokePumpModel", name := "jokeWith", desc := "(I)I" } : Jvm.MethodName) prog_27_method_15_code (3 : Nat) (Option.some Jvm.ClassFile.FieldType.int)) ∈ lw_all := lw_g (lw_at lw_m9 98 rfl) rfl
theorem q2103 : (Jvm.Cond.methodLink "JokePumpModel" (73 : Nat) ({ cls := "JokePumpModel", name := "is", desc := "(II)I" } : Jvm.MethodName)) ∈ lw_all := lw_g (lw_at lw_m9 99 rfl) rfl
theorem q2104 : (Jvm.Cond.privateMethod ({ cls := "JokePumpModel", name := "is", desc := "(II)I" } : Jvm.MethodName)) ∈ lw_tbl := lw_at lw_m9 100 rfl
theorem q2105 : (Jvm.Cond.instanceMethod ({ cls := "JokePumpModel", name := "is", desc := "(II)I" } : Jvm.MethodName)) ∈ lw_all := lw_g (lw_at lw_m9 101 rfl) rfl
theorem q2106 : (Jvm.Cond.code ({ cls := "JokePumpModel", name := "is", desc := "(II)I" } : Jvm.MethodName) prog_27_method_10_code (3 : Nat) (Option.some Jvm.ClassFile.FieldType.int)) ∈ lw_all := lw_g (lw_at lw_m9 102 rfl) rfl
theorem q2107 : (Jvm.Cond.methodLink "JokePumpModel" (94 : Nat) ({ cls := "JokePumpModel", name := "jokeAt", desc := "(II)I" } : Jvm.MethodName)) ∈ lw_all := lw_g (lw_at lw_m9 103 rfl) rfl
theorem q2108 : (Jvm.Cond.privateMethod ({ cls := "JokePumpModel", name := "jokeAt", desc := "(II)I" } : Jvm.MethodName)) ∈ lw_tbl := lw_at lw_m9 104 rfl
theorem q2109 : (Jvm.Cond.instanceMethod ({ cls := "JokePumpModel", name := "jokeAt", desc := "(II)I" } : Jvm.MethodName)) ∈ lw_all := lw_g (lw_at lw_m9 105 rfl) rfl
theorem q2110 : (Jvm.Cond.code ({ cls := "JokePumpModel", name := "jokeAt", desc := "(II)I" } : Jvm.MethodName) prog_27_method_16_code (4 : Nat) (Option.some Jvm.ClassFile.FieldType.int)) ∈ lw_all := lw_g (lw_at lw_m9 106 rfl) rfl
theorem q2111 : (Jvm.Cond.methodLink "JokePumpModel" (97 : Nat) ({ cls := "JokePumpModel", name := "jokesIn", desc := "(I)I" } : Jvm.MethodName)) ∈ lw_all := lw_g (lw_at lw_m9 107 rfl) rfl
theorem q2112 : (Jvm.Cond.privateMethod ({ cls := "JokePumpModel", name := "jokesIn", desc := "(I)I" } : Jvm.MethodName)) ∈ lw_tbl := lw_at lw_m9 108 rfl
theorem q2113 : (Jvm.Cond.instanceMethod ({ cls := "JokePumpModel", name := "jokesIn", desc := "(I)I" } : Jvm.MethodName)) ∈ lw_all := lw_g (lw_at lw_m9 109 rfl) rfl
theorem q2114 : (Jvm.Cond.code ({ cls := "JokePumpModel", name := "jokesIn", desc := "(I)I" } : Jvm.MethodName) prog_27_method_14_code (4 : Nat) (Option.some Jvm.ClassFile.FieldType.int)) ∈ lw_all := lw_g (lw_at lw_m9 110 rfl) rfl
theorem q2115 : (Jvm.Cond.methodLink "JokePumpModel" (104 : Nat) ({ cls := "JokePumpModel", name := "answers", desc := "(I)I" } : Jvm.MethodName)) ∈ lw_all := lw_g (lw_at lw_m9 111 rfl) rfl
theorem q2116 : (Jvm.Cond.privateMethod ({ cls := "JokePumpModel", name := "answers", desc := "(I)I" } : Jvm.MethodName)) ∈ lw_tbl := lw_at lw_m9 112 rfl
theorem q2117 : (Jvm.Cond.instanceMethod ({ cls := "JokePumpModel", name := "answers", desc := "(I)I" } : Jvm.MethodName)) ∈ lw_all := lw_g (lw_at lw_m9 113 rfl) rfl
theorem q2118 : (Jvm.Cond.code ({ cls := "JokePumpModel", name := "answers", desc := "(I)I" } : Jvm.MethodName) prog_27_method_3_code (2 : Nat) (Option.some Jvm.ClassFile.FieldType.int)) ∈ lw_all := lw_g (lw_at lw_m9 114 rfl) rfl
theorem q2119 : (Jvm.Cond.methodLink "JokePumpModel" (107 : Nat) ({ cls := "JokePumpModel", name := "remembers", desc := "()V" } : Jvm.MethodName)) ∈ lw_all := lw_g (lw_at lw_m9 115 rfl) rfl
theorem q2120 : (Jvm.Cond.privateMethod ({ cls := "JokePumpModel", name := "remembers", desc := "()V" } : Jvm.MethodName)) ∈ lw_tbl := lw_at lw_m9 116 rfl
theorem q2121 : (Jvm.Cond.instanceMethod ({ cls := "JokePumpModel", name := "remembers", desc := "()V" } : Jvm.MethodName)) ∈ lw_all := lw_g (lw_at lw_m9 117 rfl) rfl
theorem q2122 : (Jvm.Cond.code ({ cls := "JokePumpModel", name := "remembers", desc := "()V" } : Jvm.MethodName) prog_27_method_9_code (1 : Nat) (Option.none : Option Jvm.ClassFile.FieldType)) ∈ lw_all := lw_g (lw_at lw_m9 118 rfl) rfl
theorem q2123 : (Jvm.Cond.methodLink "JokePumpModel" (67 : Nat) ({ cls := "JokePumpModel", name := "thinks", desc := "()V" } : Jvm.MethodName)) ∈ lw_all := lw_g (lw_at lw_m9 119 rfl) rfl
theorem q2124 : (Jvm.Cond.privateMethod ({ cls := "JokePumpModel", name := "thinks", desc := "()V" } : Jvm.MethodName)) ∈ lw_tbl := lw_at lw_m9 120 rfl
theorem q2125 : (Jvm.Cond.instanceMethod ({ cls := "JokePumpModel", name := "thinks", desc := "()V" } : Jvm.MethodName)) ∈ lw_all := lw_g (lw_at lw_m9 121 rfl) rfl
theorem q2126 : (Jvm.Cond.code ({ cls := "JokePumpModel", name := "thinks", desc := "()V" } : Jvm.MethodName) prog_27_method_6_code (2 : Nat) (Option.none : Option Jvm.ClassFile.FieldType)) ∈ lw_all := lw_g (lw_at lw_m9 122 rfl) rfl
theorem q2127 : (Jvm.Cond.methodLink "JokePumpModel" (70 : Nat) ({ cls := "JokePumpModel", name := "keepsMind", desc := "()V" } : Jvm.MethodName)) ∈ lw_all := lw_g (lw_at lw_m9 123 rfl) rfl
theorem q2128 : (Jvm.Cond.privateMethod ({ cls := "JokePumpModel", name := "keepsMind", desc := "()V" } : Jvm.MethodName)) ∈ lw_tbl := lw_at lw_m9 124 rfl
theorem q2129 : (Jvm.Cond.instanceMethod ({ cls := "JokePumpModel", name := "keepsMind", desc := "()V" } : Jvm.MethodName)) ∈ lw_all := lw_g (lw_at lw_m9 125 rfl) rfl
theorem q2130 : (Jvm.Cond.code ({ cls := "JokePumpModel", name := "keepsMind", desc := "()V" } : Jvm.MethodName) prog_27_method_8_code (3 : Nat) (Option.none : Option Jvm.ClassFile.FieldType)) ∈ lw_all := lw_g (lw_at lw_m9 126 rfl) rfl
theorem q2131 : (Jvm.Cond.methodLink "JokePumpModel" (110 : Nat) ({ cls := "JokePumpModel", name := "comes", desc := "(IIII)I" } : Jvm.MethodName)) ∈ lw_all := lw_g (lw_at lw_m9 127 rfl) rfl
theorem q2132 : (Jvm.Cond.privateMethod ({ cls := "JokePumpModel", name := "comes", desc := "(IIII)I" } : Jvm.MethodName)) ∈ lw_tbl := lw_at lw_m9 128 rfl
theorem q2133 : (Jvm.Cond.instanceMethod ({ cls := "JokePumpModel", name := "comes", desc := "(IIII)I" } : Jvm.MethodName)) ∈ lw_all := lw_g (lw_at lw_m9 129 rfl) rfl
theorem q2134 : (Jvm.Cond.code ({ cls := "JokePumpModel", name := "comes", desc := "(IIII)I" } : Jvm.MethodName) prog_27_method_20_code (6 : Nat) (Option.some Jvm.ClassFile.FieldType.int)) ∈ lw_all := lw_g (lw_at lw_m9 130 rfl) rfl
theorem q2136 : (Jvm.Cond.instanceMethod ({ cls := "JokePumpModel", name := "prime", desc := "(I)I" } : Jvm.MethodName)) ∈ lw_all := lw_g (lw_at lw_m9 132 rfl) rfl
theorem q2137 : (Jvm.Cond.selects "JokePumpModel" ({ cls := "JokePumpModel", name := "prime", desc := "(I)I" } : Jvm.MethodName) ({ cls := "JokePumpModel", name := "prime", desc := "(I)I" } : Jvm.MethodName)) ∈ lw_all := lw_g (lw_at lw_m9 133 rfl) rfl
theorem q2138 : (Jvm.Cond.code ({ cls := "JokePumpModel", name := "prime", desc := "(I)I" } : Jvm.MethodName) prog_27_method_24_code (3 : Nat) (Option.some Jvm.ClassFile.FieldType.int)) ∈ lw_all := lw_g (lw_at lw_m9 134 rfl) rfl
theorem q2139 : (Jvm.Cond.methodLink "JokePumpModel" (116 : Nat) ({ cls := "JokePumpModel", name := "notPrime", desc := "(I)I" } : Jvm.MethodName)) ∈ lw_all := lw_g (lw_at lw_m9 135 rfl) rfl
theorem q2140 : (Jvm.Cond.privateMethod ({ cls := "JokePumpModel", name := "notPrime", desc := "(I)I" } : Jvm.MethodName)) ∈ lw_tbl := lw_at lw_m9 136 rfl
theorem q2141 : (Jvm.Cond.instanceMethod ({ cls := "JokePumpModel", name := "notPrime", desc := "(I)I" } : Jvm.MethodName)) ∈ lw_all := lw_g (lw_at lw_m9 137 rfl) rfl
theorem q2142 : (Jvm.Cond.code ({ cls := "JokePumpModel", name := "notPrime", desc := "(I)I" } : Jvm.MethodName) prog_27_method_22_code (2 : Nat) (Option.some Jvm.ClassFile.FieldType.int)) ∈ lw_all := lw_g (lw_at lw_m9 138 rfl) rfl
theorem q2143 : (Jvm.Cond.methodLink "JokePumpModel" (113 : Nat) ({ cls := "JokePumpModel", name := "isJoke", desc := "(I)Z" } : Jvm.MethodName)) ∈ lw_all := lw_g (lw_at lw_m9 139 rfl) rfl
theorem q2144 : (Jvm.Cond.privateMethod ({ cls := "JokePumpModel", name := "isJoke", desc := "(I)Z" } : Jvm.MethodName)) ∈ lw_tbl := lw_at lw_m9 140 rfl
theorem q2145 : (Jvm.Cond.instanceMethod ({ cls := "JokePumpModel", name := "isJoke", desc := "(I)Z" } : Jvm.MethodName)) ∈ lw_all := lw_g (lw_at lw_m9 141 rfl) rfl
theorem q2146 : (Jvm.Cond.code ({ cls := "JokePumpModel", name := "isJoke", desc := "(I)Z" } : Jvm.MethodName) prog_27_method_11_code (2 : Nat) (Option.some Jvm.ClassFile.FieldType.boolean)) ∈ lw_all := lw_g (lw_at lw_m9 142 rfl) rfl
theorem q2147 : (Jvm.Cond.methodLink "JokePumpModel" (119 : Nat) ({ cls := "JokePumpModel", name := "primes", desc := "(I)I" } : Jvm.MethodName)) ∈ lw_all := lw_g (lw_at lw_m9 143 rfl) rfl
theorem q2148 : (Jvm.Cond.privateMethod ({ cls := "JokePumpModel", name := "primes", desc := "(I)I" } : Jvm.MethodName)) ∈ lw_tbl := lw_at lw_m9 144 rfl
theorem q2149 : (Jvm.Cond.instanceMethod ({ cls := "JokePumpModel", name := "primes", desc := "(I)I" } : Jvm.MethodName)) ∈ lw_all := lw_g (lw_at lw_m9 145 rfl) rfl
theorem q2150 : (Jvm.Cond.code ({ cls := "JokePumpModel", name := "primes", desc := "(I)I" } : Jvm.MethodName) prog_27_method_23_code (2 : Nat) (Option.some Jvm.ClassFile.FieldType.int)) ∈ lw_all := lw_g (lw_at lw_m9 146 rfl) rfl
theorem q2152 : (Jvm.Cond.instanceMethod ({ cls := "JokePumpModel", name := "drop", desc := "(I)I" } : Jvm.MethodName)) ∈ lw_all := lw_g (lw_at lw_m9 148 rfl) rfl
theorem q2153 : (Jvm.Cond.selects "JokePumpModel" ({ cls := "JokePumpModel", name := "drop", desc := "(I)I" } : Jvm.MethodName) ({ cls := "JokePumpModel", name := "drop", desc := "(I)I" } : Jvm.MethodName)) ∈ lw_all := lw_g (lw_at lw_m9 149 rfl) rfl
theorem q2154 : (Jvm.Cond.code ({ cls := "JokePumpModel", name := "drop", desc := "(I)I" } : Jvm.MethodName) prog_27_method_28_code (3 : Nat) (Option.some Jvm.ClassFile.FieldType.int)) ∈ lw_all := lw_g (lw_at lw_m9 150 rfl) rfl
theorem q2155 : (Jvm.Cond.methodLink "JokePumpModel" (126 : Nat) ({ cls := "JokePumpModel", name := "notDrop", desc := "(I)I" } : Jvm.MethodName)) ∈ lw_all := lw_g (lw_at lw_m9 151 rfl) rfl
theorem q2156 : (Jvm.Cond.privateMethod ({ cls := "JokePumpModel", name := "notDrop", desc := "(I)I" } : Jvm.MethodName)) ∈ lw_tbl := lw_at lw_m9 152 rfl
theorem q2157 : (Jvm.Cond.instanceMethod ({ cls := "JokePumpModel", name := "notDrop", desc := "(I)I" } : Jvm.MethodName)) ∈ lw_all := lw_g (lw_at lw_m9 153 rfl) rfl
theorem q2158 : (Jvm.Cond.code ({ cls := "JokePumpModel", name := "notDrop", desc := "(I)I" } : Jvm.MethodName) prog_27_method_26_code (2 : Nat) (Option.some Jvm.ClassFile.FieldType.int)) ∈ lw_all := lw_g (lw_at lw_m9 154 rfl) rfl
theorem q2159 : (Jvm.Cond.methodLink "JokePumpModel" (129 : Nat) ({ cls := "JokePumpModel", name := "drops", desc := "(I)I" } : Jvm.MethodName)) ∈ lw_all := lw_g (lw_at lw_m9 155 rfl) rfl
theorem q2160 : (Jvm.Cond.privateMethod ({ cls := "JokePumpModel", name := "drops", desc := "(I)I" } : Jvm.MethodName)) ∈ lw_tbl := lw_at lw_m9 156 rfl
theorem q2161 : (Jvm.Cond.instanceMethod ({ cls := "JokePumpModel", name := "drops", desc := "(I)I" } : Jvm.MethodName)) ∈ lw_all := lw_g (lw_at lw_m9 157 rfl) rfl
theorem q2162 : (Jvm.Cond.code ({ cls := "JokePumpModel", name := "drops", desc := "(I)I" } : Jvm.MethodName) prog_27_method_27_code (2 : Nat) (Option.some Jvm.ClassFile.FieldType.int)) ∈ lw_all := lw_g (lw_at lw_m9 158 rfl) rfl
theorem q2163 : (Jvm.Cond.methodLink "JokePumpModel" (122 : Nat) ({ cls := "JokePumpModel", name := "goes", desc := "(I)V" } : Jvm.MethodName)) ∈ lw_all := lw_g (lw_at lw_m9 159 rfl) rfl
theorem q2164 : (Jvm.Cond.privateMethod ({ cls := "JokePumpModel", name := "goes", desc := "(I)V" } : Jvm.MethodName)) ∈ lw_tbl := lw_at lw_m9 160 rfl
theorem q2165 : (Jvm.Cond.instanceMethod ({ cls := "JokePumpModel", name := "goes", desc := "(I)V" } : Jvm.MethodName)) ∈ lw_all := lw_g (lw_at lw_m9 161 rfl) rfl
theorem q2166 : (Jvm.Cond.code ({ cls := "JokePumpModel", name := "goes", desc := "(I)V" } : Jvm.MethodName) prog_27_method_25_code (4 : Nat) (Option.none : Option Jvm.ClassFile.FieldType)) ∈ lw_all := lw_g (lw_at lw_m9 162 rfl) rfl
theorem q2168 : (Jvm.Cond.instanceMethod ({ cls := "JokePumpModel", name := "drain", desc := "(I)I" } : Jvm.MethodName)) ∈ lw_all := lw_g (lw_at lw_m9 164 rfl) rfl
theorem q2169 : (Jvm.Cond.selects "JokePumpModel" ({ cls := "JokePumpModel", name := "drain", desc := "(I)I" } : Jvm.MethodName) ({ cls := "JokePumpModel", name := "drain", desc := "(I)I" } : Jvm.MethodName)) ∈ lw_all := lw_g (lw_at lw_m9 165 rfl) rfl
theorem q2170 : (Jvm.Cond.code ({ cls := "JokePumpModel", name := "drain", desc := "(I)I" } : Jvm.MethodName) prog_27_method_31_code (3 : Nat) (Option.some Jvm.ClassFile.FieldType.int)) ∈ lw_all := lw_g (lw_at lw_m9 166 rfl) rfl
theorem q2171 : (Jvm.Cond.methodLink "JokePumpModel" (132 : Nat) ({ cls := "JokePumpModel", name := "notDrain", desc := "(I)I" } : Jvm.MethodName)) ∈ lw_all := lw_g (lw_at lw_m9 167 rfl) rfl
theorem q2172 : (Jvm.Cond.privateMethod ({ cls := "JokePumpModel", name := "notDrain", desc := "(I)I" } : Jvm.MethodName)) ∈ lw_tbl := lw_at lw_m9 168 rfl
theorem q2173 : (Jvm.Cond.instanceMethod ({ cls := "JokePumpModel", name := "notDrain", desc := "(I)I" } : Jvm.MethodName)) ∈ lw_all := lw_g (lw_at lw_m9 169 rfl) rfl
theorem q2174 : (Jvm.Cond.code ({ cls := "JokePumpModel", name := "notDrain", desc := "(I)I" } : Jvm.MethodName) prog_27_method_29_code (2 : Nat) (Option.some Jvm.ClassFile.FieldType.int)) ∈ lw_all := lw_g (lw_at lw_m9 170 rfl) rfl
theorem q2175 : (Jvm.Cond.methodLink "JokePumpModel" (135 : Nat) ({ cls := "JokePumpModel", name := "drains", desc := "(I)I" } : Jvm.MethodName)) ∈ lw_all := lw_g (lw_at lw_m9 171 rfl) rfl
theorem q2176 : (Jvm.Cond.privateMethod ({ cls := "JokePumpModel", name := "drains", desc := "(I)I" } : Jvm.MethodName)) ∈ lw_tbl := lw_at lw_m9 172 rfl
theorem q2177 : (Jvm.Cond.instanceMethod ({ cls := "JokePumpModel", name := "drains", desc := "(I)I" } : Jvm.MethodName)) ∈ lw_all := lw_g (lw_at lw_m9 173 rfl) rfl
theorem q2178 : (Jvm.Cond.code ({ cls := "JokePumpModel", name := "drains", desc := "(I)I" } : Jvm.MethodName) prog_27_method_30_code (2 : Nat) (Option.some Jvm.ClassFile.FieldType.int)) ∈ lw_all := lw_g (lw_at lw_m9 174 rfl) rfl
theorem q2180 : (Jvm.Cond.instanceMethod ({ cls := "JokePumpModel", name := "stroke", desc := "(I)I" } : Jvm.MethodName)) ∈ lw_all := lw_g (lw_at lw_m9 176 rfl) rfl
theorem q2181 : (Jvm.Cond.selects "JokePumpModel" ({ cls := "JokePumpModel", name := "stroke", desc := "(I)I" } : Jvm.MethodName) ({ cls := "JokePumpModel", name := "stroke", desc := "(I)I" } : Jvm.MethodName)) ∈ lw_all := lw_g (lw_at lw_m9 177 rfl) rfl
theorem q2182 : (Jvm.Cond.code ({ cls := "JokePumpModel", name := "stroke", desc := "(I)I" } : Jvm.MethodName) prog_27_method_34_code (3 : Nat) (Option.some Jvm.ClassFile.FieldType.int)) ∈ lw_all := lw_g (lw_at lw_m9 178 rfl) rfl
theorem q2183 : (Jvm.Cond.methodLink "JokePumpModel" (138 : Nat) ({ cls := "JokePumpModel", name := "notStroke", desc := "(I)I" } : Jvm.MethodName)) ∈ lw_all := lw_g (lw_at lw_m9 179 rfl) rfl
theorem q2184 : (Jvm.Cond.privateMethod ({ cls := "JokePumpModel", name := "notStroke", desc := "(I)I" } : Jvm.MethodName)) ∈ lw_tbl := lw_at lw_m9 180 rfl
theorem q2185 : (Jvm.Cond.instanceMethod ({ cls := "JokePumpModel", name := "notStroke", desc := "(I)I" } : Jvm.MethodName)) ∈ lw_all := lw_g (lw_at lw_m9 181 rfl) rfl
theorem q2186 : (Jvm.Cond.code ({ cls := "JokePumpModel", name := "notStroke", desc := "(I)I" } : Jvm.MethodName) prog_27_method_33_code (2 : Nat) (Option.some Jvm.ClassFile.FieldType.int)) ∈ lw_all := lw_g (lw_at lw_m9 182 rfl) rfl
theorem q2187 : (Jvm.Cond.methodLink "JokePumpModel" (141 : Nat) ({ cls := "JokePumpModel", name := "tells", desc := "(II)I" } : Jvm.MethodName)) ∈ lw_all := lw_g (lw_at lw_m9 183 rfl) rfl
theorem q2188 : (Jvm.Cond.privateMethod ({ cls := "JokePumpModel", name := "tells", desc := "(II)I" } : Jvm.MethodName)) ∈ lw_tbl := lw_at lw_m9 184 rfl
theorem q2189 : (Jvm.Cond.instanceMethod ({ cls := "JokePumpModel", name := "tells", desc := "(II)I" } : Jvm.MethodName)) ∈ lw_all := lw_g (lw_at lw_m9 185 rfl) rfl
theorem q2190 : (Jvm.Cond.code ({ cls := "JokePumpModel", name := "tells", desc := "(II)I" } : Jvm.MethodName) prog_27_method_32_code (4 : Nat) (Option.some Jvm.ClassFile.FieldType.int)) ∈ lw_all := lw_g (lw_at lw_m9 186 rfl) rfl
theorem q2192 : (Jvm.Cond.instanceMethod ({ cls := "JokePumpModel", name := "bucket", desc := "(II)I" } : Jvm.MethodName)) ∈ lw_all := lw_g (lw_at lw_m9 188 rfl) rfl
theorem q2193 : (Jvm.Cond.selects "JokePumpModel" ({ cls := "JokePumpModel", name := "bucket", desc := "(II)I" } : Jvm.MethodName) ({ cls := "JokePumpModel", name := "bucket", desc := "(II)I" } : Jvm.MethodName)) ∈ lw_all := lw_g (lw_at lw_m9 189 rfl) rfl
theorem q2194 : (Jvm.Cond.code ({ cls := "JokePumpModel", name := "bucket", desc := "(II)I" } : Jvm.MethodName) prog_27_method_36_code (4 : Nat) (Option.some Jvm.ClassFile.FieldType.int)) ∈ lw_all := lw_g (lw_at lw_m9 190 rfl) rfl
theorem q2195 : (Jvm.Cond.methodLink "JokePumpModel" (144 : Nat) ({ cls := "JokePumpModel", name := "notBucket", desc := "(II)I" } : Jvm.MethodName)) ∈ lw_all := lw_g (lw_at lw_m9 191 rfl) rfl
theorem q2196 : (Jvm.Cond.privateMethod ({ cls := "JokePumpModel", name := "notBucket", desc := "(II)I" } : Jvm.MethodName)) ∈ lw_tbl := lw_at lw_m9 192 rfl
theorem q2197 : (Jvm.Cond.instanceMethod ({ cls := "JokePumpModel", name := "notBucket", desc := "(II)I" } : Jvm.MethodName)) ∈ lw_all := lw_g (lw_at lw_m9 193 rfl) rfl
theorem q2198 : (Jvm.Cond.code ({ cls := "JokePumpModel", name := "notBucket", desc := "(II)I" } : Jvm.MethodName) prog_27_method_35_code (3 : Nat) (Option.some Jvm.ClassFile.FieldType.int)) ∈ lw_all := lw_g (lw_at lw_m9 194 rfl) rfl
theorem q2200 : (Jvm.Cond.instanceMethod ({ cls := "JokePumpModel", name := "go", desc := "(I)I" } : Jvm.MethodName)) ∈ lw_all := lw_g (lw_at lw_m9 196 rfl) rfl
theorem q2201 : (Jvm.Cond.selects "JokePumpModel" ({ cls := "JokePumpModel", name := "go", desc := "(I)I" } : Jvm.MethodName) ({ cls := "JokePumpModel", name := "go", desc := "(I)I" } : Jvm.MethodName)) ∈ lw_all := lw_g (lw_at lw_m9 197 rfl) rfl
theorem q2202 : (Jvm.Cond.code ({ cls := "JokePumpModel", name := "go", desc := "(I)I" } : Jvm.MethodName) prog_27_method_39_code (3 : Nat) (Option.some Jvm.ClassFile.FieldType.int)) ∈ lw_all := lw_g (lw_at lw_m9 198 rfl) rfl
theorem q2203 : (Jvm.Cond.methodLink "JokePumpModel" (147 : Nat) ({ cls := "JokePumpModel", name := "notGo", desc := "(I)I" } : Jvm.MethodName)) ∈ lw_all := lw_g (lw_at lw_m9 199 rfl) rfl
theorem q2204 : (Jvm.Cond.privateMethod ({ cls := "JokePumpModel", name := "notGo", desc := "(I)I" } : Jvm.MethodName)) ∈ lw_tbl := lw_at lw_m9 200 rfl
theorem q2205 : (Jvm.Cond.instanceMethod ({ cls := "JokePumpModel", name := "notGo", desc := "(I)I" } : Jvm.MethodName)) ∈ lw_all := lw_g (lw_at lw_m9 201 rfl) rfl
theorem q2206 : (Jvm.Cond.code ({ cls := "JokePumpModel", name := "notGo", desc := "(I)I" } : Jvm.MethodName) prog_27_method_37_code (2 : Nat) (Option.some Jvm.ClassFile.FieldType.int)) ∈ lw_all := lw_g (lw_at lw_m9 202 rfl) rfl
theorem q2207 : (Jvm.Cond.methodLink "JokePumpModel" (150 : Nat) ({ cls := "JokePumpModel", name := "moves", desc := "(I)I" } : Jvm.MethodName)) ∈ lw_all := lw_g (lw_at lw_m9 203 rfl) rfl
theorem q2208 : (Jvm.Cond.privateMethod ({ cls := "JokePumpModel", name := "moves", desc := "(I)I" } : Jvm.MethodName)) ∈ lw_tbl := lw_at lw_m9 204 rfl
theorem q2209 : (Jvm.Cond.instanceMethod ({ cls := "JokePumpModel", name := "moves", desc := "(I)I" } : Jvm.MethodName)) ∈ lw_all := lw_g (lw_at lw_m9 205 rfl) rfl
theorem q2210 : (Jvm.Cond.code ({ cls := "JokePumpModel", name := "moves", desc := "(I)I" } : Jvm.MethodName) prog_27_method_38_code (2 : Nat) (Option.some Jvm.ClassFile.FieldType.int)) ∈ lw_all := lw_g (lw_at lw_m9 206 rfl) rfl
theorem q2212 : (Jvm.Cond.instanceMethod ({ cls := "JokePumpModel", name := "pump", desc := "(I)I" } : Jvm.MethodName)) ∈ lw_all := lw_g (lw_at lw_m9 208 rfl) rfl
theorem q2213 : (Jvm.Cond.selects "JokePumpModel" ({ cls := "JokePumpModel", name := "pump", desc := "(I)I" } : Jvm.MethodName) ({ cls := "JokePumpModel", name := "pump", desc := "(I)I" } : Jvm.MethodName)) ∈ lw_all := lw_g (lw_at lw_m9 209 rfl) rfl
theorem q2214 : (Jvm.Cond.code ({ cls := "JokePumpModel", name := "pump", desc := "(I)I" } : Jvm.MethodName) prog_27_method_46_code (3 : Nat) (Option.some Jvm.ClassFile.FieldType.int)) ∈ lw_all := lw_g (lw_at lw_m9 210 rfl) rfl
theorem q2215 : (Jvm.Cond.methodLink "JokePumpModel" (182 : Nat) ({ cls := "JokePumpModel", name := "notPump", desc := "(I)I" } : Jvm.MethodName)) ∈ lw_all := lw_g (lw_at lw_m9 211 rfl) rfl
theorem q2216 : (Jvm.Cond.privateMethod ({ cls := "JokePumpModel", name := "notPump", desc := "(I)I" } : Jvm.MethodName)) ∈ lw_tbl := lw_at lw_m9 212 rfl
theorem q2217 : (Jvm.Cond.instanceMethod ({ cls := "JokePumpModel", name := "notPump", desc := "(I)I" } : Jvm.MethodName)) ∈ lw_all := lw_g (lw_at lw_m9 213 rfl) rfl
theorem q2218 : (Jvm.Cond.code ({ cls := "JokePumpModel", name := "notPump", desc := "(I)I" } : Jvm.MethodName) prog_27_method_45_code (2 : Nat) (Option.some Jvm.ClassFile.FieldType.int)) ∈ lw_all := lw_g (lw_at lw_m9 214 rfl) rfl
theorem q2219 : (Jvm.Cond.methodLink "JokePumpModel" (185 : Nat) ({ cls := "JokePumpModel", name := "pumps", desc := "(I)I" } : Jvm.MethodName)) ∈ lw_all := lw_g (lw_at lw_m9 215 rfl) rfl
theorem q2220 : (Jvm.Cond.privateMethod ({ cls := "JokePumpModel", name := "pumps", desc := "(I)I" } : Jvm.MethodName)) ∈ lw_tbl := lw_at lw_m9 216 rfl
theorem q2221 : (Jvm.Cond.instanceMethod ({ cls := "JokePumpModel", name := "pumps", desc := "(I)I" } : Jvm.MethodName)) ∈ lw_all := lw_g (lw_at lw_m9 217 rfl) rfl
theorem q2222 : (Jvm.Cond.code ({ cls := "JokePumpModel", name := "pumps", desc := "(I)I" } : Jvm.MethodName) prog_27_method_44_code (4 : Nat) (Option.some Jvm.ClassFile.FieldType.int)) ∈ lw_all := lw_g (lw_at lw_m9 218 rfl) rfl
theorem q2223 : (Jvm.Cond.methodLink "JokePumpModel" (178 : Nat) ({ cls := "JokePumpModel", name := "strokesOnce", desc := "()I" } : Jvm.MethodName)) ∈ lw_all := lw_g (lw_at lw_m9 219 rfl) rfl
theorem q2224 : (Jvm.Cond.privateMethod ({ cls := "JokePumpModel", name := "strokesOnce", desc := "()I" } : Jvm.MethodName)) ∈ lw_tbl := lw_at lw_m9 220 rfl
theorem q2225 : (Jvm.Cond.instanceMethod ({ cls := "JokePumpModel", name := "strokesOnce", desc := "()I" } : Jvm.MethodName)) ∈ lw_all := lw_g (lw_at lw_m9 221 rfl) rfl
theorem q2226 : (Jvm.Cond.code ({ cls := "JokePumpModel", name := "strokesOnce", desc := "()I" } : Jvm.MethodName) prog_27_method_43_code (4 : Nat) (Option.some Jvm.ClassFile.FieldType.int)) ∈ lw_all := lw_g (lw_at lw_m9 222 rfl) rfl
theorem q2227 : (Jvm.Cond.methodLink "JokePumpModel" (169 : Nat) ({ cls := "JokePumpModel", name := "nextReach", desc := "(II)I" } : Jvm.MethodName)) ∈ lw_all := lw_g (lw_at lw_m9 223 rfl) rfl
theorem q2228 : (Jvm.Cond.static ({ cls := "JokePumpModel", name := "nextReach", desc := "(II)I" } : Jvm.MethodName)) ∈ lw_all := lw_g (lw_at lw_m9 224 rfl) rfl
theorem q2229 : (Jvm.Cond.code ({ cls := "JokePumpModel", name := "nextReach", desc := "(II)I" } : Jvm.MethodName) prog_27_method_42_code (2 : Nat) (Option.some Jvm.ClassFile.FieldType.int)) ∈ lw_all := lw_g (lw_at lw_m9 225 rfl) rfl
theorem q2230 : (Jvm.Cond.methodLink "JokePumpModel" (172 : Nat) ({ cls := "JokePumpModel", name := "atPlace", desc := "(II)I" } : Jvm.MethodName)) ∈ lw_all := lw_g (lw_at lw_m9 226 rfl) rfl
theorem q2231 : (Jvm.Cond.privateMethod ({ cls := "JokePumpModel", name := "atPlace", desc := "(II)I" } : Jvm.MethodName)) ∈ lw_tbl := lw_at lw_m9 227 rfl
theorem q2232 : (Jvm.Cond.instanceMethod ({ cls := "JokePumpModel", name := "atPlace", desc := "(II)I" } : Jvm.MethodName)) ∈ lw_all := lw_g (lw_at lw_m9 228 rfl) rfl
theorem q2233 : (Jvm.Cond.code ({ cls := "JokePumpModel", name := "atPlace", desc := "(II)I" } : Jvm.MethodName) prog_27_method_18_code (4 : Nat) (Option.some Jvm.ClassFile.FieldType.int)) ∈ lw_all := lw_g (lw_at lw_m9 229 rfl) rfl
theorem q2234 : (Jvm.Cond.methodLink "JokePumpModel" (77 : Nat) ({ cls := "JokePumpModel", name := "above", desc := "(I)I" } : Jvm.MethodName)) ∈ lw_all := lw_g (lw_at lw_m9 230 rfl) rfl
theorem q2235 : (Jvm.Cond.privateMethod ({ cls := "JokePumpModel", name := "above", desc := "(I)I" } : Jvm.MethodName)) ∈ lw_tbl := lw_at lw_m9 231 rfl
theorem q2236 : (Jvm.Cond.instanceMethod ({ cls := "JokePumpModel", name := "above", desc := "(I)I" } : Jvm.MethodName)) ∈ lw_all := lw_g (lw_at lw_m9 232 rfl) rfl
theorem q2237 : (Jvm.Cond.code ({ cls := "JokePumpModel", name := "above", desc := "(I)I" } : Jvm.MethodName) prog_27_method_17_code (4 : Nat) (Option.some Jvm.ClassFile.FieldType.int)) ∈ lw_all := lw_g (lw_at lw_m9 233 rfl) rfl
theorem q2238 : (Jvm.Cond.methodLink "JokePumpModel" (175 : Nat) ({ cls := "JokePumpModel", name := "lifts", desc := "(I)V" } : Jvm.MethodName)) ∈ lw_all := lw_g (lw_at lw_m9 234 rfl) rfl
theorem q2239 : (Jvm.Cond.privateMethod ({ cls := "JokePumpModel", name := "lifts", desc := "(I)V" } : Jvm.MethodName)) ∈ lw_tbl := lw_at lw_m9 235 rfl
theorem q2240 : (Jvm.Cond.instanceMethod ({ cls := "JokePumpModel", name := "lifts", desc := "(I)V" } : Jvm.MethodName)) ∈ lw_all := lw_g (lw_at lw_m9 236 rfl) rfl
theorem q2241 : (Jvm.Cond.code ({ cls := "JokePumpModel", name := "lifts", desc := "(I)V" } : Jvm.MethodName) prog_27_method_41_code (5 : Nat) (Option.none : Option Jvm.ClassFile.FieldType)) ∈ lw_all := lw_g (lw_at lw_m9 237 rfl) rfl
theorem q2242 : (Jvm.Cond.methodLink "JokePumpModel" (155 : Nat) ({ cls := "JokePumpModel", name := "laughOf", desc := "(II)F" } : Jvm.MethodName)) ∈ lw_all := lw_g (lw_at lw_m9 238 rfl) rfl
theorem q2243 : (Jvm.Cond.privateMethod ({ cls := "JokePumpModel", name := "laughOf", desc := "(II)F" } : Jvm.MethodName)) ∈ lw_tbl := lw_at lw_m9 239 rfl
theorem q2244 : (Jvm.Cond.instanceMethod ({ cls := "JokePumpModel", name := "laughOf", desc := "(II)F" } : Jvm.MethodName)) ∈ lw_all := lw_g (lw_at lw_m10 0 rfl) rfl
theorem q2245 : (Jvm.Cond.code ({ cls := "JokePumpModel", name := "laughOf", desc := "(II)F" } : Jvm.MethodName) prog_27_method_40_code (4 : Nat) (Option.some Jvm.ClassFile.FieldType.float)) ∈ lw_all := lw_g (lw_at lw_m10 1 rfl) rfl
theorem q2246 : (Jvm.Cond.constantFloat "JokePumpModel" (153 : Nat) (1069547520 : UInt32)) ∈ lw_all := lw_g (lw_at lw_m10 2 rfl) rfl
theorem q2247 : (Jvm.Cond.constantFloat "JokePumpModel" (154 : Nat) (1098907648 : UInt32)) ∈ lw_all := lw_g (lw_at lw_m10 3 rfl) rfl
theorem q2248 : (Jvm.Cond.methodLink "JokePumpModel" (159 : Nat) ({ cls := "java/lang/Float", name := "floatToIntBits", desc := "(F)I" } : Jvm.MethodName)) ∈ lw_all := lw_g (lw_at lw_m10 4 rfl) rfl
theorem q2249 : (Jvm.Cond.methodLink "JokePumpModel" (165 : Nat) ({ cls := "java/lang/Float", name := "intBitsToFloat", desc := "(I)F" } : Jvm.MethodName)) ∈ lw_all := lw_g (lw_at lw_m10 5 rfl) rfl
theorem q2253 : (Jvm.Cond.instanceMethod ({ cls := "JokePumpModel", name := "jokeOf", desc := "(II)I" } : Jvm.MethodName)) ∈ lw_all := lw_g (lw_at lw_m10 9 rfl) rfl
theorem q2254 : (Jvm.Cond.selects "JokePumpModel" ({ cls := "JokePumpModel", name := "jokeOf", desc := "(II)I" } : Jvm.MethodName) ({ cls := "JokePumpModel", name := "jokeOf", desc := "(II)I" } : Jvm.MethodName)) ∈ lw_all := lw_g (lw_at lw_m10 10 rfl) rfl
theorem q2255 : (Jvm.Cond.code ({ cls := "JokePumpModel", name := "jokeOf", desc := "(II)I" } : Jvm.MethodName) prog_27_method_47_code (3 : Nat) (Option.some Jvm.ClassFile.FieldType.int)) ∈ lw_all := lw_g (lw_at lw_m10 11 rfl) rfl
theorem q2257 : (Jvm.Cond.instanceMethod ({ cls := "JokePumpModel", name := "wellOf", desc := "(II)I" } : Jvm.MethodName)) ∈ lw_all := lw_g (lw_at lw_m10 13 rfl) rfl
theorem q2258 : (Jvm.Cond.selects "JokePumpModel" ({ cls := "JokePumpModel", name := "wellOf", desc := "(II)I" } : Jvm.MethodName) ({ cls := "JokePumpModel", name := "wellOf", desc := "(II)I" } : Jvm.MethodName)) ∈ lw_all := lw_g (lw_at lw_m10 14 rfl) rfl
theorem q2259 : (Jvm.Cond.code ({ cls := "JokePumpModel", name := "wellOf", desc := "(II)I" } : Jvm.MethodName) prog_27_method_48_code (3 : Nat) (Option.some Jvm.ClassFile.FieldType.int)) ∈ lw_all := lw_g (lw_at lw_m10 15 rfl) rfl
theorem q2261 : (Jvm.Cond.instanceMethod ({ cls := "JokePumpModel", name := "isKnown", desc := "(I)I" } : Jvm.MethodName)) ∈ lw_all := lw_g (lw_at lw_m10 17 rfl) rfl
theorem q2262 : (Jvm.Cond.selects "JokePumpModel" ({ cls := "JokePumpModel", name := "isKnown", desc := "(I)I" } : Jvm.MethodName) ({ cls := "JokePumpModel", name := "isKnown", desc := "(I)I" } : Jvm.MethodName)) ∈ lw_all := lw_g (lw_at lw_m10 18 rfl) rfl
theorem q2263 : (Jvm.Cond.code ({ cls := "JokePumpModel", name := "isKnown", desc := "(I)I" } : Jvm.MethodName) prog_27_method_49_code (2 : Nat) (Option.some Jvm.ClassFile.FieldType.int)) ∈ lw_all := lw_g (lw_at lw_m10 19 rfl) rfl
theorem q2265 : (Jvm.Cond.instanceMethod ({ cls := "JokePumpModel", name := "laughBits", desc := "(II)I" } : Jvm.MethodName)) ∈ lw_all := lw_g (lw_at lw_m10 21 rfl) rfl
theorem q2266 : (Jvm.Cond.selects "JokePumpModel" ({ cls := "JokePumpModel", name := "laughBits", desc := "(II)I" } : Jvm.MethodName) ({ cls := "JokePumpModel", name := "laughBits", desc := "(II)I" } : Jvm.MethodName)) ∈ lw_all := lw_g (lw_at lw_m10 22 rfl) rfl
theorem q2267 : (Jvm.Cond.code ({ cls := "JokePumpModel", name := "laughBits", desc := "(II)I" } : Jvm.MethodName) prog_27_method_50_code (3 : Nat) (Option.some Jvm.ClassFile.FieldType.int)) ∈ lw_all := lw_g (lw_at lw_m10 23 rfl) rfl
theorem q2269 : (Jvm.Cond.instanceMethod ({ cls := "JokePumpModel", name := "laughs", desc := "()F" } : Jvm.MethodName)) ∈ lw_all := lw_g (lw_at lw_m10 25 rfl) rfl
theorem q2270 : (Jvm.Cond.selects "JokePumpModel" ({ cls := "JokePumpModel", name := "laughs", desc := "()F" } : Jvm.MethodName) ({ cls := "JokePumpModel", name := "laughs", desc := "()F" } : Jvm.MethodName)) ∈ lw_all := lw_g (lw_at lw_m10 26 rfl) rfl
theorem q2271 : (Jvm.Cond.code ({ cls := "JokePumpModel", name := "laughs", desc := "()F" } : Jvm.MethodName) prog_27_method_51_code (1 : Nat) (Option.some Jvm.ClassFile.FieldType.float)) ∈ lw_all := lw_g (lw_at lw_m10 27 rfl) rfl
theorem q2273 : (Jvm.Cond.instanceMethod ({ cls := "JokePumpModel", name := "laughsAgain", desc := "()F" } : Jvm.MethodName)) ∈ lw_all := lw_g (lw_at lw_m10 29 rfl) rfl
theorem q2274 : (Jvm.Cond.selects "JokePumpModel" ({ cls := "JokePumpModel", name := "laughsAgain", desc := "()F" } : Jvm.MethodName) ({ cls := "JokePumpModel", name := "laughsAgain", desc := "()F" } : Jvm.MethodName)) ∈ lw_all := lw_g (lw_at lw_m10 30 rfl) rfl
theorem q2275 : (Jvm.Cond.code ({ cls := "JokePumpModel", name := "laughsAgain", desc := "()F" } : Jvm.MethodName) prog_27_method_52_code (3 : Nat) (Option.some Jvm.ClassFile.FieldType.float)) ∈ lw_all := lw_g (lw_at lw_m10 31 rfl) rfl
theorem q2277 : (Jvm.Cond.instanceMethod ({ cls := "JokePumpModel", name := "wholeLaughs", desc := "()I" } : Jvm.MethodName)) ∈ lw_all := lw_g (lw_at lw_m10 33 rfl) rfl
theorem q2278 : (Jvm.Cond.selects "JokePumpModel" ({ cls := "JokePumpModel", name := "wholeLaughs", desc := "()I" } : Jvm.MethodName) ({ cls := "JokePumpModel", name := "wholeLaughs", desc := "()I" } : Jvm.MethodName)) ∈ lw_all := lw_g (lw_at lw_m10 34 rfl) rfl
theorem q2279 : (Jvm.Cond.code ({ cls := "JokePumpModel", name := "wholeLaughs", desc := "()I" } : Jvm.MethodName) prog_27_method_53_code (1 : Nat) (Option.some Jvm.ClassFile.FieldType.int)) ∈ lw_all := lw_g (lw_at lw_m10 35 rfl) rfl
theorem q2280 : (Jvm.Cond.methodLink "JokePumpModel" (188 : Nat) ({ cls := "JokePumpModel", name := "laughs", desc := "()F" } : Jvm.MethodName)) ∈ lw_all := lw_g (lw_at lw_m10 36 rfl) rfl
theorem q2282 : (Jvm.Cond.instanceMethod ({ cls := "JokePumpModel", name := "liftedOf", desc := "(II)I" } : Jvm.MethodName)) ∈ lw_all := lw_g (lw_at lw_m10 38 rfl) rfl
theorem q2283 : (Jvm.Cond.selects "JokePumpModel" ({ cls := "JokePumpModel", name := "liftedOf", desc := "(II)I" } : Jvm.MethodName) ({ cls := "JokePumpModel", name := "liftedOf", desc := "(II)I" } : Jvm.MethodName)) ∈ lw_all := lw_g (lw_at lw_m10 39 rfl) rfl
theorem q2284 : (Jvm.Cond.code ({ cls := "JokePumpModel", name := "liftedOf", desc := "(II)I" } : Jvm.MethodName) prog_27_method_54_code (3 : Nat) (Option.some Jvm.ClassFile.FieldType.int)) ∈ lw_all := lw_g (lw_at lw_m10 40 rfl) rfl
theorem q2286 : (Jvm.Cond.instanceMethod ({ cls := "JokePumpModel", name := "strokes", desc := "(I)I" } : Jvm.MethodName)) ∈ lw_all := lw_g (lw_at lw_m10 42 rfl) rfl
theorem q2287 : (Jvm.Cond.selects "JokePumpModel" ({ cls := "JokePumpModel", name := "strokes", desc := "(I)I" } : Jvm.MethodName) ({ cls := "JokePumpModel", name := "strokes", desc := "(I)I" } : Jvm.MethodName)) ∈ lw_all := lw_g (lw_at lw_m10 43 rfl) rfl
theorem q2288 : (Jvm.Cond.code ({ cls := "JokePumpModel", name := "strokes", desc := "(I)I" } : Jvm.MethodName) prog_27_method_55_code (4 : Nat) (Option.some Jvm.ClassFile.FieldType.int)) ∈ lw_all := lw_g (lw_at lw_m10 44 rfl) rfl
theorem q2290 : (Jvm.Cond.instanceMethod ({ cls := "JokePumpModel", name := "strokesAgain", desc := "(I)I" } : Jvm.MethodName)) ∈ lw_all := lw_g (lw_at lw_m10 46 rfl) rfl
theorem q2291 : (Jvm.Cond.selects "JokePumpModel" ({ cls := "JokePumpModel", name := "strokesAgain", desc := "(I)I" } : Jvm.MethodName) ({ cls := "JokePumpModel", name := "strokesAgain", desc := "(I)I" } : Jvm.MethodName)) ∈ lw_all := lw_g (lw_at lw_m10 47 rfl) rfl
theorem q2292 : (Jvm.Cond.code ({ cls := "JokePumpModel", name := "strokesAgain", desc := "(I)I" } : Jvm.MethodName) prog_27_method_56_code (2 : Nat) (Option.some Jvm.ClassFile.FieldType.int)) ∈ lw_all := lw_g (lw_at lw_m10 48 rfl) rfl
theorem q2293 : (Jvm.Cond.methodLink "JokePumpModel" (192 : Nat) ({ cls := "JokePumpModel", name := "strokes", desc := "(I)I" } : Jvm.MethodName)) ∈ lw_all := lw_g (lw_at lw_m10 49 rfl) rfl
theorem q2295 : (Jvm.Cond.instanceMethod ({ cls := "JokePumpModel", name := "would", desc := "(I)I" } : Jvm.MethodName)) ∈ lw_all := lw_g (lw_at lw_m10 51 rfl) rfl
theorem q2296 : (Jvm.Cond.selects "JokePumpModel" ({ cls := "JokePumpModel", name := "would", desc := "(I)I" } : Jvm.MethodName) ({ cls := "JokePumpModel", name := "would", desc := "(I)I" } : Jvm.MethodName)) ∈ lw_all := lw_g (lw_at lw_m10 52 rfl) rfl
theorem q2297 : (Jvm.Cond.code ({ cls := "JokePumpModel", name := "would", desc := "(I)I" } : Jvm.MethodName) prog_27_method_59_code (3 : Nat) (Option.some Jvm.ClassFile.FieldType.int)) ∈ lw_all := lw_g (lw_at lw_m10 53 rfl) rfl
theorem q2298 : (Jvm.Cond.methodLink "JokePumpModel" (195 : Nat) ({ cls := "JokePumpModel", name := "looksAhead", desc := "()V" } : Jvm.MethodName)) ∈ lw_all := lw_g (lw_at lw_m10 54 rfl) rfl
theorem q2299 : (Jvm.Cond.privateMethod ({ cls := "JokePumpModel", name := "looksAhead", desc := "()V" } : Jvm.MethodName)) ∈ lw_tbl := lw_at lw_m10 55 rfl
theorem q2300 : (Jvm.Cond.instanceMethod ({ cls := "JokePumpModel", name := "looksAhead", desc := "()V" } : Jvm.MethodName)) ∈ lw_all := lw_g (lw_at lw_m10 56 rfl) rfl
theorem q2301 : (Jvm.Cond.code ({ cls := "JokePumpModel", name := "looksAhead", desc := "()V" } : Jvm.MethodName) prog_27_method_57_code (2 : Nat) (Option.none : Option Jvm.ClassFile.FieldType)) ∈ lw_all := lw_g (lw_at lw_m10 57 rfl) rfl
theorem q2302 : (Jvm.Cond.methodLink "JokePumpModel" (198 : Nat) ({ cls := "JokePumpModel", name := "comesBack", desc := "()V" } : Jvm.MethodName)) ∈ lw_all := lw_g (lw_at lw_m10 58 rfl) rfl
theorem q2303 : (Jvm.Cond.privateMethod ({ cls := "JokePumpModel", name := "comesBack", desc := "()V" } : Jvm.MethodName)) ∈ lw_tbl := lw_at lw_m10 59 rfl
theorem q2304 : (Jvm.Cond.instanceMethod ({ cls := "JokePumpModel", name := "comesBack", desc := "()V" } : Jvm.MethodName)) ∈ lw_all := lw_g (lw_at lw_m10 60 rfl) rfl
theorem q2305 : (Jvm.Cond.code ({ cls := "JokePumpModel", name := "comesBack", desc := "()V" } : Jvm.MethodName) prog_27_method_58_code (2 : Nat) (Option.none : Option Jvm.ClassFile.FieldType)) ∈ lw_all := lw_g (lw_at lw_m10 61 rfl) rfl
theorem q2307 : (Jvm.Cond.instanceMethod ({ cls := "JokePumpModel", name := "groansIn", desc := "(I)I" } : Jvm.MethodName)) ∈ lw_all := lw_g (lw_at lw_m10 63 rfl) rfl
theorem q2308 : (Jvm.Cond.selects "JokePumpModel" ({ cls := "JokePumpModel", name := "groansIn", desc := "(I)I" } : Jvm.MethodName) ({ cls := "JokePumpModel", name := "groansIn", desc := "(I)I" } : Jvm.MethodName)) ∈ lw_all := lw_g (lw_at lw_m10 64 rfl) rfl
theorem q2309 : (Jvm.Cond.code ({ cls := "JokePumpModel", name := "groansIn", desc := "(I)I" } : Jvm.MethodName) prog_27_method_60_code (3 : Nat) (Option.some Jvm.ClassFile.FieldType.int)) ∈ lw_all := lw_g (lw_at lw_m10 65 rfl) rfl
theorem q2311 : (Jvm.Cond.instanceMethod ({ cls := "JokePumpModel", name := "bestStroke", desc := "()I" } : Jvm.MethodName)) ∈ lw_all := lw_g (lw_at lw_m10 67 rfl) rfl
theorem q2312 : (Jvm.Cond.selects "JokePumpModel" ({ cls := "JokePumpModel", name := "bestStroke", desc := "()I" } : Jvm.MethodName) ({ cls := "JokePumpModel", name := "bestStroke", desc := "()I" } : Jvm.MethodName)) ∈ lw_all := lw_g (lw_at lw_m10 68 rfl) rfl
theorem q2313 : (Jvm.Cond.code ({ cls := "JokePumpModel", name := "bestStroke", desc := "()I" } : Jvm.MethodName) prog_27_method_62_code (4 : Nat) (Option.some Jvm.ClassFile.FieldType.int)) ∈ lw_all := lw_g (lw_at lw_m10 69 rfl) rfl
theorem q2314 : (Jvm.Cond.methodLink "JokePumpModel" (201 : Nat) ({ cls := "JokePumpModel", name := "groansTo", desc := "(II)I" } : Jvm.MethodName)) ∈ lw_all := lw_g (lw_at lw_m10 70 rfl) rfl
theorem q2315 : (Jvm.Cond.privateMethod ({ cls := "JokePumpModel", name := "groansTo", desc := "(II)I" } : Jvm.MethodName)) ∈ lw_tbl := lw_at lw_m10 71 rfl
theorem q2316 : (Jvm.Cond.instanceMethod ({ cls := "JokePumpModel", name := "groansTo", desc := "(II)I" } : Jvm.MethodName)) ∈ lw_all := lw_g (lw_at lw_m10 72 rfl) rfl
theorem q2317 : (Jvm.Cond.code ({ cls := "JokePumpModel", name := "groansTo", desc := "(II)I" } : Jvm.MethodName) prog_27_method_61_code (5 : Nat) (Option.some Jvm.ClassFile.FieldType.int)) ∈ lw_all := lw_g (lw_at lw_m10 73 rfl) rfl
theorem q2319 : (Jvm.Cond.instanceMethod ({ cls := "JokePumpModel", name := "funniest", desc := "(I)I" } : Jvm.MethodName)) ∈ lw_all := lw_g (lw_at lw_m10 75 rfl) rfl
theorem q2320 : (Jvm.Cond.selects "JokePumpModel" ({ cls := "JokePumpModel", name := "funniest", desc := "(I)I" } : Jvm.MethodName) ({ cls := "JokePumpModel", name := "funniest", desc := "(I)I" } : Jvm.MethodName)) ∈ lw_all := lw_g (lw_at lw_m10 76 rfl) rfl
theorem q2321 : (Jvm.Cond.code ({ cls := "JokePumpModel", name := "funniest", desc := "(I)I" } : Jvm.MethodName) prog_27_method_64_code (5 : Nat) (Option.some Jvm.ClassFile.FieldType.int)) ∈ lw_all := lw_g (lw_at lw_m10 77 rfl) rfl
theorem q2322 : (Jvm.Cond.methodLink "JokePumpModel" (204 : Nat) ({ cls := "JokePumpModel", name := "isFunnier", desc := "(II)Z" } : Jvm.MethodName)) ∈ lw_all := lw_g (lw_at lw_m10 78 rfl) rfl
theorem q2323 : (Jvm.Cond.privateMethod ({ cls := "JokePumpModel", name := "isFunnier", desc := "(II)Z" } : Jvm.MethodName)) ∈ lw_tbl := lw_at lw_m10 79 rfl
theorem q2324 : (Jvm.Cond.instanceMethod ({ cls := "JokePumpModel", name := "isFunnier", desc := "(II)Z" } : Jvm.MethodName)) ∈ lw_all := lw_g (lw_at lw_m10 80 rfl) rfl
theorem q2325 : (Jvm.Cond.code ({ cls := "JokePumpModel", name := "isFunnier", desc := "(II)Z" } : Jvm.MethodName) prog_27_method_63_code (6 : Nat) (Option.some Jvm.ClassFile.FieldType.boolean)) ∈ lw_all := lw_g (lw_at lw_m10 81 rfl) rfl
theorem q2327 : (Jvm.Cond.instanceMethod ({ cls := "JokePumpModel", name := "inWell", desc := "(II)I" } : Jvm.MethodName)) ∈ lw_all := lw_g (lw_at lw_m10 83 rfl) rfl
theorem q2328 : (Jvm.Cond.selects "JokePumpModel" ({ cls := "JokePumpModel", name := "inWell", desc := "(II)I" } : Jvm.MethodName) ({ cls := "JokePumpModel", name := "inWell", desc := "(II)I" } : Jvm.MethodName)) ∈ lw_all := lw_g (lw_at lw_m10 84 rfl) rfl
theorem q2329 : (Jvm.Cond.code ({ cls := "JokePumpModel", name := "inWell", desc := "(II)I" } : Jvm.MethodName) prog_27_method_65_code (3 : Nat) (Option.some Jvm.ClassFile.FieldType.int)) ∈ lw_all := lw_g (lw_at lw_m10 85 rfl) rfl
theorem q2331 : (Jvm.Cond.instanceMethod ({ cls := "JokePumpModel", name := "fullest", desc := "(I)I" } : Jvm.MethodName)) ∈ lw_all := lw_g (lw_at lw_m10 87 rfl) rfl
theorem q2332 : (Jvm.Cond.selects "JokePumpModel" ({ cls := "JokePumpModel", name := "fullest", desc := "(I)I" } : Jvm.MethodName) ({ cls := "JokePumpModel", name := "fullest", desc := "(I)I" } : Jvm.MethodName)) ∈ lw_all := lw_g (lw_at lw_m10 88 rfl) rfl
theorem q2333 : (Jvm.Cond.code ({ cls := "JokePumpModel", name := "fullest", desc := "(I)I" } : Jvm.MethodName) prog_27_method_67_code (5 : Nat) (Option.some Jvm.ClassFile.FieldType.int)) ∈ lw_all := lw_g (lw_at lw_m10 89 rfl) rfl
theorem q2334 : (Jvm.Cond.methodLink "JokePumpModel" (208 : Nat) ({ cls := "JokePumpModel", name := "isFuller", desc := "(II)Z" } : Jvm.MethodName)) ∈ lw_all := lw_g (lw_at lw_m10 90 rfl) rfl
theorem q2335 : (Jvm.Cond.privateMethod ({ cls := "JokePumpModel", name := "isFuller", desc := "(II)Z" } : Jvm.MethodName)) ∈ lw_tbl := lw_at lw_m10 91 rfl
theorem q2336 : (Jvm.Cond.instanceMethod ({ cls := "JokePumpModel", name := "isFuller", desc := "(II)Z" } : Jvm.MethodName)) ∈ lw_all := lw_g (lw_at lw_m10 92 rfl) rfl
theorem q2337 : (Jvm.Cond.code ({ cls := "JokePumpModel", name := "isFuller", desc := "(II)Z" } : Jvm.MethodName) prog_27_method_66_code (5 : Nat) (Option.some Jvm.ClassFile.FieldType.boolean)) ∈ lw_all := lw_g (lw_at lw_m10 93 rfl) rfl
theorem q2339 : (Jvm.Cond.instanceMethod ({ cls := "JokePumpModel", name := "isCounted", desc := "()Z" } : Jvm.MethodName)) ∈ lw_all := lw_g (lw_at lw_m10 95 rfl) rfl
theorem q2340 : (Jvm.Cond.selects "JokePumpModel" ({ cls := "JokePumpModel", name := "isCounted", desc := "()Z" } : Jvm.MethodName) ({ cls := "JokePumpModel", name := "isCounted", desc := "()Z" } : Jvm.MethodName)) ∈ lw_all := lw_g (lw_at lw_m10 96 rfl) rfl
theorem q2341 : (Jvm.Cond.code ({ cls := "JokePumpModel", name := "isCounted", desc := "()Z" } : Jvm.MethodName) prog_27_method_68_code (2 : Nat) (Option.some Jvm.ClassFile.FieldType.boolean)) ∈ lw_all := lw_g (lw_at lw_m10 97 rfl) rfl
theorem q2342 : (Jvm.Cond.methodLink "JokePumpModel" (211 : Nat) ({ cls := "JokePumpModel", name := "laughsAgain", desc := "()F" } : Jvm.MethodName)) ∈ lw_all := lw_g (lw_at lw_m10 98 rfl) rfl
theorem q2344 : (Jvm.Cond.instanceMethod ({ cls := "JokePumpModel", name := "meanDepth", desc := "()D" } : Jvm.MethodName)) ∈ lw_all := lw_g (lw_at lw_m10 100 rfl) rfl
theorem q2345 : (Jvm.Cond.selects "JokePumpModel" ({ cls := "JokePumpModel", name := "meanDepth", desc := "()D" } : Jvm.MethodName) ({ cls := "JokePumpModel", name := "meanDepth", desc := "()D" } : Jvm.MethodName)) ∈ lw_all := lw_g (lw_at lw_m10 101 rfl) rfl
theorem q2346 : (Jvm.Cond.code ({ cls := "JokePumpModel", name := "meanDepth", desc := "()D" } : Jvm.MethodName) prog_27_method_69_code (3 : Nat) (Option.some Jvm.ClassFile.FieldType.double)) ∈ lw_all := lw_g (lw_at lw_m10 102 rfl) rfl
theorem q2348 : (Jvm.Cond.instanceMethod ({ cls := "JokePumpModel", name := "knownShare", desc := "()F" } : Jvm.MethodName)) ∈ lw_all := lw_g (lw_at lw_m10 104 rfl) rfl
theorem q2349 : (Jvm.Cond.selects "JokePumpModel" ({ cls := "JokePumpModel", name := "knownShare", desc := "()F" } : Jvm.MethodName) ({ cls := "JokePumpModel", name := "knownShare", desc := "()F" } : Jvm.MethodName)) ∈ lw_all := lw_g (lw_at lw_m10 105 rfl) rfl
theorem q2350 : (Jvm.Cond.code ({ cls := "JokePumpModel", name := "knownShare", desc := "()F" } : Jvm.MethodName) prog_27_method_70_code (3 : Nat) (Option.some Jvm.ClassFile.FieldType.float)) ∈ lw_all := lw_g (lw_at lw_m10 106 rfl) rfl
theorem q2351 : (Jvm.Cond.constantFloat "JokePumpModel" (214 : Nat) (1115684864 : UInt32)) ∈ lw_all := lw_g (lw_at lw_m10 107 rfl) rfl
theorem q2353 : (Jvm.Cond.instanceMethod ({ cls := "JokePumpModel", name := "account", desc := "(I)I" } : Jvm.MethodName)) ∈ lw_all := lw_g (lw_at lw_m10 109 rfl) rfl
theorem q2354 : (Jvm.Cond.selects "JokePumpModel" ({ cls := "JokePumpModel", name := "account", desc := "(I)I" } : Jvm.MethodName) ({ cls := "JokePumpModel", name := "account", desc := "(I)I" } : Jvm.MethodName)) ∈ lw_all := lw_g (lw_at lw_m10 110 rfl) rfl
theorem q2355 : (Jvm.Cond.code ({ cls := "JokePumpModel", name := "account", desc := "(I)I" } : Jvm.MethodName) prog_27_method_72_code (2 : Nat) (Option.some Jvm.ClassFile.FieldType.int)) ∈ lw_all := lw_g (lw_at lw_m10 111 rfl) rfl
theorem q2356 : (Jvm.Cond.methodLink "JokePumpModel" (215 : Nat) ({ cls := "JokePumpModel", name := "primed", desc := "()I" } : Jvm.MethodName)) ∈ lw_all := lw_g (lw_at lw_m10 112 rfl) rfl
theorem q2357 : (Jvm.Cond.privateMethod ({ cls := "JokePumpModel", name := "primed", desc := "()I" } : Jvm.MethodName)) ∈ lw_tbl := lw_at lw_m10 113 rfl
theorem q2358 : (Jvm.Cond.instanceMethod ({ cls := "JokePumpModel", name := "primed", desc := "()I" } : Jvm.MethodName)) ∈ lw_all := lw_g (lw_at lw_m10 114 rfl) rfl
theorem q2359 : (Jvm.Cond.code ({ cls := "JokePumpModel", name := "primed", desc := "()I" } : Jvm.MethodName) prog_27_method_71_code (3 : Nat) (Option.some Jvm.ClassFile.FieldType.int)) ∈ lw_all := lw_g (lw_at lw_m10 115 rfl) rfl
theorem q2361 : (Jvm.Cond.instanceMethod ({ cls := "JokePumpModel", name := "write", desc := "(I)I" } : Jvm.MethodName)) ∈ lw_all := lw_g (lw_at lw_m10 117 rfl) rfl
theorem q2362 : (Jvm.Cond.selects "JokePumpModel" ({ cls := "JokePumpModel", name := "write", desc := "(I)I" } : Jvm.MethodName) ({ cls := "JokePumpModel", name := "write", desc := "(I)I" } : Jvm.MethodName)) ∈ lw_all := lw_g (lw_at lw_m10 118 rfl) rfl
theorem q2363 : (Jvm.Cond.code ({ cls := "JokePumpModel", name := "write", desc := "(I)I" } : Jvm.MethodName) prog_27_method_76_code (3 : Nat) (Option.some Jvm.ClassFile.FieldType.int)) ∈ lw_all := lw_g (lw_at lw_m10 119 rfl) rfl
theorem q2364 : (Jvm.Cond.methodLink "JokePumpModel" (224 : Nat) ({ cls := "JokePumpModel", name := "writes", desc := "(I)V" } : Jvm.MethodName)) ∈ lw_all := lw_g (lw_at lw_m10 120 rfl) rfl
theorem q2365 : (Jvm.Cond.privateMethod ({ cls := "JokePumpModel", name := "writes", desc := "(I)V" } : Jvm.MethodName)) ∈ lw_tbl := lw_at lw_m10 121 rfl
theorem q2366 : (Jvm.Cond.instanceMethod ({ cls := "JokePumpModel", name := "writes", desc := "(I)V" } : Jvm.MethodName)) ∈ lw_all := lw_g (lw_at lw_m10 122 rfl) rfl
theorem q2367 : (Jvm.Cond.code ({ cls := "JokePumpModel", name := "writes", desc := "(I)V" } : Jvm.MethodName) prog_27_method_73_code (2 : Nat) (Option.none : Option Jvm.ClassFile.FieldType)) ∈ lw_all := lw_g (lw_at lw_m10 123 rfl) rfl
theorem q2368 : (Jvm.Cond.methodLink "JokePumpModel" (230 : Nat) ({ cls := "JokePumpModel", name := "writesJoke", desc := "(I)V" } : Jvm.MethodName)) ∈ lw_all := lw_g (lw_at lw_m10 124 rfl) rfl
theorem q2369 : (Jvm.Cond.privateMethod ({ cls := "JokePumpModel", name := "writesJoke", desc := "(I)V" } : Jvm.MethodName)) ∈ lw_tbl := lw_at lw_m10 125 rfl
theorem q2370 : (Jvm.Cond.instanceMethod ({ cls := "JokePumpModel", name := "writesJoke", desc := "(I)V" } : Jvm.MethodName)) ∈ lw_all := lw_g (lw_at lw_m10 126 rfl) rfl
theorem q2371 : (Jvm.Cond.code ({ cls := "JokePumpModel", name := "writesJoke", desc := "(I)V" } : Jvm.MethodName) prog_27_method_75_code (2 : Nat) (Option.none : Option Jvm.ClassFile.FieldType)) ∈ lw_all := lw_g (lw_at lw_m10 127 rfl) rfl
theorem q2372 : (Jvm.Cond.methodLink "JokePumpModel" (227 : Nat) ({ cls := "JokePumpModel", name := "writesNumber", desc := "(I)V" } : Jvm.MethodName)) ∈ lw_all := lw_g (lw_at lw_m10 128 rfl) rfl
theorem q2373 : (Jvm.Cond.privateMethod ({ cls := "JokePumpModel", name := "writesNumber", desc := "(I)V" } : Jvm.MethodName)) ∈ lw_tbl := lw_at lw_m10 129 rfl
theorem q2374 : (Jvm.Cond.instanceMethod ({ cls := "JokePumpModel", name := "writesNumber", desc := "(I)V" } : Jvm.MethodName)) ∈ lw_all := lw_g (lw_at lw_m10 130 rfl) rfl
theorem q2375 : (Jvm.Cond.code ({ cls := "JokePumpModel", name := "writesNumber", desc := "(I)V" } : Jvm.MethodName) prog_27_method_74_code (2 : Nat) (Option.none : Option Jvm.ClassFile.FieldType)) ∈ lw_all := lw_g (lw_at lw_m10 131 rfl) rfl
theorem q2377 : (Jvm.Cond.instanceMethod ({ cls := "JokePumpModel", name := "writePump", desc := "()I" } : Jvm.MethodName)) ∈ lw_all := lw_g (lw_at lw_m10 133 rfl) rfl
theorem q2378 : (Jvm.Cond.selects "JokePumpModel" ({ cls := "JokePumpModel", name := "writePump", desc := "()I" } : Jvm.MethodName) ({ cls := "JokePumpModel", name := "writePump", desc := "()I" } : Jvm.MethodName)) ∈ lw_all := lw_g (lw_at lw_m10 134 rfl) rfl
theorem q2379 : (Jvm.Cond.code ({ cls := "JokePumpModel", name := "writePump", desc := "()I" } : Jvm.MethodName) prog_27_method_77_code (1 : Nat) (Option.some Jvm.ClassFile.FieldType.int)) ∈ lw_all := lw_g (lw_at lw_m10 135 rfl) rfl
theorem q2381 : (Jvm.Cond.instanceMethod ({ cls := "JokePumpModel", name := "written", desc := "(I)I" } : Jvm.MethodName)) ∈ lw_all := lw_g (lw_at lw_m10 137 rfl) rfl
theorem q2382 : (Jvm.Cond.selects "JokePumpModel" ({ cls := "JokePumpModel", name := "written", desc := "(I)I" } : Jvm.MethodName) ({ cls := "JokePumpModel", name := "written", desc := "(I)I" } : Jvm.MethodName)) ∈ lw_all := lw_g (lw_at lw_m10 138 rfl) rfl
theorem q2383 : (Jvm.Cond.code ({ cls := "JokePumpModel", name := "written", desc := "(I)I" } : Jvm.MethodName) prog_27_method_78_code (2 : Nat) (Option.some Jvm.ClassFile.FieldType.int)) ∈ lw_all := lw_g (lw_at lw_m10 139 rfl) rfl
theorem q2385 : (Jvm.Cond.instanceMethod ({ cls := "JokePumpModel", name := "append", desc := "(C)I" } : Jvm.MethodName)) ∈ lw_all := lw_g (lw_at lw_m10 141 rfl) rfl
theorem q2386 : (Jvm.Cond.selects "JokePumpModel" ({ cls := "JokePumpModel", name := "append", desc := "(C)I" } : Jvm.MethodName) ({ cls := "JokePumpModel", name := "append", desc := "(C)I" } : Jvm.MethodName)) ∈ lw_all := lw_g (lw_at lw_m10 142 rfl) rfl
theorem q2387 : (Jvm.Cond.code ({ cls := "JokePumpModel", name := "append", desc := "(C)I" } : Jvm.MethodName) prog_27_method_79_code (2 : Nat) (Option.some Jvm.ClassFile.FieldType.int)) ∈ lw_all := lw_g (lw_at lw_m10 143 rfl) rfl
theorem q2389 : (Jvm.Cond.instanceMethod ({ cls := "JokePumpModel", name := "fault", desc := "()I" } : Jvm.MethodName)) ∈ lw_all := lw_g (lw_at lw_m10 145 rfl) rfl
theorem q2390 : (Jvm.Cond.selects "JokePumpModel" ({ cls := "JokePumpModel", name := "fault", desc := "()I" } : Jvm.MethodName) ({ cls := "JokePumpModel", name := "fault", desc := "()I" } : Jvm.MethodName)) ∈ lw_all := lw_g (lw_at lw_m10 146 rfl) rfl
theorem q2391 : (Jvm.Cond.code ({ cls := "JokePumpModel", name := "fault", desc := "()I" } : Jvm.MethodName) prog_27_method_80_code (1 : Nat) (Option.some Jvm.ClassFile.FieldType.int)) ∈ lw_all := lw_g (lw_at lw_m10 147 rfl) rfl
theorem q2393 : (Jvm.Cond.instanceMethod ({ cls := "JokePumpModel", name := "read", desc := "()I" } : Jvm.MethodName)) ∈ lw_all := lw_g (lw_at lw_m10 149 rfl) rfl
theorem q2394 : (Jvm.Cond.selects "JokePumpModel" ({ cls := "JokePumpModel", name := "read", desc := "()I" } : Jvm.MethodName) ({ cls := "JokePumpModel", name := "read", desc := "()I" } : Jvm.MethodName)) ∈ lw_all := lw_g (lw_at lw_m10 150 rfl) rfl
theorem q2395 : (Jvm.Cond.code ({ cls := "JokePumpModel", name := "read", desc := "()I" } : Jvm.MethodName) prog_27_method_96_code (2 : Nat) (Option.some Jvm.ClassFile.FieldType.int)) ∈ lw_all := lw_g (lw_at lw_m10 151 rfl) rfl
theorem q2396 : (Jvm.Cond.methodLink "JokePumpModel" (279 : Nat) ({ cls := "JokePumpModel", name := "readsAll", desc := "()Z" } : Jvm.MethodName)) ∈ lw_all := lw_g (lw_at lw_m10 152 rfl) rfl
theorem q2397 : (Jvm.Cond.privateMethod ({ cls := "JokePumpModel", name := "readsAll", desc := "()Z" } : Jvm.MethodName)) ∈ lw_tbl := lw_at lw_m10 153 rfl
theorem q2398 : (Jvm.Cond.instanceMethod ({ cls := "JokePumpModel", name := "readsAll", desc := "()Z" } : Jvm.MethodName)) ∈ lw_all := lw_g (lw_at lw_m10 154 rfl) rfl
theorem q2399 : (Jvm.Cond.code ({ cls := "JokePumpModel", name := "readsAll", desc := "()Z" } : Jvm.MethodName) prog_27_method_91_code (2 : Nat) (Option.some Jvm.ClassFile.FieldType.boolean)) ∈ lw_all := lw_g (lw_at lw_m10 155 rfl) rfl
theorem q2400 : (Jvm.Cond.methodLink "JokePumpModel" (267 : Nat) ({ cls := "JokePumpModel", name := "readsCommand", desc := "()Z" } : Jvm.MethodName)) ∈ lw_all := lw_g (lw_at lw_m10 156 rfl) rfl
theorem q2401 : (Jvm.Cond.privateMethod ({ cls := "JokePumpModel", name := "readsCommand", desc := "()Z" } : Jvm.MethodName)) ∈ lw_tbl := lw_at lw_m10 157 rfl
theorem q2402 : (Jvm.Cond.instanceMethod ({ cls := "JokePumpModel", name := "readsCommand", desc := "()Z" } : Jvm.MethodName)) ∈ lw_all := lw_g (lw_at lw_m10 158 rfl) rfl
theorem q2403 : (Jvm.Cond.code ({ cls := "JokePumpModel", name := "readsCommand", desc := "()Z" } : Jvm.MethodName) prog_27_method_90_code (1 : Nat) (Option.some Jvm.ClassFile.FieldType.boolean)) ∈ lw_all := lw_g (lw_at lw_m10 159 rfl) rfl
theorem q2404 : (Jvm.Cond.methodLink "JokePumpModel" (236 : Nat) ({ cls := "JokePumpModel", name := "nextSign", desc := "()I" } : Jvm.MethodName)) ∈ lw_all := lw_g (lw_at lw_m10 160 rfl) rfl
theorem q2405 : (Jvm.Cond.privateMethod ({ cls := "JokePumpModel", name := "nextSign", desc := "()I" } : Jvm.MethodName)) ∈ lw_tbl := lw_at lw_m10 161 rfl
theorem q2406 : (Jvm.Cond.instanceMethod ({ cls := "JokePumpModel", name := "nextSign", desc := "()I" } : Jvm.MethodName)) ∈ lw_all := lw_g (lw_at lw_m10 162 rfl) rfl
theorem q2407 : (Jvm.Cond.code ({ cls := "JokePumpModel", name := "nextSign", desc := "()I" } : Jvm.MethodName) prog_27_method_81_code (1 : Nat) (Option.some Jvm.ClassFile.FieldType.int)) ∈ lw_all := lw_g (lw_at lw_m10 163 rfl) rfl
theorem q2408 : (Jvm.Cond.methodLink "JokePumpModel" (242 : Nat) ({ cls := "JokePumpModel", name := "reads", desc := "(I)Z" } : Jvm.MethodName)) ∈ lw_all := lw_g (lw_at lw_m10 164 rfl) rfl
theorem q2409 : (Jvm.Cond.privateMethod ({ cls := "JokePumpModel", name := "reads", desc := "(I)Z" } : Jvm.MethodName)) ∈ lw_tbl := lw_at lw_m10 165 rfl
theorem q2410 : (Jvm.Cond.instanceMethod ({ cls := "JokePumpModel", name := "reads", desc := "(I)Z" } : Jvm.MethodName)) ∈ lw_all := lw_g (lw_at lw_m10 166 rfl) rfl
theorem q2411 : (Jvm.Cond.code ({ cls := "JokePumpModel", name := "reads", desc := "(I)Z" } : Jvm.MethodName) prog_27_method_82_code (2 : Nat) (Option.some Jvm.ClassFile.FieldType.boolean)) ∈ lw_all := lw_g (lw_at lw_m10 167 rfl) rfl
theorem q2412 : (Jvm.Cond.methodLink "JokePumpModel" (251 : Nat) ({ cls := "JokePumpModel", name := "readsJoke", desc := "()Z" } : Jvm.MethodName)) ∈ lw_all := lw_g (lw_at lw_m10 168 rfl) rfl
theorem q2413 : (Jvm.Cond.privateMethod ({ cls := "JokePumpModel", name := "readsJoke", desc := "()Z" } : Jvm.MethodName)) ∈ lw_tbl := lw_at lw_m10 169 rfl
theorem q2414 : (Jvm.Cond.instanceMethod ({ cls := "JokePumpModel", name := "readsJoke", desc := "()Z" } : Jvm.MethodName)) ∈ lw_all := lw_g (lw_at lw_m10 170 rfl) rfl
theorem q2415 : (Jvm.Cond.code ({ cls := "JokePumpModel", name := "readsJoke", desc := "()Z" } : Jvm.MethodName) prog_27_method_85_code (1 : Nat) (Option.some Jvm.ClassFile.FieldType.boolean)) ∈ lw_all := lw_g (lw_at lw_m10 171 rfl) rfl
theorem q2416 : (Jvm.Cond.methodLink "JokePumpModel" (239 : Nat) ({ cls := "JokePumpModel", name := "readsDigit", desc := "(I)Z" } : Jvm.MethodName)) ∈ lw_all := lw_g (lw_at lw_m10 172 rfl) rfl
theorem q2417 : (Jvm.Cond.privateMethod ({ cls := "JokePumpModel", name := "readsDigit", desc := "(I)Z" } : Jvm.MethodName)) ∈ lw_tbl := lw_at lw_m10 173 rfl
theorem q2418 : (Jvm.Cond.instanceMethod ({ cls := "JokePumpModel", name := "readsDigit", desc := "(I)Z" } : Jvm.MethodName)) ∈ lw_all := lw_g (lw_at lw_m10 174 rfl) rfl
theorem q2419 : (Jvm.Cond.code ({ cls := "JokePumpModel", name := "readsDigit", desc := "(I)Z" } : Jvm.MethodName) prog_27_method_83_code (2 : Nat) (Option.some Jvm.ClassFile.FieldType.boolean)) ∈ lw_all := lw_g (lw_at lw_m10 175 rfl) rfl
theorem q2420 : (Jvm.Cond.methodLink "JokePumpModel" (245 : Nat) ({ cls := "JokePumpModel", name := "readsNumber", desc := "(I)Z" } : Jvm.MethodName)) ∈ lw_all := lw_g (lw_at lw_m10 176 rfl) rfl
theorem q2421 : (Jvm.Cond.privateMethod ({ cls := "JokePumpModel", name := "readsNumber", desc := "(I)Z" } : Jvm.MethodName)) ∈ lw_tbl := lw_at lw_m10 177 rfl
theorem q2422 : (Jvm.Cond.instanceMethod ({ cls := "JokePumpModel", name := "readsNumber", desc := "(I)Z" } : Jvm.MethodName)) ∈ lw_all := lw_g (lw_at lw_m10 178 rfl) rfl
theorem q2423 : (Jvm.Cond.code ({ cls := "JokePumpModel", name := "readsNumber", desc := "(I)Z" } : Jvm.MethodName) prog_27_method_84_code (2 : Nat) (Option.some Jvm.ClassFile.FieldType.boolean)) ∈ lw_all := lw_g (lw_at lw_m10 179 rfl) rfl
theorem q2424 : (Jvm.Cond.methodLink "JokePumpModel" (255 : Nat) ({ cls := "JokePumpModel", name := "readsP", desc := "()Z" } : Jvm.MethodName)) ∈ lw_all := lw_g (lw_at lw_m10 180 rfl) rfl
theorem q2425 : (Jvm.Cond.privateMethod ({ cls := "JokePumpModel", name := "readsP", desc := "()Z" } : Jvm.MethodName)) ∈ lw_tbl := lw_at lw_m10 181 rfl
theorem q2426 : (Jvm.Cond.instanceMethod ({ cls := "JokePumpModel", name := "readsP", desc := "()Z" } : Jvm.MethodName)) ∈ lw_all := lw_g (lw_at lw_m10 182 rfl) rfl
theorem q2427 : (Jvm.Cond.code ({ cls := "JokePumpModel", name := "readsP", desc := "()Z" } : Jvm.MethodName) prog_27_method_86_code (1 : Nat) (Option.some Jvm.ClassFile.FieldType.boolean)) ∈ lw_all := lw_g (lw_at lw_m10 183 rfl) rfl
theorem q2428 : (Jvm.Cond.methodLink "JokePumpModel" (258 : Nat) ({ cls := "JokePumpModel", name := "readsD", desc := "()Z" } : Jvm.MethodName)) ∈ lw_all := lw_g (lw_at lw_m10 184 rfl) rfl
theorem q2429 : (Jvm.Cond.privateMethod ({ cls := "JokePumpModel", name := "readsD", desc := "()Z" } : Jvm.MethodName)) ∈ lw_tbl := lw_at lw_m10 185 rfl
theorem q2430 : (Jvm.Cond.instanceMethod ({ cls := "JokePumpModel", name := "readsD", desc := "()Z" } : Jvm.MethodName)) ∈ lw_all := lw_g (lw_at lw_m10 186 rfl) rfl
theorem q2431 : (Jvm.Cond.code ({ cls := "JokePumpModel", name := "readsD", desc := "()Z" } : Jvm.MethodName) prog_27_method_87_code (1 : Nat) (Option.some Jvm.ClassFile.FieldType.boolean)) ∈ lw_all := lw_g (lw_at lw_m10 187 rfl) rfl
theorem q2432 : (Jvm.Cond.methodLink "JokePumpModel" (261 : Nat) ({ cls := "JokePumpModel", name := "readsStroke", desc := "()Z" } : Jvm.MethodName)) ∈ lw_all := lw_g (lw_at lw_m10 188 rfl) rfl
theorem q2433 : (Jvm.Cond.privateMethod ({ cls := "JokePumpModel", name := "readsStroke", desc := "()Z" } : Jvm.MethodName)) ∈ lw_tbl := lw_at lw_m10 189 rfl
theorem q2434 : (Jvm.Cond.instanceMethod ({ cls := "JokePumpModel", name := "readsStroke", desc := "()Z" } : Jvm.MethodName)) ∈ lw_all := lw_g (lw_at lw_m10 190 rfl) rfl
theorem q2435 : (Jvm.Cond.code ({ cls := "JokePumpModel", name := "readsStroke", desc := "()Z" } : Jvm.MethodName) prog_27_method_88_code (1 : Nat) (Option.some Jvm.ClassFile.FieldType.boolean)) ∈ lw_all := lw_g (lw_at lw_m10 191 rfl) rfl
theorem q2436 : (Jvm.Cond.methodLink "JokePumpModel" (264 : Nat) ({ cls := "JokePumpModel", name := "readsBucket", desc := "()Z" } : Jvm.MethodName)) ∈ lw_all := lw_g (lw_at lw_m10 192 rfl) rfl
theorem q2437 : (Jvm.Cond.privateMethod ({ cls := "JokePumpModel", name := "readsBucket", desc := "()Z" } : Jvm.MethodName)) ∈ lw_tbl := lw_at lw_m10 193 rfl
theorem q2438 : (Jvm.Cond.instanceMethod ({ cls := "JokePumpModel", name := "readsBucket", desc := "()Z" } : Jvm.MethodName)) ∈ lw_all := lw_g (lw_at lw_m10 194 rfl) rfl
theorem q2439 : (Jvm.Cond.code ({ cls := "JokePumpModel", name := "readsBucket", desc := "()Z" } : Jvm.MethodName) prog_27_method_89_code (1 : Nat) (Option.some Jvm.ClassFile.FieldType.boolean)) ∈ lw_all := lw_g (lw_at lw_m10 195 rfl) rfl
theorem q2440 : (Jvm.Cond.methodLink "JokePumpModel" (282 : Nat) ({ cls := "JokePumpModel", name := "doesAll", desc := "()I" } : Jvm.MethodName)) ∈ lw_all := lw_g (lw_at lw_m10 196 rfl) rfl
theorem q2441 : (Jvm.Cond.privateMethod ({ cls := "JokePumpModel", name := "doesAll", desc := "()I" } : Jvm.MethodName)) ∈ lw_tbl := lw_at lw_m10 197 rfl
theorem q2442 : (Jvm.Cond.instanceMethod ({ cls := "JokePumpModel", name := "doesAll", desc := "()I" } : Jvm.MethodName)) ∈ lw_all := lw_g (lw_at lw_m10 198 rfl) rfl
theorem q2443 : (Jvm.Cond.code ({ cls := "JokePumpModel", name := "doesAll", desc := "()I" } : Jvm.MethodName) prog_27_method_94_code (3 : Nat) (Option.some Jvm.ClassFile.FieldType.int)) ∈ lw_all := lw_g (lw_at lw_m10 199 rfl) rfl
theorem q2444 : (Jvm.Cond.methodLink "JokePumpModel" (273 : Nat) ({ cls := "JokePumpModel", name := "notNow", desc := "()I" } : Jvm.MethodName)) ∈ lw_all := lw_g (lw_at lw_m10 200 rfl) rfl
theorem q2445 : (Jvm.Cond.privateMethod ({ cls := "JokePumpModel", name := "notNow", desc := "()I" } : Jvm.MethodName)) ∈ lw_tbl := lw_at lw_m10 201 rfl
theorem q2446 : (Jvm.Cond.instanceMethod ({ cls := "JokePumpModel", name := "notNow", desc := "()I" } : Jvm.MethodName)) ∈ lw_all := lw_g (lw_at lw_m10 202 rfl) rfl
theorem q2447 : (Jvm.Cond.code ({ cls := "JokePumpModel", name := "notNow", desc := "()I" } : Jvm.MethodName) prog_27_method_92_code (2 : Nat) (Option.some Jvm.ClassFile.FieldType.int)) ∈ lw_all := lw_g (lw_at lw_m10 203 rfl) rfl
theorem q2448 : (Jvm.Cond.methodLink "JokePumpModel" (276 : Nat) ({ cls := "JokePumpModel", name := "doesNow", desc := "()I" } : Jvm.MethodName)) ∈ lw_all := lw_g (lw_at lw_m10 204 rfl) rfl
theorem q2449 : (Jvm.Cond.privateMethod ({ cls := "JokePumpModel", name := "doesNow", desc := "()I" } : Jvm.MethodName)) ∈ lw_tbl := lw_at lw_m10 205 rfl
theorem q2450 : (Jvm.Cond.instanceMethod ({ cls := "JokePumpModel", name := "doesNow", desc := "()I" } : Jvm.MethodName)) ∈ lw_all := lw_g (lw_at lw_m10 206 rfl) rfl
theorem q2451 : (Jvm.Cond.code ({ cls := "JokePumpModel", name := "doesNow", desc := "()I" } : Jvm.MethodName) prog_27_method_93_code (2 : Nat) (Option.some Jvm.ClassFile.FieldType.int)) ∈ lw_all := lw_g (lw_at lw_m10 207 rfl) rfl
theorem q2452 : (Jvm.Cond.methodLink "JokePumpModel" (285 : Nat) ({ cls := "JokePumpModel", name := "forgets", desc := "()V" } : Jvm.MethodName)) ∈ lw_all := lw_g (lw_at lw_m10 208 rfl) rfl
theorem q2453 : (Jvm.Cond.privateMethod ({ cls := "JokePumpModel", name := "forgets", desc := "()V" } : Jvm.MethodName)) ∈ lw_tbl := lw_at lw_m10 209 rfl
theorem q2454 : (Jvm.Cond.instanceMethod ({ cls := "JokePumpModel", name := "forgets", desc := "()V" } : Jvm.MethodName)) ∈ lw_all := lw_g (lw_at lw_m10 210 rfl) rfl
theorem q2455 : (Jvm.Cond.code ({ cls := "JokePumpModel", name := "forgets", desc := "()V" } : Jvm.MethodName) prog_27_method_7_code (2 : Nat) (Option.none : Option Jvm.ClassFile.FieldType)) ∈ lw_all := lw_g (lw_at lw_m10 211 rfl) rfl
theorem q2456 : (Jvm.Cond.methodLink "JokePumpModel" (288 : Nat) ({ cls := "JokePumpModel", name := "refuses", desc := "(I)I" } : Jvm.MethodName)) ∈ lw_all := lw_g (lw_at lw_m10 212 rfl) rfl
theorem q2457 : (Jvm.Cond.privateMethod ({ cls := "JokePumpModel", name := "refuses", desc := "(I)I" } : Jvm.MethodName)) ∈ lw_tbl := lw_at lw_m10 213 rfl
theorem q2458 : (Jvm.Cond.instanceMethod ({ cls := "JokePumpModel", name := "refuses", desc := "(I)I" } : Jvm.MethodName)) ∈ lw_all := lw_g (lw_at lw_m10 214 rfl) rfl
theorem q2459 : (Jvm.Cond.code ({ cls := "JokePumpModel", name := "refuses", desc := "(I)I" } : Jvm.MethodName) prog_27_method_95_code (2 : Nat) (Option.some Jvm.ClassFile.FieldType.int)) ∈ lw_all := lw_g (lw_at lw_m10 215 rfl) rfl
theorem q2461 : (Jvm.Cond.instanceMethod ({ cls := "JokePumpModel", name := "undo", desc := "()I" } : Jvm.MethodName)) ∈ lw_all := lw_g (lw_at lw_m10 217 rfl) rfl
theorem q2462 : (Jvm.Cond.selects "JokePumpModel" ({ cls := "JokePumpModel", name := "undo", desc := "()I" } : Jvm.MethodName) ({ cls := "JokePumpModel", name := "undo", desc := "()I" } : Jvm.MethodName)) ∈ lw_all := lw_g (lw_at lw_m10 218 rfl) rfl
theorem q2463 : (Jvm.Cond.code ({ cls := "JokePumpModel", name := "undo", desc := "()I" } : Jvm.MethodName) prog_27_method_97_code (3 : Nat) (Option.some Jvm.ClassFile.FieldType.int)) ∈ lw_all := lw_g (lw_at lw_m10 219 rfl) rfl
theorem q2465 : (Jvm.Cond.instanceMethod ({ cls := "JokePumpModel", name := "save", desc := "()I" } : Jvm.MethodName)) ∈ lw_all := lw_g (lw_at lw_m10 221 rfl) rfl
theorem q2466 : (Jvm.Cond.selects "JokePumpModel" ({ cls := "JokePumpModel", name := "save", desc := "()I" } : Jvm.MethodName) ({ cls := "JokePumpModel", name := "save", desc := "()I" } : Jvm.MethodName)) ∈ lw_all := lw_g (lw_at lw_m10 222 rfl) rfl
theorem q2467 : (Jvm.Cond.code ({ cls := "JokePumpModel", name := "save", desc := "()I" } : Jvm.MethodName) prog_27_method_98_code (2 : Nat) (Option.some Jvm.ClassFile.FieldType.int)) ∈ lw_all := lw_g (lw_at lw_m10 223 rfl) rfl
theorem q2469 : (Jvm.Cond.instanceMethod ({ cls := "JokePumpModel", name := "restore", desc := "()I" } : Jvm.MethodName)) ∈ lw_all := lw_g (lw_at lw_m10 225 rfl) rfl
theorem q2470 : (Jvm.Cond.selects "JokePumpModel" ({ cls := "JokePumpModel", name := "restore", desc := "()I" } : Jvm.MethodName) ({ cls := "JokePumpModel", name := "restore", desc := "()I" } : Jvm.MethodName)) ∈ lw_all := lw_g (lw_at lw_m10 226 rfl) rfl
theorem q2471 : (Jvm.Cond.code ({ cls := "JokePumpModel", name := "restore", desc := "()I" } : Jvm.MethodName) prog_27_method_99_code (2 : Nat) (Option.some Jvm.ClassFile.FieldType.int)) ∈ lw_all := lw_g (lw_at lw_m10 227 rfl) rfl
theorem q2494 : (Jvm.Cond.castable "JokePumpModel" "java/lang/Object") ∈ lw_tbl := lw_at lw_m11 10 rfl
theorem in_X2 : ∀ w ∈ wsX20, w ∈ lw_all := lw_in wsX20 [2033, 2035, 2037, 2039, 2041, 2043, 2045, 2047, 2049, 2051, 2053, 2055, 2057, 2059, 2061, 2063, 2065, 2067, 2069, 2071, 2073, 2075, 2077] (by decide +kernel) (by decide +kernel)
