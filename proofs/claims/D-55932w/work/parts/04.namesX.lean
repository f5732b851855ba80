/-! JokePump -/
set_option maxRecDepth 100000
def RX0 : String := "JokePump"
def TX0 : u_T := fun k => match k with
  | 0 => ("JokePump", "now", "LJokePump$Pump;", false)
  | 1 => ("JokePump", "saved", "LJokePump$Pump;", false)
  | 2 => ("JokePump", "before", "Ljava/util/ArrayDeque;", true)
  | 3 => ("JokePump", "refusal", "LJokePump$Refused;", false)
  | 4 => ("JokePump", "line", "Ljava/lang/String;", false)
  | 5 => ("JokePump", "input", "[C", true)
  | 6 => ("JokePump", "fed", "I", false)
  | _ => ("JokePump", "faultAt", "I", false)
def tyX0 : Nat → FieldType := fun k => match k with
  | 0 => .object "JokePump$Pump"
  | 1 => .object "JokePump$Pump"
  | 2 => .object "java/util/ArrayDeque"
  | 3 => .object "JokePump$Refused"
  | 4 => .object "java/lang/String"
  | 5 => .array .char
  | 6 => .int
  | _ => .int
abbrev wsX00 : List Cond := u_ws RX0 TX0 8
theorem nmX0 : ∀ a, a < 8 → ∀ b, b < 8 → a ≠ b → (TX0 a).2.1 ≠ (TX0 b).2.1 := by decide +kernel
theorem tyX0_ok : ∀ k, k < 8 → parseFieldDescriptor (TX0 k).2.2.1 = some (tyX0 k) := by decide +kernel
abbrev cX0_init : ByteArray := prog_1_method_12_code
def yX0_init : MethodName := ⟨RX0, "<init>", "()V"⟩
def dkwX0_init_1 : List UInt8 := [181, 0, 35, 42, 18, 39, 181, 0, 41, 42, 16, 60, 188, 5, 181, 0, 45, 42, 2, 181, 0, 49, 177]
abbrev dktX0_init_1 : List UInt8 := dkwX0_init_1 ++ []
def dkwX0_init_0 : List UInt8 := [42, 183, 0, 22, 42, 187, 0, 25, 89, 183, 0, 27, 181, 0, 28, 42, 187, 0, 32, 89, 183, 0, 34]
abbrev dktX0_init_0 : List UInt8 := dkwX0_init_0 ++ dktX0_init_1
theorem dksX0_init_0 : cX0_init.data.toList.drop 0 = dktX0_init_0 := by decide +kernel
theorem dksX0_init_1 : cX0_init.data.toList.drop 23 = dktX0_init_1 := dk_seg dksX0_init_0 23 rfl rfl
theorem dX0_init_0 : decode cX0_init 0 = .ok (.aload_n 0, 1) := dk_42 (dk_at dksX0_init_0 0 rfl rfl)
theorem dX0_init_1 : decode cX0_init 1 = .ok (.invokespecial 22, 3) := dk_183 0 22 (dk_at dksX0_init_0 1 rfl rfl)
theorem dX0_init_4 : decode cX0_init 4 = .ok (.aload_n 0, 1) := dk_42 (dk_at dksX0_init_0 4 rfl rfl)
theorem dX0_init_5 : decode cX0_init 5 = .ok (.new 25, 3) := dk_187 0 25 (dk_at dksX0_init_0 5 rfl rfl)
theorem dX0_init_8 : decode cX0_init 8 = .ok (.dup, 1) := dk_89 (dk_at dksX0_init_0 8 rfl rfl)
theorem dX0_init_9 : decode cX0_init 9 = .ok (.invokespecial 27, 3) := dk_183 0 27 (dk_at dksX0_init_0 9 rfl rfl)
theorem dX0_init_12 : decode cX0_init 12 = .ok (.putfield 28, 3) := dk_181 0 28 (dk_at dksX0_init_0 12 rfl rfl)
theorem dX0_init_15 : decode cX0_init 15 = .ok (.aload_n 0, 1) := dk_42 (dk_at dksX0_init_0 15 rfl rfl)
theorem dX0_init_16 : decode cX0_init 16 = .ok (.new 32, 3) := dk_187 0 32 (dk_at dksX0_init_0 16 rfl rfl)
theorem dX0_init_19 : decode cX0_init 19 = .ok (.dup, 1) := dk_89 (dk_at dksX0_init_0 19 rfl rfl)
theorem dX0_init_20 : decode cX0_init 20 = .ok (.invokespecial 34, 3) := dk_183 0 34 (dk_at dksX0_init_0 20 rfl rfl)
theorem dX0_init_23 : decode cX0_init 23 = .ok (.putfield 35, 3) := dk_181 0 35 (dk_at dksX0_init_1 0 rfl rfl)
theorem dX0_init_26 : decode cX0_init 26 = .ok (.aload_n 0, 1) := dk_42 (dk_at dksX0_init_1 3 rfl rfl)
theorem dX0_init_27 : decode cX0_init 27 = .ok (.ldc 39, 2) := dk_18 39 (dk_at dksX0_init_1 4 rfl rfl)
theorem dX0_init_29 : decode cX0_init 29 = .ok (.putfield 41, 3) := dk_181 0 41 (dk_at dksX0_init_1 6 rfl rfl)
theorem dX0_init_32 : decode cX0_init 32 = .ok (.aload_n 0, 1) := dk_42 (dk_at dksX0_init_1 9 rfl rfl)
theorem dX0_init_33 : decode cX0_init 33 = .ok (.bipush 60, 2) := dk_16 60 (dk_at dksX0_init_1 10 rfl rfl)
theorem dX0_init_35 : decode cX0_init 35 = .ok (.newarray .char, 2) := dk_188_5 (dk_at dksX0_init_1 12 rfl rfl)
theorem dX0_init_37 : decode cX0_init 37 = .ok (.putfield 45, 3) := dk_181 0 45 (dk_at dksX0_init_1 14 rfl rfl)
theorem dX0_init_40 : decode cX0_init 40 = .ok (.aload_n 0, 1) := dk_42 (dk_at dksX0_init_1 17 rfl rfl)
theorem dX0_init_41 : decode cX0_init 41 = .ok (.iconst (-1), 1) := dk_2 (dk_at dksX0_init_1 18 rfl rfl)
theorem dX0_init_42 : decode cX0_init 42 = .ok (.putfield 49, 3) := dk_181 0 49 (dk_at dksX0_init_1 19 rfl rfl)
theorem dX0_init_45 : decode cX0_init 45 = .ok (.return_, 1) := dk_177 (dk_at dksX0_init_1 22 rfl rfl)
abbrev cX0_joke : ByteArray := prog_1_method_13_code
def yX0_joke : MethodName := ⟨RX0, "joke", "(IIII)I"⟩
def dkwX0_joke_1 : List UInt8 := [182, 0, 64, 172]
abbrev dktX0_joke_1 : List UInt8 := dkwX0_joke_1 ++ []
def dkwX0_joke_0 : List UInt8 := [187, 0, 53, 89, 42, 27, 28, 29, 21, 4, 183, 0, 55, 27, 184, 0, 58, 28, 29, 21, 4, 184, 0, 61]
abbrev dktX0_joke_0 : List UInt8 := dkwX0_joke_0 ++ dktX0_joke_1
theorem dksX0_joke_0 : cX0_joke.data.toList.drop 0 = dktX0_joke_0 := by decide +kernel
theorem dksX0_joke_1 : cX0_joke.data.toList.drop 24 = dktX0_joke_1 := dk_seg dksX0_joke_0 24 rfl rfl
theorem dX0_joke_0 : decode cX0_joke 0 = .ok (.new 53, 3) := dk_187 0 53 (dk_at dksX0_joke_0 0 rfl rfl)
theorem dX0_joke_3 : decode cX0_joke 3 = .ok (.dup, 1) := dk_89 (dk_at dksX0_joke_0 3 rfl rfl)
theorem dX0_joke_4 : decode cX0_joke 4 = .ok (.aload_n 0, 1) := dk_42 (dk_at dksX0_joke_0 4 rfl rfl)
theorem dX0_joke_5 : decode cX0_joke 5 = .ok (.iload_n 1, 1) := dk_27 (dk_at dksX0_joke_0 5 rfl rfl)
theorem dX0_joke_6 : decode cX0_joke 6 = .ok (.iload_n 2, 1) := dk_28 (dk_at dksX0_joke_0 6 rfl rfl)
theorem dX0_joke_7 : decode cX0_joke 7 = .ok (.iload_n 3, 1) := dk_29 (dk_at dksX0_joke_0 7 rfl rfl)
theorem dX0_joke_8 : decode cX0_joke 8 = .ok (.iload 4, 2) := dk_21 4 (dk_at dksX0_joke_0 8 rfl rfl)
theorem dX0_joke_10 : decode cX0_joke 10 = .ok (.invokespecial 55, 3) := dk_183 0 55 (dk_at dksX0_joke_0 10 rfl rfl)
theorem dX0_joke_13 : decode cX0_joke 13 = .ok (.iload_n 1, 1) := dk_27 (dk_at dksX0_joke_0 13 rfl rfl)
theorem dX0_joke_14 : decode cX0_joke 14 = .ok (.invokestatic 58, 3) := dk_184 0 58 (dk_at dksX0_joke_0 14 rfl rfl)
theorem dX0_joke_17 : decode cX0_joke 17 = .ok (.iload_n 2, 1) := dk_28 (dk_at dksX0_joke_0 17 rfl rfl)
theorem dX0_joke_18 : decode cX0_joke 18 = .ok (.iload_n 3, 1) := dk_29 (dk_at dksX0_joke_0 18 rfl rfl)
theorem dX0_joke_19 : decode cX0_joke 19 = .ok (.iload 4, 2) := dk_21 4 (dk_at dksX0_joke_0 19 rfl rfl)
theorem dX0_joke_21 : decode cX0_joke 21 = .ok (.invokestatic 61, 3) := dk_184 0 61 (dk_at dksX0_joke_0 21 rfl rfl)
theorem dX0_joke_24 : decode cX0_joke 24 = .ok (.invokevirtual 64, 3) := dk_182 0 64 (dk_at dksX0_joke_1 0 rfl rfl)
theorem dX0_joke_27 : decode cX0_joke 27 = .ok (.ireturn, 1) := dk_172 (dk_at dksX0_joke_1 3 rfl rfl)
abbrev cX0_isWell : ByteArray := prog_1_method_3_code
def yX0_isWell : MethodName := ⟨RX0, "isWell", "(I)Z"⟩
def dkwX0_isWell_0 : List UInt8 := [26, 3, 6, 184, 0, 3, 172]
abbrev dktX0_isWell_0 : List UInt8 := dkwX0_isWell_0 ++ []
theorem dksX0_isWell_0 : cX0_isWell.data.toList.drop 0 = dktX0_isWell_0 := by decide +kernel
theorem dX0_isWell_0 : decode cX0_isWell 0 = .ok (.iload_n 0, 1) := dk_26 (dk_at dksX0_isWell_0 0 rfl rfl)
theorem dX0_isWell_1 : decode cX0_isWell 1 = .ok (.iconst 0, 1) := dk_3 (dk_at dksX0_isWell_0 1 rfl rfl)
theorem dX0_isWell_2 : decode cX0_isWell 2 = .ok (.iconst 3, 1) := dk_6 (dk_at dksX0_isWell_0 2 rfl rfl)
theorem dX0_isWell_3 : decode cX0_isWell 3 = .ok (.invokestatic 3, 3) := dk_184 0 3 (dk_at dksX0_isWell_0 3 rfl rfl)
theorem dX0_isWell_6 : decode cX0_isWell 6 = .ok (.ireturn, 1) := dk_172 (dk_at dksX0_isWell_0 6 rfl rfl)
abbrev cX0_in : ByteArray := prog_1_method_1_code
def yX0_in : MethodName := ⟨RX0, "in", "(III)Z"⟩
def dkwX0_in_0 : List UInt8 := [26, 27, 161, 0, 12, 26, 28, 163, 0, 7, 4, 167, 0, 4, 3, 172]
abbrev dktX0_in_0 : List UInt8 := dkwX0_in_0 ++ []
theorem dksX0_in_0 : cX0_in.data.toList.drop 0 = dktX0_in_0 := by decide +kernel
theorem dX0_in_0 : decode cX0_in 0 = .ok (.iload_n 0, 1) := dk_26 (dk_at dksX0_in_0 0 rfl rfl)
theorem dX0_in_1 : decode cX0_in 1 = .ok (.iload_n 1, 1) := dk_27 (dk_at dksX0_in_0 1 rfl rfl)
theorem dX0_in_2 : decode cX0_in 2 = .ok (.if_icmp .lt 12, 3) := dk_161 0 12 (dk_at dksX0_in_0 2 rfl rfl)
theorem dX0_in_5 : decode cX0_in 5 = .ok (.iload_n 0, 1) := dk_26 (dk_at dksX0_in_0 5 rfl rfl)
theorem dX0_in_6 : decode cX0_in 6 = .ok (.iload_n 2, 1) := dk_28 (dk_at dksX0_in_0 6 rfl rfl)
theorem dX0_in_7 : decode cX0_in 7 = .ok (.if_icmp .gt 7, 3) := dk_163 0 7 (dk_at dksX0_in_0 7 rfl rfl)
theorem dX0_in_10 : decode cX0_in 10 = .ok (.iconst 1, 1) := dk_4 (dk_at dksX0_in_0 10 rfl rfl)
theorem dX0_in_11 : decode cX0_in 11 = .ok (.goto 4, 3) := dk_167 0 4 (dk_at dksX0_in_0 11 rfl rfl)
theorem dX0_in_14 : decode cX0_in 14 = .ok (.iconst 0, 1) := dk_3 (dk_at dksX0_in_0 14 rfl rfl)
theorem dX0_in_15 : decode cX0_in 15 = .ok (.ireturn, 1) := dk_172 (dk_at dksX0_in_0 15 rfl rfl)
abbrev cX0_areNumbers : ByteArray := prog_1_method_5_code
def yX0_areNumbers : MethodName := ⟨RX0, "areNumbers", "(III)Z"⟩
def dkwX0_areNumbers_1 : List UInt8 := [153, 0, 7, 4, 167, 0, 4, 3, 172]
abbrev dktX0_areNumbers_1 : List UInt8 := dkwX0_areNumbers_1 ++ []
def dkwX0_areNumbers_0 : List UInt8 := [26, 184, 0, 7, 153, 0, 27, 27, 3, 16, 63, 184, 0, 3, 153, 0, 17, 28, 4, 16, 9, 184, 0, 3]
abbrev dktX0_areNumbers_0 : List UInt8 := dkwX0_areNumbers_0 ++ dktX0_areNumbers_1
theorem dksX0_areNumbers_0 : cX0_areNumbers.data.toList.drop 0 = dktX0_areNumbers_0 := by decide +kernel
theorem dksX0_areNumbers_1 : cX0_areNumbers.data.toList.drop 24 = dktX0_areNumbers_1 := dk_seg dksX0_areNumbers_0 24 rfl rfl
theorem dX0_areNumbers_0 : decode cX0_areNumbers 0 = .ok (.iload_n 0, 1) := dk_26 (dk_at dksX0_areNumbers_0 0 rfl rfl)
theorem dX0_areNumbers_1 : decode cX0_areNumbers 1 = .ok (.invokestatic 7, 3) := dk_184 0 7 (dk_at dksX0_areNumbers_0 1 rfl rfl)
theorem dX0_areNumbers_4 : decode cX0_areNumbers 4 = .ok (.ifCond .eq 27, 3) := dk_153 0 27 (dk_at dksX0_areNumbers_0 4 rfl rfl)
theorem dX0_areNumbers_7 : decode cX0_areNumbers 7 = .ok (.iload_n 1, 1) := dk_27 (dk_at dksX0_areNumbers_0 7 rfl rfl)
theorem dX0_areNumbers_8 : decode cX0_areNumbers 8 = .ok (.iconst 0, 1) := dk_3 (dk_at dksX0_areNumbers_0 8 rfl rfl)
theorem dX0_areNumbers_9 : decode cX0_areNumbers 9 = .ok (.bipush 63, 2) := dk_16 63 (dk_at dksX0_areNumbers_0 9 rfl rfl)
theorem dX0_areNumbers_11 : decode cX0_areNumbers 11 = .ok (.invokestatic 3, 3) := dk_184 0 3 (dk_at dksX0_areNumbers_0 11 rfl rfl)
theorem dX0_areNumbers_14 : decode cX0_areNumbers 14 = .ok (.ifCond .eq 17, 3) := dk_153 0 17 (dk_at dksX0_areNumbers_0 14 rfl rfl)
theorem dX0_areNumbers_17 : decode cX0_areNumbers 17 = .ok (.iload_n 2, 1) := dk_28 (dk_at dksX0_areNumbers_0 17 rfl rfl)
theorem dX0_areNumbers_18 : decode cX0_areNumbers 18 = .ok (.iconst 1, 1) := dk_4 (dk_at dksX0_areNumbers_0 18 rfl rfl)
theorem dX0_areNumbers_19 : decode cX0_areNumbers 19 = .ok (.bipush 9, 2) := dk_16 9 (dk_at dksX0_areNumbers_0 19 rfl rfl)
theorem dX0_areNumbers_21 : decode cX0_areNumbers 21 = .ok (.invokestatic 3, 3) := dk_184 0 3 (dk_at dksX0_areNumbers_0 21 rfl rfl)
theorem dX0_areNumbers_24 : decode cX0_areNumbers 24 = .ok (.ifCond .eq 7, 3) := dk_153 0 7 (dk_at dksX0_areNumbers_1 0 rfl rfl)
theorem dX0_areNumbers_27 : decode cX0_areNumbers 27 = .ok (.iconst 1, 1) := dk_4 (dk_at dksX0_areNumbers_1 3 rfl rfl)
theorem dX0_areNumbers_28 : decode cX0_areNumbers 28 = .ok (.goto 4, 3) := dk_167 0 4 (dk_at dksX0_areNumbers_1 4 rfl rfl)
theorem dX0_areNumbers_31 : decode cX0_areNumbers 31 = .ok (.iconst 0, 1) := dk_3 (dk_at dksX0_areNumbers_1 7 rfl rfl)
theorem dX0_areNumbers_32 : decode cX0_areNumbers 32 = .ok (.ireturn, 1) := dk_172 (dk_at dksX0_areNumbers_1 8 rfl rfl)
abbrev cX0_isDepth : ByteArray := prog_1_method_4_code
def yX0_isDepth : MethodName := ⟨RX0, "isDepth", "(I)Z"⟩
def dkwX0_isDepth_0 : List UInt8 := [26, 4, 16, 30, 184, 0, 3, 172]
abbrev dktX0_isDepth_0 : List UInt8 := dkwX0_isDepth_0 ++ []
theorem dksX0_isDepth_0 : cX0_isDepth.data.toList.drop 0 = dktX0_isDepth_0 := by decide +kernel
theorem dX0_isDepth_0 : decode cX0_isDepth 0 = .ok (.iload_n 0, 1) := dk_26 (dk_at dksX0_isDepth_0 0 rfl rfl)
theorem dX0_isDepth_1 : decode cX0_isDepth 1 = .ok (.iconst 1, 1) := dk_4 (dk_at dksX0_isDepth_0 1 rfl rfl)
theorem dX0_isDepth_2 : decode cX0_isDepth 2 = .ok (.bipush 30, 2) := dk_16 30 (dk_at dksX0_isDepth_0 2 rfl rfl)
theorem dX0_isDepth_4 : decode cX0_isDepth 4 = .ok (.invokestatic 3, 3) := dk_184 0 3 (dk_at dksX0_isDepth_0 4 rfl rfl)
theorem dX0_isDepth_7 : decode cX0_isDepth 7 = .ok (.ireturn, 1) := dk_172 (dk_at dksX0_isDepth_0 7 rfl rfl)
abbrev cX0_isFunnier : ByteArray := prog_1_method_35_code
def yX0_isFunnier : MethodName := ⟨RX0, "isFunnier", "(LJokePump$Joke;LJokePump$Joke;)Z"⟩
def dkwX0_isFunnier_3 : List UInt8 := [180, 0, 223, 44, 180, 0, 223, 162, 0, 7, 4, 167, 0, 4, 3, 172]
abbrev dktX0_isFunnier_3 : List UInt8 := dkwX0_isFunnier_3 ++ []
def dkwX0_isFunnier_2 : List UInt8 := [180, 0, 130, 44, 180, 0, 130, 161, 0, 25, 43, 180, 0, 130, 44, 180, 0, 130, 160, 0, 18, 43]
abbrev dktX0_isFunnier_2 : List UInt8 := dkwX0_isFunnier_2 ++ dktX0_isFunnier_3
def dkwX0_isFunnier_1 : List UInt8 := [56, 4, 37, 23, 4, 149, 153, 0, 16, 37, 23, 4, 149, 158, 0, 7, 4, 167, 0, 4, 3, 172, 43]
abbrev dktX0_isFunnier_1 : List UInt8 := dkwX0_isFunnier_1 ++ dktX0_isFunnier_2
def dkwX0_isFunnier_0 : List UInt8 := [43, 42, 180, 0, 28, 180, 0, 216, 182, 0, 173, 70, 44, 42, 180, 0, 28, 180, 0, 216, 182, 0, 173]
abbrev dktX0_isFunnier_0 : List UInt8 := dkwX0_isFunnier_0 ++ dktX0_isFunnier_1
theorem dksX0_isFunnier_0 : cX0_isFunnier.data.toList.drop 0 = dktX0_isFunnier_0 := by decide +kernel
theorem dksX0_isFunnier_1 : cX0_isFunnier.data.toList.drop 23 = dktX0_isFunnier_1 := dk_seg dksX0_isFunnier_0 23 rfl rfl
theorem dksX0_isFunnier_2 : cX0_isFunnier.data.toList.drop 46 = dktX0_isFunnier_2 := dk_seg dksX0_isFunnier_1 23 rfl rfl
theorem dksX0_isFunnier_3 : cX0_isFunnier.data.toList.drop 68 = dktX0_isFunnier_3 := dk_seg dksX0_isFunnier_2 22 rfl rfl
theorem dX0_isFunnier_0 : decode cX0_isFunnier 0 = .ok (.aload_n 1, 1) := dk_43 (dk_at dksX0_isFunnier_0 0 rfl rfl)
theorem dX0_isFunnier_1 : decode cX0_isFunnier 1 = .ok (.aload_n 0, 1) := dk_42 (dk_at dksX0_isFunnier_0 1 rfl rfl)
theorem dX0_isFunnier_2 : decode cX0_isFunnier 2 = .ok (.getfield 28, 3) := dk_180 0 28 (dk_at dksX0_isFunnier_0 2 rfl rfl)
theorem dX0_isFunnier_5 : decode cX0_isFunnier 5 = .ok (.getfield 216, 3) := dk_180 0 216 (dk_at dksX0_isFunnier_0 5 rfl rfl)
theorem dX0_isFunnier_8 : decode cX0_isFunnier 8 = .ok (.invokevirtual 173, 3) := dk_182 0 173 (dk_at dksX0_isFunnier_0 8 rfl rfl)
theorem dX0_isFunnier_11 : decode cX0_isFunnier 11 = .ok (.fstore_n 3, 1) := dk_70 (dk_at dksX0_isFunnier_0 11 rfl rfl)
theorem dX0_isFunnier_12 : decode cX0_isFunnier 12 = .ok (.aload_n 2, 1) := dk_44 (dk_at dksX0_isFunnier_0 12 rfl rfl)
theorem dX0_isFunnier_13 : decode cX0_isFunnier 13 = .ok (.aload_n 0, 1) := dk_42 (dk_at dksX0_isFunnier_0 13 rfl rfl)
theorem dX0_isFunnier_14 : decode cX0_isFunnier 14 = .ok (.getfield 28, 3) := dk_180 0 28 (dk_at dksX0_isFunnier_0 14 rfl rfl)
theorem dX0_isFunnier_17 : decode cX0_isFunnier 17 = .ok (.getfield 216, 3) := dk_180 0 216 (dk_at dksX0_isFunnier_0 17 rfl rfl)
theorem dX0_isFunnier_20 : decode cX0_isFunnier 20 = .ok (.invokevirtual 173, 3) := dk_182 0 173 (dk_at dksX0_isFunnier_0 20 rfl rfl)
theorem dX0_isFunnier_23 : decode cX0_isFunnier 23 = .ok (.fstore 4, 2) := dk_56 4 (dk_at dksX0_isFunnier_1 0 rfl rfl)
theorem dX0_isFunnier_25 : decode cX0_isFunnier 25 = .ok (.fload_n 3, 1) := dk_37 (dk_at dksX0_isFunnier_1 2 rfl rfl)
theorem dX0_isFunnier_26 : decode cX0_isFunnier 26 = .ok (.fload 4, 2) := dk_23 4 (dk_at dksX0_isFunnier_1 3 rfl rfl)
theorem dX0_isFunnier_28 : decode cX0_isFunnier 28 = .ok (.fcmp .l, 1) := dk_149 (dk_at dksX0_isFunnier_1 5 rfl rfl)
theorem dX0_isFunnier_29 : decode cX0_isFunnier 29 = .ok (.ifCond .eq 16, 3) := dk_153 0 16 (dk_at dksX0_isFunnier_1 6 rfl rfl)
theorem dX0_isFunnier_32 : decode cX0_isFunnier 32 = .ok (.fload_n 3, 1) := dk_37 (dk_at dksX0_isFunnier_1 9 rfl rfl)
theorem dX0_isFunnier_33 : decode cX0_isFunnier 33 = .ok (.fload 4, 2) := dk_23 4 (dk_at dksX0_isFunnier_1 10 rfl rfl)
theorem dX0_isFunnier_35 : decode cX0_isFunnier 35 = .ok (.fcmp .l, 1) := dk_149 (dk_at dksX0_isFunnier_1 12 rfl rfl)
theorem dX0_isFunnier_36 : decode cX0_isFunnier 36 = .ok (.ifCond .le 7, 3) := dk_158 0 7 (dk_at dksX0_isFunnier_1 13 rfl rfl)
theorem dX0_isFunnier_39 : decode cX0_isFunnier 39 = .ok (.iconst 1, 1) := dk_4 (dk_at dksX0_isFunnier_1 16 rfl rfl)
theorem dX0_isFunnier_40 : decode cX0_isFunnier 40 = .ok (.goto 4, 3) := dk_167 0 4 (dk_at dksX0_isFunnier_1 17 rfl rfl)
theorem dX0_isFunnier_43 : decode cX0_isFunnier 43 = .ok (.iconst 0, 1) := dk_3 (dk_at dksX0_isFunnier_1 20 rfl rfl)
theorem dX0_isFunnier_44 : decode cX0_isFunnier 44 = .ok (.ireturn, 1) := dk_172 (dk_at dksX0_isFunnier_1 21 rfl rfl)
theorem dX0_isFunnier_45 : decode cX0_isFunnier 45 = .ok (.aload_n 1, 1) := dk_43 (dk_at dksX0_isFunnier_1 22 rfl rfl)
theorem dX0_isFunnier_46 : decode cX0_isFunnier 46 = .ok (.getfield 130, 3) := dk_180 0 130 (dk_at dksX0_isFunnier_2 0 rfl rfl)
theorem dX0_isFunnier_49 : decode cX0_isFunnier 49 = .ok (.aload_n 2, 1) := dk_44 (dk_at dksX0_isFunnier_2 3 rfl rfl)
theorem dX0_isFunnier_50 : decode cX0_isFunnier 50 = .ok (.getfield 130, 3) := dk_180 0 130 (dk_at dksX0_isFunnier_2 4 rfl rfl)
theorem dX0_isFunnier_53 : decode cX0_isFunnier 53 = .ok (.if_icmp .lt 25, 3) := dk_161 0 25 (dk_at dksX0_isFunnier_2 7 rfl rfl)
theorem dX0_isFunnier_56 : decode cX0_isFunnier 56 = .ok (.aload_n 1, 1) := dk_43 (dk_at dksX0_isFunnier_2 10 rfl rfl)
theorem dX0_isFunnier_57 : decode cX0_isFunnier 57 = .ok (.getfield 130, 3) := dk_180 0 130 (dk_at dksX0_isFunnier_2 11 rfl rfl)
theorem dX0_isFunnier_60 : decode cX0_isFunnier 60 = .ok (.aload_n 2, 1) := dk_44 (dk_at dksX0_isFunnier_2 14 rfl rfl)
theorem dX0_isFunnier_61 : decode cX0_isFunnier 61 = .ok (.getfield 130, 3) := dk_180 0 130 (dk_at dksX0_isFunnier_2 15 rfl rfl)
theorem dX0_isFunnier_64 : decode cX0_isFunnier 64 = .ok (.if_icmp .ne 18, 3) := dk_160 0 18 (dk_at dksX0_isFunnier_2 18 rfl rfl)
theorem dX0_isFunnier_67 : decode cX0_isFunnier 67 = .ok (.aload_n 1, 1) := dk_43 (dk_at dksX0_isFunnier_2 21 rfl rfl)
theorem dX0_isFunnier_68 : decode cX0_isFunnier 68 = .ok (.getfield 223, 3) := dk_180 0 223 (dk_at dksX0_isFunnier_3 0 rfl rfl)
theorem dX0_isFunnier_71 : decode cX0_isFunnier 71 = .ok (.aload_n 2, 1) := dk_44 (dk_at dksX0_isFunnier_3 3 rfl rfl)
theorem dX0_isFunnier_72 : decode cX0_isFunnier 72 = .ok (.getfield 223, 3) := dk_180 0 223 (dk_at dksX0_isFunnier_3 4 rfl rfl)
theorem dX0_isFunnier_75 : decode cX0_isFunnier 75 = .ok (.if_icmp .ge 7, 3) := dk_162 0 7 (dk_at dksX0_isFunnier_3 7 rfl rfl)
theorem dX0_isFunnier_78 : decode cX0_isFunnier 78 = .ok (.iconst 1, 1) := dk_4 (dk_at dksX0_isFunnier_3 10 rfl rfl)
theorem dX0_isFunnier_79 : decode cX0_isFunnier 79 = .ok (.goto 4, 3) := dk_167 0 4 (dk_at dksX0_isFunnier_3 11 rfl rfl)
theorem dX0_isFunnier_82 : decode cX0_isFunnier 82 = .ok (.iconst 0, 1) := dk_3 (dk_at dksX0_isFunnier_3 14 rfl rfl)
theorem dX0_isFunnier_83 : decode cX0_isFunnier 83 = .ok (.ireturn, 1) := dk_172 (dk_at dksX0_isFunnier_3 15 rfl rfl)
abbrev cX0_needs : ByteArray := prog_1_method_10_code
def yX0_needs : MethodName := ⟨RX0, "needs", "(ZII)V"⟩
def dkwX0_needs_0 : List UInt8 := [26, 154, 0, 13, 187, 0, 11, 89, 27, 28, 183, 0, 13, 191, 177]
abbrev dktX0_needs_0 : List UInt8 := dkwX0_needs_0 ++ []
theorem dksX0_needs_0 : cX0_needs.data.toList.drop 0 = dktX0_needs_0 := by decide +kernel
theorem dX0_needs_0 : decode cX0_needs 0 = .ok (.iload_n 0, 1) := dk_26 (dk_at dksX0_needs_0 0 rfl rfl)
theorem dX0_needs_1 : decode cX0_needs 1 = .ok (.ifCond .ne 13, 3) := dk_154 0 13 (dk_at dksX0_needs_0 1 rfl rfl)
theorem dX0_needs_4 : decode cX0_needs 4 = .ok (.new 11, 3) := dk_187 0 11 (dk_at dksX0_needs_0 4 rfl rfl)
theorem dX0_needs_7 : decode cX0_needs 7 = .ok (.dup, 1) := dk_89 (dk_at dksX0_needs_0 7 rfl rfl)
theorem dX0_needs_8 : decode cX0_needs 8 = .ok (.iload_n 1, 1) := dk_27 (dk_at dksX0_needs_0 8 rfl rfl)
theorem dX0_needs_9 : decode cX0_needs 9 = .ok (.iload_n 2, 1) := dk_28 (dk_at dksX0_needs_0 9 rfl rfl)
theorem dX0_needs_10 : decode cX0_needs 10 = .ok (.invokespecial 13, 3) := dk_183 0 13 (dk_at dksX0_needs_0 10 rfl rfl)
theorem dX0_needs_13 : decode cX0_needs 13 = .ok (.athrow, 1) := dk_191 (dk_at dksX0_needs_0 13 rfl rfl)
theorem dX0_needs_14 : decode cX0_needs 14 = .ok (.return_, 1) := dk_177 (dk_at dksX0_needs_0 14 rfl rfl)
abbrev cX0_bit : ByteArray := prog_1_method_2_code
def yX0_bit : MethodName := ⟨RX0, "bit", "(Z)I"⟩
def dkwX0_bit_0 : List UInt8 := [26, 153, 0, 7, 4, 167, 0, 4, 3, 172]
abbrev dktX0_bit_0 : List UInt8 := dkwX0_bit_0 ++ []
theorem dksX0_bit_0 : cX0_bit.data.toList.drop 0 = dktX0_bit_0 := by decide +kernel
theorem dX0_bit_0 : decode cX0_bit 0 = .ok (.iload_n 0, 1) := dk_26 (dk_at dksX0_bit_0 0 rfl rfl)
theorem dX0_bit_1 : decode cX0_bit 1 = .ok (.ifCond .eq 7, 3) := dk_153 0 7 (dk_at dksX0_bit_0 1 rfl rfl)
theorem dX0_bit_4 : decode cX0_bit 4 = .ok (.iconst 1, 1) := dk_4 (dk_at dksX0_bit_0 4 rfl rfl)
theorem dX0_bit_5 : decode cX0_bit 5 = .ok (.goto 4, 3) := dk_167 0 4 (dk_at dksX0_bit_0 5 rfl rfl)
theorem dX0_bit_8 : decode cX0_bit 8 = .ok (.iconst 0, 1) := dk_3 (dk_at dksX0_bit_0 8 rfl rfl)
theorem dX0_bit_9 : decode cX0_bit 9 = .ok (.ireturn, 1) := dk_172 (dk_at dksX0_bit_0 9 rfl rfl)
abbrev cX0_doesAll : ByteArray := prog_1_method_52_code
def yX0_doesAll : MethodName := ⟨RX0, "doesAll", "(LJokePump$Pump;Ljava/util/ArrayList;)I"⟩
def dkwX0_doesAll_3 : List UInt8 := [28, 172]
abbrev dktX0_doesAll_3 : List UInt8 := dkwX0_doesAll_3 ++ []
def dkwX0_doesAll_2 : List UInt8 := [167, 0, 18, 58, 5, 187, 0, 11, 89, 16, 9, 28, 25, 5, 183, 1, 96, 191, 132, 2, 1, 167, 255, 198]
abbrev dktX0_doesAll_2 : List UInt8 := dkwX0_doesAll_2 ++ dktX0_doesAll_3
def dkwX0_doesAll_1 : List UInt8 := [192, 1, 82, 58, 4, 25, 4, 42, 182, 1, 84, 184, 1, 88, 25, 4, 42, 182, 1, 92, 54, 5]
abbrev dktX0_doesAll_1 : List UInt8 := dkwX0_doesAll_1 ++ dktX0_doesAll_2
def dkwX0_doesAll_0 : List UInt8 := [3, 61, 43, 182, 0, 255, 78, 45, 185, 0, 241, 1, 0, 153, 0, 55, 45, 185, 0, 247, 1, 0]
abbrev dktX0_doesAll_0 : List UInt8 := dkwX0_doesAll_0 ++ dktX0_doesAll_1
theorem dksX0_doesAll_0 : cX0_doesAll.data.toList.drop 0 = dktX0_doesAll_0 := by decide +kernel
theorem dksX0_doesAll_1 : cX0_doesAll.data.toList.drop 22 = dktX0_doesAll_1 := dk_seg dksX0_doesAll_0 22 rfl rfl
theorem dksX0_doesAll_2 : cX0_doesAll.data.toList.drop 44 = dktX0_doesAll_2 := dk_seg dksX0_doesAll_1 22 rfl rfl
theorem dksX0_doesAll_3 : cX0_doesAll.data.toList.drop 68 = dktX0_doesAll_3 := dk_seg dksX0_doesAll_2 24 rfl rfl
theorem dX0_doesAll_0 : decode cX0_doesAll 0 = .ok (.iconst 0, 1) := dk_3 (dk_at dksX0_doesAll_0 0 rfl rfl)
theorem dX0_doesAll_1 : decode cX0_doesAll 1 = .ok (.istore_n 2, 1) := dk_61 (dk_at dksX0_doesAll_0 1 rfl rfl)
theorem dX0_doesAll_2 : decode cX0_doesAll 2 = .ok (.aload_n 1, 1) := dk_43 (dk_at dksX0_doesAll_0 2 rfl rfl)
theorem dX0_doesAll_3 : decode cX0_doesAll 3 = .ok (.invokevirtual 255, 3) := dk_182 0 255 (dk_at dksX0_doesAll_0 3 rfl rfl)
theorem dX0_doesAll_6 : decode cX0_doesAll 6 = .ok (.astore_n 3, 1) := dk_78 (dk_at dksX0_doesAll_0 6 rfl rfl)
theorem dX0_doesAll_7 : decode cX0_doesAll 7 = .ok (.aload_n 3, 1) := dk_45 (dk_at dksX0_doesAll_0 7 rfl rfl)
theorem dX0_doesAll_8 : decode cX0_doesAll 8 = .ok (.invokeinterface 241 1, 5) := by decide +kernel
theorem dX0_doesAll_13 : decode cX0_doesAll 13 = .ok (.ifCond .eq 55, 3) := dk_153 0 55 (dk_at dksX0_doesAll_0 13 rfl rfl)
theorem dX0_doesAll_16 : decode cX0_doesAll 16 = .ok (.aload_n 3, 1) := dk_45 (dk_at dksX0_doesAll_0 16 rfl rfl)
theorem dX0_doesAll_17 : decode cX0_doesAll 17 = .ok (.invokeinterface 247 1, 5) := by decide +kernel
theorem dX0_doesAll_22 : decode cX0_doesAll 22 = .ok (.checkcast 338, 3) := dk_192 1 82 (dk_at dksX0_doesAll_1 0 rfl rfl)
theorem dX0_doesAll_25 : decode cX0_doesAll 25 = .ok (.astore 4, 2) := dk_58 4 (dk_at dksX0_doesAll_1 3 rfl rfl)
theorem dX0_doesAll_27 : decode cX0_doesAll 27 = .ok (.aload 4, 2) := dk_25 4 (dk_at dksX0_doesAll_1 5 rfl rfl)
theorem dX0_doesAll_29 : decode cX0_doesAll 29 = .ok (.aload_n 0, 1) := dk_42 (dk_at dksX0_doesAll_1 7 rfl rfl)
theorem dX0_doesAll_30 : decode cX0_doesAll 30 = .ok (.invokevirtual 340, 3) := dk_182 1 84 (dk_at dksX0_doesAll_1 8 rfl rfl)
theorem dX0_doesAll_33 : decode cX0_doesAll 33 = .ok (.invokestatic 344, 3) := dk_184 1 88 (dk_at dksX0_doesAll_1 11 rfl rfl)
theorem dX0_doesAll_36 : decode cX0_doesAll 36 = .ok (.aload 4, 2) := dk_25 4 (dk_at dksX0_doesAll_1 14 rfl rfl)
theorem dX0_doesAll_38 : decode cX0_doesAll 38 = .ok (.aload_n 0, 1) := dk_42 (dk_at dksX0_doesAll_1 16 rfl rfl)
theorem dX0_doesAll_39 : decode cX0_doesAll 39 = .ok (.invokevirtual 348, 3) := dk_182 1 92 (dk_at dksX0_doesAll_1 17 rfl rfl)
theorem dX0_doesAll_42 : decode cX0_doesAll 42 = .ok (.istore 5, 2) := dk_54 5 (dk_at dksX0_doesAll_1 20 rfl rfl)
theorem dX0_doesAll_44 : decode cX0_doesAll 44 = .ok (.goto 18, 3) := dk_167 0 18 (dk_at dksX0_doesAll_2 0 rfl rfl)
theorem dX0_doesAll_47 : decode cX0_doesAll 47 = .ok (.astore 5, 2) := dk_58 5 (dk_at dksX0_doesAll_2 3 rfl rfl)
theorem dX0_doesAll_49 : decode cX0_doesAll 49 = .ok (.new 11, 3) := dk_187 0 11 (dk_at dksX0_doesAll_2 5 rfl rfl)
theorem dX0_doesAll_52 : decode cX0_doesAll 52 = .ok (.dup, 1) := dk_89 (dk_at dksX0_doesAll_2 8 rfl rfl)
theorem dX0_doesAll_53 : decode cX0_doesAll 53 = .ok (.bipush 9, 2) := dk_16 9 (dk_at dksX0_doesAll_2 9 rfl rfl)
theorem dX0_doesAll_55 : decode cX0_doesAll 55 = .ok (.iload_n 2, 1) := dk_28 (dk_at dksX0_doesAll_2 11 rfl rfl)
theorem dX0_doesAll_56 : decode cX0_doesAll 56 = .ok (.aload 5, 2) := dk_25 5 (dk_at dksX0_doesAll_2 12 rfl rfl)
theorem dX0_doesAll_58 : decode cX0_doesAll 58 = .ok (.invokespecial 352, 3) := dk_183 1 96 (dk_at dksX0_doesAll_2 14 rfl rfl)
theorem dX0_doesAll_61 : decode cX0_doesAll 61 = .ok (.athrow, 1) := dk_191 (dk_at dksX0_doesAll_2 17 rfl rfl)
theorem dX0_doesAll_62 : decode cX0_doesAll 62 = .ok (.iinc 2 1, 3) := dk_132 2 1 (dk_at dksX0_doesAll_2 18 rfl rfl)
theorem dX0_doesAll_65 : decode cX0_doesAll 65 = .ok (.goto (-58), 3) := dk_167 255 198 (dk_at dksX0_doesAll_2 21 rfl rfl)
theorem dX0_doesAll_68 : decode cX0_doesAll 68 = .ok (.iload_n 2, 1) := dk_28 (dk_at dksX0_doesAll_3 0 rfl rfl)
theorem dX0_doesAll_69 : decode cX0_doesAll 69 = .ok (.ireturn, 1) := dk_172 (dk_at dksX0_doesAll_3 1 rfl rfl)
abbrev cX0_isDrain : ByteArray := prog_1_method_6_code
def yX0_isDrain : MethodName := ⟨RX0, "isDrain", "(I)Z"⟩
def dkwX0_isDrain_0 : List UInt8 := [26, 4, 16, 50, 184, 0, 3, 172]
abbrev dktX0_isDrain_0 : List UInt8 := dkwX0_isDrain_0 ++ []
theorem dksX0_isDrain_0 : cX0_isDrain.data.toList.drop 0 = dktX0_isDrain_0 := by decide +kernel
theorem dX0_isDrain_0 : decode cX0_isDrain 0 = .ok (.iload_n 0, 1) := dk_26 (dk_at dksX0_isDrain_0 0 rfl rfl)
theorem dX0_isDrain_1 : decode cX0_isDrain 1 = .ok (.iconst 1, 1) := dk_4 (dk_at dksX0_isDrain_0 1 rfl rfl)
theorem dX0_isDrain_2 : decode cX0_isDrain 2 = .ok (.bipush 50, 2) := dk_16 50 (dk_at dksX0_isDrain_0 2 rfl rfl)
theorem dX0_isDrain_4 : decode cX0_isDrain 4 = .ok (.invokestatic 3, 3) := dk_184 0 3 (dk_at dksX0_isDrain_0 4 rfl rfl)
theorem dX0_isDrain_7 : decode cX0_isDrain 7 = .ok (.ireturn, 1) := dk_172 (dk_at dksX0_isDrain_0 7 rfl rfl)
abbrev cX0_isStroke : ByteArray := prog_1_method_7_code
def yX0_isStroke : MethodName := ⟨RX0, "isStroke", "(I)Z"⟩
def dkwX0_isStroke_0 : List UInt8 := [26, 4, 16, 10, 184, 0, 3, 172]
abbrev dktX0_isStroke_0 : List UInt8 := dkwX0_isStroke_0 ++ []
theorem dksX0_isStroke_0 : cX0_isStroke.data.toList.drop 0 = dktX0_isStroke_0 := by decide +kernel
theorem dX0_isStroke_0 : decode cX0_isStroke 0 = .ok (.iload_n 0, 1) := dk_26 (dk_at dksX0_isStroke_0 0 rfl rfl)
theorem dX0_isStroke_1 : decode cX0_isStroke 1 = .ok (.iconst 1, 1) := dk_4 (dk_at dksX0_isStroke_0 1 rfl rfl)
theorem dX0_isStroke_2 : decode cX0_isStroke 2 = .ok (.bipush 10, 2) := dk_16 10 (dk_at dksX0_isStroke_0 2 rfl rfl)
theorem dX0_isStroke_4 : decode cX0_isStroke 4 = .ok (.invokestatic 3, 3) := dk_184 0 3 (dk_at dksX0_isStroke_0 4 rfl rfl)
theorem dX0_isStroke_7 : decode cX0_isStroke 7 = .ok (.ireturn, 1) := dk_172 (dk_at dksX0_isStroke_0 7 rfl rfl)
abbrev cX0_isBucket : ByteArray := prog_1_method_8_code
def yX0_isBucket : MethodName := ⟨RX0, "isBucket", "(I)Z"⟩
def dkwX0_isBucket_0 : List UInt8 := [26, 4, 8, 184, 0, 3, 172]
abbrev dktX0_isBucket_0 : List UInt8 := dkwX0_isBucket_0 ++ []
theorem dksX0_isBucket_0 : cX0_isBucket.data.toList.drop 0 = dktX0_isBucket_0 := by decide +kernel
theorem dX0_isBucket_0 : decode cX0_isBucket 0 = .ok (.iload_n 0, 1) := dk_26 (dk_at dksX0_isBucket_0 0 rfl rfl)
theorem dX0_isBucket_1 : decode cX0_isBucket 1 = .ok (.iconst 1, 1) := dk_4 (dk_at dksX0_isBucket_0 1 rfl rfl)
theorem dX0_isBucket_2 : decode cX0_isBucket 2 = .ok (.iconst 5, 1) := dk_8 (dk_at dksX0_isBucket_0 2 rfl rfl)
theorem dX0_isBucket_3 : decode cX0_isBucket 3 = .ok (.invokestatic 3, 3) := dk_184 0 3 (dk_at dksX0_isBucket_0 3 rfl rfl)
theorem dX0_isBucket_6 : decode cX0_isBucket 6 = .ok (.ireturn, 1) := dk_172 (dk_at dksX0_isBucket_0 6 rfl rfl)
abbrev cX0_areStrokes : ByteArray := prog_1_method_9_code
def yX0_areStrokes : MethodName := ⟨RX0, "areStrokes", "(I)Z"⟩
def dkwX0_areStrokes_0 : List UInt8 := [26, 4, 16, 9, 184, 0, 3, 172]
abbrev dktX0_areStrokes_0 : List UInt8 := dkwX0_areStrokes_0 ++ []
theorem dksX0_areStrokes_0 : cX0_areStrokes.data.toList.drop 0 = dktX0_areStrokes_0 := by decide +kernel
theorem dX0_areStrokes_0 : decode cX0_areStrokes 0 = .ok (.iload_n 0, 1) := dk_26 (dk_at dksX0_areStrokes_0 0 rfl rfl)
theorem dX0_areStrokes_1 : decode cX0_areStrokes 1 = .ok (.iconst 1, 1) := dk_4 (dk_at dksX0_areStrokes_0 1 rfl rfl)
theorem dX0_areStrokes_2 : decode cX0_areStrokes 2 = .ok (.bipush 9, 2) := dk_16 9 (dk_at dksX0_areStrokes_0 2 rfl rfl)
theorem dX0_areStrokes_4 : decode cX0_areStrokes 4 = .ok (.invokestatic 3, 3) := dk_184 0 3 (dk_at dksX0_areStrokes_0 4 rfl rfl)
theorem dX0_areStrokes_7 : decode cX0_areStrokes 7 = .ok (.ireturn, 1) := dk_172 (dk_at dksX0_areStrokes_0 7 rfl rfl)
abbrev cX0_inRange : ByteArray := prog_1_method_11_code
def yX0_inRange : MethodName := ⟨RX0, "inRange", "(Z)V"⟩
def dkwX0_inRange_0 : List UInt8 := [26, 154, 0, 11, 187, 0, 17, 89, 183, 0, 19, 191, 177]
abbrev dktX0_inRange_0 : List UInt8 := dkwX0_inRange_0 ++ []
theorem dksX0_inRange_0 : cX0_inRange.data.toList.drop 0 = dktX0_inRange_0 := by decide +kernel
theorem dX0_inRange_0 : decode cX0_inRange 0 = .ok (.iload_n 0, 1) := dk_26 (dk_at dksX0_inRange_0 0 rfl rfl)
theorem dX0_inRange_1 : decode cX0_inRange 1 = .ok (.ifCond .ne 11, 3) := dk_154 0 11 (dk_at dksX0_inRange_0 1 rfl rfl)
theorem dX0_inRange_4 : decode cX0_inRange 4 = .ok (.new 17, 3) := dk_187 0 17 (dk_at dksX0_inRange_0 4 rfl rfl)
theorem dX0_inRange_7 : decode cX0_inRange 7 = .ok (.dup, 1) := dk_89 (dk_at dksX0_inRange_0 7 rfl rfl)
theorem dX0_inRange_8 : decode cX0_inRange 8 = .ok (.invokespecial 19, 3) := dk_183 0 19 (dk_at dksX0_inRange_0 8 rfl rfl)
theorem dX0_inRange_11 : decode cX0_inRange 11 = .ok (.athrow, 1) := dk_191 (dk_at dksX0_inRange_0 11 rfl rfl)
theorem dX0_inRange_12 : decode cX0_inRange 12 = .ok (.return_, 1) := dk_177 (dk_at dksX0_inRange_0 12 rfl rfl)
abbrev cX0_prime : ByteArray := prog_1_method_14_code
def yX0_prime : MethodName := ⟨RX0, "prime", "(I)I"⟩
def dkwX0_prime_0 : List UInt8 := [187, 0, 68, 89, 42, 27, 183, 0, 70, 42, 180, 0, 28, 27, 182, 0, 73, 4, 182, 0, 76, 172]
abbrev dktX0_prime_0 : List UInt8 := dkwX0_prime_0 ++ []
theorem dksX0_prime_0 : cX0_prime.data.toList.drop 0 = dktX0_prime_0 := by decide +kernel
theorem dX0_prime_0 : decode cX0_prime 0 = .ok (.new 68, 3) := dk_187 0 68 (dk_at dksX0_prime_0 0 rfl rfl)
theorem dX0_prime_3 : decode cX0_prime 3 = .ok (.dup, 1) := dk_89 (dk_at dksX0_prime_0 3 rfl rfl)
theorem dX0_prime_4 : decode cX0_prime 4 = .ok (.aload_n 0, 1) := dk_42 (dk_at dksX0_prime_0 4 rfl rfl)
theorem dX0_prime_5 : decode cX0_prime 5 = .ok (.iload_n 1, 1) := dk_27 (dk_at dksX0_prime_0 5 rfl rfl)
theorem dX0_prime_6 : decode cX0_prime 6 = .ok (.invokespecial 70, 3) := dk_183 0 70 (dk_at dksX0_prime_0 6 rfl rfl)
theorem dX0_prime_9 : decode cX0_prime 9 = .ok (.aload_n 0, 1) := dk_42 (dk_at dksX0_prime_0 9 rfl rfl)
theorem dX0_prime_10 : decode cX0_prime 10 = .ok (.getfield 28, 3) := dk_180 0 28 (dk_at dksX0_prime_0 10 rfl rfl)
theorem dX0_prime_13 : decode cX0_prime 13 = .ok (.iload_n 1, 1) := dk_27 (dk_at dksX0_prime_0 13 rfl rfl)
theorem dX0_prime_14 : decode cX0_prime 14 = .ok (.invokevirtual 73, 3) := dk_182 0 73 (dk_at dksX0_prime_0 14 rfl rfl)
theorem dX0_prime_17 : decode cX0_prime 17 = .ok (.iconst 1, 1) := dk_4 (dk_at dksX0_prime_0 17 rfl rfl)
theorem dX0_prime_18 : decode cX0_prime 18 = .ok (.invokevirtual 76, 3) := dk_182 0 76 (dk_at dksX0_prime_0 18 rfl rfl)
theorem dX0_prime_21 : decode cX0_prime 21 = .ok (.ireturn, 1) := dk_172 (dk_at dksX0_prime_0 21 rfl rfl)
abbrev cX0_drop : ByteArray := prog_1_method_15_code
def yX0_drop : MethodName := ⟨RX0, "drop", "(I)I"⟩
def dkwX0_drop_0 : List UInt8 := [187, 0, 77, 89, 42, 27, 183, 0, 79, 42, 180, 0, 28, 27, 182, 0, 73, 4, 182, 0, 80, 172]
abbrev dktX0_drop_0 : List UInt8 := dkwX0_drop_0 ++ []
theorem dksX0_drop_0 : cX0_drop.data.toList.drop 0 = dktX0_drop_0 := by decide +kernel
theorem dX0_drop_0 : decode cX0_drop 0 = .ok (.new 77, 3) := dk_187 0 77 (dk_at dksX0_drop_0 0 rfl rfl)
theorem dX0_drop_3 : decode cX0_drop 3 = .ok (.dup, 1) := dk_89 (dk_at dksX0_drop_0 3 rfl rfl)
theorem dX0_drop_4 : decode cX0_drop 4 = .ok (.aload_n 0, 1) := dk_42 (dk_at dksX0_drop_0 4 rfl rfl)
theorem dX0_drop_5 : decode cX0_drop 5 = .ok (.iload_n 1, 1) := dk_27 (dk_at dksX0_drop_0 5 rfl rfl)
theorem dX0_drop_6 : decode cX0_drop 6 = .ok (.invokespecial 79, 3) := dk_183 0 79 (dk_at dksX0_drop_0 6 rfl rfl)
theorem dX0_drop_9 : decode cX0_drop 9 = .ok (.aload_n 0, 1) := dk_42 (dk_at dksX0_drop_0 9 rfl rfl)
theorem dX0_drop_10 : decode cX0_drop 10 = .ok (.getfield 28, 3) := dk_180 0 28 (dk_at dksX0_drop_0 10 rfl rfl)
theorem dX0_drop_13 : decode cX0_drop 13 = .ok (.iload_n 1, 1) := dk_27 (dk_at dksX0_drop_0 13 rfl rfl)
theorem dX0_drop_14 : decode cX0_drop 14 = .ok (.invokevirtual 73, 3) := dk_182 0 73 (dk_at dksX0_drop_0 14 rfl rfl)
theorem dX0_drop_17 : decode cX0_drop 17 = .ok (.iconst 1, 1) := dk_4 (dk_at dksX0_drop_0 17 rfl rfl)
theorem dX0_drop_18 : decode cX0_drop 18 = .ok (.invokevirtual 80, 3) := dk_182 0 80 (dk_at dksX0_drop_0 18 rfl rfl)
theorem dX0_drop_21 : decode cX0_drop 21 = .ok (.ireturn, 1) := dk_172 (dk_at dksX0_drop_0 21 rfl rfl)
abbrev cX0_drain : ByteArray := prog_1_method_16_code
def yX0_drain : MethodName := ⟨RX0, "drain", "(I)I"⟩
def dkwX0_drain_0 : List UInt8 := [187, 0, 81, 89, 42, 27, 183, 0, 83, 4, 27, 184, 0, 84, 182, 0, 87, 172]
abbrev dktX0_drain_0 : List UInt8 := dkwX0_drain_0 ++ []
theorem dksX0_drain_0 : cX0_drain.data.toList.drop 0 = dktX0_drain_0 := by decide +kernel
theorem dX0_drain_0 : decode cX0_drain 0 = .ok (.new 81, 3) := dk_187 0 81 (dk_at dksX0_drain_0 0 rfl rfl)
theorem dX0_drain_3 : decode cX0_drain 3 = .ok (.dup, 1) := dk_89 (dk_at dksX0_drain_0 3 rfl rfl)
theorem dX0_drain_4 : decode cX0_drain 4 = .ok (.aload_n 0, 1) := dk_42 (dk_at dksX0_drain_0 4 rfl rfl)
theorem dX0_drain_5 : decode cX0_drain 5 = .ok (.iload_n 1, 1) := dk_27 (dk_at dksX0_drain_0 5 rfl rfl)
theorem dX0_drain_6 : decode cX0_drain 6 = .ok (.invokespecial 83, 3) := dk_183 0 83 (dk_at dksX0_drain_0 6 rfl rfl)
theorem dX0_drain_9 : decode cX0_drain 9 = .ok (.iconst 1, 1) := dk_4 (dk_at dksX0_drain_0 9 rfl rfl)
theorem dX0_drain_10 : decode cX0_drain 10 = .ok (.iload_n 1, 1) := dk_27 (dk_at dksX0_drain_0 10 rfl rfl)
theorem dX0_drain_11 : decode cX0_drain 11 = .ok (.invokestatic 84, 3) := dk_184 0 84 (dk_at dksX0_drain_0 11 rfl rfl)
theorem dX0_drain_14 : decode cX0_drain 14 = .ok (.invokevirtual 87, 3) := dk_182 0 87 (dk_at dksX0_drain_0 14 rfl rfl)
theorem dX0_drain_17 : decode cX0_drain 17 = .ok (.ireturn, 1) := dk_172 (dk_at dksX0_drain_0 17 rfl rfl)
abbrev cX0_stroke : ByteArray := prog_1_method_17_code
def yX0_stroke : MethodName := ⟨RX0, "stroke", "(I)I"⟩
def dkwX0_stroke_0 : List UInt8 := [187, 0, 88, 89, 42, 27, 183, 0, 90, 4, 27, 184, 0, 91, 182, 0, 94, 172]
abbrev dktX0_stroke_0 : List UInt8 := dkwX0_stroke_0 ++ []
theorem dksX0_stroke_0 : cX0_stroke.data.toList.drop 0 = dktX0_stroke_0 := by decide +kernel
theorem dX0_stroke_0 : decode cX0_stroke 0 = .ok (.new 88, 3) := dk_187 0 88 (dk_at dksX0_stroke_0 0 rfl rfl)
theorem dX0_stroke_3 : decode cX0_stroke 3 = .ok (.dup, 1) := dk_89 (dk_at dksX0_stroke_0 3 rfl rfl)
theorem dX0_stroke_4 : decode cX0_stroke 4 = .ok (.aload_n 0, 1) := dk_42 (dk_at dksX0_stroke_0 4 rfl rfl)
theorem dX0_stroke_5 : decode cX0_stroke 5 = .ok (.iload_n 1, 1) := dk_27 (dk_at dksX0_stroke_0 5 rfl rfl)
theorem dX0_stroke_6 : decode cX0_stroke 6 = .ok (.invokespecial 90, 3) := dk_183 0 90 (dk_at dksX0_stroke_0 6 rfl rfl)
theorem dX0_stroke_9 : decode cX0_stroke 9 = .ok (.iconst 1, 1) := dk_4 (dk_at dksX0_stroke_0 9 rfl rfl)
theorem dX0_stroke_10 : decode cX0_stroke 10 = .ok (.iload_n 1, 1) := dk_27 (dk_at dksX0_stroke_0 10 rfl rfl)
theorem dX0_stroke_11 : decode cX0_stroke 11 = .ok (.invokestatic 91, 3) := dk_184 0 91 (dk_at dksX0_stroke_0 11 rfl rfl)
theorem dX0_stroke_14 : decode cX0_stroke 14 = .ok (.invokevirtual 94, 3) := dk_182 0 94 (dk_at dksX0_stroke_0 14 rfl rfl)
theorem dX0_stroke_17 : decode cX0_stroke 17 = .ok (.ireturn, 1) := dk_172 (dk_at dksX0_stroke_0 17 rfl rfl)
abbrev cX0_bucket : ByteArray := prog_1_method_18_code
def yX0_bucket : MethodName := ⟨RX0, "bucket", "(II)I"⟩
def dkwX0_bucket_0 : List UInt8 := [187, 0, 95, 89, 42, 27, 28, 183, 0, 97, 27, 184, 0, 58, 28, 184, 0, 100, 182, 0, 103, 172]
abbrev dktX0_bucket_0 : List UInt8 := dkwX0_bucket_0 ++ []
theorem dksX0_bucket_0 : cX0_bucket.data.toList.drop 0 = dktX0_bucket_0 := by decide +kernel
theorem dX0_bucket_0 : decode cX0_bucket 0 = .ok (.new 95, 3) := dk_187 0 95 (dk_at dksX0_bucket_0 0 rfl rfl)
theorem dX0_bucket_3 : decode cX0_bucket 3 = .ok (.dup, 1) := dk_89 (dk_at dksX0_bucket_0 3 rfl rfl)
theorem dX0_bucket_4 : decode cX0_bucket 4 = .ok (.aload_n 0, 1) := dk_42 (dk_at dksX0_bucket_0 4 rfl rfl)
theorem dX0_bucket_5 : decode cX0_bucket 5 = .ok (.iload_n 1, 1) := dk_27 (dk_at dksX0_bucket_0 5 rfl rfl)
theorem dX0_bucket_6 : decode cX0_bucket 6 = .ok (.iload_n 2, 1) := dk_28 (dk_at dksX0_bucket_0 6 rfl rfl)
theorem dX0_bucket_7 : decode cX0_bucket 7 = .ok (.invokespecial 97, 3) := dk_183 0 97 (dk_at dksX0_bucket_0 7 rfl rfl)
theorem dX0_bucket_10 : decode cX0_bucket 10 = .ok (.iload_n 1, 1) := dk_27 (dk_at dksX0_bucket_0 10 rfl rfl)
theorem dX0_bucket_11 : decode cX0_bucket 11 = .ok (.invokestatic 58, 3) := dk_184 0 58 (dk_at dksX0_bucket_0 11 rfl rfl)
theorem dX0_bucket_14 : decode cX0_bucket 14 = .ok (.iload_n 2, 1) := dk_28 (dk_at dksX0_bucket_0 14 rfl rfl)
theorem dX0_bucket_15 : decode cX0_bucket 15 = .ok (.invokestatic 100, 3) := dk_184 0 100 (dk_at dksX0_bucket_0 15 rfl rfl)
theorem dX0_bucket_18 : decode cX0_bucket 18 = .ok (.invokevirtual 103, 3) := dk_182 0 103 (dk_at dksX0_bucket_0 18 rfl rfl)
theorem dX0_bucket_21 : decode cX0_bucket 21 = .ok (.ireturn, 1) := dk_172 (dk_at dksX0_bucket_0 21 rfl rfl)
abbrev cX0_go : ByteArray := prog_1_method_19_code
def yX0_go : MethodName := ⟨RX0, "go", "(I)I"⟩
def dkwX0_go_0 : List UInt8 := [187, 0, 104, 89, 42, 27, 183, 0, 106, 27, 184, 0, 58, 4, 182, 0, 107, 172]
abbrev dktX0_go_0 : List UInt8 := dkwX0_go_0 ++ []
theorem dksX0_go_0 : cX0_go.data.toList.drop 0 = dktX0_go_0 := by decide +kernel
theorem dX0_go_0 : decode cX0_go 0 = .ok (.new 104, 3) := dk_187 0 104 (dk_at dksX0_go_0 0 rfl rfl)
theorem dX0_go_3 : decode cX0_go 3 = .ok (.dup, 1) := dk_89 (dk_at dksX0_go_0 3 rfl rfl)
theorem dX0_go_4 : decode cX0_go 4 = .ok (.aload_n 0, 1) := dk_42 (dk_at dksX0_go_0 4 rfl rfl)
theorem dX0_go_5 : decode cX0_go 5 = .ok (.iload_n 1, 1) := dk_27 (dk_at dksX0_go_0 5 rfl rfl)
theorem dX0_go_6 : decode cX0_go 6 = .ok (.invokespecial 106, 3) := dk_183 0 106 (dk_at dksX0_go_0 6 rfl rfl)
theorem dX0_go_9 : decode cX0_go 9 = .ok (.iload_n 1, 1) := dk_27 (dk_at dksX0_go_0 9 rfl rfl)
theorem dX0_go_10 : decode cX0_go 10 = .ok (.invokestatic 58, 3) := dk_184 0 58 (dk_at dksX0_go_0 10 rfl rfl)
theorem dX0_go_13 : decode cX0_go 13 = .ok (.iconst 1, 1) := dk_4 (dk_at dksX0_go_0 13 rfl rfl)
theorem dX0_go_14 : decode cX0_go 14 = .ok (.invokevirtual 107, 3) := dk_182 0 107 (dk_at dksX0_go_0 14 rfl rfl)
theorem dX0_go_17 : decode cX0_go 17 = .ok (.ireturn, 1) := dk_172 (dk_at dksX0_go_0 17 rfl rfl)
abbrev cX0_pump : ByteArray := prog_1_method_20_code
def yX0_pump : MethodName := ⟨RX0, "pump", "(I)I"⟩
def dkwX0_pump_0 : List UInt8 := [187, 0, 108, 89, 42, 27, 183, 0, 110, 4, 27, 184, 0, 111, 182, 0, 114, 172]
abbrev dktX0_pump_0 : List UInt8 := dkwX0_pump_0 ++ []
theorem dksX0_pump_0 : cX0_pump.data.toList.drop 0 = dktX0_pump_0 := by decide +kernel
theorem dX0_pump_0 : decode cX0_pump 0 = .ok (.new 108, 3) := dk_187 0 108 (dk_at dksX0_pump_0 0 rfl rfl)
theorem dX0_pump_3 : decode cX0_pump 3 = .ok (.dup, 1) := dk_89 (dk_at dksX0_pump_0 3 rfl rfl)
theorem dX0_pump_4 : decode cX0_pump 4 = .ok (.aload_n 0, 1) := dk_42 (dk_at dksX0_pump_0 4 rfl rfl)
theorem dX0_pump_5 : decode cX0_pump 5 = .ok (.iload_n 1, 1) := dk_27 (dk_at dksX0_pump_0 5 rfl rfl)
theorem dX0_pump_6 : decode cX0_pump 6 = .ok (.invokespecial 110, 3) := dk_183 0 110 (dk_at dksX0_pump_0 6 rfl rfl)
theorem dX0_pump_9 : decode cX0_pump 9 = .ok (.iconst 1, 1) := dk_4 (dk_at dksX0_pump_0 9 rfl rfl)
theorem dX0_pump_10 : decode cX0_pump 10 = .ok (.iload_n 1, 1) := dk_27 (dk_at dksX0_pump_0 10 rfl rfl)
theorem dX0_pump_11 : decode cX0_pump 11 = .ok (.invokestatic 111, 3) := dk_184 0 111 (dk_at dksX0_pump_0 11 rfl rfl)
theorem dX0_pump_14 : decode cX0_pump 14 = .ok (.invokevirtual 114, 3) := dk_182 0 114 (dk_at dksX0_pump_0 14 rfl rfl)
theorem dX0_pump_17 : decode cX0_pump 17 = .ok (.ireturn, 1) := dk_172 (dk_at dksX0_pump_0 17 rfl rfl)
abbrev cX0_jokeOf : ByteArray := prog_1_method_21_code
def yX0_jokeOf : MethodName := ⟨RX0, "jokeOf", "(II)I"⟩
def dkwX0_jokeOf_4 : List UInt8 := [184, 0, 143, 172, 42, 180, 0, 28, 45, 182, 0, 147, 172, 16, 254, 172]
abbrev dktX0_jokeOf_4 : List UInt8 := dkwX0_jokeOf_4 ++ []
def dkwX0_jokeOf_3 : List UInt8 := [45, 180, 0, 127, 172, 45, 180, 0, 130, 172, 45, 180, 0, 133, 172, 45, 180, 0, 136, 172, 45, 180, 0, 139]
abbrev dktX0_jokeOf_3 : List UInt8 := dkwX0_jokeOf_3 ++ dktX0_jokeOf_4
def dkwX0_jokeOf_2 : List UInt8 := [170, 0, 0, 0, 0, 0, 76, 0, 0, 0, 0, 0, 0, 0, 5, 0, 0, 0, 39, 0, 0, 0, 44, 0, 0, 0, 49, 0, 0, 0, 54, 0, 0, 0, 59, 0, 0, 0, 67]
abbrev dktX0_jokeOf_2 : List UInt8 := dkwX0_jokeOf_2 ++ dktX0_jokeOf_3
def dkwX0_jokeOf_1 : List UInt8 := [192, 0, 125, 78, 28]
abbrev dktX0_jokeOf_1 : List UInt8 := dkwX0_jokeOf_1 ++ dktX0_jokeOf_2
def dkwX0_jokeOf_0 : List UInt8 := [42, 180, 0, 28, 27, 182, 0, 73, 154, 0, 5, 2, 172, 42, 180, 0, 28, 180, 0, 115, 27, 182, 0, 119]
abbrev dktX0_jokeOf_0 : List UInt8 := dkwX0_jokeOf_0 ++ dktX0_jokeOf_1
theorem dksX0_jokeOf_0 : cX0_jokeOf.data.toList.drop 0 = dktX0_jokeOf_0 := by decide +kernel
theorem dksX0_jokeOf_1 : cX0_jokeOf.data.toList.drop 24 = dktX0_jokeOf_1 := dk_seg dksX0_jokeOf_0 24 rfl rfl
theorem dksX0_jokeOf_2 : cX0_jokeOf.data.toList.drop 29 = dktX0_jokeOf_2 := dk_seg dksX0_jokeOf_1 5 rfl rfl
theorem dksX0_jokeOf_3 : cX0_jokeOf.data.toList.drop 68 = dktX0_jokeOf_3 := dk_seg dksX0_jokeOf_2 39 rfl rfl
theorem dksX0_jokeOf_4 : cX0_jokeOf.data.toList.drop 92 = dktX0_jokeOf_4 := dk_seg dksX0_jokeOf_3 24 rfl rfl
theorem dX0_jokeOf_0 : decode cX0_jokeOf 0 = .ok (.aload_n 0, 1) := dk_42 (dk_at dksX0_jokeOf_0 0 rfl rfl)
theorem dX0_jokeOf_1 : decode cX0_jokeOf 1 = .ok (.getfield 28, 3) := dk_180 0 28 (dk_at dksX0_jokeOf_0 1 rfl rfl)
theorem dX0_jokeOf_4 : decode cX0_jokeOf 4 = .ok (.iload_n 1, 1) := dk_27 (dk_at dksX0_jokeOf_0 4 rfl rfl)
theorem dX0_jokeOf_5 : decode cX0_jokeOf 5 = .ok (.invokevirtual 73, 3) := dk_182 0 73 (dk_at dksX0_jokeOf_0 5 rfl rfl)
theorem dX0_jokeOf_8 : decode cX0_jokeOf 8 = .ok (.ifCond .ne 5, 3) := dk_154 0 5 (dk_at dksX0_jokeOf_0 8 rfl rfl)
theorem dX0_jokeOf_11 : decode cX0_jokeOf 11 = .ok (.iconst (-1), 1) := dk_2 (dk_at dksX0_jokeOf_0 11 rfl rfl)
theorem dX0_jokeOf_12 : decode cX0_jokeOf 12 = .ok (.ireturn, 1) := dk_172 (dk_at dksX0_jokeOf_0 12 rfl rfl)
theorem dX0_jokeOf_13 : decode cX0_jokeOf 13 = .ok (.aload_n 0, 1) := dk_42 (dk_at dksX0_jokeOf_0 13 rfl rfl)
theorem dX0_jokeOf_14 : decode cX0_jokeOf 14 = .ok (.getfield 28, 3) := dk_180 0 28 (dk_at dksX0_jokeOf_0 14 rfl rfl)
theorem dX0_jokeOf_17 : decode cX0_jokeOf 17 = .ok (.getfield 115, 3) := dk_180 0 115 (dk_at dksX0_jokeOf_0 17 rfl rfl)
theorem dX0_jokeOf_20 : decode cX0_jokeOf 20 = .ok (.iload_n 1, 1) := dk_27 (dk_at dksX0_jokeOf_0 20 rfl rfl)
theorem dX0_jokeOf_21 : decode cX0_jokeOf 21 = .ok (.invokevirtual 119, 3) := dk_182 0 119 (dk_at dksX0_jokeOf_0 21 rfl rfl)
theorem dX0_jokeOf_24 : decode cX0_jokeOf 24 = .ok (.checkcast 125, 3) := dk_192 0 125 (dk_at dksX0_jokeOf_1 0 rfl rfl)
theorem dX0_jokeOf_27 : decode cX0_jokeOf 27 = .ok (.astore_n 3, 1) := dk_78 (dk_at dksX0_jokeOf_1 3 rfl rfl)
theorem dX0_jokeOf_28 : decode cX0_jokeOf 28 = .ok (.iload_n 2, 1) := dk_28 (dk_at dksX0_jokeOf_1 4 rfl rfl)
theorem dX0_jokeOf_29 : decode cX0_jokeOf 29 = .ok (.tableswitch 76 0 5 #[39, 44, 49, 54, 59, 67], 39) := by decide +kernel
theorem dX0_jokeOf_68 : decode cX0_jokeOf 68 = .ok (.aload_n 3, 1) := dk_45 (dk_at dksX0_jokeOf_3 0 rfl rfl)
theorem dX0_jokeOf_69 : decode cX0_jokeOf 69 = .ok (.getfield 127, 3) := dk_180 0 127 (dk_at dksX0_jokeOf_3 1 rfl rfl)
theorem dX0_jokeOf_72 : decode cX0_jokeOf 72 = .ok (.ireturn, 1) := dk_172 (dk_at dksX0_jokeOf_3 4 rfl rfl)
theorem dX0_jokeOf_73 : decode cX0_jokeOf 73 = .ok (.aload_n 3, 1) := dk_45 (dk_at dksX0_jokeOf_3 5 rfl rfl)
theorem dX0_jokeOf_74 : decode cX0_jokeOf 74 = .ok (.getfield 130, 3) := dk_180 0 130 (dk_at dksX0_jokeOf_3 6 rfl rfl)
theorem dX0_jokeOf_77 : decode cX0_jokeOf 77 = .ok (.ireturn, 1) := dk_172 (dk_at dksX0_jokeOf_3 9 rfl rfl)
theorem dX0_jokeOf_78 : decode cX0_jokeOf 78 = .ok (.aload_n 3, 1) := dk_45 (dk_at dksX0_jokeOf_3 10 rfl rfl)
theorem dX0_jokeOf_79 : decode cX0_jokeOf 79 = .ok (.getfield 133, 3) := dk_180 0 133 (dk_at dksX0_jokeOf_3 11 rfl rfl)
theorem dX0_jokeOf_82 : decode cX0_jokeOf 82 = .ok (.ireturn, 1) := dk_172 (dk_at dksX0_jokeOf_3 14 rfl rfl)
theorem dX0_jokeOf_83 : decode cX0_jokeOf 83 = .ok (.aload_n 3, 1) := dk_45 (dk_at dksX0_jokeOf_3 15 rfl rfl)
theorem dX0_jokeOf_84 : decode cX0_jokeOf 84 = .ok (.getfield 136, 3) := dk_180 0 136 (dk_at dksX0_jokeOf_3 16 rfl rfl)
theorem dX0_jokeOf_87 : decode cX0_jokeOf 87 = .ok (.ireturn, 1) := dk_172 (dk_at dksX0_jokeOf_3 19 rfl rfl)
theorem dX0_jokeOf_88 : decode cX0_jokeOf 88 = .ok (.aload_n 3, 1) := dk_45 (dk_at dksX0_jokeOf_3 20 rfl rfl)
theorem dX0_jokeOf_89 : decode cX0_jokeOf 89 = .ok (.getfield 139, 3) := dk_180 0 139 (dk_at dksX0_jokeOf_3 21 rfl rfl)
theorem dX0_jokeOf_92 : decode cX0_jokeOf 92 = .ok (.invokestatic 143, 3) := dk_184 0 143 (dk_at dksX0_jokeOf_4 0 rfl rfl)
theorem dX0_jokeOf_95 : decode cX0_jokeOf 95 = .ok (.ireturn, 1) := dk_172 (dk_at dksX0_jokeOf_4 3 rfl rfl)
theorem dX0_jokeOf_96 : decode cX0_jokeOf 96 = .ok (.aload_n 0, 1) := dk_42 (dk_at dksX0_jokeOf_4 4 rfl rfl)
theorem dX0_jokeOf_97 : decode cX0_jokeOf 97 = .ok (.getfield 28, 3) := dk_180 0 28 (dk_at dksX0_jokeOf_4 5 rfl rfl)
theorem dX0_jokeOf_100 : decode cX0_jokeOf 100 = .ok (.aload_n 3, 1) := dk_45 (dk_at dksX0_jokeOf_4 8 rfl rfl)
theorem dX0_jokeOf_101 : decode cX0_jokeOf 101 = .ok (.invokevirtual 147, 3) := dk_182 0 147 (dk_at dksX0_jokeOf_4 9 rfl rfl)
theorem dX0_jokeOf_104 : decode cX0_jokeOf 104 = .ok (.ireturn, 1) := dk_172 (dk_at dksX0_jokeOf_4 12 rfl rfl)
theorem dX0_jokeOf_105 : decode cX0_jokeOf 105 = .ok (.bipush (-2), 2) := dk_16 254 (dk_at dksX0_jokeOf_4 13 rfl rfl)
theorem dX0_jokeOf_107 : decode cX0_jokeOf 107 = .ok (.ireturn, 1) := dk_172 (dk_at dksX0_jokeOf_4 15 rfl rfl)
abbrev cX0_wellOf : ByteArray := prog_1_method_23_code
def yX0_wellOf : MethodName := ⟨RX0, "wellOf", "(II)I"⟩
def dkwX0_wellOf_3 : List UInt8 := [172, 42, 180, 0, 28, 180, 0, 166, 27, 46, 172, 16, 254, 172]
abbrev dktX0_wellOf_3 : List UInt8 := dkwX0_wellOf_3 ++ []
def dkwX0_wellOf_2 : List UInt8 := [42, 180, 0, 28, 180, 0, 155, 27, 46, 172, 42, 180, 0, 28, 27, 182, 0, 159, 172, 42, 27, 182, 0, 163]
abbrev dktX0_wellOf_2 : List UInt8 := dkwX0_wellOf_2 ++ dktX0_wellOf_3
def dkwX0_wellOf_1 : List UInt8 := [170, 0, 0, 0, 0, 65, 0, 0, 0, 0, 0, 0, 0, 3, 0, 0, 0, 30, 0, 0, 0, 40, 0, 0, 0, 49, 0, 0, 0, 55]
abbrev dktX0_wellOf_1 : List UInt8 := dkwX0_wellOf_1 ++ dktX0_wellOf_2
def dkwX0_wellOf_0 : List UInt8 := [27, 184, 0, 58, 154, 0, 5, 2, 172, 28]
abbrev dktX0_wellOf_0 : List UInt8 := dkwX0_wellOf_0 ++ dktX0_wellOf_1
theorem dksX0_wellOf_0 : cX0_wellOf.data.toList.drop 0 = dktX0_wellOf_0 := by decide +kernel
theorem dksX0_wellOf_1 : cX0_wellOf.data.toList.drop 10 = dktX0_wellOf_1 := dk_seg dksX0_wellOf_0 10 rfl rfl
theorem dksX0_wellOf_2 : cX0_wellOf.data.toList.drop 40 = dktX0_wellOf_2 := dk_seg dksX0_wellOf_1 30 rfl rfl
theorem dksX0_wellOf_3 : cX0_wellOf.data.toList.drop 64 = dktX0_wellOf_3 := dk_seg dksX0_wellOf_2 24 rfl rfl
theorem dX0_wellOf_0 : decode cX0_wellOf 0 = .ok (.iload_n 1, 1) := dk_27 (dk_at dksX0_wellOf_0 0 rfl rfl)
theorem dX0_wellOf_1 : decode cX0_wellOf 1 = .ok (.invokestatic 58, 3) := dk_184 0 58 (dk_at dksX0_wellOf_0 1 rfl rfl)
theorem dX0_wellOf_4 : decode cX0_wellOf 4 = .ok (.ifCond .ne 5, 3) := dk_154 0 5 (dk_at dksX0_wellOf_0 4 rfl rfl)
theorem dX0_wellOf_7 : decode cX0_wellOf 7 = .ok (.iconst (-1), 1) := dk_2 (dk_at dksX0_wellOf_0 7 rfl rfl)
theorem dX0_wellOf_8 : decode cX0_wellOf 8 = .ok (.ireturn, 1) := dk_172 (dk_at dksX0_wellOf_0 8 rfl rfl)
theorem dX0_wellOf_9 : decode cX0_wellOf 9 = .ok (.iload_n 2, 1) := dk_28 (dk_at dksX0_wellOf_0 9 rfl rfl)
theorem dX0_wellOf_10 : decode cX0_wellOf 10 = .ok (.tableswitch 65 0 3 #[30, 40, 49, 55], 30) := by decide +kernel
theorem dX0_wellOf_40 : decode cX0_wellOf 40 = .ok (.aload_n 0, 1) := dk_42 (dk_at dksX0_wellOf_2 0 rfl rfl)
theorem dX0_wellOf_41 : decode cX0_wellOf 41 = .ok (.getfield 28, 3) := dk_180 0 28 (dk_at dksX0_wellOf_2 1 rfl rfl)
theorem dX0_wellOf_44 : decode cX0_wellOf 44 = .ok (.getfield 155, 3) := dk_180 0 155 (dk_at dksX0_wellOf_2 4 rfl rfl)
theorem dX0_wellOf_47 : decode cX0_wellOf 47 = .ok (.iload_n 1, 1) := dk_27 (dk_at dksX0_wellOf_2 7 rfl rfl)
theorem dX0_wellOf_48 : decode cX0_wellOf 48 = .ok (.iaload, 1) := dk_46 (dk_at dksX0_wellOf_2 8 rfl rfl)
theorem dX0_wellOf_49 : decode cX0_wellOf 49 = .ok (.ireturn, 1) := dk_172 (dk_at dksX0_wellOf_2 9 rfl rfl)
theorem dX0_wellOf_50 : decode cX0_wellOf 50 = .ok (.aload_n 0, 1) := dk_42 (dk_at dksX0_wellOf_2 10 rfl rfl)
theorem dX0_wellOf_51 : decode cX0_wellOf 51 = .ok (.getfield 28, 3) := dk_180 0 28 (dk_at dksX0_wellOf_2 11 rfl rfl)
theorem dX0_wellOf_54 : decode cX0_wellOf 54 = .ok (.iload_n 1, 1) := dk_27 (dk_at dksX0_wellOf_2 14 rfl rfl)
theorem dX0_wellOf_55 : decode cX0_wellOf 55 = .ok (.invokevirtual 159, 3) := dk_182 0 159 (dk_at dksX0_wellOf_2 15 rfl rfl)
theorem dX0_wellOf_58 : decode cX0_wellOf 58 = .ok (.ireturn, 1) := dk_172 (dk_at dksX0_wellOf_2 18 rfl rfl)
theorem dX0_wellOf_59 : decode cX0_wellOf 59 = .ok (.aload_n 0, 1) := dk_42 (dk_at dksX0_wellOf_2 19 rfl rfl)
theorem dX0_wellOf_60 : decode cX0_wellOf 60 = .ok (.iload_n 1, 1) := dk_27 (dk_at dksX0_wellOf_2 20 rfl rfl)
theorem dX0_wellOf_61 : decode cX0_wellOf 61 = .ok (.invokevirtual 163, 3) := dk_182 0 163 (dk_at dksX0_wellOf_2 21 rfl rfl)
theorem dX0_wellOf_64 : decode cX0_wellOf 64 = .ok (.ireturn, 1) := dk_172 (dk_at dksX0_wellOf_3 0 rfl rfl)
theorem dX0_wellOf_65 : decode cX0_wellOf 65 = .ok (.aload_n 0, 1) := dk_42 (dk_at dksX0_wellOf_3 1 rfl rfl)
theorem dX0_wellOf_66 : decode cX0_wellOf 66 = .ok (.getfield 28, 3) := dk_180 0 28 (dk_at dksX0_wellOf_3 2 rfl rfl)
theorem dX0_wellOf_69 : decode cX0_wellOf 69 = .ok (.getfield 166, 3) := dk_180 0 166 (dk_at dksX0_wellOf_3 5 rfl rfl)
theorem dX0_wellOf_72 : decode cX0_wellOf 72 = .ok (.iload_n 1, 1) := dk_27 (dk_at dksX0_wellOf_3 8 rfl rfl)
theorem dX0_wellOf_73 : decode cX0_wellOf 73 = .ok (.iaload, 1) := dk_46 (dk_at dksX0_wellOf_3 9 rfl rfl)
theorem dX0_wellOf_74 : decode cX0_wellOf 74 = .ok (.ireturn, 1) := dk_172 (dk_at dksX0_wellOf_3 10 rfl rfl)
theorem dX0_wellOf_75 : decode cX0_wellOf 75 = .ok (.bipush (-2), 2) := dk_16 254 (dk_at dksX0_wellOf_3 11 rfl rfl)
theorem dX0_wellOf_77 : decode cX0_wellOf 77 = .ok (.ireturn, 1) := dk_172 (dk_at dksX0_wellOf_3 13 rfl rfl)
abbrev cX0_leastDepth : ByteArray := prog_1_method_22_code
def yX0_leastDepth : MethodName := ⟨RX0, "leastDepth", "(I)I"⟩
def dkwX0_leastDepth_0 : List UInt8 := [42, 180, 0, 28, 27, 3, 182, 0, 151, 77, 44, 199, 0, 7, 3, 167, 0, 7, 44, 180, 0, 130, 172]
abbrev dktX0_leastDepth_0 : List UInt8 := dkwX0_leastDepth_0 ++ []
theorem dksX0_leastDepth_0 : cX0_leastDepth.data.toList.drop 0 = dktX0_leastDepth_0 := by decide +kernel
theorem dX0_leastDepth_0 : decode cX0_leastDepth 0 = .ok (.aload_n 0, 1) := dk_42 (dk_at dksX0_leastDepth_0 0 rfl rfl)
theorem dX0_leastDepth_1 : decode cX0_leastDepth 1 = .ok (.getfield 28, 3) := dk_180 0 28 (dk_at dksX0_leastDepth_0 1 rfl rfl)
theorem dX0_leastDepth_4 : decode cX0_leastDepth 4 = .ok (.iload_n 1, 1) := dk_27 (dk_at dksX0_leastDepth_0 4 rfl rfl)
theorem dX0_leastDepth_5 : decode cX0_leastDepth 5 = .ok (.iconst 0, 1) := dk_3 (dk_at dksX0_leastDepth_0 5 rfl rfl)
theorem dX0_leastDepth_6 : decode cX0_leastDepth 6 = .ok (.invokevirtual 151, 3) := dk_182 0 151 (dk_at dksX0_leastDepth_0 6 rfl rfl)
theorem dX0_leastDepth_9 : decode cX0_leastDepth 9 = .ok (.astore_n 2, 1) := dk_77 (dk_at dksX0_leastDepth_0 9 rfl rfl)
theorem dX0_leastDepth_10 : decode cX0_leastDepth 10 = .ok (.aload_n 2, 1) := dk_44 (dk_at dksX0_leastDepth_0 10 rfl rfl)
theorem dX0_leastDepth_11 : decode cX0_leastDepth 11 = .ok (.ifnonnull 7, 3) := dk_199 0 7 (dk_at dksX0_leastDepth_0 11 rfl rfl)
theorem dX0_leastDepth_14 : decode cX0_leastDepth 14 = .ok (.iconst 0, 1) := dk_3 (dk_at dksX0_leastDepth_0 14 rfl rfl)
theorem dX0_leastDepth_15 : decode cX0_leastDepth 15 = .ok (.goto 7, 3) := dk_167 0 7 (dk_at dksX0_leastDepth_0 15 rfl rfl)
theorem dX0_leastDepth_18 : decode cX0_leastDepth 18 = .ok (.aload_n 2, 1) := dk_44 (dk_at dksX0_leastDepth_0 18 rfl rfl)
theorem dX0_leastDepth_19 : decode cX0_leastDepth 19 = .ok (.getfield 130, 3) := dk_180 0 130 (dk_at dksX0_leastDepth_0 19 rfl rfl)
theorem dX0_leastDepth_22 : decode cX0_leastDepth 22 = .ok (.ireturn, 1) := dk_172 (dk_at dksX0_leastDepth_0 22 rfl rfl)
abbrev cX0_isKnown : ByteArray := prog_1_method_24_code
def yX0_isKnown : MethodName := ⟨RX0, "isKnown", "(I)I"⟩
def dkwX0_isKnown_1 : List UInt8 := [167, 0, 4, 2, 172]
abbrev dktX0_isKnown_1 : List UInt8 := dkwX0_isKnown_1 ++ []
def dkwX0_isKnown_0 : List UInt8 := [27, 3, 16, 63, 184, 0, 3, 153, 0, 18, 42, 180, 0, 28, 180, 0, 169, 27, 51, 184, 0, 143]
abbrev dktX0_isKnown_0 : List UInt8 := dkwX0_isKnown_0 ++ dktX0_isKnown_1
theorem dksX0_isKnown_0 : cX0_isKnown.data.toList.drop 0 = dktX0_isKnown_0 := by decide +kernel
theorem dksX0_isKnown_1 : cX0_isKnown.data.toList.drop 22 = dktX0_isKnown_1 := dk_seg dksX0_isKnown_0 22 rfl rfl
theorem dX0_isKnown_0 : decode cX0_isKnown 0 = .ok (.iload_n 1, 1) := dk_27 (dk_at dksX0_isKnown_0 0 rfl rfl)
theorem dX0_isKnown_1 : decode cX0_isKnown 1 = .ok (.iconst 0, 1) := dk_3 (dk_at dksX0_isKnown_0 1 rfl rfl)
theorem dX0_isKnown_2 : decode cX0_isKnown 2 = .ok (.bipush 63, 2) := dk_16 63 (dk_at dksX0_isKnown_0 2 rfl rfl)
theorem dX0_isKnown_4 : decode cX0_isKnown 4 = .ok (.invokestatic 3, 3) := dk_184 0 3 (dk_at dksX0_isKnown_0 4 rfl rfl)
theorem dX0_isKnown_7 : decode cX0_isKnown 7 = .ok (.ifCond .eq 18, 3) := dk_153 0 18 (dk_at dksX0_isKnown_0 7 rfl rfl)
theorem dX0_isKnown_10 : decode cX0_isKnown 10 = .ok (.aload_n 0, 1) := dk_42 (dk_at dksX0_isKnown_0 10 rfl rfl)
theorem dX0_isKnown_11 : decode cX0_isKnown 11 = .ok (.getfield 28, 3) := dk_180 0 28 (dk_at dksX0_isKnown_0 11 rfl rfl)
theorem dX0_isKnown_14 : decode cX0_isKnown 14 = .ok (.getfield 169, 3) := dk_180 0 169 (dk_at dksX0_isKnown_0 14 rfl rfl)
theorem dX0_isKnown_17 : decode cX0_isKnown 17 = .ok (.iload_n 1, 1) := dk_27 (dk_at dksX0_isKnown_0 17 rfl rfl)
theorem dX0_isKnown_18 : decode cX0_isKnown 18 = .ok (.baload, 1) := dk_51 (dk_at dksX0_isKnown_0 18 rfl rfl)
theorem dX0_isKnown_19 : decode cX0_isKnown 19 = .ok (.invokestatic 143, 3) := dk_184 0 143 (dk_at dksX0_isKnown_0 19 rfl rfl)
theorem dX0_isKnown_22 : decode cX0_isKnown 22 = .ok (.goto 4, 3) := dk_167 0 4 (dk_at dksX0_isKnown_1 0 rfl rfl)
theorem dX0_isKnown_25 : decode cX0_isKnown 25 = .ok (.iconst (-1), 1) := dk_2 (dk_at dksX0_isKnown_1 3 rfl rfl)
theorem dX0_isKnown_26 : decode cX0_isKnown 26 = .ok (.ireturn, 1) := dk_172 (dk_at dksX0_isKnown_1 4 rfl rfl)
abbrev cX0_laughBits : ByteArray := prog_1_method_25_code
def yX0_laughBits : MethodName := ⟨RX0, "laughBits", "(II)I"⟩
def dkwX0_laughBits_2 : List UInt8 := [16, 254, 172]
abbrev dktX0_laughBits_2 : List UInt8 := dkwX0_laughBits_2 ++ []
def dkwX0_laughBits_1 : List UInt8 := [180, 0, 28, 180, 0, 115, 27, 182, 0, 119, 192, 0, 125, 28, 182, 0, 173, 184, 0, 177, 167, 0, 5]
abbrev dktX0_laughBits_1 : List UInt8 := dkwX0_laughBits_1 ++ dktX0_laughBits_2
def dkwX0_laughBits_0 : List UInt8 := [42, 180, 0, 28, 27, 182, 0, 73, 154, 0, 5, 2, 172, 28, 3, 16, 50, 184, 0, 3, 153, 0, 27, 42]
abbrev dktX0_laughBits_0 : List UInt8 := dkwX0_laughBits_0 ++ dktX0_laughBits_1
theorem dksX0_laughBits_0 : cX0_laughBits.data.toList.drop 0 = dktX0_laughBits_0 := by decide +kernel
theorem dksX0_laughBits_1 : cX0_laughBits.data.toList.drop 24 = dktX0_laughBits_1 := dk_seg dksX0_laughBits_0 24 rfl rfl
theorem dksX0_laughBits_2 : cX0_laughBits.data.toList.drop 47 = dktX0_laughBits_2 := dk_seg dksX0_laughBits_1 23 rfl rfl
theorem dX0_laughBits_0 : decode cX0_laughBits 0 = .ok (.aload_n 0, 1) := dk_42 (dk_at dksX0_laughBits_0 0 rfl rfl)
theorem dX0_laughBits_1 : decode cX0_laughBits 1 = .ok (.getfield 28, 3) := dk_180 0 28 (dk_at dksX0_laughBits_0 1 rfl rfl)
theorem dX0_laughBits_4 : decode cX0_laughBits 4 = .ok (.iload_n 1, 1) := dk_27 (dk_at dksX0_laughBits_0 4 rfl rfl)
theorem dX0_laughBits_5 : decode cX0_laughBits 5 = .ok (.invokevirtual 73, 3) := dk_182 0 73 (dk_at dksX0_laughBits_0 5 rfl rfl)
theorem dX0_laughBits_8 : decode cX0_laughBits 8 = .ok (.ifCond .ne 5, 3) := dk_154 0 5 (dk_at dksX0_laughBits_0 8 rfl rfl)
theorem dX0_laughBits_11 : decode cX0_laughBits 11 = .ok (.iconst (-1), 1) := dk_2 (dk_at dksX0_laughBits_0 11 rfl rfl)
theorem dX0_laughBits_12 : decode cX0_laughBits 12 = .ok (.ireturn, 1) := dk_172 (dk_at dksX0_laughBits_0 12 rfl rfl)
theorem dX0_laughBits_13 : decode cX0_laughBits 13 = .ok (.iload_n 2, 1) := dk_28 (dk_at dksX0_laughBits_0 13 rfl rfl)
theorem dX0_laughBits_14 : decode cX0_laughBits 14 = .ok (.iconst 0, 1) := dk_3 (dk_at dksX0_laughBits_0 14 rfl rfl)
theorem dX0_laughBits_15 : decode cX0_laughBits 15 = .ok (.bipush 50, 2) := dk_16 50 (dk_at dksX0_laughBits_0 15 rfl rfl)
theorem dX0_laughBits_17 : decode cX0_laughBits 17 = .ok (.invokestatic 3, 3) := dk_184 0 3 (dk_at dksX0_laughBits_0 17 rfl rfl)
theorem dX0_laughBits_20 : decode cX0_laughBits 20 = .ok (.ifCond .eq 27, 3) := dk_153 0 27 (dk_at dksX0_laughBits_0 20 rfl rfl)
theorem dX0_laughBits_23 : decode cX0_laughBits 23 = .ok (.aload_n 0, 1) := dk_42 (dk_at dksX0_laughBits_0 23 rfl rfl)
theorem dX0_laughBits_24 : decode cX0_laughBits 24 = .ok (.getfield 28, 3) := dk_180 0 28 (dk_at dksX0_laughBits_1 0 rfl rfl)
theorem dX0_laughBits_27 : decode cX0_laughBits 27 = .ok (.getfield 115, 3) := dk_180 0 115 (dk_at dksX0_laughBits_1 3 rfl rfl)
theorem dX0_laughBits_30 : decode cX0_laughBits 30 = .ok (.iload_n 1, 1) := dk_27 (dk_at dksX0_laughBits_1 6 rfl rfl)
theorem dX0_laughBits_31 : decode cX0_laughBits 31 = .ok (.invokevirtual 119, 3) := dk_182 0 119 (dk_at dksX0_laughBits_1 7 rfl rfl)
theorem dX0_laughBits_34 : decode cX0_laughBits 34 = .ok (.checkcast 125, 3) := dk_192 0 125 (dk_at dksX0_laughBits_1 10 rfl rfl)
theorem dX0_laughBits_37 : decode cX0_laughBits 37 = .ok (.iload_n 2, 1) := dk_28 (dk_at dksX0_laughBits_1 13 rfl rfl)
theorem dX0_laughBits_38 : decode cX0_laughBits 38 = .ok (.invokevirtual 173, 3) := dk_182 0 173 (dk_at dksX0_laughBits_1 14 rfl rfl)
theorem dX0_laughBits_41 : decode cX0_laughBits 41 = .ok (.invokestatic 177, 3) := dk_184 0 177 (dk_at dksX0_laughBits_1 17 rfl rfl)
theorem dX0_laughBits_44 : decode cX0_laughBits 44 = .ok (.goto 5, 3) := dk_167 0 5 (dk_at dksX0_laughBits_1 20 rfl rfl)
theorem dX0_laughBits_47 : decode cX0_laughBits 47 = .ok (.bipush (-2), 2) := dk_16 254 (dk_at dksX0_laughBits_2 0 rfl rfl)
theorem dX0_laughBits_49 : decode cX0_laughBits 49 = .ok (.ireturn, 1) := dk_172 (dk_at dksX0_laughBits_2 2 rfl rfl)
abbrev cX0_laughs : ByteArray := prog_1_method_26_code
def yX0_laughs : MethodName := ⟨RX0, "laughs", "()F"⟩
def dkwX0_laughs_0 : List UInt8 := [42, 180, 0, 28, 180, 0, 183, 174]
abbrev dktX0_laughs_0 : List UInt8 := dkwX0_laughs_0 ++ []
theorem dksX0_laughs_0 : cX0_laughs.data.toList.drop 0 = dktX0_laughs_0 := by decide +kernel
theorem dX0_laughs_0 : decode cX0_laughs 0 = .ok (.aload_n 0, 1) := dk_42 (dk_at dksX0_laughs_0 0 rfl rfl)
theorem dX0_laughs_1 : decode cX0_laughs 1 = .ok (.getfield 28, 3) := dk_180 0 28 (dk_at dksX0_laughs_0 1 rfl rfl)
theorem dX0_laughs_4 : decode cX0_laughs 4 = .ok (.getfield 183, 3) := dk_180 0 183 (dk_at dksX0_laughs_0 4 rfl rfl)
theorem dX0_laughs_7 : decode cX0_laughs 7 = .ok (.freturn, 1) := dk_174 (dk_at dksX0_laughs_0 7 rfl rfl)
abbrev cX0_laughsAgain : ByteArray := prog_1_method_27_code
def yX0_laughsAgain : MethodName := ⟨RX0, "laughsAgain", "()F"⟩
def dkwX0_laughsAgain_0 : List UInt8 := [42, 180, 0, 28, 182, 0, 187, 174]
abbrev dktX0_laughsAgain_0 : List UInt8 := dkwX0_laughsAgain_0 ++ []
theorem dksX0_laughsAgain_0 : cX0_laughsAgain.data.toList.drop 0 = dktX0_laughsAgain_0 := by decide +kernel
theorem dX0_laughsAgain_0 : decode cX0_laughsAgain 0 = .ok (.aload_n 0, 1) := dk_42 (dk_at dksX0_laughsAgain_0 0 rfl rfl)
theorem dX0_laughsAgain_1 : decode cX0_laughsAgain 1 = .ok (.getfield 28, 3) := dk_180 0 28 (dk_at dksX0_laughsAgain_0 1 rfl rfl)
theorem dX0_laughsAgain_4 : decode cX0_laughsAgain 4 = .ok (.invokevirtual 187, 3) := dk_182 0 187 (dk_at dksX0_laughsAgain_0 4 rfl rfl)
theorem dX0_laughsAgain_7 : decode cX0_laughsAgain 7 = .ok (.freturn, 1) := dk_174 (dk_at dksX0_laughsAgain_0 7 rfl rfl)
abbrev cX0_wholeLaughs : ByteArray := prog_1_method_28_code
def yX0_wholeLaughs : MethodName := ⟨RX0, "wholeLaughs", "()I"⟩
def dkwX0_wholeLaughs_0 : List UInt8 := [42, 180, 0, 28, 180, 0, 183, 139, 172]
abbrev dktX0_wholeLaughs_0 : List UInt8 := dkwX0_wholeLaughs_0 ++ []
theorem dksX0_wholeLaughs_0 : cX0_wholeLaughs.data.toList.drop 0 = dktX0_wholeLaughs_0 := by decide +kernel
theorem dX0_wholeLaughs_0 : decode cX0_wholeLaughs 0 = .ok (.aload_n 0, 1) := dk_42 (dk_at dksX0_wholeLaughs_0 0 rfl rfl)
theorem dX0_wholeLaughs_1 : decode cX0_wholeLaughs 1 = .ok (.getfield 28, 3) := dk_180 0 28 (dk_at dksX0_wholeLaughs_0 1 rfl rfl)
theorem dX0_wholeLaughs_4 : decode cX0_wholeLaughs 4 = .ok (.getfield 183, 3) := dk_180 0 183 (dk_at dksX0_wholeLaughs_0 4 rfl rfl)
theorem dX0_wholeLaughs_7 : decode cX0_wholeLaughs 7 = .ok (.f2i, 1) := dk_139 (dk_at dksX0_wholeLaughs_0 7 rfl rfl)
theorem dX0_wholeLaughs_8 : decode cX0_wholeLaughs 8 = .ok (.ireturn, 1) := dk_172 (dk_at dksX0_wholeLaughs_0 8 rfl rfl)
abbrev cX0_liftedOf : ByteArray := prog_1_method_29_code
def yX0_liftedOf : MethodName := ⟨RX0, "liftedOf", "(II)I"⟩
def dkwX0_liftedOf_3 : List UInt8 := [45, 180, 0, 200, 172, 45, 180, 0, 201, 172, 45, 180, 0, 202, 184, 0, 177, 172, 16, 254, 172]
abbrev dktX0_liftedOf_3 : List UInt8 := dkwX0_liftedOf_3 ++ []
def dkwX0_liftedOf_2 : List UInt8 := [170, 0, 0, 0, 43, 0, 0, 0, 0, 0, 0, 0, 2, 0, 0, 0, 25, 0, 0, 0, 30, 0, 0, 0, 35]
abbrev dktX0_liftedOf_2 : List UInt8 := dkwX0_liftedOf_2 ++ dktX0_liftedOf_3
def dkwX0_liftedOf_1 : List UInt8 := [180, 0, 194, 42, 180, 0, 28, 180, 0, 191, 4, 100, 27, 100, 50, 192, 0, 198, 78, 28]
abbrev dktX0_liftedOf_1 : List UInt8 := dkwX0_liftedOf_1 ++ dktX0_liftedOf_2
def dkwX0_liftedOf_0 : List UInt8 := [27, 3, 42, 180, 0, 28, 180, 0, 191, 4, 100, 184, 0, 3, 154, 0, 5, 2, 172, 42, 180, 0, 28]
abbrev dktX0_liftedOf_0 : List UInt8 := dkwX0_liftedOf_0 ++ dktX0_liftedOf_1
theorem dksX0_liftedOf_0 : cX0_liftedOf.data.toList.drop 0 = dktX0_liftedOf_0 := by decide +kernel
theorem dksX0_liftedOf_1 : cX0_liftedOf.data.toList.drop 23 = dktX0_liftedOf_1 := dk_seg dksX0_liftedOf_0 23 rfl rfl
theorem dksX0_liftedOf_2 : cX0_liftedOf.data.toList.drop 43 = dktX0_liftedOf_2 := dk_seg dksX0_liftedOf_1 20 rfl rfl
theorem dksX0_liftedOf_3 : cX0_liftedOf.data.toList.drop 68 = dktX0_liftedOf_3 := dk_seg dksX0_liftedOf_2 25 rfl rfl
theorem dX0_liftedOf_0 : decode cX0_liftedOf 0 = .ok (.iload_n 1, 1) := dk_27 (dk_at dksX0_liftedOf_0 0 rfl rfl)
theorem dX0_liftedOf_1 : decode cX0_liftedOf 1 = .ok (.iconst 0, 1) := dk_3 (dk_at dksX0_liftedOf_0 1 rfl rfl)
theorem dX0_liftedOf_2 : decode cX0_liftedOf 2 = .ok (.aload_n 0, 1) := dk_42 (dk_at dksX0_liftedOf_0 2 rfl rfl)
theorem dX0_liftedOf_3 : decode cX0_liftedOf 3 = .ok (.getfield 28, 3) := dk_180 0 28 (dk_at dksX0_liftedOf_0 3 rfl rfl)
theorem dX0_liftedOf_6 : decode cX0_liftedOf 6 = .ok (.getfield 191, 3) := dk_180 0 191 (dk_at dksX0_liftedOf_0 6 rfl rfl)
theorem dX0_liftedOf_9 : decode cX0_liftedOf 9 = .ok (.iconst 1, 1) := dk_4 (dk_at dksX0_liftedOf_0 9 rfl rfl)
theorem dX0_liftedOf_10 : decode cX0_liftedOf 10 = .ok (.isub, 1) := dk_100 (dk_at dksX0_liftedOf_0 10 rfl rfl)
theorem dX0_liftedOf_11 : decode cX0_liftedOf 11 = .ok (.invokestatic 3, 3) := dk_184 0 3 (dk_at dksX0_liftedOf_0 11 rfl rfl)
theorem dX0_liftedOf_14 : decode cX0_liftedOf 14 = .ok (.ifCond .ne 5, 3) := dk_154 0 5 (dk_at dksX0_liftedOf_0 14 rfl rfl)
theorem dX0_liftedOf_17 : decode cX0_liftedOf 17 = .ok (.iconst (-1), 1) := dk_2 (dk_at dksX0_liftedOf_0 17 rfl rfl)
theorem dX0_liftedOf_18 : decode cX0_liftedOf 18 = .ok (.ireturn, 1) := dk_172 (dk_at dksX0_liftedOf_0 18 rfl rfl)
theorem dX0_liftedOf_19 : decode cX0_liftedOf 19 = .ok (.aload_n 0, 1) := dk_42 (dk_at dksX0_liftedOf_0 19 rfl rfl)
theorem dX0_liftedOf_20 : decode cX0_liftedOf 20 = .ok (.getfield 28, 3) := dk_180 0 28 (dk_at dksX0_liftedOf_0 20 rfl rfl)
theorem dX0_liftedOf_23 : decode cX0_liftedOf 23 = .ok (.getfield 194, 3) := dk_180 0 194 (dk_at dksX0_liftedOf_1 0 rfl rfl)
theorem dX0_liftedOf_26 : decode cX0_liftedOf 26 = .ok (.aload_n 0, 1) := dk_42 (dk_at dksX0_liftedOf_1 3 rfl rfl)
theorem dX0_liftedOf_27 : decode cX0_liftedOf 27 = .ok (.getfield 28, 3) := dk_180 0 28 (dk_at dksX0_liftedOf_1 4 rfl rfl)
theorem dX0_liftedOf_30 : decode cX0_liftedOf 30 = .ok (.getfield 191, 3) := dk_180 0 191 (dk_at dksX0_liftedOf_1 7 rfl rfl)
theorem dX0_liftedOf_33 : decode cX0_liftedOf 33 = .ok (.iconst 1, 1) := dk_4 (dk_at dksX0_liftedOf_1 10 rfl rfl)
theorem dX0_liftedOf_34 : decode cX0_liftedOf 34 = .ok (.isub, 1) := dk_100 (dk_at dksX0_liftedOf_1 11 rfl rfl)
theorem dX0_liftedOf_35 : decode cX0_liftedOf 35 = .ok (.iload_n 1, 1) := dk_27 (dk_at dksX0_liftedOf_1 12 rfl rfl)
theorem dX0_liftedOf_36 : decode cX0_liftedOf 36 = .ok (.isub, 1) := dk_100 (dk_at dksX0_liftedOf_1 13 rfl rfl)
theorem dX0_liftedOf_37 : decode cX0_liftedOf 37 = .ok (.aaload, 1) := dk_50 (dk_at dksX0_liftedOf_1 14 rfl rfl)
theorem dX0_liftedOf_38 : decode cX0_liftedOf 38 = .ok (.checkcast 198, 3) := dk_192 0 198 (dk_at dksX0_liftedOf_1 15 rfl rfl)
theorem dX0_liftedOf_41 : decode cX0_liftedOf 41 = .ok (.astore_n 3, 1) := dk_78 (dk_at dksX0_liftedOf_1 18 rfl rfl)
theorem dX0_liftedOf_42 : decode cX0_liftedOf 42 = .ok (.iload_n 2, 1) := dk_28 (dk_at dksX0_liftedOf_1 19 rfl rfl)
theorem dX0_liftedOf_43 : decode cX0_liftedOf 43 = .ok (.tableswitch 43 0 2 #[25, 30, 35], 25) := by decide +kernel
theorem dX0_liftedOf_68 : decode cX0_liftedOf 68 = .ok (.aload_n 3, 1) := dk_45 (dk_at dksX0_liftedOf_3 0 rfl rfl)
theorem dX0_liftedOf_69 : decode cX0_liftedOf 69 = .ok (.getfield 200, 3) := dk_180 0 200 (dk_at dksX0_liftedOf_3 1 rfl rfl)
theorem dX0_liftedOf_72 : decode cX0_liftedOf 72 = .ok (.ireturn, 1) := dk_172 (dk_at dksX0_liftedOf_3 4 rfl rfl)
theorem dX0_liftedOf_73 : decode cX0_liftedOf 73 = .ok (.aload_n 3, 1) := dk_45 (dk_at dksX0_liftedOf_3 5 rfl rfl)
theorem dX0_liftedOf_74 : decode cX0_liftedOf 74 = .ok (.getfield 201, 3) := dk_180 0 201 (dk_at dksX0_liftedOf_3 6 rfl rfl)
theorem dX0_liftedOf_77 : decode cX0_liftedOf 77 = .ok (.ireturn, 1) := dk_172 (dk_at dksX0_liftedOf_3 9 rfl rfl)
theorem dX0_liftedOf_78 : decode cX0_liftedOf 78 = .ok (.aload_n 3, 1) := dk_45 (dk_at dksX0_liftedOf_3 10 rfl rfl)
theorem dX0_liftedOf_79 : decode cX0_liftedOf 79 = .ok (.getfield 202, 3) := dk_180 0 202 (dk_at dksX0_liftedOf_3 11 rfl rfl)
theorem dX0_liftedOf_82 : decode cX0_liftedOf 82 = .ok (.invokestatic 177, 3) := dk_184 0 177 (dk_at dksX0_liftedOf_3 14 rfl rfl)
theorem dX0_liftedOf_85 : decode cX0_liftedOf 85 = .ok (.ireturn, 1) := dk_172 (dk_at dksX0_liftedOf_3 17 rfl rfl)
theorem dX0_liftedOf_86 : decode cX0_liftedOf 86 = .ok (.bipush (-2), 2) := dk_16 254 (dk_at dksX0_liftedOf_3 18 rfl rfl)
theorem dX0_liftedOf_88 : decode cX0_liftedOf 88 = .ok (.ireturn, 1) := dk_172 (dk_at dksX0_liftedOf_3 20 rfl rfl)
abbrev cX0_strokes : ByteArray := prog_1_method_30_code
def yX0_strokes : MethodName := ⟨RX0, "strokes", "(I)I"⟩
def dkwX0_strokes_0 : List UInt8 := [27, 184, 0, 7, 153, 0, 14, 42, 180, 0, 28, 27, 182, 0, 204, 167, 0, 5, 16, 254, 172]
abbrev dktX0_strokes_0 : List UInt8 := dkwX0_strokes_0 ++ []
theorem dksX0_strokes_0 : cX0_strokes.data.toList.drop 0 = dktX0_strokes_0 := by decide +kernel
theorem dX0_strokes_0 : decode cX0_strokes 0 = .ok (.iload_n 1, 1) := dk_27 (dk_at dksX0_strokes_0 0 rfl rfl)
theorem dX0_strokes_1 : decode cX0_strokes 1 = .ok (.invokestatic 7, 3) := dk_184 0 7 (dk_at dksX0_strokes_0 1 rfl rfl)
theorem dX0_strokes_4 : decode cX0_strokes 4 = .ok (.ifCond .eq 14, 3) := dk_153 0 14 (dk_at dksX0_strokes_0 4 rfl rfl)
theorem dX0_strokes_7 : decode cX0_strokes 7 = .ok (.aload_n 0, 1) := dk_42 (dk_at dksX0_strokes_0 7 rfl rfl)
theorem dX0_strokes_8 : decode cX0_strokes 8 = .ok (.getfield 28, 3) := dk_180 0 28 (dk_at dksX0_strokes_0 8 rfl rfl)
theorem dX0_strokes_11 : decode cX0_strokes 11 = .ok (.iload_n 1, 1) := dk_27 (dk_at dksX0_strokes_0 11 rfl rfl)
theorem dX0_strokes_12 : decode cX0_strokes 12 = .ok (.invokevirtual 204, 3) := dk_182 0 204 (dk_at dksX0_strokes_0 12 rfl rfl)
theorem dX0_strokes_15 : decode cX0_strokes 15 = .ok (.goto 5, 3) := dk_167 0 5 (dk_at dksX0_strokes_0 15 rfl rfl)
theorem dX0_strokes_18 : decode cX0_strokes 18 = .ok (.bipush (-2), 2) := dk_16 254 (dk_at dksX0_strokes_0 18 rfl rfl)
theorem dX0_strokes_20 : decode cX0_strokes 20 = .ok (.ireturn, 1) := dk_172 (dk_at dksX0_strokes_0 20 rfl rfl)
abbrev cX0_strokesAgain : ByteArray := prog_1_method_31_code
def yX0_strokesAgain : MethodName := ⟨RX0, "strokesAgain", "(I)I"⟩
def dkwX0_strokesAgain_0 : List UInt8 := [27, 184, 0, 7, 153, 0, 14, 42, 180, 0, 28, 27, 182, 0, 207, 167, 0, 5, 16, 254, 172]
abbrev dktX0_strokesAgain_0 : List UInt8 := dkwX0_strokesAgain_0 ++ []
theorem dksX0_strokesAgain_0 : cX0_strokesAgain.data.toList.drop 0 = dktX0_strokesAgain_0 := by decide +kernel
theorem dX0_strokesAgain_0 : decode cX0_strokesAgain 0 = .ok (.iload_n 1, 1) := dk_27 (dk_at dksX0_strokesAgain_0 0 rfl rfl)
theorem dX0_strokesAgain_1 : decode cX0_strokesAgain 1 = .ok (.invokestatic 7, 3) := dk_184 0 7 (dk_at dksX0_strokesAgain_0 1 rfl rfl)
theorem dX0_strokesAgain_4 : decode cX0_strokesAgain 4 = .ok (.ifCond .eq 14, 3) := dk_153 0 14 (dk_at dksX0_strokesAgain_0 4 rfl rfl)
theorem dX0_strokesAgain_7 : decode cX0_strokesAgain 7 = .ok (.aload_n 0, 1) := dk_42 (dk_at dksX0_strokesAgain_0 7 rfl rfl)
theorem dX0_strokesAgain_8 : decode cX0_strokesAgain 8 = .ok (.getfield 28, 3) := dk_180 0 28 (dk_at dksX0_strokesAgain_0 8 rfl rfl)
theorem dX0_strokesAgain_11 : decode cX0_strokesAgain 11 = .ok (.iload_n 1, 1) := dk_27 (dk_at dksX0_strokesAgain_0 11 rfl rfl)
theorem dX0_strokesAgain_12 : decode cX0_strokesAgain 12 = .ok (.invokevirtual 207, 3) := dk_182 0 207 (dk_at dksX0_strokesAgain_0 12 rfl rfl)
theorem dX0_strokesAgain_15 : decode cX0_strokesAgain 15 = .ok (.goto 5, 3) := dk_167 0 5 (dk_at dksX0_strokesAgain_0 15 rfl rfl)
theorem dX0_strokesAgain_18 : decode cX0_strokesAgain 18 = .ok (.bipush (-2), 2) := dk_16 254 (dk_at dksX0_strokesAgain_0 18 rfl rfl)
theorem dX0_strokesAgain_20 : decode cX0_strokesAgain 20 = .ok (.ireturn, 1) := dk_172 (dk_at dksX0_strokesAgain_0 20 rfl rfl)
abbrev cX0_would : ByteArray := prog_1_method_32_code
def yX0_would : MethodName := ⟨RX0, "would", "(I)I"⟩
def dkwX0_would_1 : List UInt8 := [182, 0, 213, 167, 0, 5, 16, 254, 172]
abbrev dktX0_would_1 : List UInt8 := dkwX0_would_1 ++ []
def dkwX0_would_0 : List UInt8 := [27, 3, 16, 20, 184, 0, 3, 153, 0, 21, 187, 0, 25, 89, 42, 180, 0, 28, 183, 0, 210, 27]
abbrev dktX0_would_0 : List UInt8 := dkwX0_would_0 ++ dktX0_would_1
theorem dksX0_would_0 : cX0_would.data.toList.drop 0 = dktX0_would_0 := by decide +kernel
theorem dksX0_would_1 : cX0_would.data.toList.drop 22 = dktX0_would_1 := dk_seg dksX0_would_0 22 rfl rfl
theorem dX0_would_0 : decode cX0_would 0 = .ok (.iload_n 1, 1) := dk_27 (dk_at dksX0_would_0 0 rfl rfl)
theorem dX0_would_1 : decode cX0_would 1 = .ok (.iconst 0, 1) := dk_3 (dk_at dksX0_would_0 1 rfl rfl)
theorem dX0_would_2 : decode cX0_would 2 = .ok (.bipush 20, 2) := dk_16 20 (dk_at dksX0_would_0 2 rfl rfl)
theorem dX0_would_4 : decode cX0_would 4 = .ok (.invokestatic 3, 3) := dk_184 0 3 (dk_at dksX0_would_0 4 rfl rfl)
theorem dX0_would_7 : decode cX0_would 7 = .ok (.ifCond .eq 21, 3) := dk_153 0 21 (dk_at dksX0_would_0 7 rfl rfl)
theorem dX0_would_10 : decode cX0_would 10 = .ok (.new 25, 3) := dk_187 0 25 (dk_at dksX0_would_0 10 rfl rfl)
theorem dX0_would_13 : decode cX0_would 13 = .ok (.dup, 1) := dk_89 (dk_at dksX0_would_0 13 rfl rfl)
theorem dX0_would_14 : decode cX0_would 14 = .ok (.aload_n 0, 1) := dk_42 (dk_at dksX0_would_0 14 rfl rfl)
theorem dX0_would_15 : decode cX0_would 15 = .ok (.getfield 28, 3) := dk_180 0 28 (dk_at dksX0_would_0 15 rfl rfl)
theorem dX0_would_18 : decode cX0_would 18 = .ok (.invokespecial 210, 3) := dk_183 0 210 (dk_at dksX0_would_0 18 rfl rfl)
theorem dX0_would_21 : decode cX0_would 21 = .ok (.iload_n 1, 1) := dk_27 (dk_at dksX0_would_0 21 rfl rfl)
theorem dX0_would_22 : decode cX0_would 22 = .ok (.invokevirtual 213, 3) := dk_182 0 213 (dk_at dksX0_would_1 0 rfl rfl)
theorem dX0_would_25 : decode cX0_would 25 = .ok (.goto 5, 3) := dk_167 0 5 (dk_at dksX0_would_1 3 rfl rfl)
theorem dX0_would_28 : decode cX0_would 28 = .ok (.bipush (-2), 2) := dk_16 254 (dk_at dksX0_would_1 6 rfl rfl)
theorem dX0_would_30 : decode cX0_would 30 = .ok (.ireturn, 1) := dk_172 (dk_at dksX0_would_1 8 rfl rfl)
abbrev cX0_groansIn : ByteArray := prog_1_method_33_code
def yX0_groansIn : MethodName := ⟨RX0, "groansIn", "(I)I"⟩
def dkwX0_groansIn_1 : List UInt8 := [77, 44, 27, 182, 0, 213, 62, 44, 180, 0, 216, 172]
abbrev dktX0_groansIn_1 : List UInt8 := dkwX0_groansIn_1 ++ []
def dkwX0_groansIn_0 : List UInt8 := [27, 3, 16, 20, 184, 0, 3, 154, 0, 6, 16, 254, 172, 187, 0, 25, 89, 42, 180, 0, 28, 183, 0, 210]
abbrev dktX0_groansIn_0 : List UInt8 := dkwX0_groansIn_0 ++ dktX0_groansIn_1
theorem dksX0_groansIn_0 : cX0_groansIn.data.toList.drop 0 = dktX0_groansIn_0 := by decide +kernel
theorem dksX0_groansIn_1 : cX0_groansIn.data.toList.drop 24 = dktX0_groansIn_1 := dk_seg dksX0_groansIn_0 24 rfl rfl
theorem dX0_groansIn_0 : decode cX0_groansIn 0 = .ok (.iload_n 1, 1) := dk_27 (dk_at dksX0_groansIn_0 0 rfl rfl)
theorem dX0_groansIn_1 : decode cX0_groansIn 1 = .ok (.iconst 0, 1) := dk_3 (dk_at dksX0_groansIn_0 1 rfl rfl)
theorem dX0_groansIn_2 : decode cX0_groansIn 2 = .ok (.bipush 20, 2) := dk_16 20 (dk_at dksX0_groansIn_0 2 rfl rfl)
theorem dX0_groansIn_4 : decode cX0_groansIn 4 = .ok (.invokestatic 3, 3) := dk_184 0 3 (dk_at dksX0_groansIn_0 4 rfl rfl)
theorem dX0_groansIn_7 : decode cX0_groansIn 7 = .ok (.ifCond .ne 6, 3) := dk_154 0 6 (dk_at dksX0_groansIn_0 7 rfl rfl)
theorem dX0_groansIn_10 : decode cX0_groansIn 10 = .ok (.bipush (-2), 2) := dk_16 254 (dk_at dksX0_groansIn_0 10 rfl rfl)
theorem dX0_groansIn_12 : decode cX0_groansIn 12 = .ok (.ireturn, 1) := dk_172 (dk_at dksX0_groansIn_0 12 rfl rfl)
theorem dX0_groansIn_13 : decode cX0_groansIn 13 = .ok (.new 25, 3) := dk_187 0 25 (dk_at dksX0_groansIn_0 13 rfl rfl)
theorem dX0_groansIn_16 : decode cX0_groansIn 16 = .ok (.dup, 1) := dk_89 (dk_at dksX0_groansIn_0 16 rfl rfl)
theorem dX0_groansIn_17 : decode cX0_groansIn 17 = .ok (.aload_n 0, 1) := dk_42 (dk_at dksX0_groansIn_0 17 rfl rfl)
theorem dX0_groansIn_18 : decode cX0_groansIn 18 = .ok (.getfield 28, 3) := dk_180 0 28 (dk_at dksX0_groansIn_0 18 rfl rfl)
theorem dX0_groansIn_21 : decode cX0_groansIn 21 = .ok (.invokespecial 210, 3) := dk_183 0 210 (dk_at dksX0_groansIn_0 21 rfl rfl)
theorem dX0_groansIn_24 : decode cX0_groansIn 24 = .ok (.astore_n 2, 1) := dk_77 (dk_at dksX0_groansIn_1 0 rfl rfl)
theorem dX0_groansIn_25 : decode cX0_groansIn 25 = .ok (.aload_n 2, 1) := dk_44 (dk_at dksX0_groansIn_1 1 rfl rfl)
theorem dX0_groansIn_26 : decode cX0_groansIn 26 = .ok (.iload_n 1, 1) := dk_27 (dk_at dksX0_groansIn_1 2 rfl rfl)
theorem dX0_groansIn_27 : decode cX0_groansIn 27 = .ok (.invokevirtual 213, 3) := dk_182 0 213 (dk_at dksX0_groansIn_1 3 rfl rfl)
theorem dX0_groansIn_30 : decode cX0_groansIn 30 = .ok (.istore_n 3, 1) := dk_62 (dk_at dksX0_groansIn_1 6 rfl rfl)
theorem dX0_groansIn_31 : decode cX0_groansIn 31 = .ok (.aload_n 2, 1) := dk_44 (dk_at dksX0_groansIn_1 7 rfl rfl)
theorem dX0_groansIn_32 : decode cX0_groansIn 32 = .ok (.getfield 216, 3) := dk_180 0 216 (dk_at dksX0_groansIn_1 8 rfl rfl)
theorem dX0_groansIn_35 : decode cX0_groansIn 35 = .ok (.ireturn, 1) := dk_172 (dk_at dksX0_groansIn_1 11 rfl rfl)
abbrev cX0_bestStroke : ByteArray := prog_1_method_34_code
def yX0_bestStroke : MethodName := ⟨RX0, "bestStroke", "()I"⟩
def dkwX0_bestStroke_0 : List UInt8 := [42, 180, 0, 28, 182, 0, 219, 172]
abbrev dktX0_bestStroke_0 : List UInt8 := dkwX0_bestStroke_0 ++ []
theorem dksX0_bestStroke_0 : cX0_bestStroke.data.toList.drop 0 = dktX0_bestStroke_0 := by decide +kernel
theorem dX0_bestStroke_0 : decode cX0_bestStroke 0 = .ok (.aload_n 0, 1) := dk_42 (dk_at dksX0_bestStroke_0 0 rfl rfl)
theorem dX0_bestStroke_1 : decode cX0_bestStroke 1 = .ok (.getfield 28, 3) := dk_180 0 28 (dk_at dksX0_bestStroke_0 1 rfl rfl)
theorem dX0_bestStroke_4 : decode cX0_bestStroke 4 = .ok (.invokevirtual 219, 3) := dk_182 0 219 (dk_at dksX0_bestStroke_0 4 rfl rfl)
theorem dX0_bestStroke_7 : decode cX0_bestStroke 7 = .ok (.ireturn, 1) := dk_172 (dk_at dksX0_bestStroke_0 7 rfl rfl)
abbrev cX0_funniest : ByteArray := prog_1_method_37_code
def yX0_funniest : MethodName := ⟨RX0, "funniest", "(I)I"⟩
def dkwX0_funniest_2 : List UInt8 := [167, 255, 222, 2, 172]
abbrev dktX0_funniest_2 : List UInt8 := dkwX0_funniest_2 ++ []
def dkwX0_funniest_1 : List UInt8 := [185, 0, 247, 1, 0, 192, 0, 125, 58, 4, 28, 27, 160, 0, 9, 25, 4, 180, 0, 223, 172, 132, 2, 1]
abbrev dktX0_funniest_1 : List UInt8 := dkwX0_funniest_1 ++ dktX0_funniest_2
def dkwX0_funniest_0 : List UInt8 := [3, 61, 42, 182, 0, 231, 185, 0, 235, 1, 0, 78, 45, 185, 0, 241, 1, 0, 153, 0, 31, 45]
abbrev dktX0_funniest_0 : List UInt8 := dkwX0_funniest_0 ++ dktX0_funniest_1
theorem dksX0_funniest_0 : cX0_funniest.data.toList.drop 0 = dktX0_funniest_0 := by decide +kernel
theorem dksX0_funniest_1 : cX0_funniest.data.toList.drop 22 = dktX0_funniest_1 := dk_seg dksX0_funniest_0 22 rfl rfl
theorem dksX0_funniest_2 : cX0_funniest.data.toList.drop 46 = dktX0_funniest_2 := dk_seg dksX0_funniest_1 24 rfl rfl
theorem dX0_funniest_0 : decode cX0_funniest 0 = .ok (.iconst 0, 1) := dk_3 (dk_at dksX0_funniest_0 0 rfl rfl)
theorem dX0_funniest_1 : decode cX0_funniest 1 = .ok (.istore_n 2, 1) := dk_61 (dk_at dksX0_funniest_0 1 rfl rfl)
theorem dX0_funniest_2 : decode cX0_funniest 2 = .ok (.aload_n 0, 1) := dk_42 (dk_at dksX0_funniest_0 2 rfl rfl)
theorem dX0_funniest_3 : decode cX0_funniest 3 = .ok (.invokevirtual 231, 3) := dk_182 0 231 (dk_at dksX0_funniest_0 3 rfl rfl)
theorem dX0_funniest_6 : decode cX0_funniest 6 = .ok (.invokeinterface 235 1, 5) := by decide +kernel
theorem dX0_funniest_11 : decode cX0_funniest 11 = .ok (.astore_n 3, 1) := dk_78 (dk_at dksX0_funniest_0 11 rfl rfl)
theorem dX0_funniest_12 : decode cX0_funniest 12 = .ok (.aload_n 3, 1) := dk_45 (dk_at dksX0_funniest_0 12 rfl rfl)
theorem dX0_funniest_13 : decode cX0_funniest 13 = .ok (.invokeinterface 241 1, 5) := by decide +kernel
theorem dX0_funniest_18 : decode cX0_funniest 18 = .ok (.ifCond .eq 31, 3) := dk_153 0 31 (dk_at dksX0_funniest_0 18 rfl rfl)
theorem dX0_funniest_21 : decode cX0_funniest 21 = .ok (.aload_n 3, 1) := dk_45 (dk_at dksX0_funniest_0 21 rfl rfl)
theorem dX0_funniest_22 : decode cX0_funniest 22 = .ok (.invokeinterface 247 1, 5) := by decide +kernel
theorem dX0_funniest_27 : decode cX0_funniest 27 = .ok (.checkcast 125, 3) := dk_192 0 125 (dk_at dksX0_funniest_1 5 rfl rfl)
theorem dX0_funniest_30 : decode cX0_funniest 30 = .ok (.astore 4, 2) := dk_58 4 (dk_at dksX0_funniest_1 8 rfl rfl)
theorem dX0_funniest_32 : decode cX0_funniest 32 = .ok (.iload_n 2, 1) := dk_28 (dk_at dksX0_funniest_1 10 rfl rfl)
theorem dX0_funniest_33 : decode cX0_funniest 33 = .ok (.iload_n 1, 1) := dk_27 (dk_at dksX0_funniest_1 11 rfl rfl)
theorem dX0_funniest_34 : decode cX0_funniest 34 = .ok (.if_icmp .ne 9, 3) := dk_160 0 9 (dk_at dksX0_funniest_1 12 rfl rfl)
theorem dX0_funniest_37 : decode cX0_funniest 37 = .ok (.aload 4, 2) := dk_25 4 (dk_at dksX0_funniest_1 15 rfl rfl)
theorem dX0_funniest_39 : decode cX0_funniest 39 = .ok (.getfield 223, 3) := dk_180 0 223 (dk_at dksX0_funniest_1 17 rfl rfl)
theorem dX0_funniest_42 : decode cX0_funniest 42 = .ok (.ireturn, 1) := dk_172 (dk_at dksX0_funniest_1 20 rfl rfl)
theorem dX0_funniest_43 : decode cX0_funniest 43 = .ok (.iinc 2 1, 3) := dk_132 2 1 (dk_at dksX0_funniest_1 21 rfl rfl)
theorem dX0_funniest_46 : decode cX0_funniest 46 = .ok (.goto (-34), 3) := dk_167 255 222 (dk_at dksX0_funniest_2 0 rfl rfl)
theorem dX0_funniest_49 : decode cX0_funniest 49 = .ok (.iconst (-1), 1) := dk_2 (dk_at dksX0_funniest_2 3 rfl rfl)
theorem dX0_funniest_50 : decode cX0_funniest 50 = .ok (.ireturn, 1) := dk_172 (dk_at dksX0_funniest_2 4 rfl rfl)
abbrev cX0_byLaughs : ByteArray := prog_1_method_36_code
def yX0_byLaughs : MethodName := ⟨RX0, "byLaughs", "()Ljava/lang/Iterable;"⟩
def dkwX0_byLaughs_0 : List UInt8 := [187, 0, 226, 89, 42, 183, 0, 228, 176]
abbrev dktX0_byLaughs_0 : List UInt8 := dkwX0_byLaughs_0 ++ []
theorem dksX0_byLaughs_0 : cX0_byLaughs.data.toList.drop 0 = dktX0_byLaughs_0 := by decide +kernel
theorem dX0_byLaughs_0 : decode cX0_byLaughs 0 = .ok (.new 226, 3) := dk_187 0 226 (dk_at dksX0_byLaughs_0 0 rfl rfl)
theorem dX0_byLaughs_3 : decode cX0_byLaughs 3 = .ok (.dup, 1) := dk_89 (dk_at dksX0_byLaughs_0 3 rfl rfl)
theorem dX0_byLaughs_4 : decode cX0_byLaughs 4 = .ok (.aload_n 0, 1) := dk_42 (dk_at dksX0_byLaughs_0 4 rfl rfl)
theorem dX0_byLaughs_5 : decode cX0_byLaughs 5 = .ok (.invokespecial 228, 3) := dk_183 0 228 (dk_at dksX0_byLaughs_0 5 rfl rfl)
theorem dX0_byLaughs_8 : decode cX0_byLaughs 8 = .ok (.areturn, 1) := dk_176 (dk_at dksX0_byLaughs_0 8 rfl rfl)
abbrev cX0_inWell : ByteArray := prog_1_method_38_code
def yX0_inWell : MethodName := ⟨RX0, "inWell", "(II)I"⟩
def dkwX0_inWell_1 : List UInt8 := [199, 0, 7, 2, 167, 0, 7, 45, 180, 0, 223, 172]
abbrev dktX0_inWell_1 : List UInt8 := dkwX0_inWell_1 ++ []
def dkwX0_inWell_0 : List UInt8 := [27, 184, 0, 58, 153, 0, 15, 42, 180, 0, 28, 27, 28, 182, 0, 151, 167, 0, 4, 1, 78, 45]
abbrev dktX0_inWell_0 : List UInt8 := dkwX0_inWell_0 ++ dktX0_inWell_1
theorem dksX0_inWell_0 : cX0_inWell.data.toList.drop 0 = dktX0_inWell_0 := by decide +kernel
theorem dksX0_inWell_1 : cX0_inWell.data.toList.drop 22 = dktX0_inWell_1 := dk_seg dksX0_inWell_0 22 rfl rfl
theorem dX0_inWell_0 : decode cX0_inWell 0 = .ok (.iload_n 1, 1) := dk_27 (dk_at dksX0_inWell_0 0 rfl rfl)
theorem dX0_inWell_1 : decode cX0_inWell 1 = .ok (.invokestatic 58, 3) := dk_184 0 58 (dk_at dksX0_inWell_0 1 rfl rfl)
theorem dX0_inWell_4 : decode cX0_inWell 4 = .ok (.ifCond .eq 15, 3) := dk_153 0 15 (dk_at dksX0_inWell_0 4 rfl rfl)
theorem dX0_inWell_7 : decode cX0_inWell 7 = .ok (.aload_n 0, 1) := dk_42 (dk_at dksX0_inWell_0 7 rfl rfl)
theorem dX0_inWell_8 : decode cX0_inWell 8 = .ok (.getfield 28, 3) := dk_180 0 28 (dk_at dksX0_inWell_0 8 rfl rfl)
theorem dX0_inWell_11 : decode cX0_inWell 11 = .ok (.iload_n 1, 1) := dk_27 (dk_at dksX0_inWell_0 11 rfl rfl)
theorem dX0_inWell_12 : decode cX0_inWell 12 = .ok (.iload_n 2, 1) := dk_28 (dk_at dksX0_inWell_0 12 rfl rfl)
theorem dX0_inWell_13 : decode cX0_inWell 13 = .ok (.invokevirtual 151, 3) := dk_182 0 151 (dk_at dksX0_inWell_0 13 rfl rfl)
theorem dX0_inWell_16 : decode cX0_inWell 16 = .ok (.goto 4, 3) := dk_167 0 4 (dk_at dksX0_inWell_0 16 rfl rfl)
theorem dX0_inWell_19 : decode cX0_inWell 19 = .ok (.aconst_null, 1) := dk_1 (dk_at dksX0_inWell_0 19 rfl rfl)
theorem dX0_inWell_20 : decode cX0_inWell 20 = .ok (.astore_n 3, 1) := dk_78 (dk_at dksX0_inWell_0 20 rfl rfl)
theorem dX0_inWell_21 : decode cX0_inWell 21 = .ok (.aload_n 3, 1) := dk_45 (dk_at dksX0_inWell_0 21 rfl rfl)
theorem dX0_inWell_22 : decode cX0_inWell 22 = .ok (.ifnonnull 7, 3) := dk_199 0 7 (dk_at dksX0_inWell_1 0 rfl rfl)
theorem dX0_inWell_25 : decode cX0_inWell 25 = .ok (.iconst (-1), 1) := dk_2 (dk_at dksX0_inWell_1 3 rfl rfl)
theorem dX0_inWell_26 : decode cX0_inWell 26 = .ok (.goto 7, 3) := dk_167 0 7 (dk_at dksX0_inWell_1 4 rfl rfl)
theorem dX0_inWell_29 : decode cX0_inWell 29 = .ok (.aload_n 3, 1) := dk_45 (dk_at dksX0_inWell_1 7 rfl rfl)
theorem dX0_inWell_30 : decode cX0_inWell 30 = .ok (.getfield 223, 3) := dk_180 0 223 (dk_at dksX0_inWell_1 8 rfl rfl)
theorem dX0_inWell_33 : decode cX0_inWell 33 = .ok (.ireturn, 1) := dk_172 (dk_at dksX0_inWell_1 11 rfl rfl)
abbrev cX0_fullest : ByteArray := prog_1_method_40_code
def yX0_fullest : MethodName := ⟨RX0, "fullest", "(I)I"⟩
def dkwX0_fullest_2 : List UInt8 := [167, 255, 211, 2, 172]
abbrev dktX0_fullest_2 : List UInt8 := dkwX0_fullest_2 ++ []
def dkwX0_fullest_1 : List UInt8 := [182, 0, 251, 184, 0, 143, 96, 62, 132, 4, 1, 167, 255, 234, 29, 27, 160, 0, 5, 28, 172, 132, 2, 1]
abbrev dktX0_fullest_1 : List UInt8 := dkwX0_fullest_1 ++ dktX0_fullest_2
def dkwX0_fullest_0 : List UInt8 := [3, 61, 28, 7, 162, 0, 46, 3, 62, 3, 54, 4, 21, 4, 7, 162, 0, 22, 29, 42, 21, 4, 28]
abbrev dktX0_fullest_0 : List UInt8 := dkwX0_fullest_0 ++ dktX0_fullest_1
theorem dksX0_fullest_0 : cX0_fullest.data.toList.drop 0 = dktX0_fullest_0 := by decide +kernel
theorem dksX0_fullest_1 : cX0_fullest.data.toList.drop 23 = dktX0_fullest_1 := dk_seg dksX0_fullest_0 23 rfl rfl
theorem dksX0_fullest_2 : cX0_fullest.data.toList.drop 47 = dktX0_fullest_2 := dk_seg dksX0_fullest_1 24 rfl rfl
theorem dX0_fullest_0 : decode cX0_fullest 0 = .ok (.iconst 0, 1) := dk_3 (dk_at dksX0_fullest_0 0 rfl rfl)
theorem dX0_fullest_1 : decode cX0_fullest 1 = .ok (.istore_n 2, 1) := dk_61 (dk_at dksX0_fullest_0 1 rfl rfl)
theorem dX0_fullest_2 : decode cX0_fullest 2 = .ok (.iload_n 2, 1) := dk_28 (dk_at dksX0_fullest_0 2 rfl rfl)
theorem dX0_fullest_3 : decode cX0_fullest 3 = .ok (.iconst 4, 1) := dk_7 (dk_at dksX0_fullest_0 3 rfl rfl)
theorem dX0_fullest_4 : decode cX0_fullest 4 = .ok (.if_icmp .ge 46, 3) := dk_162 0 46 (dk_at dksX0_fullest_0 4 rfl rfl)
theorem dX0_fullest_7 : decode cX0_fullest 7 = .ok (.iconst 0, 1) := dk_3 (dk_at dksX0_fullest_0 7 rfl rfl)
theorem dX0_fullest_8 : decode cX0_fullest 8 = .ok (.istore_n 3, 1) := dk_62 (dk_at dksX0_fullest_0 8 rfl rfl)
theorem dX0_fullest_9 : decode cX0_fullest 9 = .ok (.iconst 0, 1) := dk_3 (dk_at dksX0_fullest_0 9 rfl rfl)
theorem dX0_fullest_10 : decode cX0_fullest 10 = .ok (.istore 4, 2) := dk_54 4 (dk_at dksX0_fullest_0 10 rfl rfl)
theorem dX0_fullest_12 : decode cX0_fullest 12 = .ok (.iload 4, 2) := dk_21 4 (dk_at dksX0_fullest_0 12 rfl rfl)
theorem dX0_fullest_14 : decode cX0_fullest 14 = .ok (.iconst 4, 1) := dk_7 (dk_at dksX0_fullest_0 14 rfl rfl)
theorem dX0_fullest_15 : decode cX0_fullest 15 = .ok (.if_icmp .ge 22, 3) := dk_162 0 22 (dk_at dksX0_fullest_0 15 rfl rfl)
theorem dX0_fullest_18 : decode cX0_fullest 18 = .ok (.iload_n 3, 1) := dk_29 (dk_at dksX0_fullest_0 18 rfl rfl)
theorem dX0_fullest_19 : decode cX0_fullest 19 = .ok (.aload_n 0, 1) := dk_42 (dk_at dksX0_fullest_0 19 rfl rfl)
theorem dX0_fullest_20 : decode cX0_fullest 20 = .ok (.iload 4, 2) := dk_21 4 (dk_at dksX0_fullest_0 20 rfl rfl)
theorem dX0_fullest_22 : decode cX0_fullest 22 = .ok (.iload_n 2, 1) := dk_28 (dk_at dksX0_fullest_0 22 rfl rfl)
theorem dX0_fullest_23 : decode cX0_fullest 23 = .ok (.invokevirtual 251, 3) := dk_182 0 251 (dk_at dksX0_fullest_1 0 rfl rfl)
theorem dX0_fullest_26 : decode cX0_fullest 26 = .ok (.invokestatic 143, 3) := dk_184 0 143 (dk_at dksX0_fullest_1 3 rfl rfl)
theorem dX0_fullest_29 : decode cX0_fullest 29 = .ok (.iadd, 1) := dk_96 (dk_at dksX0_fullest_1 6 rfl rfl)
theorem dX0_fullest_30 : decode cX0_fullest 30 = .ok (.istore_n 3, 1) := dk_62 (dk_at dksX0_fullest_1 7 rfl rfl)
theorem dX0_fullest_31 : decode cX0_fullest 31 = .ok (.iinc 4 1, 3) := dk_132 4 1 (dk_at dksX0_fullest_1 8 rfl rfl)
theorem dX0_fullest_34 : decode cX0_fullest 34 = .ok (.goto (-22), 3) := dk_167 255 234 (dk_at dksX0_fullest_1 11 rfl rfl)
theorem dX0_fullest_37 : decode cX0_fullest 37 = .ok (.iload_n 3, 1) := dk_29 (dk_at dksX0_fullest_1 14 rfl rfl)
theorem dX0_fullest_38 : decode cX0_fullest 38 = .ok (.iload_n 1, 1) := dk_27 (dk_at dksX0_fullest_1 15 rfl rfl)
theorem dX0_fullest_39 : decode cX0_fullest 39 = .ok (.if_icmp .ne 5, 3) := dk_160 0 5 (dk_at dksX0_fullest_1 16 rfl rfl)
theorem dX0_fullest_42 : decode cX0_fullest 42 = .ok (.iload_n 2, 1) := dk_28 (dk_at dksX0_fullest_1 19 rfl rfl)
theorem dX0_fullest_43 : decode cX0_fullest 43 = .ok (.ireturn, 1) := dk_172 (dk_at dksX0_fullest_1 20 rfl rfl)
theorem dX0_fullest_44 : decode cX0_fullest 44 = .ok (.iinc 2 1, 3) := dk_132 2 1 (dk_at dksX0_fullest_1 21 rfl rfl)
theorem dX0_fullest_47 : decode cX0_fullest 47 = .ok (.goto (-45), 3) := dk_167 255 211 (dk_at dksX0_fullest_2 0 rfl rfl)
theorem dX0_fullest_50 : decode cX0_fullest 50 = .ok (.iconst (-1), 1) := dk_2 (dk_at dksX0_fullest_2 3 rfl rfl)
theorem dX0_fullest_51 : decode cX0_fullest 51 = .ok (.ireturn, 1) := dk_172 (dk_at dksX0_fullest_2 4 rfl rfl)
abbrev cX0_isFuller : ByteArray := prog_1_method_39_code
def yX0_isFuller : MethodName := ⟨RX0, "isFuller", "(II)Z"⟩
def dkwX0_isFuller_2 : List UInt8 := [157, 0, 12, 29, 154, 0, 12, 27, 28, 162, 0, 7, 4, 167, 0, 4, 3, 172]
abbrev dktX0_isFuller_2 : List UInt8 := dkwX0_isFuller_2 ++ []
def dkwX0_isFuller_1 : List UInt8 := [167, 0, 22, 42, 180, 0, 28, 180, 0, 155, 27, 46, 42, 180, 0, 28, 180, 0, 155, 28, 46, 100, 62, 29]
abbrev dktX0_isFuller_1 : List UInt8 := dkwX0_isFuller_1 ++ dktX0_isFuller_2
def dkwX0_isFuller_0 : List UInt8 := [42, 180, 0, 28, 27, 182, 0, 159, 42, 180, 0, 28, 28, 182, 0, 159, 100, 62, 29, 153, 0, 7, 29]
abbrev dktX0_isFuller_0 : List UInt8 := dkwX0_isFuller_0 ++ dktX0_isFuller_1
theorem dksX0_isFuller_0 : cX0_isFuller.data.toList.drop 0 = dktX0_isFuller_0 := by decide +kernel
theorem dksX0_isFuller_1 : cX0_isFuller.data.toList.drop 23 = dktX0_isFuller_1 := dk_seg dksX0_isFuller_0 23 rfl rfl
theorem dksX0_isFuller_2 : cX0_isFuller.data.toList.drop 47 = dktX0_isFuller_2 := dk_seg dksX0_isFuller_1 24 rfl rfl
theorem dX0_isFuller_0 : decode cX0_isFuller 0 = .ok (.aload_n 0, 1) := dk_42 (dk_at dksX0_isFuller_0 0 rfl rfl)
theorem dX0_isFuller_1 : decode cX0_isFuller 1 = .ok (.getfield 28, 3) := dk_180 0 28 (dk_at dksX0_isFuller_0 1 rfl rfl)
theorem dX0_isFuller_4 : decode cX0_isFuller 4 = .ok (.iload_n 1, 1) := dk_27 (dk_at dksX0_isFuller_0 4 rfl rfl)
theorem dX0_isFuller_5 : decode cX0_isFuller 5 = .ok (.invokevirtual 159, 3) := dk_182 0 159 (dk_at dksX0_isFuller_0 5 rfl rfl)
theorem dX0_isFuller_8 : decode cX0_isFuller 8 = .ok (.aload_n 0, 1) := dk_42 (dk_at dksX0_isFuller_0 8 rfl rfl)
theorem dX0_isFuller_9 : decode cX0_isFuller 9 = .ok (.getfield 28, 3) := dk_180 0 28 (dk_at dksX0_isFuller_0 9 rfl rfl)
theorem dX0_isFuller_12 : decode cX0_isFuller 12 = .ok (.iload_n 2, 1) := dk_28 (dk_at dksX0_isFuller_0 12 rfl rfl)
theorem dX0_isFuller_13 : decode cX0_isFuller 13 = .ok (.invokevirtual 159, 3) := dk_182 0 159 (dk_at dksX0_isFuller_0 13 rfl rfl)
theorem dX0_isFuller_16 : decode cX0_isFuller 16 = .ok (.isub, 1) := dk_100 (dk_at dksX0_isFuller_0 16 rfl rfl)
theorem dX0_isFuller_17 : decode cX0_isFuller 17 = .ok (.istore_n 3, 1) := dk_62 (dk_at dksX0_isFuller_0 17 rfl rfl)
theorem dX0_isFuller_18 : decode cX0_isFuller 18 = .ok (.iload_n 3, 1) := dk_29 (dk_at dksX0_isFuller_0 18 rfl rfl)
theorem dX0_isFuller_19 : decode cX0_isFuller 19 = .ok (.ifCond .eq 7, 3) := dk_153 0 7 (dk_at dksX0_isFuller_0 19 rfl rfl)
theorem dX0_isFuller_22 : decode cX0_isFuller 22 = .ok (.iload_n 3, 1) := dk_29 (dk_at dksX0_isFuller_0 22 rfl rfl)
theorem dX0_isFuller_23 : decode cX0_isFuller 23 = .ok (.goto 22, 3) := dk_167 0 22 (dk_at dksX0_isFuller_1 0 rfl rfl)
theorem dX0_isFuller_26 : decode cX0_isFuller 26 = .ok (.aload_n 0, 1) := dk_42 (dk_at dksX0_isFuller_1 3 rfl rfl)
theorem dX0_isFuller_27 : decode cX0_isFuller 27 = .ok (.getfield 28, 3) := dk_180 0 28 (dk_at dksX0_isFuller_1 4 rfl rfl)
theorem dX0_isFuller_30 : decode cX0_isFuller 30 = .ok (.getfield 155, 3) := dk_180 0 155 (dk_at dksX0_isFuller_1 7 rfl rfl)
theorem dX0_isFuller_33 : decode cX0_isFuller 33 = .ok (.iload_n 1, 1) := dk_27 (dk_at dksX0_isFuller_1 10 rfl rfl)
theorem dX0_isFuller_34 : decode cX0_isFuller 34 = .ok (.iaload, 1) := dk_46 (dk_at dksX0_isFuller_1 11 rfl rfl)
theorem dX0_isFuller_35 : decode cX0_isFuller 35 = .ok (.aload_n 0, 1) := dk_42 (dk_at dksX0_isFuller_1 12 rfl rfl)
theorem dX0_isFuller_36 : decode cX0_isFuller 36 = .ok (.getfield 28, 3) := dk_180 0 28 (dk_at dksX0_isFuller_1 13 rfl rfl)
theorem dX0_isFuller_39 : decode cX0_isFuller 39 = .ok (.getfield 155, 3) := dk_180 0 155 (dk_at dksX0_isFuller_1 16 rfl rfl)
theorem dX0_isFuller_42 : decode cX0_isFuller 42 = .ok (.iload_n 2, 1) := dk_28 (dk_at dksX0_isFuller_1 19 rfl rfl)
theorem dX0_isFuller_43 : decode cX0_isFuller 43 = .ok (.iaload, 1) := dk_46 (dk_at dksX0_isFuller_1 20 rfl rfl)
theorem dX0_isFuller_44 : decode cX0_isFuller 44 = .ok (.isub, 1) := dk_100 (dk_at dksX0_isFuller_1 21 rfl rfl)
theorem dX0_isFuller_45 : decode cX0_isFuller 45 = .ok (.istore_n 3, 1) := dk_62 (dk_at dksX0_isFuller_1 22 rfl rfl)
theorem dX0_isFuller_46 : decode cX0_isFuller 46 = .ok (.iload_n 3, 1) := dk_29 (dk_at dksX0_isFuller_1 23 rfl rfl)
theorem dX0_isFuller_47 : decode cX0_isFuller 47 = .ok (.ifCond .gt 12, 3) := dk_157 0 12 (dk_at dksX0_isFuller_2 0 rfl rfl)
theorem dX0_isFuller_50 : decode cX0_isFuller 50 = .ok (.iload_n 3, 1) := dk_29 (dk_at dksX0_isFuller_2 3 rfl rfl)
theorem dX0_isFuller_51 : decode cX0_isFuller 51 = .ok (.ifCond .ne 12, 3) := dk_154 0 12 (dk_at dksX0_isFuller_2 4 rfl rfl)
theorem dX0_isFuller_54 : decode cX0_isFuller 54 = .ok (.iload_n 1, 1) := dk_27 (dk_at dksX0_isFuller_2 7 rfl rfl)
theorem dX0_isFuller_55 : decode cX0_isFuller 55 = .ok (.iload_n 2, 1) := dk_28 (dk_at dksX0_isFuller_2 8 rfl rfl)
theorem dX0_isFuller_56 : decode cX0_isFuller 56 = .ok (.if_icmp .ge 7, 3) := dk_162 0 7 (dk_at dksX0_isFuller_2 9 rfl rfl)
theorem dX0_isFuller_59 : decode cX0_isFuller 59 = .ok (.iconst 1, 1) := dk_4 (dk_at dksX0_isFuller_2 12 rfl rfl)
theorem dX0_isFuller_60 : decode cX0_isFuller 60 = .ok (.goto 4, 3) := dk_167 0 4 (dk_at dksX0_isFuller_2 13 rfl rfl)
theorem dX0_isFuller_63 : decode cX0_isFuller 63 = .ok (.iconst 0, 1) := dk_3 (dk_at dksX0_isFuller_2 16 rfl rfl)
theorem dX0_isFuller_64 : decode cX0_isFuller 64 = .ok (.ireturn, 1) := dk_172 (dk_at dksX0_isFuller_2 17 rfl rfl)
abbrev cX0_isCounted : ByteArray := prog_1_method_43_code
def yX0_isCounted : MethodName := ⟨RX0, "isCounted", "()Z"⟩
def dkwX0_isCounted_4 : List UInt8 := [180, 0, 28, 180, 1, 19, 160, 0, 7, 4, 167, 0, 4, 3, 172]
abbrev dktX0_isCounted_4 : List UInt8 := dkwX0_isCounted_4 ++ []
def dkwX0_isCounted_3 : List UInt8 := [182, 0, 187, 149, 154, 0, 32, 42, 182, 1, 13, 153, 0, 25, 42, 182, 1, 16, 153, 0, 18, 28, 42]
abbrev dktX0_isCounted_3 : List UInt8 := dkwX0_isCounted_3 ++ dktX0_isCounted_4
def dkwX0_isCounted_2 : List UInt8 := [42, 180, 0, 28, 180, 1, 10, 96, 61, 27, 153, 0, 50, 42, 180, 0, 28, 180, 0, 183, 42, 180, 0, 28]
abbrev dktX0_isCounted_2 : List UInt8 := dkwX0_isCounted_2 ++ dktX0_isCounted_3
def dkwX0_isCounted_1 : List UInt8 := [4, 167, 0, 4, 3, 60, 42, 180, 0, 28, 180, 0, 115, 182, 1, 7, 42, 180, 0, 28, 180, 0, 191, 96]
abbrev dktX0_isCounted_1 : List UInt8 := dkwX0_isCounted_1 ++ dktX0_isCounted_2
def dkwX0_isCounted_0 : List UInt8 := [187, 0, 25, 89, 42, 180, 0, 28, 183, 0, 210, 187, 1, 0, 89, 183, 1, 2, 182, 1, 3, 154, 0, 7]
abbrev dktX0_isCounted_0 : List UInt8 := dkwX0_isCounted_0 ++ dktX0_isCounted_1
theorem dksX0_isCounted_0 : cX0_isCounted.data.toList.drop 0 = dktX0_isCounted_0 := by decide +kernel
theorem dksX0_isCounted_1 : cX0_isCounted.data.toList.drop 24 = dktX0_isCounted_1 := dk_seg dksX0_isCounted_0 24 rfl rfl
theorem dksX0_isCounted_2 : cX0_isCounted.data.toList.drop 48 = dktX0_isCounted_2 := dk_seg dksX0_isCounted_1 24 rfl rfl
theorem dksX0_isCounted_3 : cX0_isCounted.data.toList.drop 72 = dktX0_isCounted_3 := dk_seg dksX0_isCounted_2 24 rfl rfl
theorem dksX0_isCounted_4 : cX0_isCounted.data.toList.drop 95 = dktX0_isCounted_4 := dk_seg dksX0_isCounted_3 23 rfl rfl
theorem dX0_isCounted_0 : decode cX0_isCounted 0 = .ok (.new 25, 3) := dk_187 0 25 (dk_at dksX0_isCounted_0 0 rfl rfl)
theorem dX0_isCounted_3 : decode cX0_isCounted 3 = .ok (.dup, 1) := dk_89 (dk_at dksX0_isCounted_0 3 rfl rfl)
theorem dX0_isCounted_4 : decode cX0_isCounted 4 = .ok (.aload_n 0, 1) := dk_42 (dk_at dksX0_isCounted_0 4 rfl rfl)
theorem dX0_isCounted_5 : decode cX0_isCounted 5 = .ok (.getfield 28, 3) := dk_180 0 28 (dk_at dksX0_isCounted_0 5 rfl rfl)
theorem dX0_isCounted_8 : decode cX0_isCounted 8 = .ok (.invokespecial 210, 3) := dk_183 0 210 (dk_at dksX0_isCounted_0 8 rfl rfl)
theorem dX0_isCounted_11 : decode cX0_isCounted 11 = .ok (.new 256, 3) := dk_187 1 0 (dk_at dksX0_isCounted_0 11 rfl rfl)
theorem dX0_isCounted_14 : decode cX0_isCounted 14 = .ok (.dup, 1) := dk_89 (dk_at dksX0_isCounted_0 14 rfl rfl)
theorem dX0_isCounted_15 : decode cX0_isCounted 15 = .ok (.invokespecial 258, 3) := dk_183 1 2 (dk_at dksX0_isCounted_0 15 rfl rfl)
theorem dX0_isCounted_18 : decode cX0_isCounted 18 = .ok (.invokevirtual 259, 3) := dk_182 1 3 (dk_at dksX0_isCounted_0 18 rfl rfl)
theorem dX0_isCounted_21 : decode cX0_isCounted 21 = .ok (.ifCond .ne 7, 3) := dk_154 0 7 (dk_at dksX0_isCounted_0 21 rfl rfl)
theorem dX0_isCounted_24 : decode cX0_isCounted 24 = .ok (.iconst 1, 1) := dk_4 (dk_at dksX0_isCounted_1 0 rfl rfl)
theorem dX0_isCounted_25 : decode cX0_isCounted 25 = .ok (.goto 4, 3) := dk_167 0 4 (dk_at dksX0_isCounted_1 1 rfl rfl)
theorem dX0_isCounted_28 : decode cX0_isCounted 28 = .ok (.iconst 0, 1) := dk_3 (dk_at dksX0_isCounted_1 4 rfl rfl)
theorem dX0_isCounted_29 : decode cX0_isCounted 29 = .ok (.istore_n 1, 1) := dk_60 (dk_at dksX0_isCounted_1 5 rfl rfl)
theorem dX0_isCounted_30 : decode cX0_isCounted 30 = .ok (.aload_n 0, 1) := dk_42 (dk_at dksX0_isCounted_1 6 rfl rfl)
theorem dX0_isCounted_31 : decode cX0_isCounted 31 = .ok (.getfield 28, 3) := dk_180 0 28 (dk_at dksX0_isCounted_1 7 rfl rfl)
theorem dX0_isCounted_34 : decode cX0_isCounted 34 = .ok (.getfield 115, 3) := dk_180 0 115 (dk_at dksX0_isCounted_1 10 rfl rfl)
theorem dX0_isCounted_37 : decode cX0_isCounted 37 = .ok (.invokevirtual 263, 3) := dk_182 1 7 (dk_at dksX0_isCounted_1 13 rfl rfl)
theorem dX0_isCounted_40 : decode cX0_isCounted 40 = .ok (.aload_n 0, 1) := dk_42 (dk_at dksX0_isCounted_1 16 rfl rfl)
theorem dX0_isCounted_41 : decode cX0_isCounted 41 = .ok (.getfield 28, 3) := dk_180 0 28 (dk_at dksX0_isCounted_1 17 rfl rfl)
theorem dX0_isCounted_44 : decode cX0_isCounted 44 = .ok (.getfield 191, 3) := dk_180 0 191 (dk_at dksX0_isCounted_1 20 rfl rfl)
theorem dX0_isCounted_47 : decode cX0_isCounted 47 = .ok (.iadd, 1) := dk_96 (dk_at dksX0_isCounted_1 23 rfl rfl)
theorem dX0_isCounted_48 : decode cX0_isCounted 48 = .ok (.aload_n 0, 1) := dk_42 (dk_at dksX0_isCounted_2 0 rfl rfl)
theorem dX0_isCounted_49 : decode cX0_isCounted 49 = .ok (.getfield 28, 3) := dk_180 0 28 (dk_at dksX0_isCounted_2 1 rfl rfl)
theorem dX0_isCounted_52 : decode cX0_isCounted 52 = .ok (.getfield 266, 3) := dk_180 1 10 (dk_at dksX0_isCounted_2 4 rfl rfl)
theorem dX0_isCounted_55 : decode cX0_isCounted 55 = .ok (.iadd, 1) := dk_96 (dk_at dksX0_isCounted_2 7 rfl rfl)
theorem dX0_isCounted_56 : decode cX0_isCounted 56 = .ok (.istore_n 2, 1) := dk_61 (dk_at dksX0_isCounted_2 8 rfl rfl)
theorem dX0_isCounted_57 : decode cX0_isCounted 57 = .ok (.iload_n 1, 1) := dk_27 (dk_at dksX0_isCounted_2 9 rfl rfl)
theorem dX0_isCounted_58 : decode cX0_isCounted 58 = .ok (.ifCond .eq 50, 3) := dk_153 0 50 (dk_at dksX0_isCounted_2 10 rfl rfl)
theorem dX0_isCounted_61 : decode cX0_isCounted 61 = .ok (.aload_n 0, 1) := dk_42 (dk_at dksX0_isCounted_2 13 rfl rfl)
theorem dX0_isCounted_62 : decode cX0_isCounted 62 = .ok (.getfield 28, 3) := dk_180 0 28 (dk_at dksX0_isCounted_2 14 rfl rfl)
theorem dX0_isCounted_65 : decode cX0_isCounted 65 = .ok (.getfield 183, 3) := dk_180 0 183 (dk_at dksX0_isCounted_2 17 rfl rfl)
theorem dX0_isCounted_68 : decode cX0_isCounted 68 = .ok (.aload_n 0, 1) := dk_42 (dk_at dksX0_isCounted_2 20 rfl rfl)
theorem dX0_isCounted_69 : decode cX0_isCounted 69 = .ok (.getfield 28, 3) := dk_180 0 28 (dk_at dksX0_isCounted_2 21 rfl rfl)
theorem dX0_isCounted_72 : decode cX0_isCounted 72 = .ok (.invokevirtual 187, 3) := dk_182 0 187 (dk_at dksX0_isCounted_3 0 rfl rfl)
theorem dX0_isCounted_75 : decode cX0_isCounted 75 = .ok (.fcmp .l, 1) := dk_149 (dk_at dksX0_isCounted_3 3 rfl rfl)
theorem dX0_isCounted_76 : decode cX0_isCounted 76 = .ok (.ifCond .ne 32, 3) := dk_154 0 32 (dk_at dksX0_isCounted_3 4 rfl rfl)
theorem dX0_isCounted_79 : decode cX0_isCounted 79 = .ok (.aload_n 0, 1) := dk_42 (dk_at dksX0_isCounted_3 7 rfl rfl)
theorem dX0_isCounted_80 : decode cX0_isCounted 80 = .ok (.invokevirtual 269, 3) := dk_182 1 13 (dk_at dksX0_isCounted_3 8 rfl rfl)
theorem dX0_isCounted_83 : decode cX0_isCounted 83 = .ok (.ifCond .eq 25, 3) := dk_153 0 25 (dk_at dksX0_isCounted_3 11 rfl rfl)
theorem dX0_isCounted_86 : decode cX0_isCounted 86 = .ok (.aload_n 0, 1) := dk_42 (dk_at dksX0_isCounted_3 14 rfl rfl)
theorem dX0_isCounted_87 : decode cX0_isCounted 87 = .ok (.invokevirtual 272, 3) := dk_182 1 16 (dk_at dksX0_isCounted_3 15 rfl rfl)
theorem dX0_isCounted_90 : decode cX0_isCounted 90 = .ok (.ifCond .eq 18, 3) := dk_153 0 18 (dk_at dksX0_isCounted_3 18 rfl rfl)
theorem dX0_isCounted_93 : decode cX0_isCounted 93 = .ok (.iload_n 2, 1) := dk_28 (dk_at dksX0_isCounted_3 21 rfl rfl)
theorem dX0_isCounted_94 : decode cX0_isCounted 94 = .ok (.aload_n 0, 1) := dk_42 (dk_at dksX0_isCounted_3 22 rfl rfl)
theorem dX0_isCounted_95 : decode cX0_isCounted 95 = .ok (.getfield 28, 3) := dk_180 0 28 (dk_at dksX0_isCounted_4 0 rfl rfl)
theorem dX0_isCounted_98 : decode cX0_isCounted 98 = .ok (.getfield 275, 3) := dk_180 1 19 (dk_at dksX0_isCounted_4 3 rfl rfl)
theorem dX0_isCounted_101 : decode cX0_isCounted 101 = .ok (.if_icmp .ne 7, 3) := dk_160 0 7 (dk_at dksX0_isCounted_4 6 rfl rfl)
theorem dX0_isCounted_104 : decode cX0_isCounted 104 = .ok (.iconst 1, 1) := dk_4 (dk_at dksX0_isCounted_4 9 rfl rfl)
theorem dX0_isCounted_105 : decode cX0_isCounted 105 = .ok (.goto 4, 3) := dk_167 0 4 (dk_at dksX0_isCounted_4 10 rfl rfl)
theorem dX0_isCounted_108 : decode cX0_isCounted 108 = .ok (.iconst 0, 1) := dk_3 (dk_at dksX0_isCounted_4 13 rfl rfl)
theorem dX0_isCounted_109 : decode cX0_isCounted 109 = .ok (.ireturn, 1) := dk_172 (dk_at dksX0_isCounted_4 14 rfl rfl)
abbrev cX0_areStrokesAlike : ByteArray := prog_1_method_41_code
def yX0_areStrokesAlike : MethodName := ⟨RX0, "areStrokesAlike", "()Z"⟩
def dkwX0_areStrokesAlike_1 : List UInt8 := [159, 0, 5, 3, 172, 132, 1, 1, 167, 255, 226, 4, 172]
abbrev dktX0_areStrokesAlike_1 : List UInt8 := dkwX0_areStrokesAlike_1 ++ []
def dkwX0_areStrokesAlike_0 : List UInt8 := [4, 60, 27, 16, 30, 163, 0, 30, 42, 180, 0, 28, 27, 182, 0, 204, 42, 180, 0, 28, 27, 182, 0, 207]
abbrev dktX0_areStrokesAlike_0 : List UInt8 := dkwX0_areStrokesAlike_0 ++ dktX0_areStrokesAlike_1
theorem dksX0_areStrokesAlike_0 : cX0_areStrokesAlike.data.toList.drop 0 = dktX0_areStrokesAlike_0 := by decide +kernel
theorem dksX0_areStrokesAlike_1 : cX0_areStrokesAlike.data.toList.drop 24 = dktX0_areStrokesAlike_1 := dk_seg dksX0_areStrokesAlike_0 24 rfl rfl
theorem dX0_areStrokesAlike_0 : decode cX0_areStrokesAlike 0 = .ok (.iconst 1, 1) := dk_4 (dk_at dksX0_areStrokesAlike_0 0 rfl rfl)
theorem dX0_areStrokesAlike_1 : decode cX0_areStrokesAlike 1 = .ok (.istore_n 1, 1) := dk_60 (dk_at dksX0_areStrokesAlike_0 1 rfl rfl)
theorem dX0_areStrokesAlike_2 : decode cX0_areStrokesAlike 2 = .ok (.iload_n 1, 1) := dk_27 (dk_at dksX0_areStrokesAlike_0 2 rfl rfl)
theorem dX0_areStrokesAlike_3 : decode cX0_areStrokesAlike 3 = .ok (.bipush 30, 2) := dk_16 30 (dk_at dksX0_areStrokesAlike_0 3 rfl rfl)
theorem dX0_areStrokesAlike_5 : decode cX0_areStrokesAlike 5 = .ok (.if_icmp .gt 30, 3) := dk_163 0 30 (dk_at dksX0_areStrokesAlike_0 5 rfl rfl)
theorem dX0_areStrokesAlike_8 : decode cX0_areStrokesAlike 8 = .ok (.aload_n 0, 1) := dk_42 (dk_at dksX0_areStrokesAlike_0 8 rfl rfl)
theorem dX0_areStrokesAlike_9 : decode cX0_areStrokesAlike 9 = .ok (.getfield 28, 3) := dk_180 0 28 (dk_at dksX0_areStrokesAlike_0 9 rfl rfl)
theorem dX0_areStrokesAlike_12 : decode cX0_areStrokesAlike 12 = .ok (.iload_n 1, 1) := dk_27 (dk_at dksX0_areStrokesAlike_0 12 rfl rfl)
theorem dX0_areStrokesAlike_13 : decode cX0_areStrokesAlike 13 = .ok (.invokevirtual 204, 3) := dk_182 0 204 (dk_at dksX0_areStrokesAlike_0 13 rfl rfl)
theorem dX0_areStrokesAlike_16 : decode cX0_areStrokesAlike 16 = .ok (.aload_n 0, 1) := dk_42 (dk_at dksX0_areStrokesAlike_0 16 rfl rfl)
theorem dX0_areStrokesAlike_17 : decode cX0_areStrokesAlike 17 = .ok (.getfield 28, 3) := dk_180 0 28 (dk_at dksX0_areStrokesAlike_0 17 rfl rfl)
theorem dX0_areStrokesAlike_20 : decode cX0_areStrokesAlike 20 = .ok (.iload_n 1, 1) := dk_27 (dk_at dksX0_areStrokesAlike_0 20 rfl rfl)
theorem dX0_areStrokesAlike_21 : decode cX0_areStrokesAlike 21 = .ok (.invokevirtual 207, 3) := dk_182 0 207 (dk_at dksX0_areStrokesAlike_0 21 rfl rfl)
theorem dX0_areStrokesAlike_24 : decode cX0_areStrokesAlike 24 = .ok (.if_icmp .eq 5, 3) := dk_159 0 5 (dk_at dksX0_areStrokesAlike_1 0 rfl rfl)
theorem dX0_areStrokesAlike_27 : decode cX0_areStrokesAlike 27 = .ok (.iconst 0, 1) := dk_3 (dk_at dksX0_areStrokesAlike_1 3 rfl rfl)
theorem dX0_areStrokesAlike_28 : decode cX0_areStrokesAlike 28 = .ok (.ireturn, 1) := dk_172 (dk_at dksX0_areStrokesAlike_1 4 rfl rfl)
theorem dX0_areStrokesAlike_29 : decode cX0_areStrokesAlike 29 = .ok (.iinc 1 1, 3) := dk_132 1 1 (dk_at dksX0_areStrokesAlike_1 5 rfl rfl)
theorem dX0_areStrokesAlike_32 : decode cX0_areStrokesAlike 32 = .ok (.goto (-30), 3) := dk_167 255 226 (dk_at dksX0_areStrokesAlike_1 8 rfl rfl)
theorem dX0_areStrokesAlike_35 : decode cX0_areStrokesAlike 35 = .ok (.iconst 1, 1) := dk_4 (dk_at dksX0_areStrokesAlike_1 11 rfl rfl)
theorem dX0_areStrokesAlike_36 : decode cX0_areStrokesAlike 36 = .ok (.ireturn, 1) := dk_172 (dk_at dksX0_areStrokesAlike_1 12 rfl rfl)
abbrev cX0_isNoneKnown : ByteArray := prog_1_method_42_code
def yX0_isNoneKnown : MethodName := ⟨RX0, "isNoneKnown", "()Z"⟩
def dkwX0_isNoneKnown_2 : List UInt8 := [3, 172, 167, 255, 220, 4, 172]
abbrev dktX0_isNoneKnown_2 : List UInt8 := dkwX0_isNoneKnown_2 ++ []
def dkwX0_isNoneKnown_1 : List UInt8 := [185, 0, 247, 1, 0, 192, 0, 125, 77, 42, 180, 0, 28, 180, 0, 169, 44, 180, 0, 133, 51, 153, 0, 5]
abbrev dktX0_isNoneKnown_1 : List UInt8 := dkwX0_isNoneKnown_1 ++ dktX0_isNoneKnown_2
def dkwX0_isNoneKnown_0 : List UInt8 := [42, 180, 0, 28, 180, 0, 115, 182, 0, 255, 76, 43, 185, 0, 241, 1, 0, 153, 0, 33, 43]
abbrev dktX0_isNoneKnown_0 : List UInt8 := dkwX0_isNoneKnown_0 ++ dktX0_isNoneKnown_1
theorem dksX0_isNoneKnown_0 : cX0_isNoneKnown.data.toList.drop 0 = dktX0_isNoneKnown_0 := by decide +kernel
theorem dksX0_isNoneKnown_1 : cX0_isNoneKnown.data.toList.drop 21 = dktX0_isNoneKnown_1 := dk_seg dksX0_isNoneKnown_0 21 rfl rfl
theorem dksX0_isNoneKnown_2 : cX0_isNoneKnown.data.toList.drop 45 = dktX0_isNoneKnown_2 := dk_seg dksX0_isNoneKnown_1 24 rfl rfl
theorem dX0_isNoneKnown_0 : decode cX0_isNoneKnown 0 = .ok (.aload_n 0, 1) := dk_42 (dk_at dksX0_isNoneKnown_0 0 rfl rfl)
theorem dX0_isNoneKnown_1 : decode cX0_isNoneKnown 1 = .ok (.getfield 28, 3) := dk_180 0 28 (dk_at dksX0_isNoneKnown_0 1 rfl rfl)
theorem dX0_isNoneKnown_4 : decode cX0_isNoneKnown 4 = .ok (.getfield 115, 3) := dk_180 0 115 (dk_at dksX0_isNoneKnown_0 4 rfl rfl)
theorem dX0_isNoneKnown_7 : decode cX0_isNoneKnown 7 = .ok (.invokevirtual 255, 3) := dk_182 0 255 (dk_at dksX0_isNoneKnown_0 7 rfl rfl)
theorem dX0_isNoneKnown_10 : decode cX0_isNoneKnown 10 = .ok (.astore_n 1, 1) := dk_76 (dk_at dksX0_isNoneKnown_0 10 rfl rfl)
theorem dX0_isNoneKnown_11 : decode cX0_isNoneKnown 11 = .ok (.aload_n 1, 1) := dk_43 (dk_at dksX0_isNoneKnown_0 11 rfl rfl)
theorem dX0_isNoneKnown_12 : decode cX0_isNoneKnown 12 = .ok (.invokeinterface 241 1, 5) := by decide +kernel
theorem dX0_isNoneKnown_17 : decode cX0_isNoneKnown 17 = .ok (.ifCond .eq 33, 3) := dk_153 0 33 (dk_at dksX0_isNoneKnown_0 17 rfl rfl)
theorem dX0_isNoneKnown_20 : decode cX0_isNoneKnown 20 = .ok (.aload_n 1, 1) := dk_43 (dk_at dksX0_isNoneKnown_0 20 rfl rfl)
theorem dX0_isNoneKnown_21 : decode cX0_isNoneKnown 21 = .ok (.invokeinterface 247 1, 5) := by decide +kernel
theorem dX0_isNoneKnown_26 : decode cX0_isNoneKnown 26 = .ok (.checkcast 125, 3) := dk_192 0 125 (dk_at dksX0_isNoneKnown_1 5 rfl rfl)
theorem dX0_isNoneKnown_29 : decode cX0_isNoneKnown 29 = .ok (.astore_n 2, 1) := dk_77 (dk_at dksX0_isNoneKnown_1 8 rfl rfl)
theorem dX0_isNoneKnown_30 : decode cX0_isNoneKnown 30 = .ok (.aload_n 0, 1) := dk_42 (dk_at dksX0_isNoneKnown_1 9 rfl rfl)
theorem dX0_isNoneKnown_31 : decode cX0_isNoneKnown 31 = .ok (.getfield 28, 3) := dk_180 0 28 (dk_at dksX0_isNoneKnown_1 10 rfl rfl)
theorem dX0_isNoneKnown_34 : decode cX0_isNoneKnown 34 = .ok (.getfield 169, 3) := dk_180 0 169 (dk_at dksX0_isNoneKnown_1 13 rfl rfl)
theorem dX0_isNoneKnown_37 : decode cX0_isNoneKnown 37 = .ok (.aload_n 2, 1) := dk_44 (dk_at dksX0_isNoneKnown_1 16 rfl rfl)
theorem dX0_isNoneKnown_38 : decode cX0_isNoneKnown 38 = .ok (.getfield 133, 3) := dk_180 0 133 (dk_at dksX0_isNoneKnown_1 17 rfl rfl)
theorem dX0_isNoneKnown_41 : decode cX0_isNoneKnown 41 = .ok (.baload, 1) := dk_51 (dk_at dksX0_isNoneKnown_1 20 rfl rfl)
theorem dX0_isNoneKnown_42 : decode cX0_isNoneKnown 42 = .ok (.ifCond .eq 5, 3) := dk_153 0 5 (dk_at dksX0_isNoneKnown_1 21 rfl rfl)
theorem dX0_isNoneKnown_45 : decode cX0_isNoneKnown 45 = .ok (.iconst 0, 1) := dk_3 (dk_at dksX0_isNoneKnown_2 0 rfl rfl)
theorem dX0_isNoneKnown_46 : decode cX0_isNoneKnown 46 = .ok (.ireturn, 1) := dk_172 (dk_at dksX0_isNoneKnown_2 1 rfl rfl)
theorem dX0_isNoneKnown_47 : decode cX0_isNoneKnown 47 = .ok (.goto (-36), 3) := dk_167 255 220 (dk_at dksX0_isNoneKnown_2 2 rfl rfl)
theorem dX0_isNoneKnown_50 : decode cX0_isNoneKnown 50 = .ok (.iconst 1, 1) := dk_4 (dk_at dksX0_isNoneKnown_2 5 rfl rfl)
theorem dX0_isNoneKnown_51 : decode cX0_isNoneKnown 51 = .ok (.ireturn, 1) := dk_172 (dk_at dksX0_isNoneKnown_2 6 rfl rfl)
abbrev cX0_meanDepth : ByteArray := prog_1_method_44_code
def yX0_meanDepth : MethodName := ⟨RX0, "meanDepth", "()D"⟩
def dkwX0_meanDepth_2 : List UInt8 := [167, 0, 17, 27, 135, 42, 180, 0, 28, 180, 0, 115, 182, 1, 7, 135, 111, 175]
abbrev dktX0_meanDepth_2 : List UInt8 := dkwX0_meanDepth_2 ++ []
def dkwX0_meanDepth_1 : List UInt8 := [185, 0, 247, 1, 0, 192, 0, 125, 78, 27, 45, 180, 0, 130, 96, 60, 167, 255, 230, 27, 154, 0, 7, 14]
abbrev dktX0_meanDepth_1 : List UInt8 := dkwX0_meanDepth_1 ++ dktX0_meanDepth_2
def dkwX0_meanDepth_0 : List UInt8 := [3, 60, 42, 180, 0, 28, 180, 0, 115, 182, 0, 255, 77, 44, 185, 0, 241, 1, 0, 153, 0, 23, 44]
abbrev dktX0_meanDepth_0 : List UInt8 := dkwX0_meanDepth_0 ++ dktX0_meanDepth_1
theorem dksX0_meanDepth_0 : cX0_meanDepth.data.toList.drop 0 = dktX0_meanDepth_0 := by decide +kernel
theorem dksX0_meanDepth_1 : cX0_meanDepth.data.toList.drop 23 = dktX0_meanDepth_1 := dk_seg dksX0_meanDepth_0 23 rfl rfl
theorem dksX0_meanDepth_2 : cX0_meanDepth.data.toList.drop 47 = dktX0_meanDepth_2 := dk_seg dksX0_meanDepth_1 24 rfl rfl
theorem dX0_meanDepth_0 : decode cX0_meanDepth 0 = .ok (.iconst 0, 1) := dk_3 (dk_at dksX0_meanDepth_0 0 rfl rfl)
theorem dX0_meanDepth_1 : decode cX0_meanDepth 1 = .ok (.istore_n 1, 1) := dk_60 (dk_at dksX0_meanDepth_0 1 rfl rfl)
theorem dX0_meanDepth_2 : decode cX0_meanDepth 2 = .ok (.aload_n 0, 1) := dk_42 (dk_at dksX0_meanDepth_0 2 rfl rfl)
theorem dX0_meanDepth_3 : decode cX0_meanDepth 3 = .ok (.getfield 28, 3) := dk_180 0 28 (dk_at dksX0_meanDepth_0 3 rfl rfl)
theorem dX0_meanDepth_6 : decode cX0_meanDepth 6 = .ok (.getfield 115, 3) := dk_180 0 115 (dk_at dksX0_meanDepth_0 6 rfl rfl)
theorem dX0_meanDepth_9 : decode cX0_meanDepth 9 = .ok (.invokevirtual 255, 3) := dk_182 0 255 (dk_at dksX0_meanDepth_0 9 rfl rfl)
theorem dX0_meanDepth_12 : decode cX0_meanDepth 12 = .ok (.astore_n 2, 1) := dk_77 (dk_at dksX0_meanDepth_0 12 rfl rfl)
theorem dX0_meanDepth_13 : decode cX0_meanDepth 13 = .ok (.aload_n 2, 1) := dk_44 (dk_at dksX0_meanDepth_0 13 rfl rfl)
theorem dX0_meanDepth_14 : decode cX0_meanDepth 14 = .ok (.invokeinterface 241 1, 5) := by decide +kernel
theorem dX0_meanDepth_19 : decode cX0_meanDepth 19 = .ok (.ifCond .eq 23, 3) := dk_153 0 23 (dk_at dksX0_meanDepth_0 19 rfl rfl)
theorem dX0_meanDepth_22 : decode cX0_meanDepth 22 = .ok (.aload_n 2, 1) := dk_44 (dk_at dksX0_meanDepth_0 22 rfl rfl)
theorem dX0_meanDepth_23 : decode cX0_meanDepth 23 = .ok (.invokeinterface 247 1, 5) := by decide +kernel
theorem dX0_meanDepth_28 : decode cX0_meanDepth 28 = .ok (.checkcast 125, 3) := dk_192 0 125 (dk_at dksX0_meanDepth_1 5 rfl rfl)
theorem dX0_meanDepth_31 : decode cX0_meanDepth 31 = .ok (.astore_n 3, 1) := dk_78 (dk_at dksX0_meanDepth_1 8 rfl rfl)
theorem dX0_meanDepth_32 : decode cX0_meanDepth 32 = .ok (.iload_n 1, 1) := dk_27 (dk_at dksX0_meanDepth_1 9 rfl rfl)
theorem dX0_meanDepth_33 : decode cX0_meanDepth 33 = .ok (.aload_n 3, 1) := dk_45 (dk_at dksX0_meanDepth_1 10 rfl rfl)
theorem dX0_meanDepth_34 : decode cX0_meanDepth 34 = .ok (.getfield 130, 3) := dk_180 0 130 (dk_at dksX0_meanDepth_1 11 rfl rfl)
theorem dX0_meanDepth_37 : decode cX0_meanDepth 37 = .ok (.iadd, 1) := dk_96 (dk_at dksX0_meanDepth_1 14 rfl rfl)
theorem dX0_meanDepth_38 : decode cX0_meanDepth 38 = .ok (.istore_n 1, 1) := dk_60 (dk_at dksX0_meanDepth_1 15 rfl rfl)
theorem dX0_meanDepth_39 : decode cX0_meanDepth 39 = .ok (.goto (-26), 3) := dk_167 255 230 (dk_at dksX0_meanDepth_1 16 rfl rfl)
theorem dX0_meanDepth_42 : decode cX0_meanDepth 42 = .ok (.iload_n 1, 1) := dk_27 (dk_at dksX0_meanDepth_1 19 rfl rfl)
theorem dX0_meanDepth_43 : decode cX0_meanDepth 43 = .ok (.ifCond .ne 7, 3) := dk_154 0 7 (dk_at dksX0_meanDepth_1 20 rfl rfl)
theorem dX0_meanDepth_46 : decode cX0_meanDepth 46 = .ok (.dconst 0, 1) := dk_14 (dk_at dksX0_meanDepth_1 23 rfl rfl)
theorem dX0_meanDepth_47 : decode cX0_meanDepth 47 = .ok (.goto 17, 3) := dk_167 0 17 (dk_at dksX0_meanDepth_2 0 rfl rfl)
theorem dX0_meanDepth_50 : decode cX0_meanDepth 50 = .ok (.iload_n 1, 1) := dk_27 (dk_at dksX0_meanDepth_2 3 rfl rfl)
theorem dX0_meanDepth_51 : decode cX0_meanDepth 51 = .ok (.i2d, 1) := dk_135 (dk_at dksX0_meanDepth_2 4 rfl rfl)
theorem dX0_meanDepth_52 : decode cX0_meanDepth 52 = .ok (.aload_n 0, 1) := dk_42 (dk_at dksX0_meanDepth_2 5 rfl rfl)
theorem dX0_meanDepth_53 : decode cX0_meanDepth 53 = .ok (.getfield 28, 3) := dk_180 0 28 (dk_at dksX0_meanDepth_2 6 rfl rfl)
theorem dX0_meanDepth_56 : decode cX0_meanDepth 56 = .ok (.getfield 115, 3) := dk_180 0 115 (dk_at dksX0_meanDepth_2 9 rfl rfl)
theorem dX0_meanDepth_59 : decode cX0_meanDepth 59 = .ok (.invokevirtual 263, 3) := dk_182 1 7 (dk_at dksX0_meanDepth_2 12 rfl rfl)
theorem dX0_meanDepth_62 : decode cX0_meanDepth 62 = .ok (.i2d, 1) := dk_135 (dk_at dksX0_meanDepth_2 15 rfl rfl)
theorem dX0_meanDepth_63 : decode cX0_meanDepth 63 = .ok (.ddiv, 1) := dk_111 (dk_at dksX0_meanDepth_2 16 rfl rfl)
theorem dX0_meanDepth_64 : decode cX0_meanDepth 64 = .ok (.dreturn, 1) := dk_175 (dk_at dksX0_meanDepth_2 17 rfl rfl)
abbrev cX0_knownShare : ByteArray := prog_1_method_45_code
def yX0_knownShare : MethodName := ⟨RX0, "knownShare", "()F"⟩
def dkwX0_knownShare_0 : List UInt8 := [42, 180, 0, 28, 180, 0, 191, 134, 19, 1, 22, 110, 174]
abbrev dktX0_knownShare_0 : List UInt8 := dkwX0_knownShare_0 ++ []
theorem dksX0_knownShare_0 : cX0_knownShare.data.toList.drop 0 = dktX0_knownShare_0 := by decide +kernel
theorem dX0_knownShare_0 : decode cX0_knownShare 0 = .ok (.aload_n 0, 1) := dk_42 (dk_at dksX0_knownShare_0 0 rfl rfl)
theorem dX0_knownShare_1 : decode cX0_knownShare 1 = .ok (.getfield 28, 3) := dk_180 0 28 (dk_at dksX0_knownShare_0 1 rfl rfl)
theorem dX0_knownShare_4 : decode cX0_knownShare 4 = .ok (.getfield 191, 3) := dk_180 0 191 (dk_at dksX0_knownShare_0 4 rfl rfl)
theorem dX0_knownShare_7 : decode cX0_knownShare 7 = .ok (.i2f, 1) := dk_134 (dk_at dksX0_knownShare_0 7 rfl rfl)
theorem dX0_knownShare_8 : decode cX0_knownShare 8 = .ok (.ldc_w 278, 3) := dk_19 1 22 (dk_at dksX0_knownShare_0 8 rfl rfl)
theorem dX0_knownShare_11 : decode cX0_knownShare 11 = .ok (.fdiv, 1) := dk_110 (dk_at dksX0_knownShare_0 11 rfl rfl)
theorem dX0_knownShare_12 : decode cX0_knownShare 12 = .ok (.freturn, 1) := dk_174 (dk_at dksX0_knownShare_0 12 rfl rfl)
abbrev cX0_account : ByteArray := prog_1_method_46_code
def yX0_account : MethodName := ⟨RX0, "account", "(I)I"⟩
def dkwX0_account_6 : List UInt8 := [182, 1, 39, 172, 42, 180, 1, 42, 172, 42, 180, 0, 35, 182, 1, 45, 172, 16, 254, 172]
abbrev dktX0_account_6 : List UInt8 := dkwX0_account_6 ++ []
def dkwX0_account_5 : List UInt8 := [180, 1, 10, 172, 42, 180, 0, 28, 180, 1, 33, 172, 42, 180, 0, 28, 180, 1, 36, 172, 42, 180, 0, 28]
abbrev dktX0_account_5 : List UInt8 := dkwX0_account_5 ++ dktX0_account_6
def dkwX0_account_4 : List UInt8 := [180, 1, 30, 172, 42, 180, 0, 28, 180, 0, 191, 172, 42, 180, 0, 28, 180, 1, 19, 172, 42, 180, 0, 28]
abbrev dktX0_account_4 : List UInt8 := dkwX0_account_4 ++ dktX0_account_5
def dkwX0_account_3 : List UInt8 := [180, 1, 24, 172, 42, 180, 0, 28, 180, 1, 27, 172, 42, 180, 0, 28, 180, 0, 216, 172, 42, 180, 0, 28]
abbrev dktX0_account_3 : List UInt8 := dkwX0_account_3 ++ dktX0_account_4
def dkwX0_account_2 : List UInt8 := [42, 180, 0, 28, 180, 0, 115, 182, 1, 7, 172, 42, 180, 0, 28, 180, 1, 23, 172, 42, 180, 0, 28]
abbrev dktX0_account_2 : List UInt8 := dkwX0_account_2 ++ dktX0_account_3
def dkwX0_account_1 : List UInt8 := [170, 0, 0, 0, 0, 0, 183, 0, 0, 0, 0, 0, 0, 0, 13, 0, 0, 0, 71, 0, 0, 0, 82, 0, 0, 0, 90, 0, 0, 0, 98, 0, 0, 0, 106, 0, 0, 0, 114, 0, 0, 0, 122, 0, 0, 0, 130, 0, 0, 0, 138, 0, 0, 0, 146, 0, 0, 0, 154, 0, 0, 0, 162, 0, 0, 0, 170, 0, 0, 0, 175]
abbrev dktX0_account_1 : List UInt8 := dkwX0_account_1 ++ dktX0_account_2
def dkwX0_account_0 : List UInt8 := [27]
abbrev dktX0_account_0 : List UInt8 := dkwX0_account_0 ++ dktX0_account_1
theorem dksX0_account_0 : cX0_account.data.toList.drop 0 = dktX0_account_0 := by decide +kernel
theorem dksX0_account_1 : cX0_account.data.toList.drop 1 = dktX0_account_1 := dk_seg dksX0_account_0 1 rfl rfl
theorem dksX0_account_2 : cX0_account.data.toList.drop 72 = dktX0_account_2 := dk_seg dksX0_account_1 71 rfl rfl
theorem dksX0_account_3 : cX0_account.data.toList.drop 95 = dktX0_account_3 := dk_seg dksX0_account_2 23 rfl rfl
theorem dksX0_account_4 : cX0_account.data.toList.drop 119 = dktX0_account_4 := dk_seg dksX0_account_3 24 rfl rfl
theorem dksX0_account_5 : cX0_account.data.toList.drop 143 = dktX0_account_5 := dk_seg dksX0_account_4 24 rfl rfl
theorem dksX0_account_6 : cX0_account.data.toList.drop 167 = dktX0_account_6 := dk_seg dksX0_account_5 24 rfl rfl
theorem dX0_account_0 : decode cX0_account 0 = .ok (.iload_n 1, 1) := dk_27 (dk_at dksX0_account_0 0 rfl rfl)
theorem dX0_account_1 : decode cX0_account 1 = .ok (.tableswitch 183 0 13 #[71, 82, 90, 98, 106, 114, 122, 130, 138, 146, 154, 162, 170, 175], 71) := by decide +kernel
theorem dX0_account_72 : decode cX0_account 72 = .ok (.aload_n 0, 1) := dk_42 (dk_at dksX0_account_2 0 rfl rfl)
theorem dX0_account_73 : decode cX0_account 73 = .ok (.getfield 28, 3) := dk_180 0 28 (dk_at dksX0_account_2 1 rfl rfl)
theorem dX0_account_76 : decode cX0_account 76 = .ok (.getfield 115, 3) := dk_180 0 115 (dk_at dksX0_account_2 4 rfl rfl)
theorem dX0_account_79 : decode cX0_account 79 = .ok (.invokevirtual 263, 3) := dk_182 1 7 (dk_at dksX0_account_2 7 rfl rfl)
theorem dX0_account_82 : decode cX0_account 82 = .ok (.ireturn, 1) := dk_172 (dk_at dksX0_account_2 10 rfl rfl)
theorem dX0_account_83 : decode cX0_account 83 = .ok (.aload_n 0, 1) := dk_42 (dk_at dksX0_account_2 11 rfl rfl)
theorem dX0_account_84 : decode cX0_account 84 = .ok (.getfield 28, 3) := dk_180 0 28 (dk_at dksX0_account_2 12 rfl rfl)
theorem dX0_account_87 : decode cX0_account 87 = .ok (.getfield 279, 3) := dk_180 1 23 (dk_at dksX0_account_2 15 rfl rfl)
theorem dX0_account_90 : decode cX0_account 90 = .ok (.ireturn, 1) := dk_172 (dk_at dksX0_account_2 18 rfl rfl)
theorem dX0_account_91 : decode cX0_account 91 = .ok (.aload_n 0, 1) := dk_42 (dk_at dksX0_account_2 19 rfl rfl)
theorem dX0_account_92 : decode cX0_account 92 = .ok (.getfield 28, 3) := dk_180 0 28 (dk_at dksX0_account_2 20 rfl rfl)
theorem dX0_account_95 : decode cX0_account 95 = .ok (.getfield 280, 3) := dk_180 1 24 (dk_at dksX0_account_3 0 rfl rfl)
theorem dX0_account_98 : decode cX0_account 98 = .ok (.ireturn, 1) := dk_172 (dk_at dksX0_account_3 3 rfl rfl)
theorem dX0_account_99 : decode cX0_account 99 = .ok (.aload_n 0, 1) := dk_42 (dk_at dksX0_account_3 4 rfl rfl)
theorem dX0_account_100 : decode cX0_account 100 = .ok (.getfield 28, 3) := dk_180 0 28 (dk_at dksX0_account_3 5 rfl rfl)
theorem dX0_account_103 : decode cX0_account 103 = .ok (.getfield 283, 3) := dk_180 1 27 (dk_at dksX0_account_3 8 rfl rfl)
theorem dX0_account_106 : decode cX0_account 106 = .ok (.ireturn, 1) := dk_172 (dk_at dksX0_account_3 11 rfl rfl)
theorem dX0_account_107 : decode cX0_account 107 = .ok (.aload_n 0, 1) := dk_42 (dk_at dksX0_account_3 12 rfl rfl)
theorem dX0_account_108 : decode cX0_account 108 = .ok (.getfield 28, 3) := dk_180 0 28 (dk_at dksX0_account_3 13 rfl rfl)
theorem dX0_account_111 : decode cX0_account 111 = .ok (.getfield 216, 3) := dk_180 0 216 (dk_at dksX0_account_3 16 rfl rfl)
theorem dX0_account_114 : decode cX0_account 114 = .ok (.ireturn, 1) := dk_172 (dk_at dksX0_account_3 19 rfl rfl)
theorem dX0_account_115 : decode cX0_account 115 = .ok (.aload_n 0, 1) := dk_42 (dk_at dksX0_account_3 20 rfl rfl)
theorem dX0_account_116 : decode cX0_account 116 = .ok (.getfield 28, 3) := dk_180 0 28 (dk_at dksX0_account_3 21 rfl rfl)
theorem dX0_account_119 : decode cX0_account 119 = .ok (.getfield 286, 3) := dk_180 1 30 (dk_at dksX0_account_4 0 rfl rfl)
theorem dX0_account_122 : decode cX0_account 122 = .ok (.ireturn, 1) := dk_172 (dk_at dksX0_account_4 3 rfl rfl)
theorem dX0_account_123 : decode cX0_account 123 = .ok (.aload_n 0, 1) := dk_42 (dk_at dksX0_account_4 4 rfl rfl)
theorem dX0_account_124 : decode cX0_account 124 = .ok (.getfield 28, 3) := dk_180 0 28 (dk_at dksX0_account_4 5 rfl rfl)
theorem dX0_account_127 : decode cX0_account 127 = .ok (.getfield 191, 3) := dk_180 0 191 (dk_at dksX0_account_4 8 rfl rfl)
theorem dX0_account_130 : decode cX0_account 130 = .ok (.ireturn, 1) := dk_172 (dk_at dksX0_account_4 11 rfl rfl)
theorem dX0_account_131 : decode cX0_account 131 = .ok (.aload_n 0, 1) := dk_42 (dk_at dksX0_account_4 12 rfl rfl)
theorem dX0_account_132 : decode cX0_account 132 = .ok (.getfield 28, 3) := dk_180 0 28 (dk_at dksX0_account_4 13 rfl rfl)
theorem dX0_account_135 : decode cX0_account 135 = .ok (.getfield 275, 3) := dk_180 1 19 (dk_at dksX0_account_4 16 rfl rfl)
theorem dX0_account_138 : decode cX0_account 138 = .ok (.ireturn, 1) := dk_172 (dk_at dksX0_account_4 19 rfl rfl)
theorem dX0_account_139 : decode cX0_account 139 = .ok (.aload_n 0, 1) := dk_42 (dk_at dksX0_account_4 20 rfl rfl)
theorem dX0_account_140 : decode cX0_account 140 = .ok (.getfield 28, 3) := dk_180 0 28 (dk_at dksX0_account_4 21 rfl rfl)
theorem dX0_account_143 : decode cX0_account 143 = .ok (.getfield 266, 3) := dk_180 1 10 (dk_at dksX0_account_5 0 rfl rfl)
theorem dX0_account_146 : decode cX0_account 146 = .ok (.ireturn, 1) := dk_172 (dk_at dksX0_account_5 3 rfl rfl)
theorem dX0_account_147 : decode cX0_account 147 = .ok (.aload_n 0, 1) := dk_42 (dk_at dksX0_account_5 4 rfl rfl)
theorem dX0_account_148 : decode cX0_account 148 = .ok (.getfield 28, 3) := dk_180 0 28 (dk_at dksX0_account_5 5 rfl rfl)
theorem dX0_account_151 : decode cX0_account 151 = .ok (.getfield 289, 3) := dk_180 1 33 (dk_at dksX0_account_5 8 rfl rfl)
theorem dX0_account_154 : decode cX0_account 154 = .ok (.ireturn, 1) := dk_172 (dk_at dksX0_account_5 11 rfl rfl)
theorem dX0_account_155 : decode cX0_account 155 = .ok (.aload_n 0, 1) := dk_42 (dk_at dksX0_account_5 12 rfl rfl)
theorem dX0_account_156 : decode cX0_account 156 = .ok (.getfield 28, 3) := dk_180 0 28 (dk_at dksX0_account_5 13 rfl rfl)
theorem dX0_account_159 : decode cX0_account 159 = .ok (.getfield 292, 3) := dk_180 1 36 (dk_at dksX0_account_5 16 rfl rfl)
theorem dX0_account_162 : decode cX0_account 162 = .ok (.ireturn, 1) := dk_172 (dk_at dksX0_account_5 19 rfl rfl)
theorem dX0_account_163 : decode cX0_account 163 = .ok (.aload_n 0, 1) := dk_42 (dk_at dksX0_account_5 20 rfl rfl)
theorem dX0_account_164 : decode cX0_account 164 = .ok (.getfield 28, 3) := dk_180 0 28 (dk_at dksX0_account_5 21 rfl rfl)
theorem dX0_account_167 : decode cX0_account 167 = .ok (.invokevirtual 295, 3) := dk_182 1 39 (dk_at dksX0_account_6 0 rfl rfl)
theorem dX0_account_170 : decode cX0_account 170 = .ok (.ireturn, 1) := dk_172 (dk_at dksX0_account_6 3 rfl rfl)
theorem dX0_account_171 : decode cX0_account 171 = .ok (.aload_n 0, 1) := dk_42 (dk_at dksX0_account_6 4 rfl rfl)
theorem dX0_account_172 : decode cX0_account 172 = .ok (.getfield 298, 3) := dk_180 1 42 (dk_at dksX0_account_6 5 rfl rfl)
theorem dX0_account_175 : decode cX0_account 175 = .ok (.ireturn, 1) := dk_172 (dk_at dksX0_account_6 8 rfl rfl)
theorem dX0_account_176 : decode cX0_account 176 = .ok (.aload_n 0, 1) := dk_42 (dk_at dksX0_account_6 9 rfl rfl)
theorem dX0_account_177 : decode cX0_account 177 = .ok (.getfield 35, 3) := dk_180 0 35 (dk_at dksX0_account_6 10 rfl rfl)
theorem dX0_account_180 : decode cX0_account 180 = .ok (.invokevirtual 301, 3) := dk_182 1 45 (dk_at dksX0_account_6 13 rfl rfl)
theorem dX0_account_183 : decode cX0_account 183 = .ok (.ireturn, 1) := dk_172 (dk_at dksX0_account_6 16 rfl rfl)
theorem dX0_account_184 : decode cX0_account 184 = .ok (.bipush (-2), 2) := dk_16 254 (dk_at dksX0_account_6 17 rfl rfl)
theorem dX0_account_186 : decode cX0_account 186 = .ok (.ireturn, 1) := dk_172 (dk_at dksX0_account_6 19 rfl rfl)
abbrev cX0_write : ByteArray := prog_1_method_48_code
def yX0_write : MethodName := ⟨RX0, "write", "(I)I"⟩
def dkwX0_write_5 : List UInt8 := [182, 1, 71, 87, 167, 255, 189, 42, 44, 182, 1, 74, 172]
abbrev dktX0_write_5 : List UInt8 := dkwX0_write_5 ++ []
def dkwX0_write_4 : List UInt8 := [180, 0, 133, 182, 1, 58, 25, 4, 180, 0, 139, 153, 0, 9, 19, 1, 69, 167, 0, 5, 18, 39]
abbrev dktX0_write_4 : List UInt8 := dkwX0_write_4 ++ dktX0_write_5
def dkwX0_write_3 : List UInt8 := [58, 4, 44, 16, 32, 182, 1, 62, 25, 4, 180, 0, 130, 182, 1, 58, 16, 58, 182, 1, 62, 25, 4]
abbrev dktX0_write_3 : List UInt8 := dkwX0_write_3 ++ dktX0_write_4
def dkwX0_write_2 : List UInt8 := [185, 0, 235, 1, 0, 78, 45, 185, 0, 241, 1, 0, 153, 0, 64, 45, 185, 0, 247, 1, 0, 192, 0, 125]
abbrev dktX0_write_2 : List UInt8 := dkwX0_write_2 ++ dktX0_write_3
def dkwX0_write_1 : List UInt8 := [182, 1, 62, 42, 180, 0, 28, 180, 0, 155, 27, 46, 182, 1, 58, 77, 42, 180, 0, 28, 27, 182, 1, 65]
abbrev dktX0_write_1 : List UInt8 := dkwX0_write_1 ++ dktX0_write_2
def dkwX0_write_0 : List UInt8 := [27, 184, 0, 58, 154, 0, 5, 2, 172, 187, 1, 47, 89, 183, 1, 57, 27, 182, 1, 58, 16, 117]
abbrev dktX0_write_0 : List UInt8 := dkwX0_write_0 ++ dktX0_write_1
theorem dksX0_write_0 : cX0_write.data.toList.drop 0 = dktX0_write_0 := by decide +kernel
theorem dksX0_write_1 : cX0_write.data.toList.drop 22 = dktX0_write_1 := dk_seg dksX0_write_0 22 rfl rfl
theorem dksX0_write_2 : cX0_write.data.toList.drop 46 = dktX0_write_2 := dk_seg dksX0_write_1 24 rfl rfl
theorem dksX0_write_3 : cX0_write.data.toList.drop 70 = dktX0_write_3 := dk_seg dksX0_write_2 24 rfl rfl
theorem dksX0_write_4 : cX0_write.data.toList.drop 93 = dktX0_write_4 := dk_seg dksX0_write_3 23 rfl rfl
theorem dksX0_write_5 : cX0_write.data.toList.drop 115 = dktX0_write_5 := dk_seg dksX0_write_4 22 rfl rfl
theorem dX0_write_0 : decode cX0_write 0 = .ok (.iload_n 1, 1) := dk_27 (dk_at dksX0_write_0 0 rfl rfl)
theorem dX0_write_1 : decode cX0_write 1 = .ok (.invokestatic 58, 3) := dk_184 0 58 (dk_at dksX0_write_0 1 rfl rfl)
theorem dX0_write_4 : decode cX0_write 4 = .ok (.ifCond .ne 5, 3) := dk_154 0 5 (dk_at dksX0_write_0 4 rfl rfl)
theorem dX0_write_7 : decode cX0_write 7 = .ok (.iconst (-1), 1) := dk_2 (dk_at dksX0_write_0 7 rfl rfl)
theorem dX0_write_8 : decode cX0_write 8 = .ok (.ireturn, 1) := dk_172 (dk_at dksX0_write_0 8 rfl rfl)
theorem dX0_write_9 : decode cX0_write 9 = .ok (.new 303, 3) := dk_187 1 47 (dk_at dksX0_write_0 9 rfl rfl)
theorem dX0_write_12 : decode cX0_write 12 = .ok (.dup, 1) := dk_89 (dk_at dksX0_write_0 12 rfl rfl)
theorem dX0_write_13 : decode cX0_write 13 = .ok (.invokespecial 313, 3) := dk_183 1 57 (dk_at dksX0_write_0 13 rfl rfl)
theorem dX0_write_16 : decode cX0_write 16 = .ok (.iload_n 1, 1) := dk_27 (dk_at dksX0_write_0 16 rfl rfl)
theorem dX0_write_17 : decode cX0_write 17 = .ok (.invokevirtual 314, 3) := dk_182 1 58 (dk_at dksX0_write_0 17 rfl rfl)
theorem dX0_write_20 : decode cX0_write 20 = .ok (.bipush 117, 2) := dk_16 117 (dk_at dksX0_write_0 20 rfl rfl)
theorem dX0_write_22 : decode cX0_write 22 = .ok (.invokevirtual 318, 3) := dk_182 1 62 (dk_at dksX0_write_1 0 rfl rfl)
theorem dX0_write_25 : decode cX0_write 25 = .ok (.aload_n 0, 1) := dk_42 (dk_at dksX0_write_1 3 rfl rfl)
theorem dX0_write_26 : decode cX0_write 26 = .ok (.getfield 28, 3) := dk_180 0 28 (dk_at dksX0_write_1 4 rfl rfl)
theorem dX0_write_29 : decode cX0_write 29 = .ok (.getfield 155, 3) := dk_180 0 155 (dk_at dksX0_write_1 7 rfl rfl)
theorem dX0_write_32 : decode cX0_write 32 = .ok (.iload_n 1, 1) := dk_27 (dk_at dksX0_write_1 10 rfl rfl)
theorem dX0_write_33 : decode cX0_write 33 = .ok (.iaload, 1) := dk_46 (dk_at dksX0_write_1 11 rfl rfl)
theorem dX0_write_34 : decode cX0_write 34 = .ok (.invokevirtual 314, 3) := dk_182 1 58 (dk_at dksX0_write_1 12 rfl rfl)
theorem dX0_write_37 : decode cX0_write 37 = .ok (.astore_n 2, 1) := dk_77 (dk_at dksX0_write_1 15 rfl rfl)
theorem dX0_write_38 : decode cX0_write 38 = .ok (.aload_n 0, 1) := dk_42 (dk_at dksX0_write_1 16 rfl rfl)
theorem dX0_write_39 : decode cX0_write 39 = .ok (.getfield 28, 3) := dk_180 0 28 (dk_at dksX0_write_1 17 rfl rfl)
theorem dX0_write_42 : decode cX0_write 42 = .ok (.iload_n 1, 1) := dk_27 (dk_at dksX0_write_1 20 rfl rfl)
theorem dX0_write_43 : decode cX0_write 43 = .ok (.invokevirtual 321, 3) := dk_182 1 65 (dk_at dksX0_write_1 21 rfl rfl)
theorem dX0_write_46 : decode cX0_write 46 = .ok (.invokeinterface 235 1, 5) := by decide +kernel
theorem dX0_write_51 : decode cX0_write 51 = .ok (.astore_n 3, 1) := dk_78 (dk_at dksX0_write_2 5 rfl rfl)
theorem dX0_write_52 : decode cX0_write 52 = .ok (.aload_n 3, 1) := dk_45 (dk_at dksX0_write_2 6 rfl rfl)
theorem dX0_write_53 : decode cX0_write 53 = .ok (.invokeinterface 241 1, 5) := by decide +kernel
theorem dX0_write_58 : decode cX0_write 58 = .ok (.ifCond .eq 64, 3) := dk_153 0 64 (dk_at dksX0_write_2 12 rfl rfl)
theorem dX0_write_61 : decode cX0_write 61 = .ok (.aload_n 3, 1) := dk_45 (dk_at dksX0_write_2 15 rfl rfl)
theorem dX0_write_62 : decode cX0_write 62 = .ok (.invokeinterface 247 1, 5) := by decide +kernel
theorem dX0_write_67 : decode cX0_write 67 = .ok (.checkcast 125, 3) := dk_192 0 125 (dk_at dksX0_write_2 21 rfl rfl)
theorem dX0_write_70 : decode cX0_write 70 = .ok (.astore 4, 2) := dk_58 4 (dk_at dksX0_write_3 0 rfl rfl)
theorem dX0_write_72 : decode cX0_write 72 = .ok (.aload_n 2, 1) := dk_44 (dk_at dksX0_write_3 2 rfl rfl)
theorem dX0_write_73 : decode cX0_write 73 = .ok (.bipush 32, 2) := dk_16 32 (dk_at dksX0_write_3 3 rfl rfl)
theorem dX0_write_75 : decode cX0_write 75 = .ok (.invokevirtual 318, 3) := dk_182 1 62 (dk_at dksX0_write_3 5 rfl rfl)
theorem dX0_write_78 : decode cX0_write 78 = .ok (.aload 4, 2) := dk_25 4 (dk_at dksX0_write_3 8 rfl rfl)
theorem dX0_write_80 : decode cX0_write 80 = .ok (.getfield 130, 3) := dk_180 0 130 (dk_at dksX0_write_3 10 rfl rfl)
theorem dX0_write_83 : decode cX0_write 83 = .ok (.invokevirtual 314, 3) := dk_182 1 58 (dk_at dksX0_write_3 13 rfl rfl)
theorem dX0_write_86 : decode cX0_write 86 = .ok (.bipush 58, 2) := dk_16 58 (dk_at dksX0_write_3 16 rfl rfl)
theorem dX0_write_88 : decode cX0_write 88 = .ok (.invokevirtual 318, 3) := dk_182 1 62 (dk_at dksX0_write_3 18 rfl rfl)
theorem dX0_write_91 : decode cX0_write 91 = .ok (.aload 4, 2) := dk_25 4 (dk_at dksX0_write_3 21 rfl rfl)
theorem dX0_write_93 : decode cX0_write 93 = .ok (.getfield 133, 3) := dk_180 0 133 (dk_at dksX0_write_4 0 rfl rfl)
theorem dX0_write_96 : decode cX0_write 96 = .ok (.invokevirtual 314, 3) := dk_182 1 58 (dk_at dksX0_write_4 3 rfl rfl)
theorem dX0_write_99 : decode cX0_write 99 = .ok (.aload 4, 2) := dk_25 4 (dk_at dksX0_write_4 6 rfl rfl)
theorem dX0_write_101 : decode cX0_write 101 = .ok (.getfield 139, 3) := dk_180 0 139 (dk_at dksX0_write_4 8 rfl rfl)
theorem dX0_write_104 : decode cX0_write 104 = .ok (.ifCond .eq 9, 3) := dk_153 0 9 (dk_at dksX0_write_4 11 rfl rfl)
theorem dX0_write_107 : decode cX0_write 107 = .ok (.ldc_w 325, 3) := dk_19 1 69 (dk_at dksX0_write_4 14 rfl rfl)
theorem dX0_write_110 : decode cX0_write 110 = .ok (.goto 5, 3) := dk_167 0 5 (dk_at dksX0_write_4 17 rfl rfl)
theorem dX0_write_113 : decode cX0_write 113 = .ok (.ldc 39, 2) := dk_18 39 (dk_at dksX0_write_4 20 rfl rfl)
theorem dX0_write_115 : decode cX0_write 115 = .ok (.invokevirtual 327, 3) := dk_182 1 71 (dk_at dksX0_write_5 0 rfl rfl)
theorem dX0_write_118 : decode cX0_write 118 = .ok (.pop, 1) := dk_87 (dk_at dksX0_write_5 3 rfl rfl)
theorem dX0_write_119 : decode cX0_write 119 = .ok (.goto (-67), 3) := dk_167 255 189 (dk_at dksX0_write_5 4 rfl rfl)
theorem dX0_write_122 : decode cX0_write 122 = .ok (.aload_n 0, 1) := dk_42 (dk_at dksX0_write_5 7 rfl rfl)
theorem dX0_write_123 : decode cX0_write 123 = .ok (.aload_n 2, 1) := dk_44 (dk_at dksX0_write_5 8 rfl rfl)
theorem dX0_write_124 : decode cX0_write 124 = .ok (.invokevirtual 330, 3) := dk_182 1 74 (dk_at dksX0_write_5 9 rfl rfl)
theorem dX0_write_127 : decode cX0_write 127 = .ok (.ireturn, 1) := dk_172 (dk_at dksX0_write_5 12 rfl rfl)
abbrev cX0_writes : ByteArray := prog_1_method_47_code
def yX0_writes : MethodName := ⟨RX0, "writes", "(Ljava/lang/StringBuilder;)I"⟩
def dkwX0_writes_0 : List UInt8 := [42, 43, 182, 1, 46, 181, 0, 41, 42, 180, 0, 41, 182, 1, 52, 172]
abbrev dktX0_writes_0 : List UInt8 := dkwX0_writes_0 ++ []
theorem dksX0_writes_0 : cX0_writes.data.toList.drop 0 = dktX0_writes_0 := by decide +kernel
theorem dX0_writes_0 : decode cX0_writes 0 = .ok (.aload_n 0, 1) := dk_42 (dk_at dksX0_writes_0 0 rfl rfl)
theorem dX0_writes_1 : decode cX0_writes 1 = .ok (.aload_n 1, 1) := dk_43 (dk_at dksX0_writes_0 1 rfl rfl)
theorem dX0_writes_2 : decode cX0_writes 2 = .ok (.invokevirtual 302, 3) := dk_182 1 46 (dk_at dksX0_writes_0 2 rfl rfl)
theorem dX0_writes_5 : decode cX0_writes 5 = .ok (.putfield 41, 3) := dk_181 0 41 (dk_at dksX0_writes_0 5 rfl rfl)
theorem dX0_writes_8 : decode cX0_writes 8 = .ok (.aload_n 0, 1) := dk_42 (dk_at dksX0_writes_0 8 rfl rfl)
theorem dX0_writes_9 : decode cX0_writes 9 = .ok (.getfield 41, 3) := dk_180 0 41 (dk_at dksX0_writes_0 9 rfl rfl)
theorem dX0_writes_12 : decode cX0_writes 12 = .ok (.invokevirtual 308, 3) := dk_182 1 52 (dk_at dksX0_writes_0 12 rfl rfl)
theorem dX0_writes_15 : decode cX0_writes 15 = .ok (.ireturn, 1) := dk_172 (dk_at dksX0_writes_0 15 rfl rfl)
abbrev cX0_writePump : ByteArray := prog_1_method_49_code
def yX0_writePump : MethodName := ⟨RX0, "writePump", "()I"⟩
def dkwX0_writePump_3 : List UInt8 := [16, 42, 182, 1, 62, 42, 180, 0, 28, 180, 1, 30, 182, 1, 58, 182, 1, 74, 172]
abbrev dktX0_writePump_3 : List UInt8 := dkwX0_writePump_3 ++ []
def dkwX0_writePump_2 : List UInt8 := [180, 1, 27, 182, 1, 58, 76, 42, 43, 16, 111, 182, 1, 62, 42, 180, 0, 28, 180, 0, 216, 182, 1, 58]
abbrev dktX0_writePump_2 : List UInt8 := dkwX0_writePump_2 ++ dktX0_writePump_3
def dkwX0_writePump_1 : List UInt8 := [182, 1, 62, 42, 180, 0, 28, 180, 1, 24, 182, 1, 58, 16, 126, 182, 1, 62, 42, 180, 0, 28]
abbrev dktX0_writePump_1 : List UInt8 := dkwX0_writePump_1 ++ dktX0_writePump_2
def dkwX0_writePump_0 : List UInt8 := [187, 1, 47, 89, 183, 1, 57, 16, 64, 182, 1, 62, 42, 180, 0, 28, 180, 1, 23, 182, 1, 58, 16, 94]
abbrev dktX0_writePump_0 : List UInt8 := dkwX0_writePump_0 ++ dktX0_writePump_1
theorem dksX0_writePump_0 : cX0_writePump.data.toList.drop 0 = dktX0_writePump_0 := by decide +kernel
theorem dksX0_writePump_1 : cX0_writePump.data.toList.drop 24 = dktX0_writePump_1 := dk_seg dksX0_writePump_0 24 rfl rfl
theorem dksX0_writePump_2 : cX0_writePump.data.toList.drop 46 = dktX0_writePump_2 := dk_seg dksX0_writePump_1 22 rfl rfl
theorem dksX0_writePump_3 : cX0_writePump.data.toList.drop 70 = dktX0_writePump_3 := dk_seg dksX0_writePump_2 24 rfl rfl
theorem dX0_writePump_0 : decode cX0_writePump 0 = .ok (.new 303, 3) := dk_187 1 47 (dk_at dksX0_writePump_0 0 rfl rfl)
theorem dX0_writePump_3 : decode cX0_writePump 3 = .ok (.dup, 1) := dk_89 (dk_at dksX0_writePump_0 3 rfl rfl)
theorem dX0_writePump_4 : decode cX0_writePump 4 = .ok (.invokespecial 313, 3) := dk_183 1 57 (dk_at dksX0_writePump_0 4 rfl rfl)
theorem dX0_writePump_7 : decode cX0_writePump 7 = .ok (.bipush 64, 2) := dk_16 64 (dk_at dksX0_writePump_0 7 rfl rfl)
theorem dX0_writePump_9 : decode cX0_writePump 9 = .ok (.invokevirtual 318, 3) := dk_182 1 62 (dk_at dksX0_writePump_0 9 rfl rfl)
theorem dX0_writePump_12 : decode cX0_writePump 12 = .ok (.aload_n 0, 1) := dk_42 (dk_at dksX0_writePump_0 12 rfl rfl)
theorem dX0_writePump_13 : decode cX0_writePump 13 = .ok (.getfield 28, 3) := dk_180 0 28 (dk_at dksX0_writePump_0 13 rfl rfl)
theorem dX0_writePump_16 : decode cX0_writePump 16 = .ok (.getfield 279, 3) := dk_180 1 23 (dk_at dksX0_writePump_0 16 rfl rfl)
theorem dX0_writePump_19 : decode cX0_writePump 19 = .ok (.invokevirtual 314, 3) := dk_182 1 58 (dk_at dksX0_writePump_0 19 rfl rfl)
theorem dX0_writePump_22 : decode cX0_writePump 22 = .ok (.bipush 94, 2) := dk_16 94 (dk_at dksX0_writePump_0 22 rfl rfl)
theorem dX0_writePump_24 : decode cX0_writePump 24 = .ok (.invokevirtual 318, 3) := dk_182 1 62 (dk_at dksX0_writePump_1 0 rfl rfl)
theorem dX0_writePump_27 : decode cX0_writePump 27 = .ok (.aload_n 0, 1) := dk_42 (dk_at dksX0_writePump_1 3 rfl rfl)
theorem dX0_writePump_28 : decode cX0_writePump 28 = .ok (.getfield 28, 3) := dk_180 0 28 (dk_at dksX0_writePump_1 4 rfl rfl)
theorem dX0_writePump_31 : decode cX0_writePump 31 = .ok (.getfield 280, 3) := dk_180 1 24 (dk_at dksX0_writePump_1 7 rfl rfl)
theorem dX0_writePump_34 : decode cX0_writePump 34 = .ok (.invokevirtual 314, 3) := dk_182 1 58 (dk_at dksX0_writePump_1 10 rfl rfl)
theorem dX0_writePump_37 : decode cX0_writePump 37 = .ok (.bipush 126, 2) := dk_16 126 (dk_at dksX0_writePump_1 13 rfl rfl)
theorem dX0_writePump_39 : decode cX0_writePump 39 = .ok (.invokevirtual 318, 3) := dk_182 1 62 (dk_at dksX0_writePump_1 15 rfl rfl)
theorem dX0_writePump_42 : decode cX0_writePump 42 = .ok (.aload_n 0, 1) := dk_42 (dk_at dksX0_writePump_1 18 rfl rfl)
theorem dX0_writePump_43 : decode cX0_writePump 43 = .ok (.getfield 28, 3) := dk_180 0 28 (dk_at dksX0_writePump_1 19 rfl rfl)
theorem dX0_writePump_46 : decode cX0_writePump 46 = .ok (.getfield 283, 3) := dk_180 1 27 (dk_at dksX0_writePump_2 0 rfl rfl)
theorem dX0_writePump_49 : decode cX0_writePump 49 = .ok (.invokevirtual 314, 3) := dk_182 1 58 (dk_at dksX0_writePump_2 3 rfl rfl)
theorem dX0_writePump_52 : decode cX0_writePump 52 = .ok (.astore_n 1, 1) := dk_76 (dk_at dksX0_writePump_2 6 rfl rfl)
theorem dX0_writePump_53 : decode cX0_writePump 53 = .ok (.aload_n 0, 1) := dk_42 (dk_at dksX0_writePump_2 7 rfl rfl)
theorem dX0_writePump_54 : decode cX0_writePump 54 = .ok (.aload_n 1, 1) := dk_43 (dk_at dksX0_writePump_2 8 rfl rfl)
theorem dX0_writePump_55 : decode cX0_writePump 55 = .ok (.bipush 111, 2) := dk_16 111 (dk_at dksX0_writePump_2 9 rfl rfl)
theorem dX0_writePump_57 : decode cX0_writePump 57 = .ok (.invokevirtual 318, 3) := dk_182 1 62 (dk_at dksX0_writePump_2 11 rfl rfl)
theorem dX0_writePump_60 : decode cX0_writePump 60 = .ok (.aload_n 0, 1) := dk_42 (dk_at dksX0_writePump_2 14 rfl rfl)
theorem dX0_writePump_61 : decode cX0_writePump 61 = .ok (.getfield 28, 3) := dk_180 0 28 (dk_at dksX0_writePump_2 15 rfl rfl)
theorem dX0_writePump_64 : decode cX0_writePump 64 = .ok (.getfield 216, 3) := dk_180 0 216 (dk_at dksX0_writePump_2 18 rfl rfl)
theorem dX0_writePump_67 : decode cX0_writePump 67 = .ok (.invokevirtual 314, 3) := dk_182 1 58 (dk_at dksX0_writePump_2 21 rfl rfl)
theorem dX0_writePump_70 : decode cX0_writePump 70 = .ok (.bipush 42, 2) := dk_16 42 (dk_at dksX0_writePump_3 0 rfl rfl)
theorem dX0_writePump_72 : decode cX0_writePump 72 = .ok (.invokevirtual 318, 3) := dk_182 1 62 (dk_at dksX0_writePump_3 2 rfl rfl)
theorem dX0_writePump_75 : decode cX0_writePump 75 = .ok (.aload_n 0, 1) := dk_42 (dk_at dksX0_writePump_3 5 rfl rfl)
theorem dX0_writePump_76 : decode cX0_writePump 76 = .ok (.getfield 28, 3) := dk_180 0 28 (dk_at dksX0_writePump_3 6 rfl rfl)
theorem dX0_writePump_79 : decode cX0_writePump 79 = .ok (.getfield 286, 3) := dk_180 1 30 (dk_at dksX0_writePump_3 9 rfl rfl)
theorem dX0_writePump_82 : decode cX0_writePump 82 = .ok (.invokevirtual 314, 3) := dk_182 1 58 (dk_at dksX0_writePump_3 12 rfl rfl)
theorem dX0_writePump_85 : decode cX0_writePump 85 = .ok (.invokevirtual 330, 3) := dk_182 1 74 (dk_at dksX0_writePump_3 15 rfl rfl)
theorem dX0_writePump_88 : decode cX0_writePump 88 = .ok (.ireturn, 1) := dk_172 (dk_at dksX0_writePump_3 18 rfl rfl)
abbrev cX0_written : ByteArray := prog_1_method_50_code
def yX0_written : MethodName := ⟨RX0, "written", "(I)I"⟩
def dkwX0_written_1 : List UInt8 := [182, 1, 78, 167, 0, 4, 2, 172]
abbrev dktX0_written_1 : List UInt8 := dkwX0_written_1 ++ []
def dkwX0_written_0 : List UInt8 := [27, 3, 42, 180, 0, 41, 182, 1, 52, 4, 100, 184, 0, 3, 153, 0, 14, 42, 180, 0, 41, 27]
abbrev dktX0_written_0 : List UInt8 := dkwX0_written_0 ++ dktX0_written_1
theorem dksX0_written_0 : cX0_written.data.toList.drop 0 = dktX0_written_0 := by decide +kernel
theorem dksX0_written_1 : cX0_written.data.toList.drop 22 = dktX0_written_1 := dk_seg dksX0_written_0 22 rfl rfl
theorem dX0_written_0 : decode cX0_written 0 = .ok (.iload_n 1, 1) := dk_27 (dk_at dksX0_written_0 0 rfl rfl)
theorem dX0_written_1 : decode cX0_written 1 = .ok (.iconst 0, 1) := dk_3 (dk_at dksX0_written_0 1 rfl rfl)
theorem dX0_written_2 : decode cX0_written 2 = .ok (.aload_n 0, 1) := dk_42 (dk_at dksX0_written_0 2 rfl rfl)
theorem dX0_written_3 : decode cX0_written 3 = .ok (.getfield 41, 3) := dk_180 0 41 (dk_at dksX0_written_0 3 rfl rfl)
theorem dX0_written_6 : decode cX0_written 6 = .ok (.invokevirtual 308, 3) := dk_182 1 52 (dk_at dksX0_written_0 6 rfl rfl)
theorem dX0_written_9 : decode cX0_written 9 = .ok (.iconst 1, 1) := dk_4 (dk_at dksX0_written_0 9 rfl rfl)
theorem dX0_written_10 : decode cX0_written 10 = .ok (.isub, 1) := dk_100 (dk_at dksX0_written_0 10 rfl rfl)
theorem dX0_written_11 : decode cX0_written 11 = .ok (.invokestatic 3, 3) := dk_184 0 3 (dk_at dksX0_written_0 11 rfl rfl)
theorem dX0_written_14 : decode cX0_written 14 = .ok (.ifCond .eq 14, 3) := dk_153 0 14 (dk_at dksX0_written_0 14 rfl rfl)
theorem dX0_written_17 : decode cX0_written 17 = .ok (.aload_n 0, 1) := dk_42 (dk_at dksX0_written_0 17 rfl rfl)
theorem dX0_written_18 : decode cX0_written 18 = .ok (.getfield 41, 3) := dk_180 0 41 (dk_at dksX0_written_0 18 rfl rfl)
theorem dX0_written_21 : decode cX0_written 21 = .ok (.iload_n 1, 1) := dk_27 (dk_at dksX0_written_0 21 rfl rfl)
theorem dX0_written_22 : decode cX0_written 22 = .ok (.invokevirtual 334, 3) := dk_182 1 78 (dk_at dksX0_written_1 0 rfl rfl)
theorem dX0_written_25 : decode cX0_written 25 = .ok (.goto 4, 3) := dk_167 0 4 (dk_at dksX0_written_1 3 rfl rfl)
theorem dX0_written_28 : decode cX0_written 28 = .ok (.iconst (-1), 1) := dk_2 (dk_at dksX0_written_1 6 rfl rfl)
theorem dX0_written_29 : decode cX0_written 29 = .ok (.ireturn, 1) := dk_172 (dk_at dksX0_written_1 7 rfl rfl)
abbrev cX0_append : ByteArray := prog_1_method_51_code
def yX0_append : MethodName := ⟨RX0, "append", "(C)I"⟩
def dkwX0_append_2 : List UInt8 := [180, 1, 42, 172]
abbrev dktX0_append_2 : List UInt8 := dkwX0_append_2 ++ []
def dkwX0_append_1 : List UInt8 := [16, 252, 172, 42, 180, 0, 45, 42, 180, 1, 42, 27, 85, 42, 89, 180, 1, 42, 4, 96, 181, 1, 42, 42]
abbrev dktX0_append_1 : List UInt8 := dkwX0_append_1 ++ dktX0_append_2
def dkwX0_append_0 : List UInt8 := [27, 16, 32, 16, 126, 184, 0, 3, 154, 0, 6, 16, 254, 172, 42, 180, 1, 42, 16, 60, 160, 0, 6]
abbrev dktX0_append_0 : List UInt8 := dkwX0_append_0 ++ dktX0_append_1
theorem dksX0_append_0 : cX0_append.data.toList.drop 0 = dktX0_append_0 := by decide +kernel
theorem dksX0_append_1 : cX0_append.data.toList.drop 23 = dktX0_append_1 := dk_seg dksX0_append_0 23 rfl rfl
theorem dksX0_append_2 : cX0_append.data.toList.drop 47 = dktX0_append_2 := dk_seg dksX0_append_1 24 rfl rfl
theorem dX0_append_0 : decode cX0_append 0 = .ok (.iload_n 1, 1) := dk_27 (dk_at dksX0_append_0 0 rfl rfl)
theorem dX0_append_1 : decode cX0_append 1 = .ok (.bipush 32, 2) := dk_16 32 (dk_at dksX0_append_0 1 rfl rfl)
theorem dX0_append_3 : decode cX0_append 3 = .ok (.bipush 126, 2) := dk_16 126 (dk_at dksX0_append_0 3 rfl rfl)
theorem dX0_append_5 : decode cX0_append 5 = .ok (.invokestatic 3, 3) := dk_184 0 3 (dk_at dksX0_append_0 5 rfl rfl)
theorem dX0_append_8 : decode cX0_append 8 = .ok (.ifCond .ne 6, 3) := dk_154 0 6 (dk_at dksX0_append_0 8 rfl rfl)
theorem dX0_append_11 : decode cX0_append 11 = .ok (.bipush (-2), 2) := dk_16 254 (dk_at dksX0_append_0 11 rfl rfl)
theorem dX0_append_13 : decode cX0_append 13 = .ok (.ireturn, 1) := dk_172 (dk_at dksX0_append_0 13 rfl rfl)
theorem dX0_append_14 : decode cX0_append 14 = .ok (.aload_n 0, 1) := dk_42 (dk_at dksX0_append_0 14 rfl rfl)
theorem dX0_append_15 : decode cX0_append 15 = .ok (.getfield 298, 3) := dk_180 1 42 (dk_at dksX0_append_0 15 rfl rfl)
theorem dX0_append_18 : decode cX0_append 18 = .ok (.bipush 60, 2) := dk_16 60 (dk_at dksX0_append_0 18 rfl rfl)
theorem dX0_append_20 : decode cX0_append 20 = .ok (.if_icmp .ne 6, 3) := dk_160 0 6 (dk_at dksX0_append_0 20 rfl rfl)
theorem dX0_append_23 : decode cX0_append 23 = .ok (.bipush (-4), 2) := dk_16 252 (dk_at dksX0_append_1 0 rfl rfl)
theorem dX0_append_25 : decode cX0_append 25 = .ok (.ireturn, 1) := dk_172 (dk_at dksX0_append_1 2 rfl rfl)
theorem dX0_append_26 : decode cX0_append 26 = .ok (.aload_n 0, 1) := dk_42 (dk_at dksX0_append_1 3 rfl rfl)
theorem dX0_append_27 : decode cX0_append 27 = .ok (.getfield 45, 3) := dk_180 0 45 (dk_at dksX0_append_1 4 rfl rfl)
theorem dX0_append_30 : decode cX0_append 30 = .ok (.aload_n 0, 1) := dk_42 (dk_at dksX0_append_1 7 rfl rfl)
theorem dX0_append_31 : decode cX0_append 31 = .ok (.getfield 298, 3) := dk_180 1 42 (dk_at dksX0_append_1 8 rfl rfl)
theorem dX0_append_34 : decode cX0_append 34 = .ok (.iload_n 1, 1) := dk_27 (dk_at dksX0_append_1 11 rfl rfl)
theorem dX0_append_35 : decode cX0_append 35 = .ok (.castore, 1) := dk_85 (dk_at dksX0_append_1 12 rfl rfl)
theorem dX0_append_36 : decode cX0_append 36 = .ok (.aload_n 0, 1) := dk_42 (dk_at dksX0_append_1 13 rfl rfl)
theorem dX0_append_37 : decode cX0_append 37 = .ok (.dup, 1) := dk_89 (dk_at dksX0_append_1 14 rfl rfl)
theorem dX0_append_38 : decode cX0_append 38 = .ok (.getfield 298, 3) := dk_180 1 42 (dk_at dksX0_append_1 15 rfl rfl)
theorem dX0_append_41 : decode cX0_append 41 = .ok (.iconst 1, 1) := dk_4 (dk_at dksX0_append_1 18 rfl rfl)
theorem dX0_append_42 : decode cX0_append 42 = .ok (.iadd, 1) := dk_96 (dk_at dksX0_append_1 19 rfl rfl)
theorem dX0_append_43 : decode cX0_append 43 = .ok (.putfield 298, 3) := dk_181 1 42 (dk_at dksX0_append_1 20 rfl rfl)
theorem dX0_append_46 : decode cX0_append 46 = .ok (.aload_n 0, 1) := dk_42 (dk_at dksX0_append_1 23 rfl rfl)
theorem dX0_append_47 : decode cX0_append 47 = .ok (.getfield 298, 3) := dk_180 1 42 (dk_at dksX0_append_2 0 rfl rfl)
theorem dX0_append_50 : decode cX0_append 50 = .ok (.ireturn, 1) := dk_172 (dk_at dksX0_append_2 3 rfl rfl)
abbrev cX0_read : ByteArray := prog_1_method_53_code
def yX0_read : MethodName := ⟨RX0, "read", "()I"⟩
def dkwX0_read_2 : List UInt8 := [181, 1, 42, 28, 172, 78, 42, 3, 181, 1, 42, 45, 191]
abbrev dktX0_read_2 : List UInt8 := dkwX0_read_2 ++ []
def dkwX0_read_1 : List UInt8 := [61, 42, 3, 181, 1, 42, 28, 172, 76, 42, 43, 180, 1, 116, 181, 0, 49, 16, 254, 61, 42, 3]
abbrev dktX0_read_1 : List UInt8 := dkwX0_read_1 ++ dktX0_read_2
def dkwX0_read_0 : List UInt8 := [187, 1, 99, 89, 42, 183, 1, 101, 182, 1, 102, 76, 187, 1, 106, 89, 42, 43, 183, 1, 108, 182, 1, 111]
abbrev dktX0_read_0 : List UInt8 := dkwX0_read_0 ++ dktX0_read_1
theorem dksX0_read_0 : cX0_read.data.toList.drop 0 = dktX0_read_0 := by decide +kernel
theorem dksX0_read_1 : cX0_read.data.toList.drop 24 = dktX0_read_1 := dk_seg dksX0_read_0 24 rfl rfl
theorem dksX0_read_2 : cX0_read.data.toList.drop 46 = dktX0_read_2 := dk_seg dksX0_read_1 22 rfl rfl
theorem dX0_read_0 : decode cX0_read 0 = .ok (.new 355, 3) := dk_187 1 99 (dk_at dksX0_read_0 0 rfl rfl)
theorem dX0_read_3 : decode cX0_read 3 = .ok (.dup, 1) := dk_89 (dk_at dksX0_read_0 3 rfl rfl)
theorem dX0_read_4 : decode cX0_read 4 = .ok (.aload_n 0, 1) := dk_42 (dk_at dksX0_read_0 4 rfl rfl)
theorem dX0_read_5 : decode cX0_read 5 = .ok (.invokespecial 357, 3) := dk_183 1 101 (dk_at dksX0_read_0 5 rfl rfl)
theorem dX0_read_8 : decode cX0_read 8 = .ok (.invokevirtual 358, 3) := dk_182 1 102 (dk_at dksX0_read_0 8 rfl rfl)
theorem dX0_read_11 : decode cX0_read 11 = .ok (.astore_n 1, 1) := dk_76 (dk_at dksX0_read_0 11 rfl rfl)
theorem dX0_read_12 : decode cX0_read 12 = .ok (.new 362, 3) := dk_187 1 106 (dk_at dksX0_read_0 12 rfl rfl)
theorem dX0_read_15 : decode cX0_read 15 = .ok (.dup, 1) := dk_89 (dk_at dksX0_read_0 15 rfl rfl)
theorem dX0_read_16 : decode cX0_read 16 = .ok (.aload_n 0, 1) := dk_42 (dk_at dksX0_read_0 16 rfl rfl)
theorem dX0_read_17 : decode cX0_read 17 = .ok (.aload_n 1, 1) := dk_43 (dk_at dksX0_read_0 17 rfl rfl)
theorem dX0_read_18 : decode cX0_read 18 = .ok (.invokespecial 364, 3) := dk_183 1 108 (dk_at dksX0_read_0 18 rfl rfl)
theorem dX0_read_21 : decode cX0_read 21 = .ok (.invokevirtual 367, 3) := dk_182 1 111 (dk_at dksX0_read_0 21 rfl rfl)
theorem dX0_read_24 : decode cX0_read 24 = .ok (.istore_n 2, 1) := dk_61 (dk_at dksX0_read_1 0 rfl rfl)
theorem dX0_read_25 : decode cX0_read 25 = .ok (.aload_n 0, 1) := dk_42 (dk_at dksX0_read_1 1 rfl rfl)
theorem dX0_read_26 : decode cX0_read 26 = .ok (.iconst 0, 1) := dk_3 (dk_at dksX0_read_1 2 rfl rfl)
theorem dX0_read_27 : decode cX0_read 27 = .ok (.putfield 298, 3) := dk_181 1 42 (dk_at dksX0_read_1 3 rfl rfl)
theorem dX0_read_30 : decode cX0_read 30 = .ok (.iload_n 2, 1) := dk_28 (dk_at dksX0_read_1 6 rfl rfl)
theorem dX0_read_31 : decode cX0_read 31 = .ok (.ireturn, 1) := dk_172 (dk_at dksX0_read_1 7 rfl rfl)
theorem dX0_read_32 : decode cX0_read 32 = .ok (.astore_n 1, 1) := dk_76 (dk_at dksX0_read_1 8 rfl rfl)
theorem dX0_read_33 : decode cX0_read 33 = .ok (.aload_n 0, 1) := dk_42 (dk_at dksX0_read_1 9 rfl rfl)
theorem dX0_read_34 : decode cX0_read 34 = .ok (.aload_n 1, 1) := dk_43 (dk_at dksX0_read_1 10 rfl rfl)
theorem dX0_read_35 : decode cX0_read 35 = .ok (.getfield 372, 3) := dk_180 1 116 (dk_at dksX0_read_1 11 rfl rfl)
theorem dX0_read_38 : decode cX0_read 38 = .ok (.putfield 49, 3) := dk_181 0 49 (dk_at dksX0_read_1 14 rfl rfl)
theorem dX0_read_41 : decode cX0_read 41 = .ok (.bipush (-2), 2) := dk_16 254 (dk_at dksX0_read_1 17 rfl rfl)
theorem dX0_read_43 : decode cX0_read 43 = .ok (.istore_n 2, 1) := dk_61 (dk_at dksX0_read_1 19 rfl rfl)
theorem dX0_read_44 : decode cX0_read 44 = .ok (.aload_n 0, 1) := dk_42 (dk_at dksX0_read_1 20 rfl rfl)
theorem dX0_read_45 : decode cX0_read 45 = .ok (.iconst 0, 1) := dk_3 (dk_at dksX0_read_1 21 rfl rfl)
theorem dX0_read_46 : decode cX0_read 46 = .ok (.putfield 298, 3) := dk_181 1 42 (dk_at dksX0_read_2 0 rfl rfl)
theorem dX0_read_49 : decode cX0_read 49 = .ok (.iload_n 2, 1) := dk_28 (dk_at dksX0_read_2 3 rfl rfl)
theorem dX0_read_50 : decode cX0_read 50 = .ok (.ireturn, 1) := dk_172 (dk_at dksX0_read_2 4 rfl rfl)
theorem dX0_read_51 : decode cX0_read 51 = .ok (.astore_n 3, 1) := dk_78 (dk_at dksX0_read_2 5 rfl rfl)
theorem dX0_read_52 : decode cX0_read 52 = .ok (.aload_n 0, 1) := dk_42 (dk_at dksX0_read_2 6 rfl rfl)
theorem dX0_read_53 : decode cX0_read 53 = .ok (.iconst 0, 1) := dk_3 (dk_at dksX0_read_2 7 rfl rfl)
theorem dX0_read_54 : decode cX0_read 54 = .ok (.putfield 298, 3) := dk_181 1 42 (dk_at dksX0_read_2 8 rfl rfl)
theorem dX0_read_57 : decode cX0_read 57 = .ok (.aload_n 3, 1) := dk_45 (dk_at dksX0_read_2 11 rfl rfl)
theorem dX0_read_58 : decode cX0_read 58 = .ok (.athrow, 1) := dk_191 (dk_at dksX0_read_2 12 rfl rfl)
abbrev cX0_fault : ByteArray := prog_1_method_54_code
def yX0_fault : MethodName := ⟨RX0, "fault", "()I"⟩
def dkwX0_fault_0 : List UInt8 := [42, 180, 0, 49, 156, 0, 8, 16, 253, 167, 0, 7, 42, 180, 0, 49, 172]
abbrev dktX0_fault_0 : List UInt8 := dkwX0_fault_0 ++ []
theorem dksX0_fault_0 : cX0_fault.data.toList.drop 0 = dktX0_fault_0 := by decide +kernel
theorem dX0_fault_0 : decode cX0_fault 0 = .ok (.aload_n 0, 1) := dk_42 (dk_at dksX0_fault_0 0 rfl rfl)
theorem dX0_fault_1 : decode cX0_fault 1 = .ok (.getfield 49, 3) := dk_180 0 49 (dk_at dksX0_fault_0 1 rfl rfl)
theorem dX0_fault_4 : decode cX0_fault 4 = .ok (.ifCond .ge 8, 3) := dk_156 0 8 (dk_at dksX0_fault_0 4 rfl rfl)
theorem dX0_fault_7 : decode cX0_fault 7 = .ok (.bipush (-3), 2) := dk_16 253 (dk_at dksX0_fault_0 7 rfl rfl)
theorem dX0_fault_9 : decode cX0_fault 9 = .ok (.goto 7, 3) := dk_167 0 7 (dk_at dksX0_fault_0 9 rfl rfl)
theorem dX0_fault_12 : decode cX0_fault 12 = .ok (.aload_n 0, 1) := dk_42 (dk_at dksX0_fault_0 12 rfl rfl)
theorem dX0_fault_13 : decode cX0_fault 13 = .ok (.getfield 49, 3) := dk_180 0 49 (dk_at dksX0_fault_0 13 rfl rfl)
theorem dX0_fault_16 : decode cX0_fault 16 = .ok (.ireturn, 1) := dk_172 (dk_at dksX0_fault_0 16 rfl rfl)
abbrev cX0_reason : ByteArray := prog_1_method_55_code
def yX0_reason : MethodName := ⟨RX0, "reason", "(IZ)I"⟩
def dkwX0_reason_3 : List UInt8 := [180, 1, 130, 172, 16, 250, 172]
abbrev dktX0_reason_3 : List UInt8 := dkwX0_reason_3 ++ []
def dkwX0_reason_2 : List UInt8 := [153, 0, 27, 45, 192, 0, 11, 58, 4, 28, 153, 0, 11, 25, 4, 180, 1, 127, 167, 0, 8, 25, 4]
abbrev dktX0_reason_2 : List UInt8 := dkwX0_reason_2 ++ dktX0_reason_3
def dkwX0_reason_1 : List UInt8 := [154, 0, 10, 42, 180, 1, 119, 167, 0, 10, 42, 180, 1, 119, 182, 1, 123, 78, 45, 193, 0, 11]
abbrev dktX0_reason_1 : List UInt8 := dkwX0_reason_1 ++ dktX0_reason_2
def dkwX0_reason_0 : List UInt8 := [27, 3, 4, 184, 0, 3, 154, 0, 6, 16, 254, 172, 42, 180, 1, 119, 199, 0, 6, 16, 253, 172, 27]
abbrev dktX0_reason_0 : List UInt8 := dkwX0_reason_0 ++ dktX0_reason_1
theorem dksX0_reason_0 : cX0_reason.data.toList.drop 0 = dktX0_reason_0 := by decide +kernel
theorem dksX0_reason_1 : cX0_reason.data.toList.drop 23 = dktX0_reason_1 := dk_seg dksX0_reason_0 23 rfl rfl
theorem dksX0_reason_2 : cX0_reason.data.toList.drop 45 = dktX0_reason_2 := dk_seg dksX0_reason_1 22 rfl rfl
theorem dksX0_reason_3 : cX0_reason.data.toList.drop 68 = dktX0_reason_3 := dk_seg dksX0_reason_2 23 rfl rfl
theorem dX0_reason_0 : decode cX0_reason 0 = .ok (.iload_n 1, 1) := dk_27 (dk_at dksX0_reason_0 0 rfl rfl)
theorem dX0_reason_1 : decode cX0_reason 1 = .ok (.iconst 0, 1) := dk_3 (dk_at dksX0_reason_0 1 rfl rfl)
theorem dX0_reason_2 : decode cX0_reason 2 = .ok (.iconst 1, 1) := dk_4 (dk_at dksX0_reason_0 2 rfl rfl)
theorem dX0_reason_3 : decode cX0_reason 3 = .ok (.invokestatic 3, 3) := dk_184 0 3 (dk_at dksX0_reason_0 3 rfl rfl)
theorem dX0_reason_6 : decode cX0_reason 6 = .ok (.ifCond .ne 6, 3) := dk_154 0 6 (dk_at dksX0_reason_0 6 rfl rfl)
theorem dX0_reason_9 : decode cX0_reason 9 = .ok (.bipush (-2), 2) := dk_16 254 (dk_at dksX0_reason_0 9 rfl rfl)
theorem dX0_reason_11 : decode cX0_reason 11 = .ok (.ireturn, 1) := dk_172 (dk_at dksX0_reason_0 11 rfl rfl)
theorem dX0_reason_12 : decode cX0_reason 12 = .ok (.aload_n 0, 1) := dk_42 (dk_at dksX0_reason_0 12 rfl rfl)
theorem dX0_reason_13 : decode cX0_reason 13 = .ok (.getfield 375, 3) := dk_180 1 119 (dk_at dksX0_reason_0 13 rfl rfl)
theorem dX0_reason_16 : decode cX0_reason 16 = .ok (.ifnonnull 6, 3) := dk_199 0 6 (dk_at dksX0_reason_0 16 rfl rfl)
theorem dX0_reason_19 : decode cX0_reason 19 = .ok (.bipush (-3), 2) := dk_16 253 (dk_at dksX0_reason_0 19 rfl rfl)
theorem dX0_reason_21 : decode cX0_reason 21 = .ok (.ireturn, 1) := dk_172 (dk_at dksX0_reason_0 21 rfl rfl)
theorem dX0_reason_22 : decode cX0_reason 22 = .ok (.iload_n 1, 1) := dk_27 (dk_at dksX0_reason_0 22 rfl rfl)
theorem dX0_reason_23 : decode cX0_reason 23 = .ok (.ifCond .ne 10, 3) := dk_154 0 10 (dk_at dksX0_reason_1 0 rfl rfl)
theorem dX0_reason_26 : decode cX0_reason 26 = .ok (.aload_n 0, 1) := dk_42 (dk_at dksX0_reason_1 3 rfl rfl)
theorem dX0_reason_27 : decode cX0_reason 27 = .ok (.getfield 375, 3) := dk_180 1 119 (dk_at dksX0_reason_1 4 rfl rfl)
theorem dX0_reason_30 : decode cX0_reason 30 = .ok (.goto 10, 3) := dk_167 0 10 (dk_at dksX0_reason_1 7 rfl rfl)
theorem dX0_reason_33 : decode cX0_reason 33 = .ok (.aload_n 0, 1) := dk_42 (dk_at dksX0_reason_1 10 rfl rfl)
theorem dX0_reason_34 : decode cX0_reason 34 = .ok (.getfield 375, 3) := dk_180 1 119 (dk_at dksX0_reason_1 11 rfl rfl)
theorem dX0_reason_37 : decode cX0_reason 37 = .ok (.invokevirtual 379, 3) := dk_182 1 123 (dk_at dksX0_reason_1 14 rfl rfl)
theorem dX0_reason_40 : decode cX0_reason 40 = .ok (.astore_n 3, 1) := dk_78 (dk_at dksX0_reason_1 17 rfl rfl)
theorem dX0_reason_41 : decode cX0_reason 41 = .ok (.aload_n 3, 1) := dk_45 (dk_at dksX0_reason_1 18 rfl rfl)
theorem dX0_reason_42 : decode cX0_reason 42 = .ok (.instanceof 11, 3) := dk_193 0 11 (dk_at dksX0_reason_1 19 rfl rfl)
theorem dX0_reason_45 : decode cX0_reason 45 = .ok (.ifCond .eq 27, 3) := dk_153 0 27 (dk_at dksX0_reason_2 0 rfl rfl)
theorem dX0_reason_48 : decode cX0_reason 48 = .ok (.aload_n 3, 1) := dk_45 (dk_at dksX0_reason_2 3 rfl rfl)
theorem dX0_reason_49 : decode cX0_reason 49 = .ok (.checkcast 11, 3) := dk_192 0 11 (dk_at dksX0_reason_2 4 rfl rfl)
theorem dX0_reason_52 : decode cX0_reason 52 = .ok (.astore 4, 2) := dk_58 4 (dk_at dksX0_reason_2 7 rfl rfl)
theorem dX0_reason_54 : decode cX0_reason 54 = .ok (.iload_n 2, 1) := dk_28 (dk_at dksX0_reason_2 9 rfl rfl)
theorem dX0_reason_55 : decode cX0_reason 55 = .ok (.ifCond .eq 11, 3) := dk_153 0 11 (dk_at dksX0_reason_2 10 rfl rfl)
theorem dX0_reason_58 : decode cX0_reason 58 = .ok (.aload 4, 2) := dk_25 4 (dk_at dksX0_reason_2 13 rfl rfl)
theorem dX0_reason_60 : decode cX0_reason 60 = .ok (.getfield 383, 3) := dk_180 1 127 (dk_at dksX0_reason_2 15 rfl rfl)
theorem dX0_reason_63 : decode cX0_reason 63 = .ok (.goto 8, 3) := dk_167 0 8 (dk_at dksX0_reason_2 18 rfl rfl)
theorem dX0_reason_66 : decode cX0_reason 66 = .ok (.aload 4, 2) := dk_25 4 (dk_at dksX0_reason_2 21 rfl rfl)
theorem dX0_reason_68 : decode cX0_reason 68 = .ok (.getfield 386, 3) := dk_180 1 130 (dk_at dksX0_reason_3 0 rfl rfl)
theorem dX0_reason_71 : decode cX0_reason 71 = .ok (.ireturn, 1) := dk_172 (dk_at dksX0_reason_3 3 rfl rfl)
theorem dX0_reason_72 : decode cX0_reason 72 = .ok (.bipush (-6), 2) := dk_16 250 (dk_at dksX0_reason_3 4 rfl rfl)
theorem dX0_reason_74 : decode cX0_reason 74 = .ok (.ireturn, 1) := dk_172 (dk_at dksX0_reason_3 6 rfl rfl)
abbrev cX0_undo : ByteArray := prog_1_method_56_code
def yX0_undo : MethodName := ⟨RX0, "undo", "()I"⟩
def dkwX0_undo_1 : List UInt8 := [181, 0, 28, 42, 180, 0, 35, 182, 1, 45, 172]
abbrev dktX0_undo_1 : List UInt8 := dkwX0_undo_1 ++ []
def dkwX0_undo_0 : List UInt8 := [42, 180, 0, 35, 182, 1, 133, 153, 0, 6, 16, 253, 172, 42, 42, 180, 0, 35, 182, 1, 136, 192, 0, 25]
abbrev dktX0_undo_0 : List UInt8 := dkwX0_undo_0 ++ dktX0_undo_1
theorem dksX0_undo_0 : cX0_undo.data.toList.drop 0 = dktX0_undo_0 := by decide +kernel
theorem dksX0_undo_1 : cX0_undo.data.toList.drop 24 = dktX0_undo_1 := dk_seg dksX0_undo_0 24 rfl rfl
theorem dX0_undo_0 : decode cX0_undo 0 = .ok (.aload_n 0, 1) := dk_42 (dk_at dksX0_undo_0 0 rfl rfl)
theorem dX0_undo_1 : decode cX0_undo 1 = .ok (.getfield 35, 3) := dk_180 0 35 (dk_at dksX0_undo_0 1 rfl rfl)
theorem dX0_undo_4 : decode cX0_undo 4 = .ok (.invokevirtual 389, 3) := dk_182 1 133 (dk_at dksX0_undo_0 4 rfl rfl)
theorem dX0_undo_7 : decode cX0_undo 7 = .ok (.ifCond .eq 6, 3) := dk_153 0 6 (dk_at dksX0_undo_0 7 rfl rfl)
theorem dX0_undo_10 : decode cX0_undo 10 = .ok (.bipush (-3), 2) := dk_16 253 (dk_at dksX0_undo_0 10 rfl rfl)
theorem dX0_undo_12 : decode cX0_undo 12 = .ok (.ireturn, 1) := dk_172 (dk_at dksX0_undo_0 12 rfl rfl)
theorem dX0_undo_13 : decode cX0_undo 13 = .ok (.aload_n 0, 1) := dk_42 (dk_at dksX0_undo_0 13 rfl rfl)
theorem dX0_undo_14 : decode cX0_undo 14 = .ok (.aload_n 0, 1) := dk_42 (dk_at dksX0_undo_0 14 rfl rfl)
theorem dX0_undo_15 : decode cX0_undo 15 = .ok (.getfield 35, 3) := dk_180 0 35 (dk_at dksX0_undo_0 15 rfl rfl)
theorem dX0_undo_18 : decode cX0_undo 18 = .ok (.invokevirtual 392, 3) := dk_182 1 136 (dk_at dksX0_undo_0 18 rfl rfl)
theorem dX0_undo_21 : decode cX0_undo 21 = .ok (.checkcast 25, 3) := dk_192 0 25 (dk_at dksX0_undo_0 21 rfl rfl)
theorem dX0_undo_24 : decode cX0_undo 24 = .ok (.putfield 28, 3) := dk_181 0 28 (dk_at dksX0_undo_1 0 rfl rfl)
theorem dX0_undo_27 : decode cX0_undo 27 = .ok (.aload_n 0, 1) := dk_42 (dk_at dksX0_undo_1 3 rfl rfl)
theorem dX0_undo_28 : decode cX0_undo 28 = .ok (.getfield 35, 3) := dk_180 0 35 (dk_at dksX0_undo_1 4 rfl rfl)
theorem dX0_undo_31 : decode cX0_undo 31 = .ok (.invokevirtual 301, 3) := dk_182 1 45 (dk_at dksX0_undo_1 7 rfl rfl)
theorem dX0_undo_34 : decode cX0_undo 34 = .ok (.ireturn, 1) := dk_172 (dk_at dksX0_undo_1 10 rfl rfl)
abbrev cX0_save : ByteArray := prog_1_method_57_code
def yX0_save : MethodName := ⟨RX0, "save", "()I"⟩
def dkwX0_save_1 : List UInt8 := [182, 1, 7, 172]
abbrev dktX0_save_1 : List UInt8 := dkwX0_save_1 ++ []
def dkwX0_save_0 : List UInt8 := [42, 187, 0, 25, 89, 42, 180, 0, 28, 183, 0, 210, 181, 1, 139, 42, 180, 0, 28, 180, 0, 115]
abbrev dktX0_save_0 : List UInt8 := dkwX0_save_0 ++ dktX0_save_1
theorem dksX0_save_0 : cX0_save.data.toList.drop 0 = dktX0_save_0 := by decide +kernel
theorem dksX0_save_1 : cX0_save.data.toList.drop 22 = dktX0_save_1 := dk_seg dksX0_save_0 22 rfl rfl
theorem dX0_save_0 : decode cX0_save 0 = .ok (.aload_n 0, 1) := dk_42 (dk_at dksX0_save_0 0 rfl rfl)
theorem dX0_save_1 : decode cX0_save 1 = .ok (.new 25, 3) := dk_187 0 25 (dk_at dksX0_save_0 1 rfl rfl)
theorem dX0_save_4 : decode cX0_save 4 = .ok (.dup, 1) := dk_89 (dk_at dksX0_save_0 4 rfl rfl)
theorem dX0_save_5 : decode cX0_save 5 = .ok (.aload_n 0, 1) := dk_42 (dk_at dksX0_save_0 5 rfl rfl)
theorem dX0_save_6 : decode cX0_save 6 = .ok (.getfield 28, 3) := dk_180 0 28 (dk_at dksX0_save_0 6 rfl rfl)
theorem dX0_save_9 : decode cX0_save 9 = .ok (.invokespecial 210, 3) := dk_183 0 210 (dk_at dksX0_save_0 9 rfl rfl)
theorem dX0_save_12 : decode cX0_save 12 = .ok (.putfield 395, 3) := dk_181 1 139 (dk_at dksX0_save_0 12 rfl rfl)
theorem dX0_save_15 : decode cX0_save 15 = .ok (.aload_n 0, 1) := dk_42 (dk_at dksX0_save_0 15 rfl rfl)
theorem dX0_save_16 : decode cX0_save 16 = .ok (.getfield 28, 3) := dk_180 0 28 (dk_at dksX0_save_0 16 rfl rfl)
theorem dX0_save_19 : decode cX0_save 19 = .ok (.getfield 115, 3) := dk_180 0 115 (dk_at dksX0_save_0 19 rfl rfl)
theorem dX0_save_22 : decode cX0_save 22 = .ok (.invokevirtual 263, 3) := dk_182 1 7 (dk_at dksX0_save_1 0 rfl rfl)
theorem dX0_save_25 : decode cX0_save 25 = .ok (.ireturn, 1) := dk_172 (dk_at dksX0_save_1 3 rfl rfl)
abbrev cX0_restore : ByteArray := prog_1_method_58_code
def yX0_restore : MethodName := ⟨RX0, "restore", "()I"⟩
def dkwX0_restore_1 : List UInt8 := [181, 0, 28, 42, 180, 0, 35, 182, 1, 142, 42, 180, 0, 28, 180, 0, 115, 182, 1, 7, 172]
abbrev dktX0_restore_1 : List UInt8 := dkwX0_restore_1 ++ []
def dkwX0_restore_0 : List UInt8 := [42, 180, 1, 139, 199, 0, 6, 16, 253, 172, 42, 187, 0, 25, 89, 42, 180, 1, 139, 183, 0, 210]
abbrev dktX0_restore_0 : List UInt8 := dkwX0_restore_0 ++ dktX0_restore_1
theorem dksX0_restore_0 : cX0_restore.data.toList.drop 0 = dktX0_restore_0 := by decide +kernel
theorem dksX0_restore_1 : cX0_restore.data.toList.drop 22 = dktX0_restore_1 := dk_seg dksX0_restore_0 22 rfl rfl
theorem dX0_restore_0 : decode cX0_restore 0 = .ok (.aload_n 0, 1) := dk_42 (dk_at dksX0_restore_0 0 rfl rfl)
theorem dX0_restore_1 : decode cX0_restore 1 = .ok (.getfield 395, 3) := dk_180 1 139 (dk_at dksX0_restore_0 1 rfl rfl)
theorem dX0_restore_4 : decode cX0_restore 4 = .ok (.ifnonnull 6, 3) := dk_199 0 6 (dk_at dksX0_restore_0 4 rfl rfl)
theorem dX0_restore_7 : decode cX0_restore 7 = .ok (.bipush (-3), 2) := dk_16 253 (dk_at dksX0_restore_0 7 rfl rfl)
theorem dX0_restore_9 : decode cX0_restore 9 = .ok (.ireturn, 1) := dk_172 (dk_at dksX0_restore_0 9 rfl rfl)
theorem dX0_restore_10 : decode cX0_restore 10 = .ok (.aload_n 0, 1) := dk_42 (dk_at dksX0_restore_0 10 rfl rfl)
theorem dX0_restore_11 : decode cX0_restore 11 = .ok (.new 25, 3) := dk_187 0 25 (dk_at dksX0_restore_0 11 rfl rfl)
theorem dX0_restore_14 : decode cX0_restore 14 = .ok (.dup, 1) := dk_89 (dk_at dksX0_restore_0 14 rfl rfl)
theorem dX0_restore_15 : decode cX0_restore 15 = .ok (.aload_n 0, 1) := dk_42 (dk_at dksX0_restore_0 15 rfl rfl)
theorem dX0_restore_16 : decode cX0_restore 16 = .ok (.getfield 395, 3) := dk_180 1 139 (dk_at dksX0_restore_0 16 rfl rfl)
theorem dX0_restore_19 : decode cX0_restore 19 = .ok (.invokespecial 210, 3) := dk_183 0 210 (dk_at dksX0_restore_0 19 rfl rfl)
theorem dX0_restore_22 : decode cX0_restore 22 = .ok (.putfield 28, 3) := dk_181 0 28 (dk_at dksX0_restore_1 0 rfl rfl)
theorem dX0_restore_25 : decode cX0_restore 25 = .ok (.aload_n 0, 1) := dk_42 (dk_at dksX0_restore_1 3 rfl rfl)
theorem dX0_restore_26 : decode cX0_restore 26 = .ok (.getfield 35, 3) := dk_180 0 35 (dk_at dksX0_restore_1 4 rfl rfl)
theorem dX0_restore_29 : decode cX0_restore 29 = .ok (.invokevirtual 398, 3) := dk_182 1 142 (dk_at dksX0_restore_1 7 rfl rfl)
theorem dX0_restore_32 : decode cX0_restore 32 = .ok (.aload_n 0, 1) := dk_42 (dk_at dksX0_restore_1 10 rfl rfl)
theorem dX0_restore_33 : decode cX0_restore 33 = .ok (.getfield 28, 3) := dk_180 0 28 (dk_at dksX0_restore_1 11 rfl rfl)
theorem dX0_restore_36 : decode cX0_restore 36 = .ok (.getfield 115, 3) := dk_180 0 115 (dk_at dksX0_restore_1 14 rfl rfl)
theorem dX0_restore_39 : decode cX0_restore 39 = .ok (.invokevirtual 263, 3) := dk_182 1 7 (dk_at dksX0_restore_1 17 rfl rfl)
theorem dX0_restore_42 : decode cX0_restore 42 = .ok (.ireturn, 1) := dk_172 (dk_at dksX0_restore_1 20 rfl rfl)
theorem q85 : (Jvm.Cond.initialized "JokePump") ∈ lw_all := lw_g (lw_at lw_m1 1 rfl) rfl
theorem q138 : (Jvm.Cond.instantiable "JokePump" (8 : Nat)) ∈ lw_all := lw_g (lw_at lw_m1 54 rfl) rfl
theorem q140 : (Jvm.Cond.instanceMethod ({ cls := "JokePump", name := "<init>", desc := "()V" } : Jvm.MethodName)) ∈ lw_all := lw_g (lw_at lw_m1 56 rfl) rfl
theorem q141 : (Jvm.Cond.code ({ cls := "JokePump", name := "<init>", desc := "()V" } : Jvm.MethodName) prog_1_method_12_code (1 : Nat) (Option.none : Option Jvm.ClassFile.FieldType)) ∈ lw_all := lw_g (lw_at lw_m1 57 rfl) rfl
theorem q142 : (Jvm.Cond.methodLink "JokePump" (22 : Nat) ({ cls := "java/lang/Object", name := "<init>", desc := "()V" } : Jvm.MethodName)) ∈ lw_all := lw_g (lw_at lw_m1 58 rfl) rfl
theorem q145 : (Jvm.Cond.classLink "JokePump" (25 : Nat) "JokePump$Pump") ∈ lw_all := lw_g (lw_at lw_m1 61 rfl) rfl
theorem q147 : (Jvm.Cond.methodLink "JokePump" (27 : Nat) ({ cls := "JokePump$Pump", name := "<init>", desc := "()V" } : Jvm.MethodName)) ∈ lw_all := lw_g (lw_at lw_m1 63 rfl) rfl
theorem q185 : (Jvm.Cond.fieldLinkNest "JokePump" (115 : Nat) "JokePump$Pump" "jokes" "Ljava/util/ArrayList;" "JokePump") ∈ lw_tbl := lw_at lw_m1 101 rfl
theorem q187 : (Jvm.Cond.fieldLinkNest "JokePump" (194 : Nat) "JokePump$Pump" "lifted" "[LJokePump$Told;" "JokePump") ∈ lw_tbl := lw_at lw_m1 103 rfl
theorem q189 : (Jvm.Cond.fieldLinkNest "JokePump" (169 : Nat) "JokePump$Pump" "isKnown" "[Z" "JokePump") ∈ lw_tbl := lw_at lw_m1 105 rfl
theorem q191 : (Jvm.Cond.fieldLinkNest "JokePump" (155 : Nat) "JokePump$Pump" "buckets" "[I" "JokePump") ∈ lw_tbl := lw_at lw_m1 107 rfl
theorem q193 : (Jvm.Cond.fieldLinkNest "JokePump" (166 : Nat) "JokePump$Pump" "liftedFrom" "[I" "JokePump") ∈ lw_tbl := lw_at lw_m1 109 rfl
theorem q195 : (Jvm.Cond.fieldLinkNest "JokePump" (191 : Nat) "JokePump$Pump" "liftedMany" "I" "JokePump") ∈ lw_tbl := lw_at lw_m1 111 rfl
theorem q197 : (Jvm.Cond.fieldLinkNest "JokePump" (279 : Nat) "JokePump$Pump" "well" "I" "JokePump") ∈ lw_tbl := lw_at lw_m1 113 rfl
theorem q199 : (Jvm.Cond.fieldLinkNest "JokePump" (280 : Nat) "JokePump$Pump" "stroke" "I" "JokePump") ∈ lw_tbl := lw_at lw_m1 115 rfl
theorem q201 : (Jvm.Cond.fieldLinkNest "JokePump" (283 : Nat) "JokePump$Pump" "reach" "I" "JokePump") ∈ lw_tbl := lw_at lw_m1 117 rfl
theorem q203 : (Jvm.Cond.fieldLinkNest "JokePump" (216 : Nat) "JokePump$Pump" "groans" "I" "JokePump") ∈ lw_tbl := lw_at lw_m1 119 rfl
theorem q205 : (Jvm.Cond.fieldLinkNest "JokePump" (286 : Nat) "JokePump$Pump" "drops" "I" "JokePump") ∈ lw_tbl := lw_at lw_m1 121 rfl
theorem q207 : (Jvm.Cond.fieldLinkNest "JokePump" (183 : Nat) "JokePump$Pump" "laughs" "F" "JokePump") ∈ lw_tbl := lw_at lw_m1 123 rfl
theorem q209 : (Jvm.Cond.fieldLinkNest "JokePump" (275 : Nat) "JokePump$Pump" "came" "I" "JokePump") ∈ lw_tbl := lw_at lw_m1 125 rfl
theorem q211 : (Jvm.Cond.fieldLinkNest "JokePump" (266 : Nat) "JokePump$Pump" "went" "I" "JokePump") ∈ lw_tbl := lw_at lw_m1 127 rfl
theorem q213 : (Jvm.Cond.fieldLinkNest "JokePump" (289 : Nat) "JokePump$Pump" "strokes" "I" "JokePump") ∈ lw_tbl := lw_at lw_m1 129 rfl
theorem q215 : (Jvm.Cond.fieldLinkNest "JokePump" (292 : Nat) "JokePump$Pump" "drained" "I" "JokePump") ∈ lw_tbl := lw_at lw_m1 131 rfl
theorem q251 : (Jvm.Cond.classLink "JokePump" (32 : Nat) "java/util/ArrayDeque") ∈ lw_all := lw_g (lw_at lw_m1 167 rfl) rfl
theorem q253 : (Jvm.Cond.methodLink "JokePump" (34 : Nat) ({ cls := "java/util/ArrayDeque", name := "<init>", desc := "()V" } : Jvm.MethodName)) ∈ lw_all := lw_g (lw_at lw_m1 169 rfl) rfl
theorem q271 : (Jvm.Cond.stringRef "JokePump" (39 : Nat) "") ∈ lw_tbl := lw_at lw_m1 187 rfl
theorem q274 : (Jvm.Cond.fieldLink "JokePump" (28 : Nat) "JokePump" "now" "LJokePump$Pump;") ∈ lw_all := lw_g (lw_at lw_m1 190 rfl) rfl
theorem q275 : (Jvm.Cond.fieldLink "JokePump" (395 : Nat) "JokePump" "saved" "LJokePump$Pump;") ∈ lw_all := lw_g (lw_at lw_m1 191 rfl) rfl
theorem q277 : (Jvm.Cond.fieldLink "JokePump" (35 : Nat) "JokePump" "before" "Ljava/util/ArrayDeque;") ∈ lw_all := lw_g (lw_at lw_m1 193 rfl) rfl
theorem q279 : (Jvm.Cond.fieldLink "JokePump" (375 : Nat) "JokePump" "refusal" "LJokePump$Refused;") ∈ lw_all := lw_g (lw_at lw_m1 195 rfl) rfl
theorem q280 : (Jvm.Cond.fieldLink "JokePump" (41 : Nat) "JokePump" "line" "Ljava/lang/String;") ∈ lw_all := lw_g (lw_at lw_m1 196 rfl) rfl
theorem q282 : (Jvm.Cond.fieldLink "JokePump" (45 : Nat) "JokePump" "input" "[C") ∈ lw_all := lw_g (lw_at lw_m1 198 rfl) rfl
theorem q284 : (Jvm.Cond.fieldLink "JokePump" (298 : Nat) "JokePump" "fed" "I") ∈ lw_all := lw_g (lw_at lw_m1 200 rfl) rfl
theorem q285 : (Jvm.Cond.fieldLink "JokePump" (49 : Nat) "JokePump" "faultAt" "I") ∈ lw_all := lw_g (lw_at lw_m1 201 rfl) rfl
theorem q286 : (Jvm.Cond.lays "JokePump" "JokePump" "now" "LJokePump$Pump;") ∈ lw_all := lw_g (lw_at lw_m1 202 rfl) rfl
theorem q287 : (Jvm.Cond.soleField "JokePump" "now") ∈ lw_all := lw_g (lw_at lw_m1 203 rfl) rfl
theorem q288 : (Jvm.Cond.lays "JokePump" "JokePump" "saved" "LJokePump$Pump;") ∈ lw_all := lw_g (lw_at lw_m1 204 rfl) rfl
theorem q289 : (Jvm.Cond.soleField "JokePump" "saved") ∈ lw_all := lw_g (lw_at lw_m1 205 rfl) rfl
theorem q290 : (Jvm.Cond.laysFinal "JokePump" "JokePump" "before" "Ljava/util/ArrayDeque;") ∈ lw_all := lw_g (lw_at lw_m1 206 rfl) rfl
theorem q291 : (Jvm.Cond.soleField "JokePump" "before") ∈ lw_all := lw_g (lw_at lw_m1 207 rfl) rfl
theorem q292 : (Jvm.Cond.lays "JokePump" "JokePump" "refusal" "LJokePump$Refused;") ∈ lw_all := lw_g (lw_at lw_m1 208 rfl) rfl
theorem q293 : (Jvm.Cond.soleField "JokePump" "refusal") ∈ lw_all := lw_g (lw_at lw_m1 209 rfl) rfl
theorem q294 : (Jvm.Cond.lays "JokePump" "JokePump" "line" "Ljava/lang/String;") ∈ lw_all := lw_g (lw_at lw_m1 210 rfl) rfl
theorem q295 : (Jvm.Cond.soleField "JokePump" "line") ∈ lw_all := lw_g (lw_at lw_m1 211 rfl) rfl
theorem q296 : (Jvm.Cond.laysFinal "JokePump" "JokePump" "input" "[C") ∈ lw_all := lw_g (lw_at lw_m1 212 rfl) rfl
theorem q297 : (Jvm.Cond.soleField "JokePump" "input") ∈ lw_all := lw_g (lw_at lw_m1 213 rfl) rfl
theorem q298 : (Jvm.Cond.lays "JokePump" "JokePump" "fed" "I") ∈ lw_all := lw_g (lw_at lw_m1 214 rfl) rfl
theorem q299 : (Jvm.Cond.soleField "JokePump" "fed") ∈ lw_all := lw_g (lw_at lw_m1 215 rfl) rfl
theorem q300 : (Jvm.Cond.lays "JokePump" "JokePump" "faultAt" "I") ∈ lw_all := lw_g (lw_at lw_m1 216 rfl) rfl
theorem q301 : (Jvm.Cond.soleField "JokePump" "faultAt") ∈ lw_all := lw_g (lw_at lw_m1 217 rfl) rfl
theorem q302 : (Jvm.Cond.superclass "JokePump" "java/lang/Object") ∈ lw_all := lw_g (lw_at lw_m1 218 rfl) rfl
theorem q306 : (Jvm.Cond.instanceMethod ({ cls := "JokePump", name := "joke", desc := "(IIII)I" } : Jvm.MethodName)) ∈ lw_all := lw_g (lw_at lw_m1 222 rfl) rfl
theorem q307 : (Jvm.Cond.selects "JokePump" ({ cls := "JokePump", name := "joke", desc := "(IIII)I" } : Jvm.MethodName) ({ cls := "JokePump", name := "joke", desc := "(IIII)I" } : Jvm.MethodName)) ∈ lw_all := lw_g (lw_at lw_m1 223 rfl) rfl
theorem q308 : (Jvm.Cond.code ({ cls := "JokePump", name := "joke", desc := "(IIII)I" } : Jvm.MethodName) prog_1_method_13_code (5 : Nat) (Option.some Jvm.ClassFile.FieldType.int)) ∈ lw_all := lw_g (lw_at lw_m1 224 rfl) rfl
theorem q309 : (Jvm.Cond.classLink "JokePump" (53 : Nat) "JokePump$1") ∈ lw_all := lw_g (lw_at lw_m1 225 rfl) rfl
theorem q311 : (Jvm.Cond.methodLink "JokePump" (55 : Nat) ({ cls := "JokePump$1", name := "<init>", desc := "(LJokePump;IIII)V" } : Jvm.MethodName)) ∈ lw_all := lw_g (lw_at lw_m1 227 rfl) rfl
theorem q337 : (Jvm.Cond.methodLink "JokePump" (58 : Nat) ({ cls := "JokePump", name := "isWell", desc := "(I)Z" } : Jvm.MethodName)) ∈ lw_all := lw_g (lw_at lw_m2 13 rfl) rfl
theorem q338 : (Jvm.Cond.static ({ cls := "JokePump", name := "isWell", desc := "(I)Z" } : Jvm.MethodName)) ∈ lw_all := lw_g (lw_at lw_m2 14 rfl) rfl
theorem q339 : (Jvm.Cond.code ({ cls := "JokePump", name := "isWell", desc := "(I)Z" } : Jvm.MethodName) prog_1_method_3_code (1 : Nat) (Option.some Jvm.ClassFile.FieldType.boolean)) ∈ lw_all := lw_g (lw_at lw_m2 15 rfl) rfl
theorem q340 : (Jvm.Cond.methodLink "JokePump" (3 : Nat) ({ cls := "JokePump", name := "in", desc := "(III)Z" } : Jvm.MethodName)) ∈ lw_all := lw_g (lw_at lw_m2 16 rfl) rfl
theorem q341 : (Jvm.Cond.static ({ cls := "JokePump", name := "in", desc := "(III)Z" } : Jvm.MethodName)) ∈ lw_all := lw_g (lw_at lw_m2 17 rfl) rfl
theorem q342 : (Jvm.Cond.code ({ cls := "JokePump", name := "in", desc := "(III)Z" } : Jvm.MethodName) prog_1_method_1_code (3 : Nat) (Option.some Jvm.ClassFile.FieldType.boolean)) ∈ lw_all := lw_g (lw_at lw_m2 18 rfl) rfl
theorem q343 : (Jvm.Cond.methodLink "JokePump" (61 : Nat) ({ cls := "JokePump", name := "areNumbers", desc := "(III)Z" } : Jvm.MethodName)) ∈ lw_all := lw_g (lw_at lw_m2 19 rfl) rfl
theorem q344 : (Jvm.Cond.static ({ cls := "JokePump", name := "areNumbers", desc := "(III)Z" } : Jvm.MethodName)) ∈ lw_all := lw_g (lw_at lw_m2 20 rfl) rfl
theorem q345 : (Jvm.Cond.code ({ cls := "JokePump", name := "areNumbers", desc := "(III)Z" } : Jvm.MethodName) prog_1_method_5_code (3 : Nat) (Option.some Jvm.ClassFile.FieldType.boolean)) ∈ lw_all := lw_g (lw_at lw_m2 21 rfl) rfl
theorem q346 : (Jvm.Cond.methodLink "JokePump" (7 : Nat) ({ cls := "JokePump", name := "isDepth", desc := "(I)Z" } : Jvm.MethodName)) ∈ lw_all := lw_g (lw_at lw_m2 22 rfl) rfl
theorem q347 : (Jvm.Cond.static ({ cls := "JokePump", name := "isDepth", desc := "(I)Z" } : Jvm.MethodName)) ∈ lw_all := lw_g (lw_at lw_m2 23 rfl) rfl
theorem q348 : (Jvm.Cond.code ({ cls := "JokePump", name := "isDepth", desc := "(I)Z" } : Jvm.MethodName) prog_1_method_4_code (1 : Nat) (Option.some Jvm.ClassFile.FieldType.boolean)) ∈ lw_all := lw_g (lw_at lw_m2 24 rfl) rfl
theorem q349 : (Jvm.Cond.methodLink "JokePump" (64 : Nat) ({ cls := "JokePump$1", name := "doneIf", desc := "(ZZ)I" } : Jvm.MethodName)) ∈ lw_all := lw_g (lw_at lw_m2 25 rfl) rfl
theorem q555 : (Jvm.Cond.privateMethod ({ cls := "JokePump", name := "isFunnier", desc := "(LJokePump$Joke;LJokePump$Joke;)Z" } : Jvm.MethodName)) ∈ lw_tbl := lw_at lw_m2 231 rfl
theorem q556 : (Jvm.Cond.instanceMethod ({ cls := "JokePump", name := "isFunnier", desc := "(LJokePump$Joke;LJokePump$Joke;)Z" } : Jvm.MethodName)) ∈ lw_all := lw_g (lw_at lw_m2 232 rfl) rfl
theorem q557 : (Jvm.Cond.code ({ cls := "JokePump", name := "isFunnier", desc := "(LJokePump$Joke;LJokePump$Joke;)Z" } : Jvm.MethodName) prog_1_method_35_code (5 : Nat) (Option.some Jvm.ClassFile.FieldType.boolean)) ∈ lw_all := lw_g (lw_at lw_m2 233 rfl) rfl
theorem q558 : (Jvm.Cond.methodLink "JokePump" (173 : Nat) ({ cls := "JokePump$Joke", name := "laugh", desc := "(I)F" } : Jvm.MethodName)) ∈ lw_all := lw_g (lw_at lw_m2 234 rfl) rfl
theorem q577 : (Jvm.Cond.fieldLinkNest "JokePump" (223 : Nat) "JokePump$Joke" "number" "I" "JokePump") ∈ lw_tbl := lw_at lw_m3 13 rfl
theorem q582 : (Jvm.Cond.fieldLinkNest "JokePump" (127 : Nat) "JokePump$Joke" "well" "I" "JokePump") ∈ lw_tbl := lw_at lw_m3 18 rfl
theorem q586 : (Jvm.Cond.fieldLinkNest "JokePump" (130 : Nat) "JokePump$Joke" "depth" "I" "JokePump") ∈ lw_tbl := lw_at lw_m3 22 rfl
theorem q590 : (Jvm.Cond.fieldLinkNest "JokePump" (133 : Nat) "JokePump$Joke" "sign" "I" "JokePump") ∈ lw_tbl := lw_at lw_m3 26 rfl
theorem q592 : (Jvm.Cond.fieldLinkNest "JokePump" (136 : Nat) "JokePump$Joke" "wit" "I" "JokePump") ∈ lw_tbl := lw_at lw_m3 28 rfl
theorem q595 : (Jvm.Cond.fieldLinkNest "JokePump" (139 : Nat) "JokePump$Joke" "isPrimed" "Z" "JokePump") ∈ lw_tbl := lw_at lw_m3 31 rfl
theorem q641 : (Jvm.Cond.selects "JokePump" ({ cls := "java/lang/Object", name := "getClass", desc := "()Ljava/lang/Class;" } : Jvm.MethodName) ({ cls := "java/lang/Object", name := "getClass", desc := "()Ljava/lang/Class;" } : Jvm.MethodName)) ∈ lw_all := lw_g (lw_at lw_m3 77 rfl) rfl
theorem q717 : (Jvm.Cond.static ({ cls := "JokePump", name := "needs", desc := "(ZII)V" } : Jvm.MethodName)) ∈ lw_all := lw_g (lw_at lw_m3 153 rfl) rfl
theorem q718 : (Jvm.Cond.code ({ cls := "JokePump", name := "needs", desc := "(ZII)V" } : Jvm.MethodName) prog_1_method_10_code (3 : Nat) (Option.none : Option Jvm.ClassFile.FieldType)) ∈ lw_all := lw_g (lw_at lw_m3 154 rfl) rfl
theorem q719 : (Jvm.Cond.classLink "JokePump" (11 : Nat) "JokePump$Refused") ∈ lw_all := lw_g (lw_at lw_m3 155 rfl) rfl
theorem q728 : (Jvm.Cond.methodLink "JokePump" (13 : Nat) ({ cls := "JokePump$Refused", name := "<init>", desc := "(II)V" } : Jvm.MethodName)) ∈ lw_all := lw_g (lw_at lw_m3 164 rfl) rfl
theorem q741 : (Jvm.Cond.fieldLinkNest "JokePump" (386 : Nat) "JokePump$Refused" "reason" "I" "JokePump") ∈ lw_tbl := lw_at lw_m3 177 rfl
theorem q743 : (Jvm.Cond.fieldLinkNest "JokePump" (383 : Nat) "JokePump$Refused" "detail" "I" "JokePump") ∈ lw_tbl := lw_at lw_m3 179 rfl
theorem q763 : (Jvm.Cond.static ({ cls := "JokePump", name := "bit", desc := "(Z)I" } : Jvm.MethodName)) ∈ lw_all := lw_g (lw_at lw_m3 199 rfl) rfl
theorem q764 : (Jvm.Cond.code ({ cls := "JokePump", name := "bit", desc := "(Z)I" } : Jvm.MethodName) prog_1_method_2_code (1 : Nat) (Option.some Jvm.ClassFile.FieldType.int)) ∈ lw_all := lw_g (lw_at lw_m3 200 rfl) rfl
theorem q770 : (Jvm.Cond.static ({ cls := "JokePump", name := "doesAll", desc := "(LJokePump$Pump;Ljava/util/ArrayList;)I" } : Jvm.MethodName)) ∈ lw_all := lw_g (lw_at lw_m3 206 rfl) rfl
theorem q771 : (Jvm.Cond.codeWith ({ cls := "JokePump", name := "doesAll", desc := "(LJokePump$Pump;Ljava/util/ArrayList;)I" } : Jvm.MethodName) prog_1_method_52_code (6 : Nat) (Option.some Jvm.ClassFile.FieldType.int) [((27 : Nat), (44 : Nat), (47 : Nat), (11 : Nat)), ((27 : Nat), (44 : Nat), (47 : Nat), (17 : Nat))]) ∈ lw_all := lw_g (lw_at lw_m3 207 rfl) rfl
theorem q772 : (Jvm.Cond.classLink "JokePump" (17 : Nat) "JokePump$OutOfRange") ∈ lw_all := lw_g (lw_at lw_m3 208 rfl) rfl
theorem q773 : (Jvm.Cond.methodLink "JokePump" (255 : Nat) ({ cls := "java/util/ArrayList", name := "iterator", desc := "()Ljava/util/Iterator;" } : Jvm.MethodName)) ∈ lw_all := lw_g (lw_at lw_m3 209 rfl) rfl
theorem q774 : (Jvm.Cond.interfaceEntry "JokePump" (241 : Nat)) ∈ lw_tbl := lw_at lw_m3 210 rfl
theorem q775 : (Jvm.Cond.methodLink "JokePump" (241 : Nat) ({ cls := "java/util/Iterator", name := "hasNext", desc := "()Z" } : Jvm.MethodName)) ∈ lw_all := lw_g (lw_at lw_m3 211 rfl) rfl
theorem q776 : (Jvm.Cond.interfaceEntry "JokePump" (247 : Nat)) ∈ lw_tbl := lw_at lw_m3 212 rfl
theorem q777 : (Jvm.Cond.methodLink "JokePump" (247 : Nat) ({ cls := "java/util/Iterator", name := "next", desc := "()Ljava/lang/Object;" } : Jvm.MethodName)) ∈ lw_all := lw_g (lw_at lw_m3 213 rfl) rfl
theorem q778 : (Jvm.Cond.classLink "JokePump" (338 : Nat) "JokePump$Command") ∈ lw_all := lw_g (lw_at lw_m3 214 rfl) rfl
theorem q779 : (Jvm.Cond.methodLink "JokePump" (340 : Nat) ({ cls := "JokePump$Command", name := "isIn", desc := "(LJokePump$Pump;)Z" } : Jvm.MethodName)) ∈ lw_all := lw_g (lw_at lw_m3 215 rfl) rfl
theorem q873 : (Jvm.Cond.static ({ cls := "JokePump", name := "isDrain", desc := "(I)Z" } : Jvm.MethodName)) ∈ lw_all := lw_g (lw_at lw_m4 69 rfl) rfl
theorem q874 : (Jvm.Cond.code ({ cls := "JokePump", name := "isDrain", desc := "(I)Z" } : Jvm.MethodName) prog_1_method_6_code (1 : Nat) (Option.some Jvm.ClassFile.FieldType.boolean)) ∈ lw_all := lw_g (lw_at lw_m4 70 rfl) rfl
theorem q876 : (Jvm.Cond.static ({ cls := "JokePump", name := "isStroke", desc := "(I)Z" } : Jvm.MethodName)) ∈ lw_all := lw_g (lw_at lw_m4 72 rfl) rfl
theorem q877 : (Jvm.Cond.code ({ cls := "JokePump", name := "isStroke", desc := "(I)Z" } : Jvm.MethodName) prog_1_method_7_code (1 : Nat) (Option.some Jvm.ClassFile.FieldType.boolean)) ∈ lw_all := lw_g (lw_at lw_m4 73 rfl) rfl
theorem q879 : (Jvm.Cond.static ({ cls := "JokePump", name := "isBucket", desc := "(I)Z" } : Jvm.MethodName)) ∈ lw_all := lw_g (lw_at lw_m4 75 rfl) rfl
theorem q880 : (Jvm.Cond.code ({ cls := "JokePump", name := "isBucket", desc := "(I)Z" } : Jvm.MethodName) prog_1_method_8_code (1 : Nat) (Option.some Jvm.ClassFile.FieldType.boolean)) ∈ lw_all := lw_g (lw_at lw_m4 76 rfl) rfl
theorem q882 : (Jvm.Cond.static ({ cls := "JokePump", name := "areStrokes", desc := "(I)Z" } : Jvm.MethodName)) ∈ lw_all := lw_g (lw_at lw_m4 78 rfl) rfl
theorem q883 : (Jvm.Cond.code ({ cls := "JokePump", name := "areStrokes", desc := "(I)Z" } : Jvm.MethodName) prog_1_method_9_code (1 : Nat) (Option.some Jvm.ClassFile.FieldType.boolean)) ∈ lw_all := lw_g (lw_at lw_m4 79 rfl) rfl
theorem q884 : (Jvm.Cond.methodLink "JokePump" (344 : Nat) ({ cls := "JokePump", name := "inRange", desc := "(Z)V" } : Jvm.MethodName)) ∈ lw_all := lw_g (lw_at lw_m4 80 rfl) rfl
theorem q885 : (Jvm.Cond.static ({ cls := "JokePump", name := "inRange", desc := "(Z)V" } : Jvm.MethodName)) ∈ lw_all := lw_g (lw_at lw_m4 81 rfl) rfl
theorem q886 : (Jvm.Cond.code ({ cls := "JokePump", name := "inRange", desc := "(Z)V" } : Jvm.MethodName) prog_1_method_11_code (1 : Nat) (Option.none : Option Jvm.ClassFile.FieldType)) ∈ lw_all := lw_g (lw_at lw_m4 82 rfl) rfl
theorem q895 : (Jvm.Cond.methodLink "JokePump" (19 : Nat) ({ cls := "JokePump$OutOfRange", name := "<init>", desc := "()V" } : Jvm.MethodName)) ∈ lw_all := lw_g (lw_at lw_m4 91 rfl) rfl
theorem q901 : (Jvm.Cond.methodLink "JokePump" (348 : Nat) ({ cls := "JokePump$Command", name := "does", desc := "(LJokePump$Pump;)I" } : Jvm.MethodName)) ∈ lw_all := lw_g (lw_at lw_m4 97 rfl) rfl
theorem q940 : (Jvm.Cond.selects "JokePump" ({ cls := "java/lang/Object", name := "equals", desc := "(Ljava/lang/Object;)Z" } : Jvm.MethodName) ({ cls := "java/lang/Object", name := "equals", desc := "(Ljava/lang/Object;)Z" } : Jvm.MethodName)) ∈ lw_all := lw_g (lw_at lw_m4 136 rfl) rfl
theorem q1126 : (Jvm.Cond.fieldLinkNest "JokePump" (200 : Nat) "JokePump$Lifted" "sign" "I" "JokePump") ∈ lw_tbl := lw_at lw_m5 82 rfl
theorem q1128 : (Jvm.Cond.fieldLinkNest "JokePump" (201 : Nat) "JokePump$Lifted" "well" "I" "JokePump") ∈ lw_tbl := lw_at lw_m5 84 rfl
theorem q1130 : (Jvm.Cond.fieldLinkNest "JokePump" (202 : Nat) "JokePump$Lifted" "laugh" "F" "JokePump") ∈ lw_tbl := lw_at lw_m5 86 rfl
theorem q1173 : (Jvm.Cond.methodLink "JokePump" (352 : Nat) ({ cls := "JokePump$Refused", name := "<init>", desc := "(IILjava/lang/Exception;)V" } : Jvm.MethodName)) ∈ lw_all := lw_g (lw_at lw_m5 129 rfl) rfl
theorem q1232 : (Jvm.Cond.instanceMethod ({ cls := "JokePump", name := "prime", desc := "(I)I" } : Jvm.MethodName)) ∈ lw_all := lw_g (lw_at lw_m5 188 rfl) rfl
theorem q1233 : (Jvm.Cond.selects "JokePump" ({ cls := "JokePump", name := "prime", desc := "(I)I" } : Jvm.MethodName) ({ cls := "JokePump", name := "prime", desc := "(I)I" } : Jvm.MethodName)) ∈ lw_all := lw_g (lw_at lw_m5 189 rfl) rfl
theorem q1234 : (Jvm.Cond.code ({ cls := "JokePump", name := "prime", desc := "(I)I" } : Jvm.MethodName) prog_1_method_14_code (2 : Nat) (Option.some Jvm.ClassFile.FieldType.int)) ∈ lw_all := lw_g (lw_at lw_m5 190 rfl) rfl
theorem q1235 : (Jvm.Cond.classLink "JokePump" (68 : Nat) "JokePump$2") ∈ lw_all := lw_g (lw_at lw_m5 191 rfl) rfl
theorem q1237 : (Jvm.Cond.methodLink "JokePump" (70 : Nat) ({ cls := "JokePump$2", name := "<init>", desc := "(LJokePump;I)V" } : Jvm.MethodName)) ∈ lw_all := lw_g (lw_at lw_m5 193 rfl) rfl
theorem q1249 : (Jvm.Cond.methodLink "JokePump" (73 : Nat) ({ cls := "JokePump$Pump", name := "hasJoke", desc := "(I)Z" } : Jvm.MethodName)) ∈ lw_all := lw_g (lw_at lw_m5 205 rfl) rfl
theorem q1250 : (Jvm.Cond.methodLink "JokePump" (76 : Nat) ({ cls := "JokePump$2", name := "doneIf", desc := "(ZZ)I" } : Jvm.MethodName)) ∈ lw_all := lw_g (lw_at lw_m5 206 rfl) rfl
theorem q1254 : (Jvm.Cond.instanceMethod ({ cls := "JokePump", name := "drop", desc := "(I)I" } : Jvm.MethodName)) ∈ lw_all := lw_g (lw_at lw_m5 210 rfl) rfl
theorem q1255 : (Jvm.Cond.selects "JokePump" ({ cls := "JokePump", name := "drop", desc := "(I)I" } : Jvm.MethodName) ({ cls := "JokePump", name := "drop", desc := "(I)I" } : Jvm.MethodName)) ∈ lw_all := lw_g (lw_at lw_m5 211 rfl) rfl
theorem q1256 : (Jvm.Cond.code ({ cls := "JokePump", name := "drop", desc := "(I)I" } : Jvm.MethodName) prog_1_method_15_code (2 : Nat) (Option.some Jvm.ClassFile.FieldType.int)) ∈ lw_all := lw_g (lw_at lw_m5 212 rfl) rfl
theorem q1257 : (Jvm.Cond.classLink "JokePump" (77 : Nat) "JokePump$3") ∈ lw_all := lw_g (lw_at lw_m5 213 rfl) rfl
theorem q1259 : (Jvm.Cond.methodLink "JokePump" (79 : Nat) ({ cls := "JokePump$3", name := "<init>", desc := "(LJokePump;I)V" } : Jvm.MethodName)) ∈ lw_all := lw_g (lw_at lw_m5 215 rfl) rfl
theorem q1271 : (Jvm.Cond.methodLink "JokePump" (80 : Nat) ({ cls := "JokePump$3", name := "doneIf", desc := "(ZZ)I" } : Jvm.MethodName)) ∈ lw_all := lw_g (lw_at lw_m5 227 rfl) rfl
theorem q1275 : (Jvm.Cond.instanceMethod ({ cls := "JokePump", name := "drain", desc := "(I)I" } : Jvm.MethodName)) ∈ lw_all := lw_g (lw_at lw_m5 231 rfl) rfl
theorem q1276 : (Jvm.Cond.selects "JokePump" ({ cls := "JokePump", name := "drain", desc := "(I)I" } : Jvm.MethodName) ({ cls := "JokePump", name := "drain", desc := "(I)I" } : Jvm.MethodName)) ∈ lw_all := lw_g (lw_at lw_m5 232 rfl) rfl
theorem q1277 : (Jvm.Cond.code ({ cls := "JokePump", name := "drain", desc := "(I)I" } : Jvm.MethodName) prog_1_method_16_code (2 : Nat) (Option.some Jvm.ClassFile.FieldType.int)) ∈ lw_all := lw_g (lw_at lw_m5 233 rfl) rfl
theorem q1278 : (Jvm.Cond.classLink "JokePump" (81 : Nat) "JokePump$4") ∈ lw_all := lw_g (lw_at lw_m5 234 rfl) rfl
theorem q1280 : (Jvm.Cond.methodLink "JokePump" (83 : Nat) ({ cls := "JokePump$4", name := "<init>", desc := "(LJokePump;I)V" } : Jvm.MethodName)) ∈ lw_all := lw_g (lw_at lw_m5 236 rfl) rfl
theorem q1292 : (Jvm.Cond.methodLink "JokePump" (84 : Nat) ({ cls := "JokePump", name := "isDrain", desc := "(I)Z" } : Jvm.MethodName)) ∈ lw_all := lw_g (lw_at lw_m6 8 rfl) rfl
theorem q1293 : (Jvm.Cond.methodLink "JokePump" (87 : Nat) ({ cls := "JokePump$4", name := "doneIf", desc := "(ZZ)I" } : Jvm.MethodName)) ∈ lw_all := lw_g (lw_at lw_m6 9 rfl) rfl
theorem q1297 : (Jvm.Cond.instanceMethod ({ cls := "JokePump", name := "stroke", desc := "(I)I" } : Jvm.MethodName)) ∈ lw_all := lw_g (lw_at lw_m6 13 rfl) rfl
theorem q1298 : (Jvm.Cond.selects "JokePump" ({ cls := "JokePump", name := "stroke", desc := "(I)I" } : Jvm.MethodName) ({ cls := "JokePump", name := "stroke", desc := "(I)I" } : Jvm.MethodName)) ∈ lw_all := lw_g (lw_at lw_m6 14 rfl) rfl
theorem q1299 : (Jvm.Cond.code ({ cls := "JokePump", name := "stroke", desc := "(I)I" } : Jvm.MethodName) prog_1_method_17_code (2 : Nat) (Option.some Jvm.ClassFile.FieldType.int)) ∈ lw_all := lw_g (lw_at lw_m6 15 rfl) rfl
theorem q1300 : (Jvm.Cond.classLink "JokePump" (88 : Nat) "JokePump$5") ∈ lw_all := lw_g (lw_at lw_m6 16 rfl) rfl
theorem q1302 : (Jvm.Cond.methodLink "JokePump" (90 : Nat) ({ cls := "JokePump$5", name := "<init>", desc := "(LJokePump;I)V" } : Jvm.MethodName)) ∈ lw_all := lw_g (lw_at lw_m6 18 rfl) rfl
theorem q1314 : (Jvm.Cond.methodLink "JokePump" (91 : Nat) ({ cls := "JokePump", name := "isStroke", desc := "(I)Z" } : Jvm.MethodName)) ∈ lw_all := lw_g (lw_at lw_m6 30 rfl) rfl
theorem q1315 : (Jvm.Cond.methodLink "JokePump" (94 : Nat) ({ cls := "JokePump$5", name := "doneIf", desc := "(ZZ)I" } : Jvm.MethodName)) ∈ lw_all := lw_g (lw_at lw_m6 31 rfl) rfl
theorem q1319 : (Jvm.Cond.instanceMethod ({ cls := "JokePump", name := "bucket", desc := "(II)I" } : Jvm.MethodName)) ∈ lw_all := lw_g (lw_at lw_m6 35 rfl) rfl
theorem q1320 : (Jvm.Cond.selects "JokePump" ({ cls := "JokePump", name := "bucket", desc := "(II)I" } : Jvm.MethodName) ({ cls := "JokePump", name := "bucket", desc := "(II)I" } : Jvm.MethodName)) ∈ lw_all := lw_g (lw_at lw_m6 36 rfl) rfl
theorem q1321 : (Jvm.Cond.code ({ cls := "JokePump", name := "bucket", desc := "(II)I" } : Jvm.MethodName) prog_1_method_18_code (3 : Nat) (Option.some Jvm.ClassFile.FieldType.int)) ∈ lw_all := lw_g (lw_at lw_m6 37 rfl) rfl
theorem q1322 : (Jvm.Cond.classLink "JokePump" (95 : Nat) "JokePump$6") ∈ lw_all := lw_g (lw_at lw_m6 38 rfl) rfl
theorem q1324 : (Jvm.Cond.methodLink "JokePump" (97 : Nat) ({ cls := "JokePump$6", name := "<init>", desc := "(LJokePump;II)V" } : Jvm.MethodName)) ∈ lw_all := lw_g (lw_at lw_m6 40 rfl) rfl
theorem q1339 : (Jvm.Cond.methodLink "JokePump" (100 : Nat) ({ cls := "JokePump", name := "isBucket", desc := "(I)Z" } : Jvm.MethodName)) ∈ lw_all := lw_g (lw_at lw_m6 55 rfl) rfl
theorem q1340 : (Jvm.Cond.methodLink "JokePump" (103 : Nat) ({ cls := "JokePump$6", name := "doneIf", desc := "(ZZ)I" } : Jvm.MethodName)) ∈ lw_all := lw_g (lw_at lw_m6 56 rfl) rfl
theorem q1344 : (Jvm.Cond.instanceMethod ({ cls := "JokePump", name := "go", desc := "(I)I" } : Jvm.MethodName)) ∈ lw_all := lw_g (lw_at lw_m6 60 rfl) rfl
theorem q1345 : (Jvm.Cond.selects "JokePump" ({ cls := "JokePump", name := "go", desc := "(I)I" } : Jvm.MethodName) ({ cls := "JokePump", name := "go", desc := "(I)I" } : Jvm.MethodName)) ∈ lw_all := lw_g (lw_at lw_m6 61 rfl) rfl
theorem q1346 : (Jvm.Cond.code ({ cls := "JokePump", name := "go", desc := "(I)I" } : Jvm.MethodName) prog_1_method_19_code (2 : Nat) (Option.some Jvm.ClassFile.FieldType.int)) ∈ lw_all := lw_g (lw_at lw_m6 62 rfl) rfl
theorem q1347 : (Jvm.Cond.classLink "JokePump" (104 : Nat) "JokePump$7") ∈ lw_all := lw_g (lw_at lw_m6 63 rfl) rfl
theorem q1349 : (Jvm.Cond.methodLink "JokePump" (106 : Nat) ({ cls := "JokePump$7", name := "<init>", desc := "(LJokePump;I)V" } : Jvm.MethodName)) ∈ lw_all := lw_g (lw_at lw_m6 65 rfl) rfl
theorem q1361 : (Jvm.Cond.methodLink "JokePump" (107 : Nat) ({ cls := "JokePump$7", name := "doneIf", desc := "(ZZ)I" } : Jvm.MethodName)) ∈ lw_all := lw_g (lw_at lw_m6 77 rfl) rfl
theorem q1365 : (Jvm.Cond.instanceMethod ({ cls := "JokePump", name := "pump", desc := "(I)I" } : Jvm.MethodName)) ∈ lw_all := lw_g (lw_at lw_m6 81 rfl) rfl
theorem q1366 : (Jvm.Cond.selects "JokePump" ({ cls := "JokePump", name := "pump", desc := "(I)I" } : Jvm.MethodName) ({ cls := "JokePump", name := "pump", desc := "(I)I" } : Jvm.MethodName)) ∈ lw_all := lw_g (lw_at lw_m6 82 rfl) rfl
theorem q1367 : (Jvm.Cond.code ({ cls := "JokePump", name := "pump", desc := "(I)I" } : Jvm.MethodName) prog_1_method_20_code (2 : Nat) (Option.some Jvm.ClassFile.FieldType.int)) ∈ lw_all := lw_g (lw_at lw_m6 83 rfl) rfl
theorem q1368 : (Jvm.Cond.classLink "JokePump" (108 : Nat) "JokePump$8") ∈ lw_all := lw_g (lw_at lw_m6 84 rfl) rfl
theorem q1370 : (Jvm.Cond.methodLink "JokePump" (110 : Nat) ({ cls := "JokePump$8", name := "<init>", desc := "(LJokePump;I)V" } : Jvm.MethodName)) ∈ lw_all := lw_g (lw_at lw_m6 86 rfl) rfl
theorem q1382 : (Jvm.Cond.methodLink "JokePump" (111 : Nat) ({ cls := "JokePump", name := "areStrokes", desc := "(I)Z" } : Jvm.MethodName)) ∈ lw_all := lw_g (lw_at lw_m6 98 rfl) rfl
theorem q1383 : (Jvm.Cond.methodLink "JokePump" (114 : Nat) ({ cls := "JokePump$8", name := "doneIf", desc := "(ZZ)I" } : Jvm.MethodName)) ∈ lw_all := lw_g (lw_at lw_m6 99 rfl) rfl
theorem q1387 : (Jvm.Cond.instanceMethod ({ cls := "JokePump", name := "jokeOf", desc := "(II)I" } : Jvm.MethodName)) ∈ lw_all := lw_g (lw_at lw_m6 103 rfl) rfl
theorem q1388 : (Jvm.Cond.selects "JokePump" ({ cls := "JokePump", name := "jokeOf", desc := "(II)I" } : Jvm.MethodName) ({ cls := "JokePump", name := "jokeOf", desc := "(II)I" } : Jvm.MethodName)) ∈ lw_all := lw_g (lw_at lw_m6 104 rfl) rfl
theorem q1389 : (Jvm.Cond.code ({ cls := "JokePump", name := "jokeOf", desc := "(II)I" } : Jvm.MethodName) prog_1_method_21_code (4 : Nat) (Option.some Jvm.ClassFile.FieldType.int)) ∈ lw_all := lw_g (lw_at lw_m6 105 rfl) rfl
theorem q1390 : (Jvm.Cond.methodLink "JokePump" (119 : Nat) ({ cls := "java/util/ArrayList", name := "get", desc := "(I)Ljava/lang/Object;" } : Jvm.MethodName)) ∈ lw_all := lw_g (lw_at lw_m6 106 rfl) rfl
theorem q1391 : (Jvm.Cond.classLink "JokePump" (125 : Nat) "JokePump$Joke") ∈ lw_all := lw_g (lw_at lw_m6 107 rfl) rfl
theorem q1392 : (Jvm.Cond.methodLink "JokePump" (143 : Nat) ({ cls := "JokePump", name := "bit", desc := "(Z)I" } : Jvm.MethodName)) ∈ lw_all := lw_g (lw_at lw_m6 108 rfl) rfl
theorem q1393 : (Jvm.Cond.methodLink "JokePump" (147 : Nat) ({ cls := "JokePump$Pump", name := "lessDeep", desc := "(LJokePump$Joke;)I" } : Jvm.MethodName)) ∈ lw_all := lw_g (lw_at lw_m6 109 rfl) rfl
theorem q1398 : (Jvm.Cond.instanceMethod ({ cls := "JokePump", name := "wellOf", desc := "(II)I" } : Jvm.MethodName)) ∈ lw_all := lw_g (lw_at lw_m6 114 rfl) rfl
theorem q1399 : (Jvm.Cond.selects "JokePump" ({ cls := "JokePump", name := "wellOf", desc := "(II)I" } : Jvm.MethodName) ({ cls := "JokePump", name := "wellOf", desc := "(II)I" } : Jvm.MethodName)) ∈ lw_all := lw_g (lw_at lw_m6 115 rfl) rfl
theorem q1400 : (Jvm.Cond.code ({ cls := "JokePump", name := "wellOf", desc := "(II)I" } : Jvm.MethodName) prog_1_method_23_code (3 : Nat) (Option.some Jvm.ClassFile.FieldType.int)) ∈ lw_all := lw_g (lw_at lw_m6 116 rfl) rfl
theorem q1401 : (Jvm.Cond.methodLink "JokePump" (159 : Nat) ({ cls := "JokePump$Pump", name := "inWell", desc := "(I)I" } : Jvm.MethodName)) ∈ lw_all := lw_g (lw_at lw_m6 117 rfl) rfl
theorem q1402 : (Jvm.Cond.methodLink "JokePump" (163 : Nat) ({ cls := "JokePump", name := "leastDepth", desc := "(I)I" } : Jvm.MethodName)) ∈ lw_all := lw_g (lw_at lw_m6 118 rfl) rfl
theorem q1403 : (Jvm.Cond.privateMethod ({ cls := "JokePump", name := "leastDepth", desc := "(I)I" } : Jvm.MethodName)) ∈ lw_tbl := lw_at lw_m6 119 rfl
theorem q1404 : (Jvm.Cond.instanceMethod ({ cls := "JokePump", name := "leastDepth", desc := "(I)I" } : Jvm.MethodName)) ∈ lw_all := lw_g (lw_at lw_m6 120 rfl) rfl
theorem q1405 : (Jvm.Cond.code ({ cls := "JokePump", name := "leastDepth", desc := "(I)I" } : Jvm.MethodName) prog_1_method_22_code (3 : Nat) (Option.some Jvm.ClassFile.FieldType.int)) ∈ lw_all := lw_g (lw_at lw_m6 121 rfl) rfl
theorem q1406 : (Jvm.Cond.methodLink "JokePump" (151 : Nat) ({ cls := "JokePump$Pump", name := "at", desc := "(II)LJokePump$Joke;" } : Jvm.MethodName)) ∈ lw_all := lw_g (lw_at lw_m6 122 rfl) rfl
theorem q1408 : (Jvm.Cond.instanceMethod ({ cls := "JokePump", name := "isKnown", desc := "(I)I" } : Jvm.MethodName)) ∈ lw_all := lw_g (lw_at lw_m6 124 rfl) rfl
theorem q1409 : (Jvm.Cond.selects "JokePump" ({ cls := "JokePump", name := "isKnown", desc := "(I)I" } : Jvm.MethodName) ({ cls := "JokePump", name := "isKnown", desc := "(I)I" } : Jvm.MethodName)) ∈ lw_all := lw_g (lw_at lw_m6 125 rfl) rfl
theorem q1410 : (Jvm.Cond.code ({ cls := "JokePump", name := "isKnown", desc := "(I)I" } : Jvm.MethodName) prog_1_method_24_code (2 : Nat) (Option.some Jvm.ClassFile.FieldType.int)) ∈ lw_all := lw_g (lw_at lw_m6 126 rfl) rfl
theorem q1412 : (Jvm.Cond.instanceMethod ({ cls := "JokePump", name := "laughBits", desc := "(II)I" } : Jvm.MethodName)) ∈ lw_all := lw_g (lw_at lw_m6 128 rfl) rfl
theorem q1413 : (Jvm.Cond.selects "JokePump" ({ cls := "JokePump", name := "laughBits", desc := "(II)I" } : Jvm.MethodName) ({ cls := "JokePump", name := "laughBits", desc := "(II)I" } : Jvm.MethodName)) ∈ lw_all := lw_g (lw_at lw_m6 129 rfl) rfl
theorem q1414 : (Jvm.Cond.code ({ cls := "JokePump", name := "laughBits", desc := "(II)I" } : Jvm.MethodName) prog_1_method_25_code (3 : Nat) (Option.some Jvm.ClassFile.FieldType.int)) ∈ lw_all := lw_g (lw_at lw_m6 130 rfl) rfl
theorem q1415 : (Jvm.Cond.methodLink "JokePump" (177 : Nat) ({ cls := "java/lang/Float", name := "floatToIntBits", desc := "(F)I" } : Jvm.MethodName)) ∈ lw_all := lw_g (lw_at lw_m6 131 rfl) rfl
theorem q1426 : (Jvm.Cond.instanceMethod ({ cls := "JokePump", name := "laughs", desc := "()F" } : Jvm.MethodName)) ∈ lw_all := lw_g (lw_at lw_m6 142 rfl) rfl
theorem q1427 : (Jvm.Cond.selects "JokePump" ({ cls := "JokePump", name := "laughs", desc := "()F" } : Jvm.MethodName) ({ cls := "JokePump", name := "laughs", desc := "()F" } : Jvm.MethodName)) ∈ lw_all := lw_g (lw_at lw_m6 143 rfl) rfl
theorem q1428 : (Jvm.Cond.code ({ cls := "JokePump", name := "laughs", desc := "()F" } : Jvm.MethodName) prog_1_method_26_code (1 : Nat) (Option.some Jvm.ClassFile.FieldType.float)) ∈ lw_all := lw_g (lw_at lw_m6 144 rfl) rfl
theorem q1430 : (Jvm.Cond.instanceMethod ({ cls := "JokePump", name := "laughsAgain", desc := "()F" } : Jvm.MethodName)) ∈ lw_all := lw_g (lw_at lw_m6 146 rfl) rfl
theorem q1431 : (Jvm.Cond.selects "JokePump" ({ cls := "JokePump", name := "laughsAgain", desc := "()F" } : Jvm.MethodName) ({ cls := "JokePump", name := "laughsAgain", desc := "()F" } : Jvm.MethodName)) ∈ lw_all := lw_g (lw_at lw_m6 147 rfl) rfl
theorem q1432 : (Jvm.Cond.code ({ cls := "JokePump", name := "laughsAgain", desc := "()F" } : Jvm.MethodName) prog_1_method_27_code (1 : Nat) (Option.some Jvm.ClassFile.FieldType.float)) ∈ lw_all := lw_g (lw_at lw_m6 148 rfl) rfl
theorem q1433 : (Jvm.Cond.methodLink "JokePump" (187 : Nat) ({ cls := "JokePump$Pump", name := "laughsAgain", desc := "()F" } : Jvm.MethodName)) ∈ lw_all := lw_g (lw_at lw_m6 149 rfl) rfl
theorem q1445 : (Jvm.Cond.instanceMethod ({ cls := "JokePump", name := "wholeLaughs", desc := "()I" } : Jvm.MethodName)) ∈ lw_all := lw_g (lw_at lw_m6 161 rfl) rfl
theorem q1446 : (Jvm.Cond.selects "JokePump" ({ cls := "JokePump", name := "wholeLaughs", desc := "()I" } : Jvm.MethodName) ({ cls := "JokePump", name := "wholeLaughs", desc := "()I" } : Jvm.MethodName)) ∈ lw_all := lw_g (lw_at lw_m6 162 rfl) rfl
theorem q1447 : (Jvm.Cond.code ({ cls := "JokePump", name := "wholeLaughs", desc := "()I" } : Jvm.MethodName) prog_1_method_28_code (1 : Nat) (Option.some Jvm.ClassFile.FieldType.int)) ∈ lw_all := lw_g (lw_at lw_m6 163 rfl) rfl
theorem q1449 : (Jvm.Cond.instanceMethod ({ cls := "JokePump", name := "liftedOf", desc := "(II)I" } : Jvm.MethodName)) ∈ lw_all := lw_g (lw_at lw_m6 165 rfl) rfl
theorem q1450 : (Jvm.Cond.selects "JokePump" ({ cls := "JokePump", name := "liftedOf", desc := "(II)I" } : Jvm.MethodName) ({ cls := "JokePump", name := "liftedOf", desc := "(II)I" } : Jvm.MethodName)) ∈ lw_all := lw_g (lw_at lw_m6 166 rfl) rfl
theorem q1451 : (Jvm.Cond.code ({ cls := "JokePump", name := "liftedOf", desc := "(II)I" } : Jvm.MethodName) prog_1_method_29_code (4 : Nat) (Option.some Jvm.ClassFile.FieldType.int)) ∈ lw_all := lw_g (lw_at lw_m6 167 rfl) rfl
theorem q1452 : (Jvm.Cond.classLink "JokePump" (198 : Nat) "JokePump$Lifted") ∈ lw_all := lw_g (lw_at lw_m6 168 rfl) rfl
theorem q1454 : (Jvm.Cond.instanceMethod ({ cls := "JokePump", name := "strokes", desc := "(I)I" } : Jvm.MethodName)) ∈ lw_all := lw_g (lw_at lw_m6 170 rfl) rfl
theorem q1455 : (Jvm.Cond.selects "JokePump" ({ cls := "JokePump", name := "strokes", desc := "(I)I" } : Jvm.MethodName) ({ cls := "JokePump", name := "strokes", desc := "(I)I" } : Jvm.MethodName)) ∈ lw_all := lw_g (lw_at lw_m6 171 rfl) rfl
theorem q1456 : (Jvm.Cond.code ({ cls := "JokePump", name := "strokes", desc := "(I)I" } : Jvm.MethodName) prog_1_method_30_code (2 : Nat) (Option.some Jvm.ClassFile.FieldType.int)) ∈ lw_all := lw_g (lw_at lw_m6 172 rfl) rfl
theorem q1457 : (Jvm.Cond.methodLink "JokePump" (204 : Nat) ({ cls := "JokePump$Pump", name := "strokesTo", desc := "(I)I" } : Jvm.MethodName)) ∈ lw_all := lw_g (lw_at lw_m6 173 rfl) rfl
theorem q1462 : (Jvm.Cond.instanceMethod ({ cls := "JokePump", name := "strokesAgain", desc := "(I)I" } : Jvm.MethodName)) ∈ lw_all := lw_g (lw_at lw_m6 178 rfl) rfl
theorem q1463 : (Jvm.Cond.selects "JokePump" ({ cls := "JokePump", name := "strokesAgain", desc := "(I)I" } : Jvm.MethodName) ({ cls := "JokePump", name := "strokesAgain", desc := "(I)I" } : Jvm.MethodName)) ∈ lw_all := lw_g (lw_at lw_m6 179 rfl) rfl
theorem q1464 : (Jvm.Cond.code ({ cls := "JokePump", name := "strokesAgain", desc := "(I)I" } : Jvm.MethodName) prog_1_method_31_code (2 : Nat) (Option.some Jvm.ClassFile.FieldType.int)) ∈ lw_all := lw_g (lw_at lw_m6 180 rfl) rfl
theorem q1465 : (Jvm.Cond.methodLink "JokePump" (207 : Nat) ({ cls := "JokePump$Pump", name := "strokesAgain", desc := "(I)I" } : Jvm.MethodName)) ∈ lw_all := lw_g (lw_at lw_m6 181 rfl) rfl
theorem q1471 : (Jvm.Cond.instanceMethod ({ cls := "JokePump", name := "would", desc := "(I)I" } : Jvm.MethodName)) ∈ lw_all := lw_g (lw_at lw_m6 187 rfl) rfl
theorem q1472 : (Jvm.Cond.selects "JokePump" ({ cls := "JokePump", name := "would", desc := "(I)I" } : Jvm.MethodName) ({ cls := "JokePump", name := "would", desc := "(I)I" } : Jvm.MethodName)) ∈ lw_all := lw_g (lw_at lw_m6 188 rfl) rfl
theorem q1473 : (Jvm.Cond.code ({ cls := "JokePump", name := "would", desc := "(I)I" } : Jvm.MethodName) prog_1_method_32_code (2 : Nat) (Option.some Jvm.ClassFile.FieldType.int)) ∈ lw_all := lw_g (lw_at lw_m6 189 rfl) rfl
theorem q1474 : (Jvm.Cond.methodLink "JokePump" (210 : Nat) ({ cls := "JokePump$Pump", name := "<init>", desc := "(LJokePump$Pump;)V" } : Jvm.MethodName)) ∈ lw_all := lw_g (lw_at lw_m6 190 rfl) rfl
theorem q1475 : (Jvm.Cond.methodLink "JokePump" (213 : Nat) ({ cls := "JokePump$Pump", name := "pumpsOn", desc := "(I)I" } : Jvm.MethodName)) ∈ lw_all := lw_g (lw_at lw_m6 191 rfl) rfl
theorem q1477 : (Jvm.Cond.instanceMethod ({ cls := "JokePump", name := "groansIn", desc := "(I)I" } : Jvm.MethodName)) ∈ lw_all := lw_g (lw_at lw_m6 193 rfl) rfl
theorem q1478 : (Jvm.Cond.selects "JokePump" ({ cls := "JokePump", name := "groansIn", desc := "(I)I" } : Jvm.MethodName) ({ cls := "JokePump", name := "groansIn", desc := "(I)I" } : Jvm.MethodName)) ∈ lw_all := lw_g (lw_at lw_m6 194 rfl) rfl
theorem q1479 : (Jvm.Cond.code ({ cls := "JokePump", name := "groansIn", desc := "(I)I" } : Jvm.MethodName) prog_1_method_33_code (4 : Nat) (Option.some Jvm.ClassFile.FieldType.int)) ∈ lw_all := lw_g (lw_at lw_m6 195 rfl) rfl
theorem q1481 : (Jvm.Cond.instanceMethod ({ cls := "JokePump", name := "bestStroke", desc := "()I" } : Jvm.MethodName)) ∈ lw_all := lw_g (lw_at lw_m6 197 rfl) rfl
theorem q1482 : (Jvm.Cond.selects "JokePump" ({ cls := "JokePump", name := "bestStroke", desc := "()I" } : Jvm.MethodName) ({ cls := "JokePump", name := "bestStroke", desc := "()I" } : Jvm.MethodName)) ∈ lw_all := lw_g (lw_at lw_m6 198 rfl) rfl
theorem q1483 : (Jvm.Cond.code ({ cls := "JokePump", name := "bestStroke", desc := "()I" } : Jvm.MethodName) prog_1_method_34_code (1 : Nat) (Option.some Jvm.ClassFile.FieldType.int)) ∈ lw_all := lw_g (lw_at lw_m6 199 rfl) rfl
theorem q1484 : (Jvm.Cond.methodLink "JokePump" (219 : Nat) ({ cls := "JokePump$Pump", name := "bestStroke", desc := "()I" } : Jvm.MethodName)) ∈ lw_all := lw_g (lw_at lw_m6 200 rfl) rfl
theorem q1493 : (Jvm.Cond.instanceMethod ({ cls := "JokePump", name := "funniest", desc := "(I)I" } : Jvm.MethodName)) ∈ lw_all := lw_g (lw_at lw_m6 209 rfl) rfl
theorem q1494 : (Jvm.Cond.selects "JokePump" ({ cls := "JokePump", name := "funniest", desc := "(I)I" } : Jvm.MethodName) ({ cls := "JokePump", name := "funniest", desc := "(I)I" } : Jvm.MethodName)) ∈ lw_all := lw_g (lw_at lw_m6 210 rfl) rfl
theorem q1495 : (Jvm.Cond.code ({ cls := "JokePump", name := "funniest", desc := "(I)I" } : Jvm.MethodName) prog_1_method_37_code (5 : Nat) (Option.some Jvm.ClassFile.FieldType.int)) ∈ lw_all := lw_g (lw_at lw_m6 211 rfl) rfl
theorem q1496 : (Jvm.Cond.methodLink "JokePump" (231 : Nat) ({ cls := "JokePump", name := "byLaughs", desc := "()Ljava/lang/Iterable;" } : Jvm.MethodName)) ∈ lw_all := lw_g (lw_at lw_m6 212 rfl) rfl
theorem q1497 : (Jvm.Cond.privateMethod ({ cls := "JokePump", name := "byLaughs", desc := "()Ljava/lang/Iterable;" } : Jvm.MethodName)) ∈ lw_tbl := lw_at lw_m6 213 rfl
theorem q1498 : (Jvm.Cond.instanceMethod ({ cls := "JokePump", name := "byLaughs", desc := "()Ljava/lang/Iterable;" } : Jvm.MethodName)) ∈ lw_all := lw_g (lw_at lw_m6 214 rfl) rfl
theorem q1499 : (Jvm.Cond.code ({ cls := "JokePump", name := "byLaughs", desc := "()Ljava/lang/Iterable;" } : Jvm.MethodName) prog_1_method_36_code (1 : Nat) (Option.some (Jvm.ClassFile.FieldType.object "java/lang/Iterable"))) ∈ lw_all := lw_g (lw_at lw_m6 215 rfl) rfl
theorem q1500 : (Jvm.Cond.classLink "JokePump" (226 : Nat) "JokePump$9") ∈ lw_all := lw_g (lw_at lw_m6 216 rfl) rfl
theorem q1502 : (Jvm.Cond.methodLink "JokePump" (228 : Nat) ({ cls := "JokePump$9", name := "<init>", desc := "(LJokePump;)V" } : Jvm.MethodName)) ∈ lw_all := lw_g (lw_at lw_m6 218 rfl) rfl
theorem q1510 : (Jvm.Cond.interfaceEntry "JokePump" (235 : Nat)) ∈ lw_tbl := lw_at lw_m6 226 rfl
theorem q1511 : (Jvm.Cond.methodLink "JokePump" (235 : Nat) ({ cls := "java/lang/Iterable", name := "iterator", desc := "()Ljava/util/Iterator;" } : Jvm.MethodName)) ∈ lw_all := lw_g (lw_at lw_m6 227 rfl) rfl
theorem q1513 : (Jvm.Cond.instanceMethod ({ cls := "JokePump", name := "inWell", desc := "(II)I" } : Jvm.MethodName)) ∈ lw_all := lw_g (lw_at lw_m6 229 rfl) rfl
theorem q1514 : (Jvm.Cond.selects "JokePump" ({ cls := "JokePump", name := "inWell", desc := "(II)I" } : Jvm.MethodName) ({ cls := "JokePump", name := "inWell", desc := "(II)I" } : Jvm.MethodName)) ∈ lw_all := lw_g (lw_at lw_m6 230 rfl) rfl
theorem q1515 : (Jvm.Cond.code ({ cls := "JokePump", name := "inWell", desc := "(II)I" } : Jvm.MethodName) prog_1_method_38_code (4 : Nat) (Option.some Jvm.ClassFile.FieldType.int)) ∈ lw_all := lw_g (lw_at lw_m6 231 rfl) rfl
theorem q1517 : (Jvm.Cond.instanceMethod ({ cls := "JokePump", name := "fullest", desc := "(I)I" } : Jvm.MethodName)) ∈ lw_all := lw_g (lw_at lw_m6 233 rfl) rfl
theorem q1518 : (Jvm.Cond.selects "JokePump" ({ cls := "JokePump", name := "fullest", desc := "(I)I" } : Jvm.MethodName) ({ cls := "JokePump", name := "fullest", desc := "(I)I" } : Jvm.MethodName)) ∈ lw_all := lw_g (lw_at lw_m6 234 rfl) rfl
theorem q1519 : (Jvm.Cond.code ({ cls := "JokePump", name := "fullest", desc := "(I)I" } : Jvm.MethodName) prog_1_method_40_code (5 : Nat) (Option.some Jvm.ClassFile.FieldType.int)) ∈ lw_all := lw_g (lw_at lw_m6 235 rfl) rfl
theorem q1520 : (Jvm.Cond.methodLink "JokePump" (251 : Nat) ({ cls := "JokePump", name := "isFuller", desc := "(II)Z" } : Jvm.MethodName)) ∈ lw_all := lw_g (lw_at lw_m6 236 rfl) rfl
theorem q1521 : (Jvm.Cond.privateMethod ({ cls := "JokePump", name := "isFuller", desc := "(II)Z" } : Jvm.MethodName)) ∈ lw_tbl := lw_at lw_m6 237 rfl
theorem q1522 : (Jvm.Cond.instanceMethod ({ cls := "JokePump", name := "isFuller", desc := "(II)Z" } : Jvm.MethodName)) ∈ lw_all := lw_g (lw_at lw_m6 238 rfl) rfl
theorem q1523 : (Jvm.Cond.code ({ cls := "JokePump", name := "isFuller", desc := "(II)Z" } : Jvm.MethodName) prog_1_method_39_code (4 : Nat) (Option.some Jvm.ClassFile.FieldType.boolean)) ∈ lw_all := lw_g (lw_at lw_m6 239 rfl) rfl
theorem q1525 : (Jvm.Cond.instanceMethod ({ cls := "JokePump", name := "isCounted", desc := "()Z" } : Jvm.MethodName)) ∈ lw_all := lw_g (lw_at lw_m7 1 rfl) rfl
theorem q1526 : (Jvm.Cond.selects "JokePump" ({ cls := "JokePump", name := "isCounted", desc := "()Z" } : Jvm.MethodName) ({ cls := "JokePump", name := "isCounted", desc := "()Z" } : Jvm.MethodName)) ∈ lw_all := lw_g (lw_at lw_m7 2 rfl) rfl
theorem q1527 : (Jvm.Cond.code ({ cls := "JokePump", name := "isCounted", desc := "()Z" } : Jvm.MethodName) prog_1_method_43_code (3 : Nat) (Option.some Jvm.ClassFile.FieldType.boolean)) ∈ lw_all := lw_g (lw_at lw_m7 3 rfl) rfl
theorem q1528 : (Jvm.Cond.classLink "JokePump" (256 : Nat) "JokePump$Silence") ∈ lw_all := lw_g (lw_at lw_m7 4 rfl) rfl
theorem q1530 : (Jvm.Cond.methodLinkNest "JokePump" (258 : Nat) ({ cls := "JokePump$Silence", name := "<init>", desc := "()V" } : Jvm.MethodName) "JokePump") ∈ lw_tbl := lw_at lw_m7 6 rfl
theorem q1535 : (Jvm.Cond.methodLink "JokePump" (259 : Nat) ({ cls := "JokePump$Pump", name := "remembers", desc := "(LJokePump$Told;)Z" } : Jvm.MethodName)) ∈ lw_all := lw_g (lw_at lw_m7 11 rfl) rfl
theorem q1536 : (Jvm.Cond.methodLink "JokePump" (263 : Nat) ({ cls := "java/util/ArrayList", name := "size", desc := "()I" } : Jvm.MethodName)) ∈ lw_all := lw_g (lw_at lw_m7 12 rfl) rfl
theorem q1537 : (Jvm.Cond.methodLink "JokePump" (269 : Nat) ({ cls := "JokePump", name := "areStrokesAlike", desc := "()Z" } : Jvm.MethodName)) ∈ lw_all := lw_g (lw_at lw_m7 13 rfl) rfl
theorem q1538 : (Jvm.Cond.privateMethod ({ cls := "JokePump", name := "areStrokesAlike", desc := "()Z" } : Jvm.MethodName)) ∈ lw_tbl := lw_at lw_m7 14 rfl
theorem q1539 : (Jvm.Cond.instanceMethod ({ cls := "JokePump", name := "areStrokesAlike", desc := "()Z" } : Jvm.MethodName)) ∈ lw_all := lw_g (lw_at lw_m7 15 rfl) rfl
theorem q1540 : (Jvm.Cond.code ({ cls := "JokePump", name := "areStrokesAlike", desc := "()Z" } : Jvm.MethodName) prog_1_method_41_code (2 : Nat) (Option.some Jvm.ClassFile.FieldType.boolean)) ∈ lw_all := lw_g (lw_at lw_m7 16 rfl) rfl
theorem q1541 : (Jvm.Cond.methodLink "JokePump" (272 : Nat) ({ cls := "JokePump", name := "isNoneKnown", desc := "()Z" } : Jvm.MethodName)) ∈ lw_all := lw_g (lw_at lw_m7 17 rfl) rfl
theorem q1542 : (Jvm.Cond.privateMethod ({ cls := "JokePump", name := "isNoneKnown", desc := "()Z" } : Jvm.MethodName)) ∈ lw_tbl := lw_at lw_m7 18 rfl
theorem q1543 : (Jvm.Cond.instanceMethod ({ cls := "JokePump", name := "isNoneKnown", desc := "()Z" } : Jvm.MethodName)) ∈ lw_all := lw_g (lw_at lw_m7 19 rfl) rfl
theorem q1544 : (Jvm.Cond.code ({ cls := "JokePump", name := "isNoneKnown", desc := "()Z" } : Jvm.MethodName) prog_1_method_42_code (3 : Nat) (Option.some Jvm.ClassFile.FieldType.boolean)) ∈ lw_all := lw_g (lw_at lw_m7 20 rfl) rfl
theorem q1546 : (Jvm.Cond.instanceMethod ({ cls := "JokePump", name := "meanDepth", desc := "()D" } : Jvm.MethodName)) ∈ lw_all := lw_g (lw_at lw_m7 22 rfl) rfl
theorem q1547 : (Jvm.Cond.selects "JokePump" ({ cls := "JokePump", name := "meanDepth", desc := "()D" } : Jvm.MethodName) ({ cls := "JokePump", name := "meanDepth", desc := "()D" } : Jvm.MethodName)) ∈ lw_all := lw_g (lw_at lw_m7 23 rfl) rfl
theorem q1548 : (Jvm.Cond.code ({ cls := "JokePump", name := "meanDepth", desc := "()D" } : Jvm.MethodName) prog_1_method_44_code (4 : Nat) (Option.some Jvm.ClassFile.FieldType.double)) ∈ lw_all := lw_g (lw_at lw_m7 24 rfl) rfl
theorem q1550 : (Jvm.Cond.instanceMethod ({ cls := "JokePump", name := "knownShare", desc := "()F" } : Jvm.MethodName)) ∈ lw_all := lw_g (lw_at lw_m7 26 rfl) rfl
theorem q1551 : (Jvm.Cond.selects "JokePump" ({ cls := "JokePump", name := "knownShare", desc := "()F" } : Jvm.MethodName) ({ cls := "JokePump", name := "knownShare", desc := "()F" } : Jvm.MethodName)) ∈ lw_all := lw_g (lw_at lw_m7 27 rfl) rfl
theorem q1552 : (Jvm.Cond.code ({ cls := "JokePump", name := "knownShare", desc := "()F" } : Jvm.MethodName) prog_1_method_45_code (1 : Nat) (Option.some Jvm.ClassFile.FieldType.float)) ∈ lw_all := lw_g (lw_at lw_m7 28 rfl) rfl
theorem q1553 : (Jvm.Cond.constantFloat "JokePump" (278 : Nat) (1115684864 : UInt32)) ∈ lw_all := lw_g (lw_at lw_m7 29 rfl) rfl
theorem q1555 : (Jvm.Cond.instanceMethod ({ cls := "JokePump", name := "account", desc := "(I)I" } : Jvm.MethodName)) ∈ lw_all := lw_g (lw_at lw_m7 31 rfl) rfl
theorem q1556 : (Jvm.Cond.selects "JokePump" ({ cls := "JokePump", name := "account", desc := "(I)I" } : Jvm.MethodName) ({ cls := "JokePump", name := "account", desc := "(I)I" } : Jvm.MethodName)) ∈ lw_all := lw_g (lw_at lw_m7 32 rfl) rfl
theorem q1557 : (Jvm.Cond.code ({ cls := "JokePump", name := "account", desc := "(I)I" } : Jvm.MethodName) prog_1_method_46_code (2 : Nat) (Option.some Jvm.ClassFile.FieldType.int)) ∈ lw_all := lw_g (lw_at lw_m7 33 rfl) rfl
theorem q1558 : (Jvm.Cond.methodLink "JokePump" (295 : Nat) ({ cls := "JokePump$Pump", name := "primed", desc := "()I" } : Jvm.MethodName)) ∈ lw_all := lw_g (lw_at lw_m7 34 rfl) rfl
theorem q1562 : (Jvm.Cond.methodLink "JokePump" (301 : Nat) ({ cls := "java/util/ArrayDeque", name := "size", desc := "()I" } : Jvm.MethodName)) ∈ lw_all := lw_g (lw_at lw_m7 38 rfl) rfl
theorem q1564 : (Jvm.Cond.instanceMethod ({ cls := "JokePump", name := "write", desc := "(I)I" } : Jvm.MethodName)) ∈ lw_all := lw_g (lw_at lw_m7 40 rfl) rfl
theorem q1565 : (Jvm.Cond.selects "JokePump" ({ cls := "JokePump", name := "write", desc := "(I)I" } : Jvm.MethodName) ({ cls := "JokePump", name := "write", desc := "(I)I" } : Jvm.MethodName)) ∈ lw_all := lw_g (lw_at lw_m7 41 rfl) rfl
theorem q1566 : (Jvm.Cond.code ({ cls := "JokePump", name := "write", desc := "(I)I" } : Jvm.MethodName) prog_1_method_48_code (5 : Nat) (Option.some Jvm.ClassFile.FieldType.int)) ∈ lw_all := lw_g (lw_at lw_m7 42 rfl) rfl
theorem q1567 : (Jvm.Cond.classLink "JokePump" (303 : Nat) "java/lang/StringBuilder") ∈ lw_all := lw_g (lw_at lw_m7 43 rfl) rfl
theorem q1569 : (Jvm.Cond.methodLink "JokePump" (313 : Nat) ({ cls := "java/lang/StringBuilder", name := "<init>", desc := "()V" } : Jvm.MethodName)) ∈ lw_all := lw_g (lw_at lw_m7 45 rfl) rfl
theorem q1597 : (Jvm.Cond.methodLink "JokePump" (314 : Nat) ({ cls := "java/lang/StringBuilder", name := "append", desc := "(I)Ljava/lang/StringBuilder;" } : Jvm.MethodName)) ∈ lw_all := lw_g (lw_at lw_m7 73 rfl) rfl
theorem q1659 : (Jvm.Cond.methodLink "JokePump" (318 : Nat) ({ cls := "java/lang/StringBuilder", name := "append", desc := "(C)Ljava/lang/StringBuilder;" } : Jvm.MethodName)) ∈ lw_all := lw_g (lw_at lw_m7 135 rfl) rfl
theorem q1698 : (Jvm.Cond.methodLink "JokePump" (321 : Nat) ({ cls := "JokePump$Pump", name := "down", desc := "(I)Ljava/lang/Iterable;" } : Jvm.MethodName)) ∈ lw_all := lw_g (lw_at lw_m7 174 rfl) rfl
theorem q1699 : (Jvm.Cond.stringRef "JokePump" (325 : Nat) "!") ∈ lw_tbl := lw_at lw_m7 175 rfl
theorem q1700 : (Jvm.Cond.methodLink "JokePump" (327 : Nat) ({ cls := "java/lang/StringBuilder", name := "append", desc := "(Ljava/lang/String;)Ljava/lang/StringBuilder;" } : Jvm.MethodName)) ∈ lw_all := lw_g (lw_at lw_m7 176 rfl) rfl
theorem q1737 : (Jvm.Cond.methodLink "JokePump" (330 : Nat) ({ cls := "JokePump", name := "writes", desc := "(Ljava/lang/StringBuilder;)I" } : Jvm.MethodName)) ∈ lw_all := lw_g (lw_at lw_m7 213 rfl) rfl
theorem q1738 : (Jvm.Cond.privateMethod ({ cls := "JokePump", name := "writes", desc := "(Ljava/lang/StringBuilder;)I" } : Jvm.MethodName)) ∈ lw_tbl := lw_at lw_m7 214 rfl
theorem q1739 : (Jvm.Cond.instanceMethod ({ cls := "JokePump", name := "writes", desc := "(Ljava/lang/StringBuilder;)I" } : Jvm.MethodName)) ∈ lw_all := lw_g (lw_at lw_m7 215 rfl) rfl
theorem q1740 : (Jvm.Cond.code ({ cls := "JokePump", name := "writes", desc := "(Ljava/lang/StringBuilder;)I" } : Jvm.MethodName) prog_1_method_47_code (2 : Nat) (Option.some Jvm.ClassFile.FieldType.int)) ∈ lw_all := lw_g (lw_at lw_m7 216 rfl) rfl
theorem q1741 : (Jvm.Cond.methodLink "JokePump" (302 : Nat) ({ cls := "java/lang/StringBuilder", name := "toString", desc := "()Ljava/lang/String;" } : Jvm.MethodName)) ∈ lw_all := lw_g (lw_at lw_m7 217 rfl) rfl
theorem q1795 : (Jvm.Cond.methodLink "JokePump" (308 : Nat) ({ cls := "java/lang/String", name := "length", desc := "()I" } : Jvm.MethodName)) ∈ lw_all := lw_g (lw_at lw_m8 31 rfl) rfl
theorem q1797 : (Jvm.Cond.instanceMethod ({ cls := "JokePump", name := "writePump", desc := "()I" } : Jvm.MethodName)) ∈ lw_all := lw_g (lw_at lw_m8 33 rfl) rfl
theorem q1798 : (Jvm.Cond.selects "JokePump" ({ cls := "JokePump", name := "writePump", desc := "()I" } : Jvm.MethodName) ({ cls := "JokePump", name := "writePump", desc := "()I" } : Jvm.MethodName)) ∈ lw_all := lw_g (lw_at lw_m8 34 rfl) rfl
theorem q1799 : (Jvm.Cond.code ({ cls := "JokePump", name := "writePump", desc := "()I" } : Jvm.MethodName) prog_1_method_49_code (2 : Nat) (Option.some Jvm.ClassFile.FieldType.int)) ∈ lw_all := lw_g (lw_at lw_m8 35 rfl) rfl
theorem q1801 : (Jvm.Cond.instanceMethod ({ cls := "JokePump", name := "written", desc := "(I)I" } : Jvm.MethodName)) ∈ lw_all := lw_g (lw_at lw_m8 37 rfl) rfl
theorem q1802 : (Jvm.Cond.selects "JokePump" ({ cls := "JokePump", name := "written", desc := "(I)I" } : Jvm.MethodName) ({ cls := "JokePump", name := "written", desc := "(I)I" } : Jvm.MethodName)) ∈ lw_all := lw_g (lw_at lw_m8 38 rfl) rfl
theorem q1803 : (Jvm.Cond.code ({ cls := "JokePump", name := "written", desc := "(I)I" } : Jvm.MethodName) prog_1_method_50_code (2 : Nat) (Option.some Jvm.ClassFile.FieldType.int)) ∈ lw_all := lw_g (lw_at lw_m8 39 rfl) rfl
theorem q1804 : (Jvm.Cond.methodLink "JokePump" (334 : Nat) ({ cls := "java/lang/String", name := "charAt", desc := "(I)C" } : Jvm.MethodName)) ∈ lw_all := lw_g (lw_at lw_m8 40 rfl) rfl
theorem q1816 : (Jvm.Cond.instanceMethod ({ cls := "JokePump", name := "append", desc := "(C)I" } : Jvm.MethodName)) ∈ lw_all := lw_g (lw_at lw_m8 52 rfl) rfl
theorem q1817 : (Jvm.Cond.selects "JokePump" ({ cls := "JokePump", name := "append", desc := "(C)I" } : Jvm.MethodName) ({ cls := "JokePump", name := "append", desc := "(C)I" } : Jvm.MethodName)) ∈ lw_all := lw_g (lw_at lw_m8 53 rfl) rfl
theorem q1818 : (Jvm.Cond.code ({ cls := "JokePump", name := "append", desc := "(C)I" } : Jvm.MethodName) prog_1_method_51_code (2 : Nat) (Option.some Jvm.ClassFile.FieldType.int)) ∈ lw_all := lw_g (lw_at lw_m8 54 rfl) rfl
theorem q1820 : (Jvm.Cond.instanceMethod ({ cls := "JokePump", name := "read", desc := "()I" } : Jvm.MethodName)) ∈ lw_all := lw_g (lw_at lw_m8 56 rfl) rfl
theorem q1821 : (Jvm.Cond.selects "JokePump" ({ cls := "JokePump", name := "read", desc := "()I" } : Jvm.MethodName) ({ cls := "JokePump", name := "read", desc := "()I" } : Jvm.MethodName)) ∈ lw_all := lw_g (lw_at lw_m8 57 rfl) rfl
theorem q1822 : (Jvm.Cond.codeWith ({ cls := "JokePump", name := "read", desc := "()I" } : Jvm.MethodName) prog_1_method_53_code (4 : Nat) (Option.some Jvm.ClassFile.FieldType.int) [((0 : Nat), (25 : Nat), (32 : Nat), (370 : Nat)), ((0 : Nat), (25 : Nat), (51 : Nat), (0 : Nat)), ((32 : Nat), (44 : Nat), (51 : Nat), (0 : Nat))]) ∈ lw_all := lw_g (lw_at lw_m8 58 rfl) rfl
theorem q1823 : (Jvm.Cond.classLink "JokePump" (370 : Nat) "JokePump$BadSign") ∈ lw_all := lw_g (lw_at lw_m8 59 rfl) rfl
theorem q1824 : (Jvm.Cond.classLink "JokePump" (355 : Nat) "JokePump$Reader") ∈ lw_all := lw_g (lw_at lw_m8 60 rfl) rfl
theorem q1826 : (Jvm.Cond.methodLinkNest "JokePump" (357 : Nat) ({ cls := "JokePump$Reader", name := "<init>", desc := "(LJokePump;)V" } : Jvm.MethodName) "JokePump") ∈ lw_tbl := lw_at lw_m8 62 rfl
theorem q1850 : (Jvm.Cond.methodLink "JokePump" (358 : Nat) ({ cls := "JokePump$Reader", name := "whole", desc := "()Ljava/util/ArrayList;" } : Jvm.MethodName)) ∈ lw_all := lw_g (lw_at lw_m8 86 rfl) rfl
theorem q1885 : (Jvm.Cond.fieldLinkNest "JokePump" (372 : Nat) "JokePump$BadSign" "place" "I" "JokePump") ∈ lw_tbl := lw_at lw_m8 121 rfl
theorem q1931 : (Jvm.Cond.classLink "JokePump" (362 : Nat) "JokePump$10") ∈ lw_all := lw_g (lw_at lw_m8 167 rfl) rfl
theorem q1933 : (Jvm.Cond.methodLink "JokePump" (364 : Nat) ({ cls := "JokePump$10", name := "<init>", desc := "(LJokePump;Ljava/util/ArrayList;)V" } : Jvm.MethodName)) ∈ lw_all := lw_g (lw_at lw_m8 169 rfl) rfl
theorem q1945 : (Jvm.Cond.methodLink "JokePump" (367 : Nat) ({ cls := "JokePump$10", name := "done", desc := "()I" } : Jvm.MethodName)) ∈ lw_all := lw_g (lw_at lw_m8 181 rfl) rfl
theorem q1950 : (Jvm.Cond.instanceMethod ({ cls := "JokePump", name := "fault", desc := "()I" } : Jvm.MethodName)) ∈ lw_all := lw_g (lw_at lw_m8 186 rfl) rfl
theorem q1951 : (Jvm.Cond.selects "JokePump" ({ cls := "JokePump", name := "fault", desc := "()I" } : Jvm.MethodName) ({ cls := "JokePump", name := "fault", desc := "()I" } : Jvm.MethodName)) ∈ lw_all := lw_g (lw_at lw_m8 187 rfl) rfl
theorem q1952 : (Jvm.Cond.code ({ cls := "JokePump", name := "fault", desc := "()I" } : Jvm.MethodName) prog_1_method_54_code (1 : Nat) (Option.some Jvm.ClassFile.FieldType.int)) ∈ lw_all := lw_g (lw_at lw_m8 188 rfl) rfl
theorem q1954 : (Jvm.Cond.instanceMethod ({ cls := "JokePump", name := "reason", desc := "(IZ)I" } : Jvm.MethodName)) ∈ lw_all := lw_g (lw_at lw_m8 190 rfl) rfl
theorem q1955 : (Jvm.Cond.selects "JokePump" ({ cls := "JokePump", name := "reason", desc := "(IZ)I" } : Jvm.MethodName) ({ cls := "JokePump", name := "reason", desc := "(IZ)I" } : Jvm.MethodName)) ∈ lw_all := lw_g (lw_at lw_m8 191 rfl) rfl
theorem q1956 : (Jvm.Cond.code ({ cls := "JokePump", name := "reason", desc := "(IZ)I" } : Jvm.MethodName) prog_1_method_55_code (5 : Nat) (Option.some Jvm.ClassFile.FieldType.int)) ∈ lw_all := lw_g (lw_at lw_m8 192 rfl) rfl
theorem q1957 : (Jvm.Cond.methodLink "JokePump" (379 : Nat) ({ cls := "JokePump$Refused", name := "getCause", desc := "()Ljava/lang/Throwable;" } : Jvm.MethodName)) ∈ lw_all := lw_g (lw_at lw_m8 193 rfl) rfl
theorem q1964 : (Jvm.Cond.instanceMethod ({ cls := "JokePump", name := "undo", desc := "()I" } : Jvm.MethodName)) ∈ lw_all := lw_g (lw_at lw_m8 200 rfl) rfl
theorem q1965 : (Jvm.Cond.selects "JokePump" ({ cls := "JokePump", name := "undo", desc := "()I" } : Jvm.MethodName) ({ cls := "JokePump", name := "undo", desc := "()I" } : Jvm.MethodName)) ∈ lw_all := lw_g (lw_at lw_m8 201 rfl) rfl
theorem q1966 : (Jvm.Cond.code ({ cls := "JokePump", name := "undo", desc := "()I" } : Jvm.MethodName) prog_1_method_56_code (1 : Nat) (Option.some Jvm.ClassFile.FieldType.int)) ∈ lw_all := lw_g (lw_at lw_m8 202 rfl) rfl
theorem q1967 : (Jvm.Cond.methodLink "JokePump" (389 : Nat) ({ cls := "java/util/ArrayDeque", name := "isEmpty", desc := "()Z" } : Jvm.MethodName)) ∈ lw_all := lw_g (lw_at lw_m8 203 rfl) rfl
theorem q1971 : (Jvm.Cond.methodLink "JokePump" (392 : Nat) ({ cls := "java/util/ArrayDeque", name := "removeLast", desc := "()Ljava/lang/Object;" } : Jvm.MethodName)) ∈ lw_all := lw_g (lw_at lw_m8 207 rfl) rfl
theorem q1983 : (Jvm.Cond.instanceMethod ({ cls := "JokePump", name := "save", desc := "()I" } : Jvm.MethodName)) ∈ lw_all := lw_g (lw_at lw_m8 219 rfl) rfl
theorem q1984 : (Jvm.Cond.selects "JokePump" ({ cls := "JokePump", name := "save", desc := "()I" } : Jvm.MethodName) ({ cls := "JokePump", name := "save", desc := "()I" } : Jvm.MethodName)) ∈ lw_all := lw_g (lw_at lw_m8 220 rfl) rfl
theorem q1985 : (Jvm.Cond.code ({ cls := "JokePump", name := "save", desc := "()I" } : Jvm.MethodName) prog_1_method_57_code (1 : Nat) (Option.some Jvm.ClassFile.FieldType.int)) ∈ lw_all := lw_g (lw_at lw_m8 221 rfl) rfl
theorem q1987 : (Jvm.Cond.instanceMethod ({ cls := "JokePump", name := "restore", desc := "()I" } : Jvm.MethodName)) ∈ lw_all := lw_g (lw_at lw_m8 223 rfl) rfl
theorem q1988 : (Jvm.Cond.selects "JokePump" ({ cls := "JokePump", name := "restore", desc := "()I" } : Jvm.MethodName) ({ cls := "JokePump", name := "restore", desc := "()I" } : Jvm.MethodName)) ∈ lw_all := lw_g (lw_at lw_m8 224 rfl) rfl
theorem q1989 : (Jvm.Cond.code ({ cls := "JokePump", name := "restore", desc := "()I" } : Jvm.MethodName) prog_1_method_58_code (1 : Nat) (Option.some Jvm.ClassFile.FieldType.int)) ∈ lw_all := lw_g (lw_at lw_m8 225 rfl) rfl
theorem q1990 : (Jvm.Cond.methodLink "JokePump" (398 : Nat) ({ cls := "java/util/ArrayDeque", name := "clear", desc := "()V" } : Jvm.MethodName)) ∈ lw_all := lw_g (lw_at lw_m8 226 rfl) rfl
theorem q2490 : (Jvm.Cond.castable "JokePump" "java/lang/Object") ∈ lw_tbl := lw_at lw_m11 6 rfl
theorem in_X0 : ∀ w ∈ wsX00, w ∈ lw_all := lw_in wsX00 [286, 288, 290, 292, 294, 296, 298, 300] (by decide +kernel) (by decide +kernel)

/-! JokePump$Pump -/
set_option maxRecDepth 100000
def RX1 : String := "JokePump$Pump"
def TX1 : u_T := fun k => match k with
  | 0 => ("JokePump$Pump", "jokes", "Ljava/util/ArrayList;", true)
  | 1 => ("JokePump$Pump", "lifted", "[LJokePump$Told;", true)
  | 2 => ("JokePump$Pump", "isKnown", "[Z", false)
  | 3 => ("JokePump$Pump", "buckets", "[I", false)
  | 4 => ("JokePump$Pump", "liftedFrom", "[I", false)
  | 5 => ("JokePump$Pump", "liftedMany", "I", false)
  | 6 => ("JokePump$Pump", "well", "I", false)
  | 7 => ("JokePump$Pump", "stroke", "I", false)
  | 8 => ("JokePump$Pump", "reach", "I", false)
  | 9 => ("JokePump$Pump", "groans", "I", false)
  | 10 => ("JokePump$Pump", "drops", "I", false)
  | 11 => ("JokePump$Pump", "laughs", "F", false)
  | 12 => ("JokePump$Pump", "came", "I", false)
  | 13 => ("JokePump$Pump", "went", "I", false)
  | 14 => ("JokePump$Pump", "strokes", "I", false)
  | _ => ("JokePump$Pump", "drained", "I", false)
def tyX1 : Nat → FieldType := fun k => match k with
  | 0 => .object "java/util/ArrayList"
  | 1 => .array (.object "JokePump$Told")
  | 2 => .array .boolean
  | 3 => .array .int
  | 4 => .array .int
  | 5 => .int
  | 6 => .int
  | 7 => .int
  | 8 => .int
  | 9 => .int
  | 10 => .int
  | 11 => .float
  | 12 => .int
  | 13 => .int
  | 14 => .int
  | _ => .int
abbrev wsX10 : List Cond := u_ws RX1 TX1 16
set_option maxRecDepth 100000 in
theorem nmX1 : ∀ a, a < 16 → ∀ b, b < 16 → a ≠ b → (TX1 a).2.1 ≠ (TX1 b).2.1 := by decide +kernel
set_option maxRecDepth 100000 in
theorem tyX1_ok : ∀ k, k < 16 → parseFieldDescriptor (TX1 k).2.2.1 = some (tyX1 k) := by decide +kernel
abbrev cX1_init : ByteArray := prog_19_method_1_code
def yX1_init : MethodName := ⟨RX1, "<init>", "()V"⟩
def dkwX1_init_3 : List UInt8 := [181, 0, 38, 177]
abbrev dktX1_init_3 : List UInt8 := dkwX1_init_3 ++ []
def dkwX1_init_2 : List UInt8 := [188, 10, 181, 0, 26, 42, 6, 181, 0, 29, 42, 16, 9, 181, 0, 33, 42, 16, 65, 189, 0, 36]
abbrev dktX1_init_2 : List UInt8 := dkwX1_init_2 ++ dktX1_init_3
def dkwX1_init_1 : List UInt8 := [7, 188, 10, 89, 3, 5, 79, 89, 4, 5, 79, 89, 5, 5, 79, 89, 6, 5, 79, 181, 0, 22, 42, 7]
abbrev dktX1_init_1 : List UInt8 := dkwX1_init_1 ++ dktX1_init_2
def dkwX1_init_0 : List UInt8 := [42, 183, 0, 3, 42, 187, 0, 9, 89, 183, 0, 11, 181, 0, 12, 42, 16, 64, 188, 4, 181, 0, 18, 42]
abbrev dktX1_init_0 : List UInt8 := dkwX1_init_0 ++ dktX1_init_1
theorem dksX1_init_0 : cX1_init.data.toList.drop 0 = dktX1_init_0 := by decide +kernel
theorem dksX1_init_1 : cX1_init.data.toList.drop 24 = dktX1_init_1 := dk_seg dksX1_init_0 24 rfl rfl
theorem dksX1_init_2 : cX1_init.data.toList.drop 48 = dktX1_init_2 := dk_seg dksX1_init_1 24 rfl rfl
theorem dksX1_init_3 : cX1_init.data.toList.drop 70 = dktX1_init_3 := dk_seg dksX1_init_2 22 rfl rfl
theorem dX1_init_0 : decode cX1_init 0 = .ok (.aload_n 0, 1) := dk_42 (dk_at dksX1_init_0 0 rfl rfl)
theorem dX1_init_1 : decode cX1_init 1 = .ok (.invokespecial 3, 3) := dk_183 0 3 (dk_at dksX1_init_0 1 rfl rfl)
theorem dX1_init_4 : decode cX1_init 4 = .ok (.aload_n 0, 1) := dk_42 (dk_at dksX1_init_0 4 rfl rfl)
theorem dX1_init_5 : decode cX1_init 5 = .ok (.new 9, 3) := dk_187 0 9 (dk_at dksX1_init_0 5 rfl rfl)
theorem dX1_init_8 : decode cX1_init 8 = .ok (.dup, 1) := dk_89 (dk_at dksX1_init_0 8 rfl rfl)
theorem dX1_init_9 : decode cX1_init 9 = .ok (.invokespecial 11, 3) := dk_183 0 11 (dk_at dksX1_init_0 9 rfl rfl)
theorem dX1_init_12 : decode cX1_init 12 = .ok (.putfield 12, 3) := dk_181 0 12 (dk_at dksX1_init_0 12 rfl rfl)
theorem dX1_init_15 : decode cX1_init 15 = .ok (.aload_n 0, 1) := dk_42 (dk_at dksX1_init_0 15 rfl rfl)
theorem dX1_init_16 : decode cX1_init 16 = .ok (.bipush 64, 2) := dk_16 64 (dk_at dksX1_init_0 16 rfl rfl)
theorem dX1_init_18 : decode cX1_init 18 = .ok (.newarray .boolean, 2) := dk_188_4 (dk_at dksX1_init_0 18 rfl rfl)
theorem dX1_init_20 : decode cX1_init 20 = .ok (.putfield 18, 3) := dk_181 0 18 (dk_at dksX1_init_0 20 rfl rfl)
theorem dX1_init_23 : decode cX1_init 23 = .ok (.aload_n 0, 1) := dk_42 (dk_at dksX1_init_0 23 rfl rfl)
theorem dX1_init_24 : decode cX1_init 24 = .ok (.iconst 4, 1) := dk_7 (dk_at dksX1_init_1 0 rfl rfl)
theorem dX1_init_25 : decode cX1_init 25 = .ok (.newarray .int, 2) := dk_188_10 (dk_at dksX1_init_1 1 rfl rfl)
theorem dX1_init_27 : decode cX1_init 27 = .ok (.dup, 1) := dk_89 (dk_at dksX1_init_1 3 rfl rfl)
theorem dX1_init_28 : decode cX1_init 28 = .ok (.iconst 0, 1) := dk_3 (dk_at dksX1_init_1 4 rfl rfl)
theorem dX1_init_29 : decode cX1_init 29 = .ok (.iconst 2, 1) := dk_5 (dk_at dksX1_init_1 5 rfl rfl)
theorem dX1_init_30 : decode cX1_init 30 = .ok (.iastore, 1) := dk_79 (dk_at dksX1_init_1 6 rfl rfl)
theorem dX1_init_31 : decode cX1_init 31 = .ok (.dup, 1) := dk_89 (dk_at dksX1_init_1 7 rfl rfl)
theorem dX1_init_32 : decode cX1_init 32 = .ok (.iconst 1, 1) := dk_4 (dk_at dksX1_init_1 8 rfl rfl)
theorem dX1_init_33 : decode cX1_init 33 = .ok (.iconst 2, 1) := dk_5 (dk_at dksX1_init_1 9 rfl rfl)
theorem dX1_init_34 : decode cX1_init 34 = .ok (.iastore, 1) := dk_79 (dk_at dksX1_init_1 10 rfl rfl)
theorem dX1_init_35 : decode cX1_init 35 = .ok (.dup, 1) := dk_89 (dk_at dksX1_init_1 11 rfl rfl)
theorem dX1_init_36 : decode cX1_init 36 = .ok (.iconst 2, 1) := dk_5 (dk_at dksX1_init_1 12 rfl rfl)
theorem dX1_init_37 : decode cX1_init 37 = .ok (.iconst 2, 1) := dk_5 (dk_at dksX1_init_1 13 rfl rfl)
theorem dX1_init_38 : decode cX1_init 38 = .ok (.iastore, 1) := dk_79 (dk_at dksX1_init_1 14 rfl rfl)
theorem dX1_init_39 : decode cX1_init 39 = .ok (.dup, 1) := dk_89 (dk_at dksX1_init_1 15 rfl rfl)
theorem dX1_init_40 : decode cX1_init 40 = .ok (.iconst 3, 1) := dk_6 (dk_at dksX1_init_1 16 rfl rfl)
theorem dX1_init_41 : decode cX1_init 41 = .ok (.iconst 2, 1) := dk_5 (dk_at dksX1_init_1 17 rfl rfl)
theorem dX1_init_42 : decode cX1_init 42 = .ok (.iastore, 1) := dk_79 (dk_at dksX1_init_1 18 rfl rfl)
theorem dX1_init_43 : decode cX1_init 43 = .ok (.putfield 22, 3) := dk_181 0 22 (dk_at dksX1_init_1 19 rfl rfl)
theorem dX1_init_46 : decode cX1_init 46 = .ok (.aload_n 0, 1) := dk_42 (dk_at dksX1_init_1 22 rfl rfl)
theorem dX1_init_47 : decode cX1_init 47 = .ok (.iconst 4, 1) := dk_7 (dk_at dksX1_init_1 23 rfl rfl)
theorem dX1_init_48 : decode cX1_init 48 = .ok (.newarray .int, 2) := dk_188_10 (dk_at dksX1_init_2 0 rfl rfl)
theorem dX1_init_50 : decode cX1_init 50 = .ok (.putfield 26, 3) := dk_181 0 26 (dk_at dksX1_init_2 2 rfl rfl)
theorem dX1_init_53 : decode cX1_init 53 = .ok (.aload_n 0, 1) := dk_42 (dk_at dksX1_init_2 5 rfl rfl)
theorem dX1_init_54 : decode cX1_init 54 = .ok (.iconst 3, 1) := dk_6 (dk_at dksX1_init_2 6 rfl rfl)
theorem dX1_init_55 : decode cX1_init 55 = .ok (.putfield 29, 3) := dk_181 0 29 (dk_at dksX1_init_2 7 rfl rfl)
theorem dX1_init_58 : decode cX1_init 58 = .ok (.aload_n 0, 1) := dk_42 (dk_at dksX1_init_2 10 rfl rfl)
theorem dX1_init_59 : decode cX1_init 59 = .ok (.bipush 9, 2) := dk_16 9 (dk_at dksX1_init_2 11 rfl rfl)
theorem dX1_init_61 : decode cX1_init 61 = .ok (.putfield 33, 3) := dk_181 0 33 (dk_at dksX1_init_2 13 rfl rfl)
theorem dX1_init_64 : decode cX1_init 64 = .ok (.aload_n 0, 1) := dk_42 (dk_at dksX1_init_2 16 rfl rfl)
theorem dX1_init_65 : decode cX1_init 65 = .ok (.bipush 65, 2) := dk_16 65 (dk_at dksX1_init_2 17 rfl rfl)
theorem dX1_init_67 : decode cX1_init 67 = .ok (.anewarray 36, 3) := dk_189 0 36 (dk_at dksX1_init_2 19 rfl rfl)
theorem dX1_init_70 : decode cX1_init 70 = .ok (.putfield 38, 3) := dk_181 0 38 (dk_at dksX1_init_3 0 rfl rfl)
theorem dX1_init_73 : decode cX1_init 73 = .ok (.return_, 1) := dk_177 (dk_at dksX1_init_3 3 rfl rfl)
abbrev cX1_init_2 : ByteArray := prog_19_method_2_code
def yX1_init_2 : MethodName := ⟨RX1, "<init>", "(LJokePump$Pump;)V"⟩
def dkwX1_init_2_10 : List UInt8 := [181, 0, 92, 42, 43, 180, 0, 95, 181, 0, 95, 42, 43, 180, 0, 98, 181, 0, 98, 177]
abbrev dktX1_init_2_10 : List UInt8 := dkwX1_init_2_10 ++ []
def dkwX1_init_2_9 : List UInt8 := [181, 0, 33, 42, 43, 180, 0, 85, 181, 0, 85, 42, 43, 180, 0, 89, 181, 0, 89, 42, 43, 180, 0, 92]
abbrev dktX1_init_2_9 : List UInt8 := dkwX1_init_2_9 ++ dktX1_init_2_10
def dkwX1_init_2_8 : List UInt8 := [181, 0, 29, 42, 43, 180, 0, 79, 181, 0, 79, 42, 43, 180, 0, 82, 181, 0, 82, 42, 43, 180, 0, 33]
abbrev dktX1_init_2_8 : List UInt8 := dkwX1_init_2_8 ++ dktX1_init_2_9
def dkwX1_init_2_7 : List UInt8 := [181, 0, 26, 42, 43, 180, 0, 73, 181, 0, 73, 42, 43, 180, 0, 76, 181, 0, 76, 42, 43, 180, 0, 29]
abbrev dktX1_init_2_7 : List UInt8 := dkwX1_init_2_7 ++ dktX1_init_2_8
def dkwX1_init_2_6 : List UInt8 := [180, 0, 22, 182, 0, 71, 192, 0, 72, 181, 0, 22, 42, 43, 180, 0, 26, 182, 0, 71, 192, 0, 72]
abbrev dktX1_init_2_6 : List UInt8 := dkwX1_init_2_6 ++ dktX1_init_2_7
def dkwX1_init_2_5 : List UInt8 := [192, 0, 66, 181, 0, 38, 42, 43, 180, 0, 18, 182, 0, 69, 192, 0, 70, 181, 0, 18, 42, 43]
abbrev dktX1_init_2_5 : List UInt8 := dkwX1_init_2_5 ++ dktX1_init_2_6
def dkwX1_init_2_4 : List UInt8 := [187, 0, 56, 89, 45, 183, 0, 58, 182, 0, 61, 87, 167, 255, 221, 42, 43, 180, 0, 38, 182, 0, 65]
abbrev dktX1_init_2_4 : List UInt8 := dkwX1_init_2_4 ++ dktX1_init_2_5
def dkwX1_init_2_3 : List UInt8 := [44, 185, 0, 46, 1, 0, 153, 0, 32, 44, 185, 0, 52, 1, 0, 192, 0, 56, 78, 42, 180, 0, 12]
abbrev dktX1_init_2_3 : List UInt8 := dkwX1_init_2_3 ++ dktX1_init_2_4
def dkwX1_init_2_2 : List UInt8 := [188, 10, 181, 0, 26, 42, 6, 181, 0, 29, 42, 16, 9, 181, 0, 33, 43, 180, 0, 12, 182, 0, 42, 77]
abbrev dktX1_init_2_2 : List UInt8 := dkwX1_init_2_2 ++ dktX1_init_2_3
def dkwX1_init_2_1 : List UInt8 := [7, 188, 10, 89, 3, 5, 79, 89, 4, 5, 79, 89, 5, 5, 79, 89, 6, 5, 79, 181, 0, 22, 42, 7]
abbrev dktX1_init_2_1 : List UInt8 := dkwX1_init_2_1 ++ dktX1_init_2_2
def dkwX1_init_2_0 : List UInt8 := [42, 183, 0, 3, 42, 187, 0, 9, 89, 183, 0, 11, 181, 0, 12, 42, 16, 64, 188, 4, 181, 0, 18, 42]
abbrev dktX1_init_2_0 : List UInt8 := dkwX1_init_2_0 ++ dktX1_init_2_1
theorem dksX1_init_2_0 : cX1_init_2.data.toList.drop 0 = dktX1_init_2_0 := by decide +kernel
theorem dksX1_init_2_1 : cX1_init_2.data.toList.drop 24 = dktX1_init_2_1 := dk_seg dksX1_init_2_0 24 rfl rfl
theorem dksX1_init_2_2 : cX1_init_2.data.toList.drop 48 = dktX1_init_2_2 := dk_seg dksX1_init_2_1 24 rfl rfl
theorem dksX1_init_2_3 : cX1_init_2.data.toList.drop 72 = dktX1_init_2_3 := dk_seg dksX1_init_2_2 24 rfl rfl
theorem dksX1_init_2_4 : cX1_init_2.data.toList.drop 95 = dktX1_init_2_4 := dk_seg dksX1_init_2_3 23 rfl rfl
theorem dksX1_init_2_5 : cX1_init_2.data.toList.drop 118 = dktX1_init_2_5 := dk_seg dksX1_init_2_4 23 rfl rfl
theorem dksX1_init_2_6 : cX1_init_2.data.toList.drop 140 = dktX1_init_2_6 := dk_seg dksX1_init_2_5 22 rfl rfl
theorem dksX1_init_2_7 : cX1_init_2.data.toList.drop 163 = dktX1_init_2_7 := dk_seg dksX1_init_2_6 23 rfl rfl
theorem dksX1_init_2_8 : cX1_init_2.data.toList.drop 187 = dktX1_init_2_8 := dk_seg dksX1_init_2_7 24 rfl rfl
theorem dksX1_init_2_9 : cX1_init_2.data.toList.drop 211 = dktX1_init_2_9 := dk_seg dksX1_init_2_8 24 rfl rfl
theorem dksX1_init_2_10 : cX1_init_2.data.toList.drop 235 = dktX1_init_2_10 := dk_seg dksX1_init_2_9 24 rfl rfl
theorem dX1_init_2_0 : decode cX1_init_2 0 = .ok (.aload_n 0, 1) := dk_42 (dk_at dksX1_init_2_0 0 rfl rfl)
theorem dX1_init_2_1 : decode cX1_init_2 1 = .ok (.invokespecial 3, 3) := dk_183 0 3 (dk_at dksX1_init_2_0 1 rfl rfl)
theorem dX1_init_2_4 : decode cX1_init_2 4 = .ok (.aload_n 0, 1) := dk_42 (dk_at dksX1_init_2_0 4 rfl rfl)
theorem dX1_init_2_5 : decode cX1_init_2 5 = .ok (.new 9, 3) := dk_187 0 9 (dk_at dksX1_init_2_0 5 rfl rfl)
theorem dX1_init_2_8 : decode cX1_init_2 8 = .ok (.dup, 1) := dk_89 (dk_at dksX1_init_2_0 8 rfl rfl)
theorem dX1_init_2_9 : decode cX1_init_2 9 = .ok (.invokespecial 11, 3) := dk_183 0 11 (dk_at dksX1_init_2_0 9 rfl rfl)
theorem dX1_init_2_12 : decode cX1_init_2 12 = .ok (.putfield 12, 3) := dk_181 0 12 (dk_at dksX1_init_2_0 12 rfl rfl)
theorem dX1_init_2_15 : decode cX1_init_2 15 = .ok (.aload_n 0, 1) := dk_42 (dk_at dksX1_init_2_0 15 rfl rfl)
theorem dX1_init_2_16 : decode cX1_init_2 16 = .ok (.bipush 64, 2) := dk_16 64 (dk_at dksX1_init_2_0 16 rfl rfl)
theorem dX1_init_2_18 : decode cX1_init_2 18 = .ok (.newarray .boolean, 2) := dk_188_4 (dk_at dksX1_init_2_0 18 rfl rfl)
theorem dX1_init_2_20 : decode cX1_init_2 20 = .ok (.putfield 18, 3) := dk_181 0 18 (dk_at dksX1_init_2_0 20 rfl rfl)
theorem dX1_init_2_23 : decode cX1_init_2 23 = .ok (.aload_n 0, 1) := dk_42 (dk_at dksX1_init_2_0 23 rfl rfl)
theorem dX1_init_2_24 : decode cX1_init_2 24 = .ok (.iconst 4, 1) := dk_7 (dk_at dksX1_init_2_1 0 rfl rfl)
theorem dX1_init_2_25 : decode cX1_init_2 25 = .ok (.newarray .int, 2) := dk_188_10 (dk_at dksX1_init_2_1 1 rfl rfl)
theorem dX1_init_2_27 : decode cX1_init_2 27 = .ok (.dup, 1) := dk_89 (dk_at dksX1_init_2_1 3 rfl rfl)
theorem dX1_init_2_28 : decode cX1_init_2 28 = .ok (.iconst 0, 1) := dk_3 (dk_at dksX1_init_2_1 4 rfl rfl)
theorem dX1_init_2_29 : decode cX1_init_2 29 = .ok (.iconst 2, 1) := dk_5 (dk_at dksX1_init_2_1 5 rfl rfl)
theorem dX1_init_2_30 : decode cX1_init_2 30 = .ok (.iastore, 1) := dk_79 (dk_at dksX1_init_2_1 6 rfl rfl)
theorem dX1_init_2_31 : decode cX1_init_2 31 = .ok (.dup, 1) := dk_89 (dk_at dksX1_init_2_1 7 rfl rfl)
theorem dX1_init_2_32 : decode cX1_init_2 32 = .ok (.iconst 1, 1) := dk_4 (dk_at dksX1_init_2_1 8 rfl rfl)
theorem dX1_init_2_33 : decode cX1_init_2 33 = .ok (.iconst 2, 1) := dk_5 (dk_at dksX1_init_2_1 9 rfl rfl)
theorem dX1_init_2_34 : decode cX1_init_2 34 = .ok (.iastore, 1) := dk_79 (dk_at dksX1_init_2_1 10 rfl rfl)
theorem dX1_init_2_35 : decode cX1_init_2 35 = .ok (.dup, 1) := dk_89 (dk_at dksX1_init_2_1 11 rfl rfl)
theorem dX1_init_2_36 : decode cX1_init_2 36 = .ok (.iconst 2, 1) := dk_5 (dk_at dksX1_init_2_1 12 rfl rfl)
theorem dX1_init_2_37 : decode cX1_init_2 37 = .ok (.iconst 2, 1) := dk_5 (dk_at dksX1_init_2_1 13 rfl rfl)
theorem dX1_init_2_38 : decode cX1_init_2 38 = .ok (.iastore, 1) := dk_79 (dk_at dksX1_init_2_1 14 rfl rfl)
theorem dX1_init_2_39 : decode cX1_init_2 39 = .ok (.dup, 1) := dk_89 (dk_at dksX1_init_2_1 15 rfl rfl)
theorem dX1_init_2_40 : decode cX1_init_2 40 = .ok (.iconst 3, 1) := dk_6 (dk_at dksX1_init_2_1 16 rfl rfl)
theorem dX1_init_2_41 : decode cX1_init_2 41 = .ok (.iconst 2, 1) := dk_5 (dk_at dksX1_init_2_1 17 rfl rfl)
theorem dX1_init_2_42 : decode cX1_init_2 42 = .ok (.iastore, 1) := dk_79 (dk_at dksX1_init_2_1 18 rfl rfl)
theorem dX1_init_2_43 : decode cX1_init_2 43 = .ok (.putfield 22, 3) := dk_181 0 22 (dk_at dksX1_init_2_1 19 rfl rfl)
theorem dX1_init_2_46 : decode cX1_init_2 46 = .ok (.aload_n 0, 1) := dk_42 (dk_at dksX1_init_2_1 22 rfl rfl)
theorem dX1_init_2_47 : decode cX1_init_2 47 = .ok (.iconst 4, 1) := dk_7 (dk_at dksX1_init_2_1 23 rfl rfl)
theorem dX1_init_2_48 : decode cX1_init_2 48 = .ok (.newarray .int, 2) := dk_188_10 (dk_at dksX1_init_2_2 0 rfl rfl)
theorem dX1_init_2_50 : decode cX1_init_2 50 = .ok (.putfield 26, 3) := dk_181 0 26 (dk_at dksX1_init_2_2 2 rfl rfl)
theorem dX1_init_2_53 : decode cX1_init_2 53 = .ok (.aload_n 0, 1) := dk_42 (dk_at dksX1_init_2_2 5 rfl rfl)
theorem dX1_init_2_54 : decode cX1_init_2 54 = .ok (.iconst 3, 1) := dk_6 (dk_at dksX1_init_2_2 6 rfl rfl)
theorem dX1_init_2_55 : decode cX1_init_2 55 = .ok (.putfield 29, 3) := dk_181 0 29 (dk_at dksX1_init_2_2 7 rfl rfl)
theorem dX1_init_2_58 : decode cX1_init_2 58 = .ok (.aload_n 0, 1) := dk_42 (dk_at dksX1_init_2_2 10 rfl rfl)
theorem dX1_init_2_59 : decode cX1_init_2 59 = .ok (.bipush 9, 2) := dk_16 9 (dk_at dksX1_init_2_2 11 rfl rfl)
theorem dX1_init_2_61 : decode cX1_init_2 61 = .ok (.putfield 33, 3) := dk_181 0 33 (dk_at dksX1_init_2_2 13 rfl rfl)
theorem dX1_init_2_64 : decode cX1_init_2 64 = .ok (.aload_n 1, 1) := dk_43 (dk_at dksX1_init_2_2 16 rfl rfl)
theorem dX1_init_2_65 : decode cX1_init_2 65 = .ok (.getfield 12, 3) := dk_180 0 12 (dk_at dksX1_init_2_2 17 rfl rfl)
theorem dX1_init_2_68 : decode cX1_init_2 68 = .ok (.invokevirtual 42, 3) := dk_182 0 42 (dk_at dksX1_init_2_2 20 rfl rfl)
theorem dX1_init_2_71 : decode cX1_init_2 71 = .ok (.astore_n 2, 1) := dk_77 (dk_at dksX1_init_2_2 23 rfl rfl)
theorem dX1_init_2_72 : decode cX1_init_2 72 = .ok (.aload_n 2, 1) := dk_44 (dk_at dksX1_init_2_3 0 rfl rfl)
theorem dX1_init_2_73 : decode cX1_init_2 73 = .ok (.invokeinterface 46 1, 5) := by decide +kernel
theorem dX1_init_2_78 : decode cX1_init_2 78 = .ok (.ifCond .eq 32, 3) := dk_153 0 32 (dk_at dksX1_init_2_3 6 rfl rfl)
theorem dX1_init_2_81 : decode cX1_init_2 81 = .ok (.aload_n 2, 1) := dk_44 (dk_at dksX1_init_2_3 9 rfl rfl)
theorem dX1_init_2_82 : decode cX1_init_2 82 = .ok (.invokeinterface 52 1, 5) := by decide +kernel
theorem dX1_init_2_87 : decode cX1_init_2 87 = .ok (.checkcast 56, 3) := dk_192 0 56 (dk_at dksX1_init_2_3 15 rfl rfl)
theorem dX1_init_2_90 : decode cX1_init_2 90 = .ok (.astore_n 3, 1) := dk_78 (dk_at dksX1_init_2_3 18 rfl rfl)
theorem dX1_init_2_91 : decode cX1_init_2 91 = .ok (.aload_n 0, 1) := dk_42 (dk_at dksX1_init_2_3 19 rfl rfl)
theorem dX1_init_2_92 : decode cX1_init_2 92 = .ok (.getfield 12, 3) := dk_180 0 12 (dk_at dksX1_init_2_3 20 rfl rfl)
theorem dX1_init_2_95 : decode cX1_init_2 95 = .ok (.new 56, 3) := dk_187 0 56 (dk_at dksX1_init_2_4 0 rfl rfl)
theorem dX1_init_2_98 : decode cX1_init_2 98 = .ok (.dup, 1) := dk_89 (dk_at dksX1_init_2_4 3 rfl rfl)
theorem dX1_init_2_99 : decode cX1_init_2 99 = .ok (.aload_n 3, 1) := dk_45 (dk_at dksX1_init_2_4 4 rfl rfl)
theorem dX1_init_2_100 : decode cX1_init_2 100 = .ok (.invokespecial 58, 3) := dk_183 0 58 (dk_at dksX1_init_2_4 5 rfl rfl)
theorem dX1_init_2_103 : decode cX1_init_2 103 = .ok (.invokevirtual 61, 3) := dk_182 0 61 (dk_at dksX1_init_2_4 8 rfl rfl)
theorem dX1_init_2_106 : decode cX1_init_2 106 = .ok (.pop, 1) := dk_87 (dk_at dksX1_init_2_4 11 rfl rfl)
theorem dX1_init_2_107 : decode cX1_init_2 107 = .ok (.goto (-35), 3) := dk_167 255 221 (dk_at dksX1_init_2_4 12 rfl rfl)
theorem dX1_init_2_110 : decode cX1_init_2 110 = .ok (.aload_n 0, 1) := dk_42 (dk_at dksX1_init_2_4 15 rfl rfl)
theorem dX1_init_2_111 : decode cX1_init_2 111 = .ok (.aload_n 1, 1) := dk_43 (dk_at dksX1_init_2_4 16 rfl rfl)
theorem dX1_init_2_112 : decode cX1_init_2 112 = .ok (.getfield 38, 3) := dk_180 0 38 (dk_at dksX1_init_2_4 17 rfl rfl)
theorem dX1_init_2_115 : decode cX1_init_2 115 = .ok (.invokevirtual 65, 3) := dk_182 0 65 (dk_at dksX1_init_2_4 20 rfl rfl)
theorem dX1_init_2_118 : decode cX1_init_2 118 = .ok (.checkcast 66, 3) := dk_192 0 66 (dk_at dksX1_init_2_5 0 rfl rfl)
theorem dX1_init_2_121 : decode cX1_init_2 121 = .ok (.putfield 38, 3) := dk_181 0 38 (dk_at dksX1_init_2_5 3 rfl rfl)
theorem dX1_init_2_124 : decode cX1_init_2 124 = .ok (.aload_n 0, 1) := dk_42 (dk_at dksX1_init_2_5 6 rfl rfl)
theorem dX1_init_2_125 : decode cX1_init_2 125 = .ok (.aload_n 1, 1) := dk_43 (dk_at dksX1_init_2_5 7 rfl rfl)
theorem dX1_init_2_126 : decode cX1_init_2 126 = .ok (.getfield 18, 3) := dk_180 0 18 (dk_at dksX1_init_2_5 8 rfl rfl)
theorem dX1_init_2_129 : decode cX1_init_2 129 = .ok (.invokevirtual 69, 3) := dk_182 0 69 (dk_at dksX1_init_2_5 11 rfl rfl)
theorem dX1_init_2_132 : decode cX1_init_2 132 = .ok (.checkcast 70, 3) := dk_192 0 70 (dk_at dksX1_init_2_5 14 rfl rfl)
theorem dX1_init_2_135 : decode cX1_init_2 135 = .ok (.putfield 18, 3) := dk_181 0 18 (dk_at dksX1_init_2_5 17 rfl rfl)
theorem dX1_init_2_138 : decode cX1_init_2 138 = .ok (.aload_n 0, 1) := dk_42 (dk_at dksX1_init_2_5 20 rfl rfl)
theorem dX1_init_2_139 : decode cX1_init_2 139 = .ok (.aload_n 1, 1) := dk_43 (dk_at dksX1_init_2_5 21 rfl rfl)
theorem dX1_init_2_140 : decode cX1_init_2 140 = .ok (.getfield 22, 3) := dk_180 0 22 (dk_at dksX1_init_2_6 0 rfl rfl)
theorem dX1_init_2_143 : decode cX1_init_2 143 = .ok (.invokevirtual 71, 3) := dk_182 0 71 (dk_at dksX1_init_2_6 3 rfl rfl)
theorem dX1_init_2_146 : decode cX1_init_2 146 = .ok (.checkcast 72, 3) := dk_192 0 72 (dk_at dksX1_init_2_6 6 rfl rfl)
theorem dX1_init_2_149 : decode cX1_init_2 149 = .ok (.putfield 22, 3) := dk_181 0 22 (dk_at dksX1_init_2_6 9 rfl rfl)
theorem dX1_init_2_152 : decode cX1_init_2 152 = .ok (.aload_n 0, 1) := dk_42 (dk_at dksX1_init_2_6 12 rfl rfl)
theorem dX1_init_2_153 : decode cX1_init_2 153 = .ok (.aload_n 1, 1) := dk_43 (dk_at dksX1_init_2_6 13 rfl rfl)
theorem dX1_init_2_154 : decode cX1_init_2 154 = .ok (.getfield 26, 3) := dk_180 0 26 (dk_at dksX1_init_2_6 14 rfl rfl)
theorem dX1_init_2_157 : decode cX1_init_2 157 = .ok (.invokevirtual 71, 3) := dk_182 0 71 (dk_at dksX1_init_2_6 17 rfl rfl)
theorem dX1_init_2_160 : decode cX1_init_2 160 = .ok (.checkcast 72, 3) := dk_192 0 72 (dk_at dksX1_init_2_6 20 rfl rfl)
theorem dX1_init_2_163 : decode cX1_init_2 163 = .ok (.putfield 26, 3) := dk_181 0 26 (dk_at dksX1_init_2_7 0 rfl rfl)
theorem dX1_init_2_166 : decode cX1_init_2 166 = .ok (.aload_n 0, 1) := dk_42 (dk_at dksX1_init_2_7 3 rfl rfl)
theorem dX1_init_2_167 : decode cX1_init_2 167 = .ok (.aload_n 1, 1) := dk_43 (dk_at dksX1_init_2_7 4 rfl rfl)
theorem dX1_init_2_168 : decode cX1_init_2 168 = .ok (.getfield 73, 3) := dk_180 0 73 (dk_at dksX1_init_2_7 5 rfl rfl)
theorem dX1_init_2_171 : decode cX1_init_2 171 = .ok (.putfield 73, 3) := dk_181 0 73 (dk_at dksX1_init_2_7 8 rfl rfl)
theorem dX1_init_2_174 : decode cX1_init_2 174 = .ok (.aload_n 0, 1) := dk_42 (dk_at dksX1_init_2_7 11 rfl rfl)
theorem dX1_init_2_175 : decode cX1_init_2 175 = .ok (.aload_n 1, 1) := dk_43 (dk_at dksX1_init_2_7 12 rfl rfl)
theorem dX1_init_2_176 : decode cX1_init_2 176 = .ok (.getfield 76, 3) := dk_180 0 76 (dk_at dksX1_init_2_7 13 rfl rfl)
theorem dX1_init_2_179 : decode cX1_init_2 179 = .ok (.putfield 76, 3) := dk_181 0 76 (dk_at dksX1_init_2_7 16 rfl rfl)
theorem dX1_init_2_182 : decode cX1_init_2 182 = .ok (.aload_n 0, 1) := dk_42 (dk_at dksX1_init_2_7 19 rfl rfl)
theorem dX1_init_2_183 : decode cX1_init_2 183 = .ok (.aload_n 1, 1) := dk_43 (dk_at dksX1_init_2_7 20 rfl rfl)
theorem dX1_init_2_184 : decode cX1_init_2 184 = .ok (.getfield 29, 3) := dk_180 0 29 (dk_at dksX1_init_2_7 21 rfl rfl)
theorem dX1_init_2_187 : decode cX1_init_2 187 = .ok (.putfield 29, 3) := dk_181 0 29 (dk_at dksX1_init_2_8 0 rfl rfl)
theorem dX1_init_2_190 : decode cX1_init_2 190 = .ok (.aload_n 0, 1) := dk_42 (dk_at dksX1_init_2_8 3 rfl rfl)
theorem dX1_init_2_191 : decode cX1_init_2 191 = .ok (.aload_n 1, 1) := dk_43 (dk_at dksX1_init_2_8 4 rfl rfl)
theorem dX1_init_2_192 : decode cX1_init_2 192 = .ok (.getfield 79, 3) := dk_180 0 79 (dk_at dksX1_init_2_8 5 rfl rfl)
theorem dX1_init_2_195 : decode cX1_init_2 195 = .ok (.putfield 79, 3) := dk_181 0 79 (dk_at dksX1_init_2_8 8 rfl rfl)
theorem dX1_init_2_198 : decode cX1_init_2 198 = .ok (.aload_n 0, 1) := dk_42 (dk_at dksX1_init_2_8 11 rfl rfl)
theorem dX1_init_2_199 : decode cX1_init_2 199 = .ok (.aload_n 1, 1) := dk_43 (dk_at dksX1_init_2_8 12 rfl rfl)
theorem dX1_init_2_200 : decode cX1_init_2 200 = .ok (.getfield 82, 3) := dk_180 0 82 (dk_at dksX1_init_2_8 13 rfl rfl)
theorem dX1_init_2_203 : decode cX1_init_2 203 = .ok (.putfield 82, 3) := dk_181 0 82 (dk_at dksX1_init_2_8 16 rfl rfl)
theorem dX1_init_2_206 : decode cX1_init_2 206 = .ok (.aload_n 0, 1) := dk_42 (dk_at dksX1_init_2_8 19 rfl rfl)
theorem dX1_init_2_207 : decode cX1_init_2 207 = .ok (.aload_n 1, 1) := dk_43 (dk_at dksX1_init_2_8 20 rfl rfl)
theorem dX1_init_2_208 : decode cX1_init_2 208 = .ok (.getfield 33, 3) := dk_180 0 33 (dk_at dksX1_init_2_8 21 rfl rfl)
theorem dX1_init_2_211 : decode cX1_init_2 211 = .ok (.putfield 33, 3) := dk_181 0 33 (dk_at dksX1_init_2_9 0 rfl rfl)
theorem dX1_init_2_214 : decode cX1_init_2 214 = .ok (.aload_n 0, 1) := dk_42 (dk_at dksX1_init_2_9 3 rfl rfl)
theorem dX1_init_2_215 : decode cX1_init_2 215 = .ok (.aload_n 1, 1) := dk_43 (dk_at dksX1_init_2_9 4 rfl rfl)
theorem dX1_init_2_216 : decode cX1_init_2 216 = .ok (.getfield 85, 3) := dk_180 0 85 (dk_at dksX1_init_2_9 5 rfl rfl)
theorem dX1_init_2_219 : decode cX1_init_2 219 = .ok (.putfield 85, 3) := dk_181 0 85 (dk_at dksX1_init_2_9 8 rfl rfl)
theorem dX1_init_2_222 : decode cX1_init_2 222 = .ok (.aload_n 0, 1) := dk_42 (dk_at dksX1_init_2_9 11 rfl rfl)
theorem dX1_init_2_223 : decode cX1_init_2 223 = .ok (.aload_n 1, 1) := dk_43 (dk_at dksX1_init_2_9 12 rfl rfl)
theorem dX1_init_2_224 : decode cX1_init_2 224 = .ok (.getfield 89, 3) := dk_180 0 89 (dk_at dksX1_init_2_9 13 rfl rfl)
theorem dX1_init_2_227 : decode cX1_init_2 227 = .ok (.putfield 89, 3) := dk_181 0 89 (dk_at dksX1_init_2_9 16 rfl rfl)
theorem dX1_init_2_230 : decode cX1_init_2 230 = .ok (.aload_n 0, 1) := dk_42 (dk_at dksX1_init_2_9 19 rfl rfl)
theorem dX1_init_2_231 : decode cX1_init_2 231 = .ok (.aload_n 1, 1) := dk_43 (dk_at dksX1_init_2_9 20 rfl rfl)
theorem dX1_init_2_232 : decode cX1_init_2 232 = .ok (.getfield 92, 3) := dk_180 0 92 (dk_at dksX1_init_2_9 21 rfl rfl)
theorem dX1_init_2_235 : decode cX1_init_2 235 = .ok (.putfield 92, 3) := dk_181 0 92 (dk_at dksX1_init_2_10 0 rfl rfl)
theorem dX1_init_2_238 : decode cX1_init_2 238 = .ok (.aload_n 0, 1) := dk_42 (dk_at dksX1_init_2_10 3 rfl rfl)
theorem dX1_init_2_239 : decode cX1_init_2 239 = .ok (.aload_n 1, 1) := dk_43 (dk_at dksX1_init_2_10 4 rfl rfl)
theorem dX1_init_2_240 : decode cX1_init_2 240 = .ok (.getfield 95, 3) := dk_180 0 95 (dk_at dksX1_init_2_10 5 rfl rfl)
theorem dX1_init_2_243 : decode cX1_init_2 243 = .ok (.putfield 95, 3) := dk_181 0 95 (dk_at dksX1_init_2_10 8 rfl rfl)
theorem dX1_init_2_246 : decode cX1_init_2 246 = .ok (.aload_n 0, 1) := dk_42 (dk_at dksX1_init_2_10 11 rfl rfl)
theorem dX1_init_2_247 : decode cX1_init_2 247 = .ok (.aload_n 1, 1) := dk_43 (dk_at dksX1_init_2_10 12 rfl rfl)
theorem dX1_init_2_248 : decode cX1_init_2 248 = .ok (.getfield 98, 3) := dk_180 0 98 (dk_at dksX1_init_2_10 13 rfl rfl)
theorem dX1_init_2_251 : decode cX1_init_2 251 = .ok (.putfield 98, 3) := dk_181 0 98 (dk_at dksX1_init_2_10 16 rfl rfl)
theorem dX1_init_2_254 : decode cX1_init_2 254 = .ok (.return_, 1) := dk_177 (dk_at dksX1_init_2_10 19 rfl rfl)
abbrev cX1_comes : ByteArray := prog_19_method_10_code
def yX1_comes : MethodName := ⟨RX1, "comes", "(IIII)I"⟩
def dkwX1_comes_7 : List UInt8 := [182, 0, 61, 87, 42, 89, 180, 0, 89, 4, 96, 181, 0, 89, 42, 180, 0, 12, 182, 0, 101, 4, 100, 172]
abbrev dktX1_comes_7 : List UInt8 := dkwX1_comes_7 ++ []
def dkwX1_comes_6 : List UInt8 := [42, 180, 0, 12, 187, 0, 56, 89, 42, 180, 0, 12, 182, 0, 101, 27, 28, 29, 21, 4, 183, 0, 151]
abbrev dktX1_comes_6 : List UInt8 := dkwX1_comes_6 ++ dktX1_comes_7
def dkwX1_comes_5 : List UInt8 := [184, 0, 136, 42, 27, 182, 0, 147, 16, 6, 162, 0, 7, 4, 167, 0, 4, 3, 4, 16, 6, 184, 0, 136]
abbrev dktX1_comes_5 : List UInt8 := dkwX1_comes_5 ++ dktX1_comes_6
def dkwX1_comes_4 : List UInt8 := [184, 0, 136, 42, 180, 0, 12, 182, 0, 101, 16, 12, 162, 0, 7, 4, 167, 0, 4, 3, 4, 16, 12]
abbrev dktX1_comes_4 : List UInt8 := dkwX1_comes_4 ++ dktX1_comes_5
def dkwX1_comes_3 : List UInt8 := [199, 0, 7, 4, 167, 0, 4, 3, 5, 25, 6, 199, 0, 7, 3, 167, 0, 8, 25, 6, 180, 0, 144]
abbrev dktX1_comes_3 : List UInt8 := dkwX1_comes_3 ++ dktX1_comes_4
def dkwX1_comes_2 : List UInt8 := [167, 0, 8, 25, 5, 180, 0, 144, 184, 0, 136, 42, 2, 27, 28, 182, 0, 140, 58, 6, 25, 6]
abbrev dktX1_comes_2 : List UInt8 := dkwX1_comes_2 ++ dktX1_comes_3
def dkwX1_comes_1 : List UInt8 := [182, 0, 140, 58, 5, 25, 5, 199, 0, 7, 4, 167, 0, 4, 3, 7, 25, 5, 199, 0, 7, 3]
abbrev dktX1_comes_1 : List UInt8 := dkwX1_comes_1 ++ dktX1_comes_2
def dkwX1_comes_0 : List UInt8 := [42, 180, 0, 18, 29, 51, 154, 0, 7, 4, 167, 0, 4, 3, 6, 29, 184, 0, 136, 42, 29, 2, 28]
abbrev dktX1_comes_0 : List UInt8 := dkwX1_comes_0 ++ dktX1_comes_1
theorem dksX1_comes_0 : cX1_comes.data.toList.drop 0 = dktX1_comes_0 := by decide +kernel
theorem dksX1_comes_1 : cX1_comes.data.toList.drop 23 = dktX1_comes_1 := dk_seg dksX1_comes_0 23 rfl rfl
theorem dksX1_comes_2 : cX1_comes.data.toList.drop 45 = dktX1_comes_2 := dk_seg dksX1_comes_1 22 rfl rfl
theorem dksX1_comes_3 : cX1_comes.data.toList.drop 67 = dktX1_comes_3 := dk_seg dksX1_comes_2 22 rfl rfl
theorem dksX1_comes_4 : cX1_comes.data.toList.drop 90 = dktX1_comes_4 := dk_seg dksX1_comes_3 23 rfl rfl
theorem dksX1_comes_5 : cX1_comes.data.toList.drop 113 = dktX1_comes_5 := dk_seg dksX1_comes_4 23 rfl rfl
theorem dksX1_comes_6 : cX1_comes.data.toList.drop 137 = dktX1_comes_6 := dk_seg dksX1_comes_5 24 rfl rfl
theorem dksX1_comes_7 : cX1_comes.data.toList.drop 160 = dktX1_comes_7 := dk_seg dksX1_comes_6 23 rfl rfl
theorem dX1_comes_0 : decode cX1_comes 0 = .ok (.aload_n 0, 1) := dk_42 (dk_at dksX1_comes_0 0 rfl rfl)
theorem dX1_comes_1 : decode cX1_comes 1 = .ok (.getfield 18, 3) := dk_180 0 18 (dk_at dksX1_comes_0 1 rfl rfl)
theorem dX1_comes_4 : decode cX1_comes 4 = .ok (.iload_n 3, 1) := dk_29 (dk_at dksX1_comes_0 4 rfl rfl)
theorem dX1_comes_5 : decode cX1_comes 5 = .ok (.baload, 1) := dk_51 (dk_at dksX1_comes_0 5 rfl rfl)
theorem dX1_comes_6 : decode cX1_comes 6 = .ok (.ifCond .ne 7, 3) := dk_154 0 7 (dk_at dksX1_comes_0 6 rfl rfl)
theorem dX1_comes_9 : decode cX1_comes 9 = .ok (.iconst 1, 1) := dk_4 (dk_at dksX1_comes_0 9 rfl rfl)
theorem dX1_comes_10 : decode cX1_comes 10 = .ok (.goto 4, 3) := dk_167 0 4 (dk_at dksX1_comes_0 10 rfl rfl)
theorem dX1_comes_13 : decode cX1_comes 13 = .ok (.iconst 0, 1) := dk_3 (dk_at dksX1_comes_0 13 rfl rfl)
theorem dX1_comes_14 : decode cX1_comes 14 = .ok (.iconst 3, 1) := dk_6 (dk_at dksX1_comes_0 14 rfl rfl)
theorem dX1_comes_15 : decode cX1_comes 15 = .ok (.iload_n 3, 1) := dk_29 (dk_at dksX1_comes_0 15 rfl rfl)
theorem dX1_comes_16 : decode cX1_comes 16 = .ok (.invokestatic 136, 3) := dk_184 0 136 (dk_at dksX1_comes_0 16 rfl rfl)
theorem dX1_comes_19 : decode cX1_comes 19 = .ok (.aload_n 0, 1) := dk_42 (dk_at dksX1_comes_0 19 rfl rfl)
theorem dX1_comes_20 : decode cX1_comes 20 = .ok (.iload_n 3, 1) := dk_29 (dk_at dksX1_comes_0 20 rfl rfl)
theorem dX1_comes_21 : decode cX1_comes 21 = .ok (.iconst (-1), 1) := dk_2 (dk_at dksX1_comes_0 21 rfl rfl)
theorem dX1_comes_22 : decode cX1_comes 22 = .ok (.iload_n 2, 1) := dk_28 (dk_at dksX1_comes_0 22 rfl rfl)
theorem dX1_comes_23 : decode cX1_comes 23 = .ok (.invokevirtual 140, 3) := dk_182 0 140 (dk_at dksX1_comes_1 0 rfl rfl)
theorem dX1_comes_26 : decode cX1_comes 26 = .ok (.astore 5, 2) := dk_58 5 (dk_at dksX1_comes_1 3 rfl rfl)
theorem dX1_comes_28 : decode cX1_comes 28 = .ok (.aload 5, 2) := dk_25 5 (dk_at dksX1_comes_1 5 rfl rfl)
theorem dX1_comes_30 : decode cX1_comes 30 = .ok (.ifnonnull 7, 3) := dk_199 0 7 (dk_at dksX1_comes_1 7 rfl rfl)
theorem dX1_comes_33 : decode cX1_comes 33 = .ok (.iconst 1, 1) := dk_4 (dk_at dksX1_comes_1 10 rfl rfl)
theorem dX1_comes_34 : decode cX1_comes 34 = .ok (.goto 4, 3) := dk_167 0 4 (dk_at dksX1_comes_1 11 rfl rfl)
theorem dX1_comes_37 : decode cX1_comes 37 = .ok (.iconst 0, 1) := dk_3 (dk_at dksX1_comes_1 14 rfl rfl)
theorem dX1_comes_38 : decode cX1_comes 38 = .ok (.iconst 4, 1) := dk_7 (dk_at dksX1_comes_1 15 rfl rfl)
theorem dX1_comes_39 : decode cX1_comes 39 = .ok (.aload 5, 2) := dk_25 5 (dk_at dksX1_comes_1 16 rfl rfl)
theorem dX1_comes_41 : decode cX1_comes 41 = .ok (.ifnonnull 7, 3) := dk_199 0 7 (dk_at dksX1_comes_1 18 rfl rfl)
theorem dX1_comes_44 : decode cX1_comes 44 = .ok (.iconst 0, 1) := dk_3 (dk_at dksX1_comes_1 21 rfl rfl)
theorem dX1_comes_45 : decode cX1_comes 45 = .ok (.goto 8, 3) := dk_167 0 8 (dk_at dksX1_comes_2 0 rfl rfl)
theorem dX1_comes_48 : decode cX1_comes 48 = .ok (.aload 5, 2) := dk_25 5 (dk_at dksX1_comes_2 3 rfl rfl)
theorem dX1_comes_50 : decode cX1_comes 50 = .ok (.getfield 144, 3) := dk_180 0 144 (dk_at dksX1_comes_2 5 rfl rfl)
theorem dX1_comes_53 : decode cX1_comes 53 = .ok (.invokestatic 136, 3) := dk_184 0 136 (dk_at dksX1_comes_2 8 rfl rfl)
theorem dX1_comes_56 : decode cX1_comes 56 = .ok (.aload_n 0, 1) := dk_42 (dk_at dksX1_comes_2 11 rfl rfl)
theorem dX1_comes_57 : decode cX1_comes 57 = .ok (.iconst (-1), 1) := dk_2 (dk_at dksX1_comes_2 12 rfl rfl)
theorem dX1_comes_58 : decode cX1_comes 58 = .ok (.iload_n 1, 1) := dk_27 (dk_at dksX1_comes_2 13 rfl rfl)
theorem dX1_comes_59 : decode cX1_comes 59 = .ok (.iload_n 2, 1) := dk_28 (dk_at dksX1_comes_2 14 rfl rfl)
theorem dX1_comes_60 : decode cX1_comes 60 = .ok (.invokevirtual 140, 3) := dk_182 0 140 (dk_at dksX1_comes_2 15 rfl rfl)
theorem dX1_comes_63 : decode cX1_comes 63 = .ok (.astore 6, 2) := dk_58 6 (dk_at dksX1_comes_2 18 rfl rfl)
theorem dX1_comes_65 : decode cX1_comes 65 = .ok (.aload 6, 2) := dk_25 6 (dk_at dksX1_comes_2 20 rfl rfl)
theorem dX1_comes_67 : decode cX1_comes 67 = .ok (.ifnonnull 7, 3) := dk_199 0 7 (dk_at dksX1_comes_3 0 rfl rfl)
theorem dX1_comes_70 : decode cX1_comes 70 = .ok (.iconst 1, 1) := dk_4 (dk_at dksX1_comes_3 3 rfl rfl)
theorem dX1_comes_71 : decode cX1_comes 71 = .ok (.goto 4, 3) := dk_167 0 4 (dk_at dksX1_comes_3 4 rfl rfl)
theorem dX1_comes_74 : decode cX1_comes 74 = .ok (.iconst 0, 1) := dk_3 (dk_at dksX1_comes_3 7 rfl rfl)
theorem dX1_comes_75 : decode cX1_comes 75 = .ok (.iconst 2, 1) := dk_5 (dk_at dksX1_comes_3 8 rfl rfl)
theorem dX1_comes_76 : decode cX1_comes 76 = .ok (.aload 6, 2) := dk_25 6 (dk_at dksX1_comes_3 9 rfl rfl)
theorem dX1_comes_78 : decode cX1_comes 78 = .ok (.ifnonnull 7, 3) := dk_199 0 7 (dk_at dksX1_comes_3 11 rfl rfl)
theorem dX1_comes_81 : decode cX1_comes 81 = .ok (.iconst 0, 1) := dk_3 (dk_at dksX1_comes_3 14 rfl rfl)
theorem dX1_comes_82 : decode cX1_comes 82 = .ok (.goto 8, 3) := dk_167 0 8 (dk_at dksX1_comes_3 15 rfl rfl)
theorem dX1_comes_85 : decode cX1_comes 85 = .ok (.aload 6, 2) := dk_25 6 (dk_at dksX1_comes_3 18 rfl rfl)
theorem dX1_comes_87 : decode cX1_comes 87 = .ok (.getfield 144, 3) := dk_180 0 144 (dk_at dksX1_comes_3 20 rfl rfl)
theorem dX1_comes_90 : decode cX1_comes 90 = .ok (.invokestatic 136, 3) := dk_184 0 136 (dk_at dksX1_comes_4 0 rfl rfl)
theorem dX1_comes_93 : decode cX1_comes 93 = .ok (.aload_n 0, 1) := dk_42 (dk_at dksX1_comes_4 3 rfl rfl)
theorem dX1_comes_94 : decode cX1_comes 94 = .ok (.getfield 12, 3) := dk_180 0 12 (dk_at dksX1_comes_4 4 rfl rfl)
theorem dX1_comes_97 : decode cX1_comes 97 = .ok (.invokevirtual 101, 3) := dk_182 0 101 (dk_at dksX1_comes_4 7 rfl rfl)
theorem dX1_comes_100 : decode cX1_comes 100 = .ok (.bipush 12, 2) := dk_16 12 (dk_at dksX1_comes_4 10 rfl rfl)
theorem dX1_comes_102 : decode cX1_comes 102 = .ok (.if_icmp .ge 7, 3) := dk_162 0 7 (dk_at dksX1_comes_4 12 rfl rfl)
theorem dX1_comes_105 : decode cX1_comes 105 = .ok (.iconst 1, 1) := dk_4 (dk_at dksX1_comes_4 15 rfl rfl)
theorem dX1_comes_106 : decode cX1_comes 106 = .ok (.goto 4, 3) := dk_167 0 4 (dk_at dksX1_comes_4 16 rfl rfl)
theorem dX1_comes_109 : decode cX1_comes 109 = .ok (.iconst 0, 1) := dk_3 (dk_at dksX1_comes_4 19 rfl rfl)
theorem dX1_comes_110 : decode cX1_comes 110 = .ok (.iconst 1, 1) := dk_4 (dk_at dksX1_comes_4 20 rfl rfl)
theorem dX1_comes_111 : decode cX1_comes 111 = .ok (.bipush 12, 2) := dk_16 12 (dk_at dksX1_comes_4 21 rfl rfl)
theorem dX1_comes_113 : decode cX1_comes 113 = .ok (.invokestatic 136, 3) := dk_184 0 136 (dk_at dksX1_comes_5 0 rfl rfl)
theorem dX1_comes_116 : decode cX1_comes 116 = .ok (.aload_n 0, 1) := dk_42 (dk_at dksX1_comes_5 3 rfl rfl)
theorem dX1_comes_117 : decode cX1_comes 117 = .ok (.iload_n 1, 1) := dk_27 (dk_at dksX1_comes_5 4 rfl rfl)
theorem dX1_comes_118 : decode cX1_comes 118 = .ok (.invokevirtual 147, 3) := dk_182 0 147 (dk_at dksX1_comes_5 5 rfl rfl)
theorem dX1_comes_121 : decode cX1_comes 121 = .ok (.bipush 6, 2) := dk_16 6 (dk_at dksX1_comes_5 8 rfl rfl)
theorem dX1_comes_123 : decode cX1_comes 123 = .ok (.if_icmp .ge 7, 3) := dk_162 0 7 (dk_at dksX1_comes_5 10 rfl rfl)
theorem dX1_comes_126 : decode cX1_comes 126 = .ok (.iconst 1, 1) := dk_4 (dk_at dksX1_comes_5 13 rfl rfl)
theorem dX1_comes_127 : decode cX1_comes 127 = .ok (.goto 4, 3) := dk_167 0 4 (dk_at dksX1_comes_5 14 rfl rfl)
theorem dX1_comes_130 : decode cX1_comes 130 = .ok (.iconst 0, 1) := dk_3 (dk_at dksX1_comes_5 17 rfl rfl)
theorem dX1_comes_131 : decode cX1_comes 131 = .ok (.iconst 1, 1) := dk_4 (dk_at dksX1_comes_5 18 rfl rfl)
theorem dX1_comes_132 : decode cX1_comes 132 = .ok (.bipush 6, 2) := dk_16 6 (dk_at dksX1_comes_5 19 rfl rfl)
theorem dX1_comes_134 : decode cX1_comes 134 = .ok (.invokestatic 136, 3) := dk_184 0 136 (dk_at dksX1_comes_5 21 rfl rfl)
theorem dX1_comes_137 : decode cX1_comes 137 = .ok (.aload_n 0, 1) := dk_42 (dk_at dksX1_comes_6 0 rfl rfl)
theorem dX1_comes_138 : decode cX1_comes 138 = .ok (.getfield 12, 3) := dk_180 0 12 (dk_at dksX1_comes_6 1 rfl rfl)
theorem dX1_comes_141 : decode cX1_comes 141 = .ok (.new 56, 3) := dk_187 0 56 (dk_at dksX1_comes_6 4 rfl rfl)
theorem dX1_comes_144 : decode cX1_comes 144 = .ok (.dup, 1) := dk_89 (dk_at dksX1_comes_6 7 rfl rfl)
theorem dX1_comes_145 : decode cX1_comes 145 = .ok (.aload_n 0, 1) := dk_42 (dk_at dksX1_comes_6 8 rfl rfl)
theorem dX1_comes_146 : decode cX1_comes 146 = .ok (.getfield 12, 3) := dk_180 0 12 (dk_at dksX1_comes_6 9 rfl rfl)
theorem dX1_comes_149 : decode cX1_comes 149 = .ok (.invokevirtual 101, 3) := dk_182 0 101 (dk_at dksX1_comes_6 12 rfl rfl)
theorem dX1_comes_152 : decode cX1_comes 152 = .ok (.iload_n 1, 1) := dk_27 (dk_at dksX1_comes_6 15 rfl rfl)
theorem dX1_comes_153 : decode cX1_comes 153 = .ok (.iload_n 2, 1) := dk_28 (dk_at dksX1_comes_6 16 rfl rfl)
theorem dX1_comes_154 : decode cX1_comes 154 = .ok (.iload_n 3, 1) := dk_29 (dk_at dksX1_comes_6 17 rfl rfl)
theorem dX1_comes_155 : decode cX1_comes 155 = .ok (.iload 4, 2) := dk_21 4 (dk_at dksX1_comes_6 18 rfl rfl)
theorem dX1_comes_157 : decode cX1_comes 157 = .ok (.invokespecial 151, 3) := dk_183 0 151 (dk_at dksX1_comes_6 20 rfl rfl)
theorem dX1_comes_160 : decode cX1_comes 160 = .ok (.invokevirtual 61, 3) := dk_182 0 61 (dk_at dksX1_comes_7 0 rfl rfl)
theorem dX1_comes_163 : decode cX1_comes 163 = .ok (.pop, 1) := dk_87 (dk_at dksX1_comes_7 3 rfl rfl)
theorem dX1_comes_164 : decode cX1_comes 164 = .ok (.aload_n 0, 1) := dk_42 (dk_at dksX1_comes_7 4 rfl rfl)
theorem dX1_comes_165 : decode cX1_comes 165 = .ok (.dup, 1) := dk_89 (dk_at dksX1_comes_7 5 rfl rfl)
theorem dX1_comes_166 : decode cX1_comes 166 = .ok (.getfield 89, 3) := dk_180 0 89 (dk_at dksX1_comes_7 6 rfl rfl)
theorem dX1_comes_169 : decode cX1_comes 169 = .ok (.iconst 1, 1) := dk_4 (dk_at dksX1_comes_7 9 rfl rfl)
theorem dX1_comes_170 : decode cX1_comes 170 = .ok (.iadd, 1) := dk_96 (dk_at dksX1_comes_7 10 rfl rfl)
theorem dX1_comes_171 : decode cX1_comes 171 = .ok (.putfield 89, 3) := dk_181 0 89 (dk_at dksX1_comes_7 11 rfl rfl)
theorem dX1_comes_174 : decode cX1_comes 174 = .ok (.aload_n 0, 1) := dk_42 (dk_at dksX1_comes_7 14 rfl rfl)
theorem dX1_comes_175 : decode cX1_comes 175 = .ok (.getfield 12, 3) := dk_180 0 12 (dk_at dksX1_comes_7 15 rfl rfl)
theorem dX1_comes_178 : decode cX1_comes 178 = .ok (.invokevirtual 101, 3) := dk_182 0 101 (dk_at dksX1_comes_7 18 rfl rfl)
theorem dX1_comes_181 : decode cX1_comes 181 = .ok (.iconst 1, 1) := dk_4 (dk_at dksX1_comes_7 21 rfl rfl)
theorem dX1_comes_182 : decode cX1_comes 182 = .ok (.isub, 1) := dk_100 (dk_at dksX1_comes_7 22 rfl rfl)
theorem dX1_comes_183 : decode cX1_comes 183 = .ok (.ireturn, 1) := dk_172 (dk_at dksX1_comes_7 23 rfl rfl)
abbrev cX1_like : ByteArray := prog_19_method_9_code
def yX1_like : MethodName := ⟨RX1, "like", "(III)LJokePump$Joke;"⟩
def dkwX1_like_3 : List UInt8 := [167, 255, 197, 1, 176]
abbrev dktX1_like_3 : List UInt8 := dkwX1_like_3 ++ []
def dkwX1_like_2 : List UInt8 := [167, 0, 21, 25, 5, 180, 0, 114, 28, 160, 0, 15, 25, 5, 180, 0, 126, 29, 160, 0, 6, 25, 5, 176]
abbrev dktX1_like_2 : List UInt8 := dkwX1_like_2 ++ dktX1_like_3
def dkwX1_like_1 : List UInt8 := [185, 0, 52, 1, 0, 192, 0, 56, 58, 5, 27, 155, 0, 15, 25, 5, 180, 0, 133, 27, 160, 0, 27]
abbrev dktX1_like_1 : List UInt8 := dkwX1_like_1 ++ dktX1_like_2
def dkwX1_like_0 : List UInt8 := [42, 180, 0, 12, 182, 0, 42, 58, 4, 25, 4, 185, 0, 46, 1, 0, 153, 0, 55, 25, 4]
abbrev dktX1_like_0 : List UInt8 := dkwX1_like_0 ++ dktX1_like_1
theorem dksX1_like_0 : cX1_like.data.toList.drop 0 = dktX1_like_0 := by decide +kernel
theorem dksX1_like_1 : cX1_like.data.toList.drop 21 = dktX1_like_1 := dk_seg dksX1_like_0 21 rfl rfl
theorem dksX1_like_2 : cX1_like.data.toList.drop 44 = dktX1_like_2 := dk_seg dksX1_like_1 23 rfl rfl
theorem dksX1_like_3 : cX1_like.data.toList.drop 68 = dktX1_like_3 := dk_seg dksX1_like_2 24 rfl rfl
theorem dX1_like_0 : decode cX1_like 0 = .ok (.aload_n 0, 1) := dk_42 (dk_at dksX1_like_0 0 rfl rfl)
theorem dX1_like_1 : decode cX1_like 1 = .ok (.getfield 12, 3) := dk_180 0 12 (dk_at dksX1_like_0 1 rfl rfl)
theorem dX1_like_4 : decode cX1_like 4 = .ok (.invokevirtual 42, 3) := dk_182 0 42 (dk_at dksX1_like_0 4 rfl rfl)
theorem dX1_like_7 : decode cX1_like 7 = .ok (.astore 4, 2) := dk_58 4 (dk_at dksX1_like_0 7 rfl rfl)
theorem dX1_like_9 : decode cX1_like 9 = .ok (.aload 4, 2) := dk_25 4 (dk_at dksX1_like_0 9 rfl rfl)
theorem dX1_like_11 : decode cX1_like 11 = .ok (.invokeinterface 46 1, 5) := by decide +kernel
theorem dX1_like_16 : decode cX1_like 16 = .ok (.ifCond .eq 55, 3) := dk_153 0 55 (dk_at dksX1_like_0 16 rfl rfl)
theorem dX1_like_19 : decode cX1_like 19 = .ok (.aload 4, 2) := dk_25 4 (dk_at dksX1_like_0 19 rfl rfl)
theorem dX1_like_21 : decode cX1_like 21 = .ok (.invokeinterface 52 1, 5) := by decide +kernel
theorem dX1_like_26 : decode cX1_like 26 = .ok (.checkcast 56, 3) := dk_192 0 56 (dk_at dksX1_like_1 5 rfl rfl)
theorem dX1_like_29 : decode cX1_like 29 = .ok (.astore 5, 2) := dk_58 5 (dk_at dksX1_like_1 8 rfl rfl)
theorem dX1_like_31 : decode cX1_like 31 = .ok (.iload_n 1, 1) := dk_27 (dk_at dksX1_like_1 10 rfl rfl)
theorem dX1_like_32 : decode cX1_like 32 = .ok (.ifCond .lt 15, 3) := dk_155 0 15 (dk_at dksX1_like_1 11 rfl rfl)
theorem dX1_like_35 : decode cX1_like 35 = .ok (.aload 5, 2) := dk_25 5 (dk_at dksX1_like_1 14 rfl rfl)
theorem dX1_like_37 : decode cX1_like 37 = .ok (.getfield 133, 3) := dk_180 0 133 (dk_at dksX1_like_1 16 rfl rfl)
theorem dX1_like_40 : decode cX1_like 40 = .ok (.iload_n 1, 1) := dk_27 (dk_at dksX1_like_1 19 rfl rfl)
theorem dX1_like_41 : decode cX1_like 41 = .ok (.if_icmp .ne 27, 3) := dk_160 0 27 (dk_at dksX1_like_1 20 rfl rfl)
theorem dX1_like_44 : decode cX1_like 44 = .ok (.goto 21, 3) := dk_167 0 21 (dk_at dksX1_like_2 0 rfl rfl)
theorem dX1_like_47 : decode cX1_like 47 = .ok (.aload 5, 2) := dk_25 5 (dk_at dksX1_like_2 3 rfl rfl)
theorem dX1_like_49 : decode cX1_like 49 = .ok (.getfield 114, 3) := dk_180 0 114 (dk_at dksX1_like_2 5 rfl rfl)
theorem dX1_like_52 : decode cX1_like 52 = .ok (.iload_n 2, 1) := dk_28 (dk_at dksX1_like_2 8 rfl rfl)
theorem dX1_like_53 : decode cX1_like 53 = .ok (.if_icmp .ne 15, 3) := dk_160 0 15 (dk_at dksX1_like_2 9 rfl rfl)
theorem dX1_like_56 : decode cX1_like 56 = .ok (.aload 5, 2) := dk_25 5 (dk_at dksX1_like_2 12 rfl rfl)
theorem dX1_like_58 : decode cX1_like 58 = .ok (.getfield 126, 3) := dk_180 0 126 (dk_at dksX1_like_2 14 rfl rfl)
theorem dX1_like_61 : decode cX1_like 61 = .ok (.iload_n 3, 1) := dk_29 (dk_at dksX1_like_2 17 rfl rfl)
theorem dX1_like_62 : decode cX1_like 62 = .ok (.if_icmp .ne 6, 3) := dk_160 0 6 (dk_at dksX1_like_2 18 rfl rfl)
theorem dX1_like_65 : decode cX1_like 65 = .ok (.aload 5, 2) := dk_25 5 (dk_at dksX1_like_2 21 rfl rfl)
theorem dX1_like_67 : decode cX1_like 67 = .ok (.areturn, 1) := dk_176 (dk_at dksX1_like_2 23 rfl rfl)
theorem dX1_like_68 : decode cX1_like 68 = .ok (.goto (-59), 3) := dk_167 255 197 (dk_at dksX1_like_3 0 rfl rfl)
theorem dX1_like_71 : decode cX1_like 71 = .ok (.aconst_null, 1) := dk_1 (dk_at dksX1_like_3 3 rfl rfl)
theorem dX1_like_72 : decode cX1_like 72 = .ok (.areturn, 1) := dk_176 (dk_at dksX1_like_3 4 rfl rfl)
abbrev cX1_inWell : ByteArray := prog_19_method_5_code
def yX1_inWell : MethodName := ⟨RX1, "inWell", "(I)I"⟩
def dkwX1_inWell_2 : List UInt8 := [3, 184, 0, 115, 96, 61, 167, 255, 216, 28, 172]
abbrev dktX1_inWell_2 : List UInt8 := dkwX1_inWell_2 ++ []
def dkwX1_inWell_1 : List UInt8 := [185, 0, 52, 1, 0, 192, 0, 56, 58, 4, 28, 25, 4, 180, 0, 114, 27, 160, 0, 7, 4, 167, 0, 4]
abbrev dktX1_inWell_1 : List UInt8 := dkwX1_inWell_1 ++ dktX1_inWell_2
def dkwX1_inWell_0 : List UInt8 := [3, 61, 42, 180, 0, 12, 182, 0, 42, 78, 45, 185, 0, 46, 1, 0, 153, 0, 37, 45]
abbrev dktX1_inWell_0 : List UInt8 := dkwX1_inWell_0 ++ dktX1_inWell_1
theorem dksX1_inWell_0 : cX1_inWell.data.toList.drop 0 = dktX1_inWell_0 := by decide +kernel
theorem dksX1_inWell_1 : cX1_inWell.data.toList.drop 20 = dktX1_inWell_1 := dk_seg dksX1_inWell_0 20 rfl rfl
theorem dksX1_inWell_2 : cX1_inWell.data.toList.drop 44 = dktX1_inWell_2 := dk_seg dksX1_inWell_1 24 rfl rfl
theorem dX1_inWell_0 : decode cX1_inWell 0 = .ok (.iconst 0, 1) := dk_3 (dk_at dksX1_inWell_0 0 rfl rfl)
theorem dX1_inWell_1 : decode cX1_inWell 1 = .ok (.istore_n 2, 1) := dk_61 (dk_at dksX1_inWell_0 1 rfl rfl)
theorem dX1_inWell_2 : decode cX1_inWell 2 = .ok (.aload_n 0, 1) := dk_42 (dk_at dksX1_inWell_0 2 rfl rfl)
theorem dX1_inWell_3 : decode cX1_inWell 3 = .ok (.getfield 12, 3) := dk_180 0 12 (dk_at dksX1_inWell_0 3 rfl rfl)
theorem dX1_inWell_6 : decode cX1_inWell 6 = .ok (.invokevirtual 42, 3) := dk_182 0 42 (dk_at dksX1_inWell_0 6 rfl rfl)
theorem dX1_inWell_9 : decode cX1_inWell 9 = .ok (.astore_n 3, 1) := dk_78 (dk_at dksX1_inWell_0 9 rfl rfl)
theorem dX1_inWell_10 : decode cX1_inWell 10 = .ok (.aload_n 3, 1) := dk_45 (dk_at dksX1_inWell_0 10 rfl rfl)
theorem dX1_inWell_11 : decode cX1_inWell 11 = .ok (.invokeinterface 46 1, 5) := by decide +kernel
theorem dX1_inWell_16 : decode cX1_inWell 16 = .ok (.ifCond .eq 37, 3) := dk_153 0 37 (dk_at dksX1_inWell_0 16 rfl rfl)
theorem dX1_inWell_19 : decode cX1_inWell 19 = .ok (.aload_n 3, 1) := dk_45 (dk_at dksX1_inWell_0 19 rfl rfl)
theorem dX1_inWell_20 : decode cX1_inWell 20 = .ok (.invokeinterface 52 1, 5) := by decide +kernel
theorem dX1_inWell_25 : decode cX1_inWell 25 = .ok (.checkcast 56, 3) := dk_192 0 56 (dk_at dksX1_inWell_1 5 rfl rfl)
theorem dX1_inWell_28 : decode cX1_inWell 28 = .ok (.astore 4, 2) := dk_58 4 (dk_at dksX1_inWell_1 8 rfl rfl)
theorem dX1_inWell_30 : decode cX1_inWell 30 = .ok (.iload_n 2, 1) := dk_28 (dk_at dksX1_inWell_1 10 rfl rfl)
theorem dX1_inWell_31 : decode cX1_inWell 31 = .ok (.aload 4, 2) := dk_25 4 (dk_at dksX1_inWell_1 11 rfl rfl)
theorem dX1_inWell_33 : decode cX1_inWell 33 = .ok (.getfield 114, 3) := dk_180 0 114 (dk_at dksX1_inWell_1 13 rfl rfl)
theorem dX1_inWell_36 : decode cX1_inWell 36 = .ok (.iload_n 1, 1) := dk_27 (dk_at dksX1_inWell_1 16 rfl rfl)
theorem dX1_inWell_37 : decode cX1_inWell 37 = .ok (.if_icmp .ne 7, 3) := dk_160 0 7 (dk_at dksX1_inWell_1 17 rfl rfl)
theorem dX1_inWell_40 : decode cX1_inWell 40 = .ok (.iconst 1, 1) := dk_4 (dk_at dksX1_inWell_1 20 rfl rfl)
theorem dX1_inWell_41 : decode cX1_inWell 41 = .ok (.goto 4, 3) := dk_167 0 4 (dk_at dksX1_inWell_1 21 rfl rfl)
theorem dX1_inWell_44 : decode cX1_inWell 44 = .ok (.iconst 0, 1) := dk_3 (dk_at dksX1_inWell_2 0 rfl rfl)
theorem dX1_inWell_45 : decode cX1_inWell 45 = .ok (.invokestatic 115, 3) := dk_184 0 115 (dk_at dksX1_inWell_2 1 rfl rfl)
theorem dX1_inWell_48 : decode cX1_inWell 48 = .ok (.iadd, 1) := dk_96 (dk_at dksX1_inWell_2 4 rfl rfl)
theorem dX1_inWell_49 : decode cX1_inWell 49 = .ok (.istore_n 2, 1) := dk_61 (dk_at dksX1_inWell_2 5 rfl rfl)
theorem dX1_inWell_50 : decode cX1_inWell 50 = .ok (.goto (-40), 3) := dk_167 255 216 (dk_at dksX1_inWell_2 6 rfl rfl)
theorem dX1_inWell_53 : decode cX1_inWell 53 = .ok (.iload_n 2, 1) := dk_28 (dk_at dksX1_inWell_2 9 rfl rfl)
theorem dX1_inWell_54 : decode cX1_inWell 54 = .ok (.ireturn, 1) := dk_172 (dk_at dksX1_inWell_2 10 rfl rfl)
abbrev cX1_hasJoke : ByteArray := prog_19_method_3_code
def yX1_hasJoke : MethodName := ⟨RX1, "hasJoke", "(I)Z"⟩
def dkwX1_hasJoke_0 : List UInt8 := [27, 3, 42, 180, 0, 12, 182, 0, 101, 4, 100, 184, 0, 105, 172]
abbrev dktX1_hasJoke_0 : List UInt8 := dkwX1_hasJoke_0 ++ []
theorem dksX1_hasJoke_0 : cX1_hasJoke.data.toList.drop 0 = dktX1_hasJoke_0 := by decide +kernel
theorem dX1_hasJoke_0 : decode cX1_hasJoke 0 = .ok (.iload_n 1, 1) := dk_27 (dk_at dksX1_hasJoke_0 0 rfl rfl)
theorem dX1_hasJoke_1 : decode cX1_hasJoke 1 = .ok (.iconst 0, 1) := dk_3 (dk_at dksX1_hasJoke_0 1 rfl rfl)
theorem dX1_hasJoke_2 : decode cX1_hasJoke 2 = .ok (.aload_n 0, 1) := dk_42 (dk_at dksX1_hasJoke_0 2 rfl rfl)
theorem dX1_hasJoke_3 : decode cX1_hasJoke 3 = .ok (.getfield 12, 3) := dk_180 0 12 (dk_at dksX1_hasJoke_0 3 rfl rfl)
theorem dX1_hasJoke_6 : decode cX1_hasJoke 6 = .ok (.invokevirtual 101, 3) := dk_182 0 101 (dk_at dksX1_hasJoke_0 6 rfl rfl)
theorem dX1_hasJoke_9 : decode cX1_hasJoke 9 = .ok (.iconst 1, 1) := dk_4 (dk_at dksX1_hasJoke_0 9 rfl rfl)
theorem dX1_hasJoke_10 : decode cX1_hasJoke 10 = .ok (.isub, 1) := dk_100 (dk_at dksX1_hasJoke_0 10 rfl rfl)
theorem dX1_hasJoke_11 : decode cX1_hasJoke 11 = .ok (.invokestatic 105, 3) := dk_184 0 105 (dk_at dksX1_hasJoke_0 11 rfl rfl)
theorem dX1_hasJoke_14 : decode cX1_hasJoke 14 = .ok (.ireturn, 1) := dk_172 (dk_at dksX1_hasJoke_0 14 rfl rfl)
abbrev cX1_primes : ByteArray := prog_19_method_11_code
def yX1_primes : MethodName := ⟨RX1, "primes", "(I)I"⟩
def dkwX1_primes_2 : List UInt8 := [184, 0, 136, 44, 4, 181, 0, 129, 42, 89, 180, 0, 33, 4, 100, 181, 0, 33, 42, 180, 0, 33, 172]
abbrev dktX1_primes_2 : List UInt8 := dkwX1_primes_2 ++ []
def dkwX1_primes_1 : List UInt8 := [8, 27, 184, 0, 136, 42, 180, 0, 33, 158, 0, 7, 4, 167, 0, 4, 3, 16, 6, 42, 180, 0, 82]
abbrev dktX1_primes_1 : List UInt8 := dkwX1_primes_1 ++ dktX1_primes_2
def dkwX1_primes_0 : List UInt8 := [42, 180, 0, 12, 27, 182, 0, 154, 192, 0, 56, 77, 44, 180, 0, 129, 154, 0, 7, 4, 167, 0, 4, 3]
abbrev dktX1_primes_0 : List UInt8 := dkwX1_primes_0 ++ dktX1_primes_1
theorem dksX1_primes_0 : cX1_primes.data.toList.drop 0 = dktX1_primes_0 := by decide +kernel
theorem dksX1_primes_1 : cX1_primes.data.toList.drop 24 = dktX1_primes_1 := dk_seg dksX1_primes_0 24 rfl rfl
theorem dksX1_primes_2 : cX1_primes.data.toList.drop 47 = dktX1_primes_2 := dk_seg dksX1_primes_1 23 rfl rfl
theorem dX1_primes_0 : decode cX1_primes 0 = .ok (.aload_n 0, 1) := dk_42 (dk_at dksX1_primes_0 0 rfl rfl)
theorem dX1_primes_1 : decode cX1_primes 1 = .ok (.getfield 12, 3) := dk_180 0 12 (dk_at dksX1_primes_0 1 rfl rfl)
theorem dX1_primes_4 : decode cX1_primes 4 = .ok (.iload_n 1, 1) := dk_27 (dk_at dksX1_primes_0 4 rfl rfl)
theorem dX1_primes_5 : decode cX1_primes 5 = .ok (.invokevirtual 154, 3) := dk_182 0 154 (dk_at dksX1_primes_0 5 rfl rfl)
theorem dX1_primes_8 : decode cX1_primes 8 = .ok (.checkcast 56, 3) := dk_192 0 56 (dk_at dksX1_primes_0 8 rfl rfl)
theorem dX1_primes_11 : decode cX1_primes 11 = .ok (.astore_n 2, 1) := dk_77 (dk_at dksX1_primes_0 11 rfl rfl)
theorem dX1_primes_12 : decode cX1_primes 12 = .ok (.aload_n 2, 1) := dk_44 (dk_at dksX1_primes_0 12 rfl rfl)
theorem dX1_primes_13 : decode cX1_primes 13 = .ok (.getfield 129, 3) := dk_180 0 129 (dk_at dksX1_primes_0 13 rfl rfl)
theorem dX1_primes_16 : decode cX1_primes 16 = .ok (.ifCond .ne 7, 3) := dk_154 0 7 (dk_at dksX1_primes_0 16 rfl rfl)
theorem dX1_primes_19 : decode cX1_primes 19 = .ok (.iconst 1, 1) := dk_4 (dk_at dksX1_primes_0 19 rfl rfl)
theorem dX1_primes_20 : decode cX1_primes 20 = .ok (.goto 4, 3) := dk_167 0 4 (dk_at dksX1_primes_0 20 rfl rfl)
theorem dX1_primes_23 : decode cX1_primes 23 = .ok (.iconst 0, 1) := dk_3 (dk_at dksX1_primes_0 23 rfl rfl)
theorem dX1_primes_24 : decode cX1_primes 24 = .ok (.iconst 5, 1) := dk_8 (dk_at dksX1_primes_1 0 rfl rfl)
theorem dX1_primes_25 : decode cX1_primes 25 = .ok (.iload_n 1, 1) := dk_27 (dk_at dksX1_primes_1 1 rfl rfl)
theorem dX1_primes_26 : decode cX1_primes 26 = .ok (.invokestatic 136, 3) := dk_184 0 136 (dk_at dksX1_primes_1 2 rfl rfl)
theorem dX1_primes_29 : decode cX1_primes 29 = .ok (.aload_n 0, 1) := dk_42 (dk_at dksX1_primes_1 5 rfl rfl)
theorem dX1_primes_30 : decode cX1_primes 30 = .ok (.getfield 33, 3) := dk_180 0 33 (dk_at dksX1_primes_1 6 rfl rfl)
theorem dX1_primes_33 : decode cX1_primes 33 = .ok (.ifCond .le 7, 3) := dk_158 0 7 (dk_at dksX1_primes_1 9 rfl rfl)
theorem dX1_primes_36 : decode cX1_primes 36 = .ok (.iconst 1, 1) := dk_4 (dk_at dksX1_primes_1 12 rfl rfl)
theorem dX1_primes_37 : decode cX1_primes 37 = .ok (.goto 4, 3) := dk_167 0 4 (dk_at dksX1_primes_1 13 rfl rfl)
theorem dX1_primes_40 : decode cX1_primes 40 = .ok (.iconst 0, 1) := dk_3 (dk_at dksX1_primes_1 16 rfl rfl)
theorem dX1_primes_41 : decode cX1_primes 41 = .ok (.bipush 6, 2) := dk_16 6 (dk_at dksX1_primes_1 17 rfl rfl)
theorem dX1_primes_43 : decode cX1_primes 43 = .ok (.aload_n 0, 1) := dk_42 (dk_at dksX1_primes_1 19 rfl rfl)
theorem dX1_primes_44 : decode cX1_primes 44 = .ok (.getfield 82, 3) := dk_180 0 82 (dk_at dksX1_primes_1 20 rfl rfl)
theorem dX1_primes_47 : decode cX1_primes 47 = .ok (.invokestatic 136, 3) := dk_184 0 136 (dk_at dksX1_primes_2 0 rfl rfl)
theorem dX1_primes_50 : decode cX1_primes 50 = .ok (.aload_n 2, 1) := dk_44 (dk_at dksX1_primes_2 3 rfl rfl)
theorem dX1_primes_51 : decode cX1_primes 51 = .ok (.iconst 1, 1) := dk_4 (dk_at dksX1_primes_2 4 rfl rfl)
theorem dX1_primes_52 : decode cX1_primes 52 = .ok (.putfield 129, 3) := dk_181 0 129 (dk_at dksX1_primes_2 5 rfl rfl)
theorem dX1_primes_55 : decode cX1_primes 55 = .ok (.aload_n 0, 1) := dk_42 (dk_at dksX1_primes_2 8 rfl rfl)
theorem dX1_primes_56 : decode cX1_primes 56 = .ok (.dup, 1) := dk_89 (dk_at dksX1_primes_2 9 rfl rfl)
theorem dX1_primes_57 : decode cX1_primes 57 = .ok (.getfield 33, 3) := dk_180 0 33 (dk_at dksX1_primes_2 10 rfl rfl)
theorem dX1_primes_60 : decode cX1_primes 60 = .ok (.iconst 1, 1) := dk_4 (dk_at dksX1_primes_2 13 rfl rfl)
theorem dX1_primes_61 : decode cX1_primes 61 = .ok (.isub, 1) := dk_100 (dk_at dksX1_primes_2 14 rfl rfl)
theorem dX1_primes_62 : decode cX1_primes 62 = .ok (.putfield 33, 3) := dk_181 0 33 (dk_at dksX1_primes_2 15 rfl rfl)
theorem dX1_primes_65 : decode cX1_primes 65 = .ok (.aload_n 0, 1) := dk_42 (dk_at dksX1_primes_2 18 rfl rfl)
theorem dX1_primes_66 : decode cX1_primes 66 = .ok (.getfield 33, 3) := dk_180 0 33 (dk_at dksX1_primes_2 19 rfl rfl)
theorem dX1_primes_69 : decode cX1_primes 69 = .ok (.ireturn, 1) := dk_172 (dk_at dksX1_primes_2 22 rfl rfl)
abbrev cX1_goesAway : ByteArray := prog_19_method_13_code
def yX1_goesAway : MethodName := ⟨RX1, "goesAway", "(I)I"⟩
def dkwX1_goesAway_1 : List UInt8 := [181, 0, 92, 42, 180, 0, 12, 182, 0, 101, 172]
abbrev dktX1_goesAway_1 : List UInt8 := dkwX1_goesAway_1 ++ []
def dkwX1_goesAway_0 : List UInt8 := [42, 42, 180, 0, 12, 27, 182, 0, 154, 192, 0, 56, 182, 0, 161, 42, 89, 180, 0, 92, 4, 96]
abbrev dktX1_goesAway_0 : List UInt8 := dkwX1_goesAway_0 ++ dktX1_goesAway_1
theorem dksX1_goesAway_0 : cX1_goesAway.data.toList.drop 0 = dktX1_goesAway_0 := by decide +kernel
theorem dksX1_goesAway_1 : cX1_goesAway.data.toList.drop 22 = dktX1_goesAway_1 := dk_seg dksX1_goesAway_0 22 rfl rfl
theorem dX1_goesAway_0 : decode cX1_goesAway 0 = .ok (.aload_n 0, 1) := dk_42 (dk_at dksX1_goesAway_0 0 rfl rfl)
theorem dX1_goesAway_1 : decode cX1_goesAway 1 = .ok (.aload_n 0, 1) := dk_42 (dk_at dksX1_goesAway_0 1 rfl rfl)
theorem dX1_goesAway_2 : decode cX1_goesAway 2 = .ok (.getfield 12, 3) := dk_180 0 12 (dk_at dksX1_goesAway_0 2 rfl rfl)
theorem dX1_goesAway_5 : decode cX1_goesAway 5 = .ok (.iload_n 1, 1) := dk_27 (dk_at dksX1_goesAway_0 5 rfl rfl)
theorem dX1_goesAway_6 : decode cX1_goesAway 6 = .ok (.invokevirtual 154, 3) := dk_182 0 154 (dk_at dksX1_goesAway_0 6 rfl rfl)
theorem dX1_goesAway_9 : decode cX1_goesAway 9 = .ok (.checkcast 56, 3) := dk_192 0 56 (dk_at dksX1_goesAway_0 9 rfl rfl)
theorem dX1_goesAway_12 : decode cX1_goesAway 12 = .ok (.invokevirtual 161, 3) := dk_182 0 161 (dk_at dksX1_goesAway_0 12 rfl rfl)
theorem dX1_goesAway_15 : decode cX1_goesAway 15 = .ok (.aload_n 0, 1) := dk_42 (dk_at dksX1_goesAway_0 15 rfl rfl)
theorem dX1_goesAway_16 : decode cX1_goesAway 16 = .ok (.dup, 1) := dk_89 (dk_at dksX1_goesAway_0 16 rfl rfl)
theorem dX1_goesAway_17 : decode cX1_goesAway 17 = .ok (.getfield 92, 3) := dk_180 0 92 (dk_at dksX1_goesAway_0 17 rfl rfl)
theorem dX1_goesAway_20 : decode cX1_goesAway 20 = .ok (.iconst 1, 1) := dk_4 (dk_at dksX1_goesAway_0 20 rfl rfl)
theorem dX1_goesAway_21 : decode cX1_goesAway 21 = .ok (.iadd, 1) := dk_96 (dk_at dksX1_goesAway_0 21 rfl rfl)
theorem dX1_goesAway_22 : decode cX1_goesAway 22 = .ok (.putfield 92, 3) := dk_181 0 92 (dk_at dksX1_goesAway_1 0 rfl rfl)
theorem dX1_goesAway_25 : decode cX1_goesAway 25 = .ok (.aload_n 0, 1) := dk_42 (dk_at dksX1_goesAway_1 3 rfl rfl)
theorem dX1_goesAway_26 : decode cX1_goesAway 26 = .ok (.getfield 12, 3) := dk_180 0 12 (dk_at dksX1_goesAway_1 4 rfl rfl)
theorem dX1_goesAway_29 : decode cX1_goesAway 29 = .ok (.invokevirtual 101, 3) := dk_182 0 101 (dk_at dksX1_goesAway_1 7 rfl rfl)
theorem dX1_goesAway_32 : decode cX1_goesAway 32 = .ok (.ireturn, 1) := dk_172 (dk_at dksX1_goesAway_1 10 rfl rfl)
abbrev cX1_removes : ByteArray := prog_19_method_12_code
def yX1_removes : MethodName := ⟨RX1, "removes", "(LJokePump$Joke;)V"⟩
def dkwX1_removes_3 : List UInt8 := [167, 255, 206, 177]
abbrev dktX1_removes_3 : List UInt8 := dkwX1_removes_3 ++ []
def dkwX1_removes_2 : List UInt8 := [180, 0, 144, 43, 180, 0, 144, 164, 0, 7, 4, 167, 0, 4, 3, 184, 0, 115, 100, 181, 0, 144]
abbrev dktX1_removes_2 : List UInt8 := dkwX1_removes_2 ++ dktX1_removes_3
def dkwX1_removes_1 : List UInt8 := [153, 0, 47, 45, 185, 0, 52, 1, 0, 192, 0, 56, 58, 4, 25, 4, 89, 180, 0, 144, 25, 4]
abbrev dktX1_removes_1 : List UInt8 := dkwX1_removes_1 ++ dktX1_removes_2
def dkwX1_removes_0 : List UInt8 := [42, 180, 0, 12, 43, 182, 0, 158, 61, 42, 180, 0, 12, 182, 0, 42, 78, 45, 185, 0, 46, 1, 0]
abbrev dktX1_removes_0 : List UInt8 := dkwX1_removes_0 ++ dktX1_removes_1
theorem dksX1_removes_0 : cX1_removes.data.toList.drop 0 = dktX1_removes_0 := by decide +kernel
theorem dksX1_removes_1 : cX1_removes.data.toList.drop 23 = dktX1_removes_1 := dk_seg dksX1_removes_0 23 rfl rfl
theorem dksX1_removes_2 : cX1_removes.data.toList.drop 45 = dktX1_removes_2 := dk_seg dksX1_removes_1 22 rfl rfl
theorem dksX1_removes_3 : cX1_removes.data.toList.drop 67 = dktX1_removes_3 := dk_seg dksX1_removes_2 22 rfl rfl
theorem dX1_removes_0 : decode cX1_removes 0 = .ok (.aload_n 0, 1) := dk_42 (dk_at dksX1_removes_0 0 rfl rfl)
theorem dX1_removes_1 : decode cX1_removes 1 = .ok (.getfield 12, 3) := dk_180 0 12 (dk_at dksX1_removes_0 1 rfl rfl)
theorem dX1_removes_4 : decode cX1_removes 4 = .ok (.aload_n 1, 1) := dk_43 (dk_at dksX1_removes_0 4 rfl rfl)
theorem dX1_removes_5 : decode cX1_removes 5 = .ok (.invokevirtual 158, 3) := dk_182 0 158 (dk_at dksX1_removes_0 5 rfl rfl)
theorem dX1_removes_8 : decode cX1_removes 8 = .ok (.istore_n 2, 1) := dk_61 (dk_at dksX1_removes_0 8 rfl rfl)
theorem dX1_removes_9 : decode cX1_removes 9 = .ok (.aload_n 0, 1) := dk_42 (dk_at dksX1_removes_0 9 rfl rfl)
theorem dX1_removes_10 : decode cX1_removes 10 = .ok (.getfield 12, 3) := dk_180 0 12 (dk_at dksX1_removes_0 10 rfl rfl)
theorem dX1_removes_13 : decode cX1_removes 13 = .ok (.invokevirtual 42, 3) := dk_182 0 42 (dk_at dksX1_removes_0 13 rfl rfl)
theorem dX1_removes_16 : decode cX1_removes 16 = .ok (.astore_n 3, 1) := dk_78 (dk_at dksX1_removes_0 16 rfl rfl)
theorem dX1_removes_17 : decode cX1_removes 17 = .ok (.aload_n 3, 1) := dk_45 (dk_at dksX1_removes_0 17 rfl rfl)
theorem dX1_removes_18 : decode cX1_removes 18 = .ok (.invokeinterface 46 1, 5) := by decide +kernel
theorem dX1_removes_23 : decode cX1_removes 23 = .ok (.ifCond .eq 47, 3) := dk_153 0 47 (dk_at dksX1_removes_1 0 rfl rfl)
theorem dX1_removes_26 : decode cX1_removes 26 = .ok (.aload_n 3, 1) := dk_45 (dk_at dksX1_removes_1 3 rfl rfl)
theorem dX1_removes_27 : decode cX1_removes 27 = .ok (.invokeinterface 52 1, 5) := by decide +kernel
theorem dX1_removes_32 : decode cX1_removes 32 = .ok (.checkcast 56, 3) := dk_192 0 56 (dk_at dksX1_removes_1 9 rfl rfl)
theorem dX1_removes_35 : decode cX1_removes 35 = .ok (.astore 4, 2) := dk_58 4 (dk_at dksX1_removes_1 12 rfl rfl)
theorem dX1_removes_37 : decode cX1_removes 37 = .ok (.aload 4, 2) := dk_25 4 (dk_at dksX1_removes_1 14 rfl rfl)
theorem dX1_removes_39 : decode cX1_removes 39 = .ok (.dup, 1) := dk_89 (dk_at dksX1_removes_1 16 rfl rfl)
theorem dX1_removes_40 : decode cX1_removes 40 = .ok (.getfield 144, 3) := dk_180 0 144 (dk_at dksX1_removes_1 17 rfl rfl)
theorem dX1_removes_43 : decode cX1_removes 43 = .ok (.aload 4, 2) := dk_25 4 (dk_at dksX1_removes_1 20 rfl rfl)
theorem dX1_removes_45 : decode cX1_removes 45 = .ok (.getfield 144, 3) := dk_180 0 144 (dk_at dksX1_removes_2 0 rfl rfl)
theorem dX1_removes_48 : decode cX1_removes 48 = .ok (.aload_n 1, 1) := dk_43 (dk_at dksX1_removes_2 3 rfl rfl)
theorem dX1_removes_49 : decode cX1_removes 49 = .ok (.getfield 144, 3) := dk_180 0 144 (dk_at dksX1_removes_2 4 rfl rfl)
theorem dX1_removes_52 : decode cX1_removes 52 = .ok (.if_icmp .le 7, 3) := dk_164 0 7 (dk_at dksX1_removes_2 7 rfl rfl)
theorem dX1_removes_55 : decode cX1_removes 55 = .ok (.iconst 1, 1) := dk_4 (dk_at dksX1_removes_2 10 rfl rfl)
theorem dX1_removes_56 : decode cX1_removes 56 = .ok (.goto 4, 3) := dk_167 0 4 (dk_at dksX1_removes_2 11 rfl rfl)
theorem dX1_removes_59 : decode cX1_removes 59 = .ok (.iconst 0, 1) := dk_3 (dk_at dksX1_removes_2 14 rfl rfl)
theorem dX1_removes_60 : decode cX1_removes 60 = .ok (.invokestatic 115, 3) := dk_184 0 115 (dk_at dksX1_removes_2 15 rfl rfl)
theorem dX1_removes_63 : decode cX1_removes 63 = .ok (.isub, 1) := dk_100 (dk_at dksX1_removes_2 18 rfl rfl)
theorem dX1_removes_64 : decode cX1_removes 64 = .ok (.putfield 144, 3) := dk_181 0 144 (dk_at dksX1_removes_2 19 rfl rfl)
theorem dX1_removes_67 : decode cX1_removes 67 = .ok (.goto (-50), 3) := dk_167 255 206 (dk_at dksX1_removes_3 0 rfl rfl)
theorem dX1_removes_70 : decode cX1_removes 70 = .ok (.return_, 1) := dk_177 (dk_at dksX1_removes_3 3 rfl rfl)
abbrev cX1_drains : ByteArray := prog_19_method_14_code
def yX1_drains : MethodName := ⟨RX1, "drains", "(I)I"⟩
def dkwX1_drains_2 : List UInt8 := [180, 0, 33, 27, 16, 10, 108, 96, 184, 0, 164, 181, 0, 33, 42, 180, 0, 33, 172]
abbrev dktX1_drains_2 : List UInt8 := dkwX1_drains_2 ++ []
def dkwX1_drains_1 : List UInt8 := [180, 0, 82, 27, 100, 181, 0, 82, 42, 89, 180, 0, 98, 27, 96, 181, 0, 98, 42, 16, 9, 42]
abbrev dktX1_drains_1 : List UInt8 := dkwX1_drains_1 ++ dktX1_drains_2
def dkwX1_drains_0 : List UInt8 := [42, 180, 0, 82, 27, 161, 0, 7, 4, 167, 0, 4, 3, 16, 7, 42, 180, 0, 82, 184, 0, 136, 42, 89]
abbrev dktX1_drains_0 : List UInt8 := dkwX1_drains_0 ++ dktX1_drains_1
theorem dksX1_drains_0 : cX1_drains.data.toList.drop 0 = dktX1_drains_0 := by decide +kernel
theorem dksX1_drains_1 : cX1_drains.data.toList.drop 24 = dktX1_drains_1 := dk_seg dksX1_drains_0 24 rfl rfl
theorem dksX1_drains_2 : cX1_drains.data.toList.drop 46 = dktX1_drains_2 := dk_seg dksX1_drains_1 22 rfl rfl
theorem dX1_drains_0 : decode cX1_drains 0 = .ok (.aload_n 0, 1) := dk_42 (dk_at dksX1_drains_0 0 rfl rfl)
theorem dX1_drains_1 : decode cX1_drains 1 = .ok (.getfield 82, 3) := dk_180 0 82 (dk_at dksX1_drains_0 1 rfl rfl)
theorem dX1_drains_4 : decode cX1_drains 4 = .ok (.iload_n 1, 1) := dk_27 (dk_at dksX1_drains_0 4 rfl rfl)
theorem dX1_drains_5 : decode cX1_drains 5 = .ok (.if_icmp .lt 7, 3) := dk_161 0 7 (dk_at dksX1_drains_0 5 rfl rfl)
theorem dX1_drains_8 : decode cX1_drains 8 = .ok (.iconst 1, 1) := dk_4 (dk_at dksX1_drains_0 8 rfl rfl)
theorem dX1_drains_9 : decode cX1_drains 9 = .ok (.goto 4, 3) := dk_167 0 4 (dk_at dksX1_drains_0 9 rfl rfl)
theorem dX1_drains_12 : decode cX1_drains 12 = .ok (.iconst 0, 1) := dk_3 (dk_at dksX1_drains_0 12 rfl rfl)
theorem dX1_drains_13 : decode cX1_drains 13 = .ok (.bipush 7, 2) := dk_16 7 (dk_at dksX1_drains_0 13 rfl rfl)
theorem dX1_drains_15 : decode cX1_drains 15 = .ok (.aload_n 0, 1) := dk_42 (dk_at dksX1_drains_0 15 rfl rfl)
theorem dX1_drains_16 : decode cX1_drains 16 = .ok (.getfield 82, 3) := dk_180 0 82 (dk_at dksX1_drains_0 16 rfl rfl)
theorem dX1_drains_19 : decode cX1_drains 19 = .ok (.invokestatic 136, 3) := dk_184 0 136 (dk_at dksX1_drains_0 19 rfl rfl)
theorem dX1_drains_22 : decode cX1_drains 22 = .ok (.aload_n 0, 1) := dk_42 (dk_at dksX1_drains_0 22 rfl rfl)
theorem dX1_drains_23 : decode cX1_drains 23 = .ok (.dup, 1) := dk_89 (dk_at dksX1_drains_0 23 rfl rfl)
theorem dX1_drains_24 : decode cX1_drains 24 = .ok (.getfield 82, 3) := dk_180 0 82 (dk_at dksX1_drains_1 0 rfl rfl)
theorem dX1_drains_27 : decode cX1_drains 27 = .ok (.iload_n 1, 1) := dk_27 (dk_at dksX1_drains_1 3 rfl rfl)
theorem dX1_drains_28 : decode cX1_drains 28 = .ok (.isub, 1) := dk_100 (dk_at dksX1_drains_1 4 rfl rfl)
theorem dX1_drains_29 : decode cX1_drains 29 = .ok (.putfield 82, 3) := dk_181 0 82 (dk_at dksX1_drains_1 5 rfl rfl)
theorem dX1_drains_32 : decode cX1_drains 32 = .ok (.aload_n 0, 1) := dk_42 (dk_at dksX1_drains_1 8 rfl rfl)
theorem dX1_drains_33 : decode cX1_drains 33 = .ok (.dup, 1) := dk_89 (dk_at dksX1_drains_1 9 rfl rfl)
theorem dX1_drains_34 : decode cX1_drains 34 = .ok (.getfield 98, 3) := dk_180 0 98 (dk_at dksX1_drains_1 10 rfl rfl)
theorem dX1_drains_37 : decode cX1_drains 37 = .ok (.iload_n 1, 1) := dk_27 (dk_at dksX1_drains_1 13 rfl rfl)
theorem dX1_drains_38 : decode cX1_drains 38 = .ok (.iadd, 1) := dk_96 (dk_at dksX1_drains_1 14 rfl rfl)
theorem dX1_drains_39 : decode cX1_drains 39 = .ok (.putfield 98, 3) := dk_181 0 98 (dk_at dksX1_drains_1 15 rfl rfl)
theorem dX1_drains_42 : decode cX1_drains 42 = .ok (.aload_n 0, 1) := dk_42 (dk_at dksX1_drains_1 18 rfl rfl)
theorem dX1_drains_43 : decode cX1_drains 43 = .ok (.bipush 9, 2) := dk_16 9 (dk_at dksX1_drains_1 19 rfl rfl)
theorem dX1_drains_45 : decode cX1_drains 45 = .ok (.aload_n 0, 1) := dk_42 (dk_at dksX1_drains_1 21 rfl rfl)
theorem dX1_drains_46 : decode cX1_drains 46 = .ok (.getfield 33, 3) := dk_180 0 33 (dk_at dksX1_drains_2 0 rfl rfl)
theorem dX1_drains_49 : decode cX1_drains 49 = .ok (.iload_n 1, 1) := dk_27 (dk_at dksX1_drains_2 3 rfl rfl)
theorem dX1_drains_50 : decode cX1_drains 50 = .ok (.bipush 10, 2) := dk_16 10 (dk_at dksX1_drains_2 4 rfl rfl)
theorem dX1_drains_52 : decode cX1_drains 52 = .ok (.idiv, 1) := dk_108 (dk_at dksX1_drains_2 6 rfl rfl)
theorem dX1_drains_53 : decode cX1_drains 53 = .ok (.iadd, 1) := dk_96 (dk_at dksX1_drains_2 7 rfl rfl)
theorem dX1_drains_54 : decode cX1_drains 54 = .ok (.invokestatic 164, 3) := dk_184 0 164 (dk_at dksX1_drains_2 8 rfl rfl)
theorem dX1_drains_57 : decode cX1_drains 57 = .ok (.putfield 33, 3) := dk_181 0 33 (dk_at dksX1_drains_2 11 rfl rfl)
theorem dX1_drains_60 : decode cX1_drains 60 = .ok (.aload_n 0, 1) := dk_42 (dk_at dksX1_drains_2 14 rfl rfl)
theorem dX1_drains_61 : decode cX1_drains 61 = .ok (.getfield 33, 3) := dk_180 0 33 (dk_at dksX1_drains_2 15 rfl rfl)
theorem dX1_drains_64 : decode cX1_drains 64 = .ok (.ireturn, 1) := dk_172 (dk_at dksX1_drains_2 18 rfl rfl)
abbrev cX1_strikes : ByteArray := prog_19_method_15_code
def yX1_strikes : MethodName := ⟨RX1, "strikes", "(I)I"⟩
def dkwX1_strikes_1 : List UInt8 := [181, 0, 29, 28, 172]
abbrev dktX1_strikes_1 : List UInt8 := dkwX1_strikes_1 ++ []
def dkwX1_strikes_0 : List UInt8 := [42, 180, 0, 29, 61, 28, 27, 159, 0, 7, 4, 167, 0, 4, 3, 8, 27, 184, 0, 136, 42, 27]
abbrev dktX1_strikes_0 : List UInt8 := dkwX1_strikes_0 ++ dktX1_strikes_1
theorem dksX1_strikes_0 : cX1_strikes.data.toList.drop 0 = dktX1_strikes_0 := by decide +kernel
theorem dksX1_strikes_1 : cX1_strikes.data.toList.drop 22 = dktX1_strikes_1 := dk_seg dksX1_strikes_0 22 rfl rfl
theorem dX1_strikes_0 : decode cX1_strikes 0 = .ok (.aload_n 0, 1) := dk_42 (dk_at dksX1_strikes_0 0 rfl rfl)
theorem dX1_strikes_1 : decode cX1_strikes 1 = .ok (.getfield 29, 3) := dk_180 0 29 (dk_at dksX1_strikes_0 1 rfl rfl)
theorem dX1_strikes_4 : decode cX1_strikes 4 = .ok (.istore_n 2, 1) := dk_61 (dk_at dksX1_strikes_0 4 rfl rfl)
theorem dX1_strikes_5 : decode cX1_strikes 5 = .ok (.iload_n 2, 1) := dk_28 (dk_at dksX1_strikes_0 5 rfl rfl)
theorem dX1_strikes_6 : decode cX1_strikes 6 = .ok (.iload_n 1, 1) := dk_27 (dk_at dksX1_strikes_0 6 rfl rfl)
theorem dX1_strikes_7 : decode cX1_strikes 7 = .ok (.if_icmp .eq 7, 3) := dk_159 0 7 (dk_at dksX1_strikes_0 7 rfl rfl)
theorem dX1_strikes_10 : decode cX1_strikes 10 = .ok (.iconst 1, 1) := dk_4 (dk_at dksX1_strikes_0 10 rfl rfl)
theorem dX1_strikes_11 : decode cX1_strikes 11 = .ok (.goto 4, 3) := dk_167 0 4 (dk_at dksX1_strikes_0 11 rfl rfl)
theorem dX1_strikes_14 : decode cX1_strikes 14 = .ok (.iconst 0, 1) := dk_3 (dk_at dksX1_strikes_0 14 rfl rfl)
theorem dX1_strikes_15 : decode cX1_strikes 15 = .ok (.iconst 5, 1) := dk_8 (dk_at dksX1_strikes_0 15 rfl rfl)
theorem dX1_strikes_16 : decode cX1_strikes 16 = .ok (.iload_n 1, 1) := dk_27 (dk_at dksX1_strikes_0 16 rfl rfl)
theorem dX1_strikes_17 : decode cX1_strikes 17 = .ok (.invokestatic 136, 3) := dk_184 0 136 (dk_at dksX1_strikes_0 17 rfl rfl)
theorem dX1_strikes_20 : decode cX1_strikes 20 = .ok (.aload_n 0, 1) := dk_42 (dk_at dksX1_strikes_0 20 rfl rfl)
theorem dX1_strikes_21 : decode cX1_strikes 21 = .ok (.iload_n 1, 1) := dk_27 (dk_at dksX1_strikes_0 21 rfl rfl)
theorem dX1_strikes_22 : decode cX1_strikes 22 = .ok (.putfield 29, 3) := dk_181 0 29 (dk_at dksX1_strikes_1 0 rfl rfl)
theorem dX1_strikes_25 : decode cX1_strikes 25 = .ok (.iload_n 2, 1) := dk_28 (dk_at dksX1_strikes_1 3 rfl rfl)
theorem dX1_strikes_26 : decode cX1_strikes 26 = .ok (.ireturn, 1) := dk_172 (dk_at dksX1_strikes_1 4 rfl rfl)
abbrev cX1_hangs : ByteArray := prog_19_method_16_code
def yX1_hangs : MethodName := ⟨RX1, "hangs", "(II)I"⟩
def dkwX1_hangs_1 : List UInt8 := [180, 0, 22, 27, 28, 79, 29, 172]
abbrev dktX1_hangs_1 : List UInt8 := dkwX1_hangs_1 ++ []
def dkwX1_hangs_0 : List UInt8 := [42, 180, 0, 22, 27, 46, 62, 29, 28, 159, 0, 7, 4, 167, 0, 4, 3, 8, 27, 184, 0, 136, 42]
abbrev dktX1_hangs_0 : List UInt8 := dkwX1_hangs_0 ++ dktX1_hangs_1
theorem dksX1_hangs_0 : cX1_hangs.data.toList.drop 0 = dktX1_hangs_0 := by decide +kernel
theorem dksX1_hangs_1 : cX1_hangs.data.toList.drop 23 = dktX1_hangs_1 := dk_seg dksX1_hangs_0 23 rfl rfl
theorem dX1_hangs_0 : decode cX1_hangs 0 = .ok (.aload_n 0, 1) := dk_42 (dk_at dksX1_hangs_0 0 rfl rfl)
theorem dX1_hangs_1 : decode cX1_hangs 1 = .ok (.getfield 22, 3) := dk_180 0 22 (dk_at dksX1_hangs_0 1 rfl rfl)
theorem dX1_hangs_4 : decode cX1_hangs 4 = .ok (.iload_n 1, 1) := dk_27 (dk_at dksX1_hangs_0 4 rfl rfl)
theorem dX1_hangs_5 : decode cX1_hangs 5 = .ok (.iaload, 1) := dk_46 (dk_at dksX1_hangs_0 5 rfl rfl)
theorem dX1_hangs_6 : decode cX1_hangs 6 = .ok (.istore_n 3, 1) := dk_62 (dk_at dksX1_hangs_0 6 rfl rfl)
theorem dX1_hangs_7 : decode cX1_hangs 7 = .ok (.iload_n 3, 1) := dk_29 (dk_at dksX1_hangs_0 7 rfl rfl)
theorem dX1_hangs_8 : decode cX1_hangs 8 = .ok (.iload_n 2, 1) := dk_28 (dk_at dksX1_hangs_0 8 rfl rfl)
theorem dX1_hangs_9 : decode cX1_hangs 9 = .ok (.if_icmp .eq 7, 3) := dk_159 0 7 (dk_at dksX1_hangs_0 9 rfl rfl)
theorem dX1_hangs_12 : decode cX1_hangs 12 = .ok (.iconst 1, 1) := dk_4 (dk_at dksX1_hangs_0 12 rfl rfl)
theorem dX1_hangs_13 : decode cX1_hangs 13 = .ok (.goto 4, 3) := dk_167 0 4 (dk_at dksX1_hangs_0 13 rfl rfl)
theorem dX1_hangs_16 : decode cX1_hangs 16 = .ok (.iconst 0, 1) := dk_3 (dk_at dksX1_hangs_0 16 rfl rfl)
theorem dX1_hangs_17 : decode cX1_hangs 17 = .ok (.iconst 5, 1) := dk_8 (dk_at dksX1_hangs_0 17 rfl rfl)
theorem dX1_hangs_18 : decode cX1_hangs 18 = .ok (.iload_n 1, 1) := dk_27 (dk_at dksX1_hangs_0 18 rfl rfl)
theorem dX1_hangs_19 : decode cX1_hangs 19 = .ok (.invokestatic 136, 3) := dk_184 0 136 (dk_at dksX1_hangs_0 19 rfl rfl)
theorem dX1_hangs_22 : decode cX1_hangs 22 = .ok (.aload_n 0, 1) := dk_42 (dk_at dksX1_hangs_0 22 rfl rfl)
theorem dX1_hangs_23 : decode cX1_hangs 23 = .ok (.getfield 22, 3) := dk_180 0 22 (dk_at dksX1_hangs_1 0 rfl rfl)
theorem dX1_hangs_26 : decode cX1_hangs 26 = .ok (.iload_n 1, 1) := dk_27 (dk_at dksX1_hangs_1 3 rfl rfl)
theorem dX1_hangs_27 : decode cX1_hangs 27 = .ok (.iload_n 2, 1) := dk_28 (dk_at dksX1_hangs_1 4 rfl rfl)
theorem dX1_hangs_28 : decode cX1_hangs 28 = .ok (.iastore, 1) := dk_79 (dk_at dksX1_hangs_1 5 rfl rfl)
theorem dX1_hangs_29 : decode cX1_hangs 29 = .ok (.iload_n 3, 1) := dk_29 (dk_at dksX1_hangs_1 6 rfl rfl)
theorem dX1_hangs_30 : decode cX1_hangs 30 = .ok (.ireturn, 1) := dk_172 (dk_at dksX1_hangs_1 7 rfl rfl)
abbrev cX1_goes : ByteArray := prog_19_method_17_code
def yX1_goes : MethodName := ⟨RX1, "goes", "(I)I"⟩
def dkwX1_goes_1 : List UInt8 := [181, 0, 76, 42, 3, 181, 0, 79, 28, 172]
abbrev dktX1_goes_1 : List UInt8 := dkwX1_goes_1 ++ []
def dkwX1_goes_0 : List UInt8 := [42, 180, 0, 76, 61, 28, 27, 159, 0, 7, 4, 167, 0, 4, 3, 8, 27, 184, 0, 136, 42, 27]
abbrev dktX1_goes_0 : List UInt8 := dkwX1_goes_0 ++ dktX1_goes_1
theorem dksX1_goes_0 : cX1_goes.data.toList.drop 0 = dktX1_goes_0 := by decide +kernel
theorem dksX1_goes_1 : cX1_goes.data.toList.drop 22 = dktX1_goes_1 := dk_seg dksX1_goes_0 22 rfl rfl
theorem dX1_goes_0 : decode cX1_goes 0 = .ok (.aload_n 0, 1) := dk_42 (dk_at dksX1_goes_0 0 rfl rfl)
theorem dX1_goes_1 : decode cX1_goes 1 = .ok (.getfield 76, 3) := dk_180 0 76 (dk_at dksX1_goes_0 1 rfl rfl)
theorem dX1_goes_4 : decode cX1_goes 4 = .ok (.istore_n 2, 1) := dk_61 (dk_at dksX1_goes_0 4 rfl rfl)
theorem dX1_goes_5 : decode cX1_goes 5 = .ok (.iload_n 2, 1) := dk_28 (dk_at dksX1_goes_0 5 rfl rfl)
theorem dX1_goes_6 : decode cX1_goes 6 = .ok (.iload_n 1, 1) := dk_27 (dk_at dksX1_goes_0 6 rfl rfl)
theorem dX1_goes_7 : decode cX1_goes 7 = .ok (.if_icmp .eq 7, 3) := dk_159 0 7 (dk_at dksX1_goes_0 7 rfl rfl)
theorem dX1_goes_10 : decode cX1_goes 10 = .ok (.iconst 1, 1) := dk_4 (dk_at dksX1_goes_0 10 rfl rfl)
theorem dX1_goes_11 : decode cX1_goes 11 = .ok (.goto 4, 3) := dk_167 0 4 (dk_at dksX1_goes_0 11 rfl rfl)
theorem dX1_goes_14 : decode cX1_goes 14 = .ok (.iconst 0, 1) := dk_3 (dk_at dksX1_goes_0 14 rfl rfl)
theorem dX1_goes_15 : decode cX1_goes 15 = .ok (.iconst 5, 1) := dk_8 (dk_at dksX1_goes_0 15 rfl rfl)
theorem dX1_goes_16 : decode cX1_goes 16 = .ok (.iload_n 1, 1) := dk_27 (dk_at dksX1_goes_0 16 rfl rfl)
theorem dX1_goes_17 : decode cX1_goes 17 = .ok (.invokestatic 136, 3) := dk_184 0 136 (dk_at dksX1_goes_0 17 rfl rfl)
theorem dX1_goes_20 : decode cX1_goes 20 = .ok (.aload_n 0, 1) := dk_42 (dk_at dksX1_goes_0 20 rfl rfl)
theorem dX1_goes_21 : decode cX1_goes 21 = .ok (.iload_n 1, 1) := dk_27 (dk_at dksX1_goes_0 21 rfl rfl)
theorem dX1_goes_22 : decode cX1_goes 22 = .ok (.putfield 76, 3) := dk_181 0 76 (dk_at dksX1_goes_1 0 rfl rfl)
theorem dX1_goes_25 : decode cX1_goes 25 = .ok (.aload_n 0, 1) := dk_42 (dk_at dksX1_goes_1 3 rfl rfl)
theorem dX1_goes_26 : decode cX1_goes 26 = .ok (.iconst 0, 1) := dk_3 (dk_at dksX1_goes_1 4 rfl rfl)
theorem dX1_goes_27 : decode cX1_goes 27 = .ok (.putfield 79, 3) := dk_181 0 79 (dk_at dksX1_goes_1 5 rfl rfl)
theorem dX1_goes_30 : decode cX1_goes 30 = .ok (.iload_n 2, 1) := dk_28 (dk_at dksX1_goes_1 8 rfl rfl)
theorem dX1_goes_31 : decode cX1_goes 31 = .ok (.ireturn, 1) := dk_172 (dk_at dksX1_goes_1 9 rfl rfl)
abbrev cX1_pumps : ByteArray := prog_19_method_23_code
def yX1_pumps : MethodName := ⟨RX1, "pumps", "(I)I"⟩
def dkwX1_pumps_1 : List UInt8 := [182, 0, 196, 172]
abbrev dktX1_pumps_1 : List UInt8 := dkwX1_pumps_1 ++ []
def dkwX1_pumps_0 : List UInt8 := [42, 182, 0, 190, 154, 0, 7, 4, 167, 0, 4, 3, 16, 8, 42, 180, 0, 82, 184, 0, 136, 42, 27]
abbrev dktX1_pumps_0 : List UInt8 := dkwX1_pumps_0 ++ dktX1_pumps_1
theorem dksX1_pumps_0 : cX1_pumps.data.toList.drop 0 = dktX1_pumps_0 := by decide +kernel
theorem dksX1_pumps_1 : cX1_pumps.data.toList.drop 23 = dktX1_pumps_1 := dk_seg dksX1_pumps_0 23 rfl rfl
theorem dX1_pumps_0 : decode cX1_pumps 0 = .ok (.aload_n 0, 1) := dk_42 (dk_at dksX1_pumps_0 0 rfl rfl)
theorem dX1_pumps_1 : decode cX1_pumps 1 = .ok (.invokevirtual 190, 3) := dk_182 0 190 (dk_at dksX1_pumps_0 1 rfl rfl)
theorem dX1_pumps_4 : decode cX1_pumps 4 = .ok (.ifCond .ne 7, 3) := dk_154 0 7 (dk_at dksX1_pumps_0 4 rfl rfl)
theorem dX1_pumps_7 : decode cX1_pumps 7 = .ok (.iconst 1, 1) := dk_4 (dk_at dksX1_pumps_0 7 rfl rfl)
theorem dX1_pumps_8 : decode cX1_pumps 8 = .ok (.goto 4, 3) := dk_167 0 4 (dk_at dksX1_pumps_0 8 rfl rfl)
theorem dX1_pumps_11 : decode cX1_pumps 11 = .ok (.iconst 0, 1) := dk_3 (dk_at dksX1_pumps_0 11 rfl rfl)
theorem dX1_pumps_12 : decode cX1_pumps 12 = .ok (.bipush 8, 2) := dk_16 8 (dk_at dksX1_pumps_0 12 rfl rfl)
theorem dX1_pumps_14 : decode cX1_pumps 14 = .ok (.aload_n 0, 1) := dk_42 (dk_at dksX1_pumps_0 14 rfl rfl)
theorem dX1_pumps_15 : decode cX1_pumps 15 = .ok (.getfield 82, 3) := dk_180 0 82 (dk_at dksX1_pumps_0 15 rfl rfl)
theorem dX1_pumps_18 : decode cX1_pumps 18 = .ok (.invokestatic 136, 3) := dk_184 0 136 (dk_at dksX1_pumps_0 18 rfl rfl)
theorem dX1_pumps_21 : decode cX1_pumps 21 = .ok (.aload_n 0, 1) := dk_42 (dk_at dksX1_pumps_0 21 rfl rfl)
theorem dX1_pumps_22 : decode cX1_pumps 22 = .ok (.iload_n 1, 1) := dk_27 (dk_at dksX1_pumps_0 22 rfl rfl)
theorem dX1_pumps_23 : decode cX1_pumps 23 = .ok (.invokevirtual 196, 3) := dk_182 0 196 (dk_at dksX1_pumps_1 0 rfl rfl)
theorem dX1_pumps_26 : decode cX1_pumps 26 = .ok (.ireturn, 1) := dk_172 (dk_at dksX1_pumps_1 3 rfl rfl)
abbrev cX1_isGroaning : ByteArray := prog_19_method_20_code
def yX1_isGroaning : MethodName := ⟨RX1, "isGroaning", "()Z"⟩
def dkwX1_isGroaning_0 : List UInt8 := [42, 180, 0, 82, 16, 40, 164, 0, 7, 4, 167, 0, 4, 3, 172]
abbrev dktX1_isGroaning_0 : List UInt8 := dkwX1_isGroaning_0 ++ []
theorem dksX1_isGroaning_0 : cX1_isGroaning.data.toList.drop 0 = dktX1_isGroaning_0 := by decide +kernel
theorem dX1_isGroaning_0 : decode cX1_isGroaning 0 = .ok (.aload_n 0, 1) := dk_42 (dk_at dksX1_isGroaning_0 0 rfl rfl)
theorem dX1_isGroaning_1 : decode cX1_isGroaning 1 = .ok (.getfield 82, 3) := dk_180 0 82 (dk_at dksX1_isGroaning_0 1 rfl rfl)
theorem dX1_isGroaning_4 : decode cX1_isGroaning 4 = .ok (.bipush 40, 2) := dk_16 40 (dk_at dksX1_isGroaning_0 4 rfl rfl)
theorem dX1_isGroaning_6 : decode cX1_isGroaning 6 = .ok (.if_icmp .le 7, 3) := dk_164 0 7 (dk_at dksX1_isGroaning_0 6 rfl rfl)
theorem dX1_isGroaning_9 : decode cX1_isGroaning 9 = .ok (.iconst 1, 1) := dk_4 (dk_at dksX1_isGroaning_0 9 rfl rfl)
theorem dX1_isGroaning_10 : decode cX1_isGroaning 10 = .ok (.goto 4, 3) := dk_167 0 4 (dk_at dksX1_isGroaning_0 10 rfl rfl)
theorem dX1_isGroaning_13 : decode cX1_isGroaning 13 = .ok (.iconst 0, 1) := dk_3 (dk_at dksX1_isGroaning_0 13 rfl rfl)
theorem dX1_isGroaning_14 : decode cX1_isGroaning 14 = .ok (.ireturn, 1) := dk_172 (dk_at dksX1_isGroaning_0 14 rfl rfl)
abbrev cX1_pumpsOn : ByteArray := prog_19_method_22_code
def yX1_pumpsOn : MethodName := ⟨RX1, "pumpsOn", "(I)I"⟩
def dkwX1_pumpsOn_1 : List UInt8 := [132, 3, 1, 167, 255, 234, 28, 172]
abbrev dktX1_pumpsOn_1 : List UInt8 := dkwX1_pumpsOn_1 ++ []
def dkwX1_pumpsOn_0 : List UInt8 := [3, 61, 3, 62, 29, 27, 162, 0, 23, 42, 182, 0, 190, 154, 0, 16, 28, 42, 182, 0, 193, 96, 61]
abbrev dktX1_pumpsOn_0 : List UInt8 := dkwX1_pumpsOn_0 ++ dktX1_pumpsOn_1
theorem dksX1_pumpsOn_0 : cX1_pumpsOn.data.toList.drop 0 = dktX1_pumpsOn_0 := by decide +kernel
theorem dksX1_pumpsOn_1 : cX1_pumpsOn.data.toList.drop 23 = dktX1_pumpsOn_1 := dk_seg dksX1_pumpsOn_0 23 rfl rfl
theorem dX1_pumpsOn_0 : decode cX1_pumpsOn 0 = .ok (.iconst 0, 1) := dk_3 (dk_at dksX1_pumpsOn_0 0 rfl rfl)
theorem dX1_pumpsOn_1 : decode cX1_pumpsOn 1 = .ok (.istore_n 2, 1) := dk_61 (dk_at dksX1_pumpsOn_0 1 rfl rfl)
theorem dX1_pumpsOn_2 : decode cX1_pumpsOn 2 = .ok (.iconst 0, 1) := dk_3 (dk_at dksX1_pumpsOn_0 2 rfl rfl)
theorem dX1_pumpsOn_3 : decode cX1_pumpsOn 3 = .ok (.istore_n 3, 1) := dk_62 (dk_at dksX1_pumpsOn_0 3 rfl rfl)
theorem dX1_pumpsOn_4 : decode cX1_pumpsOn 4 = .ok (.iload_n 3, 1) := dk_29 (dk_at dksX1_pumpsOn_0 4 rfl rfl)
theorem dX1_pumpsOn_5 : decode cX1_pumpsOn 5 = .ok (.iload_n 1, 1) := dk_27 (dk_at dksX1_pumpsOn_0 5 rfl rfl)
theorem dX1_pumpsOn_6 : decode cX1_pumpsOn 6 = .ok (.if_icmp .ge 23, 3) := dk_162 0 23 (dk_at dksX1_pumpsOn_0 6 rfl rfl)
theorem dX1_pumpsOn_9 : decode cX1_pumpsOn 9 = .ok (.aload_n 0, 1) := dk_42 (dk_at dksX1_pumpsOn_0 9 rfl rfl)
theorem dX1_pumpsOn_10 : decode cX1_pumpsOn 10 = .ok (.invokevirtual 190, 3) := dk_182 0 190 (dk_at dksX1_pumpsOn_0 10 rfl rfl)
theorem dX1_pumpsOn_13 : decode cX1_pumpsOn 13 = .ok (.ifCond .ne 16, 3) := dk_154 0 16 (dk_at dksX1_pumpsOn_0 13 rfl rfl)
theorem dX1_pumpsOn_16 : decode cX1_pumpsOn 16 = .ok (.iload_n 2, 1) := dk_28 (dk_at dksX1_pumpsOn_0 16 rfl rfl)
theorem dX1_pumpsOn_17 : decode cX1_pumpsOn 17 = .ok (.aload_n 0, 1) := dk_42 (dk_at dksX1_pumpsOn_0 17 rfl rfl)
theorem dX1_pumpsOn_18 : decode cX1_pumpsOn 18 = .ok (.invokevirtual 193, 3) := dk_182 0 193 (dk_at dksX1_pumpsOn_0 18 rfl rfl)
theorem dX1_pumpsOn_21 : decode cX1_pumpsOn 21 = .ok (.iadd, 1) := dk_96 (dk_at dksX1_pumpsOn_0 21 rfl rfl)
theorem dX1_pumpsOn_22 : decode cX1_pumpsOn 22 = .ok (.istore_n 2, 1) := dk_61 (dk_at dksX1_pumpsOn_0 22 rfl rfl)
theorem dX1_pumpsOn_23 : decode cX1_pumpsOn 23 = .ok (.iinc 3 1, 3) := dk_132 3 1 (dk_at dksX1_pumpsOn_1 0 rfl rfl)
theorem dX1_pumpsOn_26 : decode cX1_pumpsOn 26 = .ok (.goto (-22), 3) := dk_167 255 234 (dk_at dksX1_pumpsOn_1 3 rfl rfl)
theorem dX1_pumpsOn_29 : decode cX1_pumpsOn 29 = .ok (.iload_n 2, 1) := dk_28 (dk_at dksX1_pumpsOn_1 6 rfl rfl)
theorem dX1_pumpsOn_30 : decode cX1_pumpsOn 30 = .ok (.ireturn, 1) := dk_172 (dk_at dksX1_pumpsOn_1 7 rfl rfl)
abbrev cX1_strokesOnce : ByteArray := prog_19_method_21_code
def yX1_strokesOnce : MethodName := ⟨RX1, "strokesOnce", "()I"⟩
def dkwX1_strokesOnce_4 : List UInt8 := [132, 1, 1, 167, 255, 207, 27, 172]
abbrev dktX1_strokesOnce_4 : List UInt8 := dkwX1_strokesOnce_4 ++ []
def dkwX1_strokesOnce_3 : List UInt8 := [198, 0, 28, 44, 180, 0, 126, 42, 180, 0, 79, 164, 0, 6, 167, 0, 14, 42, 44, 182, 0, 187]
abbrev dktX1_strokesOnce_3 : List UInt8 := dkwX1_strokesOnce_3 ++ dktX1_strokesOnce_4
def dkwX1_strokesOnce_2 : List UInt8 := [27, 42, 180, 0, 22, 42, 180, 0, 76, 46, 162, 0, 42, 42, 42, 180, 0, 76, 3, 182, 0, 183, 77, 44]
abbrev dktX1_strokesOnce_2 : List UInt8 := dkwX1_strokesOnce_2 ++ dktX1_strokesOnce_3
def dkwX1_strokesOnce_1 : List UInt8 := [42, 180, 0, 79, 16, 10, 108, 96, 96, 181, 0, 82, 42, 89, 180, 0, 95, 4, 96, 181, 0, 95, 3, 60]
abbrev dktX1_strokesOnce_1 : List UInt8 := dkwX1_strokesOnce_1 ++ dktX1_strokesOnce_2
def dkwX1_strokesOnce_0 : List UInt8 := [42, 16, 30, 42, 180, 0, 79, 42, 180, 0, 29, 96, 184, 0, 164, 181, 0, 79, 42, 89, 180, 0, 82, 4]
abbrev dktX1_strokesOnce_0 : List UInt8 := dkwX1_strokesOnce_0 ++ dktX1_strokesOnce_1
theorem dksX1_strokesOnce_0 : cX1_strokesOnce.data.toList.drop 0 = dktX1_strokesOnce_0 := by decide +kernel
theorem dksX1_strokesOnce_1 : cX1_strokesOnce.data.toList.drop 24 = dktX1_strokesOnce_1 := dk_seg dksX1_strokesOnce_0 24 rfl rfl
theorem dksX1_strokesOnce_2 : cX1_strokesOnce.data.toList.drop 48 = dktX1_strokesOnce_2 := dk_seg dksX1_strokesOnce_1 24 rfl rfl
theorem dksX1_strokesOnce_3 : cX1_strokesOnce.data.toList.drop 72 = dktX1_strokesOnce_3 := dk_seg dksX1_strokesOnce_2 24 rfl rfl
theorem dksX1_strokesOnce_4 : cX1_strokesOnce.data.toList.drop 94 = dktX1_strokesOnce_4 := dk_seg dksX1_strokesOnce_3 22 rfl rfl
theorem dX1_strokesOnce_0 : decode cX1_strokesOnce 0 = .ok (.aload_n 0, 1) := dk_42 (dk_at dksX1_strokesOnce_0 0 rfl rfl)
theorem dX1_strokesOnce_1 : decode cX1_strokesOnce 1 = .ok (.bipush 30, 2) := dk_16 30 (dk_at dksX1_strokesOnce_0 1 rfl rfl)
theorem dX1_strokesOnce_3 : decode cX1_strokesOnce 3 = .ok (.aload_n 0, 1) := dk_42 (dk_at dksX1_strokesOnce_0 3 rfl rfl)
theorem dX1_strokesOnce_4 : decode cX1_strokesOnce 4 = .ok (.getfield 79, 3) := dk_180 0 79 (dk_at dksX1_strokesOnce_0 4 rfl rfl)
theorem dX1_strokesOnce_7 : decode cX1_strokesOnce 7 = .ok (.aload_n 0, 1) := dk_42 (dk_at dksX1_strokesOnce_0 7 rfl rfl)
theorem dX1_strokesOnce_8 : decode cX1_strokesOnce 8 = .ok (.getfield 29, 3) := dk_180 0 29 (dk_at dksX1_strokesOnce_0 8 rfl rfl)
theorem dX1_strokesOnce_11 : decode cX1_strokesOnce 11 = .ok (.iadd, 1) := dk_96 (dk_at dksX1_strokesOnce_0 11 rfl rfl)
theorem dX1_strokesOnce_12 : decode cX1_strokesOnce 12 = .ok (.invokestatic 164, 3) := dk_184 0 164 (dk_at dksX1_strokesOnce_0 12 rfl rfl)
theorem dX1_strokesOnce_15 : decode cX1_strokesOnce 15 = .ok (.putfield 79, 3) := dk_181 0 79 (dk_at dksX1_strokesOnce_0 15 rfl rfl)
theorem dX1_strokesOnce_18 : decode cX1_strokesOnce 18 = .ok (.aload_n 0, 1) := dk_42 (dk_at dksX1_strokesOnce_0 18 rfl rfl)
theorem dX1_strokesOnce_19 : decode cX1_strokesOnce 19 = .ok (.dup, 1) := dk_89 (dk_at dksX1_strokesOnce_0 19 rfl rfl)
theorem dX1_strokesOnce_20 : decode cX1_strokesOnce 20 = .ok (.getfield 82, 3) := dk_180 0 82 (dk_at dksX1_strokesOnce_0 20 rfl rfl)
theorem dX1_strokesOnce_23 : decode cX1_strokesOnce 23 = .ok (.iconst 1, 1) := dk_4 (dk_at dksX1_strokesOnce_0 23 rfl rfl)
theorem dX1_strokesOnce_24 : decode cX1_strokesOnce 24 = .ok (.aload_n 0, 1) := dk_42 (dk_at dksX1_strokesOnce_1 0 rfl rfl)
theorem dX1_strokesOnce_25 : decode cX1_strokesOnce 25 = .ok (.getfield 79, 3) := dk_180 0 79 (dk_at dksX1_strokesOnce_1 1 rfl rfl)
theorem dX1_strokesOnce_28 : decode cX1_strokesOnce 28 = .ok (.bipush 10, 2) := dk_16 10 (dk_at dksX1_strokesOnce_1 4 rfl rfl)
theorem dX1_strokesOnce_30 : decode cX1_strokesOnce 30 = .ok (.idiv, 1) := dk_108 (dk_at dksX1_strokesOnce_1 6 rfl rfl)
theorem dX1_strokesOnce_31 : decode cX1_strokesOnce 31 = .ok (.iadd, 1) := dk_96 (dk_at dksX1_strokesOnce_1 7 rfl rfl)
theorem dX1_strokesOnce_32 : decode cX1_strokesOnce 32 = .ok (.iadd, 1) := dk_96 (dk_at dksX1_strokesOnce_1 8 rfl rfl)
theorem dX1_strokesOnce_33 : decode cX1_strokesOnce 33 = .ok (.putfield 82, 3) := dk_181 0 82 (dk_at dksX1_strokesOnce_1 9 rfl rfl)
theorem dX1_strokesOnce_36 : decode cX1_strokesOnce 36 = .ok (.aload_n 0, 1) := dk_42 (dk_at dksX1_strokesOnce_1 12 rfl rfl)
theorem dX1_strokesOnce_37 : decode cX1_strokesOnce 37 = .ok (.dup, 1) := dk_89 (dk_at dksX1_strokesOnce_1 13 rfl rfl)
theorem dX1_strokesOnce_38 : decode cX1_strokesOnce 38 = .ok (.getfield 95, 3) := dk_180 0 95 (dk_at dksX1_strokesOnce_1 14 rfl rfl)
theorem dX1_strokesOnce_41 : decode cX1_strokesOnce 41 = .ok (.iconst 1, 1) := dk_4 (dk_at dksX1_strokesOnce_1 17 rfl rfl)
theorem dX1_strokesOnce_42 : decode cX1_strokesOnce 42 = .ok (.iadd, 1) := dk_96 (dk_at dksX1_strokesOnce_1 18 rfl rfl)
theorem dX1_strokesOnce_43 : decode cX1_strokesOnce 43 = .ok (.putfield 95, 3) := dk_181 0 95 (dk_at dksX1_strokesOnce_1 19 rfl rfl)
theorem dX1_strokesOnce_46 : decode cX1_strokesOnce 46 = .ok (.iconst 0, 1) := dk_3 (dk_at dksX1_strokesOnce_1 22 rfl rfl)
theorem dX1_strokesOnce_47 : decode cX1_strokesOnce 47 = .ok (.istore_n 1, 1) := dk_60 (dk_at dksX1_strokesOnce_1 23 rfl rfl)
theorem dX1_strokesOnce_48 : decode cX1_strokesOnce 48 = .ok (.iload_n 1, 1) := dk_27 (dk_at dksX1_strokesOnce_2 0 rfl rfl)
theorem dX1_strokesOnce_49 : decode cX1_strokesOnce 49 = .ok (.aload_n 0, 1) := dk_42 (dk_at dksX1_strokesOnce_2 1 rfl rfl)
theorem dX1_strokesOnce_50 : decode cX1_strokesOnce 50 = .ok (.getfield 22, 3) := dk_180 0 22 (dk_at dksX1_strokesOnce_2 2 rfl rfl)
theorem dX1_strokesOnce_53 : decode cX1_strokesOnce 53 = .ok (.aload_n 0, 1) := dk_42 (dk_at dksX1_strokesOnce_2 5 rfl rfl)
theorem dX1_strokesOnce_54 : decode cX1_strokesOnce 54 = .ok (.getfield 76, 3) := dk_180 0 76 (dk_at dksX1_strokesOnce_2 6 rfl rfl)
theorem dX1_strokesOnce_57 : decode cX1_strokesOnce 57 = .ok (.iaload, 1) := dk_46 (dk_at dksX1_strokesOnce_2 9 rfl rfl)
theorem dX1_strokesOnce_58 : decode cX1_strokesOnce 58 = .ok (.if_icmp .ge 42, 3) := dk_162 0 42 (dk_at dksX1_strokesOnce_2 10 rfl rfl)
theorem dX1_strokesOnce_61 : decode cX1_strokesOnce 61 = .ok (.aload_n 0, 1) := dk_42 (dk_at dksX1_strokesOnce_2 13 rfl rfl)
theorem dX1_strokesOnce_62 : decode cX1_strokesOnce 62 = .ok (.aload_n 0, 1) := dk_42 (dk_at dksX1_strokesOnce_2 14 rfl rfl)
theorem dX1_strokesOnce_63 : decode cX1_strokesOnce 63 = .ok (.getfield 76, 3) := dk_180 0 76 (dk_at dksX1_strokesOnce_2 15 rfl rfl)
theorem dX1_strokesOnce_66 : decode cX1_strokesOnce 66 = .ok (.iconst 0, 1) := dk_3 (dk_at dksX1_strokesOnce_2 18 rfl rfl)
theorem dX1_strokesOnce_67 : decode cX1_strokesOnce 67 = .ok (.invokevirtual 183, 3) := dk_182 0 183 (dk_at dksX1_strokesOnce_2 19 rfl rfl)
theorem dX1_strokesOnce_70 : decode cX1_strokesOnce 70 = .ok (.astore_n 2, 1) := dk_77 (dk_at dksX1_strokesOnce_2 22 rfl rfl)
theorem dX1_strokesOnce_71 : decode cX1_strokesOnce 71 = .ok (.aload_n 2, 1) := dk_44 (dk_at dksX1_strokesOnce_2 23 rfl rfl)
theorem dX1_strokesOnce_72 : decode cX1_strokesOnce 72 = .ok (.ifnull 28, 3) := dk_198 0 28 (dk_at dksX1_strokesOnce_3 0 rfl rfl)
theorem dX1_strokesOnce_75 : decode cX1_strokesOnce 75 = .ok (.aload_n 2, 1) := dk_44 (dk_at dksX1_strokesOnce_3 3 rfl rfl)
theorem dX1_strokesOnce_76 : decode cX1_strokesOnce 76 = .ok (.getfield 126, 3) := dk_180 0 126 (dk_at dksX1_strokesOnce_3 4 rfl rfl)
theorem dX1_strokesOnce_79 : decode cX1_strokesOnce 79 = .ok (.aload_n 0, 1) := dk_42 (dk_at dksX1_strokesOnce_3 7 rfl rfl)
theorem dX1_strokesOnce_80 : decode cX1_strokesOnce 80 = .ok (.getfield 79, 3) := dk_180 0 79 (dk_at dksX1_strokesOnce_3 8 rfl rfl)
theorem dX1_strokesOnce_83 : decode cX1_strokesOnce 83 = .ok (.if_icmp .le 6, 3) := dk_164 0 6 (dk_at dksX1_strokesOnce_3 11 rfl rfl)
theorem dX1_strokesOnce_86 : decode cX1_strokesOnce 86 = .ok (.goto 14, 3) := dk_167 0 14 (dk_at dksX1_strokesOnce_3 14 rfl rfl)
theorem dX1_strokesOnce_89 : decode cX1_strokesOnce 89 = .ok (.aload_n 0, 1) := dk_42 (dk_at dksX1_strokesOnce_3 17 rfl rfl)
theorem dX1_strokesOnce_90 : decode cX1_strokesOnce 90 = .ok (.aload_n 2, 1) := dk_44 (dk_at dksX1_strokesOnce_3 18 rfl rfl)
theorem dX1_strokesOnce_91 : decode cX1_strokesOnce 91 = .ok (.invokevirtual 187, 3) := dk_182 0 187 (dk_at dksX1_strokesOnce_3 19 rfl rfl)
theorem dX1_strokesOnce_94 : decode cX1_strokesOnce 94 = .ok (.iinc 1 1, 3) := dk_132 1 1 (dk_at dksX1_strokesOnce_4 0 rfl rfl)
theorem dX1_strokesOnce_97 : decode cX1_strokesOnce 97 = .ok (.goto (-49), 3) := dk_167 255 207 (dk_at dksX1_strokesOnce_4 3 rfl rfl)
theorem dX1_strokesOnce_100 : decode cX1_strokesOnce 100 = .ok (.iload_n 1, 1) := dk_27 (dk_at dksX1_strokesOnce_4 6 rfl rfl)
theorem dX1_strokesOnce_101 : decode cX1_strokesOnce 101 = .ok (.ireturn, 1) := dk_172 (dk_at dksX1_strokesOnce_4 7 rfl rfl)
abbrev cX1_at : ByteArray := prog_19_method_6_code
def yX1_at : MethodName := ⟨RX1, "at", "(II)LJokePump$Joke;"⟩
def dkwX1_at_2 : List UInt8 := [167, 255, 223, 1, 176]
abbrev dktX1_at_2 : List UInt8 := dkwX1_at_2 ++ []
def dkwX1_at_1 : List UInt8 := [25, 4, 185, 0, 52, 1, 0, 192, 0, 56, 58, 5, 29, 28, 160, 0, 6, 25, 5, 176, 132, 3, 1]
abbrev dktX1_at_1 : List UInt8 := dkwX1_at_1 ++ dktX1_at_2
def dkwX1_at_0 : List UInt8 := [3, 62, 42, 27, 182, 0, 119, 185, 0, 123, 1, 0, 58, 4, 25, 4, 185, 0, 46, 1, 0, 153, 0, 29]
abbrev dktX1_at_0 : List UInt8 := dkwX1_at_0 ++ dktX1_at_1
theorem dksX1_at_0 : cX1_at.data.toList.drop 0 = dktX1_at_0 := by decide +kernel
theorem dksX1_at_1 : cX1_at.data.toList.drop 24 = dktX1_at_1 := dk_seg dksX1_at_0 24 rfl rfl
theorem dksX1_at_2 : cX1_at.data.toList.drop 47 = dktX1_at_2 := dk_seg dksX1_at_1 23 rfl rfl
theorem dX1_at_0 : decode cX1_at 0 = .ok (.iconst 0, 1) := dk_3 (dk_at dksX1_at_0 0 rfl rfl)
theorem dX1_at_1 : decode cX1_at 1 = .ok (.istore_n 3, 1) := dk_62 (dk_at dksX1_at_0 1 rfl rfl)
theorem dX1_at_2 : decode cX1_at 2 = .ok (.aload_n 0, 1) := dk_42 (dk_at dksX1_at_0 2 rfl rfl)
theorem dX1_at_3 : decode cX1_at 3 = .ok (.iload_n 1, 1) := dk_27 (dk_at dksX1_at_0 3 rfl rfl)
theorem dX1_at_4 : decode cX1_at 4 = .ok (.invokevirtual 119, 3) := dk_182 0 119 (dk_at dksX1_at_0 4 rfl rfl)
theorem dX1_at_7 : decode cX1_at 7 = .ok (.invokeinterface 123 1, 5) := by decide +kernel
theorem dX1_at_12 : decode cX1_at 12 = .ok (.astore 4, 2) := dk_58 4 (dk_at dksX1_at_0 12 rfl rfl)
theorem dX1_at_14 : decode cX1_at 14 = .ok (.aload 4, 2) := dk_25 4 (dk_at dksX1_at_0 14 rfl rfl)
theorem dX1_at_16 : decode cX1_at 16 = .ok (.invokeinterface 46 1, 5) := by decide +kernel
theorem dX1_at_21 : decode cX1_at 21 = .ok (.ifCond .eq 29, 3) := dk_153 0 29 (dk_at dksX1_at_0 21 rfl rfl)
theorem dX1_at_24 : decode cX1_at 24 = .ok (.aload 4, 2) := dk_25 4 (dk_at dksX1_at_1 0 rfl rfl)
theorem dX1_at_26 : decode cX1_at 26 = .ok (.invokeinterface 52 1, 5) := by decide +kernel
theorem dX1_at_31 : decode cX1_at 31 = .ok (.checkcast 56, 3) := dk_192 0 56 (dk_at dksX1_at_1 7 rfl rfl)
theorem dX1_at_34 : decode cX1_at 34 = .ok (.astore 5, 2) := dk_58 5 (dk_at dksX1_at_1 10 rfl rfl)
theorem dX1_at_36 : decode cX1_at 36 = .ok (.iload_n 3, 1) := dk_29 (dk_at dksX1_at_1 12 rfl rfl)
theorem dX1_at_37 : decode cX1_at 37 = .ok (.iload_n 2, 1) := dk_28 (dk_at dksX1_at_1 13 rfl rfl)
theorem dX1_at_38 : decode cX1_at 38 = .ok (.if_icmp .ne 6, 3) := dk_160 0 6 (dk_at dksX1_at_1 14 rfl rfl)
theorem dX1_at_41 : decode cX1_at 41 = .ok (.aload 5, 2) := dk_25 5 (dk_at dksX1_at_1 17 rfl rfl)
theorem dX1_at_43 : decode cX1_at 43 = .ok (.areturn, 1) := dk_176 (dk_at dksX1_at_1 19 rfl rfl)
theorem dX1_at_44 : decode cX1_at 44 = .ok (.iinc 3 1, 3) := dk_132 3 1 (dk_at dksX1_at_1 20 rfl rfl)
theorem dX1_at_47 : decode cX1_at 47 = .ok (.goto (-33), 3) := dk_167 255 223 (dk_at dksX1_at_2 0 rfl rfl)
theorem dX1_at_50 : decode cX1_at 50 = .ok (.aconst_null, 1) := dk_1 (dk_at dksX1_at_2 3 rfl rfl)
theorem dX1_at_51 : decode cX1_at 51 = .ok (.areturn, 1) := dk_176 (dk_at dksX1_at_2 4 rfl rfl)
abbrev cX1_down : ByteArray := prog_19_method_4_code
def yX1_down : MethodName := ⟨RX1, "down", "(I)Ljava/lang/Iterable;"⟩
def dkwX1_down_0 : List UInt8 := [187, 0, 109, 89, 42, 27, 183, 0, 111, 176]
abbrev dktX1_down_0 : List UInt8 := dkwX1_down_0 ++ []
theorem dksX1_down_0 : cX1_down.data.toList.drop 0 = dktX1_down_0 := by decide +kernel
theorem dX1_down_0 : decode cX1_down 0 = .ok (.new 109, 3) := dk_187 0 109 (dk_at dksX1_down_0 0 rfl rfl)
theorem dX1_down_3 : decode cX1_down 3 = .ok (.dup, 1) := dk_89 (dk_at dksX1_down_0 3 rfl rfl)
theorem dX1_down_4 : decode cX1_down 4 = .ok (.aload_n 0, 1) := dk_42 (dk_at dksX1_down_0 4 rfl rfl)
theorem dX1_down_5 : decode cX1_down 5 = .ok (.iload_n 1, 1) := dk_27 (dk_at dksX1_down_0 5 rfl rfl)
theorem dX1_down_6 : decode cX1_down 6 = .ok (.invokespecial 111, 3) := dk_183 0 111 (dk_at dksX1_down_0 6 rfl rfl)
theorem dX1_down_9 : decode cX1_down 9 = .ok (.areturn, 1) := dk_176 (dk_at dksX1_down_0 9 rfl rfl)
abbrev cX1_lifts : ByteArray := prog_19_method_19_code
def yX1_lifts : MethodName := ⟨RX1, "lifts", "(LJokePump$Joke;)V"⟩
def dkwX1_lifts_2 : List UInt8 := [180, 0, 76, 92, 46, 4, 96, 79, 42, 43, 182, 0, 161, 177]
abbrev dktX1_lifts_2 : List UInt8 := dkwX1_lifts_2 ++ []
def dkwX1_lifts_1 : List UInt8 := [44, 182, 0, 179, 98, 181, 0, 85, 42, 180, 0, 18, 43, 180, 0, 133, 4, 84, 42, 180, 0, 26, 42]
abbrev dktX1_lifts_1 : List UInt8 := dkwX1_lifts_1 ++ dktX1_lifts_2
def dkwX1_lifts_0 : List UInt8 := [187, 0, 36, 89, 43, 42, 180, 0, 82, 183, 0, 172, 77, 42, 44, 182, 0, 175, 62, 42, 89, 180, 0, 85]
abbrev dktX1_lifts_0 : List UInt8 := dkwX1_lifts_0 ++ dktX1_lifts_1
theorem dksX1_lifts_0 : cX1_lifts.data.toList.drop 0 = dktX1_lifts_0 := by decide +kernel
theorem dksX1_lifts_1 : cX1_lifts.data.toList.drop 24 = dktX1_lifts_1 := dk_seg dksX1_lifts_0 24 rfl rfl
theorem dksX1_lifts_2 : cX1_lifts.data.toList.drop 47 = dktX1_lifts_2 := dk_seg dksX1_lifts_1 23 rfl rfl
theorem dX1_lifts_0 : decode cX1_lifts 0 = .ok (.new 36, 3) := dk_187 0 36 (dk_at dksX1_lifts_0 0 rfl rfl)
theorem dX1_lifts_3 : decode cX1_lifts 3 = .ok (.dup, 1) := dk_89 (dk_at dksX1_lifts_0 3 rfl rfl)
theorem dX1_lifts_4 : decode cX1_lifts 4 = .ok (.aload_n 1, 1) := dk_43 (dk_at dksX1_lifts_0 4 rfl rfl)
theorem dX1_lifts_5 : decode cX1_lifts 5 = .ok (.aload_n 0, 1) := dk_42 (dk_at dksX1_lifts_0 5 rfl rfl)
theorem dX1_lifts_6 : decode cX1_lifts 6 = .ok (.getfield 82, 3) := dk_180 0 82 (dk_at dksX1_lifts_0 6 rfl rfl)
theorem dX1_lifts_9 : decode cX1_lifts 9 = .ok (.invokespecial 172, 3) := dk_183 0 172 (dk_at dksX1_lifts_0 9 rfl rfl)
theorem dX1_lifts_12 : decode cX1_lifts 12 = .ok (.astore_n 2, 1) := dk_77 (dk_at dksX1_lifts_0 12 rfl rfl)
theorem dX1_lifts_13 : decode cX1_lifts 13 = .ok (.aload_n 0, 1) := dk_42 (dk_at dksX1_lifts_0 13 rfl rfl)
theorem dX1_lifts_14 : decode cX1_lifts 14 = .ok (.aload_n 2, 1) := dk_44 (dk_at dksX1_lifts_0 14 rfl rfl)
theorem dX1_lifts_15 : decode cX1_lifts 15 = .ok (.invokevirtual 175, 3) := dk_182 0 175 (dk_at dksX1_lifts_0 15 rfl rfl)
theorem dX1_lifts_18 : decode cX1_lifts 18 = .ok (.istore_n 3, 1) := dk_62 (dk_at dksX1_lifts_0 18 rfl rfl)
theorem dX1_lifts_19 : decode cX1_lifts 19 = .ok (.aload_n 0, 1) := dk_42 (dk_at dksX1_lifts_0 19 rfl rfl)
theorem dX1_lifts_20 : decode cX1_lifts 20 = .ok (.dup, 1) := dk_89 (dk_at dksX1_lifts_0 20 rfl rfl)
theorem dX1_lifts_21 : decode cX1_lifts 21 = .ok (.getfield 85, 3) := dk_180 0 85 (dk_at dksX1_lifts_0 21 rfl rfl)
theorem dX1_lifts_24 : decode cX1_lifts 24 = .ok (.aload_n 2, 1) := dk_44 (dk_at dksX1_lifts_1 0 rfl rfl)
theorem dX1_lifts_25 : decode cX1_lifts 25 = .ok (.invokevirtual 179, 3) := dk_182 0 179 (dk_at dksX1_lifts_1 1 rfl rfl)
theorem dX1_lifts_28 : decode cX1_lifts 28 = .ok (.fadd, 1) := dk_98 (dk_at dksX1_lifts_1 4 rfl rfl)
theorem dX1_lifts_29 : decode cX1_lifts 29 = .ok (.putfield 85, 3) := dk_181 0 85 (dk_at dksX1_lifts_1 5 rfl rfl)
theorem dX1_lifts_32 : decode cX1_lifts 32 = .ok (.aload_n 0, 1) := dk_42 (dk_at dksX1_lifts_1 8 rfl rfl)
theorem dX1_lifts_33 : decode cX1_lifts 33 = .ok (.getfield 18, 3) := dk_180 0 18 (dk_at dksX1_lifts_1 9 rfl rfl)
theorem dX1_lifts_36 : decode cX1_lifts 36 = .ok (.aload_n 1, 1) := dk_43 (dk_at dksX1_lifts_1 12 rfl rfl)
theorem dX1_lifts_37 : decode cX1_lifts 37 = .ok (.getfield 133, 3) := dk_180 0 133 (dk_at dksX1_lifts_1 13 rfl rfl)
theorem dX1_lifts_40 : decode cX1_lifts 40 = .ok (.iconst 1, 1) := dk_4 (dk_at dksX1_lifts_1 16 rfl rfl)
theorem dX1_lifts_41 : decode cX1_lifts 41 = .ok (.bastore, 1) := dk_84 (dk_at dksX1_lifts_1 17 rfl rfl)
theorem dX1_lifts_42 : decode cX1_lifts 42 = .ok (.aload_n 0, 1) := dk_42 (dk_at dksX1_lifts_1 18 rfl rfl)
theorem dX1_lifts_43 : decode cX1_lifts 43 = .ok (.getfield 26, 3) := dk_180 0 26 (dk_at dksX1_lifts_1 19 rfl rfl)
theorem dX1_lifts_46 : decode cX1_lifts 46 = .ok (.aload_n 0, 1) := dk_42 (dk_at dksX1_lifts_1 22 rfl rfl)
theorem dX1_lifts_47 : decode cX1_lifts 47 = .ok (.getfield 76, 3) := dk_180 0 76 (dk_at dksX1_lifts_2 0 rfl rfl)
theorem dX1_lifts_50 : decode cX1_lifts 50 = .ok (.dup2, 1) := dk_92 (dk_at dksX1_lifts_2 3 rfl rfl)
theorem dX1_lifts_51 : decode cX1_lifts 51 = .ok (.iaload, 1) := dk_46 (dk_at dksX1_lifts_2 4 rfl rfl)
theorem dX1_lifts_52 : decode cX1_lifts 52 = .ok (.iconst 1, 1) := dk_4 (dk_at dksX1_lifts_2 5 rfl rfl)
theorem dX1_lifts_53 : decode cX1_lifts 53 = .ok (.iadd, 1) := dk_96 (dk_at dksX1_lifts_2 6 rfl rfl)
theorem dX1_lifts_54 : decode cX1_lifts 54 = .ok (.iastore, 1) := dk_79 (dk_at dksX1_lifts_2 7 rfl rfl)
theorem dX1_lifts_55 : decode cX1_lifts 55 = .ok (.aload_n 0, 1) := dk_42 (dk_at dksX1_lifts_2 8 rfl rfl)
theorem dX1_lifts_56 : decode cX1_lifts 56 = .ok (.aload_n 1, 1) := dk_43 (dk_at dksX1_lifts_2 9 rfl rfl)
theorem dX1_lifts_57 : decode cX1_lifts 57 = .ok (.invokevirtual 161, 3) := dk_182 0 161 (dk_at dksX1_lifts_2 10 rfl rfl)
theorem dX1_lifts_60 : decode cX1_lifts 60 = .ok (.return_, 1) := dk_177 (dk_at dksX1_lifts_2 13 rfl rfl)
abbrev cX1_remembers : ByteArray := prog_19_method_18_code
def yX1_remembers : MethodName := ⟨RX1, "remembers", "(LJokePump$Told;)Z"⟩
def dkwX1_remembers_1 : List UInt8 := [172]
abbrev dktX1_remembers_1 : List UInt8 := dkwX1_remembers_1 ++ []
def dkwX1_remembers_0 : List UInt8 := [42, 180, 0, 38, 42, 180, 0, 73, 43, 83, 42, 89, 180, 0, 73, 4, 96, 181, 0, 73, 4, 172, 77, 3]
abbrev dktX1_remembers_0 : List UInt8 := dkwX1_remembers_0 ++ dktX1_remembers_1
theorem dksX1_remembers_0 : cX1_remembers.data.toList.drop 0 = dktX1_remembers_0 := by decide +kernel
theorem dksX1_remembers_1 : cX1_remembers.data.toList.drop 24 = dktX1_remembers_1 := dk_seg dksX1_remembers_0 24 rfl rfl
theorem dX1_remembers_0 : decode cX1_remembers 0 = .ok (.aload_n 0, 1) := dk_42 (dk_at dksX1_remembers_0 0 rfl rfl)
theorem dX1_remembers_1 : decode cX1_remembers 1 = .ok (.getfield 38, 3) := dk_180 0 38 (dk_at dksX1_remembers_0 1 rfl rfl)
theorem dX1_remembers_4 : decode cX1_remembers 4 = .ok (.aload_n 0, 1) := dk_42 (dk_at dksX1_remembers_0 4 rfl rfl)
theorem dX1_remembers_5 : decode cX1_remembers 5 = .ok (.getfield 73, 3) := dk_180 0 73 (dk_at dksX1_remembers_0 5 rfl rfl)
theorem dX1_remembers_8 : decode cX1_remembers 8 = .ok (.aload_n 1, 1) := dk_43 (dk_at dksX1_remembers_0 8 rfl rfl)
theorem dX1_remembers_9 : decode cX1_remembers 9 = .ok (.aastore, 1) := dk_83 (dk_at dksX1_remembers_0 9 rfl rfl)
theorem dX1_remembers_10 : decode cX1_remembers 10 = .ok (.aload_n 0, 1) := dk_42 (dk_at dksX1_remembers_0 10 rfl rfl)
theorem dX1_remembers_11 : decode cX1_remembers 11 = .ok (.dup, 1) := dk_89 (dk_at dksX1_remembers_0 11 rfl rfl)
theorem dX1_remembers_12 : decode cX1_remembers 12 = .ok (.getfield 73, 3) := dk_180 0 73 (dk_at dksX1_remembers_0 12 rfl rfl)
theorem dX1_remembers_15 : decode cX1_remembers 15 = .ok (.iconst 1, 1) := dk_4 (dk_at dksX1_remembers_0 15 rfl rfl)
theorem dX1_remembers_16 : decode cX1_remembers 16 = .ok (.iadd, 1) := dk_96 (dk_at dksX1_remembers_0 16 rfl rfl)
theorem dX1_remembers_17 : decode cX1_remembers 17 = .ok (.putfield 73, 3) := dk_181 0 73 (dk_at dksX1_remembers_0 17 rfl rfl)
theorem dX1_remembers_20 : decode cX1_remembers 20 = .ok (.iconst 1, 1) := dk_4 (dk_at dksX1_remembers_0 20 rfl rfl)
theorem dX1_remembers_21 : decode cX1_remembers 21 = .ok (.ireturn, 1) := dk_172 (dk_at dksX1_remembers_0 21 rfl rfl)
theorem dX1_remembers_22 : decode cX1_remembers 22 = .ok (.astore_n 2, 1) := dk_77 (dk_at dksX1_remembers_0 22 rfl rfl)
theorem dX1_remembers_23 : decode cX1_remembers 23 = .ok (.iconst 0, 1) := dk_3 (dk_at dksX1_remembers_0 23 rfl rfl)
theorem dX1_remembers_24 : decode cX1_remembers 24 = .ok (.ireturn, 1) := dk_172 (dk_at dksX1_remembers_1 0 rfl rfl)
abbrev cX1_lessDeep : ByteArray := prog_19_method_7_code
def yX1_lessDeep : MethodName := ⟨RX1, "lessDeep", "(LJokePump$Joke;)I"⟩
def dkwX1_lessDeep_3 : List UInt8 := [167, 255, 201, 28, 172]
abbrev dktX1_lessDeep_3 : List UInt8 := dkwX1_lessDeep_3 ++ []
def dkwX1_lessDeep_2 : List UInt8 := [25, 4, 180, 0, 126, 43, 180, 0, 126, 162, 0, 7, 4, 167, 0, 4, 3, 184, 0, 115, 96, 61]
abbrev dktX1_lessDeep_2 : List UInt8 := dkwX1_lessDeep_2 ++ dktX1_lessDeep_3
def dkwX1_lessDeep_1 : List UInt8 := [185, 0, 52, 1, 0, 192, 0, 56, 58, 4, 28, 25, 4, 180, 0, 114, 43, 180, 0, 114, 160, 0, 19]
abbrev dktX1_lessDeep_1 : List UInt8 := dkwX1_lessDeep_1 ++ dktX1_lessDeep_2
def dkwX1_lessDeep_0 : List UInt8 := [3, 61, 42, 180, 0, 12, 182, 0, 42, 78, 45, 185, 0, 46, 1, 0, 153, 0, 52, 45]
abbrev dktX1_lessDeep_0 : List UInt8 := dkwX1_lessDeep_0 ++ dktX1_lessDeep_1
theorem dksX1_lessDeep_0 : cX1_lessDeep.data.toList.drop 0 = dktX1_lessDeep_0 := by decide +kernel
theorem dksX1_lessDeep_1 : cX1_lessDeep.data.toList.drop 20 = dktX1_lessDeep_1 := dk_seg dksX1_lessDeep_0 20 rfl rfl
theorem dksX1_lessDeep_2 : cX1_lessDeep.data.toList.drop 43 = dktX1_lessDeep_2 := dk_seg dksX1_lessDeep_1 23 rfl rfl
theorem dksX1_lessDeep_3 : cX1_lessDeep.data.toList.drop 65 = dktX1_lessDeep_3 := dk_seg dksX1_lessDeep_2 22 rfl rfl
theorem dX1_lessDeep_0 : decode cX1_lessDeep 0 = .ok (.iconst 0, 1) := dk_3 (dk_at dksX1_lessDeep_0 0 rfl rfl)
theorem dX1_lessDeep_1 : decode cX1_lessDeep 1 = .ok (.istore_n 2, 1) := dk_61 (dk_at dksX1_lessDeep_0 1 rfl rfl)
theorem dX1_lessDeep_2 : decode cX1_lessDeep 2 = .ok (.aload_n 0, 1) := dk_42 (dk_at dksX1_lessDeep_0 2 rfl rfl)
theorem dX1_lessDeep_3 : decode cX1_lessDeep 3 = .ok (.getfield 12, 3) := dk_180 0 12 (dk_at dksX1_lessDeep_0 3 rfl rfl)
theorem dX1_lessDeep_6 : decode cX1_lessDeep 6 = .ok (.invokevirtual 42, 3) := dk_182 0 42 (dk_at dksX1_lessDeep_0 6 rfl rfl)
theorem dX1_lessDeep_9 : decode cX1_lessDeep 9 = .ok (.astore_n 3, 1) := dk_78 (dk_at dksX1_lessDeep_0 9 rfl rfl)
theorem dX1_lessDeep_10 : decode cX1_lessDeep 10 = .ok (.aload_n 3, 1) := dk_45 (dk_at dksX1_lessDeep_0 10 rfl rfl)
theorem dX1_lessDeep_11 : decode cX1_lessDeep 11 = .ok (.invokeinterface 46 1, 5) := by decide +kernel
theorem dX1_lessDeep_16 : decode cX1_lessDeep 16 = .ok (.ifCond .eq 52, 3) := dk_153 0 52 (dk_at dksX1_lessDeep_0 16 rfl rfl)
theorem dX1_lessDeep_19 : decode cX1_lessDeep 19 = .ok (.aload_n 3, 1) := dk_45 (dk_at dksX1_lessDeep_0 19 rfl rfl)
theorem dX1_lessDeep_20 : decode cX1_lessDeep 20 = .ok (.invokeinterface 52 1, 5) := by decide +kernel
theorem dX1_lessDeep_25 : decode cX1_lessDeep 25 = .ok (.checkcast 56, 3) := dk_192 0 56 (dk_at dksX1_lessDeep_1 5 rfl rfl)
theorem dX1_lessDeep_28 : decode cX1_lessDeep 28 = .ok (.astore 4, 2) := dk_58 4 (dk_at dksX1_lessDeep_1 8 rfl rfl)
theorem dX1_lessDeep_30 : decode cX1_lessDeep 30 = .ok (.iload_n 2, 1) := dk_28 (dk_at dksX1_lessDeep_1 10 rfl rfl)
theorem dX1_lessDeep_31 : decode cX1_lessDeep 31 = .ok (.aload 4, 2) := dk_25 4 (dk_at dksX1_lessDeep_1 11 rfl rfl)
theorem dX1_lessDeep_33 : decode cX1_lessDeep 33 = .ok (.getfield 114, 3) := dk_180 0 114 (dk_at dksX1_lessDeep_1 13 rfl rfl)
theorem dX1_lessDeep_36 : decode cX1_lessDeep 36 = .ok (.aload_n 1, 1) := dk_43 (dk_at dksX1_lessDeep_1 16 rfl rfl)
theorem dX1_lessDeep_37 : decode cX1_lessDeep 37 = .ok (.getfield 114, 3) := dk_180 0 114 (dk_at dksX1_lessDeep_1 17 rfl rfl)
theorem dX1_lessDeep_40 : decode cX1_lessDeep 40 = .ok (.if_icmp .ne 19, 3) := dk_160 0 19 (dk_at dksX1_lessDeep_1 20 rfl rfl)
theorem dX1_lessDeep_43 : decode cX1_lessDeep 43 = .ok (.aload 4, 2) := dk_25 4 (dk_at dksX1_lessDeep_2 0 rfl rfl)
theorem dX1_lessDeep_45 : decode cX1_lessDeep 45 = .ok (.getfield 126, 3) := dk_180 0 126 (dk_at dksX1_lessDeep_2 2 rfl rfl)
theorem dX1_lessDeep_48 : decode cX1_lessDeep 48 = .ok (.aload_n 1, 1) := dk_43 (dk_at dksX1_lessDeep_2 5 rfl rfl)
theorem dX1_lessDeep_49 : decode cX1_lessDeep 49 = .ok (.getfield 126, 3) := dk_180 0 126 (dk_at dksX1_lessDeep_2 6 rfl rfl)
theorem dX1_lessDeep_52 : decode cX1_lessDeep 52 = .ok (.if_icmp .ge 7, 3) := dk_162 0 7 (dk_at dksX1_lessDeep_2 9 rfl rfl)
theorem dX1_lessDeep_55 : decode cX1_lessDeep 55 = .ok (.iconst 1, 1) := dk_4 (dk_at dksX1_lessDeep_2 12 rfl rfl)
theorem dX1_lessDeep_56 : decode cX1_lessDeep 56 = .ok (.goto 4, 3) := dk_167 0 4 (dk_at dksX1_lessDeep_2 13 rfl rfl)
theorem dX1_lessDeep_59 : decode cX1_lessDeep 59 = .ok (.iconst 0, 1) := dk_3 (dk_at dksX1_lessDeep_2 16 rfl rfl)
theorem dX1_lessDeep_60 : decode cX1_lessDeep 60 = .ok (.invokestatic 115, 3) := dk_184 0 115 (dk_at dksX1_lessDeep_2 17 rfl rfl)
theorem dX1_lessDeep_63 : decode cX1_lessDeep 63 = .ok (.iadd, 1) := dk_96 (dk_at dksX1_lessDeep_2 20 rfl rfl)
theorem dX1_lessDeep_64 : decode cX1_lessDeep 64 = .ok (.istore_n 2, 1) := dk_61 (dk_at dksX1_lessDeep_2 21 rfl rfl)
theorem dX1_lessDeep_65 : decode cX1_lessDeep 65 = .ok (.goto (-55), 3) := dk_167 255 201 (dk_at dksX1_lessDeep_3 0 rfl rfl)
theorem dX1_lessDeep_68 : decode cX1_lessDeep 68 = .ok (.iload_n 2, 1) := dk_28 (dk_at dksX1_lessDeep_3 3 rfl rfl)
theorem dX1_lessDeep_69 : decode cX1_lessDeep 69 = .ok (.ireturn, 1) := dk_172 (dk_at dksX1_lessDeep_3 4 rfl rfl)
abbrev cX1_laughsAgain : ByteArray := prog_19_method_28_code
def yX1_laughsAgain : MethodName := ⟨RX1, "laughsAgain", "()F"⟩
def dkwX1_laughsAgain_1 : List UInt8 := [132, 2, 1, 167, 255, 233, 35, 174]
abbrev dktX1_laughsAgain_1 : List UInt8 := dkwX1_laughsAgain_1 ++ []
def dkwX1_laughsAgain_0 : List UInt8 := [11, 68, 3, 61, 28, 42, 180, 0, 73, 162, 0, 21, 35, 42, 180, 0, 38, 28, 50, 182, 0, 205, 98, 68]
abbrev dktX1_laughsAgain_0 : List UInt8 := dkwX1_laughsAgain_0 ++ dktX1_laughsAgain_1
theorem dksX1_laughsAgain_0 : cX1_laughsAgain.data.toList.drop 0 = dktX1_laughsAgain_0 := by decide +kernel
theorem dksX1_laughsAgain_1 : cX1_laughsAgain.data.toList.drop 24 = dktX1_laughsAgain_1 := dk_seg dksX1_laughsAgain_0 24 rfl rfl
theorem dX1_laughsAgain_0 : decode cX1_laughsAgain 0 = .ok (.fconst 0, 1) := dk_11 (dk_at dksX1_laughsAgain_0 0 rfl rfl)
theorem dX1_laughsAgain_1 : decode cX1_laughsAgain 1 = .ok (.fstore_n 1, 1) := dk_68 (dk_at dksX1_laughsAgain_0 1 rfl rfl)
theorem dX1_laughsAgain_2 : decode cX1_laughsAgain 2 = .ok (.iconst 0, 1) := dk_3 (dk_at dksX1_laughsAgain_0 2 rfl rfl)
theorem dX1_laughsAgain_3 : decode cX1_laughsAgain 3 = .ok (.istore_n 2, 1) := dk_61 (dk_at dksX1_laughsAgain_0 3 rfl rfl)
theorem dX1_laughsAgain_4 : decode cX1_laughsAgain 4 = .ok (.iload_n 2, 1) := dk_28 (dk_at dksX1_laughsAgain_0 4 rfl rfl)
theorem dX1_laughsAgain_5 : decode cX1_laughsAgain 5 = .ok (.aload_n 0, 1) := dk_42 (dk_at dksX1_laughsAgain_0 5 rfl rfl)
theorem dX1_laughsAgain_6 : decode cX1_laughsAgain 6 = .ok (.getfield 73, 3) := dk_180 0 73 (dk_at dksX1_laughsAgain_0 6 rfl rfl)
theorem dX1_laughsAgain_9 : decode cX1_laughsAgain 9 = .ok (.if_icmp .ge 21, 3) := dk_162 0 21 (dk_at dksX1_laughsAgain_0 9 rfl rfl)
theorem dX1_laughsAgain_12 : decode cX1_laughsAgain 12 = .ok (.fload_n 1, 1) := dk_35 (dk_at dksX1_laughsAgain_0 12 rfl rfl)
theorem dX1_laughsAgain_13 : decode cX1_laughsAgain 13 = .ok (.aload_n 0, 1) := dk_42 (dk_at dksX1_laughsAgain_0 13 rfl rfl)
theorem dX1_laughsAgain_14 : decode cX1_laughsAgain 14 = .ok (.getfield 38, 3) := dk_180 0 38 (dk_at dksX1_laughsAgain_0 14 rfl rfl)
theorem dX1_laughsAgain_17 : decode cX1_laughsAgain 17 = .ok (.iload_n 2, 1) := dk_28 (dk_at dksX1_laughsAgain_0 17 rfl rfl)
theorem dX1_laughsAgain_18 : decode cX1_laughsAgain 18 = .ok (.aaload, 1) := dk_50 (dk_at dksX1_laughsAgain_0 18 rfl rfl)
theorem dX1_laughsAgain_19 : decode cX1_laughsAgain 19 = .ok (.invokevirtual 205, 3) := dk_182 0 205 (dk_at dksX1_laughsAgain_0 19 rfl rfl)
theorem dX1_laughsAgain_22 : decode cX1_laughsAgain 22 = .ok (.fadd, 1) := dk_98 (dk_at dksX1_laughsAgain_0 22 rfl rfl)
theorem dX1_laughsAgain_23 : decode cX1_laughsAgain 23 = .ok (.fstore_n 1, 1) := dk_68 (dk_at dksX1_laughsAgain_0 23 rfl rfl)
theorem dX1_laughsAgain_24 : decode cX1_laughsAgain 24 = .ok (.iinc 2 1, 3) := dk_132 2 1 (dk_at dksX1_laughsAgain_1 0 rfl rfl)
theorem dX1_laughsAgain_27 : decode cX1_laughsAgain 27 = .ok (.goto (-23), 3) := dk_167 255 233 (dk_at dksX1_laughsAgain_1 3 rfl rfl)
theorem dX1_laughsAgain_30 : decode cX1_laughsAgain 30 = .ok (.fload_n 1, 1) := dk_35 (dk_at dksX1_laughsAgain_1 6 rfl rfl)
theorem dX1_laughsAgain_31 : decode cX1_laughsAgain 31 = .ok (.freturn, 1) := dk_174 (dk_at dksX1_laughsAgain_1 7 rfl rfl)
abbrev cX1_strokesTo : ByteArray := prog_19_method_24_code
def yX1_strokesTo : MethodName := ⟨RX1, "strokesTo", "(I)I"⟩
def dkwX1_strokesTo_1 : List UInt8 := [167, 255, 241, 28, 172]
abbrev dktX1_strokesTo_1 : List UInt8 := dkwX1_strokesTo_1 ++ []
def dkwX1_strokesTo_0 : List UInt8 := [3, 61, 42, 180, 0, 79, 62, 29, 27, 162, 0, 16, 132, 2, 1, 29, 42, 180, 0, 29, 96, 62]
abbrev dktX1_strokesTo_0 : List UInt8 := dkwX1_strokesTo_0 ++ dktX1_strokesTo_1
theorem dksX1_strokesTo_0 : cX1_strokesTo.data.toList.drop 0 = dktX1_strokesTo_0 := by decide +kernel
theorem dksX1_strokesTo_1 : cX1_strokesTo.data.toList.drop 22 = dktX1_strokesTo_1 := dk_seg dksX1_strokesTo_0 22 rfl rfl
theorem dX1_strokesTo_0 : decode cX1_strokesTo 0 = .ok (.iconst 0, 1) := dk_3 (dk_at dksX1_strokesTo_0 0 rfl rfl)
theorem dX1_strokesTo_1 : decode cX1_strokesTo 1 = .ok (.istore_n 2, 1) := dk_61 (dk_at dksX1_strokesTo_0 1 rfl rfl)
theorem dX1_strokesTo_2 : decode cX1_strokesTo 2 = .ok (.aload_n 0, 1) := dk_42 (dk_at dksX1_strokesTo_0 2 rfl rfl)
theorem dX1_strokesTo_3 : decode cX1_strokesTo 3 = .ok (.getfield 79, 3) := dk_180 0 79 (dk_at dksX1_strokesTo_0 3 rfl rfl)
theorem dX1_strokesTo_6 : decode cX1_strokesTo 6 = .ok (.istore_n 3, 1) := dk_62 (dk_at dksX1_strokesTo_0 6 rfl rfl)
theorem dX1_strokesTo_7 : decode cX1_strokesTo 7 = .ok (.iload_n 3, 1) := dk_29 (dk_at dksX1_strokesTo_0 7 rfl rfl)
theorem dX1_strokesTo_8 : decode cX1_strokesTo 8 = .ok (.iload_n 1, 1) := dk_27 (dk_at dksX1_strokesTo_0 8 rfl rfl)
theorem dX1_strokesTo_9 : decode cX1_strokesTo 9 = .ok (.if_icmp .ge 16, 3) := dk_162 0 16 (dk_at dksX1_strokesTo_0 9 rfl rfl)
theorem dX1_strokesTo_12 : decode cX1_strokesTo 12 = .ok (.iinc 2 1, 3) := dk_132 2 1 (dk_at dksX1_strokesTo_0 12 rfl rfl)
theorem dX1_strokesTo_15 : decode cX1_strokesTo 15 = .ok (.iload_n 3, 1) := dk_29 (dk_at dksX1_strokesTo_0 15 rfl rfl)
theorem dX1_strokesTo_16 : decode cX1_strokesTo 16 = .ok (.aload_n 0, 1) := dk_42 (dk_at dksX1_strokesTo_0 16 rfl rfl)
theorem dX1_strokesTo_17 : decode cX1_strokesTo 17 = .ok (.getfield 29, 3) := dk_180 0 29 (dk_at dksX1_strokesTo_0 17 rfl rfl)
theorem dX1_strokesTo_20 : decode cX1_strokesTo 20 = .ok (.iadd, 1) := dk_96 (dk_at dksX1_strokesTo_0 20 rfl rfl)
theorem dX1_strokesTo_21 : decode cX1_strokesTo 21 = .ok (.istore_n 3, 1) := dk_62 (dk_at dksX1_strokesTo_0 21 rfl rfl)
theorem dX1_strokesTo_22 : decode cX1_strokesTo 22 = .ok (.goto (-15), 3) := dk_167 255 241 (dk_at dksX1_strokesTo_1 0 rfl rfl)
theorem dX1_strokesTo_25 : decode cX1_strokesTo 25 = .ok (.iload_n 2, 1) := dk_28 (dk_at dksX1_strokesTo_1 3 rfl rfl)
theorem dX1_strokesTo_26 : decode cX1_strokesTo 26 = .ok (.ireturn, 1) := dk_172 (dk_at dksX1_strokesTo_1 4 rfl rfl)
abbrev cX1_strokesAgain : ByteArray := prog_19_method_25_code
def yX1_strokesAgain : MethodName := ⟨RX1, "strokesAgain", "(I)I"⟩
def dkwX1_strokesAgain_0 : List UInt8 := [3, 27, 42, 180, 0, 79, 100, 42, 180, 0, 29, 96, 4, 100, 42, 180, 0, 29, 108, 184, 0, 199, 172]
abbrev dktX1_strokesAgain_0 : List UInt8 := dkwX1_strokesAgain_0 ++ []
theorem dksX1_strokesAgain_0 : cX1_strokesAgain.data.toList.drop 0 = dktX1_strokesAgain_0 := by decide +kernel
theorem dX1_strokesAgain_0 : decode cX1_strokesAgain 0 = .ok (.iconst 0, 1) := dk_3 (dk_at dksX1_strokesAgain_0 0 rfl rfl)
theorem dX1_strokesAgain_1 : decode cX1_strokesAgain 1 = .ok (.iload_n 1, 1) := dk_27 (dk_at dksX1_strokesAgain_0 1 rfl rfl)
theorem dX1_strokesAgain_2 : decode cX1_strokesAgain 2 = .ok (.aload_n 0, 1) := dk_42 (dk_at dksX1_strokesAgain_0 2 rfl rfl)
theorem dX1_strokesAgain_3 : decode cX1_strokesAgain 3 = .ok (.getfield 79, 3) := dk_180 0 79 (dk_at dksX1_strokesAgain_0 3 rfl rfl)
theorem dX1_strokesAgain_6 : decode cX1_strokesAgain 6 = .ok (.isub, 1) := dk_100 (dk_at dksX1_strokesAgain_0 6 rfl rfl)
theorem dX1_strokesAgain_7 : decode cX1_strokesAgain 7 = .ok (.aload_n 0, 1) := dk_42 (dk_at dksX1_strokesAgain_0 7 rfl rfl)
theorem dX1_strokesAgain_8 : decode cX1_strokesAgain 8 = .ok (.getfield 29, 3) := dk_180 0 29 (dk_at dksX1_strokesAgain_0 8 rfl rfl)
theorem dX1_strokesAgain_11 : decode cX1_strokesAgain 11 = .ok (.iadd, 1) := dk_96 (dk_at dksX1_strokesAgain_0 11 rfl rfl)
theorem dX1_strokesAgain_12 : decode cX1_strokesAgain 12 = .ok (.iconst 1, 1) := dk_4 (dk_at dksX1_strokesAgain_0 12 rfl rfl)
theorem dX1_strokesAgain_13 : decode cX1_strokesAgain 13 = .ok (.isub, 1) := dk_100 (dk_at dksX1_strokesAgain_0 13 rfl rfl)
theorem dX1_strokesAgain_14 : decode cX1_strokesAgain 14 = .ok (.aload_n 0, 1) := dk_42 (dk_at dksX1_strokesAgain_0 14 rfl rfl)
theorem dX1_strokesAgain_15 : decode cX1_strokesAgain 15 = .ok (.getfield 29, 3) := dk_180 0 29 (dk_at dksX1_strokesAgain_0 15 rfl rfl)
theorem dX1_strokesAgain_18 : decode cX1_strokesAgain 18 = .ok (.idiv, 1) := dk_108 (dk_at dksX1_strokesAgain_0 18 rfl rfl)
theorem dX1_strokesAgain_19 : decode cX1_strokesAgain 19 = .ok (.invokestatic 199, 3) := dk_184 0 199 (dk_at dksX1_strokesAgain_0 19 rfl rfl)
theorem dX1_strokesAgain_22 : decode cX1_strokesAgain 22 = .ok (.ireturn, 1) := dk_172 (dk_at dksX1_strokesAgain_0 22 rfl rfl)
abbrev cX1_bestStroke : ByteArray := prog_19_method_27_code
def yX1_bestStroke : MethodName := ⟨RX1, "bestStroke", "()I"⟩
def dkwX1_bestStroke_2 : List UInt8 := [29, 61, 132, 3, 1, 167, 255, 224, 28, 172]
abbrev dktX1_bestStroke_2 : List UInt8 := dkwX1_bestStroke_2 ++ []
def dkwX1_bestStroke_1 : List UInt8 := [163, 0, 32, 42, 29, 43, 180, 0, 126, 182, 0, 202, 42, 28, 43, 180, 0, 126, 182, 0, 202, 162, 0, 5]
abbrev dktX1_bestStroke_1 : List UInt8 := dkwX1_bestStroke_1 ++ dktX1_bestStroke_2
def dkwX1_bestStroke_0 : List UInt8 := [42, 42, 180, 0, 76, 3, 182, 0, 183, 76, 43, 199, 0, 6, 16, 250, 172, 4, 61, 5, 62, 29, 16, 10]
abbrev dktX1_bestStroke_0 : List UInt8 := dkwX1_bestStroke_0 ++ dktX1_bestStroke_1
theorem dksX1_bestStroke_0 : cX1_bestStroke.data.toList.drop 0 = dktX1_bestStroke_0 := by decide +kernel
theorem dksX1_bestStroke_1 : cX1_bestStroke.data.toList.drop 24 = dktX1_bestStroke_1 := dk_seg dksX1_bestStroke_0 24 rfl rfl
theorem dksX1_bestStroke_2 : cX1_bestStroke.data.toList.drop 48 = dktX1_bestStroke_2 := dk_seg dksX1_bestStroke_1 24 rfl rfl
theorem dX1_bestStroke_0 : decode cX1_bestStroke 0 = .ok (.aload_n 0, 1) := dk_42 (dk_at dksX1_bestStroke_0 0 rfl rfl)
theorem dX1_bestStroke_1 : decode cX1_bestStroke 1 = .ok (.aload_n 0, 1) := dk_42 (dk_at dksX1_bestStroke_0 1 rfl rfl)
theorem dX1_bestStroke_2 : decode cX1_bestStroke 2 = .ok (.getfield 76, 3) := dk_180 0 76 (dk_at dksX1_bestStroke_0 2 rfl rfl)
theorem dX1_bestStroke_5 : decode cX1_bestStroke 5 = .ok (.iconst 0, 1) := dk_3 (dk_at dksX1_bestStroke_0 5 rfl rfl)
theorem dX1_bestStroke_6 : decode cX1_bestStroke 6 = .ok (.invokevirtual 183, 3) := dk_182 0 183 (dk_at dksX1_bestStroke_0 6 rfl rfl)
theorem dX1_bestStroke_9 : decode cX1_bestStroke 9 = .ok (.astore_n 1, 1) := dk_76 (dk_at dksX1_bestStroke_0 9 rfl rfl)
theorem dX1_bestStroke_10 : decode cX1_bestStroke 10 = .ok (.aload_n 1, 1) := dk_43 (dk_at dksX1_bestStroke_0 10 rfl rfl)
theorem dX1_bestStroke_11 : decode cX1_bestStroke 11 = .ok (.ifnonnull 6, 3) := dk_199 0 6 (dk_at dksX1_bestStroke_0 11 rfl rfl)
theorem dX1_bestStroke_14 : decode cX1_bestStroke 14 = .ok (.bipush (-6), 2) := dk_16 250 (dk_at dksX1_bestStroke_0 14 rfl rfl)
theorem dX1_bestStroke_16 : decode cX1_bestStroke 16 = .ok (.ireturn, 1) := dk_172 (dk_at dksX1_bestStroke_0 16 rfl rfl)
theorem dX1_bestStroke_17 : decode cX1_bestStroke 17 = .ok (.iconst 1, 1) := dk_4 (dk_at dksX1_bestStroke_0 17 rfl rfl)
theorem dX1_bestStroke_18 : decode cX1_bestStroke 18 = .ok (.istore_n 2, 1) := dk_61 (dk_at dksX1_bestStroke_0 18 rfl rfl)
theorem dX1_bestStroke_19 : decode cX1_bestStroke 19 = .ok (.iconst 2, 1) := dk_5 (dk_at dksX1_bestStroke_0 19 rfl rfl)
theorem dX1_bestStroke_20 : decode cX1_bestStroke 20 = .ok (.istore_n 3, 1) := dk_62 (dk_at dksX1_bestStroke_0 20 rfl rfl)
theorem dX1_bestStroke_21 : decode cX1_bestStroke 21 = .ok (.iload_n 3, 1) := dk_29 (dk_at dksX1_bestStroke_0 21 rfl rfl)
theorem dX1_bestStroke_22 : decode cX1_bestStroke 22 = .ok (.bipush 10, 2) := dk_16 10 (dk_at dksX1_bestStroke_0 22 rfl rfl)
theorem dX1_bestStroke_24 : decode cX1_bestStroke 24 = .ok (.if_icmp .gt 32, 3) := dk_163 0 32 (dk_at dksX1_bestStroke_1 0 rfl rfl)
theorem dX1_bestStroke_27 : decode cX1_bestStroke 27 = .ok (.aload_n 0, 1) := dk_42 (dk_at dksX1_bestStroke_1 3 rfl rfl)
theorem dX1_bestStroke_28 : decode cX1_bestStroke 28 = .ok (.iload_n 3, 1) := dk_29 (dk_at dksX1_bestStroke_1 4 rfl rfl)
theorem dX1_bestStroke_29 : decode cX1_bestStroke 29 = .ok (.aload_n 1, 1) := dk_43 (dk_at dksX1_bestStroke_1 5 rfl rfl)
theorem dX1_bestStroke_30 : decode cX1_bestStroke 30 = .ok (.getfield 126, 3) := dk_180 0 126 (dk_at dksX1_bestStroke_1 6 rfl rfl)
theorem dX1_bestStroke_33 : decode cX1_bestStroke 33 = .ok (.invokevirtual 202, 3) := dk_182 0 202 (dk_at dksX1_bestStroke_1 9 rfl rfl)
theorem dX1_bestStroke_36 : decode cX1_bestStroke 36 = .ok (.aload_n 0, 1) := dk_42 (dk_at dksX1_bestStroke_1 12 rfl rfl)
theorem dX1_bestStroke_37 : decode cX1_bestStroke 37 = .ok (.iload_n 2, 1) := dk_28 (dk_at dksX1_bestStroke_1 13 rfl rfl)
theorem dX1_bestStroke_38 : decode cX1_bestStroke 38 = .ok (.aload_n 1, 1) := dk_43 (dk_at dksX1_bestStroke_1 14 rfl rfl)
theorem dX1_bestStroke_39 : decode cX1_bestStroke 39 = .ok (.getfield 126, 3) := dk_180 0 126 (dk_at dksX1_bestStroke_1 15 rfl rfl)
theorem dX1_bestStroke_42 : decode cX1_bestStroke 42 = .ok (.invokevirtual 202, 3) := dk_182 0 202 (dk_at dksX1_bestStroke_1 18 rfl rfl)
theorem dX1_bestStroke_45 : decode cX1_bestStroke 45 = .ok (.if_icmp .ge 5, 3) := dk_162 0 5 (dk_at dksX1_bestStroke_1 21 rfl rfl)
theorem dX1_bestStroke_48 : decode cX1_bestStroke 48 = .ok (.iload_n 3, 1) := dk_29 (dk_at dksX1_bestStroke_2 0 rfl rfl)
theorem dX1_bestStroke_49 : decode cX1_bestStroke 49 = .ok (.istore_n 2, 1) := dk_61 (dk_at dksX1_bestStroke_2 1 rfl rfl)
theorem dX1_bestStroke_50 : decode cX1_bestStroke 50 = .ok (.iinc 3 1, 3) := dk_132 3 1 (dk_at dksX1_bestStroke_2 2 rfl rfl)
theorem dX1_bestStroke_53 : decode cX1_bestStroke 53 = .ok (.goto (-32), 3) := dk_167 255 224 (dk_at dksX1_bestStroke_2 5 rfl rfl)
theorem dX1_bestStroke_56 : decode cX1_bestStroke 56 = .ok (.iload_n 2, 1) := dk_28 (dk_at dksX1_bestStroke_2 8 rfl rfl)
theorem dX1_bestStroke_57 : decode cX1_bestStroke 57 = .ok (.ireturn, 1) := dk_172 (dk_at dksX1_bestStroke_2 9 rfl rfl)
abbrev cX1_groansBy : ByteArray := prog_19_method_26_code
def yX1_groansBy : MethodName := ⟨RX1, "groansBy", "(II)I"⟩
def dkwX1_groansBy_1 : List UInt8 := [16, 10, 108, 96, 96, 62, 21, 4, 28, 161, 255, 232, 29, 172]
abbrev dktX1_groansBy_1 : List UInt8 := dkwX1_groansBy_1 ++ []
def dkwX1_groansBy_0 : List UInt8 := [3, 62, 42, 180, 0, 79, 54, 4, 16, 30, 21, 4, 27, 96, 184, 0, 164, 54, 4, 29, 4, 21, 4]
abbrev dktX1_groansBy_0 : List UInt8 := dkwX1_groansBy_0 ++ dktX1_groansBy_1
theorem dksX1_groansBy_0 : cX1_groansBy.data.toList.drop 0 = dktX1_groansBy_0 := by decide +kernel
theorem dksX1_groansBy_1 : cX1_groansBy.data.toList.drop 23 = dktX1_groansBy_1 := dk_seg dksX1_groansBy_0 23 rfl rfl
theorem dX1_groansBy_0 : decode cX1_groansBy 0 = .ok (.iconst 0, 1) := dk_3 (dk_at dksX1_groansBy_0 0 rfl rfl)
theorem dX1_groansBy_1 : decode cX1_groansBy 1 = .ok (.istore_n 3, 1) := dk_62 (dk_at dksX1_groansBy_0 1 rfl rfl)
theorem dX1_groansBy_2 : decode cX1_groansBy 2 = .ok (.aload_n 0, 1) := dk_42 (dk_at dksX1_groansBy_0 2 rfl rfl)
theorem dX1_groansBy_3 : decode cX1_groansBy 3 = .ok (.getfield 79, 3) := dk_180 0 79 (dk_at dksX1_groansBy_0 3 rfl rfl)
theorem dX1_groansBy_6 : decode cX1_groansBy 6 = .ok (.istore 4, 2) := dk_54 4 (dk_at dksX1_groansBy_0 6 rfl rfl)
theorem dX1_groansBy_8 : decode cX1_groansBy 8 = .ok (.bipush 30, 2) := dk_16 30 (dk_at dksX1_groansBy_0 8 rfl rfl)
theorem dX1_groansBy_10 : decode cX1_groansBy 10 = .ok (.iload 4, 2) := dk_21 4 (dk_at dksX1_groansBy_0 10 rfl rfl)
theorem dX1_groansBy_12 : decode cX1_groansBy 12 = .ok (.iload_n 1, 1) := dk_27 (dk_at dksX1_groansBy_0 12 rfl rfl)
theorem dX1_groansBy_13 : decode cX1_groansBy 13 = .ok (.iadd, 1) := dk_96 (dk_at dksX1_groansBy_0 13 rfl rfl)
theorem dX1_groansBy_14 : decode cX1_groansBy 14 = .ok (.invokestatic 164, 3) := dk_184 0 164 (dk_at dksX1_groansBy_0 14 rfl rfl)
theorem dX1_groansBy_17 : decode cX1_groansBy 17 = .ok (.istore 4, 2) := dk_54 4 (dk_at dksX1_groansBy_0 17 rfl rfl)
theorem dX1_groansBy_19 : decode cX1_groansBy 19 = .ok (.iload_n 3, 1) := dk_29 (dk_at dksX1_groansBy_0 19 rfl rfl)
theorem dX1_groansBy_20 : decode cX1_groansBy 20 = .ok (.iconst 1, 1) := dk_4 (dk_at dksX1_groansBy_0 20 rfl rfl)
theorem dX1_groansBy_21 : decode cX1_groansBy 21 = .ok (.iload 4, 2) := dk_21 4 (dk_at dksX1_groansBy_0 21 rfl rfl)
theorem dX1_groansBy_23 : decode cX1_groansBy 23 = .ok (.bipush 10, 2) := dk_16 10 (dk_at dksX1_groansBy_1 0 rfl rfl)
theorem dX1_groansBy_25 : decode cX1_groansBy 25 = .ok (.idiv, 1) := dk_108 (dk_at dksX1_groansBy_1 2 rfl rfl)
theorem dX1_groansBy_26 : decode cX1_groansBy 26 = .ok (.iadd, 1) := dk_96 (dk_at dksX1_groansBy_1 3 rfl rfl)
theorem dX1_groansBy_27 : decode cX1_groansBy 27 = .ok (.iadd, 1) := dk_96 (dk_at dksX1_groansBy_1 4 rfl rfl)
theorem dX1_groansBy_28 : decode cX1_groansBy 28 = .ok (.istore_n 3, 1) := dk_62 (dk_at dksX1_groansBy_1 5 rfl rfl)
theorem dX1_groansBy_29 : decode cX1_groansBy 29 = .ok (.iload 4, 2) := dk_21 4 (dk_at dksX1_groansBy_1 6 rfl rfl)
theorem dX1_groansBy_31 : decode cX1_groansBy 31 = .ok (.iload_n 2, 1) := dk_28 (dk_at dksX1_groansBy_1 8 rfl rfl)
theorem dX1_groansBy_32 : decode cX1_groansBy 32 = .ok (.if_icmp .lt (-24), 3) := dk_161 255 232 (dk_at dksX1_groansBy_1 9 rfl rfl)
theorem dX1_groansBy_35 : decode cX1_groansBy 35 = .ok (.iload_n 3, 1) := dk_29 (dk_at dksX1_groansBy_1 12 rfl rfl)
theorem dX1_groansBy_36 : decode cX1_groansBy 36 = .ok (.ireturn, 1) := dk_172 (dk_at dksX1_groansBy_1 13 rfl rfl)
abbrev cX1_primed : ByteArray := prog_19_method_8_code
def yX1_primed : MethodName := ⟨RX1, "primed", "()I"⟩
def dkwX1_primed_1 : List UInt8 := [185, 0, 52, 1, 0, 192, 0, 56, 78, 27, 45, 180, 0, 129, 184, 0, 115, 96, 60, 167, 255, 227, 27, 172]
abbrev dktX1_primed_1 : List UInt8 := dkwX1_primed_1 ++ []
def dkwX1_primed_0 : List UInt8 := [3, 60, 42, 180, 0, 12, 182, 0, 42, 77, 44, 185, 0, 46, 1, 0, 153, 0, 26, 44]
abbrev dktX1_primed_0 : List UInt8 := dkwX1_primed_0 ++ dktX1_primed_1
theorem dksX1_primed_0 : cX1_primed.data.toList.drop 0 = dktX1_primed_0 := by decide +kernel
theorem dksX1_primed_1 : cX1_primed.data.toList.drop 20 = dktX1_primed_1 := dk_seg dksX1_primed_0 20 rfl rfl
theorem dX1_primed_0 : decode cX1_primed 0 = .ok (.iconst 0, 1) := dk_3 (dk_at dksX1_primed_0 0 rfl rfl)
theorem dX1_primed_1 : decode cX1_primed 1 = .ok (.istore_n 1, 1) := dk_60 (dk_at dksX1_primed_0 1 rfl rfl)
theorem dX1_primed_2 : decode cX1_primed 2 = .ok (.aload_n 0, 1) := dk_42 (dk_at dksX1_primed_0 2 rfl rfl)
theorem dX1_primed_3 : decode cX1_primed 3 = .ok (.getfield 12, 3) := dk_180 0 12 (dk_at dksX1_primed_0 3 rfl rfl)
theorem dX1_primed_6 : decode cX1_primed 6 = .ok (.invokevirtual 42, 3) := dk_182 0 42 (dk_at dksX1_primed_0 6 rfl rfl)
theorem dX1_primed_9 : decode cX1_primed 9 = .ok (.astore_n 2, 1) := dk_77 (dk_at dksX1_primed_0 9 rfl rfl)
theorem dX1_primed_10 : decode cX1_primed 10 = .ok (.aload_n 2, 1) := dk_44 (dk_at dksX1_primed_0 10 rfl rfl)
theorem dX1_primed_11 : decode cX1_primed 11 = .ok (.invokeinterface 46 1, 5) := by decide +kernel
theorem dX1_primed_16 : decode cX1_primed 16 = .ok (.ifCond .eq 26, 3) := dk_153 0 26 (dk_at dksX1_primed_0 16 rfl rfl)
theorem dX1_primed_19 : decode cX1_primed 19 = .ok (.aload_n 2, 1) := dk_44 (dk_at dksX1_primed_0 19 rfl rfl)
theorem dX1_primed_20 : decode cX1_primed 20 = .ok (.invokeinterface 52 1, 5) := by decide +kernel
theorem dX1_primed_25 : decode cX1_primed 25 = .ok (.checkcast 56, 3) := dk_192 0 56 (dk_at dksX1_primed_1 5 rfl rfl)
theorem dX1_primed_28 : decode cX1_primed 28 = .ok (.astore_n 3, 1) := dk_78 (dk_at dksX1_primed_1 8 rfl rfl)
theorem dX1_primed_29 : decode cX1_primed 29 = .ok (.iload_n 1, 1) := dk_27 (dk_at dksX1_primed_1 9 rfl rfl)
theorem dX1_primed_30 : decode cX1_primed 30 = .ok (.aload_n 3, 1) := dk_45 (dk_at dksX1_primed_1 10 rfl rfl)
theorem dX1_primed_31 : decode cX1_primed 31 = .ok (.getfield 129, 3) := dk_180 0 129 (dk_at dksX1_primed_1 11 rfl rfl)
theorem dX1_primed_34 : decode cX1_primed 34 = .ok (.invokestatic 115, 3) := dk_184 0 115 (dk_at dksX1_primed_1 14 rfl rfl)
theorem dX1_primed_37 : decode cX1_primed 37 = .ok (.iadd, 1) := dk_96 (dk_at dksX1_primed_1 17 rfl rfl)
theorem dX1_primed_38 : decode cX1_primed 38 = .ok (.istore_n 1, 1) := dk_60 (dk_at dksX1_primed_1 18 rfl rfl)
theorem dX1_primed_39 : decode cX1_primed 39 = .ok (.goto (-29), 3) := dk_167 255 227 (dk_at dksX1_primed_1 19 rfl rfl)
theorem dX1_primed_42 : decode cX1_primed 42 = .ok (.iload_n 1, 1) := dk_27 (dk_at dksX1_primed_1 22 rfl rfl)
theorem dX1_primed_43 : decode cX1_primed 43 = .ok (.ireturn, 1) := dk_172 (dk_at dksX1_primed_1 23 rfl rfl)
theorem q86 : (Jvm.Cond.initialized "JokePump$Pump") ∈ lw_all := lw_g (lw_at lw_m1 2 rfl) rfl
theorem q146 : (Jvm.Cond.instantiable "JokePump$Pump" (16 : Nat)) ∈ lw_all := lw_g (lw_at lw_m1 62 rfl) rfl
theorem q148 : (Jvm.Cond.instanceMethod ({ cls := "JokePump$Pump", name := "<init>", desc := "()V" } : Jvm.MethodName)) ∈ lw_all := lw_g (lw_at lw_m1 64 rfl) rfl
theorem q149 : (Jvm.Cond.code ({ cls := "JokePump$Pump", name := "<init>", desc := "()V" } : Jvm.MethodName) prog_19_method_1_code (1 : Nat) (Option.none : Option Jvm.ClassFile.FieldType)) ∈ lw_all := lw_g (lw_at lw_m1 65 rfl) rfl
theorem q150 : (Jvm.Cond.methodLink "JokePump$Pump" (3 : Nat) ({ cls := "java/lang/Object", name := "<init>", desc := "()V" } : Jvm.MethodName)) ∈ lw_all := lw_g (lw_at lw_m1 66 rfl) rfl
theorem q151 : (Jvm.Cond.classLink "JokePump$Pump" (9 : Nat) "java/util/ArrayList") ∈ lw_all := lw_g (lw_at lw_m1 67 rfl) rfl
theorem q153 : (Jvm.Cond.methodLink "JokePump$Pump" (11 : Nat) ({ cls := "java/util/ArrayList", name := "<init>", desc := "()V" } : Jvm.MethodName)) ∈ lw_all := lw_g (lw_at lw_m1 69 rfl) rfl
theorem q180 : (Jvm.Cond.classLink "JokePump$Pump" (36 : Nat) "JokePump$Lifted") ∈ lw_all := lw_g (lw_at lw_m1 96 rfl) rfl
theorem q182 : (Jvm.Cond.fieldLink "JokePump$Pump" (12 : Nat) "JokePump$Pump" "jokes" "Ljava/util/ArrayList;") ∈ lw_all := lw_g (lw_at lw_m1 98 rfl) rfl
theorem q186 : (Jvm.Cond.fieldLink "JokePump$Pump" (38 : Nat) "JokePump$Pump" "lifted" "[LJokePump$Told;") ∈ lw_all := lw_g (lw_at lw_m1 102 rfl) rfl
theorem q188 : (Jvm.Cond.fieldLink "JokePump$Pump" (18 : Nat) "JokePump$Pump" "isKnown" "[Z") ∈ lw_all := lw_g (lw_at lw_m1 104 rfl) rfl
theorem q190 : (Jvm.Cond.fieldLink "JokePump$Pump" (22 : Nat) "JokePump$Pump" "buckets" "[I") ∈ lw_all := lw_g (lw_at lw_m1 106 rfl) rfl
theorem q192 : (Jvm.Cond.fieldLink "JokePump$Pump" (26 : Nat) "JokePump$Pump" "liftedFrom" "[I") ∈ lw_all := lw_g (lw_at lw_m1 108 rfl) rfl
theorem q194 : (Jvm.Cond.fieldLink "JokePump$Pump" (73 : Nat) "JokePump$Pump" "liftedMany" "I") ∈ lw_all := lw_g (lw_at lw_m1 110 rfl) rfl
theorem q196 : (Jvm.Cond.fieldLink "JokePump$Pump" (76 : Nat) "JokePump$Pump" "well" "I") ∈ lw_all := lw_g (lw_at lw_m1 112 rfl) rfl
theorem q198 : (Jvm.Cond.fieldLink "JokePump$Pump" (29 : Nat) "JokePump$Pump" "stroke" "I") ∈ lw_all := lw_g (lw_at lw_m1 114 rfl) rfl
theorem q200 : (Jvm.Cond.fieldLink "JokePump$Pump" (79 : Nat) "JokePump$Pump" "reach" "I") ∈ lw_all := lw_g (lw_at lw_m1 116 rfl) rfl
theorem q202 : (Jvm.Cond.fieldLink "JokePump$Pump" (82 : Nat) "JokePump$Pump" "groans" "I") ∈ lw_all := lw_g (lw_at lw_m1 118 rfl) rfl
theorem q204 : (Jvm.Cond.fieldLink "JokePump$Pump" (33 : Nat) "JokePump$Pump" "drops" "I") ∈ lw_all := lw_g (lw_at lw_m1 120 rfl) rfl
theorem q206 : (Jvm.Cond.fieldLink "JokePump$Pump" (85 : Nat) "JokePump$Pump" "laughs" "F") ∈ lw_all := lw_g (lw_at lw_m1 122 rfl) rfl
theorem q208 : (Jvm.Cond.fieldLink "JokePump$Pump" (89 : Nat) "JokePump$Pump" "came" "I") ∈ lw_all := lw_g (lw_at lw_m1 124 rfl) rfl
theorem q210 : (Jvm.Cond.fieldLink "JokePump$Pump" (92 : Nat) "JokePump$Pump" "went" "I") ∈ lw_all := lw_g (lw_at lw_m1 126 rfl) rfl
theorem q212 : (Jvm.Cond.fieldLink "JokePump$Pump" (95 : Nat) "JokePump$Pump" "strokes" "I") ∈ lw_all := lw_g (lw_at lw_m1 128 rfl) rfl
theorem q214 : (Jvm.Cond.fieldLink "JokePump$Pump" (98 : Nat) "JokePump$Pump" "drained" "I") ∈ lw_all := lw_g (lw_at lw_m1 130 rfl) rfl
theorem q216 : (Jvm.Cond.laysFinal "JokePump$Pump" "JokePump$Pump" "jokes" "Ljava/util/ArrayList;") ∈ lw_all := lw_g (lw_at lw_m1 132 rfl) rfl
theorem q217 : (Jvm.Cond.soleField "JokePump$Pump" "jokes") ∈ lw_all := lw_g (lw_at lw_m1 133 rfl) rfl
theorem q218 : (Jvm.Cond.laysFinal "JokePump$Pump" "JokePump$Pump" "lifted" "[LJokePump$Told;") ∈ lw_all := lw_g (lw_at lw_m1 134 rfl) rfl
theorem q219 : (Jvm.Cond.soleField "JokePump$Pump" "lifted") ∈ lw_all := lw_g (lw_at lw_m1 135 rfl) rfl
theorem q220 : (Jvm.Cond.lays "JokePump$Pump" "JokePump$Pump" "isKnown" "[Z") ∈ lw_all := lw_g (lw_at lw_m1 136 rfl) rfl
theorem q221 : (Jvm.Cond.soleField "JokePump$Pump" "isKnown") ∈ lw_all := lw_g (lw_at lw_m1 137 rfl) rfl
theorem q222 : (Jvm.Cond.lays "JokePump$Pump" "JokePump$Pump" "buckets" "[I") ∈ lw_all := lw_g (lw_at lw_m1 138 rfl) rfl
theorem q223 : (Jvm.Cond.soleField "JokePump$Pump" "buckets") ∈ lw_all := lw_g (lw_at lw_m1 139 rfl) rfl
theorem q224 : (Jvm.Cond.lays "JokePump$Pump" "JokePump$Pump" "liftedFrom" "[I") ∈ lw_all := lw_g (lw_at lw_m1 140 rfl) rfl
theorem q225 : (Jvm.Cond.soleField "JokePump$Pump" "liftedFrom") ∈ lw_all := lw_g (lw_at lw_m1 141 rfl) rfl
theorem q226 : (Jvm.Cond.lays "JokePump$Pump" "JokePump$Pump" "liftedMany" "I") ∈ lw_all := lw_g (lw_at lw_m1 142 rfl) rfl
theorem q227 : (Jvm.Cond.soleField "JokePump$Pump" "liftedMany") ∈ lw_all := lw_g (lw_at lw_m1 143 rfl) rfl
theorem q228 : (Jvm.Cond.lays "JokePump$Pump" "JokePump$Pump" "well" "I") ∈ lw_all := lw_g (lw_at lw_m1 144 rfl) rfl
theorem q229 : (Jvm.Cond.soleField "JokePump$Pump" "well") ∈ lw_all := lw_g (lw_at lw_m1 145 rfl) rfl
theorem q230 : (Jvm.Cond.lays "JokePump$Pump" "JokePump$Pump" "stroke" "I") ∈ lw_all := lw_g (lw_at lw_m1 146 rfl) rfl
theorem q231 : (Jvm.Cond.soleField "JokePump$Pump" "stroke") ∈ lw_all := lw_g (lw_at lw_m1 147 rfl) rfl
theorem q232 : (Jvm.Cond.lays "JokePump$Pump" "JokePump$Pump" "reach" "I") ∈ lw_all := lw_g (lw_at lw_m1 148 rfl) rfl
theorem q233 : (Jvm.Cond.soleField "JokePump$Pump" "reach") ∈ lw_all := lw_g (lw_at lw_m1 149 rfl) rfl
theorem q234 : (Jvm.Cond.lays "JokePump$Pump" "JokePump$Pump" "groans" "I") ∈ lw_all := lw_g (lw_at lw_m1 150 rfl) rfl
theorem q235 : (Jvm.Cond.soleField "JokePump$Pump" "groans") ∈ lw_all := lw_g (lw_at lw_m1 151 rfl) rfl
theorem q236 : (Jvm.Cond.lays "JokePump$Pump" "JokePump$Pump" "drops" "I") ∈ lw_all := lw_g (lw_at lw_m1 152 rfl) rfl
theorem q237 : (Jvm.Cond.soleField "JokePump$Pump" "drops") ∈ lw_all := lw_g (lw_at lw_m1 153 rfl) rfl
theorem q238 : (Jvm.Cond.lays "JokePump$Pump" "JokePump$Pump" "laughs" "F") ∈ lw_all := lw_g (lw_at lw_m1 154 rfl) rfl
theorem q239 : (Jvm.Cond.soleField "JokePump$Pump" "laughs") ∈ lw_all := lw_g (lw_at lw_m1 155 rfl) rfl
theorem q240 : (Jvm.Cond.lays "JokePump$Pump" "JokePump$Pump" "came" "I") ∈ lw_all := lw_g (lw_at lw_m1 156 rfl) rfl
theorem q241 : (Jvm.Cond.soleField "JokePump$Pump" "came") ∈ lw_all := lw_g (lw_at lw_m1 157 rfl) rfl
theorem q242 : (Jvm.Cond.lays "JokePump$Pump" "JokePump$Pump" "went" "I") ∈ lw_all := lw_g (lw_at lw_m1 158 rfl) rfl
theorem q243 : (Jvm.Cond.soleField "JokePump$Pump" "went") ∈ lw_all := lw_g (lw_at lw_m1 159 rfl) rfl
theorem q244 : (Jvm.Cond.lays "JokePump$Pump" "JokePump$Pump" "strokes" "I") ∈ lw_all := lw_g (lw_at lw_m1 160 rfl) rfl
theorem q245 : (Jvm.Cond.soleField "JokePump$Pump" "strokes") ∈ lw_all := lw_g (lw_at lw_m1 161 rfl) rfl
theorem q246 : (Jvm.Cond.lays "JokePump$Pump" "JokePump$Pump" "drained" "I") ∈ lw_all := lw_g (lw_at lw_m1 162 rfl) rfl
theorem q247 : (Jvm.Cond.soleField "JokePump$Pump" "drained") ∈ lw_all := lw_g (lw_at lw_m1 163 rfl) rfl
theorem q248 : (Jvm.Cond.superclass "JokePump$Pump" "java/lang/Object") ∈ lw_all := lw_g (lw_at lw_m1 164 rfl) rfl
theorem q371 : (Jvm.Cond.instanceMethod ({ cls := "JokePump$Pump", name := "<init>", desc := "(LJokePump$Pump;)V" } : Jvm.MethodName)) ∈ lw_all := lw_g (lw_at lw_m2 47 rfl) rfl
theorem q372 : (Jvm.Cond.code ({ cls := "JokePump$Pump", name := "<init>", desc := "(LJokePump$Pump;)V" } : Jvm.MethodName) prog_19_method_2_code (4 : Nat) (Option.none : Option Jvm.ClassFile.FieldType)) ∈ lw_all := lw_g (lw_at lw_m2 48 rfl) rfl
theorem q373 : (Jvm.Cond.methodLink "JokePump$Pump" (42 : Nat) ({ cls := "java/util/ArrayList", name := "iterator", desc := "()Ljava/util/Iterator;" } : Jvm.MethodName)) ∈ lw_all := lw_g (lw_at lw_m2 49 rfl) rfl
theorem q396 : (Jvm.Cond.interfaceEntry "JokePump$Pump" (46 : Nat)) ∈ lw_tbl := lw_at lw_m2 72 rfl
theorem q397 : (Jvm.Cond.methodLink "JokePump$Pump" (46 : Nat) ({ cls := "java/util/Iterator", name := "hasNext", desc := "()Z" } : Jvm.MethodName)) ∈ lw_all := lw_g (lw_at lw_m2 73 rfl) rfl
theorem q564 : (Jvm.Cond.interfaceEntry "JokePump$Pump" (52 : Nat)) ∈ lw_tbl := lw_at lw_m3 0 rfl
theorem q565 : (Jvm.Cond.methodLink "JokePump$Pump" (52 : Nat) ({ cls := "java/util/Iterator", name := "next", desc := "()Ljava/lang/Object;" } : Jvm.MethodName)) ∈ lw_all := lw_g (lw_at lw_m3 1 rfl) rfl
theorem q566 : (Jvm.Cond.classLink "JokePump$Pump" (56 : Nat) "JokePump$Joke") ∈ lw_all := lw_g (lw_at lw_m3 2 rfl) rfl
theorem q568 : (Jvm.Cond.methodLink "JokePump$Pump" (58 : Nat) ({ cls := "JokePump$Joke", name := "<init>", desc := "(LJokePump$Joke;)V" } : Jvm.MethodName)) ∈ lw_all := lw_g (lw_at lw_m3 4 rfl) rfl
theorem q576 : (Jvm.Cond.fieldLinkNest "JokePump$Pump" (144 : Nat) "JokePump$Joke" "number" "I" "JokePump") ∈ lw_tbl := lw_at lw_m3 12 rfl
theorem q581 : (Jvm.Cond.fieldLinkNest "JokePump$Pump" (114 : Nat) "JokePump$Joke" "well" "I" "JokePump") ∈ lw_tbl := lw_at lw_m3 17 rfl
theorem q585 : (Jvm.Cond.fieldLinkNest "JokePump$Pump" (126 : Nat) "JokePump$Joke" "depth" "I" "JokePump") ∈ lw_tbl := lw_at lw_m3 21 rfl
theorem q589 : (Jvm.Cond.fieldLinkNest "JokePump$Pump" (133 : Nat) "JokePump$Joke" "sign" "I" "JokePump") ∈ lw_tbl := lw_at lw_m3 25 rfl
theorem q594 : (Jvm.Cond.fieldLinkNest "JokePump$Pump" (129 : Nat) "JokePump$Joke" "isPrimed" "Z" "JokePump") ∈ lw_tbl := lw_at lw_m3 30 rfl
theorem q609 : (Jvm.Cond.methodLink "JokePump$Pump" (61 : Nat) ({ cls := "java/util/ArrayList", name := "add", desc := "(Ljava/lang/Object;)Z" } : Jvm.MethodName)) ∈ lw_all := lw_g (lw_at lw_m3 45 rfl) rfl
theorem q658 : (Jvm.Cond.selects "JokePump$Pump" ({ cls := "java/lang/Object", name := "getClass", desc := "()Ljava/lang/Class;" } : Jvm.MethodName) ({ cls := "java/lang/Object", name := "getClass", desc := "()Ljava/lang/Class;" } : Jvm.MethodName)) ∈ lw_all := lw_g (lw_at lw_m3 94 rfl) rfl
theorem q688 : (Jvm.Cond.methodLink "JokePump$Pump" (65 : Nat) ({ cls := "[LJokePump$Told;", name := "clone", desc := "()Ljava/lang/Object;" } : Jvm.MethodName)) ∈ lw_all := lw_g (lw_at lw_m3 124 rfl) rfl
theorem q695 : (Jvm.Cond.classLink "JokePump$Pump" (66 : Nat) "[LJokePump$Told;") ∈ lw_all := lw_g (lw_at lw_m3 131 rfl) rfl
theorem q696 : (Jvm.Cond.methodLink "JokePump$Pump" (69 : Nat) ({ cls := "[Z", name := "clone", desc := "()Ljava/lang/Object;" } : Jvm.MethodName)) ∈ lw_all := lw_g (lw_at lw_m3 132 rfl) rfl
theorem q700 : (Jvm.Cond.classLink "JokePump$Pump" (70 : Nat) "[Z") ∈ lw_all := lw_g (lw_at lw_m3 136 rfl) rfl
theorem q701 : (Jvm.Cond.methodLink "JokePump$Pump" (71 : Nat) ({ cls := "[I", name := "clone", desc := "()Ljava/lang/Object;" } : Jvm.MethodName)) ∈ lw_all := lw_g (lw_at lw_m3 137 rfl) rfl
theorem q705 : (Jvm.Cond.classLink "JokePump$Pump" (72 : Nat) "[I") ∈ lw_all := lw_g (lw_at lw_m3 141 rfl) rfl
theorem q713 : (Jvm.Cond.instanceMethod ({ cls := "JokePump$Pump", name := "comes", desc := "(IIII)I" } : Jvm.MethodName)) ∈ lw_all := lw_g (lw_at lw_m3 149 rfl) rfl
theorem q714 : (Jvm.Cond.selects "JokePump$Pump" ({ cls := "JokePump$Pump", name := "comes", desc := "(IIII)I" } : Jvm.MethodName) ({ cls := "JokePump$Pump", name := "comes", desc := "(IIII)I" } : Jvm.MethodName)) ∈ lw_all := lw_g (lw_at lw_m3 150 rfl) rfl
theorem q715 : (Jvm.Cond.code ({ cls := "JokePump$Pump", name := "comes", desc := "(IIII)I" } : Jvm.MethodName) prog_19_method_10_code (7 : Nat) (Option.some Jvm.ClassFile.FieldType.int)) ∈ lw_all := lw_g (lw_at lw_m3 151 rfl) rfl
theorem q716 : (Jvm.Cond.methodLinkNest "JokePump$Pump" (136 : Nat) ({ cls := "JokePump", name := "needs", desc := "(ZII)V" } : Jvm.MethodName) "JokePump") ∈ lw_tbl := lw_at lw_m3 152 rfl
theorem q750 : (Jvm.Cond.methodLink "JokePump$Pump" (140 : Nat) ({ cls := "JokePump$Pump", name := "like", desc := "(III)LJokePump$Joke;" } : Jvm.MethodName)) ∈ lw_all := lw_g (lw_at lw_m3 186 rfl) rfl
theorem q751 : (Jvm.Cond.privateMethod ({ cls := "JokePump$Pump", name := "like", desc := "(III)LJokePump$Joke;" } : Jvm.MethodName)) ∈ lw_tbl := lw_at lw_m3 187 rfl
theorem q752 : (Jvm.Cond.instanceMethod ({ cls := "JokePump$Pump", name := "like", desc := "(III)LJokePump$Joke;" } : Jvm.MethodName)) ∈ lw_all := lw_g (lw_at lw_m3 188 rfl) rfl
theorem q753 : (Jvm.Cond.code ({ cls := "JokePump$Pump", name := "like", desc := "(III)LJokePump$Joke;" } : Jvm.MethodName) prog_19_method_9_code (6 : Nat) (Option.some (Jvm.ClassFile.FieldType.object "JokePump$Joke"))) ∈ lw_all := lw_g (lw_at lw_m3 189 rfl) rfl
theorem q754 : (Jvm.Cond.methodLink "JokePump$Pump" (101 : Nat) ({ cls := "java/util/ArrayList", name := "size", desc := "()I" } : Jvm.MethodName)) ∈ lw_all := lw_g (lw_at lw_m3 190 rfl) rfl
theorem q758 : (Jvm.Cond.methodLink "JokePump$Pump" (147 : Nat) ({ cls := "JokePump$Pump", name := "inWell", desc := "(I)I" } : Jvm.MethodName)) ∈ lw_all := lw_g (lw_at lw_m3 194 rfl) rfl
theorem q759 : (Jvm.Cond.instanceMethod ({ cls := "JokePump$Pump", name := "inWell", desc := "(I)I" } : Jvm.MethodName)) ∈ lw_all := lw_g (lw_at lw_m3 195 rfl) rfl
theorem q760 : (Jvm.Cond.selects "JokePump$Pump" ({ cls := "JokePump$Pump", name := "inWell", desc := "(I)I" } : Jvm.MethodName) ({ cls := "JokePump$Pump", name := "inWell", desc := "(I)I" } : Jvm.MethodName)) ∈ lw_all := lw_g (lw_at lw_m3 196 rfl) rfl
theorem q761 : (Jvm.Cond.code ({ cls := "JokePump$Pump", name := "inWell", desc := "(I)I" } : Jvm.MethodName) prog_19_method_5_code (5 : Nat) (Option.some Jvm.ClassFile.FieldType.int)) ∈ lw_all := lw_g (lw_at lw_m3 197 rfl) rfl
theorem q762 : (Jvm.Cond.methodLinkNest "JokePump$Pump" (115 : Nat) ({ cls := "JokePump", name := "bit", desc := "(Z)I" } : Jvm.MethodName) "JokePump") ∈ lw_tbl := lw_at lw_m3 198 rfl
theorem q765 : (Jvm.Cond.methodLink "JokePump$Pump" (151 : Nat) ({ cls := "JokePump$Joke", name := "<init>", desc := "(IIIII)V" } : Jvm.MethodName)) ∈ lw_all := lw_g (lw_at lw_m3 201 rfl) rfl
theorem q868 : (Jvm.Cond.instanceMethod ({ cls := "JokePump$Pump", name := "hasJoke", desc := "(I)Z" } : Jvm.MethodName)) ∈ lw_all := lw_g (lw_at lw_m4 64 rfl) rfl
theorem q869 : (Jvm.Cond.selects "JokePump$Pump" ({ cls := "JokePump$Pump", name := "hasJoke", desc := "(I)Z" } : Jvm.MethodName) ({ cls := "JokePump$Pump", name := "hasJoke", desc := "(I)Z" } : Jvm.MethodName)) ∈ lw_all := lw_g (lw_at lw_m4 65 rfl) rfl
theorem q870 : (Jvm.Cond.code ({ cls := "JokePump$Pump", name := "hasJoke", desc := "(I)Z" } : Jvm.MethodName) prog_19_method_3_code (2 : Nat) (Option.some Jvm.ClassFile.FieldType.boolean)) ∈ lw_all := lw_g (lw_at lw_m4 66 rfl) rfl
theorem q871 : (Jvm.Cond.methodLinkNest "JokePump$Pump" (105 : Nat) ({ cls := "JokePump", name := "in", desc := "(III)Z" } : Jvm.MethodName) "JokePump") ∈ lw_tbl := lw_at lw_m4 67 rfl
theorem q907 : (Jvm.Cond.instanceMethod ({ cls := "JokePump$Pump", name := "primes", desc := "(I)I" } : Jvm.MethodName)) ∈ lw_all := lw_g (lw_at lw_m4 103 rfl) rfl
theorem q908 : (Jvm.Cond.selects "JokePump$Pump" ({ cls := "JokePump$Pump", name := "primes", desc := "(I)I" } : Jvm.MethodName) ({ cls := "JokePump$Pump", name := "primes", desc := "(I)I" } : Jvm.MethodName)) ∈ lw_all := lw_g (lw_at lw_m4 104 rfl) rfl
theorem q909 : (Jvm.Cond.code ({ cls := "JokePump$Pump", name := "primes", desc := "(I)I" } : Jvm.MethodName) prog_19_method_11_code (3 : Nat) (Option.some Jvm.ClassFile.FieldType.int)) ∈ lw_all := lw_g (lw_at lw_m4 105 rfl) rfl
theorem q910 : (Jvm.Cond.methodLink "JokePump$Pump" (154 : Nat) ({ cls := "java/util/ArrayList", name := "get", desc := "(I)Ljava/lang/Object;" } : Jvm.MethodName)) ∈ lw_all := lw_g (lw_at lw_m4 106 rfl) rfl
theorem q925 : (Jvm.Cond.instanceMethod ({ cls := "JokePump$Pump", name := "goesAway", desc := "(I)I" } : Jvm.MethodName)) ∈ lw_all := lw_g (lw_at lw_m4 121 rfl) rfl
theorem q926 : (Jvm.Cond.selects "JokePump$Pump" ({ cls := "JokePump$Pump", name := "goesAway", desc := "(I)I" } : Jvm.MethodName) ({ cls := "JokePump$Pump", name := "goesAway", desc := "(I)I" } : Jvm.MethodName)) ∈ lw_all := lw_g (lw_at lw_m4 122 rfl) rfl
theorem q927 : (Jvm.Cond.code ({ cls := "JokePump$Pump", name := "goesAway", desc := "(I)I" } : Jvm.MethodName) prog_19_method_13_code (2 : Nat) (Option.some Jvm.ClassFile.FieldType.int)) ∈ lw_all := lw_g (lw_at lw_m4 123 rfl) rfl
theorem q928 : (Jvm.Cond.methodLink "JokePump$Pump" (161 : Nat) ({ cls := "JokePump$Pump", name := "removes", desc := "(LJokePump$Joke;)V" } : Jvm.MethodName)) ∈ lw_all := lw_g (lw_at lw_m4 124 rfl) rfl
theorem q929 : (Jvm.Cond.privateMethod ({ cls := "JokePump$Pump", name := "removes", desc := "(LJokePump$Joke;)V" } : Jvm.MethodName)) ∈ lw_tbl := lw_at lw_m4 125 rfl
theorem q930 : (Jvm.Cond.instanceMethod ({ cls := "JokePump$Pump", name := "removes", desc := "(LJokePump$Joke;)V" } : Jvm.MethodName)) ∈ lw_all := lw_g (lw_at lw_m4 126 rfl) rfl
theorem q931 : (Jvm.Cond.code ({ cls := "JokePump$Pump", name := "removes", desc := "(LJokePump$Joke;)V" } : Jvm.MethodName) prog_19_method_12_code (5 : Nat) (Option.none : Option Jvm.ClassFile.FieldType)) ∈ lw_all := lw_g (lw_at lw_m4 127 rfl) rfl
theorem q932 : (Jvm.Cond.methodLink "JokePump$Pump" (158 : Nat) ({ cls := "java/util/ArrayList", name := "remove", desc := "(Ljava/lang/Object;)Z" } : Jvm.MethodName)) ∈ lw_all := lw_g (lw_at lw_m4 128 rfl) rfl
theorem q962 : (Jvm.Cond.selects "JokePump$Pump" ({ cls := "java/lang/Object", name := "equals", desc := "(Ljava/lang/Object;)Z" } : Jvm.MethodName) ({ cls := "java/lang/Object", name := "equals", desc := "(Ljava/lang/Object;)Z" } : Jvm.MethodName)) ∈ lw_all := lw_g (lw_at lw_m4 158 rfl) rfl
theorem q980 : (Jvm.Cond.instanceMethod ({ cls := "JokePump$Pump", name := "drains", desc := "(I)I" } : Jvm.MethodName)) ∈ lw_all := lw_g (lw_at lw_m4 176 rfl) rfl
theorem q981 : (Jvm.Cond.selects "JokePump$Pump" ({ cls := "JokePump$Pump", name := "drains", desc := "(I)I" } : Jvm.MethodName) ({ cls := "JokePump$Pump", name := "drains", desc := "(I)I" } : Jvm.MethodName)) ∈ lw_all := lw_g (lw_at lw_m4 177 rfl) rfl
theorem q982 : (Jvm.Cond.code ({ cls := "JokePump$Pump", name := "drains", desc := "(I)I" } : Jvm.MethodName) prog_19_method_14_code (2 : Nat) (Option.some Jvm.ClassFile.FieldType.int)) ∈ lw_all := lw_g (lw_at lw_m4 178 rfl) rfl
theorem q983 : (Jvm.Cond.methodLink "JokePump$Pump" (164 : Nat) ({ cls := "java/lang/Math", name := "min", desc := "(II)I" } : Jvm.MethodName)) ∈ lw_all := lw_g (lw_at lw_m4 179 rfl) rfl
theorem q985 : (Jvm.Cond.instanceMethod ({ cls := "JokePump$Pump", name := "strikes", desc := "(I)I" } : Jvm.MethodName)) ∈ lw_all := lw_g (lw_at lw_m4 181 rfl) rfl
theorem q986 : (Jvm.Cond.selects "JokePump$Pump" ({ cls := "JokePump$Pump", name := "strikes", desc := "(I)I" } : Jvm.MethodName) ({ cls := "JokePump$Pump", name := "strikes", desc := "(I)I" } : Jvm.MethodName)) ∈ lw_all := lw_g (lw_at lw_m4 182 rfl) rfl
theorem q987 : (Jvm.Cond.code ({ cls := "JokePump$Pump", name := "strikes", desc := "(I)I" } : Jvm.MethodName) prog_19_method_15_code (3 : Nat) (Option.some Jvm.ClassFile.FieldType.int)) ∈ lw_all := lw_g (lw_at lw_m4 183 rfl) rfl
theorem q989 : (Jvm.Cond.instanceMethod ({ cls := "JokePump$Pump", name := "hangs", desc := "(II)I" } : Jvm.MethodName)) ∈ lw_all := lw_g (lw_at lw_m4 185 rfl) rfl
theorem q990 : (Jvm.Cond.selects "JokePump$Pump" ({ cls := "JokePump$Pump", name := "hangs", desc := "(II)I" } : Jvm.MethodName) ({ cls := "JokePump$Pump", name := "hangs", desc := "(II)I" } : Jvm.MethodName)) ∈ lw_all := lw_g (lw_at lw_m4 186 rfl) rfl
theorem q991 : (Jvm.Cond.code ({ cls := "JokePump$Pump", name := "hangs", desc := "(II)I" } : Jvm.MethodName) prog_19_method_16_code (4 : Nat) (Option.some Jvm.ClassFile.FieldType.int)) ∈ lw_all := lw_g (lw_at lw_m4 187 rfl) rfl
theorem q993 : (Jvm.Cond.instanceMethod ({ cls := "JokePump$Pump", name := "goes", desc := "(I)I" } : Jvm.MethodName)) ∈ lw_all := lw_g (lw_at lw_m4 189 rfl) rfl
theorem q994 : (Jvm.Cond.selects "JokePump$Pump" ({ cls := "JokePump$Pump", name := "goes", desc := "(I)I" } : Jvm.MethodName) ({ cls := "JokePump$Pump", name := "goes", desc := "(I)I" } : Jvm.MethodName)) ∈ lw_all := lw_g (lw_at lw_m4 190 rfl) rfl
theorem q995 : (Jvm.Cond.code ({ cls := "JokePump$Pump", name := "goes", desc := "(I)I" } : Jvm.MethodName) prog_19_method_17_code (3 : Nat) (Option.some Jvm.ClassFile.FieldType.int)) ∈ lw_all := lw_g (lw_at lw_m4 191 rfl) rfl
theorem q997 : (Jvm.Cond.instanceMethod ({ cls := "JokePump$Pump", name := "pumps", desc := "(I)I" } : Jvm.MethodName)) ∈ lw_all := lw_g (lw_at lw_m4 193 rfl) rfl
theorem q998 : (Jvm.Cond.selects "JokePump$Pump" ({ cls := "JokePump$Pump", name := "pumps", desc := "(I)I" } : Jvm.MethodName) ({ cls := "JokePump$Pump", name := "pumps", desc := "(I)I" } : Jvm.MethodName)) ∈ lw_all := lw_g (lw_at lw_m4 194 rfl) rfl
theorem q999 : (Jvm.Cond.code ({ cls := "JokePump$Pump", name := "pumps", desc := "(I)I" } : Jvm.MethodName) prog_19_method_23_code (2 : Nat) (Option.some Jvm.ClassFile.FieldType.int)) ∈ lw_all := lw_g (lw_at lw_m4 195 rfl) rfl
theorem q1000 : (Jvm.Cond.methodLink "JokePump$Pump" (190 : Nat) ({ cls := "JokePump$Pump", name := "isGroaning", desc := "()Z" } : Jvm.MethodName)) ∈ lw_all := lw_g (lw_at lw_m4 196 rfl) rfl
theorem q1001 : (Jvm.Cond.instanceMethod ({ cls := "JokePump$Pump", name := "isGroaning", desc := "()Z" } : Jvm.MethodName)) ∈ lw_all := lw_g (lw_at lw_m4 197 rfl) rfl
theorem q1002 : (Jvm.Cond.selects "JokePump$Pump" ({ cls := "JokePump$Pump", name := "isGroaning", desc := "()Z" } : Jvm.MethodName) ({ cls := "JokePump$Pump", name := "isGroaning", desc := "()Z" } : Jvm.MethodName)) ∈ lw_all := lw_g (lw_at lw_m4 198 rfl) rfl
theorem q1003 : (Jvm.Cond.code ({ cls := "JokePump$Pump", name := "isGroaning", desc := "()Z" } : Jvm.MethodName) prog_19_method_20_code (1 : Nat) (Option.some Jvm.ClassFile.FieldType.boolean)) ∈ lw_all := lw_g (lw_at lw_m4 199 rfl) rfl
theorem q1004 : (Jvm.Cond.methodLink "JokePump$Pump" (196 : Nat) ({ cls := "JokePump$Pump", name := "pumpsOn", desc := "(I)I" } : Jvm.MethodName)) ∈ lw_all := lw_g (lw_at lw_m4 200 rfl) rfl
theorem q1005 : (Jvm.Cond.instanceMethod ({ cls := "JokePump$Pump", name := "pumpsOn", desc := "(I)I" } : Jvm.MethodName)) ∈ lw_all := lw_g (lw_at lw_m4 201 rfl) rfl
theorem q1006 : (Jvm.Cond.selects "JokePump$Pump" ({ cls := "JokePump$Pump", name := "pumpsOn", desc := "(I)I" } : Jvm.MethodName) ({ cls := "JokePump$Pump", name := "pumpsOn", desc := "(I)I" } : Jvm.MethodName)) ∈ lw_all := lw_g (lw_at lw_m4 202 rfl) rfl
theorem q1007 : (Jvm.Cond.code ({ cls := "JokePump$Pump", name := "pumpsOn", desc := "(I)I" } : Jvm.MethodName) prog_19_method_22_code (4 : Nat) (Option.some Jvm.ClassFile.FieldType.int)) ∈ lw_all := lw_g (lw_at lw_m4 203 rfl) rfl
theorem q1008 : (Jvm.Cond.methodLink "JokePump$Pump" (193 : Nat) ({ cls := "JokePump$Pump", name := "strokesOnce", desc := "()I" } : Jvm.MethodName)) ∈ lw_all := lw_g (lw_at lw_m4 204 rfl) rfl
theorem q1009 : (Jvm.Cond.privateMethod ({ cls := "JokePump$Pump", name := "strokesOnce", desc := "()I" } : Jvm.MethodName)) ∈ lw_tbl := lw_at lw_m4 205 rfl
theorem q1010 : (Jvm.Cond.instanceMethod ({ cls := "JokePump$Pump", name := "strokesOnce", desc := "()I" } : Jvm.MethodName)) ∈ lw_all := lw_g (lw_at lw_m4 206 rfl) rfl
theorem q1011 : (Jvm.Cond.code ({ cls := "JokePump$Pump", name := "strokesOnce", desc := "()I" } : Jvm.MethodName) prog_19_method_21_code (3 : Nat) (Option.some Jvm.ClassFile.FieldType.int)) ∈ lw_all := lw_g (lw_at lw_m4 207 rfl) rfl
theorem q1012 : (Jvm.Cond.methodLink "JokePump$Pump" (183 : Nat) ({ cls := "JokePump$Pump", name := "at", desc := "(II)LJokePump$Joke;" } : Jvm.MethodName)) ∈ lw_all := lw_g (lw_at lw_m4 208 rfl) rfl
theorem q1013 : (Jvm.Cond.instanceMethod ({ cls := "JokePump$Pump", name := "at", desc := "(II)LJokePump$Joke;" } : Jvm.MethodName)) ∈ lw_all := lw_g (lw_at lw_m4 209 rfl) rfl
theorem q1014 : (Jvm.Cond.selects "JokePump$Pump" ({ cls := "JokePump$Pump", name := "at", desc := "(II)LJokePump$Joke;" } : Jvm.MethodName) ({ cls := "JokePump$Pump", name := "at", desc := "(II)LJokePump$Joke;" } : Jvm.MethodName)) ∈ lw_all := lw_g (lw_at lw_m4 210 rfl) rfl
theorem q1015 : (Jvm.Cond.code ({ cls := "JokePump$Pump", name := "at", desc := "(II)LJokePump$Joke;" } : Jvm.MethodName) prog_19_method_6_code (6 : Nat) (Option.some (Jvm.ClassFile.FieldType.object "JokePump$Joke"))) ∈ lw_all := lw_g (lw_at lw_m4 211 rfl) rfl
theorem q1016 : (Jvm.Cond.methodLink "JokePump$Pump" (119 : Nat) ({ cls := "JokePump$Pump", name := "down", desc := "(I)Ljava/lang/Iterable;" } : Jvm.MethodName)) ∈ lw_all := lw_g (lw_at lw_m4 212 rfl) rfl
theorem q1017 : (Jvm.Cond.instanceMethod ({ cls := "JokePump$Pump", name := "down", desc := "(I)Ljava/lang/Iterable;" } : Jvm.MethodName)) ∈ lw_all := lw_g (lw_at lw_m4 213 rfl) rfl
theorem q1018 : (Jvm.Cond.selects "JokePump$Pump" ({ cls := "JokePump$Pump", name := "down", desc := "(I)Ljava/lang/Iterable;" } : Jvm.MethodName) ({ cls := "JokePump$Pump", name := "down", desc := "(I)Ljava/lang/Iterable;" } : Jvm.MethodName)) ∈ lw_all := lw_g (lw_at lw_m4 214 rfl) rfl
theorem q1019 : (Jvm.Cond.code ({ cls := "JokePump$Pump", name := "down", desc := "(I)Ljava/lang/Iterable;" } : Jvm.MethodName) prog_19_method_4_code (2 : Nat) (Option.some (Jvm.ClassFile.FieldType.object "java/lang/Iterable"))) ∈ lw_all := lw_g (lw_at lw_m4 215 rfl) rfl
theorem q1020 : (Jvm.Cond.classLink "JokePump$Pump" (109 : Nat) "JokePump$Pump$1") ∈ lw_all := lw_g (lw_at lw_m4 216 rfl) rfl
theorem q1022 : (Jvm.Cond.methodLink "JokePump$Pump" (111 : Nat) ({ cls := "JokePump$Pump$1", name := "<init>", desc := "(LJokePump$Pump;I)V" } : Jvm.MethodName)) ∈ lw_all := lw_g (lw_at lw_m4 218 rfl) rfl
theorem q1033 : (Jvm.Cond.interfaceEntry "JokePump$Pump" (123 : Nat)) ∈ lw_tbl := lw_at lw_m4 229 rfl
theorem q1034 : (Jvm.Cond.methodLink "JokePump$Pump" (123 : Nat) ({ cls := "java/lang/Iterable", name := "iterator", desc := "()Ljava/util/Iterator;" } : Jvm.MethodName)) ∈ lw_all := lw_g (lw_at lw_m4 230 rfl) rfl
theorem q1112 : (Jvm.Cond.methodLink "JokePump$Pump" (187 : Nat) ({ cls := "JokePump$Pump", name := "lifts", desc := "(LJokePump$Joke;)V" } : Jvm.MethodName)) ∈ lw_all := lw_g (lw_at lw_m5 68 rfl) rfl
theorem q1113 : (Jvm.Cond.privateMethod ({ cls := "JokePump$Pump", name := "lifts", desc := "(LJokePump$Joke;)V" } : Jvm.MethodName)) ∈ lw_tbl := lw_at lw_m5 69 rfl
theorem q1114 : (Jvm.Cond.instanceMethod ({ cls := "JokePump$Pump", name := "lifts", desc := "(LJokePump$Joke;)V" } : Jvm.MethodName)) ∈ lw_all := lw_g (lw_at lw_m5 70 rfl) rfl
theorem q1115 : (Jvm.Cond.code ({ cls := "JokePump$Pump", name := "lifts", desc := "(LJokePump$Joke;)V" } : Jvm.MethodName) prog_19_method_19_code (4 : Nat) (Option.none : Option Jvm.ClassFile.FieldType)) ∈ lw_all := lw_g (lw_at lw_m5 71 rfl) rfl
theorem q1117 : (Jvm.Cond.methodLink "JokePump$Pump" (172 : Nat) ({ cls := "JokePump$Lifted", name := "<init>", desc := "(LJokePump$Joke;I)V" } : Jvm.MethodName)) ∈ lw_all := lw_g (lw_at lw_m5 73 rfl) rfl
theorem q1138 : (Jvm.Cond.methodLink "JokePump$Pump" (175 : Nat) ({ cls := "JokePump$Pump", name := "remembers", desc := "(LJokePump$Told;)Z" } : Jvm.MethodName)) ∈ lw_all := lw_g (lw_at lw_m5 94 rfl) rfl
theorem q1139 : (Jvm.Cond.instanceMethod ({ cls := "JokePump$Pump", name := "remembers", desc := "(LJokePump$Told;)Z" } : Jvm.MethodName)) ∈ lw_all := lw_g (lw_at lw_m5 95 rfl) rfl
theorem q1140 : (Jvm.Cond.selects "JokePump$Pump" ({ cls := "JokePump$Pump", name := "remembers", desc := "(LJokePump$Told;)Z" } : Jvm.MethodName) ({ cls := "JokePump$Pump", name := "remembers", desc := "(LJokePump$Told;)Z" } : Jvm.MethodName)) ∈ lw_all := lw_g (lw_at lw_m5 96 rfl) rfl
theorem q1141 : (Jvm.Cond.codeWith ({ cls := "JokePump$Pump", name := "remembers", desc := "(LJokePump$Told;)Z" } : Jvm.MethodName) prog_19_method_18_code (3 : Nat) (Option.some Jvm.ClassFile.FieldType.boolean) [((0 : Nat), (21 : Nat), (22 : Nat), (170 : Nat))]) ∈ lw_all := lw_g (lw_at lw_m5 97 rfl) rfl
theorem q1142 : (Jvm.Cond.classLink "JokePump$Pump" (170 : Nat) "java/lang/ArrayStoreException") ∈ lw_all := lw_g (lw_at lw_m5 98 rfl) rfl
theorem q1169 : (Jvm.Cond.methodLink "JokePump$Pump" (179 : Nat) ({ cls := "JokePump$Lifted", name := "laugh", desc := "()F" } : Jvm.MethodName)) ∈ lw_all := lw_g (lw_at lw_m5 125 rfl) rfl
theorem q1394 : (Jvm.Cond.instanceMethod ({ cls := "JokePump$Pump", name := "lessDeep", desc := "(LJokePump$Joke;)I" } : Jvm.MethodName)) ∈ lw_all := lw_g (lw_at lw_m6 110 rfl) rfl
theorem q1395 : (Jvm.Cond.selects "JokePump$Pump" ({ cls := "JokePump$Pump", name := "lessDeep", desc := "(LJokePump$Joke;)I" } : Jvm.MethodName) ({ cls := "JokePump$Pump", name := "lessDeep", desc := "(LJokePump$Joke;)I" } : Jvm.MethodName)) ∈ lw_all := lw_g (lw_at lw_m6 111 rfl) rfl
theorem q1396 : (Jvm.Cond.code ({ cls := "JokePump$Pump", name := "lessDeep", desc := "(LJokePump$Joke;)I" } : Jvm.MethodName) prog_19_method_7_code (5 : Nat) (Option.some Jvm.ClassFile.FieldType.int)) ∈ lw_all := lw_g (lw_at lw_m6 112 rfl) rfl
theorem q1434 : (Jvm.Cond.instanceMethod ({ cls := "JokePump$Pump", name := "laughsAgain", desc := "()F" } : Jvm.MethodName)) ∈ lw_all := lw_g (lw_at lw_m6 150 rfl) rfl
theorem q1435 : (Jvm.Cond.selects "JokePump$Pump" ({ cls := "JokePump$Pump", name := "laughsAgain", desc := "()F" } : Jvm.MethodName) ({ cls := "JokePump$Pump", name := "laughsAgain", desc := "()F" } : Jvm.MethodName)) ∈ lw_all := lw_g (lw_at lw_m6 151 rfl) rfl
theorem q1436 : (Jvm.Cond.code ({ cls := "JokePump$Pump", name := "laughsAgain", desc := "()F" } : Jvm.MethodName) prog_19_method_28_code (3 : Nat) (Option.some Jvm.ClassFile.FieldType.float)) ∈ lw_all := lw_g (lw_at lw_m6 152 rfl) rfl
theorem q1437 : (Jvm.Cond.methodLink "JokePump$Pump" (205 : Nat) ({ cls := "JokePump$Told", name := "laugh", desc := "()F" } : Jvm.MethodName)) ∈ lw_all := lw_g (lw_at lw_m6 153 rfl) rfl
theorem q1458 : (Jvm.Cond.instanceMethod ({ cls := "JokePump$Pump", name := "strokesTo", desc := "(I)I" } : Jvm.MethodName)) ∈ lw_all := lw_g (lw_at lw_m6 174 rfl) rfl
theorem q1459 : (Jvm.Cond.selects "JokePump$Pump" ({ cls := "JokePump$Pump", name := "strokesTo", desc := "(I)I" } : Jvm.MethodName) ({ cls := "JokePump$Pump", name := "strokesTo", desc := "(I)I" } : Jvm.MethodName)) ∈ lw_all := lw_g (lw_at lw_m6 175 rfl) rfl
theorem q1460 : (Jvm.Cond.code ({ cls := "JokePump$Pump", name := "strokesTo", desc := "(I)I" } : Jvm.MethodName) prog_19_method_24_code (4 : Nat) (Option.some Jvm.ClassFile.FieldType.int)) ∈ lw_all := lw_g (lw_at lw_m6 176 rfl) rfl
theorem q1466 : (Jvm.Cond.instanceMethod ({ cls := "JokePump$Pump", name := "strokesAgain", desc := "(I)I" } : Jvm.MethodName)) ∈ lw_all := lw_g (lw_at lw_m6 182 rfl) rfl
theorem q1467 : (Jvm.Cond.selects "JokePump$Pump" ({ cls := "JokePump$Pump", name := "strokesAgain", desc := "(I)I" } : Jvm.MethodName) ({ cls := "JokePump$Pump", name := "strokesAgain", desc := "(I)I" } : Jvm.MethodName)) ∈ lw_all := lw_g (lw_at lw_m6 183 rfl) rfl
theorem q1468 : (Jvm.Cond.code ({ cls := "JokePump$Pump", name := "strokesAgain", desc := "(I)I" } : Jvm.MethodName) prog_19_method_25_code (2 : Nat) (Option.some Jvm.ClassFile.FieldType.int)) ∈ lw_all := lw_g (lw_at lw_m6 184 rfl) rfl
theorem q1469 : (Jvm.Cond.methodLink "JokePump$Pump" (199 : Nat) ({ cls := "java/lang/Math", name := "max", desc := "(II)I" } : Jvm.MethodName)) ∈ lw_all := lw_g (lw_at lw_m6 185 rfl) rfl
theorem q1485 : (Jvm.Cond.instanceMethod ({ cls := "JokePump$Pump", name := "bestStroke", desc := "()I" } : Jvm.MethodName)) ∈ lw_all := lw_g (lw_at lw_m6 201 rfl) rfl
theorem q1486 : (Jvm.Cond.selects "JokePump$Pump" ({ cls := "JokePump$Pump", name := "bestStroke", desc := "()I" } : Jvm.MethodName) ({ cls := "JokePump$Pump", name := "bestStroke", desc := "()I" } : Jvm.MethodName)) ∈ lw_all := lw_g (lw_at lw_m6 202 rfl) rfl
theorem q1487 : (Jvm.Cond.code ({ cls := "JokePump$Pump", name := "bestStroke", desc := "()I" } : Jvm.MethodName) prog_19_method_27_code (4 : Nat) (Option.some Jvm.ClassFile.FieldType.int)) ∈ lw_all := lw_g (lw_at lw_m6 203 rfl) rfl
theorem q1488 : (Jvm.Cond.methodLink "JokePump$Pump" (202 : Nat) ({ cls := "JokePump$Pump", name := "groansBy", desc := "(II)I" } : Jvm.MethodName)) ∈ lw_all := lw_g (lw_at lw_m6 204 rfl) rfl
theorem q1489 : (Jvm.Cond.privateMethod ({ cls := "JokePump$Pump", name := "groansBy", desc := "(II)I" } : Jvm.MethodName)) ∈ lw_tbl := lw_at lw_m6 205 rfl
theorem q1490 : (Jvm.Cond.instanceMethod ({ cls := "JokePump$Pump", name := "groansBy", desc := "(II)I" } : Jvm.MethodName)) ∈ lw_all := lw_g (lw_at lw_m6 206 rfl) rfl
theorem q1491 : (Jvm.Cond.code ({ cls := "JokePump$Pump", name := "groansBy", desc := "(II)I" } : Jvm.MethodName) prog_19_method_26_code (5 : Nat) (Option.some Jvm.ClassFile.FieldType.int)) ∈ lw_all := lw_g (lw_at lw_m6 207 rfl) rfl
theorem q1559 : (Jvm.Cond.instanceMethod ({ cls := "JokePump$Pump", name := "primed", desc := "()I" } : Jvm.MethodName)) ∈ lw_all := lw_g (lw_at lw_m7 35 rfl) rfl
theorem q1560 : (Jvm.Cond.selects "JokePump$Pump" ({ cls := "JokePump$Pump", name := "primed", desc := "()I" } : Jvm.MethodName) ({ cls := "JokePump$Pump", name := "primed", desc := "()I" } : Jvm.MethodName)) ∈ lw_all := lw_g (lw_at lw_m7 36 rfl) rfl
theorem q1561 : (Jvm.Cond.code ({ cls := "JokePump$Pump", name := "primed", desc := "()I" } : Jvm.MethodName) prog_19_method_8_code (4 : Nat) (Option.some Jvm.ClassFile.FieldType.int)) ∈ lw_all := lw_g (lw_at lw_m7 37 rfl) rfl
theorem q2491 : (Jvm.Cond.castable "JokePump$Pump" "java/lang/Object") ∈ lw_tbl := lw_at lw_m11 7 rfl
theorem in_X1 : ∀ w ∈ wsX10, w ∈ lw_all := lw_in wsX10 [216, 218, 220, 222, 224, 226, 228, 230, 232, 234, 236, 238, 240, 242, 244, 246] (by decide +kernel) (by decide +kernel)

/-! JokePump$Pump$Down -/
set_option maxRecDepth 100000
def RX10 : String := "JokePump$Pump$Down"
def TX10 : u_T := fun k => match k with
  | 0 => ("JokePump$Pump$Down", "of", "I", true)
  | 1 => ("JokePump$Pump$Down", "above", "I", false)
  | _ => ("JokePump$Pump$Down", "this$0", "LJokePump$Pump;", true)
def tyX10 : Nat → FieldType := fun k => match k with
  | 0 => .int
  | 1 => .int
  | _ => .object "JokePump$Pump"
abbrev wsX100 : List Cond := u_ws RX10 TX10 3
theorem nmX10 : ∀ a, a < 3 → ∀ b, b < 3 → a ≠ b → (TX10 a).2.1 ≠ (TX10 b).2.1 := by decide +kernel
theorem tyX10_ok : ∀ k, k < 3 → parseFieldDescriptor (TX10 k).2.2.1 = some (tyX10 k) := by decide +kernel
abbrev cX10_hasNext : ByteArray := prog_21_method_3_code
def yX10_hasNext : MethodName := ⟨RX10, "hasNext", "()Z"⟩
def dkwX10_hasNext_0 : List UInt8 := [42, 182, 0, 50, 198, 0, 7, 4, 167, 0, 4, 3, 172]
abbrev dktX10_hasNext_0 : List UInt8 := dkwX10_hasNext_0 ++ []
theorem dksX10_hasNext_0 : cX10_hasNext.data.toList.drop 0 = dktX10_hasNext_0 := by decide +kernel
theorem dX10_hasNext_0 : decode cX10_hasNext 0 = .ok (.aload_n 0, 1) := dk_42 (dk_at dksX10_hasNext_0 0 rfl rfl)
theorem dX10_hasNext_1 : decode cX10_hasNext 1 = .ok (.invokevirtual 50, 3) := dk_182 0 50 (dk_at dksX10_hasNext_0 1 rfl rfl)
theorem dX10_hasNext_4 : decode cX10_hasNext 4 = .ok (.ifnull 7, 3) := dk_198 0 7 (dk_at dksX10_hasNext_0 4 rfl rfl)
theorem dX10_hasNext_7 : decode cX10_hasNext 7 = .ok (.iconst 1, 1) := dk_4 (dk_at dksX10_hasNext_0 7 rfl rfl)
theorem dX10_hasNext_8 : decode cX10_hasNext 8 = .ok (.goto 4, 3) := dk_167 0 4 (dk_at dksX10_hasNext_0 8 rfl rfl)
theorem dX10_hasNext_11 : decode cX10_hasNext 11 = .ok (.iconst 0, 1) := dk_3 (dk_at dksX10_hasNext_0 11 rfl rfl)
theorem dX10_hasNext_12 : decode cX10_hasNext 12 = .ok (.ireturn, 1) := dk_172 (dk_at dksX10_hasNext_0 12 rfl rfl)
abbrev cX10_found : ByteArray := prog_21_method_2_code
def yX10_found : MethodName := ⟨RX10, "found", "()LJokePump$Joke;"⟩
def dkwX10_found_3 : List UInt8 := [167, 255, 198, 43, 176]
abbrev dktX10_found_3 : List UInt8 := dkwX10_found_3 ++ []
def dkwX10_found_2 : List UInt8 := [42, 180, 0, 47, 164, 0, 20, 43, 198, 0, 14, 45, 180, 0, 44, 43, 180, 0, 44, 162, 0, 5, 45, 76]
abbrev dktX10_found_2 : List UInt8 := dkwX10_found_2 ++ dktX10_found_3
def dkwX10_found_1 : List UInt8 := [185, 0, 35, 1, 0, 192, 0, 39, 78, 45, 180, 0, 41, 42, 180, 0, 13, 160, 0, 31, 45, 180, 0, 44]
abbrev dktX10_found_1 : List UInt8 := dkwX10_found_1 ++ dktX10_found_2
def dkwX10_found_0 : List UInt8 := [1, 76, 42, 180, 0, 1, 180, 0, 17, 182, 0, 23, 77, 44, 185, 0, 29, 1, 0, 153, 0, 55, 44]
abbrev dktX10_found_0 : List UInt8 := dkwX10_found_0 ++ dktX10_found_1
theorem dksX10_found_0 : cX10_found.data.toList.drop 0 = dktX10_found_0 := by decide +kernel
theorem dksX10_found_1 : cX10_found.data.toList.drop 23 = dktX10_found_1 := dk_seg dksX10_found_0 23 rfl rfl
theorem dksX10_found_2 : cX10_found.data.toList.drop 47 = dktX10_found_2 := dk_seg dksX10_found_1 24 rfl rfl
theorem dksX10_found_3 : cX10_found.data.toList.drop 71 = dktX10_found_3 := dk_seg dksX10_found_2 24 rfl rfl
theorem dX10_found_0 : decode cX10_found 0 = .ok (.aconst_null, 1) := dk_1 (dk_at dksX10_found_0 0 rfl rfl)
theorem dX10_found_1 : decode cX10_found 1 = .ok (.astore_n 1, 1) := dk_76 (dk_at dksX10_found_0 1 rfl rfl)
theorem dX10_found_2 : decode cX10_found 2 = .ok (.aload_n 0, 1) := dk_42 (dk_at dksX10_found_0 2 rfl rfl)
theorem dX10_found_3 : decode cX10_found 3 = .ok (.getfield 1, 3) := dk_180 0 1 (dk_at dksX10_found_0 3 rfl rfl)
theorem dX10_found_6 : decode cX10_found 6 = .ok (.getfield 17, 3) := dk_180 0 17 (dk_at dksX10_found_0 6 rfl rfl)
theorem dX10_found_9 : decode cX10_found 9 = .ok (.invokevirtual 23, 3) := dk_182 0 23 (dk_at dksX10_found_0 9 rfl rfl)
theorem dX10_found_12 : decode cX10_found 12 = .ok (.astore_n 2, 1) := dk_77 (dk_at dksX10_found_0 12 rfl rfl)
theorem dX10_found_13 : decode cX10_found 13 = .ok (.aload_n 2, 1) := dk_44 (dk_at dksX10_found_0 13 rfl rfl)
theorem dX10_found_14 : decode cX10_found 14 = .ok (.invokeinterface 29 1, 5) := by decide +kernel
theorem dX10_found_19 : decode cX10_found 19 = .ok (.ifCond .eq 55, 3) := dk_153 0 55 (dk_at dksX10_found_0 19 rfl rfl)
theorem dX10_found_22 : decode cX10_found 22 = .ok (.aload_n 2, 1) := dk_44 (dk_at dksX10_found_0 22 rfl rfl)
theorem dX10_found_23 : decode cX10_found 23 = .ok (.invokeinterface 35 1, 5) := by decide +kernel
theorem dX10_found_28 : decode cX10_found 28 = .ok (.checkcast 39, 3) := dk_192 0 39 (dk_at dksX10_found_1 5 rfl rfl)
theorem dX10_found_31 : decode cX10_found 31 = .ok (.astore_n 3, 1) := dk_78 (dk_at dksX10_found_1 8 rfl rfl)
theorem dX10_found_32 : decode cX10_found 32 = .ok (.aload_n 3, 1) := dk_45 (dk_at dksX10_found_1 9 rfl rfl)
theorem dX10_found_33 : decode cX10_found 33 = .ok (.getfield 41, 3) := dk_180 0 41 (dk_at dksX10_found_1 10 rfl rfl)
theorem dX10_found_36 : decode cX10_found 36 = .ok (.aload_n 0, 1) := dk_42 (dk_at dksX10_found_1 13 rfl rfl)
theorem dX10_found_37 : decode cX10_found 37 = .ok (.getfield 13, 3) := dk_180 0 13 (dk_at dksX10_found_1 14 rfl rfl)
theorem dX10_found_40 : decode cX10_found 40 = .ok (.if_icmp .ne 31, 3) := dk_160 0 31 (dk_at dksX10_found_1 17 rfl rfl)
theorem dX10_found_43 : decode cX10_found 43 = .ok (.aload_n 3, 1) := dk_45 (dk_at dksX10_found_1 20 rfl rfl)
theorem dX10_found_44 : decode cX10_found 44 = .ok (.getfield 44, 3) := dk_180 0 44 (dk_at dksX10_found_1 21 rfl rfl)
theorem dX10_found_47 : decode cX10_found 47 = .ok (.aload_n 0, 1) := dk_42 (dk_at dksX10_found_2 0 rfl rfl)
theorem dX10_found_48 : decode cX10_found 48 = .ok (.getfield 47, 3) := dk_180 0 47 (dk_at dksX10_found_2 1 rfl rfl)
theorem dX10_found_51 : decode cX10_found 51 = .ok (.if_icmp .le 20, 3) := dk_164 0 20 (dk_at dksX10_found_2 4 rfl rfl)
theorem dX10_found_54 : decode cX10_found 54 = .ok (.aload_n 1, 1) := dk_43 (dk_at dksX10_found_2 7 rfl rfl)
theorem dX10_found_55 : decode cX10_found 55 = .ok (.ifnull 14, 3) := dk_198 0 14 (dk_at dksX10_found_2 8 rfl rfl)
theorem dX10_found_58 : decode cX10_found 58 = .ok (.aload_n 3, 1) := dk_45 (dk_at dksX10_found_2 11 rfl rfl)
theorem dX10_found_59 : decode cX10_found 59 = .ok (.getfield 44, 3) := dk_180 0 44 (dk_at dksX10_found_2 12 rfl rfl)
theorem dX10_found_62 : decode cX10_found 62 = .ok (.aload_n 1, 1) := dk_43 (dk_at dksX10_found_2 15 rfl rfl)
theorem dX10_found_63 : decode cX10_found 63 = .ok (.getfield 44, 3) := dk_180 0 44 (dk_at dksX10_found_2 16 rfl rfl)
theorem dX10_found_66 : decode cX10_found 66 = .ok (.if_icmp .ge 5, 3) := dk_162 0 5 (dk_at dksX10_found_2 19 rfl rfl)
theorem dX10_found_69 : decode cX10_found 69 = .ok (.aload_n 3, 1) := dk_45 (dk_at dksX10_found_2 22 rfl rfl)
theorem dX10_found_70 : decode cX10_found 70 = .ok (.astore_n 1, 1) := dk_76 (dk_at dksX10_found_2 23 rfl rfl)
theorem dX10_found_71 : decode cX10_found 71 = .ok (.goto (-58), 3) := dk_167 255 198 (dk_at dksX10_found_3 0 rfl rfl)
theorem dX10_found_74 : decode cX10_found 74 = .ok (.aload_n 1, 1) := dk_43 (dk_at dksX10_found_3 3 rfl rfl)
theorem dX10_found_75 : decode cX10_found 75 = .ok (.areturn, 1) := dk_176 (dk_at dksX10_found_3 4 rfl rfl)
abbrev cX10_next : ByteArray := prog_21_method_5_code
def yX10_next : MethodName := ⟨RX10, "next", "()Ljava/lang/Object;"⟩
theorem dX10_next_0 : decode cX10_next 0 = .ok (.aload_n 0, 1) := by decide +kernel
theorem dX10_next_1 : decode cX10_next 1 = .ok (.invokevirtual 57, 3) := by decide +kernel
theorem dX10_next_4 : decode cX10_next 4 = .ok (.areturn, 1) := by decide +kernel
abbrev cX10_next_2 : ByteArray := prog_21_method_4_code
def yX10_next_2 : MethodName := ⟨RX10, "next", "()LJokePump$Joke;"⟩
def dkwX10_next_2_1 : List UInt8 := [181, 0, 47, 43, 176]
abbrev dktX10_next_2_1 : List UInt8 := dkwX10_next_2_1 ++ []
def dkwX10_next_2_0 : List UInt8 := [42, 182, 0, 50, 76, 43, 199, 0, 11, 187, 0, 54, 89, 183, 0, 56, 191, 42, 43, 180, 0, 44]
abbrev dktX10_next_2_0 : List UInt8 := dkwX10_next_2_0 ++ dktX10_next_2_1
theorem dksX10_next_2_0 : cX10_next_2.data.toList.drop 0 = dktX10_next_2_0 := by decide +kernel
theorem dksX10_next_2_1 : cX10_next_2.data.toList.drop 22 = dktX10_next_2_1 := dk_seg dksX10_next_2_0 22 rfl rfl
theorem dX10_next_2_0 : decode cX10_next_2 0 = .ok (.aload_n 0, 1) := dk_42 (dk_at dksX10_next_2_0 0 rfl rfl)
theorem dX10_next_2_1 : decode cX10_next_2 1 = .ok (.invokevirtual 50, 3) := dk_182 0 50 (dk_at dksX10_next_2_0 1 rfl rfl)
theorem dX10_next_2_4 : decode cX10_next_2 4 = .ok (.astore_n 1, 1) := dk_76 (dk_at dksX10_next_2_0 4 rfl rfl)
theorem dX10_next_2_5 : decode cX10_next_2 5 = .ok (.aload_n 1, 1) := dk_43 (dk_at dksX10_next_2_0 5 rfl rfl)
theorem dX10_next_2_6 : decode cX10_next_2 6 = .ok (.ifnonnull 11, 3) := dk_199 0 11 (dk_at dksX10_next_2_0 6 rfl rfl)
theorem dX10_next_2_9 : decode cX10_next_2 9 = .ok (.new 54, 3) := dk_187 0 54 (dk_at dksX10_next_2_0 9 rfl rfl)
theorem dX10_next_2_12 : decode cX10_next_2 12 = .ok (.dup, 1) := dk_89 (dk_at dksX10_next_2_0 12 rfl rfl)
theorem dX10_next_2_13 : decode cX10_next_2 13 = .ok (.invokespecial 56, 3) := dk_183 0 56 (dk_at dksX10_next_2_0 13 rfl rfl)
theorem dX10_next_2_16 : decode cX10_next_2 16 = .ok (.athrow, 1) := dk_191 (dk_at dksX10_next_2_0 16 rfl rfl)
theorem dX10_next_2_17 : decode cX10_next_2 17 = .ok (.aload_n 0, 1) := dk_42 (dk_at dksX10_next_2_0 17 rfl rfl)
theorem dX10_next_2_18 : decode cX10_next_2 18 = .ok (.aload_n 1, 1) := dk_43 (dk_at dksX10_next_2_0 18 rfl rfl)
theorem dX10_next_2_19 : decode cX10_next_2 19 = .ok (.getfield 44, 3) := dk_180 0 44 (dk_at dksX10_next_2_0 19 rfl rfl)
theorem dX10_next_2_22 : decode cX10_next_2 22 = .ok (.putfield 47, 3) := dk_181 0 47 (dk_at dksX10_next_2_1 0 rfl rfl)
theorem dX10_next_2_25 : decode cX10_next_2 25 = .ok (.aload_n 1, 1) := dk_43 (dk_at dksX10_next_2_1 3 rfl rfl)
theorem dX10_next_2_26 : decode cX10_next_2 26 = .ok (.areturn, 1) := dk_176 (dk_at dksX10_next_2_1 4 rfl rfl)
abbrev cX10_init : ByteArray := prog_21_method_1_code
def yX10_init : MethodName := ⟨RX10, "<init>", "(LJokePump$Pump;I)V"⟩
def dkwX10_init_0 : List UInt8 := [42, 43, 181, 0, 1, 42, 183, 0, 7, 42, 28, 181, 0, 13, 177]
abbrev dktX10_init_0 : List UInt8 := dkwX10_init_0 ++ []
theorem dksX10_init_0 : cX10_init.data.toList.drop 0 = dktX10_init_0 := by decide +kernel
theorem dX10_init_0 : decode cX10_init 0 = .ok (.aload_n 0, 1) := dk_42 (dk_at dksX10_init_0 0 rfl rfl)
theorem dX10_init_1 : decode cX10_init 1 = .ok (.aload_n 1, 1) := dk_43 (dk_at dksX10_init_0 1 rfl rfl)
theorem dX10_init_2 : decode cX10_init 2 = .ok (.putfield 1, 3) := dk_181 0 1 (dk_at dksX10_init_0 2 rfl rfl)
theorem dX10_init_5 : decode cX10_init 5 = .ok (.aload_n 0, 1) := dk_42 (dk_at dksX10_init_0 5 rfl rfl)
theorem dX10_init_6 : decode cX10_init 6 = .ok (.invokespecial 7, 3) := dk_183 0 7 (dk_at dksX10_init_0 6 rfl rfl)
theorem dX10_init_9 : decode cX10_init 9 = .ok (.aload_n 0, 1) := dk_42 (dk_at dksX10_init_0 9 rfl rfl)
theorem dX10_init_10 : decode cX10_init 10 = .ok (.iload_n 2, 1) := dk_28 (dk_at dksX10_init_0 10 rfl rfl)
theorem dX10_init_11 : decode cX10_init 11 = .ok (.putfield 13, 3) := dk_181 0 13 (dk_at dksX10_init_0 11 rfl rfl)
theorem dX10_init_14 : decode cX10_init 14 = .ok (.return_, 1) := dk_177 (dk_at dksX10_init_0 14 rfl rfl)
theorem q113 : (Jvm.Cond.initialized "JokePump$Pump$Down") ∈ lw_all := lw_g (lw_at lw_m1 29 rfl) rfl
theorem q183 : (Jvm.Cond.fieldLinkNest "JokePump$Pump$Down" (17 : Nat) "JokePump$Pump" "jokes" "Ljava/util/ArrayList;" "JokePump") ∈ lw_tbl := lw_at lw_m1 99 rfl
theorem q414 : (Jvm.Cond.castable "JokePump$Pump$Down" "java/util/Iterator") ∈ lw_tbl := lw_at lw_m2 90 rfl
theorem q415 : (Jvm.Cond.selects "JokePump$Pump$Down" ({ cls := "java/util/Iterator", name := "hasNext", desc := "()Z" } : Jvm.MethodName) ({ cls := "JokePump$Pump$Down", name := "hasNext", desc := "()Z" } : Jvm.MethodName)) ∈ lw_all := lw_g (lw_at lw_m2 91 rfl) rfl
theorem q416 : (Jvm.Cond.unhidden "JokePump$Pump$Down" "hasNext" "()Z") ∈ lw_tbl := lw_at lw_m2 92 rfl
theorem q417 : (Jvm.Cond.instanceMethod ({ cls := "JokePump$Pump$Down", name := "hasNext", desc := "()Z" } : Jvm.MethodName)) ∈ lw_all := lw_g (lw_at lw_m2 93 rfl) rfl
theorem q418 : (Jvm.Cond.publicMethod ({ cls := "JokePump$Pump$Down", name := "hasNext", desc := "()Z" } : Jvm.MethodName)) ∈ lw_tbl := lw_at lw_m2 94 rfl
theorem q419 : (Jvm.Cond.code ({ cls := "JokePump$Pump$Down", name := "hasNext", desc := "()Z" } : Jvm.MethodName) prog_21_method_3_code (1 : Nat) (Option.some Jvm.ClassFile.FieldType.boolean)) ∈ lw_all := lw_g (lw_at lw_m2 95 rfl) rfl
theorem q420 : (Jvm.Cond.methodLink "JokePump$Pump$Down" (50 : Nat) ({ cls := "JokePump$Pump$Down", name := "found", desc := "()LJokePump$Joke;" } : Jvm.MethodName)) ∈ lw_all := lw_g (lw_at lw_m2 96 rfl) rfl
theorem q421 : (Jvm.Cond.privateMethod ({ cls := "JokePump$Pump$Down", name := "found", desc := "()LJokePump$Joke;" } : Jvm.MethodName)) ∈ lw_tbl := lw_at lw_m2 97 rfl
theorem q422 : (Jvm.Cond.instanceMethod ({ cls := "JokePump$Pump$Down", name := "found", desc := "()LJokePump$Joke;" } : Jvm.MethodName)) ∈ lw_all := lw_g (lw_at lw_m2 98 rfl) rfl
theorem q423 : (Jvm.Cond.instantiable "JokePump$Pump$Down" (3 : Nat)) ∈ lw_all := lw_g (lw_at lw_m2 99 rfl) rfl
theorem q424 : (Jvm.Cond.code ({ cls := "JokePump$Pump$Down", name := "found", desc := "()LJokePump$Joke;" } : Jvm.MethodName) prog_21_method_2_code (4 : Nat) (Option.some (Jvm.ClassFile.FieldType.object "JokePump$Joke"))) ∈ lw_all := lw_g (lw_at lw_m2 100 rfl) rfl
theorem q425 : (Jvm.Cond.methodLink "JokePump$Pump$Down" (23 : Nat) ({ cls := "java/util/ArrayList", name := "iterator", desc := "()Ljava/util/Iterator;" } : Jvm.MethodName)) ∈ lw_all := lw_g (lw_at lw_m2 101 rfl) rfl
theorem q426 : (Jvm.Cond.interfaceEntry "JokePump$Pump$Down" (29 : Nat)) ∈ lw_tbl := lw_at lw_m2 102 rfl
theorem q427 : (Jvm.Cond.methodLink "JokePump$Pump$Down" (29 : Nat) ({ cls := "java/util/Iterator", name := "hasNext", desc := "()Z" } : Jvm.MethodName)) ∈ lw_all := lw_g (lw_at lw_m2 103 rfl) rfl
theorem q440 : (Jvm.Cond.interfaceEntry "JokePump$Pump$Down" (35 : Nat)) ∈ lw_tbl := lw_at lw_m2 116 rfl
theorem q441 : (Jvm.Cond.methodLink "JokePump$Pump$Down" (35 : Nat) ({ cls := "java/util/Iterator", name := "next", desc := "()Ljava/lang/Object;" } : Jvm.MethodName)) ∈ lw_all := lw_g (lw_at lw_m2 117 rfl) rfl
theorem q519 : (Jvm.Cond.selects "JokePump$Pump$Down" ({ cls := "java/util/Iterator", name := "next", desc := "()Ljava/lang/Object;" } : Jvm.MethodName) ({ cls := "JokePump$Pump$Down", name := "next", desc := "()Ljava/lang/Object;" } : Jvm.MethodName)) ∈ lw_all := lw_g (lw_at lw_m2 195 rfl) rfl
theorem q520 : (Jvm.Cond.unhidden "JokePump$Pump$Down" "next" "()Ljava/lang/Object;") ∈ lw_tbl := lw_at lw_m2 196 rfl
theorem q521 : (Jvm.Cond.instanceMethod ({ cls := "JokePump$Pump$Down", name := "next", desc := "()Ljava/lang/Object;" } : Jvm.MethodName)) ∈ lw_all := lw_g (lw_at lw_m2 197 rfl) rfl
theorem q522 : (Jvm.Cond.publicMethod ({ cls := "JokePump$Pump$Down", name := "next", desc := "()Ljava/lang/Object;" } : Jvm.MethodName)) ∈ lw_tbl := lw_at lw_m2 198 rfl
theorem q523 : (Jvm.Cond.code ({ cls := "JokePump$Pump$Down", name := "next", desc := "()Ljava/lang/Object;" } : Jvm.MethodName) prog_21_method_5_code (1 : Nat) (Option.some (Jvm.ClassFile.FieldType.object "java/lang/Object"))) ∈ lw_all := lw_g (lw_at lw_m2 199 rfl) rfl
theorem q524 : (Jvm.Cond.methodLink "JokePump$Pump$Down" (57 : Nat) ({ cls := "JokePump$Pump$Down", name := "next", desc := "()LJokePump$Joke;" } : Jvm.MethodName)) ∈ lw_all := lw_g (lw_at lw_m2 200 rfl) rfl
theorem q525 : (Jvm.Cond.instanceMethod ({ cls := "JokePump$Pump$Down", name := "next", desc := "()LJokePump$Joke;" } : Jvm.MethodName)) ∈ lw_all := lw_g (lw_at lw_m2 201 rfl) rfl
theorem q526 : (Jvm.Cond.selects "JokePump$Pump$Down" ({ cls := "JokePump$Pump$Down", name := "next", desc := "()LJokePump$Joke;" } : Jvm.MethodName) ({ cls := "JokePump$Pump$Down", name := "next", desc := "()LJokePump$Joke;" } : Jvm.MethodName)) ∈ lw_all := lw_g (lw_at lw_m2 202 rfl) rfl
theorem q527 : (Jvm.Cond.code ({ cls := "JokePump$Pump$Down", name := "next", desc := "()LJokePump$Joke;" } : Jvm.MethodName) prog_21_method_4_code (2 : Nat) (Option.some (Jvm.ClassFile.FieldType.object "JokePump$Joke"))) ∈ lw_all := lw_g (lw_at lw_m2 203 rfl) rfl
theorem q528 : (Jvm.Cond.classLink "JokePump$Pump$Down" (54 : Nat) "java/util/NoSuchElementException") ∈ lw_all := lw_g (lw_at lw_m2 204 rfl) rfl
theorem q529 : (Jvm.Cond.methodLink "JokePump$Pump$Down" (56 : Nat) ({ cls := "java/util/NoSuchElementException", name := "<init>", desc := "()V" } : Jvm.MethodName)) ∈ lw_all := lw_g (lw_at lw_m2 205 rfl) rfl
theorem q550 : (Jvm.Cond.classLink "JokePump$Pump$Down" (39 : Nat) "JokePump$Joke") ∈ lw_all := lw_g (lw_at lw_m2 226 rfl) rfl
theorem q580 : (Jvm.Cond.fieldLinkNest "JokePump$Pump$Down" (41 : Nat) "JokePump$Joke" "well" "I" "JokePump") ∈ lw_tbl := lw_at lw_m3 16 rfl
theorem q584 : (Jvm.Cond.fieldLinkNest "JokePump$Pump$Down" (44 : Nat) "JokePump$Joke" "depth" "I" "JokePump") ∈ lw_tbl := lw_at lw_m3 20 rfl
theorem q660 : (Jvm.Cond.selects "JokePump$Pump$Down" ({ cls := "java/lang/Object", name := "getClass", desc := "()Ljava/lang/Class;" } : Jvm.MethodName) ({ cls := "java/lang/Object", name := "getClass", desc := "()Ljava/lang/Class;" } : Jvm.MethodName)) ∈ lw_all := lw_g (lw_at lw_m3 96 rfl) rfl
theorem q964 : (Jvm.Cond.selects "JokePump$Pump$Down" ({ cls := "java/lang/Object", name := "equals", desc := "(Ljava/lang/Object;)Z" } : Jvm.MethodName) ({ cls := "java/lang/Object", name := "equals", desc := "(Ljava/lang/Object;)Z" } : Jvm.MethodName)) ∈ lw_all := lw_g (lw_at lw_m4 160 rfl) rfl
theorem q1063 : (Jvm.Cond.instanceMethod ({ cls := "JokePump$Pump$Down", name := "<init>", desc := "(LJokePump$Pump;I)V" } : Jvm.MethodName)) ∈ lw_all := lw_g (lw_at lw_m5 19 rfl) rfl
theorem q1064 : (Jvm.Cond.code ({ cls := "JokePump$Pump$Down", name := "<init>", desc := "(LJokePump$Pump;I)V" } : Jvm.MethodName) prog_21_method_1_code (3 : Nat) (Option.none : Option Jvm.ClassFile.FieldType)) ∈ lw_all := lw_g (lw_at lw_m5 20 rfl) rfl
theorem q1065 : (Jvm.Cond.methodLink "JokePump$Pump$Down" (7 : Nat) ({ cls := "java/lang/Object", name := "<init>", desc := "()V" } : Jvm.MethodName)) ∈ lw_all := lw_g (lw_at lw_m5 21 rfl) rfl
theorem q1066 : (Jvm.Cond.fieldLink "JokePump$Pump$Down" (13 : Nat) "JokePump$Pump$Down" "of" "I") ∈ lw_all := lw_g (lw_at lw_m5 22 rfl) rfl
theorem q1067 : (Jvm.Cond.fieldLink "JokePump$Pump$Down" (47 : Nat) "JokePump$Pump$Down" "above" "I") ∈ lw_all := lw_g (lw_at lw_m5 23 rfl) rfl
theorem q1068 : (Jvm.Cond.fieldLink "JokePump$Pump$Down" (1 : Nat) "JokePump$Pump$Down" "this$0" "LJokePump$Pump;") ∈ lw_all := lw_g (lw_at lw_m5 24 rfl) rfl
theorem q1069 : (Jvm.Cond.laysFinal "JokePump$Pump$Down" "JokePump$Pump$Down" "of" "I") ∈ lw_all := lw_g (lw_at lw_m5 25 rfl) rfl
theorem q1070 : (Jvm.Cond.soleField "JokePump$Pump$Down" "of") ∈ lw_all := lw_g (lw_at lw_m5 26 rfl) rfl
theorem q1071 : (Jvm.Cond.lays "JokePump$Pump$Down" "JokePump$Pump$Down" "above" "I") ∈ lw_all := lw_g (lw_at lw_m5 27 rfl) rfl
theorem q1072 : (Jvm.Cond.soleField "JokePump$Pump$Down" "above") ∈ lw_all := lw_g (lw_at lw_m5 28 rfl) rfl
theorem q1073 : (Jvm.Cond.laysFinal "JokePump$Pump$Down" "JokePump$Pump$Down" "this$0" "LJokePump$Pump;") ∈ lw_all := lw_g (lw_at lw_m5 29 rfl) rfl
theorem q1074 : (Jvm.Cond.soleField "JokePump$Pump$Down" "this$0") ∈ lw_all := lw_g (lw_at lw_m5 30 rfl) rfl
theorem q1075 : (Jvm.Cond.superclass "JokePump$Pump$Down" "java/lang/Object") ∈ lw_all := lw_g (lw_at lw_m5 31 rfl) rfl
theorem q2507 : (Jvm.Cond.castable "JokePump$Pump$Down" "java/lang/Object") ∈ lw_tbl := lw_at lw_m11 23 rfl
theorem in_X10 : ∀ w ∈ wsX100, w ∈ lw_all := lw_in wsX100 [1069, 1071, 1073] (by decide +kernel) (by decide +kernel)

/-! JokePump$Told -/
set_option maxRecDepth 100000
def RX11 : String := "JokePump$Told"
abbrev cX11_init : ByteArray := prog_25_method_1_code
def yX11_init : MethodName := ⟨RX11, "<init>", "()V"⟩
theorem dX11_init_0 : decode cX11_init 0 = .ok (.aload_n 0, 1) := by decide +kernel
theorem dX11_init_1 : decode cX11_init 1 = .ok (.invokespecial 1, 3) := by decide +kernel
theorem dX11_init_4 : decode cX11_init 4 = .ok (.return_, 1) := by decide +kernel
theorem q115 : (Jvm.Cond.initialized "JokePump$Told") ∈ lw_all := lw_g (lw_at lw_m1 31 rfl) rfl
theorem q1121 : (Jvm.Cond.instanceMethod ({ cls := "JokePump$Told", name := "<init>", desc := "()V" } : Jvm.MethodName)) ∈ lw_all := lw_g (lw_at lw_m5 77 rfl) rfl
theorem q1122 : (Jvm.Cond.code ({ cls := "JokePump$Told", name := "<init>", desc := "()V" } : Jvm.MethodName) prog_25_method_1_code (1 : Nat) (Option.none : Option Jvm.ClassFile.FieldType)) ∈ lw_all := lw_g (lw_at lw_m5 78 rfl) rfl
theorem q1123 : (Jvm.Cond.methodLink "JokePump$Told" (1 : Nat) ({ cls := "java/lang/Object", name := "<init>", desc := "()V" } : Jvm.MethodName)) ∈ lw_all := lw_g (lw_at lw_m5 79 rfl) rfl
theorem q1438 : (Jvm.Cond.declares ({ cls := "JokePump$Told", name := "laugh", desc := "()F" } : Jvm.MethodName)) ∈ lw_tbl := lw_at lw_m6 154 rfl
theorem q1439 : (Jvm.Cond.sameMethod "JokePump$Told" "JokePump$Told" "laugh" "()F") ∈ lw_all := lw_g (lw_at lw_m6 155 rfl) rfl
theorem q2487 : (Jvm.Cond.castable "JokePump$Told" "java/lang/Object") ∈ lw_tbl := lw_at lw_m11 3 rfl

/-! JokePump$Lifted -/
set_option maxRecDepth 100000
def RX12 : String := "JokePump$Lifted"
def TX12 : u_T := fun k => match k with
  | 0 => ("JokePump$Lifted", "sign", "I", true)
  | 1 => ("JokePump$Lifted", "well", "I", true)
  | _ => ("JokePump$Lifted", "laugh", "F", true)
def tyX12 : Nat → FieldType := fun k => match k with
  | 0 => .int
  | 1 => .int
  | _ => .float
abbrev wsX120 : List Cond := u_ws RX12 TX12 3
theorem nmX12 : ∀ a, a < 3 → ∀ b, b < 3 → a ≠ b → (TX12 a).2.1 ≠ (TX12 b).2.1 := by decide +kernel
theorem tyX12_ok : ∀ k, k < 3 → parseFieldDescriptor (TX12 k).2.2.1 = some (tyX12 k) := by decide +kernel
abbrev cX12_init : ByteArray := prog_17_method_1_code
def yX12_init : MethodName := ⟨RX12, "<init>", "(LJokePump$Joke;I)V"⟩
def dkwX12_init_1 : List UInt8 := [182, 0, 20, 181, 0, 24, 177]
abbrev dktX12_init_1 : List UInt8 := dkwX12_init_1 ++ []
def dkwX12_init_0 : List UInt8 := [42, 183, 0, 1, 42, 43, 180, 0, 7, 181, 0, 13, 42, 43, 180, 0, 16, 181, 0, 19, 42, 43, 28]
abbrev dktX12_init_0 : List UInt8 := dkwX12_init_0 ++ dktX12_init_1
theorem dksX12_init_0 : cX12_init.data.toList.drop 0 = dktX12_init_0 := by decide +kernel
theorem dksX12_init_1 : cX12_init.data.toList.drop 23 = dktX12_init_1 := dk_seg dksX12_init_0 23 rfl rfl
theorem dX12_init_0 : decode cX12_init 0 = .ok (.aload_n 0, 1) := dk_42 (dk_at dksX12_init_0 0 rfl rfl)
theorem dX12_init_1 : decode cX12_init 1 = .ok (.invokespecial 1, 3) := dk_183 0 1 (dk_at dksX12_init_0 1 rfl rfl)
theorem dX12_init_4 : decode cX12_init 4 = .ok (.aload_n 0, 1) := dk_42 (dk_at dksX12_init_0 4 rfl rfl)
theorem dX12_init_5 : decode cX12_init 5 = .ok (.aload_n 1, 1) := dk_43 (dk_at dksX12_init_0 5 rfl rfl)
theorem dX12_init_6 : decode cX12_init 6 = .ok (.getfield 7, 3) := dk_180 0 7 (dk_at dksX12_init_0 6 rfl rfl)
theorem dX12_init_9 : decode cX12_init 9 = .ok (.putfield 13, 3) := dk_181 0 13 (dk_at dksX12_init_0 9 rfl rfl)
theorem dX12_init_12 : decode cX12_init 12 = .ok (.aload_n 0, 1) := dk_42 (dk_at dksX12_init_0 12 rfl rfl)
theorem dX12_init_13 : decode cX12_init 13 = .ok (.aload_n 1, 1) := dk_43 (dk_at dksX12_init_0 13 rfl rfl)
theorem dX12_init_14 : decode cX12_init 14 = .ok (.getfield 16, 3) := dk_180 0 16 (dk_at dksX12_init_0 14 rfl rfl)
theorem dX12_init_17 : decode cX12_init 17 = .ok (.putfield 19, 3) := dk_181 0 19 (dk_at dksX12_init_0 17 rfl rfl)
theorem dX12_init_20 : decode cX12_init 20 = .ok (.aload_n 0, 1) := dk_42 (dk_at dksX12_init_0 20 rfl rfl)
theorem dX12_init_21 : decode cX12_init 21 = .ok (.aload_n 1, 1) := dk_43 (dk_at dksX12_init_0 21 rfl rfl)
theorem dX12_init_22 : decode cX12_init 22 = .ok (.iload_n 2, 1) := dk_28 (dk_at dksX12_init_0 22 rfl rfl)
theorem dX12_init_23 : decode cX12_init 23 = .ok (.invokevirtual 20, 3) := dk_182 0 20 (dk_at dksX12_init_1 0 rfl rfl)
theorem dX12_init_26 : decode cX12_init 26 = .ok (.putfield 24, 3) := dk_181 0 24 (dk_at dksX12_init_1 3 rfl rfl)
theorem dX12_init_29 : decode cX12_init 29 = .ok (.return_, 1) := dk_177 (dk_at dksX12_init_1 6 rfl rfl)
abbrev cX12_laugh : ByteArray := prog_17_method_2_code
def yX12_laugh : MethodName := ⟨RX12, "laugh", "()F"⟩
theorem dX12_laugh_0 : decode cX12_laugh 0 = .ok (.aload_n 0, 1) := by decide +kernel
theorem dX12_laugh_1 : decode cX12_laugh 1 = .ok (.getfield 24, 3) := by decide +kernel
theorem dX12_laugh_4 : decode cX12_laugh 4 = .ok (.freturn, 1) := by decide +kernel
theorem q116 : (Jvm.Cond.initialized "JokePump$Lifted") ∈ lw_all := lw_g (lw_at lw_m1 32 rfl) rfl
theorem q579 : (Jvm.Cond.fieldLinkNest "JokePump$Lifted" (16 : Nat) "JokePump$Joke" "well" "I" "JokePump") ∈ lw_tbl := lw_at lw_m3 15 rfl
theorem q587 : (Jvm.Cond.fieldLinkNest "JokePump$Lifted" (7 : Nat) "JokePump$Joke" "sign" "I" "JokePump") ∈ lw_tbl := lw_at lw_m3 23 rfl
theorem q656 : (Jvm.Cond.selects "JokePump$Lifted" ({ cls := "java/lang/Object", name := "getClass", desc := "()Ljava/lang/Class;" } : Jvm.MethodName) ({ cls := "java/lang/Object", name := "getClass", desc := "()Ljava/lang/Class;" } : Jvm.MethodName)) ∈ lw_all := lw_g (lw_at lw_m3 92 rfl) rfl
theorem q960 : (Jvm.Cond.selects "JokePump$Lifted" ({ cls := "java/lang/Object", name := "equals", desc := "(Ljava/lang/Object;)Z" } : Jvm.MethodName) ({ cls := "java/lang/Object", name := "equals", desc := "(Ljava/lang/Object;)Z" } : Jvm.MethodName)) ∈ lw_all := lw_g (lw_at lw_m4 156 rfl) rfl
theorem q1116 : (Jvm.Cond.instantiable "JokePump$Lifted" (3 : Nat)) ∈ lw_all := lw_g (lw_at lw_m5 72 rfl) rfl
theorem q1118 : (Jvm.Cond.instanceMethod ({ cls := "JokePump$Lifted", name := "<init>", desc := "(LJokePump$Joke;I)V" } : Jvm.MethodName)) ∈ lw_all := lw_g (lw_at lw_m5 74 rfl) rfl
theorem q1119 : (Jvm.Cond.code ({ cls := "JokePump$Lifted", name := "<init>", desc := "(LJokePump$Joke;I)V" } : Jvm.MethodName) prog_17_method_1_code (3 : Nat) (Option.none : Option Jvm.ClassFile.FieldType)) ∈ lw_all := lw_g (lw_at lw_m5 75 rfl) rfl
theorem q1120 : (Jvm.Cond.methodLinkNest "JokePump$Lifted" (1 : Nat) ({ cls := "JokePump$Told", name := "<init>", desc := "()V" } : Jvm.MethodName) "JokePump") ∈ lw_tbl := lw_at lw_m5 76 rfl
theorem q1124 : (Jvm.Cond.methodLink "JokePump$Lifted" (20 : Nat) ({ cls := "JokePump$Joke", name := "laugh", desc := "(I)F" } : Jvm.MethodName)) ∈ lw_all := lw_g (lw_at lw_m5 80 rfl) rfl
theorem q1125 : (Jvm.Cond.fieldLink "JokePump$Lifted" (13 : Nat) "JokePump$Lifted" "sign" "I") ∈ lw_all := lw_g (lw_at lw_m5 81 rfl) rfl
theorem q1127 : (Jvm.Cond.fieldLink "JokePump$Lifted" (19 : Nat) "JokePump$Lifted" "well" "I") ∈ lw_all := lw_g (lw_at lw_m5 83 rfl) rfl
theorem q1129 : (Jvm.Cond.fieldLink "JokePump$Lifted" (24 : Nat) "JokePump$Lifted" "laugh" "F") ∈ lw_all := lw_g (lw_at lw_m5 85 rfl) rfl
theorem q1131 : (Jvm.Cond.laysFinal "JokePump$Lifted" "JokePump$Lifted" "sign" "I") ∈ lw_all := lw_g (lw_at lw_m5 87 rfl) rfl
theorem q1132 : (Jvm.Cond.soleField "JokePump$Lifted" "sign") ∈ lw_all := lw_g (lw_at lw_m5 88 rfl) rfl
theorem q1133 : (Jvm.Cond.laysFinal "JokePump$Lifted" "JokePump$Lifted" "well" "I") ∈ lw_all := lw_g (lw_at lw_m5 89 rfl) rfl
theorem q1134 : (Jvm.Cond.soleField "JokePump$Lifted" "well") ∈ lw_all := lw_g (lw_at lw_m5 90 rfl) rfl
theorem q1135 : (Jvm.Cond.laysFinal "JokePump$Lifted" "JokePump$Lifted" "laugh" "F") ∈ lw_all := lw_g (lw_at lw_m5 91 rfl) rfl
theorem q1136 : (Jvm.Cond.soleField "JokePump$Lifted" "laugh") ∈ lw_all := lw_g (lw_at lw_m5 92 rfl) rfl
theorem q1137 : (Jvm.Cond.superclass "JokePump$Lifted" "JokePump$Told") ∈ lw_all := lw_g (lw_at lw_m5 93 rfl) rfl
theorem q1170 : (Jvm.Cond.instanceMethod ({ cls := "JokePump$Lifted", name := "laugh", desc := "()F" } : Jvm.MethodName)) ∈ lw_all := lw_g (lw_at lw_m5 126 rfl) rfl
theorem q1171 : (Jvm.Cond.selects "JokePump$Lifted" ({ cls := "JokePump$Lifted", name := "laugh", desc := "()F" } : Jvm.MethodName) ({ cls := "JokePump$Lifted", name := "laugh", desc := "()F" } : Jvm.MethodName)) ∈ lw_all := lw_g (lw_at lw_m5 127 rfl) rfl
theorem q1172 : (Jvm.Cond.code ({ cls := "JokePump$Lifted", name := "laugh", desc := "()F" } : Jvm.MethodName) prog_17_method_2_code (1 : Nat) (Option.some Jvm.ClassFile.FieldType.float)) ∈ lw_all := lw_g (lw_at lw_m5 128 rfl) rfl
theorem q1440 : (Jvm.Cond.selects "JokePump$Lifted" ({ cls := "JokePump$Told", name := "laugh", desc := "()F" } : Jvm.MethodName) ({ cls := "JokePump$Lifted", name := "laugh", desc := "()F" } : Jvm.MethodName)) ∈ lw_all := lw_g (lw_at lw_m6 156 rfl) rfl
theorem q2486 : (Jvm.Cond.castable "JokePump$Lifted" "java/lang/Object") ∈ lw_tbl := lw_at lw_m11 2 rfl
theorem q2489 : (Jvm.Cond.castable "JokePump$Lifted" "JokePump$Told") ∈ lw_tbl := lw_at lw_m11 5 rfl
theorem in_X12 : ∀ w ∈ wsX120, w ∈ lw_all := lw_in wsX120 [1131, 1133, 1135] (by decide +kernel) (by decide +kernel)

/-! JokePump$2 -/
set_option maxRecDepth 100000
def RX13 : String := "JokePump$2"
def TX13 : u_T := fun k => match k with
  | 0 => ("JokePump$Deed", "this$0", "LJokePump;", true)
  | 1 => ("JokePump$2", "val$joke", "I", true)
  | _ => ("JokePump$2", "this$0", "LJokePump;", true)
def tyX13 : Nat → FieldType := fun k => match k with
  | 0 => .object "JokePump"
  | 1 => .int
  | _ => .object "JokePump"
abbrev wsX130 : List Cond := u_ws RX13 TX13 3
-- two fields of one name: no nmX13
theorem tyX13_ok : ∀ k, k < 3 → parseFieldDescriptor (TX13 k).2.2.1 = some (tyX13 k) := by decide +kernel
abbrev cX13_does : ByteArray := prog_5_method_2_code
def yX13_does : MethodName := ⟨RX13, "does", "(LJokePump$Pump;)I"⟩
def dkwX13_does_0 : List UInt8 := [43, 42, 180, 0, 7, 182, 0, 17, 172]
abbrev dktX13_does_0 : List UInt8 := dkwX13_does_0 ++ []
theorem dksX13_does_0 : cX13_does.data.toList.drop 0 = dktX13_does_0 := by decide +kernel
theorem dX13_does_0 : decode cX13_does 0 = .ok (.aload_n 1, 1) := dk_43 (dk_at dksX13_does_0 0 rfl rfl)
theorem dX13_does_1 : decode cX13_does 1 = .ok (.aload_n 0, 1) := dk_42 (dk_at dksX13_does_0 1 rfl rfl)
theorem dX13_does_2 : decode cX13_does 2 = .ok (.getfield 7, 3) := dk_180 0 7 (dk_at dksX13_does_0 2 rfl rfl)
theorem dX13_does_5 : decode cX13_does 5 = .ok (.invokevirtual 17, 3) := dk_182 0 17 (dk_at dksX13_does_0 5 rfl rfl)
theorem dX13_does_8 : decode cX13_does 8 = .ok (.ireturn, 1) := dk_172 (dk_at dksX13_does_0 8 rfl rfl)
abbrev cX13_init : ByteArray := prog_5_method_1_code
def yX13_init : MethodName := ⟨RX13, "<init>", "(LJokePump;I)V"⟩
def dkwX13_init_0 : List UInt8 := [42, 43, 181, 0, 1, 42, 28, 181, 0, 7, 42, 43, 183, 0, 11, 177]
abbrev dktX13_init_0 : List UInt8 := dkwX13_init_0 ++ []
theorem dksX13_init_0 : cX13_init.data.toList.drop 0 = dktX13_init_0 := by decide +kernel
theorem dX13_init_0 : decode cX13_init 0 = .ok (.aload_n 0, 1) := dk_42 (dk_at dksX13_init_0 0 rfl rfl)
theorem dX13_init_1 : decode cX13_init 1 = .ok (.aload_n 1, 1) := dk_43 (dk_at dksX13_init_0 1 rfl rfl)
theorem dX13_init_2 : decode cX13_init 2 = .ok (.putfield 1, 3) := dk_181 0 1 (dk_at dksX13_init_0 2 rfl rfl)
theorem dX13_init_5 : decode cX13_init 5 = .ok (.aload_n 0, 1) := dk_42 (dk_at dksX13_init_0 5 rfl rfl)
theorem dX13_init_6 : decode cX13_init 6 = .ok (.iload_n 2, 1) := dk_28 (dk_at dksX13_init_0 6 rfl rfl)
theorem dX13_init_7 : decode cX13_init 7 = .ok (.putfield 7, 3) := dk_181 0 7 (dk_at dksX13_init_0 7 rfl rfl)
theorem dX13_init_10 : decode cX13_init 10 = .ok (.aload_n 0, 1) := dk_42 (dk_at dksX13_init_0 10 rfl rfl)
theorem dX13_init_11 : decode cX13_init 11 = .ok (.aload_n 1, 1) := dk_43 (dk_at dksX13_init_0 11 rfl rfl)
theorem dX13_init_12 : decode cX13_init 12 = .ok (.invokespecial 11, 3) := dk_183 0 11 (dk_at dksX13_init_0 12 rfl rfl)
theorem dX13_init_15 : decode cX13_init 15 = .ok (.return_, 1) := dk_177 (dk_at dksX13_init_0 15 rfl rfl)
theorem q118 : (Jvm.Cond.initialized "JokePump$2") ∈ lw_all := lw_g (lw_at lw_m1 34 rfl) rfl
theorem q360 : (Jvm.Cond.selects "JokePump$2" ({ cls := "JokePump$Deed", name := "done", desc := "()I" } : Jvm.MethodName) ({ cls := "JokePump$Deed", name := "done", desc := "()I" } : Jvm.MethodName)) ∈ lw_all := lw_g (lw_at lw_m2 36 rfl) rfl
theorem q645 : (Jvm.Cond.selects "JokePump$2" ({ cls := "java/lang/Object", name := "getClass", desc := "()Ljava/lang/Class;" } : Jvm.MethodName) ({ cls := "java/lang/Object", name := "getClass", desc := "()Ljava/lang/Class;" } : Jvm.MethodName)) ∈ lw_all := lw_g (lw_at lw_m3 81 rfl) rfl
theorem q944 : (Jvm.Cond.selects "JokePump$2" ({ cls := "java/lang/Object", name := "equals", desc := "(Ljava/lang/Object;)Z" } : Jvm.MethodName) ({ cls := "java/lang/Object", name := "equals", desc := "(Ljava/lang/Object;)Z" } : Jvm.MethodName)) ∈ lw_all := lw_g (lw_at lw_m4 140 rfl) rfl
theorem q1174 : (Jvm.Cond.selects "JokePump$2" ({ cls := "JokePump$Deed", name := "does", desc := "(LJokePump$Pump;)I" } : Jvm.MethodName) ({ cls := "JokePump$2", name := "does", desc := "(LJokePump$Pump;)I" } : Jvm.MethodName)) ∈ lw_all := lw_g (lw_at lw_m5 130 rfl) rfl
theorem q1175 : (Jvm.Cond.instanceMethod ({ cls := "JokePump$2", name := "does", desc := "(LJokePump$Pump;)I" } : Jvm.MethodName)) ∈ lw_all := lw_g (lw_at lw_m5 131 rfl) rfl
theorem q1176 : (Jvm.Cond.code ({ cls := "JokePump$2", name := "does", desc := "(LJokePump$Pump;)I" } : Jvm.MethodName) prog_5_method_2_code (2 : Nat) (Option.some Jvm.ClassFile.FieldType.int)) ∈ lw_all := lw_g (lw_at lw_m5 132 rfl) rfl
theorem q1177 : (Jvm.Cond.methodLink "JokePump$2" (17 : Nat) ({ cls := "JokePump$Pump", name := "primes", desc := "(I)I" } : Jvm.MethodName)) ∈ lw_all := lw_g (lw_at lw_m5 133 rfl) rfl
theorem q1236 : (Jvm.Cond.instantiable "JokePump$2" (3 : Nat)) ∈ lw_all := lw_g (lw_at lw_m5 192 rfl) rfl
theorem q1238 : (Jvm.Cond.instanceMethod ({ cls := "JokePump$2", name := "<init>", desc := "(LJokePump;I)V" } : Jvm.MethodName)) ∈ lw_all := lw_g (lw_at lw_m5 194 rfl) rfl
theorem q1239 : (Jvm.Cond.code ({ cls := "JokePump$2", name := "<init>", desc := "(LJokePump;I)V" } : Jvm.MethodName) prog_5_method_1_code (3 : Nat) (Option.none : Option Jvm.ClassFile.FieldType)) ∈ lw_all := lw_g (lw_at lw_m5 195 rfl) rfl
theorem q1240 : (Jvm.Cond.methodLinkNest "JokePump$2" (11 : Nat) ({ cls := "JokePump$Deed", name := "<init>", desc := "(LJokePump;)V" } : Jvm.MethodName) "JokePump") ∈ lw_tbl := lw_at lw_m5 196 rfl
theorem q1241 : (Jvm.Cond.fieldLink "JokePump$2" (7 : Nat) "JokePump$2" "val$joke" "I") ∈ lw_all := lw_g (lw_at lw_m5 197 rfl) rfl
theorem q1242 : (Jvm.Cond.fieldLink "JokePump$2" (1 : Nat) "JokePump$2" "this$0" "LJokePump;") ∈ lw_all := lw_g (lw_at lw_m5 198 rfl) rfl
theorem q1243 : (Jvm.Cond.laysFinal "JokePump$2" "JokePump$2" "val$joke" "I") ∈ lw_all := lw_g (lw_at lw_m5 199 rfl) rfl
theorem q1244 : (Jvm.Cond.soleField "JokePump$2" "val$joke") ∈ lw_all := lw_g (lw_at lw_m5 200 rfl) rfl
theorem q1245 : (Jvm.Cond.laysFinal "JokePump$2" "JokePump$2" "this$0" "LJokePump;") ∈ lw_all := lw_g (lw_at lw_m5 201 rfl) rfl
theorem q1246 : (Jvm.Cond.soleField "JokePump$2" "this$0") ∈ lw_all := lw_g (lw_at lw_m5 202 rfl) rfl
theorem q1247 : (Jvm.Cond.laysFinal "JokePump$2" "JokePump$Deed" "this$0" "LJokePump;") ∈ lw_all := lw_g (lw_at lw_m5 203 rfl) rfl
theorem q1248 : (Jvm.Cond.superclass "JokePump$2" "JokePump$Deed") ∈ lw_all := lw_g (lw_at lw_m5 204 rfl) rfl
theorem q1251 : (Jvm.Cond.sameMethod "JokePump$2" "JokePump$Deed" "doneIf" "(ZZ)I") ∈ lw_all := lw_g (lw_at lw_m5 207 rfl) rfl
theorem q1252 : (Jvm.Cond.selects "JokePump$2" ({ cls := "JokePump$2", name := "doneIf", desc := "(ZZ)I" } : Jvm.MethodName) ({ cls := "JokePump$Deed", name := "doneIf", desc := "(ZZ)I" } : Jvm.MethodName)) ∈ lw_all := lw_g (lw_at lw_m5 208 rfl) rfl
theorem q2499 : (Jvm.Cond.castable "JokePump$2" "java/lang/Object") ∈ lw_tbl := lw_at lw_m11 15 rfl
theorem in_X13 : ∀ w ∈ wsX130, w ∈ lw_all := lw_in wsX130 [1247, 1243, 1245] (by decide +kernel) (by decide +kernel)

/-! JokePump$3 -/
set_option maxRecDepth 100000
def RX14 : String := "JokePump$3"
def TX14 : u_T := fun k => match k with
  | 0 => ("JokePump$Deed", "this$0", "LJokePump;", true)
  | 1 => ("JokePump$3", "val$joke", "I", true)
  | _ => ("JokePump$3", "this$0", "LJokePump;", true)
def tyX14 : Nat → FieldType := fun k => match k with
  | 0 => .object "JokePump"
  | 1 => .int
  | _ => .object "JokePump"
abbrev wsX140 : List Cond := u_ws RX14 TX14 3
-- two fields of one name: no nmX14
theorem tyX14_ok : ∀ k, k < 3 → parseFieldDescriptor (TX14 k).2.2.1 = some (tyX14 k) := by decide +kernel
abbrev cX14_does : ByteArray := prog_6_method_2_code
def yX14_does : MethodName := ⟨RX14, "does", "(LJokePump$Pump;)I"⟩
def dkwX14_does_0 : List UInt8 := [43, 42, 180, 0, 7, 182, 0, 17, 172]
abbrev dktX14_does_0 : List UInt8 := dkwX14_does_0 ++ []
theorem dksX14_does_0 : cX14_does.data.toList.drop 0 = dktX14_does_0 := by decide +kernel
theorem dX14_does_0 : decode cX14_does 0 = .ok (.aload_n 1, 1) := dk_43 (dk_at dksX14_does_0 0 rfl rfl)
theorem dX14_does_1 : decode cX14_does 1 = .ok (.aload_n 0, 1) := dk_42 (dk_at dksX14_does_0 1 rfl rfl)
theorem dX14_does_2 : decode cX14_does 2 = .ok (.getfield 7, 3) := dk_180 0 7 (dk_at dksX14_does_0 2 rfl rfl)
theorem dX14_does_5 : decode cX14_does 5 = .ok (.invokevirtual 17, 3) := dk_182 0 17 (dk_at dksX14_does_0 5 rfl rfl)
theorem dX14_does_8 : decode cX14_does 8 = .ok (.ireturn, 1) := dk_172 (dk_at dksX14_does_0 8 rfl rfl)
abbrev cX14_init : ByteArray := prog_6_method_1_code
def yX14_init : MethodName := ⟨RX14, "<init>", "(LJokePump;I)V"⟩
def dkwX14_init_0 : List UInt8 := [42, 43, 181, 0, 1, 42, 28, 181, 0, 7, 42, 43, 183, 0, 11, 177]
abbrev dktX14_init_0 : List UInt8 := dkwX14_init_0 ++ []
theorem dksX14_init_0 : cX14_init.data.toList.drop 0 = dktX14_init_0 := by decide +kernel
theorem dX14_init_0 : decode cX14_init 0 = .ok (.aload_n 0, 1) := dk_42 (dk_at dksX14_init_0 0 rfl rfl)
theorem dX14_init_1 : decode cX14_init 1 = .ok (.aload_n 1, 1) := dk_43 (dk_at dksX14_init_0 1 rfl rfl)
theorem dX14_init_2 : decode cX14_init 2 = .ok (.putfield 1, 3) := dk_181 0 1 (dk_at dksX14_init_0 2 rfl rfl)
theorem dX14_init_5 : decode cX14_init 5 = .ok (.aload_n 0, 1) := dk_42 (dk_at dksX14_init_0 5 rfl rfl)
theorem dX14_init_6 : decode cX14_init 6 = .ok (.iload_n 2, 1) := dk_28 (dk_at dksX14_init_0 6 rfl rfl)
theorem dX14_init_7 : decode cX14_init 7 = .ok (.putfield 7, 3) := dk_181 0 7 (dk_at dksX14_init_0 7 rfl rfl)
theorem dX14_init_10 : decode cX14_init 10 = .ok (.aload_n 0, 1) := dk_42 (dk_at dksX14_init_0 10 rfl rfl)
theorem dX14_init_11 : decode cX14_init 11 = .ok (.aload_n 1, 1) := dk_43 (dk_at dksX14_init_0 11 rfl rfl)
theorem dX14_init_12 : decode cX14_init 12 = .ok (.invokespecial 11, 3) := dk_183 0 11 (dk_at dksX14_init_0 12 rfl rfl)
theorem dX14_init_15 : decode cX14_init 15 = .ok (.return_, 1) := dk_177 (dk_at dksX14_init_0 15 rfl rfl)
theorem q119 : (Jvm.Cond.initialized "JokePump$3") ∈ lw_all := lw_g (lw_at lw_m1 35 rfl) rfl
theorem q361 : (Jvm.Cond.selects "JokePump$3" ({ cls := "JokePump$Deed", name := "done", desc := "()I" } : Jvm.MethodName) ({ cls := "JokePump$Deed", name := "done", desc := "()I" } : Jvm.MethodName)) ∈ lw_all := lw_g (lw_at lw_m2 37 rfl) rfl
theorem q646 : (Jvm.Cond.selects "JokePump$3" ({ cls := "java/lang/Object", name := "getClass", desc := "()Ljava/lang/Class;" } : Jvm.MethodName) ({ cls := "java/lang/Object", name := "getClass", desc := "()Ljava/lang/Class;" } : Jvm.MethodName)) ∈ lw_all := lw_g (lw_at lw_m3 82 rfl) rfl
theorem q945 : (Jvm.Cond.selects "JokePump$3" ({ cls := "java/lang/Object", name := "equals", desc := "(Ljava/lang/Object;)Z" } : Jvm.MethodName) ({ cls := "java/lang/Object", name := "equals", desc := "(Ljava/lang/Object;)Z" } : Jvm.MethodName)) ∈ lw_all := lw_g (lw_at lw_m4 141 rfl) rfl
theorem q1178 : (Jvm.Cond.selects "JokePump$3" ({ cls := "JokePump$Deed", name := "does", desc := "(LJokePump$Pump;)I" } : Jvm.MethodName) ({ cls := "JokePump$3", name := "does", desc := "(LJokePump$Pump;)I" } : Jvm.MethodName)) ∈ lw_all := lw_g (lw_at lw_m5 134 rfl) rfl
theorem q1179 : (Jvm.Cond.instanceMethod ({ cls := "JokePump$3", name := "does", desc := "(LJokePump$Pump;)I" } : Jvm.MethodName)) ∈ lw_all := lw_g (lw_at lw_m5 135 rfl) rfl
theorem q1180 : (Jvm.Cond.code ({ cls := "JokePump$3", name := "does", desc := "(LJokePump$Pump;)I" } : Jvm.MethodName) prog_6_method_2_code (2 : Nat) (Option.some Jvm.ClassFile.FieldType.int)) ∈ lw_all := lw_g (lw_at lw_m5 136 rfl) rfl
theorem q1181 : (Jvm.Cond.methodLink "JokePump$3" (17 : Nat) ({ cls := "JokePump$Pump", name := "goesAway", desc := "(I)I" } : Jvm.MethodName)) ∈ lw_all := lw_g (lw_at lw_m5 137 rfl) rfl
theorem q1258 : (Jvm.Cond.instantiable "JokePump$3" (3 : Nat)) ∈ lw_all := lw_g (lw_at lw_m5 214 rfl) rfl
theorem q1260 : (Jvm.Cond.instanceMethod ({ cls := "JokePump$3", name := "<init>", desc := "(LJokePump;I)V" } : Jvm.MethodName)) ∈ lw_all := lw_g (lw_at lw_m5 216 rfl) rfl
theorem q1261 : (Jvm.Cond.code ({ cls := "JokePump$3", name := "<init>", desc := "(LJokePump;I)V" } : Jvm.MethodName) prog_6_method_1_code (3 : Nat) (Option.none : Option Jvm.ClassFile.FieldType)) ∈ lw_all := lw_g (lw_at lw_m5 217 rfl) rfl
theorem q1262 : (Jvm.Cond.methodLinkNest "JokePump$3" (11 : Nat) ({ cls := "JokePump$Deed", name := "<init>", desc := "(LJokePump;)V" } : Jvm.MethodName) "JokePump") ∈ lw_tbl := lw_at lw_m5 218 rfl
theorem q1263 : (Jvm.Cond.fieldLink "JokePump$3" (7 : Nat) "JokePump$3" "val$joke" "I") ∈ lw_all := lw_g (lw_at lw_m5 219 rfl) rfl
theorem q1264 : (Jvm.Cond.fieldLink "JokePump$3" (1 : Nat) "JokePump$3" "this$0" "LJokePump;") ∈ lw_all := lw_g (lw_at lw_m5 220 rfl) rfl
theorem q1265 : (Jvm.Cond.laysFinal "JokePump$3" "JokePump$3" "val$joke" "I") ∈ lw_all := lw_g (lw_at lw_m5 221 rfl) rfl
theorem q1266 : (Jvm.Cond.soleField "JokePump$3" "val$joke") ∈ lw_all := lw_g (lw_at lw_m5 222 rfl) rfl
theorem q1267 : (Jvm.Cond.laysFinal "JokePump$3" "JokePump$3" "this$0" "LJokePump;") ∈ lw_all := lw_g (lw_at lw_m5 223 rfl) rfl
theorem q1268 : (Jvm.Cond.soleField "JokePump$3" "this$0") ∈ lw_all := lw_g (lw_at lw_m5 224 rfl) rfl
theorem q1269 : (Jvm.Cond.laysFinal "JokePump$3" "JokePump$Deed" "this$0" "LJokePump;") ∈ lw_all := lw_g (lw_at lw_m5 225 rfl) rfl
theorem q1270 : (Jvm.Cond.superclass "JokePump$3" "JokePump$Deed") ∈ lw_all := lw_g (lw_at lw_m5 226 rfl) rfl
theorem q1272 : (Jvm.Cond.sameMethod "JokePump$3" "JokePump$Deed" "doneIf" "(ZZ)I") ∈ lw_all := lw_g (lw_at lw_m5 228 rfl) rfl
theorem q1273 : (Jvm.Cond.selects "JokePump$3" ({ cls := "JokePump$3", name := "doneIf", desc := "(ZZ)I" } : Jvm.MethodName) ({ cls := "JokePump$Deed", name := "doneIf", desc := "(ZZ)I" } : Jvm.MethodName)) ∈ lw_all := lw_g (lw_at lw_m5 229 rfl) rfl
theorem q2500 : (Jvm.Cond.castable "JokePump$3" "java/lang/Object") ∈ lw_tbl := lw_at lw_m11 16 rfl
theorem in_X14 : ∀ w ∈ wsX140, w ∈ lw_all := lw_in wsX140 [1269, 1265, 1267] (by decide +kernel) (by decide +kernel)

/-! JokePump$4 -/
set_option maxRecDepth 100000
def RX15 : String := "JokePump$4"
def TX15 : u_T := fun k => match k with
  | 0 => ("JokePump$Deed", "this$0", "LJokePump;", true)
  | 1 => ("JokePump$4", "val$groans", "I", true)
  | _ => ("JokePump$4", "this$0", "LJokePump;", true)
def tyX15 : Nat → FieldType := fun k => match k with
  | 0 => .object "JokePump"
  | 1 => .int
  | _ => .object "JokePump"
abbrev wsX150 : List Cond := u_ws RX15 TX15 3
-- two fields of one name: no nmX15
theorem tyX15_ok : ∀ k, k < 3 → parseFieldDescriptor (TX15 k).2.2.1 = some (tyX15 k) := by decide +kernel
abbrev cX15_does : ByteArray := prog_7_method_2_code
def yX15_does : MethodName := ⟨RX15, "does", "(LJokePump$Pump;)I"⟩
def dkwX15_does_0 : List UInt8 := [43, 42, 180, 0, 7, 182, 0, 17, 172]
abbrev dktX15_does_0 : List UInt8 := dkwX15_does_0 ++ []
theorem dksX15_does_0 : cX15_does.data.toList.drop 0 = dktX15_does_0 := by decide +kernel
theorem dX15_does_0 : decode cX15_does 0 = .ok (.aload_n 1, 1) := dk_43 (dk_at dksX15_does_0 0 rfl rfl)
theorem dX15_does_1 : decode cX15_does 1 = .ok (.aload_n 0, 1) := dk_42 (dk_at dksX15_does_0 1 rfl rfl)
theorem dX15_does_2 : decode cX15_does 2 = .ok (.getfield 7, 3) := dk_180 0 7 (dk_at dksX15_does_0 2 rfl rfl)
theorem dX15_does_5 : decode cX15_does 5 = .ok (.invokevirtual 17, 3) := dk_182 0 17 (dk_at dksX15_does_0 5 rfl rfl)
theorem dX15_does_8 : decode cX15_does 8 = .ok (.ireturn, 1) := dk_172 (dk_at dksX15_does_0 8 rfl rfl)
abbrev cX15_init : ByteArray := prog_7_method_1_code
def yX15_init : MethodName := ⟨RX15, "<init>", "(LJokePump;I)V"⟩
def dkwX15_init_0 : List UInt8 := [42, 43, 181, 0, 1, 42, 28, 181, 0, 7, 42, 43, 183, 0, 11, 177]
abbrev dktX15_init_0 : List UInt8 := dkwX15_init_0 ++ []
theorem dksX15_init_0 : cX15_init.data.toList.drop 0 = dktX15_init_0 := by decide +kernel
theorem dX15_init_0 : decode cX15_init 0 = .ok (.aload_n 0, 1) := dk_42 (dk_at dksX15_init_0 0 rfl rfl)
theorem dX15_init_1 : decode cX15_init 1 = .ok (.aload_n 1, 1) := dk_43 (dk_at dksX15_init_0 1 rfl rfl)
theorem dX15_init_2 : decode cX15_init 2 = .ok (.putfield 1, 3) := dk_181 0 1 (dk_at dksX15_init_0 2 rfl rfl)
theorem dX15_init_5 : decode cX15_init 5 = .ok (.aload_n 0, 1) := dk_42 (dk_at dksX15_init_0 5 rfl rfl)
theorem dX15_init_6 : decode cX15_init 6 = .ok (.iload_n 2, 1) := dk_28 (dk_at dksX15_init_0 6 rfl rfl)
theorem dX15_init_7 : decode cX15_init 7 = .ok (.putfield 7, 3) := dk_181 0 7 (dk_at dksX15_init_0 7 rfl rfl)
theorem dX15_init_10 : decode cX15_init 10 = .ok (.aload_n 0, 1) := dk_42 (dk_at dksX15_init_0 10 rfl rfl)
theorem dX15_init_11 : decode cX15_init 11 = .ok (.aload_n 1, 1) := dk_43 (dk_at dksX15_init_0 11 rfl rfl)
theorem dX15_init_12 : decode cX15_init 12 = .ok (.invokespecial 11, 3) := dk_183 0 11 (dk_at dksX15_init_0 12 rfl rfl)
theorem dX15_init_15 : decode cX15_init 15 = .ok (.return_, 1) := dk_177 (dk_at dksX15_init_0 15 rfl rfl)
theorem q120 : (Jvm.Cond.initialized "JokePump$4") ∈ lw_all := lw_g (lw_at lw_m1 36 rfl) rfl
theorem q362 : (Jvm.Cond.selects "JokePump$4" ({ cls := "JokePump$Deed", name := "done", desc := "()I" } : Jvm.MethodName) ({ cls := "JokePump$Deed", name := "done", desc := "()I" } : Jvm.MethodName)) ∈ lw_all := lw_g (lw_at lw_m2 38 rfl) rfl
theorem q647 : (Jvm.Cond.selects "JokePump$4" ({ cls := "java/lang/Object", name := "getClass", desc := "()Ljava/lang/Class;" } : Jvm.MethodName) ({ cls := "java/lang/Object", name := "getClass", desc := "()Ljava/lang/Class;" } : Jvm.MethodName)) ∈ lw_all := lw_g (lw_at lw_m3 83 rfl) rfl
theorem q946 : (Jvm.Cond.selects "JokePump$4" ({ cls := "java/lang/Object", name := "equals", desc := "(Ljava/lang/Object;)Z" } : Jvm.MethodName) ({ cls := "java/lang/Object", name := "equals", desc := "(Ljava/lang/Object;)Z" } : Jvm.MethodName)) ∈ lw_all := lw_g (lw_at lw_m4 142 rfl) rfl
theorem q1182 : (Jvm.Cond.selects "JokePump$4" ({ cls := "JokePump$Deed", name := "does", desc := "(LJokePump$Pump;)I" } : Jvm.MethodName) ({ cls := "JokePump$4", name := "does", desc := "(LJokePump$Pump;)I" } : Jvm.MethodName)) ∈ lw_all := lw_g (lw_at lw_m5 138 rfl) rfl
theorem q1183 : (Jvm.Cond.instanceMethod ({ cls := "JokePump$4", name := "does", desc := "(LJokePump$Pump;)I" } : Jvm.MethodName)) ∈ lw_all := lw_g (lw_at lw_m5 139 rfl) rfl
theorem q1184 : (Jvm.Cond.code ({ cls := "JokePump$4", name := "does", desc := "(LJokePump$Pump;)I" } : Jvm.MethodName) prog_7_method_2_code (2 : Nat) (Option.some Jvm.ClassFile.FieldType.int)) ∈ lw_all := lw_g (lw_at lw_m5 140 rfl) rfl
theorem q1185 : (Jvm.Cond.methodLink "JokePump$4" (17 : Nat) ({ cls := "JokePump$Pump", name := "drains", desc := "(I)I" } : Jvm.MethodName)) ∈ lw_all := lw_g (lw_at lw_m5 141 rfl) rfl
theorem q1279 : (Jvm.Cond.instantiable "JokePump$4" (3 : Nat)) ∈ lw_all := lw_g (lw_at lw_m5 235 rfl) rfl
theorem q1281 : (Jvm.Cond.instanceMethod ({ cls := "JokePump$4", name := "<init>", desc := "(LJokePump;I)V" } : Jvm.MethodName)) ∈ lw_all := lw_g (lw_at lw_m5 237 rfl) rfl
theorem q1282 : (Jvm.Cond.code ({ cls := "JokePump$4", name := "<init>", desc := "(LJokePump;I)V" } : Jvm.MethodName) prog_7_method_1_code (3 : Nat) (Option.none : Option Jvm.ClassFile.FieldType)) ∈ lw_all := lw_g (lw_at lw_m5 238 rfl) rfl
theorem q1283 : (Jvm.Cond.methodLinkNest "JokePump$4" (11 : Nat) ({ cls := "JokePump$Deed", name := "<init>", desc := "(LJokePump;)V" } : Jvm.MethodName) "JokePump") ∈ lw_tbl := lw_at lw_m5 239 rfl
theorem q1284 : (Jvm.Cond.fieldLink "JokePump$4" (7 : Nat) "JokePump$4" "val$groans" "I") ∈ lw_all := lw_g (lw_at lw_m6 0 rfl) rfl
theorem q1285 : (Jvm.Cond.fieldLink "JokePump$4" (1 : Nat) "JokePump$4" "this$0" "LJokePump;") ∈ lw_all := lw_g (lw_at lw_m6 1 rfl) rfl
theorem q1286 : (Jvm.Cond.laysFinal "JokePump$4" "JokePump$4" "val$groans" "I") ∈ lw_all := lw_g (lw_at lw_m6 2 rfl) rfl
theorem q1287 : (Jvm.Cond.soleField "JokePump$4" "val$groans") ∈ lw_all := lw_g (lw_at lw_m6 3 rfl) rfl
theorem q1288 : (Jvm.Cond.laysFinal "JokePump$4" "JokePump$4" "this$0" "LJokePump;") ∈ lw_all := lw_g (lw_at lw_m6 4 rfl) rfl
theorem q1289 : (Jvm.Cond.soleField "JokePump$4" "this$0") ∈ lw_all := lw_g (lw_at lw_m6 5 rfl) rfl
theorem q1290 : (Jvm.Cond.laysFinal "JokePump$4" "JokePump$Deed" "this$0" "LJokePump;") ∈ lw_all := lw_g (lw_at lw_m6 6 rfl) rfl
theorem q1291 : (Jvm.Cond.superclass "JokePump$4" "JokePump$Deed") ∈ lw_all := lw_g (lw_at lw_m6 7 rfl) rfl
theorem q1294 : (Jvm.Cond.sameMethod "JokePump$4" "JokePump$Deed" "doneIf" "(ZZ)I") ∈ lw_all := lw_g (lw_at lw_m6 10 rfl) rfl
theorem q1295 : (Jvm.Cond.selects "JokePump$4" ({ cls := "JokePump$4", name := "doneIf", desc := "(ZZ)I" } : Jvm.MethodName) ({ cls := "JokePump$Deed", name := "doneIf", desc := "(ZZ)I" } : Jvm.MethodName)) ∈ lw_all := lw_g (lw_at lw_m6 11 rfl) rfl
theorem q2501 : (Jvm.Cond.castable "JokePump$4" "java/lang/Object") ∈ lw_tbl := lw_at lw_m11 17 rfl
theorem in_X15 : ∀ w ∈ wsX150, w ∈ lw_all := lw_in wsX150 [1290, 1286, 1288] (by decide +kernel) (by decide +kernel)

/-! JokePump$5 -/
set_option maxRecDepth 100000
def RX16 : String := "JokePump$5"
def TX16 : u_T := fun k => match k with
  | 0 => ("JokePump$Deed", "this$0", "LJokePump;", true)
  | 1 => ("JokePump$5", "val$length", "I", true)
  | _ => ("JokePump$5", "this$0", "LJokePump;", true)
def tyX16 : Nat → FieldType := fun k => match k with
  | 0 => .object "JokePump"
  | 1 => .int
  | _ => .object "JokePump"
abbrev wsX160 : List Cond := u_ws RX16 TX16 3
-- two fields of one name: no nmX16
theorem tyX16_ok : ∀ k, k < 3 → parseFieldDescriptor (TX16 k).2.2.1 = some (tyX16 k) := by decide +kernel
abbrev cX16_does : ByteArray := prog_8_method_2_code
def yX16_does : MethodName := ⟨RX16, "does", "(LJokePump$Pump;)I"⟩
def dkwX16_does_0 : List UInt8 := [43, 42, 180, 0, 7, 182, 0, 17, 172]
abbrev dktX16_does_0 : List UInt8 := dkwX16_does_0 ++ []
theorem dksX16_does_0 : cX16_does.data.toList.drop 0 = dktX16_does_0 := by decide +kernel
theorem dX16_does_0 : decode cX16_does 0 = .ok (.aload_n 1, 1) := dk_43 (dk_at dksX16_does_0 0 rfl rfl)
theorem dX16_does_1 : decode cX16_does 1 = .ok (.aload_n 0, 1) := dk_42 (dk_at dksX16_does_0 1 rfl rfl)
theorem dX16_does_2 : decode cX16_does 2 = .ok (.getfield 7, 3) := dk_180 0 7 (dk_at dksX16_does_0 2 rfl rfl)
theorem dX16_does_5 : decode cX16_does 5 = .ok (.invokevirtual 17, 3) := dk_182 0 17 (dk_at dksX16_does_0 5 rfl rfl)
theorem dX16_does_8 : decode cX16_does 8 = .ok (.ireturn, 1) := dk_172 (dk_at dksX16_does_0 8 rfl rfl)
abbrev cX16_init : ByteArray := prog_8_method_1_code
def yX16_init : MethodName := ⟨RX16, "<init>", "(LJokePump;I)V"⟩
def dkwX16_init_0 : List UInt8 := [42, 43, 181, 0, 1, 42, 28, 181, 0, 7, 42, 43, 183, 0, 11, 177]
abbrev dktX16_init_0 : List UInt8 := dkwX16_init_0 ++ []
theorem dksX16_init_0 : cX16_init.data.toList.drop 0 = dktX16_init_0 := by decide +kernel
theorem dX16_init_0 : decode cX16_init 0 = .ok (.aload_n 0, 1) := dk_42 (dk_at dksX16_init_0 0 rfl rfl)
theorem dX16_init_1 : decode cX16_init 1 = .ok (.aload_n 1, 1) := dk_43 (dk_at dksX16_init_0 1 rfl rfl)
theorem dX16_init_2 : decode cX16_init 2 = .ok (.putfield 1, 3) := dk_181 0 1 (dk_at dksX16_init_0 2 rfl rfl)
theorem dX16_init_5 : decode cX16_init 5 = .ok (.aload_n 0, 1) := dk_42 (dk_at dksX16_init_0 5 rfl rfl)
theorem dX16_init_6 : decode cX16_init 6 = .ok (.iload_n 2, 1) := dk_28 (dk_at dksX16_init_0 6 rfl rfl)
theorem dX16_init_7 : decode cX16_init 7 = .ok (.putfield 7, 3) := dk_181 0 7 (dk_at dksX16_init_0 7 rfl rfl)
theorem dX16_init_10 : decode cX16_init 10 = .ok (.aload_n 0, 1) := dk_42 (dk_at dksX16_init_0 10 rfl rfl)
theorem dX16_init_11 : decode cX16_init 11 = .ok (.aload_n 1, 1) := dk_43 (dk_at dksX16_init_0 11 rfl rfl)
theorem dX16_init_12 : decode cX16_init 12 = .ok (.invokespecial 11, 3) := dk_183 0 11 (dk_at dksX16_init_0 12 rfl rfl)
theorem dX16_init_15 : decode cX16_init 15 = .ok (.return_, 1) := dk_177 (dk_at dksX16_init_0 15 rfl rfl)
theorem q121 : (Jvm.Cond.initialized "JokePump$5") ∈ lw_all := lw_g (lw_at lw_m1 37 rfl) rfl
theorem q363 : (Jvm.Cond.selects "JokePump$5" ({ cls := "JokePump$Deed", name := "done", desc := "()I" } : Jvm.MethodName) ({ cls := "JokePump$Deed", name := "done", desc := "()I" } : Jvm.MethodName)) ∈ lw_all := lw_g (lw_at lw_m2 39 rfl) rfl
theorem q648 : (Jvm.Cond.selects "JokePump$5" ({ cls := "java/lang/Object", name := "getClass", desc := "()Ljava/lang/Class;" } : Jvm.MethodName) ({ cls := "java/lang/Object", name := "getClass", desc := "()Ljava/lang/Class;" } : Jvm.MethodName)) ∈ lw_all := lw_g (lw_at lw_m3 84 rfl) rfl
theorem q947 : (Jvm.Cond.selects "JokePump$5" ({ cls := "java/lang/Object", name := "equals", desc := "(Ljava/lang/Object;)Z" } : Jvm.MethodName) ({ cls := "java/lang/Object", name := "equals", desc := "(Ljava/lang/Object;)Z" } : Jvm.MethodName)) ∈ lw_all := lw_g (lw_at lw_m4 143 rfl) rfl
theorem q1186 : (Jvm.Cond.selects "JokePump$5" ({ cls := "JokePump$Deed", name := "does", desc := "(LJokePump$Pump;)I" } : Jvm.MethodName) ({ cls := "JokePump$5", name := "does", desc := "(LJokePump$Pump;)I" } : Jvm.MethodName)) ∈ lw_all := lw_g (lw_at lw_m5 142 rfl) rfl
theorem q1187 : (Jvm.Cond.instanceMethod ({ cls := "JokePump$5", name := "does", desc := "(LJokePump$Pump;)I" } : Jvm.MethodName)) ∈ lw_all := lw_g (lw_at lw_m5 143 rfl) rfl
theorem q1188 : (Jvm.Cond.code ({ cls := "JokePump$5", name := "does", desc := "(LJokePump$Pump;)I" } : Jvm.MethodName) prog_8_method_2_code (2 : Nat) (Option.some Jvm.ClassFile.FieldType.int)) ∈ lw_all := lw_g (lw_at lw_m5 144 rfl) rfl
theorem q1189 : (Jvm.Cond.methodLink "JokePump$5" (17 : Nat) ({ cls := "JokePump$Pump", name := "strikes", desc := "(I)I" } : Jvm.MethodName)) ∈ lw_all := lw_g (lw_at lw_m5 145 rfl) rfl
theorem q1301 : (Jvm.Cond.instantiable "JokePump$5" (3 : Nat)) ∈ lw_all := lw_g (lw_at lw_m6 17 rfl) rfl
theorem q1303 : (Jvm.Cond.instanceMethod ({ cls := "JokePump$5", name := "<init>", desc := "(LJokePump;I)V" } : Jvm.MethodName)) ∈ lw_all := lw_g (lw_at lw_m6 19 rfl) rfl
theorem q1304 : (Jvm.Cond.code ({ cls := "JokePump$5", name := "<init>", desc := "(LJokePump;I)V" } : Jvm.MethodName) prog_8_method_1_code (3 : Nat) (Option.none : Option Jvm.ClassFile.FieldType)) ∈ lw_all := lw_g (lw_at lw_m6 20 rfl) rfl
theorem q1305 : (Jvm.Cond.methodLinkNest "JokePump$5" (11 : Nat) ({ cls := "JokePump$Deed", name := "<init>", desc := "(LJokePump;)V" } : Jvm.MethodName) "JokePump") ∈ lw_tbl := lw_at lw_m6 21 rfl
theorem q1306 : (Jvm.Cond.fieldLink "JokePump$5" (7 : Nat) "JokePump$5" "val$length" "I") ∈ lw_all := lw_g (lw_at lw_m6 22 rfl) rfl
theorem q1307 : (Jvm.Cond.fieldLink "JokePump$5" (1 : Nat) "JokePump$5" "this$0" "LJokePump;") ∈ lw_all := lw_g (lw_at lw_m6 23 rfl) rfl
theorem q1308 : (Jvm.Cond.laysFinal "JokePump$5" "JokePump$5" "val$length" "I") ∈ lw_all := lw_g (lw_at lw_m6 24 rfl) rfl
theorem q1309 : (Jvm.Cond.soleField "JokePump$5" "val$length") ∈ lw_all := lw_g (lw_at lw_m6 25 rfl) rfl
theorem q1310 : (Jvm.Cond.laysFinal "JokePump$5" "JokePump$5" "this$0" "LJokePump;") ∈ lw_all := lw_g (lw_at lw_m6 26 rfl) rfl
theorem q1311 : (Jvm.Cond.soleField "JokePump$5" "this$0") ∈ lw_all := lw_g (lw_at lw_m6 27 rfl) rfl
theorem q1312 : (Jvm.Cond.laysFinal "JokePump$5" "JokePump$Deed" "this$0" "LJokePump;") ∈ lw_all := lw_g (lw_at lw_m6 28 rfl) rfl
theorem q1313 : (Jvm.Cond.superclass "JokePump$5" "JokePump$Deed") ∈ lw_all := lw_g (lw_at lw_m6 29 rfl) rfl
theorem q1316 : (Jvm.Cond.sameMethod "JokePump$5" "JokePump$Deed" "doneIf" "(ZZ)I") ∈ lw_all := lw_g (lw_at lw_m6 32 rfl) rfl
theorem q1317 : (Jvm.Cond.selects "JokePump$5" ({ cls := "JokePump$5", name := "doneIf", desc := "(ZZ)I" } : Jvm.MethodName) ({ cls := "JokePump$Deed", name := "doneIf", desc := "(ZZ)I" } : Jvm.MethodName)) ∈ lw_all := lw_g (lw_at lw_m6 33 rfl) rfl
theorem q2502 : (Jvm.Cond.castable "JokePump$5" "java/lang/Object") ∈ lw_tbl := lw_at lw_m11 18 rfl
theorem in_X16 : ∀ w ∈ wsX160, w ∈ lw_all := lw_in wsX160 [1312, 1308, 1310] (by decide +kernel) (by decide +kernel)

/-! JokePump$6 -/
set_option maxRecDepth 100000
def RX17 : String := "JokePump$6"
def TX17 : u_T := fun k => match k with
  | 0 => ("JokePump$Deed", "this$0", "LJokePump;", true)
  | 1 => ("JokePump$6", "val$well", "I", true)
  | 2 => ("JokePump$6", "val$size", "I", true)
  | _ => ("JokePump$6", "this$0", "LJokePump;", true)
def tyX17 : Nat → FieldType := fun k => match k with
  | 0 => .object "JokePump"
  | 1 => .int
  | 2 => .int
  | _ => .object "JokePump"
abbrev wsX170 : List Cond := u_ws RX17 TX17 4
-- two fields of one name: no nmX17
theorem tyX17_ok : ∀ k, k < 4 → parseFieldDescriptor (TX17 k).2.2.1 = some (tyX17 k) := by decide +kernel
abbrev cX17_does : ByteArray := prog_9_method_2_code
def yX17_does : MethodName := ⟨RX17, "does", "(LJokePump$Pump;)I"⟩
def dkwX17_does_0 : List UInt8 := [43, 42, 180, 0, 7, 42, 180, 0, 11, 182, 0, 20, 172]
abbrev dktX17_does_0 : List UInt8 := dkwX17_does_0 ++ []
theorem dksX17_does_0 : cX17_does.data.toList.drop 0 = dktX17_does_0 := by decide +kernel
theorem dX17_does_0 : decode cX17_does 0 = .ok (.aload_n 1, 1) := dk_43 (dk_at dksX17_does_0 0 rfl rfl)
theorem dX17_does_1 : decode cX17_does 1 = .ok (.aload_n 0, 1) := dk_42 (dk_at dksX17_does_0 1 rfl rfl)
theorem dX17_does_2 : decode cX17_does 2 = .ok (.getfield 7, 3) := dk_180 0 7 (dk_at dksX17_does_0 2 rfl rfl)
theorem dX17_does_5 : decode cX17_does 5 = .ok (.aload_n 0, 1) := dk_42 (dk_at dksX17_does_0 5 rfl rfl)
theorem dX17_does_6 : decode cX17_does 6 = .ok (.getfield 11, 3) := dk_180 0 11 (dk_at dksX17_does_0 6 rfl rfl)
theorem dX17_does_9 : decode cX17_does 9 = .ok (.invokevirtual 20, 3) := dk_182 0 20 (dk_at dksX17_does_0 9 rfl rfl)
theorem dX17_does_12 : decode cX17_does 12 = .ok (.ireturn, 1) := dk_172 (dk_at dksX17_does_0 12 rfl rfl)
abbrev cX17_init : ByteArray := prog_9_method_1_code
def yX17_init : MethodName := ⟨RX17, "<init>", "(LJokePump;II)V"⟩
def dkwX17_init_0 : List UInt8 := [42, 43, 181, 0, 1, 42, 28, 181, 0, 7, 42, 29, 181, 0, 11, 42, 43, 183, 0, 14, 177]
abbrev dktX17_init_0 : List UInt8 := dkwX17_init_0 ++ []
theorem dksX17_init_0 : cX17_init.data.toList.drop 0 = dktX17_init_0 := by decide +kernel
theorem dX17_init_0 : decode cX17_init 0 = .ok (.aload_n 0, 1) := dk_42 (dk_at dksX17_init_0 0 rfl rfl)
theorem dX17_init_1 : decode cX17_init 1 = .ok (.aload_n 1, 1) := dk_43 (dk_at dksX17_init_0 1 rfl rfl)
theorem dX17_init_2 : decode cX17_init 2 = .ok (.putfield 1, 3) := dk_181 0 1 (dk_at dksX17_init_0 2 rfl rfl)
theorem dX17_init_5 : decode cX17_init 5 = .ok (.aload_n 0, 1) := dk_42 (dk_at dksX17_init_0 5 rfl rfl)
theorem dX17_init_6 : decode cX17_init 6 = .ok (.iload_n 2, 1) := dk_28 (dk_at dksX17_init_0 6 rfl rfl)
theorem dX17_init_7 : decode cX17_init 7 = .ok (.putfield 7, 3) := dk_181 0 7 (dk_at dksX17_init_0 7 rfl rfl)
theorem dX17_init_10 : decode cX17_init 10 = .ok (.aload_n 0, 1) := dk_42 (dk_at dksX17_init_0 10 rfl rfl)
theorem dX17_init_11 : decode cX17_init 11 = .ok (.iload_n 3, 1) := dk_29 (dk_at dksX17_init_0 11 rfl rfl)
theorem dX17_init_12 : decode cX17_init 12 = .ok (.putfield 11, 3) := dk_181 0 11 (dk_at dksX17_init_0 12 rfl rfl)
theorem dX17_init_15 : decode cX17_init 15 = .ok (.aload_n 0, 1) := dk_42 (dk_at dksX17_init_0 15 rfl rfl)
theorem dX17_init_16 : decode cX17_init 16 = .ok (.aload_n 1, 1) := dk_43 (dk_at dksX17_init_0 16 rfl rfl)
theorem dX17_init_17 : decode cX17_init 17 = .ok (.invokespecial 14, 3) := dk_183 0 14 (dk_at dksX17_init_0 17 rfl rfl)
theorem dX17_init_20 : decode cX17_init 20 = .ok (.return_, 1) := dk_177 (dk_at dksX17_init_0 20 rfl rfl)
theorem q122 : (Jvm.Cond.initialized "JokePump$6") ∈ lw_all := lw_g (lw_at lw_m1 38 rfl) rfl
theorem q364 : (Jvm.Cond.selects "JokePump$6" ({ cls := "JokePump$Deed", name := "done", desc := "()I" } : Jvm.MethodName) ({ cls := "JokePump$Deed", name := "done", desc := "()I" } : Jvm.MethodName)) ∈ lw_all := lw_g (lw_at lw_m2 40 rfl) rfl
theorem q649 : (Jvm.Cond.selects "JokePump$6" ({ cls := "java/lang/Object", name := "getClass", desc := "()Ljava/lang/Class;" } : Jvm.MethodName) ({ cls := "java/lang/Object", name := "getClass", desc := "()Ljava/lang/Class;" } : Jvm.MethodName)) ∈ lw_all := lw_g (lw_at lw_m3 85 rfl) rfl
theorem q948 : (Jvm.Cond.selects "JokePump$6" ({ cls := "java/lang/Object", name := "equals", desc := "(Ljava/lang/Object;)Z" } : Jvm.MethodName) ({ cls := "java/lang/Object", name := "equals", desc := "(Ljava/lang/Object;)Z" } : Jvm.MethodName)) ∈ lw_all := lw_g (lw_at lw_m4 144 rfl) rfl
theorem q1190 : (Jvm.Cond.selects "JokePump$6" ({ cls := "JokePump$Deed", name := "does", desc := "(LJokePump$Pump;)I" } : Jvm.MethodName) ({ cls := "JokePump$6", name := "does", desc := "(LJokePump$Pump;)I" } : Jvm.MethodName)) ∈ lw_all := lw_g (lw_at lw_m5 146 rfl) rfl
theorem q1191 : (Jvm.Cond.instanceMethod ({ cls := "JokePump$6", name := "does", desc := "(LJokePump$Pump;)I" } : Jvm.MethodName)) ∈ lw_all := lw_g (lw_at lw_m5 147 rfl) rfl
theorem q1192 : (Jvm.Cond.code ({ cls := "JokePump$6", name := "does", desc := "(LJokePump$Pump;)I" } : Jvm.MethodName) prog_9_method_2_code (2 : Nat) (Option.some Jvm.ClassFile.FieldType.int)) ∈ lw_all := lw_g (lw_at lw_m5 148 rfl) rfl
theorem q1193 : (Jvm.Cond.methodLink "JokePump$6" (20 : Nat) ({ cls := "JokePump$Pump", name := "hangs", desc := "(II)I" } : Jvm.MethodName)) ∈ lw_all := lw_g (lw_at lw_m5 149 rfl) rfl
theorem q1323 : (Jvm.Cond.instantiable "JokePump$6" (4 : Nat)) ∈ lw_all := lw_g (lw_at lw_m6 39 rfl) rfl
theorem q1325 : (Jvm.Cond.instanceMethod ({ cls := "JokePump$6", name := "<init>", desc := "(LJokePump;II)V" } : Jvm.MethodName)) ∈ lw_all := lw_g (lw_at lw_m6 41 rfl) rfl
theorem q1326 : (Jvm.Cond.code ({ cls := "JokePump$6", name := "<init>", desc := "(LJokePump;II)V" } : Jvm.MethodName) prog_9_method_1_code (4 : Nat) (Option.none : Option Jvm.ClassFile.FieldType)) ∈ lw_all := lw_g (lw_at lw_m6 42 rfl) rfl
theorem q1327 : (Jvm.Cond.methodLinkNest "JokePump$6" (14 : Nat) ({ cls := "JokePump$Deed", name := "<init>", desc := "(LJokePump;)V" } : Jvm.MethodName) "JokePump") ∈ lw_tbl := lw_at lw_m6 43 rfl
theorem q1328 : (Jvm.Cond.fieldLink "JokePump$6" (7 : Nat) "JokePump$6" "val$well" "I") ∈ lw_all := lw_g (lw_at lw_m6 44 rfl) rfl
theorem q1329 : (Jvm.Cond.fieldLink "JokePump$6" (11 : Nat) "JokePump$6" "val$size" "I") ∈ lw_all := lw_g (lw_at lw_m6 45 rfl) rfl
theorem q1330 : (Jvm.Cond.fieldLink "JokePump$6" (1 : Nat) "JokePump$6" "this$0" "LJokePump;") ∈ lw_all := lw_g (lw_at lw_m6 46 rfl) rfl
theorem q1331 : (Jvm.Cond.laysFinal "JokePump$6" "JokePump$6" "val$well" "I") ∈ lw_all := lw_g (lw_at lw_m6 47 rfl) rfl
theorem q1332 : (Jvm.Cond.soleField "JokePump$6" "val$well") ∈ lw_all := lw_g (lw_at lw_m6 48 rfl) rfl
theorem q1333 : (Jvm.Cond.laysFinal "JokePump$6" "JokePump$6" "val$size" "I") ∈ lw_all := lw_g (lw_at lw_m6 49 rfl) rfl
theorem q1334 : (Jvm.Cond.soleField "JokePump$6" "val$size") ∈ lw_all := lw_g (lw_at lw_m6 50 rfl) rfl
theorem q1335 : (Jvm.Cond.laysFinal "JokePump$6" "JokePump$6" "this$0" "LJokePump;") ∈ lw_all := lw_g (lw_at lw_m6 51 rfl) rfl
theorem q1336 : (Jvm.Cond.soleField "JokePump$6" "this$0") ∈ lw_all := lw_g (lw_at lw_m6 52 rfl) rfl
theorem q1337 : (Jvm.Cond.laysFinal "JokePump$6" "JokePump$Deed" "this$0" "LJokePump;") ∈ lw_all := lw_g (lw_at lw_m6 53 rfl) rfl
theorem q1338 : (Jvm.Cond.superclass "JokePump$6" "JokePump$Deed") ∈ lw_all := lw_g (lw_at lw_m6 54 rfl) rfl
theorem q1341 : (Jvm.Cond.sameMethod "JokePump$6" "JokePump$Deed" "doneIf" "(ZZ)I") ∈ lw_all := lw_g (lw_at lw_m6 57 rfl) rfl
theorem q1342 : (Jvm.Cond.selects "JokePump$6" ({ cls := "JokePump$6", name := "doneIf", desc := "(ZZ)I" } : Jvm.MethodName) ({ cls := "JokePump$Deed", name := "doneIf", desc := "(ZZ)I" } : Jvm.MethodName)) ∈ lw_all := lw_g (lw_at lw_m6 58 rfl) rfl
theorem q2503 : (Jvm.Cond.castable "JokePump$6" "java/lang/Object") ∈ lw_tbl := lw_at lw_m11 19 rfl
theorem in_X17 : ∀ w ∈ wsX170, w ∈ lw_all := lw_in wsX170 [1337, 1331, 1333, 1335] (by decide +kernel) (by decide +kernel)

/-! JokePump$7 -/
set_option maxRecDepth 100000
def RX18 : String := "JokePump$7"
def TX18 : u_T := fun k => match k with
  | 0 => ("JokePump$Deed", "this$0", "LJokePump;", true)
  | 1 => ("JokePump$7", "val$well", "I", true)
  | _ => ("JokePump$7", "this$0", "LJokePump;", true)
def tyX18 : Nat → FieldType := fun k => match k with
  | 0 => .object "JokePump"
  | 1 => .int
  | _ => .object "JokePump"
abbrev wsX180 : List Cond := u_ws RX18 TX18 3
-- two fields of one name: no nmX18
theorem tyX18_ok : ∀ k, k < 3 → parseFieldDescriptor (TX18 k).2.2.1 = some (tyX18 k) := by decide +kernel
abbrev cX18_does : ByteArray := prog_10_method_2_code
def yX18_does : MethodName := ⟨RX18, "does", "(LJokePump$Pump;)I"⟩
def dkwX18_does_0 : List UInt8 := [43, 42, 180, 0, 7, 182, 0, 17, 172]
abbrev dktX18_does_0 : List UInt8 := dkwX18_does_0 ++ []
theorem dksX18_does_0 : cX18_does.data.toList.drop 0 = dktX18_does_0 := by decide +kernel
theorem dX18_does_0 : decode cX18_does 0 = .ok (.aload_n 1, 1) := dk_43 (dk_at dksX18_does_0 0 rfl rfl)
theorem dX18_does_1 : decode cX18_does 1 = .ok (.aload_n 0, 1) := dk_42 (dk_at dksX18_does_0 1 rfl rfl)
theorem dX18_does_2 : decode cX18_does 2 = .ok (.getfield 7, 3) := dk_180 0 7 (dk_at dksX18_does_0 2 rfl rfl)
theorem dX18_does_5 : decode cX18_does 5 = .ok (.invokevirtual 17, 3) := dk_182 0 17 (dk_at dksX18_does_0 5 rfl rfl)
theorem dX18_does_8 : decode cX18_does 8 = .ok (.ireturn, 1) := dk_172 (dk_at dksX18_does_0 8 rfl rfl)
abbrev cX18_init : ByteArray := prog_10_method_1_code
def yX18_init : MethodName := ⟨RX18, "<init>", "(LJokePump;I)V"⟩
def dkwX18_init_0 : List UInt8 := [42, 43, 181, 0, 1, 42, 28, 181, 0, 7, 42, 43, 183, 0, 11, 177]
abbrev dktX18_init_0 : List UInt8 := dkwX18_init_0 ++ []
theorem dksX18_init_0 : cX18_init.data.toList.drop 0 = dktX18_init_0 := by decide +kernel
theorem dX18_init_0 : decode cX18_init 0 = .ok (.aload_n 0, 1) := dk_42 (dk_at dksX18_init_0 0 rfl rfl)
theorem dX18_init_1 : decode cX18_init 1 = .ok (.aload_n 1, 1) := dk_43 (dk_at dksX18_init_0 1 rfl rfl)
theorem dX18_init_2 : decode cX18_init 2 = .ok (.putfield 1, 3) := dk_181 0 1 (dk_at dksX18_init_0 2 rfl rfl)
theorem dX18_init_5 : decode cX18_init 5 = .ok (.aload_n 0, 1) := dk_42 (dk_at dksX18_init_0 5 rfl rfl)
theorem dX18_init_6 : decode cX18_init 6 = .ok (.iload_n 2, 1) := dk_28 (dk_at dksX18_init_0 6 rfl rfl)
theorem dX18_init_7 : decode cX18_init 7 = .ok (.putfield 7, 3) := dk_181 0 7 (dk_at dksX18_init_0 7 rfl rfl)
theorem dX18_init_10 : decode cX18_init 10 = .ok (.aload_n 0, 1) := dk_42 (dk_at dksX18_init_0 10 rfl rfl)
theorem dX18_init_11 : decode cX18_init 11 = .ok (.aload_n 1, 1) := dk_43 (dk_at dksX18_init_0 11 rfl rfl)
theorem dX18_init_12 : decode cX18_init 12 = .ok (.invokespecial 11, 3) := dk_183 0 11 (dk_at dksX18_init_0 12 rfl rfl)
theorem dX18_init_15 : decode cX18_init 15 = .ok (.return_, 1) := dk_177 (dk_at dksX18_init_0 15 rfl rfl)
theorem q123 : (Jvm.Cond.initialized "JokePump$7") ∈ lw_all := lw_g (lw_at lw_m1 39 rfl) rfl
theorem q365 : (Jvm.Cond.selects "JokePump$7" ({ cls := "JokePump$Deed", name := "done", desc := "()I" } : Jvm.MethodName) ({ cls := "JokePump$Deed", name := "done", desc := "()I" } : Jvm.MethodName)) ∈ lw_all := lw_g (lw_at lw_m2 41 rfl) rfl
theorem q650 : (Jvm.Cond.selects "JokePump$7" ({ cls := "java/lang/Object", name := "getClass", desc := "()Ljava/lang/Class;" } : Jvm.MethodName) ({ cls := "java/lang/Object", name := "getClass", desc := "()Ljava/lang/Class;" } : Jvm.MethodName)) ∈ lw_all := lw_g (lw_at lw_m3 86 rfl) rfl
theorem q949 : (Jvm.Cond.selects "JokePump$7" ({ cls := "java/lang/Object", name := "equals", desc := "(Ljava/lang/Object;)Z" } : Jvm.MethodName) ({ cls := "java/lang/Object", name := "equals", desc := "(Ljava/lang/Object;)Z" } : Jvm.MethodName)) ∈ lw_all := lw_g (lw_at lw_m4 145 rfl) rfl
theorem q1194 : (Jvm.Cond.selects "JokePump$7" ({ cls := "JokePump$Deed", name := "does", desc := "(LJokePump$Pump;)I" } : Jvm.MethodName) ({ cls := "JokePump$7", name := "does", desc := "(LJokePump$Pump;)I" } : Jvm.MethodName)) ∈ lw_all := lw_g (lw_at lw_m5 150 rfl) rfl
theorem q1195 : (Jvm.Cond.instanceMethod ({ cls := "JokePump$7", name := "does", desc := "(LJokePump$Pump;)I" } : Jvm.MethodName)) ∈ lw_all := lw_g (lw_at lw_m5 151 rfl) rfl
theorem q1196 : (Jvm.Cond.code ({ cls := "JokePump$7", name := "does", desc := "(LJokePump$Pump;)I" } : Jvm.MethodName) prog_10_method_2_code (2 : Nat) (Option.some Jvm.ClassFile.FieldType.int)) ∈ lw_all := lw_g (lw_at lw_m5 152 rfl) rfl
theorem q1197 : (Jvm.Cond.methodLink "JokePump$7" (17 : Nat) ({ cls := "JokePump$Pump", name := "goes", desc := "(I)I" } : Jvm.MethodName)) ∈ lw_all := lw_g (lw_at lw_m5 153 rfl) rfl
theorem q1348 : (Jvm.Cond.instantiable "JokePump$7" (3 : Nat)) ∈ lw_all := lw_g (lw_at lw_m6 64 rfl) rfl
theorem q1350 : (Jvm.Cond.instanceMethod ({ cls := "JokePump$7", name := "<init>", desc := "(LJokePump;I)V" } : Jvm.MethodName)) ∈ lw_all := lw_g (lw_at lw_m6 66 rfl) rfl
theorem q1351 : (Jvm.Cond.code ({ cls := "JokePump$7", name := "<init>", desc := "(LJokePump;I)V" } : Jvm.MethodName) prog_10_method_1_code (3 : Nat) (Option.none : Option Jvm.ClassFile.FieldType)) ∈ lw_all := lw_g (lw_at lw_m6 67 rfl) rfl
theorem q1352 : (Jvm.Cond.methodLinkNest "JokePump$7" (11 : Nat) ({ cls := "JokePump$Deed", name := "<init>", desc := "(LJokePump;)V" } : Jvm.MethodName) "JokePump") ∈ lw_tbl := lw_at lw_m6 68 rfl
theorem q1353 : (Jvm.Cond.fieldLink "JokePump$7" (7 : Nat) "JokePump$7" "val$well" "I") ∈ lw_all := lw_g (lw_at lw_m6 69 rfl) rfl
theorem q1354 : (Jvm.Cond.fieldLink "JokePump$7" (1 : Nat) "JokePump$7" "this$0" "LJokePump;") ∈ lw_all := lw_g (lw_at lw_m6 70 rfl) rfl
theorem q1355 : (Jvm.Cond.laysFinal "JokePump$7" "JokePump$7" "val$well" "I") ∈ lw_all := lw_g (lw_at lw_m6 71 rfl) rfl
theorem q1356 : (Jvm.Cond.soleField "JokePump$7" "val$well") ∈ lw_all := lw_g (lw_at lw_m6 72 rfl) rfl
theorem q1357 : (Jvm.Cond.laysFinal "JokePump$7" "JokePump$7" "this$0" "LJokePump;") ∈ lw_all := lw_g (lw_at lw_m6 73 rfl) rfl
theorem q1358 : (Jvm.Cond.soleField "JokePump$7" "this$0") ∈ lw_all := lw_g (lw_at lw_m6 74 rfl) rfl
theorem q1359 : (Jvm.Cond.laysFinal "JokePump$7" "JokePump$Deed" "this$0" "LJokePump;") ∈ lw_all := lw_g (lw_at lw_m6 75 rfl) rfl
theorem q1360 : (Jvm.Cond.superclass "JokePump$7" "JokePump$Deed") ∈ lw_all := lw_g (lw_at lw_m6 76 rfl) rfl
theorem q1362 : (Jvm.Cond.sameMethod "JokePump$7" "JokePump$Deed" "doneIf" "(ZZ)I") ∈ lw_all := lw_g (lw_at lw_m6 78 rfl) rfl
theorem q1363 : (Jvm.Cond.selects "JokePump$7" ({ cls := "JokePump$7", name := "doneIf", desc := "(ZZ)I" } : Jvm.MethodName) ({ cls := "JokePump$Deed", name := "doneIf", desc := "(ZZ)I" } : Jvm.MethodName)) ∈ lw_all := lw_g (lw_at lw_m6 79 rfl) rfl
theorem q2504 : (Jvm.Cond.castable "JokePump$7" "java/lang/Object") ∈ lw_tbl := lw_at lw_m11 20 rfl
theorem in_X18 : ∀ w ∈ wsX180, w ∈ lw_all := lw_in wsX180 [1359, 1355, 1357] (by decide +kernel) (by decide +kernel)

/-! JokePump$8 -/
set_option maxRecDepth 100000
def RX19 : String := "JokePump$8"
def TX19 : u_T := fun k => match k with
  | 0 => ("JokePump$Deed", "this$0", "LJokePump;", true)
  | 1 => ("JokePump$8", "val$strokes", "I", true)
  | _ => ("JokePump$8", "this$0", "LJokePump;", true)
def tyX19 : Nat → FieldType := fun k => match k with
  | 0 => .object "JokePump"
  | 1 => .int
  | _ => .object "JokePump"
abbrev wsX190 : List Cond := u_ws RX19 TX19 3
-- two fields of one name: no nmX19
theorem tyX19_ok : ∀ k, k < 3 → parseFieldDescriptor (TX19 k).2.2.1 = some (tyX19 k) := by decide +kernel
abbrev cX19_does : ByteArray := prog_11_method_2_code
def yX19_does : MethodName := ⟨RX19, "does", "(LJokePump$Pump;)I"⟩
def dkwX19_does_0 : List UInt8 := [43, 42, 180, 0, 7, 182, 0, 17, 172]
abbrev dktX19_does_0 : List UInt8 := dkwX19_does_0 ++ []
theorem dksX19_does_0 : cX19_does.data.toList.drop 0 = dktX19_does_0 := by decide +kernel
theorem dX19_does_0 : decode cX19_does 0 = .ok (.aload_n 1, 1) := dk_43 (dk_at dksX19_does_0 0 rfl rfl)
theorem dX19_does_1 : decode cX19_does 1 = .ok (.aload_n 0, 1) := dk_42 (dk_at dksX19_does_0 1 rfl rfl)
theorem dX19_does_2 : decode cX19_does 2 = .ok (.getfield 7, 3) := dk_180 0 7 (dk_at dksX19_does_0 2 rfl rfl)
theorem dX19_does_5 : decode cX19_does 5 = .ok (.invokevirtual 17, 3) := dk_182 0 17 (dk_at dksX19_does_0 5 rfl rfl)
theorem dX19_does_8 : decode cX19_does 8 = .ok (.ireturn, 1) := dk_172 (dk_at dksX19_does_0 8 rfl rfl)
abbrev cX19_init : ByteArray := prog_11_method_1_code
def yX19_init : MethodName := ⟨RX19, "<init>", "(LJokePump;I)V"⟩
def dkwX19_init_0 : List UInt8 := [42, 43, 181, 0, 1, 42, 28, 181, 0, 7, 42, 43, 183, 0, 11, 177]
abbrev dktX19_init_0 : List UInt8 := dkwX19_init_0 ++ []
theorem dksX19_init_0 : cX19_init.data.toList.drop 0 = dktX19_init_0 := by decide +kernel
theorem dX19_init_0 : decode cX19_init 0 = .ok (.aload_n 0, 1) := dk_42 (dk_at dksX19_init_0 0 rfl rfl)
theorem dX19_init_1 : decode cX19_init 1 = .ok (.aload_n 1, 1) := dk_43 (dk_at dksX19_init_0 1 rfl rfl)
theorem dX19_init_2 : decode cX19_init 2 = .ok (.putfield 1, 3) := dk_181 0 1 (dk_at dksX19_init_0 2 rfl rfl)
theorem dX19_init_5 : decode cX19_init 5 = .ok (.aload_n 0, 1) := dk_42 (dk_at dksX19_init_0 5 rfl rfl)
theorem dX19_init_6 : decode cX19_init 6 = .ok (.iload_n 2, 1) := dk_28 (dk_at dksX19_init_0 6 rfl rfl)
theorem dX19_init_7 : decode cX19_init 7 = .ok (.putfield 7, 3) := dk_181 0 7 (dk_at dksX19_init_0 7 rfl rfl)
theorem dX19_init_10 : decode cX19_init 10 = .ok (.aload_n 0, 1) := dk_42 (dk_at dksX19_init_0 10 rfl rfl)
theorem dX19_init_11 : decode cX19_init 11 = .ok (.aload_n 1, 1) := dk_43 (dk_at dksX19_init_0 11 rfl rfl)
theorem dX19_init_12 : decode cX19_init 12 = .ok (.invokespecial 11, 3) := dk_183 0 11 (dk_at dksX19_init_0 12 rfl rfl)
theorem dX19_init_15 : decode cX19_init 15 = .ok (.return_, 1) := dk_177 (dk_at dksX19_init_0 15 rfl rfl)
theorem q124 : (Jvm.Cond.initialized "JokePump$8") ∈ lw_all := lw_g (lw_at lw_m1 40 rfl) rfl
theorem q366 : (Jvm.Cond.selects "JokePump$8" ({ cls := "JokePump$Deed", name := "done", desc := "()I" } : Jvm.MethodName) ({ cls := "JokePump$Deed", name := "done", desc := "()I" } : Jvm.MethodName)) ∈ lw_all := lw_g (lw_at lw_m2 42 rfl) rfl
theorem q651 : (Jvm.Cond.selects "JokePump$8" ({ cls := "java/lang/Object", name := "getClass", desc := "()Ljava/lang/Class;" } : Jvm.MethodName) ({ cls := "java/lang/Object", name := "getClass", desc := "()Ljava/lang/Class;" } : Jvm.MethodName)) ∈ lw_all := lw_g (lw_at lw_m3 87 rfl) rfl
theorem q950 : (Jvm.Cond.selects "JokePump$8" ({ cls := "java/lang/Object", name := "equals", desc := "(Ljava/lang/Object;)Z" } : Jvm.MethodName) ({ cls := "java/lang/Object", name := "equals", desc := "(Ljava/lang/Object;)Z" } : Jvm.MethodName)) ∈ lw_all := lw_g (lw_at lw_m4 146 rfl) rfl
theorem q1198 : (Jvm.Cond.selects "JokePump$8" ({ cls := "JokePump$Deed", name := "does", desc := "(LJokePump$Pump;)I" } : Jvm.MethodName) ({ cls := "JokePump$8", name := "does", desc := "(LJokePump$Pump;)I" } : Jvm.MethodName)) ∈ lw_all := lw_g (lw_at lw_m5 154 rfl) rfl
theorem q1199 : (Jvm.Cond.instanceMethod ({ cls := "JokePump$8", name := "does", desc := "(LJokePump$Pump;)I" } : Jvm.MethodName)) ∈ lw_all := lw_g (lw_at lw_m5 155 rfl) rfl
theorem q1200 : (Jvm.Cond.code ({ cls := "JokePump$8", name := "does", desc := "(LJokePump$Pump;)I" } : Jvm.MethodName) prog_11_method_2_code (2 : Nat) (Option.some Jvm.ClassFile.FieldType.int)) ∈ lw_all := lw_g (lw_at lw_m5 156 rfl) rfl
theorem q1201 : (Jvm.Cond.methodLink "JokePump$8" (17 : Nat) ({ cls := "JokePump$Pump", name := "pumps", desc := "(I)I" } : Jvm.MethodName)) ∈ lw_all := lw_g (lw_at lw_m5 157 rfl) rfl
theorem q1369 : (Jvm.Cond.instantiable "JokePump$8" (3 : Nat)) ∈ lw_all := lw_g (lw_at lw_m6 85 rfl) rfl
theorem q1371 : (Jvm.Cond.instanceMethod ({ cls := "JokePump$8", name := "<init>", desc := "(LJokePump;I)V" } : Jvm.MethodName)) ∈ lw_all := lw_g (lw_at lw_m6 87 rfl) rfl
theorem q1372 : (Jvm.Cond.code ({ cls := "JokePump$8", name := "<init>", desc := "(LJokePump;I)V" } : Jvm.MethodName) prog_11_method_1_code (3 : Nat) (Option.none : Option Jvm.ClassFile.FieldType)) ∈ lw_all := lw_g (lw_at lw_m6 88 rfl) rfl
theorem q1373 : (Jvm.Cond.methodLinkNest "JokePump$8" (11 : Nat) ({ cls := "JokePump$Deed", name := "<init>", desc := "(LJokePump;)V" } : Jvm.MethodName) "JokePump") ∈ lw_tbl := lw_at lw_m6 89 rfl
theorem q1374 : (Jvm.Cond.fieldLink "JokePump$8" (7 : Nat) "JokePump$8" "val$strokes" "I") ∈ lw_all := lw_g (lw_at lw_m6 90 rfl) rfl
theorem q1375 : (Jvm.Cond.fieldLink "JokePump$8" (1 : Nat) "JokePump$8" "this$0" "LJokePump;") ∈ lw_all := lw_g (lw_at lw_m6 91 rfl) rfl
theorem q1376 : (Jvm.Cond.laysFinal "JokePump$8" "JokePump$8" "val$strokes" "I") ∈ lw_all := lw_g (lw_at lw_m6 92 rfl) rfl
theorem q1377 : (Jvm.Cond.soleField "JokePump$8" "val$strokes") ∈ lw_all := lw_g (lw_at lw_m6 93 rfl) rfl
theorem q1378 : (Jvm.Cond.laysFinal "JokePump$8" "JokePump$8" "this$0" "LJokePump;") ∈ lw_all := lw_g (lw_at lw_m6 94 rfl) rfl
theorem q1379 : (Jvm.Cond.soleField "JokePump$8" "this$0") ∈ lw_all := lw_g (lw_at lw_m6 95 rfl) rfl
theorem q1380 : (Jvm.Cond.laysFinal "JokePump$8" "JokePump$Deed" "this$0" "LJokePump;") ∈ lw_all := lw_g (lw_at lw_m6 96 rfl) rfl
theorem q1381 : (Jvm.Cond.superclass "JokePump$8" "JokePump$Deed") ∈ lw_all := lw_g (lw_at lw_m6 97 rfl) rfl
theorem q1384 : (Jvm.Cond.sameMethod "JokePump$8" "JokePump$Deed" "doneIf" "(ZZ)I") ∈ lw_all := lw_g (lw_at lw_m6 100 rfl) rfl
theorem q1385 : (Jvm.Cond.selects "JokePump$8" ({ cls := "JokePump$8", name := "doneIf", desc := "(ZZ)I" } : Jvm.MethodName) ({ cls := "JokePump$Deed", name := "doneIf", desc := "(ZZ)I" } : Jvm.MethodName)) ∈ lw_all := lw_g (lw_at lw_m6 101 rfl) rfl
theorem q2505 : (Jvm.Cond.castable "JokePump$8" "java/lang/Object") ∈ lw_tbl := lw_at lw_m11 21 rfl
theorem in_X19 : ∀ w ∈ wsX190, w ∈ lw_all := lw_in wsX190 [1380, 1376, 1378] (by decide +kernel) (by decide +kernel)

/-! JokePump$9 -/
set_option maxRecDepth 100000
def RX20 : String := "JokePump$9"
def TX20 : u_T := fun k => match k with
  | _ => ("JokePump$9", "this$0", "LJokePump;", true)
def tyX20 : Nat → FieldType := fun k => match k with
  | _ => .object "JokePump"
abbrev wsX200 : List Cond := u_ws RX20 TX20 1
theorem nmX20 : ∀ a, a < 1 → ∀ b, b < 1 → a ≠ b → (TX20 a).2.1 ≠ (TX20 b).2.1 := by decide +kernel
theorem tyX20_ok : ∀ k, k < 1 → parseFieldDescriptor (TX20 k).2.2.1 = some (tyX20 k) := by decide +kernel
abbrev cX20_iterator : ByteArray := prog_12_method_2_code
def yX20_iterator : MethodName := ⟨RX20, "iterator", "()Ljava/util/Iterator;"⟩
def dkwX20_iterator_0 : List UInt8 := [187, 0, 13, 89, 42, 180, 0, 1, 183, 0, 15, 176]
abbrev dktX20_iterator_0 : List UInt8 := dkwX20_iterator_0 ++ []
theorem dksX20_iterator_0 : cX20_iterator.data.toList.drop 0 = dktX20_iterator_0 := by decide +kernel
theorem dX20_iterator_0 : decode cX20_iterator 0 = .ok (.new 13, 3) := dk_187 0 13 (dk_at dksX20_iterator_0 0 rfl rfl)
theorem dX20_iterator_3 : decode cX20_iterator 3 = .ok (.dup, 1) := dk_89 (dk_at dksX20_iterator_0 3 rfl rfl)
theorem dX20_iterator_4 : decode cX20_iterator 4 = .ok (.aload_n 0, 1) := dk_42 (dk_at dksX20_iterator_0 4 rfl rfl)
theorem dX20_iterator_5 : decode cX20_iterator 5 = .ok (.getfield 1, 3) := dk_180 0 1 (dk_at dksX20_iterator_0 5 rfl rfl)
theorem dX20_iterator_8 : decode cX20_iterator 8 = .ok (.invokespecial 15, 3) := dk_183 0 15 (dk_at dksX20_iterator_0 8 rfl rfl)
theorem dX20_iterator_11 : decode cX20_iterator 11 = .ok (.areturn, 1) := dk_176 (dk_at dksX20_iterator_0 11 rfl rfl)
abbrev cX20_init : ByteArray := prog_12_method_1_code
def yX20_init : MethodName := ⟨RX20, "<init>", "(LJokePump;)V"⟩
def dkwX20_init_0 : List UInt8 := [42, 43, 181, 0, 1, 42, 183, 0, 7, 177]
abbrev dktX20_init_0 : List UInt8 := dkwX20_init_0 ++ []
theorem dksX20_init_0 : cX20_init.data.toList.drop 0 = dktX20_init_0 := by decide +kernel
theorem dX20_init_0 : decode cX20_init 0 = .ok (.aload_n 0, 1) := dk_42 (dk_at dksX20_init_0 0 rfl rfl)
theorem dX20_init_1 : decode cX20_init 1 = .ok (.aload_n 1, 1) := dk_43 (dk_at dksX20_init_0 1 rfl rfl)
theorem dX20_init_2 : decode cX20_init 2 = .ok (.putfield 1, 3) := dk_181 0 1 (dk_at dksX20_init_0 2 rfl rfl)
theorem dX20_init_5 : decode cX20_init 5 = .ok (.aload_n 0, 1) := dk_42 (dk_at dksX20_init_0 5 rfl rfl)
theorem dX20_init_6 : decode cX20_init 6 = .ok (.invokespecial 7, 3) := dk_183 0 7 (dk_at dksX20_init_0 6 rfl rfl)
theorem dX20_init_9 : decode cX20_init 9 = .ok (.return_, 1) := dk_177 (dk_at dksX20_init_0 9 rfl rfl)
theorem q127 : (Jvm.Cond.initialized "JokePump$9") ∈ lw_all := lw_g (lw_at lw_m1 43 rfl) rfl
theorem q652 : (Jvm.Cond.selects "JokePump$9" ({ cls := "java/lang/Object", name := "getClass", desc := "()Ljava/lang/Class;" } : Jvm.MethodName) ({ cls := "java/lang/Object", name := "getClass", desc := "()Ljava/lang/Class;" } : Jvm.MethodName)) ∈ lw_all := lw_g (lw_at lw_m3 88 rfl) rfl
theorem q951 : (Jvm.Cond.selects "JokePump$9" ({ cls := "java/lang/Object", name := "equals", desc := "(Ljava/lang/Object;)Z" } : Jvm.MethodName) ({ cls := "java/lang/Object", name := "equals", desc := "(Ljava/lang/Object;)Z" } : Jvm.MethodName)) ∈ lw_all := lw_g (lw_at lw_m4 147 rfl) rfl
theorem q1037 : (Jvm.Cond.castable "JokePump$9" "java/lang/Iterable") ∈ lw_tbl := lw_at lw_m4 233 rfl
theorem q1038 : (Jvm.Cond.selects "JokePump$9" ({ cls := "java/lang/Iterable", name := "iterator", desc := "()Ljava/util/Iterator;" } : Jvm.MethodName) ({ cls := "JokePump$9", name := "iterator", desc := "()Ljava/util/Iterator;" } : Jvm.MethodName)) ∈ lw_all := lw_g (lw_at lw_m4 234 rfl) rfl
theorem q1039 : (Jvm.Cond.unhidden "JokePump$9" "iterator" "()Ljava/util/Iterator;") ∈ lw_tbl := lw_at lw_m4 235 rfl
theorem q1040 : (Jvm.Cond.instanceMethod ({ cls := "JokePump$9", name := "iterator", desc := "()Ljava/util/Iterator;" } : Jvm.MethodName)) ∈ lw_all := lw_g (lw_at lw_m4 236 rfl) rfl
theorem q1041 : (Jvm.Cond.publicMethod ({ cls := "JokePump$9", name := "iterator", desc := "()Ljava/util/Iterator;" } : Jvm.MethodName)) ∈ lw_tbl := lw_at lw_m4 237 rfl
theorem q1042 : (Jvm.Cond.code ({ cls := "JokePump$9", name := "iterator", desc := "()Ljava/util/Iterator;" } : Jvm.MethodName) prog_12_method_2_code (1 : Nat) (Option.some (Jvm.ClassFile.FieldType.object "java/util/Iterator"))) ∈ lw_all := lw_g (lw_at lw_m4 238 rfl) rfl
theorem q1043 : (Jvm.Cond.classLink "JokePump$9" (13 : Nat) "JokePump$1Funny") ∈ lw_all := lw_g (lw_at lw_m4 239 rfl) rfl
theorem q1044 : (Jvm.Cond.methodLink "JokePump$9" (15 : Nat) ({ cls := "JokePump$1Funny", name := "<init>", desc := "(LJokePump;)V" } : Jvm.MethodName)) ∈ lw_all := lw_g (lw_at lw_m5 0 rfl) rfl
theorem q1501 : (Jvm.Cond.instantiable "JokePump$9" (1 : Nat)) ∈ lw_all := lw_g (lw_at lw_m6 217 rfl) rfl
theorem q1503 : (Jvm.Cond.instanceMethod ({ cls := "JokePump$9", name := "<init>", desc := "(LJokePump;)V" } : Jvm.MethodName)) ∈ lw_all := lw_g (lw_at lw_m6 219 rfl) rfl
theorem q1504 : (Jvm.Cond.code ({ cls := "JokePump$9", name := "<init>", desc := "(LJokePump;)V" } : Jvm.MethodName) prog_12_method_1_code (2 : Nat) (Option.none : Option Jvm.ClassFile.FieldType)) ∈ lw_all := lw_g (lw_at lw_m6 220 rfl) rfl
theorem q1505 : (Jvm.Cond.methodLink "JokePump$9" (7 : Nat) ({ cls := "java/lang/Object", name := "<init>", desc := "()V" } : Jvm.MethodName)) ∈ lw_all := lw_g (lw_at lw_m6 221 rfl) rfl
theorem q1506 : (Jvm.Cond.fieldLink "JokePump$9" (1 : Nat) "JokePump$9" "this$0" "LJokePump;") ∈ lw_all := lw_g (lw_at lw_m6 222 rfl) rfl
theorem q1507 : (Jvm.Cond.laysFinal "JokePump$9" "JokePump$9" "this$0" "LJokePump;") ∈ lw_all := lw_g (lw_at lw_m6 223 rfl) rfl
theorem q1508 : (Jvm.Cond.soleField "JokePump$9" "this$0") ∈ lw_all := lw_g (lw_at lw_m6 224 rfl) rfl
theorem q1509 : (Jvm.Cond.superclass "JokePump$9" "java/lang/Object") ∈ lw_all := lw_g (lw_at lw_m6 225 rfl) rfl
theorem q2511 : (Jvm.Cond.castable "JokePump$9" "java/lang/Object") ∈ lw_tbl := lw_at lw_m11 27 rfl
theorem in_X20 : ∀ w ∈ wsX200, w ∈ lw_all := lw_in wsX200 [1507] (by decide +kernel) (by decide +kernel)

/-! JokePump$Silence -/
set_option maxRecDepth 100000
def RX21 : String := "JokePump$Silence"
abbrev cX21_laugh : ByteArray := prog_24_method_2_code
def yX21_laugh : MethodName := ⟨RX21, "laugh", "()F"⟩
theorem dX21_laugh_0 : decode cX21_laugh 0 = .ok (.fconst 0, 1) := by decide +kernel
theorem dX21_laugh_1 : decode cX21_laugh 1 = .ok (.freturn, 1) := by decide +kernel
abbrev cX21_init : ByteArray := prog_24_method_1_code
def yX21_init : MethodName := ⟨RX21, "<init>", "()V"⟩
theorem dX21_init_0 : decode cX21_init 0 = .ok (.aload_n 0, 1) := by decide +kernel
theorem dX21_init_1 : decode cX21_init 1 = .ok (.invokespecial 1, 3) := by decide +kernel
theorem dX21_init_4 : decode cX21_init 4 = .ok (.return_, 1) := by decide +kernel
theorem q128 : (Jvm.Cond.initialized "JokePump$Silence") ∈ lw_all := lw_g (lw_at lw_m1 44 rfl) rfl
theorem q663 : (Jvm.Cond.selects "JokePump$Silence" ({ cls := "java/lang/Object", name := "getClass", desc := "()Ljava/lang/Class;" } : Jvm.MethodName) ({ cls := "java/lang/Object", name := "getClass", desc := "()Ljava/lang/Class;" } : Jvm.MethodName)) ∈ lw_all := lw_g (lw_at lw_m3 99 rfl) rfl
theorem q967 : (Jvm.Cond.selects "JokePump$Silence" ({ cls := "java/lang/Object", name := "equals", desc := "(Ljava/lang/Object;)Z" } : Jvm.MethodName) ({ cls := "java/lang/Object", name := "equals", desc := "(Ljava/lang/Object;)Z" } : Jvm.MethodName)) ∈ lw_all := lw_g (lw_at lw_m4 163 rfl) rfl
theorem q1441 : (Jvm.Cond.selects "JokePump$Silence" ({ cls := "JokePump$Told", name := "laugh", desc := "()F" } : Jvm.MethodName) ({ cls := "JokePump$Silence", name := "laugh", desc := "()F" } : Jvm.MethodName)) ∈ lw_all := lw_g (lw_at lw_m6 157 rfl) rfl
theorem q1442 : (Jvm.Cond.instanceMethod ({ cls := "JokePump$Silence", name := "laugh", desc := "()F" } : Jvm.MethodName)) ∈ lw_all := lw_g (lw_at lw_m6 158 rfl) rfl
theorem q1443 : (Jvm.Cond.code ({ cls := "JokePump$Silence", name := "laugh", desc := "()F" } : Jvm.MethodName) prog_24_method_2_code (1 : Nat) (Option.some Jvm.ClassFile.FieldType.float)) ∈ lw_all := lw_g (lw_at lw_m6 159 rfl) rfl
theorem q1529 : (Jvm.Cond.instantiable "JokePump$Silence" (0 : Nat)) ∈ lw_all := lw_g (lw_at lw_m7 5 rfl) rfl
theorem q1531 : (Jvm.Cond.instanceMethod ({ cls := "JokePump$Silence", name := "<init>", desc := "()V" } : Jvm.MethodName)) ∈ lw_all := lw_g (lw_at lw_m7 7 rfl) rfl
theorem q1532 : (Jvm.Cond.code ({ cls := "JokePump$Silence", name := "<init>", desc := "()V" } : Jvm.MethodName) prog_24_method_1_code (1 : Nat) (Option.none : Option Jvm.ClassFile.FieldType)) ∈ lw_all := lw_g (lw_at lw_m7 8 rfl) rfl
theorem q1533 : (Jvm.Cond.methodLinkNest "JokePump$Silence" (1 : Nat) ({ cls := "JokePump$Told", name := "<init>", desc := "()V" } : Jvm.MethodName) "JokePump") ∈ lw_tbl := lw_at lw_m7 9 rfl
theorem q1534 : (Jvm.Cond.superclass "JokePump$Silence" "JokePump$Told") ∈ lw_all := lw_g (lw_at lw_m7 10 rfl) rfl
theorem q2513 : (Jvm.Cond.castable "JokePump$Silence" "java/lang/Object") ∈ lw_tbl := lw_at lw_m11 29 rfl
theorem q2522 : (Jvm.Cond.castable "JokePump$Silence" "JokePump$Told") ∈ lw_tbl := lw_at lw_m11 38 rfl

/-! JokePump$Reader -/
set_option maxRecDepth 100000
def RX22 : String := "JokePump$Reader"
def TX22 : u_T := fun k => match k with
  | 0 => ("JokePump$Reader", "words", "[Ljava/lang/String;", true)
  | 1 => ("JokePump$Reader", "at", "I", false)
  | _ => ("JokePump$Reader", "this$0", "LJokePump;", true)
def tyX22 : Nat → FieldType := fun k => match k with
  | 0 => .array (.object "java/lang/String")
  | 1 => .int
  | _ => .object "JokePump"
abbrev wsX220 : List Cond := u_ws RX22 TX22 3
theorem nmX22 : ∀ a, a < 3 → ∀ b, b < 3 → a ≠ b → (TX22 a).2.1 ≠ (TX22 b).2.1 := by decide +kernel
theorem tyX22_ok : ∀ k, k < 3 → parseFieldDescriptor (TX22 k).2.2.1 = some (tyX22 k) := by decide +kernel
abbrev cX22_init : ByteArray := prog_22_method_1_code
def yX22_init : MethodName := ⟨RX22, "<init>", "(LJokePump;)V"⟩
def dkwX22_init_2 : List UInt8 := [18, 29, 83, 89, 16, 7, 18, 31, 83, 181, 0, 33, 177]
abbrev dktX22_init_2 : List UInt8 := dkwX22_init_2 ++ []
def dkwX22_init_1 : List UInt8 := [83, 89, 5, 18, 21, 83, 89, 6, 18, 23, 83, 89, 7, 18, 25, 83, 89, 8, 18, 27, 83, 89, 16, 6]
abbrev dktX22_init_1 : List UInt8 := dkwX22_init_1 ++ dktX22_init_2
def dkwX22_init_0 : List UInt8 := [42, 43, 181, 0, 3, 42, 183, 0, 9, 42, 16, 8, 189, 0, 15, 89, 3, 18, 17, 83, 89, 4, 18, 19]
abbrev dktX22_init_0 : List UInt8 := dkwX22_init_0 ++ dktX22_init_1
theorem dksX22_init_0 : cX22_init.data.toList.drop 0 = dktX22_init_0 := by decide +kernel
theorem dksX22_init_1 : cX22_init.data.toList.drop 24 = dktX22_init_1 := dk_seg dksX22_init_0 24 rfl rfl
theorem dksX22_init_2 : cX22_init.data.toList.drop 48 = dktX22_init_2 := dk_seg dksX22_init_1 24 rfl rfl
theorem dX22_init_0 : decode cX22_init 0 = .ok (.aload_n 0, 1) := dk_42 (dk_at dksX22_init_0 0 rfl rfl)
theorem dX22_init_1 : decode cX22_init 1 = .ok (.aload_n 1, 1) := dk_43 (dk_at dksX22_init_0 1 rfl rfl)
theorem dX22_init_2 : decode cX22_init 2 = .ok (.putfield 3, 3) := dk_181 0 3 (dk_at dksX22_init_0 2 rfl rfl)
theorem dX22_init_5 : decode cX22_init 5 = .ok (.aload_n 0, 1) := dk_42 (dk_at dksX22_init_0 5 rfl rfl)
theorem dX22_init_6 : decode cX22_init 6 = .ok (.invokespecial 9, 3) := dk_183 0 9 (dk_at dksX22_init_0 6 rfl rfl)
theorem dX22_init_9 : decode cX22_init 9 = .ok (.aload_n 0, 1) := dk_42 (dk_at dksX22_init_0 9 rfl rfl)
theorem dX22_init_10 : decode cX22_init 10 = .ok (.bipush 8, 2) := dk_16 8 (dk_at dksX22_init_0 10 rfl rfl)
theorem dX22_init_12 : decode cX22_init 12 = .ok (.anewarray 15, 3) := dk_189 0 15 (dk_at dksX22_init_0 12 rfl rfl)
theorem dX22_init_15 : decode cX22_init 15 = .ok (.dup, 1) := dk_89 (dk_at dksX22_init_0 15 rfl rfl)
theorem dX22_init_16 : decode cX22_init 16 = .ok (.iconst 0, 1) := dk_3 (dk_at dksX22_init_0 16 rfl rfl)
theorem dX22_init_17 : decode cX22_init 17 = .ok (.ldc 17, 2) := dk_18 17 (dk_at dksX22_init_0 17 rfl rfl)
theorem dX22_init_19 : decode cX22_init 19 = .ok (.aastore, 1) := dk_83 (dk_at dksX22_init_0 19 rfl rfl)
theorem dX22_init_20 : decode cX22_init 20 = .ok (.dup, 1) := dk_89 (dk_at dksX22_init_0 20 rfl rfl)
theorem dX22_init_21 : decode cX22_init 21 = .ok (.iconst 1, 1) := dk_4 (dk_at dksX22_init_0 21 rfl rfl)
theorem dX22_init_22 : decode cX22_init 22 = .ok (.ldc 19, 2) := dk_18 19 (dk_at dksX22_init_0 22 rfl rfl)
theorem dX22_init_24 : decode cX22_init 24 = .ok (.aastore, 1) := dk_83 (dk_at dksX22_init_1 0 rfl rfl)
theorem dX22_init_25 : decode cX22_init 25 = .ok (.dup, 1) := dk_89 (dk_at dksX22_init_1 1 rfl rfl)
theorem dX22_init_26 : decode cX22_init 26 = .ok (.iconst 2, 1) := dk_5 (dk_at dksX22_init_1 2 rfl rfl)
theorem dX22_init_27 : decode cX22_init 27 = .ok (.ldc 21, 2) := dk_18 21 (dk_at dksX22_init_1 3 rfl rfl)
theorem dX22_init_29 : decode cX22_init 29 = .ok (.aastore, 1) := dk_83 (dk_at dksX22_init_1 5 rfl rfl)
theorem dX22_init_30 : decode cX22_init 30 = .ok (.dup, 1) := dk_89 (dk_at dksX22_init_1 6 rfl rfl)
theorem dX22_init_31 : decode cX22_init 31 = .ok (.iconst 3, 1) := dk_6 (dk_at dksX22_init_1 7 rfl rfl)
theorem dX22_init_32 : decode cX22_init 32 = .ok (.ldc 23, 2) := dk_18 23 (dk_at dksX22_init_1 8 rfl rfl)
theorem dX22_init_34 : decode cX22_init 34 = .ok (.aastore, 1) := dk_83 (dk_at dksX22_init_1 10 rfl rfl)
theorem dX22_init_35 : decode cX22_init 35 = .ok (.dup, 1) := dk_89 (dk_at dksX22_init_1 11 rfl rfl)
theorem dX22_init_36 : decode cX22_init 36 = .ok (.iconst 4, 1) := dk_7 (dk_at dksX22_init_1 12 rfl rfl)
theorem dX22_init_37 : decode cX22_init 37 = .ok (.ldc 25, 2) := dk_18 25 (dk_at dksX22_init_1 13 rfl rfl)
theorem dX22_init_39 : decode cX22_init 39 = .ok (.aastore, 1) := dk_83 (dk_at dksX22_init_1 15 rfl rfl)
theorem dX22_init_40 : decode cX22_init 40 = .ok (.dup, 1) := dk_89 (dk_at dksX22_init_1 16 rfl rfl)
theorem dX22_init_41 : decode cX22_init 41 = .ok (.iconst 5, 1) := dk_8 (dk_at dksX22_init_1 17 rfl rfl)
theorem dX22_init_42 : decode cX22_init 42 = .ok (.ldc 27, 2) := dk_18 27 (dk_at dksX22_init_1 18 rfl rfl)
theorem dX22_init_44 : decode cX22_init 44 = .ok (.aastore, 1) := dk_83 (dk_at dksX22_init_1 20 rfl rfl)
theorem dX22_init_45 : decode cX22_init 45 = .ok (.dup, 1) := dk_89 (dk_at dksX22_init_1 21 rfl rfl)
theorem dX22_init_46 : decode cX22_init 46 = .ok (.bipush 6, 2) := dk_16 6 (dk_at dksX22_init_1 22 rfl rfl)
theorem dX22_init_48 : decode cX22_init 48 = .ok (.ldc 29, 2) := dk_18 29 (dk_at dksX22_init_2 0 rfl rfl)
theorem dX22_init_50 : decode cX22_init 50 = .ok (.aastore, 1) := dk_83 (dk_at dksX22_init_2 2 rfl rfl)
theorem dX22_init_51 : decode cX22_init 51 = .ok (.dup, 1) := dk_89 (dk_at dksX22_init_2 3 rfl rfl)
theorem dX22_init_52 : decode cX22_init 52 = .ok (.bipush 7, 2) := dk_16 7 (dk_at dksX22_init_2 4 rfl rfl)
theorem dX22_init_54 : decode cX22_init 54 = .ok (.ldc 31, 2) := dk_18 31 (dk_at dksX22_init_2 6 rfl rfl)
theorem dX22_init_56 : decode cX22_init 56 = .ok (.aastore, 1) := dk_83 (dk_at dksX22_init_2 8 rfl rfl)
theorem dX22_init_57 : decode cX22_init 57 = .ok (.putfield 33, 3) := dk_181 0 33 (dk_at dksX22_init_2 9 rfl rfl)
theorem dX22_init_60 : decode cX22_init 60 = .ok (.return_, 1) := dk_177 (dk_at dksX22_init_2 12 rfl rfl)
abbrev cX22_whole : ByteArray := prog_22_method_8_code
def yX22_whole : MethodName := ⟨RX22, "whole", "()Ljava/util/ArrayList;"⟩
def dkwX22_whole_3 : List UInt8 := [180, 0, 37, 183, 0, 68, 191, 43, 176]
abbrev dktX22_whole_3 : List UInt8 := dkwX22_whole_3 ++ []
def dkwX22_whole_2 : List UInt8 := [167, 255, 228, 42, 180, 0, 37, 42, 180, 0, 3, 180, 0, 41, 162, 0, 15, 187, 0, 66, 89, 42]
abbrev dktX22_whole_2 : List UInt8 := dkwX22_whole_2 ++ dktX22_whole_3
def dkwX22_whole_1 : List UInt8 := [153, 0, 25, 42, 89, 180, 0, 37, 4, 96, 181, 0, 37, 43, 42, 182, 0, 106, 182, 0, 110, 87]
abbrev dktX22_whole_1 : List UInt8 := dkwX22_whole_1 ++ dktX22_whole_2
def dkwX22_whole_0 : List UInt8 := [187, 0, 103, 89, 183, 0, 105, 76, 43, 42, 182, 0, 106, 182, 0, 110, 87, 42, 16, 59, 182, 0, 75]
abbrev dktX22_whole_0 : List UInt8 := dkwX22_whole_0 ++ dktX22_whole_1
theorem dksX22_whole_0 : cX22_whole.data.toList.drop 0 = dktX22_whole_0 := by decide +kernel
theorem dksX22_whole_1 : cX22_whole.data.toList.drop 23 = dktX22_whole_1 := dk_seg dksX22_whole_0 23 rfl rfl
theorem dksX22_whole_2 : cX22_whole.data.toList.drop 45 = dktX22_whole_2 := dk_seg dksX22_whole_1 22 rfl rfl
theorem dksX22_whole_3 : cX22_whole.data.toList.drop 67 = dktX22_whole_3 := dk_seg dksX22_whole_2 22 rfl rfl
theorem dX22_whole_0 : decode cX22_whole 0 = .ok (.new 103, 3) := dk_187 0 103 (dk_at dksX22_whole_0 0 rfl rfl)
theorem dX22_whole_3 : decode cX22_whole 3 = .ok (.dup, 1) := dk_89 (dk_at dksX22_whole_0 3 rfl rfl)
theorem dX22_whole_4 : decode cX22_whole 4 = .ok (.invokespecial 105, 3) := dk_183 0 105 (dk_at dksX22_whole_0 4 rfl rfl)
theorem dX22_whole_7 : decode cX22_whole 7 = .ok (.astore_n 1, 1) := dk_76 (dk_at dksX22_whole_0 7 rfl rfl)
theorem dX22_whole_8 : decode cX22_whole 8 = .ok (.aload_n 1, 1) := dk_43 (dk_at dksX22_whole_0 8 rfl rfl)
theorem dX22_whole_9 : decode cX22_whole 9 = .ok (.aload_n 0, 1) := dk_42 (dk_at dksX22_whole_0 9 rfl rfl)
theorem dX22_whole_10 : decode cX22_whole 10 = .ok (.invokevirtual 106, 3) := dk_182 0 106 (dk_at dksX22_whole_0 10 rfl rfl)
theorem dX22_whole_13 : decode cX22_whole 13 = .ok (.invokevirtual 110, 3) := dk_182 0 110 (dk_at dksX22_whole_0 13 rfl rfl)
theorem dX22_whole_16 : decode cX22_whole 16 = .ok (.pop, 1) := dk_87 (dk_at dksX22_whole_0 16 rfl rfl)
theorem dX22_whole_17 : decode cX22_whole 17 = .ok (.aload_n 0, 1) := dk_42 (dk_at dksX22_whole_0 17 rfl rfl)
theorem dX22_whole_18 : decode cX22_whole 18 = .ok (.bipush 59, 2) := dk_16 59 (dk_at dksX22_whole_0 18 rfl rfl)
theorem dX22_whole_20 : decode cX22_whole 20 = .ok (.invokevirtual 75, 3) := dk_182 0 75 (dk_at dksX22_whole_0 20 rfl rfl)
theorem dX22_whole_23 : decode cX22_whole 23 = .ok (.ifCond .eq 25, 3) := dk_153 0 25 (dk_at dksX22_whole_1 0 rfl rfl)
theorem dX22_whole_26 : decode cX22_whole 26 = .ok (.aload_n 0, 1) := dk_42 (dk_at dksX22_whole_1 3 rfl rfl)
theorem dX22_whole_27 : decode cX22_whole 27 = .ok (.dup, 1) := dk_89 (dk_at dksX22_whole_1 4 rfl rfl)
theorem dX22_whole_28 : decode cX22_whole 28 = .ok (.getfield 37, 3) := dk_180 0 37 (dk_at dksX22_whole_1 5 rfl rfl)
theorem dX22_whole_31 : decode cX22_whole 31 = .ok (.iconst 1, 1) := dk_4 (dk_at dksX22_whole_1 8 rfl rfl)
theorem dX22_whole_32 : decode cX22_whole 32 = .ok (.iadd, 1) := dk_96 (dk_at dksX22_whole_1 9 rfl rfl)
theorem dX22_whole_33 : decode cX22_whole 33 = .ok (.putfield 37, 3) := dk_181 0 37 (dk_at dksX22_whole_1 10 rfl rfl)
theorem dX22_whole_36 : decode cX22_whole 36 = .ok (.aload_n 1, 1) := dk_43 (dk_at dksX22_whole_1 13 rfl rfl)
theorem dX22_whole_37 : decode cX22_whole 37 = .ok (.aload_n 0, 1) := dk_42 (dk_at dksX22_whole_1 14 rfl rfl)
theorem dX22_whole_38 : decode cX22_whole 38 = .ok (.invokevirtual 106, 3) := dk_182 0 106 (dk_at dksX22_whole_1 15 rfl rfl)
theorem dX22_whole_41 : decode cX22_whole 41 = .ok (.invokevirtual 110, 3) := dk_182 0 110 (dk_at dksX22_whole_1 18 rfl rfl)
theorem dX22_whole_44 : decode cX22_whole 44 = .ok (.pop, 1) := dk_87 (dk_at dksX22_whole_1 21 rfl rfl)
theorem dX22_whole_45 : decode cX22_whole 45 = .ok (.goto (-28), 3) := dk_167 255 228 (dk_at dksX22_whole_2 0 rfl rfl)
theorem dX22_whole_48 : decode cX22_whole 48 = .ok (.aload_n 0, 1) := dk_42 (dk_at dksX22_whole_2 3 rfl rfl)
theorem dX22_whole_49 : decode cX22_whole 49 = .ok (.getfield 37, 3) := dk_180 0 37 (dk_at dksX22_whole_2 4 rfl rfl)
theorem dX22_whole_52 : decode cX22_whole 52 = .ok (.aload_n 0, 1) := dk_42 (dk_at dksX22_whole_2 7 rfl rfl)
theorem dX22_whole_53 : decode cX22_whole 53 = .ok (.getfield 3, 3) := dk_180 0 3 (dk_at dksX22_whole_2 8 rfl rfl)
theorem dX22_whole_56 : decode cX22_whole 56 = .ok (.getfield 41, 3) := dk_180 0 41 (dk_at dksX22_whole_2 11 rfl rfl)
theorem dX22_whole_59 : decode cX22_whole 59 = .ok (.if_icmp .ge 15, 3) := dk_162 0 15 (dk_at dksX22_whole_2 14 rfl rfl)
theorem dX22_whole_62 : decode cX22_whole 62 = .ok (.new 66, 3) := dk_187 0 66 (dk_at dksX22_whole_2 17 rfl rfl)
theorem dX22_whole_65 : decode cX22_whole 65 = .ok (.dup, 1) := dk_89 (dk_at dksX22_whole_2 20 rfl rfl)
theorem dX22_whole_66 : decode cX22_whole 66 = .ok (.aload_n 0, 1) := dk_42 (dk_at dksX22_whole_2 21 rfl rfl)
theorem dX22_whole_67 : decode cX22_whole 67 = .ok (.getfield 37, 3) := dk_180 0 37 (dk_at dksX22_whole_3 0 rfl rfl)
theorem dX22_whole_70 : decode cX22_whole 70 = .ok (.invokespecial 68, 3) := dk_183 0 68 (dk_at dksX22_whole_3 3 rfl rfl)
theorem dX22_whole_73 : decode cX22_whole 73 = .ok (.athrow, 1) := dk_191 (dk_at dksX22_whole_3 6 rfl rfl)
theorem dX22_whole_74 : decode cX22_whole 74 = .ok (.aload_n 1, 1) := dk_43 (dk_at dksX22_whole_3 7 rfl rfl)
theorem dX22_whole_75 : decode cX22_whole 75 = .ok (.areturn, 1) := dk_176 (dk_at dksX22_whole_3 8 rfl rfl)
abbrev cX22_command : ByteArray := prog_22_method_7_code
def yX22_command : MethodName := ⟨RX22, "command", "()LJokePump$Command;"⟩
def dkwX22_command_9 : List UInt8 := [89, 43, 42, 5, 182, 0, 96, 3, 3, 3, 183, 0, 100, 176]
abbrev dktX22_command_9 : List UInt8 := dkwX22_command_9 ++ []
def dkwX22_command_8 : List UInt8 := [183, 0, 100, 176, 187, 0, 94, 89, 43, 42, 4, 182, 0, 96, 3, 3, 3, 183, 0, 100, 176, 187, 0, 94]
abbrev dktX22_command_8 : List UInt8 := dkwX22_command_8 ++ dktX22_command_9
def dkwX22_command_7 : List UInt8 := [182, 0, 96, 183, 0, 100, 176, 187, 0, 94, 89, 43, 42, 4, 182, 0, 96, 42, 4, 182, 0, 96, 3, 3]
abbrev dktX22_command_7 : List UInt8 := dkwX22_command_7 ++ dktX22_command_8
def dkwX22_command_6 : List UInt8 := [187, 0, 94, 89, 43, 42, 4, 182, 0, 96, 42, 5, 182, 0, 96, 42, 5, 182, 0, 96, 42, 4]
abbrev dktX22_command_6 : List UInt8 := dkwX22_command_6 ++ dktX22_command_7
def dkwX22_command_5 : List UInt8 := [170, 0, 0, 0, 0, 97, 0, 0, 0, 0, 0, 0, 0, 3, 0, 0, 0, 30, 0, 0, 0, 59, 0, 0, 0, 80, 0, 0, 0, 80]
abbrev dktX22_command_5 : List UInt8 := dkwX22_command_5 ++ dktX22_command_6
def dkwX22_command_4 : List UInt8 := [153, 0, 5, 6, 62, 29]
abbrev dktX22_command_4 : List UInt8 := dkwX22_command_4 ++ dktX22_command_5
def dkwX22_command_3 : List UInt8 := [62, 167, 0, 28, 44, 18, 29, 182, 0, 90, 153, 0, 19, 5, 62, 167, 0, 14, 44, 18, 31, 182, 0, 90]
abbrev dktX22_command_3 : List UInt8 := dkwX22_command_3 ++ dktX22_command_4
def dkwX22_command_2 : List UInt8 := [44, 18, 17, 182, 0, 90, 153, 0, 47, 3, 62, 167, 0, 42, 44, 18, 27, 182, 0, 90, 153, 0, 33, 4]
abbrev dktX22_command_2 : List UInt8 := dkwX22_command_2 ++ dktX22_command_3
def dkwX22_command_1 : List UInt8 := [171, 0, 0, 0, 0, 0, 96, 0, 0, 0, 4, 173, 218, 73, 234, 0, 0, 0, 57, 0, 0, 12, 232, 0, 0, 0, 71, 0, 49, 221, 95, 0, 0, 0, 43, 0, 52, 174, 104, 0, 0, 0, 85]
abbrev dktX22_command_1 : List UInt8 := dkwX22_command_1 ++ dktX22_command_2
def dkwX22_command_0 : List UInt8 := [42, 182, 0, 83, 76, 43, 77, 2, 62, 44, 182, 0, 87]
abbrev dktX22_command_0 : List UInt8 := dkwX22_command_0 ++ dktX22_command_1
theorem dksX22_command_0 : cX22_command.data.toList.drop 0 = dktX22_command_0 := by decide +kernel
theorem dksX22_command_1 : cX22_command.data.toList.drop 13 = dktX22_command_1 := dk_seg dksX22_command_0 13 rfl rfl
theorem dksX22_command_2 : cX22_command.data.toList.drop 56 = dktX22_command_2 := dk_seg dksX22_command_1 43 rfl rfl
theorem dksX22_command_3 : cX22_command.data.toList.drop 80 = dktX22_command_3 := dk_seg dksX22_command_2 24 rfl rfl
theorem dksX22_command_4 : cX22_command.data.toList.drop 104 = dktX22_command_4 := dk_seg dksX22_command_3 24 rfl rfl
theorem dksX22_command_5 : cX22_command.data.toList.drop 110 = dktX22_command_5 := dk_seg dksX22_command_4 6 rfl rfl
theorem dksX22_command_6 : cX22_command.data.toList.drop 140 = dktX22_command_6 := dk_seg dksX22_command_5 30 rfl rfl
theorem dksX22_command_7 : cX22_command.data.toList.drop 162 = dktX22_command_7 := dk_seg dksX22_command_6 22 rfl rfl
theorem dksX22_command_8 : cX22_command.data.toList.drop 186 = dktX22_command_8 := dk_seg dksX22_command_7 24 rfl rfl
theorem dksX22_command_9 : cX22_command.data.toList.drop 210 = dktX22_command_9 := dk_seg dksX22_command_8 24 rfl rfl
theorem dX22_command_0 : decode cX22_command 0 = .ok (.aload_n 0, 1) := dk_42 (dk_at dksX22_command_0 0 rfl rfl)
theorem dX22_command_1 : decode cX22_command 1 = .ok (.invokevirtual 83, 3) := dk_182 0 83 (dk_at dksX22_command_0 1 rfl rfl)
theorem dX22_command_4 : decode cX22_command 4 = .ok (.astore_n 1, 1) := dk_76 (dk_at dksX22_command_0 4 rfl rfl)
theorem dX22_command_5 : decode cX22_command 5 = .ok (.aload_n 1, 1) := dk_43 (dk_at dksX22_command_0 5 rfl rfl)
theorem dX22_command_6 : decode cX22_command 6 = .ok (.astore_n 2, 1) := dk_77 (dk_at dksX22_command_0 6 rfl rfl)
theorem dX22_command_7 : decode cX22_command 7 = .ok (.iconst (-1), 1) := dk_2 (dk_at dksX22_command_0 7 rfl rfl)
theorem dX22_command_8 : decode cX22_command 8 = .ok (.istore_n 3, 1) := dk_62 (dk_at dksX22_command_0 8 rfl rfl)
theorem dX22_command_9 : decode cX22_command 9 = .ok (.aload_n 2, 1) := dk_44 (dk_at dksX22_command_0 9 rfl rfl)
theorem dX22_command_10 : decode cX22_command 10 = .ok (.invokevirtual 87, 3) := dk_182 0 87 (dk_at dksX22_command_0 10 rfl rfl)
theorem dX22_command_13 : decode cX22_command 13 = .ok (.lookupswitch 96 #[(-1378203158, 57), (3304, 71), (3267935, 43), (3452520, 85)], 43) := by decide +kernel
theorem dX22_command_56 : decode cX22_command 56 = .ok (.aload_n 2, 1) := dk_44 (dk_at dksX22_command_2 0 rfl rfl)
theorem dX22_command_57 : decode cX22_command 57 = .ok (.ldc 17, 2) := dk_18 17 (dk_at dksX22_command_2 1 rfl rfl)
theorem dX22_command_59 : decode cX22_command 59 = .ok (.invokevirtual 90, 3) := dk_182 0 90 (dk_at dksX22_command_2 3 rfl rfl)
theorem dX22_command_62 : decode cX22_command 62 = .ok (.ifCond .eq 47, 3) := dk_153 0 47 (dk_at dksX22_command_2 6 rfl rfl)
theorem dX22_command_65 : decode cX22_command 65 = .ok (.iconst 0, 1) := dk_3 (dk_at dksX22_command_2 9 rfl rfl)
theorem dX22_command_66 : decode cX22_command 66 = .ok (.istore_n 3, 1) := dk_62 (dk_at dksX22_command_2 10 rfl rfl)
theorem dX22_command_67 : decode cX22_command 67 = .ok (.goto 42, 3) := dk_167 0 42 (dk_at dksX22_command_2 11 rfl rfl)
theorem dX22_command_70 : decode cX22_command 70 = .ok (.aload_n 2, 1) := dk_44 (dk_at dksX22_command_2 14 rfl rfl)
theorem dX22_command_71 : decode cX22_command 71 = .ok (.ldc 27, 2) := dk_18 27 (dk_at dksX22_command_2 15 rfl rfl)
theorem dX22_command_73 : decode cX22_command 73 = .ok (.invokevirtual 90, 3) := dk_182 0 90 (dk_at dksX22_command_2 17 rfl rfl)
theorem dX22_command_76 : decode cX22_command 76 = .ok (.ifCond .eq 33, 3) := dk_153 0 33 (dk_at dksX22_command_2 20 rfl rfl)
theorem dX22_command_79 : decode cX22_command 79 = .ok (.iconst 1, 1) := dk_4 (dk_at dksX22_command_2 23 rfl rfl)
theorem dX22_command_80 : decode cX22_command 80 = .ok (.istore_n 3, 1) := dk_62 (dk_at dksX22_command_3 0 rfl rfl)
theorem dX22_command_81 : decode cX22_command 81 = .ok (.goto 28, 3) := dk_167 0 28 (dk_at dksX22_command_3 1 rfl rfl)
theorem dX22_command_84 : decode cX22_command 84 = .ok (.aload_n 2, 1) := dk_44 (dk_at dksX22_command_3 4 rfl rfl)
theorem dX22_command_85 : decode cX22_command 85 = .ok (.ldc 29, 2) := dk_18 29 (dk_at dksX22_command_3 5 rfl rfl)
theorem dX22_command_87 : decode cX22_command 87 = .ok (.invokevirtual 90, 3) := dk_182 0 90 (dk_at dksX22_command_3 7 rfl rfl)
theorem dX22_command_90 : decode cX22_command 90 = .ok (.ifCond .eq 19, 3) := dk_153 0 19 (dk_at dksX22_command_3 10 rfl rfl)
theorem dX22_command_93 : decode cX22_command 93 = .ok (.iconst 2, 1) := dk_5 (dk_at dksX22_command_3 13 rfl rfl)
theorem dX22_command_94 : decode cX22_command 94 = .ok (.istore_n 3, 1) := dk_62 (dk_at dksX22_command_3 14 rfl rfl)
theorem dX22_command_95 : decode cX22_command 95 = .ok (.goto 14, 3) := dk_167 0 14 (dk_at dksX22_command_3 15 rfl rfl)
theorem dX22_command_98 : decode cX22_command 98 = .ok (.aload_n 2, 1) := dk_44 (dk_at dksX22_command_3 18 rfl rfl)
theorem dX22_command_99 : decode cX22_command 99 = .ok (.ldc 31, 2) := dk_18 31 (dk_at dksX22_command_3 19 rfl rfl)
theorem dX22_command_101 : decode cX22_command 101 = .ok (.invokevirtual 90, 3) := dk_182 0 90 (dk_at dksX22_command_3 21 rfl rfl)
theorem dX22_command_104 : decode cX22_command 104 = .ok (.ifCond .eq 5, 3) := dk_153 0 5 (dk_at dksX22_command_4 0 rfl rfl)
theorem dX22_command_107 : decode cX22_command 107 = .ok (.iconst 3, 1) := dk_6 (dk_at dksX22_command_4 3 rfl rfl)
theorem dX22_command_108 : decode cX22_command 108 = .ok (.istore_n 3, 1) := dk_62 (dk_at dksX22_command_4 4 rfl rfl)
theorem dX22_command_109 : decode cX22_command 109 = .ok (.iload_n 3, 1) := dk_29 (dk_at dksX22_command_4 5 rfl rfl)
theorem dX22_command_110 : decode cX22_command 110 = .ok (.tableswitch 97 0 3 #[30, 59, 80, 80], 30) := by decide +kernel
theorem dX22_command_140 : decode cX22_command 140 = .ok (.new 94, 3) := dk_187 0 94 (dk_at dksX22_command_6 0 rfl rfl)
theorem dX22_command_143 : decode cX22_command 143 = .ok (.dup, 1) := dk_89 (dk_at dksX22_command_6 3 rfl rfl)
theorem dX22_command_144 : decode cX22_command 144 = .ok (.aload_n 1, 1) := dk_43 (dk_at dksX22_command_6 4 rfl rfl)
theorem dX22_command_145 : decode cX22_command 145 = .ok (.aload_n 0, 1) := dk_42 (dk_at dksX22_command_6 5 rfl rfl)
theorem dX22_command_146 : decode cX22_command 146 = .ok (.iconst 1, 1) := dk_4 (dk_at dksX22_command_6 6 rfl rfl)
theorem dX22_command_147 : decode cX22_command 147 = .ok (.invokevirtual 96, 3) := dk_182 0 96 (dk_at dksX22_command_6 7 rfl rfl)
theorem dX22_command_150 : decode cX22_command 150 = .ok (.aload_n 0, 1) := dk_42 (dk_at dksX22_command_6 10 rfl rfl)
theorem dX22_command_151 : decode cX22_command 151 = .ok (.iconst 2, 1) := dk_5 (dk_at dksX22_command_6 11 rfl rfl)
theorem dX22_command_152 : decode cX22_command 152 = .ok (.invokevirtual 96, 3) := dk_182 0 96 (dk_at dksX22_command_6 12 rfl rfl)
theorem dX22_command_155 : decode cX22_command 155 = .ok (.aload_n 0, 1) := dk_42 (dk_at dksX22_command_6 15 rfl rfl)
theorem dX22_command_156 : decode cX22_command 156 = .ok (.iconst 2, 1) := dk_5 (dk_at dksX22_command_6 16 rfl rfl)
theorem dX22_command_157 : decode cX22_command 157 = .ok (.invokevirtual 96, 3) := dk_182 0 96 (dk_at dksX22_command_6 17 rfl rfl)
theorem dX22_command_160 : decode cX22_command 160 = .ok (.aload_n 0, 1) := dk_42 (dk_at dksX22_command_6 20 rfl rfl)
theorem dX22_command_161 : decode cX22_command 161 = .ok (.iconst 1, 1) := dk_4 (dk_at dksX22_command_6 21 rfl rfl)
theorem dX22_command_162 : decode cX22_command 162 = .ok (.invokevirtual 96, 3) := dk_182 0 96 (dk_at dksX22_command_7 0 rfl rfl)
theorem dX22_command_165 : decode cX22_command 165 = .ok (.invokespecial 100, 3) := dk_183 0 100 (dk_at dksX22_command_7 3 rfl rfl)
theorem dX22_command_168 : decode cX22_command 168 = .ok (.areturn, 1) := dk_176 (dk_at dksX22_command_7 6 rfl rfl)
theorem dX22_command_169 : decode cX22_command 169 = .ok (.new 94, 3) := dk_187 0 94 (dk_at dksX22_command_7 7 rfl rfl)
theorem dX22_command_172 : decode cX22_command 172 = .ok (.dup, 1) := dk_89 (dk_at dksX22_command_7 10 rfl rfl)
theorem dX22_command_173 : decode cX22_command 173 = .ok (.aload_n 1, 1) := dk_43 (dk_at dksX22_command_7 11 rfl rfl)
theorem dX22_command_174 : decode cX22_command 174 = .ok (.aload_n 0, 1) := dk_42 (dk_at dksX22_command_7 12 rfl rfl)
theorem dX22_command_175 : decode cX22_command 175 = .ok (.iconst 1, 1) := dk_4 (dk_at dksX22_command_7 13 rfl rfl)
theorem dX22_command_176 : decode cX22_command 176 = .ok (.invokevirtual 96, 3) := dk_182 0 96 (dk_at dksX22_command_7 14 rfl rfl)
theorem dX22_command_179 : decode cX22_command 179 = .ok (.aload_n 0, 1) := dk_42 (dk_at dksX22_command_7 17 rfl rfl)
theorem dX22_command_180 : decode cX22_command 180 = .ok (.iconst 1, 1) := dk_4 (dk_at dksX22_command_7 18 rfl rfl)
theorem dX22_command_181 : decode cX22_command 181 = .ok (.invokevirtual 96, 3) := dk_182 0 96 (dk_at dksX22_command_7 19 rfl rfl)
theorem dX22_command_184 : decode cX22_command 184 = .ok (.iconst 0, 1) := dk_3 (dk_at dksX22_command_7 22 rfl rfl)
theorem dX22_command_185 : decode cX22_command 185 = .ok (.iconst 0, 1) := dk_3 (dk_at dksX22_command_7 23 rfl rfl)
theorem dX22_command_186 : decode cX22_command 186 = .ok (.invokespecial 100, 3) := dk_183 0 100 (dk_at dksX22_command_8 0 rfl rfl)
theorem dX22_command_189 : decode cX22_command 189 = .ok (.areturn, 1) := dk_176 (dk_at dksX22_command_8 3 rfl rfl)
theorem dX22_command_190 : decode cX22_command 190 = .ok (.new 94, 3) := dk_187 0 94 (dk_at dksX22_command_8 4 rfl rfl)
theorem dX22_command_193 : decode cX22_command 193 = .ok (.dup, 1) := dk_89 (dk_at dksX22_command_8 7 rfl rfl)
theorem dX22_command_194 : decode cX22_command 194 = .ok (.aload_n 1, 1) := dk_43 (dk_at dksX22_command_8 8 rfl rfl)
theorem dX22_command_195 : decode cX22_command 195 = .ok (.aload_n 0, 1) := dk_42 (dk_at dksX22_command_8 9 rfl rfl)
theorem dX22_command_196 : decode cX22_command 196 = .ok (.iconst 1, 1) := dk_4 (dk_at dksX22_command_8 10 rfl rfl)
theorem dX22_command_197 : decode cX22_command 197 = .ok (.invokevirtual 96, 3) := dk_182 0 96 (dk_at dksX22_command_8 11 rfl rfl)
theorem dX22_command_200 : decode cX22_command 200 = .ok (.iconst 0, 1) := dk_3 (dk_at dksX22_command_8 14 rfl rfl)
theorem dX22_command_201 : decode cX22_command 201 = .ok (.iconst 0, 1) := dk_3 (dk_at dksX22_command_8 15 rfl rfl)
theorem dX22_command_202 : decode cX22_command 202 = .ok (.iconst 0, 1) := dk_3 (dk_at dksX22_command_8 16 rfl rfl)
theorem dX22_command_203 : decode cX22_command 203 = .ok (.invokespecial 100, 3) := dk_183 0 100 (dk_at dksX22_command_8 17 rfl rfl)
theorem dX22_command_206 : decode cX22_command 206 = .ok (.areturn, 1) := dk_176 (dk_at dksX22_command_8 20 rfl rfl)
theorem dX22_command_207 : decode cX22_command 207 = .ok (.new 94, 3) := dk_187 0 94 (dk_at dksX22_command_8 21 rfl rfl)
theorem dX22_command_210 : decode cX22_command 210 = .ok (.dup, 1) := dk_89 (dk_at dksX22_command_9 0 rfl rfl)
theorem dX22_command_211 : decode cX22_command 211 = .ok (.aload_n 1, 1) := dk_43 (dk_at dksX22_command_9 1 rfl rfl)
theorem dX22_command_212 : decode cX22_command 212 = .ok (.aload_n 0, 1) := dk_42 (dk_at dksX22_command_9 2 rfl rfl)
theorem dX22_command_213 : decode cX22_command 213 = .ok (.iconst 2, 1) := dk_5 (dk_at dksX22_command_9 3 rfl rfl)
theorem dX22_command_214 : decode cX22_command 214 = .ok (.invokevirtual 96, 3) := dk_182 0 96 (dk_at dksX22_command_9 4 rfl rfl)
theorem dX22_command_217 : decode cX22_command 217 = .ok (.iconst 0, 1) := dk_3 (dk_at dksX22_command_9 7 rfl rfl)
theorem dX22_command_218 : decode cX22_command 218 = .ok (.iconst 0, 1) := dk_3 (dk_at dksX22_command_9 8 rfl rfl)
theorem dX22_command_219 : decode cX22_command 219 = .ok (.iconst 0, 1) := dk_3 (dk_at dksX22_command_9 9 rfl rfl)
theorem dX22_command_220 : decode cX22_command 220 = .ok (.invokespecial 100, 3) := dk_183 0 100 (dk_at dksX22_command_9 10 rfl rfl)
theorem dX22_command_223 : decode cX22_command 223 = .ok (.areturn, 1) := dk_176 (dk_at dksX22_command_9 13 rfl rfl)
abbrev cX22_word : ByteArray := prog_22_method_4_code
def yX22_word : MethodName := ⟨RX22, "word", "()Ljava/lang/String;"⟩
def dkwX22_word_3 : List UInt8 := [167, 255, 202, 187, 0, 66, 89, 42, 180, 0, 37, 27, 96, 183, 0, 68, 191]
abbrev dktX22_word_3 : List UInt8 := dkwX22_word_3 ++ []
def dkwX22_word_2 : List UInt8 := [180, 0, 37, 21, 6, 96, 181, 0, 37, 25, 5, 176, 27, 21, 6, 184, 0, 60, 60, 132, 4, 1]
abbrev dktX22_word_2 : List UInt8 := dkwX22_word_2 ++ dktX22_word_3
def dkwX22_word_1 : List UInt8 := [58, 5, 42, 25, 5, 182, 0, 56, 54, 6, 21, 6, 25, 5, 182, 0, 48, 160, 0, 17, 42, 89]
abbrev dktX22_word_1 : List UInt8 := dkwX22_word_1 ++ dktX22_word_2
def dkwX22_word_0 : List UInt8 := [3, 60, 42, 180, 0, 33, 77, 44, 190, 62, 3, 54, 4, 21, 4, 29, 162, 0, 54, 44, 21, 4, 50]
abbrev dktX22_word_0 : List UInt8 := dkwX22_word_0 ++ dktX22_word_1
theorem dksX22_word_0 : cX22_word.data.toList.drop 0 = dktX22_word_0 := by decide +kernel
theorem dksX22_word_1 : cX22_word.data.toList.drop 23 = dktX22_word_1 := dk_seg dksX22_word_0 23 rfl rfl
theorem dksX22_word_2 : cX22_word.data.toList.drop 45 = dktX22_word_2 := dk_seg dksX22_word_1 22 rfl rfl
theorem dksX22_word_3 : cX22_word.data.toList.drop 67 = dktX22_word_3 := dk_seg dksX22_word_2 22 rfl rfl
theorem dX22_word_0 : decode cX22_word 0 = .ok (.iconst 0, 1) := dk_3 (dk_at dksX22_word_0 0 rfl rfl)
theorem dX22_word_1 : decode cX22_word 1 = .ok (.istore_n 1, 1) := dk_60 (dk_at dksX22_word_0 1 rfl rfl)
theorem dX22_word_2 : decode cX22_word 2 = .ok (.aload_n 0, 1) := dk_42 (dk_at dksX22_word_0 2 rfl rfl)
theorem dX22_word_3 : decode cX22_word 3 = .ok (.getfield 33, 3) := dk_180 0 33 (dk_at dksX22_word_0 3 rfl rfl)
theorem dX22_word_6 : decode cX22_word 6 = .ok (.astore_n 2, 1) := dk_77 (dk_at dksX22_word_0 6 rfl rfl)
theorem dX22_word_7 : decode cX22_word 7 = .ok (.aload_n 2, 1) := dk_44 (dk_at dksX22_word_0 7 rfl rfl)
theorem dX22_word_8 : decode cX22_word 8 = .ok (.arraylength, 1) := dk_190 (dk_at dksX22_word_0 8 rfl rfl)
theorem dX22_word_9 : decode cX22_word 9 = .ok (.istore_n 3, 1) := dk_62 (dk_at dksX22_word_0 9 rfl rfl)
theorem dX22_word_10 : decode cX22_word 10 = .ok (.iconst 0, 1) := dk_3 (dk_at dksX22_word_0 10 rfl rfl)
theorem dX22_word_11 : decode cX22_word 11 = .ok (.istore 4, 2) := dk_54 4 (dk_at dksX22_word_0 11 rfl rfl)
theorem dX22_word_13 : decode cX22_word 13 = .ok (.iload 4, 2) := dk_21 4 (dk_at dksX22_word_0 13 rfl rfl)
theorem dX22_word_15 : decode cX22_word 15 = .ok (.iload_n 3, 1) := dk_29 (dk_at dksX22_word_0 15 rfl rfl)
theorem dX22_word_16 : decode cX22_word 16 = .ok (.if_icmp .ge 54, 3) := dk_162 0 54 (dk_at dksX22_word_0 16 rfl rfl)
theorem dX22_word_19 : decode cX22_word 19 = .ok (.aload_n 2, 1) := dk_44 (dk_at dksX22_word_0 19 rfl rfl)
theorem dX22_word_20 : decode cX22_word 20 = .ok (.iload 4, 2) := dk_21 4 (dk_at dksX22_word_0 20 rfl rfl)
theorem dX22_word_22 : decode cX22_word 22 = .ok (.aaload, 1) := dk_50 (dk_at dksX22_word_0 22 rfl rfl)
theorem dX22_word_23 : decode cX22_word 23 = .ok (.astore 5, 2) := dk_58 5 (dk_at dksX22_word_1 0 rfl rfl)
theorem dX22_word_25 : decode cX22_word 25 = .ok (.aload_n 0, 1) := dk_42 (dk_at dksX22_word_1 2 rfl rfl)
theorem dX22_word_26 : decode cX22_word 26 = .ok (.aload 5, 2) := dk_25 5 (dk_at dksX22_word_1 3 rfl rfl)
theorem dX22_word_28 : decode cX22_word 28 = .ok (.invokevirtual 56, 3) := dk_182 0 56 (dk_at dksX22_word_1 5 rfl rfl)
theorem dX22_word_31 : decode cX22_word 31 = .ok (.istore 6, 2) := dk_54 6 (dk_at dksX22_word_1 8 rfl rfl)
theorem dX22_word_33 : decode cX22_word 33 = .ok (.iload 6, 2) := dk_21 6 (dk_at dksX22_word_1 10 rfl rfl)
theorem dX22_word_35 : decode cX22_word 35 = .ok (.aload 5, 2) := dk_25 5 (dk_at dksX22_word_1 12 rfl rfl)
theorem dX22_word_37 : decode cX22_word 37 = .ok (.invokevirtual 48, 3) := dk_182 0 48 (dk_at dksX22_word_1 14 rfl rfl)
theorem dX22_word_40 : decode cX22_word 40 = .ok (.if_icmp .ne 17, 3) := dk_160 0 17 (dk_at dksX22_word_1 17 rfl rfl)
theorem dX22_word_43 : decode cX22_word 43 = .ok (.aload_n 0, 1) := dk_42 (dk_at dksX22_word_1 20 rfl rfl)
theorem dX22_word_44 : decode cX22_word 44 = .ok (.dup, 1) := dk_89 (dk_at dksX22_word_1 21 rfl rfl)
theorem dX22_word_45 : decode cX22_word 45 = .ok (.getfield 37, 3) := dk_180 0 37 (dk_at dksX22_word_2 0 rfl rfl)
theorem dX22_word_48 : decode cX22_word 48 = .ok (.iload 6, 2) := dk_21 6 (dk_at dksX22_word_2 3 rfl rfl)
theorem dX22_word_50 : decode cX22_word 50 = .ok (.iadd, 1) := dk_96 (dk_at dksX22_word_2 5 rfl rfl)
theorem dX22_word_51 : decode cX22_word 51 = .ok (.putfield 37, 3) := dk_181 0 37 (dk_at dksX22_word_2 6 rfl rfl)
theorem dX22_word_54 : decode cX22_word 54 = .ok (.aload 5, 2) := dk_25 5 (dk_at dksX22_word_2 9 rfl rfl)
theorem dX22_word_56 : decode cX22_word 56 = .ok (.areturn, 1) := dk_176 (dk_at dksX22_word_2 11 rfl rfl)
theorem dX22_word_57 : decode cX22_word 57 = .ok (.iload_n 1, 1) := dk_27 (dk_at dksX22_word_2 12 rfl rfl)
theorem dX22_word_58 : decode cX22_word 58 = .ok (.iload 6, 2) := dk_21 6 (dk_at dksX22_word_2 13 rfl rfl)
theorem dX22_word_60 : decode cX22_word 60 = .ok (.invokestatic 60, 3) := dk_184 0 60 (dk_at dksX22_word_2 15 rfl rfl)
theorem dX22_word_63 : decode cX22_word 63 = .ok (.istore_n 1, 1) := dk_60 (dk_at dksX22_word_2 18 rfl rfl)
theorem dX22_word_64 : decode cX22_word 64 = .ok (.iinc 4 1, 3) := dk_132 4 1 (dk_at dksX22_word_2 19 rfl rfl)
theorem dX22_word_67 : decode cX22_word 67 = .ok (.goto (-54), 3) := dk_167 255 202 (dk_at dksX22_word_3 0 rfl rfl)
theorem dX22_word_70 : decode cX22_word 70 = .ok (.new 66, 3) := dk_187 0 66 (dk_at dksX22_word_3 3 rfl rfl)
theorem dX22_word_73 : decode cX22_word 73 = .ok (.dup, 1) := dk_89 (dk_at dksX22_word_3 6 rfl rfl)
theorem dX22_word_74 : decode cX22_word 74 = .ok (.aload_n 0, 1) := dk_42 (dk_at dksX22_word_3 7 rfl rfl)
theorem dX22_word_75 : decode cX22_word 75 = .ok (.getfield 37, 3) := dk_180 0 37 (dk_at dksX22_word_3 8 rfl rfl)
theorem dX22_word_78 : decode cX22_word 78 = .ok (.iload_n 1, 1) := dk_27 (dk_at dksX22_word_3 11 rfl rfl)
theorem dX22_word_79 : decode cX22_word 79 = .ok (.iadd, 1) := dk_96 (dk_at dksX22_word_3 12 rfl rfl)
theorem dX22_word_80 : decode cX22_word 80 = .ok (.invokespecial 68, 3) := dk_183 0 68 (dk_at dksX22_word_3 13 rfl rfl)
theorem dX22_word_83 : decode cX22_word 83 = .ok (.athrow, 1) := dk_191 (dk_at dksX22_word_3 16 rfl rfl)
abbrev cX22_letters : ByteArray := prog_22_method_3_code
def yX22_letters : MethodName := ⟨RX22, "letters", "(Ljava/lang/String;)I"⟩
def dkwX22_letters_2 : List UInt8 := [160, 0, 9, 132, 2, 1, 167, 255, 207, 28, 172]
abbrev dktX22_letters_2 : List UInt8 := dkwX22_letters_2 ++ []
def dkwX22_letters_1 : List UInt8 := [162, 0, 31, 42, 180, 0, 3, 180, 0, 44, 42, 180, 0, 37, 28, 96, 52, 43, 28, 182, 0, 52]
abbrev dktX22_letters_1 : List UInt8 := dkwX22_letters_1 ++ dktX22_letters_2
def dkwX22_letters_0 : List UInt8 := [3, 61, 28, 43, 182, 0, 48, 162, 0, 47, 42, 180, 0, 37, 28, 96, 42, 180, 0, 3, 180, 0, 41]
abbrev dktX22_letters_0 : List UInt8 := dkwX22_letters_0 ++ dktX22_letters_1
theorem dksX22_letters_0 : cX22_letters.data.toList.drop 0 = dktX22_letters_0 := by decide +kernel
theorem dksX22_letters_1 : cX22_letters.data.toList.drop 23 = dktX22_letters_1 := dk_seg dksX22_letters_0 23 rfl rfl
theorem dksX22_letters_2 : cX22_letters.data.toList.drop 45 = dktX22_letters_2 := dk_seg dksX22_letters_1 22 rfl rfl
theorem dX22_letters_0 : decode cX22_letters 0 = .ok (.iconst 0, 1) := dk_3 (dk_at dksX22_letters_0 0 rfl rfl)
theorem dX22_letters_1 : decode cX22_letters 1 = .ok (.istore_n 2, 1) := dk_61 (dk_at dksX22_letters_0 1 rfl rfl)
theorem dX22_letters_2 : decode cX22_letters 2 = .ok (.iload_n 2, 1) := dk_28 (dk_at dksX22_letters_0 2 rfl rfl)
theorem dX22_letters_3 : decode cX22_letters 3 = .ok (.aload_n 1, 1) := dk_43 (dk_at dksX22_letters_0 3 rfl rfl)
theorem dX22_letters_4 : decode cX22_letters 4 = .ok (.invokevirtual 48, 3) := dk_182 0 48 (dk_at dksX22_letters_0 4 rfl rfl)
theorem dX22_letters_7 : decode cX22_letters 7 = .ok (.if_icmp .ge 47, 3) := dk_162 0 47 (dk_at dksX22_letters_0 7 rfl rfl)
theorem dX22_letters_10 : decode cX22_letters 10 = .ok (.aload_n 0, 1) := dk_42 (dk_at dksX22_letters_0 10 rfl rfl)
theorem dX22_letters_11 : decode cX22_letters 11 = .ok (.getfield 37, 3) := dk_180 0 37 (dk_at dksX22_letters_0 11 rfl rfl)
theorem dX22_letters_14 : decode cX22_letters 14 = .ok (.iload_n 2, 1) := dk_28 (dk_at dksX22_letters_0 14 rfl rfl)
theorem dX22_letters_15 : decode cX22_letters 15 = .ok (.iadd, 1) := dk_96 (dk_at dksX22_letters_0 15 rfl rfl)
theorem dX22_letters_16 : decode cX22_letters 16 = .ok (.aload_n 0, 1) := dk_42 (dk_at dksX22_letters_0 16 rfl rfl)
theorem dX22_letters_17 : decode cX22_letters 17 = .ok (.getfield 3, 3) := dk_180 0 3 (dk_at dksX22_letters_0 17 rfl rfl)
theorem dX22_letters_20 : decode cX22_letters 20 = .ok (.getfield 41, 3) := dk_180 0 41 (dk_at dksX22_letters_0 20 rfl rfl)
theorem dX22_letters_23 : decode cX22_letters 23 = .ok (.if_icmp .ge 31, 3) := dk_162 0 31 (dk_at dksX22_letters_1 0 rfl rfl)
theorem dX22_letters_26 : decode cX22_letters 26 = .ok (.aload_n 0, 1) := dk_42 (dk_at dksX22_letters_1 3 rfl rfl)
theorem dX22_letters_27 : decode cX22_letters 27 = .ok (.getfield 3, 3) := dk_180 0 3 (dk_at dksX22_letters_1 4 rfl rfl)
theorem dX22_letters_30 : decode cX22_letters 30 = .ok (.getfield 44, 3) := dk_180 0 44 (dk_at dksX22_letters_1 7 rfl rfl)
theorem dX22_letters_33 : decode cX22_letters 33 = .ok (.aload_n 0, 1) := dk_42 (dk_at dksX22_letters_1 10 rfl rfl)
theorem dX22_letters_34 : decode cX22_letters 34 = .ok (.getfield 37, 3) := dk_180 0 37 (dk_at dksX22_letters_1 11 rfl rfl)
theorem dX22_letters_37 : decode cX22_letters 37 = .ok (.iload_n 2, 1) := dk_28 (dk_at dksX22_letters_1 14 rfl rfl)
theorem dX22_letters_38 : decode cX22_letters 38 = .ok (.iadd, 1) := dk_96 (dk_at dksX22_letters_1 15 rfl rfl)
theorem dX22_letters_39 : decode cX22_letters 39 = .ok (.caload, 1) := dk_52 (dk_at dksX22_letters_1 16 rfl rfl)
theorem dX22_letters_40 : decode cX22_letters 40 = .ok (.aload_n 1, 1) := dk_43 (dk_at dksX22_letters_1 17 rfl rfl)
theorem dX22_letters_41 : decode cX22_letters 41 = .ok (.iload_n 2, 1) := dk_28 (dk_at dksX22_letters_1 18 rfl rfl)
theorem dX22_letters_42 : decode cX22_letters 42 = .ok (.invokevirtual 52, 3) := dk_182 0 52 (dk_at dksX22_letters_1 19 rfl rfl)
theorem dX22_letters_45 : decode cX22_letters 45 = .ok (.if_icmp .ne 9, 3) := dk_160 0 9 (dk_at dksX22_letters_2 0 rfl rfl)
theorem dX22_letters_48 : decode cX22_letters 48 = .ok (.iinc 2 1, 3) := dk_132 2 1 (dk_at dksX22_letters_2 3 rfl rfl)
theorem dX22_letters_51 : decode cX22_letters 51 = .ok (.goto (-49), 3) := dk_167 255 207 (dk_at dksX22_letters_2 6 rfl rfl)
theorem dX22_letters_54 : decode cX22_letters 54 = .ok (.iload_n 2, 1) := dk_28 (dk_at dksX22_letters_2 9 rfl rfl)
theorem dX22_letters_55 : decode cX22_letters 55 = .ok (.ireturn, 1) := dk_172 (dk_at dksX22_letters_2 10 rfl rfl)
abbrev cX22_number : ByteArray := prog_22_method_6_code
def yX22_number : MethodName := ⟨RX22, "number", "(I)I"⟩
def dkwX22_number_4 : List UInt8 := [181, 0, 37, 132, 3, 1, 167, 255, 210, 28, 172]
abbrev dktX22_number_4 : List UInt8 := dkwX22_number_4 ++ []
def dkwX22_number_3 : List UInt8 := [42, 180, 0, 3, 180, 0, 44, 42, 180, 0, 37, 52, 96, 16, 48, 100, 61, 42, 89, 180, 0, 37, 4, 96]
abbrev dktX22_number_3 : List UInt8 := dkwX22_number_3 ++ dktX22_number_4
def dkwX22_number_2 : List UInt8 := [183, 0, 68, 191, 3, 61, 3, 62, 29, 27, 162, 0, 47, 42, 182, 0, 79, 153, 0, 40, 16, 10, 28, 104]
abbrev dktX22_number_2 : List UInt8 := dkwX22_number_2 ++ dktX22_number_3
def dkwX22_number_1 : List UInt8 := [180, 0, 37, 4, 96, 181, 0, 37, 42, 182, 0, 79, 154, 0, 15, 187, 0, 66, 89, 42, 180, 0, 37]
abbrev dktX22_number_1 : List UInt8 := dkwX22_number_1 ++ dktX22_number_2
def dkwX22_number_0 : List UInt8 := [42, 16, 32, 182, 0, 75, 154, 0, 15, 187, 0, 66, 89, 42, 180, 0, 37, 183, 0, 68, 191, 42, 89]
abbrev dktX22_number_0 : List UInt8 := dkwX22_number_0 ++ dktX22_number_1
theorem dksX22_number_0 : cX22_number.data.toList.drop 0 = dktX22_number_0 := by decide +kernel
theorem dksX22_number_1 : cX22_number.data.toList.drop 23 = dktX22_number_1 := dk_seg dksX22_number_0 23 rfl rfl
theorem dksX22_number_2 : cX22_number.data.toList.drop 46 = dktX22_number_2 := dk_seg dksX22_number_1 23 rfl rfl
theorem dksX22_number_3 : cX22_number.data.toList.drop 70 = dktX22_number_3 := dk_seg dksX22_number_2 24 rfl rfl
theorem dksX22_number_4 : cX22_number.data.toList.drop 94 = dktX22_number_4 := dk_seg dksX22_number_3 24 rfl rfl
theorem dX22_number_0 : decode cX22_number 0 = .ok (.aload_n 0, 1) := dk_42 (dk_at dksX22_number_0 0 rfl rfl)
theorem dX22_number_1 : decode cX22_number 1 = .ok (.bipush 32, 2) := dk_16 32 (dk_at dksX22_number_0 1 rfl rfl)
theorem dX22_number_3 : decode cX22_number 3 = .ok (.invokevirtual 75, 3) := dk_182 0 75 (dk_at dksX22_number_0 3 rfl rfl)
theorem dX22_number_6 : decode cX22_number 6 = .ok (.ifCond .ne 15, 3) := dk_154 0 15 (dk_at dksX22_number_0 6 rfl rfl)
theorem dX22_number_9 : decode cX22_number 9 = .ok (.new 66, 3) := dk_187 0 66 (dk_at dksX22_number_0 9 rfl rfl)
theorem dX22_number_12 : decode cX22_number 12 = .ok (.dup, 1) := dk_89 (dk_at dksX22_number_0 12 rfl rfl)
theorem dX22_number_13 : decode cX22_number 13 = .ok (.aload_n 0, 1) := dk_42 (dk_at dksX22_number_0 13 rfl rfl)
theorem dX22_number_14 : decode cX22_number 14 = .ok (.getfield 37, 3) := dk_180 0 37 (dk_at dksX22_number_0 14 rfl rfl)
theorem dX22_number_17 : decode cX22_number 17 = .ok (.invokespecial 68, 3) := dk_183 0 68 (dk_at dksX22_number_0 17 rfl rfl)
theorem dX22_number_20 : decode cX22_number 20 = .ok (.athrow, 1) := dk_191 (dk_at dksX22_number_0 20 rfl rfl)
theorem dX22_number_21 : decode cX22_number 21 = .ok (.aload_n 0, 1) := dk_42 (dk_at dksX22_number_0 21 rfl rfl)
theorem dX22_number_22 : decode cX22_number 22 = .ok (.dup, 1) := dk_89 (dk_at dksX22_number_0 22 rfl rfl)
theorem dX22_number_23 : decode cX22_number 23 = .ok (.getfield 37, 3) := dk_180 0 37 (dk_at dksX22_number_1 0 rfl rfl)
theorem dX22_number_26 : decode cX22_number 26 = .ok (.iconst 1, 1) := dk_4 (dk_at dksX22_number_1 3 rfl rfl)
theorem dX22_number_27 : decode cX22_number 27 = .ok (.iadd, 1) := dk_96 (dk_at dksX22_number_1 4 rfl rfl)
theorem dX22_number_28 : decode cX22_number 28 = .ok (.putfield 37, 3) := dk_181 0 37 (dk_at dksX22_number_1 5 rfl rfl)
theorem dX22_number_31 : decode cX22_number 31 = .ok (.aload_n 0, 1) := dk_42 (dk_at dksX22_number_1 8 rfl rfl)
theorem dX22_number_32 : decode cX22_number 32 = .ok (.invokevirtual 79, 3) := dk_182 0 79 (dk_at dksX22_number_1 9 rfl rfl)
theorem dX22_number_35 : decode cX22_number 35 = .ok (.ifCond .ne 15, 3) := dk_154 0 15 (dk_at dksX22_number_1 12 rfl rfl)
theorem dX22_number_38 : decode cX22_number 38 = .ok (.new 66, 3) := dk_187 0 66 (dk_at dksX22_number_1 15 rfl rfl)
theorem dX22_number_41 : decode cX22_number 41 = .ok (.dup, 1) := dk_89 (dk_at dksX22_number_1 18 rfl rfl)
theorem dX22_number_42 : decode cX22_number 42 = .ok (.aload_n 0, 1) := dk_42 (dk_at dksX22_number_1 19 rfl rfl)
theorem dX22_number_43 : decode cX22_number 43 = .ok (.getfield 37, 3) := dk_180 0 37 (dk_at dksX22_number_1 20 rfl rfl)
theorem dX22_number_46 : decode cX22_number 46 = .ok (.invokespecial 68, 3) := dk_183 0 68 (dk_at dksX22_number_2 0 rfl rfl)
theorem dX22_number_49 : decode cX22_number 49 = .ok (.athrow, 1) := dk_191 (dk_at dksX22_number_2 3 rfl rfl)
theorem dX22_number_50 : decode cX22_number 50 = .ok (.iconst 0, 1) := dk_3 (dk_at dksX22_number_2 4 rfl rfl)
theorem dX22_number_51 : decode cX22_number 51 = .ok (.istore_n 2, 1) := dk_61 (dk_at dksX22_number_2 5 rfl rfl)
theorem dX22_number_52 : decode cX22_number 52 = .ok (.iconst 0, 1) := dk_3 (dk_at dksX22_number_2 6 rfl rfl)
theorem dX22_number_53 : decode cX22_number 53 = .ok (.istore_n 3, 1) := dk_62 (dk_at dksX22_number_2 7 rfl rfl)
theorem dX22_number_54 : decode cX22_number 54 = .ok (.iload_n 3, 1) := dk_29 (dk_at dksX22_number_2 8 rfl rfl)
theorem dX22_number_55 : decode cX22_number 55 = .ok (.iload_n 1, 1) := dk_27 (dk_at dksX22_number_2 9 rfl rfl)
theorem dX22_number_56 : decode cX22_number 56 = .ok (.if_icmp .ge 47, 3) := dk_162 0 47 (dk_at dksX22_number_2 10 rfl rfl)
theorem dX22_number_59 : decode cX22_number 59 = .ok (.aload_n 0, 1) := dk_42 (dk_at dksX22_number_2 13 rfl rfl)
theorem dX22_number_60 : decode cX22_number 60 = .ok (.invokevirtual 79, 3) := dk_182 0 79 (dk_at dksX22_number_2 14 rfl rfl)
theorem dX22_number_63 : decode cX22_number 63 = .ok (.ifCond .eq 40, 3) := dk_153 0 40 (dk_at dksX22_number_2 17 rfl rfl)
theorem dX22_number_66 : decode cX22_number 66 = .ok (.bipush 10, 2) := dk_16 10 (dk_at dksX22_number_2 20 rfl rfl)
theorem dX22_number_68 : decode cX22_number 68 = .ok (.iload_n 2, 1) := dk_28 (dk_at dksX22_number_2 22 rfl rfl)
theorem dX22_number_69 : decode cX22_number 69 = .ok (.imul, 1) := dk_104 (dk_at dksX22_number_2 23 rfl rfl)
theorem dX22_number_70 : decode cX22_number 70 = .ok (.aload_n 0, 1) := dk_42 (dk_at dksX22_number_3 0 rfl rfl)
theorem dX22_number_71 : decode cX22_number 71 = .ok (.getfield 3, 3) := dk_180 0 3 (dk_at dksX22_number_3 1 rfl rfl)
theorem dX22_number_74 : decode cX22_number 74 = .ok (.getfield 44, 3) := dk_180 0 44 (dk_at dksX22_number_3 4 rfl rfl)
theorem dX22_number_77 : decode cX22_number 77 = .ok (.aload_n 0, 1) := dk_42 (dk_at dksX22_number_3 7 rfl rfl)
theorem dX22_number_78 : decode cX22_number 78 = .ok (.getfield 37, 3) := dk_180 0 37 (dk_at dksX22_number_3 8 rfl rfl)
theorem dX22_number_81 : decode cX22_number 81 = .ok (.caload, 1) := dk_52 (dk_at dksX22_number_3 11 rfl rfl)
theorem dX22_number_82 : decode cX22_number 82 = .ok (.iadd, 1) := dk_96 (dk_at dksX22_number_3 12 rfl rfl)
theorem dX22_number_83 : decode cX22_number 83 = .ok (.bipush 48, 2) := dk_16 48 (dk_at dksX22_number_3 13 rfl rfl)
theorem dX22_number_85 : decode cX22_number 85 = .ok (.isub, 1) := dk_100 (dk_at dksX22_number_3 15 rfl rfl)
theorem dX22_number_86 : decode cX22_number 86 = .ok (.istore_n 2, 1) := dk_61 (dk_at dksX22_number_3 16 rfl rfl)
theorem dX22_number_87 : decode cX22_number 87 = .ok (.aload_n 0, 1) := dk_42 (dk_at dksX22_number_3 17 rfl rfl)
theorem dX22_number_88 : decode cX22_number 88 = .ok (.dup, 1) := dk_89 (dk_at dksX22_number_3 18 rfl rfl)
theorem dX22_number_89 : decode cX22_number 89 = .ok (.getfield 37, 3) := dk_180 0 37 (dk_at dksX22_number_3 19 rfl rfl)
theorem dX22_number_92 : decode cX22_number 92 = .ok (.iconst 1, 1) := dk_4 (dk_at dksX22_number_3 22 rfl rfl)
theorem dX22_number_93 : decode cX22_number 93 = .ok (.iadd, 1) := dk_96 (dk_at dksX22_number_3 23 rfl rfl)
theorem dX22_number_94 : decode cX22_number 94 = .ok (.putfield 37, 3) := dk_181 0 37 (dk_at dksX22_number_4 0 rfl rfl)
theorem dX22_number_97 : decode cX22_number 97 = .ok (.iinc 3 1, 3) := dk_132 3 1 (dk_at dksX22_number_4 3 rfl rfl)
theorem dX22_number_100 : decode cX22_number 100 = .ok (.goto (-46), 3) := dk_167 255 210 (dk_at dksX22_number_4 6 rfl rfl)
theorem dX22_number_103 : decode cX22_number 103 = .ok (.iload_n 2, 1) := dk_28 (dk_at dksX22_number_4 9 rfl rfl)
theorem dX22_number_104 : decode cX22_number 104 = .ok (.ireturn, 1) := dk_172 (dk_at dksX22_number_4 10 rfl rfl)
abbrev cX22_isSign : ByteArray := prog_22_method_2_code
def yX22_isSign : MethodName := ⟨RX22, "isSign", "(C)Z"⟩
def dkwX22_isSign_1 : List UInt8 := [180, 0, 37, 52, 27, 160, 0, 7, 4, 167, 0, 4, 3, 172]
abbrev dktX22_isSign_1 : List UInt8 := dkwX22_isSign_1 ++ []
def dkwX22_isSign_0 : List UInt8 := [42, 180, 0, 37, 42, 180, 0, 3, 180, 0, 41, 162, 0, 23, 42, 180, 0, 3, 180, 0, 44, 42]
abbrev dktX22_isSign_0 : List UInt8 := dkwX22_isSign_0 ++ dktX22_isSign_1
theorem dksX22_isSign_0 : cX22_isSign.data.toList.drop 0 = dktX22_isSign_0 := by decide +kernel
theorem dksX22_isSign_1 : cX22_isSign.data.toList.drop 22 = dktX22_isSign_1 := dk_seg dksX22_isSign_0 22 rfl rfl
theorem dX22_isSign_0 : decode cX22_isSign 0 = .ok (.aload_n 0, 1) := dk_42 (dk_at dksX22_isSign_0 0 rfl rfl)
theorem dX22_isSign_1 : decode cX22_isSign 1 = .ok (.getfield 37, 3) := dk_180 0 37 (dk_at dksX22_isSign_0 1 rfl rfl)
theorem dX22_isSign_4 : decode cX22_isSign 4 = .ok (.aload_n 0, 1) := dk_42 (dk_at dksX22_isSign_0 4 rfl rfl)
theorem dX22_isSign_5 : decode cX22_isSign 5 = .ok (.getfield 3, 3) := dk_180 0 3 (dk_at dksX22_isSign_0 5 rfl rfl)
theorem dX22_isSign_8 : decode cX22_isSign 8 = .ok (.getfield 41, 3) := dk_180 0 41 (dk_at dksX22_isSign_0 8 rfl rfl)
theorem dX22_isSign_11 : decode cX22_isSign 11 = .ok (.if_icmp .ge 23, 3) := dk_162 0 23 (dk_at dksX22_isSign_0 11 rfl rfl)
theorem dX22_isSign_14 : decode cX22_isSign 14 = .ok (.aload_n 0, 1) := dk_42 (dk_at dksX22_isSign_0 14 rfl rfl)
theorem dX22_isSign_15 : decode cX22_isSign 15 = .ok (.getfield 3, 3) := dk_180 0 3 (dk_at dksX22_isSign_0 15 rfl rfl)
theorem dX22_isSign_18 : decode cX22_isSign 18 = .ok (.getfield 44, 3) := dk_180 0 44 (dk_at dksX22_isSign_0 18 rfl rfl)
theorem dX22_isSign_21 : decode cX22_isSign 21 = .ok (.aload_n 0, 1) := dk_42 (dk_at dksX22_isSign_0 21 rfl rfl)
theorem dX22_isSign_22 : decode cX22_isSign 22 = .ok (.getfield 37, 3) := dk_180 0 37 (dk_at dksX22_isSign_1 0 rfl rfl)
theorem dX22_isSign_25 : decode cX22_isSign 25 = .ok (.caload, 1) := dk_52 (dk_at dksX22_isSign_1 3 rfl rfl)
theorem dX22_isSign_26 : decode cX22_isSign 26 = .ok (.iload_n 1, 1) := dk_27 (dk_at dksX22_isSign_1 4 rfl rfl)
theorem dX22_isSign_27 : decode cX22_isSign 27 = .ok (.if_icmp .ne 7, 3) := dk_160 0 7 (dk_at dksX22_isSign_1 5 rfl rfl)
theorem dX22_isSign_30 : decode cX22_isSign 30 = .ok (.iconst 1, 1) := dk_4 (dk_at dksX22_isSign_1 8 rfl rfl)
theorem dX22_isSign_31 : decode cX22_isSign 31 = .ok (.goto 4, 3) := dk_167 0 4 (dk_at dksX22_isSign_1 9 rfl rfl)
theorem dX22_isSign_34 : decode cX22_isSign 34 = .ok (.iconst 0, 1) := dk_3 (dk_at dksX22_isSign_1 12 rfl rfl)
theorem dX22_isSign_35 : decode cX22_isSign 35 = .ok (.ireturn, 1) := dk_172 (dk_at dksX22_isSign_1 13 rfl rfl)
abbrev cX22_isDigit : ByteArray := prog_22_method_5_code
def yX22_isDigit : MethodName := ⟨RX22, "isDigit", "()Z"⟩
def dkwX22_isDigit_1 : List UInt8 := [180, 0, 37, 52, 16, 48, 16, 57, 184, 0, 71, 153, 0, 7, 4, 167, 0, 4, 3, 172]
abbrev dktX22_isDigit_1 : List UInt8 := dkwX22_isDigit_1 ++ []
def dkwX22_isDigit_0 : List UInt8 := [42, 180, 0, 37, 42, 180, 0, 3, 180, 0, 41, 162, 0, 29, 42, 180, 0, 3, 180, 0, 44, 42]
abbrev dktX22_isDigit_0 : List UInt8 := dkwX22_isDigit_0 ++ dktX22_isDigit_1
theorem dksX22_isDigit_0 : cX22_isDigit.data.toList.drop 0 = dktX22_isDigit_0 := by decide +kernel
theorem dksX22_isDigit_1 : cX22_isDigit.data.toList.drop 22 = dktX22_isDigit_1 := dk_seg dksX22_isDigit_0 22 rfl rfl
theorem dX22_isDigit_0 : decode cX22_isDigit 0 = .ok (.aload_n 0, 1) := dk_42 (dk_at dksX22_isDigit_0 0 rfl rfl)
theorem dX22_isDigit_1 : decode cX22_isDigit 1 = .ok (.getfield 37, 3) := dk_180 0 37 (dk_at dksX22_isDigit_0 1 rfl rfl)
theorem dX22_isDigit_4 : decode cX22_isDigit 4 = .ok (.aload_n 0, 1) := dk_42 (dk_at dksX22_isDigit_0 4 rfl rfl)
theorem dX22_isDigit_5 : decode cX22_isDigit 5 = .ok (.getfield 3, 3) := dk_180 0 3 (dk_at dksX22_isDigit_0 5 rfl rfl)
theorem dX22_isDigit_8 : decode cX22_isDigit 8 = .ok (.getfield 41, 3) := dk_180 0 41 (dk_at dksX22_isDigit_0 8 rfl rfl)
theorem dX22_isDigit_11 : decode cX22_isDigit 11 = .ok (.if_icmp .ge 29, 3) := dk_162 0 29 (dk_at dksX22_isDigit_0 11 rfl rfl)
theorem dX22_isDigit_14 : decode cX22_isDigit 14 = .ok (.aload_n 0, 1) := dk_42 (dk_at dksX22_isDigit_0 14 rfl rfl)
theorem dX22_isDigit_15 : decode cX22_isDigit 15 = .ok (.getfield 3, 3) := dk_180 0 3 (dk_at dksX22_isDigit_0 15 rfl rfl)
theorem dX22_isDigit_18 : decode cX22_isDigit 18 = .ok (.getfield 44, 3) := dk_180 0 44 (dk_at dksX22_isDigit_0 18 rfl rfl)
theorem dX22_isDigit_21 : decode cX22_isDigit 21 = .ok (.aload_n 0, 1) := dk_42 (dk_at dksX22_isDigit_0 21 rfl rfl)
theorem dX22_isDigit_22 : decode cX22_isDigit 22 = .ok (.getfield 37, 3) := dk_180 0 37 (dk_at dksX22_isDigit_1 0 rfl rfl)
theorem dX22_isDigit_25 : decode cX22_isDigit 25 = .ok (.caload, 1) := dk_52 (dk_at dksX22_isDigit_1 3 rfl rfl)
theorem dX22_isDigit_26 : decode cX22_isDigit 26 = .ok (.bipush 48, 2) := dk_16 48 (dk_at dksX22_isDigit_1 4 rfl rfl)
theorem dX22_isDigit_28 : decode cX22_isDigit 28 = .ok (.bipush 57, 2) := dk_16 57 (dk_at dksX22_isDigit_1 6 rfl rfl)
theorem dX22_isDigit_30 : decode cX22_isDigit 30 = .ok (.invokestatic 71, 3) := dk_184 0 71 (dk_at dksX22_isDigit_1 8 rfl rfl)
theorem dX22_isDigit_33 : decode cX22_isDigit 33 = .ok (.ifCond .eq 7, 3) := dk_153 0 7 (dk_at dksX22_isDigit_1 11 rfl rfl)
theorem dX22_isDigit_36 : decode cX22_isDigit 36 = .ok (.iconst 1, 1) := dk_4 (dk_at dksX22_isDigit_1 14 rfl rfl)
theorem dX22_isDigit_37 : decode cX22_isDigit 37 = .ok (.goto 4, 3) := dk_167 0 4 (dk_at dksX22_isDigit_1 15 rfl rfl)
theorem dX22_isDigit_40 : decode cX22_isDigit 40 = .ok (.iconst 0, 1) := dk_3 (dk_at dksX22_isDigit_1 18 rfl rfl)
theorem dX22_isDigit_41 : decode cX22_isDigit 41 = .ok (.ireturn, 1) := dk_172 (dk_at dksX22_isDigit_1 19 rfl rfl)
theorem q132 : (Jvm.Cond.initialized "JokePump$Reader") ∈ lw_all := lw_g (lw_at lw_m1 48 rfl) rfl
theorem q281 : (Jvm.Cond.fieldLinkNest "JokePump$Reader" (44 : Nat) "JokePump" "input" "[C" "JokePump") ∈ lw_tbl := lw_at lw_m1 197 rfl
theorem q283 : (Jvm.Cond.fieldLinkNest "JokePump$Reader" (41 : Nat) "JokePump" "fed" "I" "JokePump") ∈ lw_tbl := lw_at lw_m1 199 rfl
theorem q661 : (Jvm.Cond.selects "JokePump$Reader" ({ cls := "java/lang/Object", name := "getClass", desc := "()Ljava/lang/Class;" } : Jvm.MethodName) ({ cls := "java/lang/Object", name := "getClass", desc := "()Ljava/lang/Class;" } : Jvm.MethodName)) ∈ lw_all := lw_g (lw_at lw_m3 97 rfl) rfl
theorem q965 : (Jvm.Cond.selects "JokePump$Reader" ({ cls := "java/lang/Object", name := "equals", desc := "(Ljava/lang/Object;)Z" } : Jvm.MethodName) ({ cls := "java/lang/Object", name := "equals", desc := "(Ljava/lang/Object;)Z" } : Jvm.MethodName)) ∈ lw_all := lw_g (lw_at lw_m4 161 rfl) rfl
theorem q1825 : (Jvm.Cond.instantiable "JokePump$Reader" (3 : Nat)) ∈ lw_all := lw_g (lw_at lw_m8 61 rfl) rfl
theorem q1827 : (Jvm.Cond.instanceMethod ({ cls := "JokePump$Reader", name := "<init>", desc := "(LJokePump;)V" } : Jvm.MethodName)) ∈ lw_all := lw_g (lw_at lw_m8 63 rfl) rfl
theorem q1828 : (Jvm.Cond.code ({ cls := "JokePump$Reader", name := "<init>", desc := "(LJokePump;)V" } : Jvm.MethodName) prog_22_method_1_code (2 : Nat) (Option.none : Option Jvm.ClassFile.FieldType)) ∈ lw_all := lw_g (lw_at lw_m8 64 rfl) rfl
theorem q1829 : (Jvm.Cond.methodLink "JokePump$Reader" (9 : Nat) ({ cls := "java/lang/Object", name := "<init>", desc := "()V" } : Jvm.MethodName)) ∈ lw_all := lw_g (lw_at lw_m8 65 rfl) rfl
theorem q1830 : (Jvm.Cond.classLink "JokePump$Reader" (15 : Nat) "java/lang/String") ∈ lw_all := lw_g (lw_at lw_m8 66 rfl) rfl
theorem q1832 : (Jvm.Cond.stringRef "JokePump$Reader" (17 : Nat) "joke") ∈ lw_tbl := lw_at lw_m8 68 rfl
theorem q1833 : (Jvm.Cond.stringRef "JokePump$Reader" (19 : Nat) "prime") ∈ lw_tbl := lw_at lw_m8 69 rfl
theorem q1834 : (Jvm.Cond.stringRef "JokePump$Reader" (21 : Nat) "drop") ∈ lw_tbl := lw_at lw_m8 70 rfl
theorem q1835 : (Jvm.Cond.stringRef "JokePump$Reader" (23 : Nat) "drain") ∈ lw_tbl := lw_at lw_m8 71 rfl
theorem q1836 : (Jvm.Cond.stringRef "JokePump$Reader" (25 : Nat) "stroke") ∈ lw_tbl := lw_at lw_m8 72 rfl
theorem q1837 : (Jvm.Cond.stringRef "JokePump$Reader" (27 : Nat) "bucket") ∈ lw_tbl := lw_at lw_m8 73 rfl
theorem q1838 : (Jvm.Cond.stringRef "JokePump$Reader" (29 : Nat) "go") ∈ lw_tbl := lw_at lw_m8 74 rfl
theorem q1839 : (Jvm.Cond.stringRef "JokePump$Reader" (31 : Nat) "pump") ∈ lw_tbl := lw_at lw_m8 75 rfl
theorem q1840 : (Jvm.Cond.fieldLink "JokePump$Reader" (33 : Nat) "JokePump$Reader" "words" "[Ljava/lang/String;") ∈ lw_all := lw_g (lw_at lw_m8 76 rfl) rfl
theorem q1841 : (Jvm.Cond.fieldLink "JokePump$Reader" (37 : Nat) "JokePump$Reader" "at" "I") ∈ lw_all := lw_g (lw_at lw_m8 77 rfl) rfl
theorem q1842 : (Jvm.Cond.fieldLink "JokePump$Reader" (3 : Nat) "JokePump$Reader" "this$0" "LJokePump;") ∈ lw_all := lw_g (lw_at lw_m8 78 rfl) rfl
theorem q1843 : (Jvm.Cond.laysFinal "JokePump$Reader" "JokePump$Reader" "words" "[Ljava/lang/String;") ∈ lw_all := lw_g (lw_at lw_m8 79 rfl) rfl
theorem q1844 : (Jvm.Cond.soleField "JokePump$Reader" "words") ∈ lw_all := lw_g (lw_at lw_m8 80 rfl) rfl
theorem q1845 : (Jvm.Cond.lays "JokePump$Reader" "JokePump$Reader" "at" "I") ∈ lw_all := lw_g (lw_at lw_m8 81 rfl) rfl
theorem q1846 : (Jvm.Cond.soleField "JokePump$Reader" "at") ∈ lw_all := lw_g (lw_at lw_m8 82 rfl) rfl
theorem q1847 : (Jvm.Cond.laysFinal "JokePump$Reader" "JokePump$Reader" "this$0" "LJokePump;") ∈ lw_all := lw_g (lw_at lw_m8 83 rfl) rfl
theorem q1848 : (Jvm.Cond.soleField "JokePump$Reader" "this$0") ∈ lw_all := lw_g (lw_at lw_m8 84 rfl) rfl
theorem q1849 : (Jvm.Cond.superclass "JokePump$Reader" "java/lang/Object") ∈ lw_all := lw_g (lw_at lw_m8 85 rfl) rfl
theorem q1851 : (Jvm.Cond.instanceMethod ({ cls := "JokePump$Reader", name := "whole", desc := "()Ljava/util/ArrayList;" } : Jvm.MethodName)) ∈ lw_all := lw_g (lw_at lw_m8 87 rfl) rfl
theorem q1852 : (Jvm.Cond.selects "JokePump$Reader" ({ cls := "JokePump$Reader", name := "whole", desc := "()Ljava/util/ArrayList;" } : Jvm.MethodName) ({ cls := "JokePump$Reader", name := "whole", desc := "()Ljava/util/ArrayList;" } : Jvm.MethodName)) ∈ lw_all := lw_g (lw_at lw_m8 88 rfl) rfl
theorem q1853 : (Jvm.Cond.code ({ cls := "JokePump$Reader", name := "whole", desc := "()Ljava/util/ArrayList;" } : Jvm.MethodName) prog_22_method_8_code (2 : Nat) (Option.some (Jvm.ClassFile.FieldType.object "java/util/ArrayList"))) ∈ lw_all := lw_g (lw_at lw_m8 89 rfl) rfl
theorem q1854 : (Jvm.Cond.classLink "JokePump$Reader" (103 : Nat) "java/util/ArrayList") ∈ lw_all := lw_g (lw_at lw_m8 90 rfl) rfl
theorem q1855 : (Jvm.Cond.methodLink "JokePump$Reader" (105 : Nat) ({ cls := "java/util/ArrayList", name := "<init>", desc := "()V" } : Jvm.MethodName)) ∈ lw_all := lw_g (lw_at lw_m8 91 rfl) rfl
theorem q1856 : (Jvm.Cond.methodLink "JokePump$Reader" (106 : Nat) ({ cls := "JokePump$Reader", name := "command", desc := "()LJokePump$Command;" } : Jvm.MethodName)) ∈ lw_all := lw_g (lw_at lw_m8 92 rfl) rfl
theorem q1857 : (Jvm.Cond.privateMethod ({ cls := "JokePump$Reader", name := "command", desc := "()LJokePump$Command;" } : Jvm.MethodName)) ∈ lw_tbl := lw_at lw_m8 93 rfl
theorem q1858 : (Jvm.Cond.instanceMethod ({ cls := "JokePump$Reader", name := "command", desc := "()LJokePump$Command;" } : Jvm.MethodName)) ∈ lw_all := lw_g (lw_at lw_m8 94 rfl) rfl
theorem q1859 : (Jvm.Cond.code ({ cls := "JokePump$Reader", name := "command", desc := "()LJokePump$Command;" } : Jvm.MethodName) prog_22_method_7_code (4 : Nat) (Option.some (Jvm.ClassFile.FieldType.object "JokePump$Command"))) ∈ lw_all := lw_g (lw_at lw_m8 95 rfl) rfl
theorem q1860 : (Jvm.Cond.methodLink "JokePump$Reader" (83 : Nat) ({ cls := "JokePump$Reader", name := "word", desc := "()Ljava/lang/String;" } : Jvm.MethodName)) ∈ lw_all := lw_g (lw_at lw_m8 96 rfl) rfl
theorem q1861 : (Jvm.Cond.privateMethod ({ cls := "JokePump$Reader", name := "word", desc := "()Ljava/lang/String;" } : Jvm.MethodName)) ∈ lw_tbl := lw_at lw_m8 97 rfl
theorem q1862 : (Jvm.Cond.instanceMethod ({ cls := "JokePump$Reader", name := "word", desc := "()Ljava/lang/String;" } : Jvm.MethodName)) ∈ lw_all := lw_g (lw_at lw_m8 98 rfl) rfl
theorem q1863 : (Jvm.Cond.code ({ cls := "JokePump$Reader", name := "word", desc := "()Ljava/lang/String;" } : Jvm.MethodName) prog_22_method_4_code (7 : Nat) (Option.some (Jvm.ClassFile.FieldType.object "java/lang/String"))) ∈ lw_all := lw_g (lw_at lw_m8 99 rfl) rfl
theorem q1864 : (Jvm.Cond.methodLink "JokePump$Reader" (56 : Nat) ({ cls := "JokePump$Reader", name := "letters", desc := "(Ljava/lang/String;)I" } : Jvm.MethodName)) ∈ lw_all := lw_g (lw_at lw_m8 100 rfl) rfl
theorem q1865 : (Jvm.Cond.privateMethod ({ cls := "JokePump$Reader", name := "letters", desc := "(Ljava/lang/String;)I" } : Jvm.MethodName)) ∈ lw_tbl := lw_at lw_m8 101 rfl
theorem q1866 : (Jvm.Cond.instanceMethod ({ cls := "JokePump$Reader", name := "letters", desc := "(Ljava/lang/String;)I" } : Jvm.MethodName)) ∈ lw_all := lw_g (lw_at lw_m8 102 rfl) rfl
theorem q1867 : (Jvm.Cond.code ({ cls := "JokePump$Reader", name := "letters", desc := "(Ljava/lang/String;)I" } : Jvm.MethodName) prog_22_method_3_code (3 : Nat) (Option.some Jvm.ClassFile.FieldType.int)) ∈ lw_all := lw_g (lw_at lw_m8 103 rfl) rfl
theorem q1868 : (Jvm.Cond.methodLink "JokePump$Reader" (48 : Nat) ({ cls := "java/lang/String", name := "length", desc := "()I" } : Jvm.MethodName)) ∈ lw_all := lw_g (lw_at lw_m8 104 rfl) rfl
theorem q1869 : (Jvm.Cond.methodLink "JokePump$Reader" (52 : Nat) ({ cls := "java/lang/String", name := "charAt", desc := "(I)C" } : Jvm.MethodName)) ∈ lw_all := lw_g (lw_at lw_m8 105 rfl) rfl
theorem q1870 : (Jvm.Cond.methodLink "JokePump$Reader" (60 : Nat) ({ cls := "java/lang/Math", name := "max", desc := "(II)I" } : Jvm.MethodName)) ∈ lw_all := lw_g (lw_at lw_m8 106 rfl) rfl
theorem q1871 : (Jvm.Cond.classLink "JokePump$Reader" (66 : Nat) "JokePump$BadSign") ∈ lw_all := lw_g (lw_at lw_m8 107 rfl) rfl
theorem q1880 : (Jvm.Cond.methodLink "JokePump$Reader" (68 : Nat) ({ cls := "JokePump$BadSign", name := "<init>", desc := "(I)V" } : Jvm.MethodName)) ∈ lw_all := lw_g (lw_at lw_m8 116 rfl) rfl
theorem q1890 : (Jvm.Cond.methodLink "JokePump$Reader" (87 : Nat) ({ cls := "java/lang/String", name := "hashCode", desc := "()I" } : Jvm.MethodName)) ∈ lw_all := lw_g (lw_at lw_m8 126 rfl) rfl
theorem q1891 : (Jvm.Cond.methodLink "JokePump$Reader" (90 : Nat) ({ cls := "java/lang/String", name := "equals", desc := "(Ljava/lang/Object;)Z" } : Jvm.MethodName)) ∈ lw_all := lw_g (lw_at lw_m8 127 rfl) rfl
theorem q1892 : (Jvm.Cond.classLink "JokePump$Reader" (94 : Nat) "JokePump$Command") ∈ lw_all := lw_g (lw_at lw_m8 128 rfl) rfl
theorem q1894 : (Jvm.Cond.methodLink "JokePump$Reader" (96 : Nat) ({ cls := "JokePump$Reader", name := "number", desc := "(I)I" } : Jvm.MethodName)) ∈ lw_all := lw_g (lw_at lw_m8 130 rfl) rfl
theorem q1895 : (Jvm.Cond.privateMethod ({ cls := "JokePump$Reader", name := "number", desc := "(I)I" } : Jvm.MethodName)) ∈ lw_tbl := lw_at lw_m8 131 rfl
theorem q1896 : (Jvm.Cond.instanceMethod ({ cls := "JokePump$Reader", name := "number", desc := "(I)I" } : Jvm.MethodName)) ∈ lw_all := lw_g (lw_at lw_m8 132 rfl) rfl
theorem q1897 : (Jvm.Cond.code ({ cls := "JokePump$Reader", name := "number", desc := "(I)I" } : Jvm.MethodName) prog_22_method_6_code (4 : Nat) (Option.some Jvm.ClassFile.FieldType.int)) ∈ lw_all := lw_g (lw_at lw_m8 133 rfl) rfl
theorem q1898 : (Jvm.Cond.methodLink "JokePump$Reader" (75 : Nat) ({ cls := "JokePump$Reader", name := "isSign", desc := "(C)Z" } : Jvm.MethodName)) ∈ lw_all := lw_g (lw_at lw_m8 134 rfl) rfl
theorem q1899 : (Jvm.Cond.privateMethod ({ cls := "JokePump$Reader", name := "isSign", desc := "(C)Z" } : Jvm.MethodName)) ∈ lw_tbl := lw_at lw_m8 135 rfl
theorem q1900 : (Jvm.Cond.instanceMethod ({ cls := "JokePump$Reader", name := "isSign", desc := "(C)Z" } : Jvm.MethodName)) ∈ lw_all := lw_g (lw_at lw_m8 136 rfl) rfl
theorem q1901 : (Jvm.Cond.code ({ cls := "JokePump$Reader", name := "isSign", desc := "(C)Z" } : Jvm.MethodName) prog_22_method_2_code (2 : Nat) (Option.some Jvm.ClassFile.FieldType.boolean)) ∈ lw_all := lw_g (lw_at lw_m8 137 rfl) rfl
theorem q1902 : (Jvm.Cond.methodLink "JokePump$Reader" (79 : Nat) ({ cls := "JokePump$Reader", name := "isDigit", desc := "()Z" } : Jvm.MethodName)) ∈ lw_all := lw_g (lw_at lw_m8 138 rfl) rfl
theorem q1903 : (Jvm.Cond.privateMethod ({ cls := "JokePump$Reader", name := "isDigit", desc := "()Z" } : Jvm.MethodName)) ∈ lw_tbl := lw_at lw_m8 139 rfl
theorem q1904 : (Jvm.Cond.instanceMethod ({ cls := "JokePump$Reader", name := "isDigit", desc := "()Z" } : Jvm.MethodName)) ∈ lw_all := lw_g (lw_at lw_m8 140 rfl) rfl
theorem q1905 : (Jvm.Cond.code ({ cls := "JokePump$Reader", name := "isDigit", desc := "()Z" } : Jvm.MethodName) prog_22_method_5_code (1 : Nat) (Option.some Jvm.ClassFile.FieldType.boolean)) ∈ lw_all := lw_g (lw_at lw_m8 141 rfl) rfl
theorem q1906 : (Jvm.Cond.methodLinkNest "JokePump$Reader" (71 : Nat) ({ cls := "JokePump", name := "in", desc := "(III)Z" } : Jvm.MethodName) "JokePump") ∈ lw_tbl := lw_at lw_m8 142 rfl
theorem q1907 : (Jvm.Cond.methodLinkNest "JokePump$Reader" (100 : Nat) ({ cls := "JokePump$Command", name := "<init>", desc := "(Ljava/lang/String;IIII)V" } : Jvm.MethodName) "JokePump") ∈ lw_tbl := lw_at lw_m8 143 rfl
theorem q1930 : (Jvm.Cond.methodLink "JokePump$Reader" (110 : Nat) ({ cls := "java/util/ArrayList", name := "add", desc := "(Ljava/lang/Object;)Z" } : Jvm.MethodName)) ∈ lw_all := lw_g (lw_at lw_m8 166 rfl) rfl
theorem q2515 : (Jvm.Cond.castable "JokePump$Reader" "java/lang/Object") ∈ lw_tbl := lw_at lw_m11 31 rfl
theorem in_X22 : ∀ w ∈ wsX220, w ∈ lw_all := lw_in wsX220 [1843, 1845, 1847] (by decide +kernel) (by decide +kernel)

/-! JokePump$BadSign -/
set_option maxRecDepth 100000
def RX23 : String := "JokePump$BadSign"
def TX23 : u_T := fun k => match k with
  | 0 => ("java/lang/Throwable", "cause", "Ljava/lang/Throwable;", false)
  | 1 => ("java/lang/Throwable", "stackTrace", "[Ljava/lang/StackTraceElement;", false)
  | 2 => ("java/lang/Throwable", "suppressedExceptions", "Ljava/util/List;", false)
  | 3 => ("java/lang/Throwable", "detailMessage", "Ljava/lang/String;", false)
  | 4 => ("java/lang/Throwable", "backtrace", "Ljava/lang/Object;", false)
  | 5 => ("java/lang/Throwable", "depth", "I", false)
  | _ => ("JokePump$BadSign", "place", "I", true)
def tyX23 : Nat → FieldType := fun k => match k with
  | 0 => .object "java/lang/Throwable"
  | 1 => .array (.object "java/lang/StackTraceElement")
  | 2 => .object "java/util/List"
  | 3 => .object "java/lang/String"
  | 4 => .object "java/lang/Object"
  | 5 => .int
  | _ => .int
abbrev wsX230 : List Cond := u_ws RX23 TX23 7
theorem nmX23 : ∀ a, a < 7 → ∀ b, b < 7 → a ≠ b → (TX23 a).2.1 ≠ (TX23 b).2.1 := by decide +kernel
theorem tyX23_ok : ∀ k, k < 7 → parseFieldDescriptor (TX23 k).2.2.1 = some (tyX23 k) := by decide +kernel
abbrev cX23_init : ByteArray := prog_13_method_1_code
def yX23_init : MethodName := ⟨RX23, "<init>", "(I)V"⟩
def dkwX23_init_0 : List UInt8 := [42, 1, 1, 3, 3, 183, 0, 1, 42, 27, 181, 0, 7, 177]
abbrev dktX23_init_0 : List UInt8 := dkwX23_init_0 ++ []
theorem dksX23_init_0 : cX23_init.data.toList.drop 0 = dktX23_init_0 := by decide +kernel
theorem dX23_init_0 : decode cX23_init 0 = .ok (.aload_n 0, 1) := dk_42 (dk_at dksX23_init_0 0 rfl rfl)
theorem dX23_init_1 : decode cX23_init 1 = .ok (.aconst_null, 1) := dk_1 (dk_at dksX23_init_0 1 rfl rfl)
theorem dX23_init_2 : decode cX23_init 2 = .ok (.aconst_null, 1) := dk_1 (dk_at dksX23_init_0 2 rfl rfl)
theorem dX23_init_3 : decode cX23_init 3 = .ok (.iconst 0, 1) := dk_3 (dk_at dksX23_init_0 3 rfl rfl)
theorem dX23_init_4 : decode cX23_init 4 = .ok (.iconst 0, 1) := dk_3 (dk_at dksX23_init_0 4 rfl rfl)
theorem dX23_init_5 : decode cX23_init 5 = .ok (.invokespecial 1, 3) := dk_183 0 1 (dk_at dksX23_init_0 5 rfl rfl)
theorem dX23_init_8 : decode cX23_init 8 = .ok (.aload_n 0, 1) := dk_42 (dk_at dksX23_init_0 8 rfl rfl)
theorem dX23_init_9 : decode cX23_init 9 = .ok (.iload_n 1, 1) := dk_27 (dk_at dksX23_init_0 9 rfl rfl)
theorem dX23_init_10 : decode cX23_init 10 = .ok (.putfield 7, 3) := dk_181 0 7 (dk_at dksX23_init_0 10 rfl rfl)
theorem dX23_init_13 : decode cX23_init 13 = .ok (.return_, 1) := dk_177 (dk_at dksX23_init_0 13 rfl rfl)
theorem q133 : (Jvm.Cond.initialized "JokePump$BadSign") ∈ lw_all := lw_g (lw_at lw_m1 49 rfl) rfl
theorem q486 : (Jvm.Cond.selects "JokePump$BadSign" ({ cls := "java/lang/Throwable", name := "fillInStackTrace", desc := "()Ljava/lang/Throwable;" } : Jvm.MethodName) ({ cls := "java/lang/Throwable", name := "fillInStackTrace", desc := "()Ljava/lang/Throwable;" } : Jvm.MethodName)) ∈ lw_all := lw_g (lw_at lw_m2 162 rfl) rfl
theorem q653 : (Jvm.Cond.selects "JokePump$BadSign" ({ cls := "java/lang/Object", name := "getClass", desc := "()Ljava/lang/Class;" } : Jvm.MethodName) ({ cls := "java/lang/Object", name := "getClass", desc := "()Ljava/lang/Class;" } : Jvm.MethodName)) ∈ lw_all := lw_g (lw_at lw_m3 89 rfl) rfl
theorem q952 : (Jvm.Cond.selects "JokePump$BadSign" ({ cls := "java/lang/Object", name := "equals", desc := "(Ljava/lang/Object;)Z" } : Jvm.MethodName) ({ cls := "java/lang/Object", name := "equals", desc := "(Ljava/lang/Object;)Z" } : Jvm.MethodName)) ∈ lw_all := lw_g (lw_at lw_m4 148 rfl) rfl
theorem q1872 : (Jvm.Cond.instantiable "JokePump$BadSign" (7 : Nat)) ∈ lw_all := lw_g (lw_at lw_m8 108 rfl) rfl
theorem q1873 : (Jvm.Cond.castable "JokePump$BadSign" "JokePump$BadSign") ∈ lw_tbl := lw_at lw_m8 109 rfl
theorem q1874 : (Jvm.Cond.selects "JokePump$BadSign" ({ cls := "java/lang/Throwable", name := "fillInStackTrace", desc := "(I)Ljava/lang/Throwable;" } : Jvm.MethodName) ({ cls := "java/lang/Throwable", name := "fillInStackTrace", desc := "(I)Ljava/lang/Throwable;" } : Jvm.MethodName)) ∈ lw_all := lw_g (lw_at lw_m8 110 rfl) rfl
theorem q1875 : (Jvm.Cond.lays "JokePump$BadSign" "java/lang/Throwable" "cause" "Ljava/lang/Throwable;") ∈ lw_all := lw_g (lw_at lw_m8 111 rfl) rfl
theorem q1876 : (Jvm.Cond.lays "JokePump$BadSign" "java/lang/Throwable" "stackTrace" "[Ljava/lang/StackTraceElement;") ∈ lw_all := lw_g (lw_at lw_m8 112 rfl) rfl
theorem q1877 : (Jvm.Cond.lays "JokePump$BadSign" "java/lang/Throwable" "suppressedExceptions" "Ljava/util/List;") ∈ lw_all := lw_g (lw_at lw_m8 113 rfl) rfl
theorem q1878 : (Jvm.Cond.lays "JokePump$BadSign" "java/lang/Throwable" "detailMessage" "Ljava/lang/String;") ∈ lw_all := lw_g (lw_at lw_m8 114 rfl) rfl
theorem q1879 : (Jvm.Cond.lays "JokePump$BadSign" "java/lang/Throwable" "backtrace" "Ljava/lang/Object;") ∈ lw_all := lw_g (lw_at lw_m8 115 rfl) rfl
theorem q1881 : (Jvm.Cond.instanceMethod ({ cls := "JokePump$BadSign", name := "<init>", desc := "(I)V" } : Jvm.MethodName)) ∈ lw_all := lw_g (lw_at lw_m8 117 rfl) rfl
theorem q1882 : (Jvm.Cond.code ({ cls := "JokePump$BadSign", name := "<init>", desc := "(I)V" } : Jvm.MethodName) prog_13_method_1_code (2 : Nat) (Option.none : Option Jvm.ClassFile.FieldType)) ∈ lw_all := lw_g (lw_at lw_m8 118 rfl) rfl
theorem q1883 : (Jvm.Cond.methodLink "JokePump$BadSign" (1 : Nat) ({ cls := "java/lang/Exception", name := "<init>", desc := "(Ljava/lang/String;Ljava/lang/Throwable;ZZ)V" } : Jvm.MethodName)) ∈ lw_all := lw_g (lw_at lw_m8 119 rfl) rfl
theorem q1884 : (Jvm.Cond.fieldLink "JokePump$BadSign" (7 : Nat) "JokePump$BadSign" "place" "I") ∈ lw_all := lw_g (lw_at lw_m8 120 rfl) rfl
theorem q1886 : (Jvm.Cond.laysFinal "JokePump$BadSign" "JokePump$BadSign" "place" "I") ∈ lw_all := lw_g (lw_at lw_m8 122 rfl) rfl
theorem q1887 : (Jvm.Cond.soleField "JokePump$BadSign" "place") ∈ lw_all := lw_g (lw_at lw_m8 123 rfl) rfl
theorem q1888 : (Jvm.Cond.lays "JokePump$BadSign" "java/lang/Throwable" "depth" "I") ∈ lw_all := lw_g (lw_at lw_m8 124 rfl) rfl
theorem q1889 : (Jvm.Cond.superclass "JokePump$BadSign" "java/lang/Exception") ∈ lw_all := lw_g (lw_at lw_m8 125 rfl) rfl
theorem q2516 : (Jvm.Cond.castable "JokePump$BadSign" "java/lang/Object") ∈ lw_tbl := lw_at lw_m11 32 rfl
theorem in_X23 : ∀ w ∈ wsX230, w ∈ lw_all := lw_in wsX230 [1875, 1876, 1877, 1878, 1879, 1888, 1886] (by decide +kernel) (by decide +kernel)

/-! JokePump$Command -/
set_option maxRecDepth 100000
def RX24 : String := "JokePump$Command"
def TX24 : u_T := fun k => match k with
  | 0 => ("JokePump$Command", "word", "Ljava/lang/String;", true)
  | 1 => ("JokePump$Command", "one", "I", true)
  | 2 => ("JokePump$Command", "other", "I", true)
  | 3 => ("JokePump$Command", "third", "I", true)
  | _ => ("JokePump$Command", "fourth", "I", true)
def tyX24 : Nat → FieldType := fun k => match k with
  | 0 => .object "java/lang/String"
  | 1 => .int
  | 2 => .int
  | 3 => .int
  | _ => .int
abbrev wsX240 : List Cond := u_ws RX24 TX24 5
theorem nmX24 : ∀ a, a < 5 → ∀ b, b < 5 → a ≠ b → (TX24 a).2.1 ≠ (TX24 b).2.1 := by decide +kernel
theorem tyX24_ok : ∀ k, k < 5 → parseFieldDescriptor (TX24 k).2.2.1 = some (tyX24 k) := by decide +kernel
abbrev cX24_isIn : ByteArray := prog_14_method_2_code
def yX24_isIn : MethodName := ⟨RX24, "isIn", "(LJokePump$Pump;)Z"⟩
def dkwX24_isIn_12 : List UInt8 := [184, 0, 50, 172, 42, 180, 0, 13, 184, 0, 74, 172]
abbrev dktX24_isIn_12 : List UInt8 := dkwX24_isIn_12 ++ []
def dkwX24_isIn_11 : List UInt8 := [153, 0, 17, 42, 180, 0, 17, 184, 0, 71, 153, 0, 7, 4, 167, 0, 4, 3, 172, 42, 180, 0, 13]
abbrev dktX24_isIn_11 : List UInt8 := dkwX24_isIn_11 ++ dktX24_isIn_12
def dkwX24_isIn_10 : List UInt8 := [180, 0, 13, 184, 0, 65, 172, 42, 180, 0, 13, 184, 0, 68, 172, 42, 180, 0, 13, 184, 0, 50]
abbrev dktX24_isIn_10 : List UInt8 := dkwX24_isIn_10 ++ dktX24_isIn_11
def dkwX24_isIn_9 : List UInt8 := [184, 0, 56, 153, 0, 7, 4, 167, 0, 4, 3, 172, 43, 42, 180, 0, 13, 182, 0, 60, 172, 42]
abbrev dktX24_isIn_9 : List UInt8 := dkwX24_isIn_9 ++ dktX24_isIn_10
def dkwX24_isIn_8 : List UInt8 := [42, 180, 0, 13, 184, 0, 50, 153, 0, 25, 42, 180, 0, 17, 42, 180, 0, 20, 42, 180, 0, 23]
abbrev dktX24_isIn_8 : List UInt8 := dkwX24_isIn_8 ++ dktX24_isIn_9
def dkwX24_isIn_7 : List UInt8 := [170, 0, 0, 0, 0, 0, 136, 0, 0, 0, 0, 0, 0, 0, 6, 0, 0, 0, 43, 0, 0, 0, 77, 0, 0, 0, 77, 0, 0, 0, 86, 0, 0, 0, 94, 0, 0, 0, 102, 0, 0, 0, 128]
abbrev dktX24_isIn_7 : List UInt8 := dkwX24_isIn_7 ++ dktX24_isIn_8
def dkwX24_isIn_6 : List UInt8 := [62, 29]
abbrev dktX24_isIn_6 : List UInt8 := dkwX24_isIn_6 ++ dktX24_isIn_7
def dkwX24_isIn_5 : List UInt8 := [18, 46, 182, 0, 34, 153, 0, 20, 8, 62, 167, 0, 15, 44, 18, 48, 182, 0, 34, 153, 0, 6, 16, 6]
abbrev dktX24_isIn_5 : List UInt8 := dkwX24_isIn_5 ++ dktX24_isIn_6
def dkwX24_isIn_4 : List UInt8 := [153, 0, 48, 6, 62, 167, 0, 43, 44, 18, 44, 182, 0, 34, 153, 0, 34, 7, 62, 167, 0, 29, 44]
abbrev dktX24_isIn_4 : List UInt8 := dkwX24_isIn_4 ++ dktX24_isIn_5
def dkwX24_isIn_3 : List UInt8 := [62, 167, 0, 71, 44, 18, 40, 182, 0, 34, 153, 0, 62, 5, 62, 167, 0, 57, 44, 18, 42, 182, 0, 34]
abbrev dktX24_isIn_3 : List UInt8 := dkwX24_isIn_3 ++ dktX24_isIn_4
def dkwX24_isIn_2 : List UInt8 := [44, 18, 32, 182, 0, 34, 153, 0, 90, 3, 62, 167, 0, 85, 44, 18, 38, 182, 0, 34, 153, 0, 76, 4]
abbrev dktX24_isIn_2 : List UInt8 := dkwX24_isIn_2 ++ dktX24_isIn_3
def dkwX24_isIn_1 : List UInt8 := [171, 0, 0, 0, 161, 0, 0, 0, 7, 173, 218, 73, 234, 0, 0, 0, 135, 202, 213, 118, 56, 0, 0, 0, 121, 0, 0, 12, 232, 0, 0, 0, 149, 0, 47, 46, 239, 0, 0, 0, 93, 0, 49, 221, 95, 0, 0, 0, 65, 5, 182, 121, 248, 0, 0, 0, 107, 6, 95, 178, 127, 0, 0, 0, 79]
abbrev dktX24_isIn_1 : List UInt8 := dkwX24_isIn_1 ++ dktX24_isIn_2
def dkwX24_isIn_0 : List UInt8 := [42, 180, 0, 7, 77, 2, 62, 44, 182, 0, 26]
abbrev dktX24_isIn_0 : List UInt8 := dkwX24_isIn_0 ++ dktX24_isIn_1
theorem dksX24_isIn_0 : cX24_isIn.data.toList.drop 0 = dktX24_isIn_0 := by decide +kernel
theorem dksX24_isIn_1 : cX24_isIn.data.toList.drop 11 = dktX24_isIn_1 := dk_seg dksX24_isIn_0 11 rfl rfl
theorem dksX24_isIn_2 : cX24_isIn.data.toList.drop 76 = dktX24_isIn_2 := dk_seg dksX24_isIn_1 65 rfl rfl
theorem dksX24_isIn_3 : cX24_isIn.data.toList.drop 100 = dktX24_isIn_3 := dk_seg dksX24_isIn_2 24 rfl rfl
theorem dksX24_isIn_4 : cX24_isIn.data.toList.drop 124 = dktX24_isIn_4 := dk_seg dksX24_isIn_3 24 rfl rfl
theorem dksX24_isIn_5 : cX24_isIn.data.toList.drop 147 = dktX24_isIn_5 := dk_seg dksX24_isIn_4 23 rfl rfl
theorem dksX24_isIn_6 : cX24_isIn.data.toList.drop 171 = dktX24_isIn_6 := dk_seg dksX24_isIn_5 24 rfl rfl
theorem dksX24_isIn_7 : cX24_isIn.data.toList.drop 173 = dktX24_isIn_7 := dk_seg dksX24_isIn_6 2 rfl rfl
theorem dksX24_isIn_8 : cX24_isIn.data.toList.drop 216 = dktX24_isIn_8 := dk_seg dksX24_isIn_7 43 rfl rfl
theorem dksX24_isIn_9 : cX24_isIn.data.toList.drop 238 = dktX24_isIn_9 := dk_seg dksX24_isIn_8 22 rfl rfl
theorem dksX24_isIn_10 : cX24_isIn.data.toList.drop 260 = dktX24_isIn_10 := dk_seg dksX24_isIn_9 22 rfl rfl
theorem dksX24_isIn_11 : cX24_isIn.data.toList.drop 282 = dktX24_isIn_11 := dk_seg dksX24_isIn_10 22 rfl rfl
theorem dksX24_isIn_12 : cX24_isIn.data.toList.drop 305 = dktX24_isIn_12 := dk_seg dksX24_isIn_11 23 rfl rfl
theorem dX24_isIn_0 : decode cX24_isIn 0 = .ok (.aload_n 0, 1) := dk_42 (dk_at dksX24_isIn_0 0 rfl rfl)
theorem dX24_isIn_1 : decode cX24_isIn 1 = .ok (.getfield 7, 3) := dk_180 0 7 (dk_at dksX24_isIn_0 1 rfl rfl)
theorem dX24_isIn_4 : decode cX24_isIn 4 = .ok (.astore_n 2, 1) := dk_77 (dk_at dksX24_isIn_0 4 rfl rfl)
theorem dX24_isIn_5 : decode cX24_isIn 5 = .ok (.iconst (-1), 1) := dk_2 (dk_at dksX24_isIn_0 5 rfl rfl)
theorem dX24_isIn_6 : decode cX24_isIn 6 = .ok (.istore_n 3, 1) := dk_62 (dk_at dksX24_isIn_0 6 rfl rfl)
theorem dX24_isIn_7 : decode cX24_isIn 7 = .ok (.aload_n 2, 1) := dk_44 (dk_at dksX24_isIn_0 7 rfl rfl)
theorem dX24_isIn_8 : decode cX24_isIn 8 = .ok (.invokevirtual 26, 3) := dk_182 0 26 (dk_at dksX24_isIn_0 8 rfl rfl)
theorem dX24_isIn_11 : decode cX24_isIn 11 = .ok (.lookupswitch 161 #[(-1378203158, 135), (-891980232, 121), (3304, 149), (3092207, 93), (3267935, 65), (95844856, 107), (106934911, 79)], 65) := by decide +kernel
theorem dX24_isIn_76 : decode cX24_isIn 76 = .ok (.aload_n 2, 1) := dk_44 (dk_at dksX24_isIn_2 0 rfl rfl)
theorem dX24_isIn_77 : decode cX24_isIn 77 = .ok (.ldc 32, 2) := dk_18 32 (dk_at dksX24_isIn_2 1 rfl rfl)
theorem dX24_isIn_79 : decode cX24_isIn 79 = .ok (.invokevirtual 34, 3) := dk_182 0 34 (dk_at dksX24_isIn_2 3 rfl rfl)
theorem dX24_isIn_82 : decode cX24_isIn 82 = .ok (.ifCond .eq 90, 3) := dk_153 0 90 (dk_at dksX24_isIn_2 6 rfl rfl)
theorem dX24_isIn_85 : decode cX24_isIn 85 = .ok (.iconst 0, 1) := dk_3 (dk_at dksX24_isIn_2 9 rfl rfl)
theorem dX24_isIn_86 : decode cX24_isIn 86 = .ok (.istore_n 3, 1) := dk_62 (dk_at dksX24_isIn_2 10 rfl rfl)
theorem dX24_isIn_87 : decode cX24_isIn 87 = .ok (.goto 85, 3) := dk_167 0 85 (dk_at dksX24_isIn_2 11 rfl rfl)
theorem dX24_isIn_90 : decode cX24_isIn 90 = .ok (.aload_n 2, 1) := dk_44 (dk_at dksX24_isIn_2 14 rfl rfl)
theorem dX24_isIn_91 : decode cX24_isIn 91 = .ok (.ldc 38, 2) := dk_18 38 (dk_at dksX24_isIn_2 15 rfl rfl)
theorem dX24_isIn_93 : decode cX24_isIn 93 = .ok (.invokevirtual 34, 3) := dk_182 0 34 (dk_at dksX24_isIn_2 17 rfl rfl)
theorem dX24_isIn_96 : decode cX24_isIn 96 = .ok (.ifCond .eq 76, 3) := dk_153 0 76 (dk_at dksX24_isIn_2 20 rfl rfl)
theorem dX24_isIn_99 : decode cX24_isIn 99 = .ok (.iconst 1, 1) := dk_4 (dk_at dksX24_isIn_2 23 rfl rfl)
theorem dX24_isIn_100 : decode cX24_isIn 100 = .ok (.istore_n 3, 1) := dk_62 (dk_at dksX24_isIn_3 0 rfl rfl)
theorem dX24_isIn_101 : decode cX24_isIn 101 = .ok (.goto 71, 3) := dk_167 0 71 (dk_at dksX24_isIn_3 1 rfl rfl)
theorem dX24_isIn_104 : decode cX24_isIn 104 = .ok (.aload_n 2, 1) := dk_44 (dk_at dksX24_isIn_3 4 rfl rfl)
theorem dX24_isIn_105 : decode cX24_isIn 105 = .ok (.ldc 40, 2) := dk_18 40 (dk_at dksX24_isIn_3 5 rfl rfl)
theorem dX24_isIn_107 : decode cX24_isIn 107 = .ok (.invokevirtual 34, 3) := dk_182 0 34 (dk_at dksX24_isIn_3 7 rfl rfl)
theorem dX24_isIn_110 : decode cX24_isIn 110 = .ok (.ifCond .eq 62, 3) := dk_153 0 62 (dk_at dksX24_isIn_3 10 rfl rfl)
theorem dX24_isIn_113 : decode cX24_isIn 113 = .ok (.iconst 2, 1) := dk_5 (dk_at dksX24_isIn_3 13 rfl rfl)
theorem dX24_isIn_114 : decode cX24_isIn 114 = .ok (.istore_n 3, 1) := dk_62 (dk_at dksX24_isIn_3 14 rfl rfl)
theorem dX24_isIn_115 : decode cX24_isIn 115 = .ok (.goto 57, 3) := dk_167 0 57 (dk_at dksX24_isIn_3 15 rfl rfl)
theorem dX24_isIn_118 : decode cX24_isIn 118 = .ok (.aload_n 2, 1) := dk_44 (dk_at dksX24_isIn_3 18 rfl rfl)
theorem dX24_isIn_119 : decode cX24_isIn 119 = .ok (.ldc 42, 2) := dk_18 42 (dk_at dksX24_isIn_3 19 rfl rfl)
theorem dX24_isIn_121 : decode cX24_isIn 121 = .ok (.invokevirtual 34, 3) := dk_182 0 34 (dk_at dksX24_isIn_3 21 rfl rfl)
theorem dX24_isIn_124 : decode cX24_isIn 124 = .ok (.ifCond .eq 48, 3) := dk_153 0 48 (dk_at dksX24_isIn_4 0 rfl rfl)
theorem dX24_isIn_127 : decode cX24_isIn 127 = .ok (.iconst 3, 1) := dk_6 (dk_at dksX24_isIn_4 3 rfl rfl)
theorem dX24_isIn_128 : decode cX24_isIn 128 = .ok (.istore_n 3, 1) := dk_62 (dk_at dksX24_isIn_4 4 rfl rfl)
theorem dX24_isIn_129 : decode cX24_isIn 129 = .ok (.goto 43, 3) := dk_167 0 43 (dk_at dksX24_isIn_4 5 rfl rfl)
theorem dX24_isIn_132 : decode cX24_isIn 132 = .ok (.aload_n 2, 1) := dk_44 (dk_at dksX24_isIn_4 8 rfl rfl)
theorem dX24_isIn_133 : decode cX24_isIn 133 = .ok (.ldc 44, 2) := dk_18 44 (dk_at dksX24_isIn_4 9 rfl rfl)
theorem dX24_isIn_135 : decode cX24_isIn 135 = .ok (.invokevirtual 34, 3) := dk_182 0 34 (dk_at dksX24_isIn_4 11 rfl rfl)
theorem dX24_isIn_138 : decode cX24_isIn 138 = .ok (.ifCond .eq 34, 3) := dk_153 0 34 (dk_at dksX24_isIn_4 14 rfl rfl)
theorem dX24_isIn_141 : decode cX24_isIn 141 = .ok (.iconst 4, 1) := dk_7 (dk_at dksX24_isIn_4 17 rfl rfl)
theorem dX24_isIn_142 : decode cX24_isIn 142 = .ok (.istore_n 3, 1) := dk_62 (dk_at dksX24_isIn_4 18 rfl rfl)
theorem dX24_isIn_143 : decode cX24_isIn 143 = .ok (.goto 29, 3) := dk_167 0 29 (dk_at dksX24_isIn_4 19 rfl rfl)
theorem dX24_isIn_146 : decode cX24_isIn 146 = .ok (.aload_n 2, 1) := dk_44 (dk_at dksX24_isIn_4 22 rfl rfl)
theorem dX24_isIn_147 : decode cX24_isIn 147 = .ok (.ldc 46, 2) := dk_18 46 (dk_at dksX24_isIn_5 0 rfl rfl)
theorem dX24_isIn_149 : decode cX24_isIn 149 = .ok (.invokevirtual 34, 3) := dk_182 0 34 (dk_at dksX24_isIn_5 2 rfl rfl)
theorem dX24_isIn_152 : decode cX24_isIn 152 = .ok (.ifCond .eq 20, 3) := dk_153 0 20 (dk_at dksX24_isIn_5 5 rfl rfl)
theorem dX24_isIn_155 : decode cX24_isIn 155 = .ok (.iconst 5, 1) := dk_8 (dk_at dksX24_isIn_5 8 rfl rfl)
theorem dX24_isIn_156 : decode cX24_isIn 156 = .ok (.istore_n 3, 1) := dk_62 (dk_at dksX24_isIn_5 9 rfl rfl)
theorem dX24_isIn_157 : decode cX24_isIn 157 = .ok (.goto 15, 3) := dk_167 0 15 (dk_at dksX24_isIn_5 10 rfl rfl)
theorem dX24_isIn_160 : decode cX24_isIn 160 = .ok (.aload_n 2, 1) := dk_44 (dk_at dksX24_isIn_5 13 rfl rfl)
theorem dX24_isIn_161 : decode cX24_isIn 161 = .ok (.ldc 48, 2) := dk_18 48 (dk_at dksX24_isIn_5 14 rfl rfl)
theorem dX24_isIn_163 : decode cX24_isIn 163 = .ok (.invokevirtual 34, 3) := dk_182 0 34 (dk_at dksX24_isIn_5 16 rfl rfl)
theorem dX24_isIn_166 : decode cX24_isIn 166 = .ok (.ifCond .eq 6, 3) := dk_153 0 6 (dk_at dksX24_isIn_5 19 rfl rfl)
theorem dX24_isIn_169 : decode cX24_isIn 169 = .ok (.bipush 6, 2) := dk_16 6 (dk_at dksX24_isIn_5 22 rfl rfl)
theorem dX24_isIn_171 : decode cX24_isIn 171 = .ok (.istore_n 3, 1) := dk_62 (dk_at dksX24_isIn_6 0 rfl rfl)
theorem dX24_isIn_172 : decode cX24_isIn 172 = .ok (.iload_n 3, 1) := dk_29 (dk_at dksX24_isIn_6 1 rfl rfl)
theorem dX24_isIn_173 : decode cX24_isIn 173 = .ok (.tableswitch 136 0 6 #[43, 77, 77, 86, 94, 102, 128], 43) := by decide +kernel
theorem dX24_isIn_216 : decode cX24_isIn 216 = .ok (.aload_n 0, 1) := dk_42 (dk_at dksX24_isIn_8 0 rfl rfl)
theorem dX24_isIn_217 : decode cX24_isIn 217 = .ok (.getfield 13, 3) := dk_180 0 13 (dk_at dksX24_isIn_8 1 rfl rfl)
theorem dX24_isIn_220 : decode cX24_isIn 220 = .ok (.invokestatic 50, 3) := dk_184 0 50 (dk_at dksX24_isIn_8 4 rfl rfl)
theorem dX24_isIn_223 : decode cX24_isIn 223 = .ok (.ifCond .eq 25, 3) := dk_153 0 25 (dk_at dksX24_isIn_8 7 rfl rfl)
theorem dX24_isIn_226 : decode cX24_isIn 226 = .ok (.aload_n 0, 1) := dk_42 (dk_at dksX24_isIn_8 10 rfl rfl)
theorem dX24_isIn_227 : decode cX24_isIn 227 = .ok (.getfield 17, 3) := dk_180 0 17 (dk_at dksX24_isIn_8 11 rfl rfl)
theorem dX24_isIn_230 : decode cX24_isIn 230 = .ok (.aload_n 0, 1) := dk_42 (dk_at dksX24_isIn_8 14 rfl rfl)
theorem dX24_isIn_231 : decode cX24_isIn 231 = .ok (.getfield 20, 3) := dk_180 0 20 (dk_at dksX24_isIn_8 15 rfl rfl)
theorem dX24_isIn_234 : decode cX24_isIn 234 = .ok (.aload_n 0, 1) := dk_42 (dk_at dksX24_isIn_8 18 rfl rfl)
theorem dX24_isIn_235 : decode cX24_isIn 235 = .ok (.getfield 23, 3) := dk_180 0 23 (dk_at dksX24_isIn_8 19 rfl rfl)
theorem dX24_isIn_238 : decode cX24_isIn 238 = .ok (.invokestatic 56, 3) := dk_184 0 56 (dk_at dksX24_isIn_9 0 rfl rfl)
theorem dX24_isIn_241 : decode cX24_isIn 241 = .ok (.ifCond .eq 7, 3) := dk_153 0 7 (dk_at dksX24_isIn_9 3 rfl rfl)
theorem dX24_isIn_244 : decode cX24_isIn 244 = .ok (.iconst 1, 1) := dk_4 (dk_at dksX24_isIn_9 6 rfl rfl)
theorem dX24_isIn_245 : decode cX24_isIn 245 = .ok (.goto 4, 3) := dk_167 0 4 (dk_at dksX24_isIn_9 7 rfl rfl)
theorem dX24_isIn_248 : decode cX24_isIn 248 = .ok (.iconst 0, 1) := dk_3 (dk_at dksX24_isIn_9 10 rfl rfl)
theorem dX24_isIn_249 : decode cX24_isIn 249 = .ok (.ireturn, 1) := dk_172 (dk_at dksX24_isIn_9 11 rfl rfl)
theorem dX24_isIn_250 : decode cX24_isIn 250 = .ok (.aload_n 1, 1) := dk_43 (dk_at dksX24_isIn_9 12 rfl rfl)
theorem dX24_isIn_251 : decode cX24_isIn 251 = .ok (.aload_n 0, 1) := dk_42 (dk_at dksX24_isIn_9 13 rfl rfl)
theorem dX24_isIn_252 : decode cX24_isIn 252 = .ok (.getfield 13, 3) := dk_180 0 13 (dk_at dksX24_isIn_9 14 rfl rfl)
theorem dX24_isIn_255 : decode cX24_isIn 255 = .ok (.invokevirtual 60, 3) := dk_182 0 60 (dk_at dksX24_isIn_9 17 rfl rfl)
theorem dX24_isIn_258 : decode cX24_isIn 258 = .ok (.ireturn, 1) := dk_172 (dk_at dksX24_isIn_9 20 rfl rfl)
theorem dX24_isIn_259 : decode cX24_isIn 259 = .ok (.aload_n 0, 1) := dk_42 (dk_at dksX24_isIn_9 21 rfl rfl)
theorem dX24_isIn_260 : decode cX24_isIn 260 = .ok (.getfield 13, 3) := dk_180 0 13 (dk_at dksX24_isIn_10 0 rfl rfl)
theorem dX24_isIn_263 : decode cX24_isIn 263 = .ok (.invokestatic 65, 3) := dk_184 0 65 (dk_at dksX24_isIn_10 3 rfl rfl)
theorem dX24_isIn_266 : decode cX24_isIn 266 = .ok (.ireturn, 1) := dk_172 (dk_at dksX24_isIn_10 6 rfl rfl)
theorem dX24_isIn_267 : decode cX24_isIn 267 = .ok (.aload_n 0, 1) := dk_42 (dk_at dksX24_isIn_10 7 rfl rfl)
theorem dX24_isIn_268 : decode cX24_isIn 268 = .ok (.getfield 13, 3) := dk_180 0 13 (dk_at dksX24_isIn_10 8 rfl rfl)
theorem dX24_isIn_271 : decode cX24_isIn 271 = .ok (.invokestatic 68, 3) := dk_184 0 68 (dk_at dksX24_isIn_10 11 rfl rfl)
theorem dX24_isIn_274 : decode cX24_isIn 274 = .ok (.ireturn, 1) := dk_172 (dk_at dksX24_isIn_10 14 rfl rfl)
theorem dX24_isIn_275 : decode cX24_isIn 275 = .ok (.aload_n 0, 1) := dk_42 (dk_at dksX24_isIn_10 15 rfl rfl)
theorem dX24_isIn_276 : decode cX24_isIn 276 = .ok (.getfield 13, 3) := dk_180 0 13 (dk_at dksX24_isIn_10 16 rfl rfl)
theorem dX24_isIn_279 : decode cX24_isIn 279 = .ok (.invokestatic 50, 3) := dk_184 0 50 (dk_at dksX24_isIn_10 19 rfl rfl)
theorem dX24_isIn_282 : decode cX24_isIn 282 = .ok (.ifCond .eq 17, 3) := dk_153 0 17 (dk_at dksX24_isIn_11 0 rfl rfl)
theorem dX24_isIn_285 : decode cX24_isIn 285 = .ok (.aload_n 0, 1) := dk_42 (dk_at dksX24_isIn_11 3 rfl rfl)
theorem dX24_isIn_286 : decode cX24_isIn 286 = .ok (.getfield 17, 3) := dk_180 0 17 (dk_at dksX24_isIn_11 4 rfl rfl)
theorem dX24_isIn_289 : decode cX24_isIn 289 = .ok (.invokestatic 71, 3) := dk_184 0 71 (dk_at dksX24_isIn_11 7 rfl rfl)
theorem dX24_isIn_292 : decode cX24_isIn 292 = .ok (.ifCond .eq 7, 3) := dk_153 0 7 (dk_at dksX24_isIn_11 10 rfl rfl)
theorem dX24_isIn_295 : decode cX24_isIn 295 = .ok (.iconst 1, 1) := dk_4 (dk_at dksX24_isIn_11 13 rfl rfl)
theorem dX24_isIn_296 : decode cX24_isIn 296 = .ok (.goto 4, 3) := dk_167 0 4 (dk_at dksX24_isIn_11 14 rfl rfl)
theorem dX24_isIn_299 : decode cX24_isIn 299 = .ok (.iconst 0, 1) := dk_3 (dk_at dksX24_isIn_11 17 rfl rfl)
theorem dX24_isIn_300 : decode cX24_isIn 300 = .ok (.ireturn, 1) := dk_172 (dk_at dksX24_isIn_11 18 rfl rfl)
theorem dX24_isIn_301 : decode cX24_isIn 301 = .ok (.aload_n 0, 1) := dk_42 (dk_at dksX24_isIn_11 19 rfl rfl)
theorem dX24_isIn_302 : decode cX24_isIn 302 = .ok (.getfield 13, 3) := dk_180 0 13 (dk_at dksX24_isIn_11 20 rfl rfl)
theorem dX24_isIn_305 : decode cX24_isIn 305 = .ok (.invokestatic 50, 3) := dk_184 0 50 (dk_at dksX24_isIn_12 0 rfl rfl)
theorem dX24_isIn_308 : decode cX24_isIn 308 = .ok (.ireturn, 1) := dk_172 (dk_at dksX24_isIn_12 3 rfl rfl)
theorem dX24_isIn_309 : decode cX24_isIn 309 = .ok (.aload_n 0, 1) := dk_42 (dk_at dksX24_isIn_12 4 rfl rfl)
theorem dX24_isIn_310 : decode cX24_isIn 310 = .ok (.getfield 13, 3) := dk_180 0 13 (dk_at dksX24_isIn_12 5 rfl rfl)
theorem dX24_isIn_313 : decode cX24_isIn 313 = .ok (.invokestatic 74, 3) := dk_184 0 74 (dk_at dksX24_isIn_12 8 rfl rfl)
theorem dX24_isIn_316 : decode cX24_isIn 316 = .ok (.ireturn, 1) := dk_172 (dk_at dksX24_isIn_12 11 rfl rfl)
abbrev cX24_does : ByteArray := prog_14_method_3_code
def yX24_does : MethodName := ⟨RX24, "does", "(LJokePump$Pump;)I"⟩
def dkwX24_does_11 : List UInt8 := [42, 180, 0, 13, 182, 0, 98, 172, 43, 42, 180, 0, 13, 182, 0, 101, 172]
abbrev dktX24_does_11 : List UInt8 := dkwX24_does_11 ++ []
def dkwX24_does_10 : List UInt8 := [172, 43, 42, 180, 0, 13, 182, 0, 91, 172, 43, 42, 180, 0, 13, 42, 180, 0, 17, 182, 0, 94, 172, 43]
abbrev dktX24_does_10 : List UInt8 := dkwX24_does_10 ++ dktX24_does_11
def dkwX24_does_9 : List UInt8 := [180, 0, 13, 182, 0, 81, 172, 43, 42, 180, 0, 13, 182, 0, 85, 172, 43, 42, 180, 0, 13, 182, 0, 88]
abbrev dktX24_does_9 : List UInt8 := dkwX24_does_9 ++ dktX24_does_10
def dkwX24_does_8 : List UInt8 := [43, 42, 180, 0, 13, 42, 180, 0, 17, 42, 180, 0, 20, 42, 180, 0, 23, 182, 0, 77, 172, 43, 42]
abbrev dktX24_does_8 : List UInt8 := dkwX24_does_8 ++ dktX24_does_9
def dkwX24_does_7 : List UInt8 := [170, 0, 0, 0, 0, 0, 122, 0, 0, 0, 0, 0, 0, 0, 6, 0, 0, 0, 43, 0, 0, 0, 64, 0, 0, 0, 73, 0, 0, 0, 82, 0, 0, 0, 91, 0, 0, 0, 100, 0, 0, 0, 113]
abbrev dktX24_does_7 : List UInt8 := dkwX24_does_7 ++ dktX24_does_8
def dkwX24_does_6 : List UInt8 := [62, 29]
abbrev dktX24_does_6 : List UInt8 := dkwX24_does_6 ++ dktX24_does_7
def dkwX24_does_5 : List UInt8 := [18, 46, 182, 0, 34, 153, 0, 20, 8, 62, 167, 0, 15, 44, 18, 48, 182, 0, 34, 153, 0, 6, 16, 6]
abbrev dktX24_does_5 : List UInt8 := dkwX24_does_5 ++ dktX24_does_6
def dkwX24_does_4 : List UInt8 := [153, 0, 48, 6, 62, 167, 0, 43, 44, 18, 44, 182, 0, 34, 153, 0, 34, 7, 62, 167, 0, 29, 44]
abbrev dktX24_does_4 : List UInt8 := dkwX24_does_4 ++ dktX24_does_5
def dkwX24_does_3 : List UInt8 := [62, 167, 0, 71, 44, 18, 40, 182, 0, 34, 153, 0, 62, 5, 62, 167, 0, 57, 44, 18, 42, 182, 0, 34]
abbrev dktX24_does_3 : List UInt8 := dkwX24_does_3 ++ dktX24_does_4
def dkwX24_does_2 : List UInt8 := [44, 18, 32, 182, 0, 34, 153, 0, 90, 3, 62, 167, 0, 85, 44, 18, 38, 182, 0, 34, 153, 0, 76, 4]
abbrev dktX24_does_2 : List UInt8 := dkwX24_does_2 ++ dktX24_does_3
def dkwX24_does_1 : List UInt8 := [171, 0, 0, 0, 161, 0, 0, 0, 7, 173, 218, 73, 234, 0, 0, 0, 135, 202, 213, 118, 56, 0, 0, 0, 121, 0, 0, 12, 232, 0, 0, 0, 149, 0, 47, 46, 239, 0, 0, 0, 93, 0, 49, 221, 95, 0, 0, 0, 65, 5, 182, 121, 248, 0, 0, 0, 107, 6, 95, 178, 127, 0, 0, 0, 79]
abbrev dktX24_does_1 : List UInt8 := dkwX24_does_1 ++ dktX24_does_2
def dkwX24_does_0 : List UInt8 := [42, 180, 0, 7, 77, 2, 62, 44, 182, 0, 26]
abbrev dktX24_does_0 : List UInt8 := dkwX24_does_0 ++ dktX24_does_1
theorem dksX24_does_0 : cX24_does.data.toList.drop 0 = dktX24_does_0 := by decide +kernel
theorem dksX24_does_1 : cX24_does.data.toList.drop 11 = dktX24_does_1 := dk_seg dksX24_does_0 11 rfl rfl
theorem dksX24_does_2 : cX24_does.data.toList.drop 76 = dktX24_does_2 := dk_seg dksX24_does_1 65 rfl rfl
theorem dksX24_does_3 : cX24_does.data.toList.drop 100 = dktX24_does_3 := dk_seg dksX24_does_2 24 rfl rfl
theorem dksX24_does_4 : cX24_does.data.toList.drop 124 = dktX24_does_4 := dk_seg dksX24_does_3 24 rfl rfl
theorem dksX24_does_5 : cX24_does.data.toList.drop 147 = dktX24_does_5 := dk_seg dksX24_does_4 23 rfl rfl
theorem dksX24_does_6 : cX24_does.data.toList.drop 171 = dktX24_does_6 := dk_seg dksX24_does_5 24 rfl rfl
theorem dksX24_does_7 : cX24_does.data.toList.drop 173 = dktX24_does_7 := dk_seg dksX24_does_6 2 rfl rfl
theorem dksX24_does_8 : cX24_does.data.toList.drop 216 = dktX24_does_8 := dk_seg dksX24_does_7 43 rfl rfl
theorem dksX24_does_9 : cX24_does.data.toList.drop 239 = dktX24_does_9 := dk_seg dksX24_does_8 23 rfl rfl
theorem dksX24_does_10 : cX24_does.data.toList.drop 263 = dktX24_does_10 := dk_seg dksX24_does_9 24 rfl rfl
theorem dksX24_does_11 : cX24_does.data.toList.drop 287 = dktX24_does_11 := dk_seg dksX24_does_10 24 rfl rfl
theorem dX24_does_0 : decode cX24_does 0 = .ok (.aload_n 0, 1) := dk_42 (dk_at dksX24_does_0 0 rfl rfl)
theorem dX24_does_1 : decode cX24_does 1 = .ok (.getfield 7, 3) := dk_180 0 7 (dk_at dksX24_does_0 1 rfl rfl)
theorem dX24_does_4 : decode cX24_does 4 = .ok (.astore_n 2, 1) := dk_77 (dk_at dksX24_does_0 4 rfl rfl)
theorem dX24_does_5 : decode cX24_does 5 = .ok (.iconst (-1), 1) := dk_2 (dk_at dksX24_does_0 5 rfl rfl)
theorem dX24_does_6 : decode cX24_does 6 = .ok (.istore_n 3, 1) := dk_62 (dk_at dksX24_does_0 6 rfl rfl)
theorem dX24_does_7 : decode cX24_does 7 = .ok (.aload_n 2, 1) := dk_44 (dk_at dksX24_does_0 7 rfl rfl)
theorem dX24_does_8 : decode cX24_does 8 = .ok (.invokevirtual 26, 3) := dk_182 0 26 (dk_at dksX24_does_0 8 rfl rfl)
theorem dX24_does_11 : decode cX24_does 11 = .ok (.lookupswitch 161 #[(-1378203158, 135), (-891980232, 121), (3304, 149), (3092207, 93), (3267935, 65), (95844856, 107), (106934911, 79)], 65) := by decide +kernel
theorem dX24_does_76 : decode cX24_does 76 = .ok (.aload_n 2, 1) := dk_44 (dk_at dksX24_does_2 0 rfl rfl)
theorem dX24_does_77 : decode cX24_does 77 = .ok (.ldc 32, 2) := dk_18 32 (dk_at dksX24_does_2 1 rfl rfl)
theorem dX24_does_79 : decode cX24_does 79 = .ok (.invokevirtual 34, 3) := dk_182 0 34 (dk_at dksX24_does_2 3 rfl rfl)
theorem dX24_does_82 : decode cX24_does 82 = .ok (.ifCond .eq 90, 3) := dk_153 0 90 (dk_at dksX24_does_2 6 rfl rfl)
theorem dX24_does_85 : decode cX24_does 85 = .ok (.iconst 0, 1) := dk_3 (dk_at dksX24_does_2 9 rfl rfl)
theorem dX24_does_86 : decode cX24_does 86 = .ok (.istore_n 3, 1) := dk_62 (dk_at dksX24_does_2 10 rfl rfl)
theorem dX24_does_87 : decode cX24_does 87 = .ok (.goto 85, 3) := dk_167 0 85 (dk_at dksX24_does_2 11 rfl rfl)
theorem dX24_does_90 : decode cX24_does 90 = .ok (.aload_n 2, 1) := dk_44 (dk_at dksX24_does_2 14 rfl rfl)
theorem dX24_does_91 : decode cX24_does 91 = .ok (.ldc 38, 2) := dk_18 38 (dk_at dksX24_does_2 15 rfl rfl)
theorem dX24_does_93 : decode cX24_does 93 = .ok (.invokevirtual 34, 3) := dk_182 0 34 (dk_at dksX24_does_2 17 rfl rfl)
theorem dX24_does_96 : decode cX24_does 96 = .ok (.ifCond .eq 76, 3) := dk_153 0 76 (dk_at dksX24_does_2 20 rfl rfl)
theorem dX24_does_99 : decode cX24_does 99 = .ok (.iconst 1, 1) := dk_4 (dk_at dksX24_does_2 23 rfl rfl)
theorem dX24_does_100 : decode cX24_does 100 = .ok (.istore_n 3, 1) := dk_62 (dk_at dksX24_does_3 0 rfl rfl)
theorem dX24_does_101 : decode cX24_does 101 = .ok (.goto 71, 3) := dk_167 0 71 (dk_at dksX24_does_3 1 rfl rfl)
theorem dX24_does_104 : decode cX24_does 104 = .ok (.aload_n 2, 1) := dk_44 (dk_at dksX24_does_3 4 rfl rfl)
theorem dX24_does_105 : decode cX24_does 105 = .ok (.ldc 40, 2) := dk_18 40 (dk_at dksX24_does_3 5 rfl rfl)
theorem dX24_does_107 : decode cX24_does 107 = .ok (.invokevirtual 34, 3) := dk_182 0 34 (dk_at dksX24_does_3 7 rfl rfl)
theorem dX24_does_110 : decode cX24_does 110 = .ok (.ifCond .eq 62, 3) := dk_153 0 62 (dk_at dksX24_does_3 10 rfl rfl)
theorem dX24_does_113 : decode cX24_does 113 = .ok (.iconst 2, 1) := dk_5 (dk_at dksX24_does_3 13 rfl rfl)
theorem dX24_does_114 : decode cX24_does 114 = .ok (.istore_n 3, 1) := dk_62 (dk_at dksX24_does_3 14 rfl rfl)
theorem dX24_does_115 : decode cX24_does 115 = .ok (.goto 57, 3) := dk_167 0 57 (dk_at dksX24_does_3 15 rfl rfl)
theorem dX24_does_118 : decode cX24_does 118 = .ok (.aload_n 2, 1) := dk_44 (dk_at dksX24_does_3 18 rfl rfl)
theorem dX24_does_119 : decode cX24_does 119 = .ok (.ldc 42, 2) := dk_18 42 (dk_at dksX24_does_3 19 rfl rfl)
theorem dX24_does_121 : decode cX24_does 121 = .ok (.invokevirtual 34, 3) := dk_182 0 34 (dk_at dksX24_does_3 21 rfl rfl)
theorem dX24_does_124 : decode cX24_does 124 = .ok (.ifCond .eq 48, 3) := dk_153 0 48 (dk_at dksX24_does_4 0 rfl rfl)
theorem dX24_does_127 : decode cX24_does 127 = .ok (.iconst 3, 1) := dk_6 (dk_at dksX24_does_4 3 rfl rfl)
theorem dX24_does_128 : decode cX24_does 128 = .ok (.istore_n 3, 1) := dk_62 (dk_at dksX24_does_4 4 rfl rfl)
theorem dX24_does_129 : decode cX24_does 129 = .ok (.goto 43, 3) := dk_167 0 43 (dk_at dksX24_does_4 5 rfl rfl)
theorem dX24_does_132 : decode cX24_does 132 = .ok (.aload_n 2, 1) := dk_44 (dk_at dksX24_does_4 8 rfl rfl)
theorem dX24_does_133 : decode cX24_does 133 = .ok (.ldc 44, 2) := dk_18 44 (dk_at dksX24_does_4 9 rfl rfl)
theorem dX24_does_135 : decode cX24_does 135 = .ok (.invokevirtual 34, 3) := dk_182 0 34 (dk_at dksX24_does_4 11 rfl rfl)
theorem dX24_does_138 : decode cX24_does 138 = .ok (.ifCond .eq 34, 3) := dk_153 0 34 (dk_at dksX24_does_4 14 rfl rfl)
theorem dX24_does_141 : decode cX24_does 141 = .ok (.iconst 4, 1) := dk_7 (dk_at dksX24_does_4 17 rfl rfl)
theorem dX24_does_142 : decode cX24_does 142 = .ok (.istore_n 3, 1) := dk_62 (dk_at dksX24_does_4 18 rfl rfl)
theorem dX24_does_143 : decode cX24_does 143 = .ok (.goto 29, 3) := dk_167 0 29 (dk_at dksX24_does_4 19 rfl rfl)
theorem dX24_does_146 : decode cX24_does 146 = .ok (.aload_n 2, 1) := dk_44 (dk_at dksX24_does_4 22 rfl rfl)
theorem dX24_does_147 : decode cX24_does 147 = .ok (.ldc 46, 2) := dk_18 46 (dk_at dksX24_does_5 0 rfl rfl)
theorem dX24_does_149 : decode cX24_does 149 = .ok (.invokevirtual 34, 3) := dk_182 0 34 (dk_at dksX24_does_5 2 rfl rfl)
theorem dX24_does_152 : decode cX24_does 152 = .ok (.ifCond .eq 20, 3) := dk_153 0 20 (dk_at dksX24_does_5 5 rfl rfl)
theorem dX24_does_155 : decode cX24_does 155 = .ok (.iconst 5, 1) := dk_8 (dk_at dksX24_does_5 8 rfl rfl)
theorem dX24_does_156 : decode cX24_does 156 = .ok (.istore_n 3, 1) := dk_62 (dk_at dksX24_does_5 9 rfl rfl)
theorem dX24_does_157 : decode cX24_does 157 = .ok (.goto 15, 3) := dk_167 0 15 (dk_at dksX24_does_5 10 rfl rfl)
theorem dX24_does_160 : decode cX24_does 160 = .ok (.aload_n 2, 1) := dk_44 (dk_at dksX24_does_5 13 rfl rfl)
theorem dX24_does_161 : decode cX24_does 161 = .ok (.ldc 48, 2) := dk_18 48 (dk_at dksX24_does_5 14 rfl rfl)
theorem dX24_does_163 : decode cX24_does 163 = .ok (.invokevirtual 34, 3) := dk_182 0 34 (dk_at dksX24_does_5 16 rfl rfl)
theorem dX24_does_166 : decode cX24_does 166 = .ok (.ifCond .eq 6, 3) := dk_153 0 6 (dk_at dksX24_does_5 19 rfl rfl)
theorem dX24_does_169 : decode cX24_does 169 = .ok (.bipush 6, 2) := dk_16 6 (dk_at dksX24_does_5 22 rfl rfl)
theorem dX24_does_171 : decode cX24_does 171 = .ok (.istore_n 3, 1) := dk_62 (dk_at dksX24_does_6 0 rfl rfl)
theorem dX24_does_172 : decode cX24_does 172 = .ok (.iload_n 3, 1) := dk_29 (dk_at dksX24_does_6 1 rfl rfl)
theorem dX24_does_173 : decode cX24_does 173 = .ok (.tableswitch 122 0 6 #[43, 64, 73, 82, 91, 100, 113], 43) := by decide +kernel
theorem dX24_does_216 : decode cX24_does 216 = .ok (.aload_n 1, 1) := dk_43 (dk_at dksX24_does_8 0 rfl rfl)
theorem dX24_does_217 : decode cX24_does 217 = .ok (.aload_n 0, 1) := dk_42 (dk_at dksX24_does_8 1 rfl rfl)
theorem dX24_does_218 : decode cX24_does 218 = .ok (.getfield 13, 3) := dk_180 0 13 (dk_at dksX24_does_8 2 rfl rfl)
theorem dX24_does_221 : decode cX24_does 221 = .ok (.aload_n 0, 1) := dk_42 (dk_at dksX24_does_8 5 rfl rfl)
theorem dX24_does_222 : decode cX24_does 222 = .ok (.getfield 17, 3) := dk_180 0 17 (dk_at dksX24_does_8 6 rfl rfl)
theorem dX24_does_225 : decode cX24_does 225 = .ok (.aload_n 0, 1) := dk_42 (dk_at dksX24_does_8 9 rfl rfl)
theorem dX24_does_226 : decode cX24_does 226 = .ok (.getfield 20, 3) := dk_180 0 20 (dk_at dksX24_does_8 10 rfl rfl)
theorem dX24_does_229 : decode cX24_does 229 = .ok (.aload_n 0, 1) := dk_42 (dk_at dksX24_does_8 13 rfl rfl)
theorem dX24_does_230 : decode cX24_does 230 = .ok (.getfield 23, 3) := dk_180 0 23 (dk_at dksX24_does_8 14 rfl rfl)
theorem dX24_does_233 : decode cX24_does 233 = .ok (.invokevirtual 77, 3) := dk_182 0 77 (dk_at dksX24_does_8 17 rfl rfl)
theorem dX24_does_236 : decode cX24_does 236 = .ok (.ireturn, 1) := dk_172 (dk_at dksX24_does_8 20 rfl rfl)
theorem dX24_does_237 : decode cX24_does 237 = .ok (.aload_n 1, 1) := dk_43 (dk_at dksX24_does_8 21 rfl rfl)
theorem dX24_does_238 : decode cX24_does 238 = .ok (.aload_n 0, 1) := dk_42 (dk_at dksX24_does_8 22 rfl rfl)
theorem dX24_does_239 : decode cX24_does 239 = .ok (.getfield 13, 3) := dk_180 0 13 (dk_at dksX24_does_9 0 rfl rfl)
theorem dX24_does_242 : decode cX24_does 242 = .ok (.invokevirtual 81, 3) := dk_182 0 81 (dk_at dksX24_does_9 3 rfl rfl)
theorem dX24_does_245 : decode cX24_does 245 = .ok (.ireturn, 1) := dk_172 (dk_at dksX24_does_9 6 rfl rfl)
theorem dX24_does_246 : decode cX24_does 246 = .ok (.aload_n 1, 1) := dk_43 (dk_at dksX24_does_9 7 rfl rfl)
theorem dX24_does_247 : decode cX24_does 247 = .ok (.aload_n 0, 1) := dk_42 (dk_at dksX24_does_9 8 rfl rfl)
theorem dX24_does_248 : decode cX24_does 248 = .ok (.getfield 13, 3) := dk_180 0 13 (dk_at dksX24_does_9 9 rfl rfl)
theorem dX24_does_251 : decode cX24_does 251 = .ok (.invokevirtual 85, 3) := dk_182 0 85 (dk_at dksX24_does_9 12 rfl rfl)
theorem dX24_does_254 : decode cX24_does 254 = .ok (.ireturn, 1) := dk_172 (dk_at dksX24_does_9 15 rfl rfl)
theorem dX24_does_255 : decode cX24_does 255 = .ok (.aload_n 1, 1) := dk_43 (dk_at dksX24_does_9 16 rfl rfl)
theorem dX24_does_256 : decode cX24_does 256 = .ok (.aload_n 0, 1) := dk_42 (dk_at dksX24_does_9 17 rfl rfl)
theorem dX24_does_257 : decode cX24_does 257 = .ok (.getfield 13, 3) := dk_180 0 13 (dk_at dksX24_does_9 18 rfl rfl)
theorem dX24_does_260 : decode cX24_does 260 = .ok (.invokevirtual 88, 3) := dk_182 0 88 (dk_at dksX24_does_9 21 rfl rfl)
theorem dX24_does_263 : decode cX24_does 263 = .ok (.ireturn, 1) := dk_172 (dk_at dksX24_does_10 0 rfl rfl)
theorem dX24_does_264 : decode cX24_does 264 = .ok (.aload_n 1, 1) := dk_43 (dk_at dksX24_does_10 1 rfl rfl)
theorem dX24_does_265 : decode cX24_does 265 = .ok (.aload_n 0, 1) := dk_42 (dk_at dksX24_does_10 2 rfl rfl)
theorem dX24_does_266 : decode cX24_does 266 = .ok (.getfield 13, 3) := dk_180 0 13 (dk_at dksX24_does_10 3 rfl rfl)
theorem dX24_does_269 : decode cX24_does 269 = .ok (.invokevirtual 91, 3) := dk_182 0 91 (dk_at dksX24_does_10 6 rfl rfl)
theorem dX24_does_272 : decode cX24_does 272 = .ok (.ireturn, 1) := dk_172 (dk_at dksX24_does_10 9 rfl rfl)
theorem dX24_does_273 : decode cX24_does 273 = .ok (.aload_n 1, 1) := dk_43 (dk_at dksX24_does_10 10 rfl rfl)
theorem dX24_does_274 : decode cX24_does 274 = .ok (.aload_n 0, 1) := dk_42 (dk_at dksX24_does_10 11 rfl rfl)
theorem dX24_does_275 : decode cX24_does 275 = .ok (.getfield 13, 3) := dk_180 0 13 (dk_at dksX24_does_10 12 rfl rfl)
theorem dX24_does_278 : decode cX24_does 278 = .ok (.aload_n 0, 1) := dk_42 (dk_at dksX24_does_10 15 rfl rfl)
theorem dX24_does_279 : decode cX24_does 279 = .ok (.getfield 17, 3) := dk_180 0 17 (dk_at dksX24_does_10 16 rfl rfl)
theorem dX24_does_282 : decode cX24_does 282 = .ok (.invokevirtual 94, 3) := dk_182 0 94 (dk_at dksX24_does_10 19 rfl rfl)
theorem dX24_does_285 : decode cX24_does 285 = .ok (.ireturn, 1) := dk_172 (dk_at dksX24_does_10 22 rfl rfl)
theorem dX24_does_286 : decode cX24_does 286 = .ok (.aload_n 1, 1) := dk_43 (dk_at dksX24_does_10 23 rfl rfl)
theorem dX24_does_287 : decode cX24_does 287 = .ok (.aload_n 0, 1) := dk_42 (dk_at dksX24_does_11 0 rfl rfl)
theorem dX24_does_288 : decode cX24_does 288 = .ok (.getfield 13, 3) := dk_180 0 13 (dk_at dksX24_does_11 1 rfl rfl)
theorem dX24_does_291 : decode cX24_does 291 = .ok (.invokevirtual 98, 3) := dk_182 0 98 (dk_at dksX24_does_11 4 rfl rfl)
theorem dX24_does_294 : decode cX24_does 294 = .ok (.ireturn, 1) := dk_172 (dk_at dksX24_does_11 7 rfl rfl)
theorem dX24_does_295 : decode cX24_does 295 = .ok (.aload_n 1, 1) := dk_43 (dk_at dksX24_does_11 8 rfl rfl)
theorem dX24_does_296 : decode cX24_does 296 = .ok (.aload_n 0, 1) := dk_42 (dk_at dksX24_does_11 9 rfl rfl)
theorem dX24_does_297 : decode cX24_does 297 = .ok (.getfield 13, 3) := dk_180 0 13 (dk_at dksX24_does_11 10 rfl rfl)
theorem dX24_does_300 : decode cX24_does 300 = .ok (.invokevirtual 101, 3) := dk_182 0 101 (dk_at dksX24_does_11 13 rfl rfl)
theorem dX24_does_303 : decode cX24_does 303 = .ok (.ireturn, 1) := dk_172 (dk_at dksX24_does_11 16 rfl rfl)
abbrev cX24_equals : ByteArray := prog_14_method_6_code
def yX24_equals : MethodName := ⟨RX24, "equals", "(Ljava/lang/Object;)Z"⟩
def dkwX24_equals_0 : List UInt8 := [42, 43, 186, 0, 111, 0, 0, 172]
abbrev dktX24_equals_0 : List UInt8 := dkwX24_equals_0 ++ []
theorem dksX24_equals_0 : cX24_equals.data.toList.drop 0 = dktX24_equals_0 := by decide +kernel
theorem dX24_equals_0 : decode cX24_equals 0 = .ok (.aload_n 0, 1) := dk_42 (dk_at dksX24_equals_0 0 rfl rfl)
theorem dX24_equals_1 : decode cX24_equals 1 = .ok (.aload_n 1, 1) := dk_43 (dk_at dksX24_equals_0 1 rfl rfl)
theorem dX24_equals_2 : decode cX24_equals 2 = .ok (.invokedynamic 111, 5) := by decide +kernel
theorem dX24_equals_7 : decode cX24_equals 7 = .ok (.ireturn, 1) := dk_172 (dk_at dksX24_equals_0 7 rfl rfl)
abbrev cX24_init : ByteArray := prog_14_method_1_code
def yX24_init : MethodName := ⟨RX24, "<init>", "(Ljava/lang/String;IIII)V"⟩
def dkwX24_init_1 : List UInt8 := [181, 0, 20, 42, 21, 5, 181, 0, 23, 177]
abbrev dktX24_init_1 : List UInt8 := dkwX24_init_1 ++ []
def dkwX24_init_0 : List UInt8 := [42, 183, 0, 1, 42, 43, 181, 0, 7, 42, 28, 181, 0, 13, 42, 29, 181, 0, 17, 42, 21, 4]
abbrev dktX24_init_0 : List UInt8 := dkwX24_init_0 ++ dktX24_init_1
theorem dksX24_init_0 : cX24_init.data.toList.drop 0 = dktX24_init_0 := by decide +kernel
theorem dksX24_init_1 : cX24_init.data.toList.drop 22 = dktX24_init_1 := dk_seg dksX24_init_0 22 rfl rfl
theorem dX24_init_0 : decode cX24_init 0 = .ok (.aload_n 0, 1) := dk_42 (dk_at dksX24_init_0 0 rfl rfl)
theorem dX24_init_1 : decode cX24_init 1 = .ok (.invokespecial 1, 3) := dk_183 0 1 (dk_at dksX24_init_0 1 rfl rfl)
theorem dX24_init_4 : decode cX24_init 4 = .ok (.aload_n 0, 1) := dk_42 (dk_at dksX24_init_0 4 rfl rfl)
theorem dX24_init_5 : decode cX24_init 5 = .ok (.aload_n 1, 1) := dk_43 (dk_at dksX24_init_0 5 rfl rfl)
theorem dX24_init_6 : decode cX24_init 6 = .ok (.putfield 7, 3) := dk_181 0 7 (dk_at dksX24_init_0 6 rfl rfl)
theorem dX24_init_9 : decode cX24_init 9 = .ok (.aload_n 0, 1) := dk_42 (dk_at dksX24_init_0 9 rfl rfl)
theorem dX24_init_10 : decode cX24_init 10 = .ok (.iload_n 2, 1) := dk_28 (dk_at dksX24_init_0 10 rfl rfl)
theorem dX24_init_11 : decode cX24_init 11 = .ok (.putfield 13, 3) := dk_181 0 13 (dk_at dksX24_init_0 11 rfl rfl)
theorem dX24_init_14 : decode cX24_init 14 = .ok (.aload_n 0, 1) := dk_42 (dk_at dksX24_init_0 14 rfl rfl)
theorem dX24_init_15 : decode cX24_init 15 = .ok (.iload_n 3, 1) := dk_29 (dk_at dksX24_init_0 15 rfl rfl)
theorem dX24_init_16 : decode cX24_init 16 = .ok (.putfield 17, 3) := dk_181 0 17 (dk_at dksX24_init_0 16 rfl rfl)
theorem dX24_init_19 : decode cX24_init 19 = .ok (.aload_n 0, 1) := dk_42 (dk_at dksX24_init_0 19 rfl rfl)
theorem dX24_init_20 : decode cX24_init 20 = .ok (.iload 4, 2) := dk_21 4 (dk_at dksX24_init_0 20 rfl rfl)
theorem dX24_init_22 : decode cX24_init 22 = .ok (.putfield 20, 3) := dk_181 0 20 (dk_at dksX24_init_1 0 rfl rfl)
theorem dX24_init_25 : decode cX24_init 25 = .ok (.aload_n 0, 1) := dk_42 (dk_at dksX24_init_1 3 rfl rfl)
theorem dX24_init_26 : decode cX24_init 26 = .ok (.iload 5, 2) := dk_21 5 (dk_at dksX24_init_1 4 rfl rfl)
theorem dX24_init_28 : decode cX24_init 28 = .ok (.putfield 23, 3) := dk_181 0 23 (dk_at dksX24_init_1 6 rfl rfl)
theorem dX24_init_31 : decode cX24_init 31 = .ok (.return_, 1) := dk_177 (dk_at dksX24_init_1 9 rfl rfl)
theorem q135 : (Jvm.Cond.initialized "JokePump$Command") ∈ lw_all := lw_g (lw_at lw_m1 51 rfl) rfl
theorem q654 : (Jvm.Cond.selects "JokePump$Command" ({ cls := "java/lang/Object", name := "getClass", desc := "()Ljava/lang/Class;" } : Jvm.MethodName) ({ cls := "java/lang/Object", name := "getClass", desc := "()Ljava/lang/Class;" } : Jvm.MethodName)) ∈ lw_all := lw_g (lw_at lw_m3 90 rfl) rfl
theorem q780 : (Jvm.Cond.instanceMethod ({ cls := "JokePump$Command", name := "isIn", desc := "(LJokePump$Pump;)Z" } : Jvm.MethodName)) ∈ lw_all := lw_g (lw_at lw_m3 216 rfl) rfl
theorem q781 : (Jvm.Cond.selects "JokePump$Command" ({ cls := "JokePump$Command", name := "isIn", desc := "(LJokePump$Pump;)Z" } : Jvm.MethodName) ({ cls := "JokePump$Command", name := "isIn", desc := "(LJokePump$Pump;)Z" } : Jvm.MethodName)) ∈ lw_all := lw_g (lw_at lw_m3 217 rfl) rfl
theorem q782 : (Jvm.Cond.code ({ cls := "JokePump$Command", name := "isIn", desc := "(LJokePump$Pump;)Z" } : Jvm.MethodName) prog_14_method_2_code (4 : Nat) (Option.some Jvm.ClassFile.FieldType.boolean)) ∈ lw_all := lw_g (lw_at lw_m3 218 rfl) rfl
theorem q783 : (Jvm.Cond.methodLink "JokePump$Command" (26 : Nat) ({ cls := "java/lang/String", name := "hashCode", desc := "()I" } : Jvm.MethodName)) ∈ lw_all := lw_g (lw_at lw_m3 219 rfl) rfl
theorem q850 : (Jvm.Cond.stringRef "JokePump$Command" (32 : Nat) "joke") ∈ lw_tbl := lw_at lw_m4 46 rfl
theorem q851 : (Jvm.Cond.methodLink "JokePump$Command" (34 : Nat) ({ cls := "java/lang/String", name := "equals", desc := "(Ljava/lang/Object;)Z" } : Jvm.MethodName)) ∈ lw_all := lw_g (lw_at lw_m4 47 rfl) rfl
theorem q859 : (Jvm.Cond.stringRef "JokePump$Command" (38 : Nat) "prime") ∈ lw_tbl := lw_at lw_m4 55 rfl
theorem q860 : (Jvm.Cond.stringRef "JokePump$Command" (40 : Nat) "drop") ∈ lw_tbl := lw_at lw_m4 56 rfl
theorem q861 : (Jvm.Cond.stringRef "JokePump$Command" (42 : Nat) "drain") ∈ lw_tbl := lw_at lw_m4 57 rfl
theorem q862 : (Jvm.Cond.stringRef "JokePump$Command" (44 : Nat) "stroke") ∈ lw_tbl := lw_at lw_m4 58 rfl
theorem q863 : (Jvm.Cond.stringRef "JokePump$Command" (46 : Nat) "bucket") ∈ lw_tbl := lw_at lw_m4 59 rfl
theorem q864 : (Jvm.Cond.stringRef "JokePump$Command" (48 : Nat) "go") ∈ lw_tbl := lw_at lw_m4 60 rfl
theorem q865 : (Jvm.Cond.methodLinkNest "JokePump$Command" (50 : Nat) ({ cls := "JokePump", name := "isWell", desc := "(I)Z" } : Jvm.MethodName) "JokePump") ∈ lw_tbl := lw_at lw_m4 61 rfl
theorem q866 : (Jvm.Cond.methodLinkNest "JokePump$Command" (56 : Nat) ({ cls := "JokePump", name := "areNumbers", desc := "(III)Z" } : Jvm.MethodName) "JokePump") ∈ lw_tbl := lw_at lw_m4 62 rfl
theorem q867 : (Jvm.Cond.methodLink "JokePump$Command" (60 : Nat) ({ cls := "JokePump$Pump", name := "hasJoke", desc := "(I)Z" } : Jvm.MethodName)) ∈ lw_all := lw_g (lw_at lw_m4 63 rfl) rfl
theorem q872 : (Jvm.Cond.methodLinkNest "JokePump$Command" (65 : Nat) ({ cls := "JokePump", name := "isDrain", desc := "(I)Z" } : Jvm.MethodName) "JokePump") ∈ lw_tbl := lw_at lw_m4 68 rfl
theorem q875 : (Jvm.Cond.methodLinkNest "JokePump$Command" (68 : Nat) ({ cls := "JokePump", name := "isStroke", desc := "(I)Z" } : Jvm.MethodName) "JokePump") ∈ lw_tbl := lw_at lw_m4 71 rfl
theorem q878 : (Jvm.Cond.methodLinkNest "JokePump$Command" (71 : Nat) ({ cls := "JokePump", name := "isBucket", desc := "(I)Z" } : Jvm.MethodName) "JokePump") ∈ lw_tbl := lw_at lw_m4 74 rfl
theorem q881 : (Jvm.Cond.methodLinkNest "JokePump$Command" (74 : Nat) ({ cls := "JokePump", name := "areStrokes", desc := "(I)Z" } : Jvm.MethodName) "JokePump") ∈ lw_tbl := lw_at lw_m4 77 rfl
theorem q902 : (Jvm.Cond.instanceMethod ({ cls := "JokePump$Command", name := "does", desc := "(LJokePump$Pump;)I" } : Jvm.MethodName)) ∈ lw_all := lw_g (lw_at lw_m4 98 rfl) rfl
theorem q903 : (Jvm.Cond.selects "JokePump$Command" ({ cls := "JokePump$Command", name := "does", desc := "(LJokePump$Pump;)I" } : Jvm.MethodName) ({ cls := "JokePump$Command", name := "does", desc := "(LJokePump$Pump;)I" } : Jvm.MethodName)) ∈ lw_all := lw_g (lw_at lw_m4 99 rfl) rfl
theorem q904 : (Jvm.Cond.code ({ cls := "JokePump$Command", name := "does", desc := "(LJokePump$Pump;)I" } : Jvm.MethodName) prog_14_method_3_code (4 : Nat) (Option.some Jvm.ClassFile.FieldType.int)) ∈ lw_all := lw_g (lw_at lw_m4 100 rfl) rfl
theorem q905 : (Jvm.Cond.methodLink "JokePump$Command" (77 : Nat) ({ cls := "JokePump$Pump", name := "comes", desc := "(IIII)I" } : Jvm.MethodName)) ∈ lw_all := lw_g (lw_at lw_m4 101 rfl) rfl
theorem q906 : (Jvm.Cond.methodLink "JokePump$Command" (81 : Nat) ({ cls := "JokePump$Pump", name := "primes", desc := "(I)I" } : Jvm.MethodName)) ∈ lw_all := lw_g (lw_at lw_m4 102 rfl) rfl
theorem q924 : (Jvm.Cond.methodLink "JokePump$Command" (85 : Nat) ({ cls := "JokePump$Pump", name := "goesAway", desc := "(I)I" } : Jvm.MethodName)) ∈ lw_all := lw_g (lw_at lw_m4 120 rfl) rfl
theorem q953 : (Jvm.Cond.selects "JokePump$Command" ({ cls := "java/lang/Object", name := "equals", desc := "(Ljava/lang/Object;)Z" } : Jvm.MethodName) ({ cls := "JokePump$Command", name := "equals", desc := "(Ljava/lang/Object;)Z" } : Jvm.MethodName)) ∈ lw_all := lw_g (lw_at lw_m4 149 rfl) rfl
theorem q954 : (Jvm.Cond.instanceMethod ({ cls := "JokePump$Command", name := "equals", desc := "(Ljava/lang/Object;)Z" } : Jvm.MethodName)) ∈ lw_all := lw_g (lw_at lw_m4 150 rfl) rfl
theorem q955 : (Jvm.Cond.code ({ cls := "JokePump$Command", name := "equals", desc := "(Ljava/lang/Object;)Z" } : Jvm.MethodName) prog_14_method_6_code (2 : Nat) (Option.some Jvm.ClassFile.FieldType.boolean)) ∈ lw_all := lw_g (lw_at lw_m4 151 rfl) rfl
theorem q979 : (Jvm.Cond.methodLink "JokePump$Command" (88 : Nat) ({ cls := "JokePump$Pump", name := "drains", desc := "(I)I" } : Jvm.MethodName)) ∈ lw_all := lw_g (lw_at lw_m4 175 rfl) rfl
theorem q984 : (Jvm.Cond.methodLink "JokePump$Command" (91 : Nat) ({ cls := "JokePump$Pump", name := "strikes", desc := "(I)I" } : Jvm.MethodName)) ∈ lw_all := lw_g (lw_at lw_m4 180 rfl) rfl
theorem q988 : (Jvm.Cond.methodLink "JokePump$Command" (94 : Nat) ({ cls := "JokePump$Pump", name := "hangs", desc := "(II)I" } : Jvm.MethodName)) ∈ lw_all := lw_g (lw_at lw_m4 184 rfl) rfl
theorem q992 : (Jvm.Cond.methodLink "JokePump$Command" (98 : Nat) ({ cls := "JokePump$Pump", name := "goes", desc := "(I)I" } : Jvm.MethodName)) ∈ lw_all := lw_g (lw_at lw_m4 188 rfl) rfl
theorem q996 : (Jvm.Cond.methodLink "JokePump$Command" (101 : Nat) ({ cls := "JokePump$Pump", name := "pumps", desc := "(I)I" } : Jvm.MethodName)) ∈ lw_all := lw_g (lw_at lw_m4 192 rfl) rfl
theorem q1893 : (Jvm.Cond.instantiable "JokePump$Command" (5 : Nat)) ∈ lw_all := lw_g (lw_at lw_m8 129 rfl) rfl
theorem q1908 : (Jvm.Cond.instanceMethod ({ cls := "JokePump$Command", name := "<init>", desc := "(Ljava/lang/String;IIII)V" } : Jvm.MethodName)) ∈ lw_all := lw_g (lw_at lw_m8 144 rfl) rfl
theorem q1909 : (Jvm.Cond.code ({ cls := "JokePump$Command", name := "<init>", desc := "(Ljava/lang/String;IIII)V" } : Jvm.MethodName) prog_14_method_1_code (6 : Nat) (Option.none : Option Jvm.ClassFile.FieldType)) ∈ lw_all := lw_g (lw_at lw_m8 145 rfl) rfl
theorem q1910 : (Jvm.Cond.methodLink "JokePump$Command" (1 : Nat) ({ cls := "java/lang/Record", name := "<init>", desc := "()V" } : Jvm.MethodName)) ∈ lw_all := lw_g (lw_at lw_m8 146 rfl) rfl
theorem q1914 : (Jvm.Cond.fieldLink "JokePump$Command" (7 : Nat) "JokePump$Command" "word" "Ljava/lang/String;") ∈ lw_all := lw_g (lw_at lw_m8 150 rfl) rfl
theorem q1915 : (Jvm.Cond.fieldLink "JokePump$Command" (13 : Nat) "JokePump$Command" "one" "I") ∈ lw_all := lw_g (lw_at lw_m8 151 rfl) rfl
theorem q1916 : (Jvm.Cond.fieldLink "JokePump$Command" (17 : Nat) "JokePump$Command" "other" "I") ∈ lw_all := lw_g (lw_at lw_m8 152 rfl) rfl
theorem q1917 : (Jvm.Cond.fieldLink "JokePump$Command" (20 : Nat) "JokePump$Command" "third" "I") ∈ lw_all := lw_g (lw_at lw_m8 153 rfl) rfl
theorem q1918 : (Jvm.Cond.fieldLink "JokePump$Command" (23 : Nat) "JokePump$Command" "fourth" "I") ∈ lw_all := lw_g (lw_at lw_m8 154 rfl) rfl
theorem q1919 : (Jvm.Cond.laysFinal "JokePump$Command" "JokePump$Command" "word" "Ljava/lang/String;") ∈ lw_all := lw_g (lw_at lw_m8 155 rfl) rfl
theorem q1920 : (Jvm.Cond.soleField "JokePump$Command" "word") ∈ lw_all := lw_g (lw_at lw_m8 156 rfl) rfl
theorem q1921 : (Jvm.Cond.laysFinal "JokePump$Command" "JokePump$Command" "one" "I") ∈ lw_all := lw_g (lw_at lw_m8 157 rfl) rfl
theorem q1922 : (Jvm.Cond.soleField "JokePump$Command" "one") ∈ lw_all := lw_g (lw_at lw_m8 158 rfl) rfl
theorem q1923 : (Jvm.Cond.laysFinal "JokePump$Command" "JokePump$Command" "other" "I") ∈ lw_all := lw_g (lw_at lw_m8 159 rfl) rfl
theorem q1924 : (Jvm.Cond.soleField "JokePump$Command" "other") ∈ lw_all := lw_g (lw_at lw_m8 160 rfl) rfl
theorem q1925 : (Jvm.Cond.laysFinal "JokePump$Command" "JokePump$Command" "third" "I") ∈ lw_all := lw_g (lw_at lw_m8 161 rfl) rfl
theorem q1926 : (Jvm.Cond.soleField "JokePump$Command" "third") ∈ lw_all := lw_g (lw_at lw_m8 162 rfl) rfl
theorem q1927 : (Jvm.Cond.laysFinal "JokePump$Command" "JokePump$Command" "fourth" "I") ∈ lw_all := lw_g (lw_at lw_m8 163 rfl) rfl
theorem q1928 : (Jvm.Cond.soleField "JokePump$Command" "fourth") ∈ lw_all := lw_g (lw_at lw_m8 164 rfl) rfl
theorem q1929 : (Jvm.Cond.superclass "JokePump$Command" "java/lang/Record") ∈ lw_all := lw_g (lw_at lw_m8 165 rfl) rfl
theorem q2518 : (Jvm.Cond.castable "JokePump$Command" "java/lang/Object") ∈ lw_tbl := lw_at lw_m11 34 rfl
theorem in_X24 : ∀ w ∈ wsX240, w ∈ lw_all := lw_in wsX240 [1919, 1921, 1923, 1925, 1927] (by decide +kernel) (by decide +kernel)

/-! JokePump$10 -/
set_option maxRecDepth 100000
def RX25 : String := "JokePump$10"
def TX25 : u_T := fun k => match k with
  | 0 => ("JokePump$Deed", "this$0", "LJokePump;", true)
  | 1 => ("JokePump$10", "val$all", "Ljava/util/ArrayList;", true)
  | _ => ("JokePump$10", "this$0", "LJokePump;", true)
def tyX25 : Nat → FieldType := fun k => match k with
  | 0 => .object "JokePump"
  | 1 => .object "java/util/ArrayList"
  | _ => .object "JokePump"
abbrev wsX250 : List Cond := u_ws RX25 TX25 3
-- two fields of one name: no nmX25
theorem tyX25_ok : ∀ k, k < 3 → parseFieldDescriptor (TX25 k).2.2.1 = some (tyX25 k) := by decide +kernel
abbrev cX25_does : ByteArray := prog_3_method_2_code
def yX25_does : MethodName := ⟨RX25, "does", "(LJokePump$Pump;)I"⟩
def dkwX25_does_0 : List UInt8 := [43, 42, 180, 0, 7, 184, 0, 17, 172]
abbrev dktX25_does_0 : List UInt8 := dkwX25_does_0 ++ []
theorem dksX25_does_0 : cX25_does.data.toList.drop 0 = dktX25_does_0 := by decide +kernel
theorem dX25_does_0 : decode cX25_does 0 = .ok (.aload_n 1, 1) := dk_43 (dk_at dksX25_does_0 0 rfl rfl)
theorem dX25_does_1 : decode cX25_does 1 = .ok (.aload_n 0, 1) := dk_42 (dk_at dksX25_does_0 1 rfl rfl)
theorem dX25_does_2 : decode cX25_does 2 = .ok (.getfield 7, 3) := dk_180 0 7 (dk_at dksX25_does_0 2 rfl rfl)
theorem dX25_does_5 : decode cX25_does 5 = .ok (.invokestatic 17, 3) := dk_184 0 17 (dk_at dksX25_does_0 5 rfl rfl)
theorem dX25_does_8 : decode cX25_does 8 = .ok (.ireturn, 1) := dk_172 (dk_at dksX25_does_0 8 rfl rfl)
abbrev cX25_init : ByteArray := prog_3_method_1_code
def yX25_init : MethodName := ⟨RX25, "<init>", "(LJokePump;Ljava/util/ArrayList;)V"⟩
def dkwX25_init_0 : List UInt8 := [42, 43, 181, 0, 1, 42, 44, 181, 0, 7, 42, 43, 183, 0, 11, 177]
abbrev dktX25_init_0 : List UInt8 := dkwX25_init_0 ++ []
theorem dksX25_init_0 : cX25_init.data.toList.drop 0 = dktX25_init_0 := by decide +kernel
theorem dX25_init_0 : decode cX25_init 0 = .ok (.aload_n 0, 1) := dk_42 (dk_at dksX25_init_0 0 rfl rfl)
theorem dX25_init_1 : decode cX25_init 1 = .ok (.aload_n 1, 1) := dk_43 (dk_at dksX25_init_0 1 rfl rfl)
theorem dX25_init_2 : decode cX25_init 2 = .ok (.putfield 1, 3) := dk_181 0 1 (dk_at dksX25_init_0 2 rfl rfl)
theorem dX25_init_5 : decode cX25_init 5 = .ok (.aload_n 0, 1) := dk_42 (dk_at dksX25_init_0 5 rfl rfl)
theorem dX25_init_6 : decode cX25_init 6 = .ok (.aload_n 2, 1) := dk_44 (dk_at dksX25_init_0 6 rfl rfl)
theorem dX25_init_7 : decode cX25_init 7 = .ok (.putfield 7, 3) := dk_181 0 7 (dk_at dksX25_init_0 7 rfl rfl)
theorem dX25_init_10 : decode cX25_init 10 = .ok (.aload_n 0, 1) := dk_42 (dk_at dksX25_init_0 10 rfl rfl)
theorem dX25_init_11 : decode cX25_init 11 = .ok (.aload_n 1, 1) := dk_43 (dk_at dksX25_init_0 11 rfl rfl)
theorem dX25_init_12 : decode cX25_init 12 = .ok (.invokespecial 11, 3) := dk_183 0 11 (dk_at dksX25_init_0 12 rfl rfl)
theorem dX25_init_15 : decode cX25_init 15 = .ok (.return_, 1) := dk_177 (dk_at dksX25_init_0 15 rfl rfl)
theorem q136 : (Jvm.Cond.initialized "JokePump$10") ∈ lw_all := lw_g (lw_at lw_m1 52 rfl) rfl
theorem q359 : (Jvm.Cond.selects "JokePump$10" ({ cls := "JokePump$Deed", name := "done", desc := "()I" } : Jvm.MethodName) ({ cls := "JokePump$Deed", name := "done", desc := "()I" } : Jvm.MethodName)) ∈ lw_all := lw_g (lw_at lw_m2 35 rfl) rfl
theorem q643 : (Jvm.Cond.selects "JokePump$10" ({ cls := "java/lang/Object", name := "getClass", desc := "()Ljava/lang/Class;" } : Jvm.MethodName) ({ cls := "java/lang/Object", name := "getClass", desc := "()Ljava/lang/Class;" } : Jvm.MethodName)) ∈ lw_all := lw_g (lw_at lw_m3 79 rfl) rfl
theorem q766 : (Jvm.Cond.selects "JokePump$10" ({ cls := "JokePump$Deed", name := "does", desc := "(LJokePump$Pump;)I" } : Jvm.MethodName) ({ cls := "JokePump$10", name := "does", desc := "(LJokePump$Pump;)I" } : Jvm.MethodName)) ∈ lw_all := lw_g (lw_at lw_m3 202 rfl) rfl
theorem q767 : (Jvm.Cond.instanceMethod ({ cls := "JokePump$10", name := "does", desc := "(LJokePump$Pump;)I" } : Jvm.MethodName)) ∈ lw_all := lw_g (lw_at lw_m3 203 rfl) rfl
theorem q768 : (Jvm.Cond.code ({ cls := "JokePump$10", name := "does", desc := "(LJokePump$Pump;)I" } : Jvm.MethodName) prog_3_method_2_code (2 : Nat) (Option.some Jvm.ClassFile.FieldType.int)) ∈ lw_all := lw_g (lw_at lw_m3 204 rfl) rfl
theorem q769 : (Jvm.Cond.methodLinkNest "JokePump$10" (17 : Nat) ({ cls := "JokePump", name := "doesAll", desc := "(LJokePump$Pump;Ljava/util/ArrayList;)I" } : Jvm.MethodName) "JokePump") ∈ lw_tbl := lw_at lw_m3 205 rfl
theorem q942 : (Jvm.Cond.selects "JokePump$10" ({ cls := "java/lang/Object", name := "equals", desc := "(Ljava/lang/Object;)Z" } : Jvm.MethodName) ({ cls := "java/lang/Object", name := "equals", desc := "(Ljava/lang/Object;)Z" } : Jvm.MethodName)) ∈ lw_all := lw_g (lw_at lw_m4 138 rfl) rfl
theorem q1932 : (Jvm.Cond.instantiable "JokePump$10" (3 : Nat)) ∈ lw_all := lw_g (lw_at lw_m8 168 rfl) rfl
theorem q1934 : (Jvm.Cond.instanceMethod ({ cls := "JokePump$10", name := "<init>", desc := "(LJokePump;Ljava/util/ArrayList;)V" } : Jvm.MethodName)) ∈ lw_all := lw_g (lw_at lw_m8 170 rfl) rfl
theorem q1935 : (Jvm.Cond.code ({ cls := "JokePump$10", name := "<init>", desc := "(LJokePump;Ljava/util/ArrayList;)V" } : Jvm.MethodName) prog_3_method_1_code (3 : Nat) (Option.none : Option Jvm.ClassFile.FieldType)) ∈ lw_all := lw_g (lw_at lw_m8 171 rfl) rfl
theorem q1936 : (Jvm.Cond.methodLinkNest "JokePump$10" (11 : Nat) ({ cls := "JokePump$Deed", name := "<init>", desc := "(LJokePump;)V" } : Jvm.MethodName) "JokePump") ∈ lw_tbl := lw_at lw_m8 172 rfl
theorem q1937 : (Jvm.Cond.fieldLink "JokePump$10" (7 : Nat) "JokePump$10" "val$all" "Ljava/util/ArrayList;") ∈ lw_all := lw_g (lw_at lw_m8 173 rfl) rfl
theorem q1938 : (Jvm.Cond.fieldLink "JokePump$10" (1 : Nat) "JokePump$10" "this$0" "LJokePump;") ∈ lw_all := lw_g (lw_at lw_m8 174 rfl) rfl
theorem q1939 : (Jvm.Cond.laysFinal "JokePump$10" "JokePump$10" "val$all" "Ljava/util/ArrayList;") ∈ lw_all := lw_g (lw_at lw_m8 175 rfl) rfl
theorem q1940 : (Jvm.Cond.soleField "JokePump$10" "val$all") ∈ lw_all := lw_g (lw_at lw_m8 176 rfl) rfl
theorem q1941 : (Jvm.Cond.laysFinal "JokePump$10" "JokePump$10" "this$0" "LJokePump;") ∈ lw_all := lw_g (lw_at lw_m8 177 rfl) rfl
theorem q1942 : (Jvm.Cond.soleField "JokePump$10" "this$0") ∈ lw_all := lw_g (lw_at lw_m8 178 rfl) rfl
theorem q1943 : (Jvm.Cond.laysFinal "JokePump$10" "JokePump$Deed" "this$0" "LJokePump;") ∈ lw_all := lw_g (lw_at lw_m8 179 rfl) rfl
theorem q1944 : (Jvm.Cond.superclass "JokePump$10" "JokePump$Deed") ∈ lw_all := lw_g (lw_at lw_m8 180 rfl) rfl
theorem q1946 : (Jvm.Cond.sameMethod "JokePump$10" "JokePump$Deed" "done" "()I") ∈ lw_all := lw_g (lw_at lw_m8 182 rfl) rfl
theorem q1948 : (Jvm.Cond.selects "JokePump$10" ({ cls := "JokePump$10", name := "done", desc := "()I" } : Jvm.MethodName) ({ cls := "JokePump$Deed", name := "done", desc := "()I" } : Jvm.MethodName)) ∈ lw_all := lw_g (lw_at lw_m8 184 rfl) rfl
theorem q2519 : (Jvm.Cond.castable "JokePump$10" "java/lang/Object") ∈ lw_tbl := lw_at lw_m11 35 rfl
theorem in_X25 : ∀ w ∈ wsX250, w ∈ lw_all := lw_in wsX250 [1943, 1939, 1941] (by decide +kernel) (by decide +kernel)

/-! JokePump$Deed -/
set_option maxRecDepth 100000
def RX3 : String := "JokePump$Deed"
abbrev cX3_init : ByteArray := prog_15_method_1_code
def yX3_init : MethodName := ⟨RX3, "<init>", "(LJokePump;)V"⟩
def dkwX3_init_0 : List UInt8 := [42, 43, 181, 0, 3, 42, 183, 0, 9, 177]
abbrev dktX3_init_0 : List UInt8 := dkwX3_init_0 ++ []
theorem dksX3_init_0 : cX3_init.data.toList.drop 0 = dktX3_init_0 := by decide +kernel
theorem dX3_init_0 : decode cX3_init 0 = .ok (.aload_n 0, 1) := dk_42 (dk_at dksX3_init_0 0 rfl rfl)
theorem dX3_init_1 : decode cX3_init 1 = .ok (.aload_n 1, 1) := dk_43 (dk_at dksX3_init_0 1 rfl rfl)
theorem dX3_init_2 : decode cX3_init 2 = .ok (.putfield 3, 3) := dk_181 0 3 (dk_at dksX3_init_0 2 rfl rfl)
theorem dX3_init_5 : decode cX3_init 5 = .ok (.aload_n 0, 1) := dk_42 (dk_at dksX3_init_0 5 rfl rfl)
theorem dX3_init_6 : decode cX3_init 6 = .ok (.invokespecial 9, 3) := dk_183 0 9 (dk_at dksX3_init_0 6 rfl rfl)
theorem dX3_init_9 : decode cX3_init 9 = .ok (.return_, 1) := dk_177 (dk_at dksX3_init_0 9 rfl rfl)
abbrev cX3_doneIf : ByteArray := prog_15_method_4_code
def yX3_doneIf : MethodName := ⟨RX3, "doneIf", "(ZZ)I"⟩
def dkwX3_doneIf_0 : List UInt8 := [27, 154, 0, 7, 2, 167, 0, 16, 28, 153, 0, 10, 42, 182, 0, 52, 167, 0, 5, 16, 254, 172]
abbrev dktX3_doneIf_0 : List UInt8 := dkwX3_doneIf_0 ++ []
theorem dksX3_doneIf_0 : cX3_doneIf.data.toList.drop 0 = dktX3_doneIf_0 := by decide +kernel
theorem dX3_doneIf_0 : decode cX3_doneIf 0 = .ok (.iload_n 1, 1) := dk_27 (dk_at dksX3_doneIf_0 0 rfl rfl)
theorem dX3_doneIf_1 : decode cX3_doneIf 1 = .ok (.ifCond .ne 7, 3) := dk_154 0 7 (dk_at dksX3_doneIf_0 1 rfl rfl)
theorem dX3_doneIf_4 : decode cX3_doneIf 4 = .ok (.iconst (-1), 1) := dk_2 (dk_at dksX3_doneIf_0 4 rfl rfl)
theorem dX3_doneIf_5 : decode cX3_doneIf 5 = .ok (.goto 16, 3) := dk_167 0 16 (dk_at dksX3_doneIf_0 5 rfl rfl)
theorem dX3_doneIf_8 : decode cX3_doneIf 8 = .ok (.iload_n 2, 1) := dk_28 (dk_at dksX3_doneIf_0 8 rfl rfl)
theorem dX3_doneIf_9 : decode cX3_doneIf 9 = .ok (.ifCond .eq 10, 3) := dk_153 0 10 (dk_at dksX3_doneIf_0 9 rfl rfl)
theorem dX3_doneIf_12 : decode cX3_doneIf 12 = .ok (.aload_n 0, 1) := dk_42 (dk_at dksX3_doneIf_0 12 rfl rfl)
theorem dX3_doneIf_13 : decode cX3_doneIf 13 = .ok (.invokevirtual 52, 3) := dk_182 0 52 (dk_at dksX3_doneIf_0 13 rfl rfl)
theorem dX3_doneIf_16 : decode cX3_doneIf 16 = .ok (.goto 5, 3) := dk_167 0 5 (dk_at dksX3_doneIf_0 16 rfl rfl)
theorem dX3_doneIf_19 : decode cX3_doneIf 19 = .ok (.bipush (-2), 2) := dk_16 254 (dk_at dksX3_doneIf_0 19 rfl rfl)
theorem dX3_doneIf_21 : decode cX3_doneIf 21 = .ok (.ireturn, 1) := dk_172 (dk_at dksX3_doneIf_0 21 rfl rfl)
abbrev cX3_done : ByteArray := prog_15_method_3_code
def yX3_done : MethodName := ⟨RX3, "done", "()I"⟩
def dkwX3_done_3 : List UInt8 := [180, 0, 3, 43, 181, 0, 17, 28, 172, 77, 42, 180, 0, 3, 44, 181, 0, 48, 16, 251, 172]
abbrev dktX3_done_3 : List UInt8 := dkwX3_done_3 ++ []
def dkwX3_done_2 : List UInt8 := [182, 0, 38, 16, 8, 164, 0, 17, 42, 180, 0, 3, 180, 0, 28, 182, 0, 42, 192, 0, 15, 78, 42]
abbrev dktX3_done_2 : List UInt8 := dkwX3_done_2 ++ dktX3_done_3
def dkwX3_done_1 : List UInt8 := [180, 0, 3, 180, 0, 28, 42, 180, 0, 3, 180, 0, 17, 182, 0, 32, 42, 180, 0, 3, 180, 0, 28]
abbrev dktX3_done_1 : List UInt8 := dkwX3_done_1 ++ dktX3_done_2
def dkwX3_done_0 : List UInt8 := [187, 0, 15, 89, 42, 180, 0, 3, 180, 0, 17, 183, 0, 21, 76, 42, 43, 182, 0, 24, 61, 42]
abbrev dktX3_done_0 : List UInt8 := dkwX3_done_0 ++ dktX3_done_1
theorem dksX3_done_0 : cX3_done.data.toList.drop 0 = dktX3_done_0 := by decide +kernel
theorem dksX3_done_1 : cX3_done.data.toList.drop 22 = dktX3_done_1 := dk_seg dksX3_done_0 22 rfl rfl
theorem dksX3_done_2 : cX3_done.data.toList.drop 45 = dktX3_done_2 := dk_seg dksX3_done_1 23 rfl rfl
theorem dksX3_done_3 : cX3_done.data.toList.drop 68 = dktX3_done_3 := dk_seg dksX3_done_2 23 rfl rfl
theorem dX3_done_0 : decode cX3_done 0 = .ok (.new 15, 3) := dk_187 0 15 (dk_at dksX3_done_0 0 rfl rfl)
theorem dX3_done_3 : decode cX3_done 3 = .ok (.dup, 1) := dk_89 (dk_at dksX3_done_0 3 rfl rfl)
theorem dX3_done_4 : decode cX3_done 4 = .ok (.aload_n 0, 1) := dk_42 (dk_at dksX3_done_0 4 rfl rfl)
theorem dX3_done_5 : decode cX3_done 5 = .ok (.getfield 3, 3) := dk_180 0 3 (dk_at dksX3_done_0 5 rfl rfl)
theorem dX3_done_8 : decode cX3_done 8 = .ok (.getfield 17, 3) := dk_180 0 17 (dk_at dksX3_done_0 8 rfl rfl)
theorem dX3_done_11 : decode cX3_done 11 = .ok (.invokespecial 21, 3) := dk_183 0 21 (dk_at dksX3_done_0 11 rfl rfl)
theorem dX3_done_14 : decode cX3_done 14 = .ok (.astore_n 1, 1) := dk_76 (dk_at dksX3_done_0 14 rfl rfl)
theorem dX3_done_15 : decode cX3_done 15 = .ok (.aload_n 0, 1) := dk_42 (dk_at dksX3_done_0 15 rfl rfl)
theorem dX3_done_16 : decode cX3_done 16 = .ok (.aload_n 1, 1) := dk_43 (dk_at dksX3_done_0 16 rfl rfl)
theorem dX3_done_17 : decode cX3_done 17 = .ok (.invokevirtual 24, 3) := dk_182 0 24 (dk_at dksX3_done_0 17 rfl rfl)
theorem dX3_done_20 : decode cX3_done 20 = .ok (.istore_n 2, 1) := dk_61 (dk_at dksX3_done_0 20 rfl rfl)
theorem dX3_done_21 : decode cX3_done 21 = .ok (.aload_n 0, 1) := dk_42 (dk_at dksX3_done_0 21 rfl rfl)
theorem dX3_done_22 : decode cX3_done 22 = .ok (.getfield 3, 3) := dk_180 0 3 (dk_at dksX3_done_1 0 rfl rfl)
theorem dX3_done_25 : decode cX3_done 25 = .ok (.getfield 28, 3) := dk_180 0 28 (dk_at dksX3_done_1 3 rfl rfl)
theorem dX3_done_28 : decode cX3_done 28 = .ok (.aload_n 0, 1) := dk_42 (dk_at dksX3_done_1 6 rfl rfl)
theorem dX3_done_29 : decode cX3_done 29 = .ok (.getfield 3, 3) := dk_180 0 3 (dk_at dksX3_done_1 7 rfl rfl)
theorem dX3_done_32 : decode cX3_done 32 = .ok (.getfield 17, 3) := dk_180 0 17 (dk_at dksX3_done_1 10 rfl rfl)
theorem dX3_done_35 : decode cX3_done 35 = .ok (.invokevirtual 32, 3) := dk_182 0 32 (dk_at dksX3_done_1 13 rfl rfl)
theorem dX3_done_38 : decode cX3_done 38 = .ok (.aload_n 0, 1) := dk_42 (dk_at dksX3_done_1 16 rfl rfl)
theorem dX3_done_39 : decode cX3_done 39 = .ok (.getfield 3, 3) := dk_180 0 3 (dk_at dksX3_done_1 17 rfl rfl)
theorem dX3_done_42 : decode cX3_done 42 = .ok (.getfield 28, 3) := dk_180 0 28 (dk_at dksX3_done_1 20 rfl rfl)
theorem dX3_done_45 : decode cX3_done 45 = .ok (.invokevirtual 38, 3) := dk_182 0 38 (dk_at dksX3_done_2 0 rfl rfl)
theorem dX3_done_48 : decode cX3_done 48 = .ok (.bipush 8, 2) := dk_16 8 (dk_at dksX3_done_2 3 rfl rfl)
theorem dX3_done_50 : decode cX3_done 50 = .ok (.if_icmp .le 17, 3) := dk_164 0 17 (dk_at dksX3_done_2 5 rfl rfl)
theorem dX3_done_53 : decode cX3_done 53 = .ok (.aload_n 0, 1) := dk_42 (dk_at dksX3_done_2 8 rfl rfl)
theorem dX3_done_54 : decode cX3_done 54 = .ok (.getfield 3, 3) := dk_180 0 3 (dk_at dksX3_done_2 9 rfl rfl)
theorem dX3_done_57 : decode cX3_done 57 = .ok (.getfield 28, 3) := dk_180 0 28 (dk_at dksX3_done_2 12 rfl rfl)
theorem dX3_done_60 : decode cX3_done 60 = .ok (.invokevirtual 42, 3) := dk_182 0 42 (dk_at dksX3_done_2 15 rfl rfl)
theorem dX3_done_63 : decode cX3_done 63 = .ok (.checkcast 15, 3) := dk_192 0 15 (dk_at dksX3_done_2 18 rfl rfl)
theorem dX3_done_66 : decode cX3_done 66 = .ok (.astore_n 3, 1) := dk_78 (dk_at dksX3_done_2 21 rfl rfl)
theorem dX3_done_67 : decode cX3_done 67 = .ok (.aload_n 0, 1) := dk_42 (dk_at dksX3_done_2 22 rfl rfl)
theorem dX3_done_68 : decode cX3_done 68 = .ok (.getfield 3, 3) := dk_180 0 3 (dk_at dksX3_done_3 0 rfl rfl)
theorem dX3_done_71 : decode cX3_done 71 = .ok (.aload_n 1, 1) := dk_43 (dk_at dksX3_done_3 3 rfl rfl)
theorem dX3_done_72 : decode cX3_done 72 = .ok (.putfield 17, 3) := dk_181 0 17 (dk_at dksX3_done_3 4 rfl rfl)
theorem dX3_done_75 : decode cX3_done 75 = .ok (.iload_n 2, 1) := dk_28 (dk_at dksX3_done_3 7 rfl rfl)
theorem dX3_done_76 : decode cX3_done 76 = .ok (.ireturn, 1) := dk_172 (dk_at dksX3_done_3 8 rfl rfl)
theorem dX3_done_77 : decode cX3_done 77 = .ok (.astore_n 2, 1) := dk_77 (dk_at dksX3_done_3 9 rfl rfl)
theorem dX3_done_78 : decode cX3_done 78 = .ok (.aload_n 0, 1) := dk_42 (dk_at dksX3_done_3 10 rfl rfl)
theorem dX3_done_79 : decode cX3_done 79 = .ok (.getfield 3, 3) := dk_180 0 3 (dk_at dksX3_done_3 11 rfl rfl)
theorem dX3_done_82 : decode cX3_done 82 = .ok (.aload_n 2, 1) := dk_44 (dk_at dksX3_done_3 14 rfl rfl)
theorem dX3_done_83 : decode cX3_done 83 = .ok (.putfield 48, 3) := dk_181 0 48 (dk_at dksX3_done_3 15 rfl rfl)
theorem dX3_done_86 : decode cX3_done 86 = .ok (.bipush (-5), 2) := dk_16 251 (dk_at dksX3_done_3 18 rfl rfl)
theorem dX3_done_88 : decode cX3_done 88 = .ok (.ireturn, 1) := dk_172 (dk_at dksX3_done_3 20 rfl rfl)
theorem q92 : (Jvm.Cond.initialized "JokePump$Deed") ∈ lw_all := lw_g (lw_at lw_m1 8 rfl) rfl
theorem q273 : (Jvm.Cond.fieldLinkNest "JokePump$Deed" (17 : Nat) "JokePump" "now" "LJokePump$Pump;" "JokePump") ∈ lw_tbl := lw_at lw_m1 189 rfl
theorem q276 : (Jvm.Cond.fieldLinkNest "JokePump$Deed" (28 : Nat) "JokePump" "before" "Ljava/util/ArrayDeque;" "JokePump") ∈ lw_tbl := lw_at lw_m1 192 rfl
theorem q278 : (Jvm.Cond.fieldLinkNest "JokePump$Deed" (48 : Nat) "JokePump" "refusal" "LJokePump$Refused;" "JokePump") ∈ lw_tbl := lw_at lw_m1 194 rfl
theorem q315 : (Jvm.Cond.instanceMethod ({ cls := "JokePump$Deed", name := "<init>", desc := "(LJokePump;)V" } : Jvm.MethodName)) ∈ lw_all := lw_g (lw_at lw_m1 231 rfl) rfl
theorem q316 : (Jvm.Cond.code ({ cls := "JokePump$Deed", name := "<init>", desc := "(LJokePump;)V" } : Jvm.MethodName) prog_15_method_1_code (2 : Nat) (Option.none : Option Jvm.ClassFile.FieldType)) ∈ lw_all := lw_g (lw_at lw_m1 232 rfl) rfl
theorem q317 : (Jvm.Cond.methodLink "JokePump$Deed" (9 : Nat) ({ cls := "java/lang/Object", name := "<init>", desc := "()V" } : Jvm.MethodName)) ∈ lw_all := lw_g (lw_at lw_m1 233 rfl) rfl
theorem q323 : (Jvm.Cond.fieldLink "JokePump$Deed" (3 : Nat) "JokePump$Deed" "this$0" "LJokePump;") ∈ lw_all := lw_g (lw_at lw_m1 239 rfl) rfl
theorem q335 : (Jvm.Cond.soleField "JokePump$Deed" "this$0") ∈ lw_all := lw_g (lw_at lw_m2 11 rfl) rfl
theorem q351 : (Jvm.Cond.declares ({ cls := "JokePump$Deed", name := "doneIf", desc := "(ZZ)I" } : Jvm.MethodName)) ∈ lw_tbl := lw_at lw_m2 27 rfl
theorem q353 : (Jvm.Cond.instanceMethod ({ cls := "JokePump$Deed", name := "doneIf", desc := "(ZZ)I" } : Jvm.MethodName)) ∈ lw_all := lw_g (lw_at lw_m2 29 rfl) rfl
theorem q354 : (Jvm.Cond.code ({ cls := "JokePump$Deed", name := "doneIf", desc := "(ZZ)I" } : Jvm.MethodName) prog_15_method_4_code (3 : Nat) (Option.some Jvm.ClassFile.FieldType.int)) ∈ lw_all := lw_g (lw_at lw_m2 30 rfl) rfl
theorem q355 : (Jvm.Cond.methodLink "JokePump$Deed" (52 : Nat) ({ cls := "JokePump$Deed", name := "done", desc := "()I" } : Jvm.MethodName)) ∈ lw_all := lw_g (lw_at lw_m2 31 rfl) rfl
theorem q356 : (Jvm.Cond.instanceMethod ({ cls := "JokePump$Deed", name := "done", desc := "()I" } : Jvm.MethodName)) ∈ lw_all := lw_g (lw_at lw_m2 32 rfl) rfl
theorem q357 : (Jvm.Cond.sameMethod "JokePump$Deed" "JokePump$Deed" "done" "()I") ∈ lw_all := lw_g (lw_at lw_m2 33 rfl) rfl
theorem q367 : (Jvm.Cond.codeWith ({ cls := "JokePump$Deed", name := "done", desc := "()I" } : Jvm.MethodName) prog_15_method_3_code (4 : Nat) (Option.some Jvm.ClassFile.FieldType.int) [((15 : Nat), (76 : Nat), (77 : Nat), (46 : Nat))]) ∈ lw_all := lw_g (lw_at lw_m2 43 rfl) rfl
theorem q368 : (Jvm.Cond.classLink "JokePump$Deed" (46 : Nat) "JokePump$Refused") ∈ lw_all := lw_g (lw_at lw_m2 44 rfl) rfl
theorem q369 : (Jvm.Cond.classLink "JokePump$Deed" (15 : Nat) "JokePump$Pump") ∈ lw_all := lw_g (lw_at lw_m2 45 rfl) rfl
theorem q370 : (Jvm.Cond.methodLink "JokePump$Deed" (21 : Nat) ({ cls := "JokePump$Pump", name := "<init>", desc := "(LJokePump$Pump;)V" } : Jvm.MethodName)) ∈ lw_all := lw_g (lw_at lw_m2 46 rfl) rfl
theorem q706 : (Jvm.Cond.methodLink "JokePump$Deed" (24 : Nat) ({ cls := "JokePump$Deed", name := "does", desc := "(LJokePump$Pump;)I" } : Jvm.MethodName)) ∈ lw_all := lw_g (lw_at lw_m3 142 rfl) rfl
theorem q707 : (Jvm.Cond.declares ({ cls := "JokePump$Deed", name := "does", desc := "(LJokePump$Pump;)I" } : Jvm.MethodName)) ∈ lw_tbl := lw_at lw_m3 143 rfl
theorem q708 : (Jvm.Cond.sameMethod "JokePump$Deed" "JokePump$Deed" "does" "(LJokePump$Pump;)I") ∈ lw_all := lw_g (lw_at lw_m3 144 rfl) rfl
theorem q1202 : (Jvm.Cond.methodLink "JokePump$Deed" (32 : Nat) ({ cls := "java/util/ArrayDeque", name := "addLast", desc := "(Ljava/lang/Object;)V" } : Jvm.MethodName)) ∈ lw_all := lw_g (lw_at lw_m5 158 rfl) rfl
theorem q1219 : (Jvm.Cond.methodLink "JokePump$Deed" (38 : Nat) ({ cls := "java/util/ArrayDeque", name := "size", desc := "()I" } : Jvm.MethodName)) ∈ lw_all := lw_g (lw_at lw_m5 175 rfl) rfl
theorem q1220 : (Jvm.Cond.methodLink "JokePump$Deed" (42 : Nat) ({ cls := "java/util/ArrayDeque", name := "removeFirst", desc := "()Ljava/lang/Object;" } : Jvm.MethodName)) ∈ lw_all := lw_g (lw_at lw_m5 176 rfl) rfl
theorem q1947 : (Jvm.Cond.declares ({ cls := "JokePump$Deed", name := "done", desc := "()I" } : Jvm.MethodName)) ∈ lw_tbl := lw_at lw_m8 183 rfl

/-! JokePump$1 -/
set_option maxRecDepth 100000
def RX4 : String := "JokePump$1"
def TX4 : u_T := fun k => match k with
  | 0 => ("JokePump$Deed", "this$0", "LJokePump;", true)
  | 1 => ("JokePump$1", "val$well", "I", true)
  | 2 => ("JokePump$1", "val$depth", "I", true)
  | 3 => ("JokePump$1", "val$sign", "I", true)
  | 4 => ("JokePump$1", "val$wit", "I", true)
  | _ => ("JokePump$1", "this$0", "LJokePump;", true)
def tyX4 : Nat → FieldType := fun k => match k with
  | 0 => .object "JokePump"
  | 1 => .int
  | 2 => .int
  | 3 => .int
  | 4 => .int
  | _ => .object "JokePump"
abbrev wsX40 : List Cond := u_ws RX4 TX4 6
-- two fields of one name: no nmX4
theorem tyX4_ok : ∀ k, k < 6 → parseFieldDescriptor (TX4 k).2.2.1 = some (tyX4 k) := by decide +kernel
abbrev cX4_init : ByteArray := prog_2_method_1_code
def yX4_init : MethodName := ⟨RX4, "<init>", "(LJokePump;IIII)V"⟩
def dkwX4_init_1 : List UInt8 := [181, 0, 17, 42, 43, 183, 0, 20, 177]
abbrev dktX4_init_1 : List UInt8 := dkwX4_init_1 ++ []
def dkwX4_init_0 : List UInt8 := [42, 43, 181, 0, 1, 42, 28, 181, 0, 7, 42, 29, 181, 0, 11, 42, 21, 4, 181, 0, 14, 42, 21, 5]
abbrev dktX4_init_0 : List UInt8 := dkwX4_init_0 ++ dktX4_init_1
theorem dksX4_init_0 : cX4_init.data.toList.drop 0 = dktX4_init_0 := by decide +kernel
theorem dksX4_init_1 : cX4_init.data.toList.drop 24 = dktX4_init_1 := dk_seg dksX4_init_0 24 rfl rfl
theorem dX4_init_0 : decode cX4_init 0 = .ok (.aload_n 0, 1) := dk_42 (dk_at dksX4_init_0 0 rfl rfl)
theorem dX4_init_1 : decode cX4_init 1 = .ok (.aload_n 1, 1) := dk_43 (dk_at dksX4_init_0 1 rfl rfl)
theorem dX4_init_2 : decode cX4_init 2 = .ok (.putfield 1, 3) := dk_181 0 1 (dk_at dksX4_init_0 2 rfl rfl)
theorem dX4_init_5 : decode cX4_init 5 = .ok (.aload_n 0, 1) := dk_42 (dk_at dksX4_init_0 5 rfl rfl)
theorem dX4_init_6 : decode cX4_init 6 = .ok (.iload_n 2, 1) := dk_28 (dk_at dksX4_init_0 6 rfl rfl)
theorem dX4_init_7 : decode cX4_init 7 = .ok (.putfield 7, 3) := dk_181 0 7 (dk_at dksX4_init_0 7 rfl rfl)
theorem dX4_init_10 : decode cX4_init 10 = .ok (.aload_n 0, 1) := dk_42 (dk_at dksX4_init_0 10 rfl rfl)
theorem dX4_init_11 : decode cX4_init 11 = .ok (.iload_n 3, 1) := dk_29 (dk_at dksX4_init_0 11 rfl rfl)
theorem dX4_init_12 : decode cX4_init 12 = .ok (.putfield 11, 3) := dk_181 0 11 (dk_at dksX4_init_0 12 rfl rfl)
theorem dX4_init_15 : decode cX4_init 15 = .ok (.aload_n 0, 1) := dk_42 (dk_at dksX4_init_0 15 rfl rfl)
theorem dX4_init_16 : decode cX4_init 16 = .ok (.iload 4, 2) := dk_21 4 (dk_at dksX4_init_0 16 rfl rfl)
theorem dX4_init_18 : decode cX4_init 18 = .ok (.putfield 14, 3) := dk_181 0 14 (dk_at dksX4_init_0 18 rfl rfl)
theorem dX4_init_21 : decode cX4_init 21 = .ok (.aload_n 0, 1) := dk_42 (dk_at dksX4_init_0 21 rfl rfl)
theorem dX4_init_22 : decode cX4_init 22 = .ok (.iload 5, 2) := dk_21 5 (dk_at dksX4_init_0 22 rfl rfl)
theorem dX4_init_24 : decode cX4_init 24 = .ok (.putfield 17, 3) := dk_181 0 17 (dk_at dksX4_init_1 0 rfl rfl)
theorem dX4_init_27 : decode cX4_init 27 = .ok (.aload_n 0, 1) := dk_42 (dk_at dksX4_init_1 3 rfl rfl)
theorem dX4_init_28 : decode cX4_init 28 = .ok (.aload_n 1, 1) := dk_43 (dk_at dksX4_init_1 4 rfl rfl)
theorem dX4_init_29 : decode cX4_init 29 = .ok (.invokespecial 20, 3) := dk_183 0 20 (dk_at dksX4_init_1 5 rfl rfl)
theorem dX4_init_32 : decode cX4_init 32 = .ok (.return_, 1) := dk_177 (dk_at dksX4_init_1 8 rfl rfl)
abbrev cX4_does : ByteArray := prog_2_method_2_code
def yX4_does : MethodName := ⟨RX4, "does", "(LJokePump$Pump;)I"⟩
def dkwX4_does_0 : List UInt8 := [43, 42, 180, 0, 7, 42, 180, 0, 11, 42, 180, 0, 14, 42, 180, 0, 17, 182, 0, 26, 172]
abbrev dktX4_does_0 : List UInt8 := dkwX4_does_0 ++ []
theorem dksX4_does_0 : cX4_does.data.toList.drop 0 = dktX4_does_0 := by decide +kernel
theorem dX4_does_0 : decode cX4_does 0 = .ok (.aload_n 1, 1) := dk_43 (dk_at dksX4_does_0 0 rfl rfl)
theorem dX4_does_1 : decode cX4_does 1 = .ok (.aload_n 0, 1) := dk_42 (dk_at dksX4_does_0 1 rfl rfl)
theorem dX4_does_2 : decode cX4_does 2 = .ok (.getfield 7, 3) := dk_180 0 7 (dk_at dksX4_does_0 2 rfl rfl)
theorem dX4_does_5 : decode cX4_does 5 = .ok (.aload_n 0, 1) := dk_42 (dk_at dksX4_does_0 5 rfl rfl)
theorem dX4_does_6 : decode cX4_does 6 = .ok (.getfield 11, 3) := dk_180 0 11 (dk_at dksX4_does_0 6 rfl rfl)
theorem dX4_does_9 : decode cX4_does 9 = .ok (.aload_n 0, 1) := dk_42 (dk_at dksX4_does_0 9 rfl rfl)
theorem dX4_does_10 : decode cX4_does 10 = .ok (.getfield 14, 3) := dk_180 0 14 (dk_at dksX4_does_0 10 rfl rfl)
theorem dX4_does_13 : decode cX4_does 13 = .ok (.aload_n 0, 1) := dk_42 (dk_at dksX4_does_0 13 rfl rfl)
theorem dX4_does_14 : decode cX4_does 14 = .ok (.getfield 17, 3) := dk_180 0 17 (dk_at dksX4_does_0 14 rfl rfl)
theorem dX4_does_17 : decode cX4_does 17 = .ok (.invokevirtual 26, 3) := dk_182 0 26 (dk_at dksX4_does_0 17 rfl rfl)
theorem dX4_does_20 : decode cX4_does 20 = .ok (.ireturn, 1) := dk_172 (dk_at dksX4_does_0 20 rfl rfl)
theorem q93 : (Jvm.Cond.initialized "JokePump$1") ∈ lw_all := lw_g (lw_at lw_m1 9 rfl) rfl
theorem q310 : (Jvm.Cond.instantiable "JokePump$1" (6 : Nat)) ∈ lw_all := lw_g (lw_at lw_m1 226 rfl) rfl
theorem q312 : (Jvm.Cond.instanceMethod ({ cls := "JokePump$1", name := "<init>", desc := "(LJokePump;IIII)V" } : Jvm.MethodName)) ∈ lw_all := lw_g (lw_at lw_m1 228 rfl) rfl
theorem q313 : (Jvm.Cond.code ({ cls := "JokePump$1", name := "<init>", desc := "(LJokePump;IIII)V" } : Jvm.MethodName) prog_2_method_1_code (6 : Nat) (Option.none : Option Jvm.ClassFile.FieldType)) ∈ lw_all := lw_g (lw_at lw_m1 229 rfl) rfl
theorem q314 : (Jvm.Cond.methodLinkNest "JokePump$1" (20 : Nat) ({ cls := "JokePump$Deed", name := "<init>", desc := "(LJokePump;)V" } : Jvm.MethodName) "JokePump") ∈ lw_tbl := lw_at lw_m1 230 rfl
theorem q318 : (Jvm.Cond.fieldLink "JokePump$1" (7 : Nat) "JokePump$1" "val$well" "I") ∈ lw_all := lw_g (lw_at lw_m1 234 rfl) rfl
theorem q319 : (Jvm.Cond.fieldLink "JokePump$1" (11 : Nat) "JokePump$1" "val$depth" "I") ∈ lw_all := lw_g (lw_at lw_m1 235 rfl) rfl
theorem q320 : (Jvm.Cond.fieldLink "JokePump$1" (14 : Nat) "JokePump$1" "val$sign" "I") ∈ lw_all := lw_g (lw_at lw_m1 236 rfl) rfl
theorem q321 : (Jvm.Cond.fieldLink "JokePump$1" (17 : Nat) "JokePump$1" "val$wit" "I") ∈ lw_all := lw_g (lw_at lw_m1 237 rfl) rfl
theorem q322 : (Jvm.Cond.fieldLink "JokePump$1" (1 : Nat) "JokePump$1" "this$0" "LJokePump;") ∈ lw_all := lw_g (lw_at lw_m1 238 rfl) rfl
theorem q324 : (Jvm.Cond.laysFinal "JokePump$1" "JokePump$1" "val$well" "I") ∈ lw_all := lw_g (lw_at lw_m2 0 rfl) rfl
theorem q325 : (Jvm.Cond.soleField "JokePump$1" "val$well") ∈ lw_all := lw_g (lw_at lw_m2 1 rfl) rfl
theorem q326 : (Jvm.Cond.laysFinal "JokePump$1" "JokePump$1" "val$depth" "I") ∈ lw_all := lw_g (lw_at lw_m2 2 rfl) rfl
theorem q327 : (Jvm.Cond.soleField "JokePump$1" "val$depth") ∈ lw_all := lw_g (lw_at lw_m2 3 rfl) rfl
theorem q328 : (Jvm.Cond.laysFinal "JokePump$1" "JokePump$1" "val$sign" "I") ∈ lw_all := lw_g (lw_at lw_m2 4 rfl) rfl
theorem q329 : (Jvm.Cond.soleField "JokePump$1" "val$sign") ∈ lw_all := lw_g (lw_at lw_m2 5 rfl) rfl
theorem q330 : (Jvm.Cond.laysFinal "JokePump$1" "JokePump$1" "val$wit" "I") ∈ lw_all := lw_g (lw_at lw_m2 6 rfl) rfl
theorem q331 : (Jvm.Cond.soleField "JokePump$1" "val$wit") ∈ lw_all := lw_g (lw_at lw_m2 7 rfl) rfl
theorem q332 : (Jvm.Cond.laysFinal "JokePump$1" "JokePump$1" "this$0" "LJokePump;") ∈ lw_all := lw_g (lw_at lw_m2 8 rfl) rfl
theorem q333 : (Jvm.Cond.soleField "JokePump$1" "this$0") ∈ lw_all := lw_g (lw_at lw_m2 9 rfl) rfl
theorem q334 : (Jvm.Cond.laysFinal "JokePump$1" "JokePump$Deed" "this$0" "LJokePump;") ∈ lw_all := lw_g (lw_at lw_m2 10 rfl) rfl
theorem q336 : (Jvm.Cond.superclass "JokePump$1" "JokePump$Deed") ∈ lw_all := lw_g (lw_at lw_m2 12 rfl) rfl
theorem q350 : (Jvm.Cond.sameMethod "JokePump$1" "JokePump$Deed" "doneIf" "(ZZ)I") ∈ lw_all := lw_g (lw_at lw_m2 26 rfl) rfl
theorem q352 : (Jvm.Cond.selects "JokePump$1" ({ cls := "JokePump$1", name := "doneIf", desc := "(ZZ)I" } : Jvm.MethodName) ({ cls := "JokePump$Deed", name := "doneIf", desc := "(ZZ)I" } : Jvm.MethodName)) ∈ lw_all := lw_g (lw_at lw_m2 28 rfl) rfl
theorem q358 : (Jvm.Cond.selects "JokePump$1" ({ cls := "JokePump$Deed", name := "done", desc := "()I" } : Jvm.MethodName) ({ cls := "JokePump$Deed", name := "done", desc := "()I" } : Jvm.MethodName)) ∈ lw_all := lw_g (lw_at lw_m2 34 rfl) rfl
theorem q642 : (Jvm.Cond.selects "JokePump$1" ({ cls := "java/lang/Object", name := "getClass", desc := "()Ljava/lang/Class;" } : Jvm.MethodName) ({ cls := "java/lang/Object", name := "getClass", desc := "()Ljava/lang/Class;" } : Jvm.MethodName)) ∈ lw_all := lw_g (lw_at lw_m3 78 rfl) rfl
theorem q709 : (Jvm.Cond.selects "JokePump$1" ({ cls := "JokePump$Deed", name := "does", desc := "(LJokePump$Pump;)I" } : Jvm.MethodName) ({ cls := "JokePump$1", name := "does", desc := "(LJokePump$Pump;)I" } : Jvm.MethodName)) ∈ lw_all := lw_g (lw_at lw_m3 145 rfl) rfl
theorem q710 : (Jvm.Cond.instanceMethod ({ cls := "JokePump$1", name := "does", desc := "(LJokePump$Pump;)I" } : Jvm.MethodName)) ∈ lw_all := lw_g (lw_at lw_m3 146 rfl) rfl
theorem q711 : (Jvm.Cond.code ({ cls := "JokePump$1", name := "does", desc := "(LJokePump$Pump;)I" } : Jvm.MethodName) prog_2_method_2_code (2 : Nat) (Option.some Jvm.ClassFile.FieldType.int)) ∈ lw_all := lw_g (lw_at lw_m3 147 rfl) rfl
theorem q712 : (Jvm.Cond.methodLink "JokePump$1" (26 : Nat) ({ cls := "JokePump$Pump", name := "comes", desc := "(IIII)I" } : Jvm.MethodName)) ∈ lw_all := lw_g (lw_at lw_m3 148 rfl) rfl
theorem q941 : (Jvm.Cond.selects "JokePump$1" ({ cls := "java/lang/Object", name := "equals", desc := "(Ljava/lang/Object;)Z" } : Jvm.MethodName) ({ cls := "java/lang/Object", name := "equals", desc := "(Ljava/lang/Object;)Z" } : Jvm.MethodName)) ∈ lw_all := lw_g (lw_at lw_m4 137 rfl) rfl
theorem q2495 : (Jvm.Cond.castable "JokePump$1" "java/lang/Object") ∈ lw_tbl := lw_at lw_m11 11 rfl
theorem in_X4 : ∀ w ∈ wsX40, w ∈ lw_all := lw_in wsX40 [334, 324, 326, 328, 330, 332] (by decide +kernel) (by decide +kernel)

/-! JokePump$Joke -/
set_option maxRecDepth 100000
def RX5 : String := "JokePump$Joke"
def TX5 : u_T := fun k => match k with
  | 0 => ("JokePump$Joke", "number", "I", false)
  | 1 => ("JokePump$Joke", "well", "I", true)
  | 2 => ("JokePump$Joke", "depth", "I", true)
  | 3 => ("JokePump$Joke", "sign", "I", true)
  | 4 => ("JokePump$Joke", "wit", "I", true)
  | _ => ("JokePump$Joke", "isPrimed", "Z", false)
def tyX5 : Nat → FieldType := fun k => match k with
  | 0 => .int
  | 1 => .int
  | 2 => .int
  | 3 => .int
  | 4 => .int
  | _ => .boolean
abbrev wsX50 : List Cond := u_ws RX5 TX5 6
theorem nmX5 : ∀ a, a < 6 → ∀ b, b < 6 → a ≠ b → (TX5 a).2.1 ≠ (TX5 b).2.1 := by decide +kernel
theorem tyX5_ok : ∀ k, k < 6 → parseFieldDescriptor (TX5 k).2.2.1 = some (tyX5 k) := by decide +kernel
abbrev cX5_laugh : ByteArray := prog_16_method_3_code
def yX5_laugh : MethodName := ⟨RX5, "laugh", "(I)F"⟩
def dkwX5_laugh_1 : List UInt8 := [36, 12, 27, 134, 18, 35, 110, 98, 110, 174]
abbrev dktX5_laugh_1 : List UInt8 := dkwX5_laugh_1 ++ []
def dkwX5_laugh_0 : List UInt8 := [42, 180, 0, 30, 153, 0, 14, 42, 180, 0, 24, 134, 18, 34, 106, 167, 0, 8, 42, 180, 0, 24, 134, 69]
abbrev dktX5_laugh_0 : List UInt8 := dkwX5_laugh_0 ++ dktX5_laugh_1
theorem dksX5_laugh_0 : cX5_laugh.data.toList.drop 0 = dktX5_laugh_0 := by decide +kernel
theorem dksX5_laugh_1 : cX5_laugh.data.toList.drop 24 = dktX5_laugh_1 := dk_seg dksX5_laugh_0 24 rfl rfl
theorem dX5_laugh_0 : decode cX5_laugh 0 = .ok (.aload_n 0, 1) := dk_42 (dk_at dksX5_laugh_0 0 rfl rfl)
theorem dX5_laugh_1 : decode cX5_laugh 1 = .ok (.getfield 30, 3) := dk_180 0 30 (dk_at dksX5_laugh_0 1 rfl rfl)
theorem dX5_laugh_4 : decode cX5_laugh 4 = .ok (.ifCond .eq 14, 3) := dk_153 0 14 (dk_at dksX5_laugh_0 4 rfl rfl)
theorem dX5_laugh_7 : decode cX5_laugh 7 = .ok (.aload_n 0, 1) := dk_42 (dk_at dksX5_laugh_0 7 rfl rfl)
theorem dX5_laugh_8 : decode cX5_laugh 8 = .ok (.getfield 24, 3) := dk_180 0 24 (dk_at dksX5_laugh_0 8 rfl rfl)
theorem dX5_laugh_11 : decode cX5_laugh 11 = .ok (.i2f, 1) := dk_134 (dk_at dksX5_laugh_0 11 rfl rfl)
theorem dX5_laugh_12 : decode cX5_laugh 12 = .ok (.ldc 34, 2) := dk_18 34 (dk_at dksX5_laugh_0 12 rfl rfl)
theorem dX5_laugh_14 : decode cX5_laugh 14 = .ok (.fmul, 1) := dk_106 (dk_at dksX5_laugh_0 14 rfl rfl)
theorem dX5_laugh_15 : decode cX5_laugh 15 = .ok (.goto 8, 3) := dk_167 0 8 (dk_at dksX5_laugh_0 15 rfl rfl)
theorem dX5_laugh_18 : decode cX5_laugh 18 = .ok (.aload_n 0, 1) := dk_42 (dk_at dksX5_laugh_0 18 rfl rfl)
theorem dX5_laugh_19 : decode cX5_laugh 19 = .ok (.getfield 24, 3) := dk_180 0 24 (dk_at dksX5_laugh_0 19 rfl rfl)
theorem dX5_laugh_22 : decode cX5_laugh 22 = .ok (.i2f, 1) := dk_134 (dk_at dksX5_laugh_0 22 rfl rfl)
theorem dX5_laugh_23 : decode cX5_laugh 23 = .ok (.fstore_n 2, 1) := dk_69 (dk_at dksX5_laugh_0 23 rfl rfl)
theorem dX5_laugh_24 : decode cX5_laugh 24 = .ok (.fload_n 2, 1) := dk_36 (dk_at dksX5_laugh_1 0 rfl rfl)
theorem dX5_laugh_25 : decode cX5_laugh 25 = .ok (.fconst 1, 1) := dk_12 (dk_at dksX5_laugh_1 1 rfl rfl)
theorem dX5_laugh_26 : decode cX5_laugh 26 = .ok (.iload_n 1, 1) := dk_27 (dk_at dksX5_laugh_1 2 rfl rfl)
theorem dX5_laugh_27 : decode cX5_laugh 27 = .ok (.i2f, 1) := dk_134 (dk_at dksX5_laugh_1 3 rfl rfl)
theorem dX5_laugh_28 : decode cX5_laugh 28 = .ok (.ldc 35, 2) := dk_18 35 (dk_at dksX5_laugh_1 4 rfl rfl)
theorem dX5_laugh_30 : decode cX5_laugh 30 = .ok (.fdiv, 1) := dk_110 (dk_at dksX5_laugh_1 6 rfl rfl)
theorem dX5_laugh_31 : decode cX5_laugh 31 = .ok (.fadd, 1) := dk_98 (dk_at dksX5_laugh_1 7 rfl rfl)
theorem dX5_laugh_32 : decode cX5_laugh 32 = .ok (.fdiv, 1) := dk_110 (dk_at dksX5_laugh_1 8 rfl rfl)
theorem dX5_laugh_33 : decode cX5_laugh 33 = .ok (.freturn, 1) := dk_174 (dk_at dksX5_laugh_1 9 rfl rfl)
abbrev cX5_init : ByteArray := prog_16_method_2_code
def yX5_init : MethodName := ⟨RX5, "<init>", "(LJokePump$Joke;)V"⟩
def dkwX5_init_1 : List UInt8 := [42, 43, 180, 0, 30, 181, 0, 30, 177]
abbrev dktX5_init_1 : List UInt8 := dkwX5_init_1 ++ []
def dkwX5_init_0 : List UInt8 := [42, 43, 180, 0, 9, 43, 180, 0, 15, 43, 180, 0, 18, 43, 180, 0, 21, 43, 180, 0, 24, 183, 0, 27]
abbrev dktX5_init_0 : List UInt8 := dkwX5_init_0 ++ dktX5_init_1
theorem dksX5_init_0 : cX5_init.data.toList.drop 0 = dktX5_init_0 := by decide +kernel
theorem dksX5_init_1 : cX5_init.data.toList.drop 24 = dktX5_init_1 := dk_seg dksX5_init_0 24 rfl rfl
theorem dX5_init_0 : decode cX5_init 0 = .ok (.aload_n 0, 1) := dk_42 (dk_at dksX5_init_0 0 rfl rfl)
theorem dX5_init_1 : decode cX5_init 1 = .ok (.aload_n 1, 1) := dk_43 (dk_at dksX5_init_0 1 rfl rfl)
theorem dX5_init_2 : decode cX5_init 2 = .ok (.getfield 9, 3) := dk_180 0 9 (dk_at dksX5_init_0 2 rfl rfl)
theorem dX5_init_5 : decode cX5_init 5 = .ok (.aload_n 1, 1) := dk_43 (dk_at dksX5_init_0 5 rfl rfl)
theorem dX5_init_6 : decode cX5_init 6 = .ok (.getfield 15, 3) := dk_180 0 15 (dk_at dksX5_init_0 6 rfl rfl)
theorem dX5_init_9 : decode cX5_init 9 = .ok (.aload_n 1, 1) := dk_43 (dk_at dksX5_init_0 9 rfl rfl)
theorem dX5_init_10 : decode cX5_init 10 = .ok (.getfield 18, 3) := dk_180 0 18 (dk_at dksX5_init_0 10 rfl rfl)
theorem dX5_init_13 : decode cX5_init 13 = .ok (.aload_n 1, 1) := dk_43 (dk_at dksX5_init_0 13 rfl rfl)
theorem dX5_init_14 : decode cX5_init 14 = .ok (.getfield 21, 3) := dk_180 0 21 (dk_at dksX5_init_0 14 rfl rfl)
theorem dX5_init_17 : decode cX5_init 17 = .ok (.aload_n 1, 1) := dk_43 (dk_at dksX5_init_0 17 rfl rfl)
theorem dX5_init_18 : decode cX5_init 18 = .ok (.getfield 24, 3) := dk_180 0 24 (dk_at dksX5_init_0 18 rfl rfl)
theorem dX5_init_21 : decode cX5_init 21 = .ok (.invokespecial 27, 3) := dk_183 0 27 (dk_at dksX5_init_0 21 rfl rfl)
theorem dX5_init_24 : decode cX5_init 24 = .ok (.aload_n 0, 1) := dk_42 (dk_at dksX5_init_1 0 rfl rfl)
theorem dX5_init_25 : decode cX5_init 25 = .ok (.aload_n 1, 1) := dk_43 (dk_at dksX5_init_1 1 rfl rfl)
theorem dX5_init_26 : decode cX5_init 26 = .ok (.getfield 30, 3) := dk_180 0 30 (dk_at dksX5_init_1 2 rfl rfl)
theorem dX5_init_29 : decode cX5_init 29 = .ok (.putfield 30, 3) := dk_181 0 30 (dk_at dksX5_init_1 5 rfl rfl)
theorem dX5_init_32 : decode cX5_init 32 = .ok (.return_, 1) := dk_177 (dk_at dksX5_init_1 8 rfl rfl)
abbrev cX5_init_2 : ByteArray := prog_16_method_1_code
def yX5_init_2 : MethodName := ⟨RX5, "<init>", "(IIIII)V"⟩
def dkwX5_init_2_1 : List UInt8 := [181, 0, 21, 42, 21, 5, 181, 0, 24, 177]
abbrev dktX5_init_2_1 : List UInt8 := dkwX5_init_2_1 ++ []
def dkwX5_init_2_0 : List UInt8 := [42, 183, 0, 3, 42, 27, 181, 0, 9, 42, 28, 181, 0, 15, 42, 29, 181, 0, 18, 42, 21, 4]
abbrev dktX5_init_2_0 : List UInt8 := dkwX5_init_2_0 ++ dktX5_init_2_1
theorem dksX5_init_2_0 : cX5_init_2.data.toList.drop 0 = dktX5_init_2_0 := by decide +kernel
theorem dksX5_init_2_1 : cX5_init_2.data.toList.drop 22 = dktX5_init_2_1 := dk_seg dksX5_init_2_0 22 rfl rfl
theorem dX5_init_2_0 : decode cX5_init_2 0 = .ok (.aload_n 0, 1) := dk_42 (dk_at dksX5_init_2_0 0 rfl rfl)
theorem dX5_init_2_1 : decode cX5_init_2 1 = .ok (.invokespecial 3, 3) := dk_183 0 3 (dk_at dksX5_init_2_0 1 rfl rfl)
theorem dX5_init_2_4 : decode cX5_init_2 4 = .ok (.aload_n 0, 1) := dk_42 (dk_at dksX5_init_2_0 4 rfl rfl)
theorem dX5_init_2_5 : decode cX5_init_2 5 = .ok (.iload_n 1, 1) := dk_27 (dk_at dksX5_init_2_0 5 rfl rfl)
theorem dX5_init_2_6 : decode cX5_init_2 6 = .ok (.putfield 9, 3) := dk_181 0 9 (dk_at dksX5_init_2_0 6 rfl rfl)
theorem dX5_init_2_9 : decode cX5_init_2 9 = .ok (.aload_n 0, 1) := dk_42 (dk_at dksX5_init_2_0 9 rfl rfl)
theorem dX5_init_2_10 : decode cX5_init_2 10 = .ok (.iload_n 2, 1) := dk_28 (dk_at dksX5_init_2_0 10 rfl rfl)
theorem dX5_init_2_11 : decode cX5_init_2 11 = .ok (.putfield 15, 3) := dk_181 0 15 (dk_at dksX5_init_2_0 11 rfl rfl)
theorem dX5_init_2_14 : decode cX5_init_2 14 = .ok (.aload_n 0, 1) := dk_42 (dk_at dksX5_init_2_0 14 rfl rfl)
theorem dX5_init_2_15 : decode cX5_init_2 15 = .ok (.iload_n 3, 1) := dk_29 (dk_at dksX5_init_2_0 15 rfl rfl)
theorem dX5_init_2_16 : decode cX5_init_2 16 = .ok (.putfield 18, 3) := dk_181 0 18 (dk_at dksX5_init_2_0 16 rfl rfl)
theorem dX5_init_2_19 : decode cX5_init_2 19 = .ok (.aload_n 0, 1) := dk_42 (dk_at dksX5_init_2_0 19 rfl rfl)
theorem dX5_init_2_20 : decode cX5_init_2 20 = .ok (.iload 4, 2) := dk_21 4 (dk_at dksX5_init_2_0 20 rfl rfl)
theorem dX5_init_2_22 : decode cX5_init_2 22 = .ok (.putfield 21, 3) := dk_181 0 21 (dk_at dksX5_init_2_1 0 rfl rfl)
theorem dX5_init_2_25 : decode cX5_init_2 25 = .ok (.aload_n 0, 1) := dk_42 (dk_at dksX5_init_2_1 3 rfl rfl)
theorem dX5_init_2_26 : decode cX5_init_2 26 = .ok (.iload 5, 2) := dk_21 5 (dk_at dksX5_init_2_1 4 rfl rfl)
theorem dX5_init_2_28 : decode cX5_init_2 28 = .ok (.putfield 24, 3) := dk_181 0 24 (dk_at dksX5_init_2_1 6 rfl rfl)
theorem dX5_init_2_31 : decode cX5_init_2 31 = .ok (.return_, 1) := dk_177 (dk_at dksX5_init_2_1 9 rfl rfl)
theorem q99 : (Jvm.Cond.initialized "JokePump$Joke") ∈ lw_all := lw_g (lw_at lw_m1 15 rfl) rfl
theorem q559 : (Jvm.Cond.instanceMethod ({ cls := "JokePump$Joke", name := "laugh", desc := "(I)F" } : Jvm.MethodName)) ∈ lw_all := lw_g (lw_at lw_m2 235 rfl) rfl
theorem q560 : (Jvm.Cond.selects "JokePump$Joke" ({ cls := "JokePump$Joke", name := "laugh", desc := "(I)F" } : Jvm.MethodName) ({ cls := "JokePump$Joke", name := "laugh", desc := "(I)F" } : Jvm.MethodName)) ∈ lw_all := lw_g (lw_at lw_m2 236 rfl) rfl
theorem q561 : (Jvm.Cond.code ({ cls := "JokePump$Joke", name := "laugh", desc := "(I)F" } : Jvm.MethodName) prog_16_method_3_code (3 : Nat) (Option.some Jvm.ClassFile.FieldType.float)) ∈ lw_all := lw_g (lw_at lw_m2 237 rfl) rfl
theorem q562 : (Jvm.Cond.constantFloat "JokePump$Joke" (34 : Nat) (1069547520 : UInt32)) ∈ lw_all := lw_g (lw_at lw_m2 238 rfl) rfl
theorem q563 : (Jvm.Cond.constantFloat "JokePump$Joke" (35 : Nat) (1098907648 : UInt32)) ∈ lw_all := lw_g (lw_at lw_m2 239 rfl) rfl
theorem q567 : (Jvm.Cond.instantiable "JokePump$Joke" (6 : Nat)) ∈ lw_all := lw_g (lw_at lw_m3 3 rfl) rfl
theorem q569 : (Jvm.Cond.instanceMethod ({ cls := "JokePump$Joke", name := "<init>", desc := "(LJokePump$Joke;)V" } : Jvm.MethodName)) ∈ lw_all := lw_g (lw_at lw_m3 5 rfl) rfl
theorem q570 : (Jvm.Cond.code ({ cls := "JokePump$Joke", name := "<init>", desc := "(LJokePump$Joke;)V" } : Jvm.MethodName) prog_16_method_2_code (2 : Nat) (Option.none : Option Jvm.ClassFile.FieldType)) ∈ lw_all := lw_g (lw_at lw_m3 6 rfl) rfl
theorem q571 : (Jvm.Cond.methodLink "JokePump$Joke" (27 : Nat) ({ cls := "JokePump$Joke", name := "<init>", desc := "(IIIII)V" } : Jvm.MethodName)) ∈ lw_all := lw_g (lw_at lw_m3 7 rfl) rfl
theorem q572 : (Jvm.Cond.instanceMethod ({ cls := "JokePump$Joke", name := "<init>", desc := "(IIIII)V" } : Jvm.MethodName)) ∈ lw_all := lw_g (lw_at lw_m3 8 rfl) rfl
theorem q573 : (Jvm.Cond.code ({ cls := "JokePump$Joke", name := "<init>", desc := "(IIIII)V" } : Jvm.MethodName) prog_16_method_1_code (6 : Nat) (Option.none : Option Jvm.ClassFile.FieldType)) ∈ lw_all := lw_g (lw_at lw_m3 9 rfl) rfl
theorem q574 : (Jvm.Cond.methodLink "JokePump$Joke" (3 : Nat) ({ cls := "java/lang/Object", name := "<init>", desc := "()V" } : Jvm.MethodName)) ∈ lw_all := lw_g (lw_at lw_m3 10 rfl) rfl
theorem q575 : (Jvm.Cond.fieldLink "JokePump$Joke" (9 : Nat) "JokePump$Joke" "number" "I") ∈ lw_all := lw_g (lw_at lw_m3 11 rfl) rfl
theorem q578 : (Jvm.Cond.fieldLink "JokePump$Joke" (15 : Nat) "JokePump$Joke" "well" "I") ∈ lw_all := lw_g (lw_at lw_m3 14 rfl) rfl
theorem q583 : (Jvm.Cond.fieldLink "JokePump$Joke" (18 : Nat) "JokePump$Joke" "depth" "I") ∈ lw_all := lw_g (lw_at lw_m3 19 rfl) rfl
theorem q588 : (Jvm.Cond.fieldLink "JokePump$Joke" (21 : Nat) "JokePump$Joke" "sign" "I") ∈ lw_all := lw_g (lw_at lw_m3 24 rfl) rfl
theorem q591 : (Jvm.Cond.fieldLink "JokePump$Joke" (24 : Nat) "JokePump$Joke" "wit" "I") ∈ lw_all := lw_g (lw_at lw_m3 27 rfl) rfl
theorem q593 : (Jvm.Cond.fieldLink "JokePump$Joke" (30 : Nat) "JokePump$Joke" "isPrimed" "Z") ∈ lw_all := lw_g (lw_at lw_m3 29 rfl) rfl
theorem q596 : (Jvm.Cond.lays "JokePump$Joke" "JokePump$Joke" "number" "I") ∈ lw_all := lw_g (lw_at lw_m3 32 rfl) rfl
theorem q597 : (Jvm.Cond.soleField "JokePump$Joke" "number") ∈ lw_all := lw_g (lw_at lw_m3 33 rfl) rfl
theorem q598 : (Jvm.Cond.laysFinal "JokePump$Joke" "JokePump$Joke" "well" "I") ∈ lw_all := lw_g (lw_at lw_m3 34 rfl) rfl
theorem q599 : (Jvm.Cond.soleField "JokePump$Joke" "well") ∈ lw_all := lw_g (lw_at lw_m3 35 rfl) rfl
theorem q600 : (Jvm.Cond.laysFinal "JokePump$Joke" "JokePump$Joke" "depth" "I") ∈ lw_all := lw_g (lw_at lw_m3 36 rfl) rfl
theorem q601 : (Jvm.Cond.soleField "JokePump$Joke" "depth") ∈ lw_all := lw_g (lw_at lw_m3 37 rfl) rfl
theorem q602 : (Jvm.Cond.laysFinal "JokePump$Joke" "JokePump$Joke" "sign" "I") ∈ lw_all := lw_g (lw_at lw_m3 38 rfl) rfl
theorem q603 : (Jvm.Cond.soleField "JokePump$Joke" "sign") ∈ lw_all := lw_g (lw_at lw_m3 39 rfl) rfl
theorem q604 : (Jvm.Cond.laysFinal "JokePump$Joke" "JokePump$Joke" "wit" "I") ∈ lw_all := lw_g (lw_at lw_m3 40 rfl) rfl
theorem q605 : (Jvm.Cond.soleField "JokePump$Joke" "wit") ∈ lw_all := lw_g (lw_at lw_m3 41 rfl) rfl
theorem q606 : (Jvm.Cond.lays "JokePump$Joke" "JokePump$Joke" "isPrimed" "Z") ∈ lw_all := lw_g (lw_at lw_m3 42 rfl) rfl
theorem q607 : (Jvm.Cond.soleField "JokePump$Joke" "isPrimed") ∈ lw_all := lw_g (lw_at lw_m3 43 rfl) rfl
theorem q608 : (Jvm.Cond.superclass "JokePump$Joke" "java/lang/Object") ∈ lw_all := lw_g (lw_at lw_m3 44 rfl) rfl
theorem q655 : (Jvm.Cond.selects "JokePump$Joke" ({ cls := "java/lang/Object", name := "getClass", desc := "()Ljava/lang/Class;" } : Jvm.MethodName) ({ cls := "java/lang/Object", name := "getClass", desc := "()Ljava/lang/Class;" } : Jvm.MethodName)) ∈ lw_all := lw_g (lw_at lw_m3 91 rfl) rfl
theorem q959 : (Jvm.Cond.selects "JokePump$Joke" ({ cls := "java/lang/Object", name := "equals", desc := "(Ljava/lang/Object;)Z" } : Jvm.MethodName) ({ cls := "java/lang/Object", name := "equals", desc := "(Ljava/lang/Object;)Z" } : Jvm.MethodName)) ∈ lw_all := lw_g (lw_at lw_m4 155 rfl) rfl
theorem q2497 : (Jvm.Cond.castable "JokePump$Joke" "java/lang/Object") ∈ lw_tbl := lw_at lw_m11 13 rfl
theorem in_X5 : ∀ w ∈ wsX50, w ∈ lw_all := lw_in wsX50 [596, 598, 600, 602, 604, 606] (by decide +kernel) (by decide +kernel)

/-! JokePump$Refused -/
set_option maxRecDepth 100000
def RX6 : String := "JokePump$Refused"
def TX6 : u_T := fun k => match k with
  | 0 => ("java/lang/Throwable", "cause", "Ljava/lang/Throwable;", false)
  | 1 => ("java/lang/Throwable", "stackTrace", "[Ljava/lang/StackTraceElement;", false)
  | 2 => ("java/lang/Throwable", "suppressedExceptions", "Ljava/util/List;", false)
  | 3 => ("java/lang/Throwable", "detailMessage", "Ljava/lang/String;", false)
  | 4 => ("java/lang/Throwable", "backtrace", "Ljava/lang/Object;", false)
  | 5 => ("java/lang/Throwable", "depth", "I", false)
  | 6 => ("JokePump$Refused", "reason", "I", true)
  | _ => ("JokePump$Refused", "detail", "I", true)
def tyX6 : Nat → FieldType := fun k => match k with
  | 0 => .object "java/lang/Throwable"
  | 1 => .array (.object "java/lang/StackTraceElement")
  | 2 => .object "java/util/List"
  | 3 => .object "java/lang/String"
  | 4 => .object "java/lang/Object"
  | 5 => .int
  | 6 => .int
  | _ => .int
abbrev wsX60 : List Cond := u_ws RX6 TX6 8
theorem nmX6 : ∀ a, a < 8 → ∀ b, b < 8 → a ≠ b → (TX6 a).2.1 ≠ (TX6 b).2.1 := by decide +kernel
theorem tyX6_ok : ∀ k, k < 8 → parseFieldDescriptor (TX6 k).2.2.1 = some (tyX6 k) := by decide +kernel
abbrev cX6_init : ByteArray := prog_23_method_2_code
def yX6_init : MethodName := ⟨RX6, "<init>", "(II)V"⟩
def dkwX6_init_0 : List UInt8 := [42, 27, 28, 1, 183, 0, 16, 177]
abbrev dktX6_init_0 : List UInt8 := dkwX6_init_0 ++ []
theorem dksX6_init_0 : cX6_init.data.toList.drop 0 = dktX6_init_0 := by decide +kernel
theorem dX6_init_0 : decode cX6_init 0 = .ok (.aload_n 0, 1) := dk_42 (dk_at dksX6_init_0 0 rfl rfl)
theorem dX6_init_1 : decode cX6_init 1 = .ok (.iload_n 1, 1) := dk_27 (dk_at dksX6_init_0 1 rfl rfl)
theorem dX6_init_2 : decode cX6_init 2 = .ok (.iload_n 2, 1) := dk_28 (dk_at dksX6_init_0 2 rfl rfl)
theorem dX6_init_3 : decode cX6_init 3 = .ok (.aconst_null, 1) := dk_1 (dk_at dksX6_init_0 3 rfl rfl)
theorem dX6_init_4 : decode cX6_init 4 = .ok (.invokespecial 16, 3) := dk_183 0 16 (dk_at dksX6_init_0 4 rfl rfl)
theorem dX6_init_7 : decode cX6_init 7 = .ok (.return_, 1) := dk_177 (dk_at dksX6_init_0 7 rfl rfl)
abbrev cX6_init_2 : ByteArray := prog_23_method_1_code
def yX6_init_2 : MethodName := ⟨RX6, "<init>", "(IILjava/lang/Exception;)V"⟩
def dkwX6_init_2_0 : List UInt8 := [42, 1, 45, 3, 3, 183, 0, 1, 42, 27, 181, 0, 7, 42, 28, 181, 0, 13, 177]
abbrev dktX6_init_2_0 : List UInt8 := dkwX6_init_2_0 ++ []
theorem dksX6_init_2_0 : cX6_init_2.data.toList.drop 0 = dktX6_init_2_0 := by decide +kernel
theorem dX6_init_2_0 : decode cX6_init_2 0 = .ok (.aload_n 0, 1) := dk_42 (dk_at dksX6_init_2_0 0 rfl rfl)
theorem dX6_init_2_1 : decode cX6_init_2 1 = .ok (.aconst_null, 1) := dk_1 (dk_at dksX6_init_2_0 1 rfl rfl)
theorem dX6_init_2_2 : decode cX6_init_2 2 = .ok (.aload_n 3, 1) := dk_45 (dk_at dksX6_init_2_0 2 rfl rfl)
theorem dX6_init_2_3 : decode cX6_init_2 3 = .ok (.iconst 0, 1) := dk_3 (dk_at dksX6_init_2_0 3 rfl rfl)
theorem dX6_init_2_4 : decode cX6_init_2 4 = .ok (.iconst 0, 1) := dk_3 (dk_at dksX6_init_2_0 4 rfl rfl)
theorem dX6_init_2_5 : decode cX6_init_2 5 = .ok (.invokespecial 1, 3) := dk_183 0 1 (dk_at dksX6_init_2_0 5 rfl rfl)
theorem dX6_init_2_8 : decode cX6_init_2 8 = .ok (.aload_n 0, 1) := dk_42 (dk_at dksX6_init_2_0 8 rfl rfl)
theorem dX6_init_2_9 : decode cX6_init_2 9 = .ok (.iload_n 1, 1) := dk_27 (dk_at dksX6_init_2_0 9 rfl rfl)
theorem dX6_init_2_10 : decode cX6_init_2 10 = .ok (.putfield 7, 3) := dk_181 0 7 (dk_at dksX6_init_2_0 10 rfl rfl)
theorem dX6_init_2_13 : decode cX6_init_2 13 = .ok (.aload_n 0, 1) := dk_42 (dk_at dksX6_init_2_0 13 rfl rfl)
theorem dX6_init_2_14 : decode cX6_init_2 14 = .ok (.iload_n 2, 1) := dk_28 (dk_at dksX6_init_2_0 14 rfl rfl)
theorem dX6_init_2_15 : decode cX6_init_2 15 = .ok (.putfield 13, 3) := dk_181 0 13 (dk_at dksX6_init_2_0 15 rfl rfl)
theorem dX6_init_2_18 : decode cX6_init_2 18 = .ok (.return_, 1) := dk_177 (dk_at dksX6_init_2_0 18 rfl rfl)
theorem q104 : (Jvm.Cond.initialized "JokePump$Refused") ∈ lw_all := lw_g (lw_at lw_m1 20 rfl) rfl
theorem q488 : (Jvm.Cond.selects "JokePump$Refused" ({ cls := "java/lang/Throwable", name := "fillInStackTrace", desc := "()Ljava/lang/Throwable;" } : Jvm.MethodName) ({ cls := "java/lang/Throwable", name := "fillInStackTrace", desc := "()Ljava/lang/Throwable;" } : Jvm.MethodName)) ∈ lw_all := lw_g (lw_at lw_m2 164 rfl) rfl
theorem q662 : (Jvm.Cond.selects "JokePump$Refused" ({ cls := "java/lang/Object", name := "getClass", desc := "()Ljava/lang/Class;" } : Jvm.MethodName) ({ cls := "java/lang/Object", name := "getClass", desc := "()Ljava/lang/Class;" } : Jvm.MethodName)) ∈ lw_all := lw_g (lw_at lw_m3 98 rfl) rfl
theorem q720 : (Jvm.Cond.instantiable "JokePump$Refused" (8 : Nat)) ∈ lw_all := lw_g (lw_at lw_m3 156 rfl) rfl
theorem q721 : (Jvm.Cond.castable "JokePump$Refused" "JokePump$Refused") ∈ lw_tbl := lw_at lw_m3 157 rfl
theorem q722 : (Jvm.Cond.selects "JokePump$Refused" ({ cls := "java/lang/Throwable", name := "fillInStackTrace", desc := "(I)Ljava/lang/Throwable;" } : Jvm.MethodName) ({ cls := "java/lang/Throwable", name := "fillInStackTrace", desc := "(I)Ljava/lang/Throwable;" } : Jvm.MethodName)) ∈ lw_all := lw_g (lw_at lw_m3 158 rfl) rfl
theorem q723 : (Jvm.Cond.lays "JokePump$Refused" "java/lang/Throwable" "cause" "Ljava/lang/Throwable;") ∈ lw_all := lw_g (lw_at lw_m3 159 rfl) rfl
theorem q724 : (Jvm.Cond.lays "JokePump$Refused" "java/lang/Throwable" "stackTrace" "[Ljava/lang/StackTraceElement;") ∈ lw_all := lw_g (lw_at lw_m3 160 rfl) rfl
theorem q725 : (Jvm.Cond.lays "JokePump$Refused" "java/lang/Throwable" "suppressedExceptions" "Ljava/util/List;") ∈ lw_all := lw_g (lw_at lw_m3 161 rfl) rfl
theorem q726 : (Jvm.Cond.lays "JokePump$Refused" "java/lang/Throwable" "detailMessage" "Ljava/lang/String;") ∈ lw_all := lw_g (lw_at lw_m3 162 rfl) rfl
theorem q727 : (Jvm.Cond.lays "JokePump$Refused" "java/lang/Throwable" "backtrace" "Ljava/lang/Object;") ∈ lw_all := lw_g (lw_at lw_m3 163 rfl) rfl
theorem q729 : (Jvm.Cond.instanceMethod ({ cls := "JokePump$Refused", name := "<init>", desc := "(II)V" } : Jvm.MethodName)) ∈ lw_all := lw_g (lw_at lw_m3 165 rfl) rfl
theorem q730 : (Jvm.Cond.code ({ cls := "JokePump$Refused", name := "<init>", desc := "(II)V" } : Jvm.MethodName) prog_23_method_2_code (3 : Nat) (Option.none : Option Jvm.ClassFile.FieldType)) ∈ lw_all := lw_g (lw_at lw_m3 166 rfl) rfl
theorem q731 : (Jvm.Cond.methodLink "JokePump$Refused" (16 : Nat) ({ cls := "JokePump$Refused", name := "<init>", desc := "(IILjava/lang/Exception;)V" } : Jvm.MethodName)) ∈ lw_all := lw_g (lw_at lw_m3 167 rfl) rfl
theorem q732 : (Jvm.Cond.instanceMethod ({ cls := "JokePump$Refused", name := "<init>", desc := "(IILjava/lang/Exception;)V" } : Jvm.MethodName)) ∈ lw_all := lw_g (lw_at lw_m3 168 rfl) rfl
theorem q733 : (Jvm.Cond.code ({ cls := "JokePump$Refused", name := "<init>", desc := "(IILjava/lang/Exception;)V" } : Jvm.MethodName) prog_23_method_1_code (4 : Nat) (Option.none : Option Jvm.ClassFile.FieldType)) ∈ lw_all := lw_g (lw_at lw_m3 169 rfl) rfl
theorem q734 : (Jvm.Cond.methodLink "JokePump$Refused" (1 : Nat) ({ cls := "java/lang/Exception", name := "<init>", desc := "(Ljava/lang/String;Ljava/lang/Throwable;ZZ)V" } : Jvm.MethodName)) ∈ lw_all := lw_g (lw_at lw_m3 170 rfl) rfl
theorem q740 : (Jvm.Cond.fieldLink "JokePump$Refused" (7 : Nat) "JokePump$Refused" "reason" "I") ∈ lw_all := lw_g (lw_at lw_m3 176 rfl) rfl
theorem q742 : (Jvm.Cond.fieldLink "JokePump$Refused" (13 : Nat) "JokePump$Refused" "detail" "I") ∈ lw_all := lw_g (lw_at lw_m3 178 rfl) rfl
theorem q744 : (Jvm.Cond.laysFinal "JokePump$Refused" "JokePump$Refused" "reason" "I") ∈ lw_all := lw_g (lw_at lw_m3 180 rfl) rfl
theorem q745 : (Jvm.Cond.soleField "JokePump$Refused" "reason") ∈ lw_all := lw_g (lw_at lw_m3 181 rfl) rfl
theorem q746 : (Jvm.Cond.laysFinal "JokePump$Refused" "JokePump$Refused" "detail" "I") ∈ lw_all := lw_g (lw_at lw_m3 182 rfl) rfl
theorem q747 : (Jvm.Cond.soleField "JokePump$Refused" "detail") ∈ lw_all := lw_g (lw_at lw_m3 183 rfl) rfl
theorem q748 : (Jvm.Cond.lays "JokePump$Refused" "java/lang/Throwable" "depth" "I") ∈ lw_all := lw_g (lw_at lw_m3 184 rfl) rfl
theorem q749 : (Jvm.Cond.superclass "JokePump$Refused" "java/lang/Exception") ∈ lw_all := lw_g (lw_at lw_m3 185 rfl) rfl
theorem q966 : (Jvm.Cond.selects "JokePump$Refused" ({ cls := "java/lang/Object", name := "equals", desc := "(Ljava/lang/Object;)Z" } : Jvm.MethodName) ({ cls := "java/lang/Object", name := "equals", desc := "(Ljava/lang/Object;)Z" } : Jvm.MethodName)) ∈ lw_all := lw_g (lw_at lw_m4 162 rfl) rfl
theorem q1958 : (Jvm.Cond.sameMethod "JokePump$Refused" "java/lang/Throwable" "getCause" "()Ljava/lang/Throwable;") ∈ lw_all := lw_g (lw_at lw_m8 194 rfl) rfl
theorem q1960 : (Jvm.Cond.selects "JokePump$Refused" ({ cls := "JokePump$Refused", name := "getCause", desc := "()Ljava/lang/Throwable;" } : Jvm.MethodName) ({ cls := "java/lang/Throwable", name := "getCause", desc := "()Ljava/lang/Throwable;" } : Jvm.MethodName)) ∈ lw_all := lw_g (lw_at lw_m8 196 rfl) rfl
theorem q2498 : (Jvm.Cond.castable "JokePump$Refused" "java/lang/Object") ∈ lw_tbl := lw_at lw_m11 14 rfl
theorem in_X6 : ∀ w ∈ wsX60, w ∈ lw_all := lw_in wsX60 [723, 724, 725, 726, 727, 748, 744, 746] (by decide +kernel) (by decide +kernel)

/-! JokePump$OutOfRange -/
set_option maxRecDepth 100000
def RX7 : String := "JokePump$OutOfRange"
def TX7 : u_T := fun k => match k with
  | 0 => ("java/lang/Throwable", "cause", "Ljava/lang/Throwable;", false)
  | 1 => ("java/lang/Throwable", "stackTrace", "[Ljava/lang/StackTraceElement;", false)
  | 2 => ("java/lang/Throwable", "suppressedExceptions", "Ljava/util/List;", false)
  | 3 => ("java/lang/Throwable", "detailMessage", "Ljava/lang/String;", false)
  | 4 => ("java/lang/Throwable", "backtrace", "Ljava/lang/Object;", false)
  | _ => ("java/lang/Throwable", "depth", "I", false)
def tyX7 : Nat → FieldType := fun k => match k with
  | 0 => .object "java/lang/Throwable"
  | 1 => .array (.object "java/lang/StackTraceElement")
  | 2 => .object "java/util/List"
  | 3 => .object "java/lang/String"
  | 4 => .object "java/lang/Object"
  | _ => .int
abbrev wsX70 : List Cond := u_ws RX7 TX7 6
theorem nmX7 : ∀ a, a < 6 → ∀ b, b < 6 → a ≠ b → (TX7 a).2.1 ≠ (TX7 b).2.1 := by decide +kernel
theorem tyX7_ok : ∀ k, k < 6 → parseFieldDescriptor (TX7 k).2.2.1 = some (tyX7 k) := by decide +kernel
abbrev cX7_init : ByteArray := prog_18_method_1_code
def yX7_init : MethodName := ⟨RX7, "<init>", "()V"⟩
def dkwX7_init_0 : List UInt8 := [42, 1, 1, 3, 3, 183, 0, 1, 177]
abbrev dktX7_init_0 : List UInt8 := dkwX7_init_0 ++ []
theorem dksX7_init_0 : cX7_init.data.toList.drop 0 = dktX7_init_0 := by decide +kernel
theorem dX7_init_0 : decode cX7_init 0 = .ok (.aload_n 0, 1) := dk_42 (dk_at dksX7_init_0 0 rfl rfl)
theorem dX7_init_1 : decode cX7_init 1 = .ok (.aconst_null, 1) := dk_1 (dk_at dksX7_init_0 1 rfl rfl)
theorem dX7_init_2 : decode cX7_init 2 = .ok (.aconst_null, 1) := dk_1 (dk_at dksX7_init_0 2 rfl rfl)
theorem dX7_init_3 : decode cX7_init 3 = .ok (.iconst 0, 1) := dk_3 (dk_at dksX7_init_0 3 rfl rfl)
theorem dX7_init_4 : decode cX7_init 4 = .ok (.iconst 0, 1) := dk_3 (dk_at dksX7_init_0 4 rfl rfl)
theorem dX7_init_5 : decode cX7_init 5 = .ok (.invokespecial 1, 3) := dk_183 0 1 (dk_at dksX7_init_0 5 rfl rfl)
theorem dX7_init_8 : decode cX7_init 8 = .ok (.return_, 1) := dk_177 (dk_at dksX7_init_0 8 rfl rfl)
theorem q108 : (Jvm.Cond.initialized "JokePump$OutOfRange") ∈ lw_all := lw_g (lw_at lw_m1 24 rfl) rfl
theorem q487 : (Jvm.Cond.selects "JokePump$OutOfRange" ({ cls := "java/lang/Throwable", name := "fillInStackTrace", desc := "()Ljava/lang/Throwable;" } : Jvm.MethodName) ({ cls := "java/lang/Throwable", name := "fillInStackTrace", desc := "()Ljava/lang/Throwable;" } : Jvm.MethodName)) ∈ lw_all := lw_g (lw_at lw_m2 163 rfl) rfl
theorem q657 : (Jvm.Cond.selects "JokePump$OutOfRange" ({ cls := "java/lang/Object", name := "getClass", desc := "()Ljava/lang/Class;" } : Jvm.MethodName) ({ cls := "java/lang/Object", name := "getClass", desc := "()Ljava/lang/Class;" } : Jvm.MethodName)) ∈ lw_all := lw_g (lw_at lw_m3 93 rfl) rfl
theorem q887 : (Jvm.Cond.instantiable "JokePump$OutOfRange" (6 : Nat)) ∈ lw_all := lw_g (lw_at lw_m4 83 rfl) rfl
theorem q888 : (Jvm.Cond.castable "JokePump$OutOfRange" "JokePump$OutOfRange") ∈ lw_tbl := lw_at lw_m4 84 rfl
theorem q889 : (Jvm.Cond.selects "JokePump$OutOfRange" ({ cls := "java/lang/Throwable", name := "fillInStackTrace", desc := "(I)Ljava/lang/Throwable;" } : Jvm.MethodName) ({ cls := "java/lang/Throwable", name := "fillInStackTrace", desc := "(I)Ljava/lang/Throwable;" } : Jvm.MethodName)) ∈ lw_all := lw_g (lw_at lw_m4 85 rfl) rfl
theorem q890 : (Jvm.Cond.lays "JokePump$OutOfRange" "java/lang/Throwable" "cause" "Ljava/lang/Throwable;") ∈ lw_all := lw_g (lw_at lw_m4 86 rfl) rfl
theorem q891 : (Jvm.Cond.lays "JokePump$OutOfRange" "java/lang/Throwable" "stackTrace" "[Ljava/lang/StackTraceElement;") ∈ lw_all := lw_g (lw_at lw_m4 87 rfl) rfl
theorem q892 : (Jvm.Cond.lays "JokePump$OutOfRange" "java/lang/Throwable" "suppressedExceptions" "Ljava/util/List;") ∈ lw_all := lw_g (lw_at lw_m4 88 rfl) rfl
theorem q893 : (Jvm.Cond.lays "JokePump$OutOfRange" "java/lang/Throwable" "detailMessage" "Ljava/lang/String;") ∈ lw_all := lw_g (lw_at lw_m4 89 rfl) rfl
theorem q894 : (Jvm.Cond.lays "JokePump$OutOfRange" "java/lang/Throwable" "backtrace" "Ljava/lang/Object;") ∈ lw_all := lw_g (lw_at lw_m4 90 rfl) rfl
theorem q896 : (Jvm.Cond.instanceMethod ({ cls := "JokePump$OutOfRange", name := "<init>", desc := "()V" } : Jvm.MethodName)) ∈ lw_all := lw_g (lw_at lw_m4 92 rfl) rfl
theorem q897 : (Jvm.Cond.code ({ cls := "JokePump$OutOfRange", name := "<init>", desc := "()V" } : Jvm.MethodName) prog_18_method_1_code (1 : Nat) (Option.none : Option Jvm.ClassFile.FieldType)) ∈ lw_all := lw_g (lw_at lw_m4 93 rfl) rfl
theorem q898 : (Jvm.Cond.methodLink "JokePump$OutOfRange" (1 : Nat) ({ cls := "java/lang/Exception", name := "<init>", desc := "(Ljava/lang/String;Ljava/lang/Throwable;ZZ)V" } : Jvm.MethodName)) ∈ lw_all := lw_g (lw_at lw_m4 94 rfl) rfl
theorem q899 : (Jvm.Cond.lays "JokePump$OutOfRange" "java/lang/Throwable" "depth" "I") ∈ lw_all := lw_g (lw_at lw_m4 95 rfl) rfl
theorem q900 : (Jvm.Cond.superclass "JokePump$OutOfRange" "java/lang/Exception") ∈ lw_all := lw_g (lw_at lw_m4 96 rfl) rfl
theorem q961 : (Jvm.Cond.selects "JokePump$OutOfRange" ({ cls := "java/lang/Object", name := "equals", desc := "(Ljava/lang/Object;)Z" } : Jvm.MethodName) ({ cls := "java/lang/Object", name := "equals", desc := "(Ljava/lang/Object;)Z" } : Jvm.MethodName)) ∈ lw_all := lw_g (lw_at lw_m4 157 rfl) rfl
theorem q2520 : (Jvm.Cond.castable "JokePump$OutOfRange" "java/lang/Object") ∈ lw_tbl := lw_at lw_m11 36 rfl
theorem in_X7 : ∀ w ∈ wsX70, w ∈ lw_all := lw_in wsX70 [890, 891, 892, 893, 894, 899] (by decide +kernel) (by decide +kernel)

/-! JokePump$Pump$1 -/
set_option maxRecDepth 100000
def RX8 : String := "JokePump$Pump$1"
def TX8 : u_T := fun k => match k with
  | 0 => ("JokePump$Pump$1", "val$of", "I", true)
  | _ => ("JokePump$Pump$1", "this$0", "LJokePump$Pump;", true)
def tyX8 : Nat → FieldType := fun k => match k with
  | 0 => .int
  | _ => .object "JokePump$Pump"
abbrev wsX80 : List Cond := u_ws RX8 TX8 2
theorem nmX8 : ∀ a, a < 2 → ∀ b, b < 2 → a ≠ b → (TX8 a).2.1 ≠ (TX8 b).2.1 := by decide +kernel
theorem tyX8_ok : ∀ k, k < 2 → parseFieldDescriptor (TX8 k).2.2.1 = some (tyX8 k) := by decide +kernel
abbrev cX8_init : ByteArray := prog_20_method_1_code
def yX8_init : MethodName := ⟨RX8, "<init>", "(LJokePump$Pump;I)V"⟩
def dkwX8_init_0 : List UInt8 := [42, 43, 181, 0, 1, 42, 28, 181, 0, 7, 42, 183, 0, 11, 177]
abbrev dktX8_init_0 : List UInt8 := dkwX8_init_0 ++ []
theorem dksX8_init_0 : cX8_init.data.toList.drop 0 = dktX8_init_0 := by decide +kernel
theorem dX8_init_0 : decode cX8_init 0 = .ok (.aload_n 0, 1) := dk_42 (dk_at dksX8_init_0 0 rfl rfl)
theorem dX8_init_1 : decode cX8_init 1 = .ok (.aload_n 1, 1) := dk_43 (dk_at dksX8_init_0 1 rfl rfl)
theorem dX8_init_2 : decode cX8_init 2 = .ok (.putfield 1, 3) := dk_181 0 1 (dk_at dksX8_init_0 2 rfl rfl)
theorem dX8_init_5 : decode cX8_init 5 = .ok (.aload_n 0, 1) := dk_42 (dk_at dksX8_init_0 5 rfl rfl)
theorem dX8_init_6 : decode cX8_init 6 = .ok (.iload_n 2, 1) := dk_28 (dk_at dksX8_init_0 6 rfl rfl)
theorem dX8_init_7 : decode cX8_init 7 = .ok (.putfield 7, 3) := dk_181 0 7 (dk_at dksX8_init_0 7 rfl rfl)
theorem dX8_init_10 : decode cX8_init 10 = .ok (.aload_n 0, 1) := dk_42 (dk_at dksX8_init_0 10 rfl rfl)
theorem dX8_init_11 : decode cX8_init 11 = .ok (.invokespecial 11, 3) := dk_183 0 11 (dk_at dksX8_init_0 11 rfl rfl)
theorem dX8_init_14 : decode cX8_init 14 = .ok (.return_, 1) := dk_177 (dk_at dksX8_init_0 14 rfl rfl)
abbrev cX8_iterator : ByteArray := prog_20_method_2_code
def yX8_iterator : MethodName := ⟨RX8, "iterator", "()Ljava/util/Iterator;"⟩
def dkwX8_iterator_0 : List UInt8 := [187, 0, 17, 89, 42, 180, 0, 1, 42, 180, 0, 7, 183, 0, 19, 176]
abbrev dktX8_iterator_0 : List UInt8 := dkwX8_iterator_0 ++ []
theorem dksX8_iterator_0 : cX8_iterator.data.toList.drop 0 = dktX8_iterator_0 := by decide +kernel
theorem dX8_iterator_0 : decode cX8_iterator 0 = .ok (.new 17, 3) := dk_187 0 17 (dk_at dksX8_iterator_0 0 rfl rfl)
theorem dX8_iterator_3 : decode cX8_iterator 3 = .ok (.dup, 1) := dk_89 (dk_at dksX8_iterator_0 3 rfl rfl)
theorem dX8_iterator_4 : decode cX8_iterator 4 = .ok (.aload_n 0, 1) := dk_42 (dk_at dksX8_iterator_0 4 rfl rfl)
theorem dX8_iterator_5 : decode cX8_iterator 5 = .ok (.getfield 1, 3) := dk_180 0 1 (dk_at dksX8_iterator_0 5 rfl rfl)
theorem dX8_iterator_8 : decode cX8_iterator 8 = .ok (.aload_n 0, 1) := dk_42 (dk_at dksX8_iterator_0 8 rfl rfl)
theorem dX8_iterator_9 : decode cX8_iterator 9 = .ok (.getfield 7, 3) := dk_180 0 7 (dk_at dksX8_iterator_0 9 rfl rfl)
theorem dX8_iterator_12 : decode cX8_iterator 12 = .ok (.invokespecial 19, 3) := dk_183 0 19 (dk_at dksX8_iterator_0 12 rfl rfl)
theorem dX8_iterator_15 : decode cX8_iterator 15 = .ok (.areturn, 1) := dk_176 (dk_at dksX8_iterator_0 15 rfl rfl)
theorem q111 : (Jvm.Cond.initialized "JokePump$Pump$1") ∈ lw_all := lw_g (lw_at lw_m1 27 rfl) rfl
theorem q659 : (Jvm.Cond.selects "JokePump$Pump$1" ({ cls := "java/lang/Object", name := "getClass", desc := "()Ljava/lang/Class;" } : Jvm.MethodName) ({ cls := "java/lang/Object", name := "getClass", desc := "()Ljava/lang/Class;" } : Jvm.MethodName)) ∈ lw_all := lw_g (lw_at lw_m3 95 rfl) rfl
theorem q963 : (Jvm.Cond.selects "JokePump$Pump$1" ({ cls := "java/lang/Object", name := "equals", desc := "(Ljava/lang/Object;)Z" } : Jvm.MethodName) ({ cls := "java/lang/Object", name := "equals", desc := "(Ljava/lang/Object;)Z" } : Jvm.MethodName)) ∈ lw_all := lw_g (lw_at lw_m4 159 rfl) rfl
theorem q1021 : (Jvm.Cond.instantiable "JokePump$Pump$1" (2 : Nat)) ∈ lw_all := lw_g (lw_at lw_m4 217 rfl) rfl
theorem q1023 : (Jvm.Cond.instanceMethod ({ cls := "JokePump$Pump$1", name := "<init>", desc := "(LJokePump$Pump;I)V" } : Jvm.MethodName)) ∈ lw_all := lw_g (lw_at lw_m4 219 rfl) rfl
theorem q1024 : (Jvm.Cond.code ({ cls := "JokePump$Pump$1", name := "<init>", desc := "(LJokePump$Pump;I)V" } : Jvm.MethodName) prog_20_method_1_code (3 : Nat) (Option.none : Option Jvm.ClassFile.FieldType)) ∈ lw_all := lw_g (lw_at lw_m4 220 rfl) rfl
theorem q1025 : (Jvm.Cond.methodLink "JokePump$Pump$1" (11 : Nat) ({ cls := "java/lang/Object", name := "<init>", desc := "()V" } : Jvm.MethodName)) ∈ lw_all := lw_g (lw_at lw_m4 221 rfl) rfl
theorem q1026 : (Jvm.Cond.fieldLink "JokePump$Pump$1" (7 : Nat) "JokePump$Pump$1" "val$of" "I") ∈ lw_all := lw_g (lw_at lw_m4 222 rfl) rfl
theorem q1027 : (Jvm.Cond.fieldLink "JokePump$Pump$1" (1 : Nat) "JokePump$Pump$1" "this$0" "LJokePump$Pump;") ∈ lw_all := lw_g (lw_at lw_m4 223 rfl) rfl
theorem q1028 : (Jvm.Cond.laysFinal "JokePump$Pump$1" "JokePump$Pump$1" "val$of" "I") ∈ lw_all := lw_g (lw_at lw_m4 224 rfl) rfl
theorem q1029 : (Jvm.Cond.soleField "JokePump$Pump$1" "val$of") ∈ lw_all := lw_g (lw_at lw_m4 225 rfl) rfl
theorem q1030 : (Jvm.Cond.laysFinal "JokePump$Pump$1" "JokePump$Pump$1" "this$0" "LJokePump$Pump;") ∈ lw_all := lw_g (lw_at lw_m4 226 rfl) rfl
theorem q1031 : (Jvm.Cond.soleField "JokePump$Pump$1" "this$0") ∈ lw_all := lw_g (lw_at lw_m4 227 rfl) rfl
theorem q1032 : (Jvm.Cond.superclass "JokePump$Pump$1" "java/lang/Object") ∈ lw_all := lw_g (lw_at lw_m4 228 rfl) rfl
theorem q1055 : (Jvm.Cond.castable "JokePump$Pump$1" "java/lang/Iterable") ∈ lw_tbl := lw_at lw_m5 11 rfl
theorem q1056 : (Jvm.Cond.selects "JokePump$Pump$1" ({ cls := "java/lang/Iterable", name := "iterator", desc := "()Ljava/util/Iterator;" } : Jvm.MethodName) ({ cls := "JokePump$Pump$1", name := "iterator", desc := "()Ljava/util/Iterator;" } : Jvm.MethodName)) ∈ lw_all := lw_g (lw_at lw_m5 12 rfl) rfl
theorem q1057 : (Jvm.Cond.unhidden "JokePump$Pump$1" "iterator" "()Ljava/util/Iterator;") ∈ lw_tbl := lw_at lw_m5 13 rfl
theorem q1058 : (Jvm.Cond.instanceMethod ({ cls := "JokePump$Pump$1", name := "iterator", desc := "()Ljava/util/Iterator;" } : Jvm.MethodName)) ∈ lw_all := lw_g (lw_at lw_m5 14 rfl) rfl
theorem q1059 : (Jvm.Cond.publicMethod ({ cls := "JokePump$Pump$1", name := "iterator", desc := "()Ljava/util/Iterator;" } : Jvm.MethodName)) ∈ lw_tbl := lw_at lw_m5 15 rfl
theorem q1060 : (Jvm.Cond.code ({ cls := "JokePump$Pump$1", name := "iterator", desc := "()Ljava/util/Iterator;" } : Jvm.MethodName) prog_20_method_2_code (1 : Nat) (Option.some (Jvm.ClassFile.FieldType.object "java/util/Iterator"))) ∈ lw_all := lw_g (lw_at lw_m5 16 rfl) rfl
theorem q1061 : (Jvm.Cond.classLink "JokePump$Pump$1" (17 : Nat) "JokePump$Pump$Down") ∈ lw_all := lw_g (lw_at lw_m5 17 rfl) rfl
theorem q1062 : (Jvm.Cond.methodLink "JokePump$Pump$1" (19 : Nat) ({ cls := "JokePump$Pump$Down", name := "<init>", desc := "(LJokePump$Pump;I)V" } : Jvm.MethodName)) ∈ lw_all := lw_g (lw_at lw_m5 18 rfl) rfl
theorem q2506 : (Jvm.Cond.castable "JokePump$Pump$1" "java/lang/Object") ∈ lw_tbl := lw_at lw_m11 22 rfl
theorem in_X8 : ∀ w ∈ wsX80, w ∈ lw_all := lw_in wsX80 [1028, 1030] (by decide +kernel) (by decide +kernel)

/-! JokePump$1Funny -/
set_option maxRecDepth 100000
def RX9 : String := "JokePump$1Funny"
def TX9 : u_T := fun k => match k with
  | 0 => ("JokePump$1Funny", "last", "LJokePump$Joke;", false)
  | _ => ("JokePump$1Funny", "this$0", "LJokePump;", true)
def tyX9 : Nat → FieldType := fun k => match k with
  | 0 => .object "JokePump$Joke"
  | _ => .object "JokePump"
abbrev wsX90 : List Cond := u_ws RX9 TX9 2
theorem nmX9 : ∀ a, a < 2 → ∀ b, b < 2 → a ≠ b → (TX9 a).2.1 ≠ (TX9 b).2.1 := by decide +kernel
theorem tyX9_ok : ∀ k, k < 2 → parseFieldDescriptor (TX9 k).2.2.1 = some (tyX9 k) := by decide +kernel
abbrev cX9_hasNext : ByteArray := prog_4_method_3_code
def yX9_hasNext : MethodName := ⟨RX9, "hasNext", "()Z"⟩
def dkwX9_hasNext_0 : List UInt8 := [42, 182, 0, 51, 198, 0, 7, 4, 167, 0, 4, 3, 172]
abbrev dktX9_hasNext_0 : List UInt8 := dkwX9_hasNext_0 ++ []
theorem dksX9_hasNext_0 : cX9_hasNext.data.toList.drop 0 = dktX9_hasNext_0 := by decide +kernel
theorem dX9_hasNext_0 : decode cX9_hasNext 0 = .ok (.aload_n 0, 1) := dk_42 (dk_at dksX9_hasNext_0 0 rfl rfl)
theorem dX9_hasNext_1 : decode cX9_hasNext 1 = .ok (.invokevirtual 51, 3) := dk_182 0 51 (dk_at dksX9_hasNext_0 1 rfl rfl)
theorem dX9_hasNext_4 : decode cX9_hasNext 4 = .ok (.ifnull 7, 3) := dk_198 0 7 (dk_at dksX9_hasNext_0 4 rfl rfl)
theorem dX9_hasNext_7 : decode cX9_hasNext 7 = .ok (.iconst 1, 1) := dk_4 (dk_at dksX9_hasNext_0 7 rfl rfl)
theorem dX9_hasNext_8 : decode cX9_hasNext 8 = .ok (.goto 4, 3) := dk_167 0 4 (dk_at dksX9_hasNext_0 8 rfl rfl)
theorem dX9_hasNext_11 : decode cX9_hasNext 11 = .ok (.iconst 0, 1) := dk_3 (dk_at dksX9_hasNext_0 11 rfl rfl)
theorem dX9_hasNext_12 : decode cX9_hasNext 12 = .ok (.ireturn, 1) := dk_172 (dk_at dksX9_hasNext_0 12 rfl rfl)
abbrev cX9_found : ByteArray := prog_4_method_2_code
def yX9_found : MethodName := ⟨RX9, "found", "()LJokePump$Joke;"⟩
def dkwX9_found_3 : List UInt8 := [198, 0, 15, 42, 180, 0, 1, 45, 43, 182, 0, 47, 153, 0, 5, 45, 76, 167, 255, 185, 43, 176]
abbrev dktX9_found_3 : List UInt8 := dkwX9_found_3 ++ []
def dkwX9_found_2 : List UInt8 := [42, 180, 0, 43, 45, 182, 0, 47, 153, 0, 7, 4, 167, 0, 4, 3, 54, 4, 21, 4, 153, 0, 21, 43]
abbrev dktX9_found_2 : List UInt8 := dkwX9_found_2 ++ dktX9_found_3
def dkwX9_found_1 : List UInt8 := [153, 0, 68, 44, 185, 0, 37, 1, 0, 192, 0, 41, 78, 42, 180, 0, 43, 198, 0, 18, 42, 180, 0, 1]
abbrev dktX9_found_1 : List UInt8 := dkwX9_found_1 ++ dktX9_found_2
def dkwX9_found_0 : List UInt8 := [1, 76, 42, 180, 0, 1, 180, 0, 13, 180, 0, 19, 182, 0, 25, 77, 44, 185, 0, 31, 1, 0]
abbrev dktX9_found_0 : List UInt8 := dkwX9_found_0 ++ dktX9_found_1
theorem dksX9_found_0 : cX9_found.data.toList.drop 0 = dktX9_found_0 := by decide +kernel
theorem dksX9_found_1 : cX9_found.data.toList.drop 22 = dktX9_found_1 := dk_seg dksX9_found_0 22 rfl rfl
theorem dksX9_found_2 : cX9_found.data.toList.drop 46 = dktX9_found_2 := dk_seg dksX9_found_1 24 rfl rfl
theorem dksX9_found_3 : cX9_found.data.toList.drop 70 = dktX9_found_3 := dk_seg dksX9_found_2 24 rfl rfl
theorem dX9_found_0 : decode cX9_found 0 = .ok (.aconst_null, 1) := dk_1 (dk_at dksX9_found_0 0 rfl rfl)
theorem dX9_found_1 : decode cX9_found 1 = .ok (.astore_n 1, 1) := dk_76 (dk_at dksX9_found_0 1 rfl rfl)
theorem dX9_found_2 : decode cX9_found 2 = .ok (.aload_n 0, 1) := dk_42 (dk_at dksX9_found_0 2 rfl rfl)
theorem dX9_found_3 : decode cX9_found 3 = .ok (.getfield 1, 3) := dk_180 0 1 (dk_at dksX9_found_0 3 rfl rfl)
theorem dX9_found_6 : decode cX9_found 6 = .ok (.getfield 13, 3) := dk_180 0 13 (dk_at dksX9_found_0 6 rfl rfl)
theorem dX9_found_9 : decode cX9_found 9 = .ok (.getfield 19, 3) := dk_180 0 19 (dk_at dksX9_found_0 9 rfl rfl)
theorem dX9_found_12 : decode cX9_found 12 = .ok (.invokevirtual 25, 3) := dk_182 0 25 (dk_at dksX9_found_0 12 rfl rfl)
theorem dX9_found_15 : decode cX9_found 15 = .ok (.astore_n 2, 1) := dk_77 (dk_at dksX9_found_0 15 rfl rfl)
theorem dX9_found_16 : decode cX9_found 16 = .ok (.aload_n 2, 1) := dk_44 (dk_at dksX9_found_0 16 rfl rfl)
theorem dX9_found_17 : decode cX9_found 17 = .ok (.invokeinterface 31 1, 5) := by decide +kernel
theorem dX9_found_22 : decode cX9_found 22 = .ok (.ifCond .eq 68, 3) := dk_153 0 68 (dk_at dksX9_found_1 0 rfl rfl)
theorem dX9_found_25 : decode cX9_found 25 = .ok (.aload_n 2, 1) := dk_44 (dk_at dksX9_found_1 3 rfl rfl)
theorem dX9_found_26 : decode cX9_found 26 = .ok (.invokeinterface 37 1, 5) := by decide +kernel
theorem dX9_found_31 : decode cX9_found 31 = .ok (.checkcast 41, 3) := dk_192 0 41 (dk_at dksX9_found_1 9 rfl rfl)
theorem dX9_found_34 : decode cX9_found 34 = .ok (.astore_n 3, 1) := dk_78 (dk_at dksX9_found_1 12 rfl rfl)
theorem dX9_found_35 : decode cX9_found 35 = .ok (.aload_n 0, 1) := dk_42 (dk_at dksX9_found_1 13 rfl rfl)
theorem dX9_found_36 : decode cX9_found 36 = .ok (.getfield 43, 3) := dk_180 0 43 (dk_at dksX9_found_1 14 rfl rfl)
theorem dX9_found_39 : decode cX9_found 39 = .ok (.ifnull 18, 3) := dk_198 0 18 (dk_at dksX9_found_1 17 rfl rfl)
theorem dX9_found_42 : decode cX9_found 42 = .ok (.aload_n 0, 1) := dk_42 (dk_at dksX9_found_1 20 rfl rfl)
theorem dX9_found_43 : decode cX9_found 43 = .ok (.getfield 1, 3) := dk_180 0 1 (dk_at dksX9_found_1 21 rfl rfl)
theorem dX9_found_46 : decode cX9_found 46 = .ok (.aload_n 0, 1) := dk_42 (dk_at dksX9_found_2 0 rfl rfl)
theorem dX9_found_47 : decode cX9_found 47 = .ok (.getfield 43, 3) := dk_180 0 43 (dk_at dksX9_found_2 1 rfl rfl)
theorem dX9_found_50 : decode cX9_found 50 = .ok (.aload_n 3, 1) := dk_45 (dk_at dksX9_found_2 4 rfl rfl)
theorem dX9_found_51 : decode cX9_found 51 = .ok (.invokevirtual 47, 3) := dk_182 0 47 (dk_at dksX9_found_2 5 rfl rfl)
theorem dX9_found_54 : decode cX9_found 54 = .ok (.ifCond .eq 7, 3) := dk_153 0 7 (dk_at dksX9_found_2 8 rfl rfl)
theorem dX9_found_57 : decode cX9_found 57 = .ok (.iconst 1, 1) := dk_4 (dk_at dksX9_found_2 11 rfl rfl)
theorem dX9_found_58 : decode cX9_found 58 = .ok (.goto 4, 3) := dk_167 0 4 (dk_at dksX9_found_2 12 rfl rfl)
theorem dX9_found_61 : decode cX9_found 61 = .ok (.iconst 0, 1) := dk_3 (dk_at dksX9_found_2 15 rfl rfl)
theorem dX9_found_62 : decode cX9_found 62 = .ok (.istore 4, 2) := dk_54 4 (dk_at dksX9_found_2 16 rfl rfl)
theorem dX9_found_64 : decode cX9_found 64 = .ok (.iload 4, 2) := dk_21 4 (dk_at dksX9_found_2 18 rfl rfl)
theorem dX9_found_66 : decode cX9_found 66 = .ok (.ifCond .eq 21, 3) := dk_153 0 21 (dk_at dksX9_found_2 20 rfl rfl)
theorem dX9_found_69 : decode cX9_found 69 = .ok (.aload_n 1, 1) := dk_43 (dk_at dksX9_found_2 23 rfl rfl)
theorem dX9_found_70 : decode cX9_found 70 = .ok (.ifnull 15, 3) := dk_198 0 15 (dk_at dksX9_found_3 0 rfl rfl)
theorem dX9_found_73 : decode cX9_found 73 = .ok (.aload_n 0, 1) := dk_42 (dk_at dksX9_found_3 3 rfl rfl)
theorem dX9_found_74 : decode cX9_found 74 = .ok (.getfield 1, 3) := dk_180 0 1 (dk_at dksX9_found_3 4 rfl rfl)
theorem dX9_found_77 : decode cX9_found 77 = .ok (.aload_n 3, 1) := dk_45 (dk_at dksX9_found_3 7 rfl rfl)
theorem dX9_found_78 : decode cX9_found 78 = .ok (.aload_n 1, 1) := dk_43 (dk_at dksX9_found_3 8 rfl rfl)
theorem dX9_found_79 : decode cX9_found 79 = .ok (.invokevirtual 47, 3) := dk_182 0 47 (dk_at dksX9_found_3 9 rfl rfl)
theorem dX9_found_82 : decode cX9_found 82 = .ok (.ifCond .eq 5, 3) := dk_153 0 5 (dk_at dksX9_found_3 12 rfl rfl)
theorem dX9_found_85 : decode cX9_found 85 = .ok (.aload_n 3, 1) := dk_45 (dk_at dksX9_found_3 15 rfl rfl)
theorem dX9_found_86 : decode cX9_found 86 = .ok (.astore_n 1, 1) := dk_76 (dk_at dksX9_found_3 16 rfl rfl)
theorem dX9_found_87 : decode cX9_found 87 = .ok (.goto (-71), 3) := dk_167 255 185 (dk_at dksX9_found_3 17 rfl rfl)
theorem dX9_found_90 : decode cX9_found 90 = .ok (.aload_n 1, 1) := dk_43 (dk_at dksX9_found_3 20 rfl rfl)
theorem dX9_found_91 : decode cX9_found 91 = .ok (.areturn, 1) := dk_176 (dk_at dksX9_found_3 21 rfl rfl)
abbrev cX9_next : ByteArray := prog_4_method_5_code
def yX9_next : MethodName := ⟨RX9, "next", "()Ljava/lang/Object;"⟩
theorem dX9_next_0 : decode cX9_next 0 = .ok (.aload_n 0, 1) := by decide +kernel
theorem dX9_next_1 : decode cX9_next 1 = .ok (.invokevirtual 58, 3) := by decide +kernel
theorem dX9_next_4 : decode cX9_next 4 = .ok (.areturn, 1) := by decide +kernel
abbrev cX9_next_2 : ByteArray := prog_4_method_4_code
def yX9_next_2 : MethodName := ⟨RX9, "next", "()LJokePump$Joke;"⟩
def dkwX9_next_2_0 : List UInt8 := [42, 182, 0, 51, 76, 43, 199, 0, 11, 187, 0, 55, 89, 183, 0, 57, 191, 42, 43, 181, 0, 43, 43, 176]
abbrev dktX9_next_2_0 : List UInt8 := dkwX9_next_2_0 ++ []
theorem dksX9_next_2_0 : cX9_next_2.data.toList.drop 0 = dktX9_next_2_0 := by decide +kernel
theorem dX9_next_2_0 : decode cX9_next_2 0 = .ok (.aload_n 0, 1) := dk_42 (dk_at dksX9_next_2_0 0 rfl rfl)
theorem dX9_next_2_1 : decode cX9_next_2 1 = .ok (.invokevirtual 51, 3) := dk_182 0 51 (dk_at dksX9_next_2_0 1 rfl rfl)
theorem dX9_next_2_4 : decode cX9_next_2 4 = .ok (.astore_n 1, 1) := dk_76 (dk_at dksX9_next_2_0 4 rfl rfl)
theorem dX9_next_2_5 : decode cX9_next_2 5 = .ok (.aload_n 1, 1) := dk_43 (dk_at dksX9_next_2_0 5 rfl rfl)
theorem dX9_next_2_6 : decode cX9_next_2 6 = .ok (.ifnonnull 11, 3) := dk_199 0 11 (dk_at dksX9_next_2_0 6 rfl rfl)
theorem dX9_next_2_9 : decode cX9_next_2 9 = .ok (.new 55, 3) := dk_187 0 55 (dk_at dksX9_next_2_0 9 rfl rfl)
theorem dX9_next_2_12 : decode cX9_next_2 12 = .ok (.dup, 1) := dk_89 (dk_at dksX9_next_2_0 12 rfl rfl)
theorem dX9_next_2_13 : decode cX9_next_2 13 = .ok (.invokespecial 57, 3) := dk_183 0 57 (dk_at dksX9_next_2_0 13 rfl rfl)
theorem dX9_next_2_16 : decode cX9_next_2 16 = .ok (.athrow, 1) := dk_191 (dk_at dksX9_next_2_0 16 rfl rfl)
theorem dX9_next_2_17 : decode cX9_next_2 17 = .ok (.aload_n 0, 1) := dk_42 (dk_at dksX9_next_2_0 17 rfl rfl)
theorem dX9_next_2_18 : decode cX9_next_2 18 = .ok (.aload_n 1, 1) := dk_43 (dk_at dksX9_next_2_0 18 rfl rfl)
theorem dX9_next_2_19 : decode cX9_next_2 19 = .ok (.putfield 43, 3) := dk_181 0 43 (dk_at dksX9_next_2_0 19 rfl rfl)
theorem dX9_next_2_22 : decode cX9_next_2 22 = .ok (.aload_n 1, 1) := dk_43 (dk_at dksX9_next_2_0 22 rfl rfl)
theorem dX9_next_2_23 : decode cX9_next_2 23 = .ok (.areturn, 1) := dk_176 (dk_at dksX9_next_2_0 23 rfl rfl)
abbrev cX9_init : ByteArray := prog_4_method_1_code
def yX9_init : MethodName := ⟨RX9, "<init>", "(LJokePump;)V"⟩
def dkwX9_init_0 : List UInt8 := [42, 43, 181, 0, 1, 42, 183, 0, 7, 177]
abbrev dktX9_init_0 : List UInt8 := dkwX9_init_0 ++ []
theorem dksX9_init_0 : cX9_init.data.toList.drop 0 = dktX9_init_0 := by decide +kernel
theorem dX9_init_0 : decode cX9_init 0 = .ok (.aload_n 0, 1) := dk_42 (dk_at dksX9_init_0 0 rfl rfl)
theorem dX9_init_1 : decode cX9_init 1 = .ok (.aload_n 1, 1) := dk_43 (dk_at dksX9_init_0 1 rfl rfl)
theorem dX9_init_2 : decode cX9_init 2 = .ok (.putfield 1, 3) := dk_181 0 1 (dk_at dksX9_init_0 2 rfl rfl)
theorem dX9_init_5 : decode cX9_init 5 = .ok (.aload_n 0, 1) := dk_42 (dk_at dksX9_init_0 5 rfl rfl)
theorem dX9_init_6 : decode cX9_init 6 = .ok (.invokespecial 7, 3) := dk_183 0 7 (dk_at dksX9_init_0 6 rfl rfl)
theorem dX9_init_9 : decode cX9_init 9 = .ok (.return_, 1) := dk_177 (dk_at dksX9_init_0 9 rfl rfl)
theorem q112 : (Jvm.Cond.initialized "JokePump$1Funny") ∈ lw_all := lw_g (lw_at lw_m1 28 rfl) rfl
theorem q184 : (Jvm.Cond.fieldLinkNest "JokePump$1Funny" (19 : Nat) "JokePump$Pump" "jokes" "Ljava/util/ArrayList;" "JokePump") ∈ lw_tbl := lw_at lw_m1 100 rfl
theorem q272 : (Jvm.Cond.fieldLinkNest "JokePump$1Funny" (13 : Nat) "JokePump" "now" "LJokePump$Pump;" "JokePump") ∈ lw_tbl := lw_at lw_m1 188 rfl
theorem q400 : (Jvm.Cond.castable "JokePump$1Funny" "java/util/Iterator") ∈ lw_tbl := lw_at lw_m2 76 rfl
theorem q401 : (Jvm.Cond.selects "JokePump$1Funny" ({ cls := "java/util/Iterator", name := "hasNext", desc := "()Z" } : Jvm.MethodName) ({ cls := "JokePump$1Funny", name := "hasNext", desc := "()Z" } : Jvm.MethodName)) ∈ lw_all := lw_g (lw_at lw_m2 77 rfl) rfl
theorem q402 : (Jvm.Cond.unhidden "JokePump$1Funny" "hasNext" "()Z") ∈ lw_tbl := lw_at lw_m2 78 rfl
theorem q403 : (Jvm.Cond.instanceMethod ({ cls := "JokePump$1Funny", name := "hasNext", desc := "()Z" } : Jvm.MethodName)) ∈ lw_all := lw_g (lw_at lw_m2 79 rfl) rfl
theorem q404 : (Jvm.Cond.publicMethod ({ cls := "JokePump$1Funny", name := "hasNext", desc := "()Z" } : Jvm.MethodName)) ∈ lw_tbl := lw_at lw_m2 80 rfl
theorem q405 : (Jvm.Cond.code ({ cls := "JokePump$1Funny", name := "hasNext", desc := "()Z" } : Jvm.MethodName) prog_4_method_3_code (1 : Nat) (Option.some Jvm.ClassFile.FieldType.boolean)) ∈ lw_all := lw_g (lw_at lw_m2 81 rfl) rfl
theorem q406 : (Jvm.Cond.methodLink "JokePump$1Funny" (51 : Nat) ({ cls := "JokePump$1Funny", name := "found", desc := "()LJokePump$Joke;" } : Jvm.MethodName)) ∈ lw_all := lw_g (lw_at lw_m2 82 rfl) rfl
theorem q407 : (Jvm.Cond.privateMethod ({ cls := "JokePump$1Funny", name := "found", desc := "()LJokePump$Joke;" } : Jvm.MethodName)) ∈ lw_tbl := lw_at lw_m2 83 rfl
theorem q408 : (Jvm.Cond.instanceMethod ({ cls := "JokePump$1Funny", name := "found", desc := "()LJokePump$Joke;" } : Jvm.MethodName)) ∈ lw_all := lw_g (lw_at lw_m2 84 rfl) rfl
theorem q409 : (Jvm.Cond.instantiable "JokePump$1Funny" (2 : Nat)) ∈ lw_all := lw_g (lw_at lw_m2 85 rfl) rfl
theorem q410 : (Jvm.Cond.code ({ cls := "JokePump$1Funny", name := "found", desc := "()LJokePump$Joke;" } : Jvm.MethodName) prog_4_method_2_code (5 : Nat) (Option.some (Jvm.ClassFile.FieldType.object "JokePump$Joke"))) ∈ lw_all := lw_g (lw_at lw_m2 86 rfl) rfl
theorem q411 : (Jvm.Cond.methodLink "JokePump$1Funny" (25 : Nat) ({ cls := "java/util/ArrayList", name := "iterator", desc := "()Ljava/util/Iterator;" } : Jvm.MethodName)) ∈ lw_all := lw_g (lw_at lw_m2 87 rfl) rfl
theorem q412 : (Jvm.Cond.interfaceEntry "JokePump$1Funny" (31 : Nat)) ∈ lw_tbl := lw_at lw_m2 88 rfl
theorem q413 : (Jvm.Cond.methodLink "JokePump$1Funny" (31 : Nat) ({ cls := "java/util/Iterator", name := "hasNext", desc := "()Z" } : Jvm.MethodName)) ∈ lw_all := lw_g (lw_at lw_m2 89 rfl) rfl
theorem q444 : (Jvm.Cond.selects "JokePump$1Funny" ({ cls := "java/util/Iterator", name := "next", desc := "()Ljava/lang/Object;" } : Jvm.MethodName) ({ cls := "JokePump$1Funny", name := "next", desc := "()Ljava/lang/Object;" } : Jvm.MethodName)) ∈ lw_all := lw_g (lw_at lw_m2 120 rfl) rfl
theorem q445 : (Jvm.Cond.unhidden "JokePump$1Funny" "next" "()Ljava/lang/Object;") ∈ lw_tbl := lw_at lw_m2 121 rfl
theorem q446 : (Jvm.Cond.instanceMethod ({ cls := "JokePump$1Funny", name := "next", desc := "()Ljava/lang/Object;" } : Jvm.MethodName)) ∈ lw_all := lw_g (lw_at lw_m2 122 rfl) rfl
theorem q447 : (Jvm.Cond.publicMethod ({ cls := "JokePump$1Funny", name := "next", desc := "()Ljava/lang/Object;" } : Jvm.MethodName)) ∈ lw_tbl := lw_at lw_m2 123 rfl
theorem q448 : (Jvm.Cond.code ({ cls := "JokePump$1Funny", name := "next", desc := "()Ljava/lang/Object;" } : Jvm.MethodName) prog_4_method_5_code (1 : Nat) (Option.some (Jvm.ClassFile.FieldType.object "java/lang/Object"))) ∈ lw_all := lw_g (lw_at lw_m2 124 rfl) rfl
theorem q449 : (Jvm.Cond.methodLink "JokePump$1Funny" (58 : Nat) ({ cls := "JokePump$1Funny", name := "next", desc := "()LJokePump$Joke;" } : Jvm.MethodName)) ∈ lw_all := lw_g (lw_at lw_m2 125 rfl) rfl
theorem q450 : (Jvm.Cond.instanceMethod ({ cls := "JokePump$1Funny", name := "next", desc := "()LJokePump$Joke;" } : Jvm.MethodName)) ∈ lw_all := lw_g (lw_at lw_m2 126 rfl) rfl
theorem q451 : (Jvm.Cond.selects "JokePump$1Funny" ({ cls := "JokePump$1Funny", name := "next", desc := "()LJokePump$Joke;" } : Jvm.MethodName) ({ cls := "JokePump$1Funny", name := "next", desc := "()LJokePump$Joke;" } : Jvm.MethodName)) ∈ lw_all := lw_g (lw_at lw_m2 127 rfl) rfl
theorem q452 : (Jvm.Cond.code ({ cls := "JokePump$1Funny", name := "next", desc := "()LJokePump$Joke;" } : Jvm.MethodName) prog_4_method_4_code (2 : Nat) (Option.some (Jvm.ClassFile.FieldType.object "JokePump$Joke"))) ∈ lw_all := lw_g (lw_at lw_m2 128 rfl) rfl
theorem q453 : (Jvm.Cond.classLink "JokePump$1Funny" (55 : Nat) "java/util/NoSuchElementException") ∈ lw_all := lw_g (lw_at lw_m2 129 rfl) rfl
theorem q496 : (Jvm.Cond.methodLink "JokePump$1Funny" (57 : Nat) ({ cls := "java/util/NoSuchElementException", name := "<init>", desc := "()V" } : Jvm.MethodName)) ∈ lw_all := lw_g (lw_at lw_m2 172 rfl) rfl
theorem q551 : (Jvm.Cond.interfaceEntry "JokePump$1Funny" (37 : Nat)) ∈ lw_tbl := lw_at lw_m2 227 rfl
theorem q552 : (Jvm.Cond.methodLink "JokePump$1Funny" (37 : Nat) ({ cls := "java/util/Iterator", name := "next", desc := "()Ljava/lang/Object;" } : Jvm.MethodName)) ∈ lw_all := lw_g (lw_at lw_m2 228 rfl) rfl
theorem q553 : (Jvm.Cond.classLink "JokePump$1Funny" (41 : Nat) "JokePump$Joke") ∈ lw_all := lw_g (lw_at lw_m2 229 rfl) rfl
theorem q554 : (Jvm.Cond.methodLinkNest "JokePump$1Funny" (47 : Nat) ({ cls := "JokePump", name := "isFunnier", desc := "(LJokePump$Joke;LJokePump$Joke;)Z" } : Jvm.MethodName) "JokePump") ∈ lw_tbl := lw_at lw_m2 230 rfl
theorem q644 : (Jvm.Cond.selects "JokePump$1Funny" ({ cls := "java/lang/Object", name := "getClass", desc := "()Ljava/lang/Class;" } : Jvm.MethodName) ({ cls := "java/lang/Object", name := "getClass", desc := "()Ljava/lang/Class;" } : Jvm.MethodName)) ∈ lw_all := lw_g (lw_at lw_m3 80 rfl) rfl
theorem q943 : (Jvm.Cond.selects "JokePump$1Funny" ({ cls := "java/lang/Object", name := "equals", desc := "(Ljava/lang/Object;)Z" } : Jvm.MethodName) ({ cls := "java/lang/Object", name := "equals", desc := "(Ljava/lang/Object;)Z" } : Jvm.MethodName)) ∈ lw_all := lw_g (lw_at lw_m4 139 rfl) rfl
theorem q1045 : (Jvm.Cond.instanceMethod ({ cls := "JokePump$1Funny", name := "<init>", desc := "(LJokePump;)V" } : Jvm.MethodName)) ∈ lw_all := lw_g (lw_at lw_m5 1 rfl) rfl
theorem q1046 : (Jvm.Cond.code ({ cls := "JokePump$1Funny", name := "<init>", desc := "(LJokePump;)V" } : Jvm.MethodName) prog_4_method_1_code (2 : Nat) (Option.none : Option Jvm.ClassFile.FieldType)) ∈ lw_all := lw_g (lw_at lw_m5 2 rfl) rfl
theorem q1047 : (Jvm.Cond.methodLink "JokePump$1Funny" (7 : Nat) ({ cls := "java/lang/Object", name := "<init>", desc := "()V" } : Jvm.MethodName)) ∈ lw_all := lw_g (lw_at lw_m5 3 rfl) rfl
theorem q1048 : (Jvm.Cond.fieldLink "JokePump$1Funny" (43 : Nat) "JokePump$1Funny" "last" "LJokePump$Joke;") ∈ lw_all := lw_g (lw_at lw_m5 4 rfl) rfl
theorem q1049 : (Jvm.Cond.fieldLink "JokePump$1Funny" (1 : Nat) "JokePump$1Funny" "this$0" "LJokePump;") ∈ lw_all := lw_g (lw_at lw_m5 5 rfl) rfl
theorem q1050 : (Jvm.Cond.lays "JokePump$1Funny" "JokePump$1Funny" "last" "LJokePump$Joke;") ∈ lw_all := lw_g (lw_at lw_m5 6 rfl) rfl
theorem q1051 : (Jvm.Cond.soleField "JokePump$1Funny" "last") ∈ lw_all := lw_g (lw_at lw_m5 7 rfl) rfl
theorem q1052 : (Jvm.Cond.laysFinal "JokePump$1Funny" "JokePump$1Funny" "this$0" "LJokePump;") ∈ lw_all := lw_g (lw_at lw_m5 8 rfl) rfl
theorem q1053 : (Jvm.Cond.soleField "JokePump$1Funny" "this$0") ∈ lw_all := lw_g (lw_at lw_m5 9 rfl) rfl
theorem q1054 : (Jvm.Cond.superclass "JokePump$1Funny" "java/lang/Object") ∈ lw_all := lw_g (lw_at lw_m5 10 rfl) rfl
theorem q2512 : (Jvm.Cond.castable "JokePump$1Funny" "java/lang/Object") ∈ lw_tbl := lw_at lw_m11 28 rfl
theorem in_X9 : ∀ w ∈ wsX90, w ∈ lw_all := lw_in wsX90 [1050, 1052] (by decide +kernel) (by decide +kernel)

/-! the law's own entry -/
set_option maxRecDepth 100000
abbrev cL_law : ByteArray := code
def dkwL_law_45 : List UInt8 := [4, 172]
abbrev dktL_law_45 : List UInt8 := dkwL_law_45 ++ []
def dkwL_law_44 : List UInt8 := [159, 0, 18, 3, 172, 43, 182, 0, 170, 44, 182, 0, 173, 159, 0, 5, 3, 172, 132, 3, 5, 167, 251, 115]
abbrev dktL_law_44 : List UInt8 := dkwL_law_44 ++ dktL_law_45
def dkwL_law_43 : List UInt8 := [3, 172, 43, 182, 0, 162, 44, 182, 0, 165, 159, 0, 31, 3, 172, 43, 182, 0, 166, 44, 182, 0, 169]
abbrev dktL_law_43 : List UInt8 := dkwL_law_43 ++ dktL_law_44
def dkwL_law_42 : List UInt8 := [42, 29, 4, 96, 46, 42, 29, 5, 96, 46, 153, 0, 7, 4, 167, 0, 4, 3, 182, 0, 161, 159, 0, 44]
abbrev dktL_law_42 : List UInt8 := dkwL_law_42 ++ dktL_law_43
def dkwL_law_41 : List UInt8 := [172, 43, 42, 29, 4, 96, 46, 42, 29, 5, 96, 46, 153, 0, 7, 4, 167, 0, 4, 3, 182, 0, 157, 44]
abbrev dktL_law_41 : List UInt8 := dkwL_law_41 ++ dktL_law_42
def dkwL_law_40 : List UInt8 := [182, 0, 149, 44, 182, 0, 152, 159, 0, 106, 3, 172, 43, 182, 0, 153, 44, 182, 0, 156, 159, 0, 93, 3]
abbrev dktL_law_40 : List UInt8 := dkwL_law_40 ++ dktL_law_41
def dkwL_law_39 : List UInt8 := [96, 46, 146, 182, 0, 144, 44, 42, 29, 4, 96, 46, 146, 182, 0, 148, 159, 0, 119, 3, 172, 43]
abbrev dktL_law_39 : List UInt8 := dkwL_law_39 ++ dktL_law_40
def dkwL_law_38 : List UInt8 := [4, 96, 46, 182, 0, 140, 44, 42, 29, 4, 96, 46, 182, 0, 143, 159, 0, 144, 3, 172, 43, 42, 29, 4]
abbrev dktL_law_38 : List UInt8 := dkwL_law_38 ++ dktL_law_39
def dkwL_law_37 : List UInt8 := [182, 0, 135, 159, 0, 180, 3, 172, 43, 182, 0, 136, 44, 182, 0, 139, 159, 0, 167, 3, 172, 43, 42, 29]
abbrev dktL_law_37 : List UInt8 := dkwL_law_37 ++ dktL_law_38
def dkwL_law_36 : List UInt8 := [182, 0, 131, 159, 0, 203, 3, 172, 43, 42, 29, 4, 96, 46, 182, 0, 132, 44, 42, 29, 4, 96, 46]
abbrev dktL_law_36 : List UInt8 := dkwL_law_36 ++ dktL_law_37
def dkwL_law_35 : List UInt8 := [154, 0, 5, 3, 172, 167, 0, 224, 43, 42, 29, 4, 96, 46, 182, 0, 128, 44, 42, 29, 4, 96, 46]
abbrev dktL_law_35 : List UInt8 := dkwL_law_35 ++ dktL_law_36
def dkwL_law_34 : List UInt8 := [57, 6, 24, 4, 24, 6, 151, 153, 0, 21, 24, 4, 24, 4, 151, 153, 0, 11, 24, 6, 24, 6, 151]
abbrev dktL_law_34 : List UInt8 := dkwL_law_34 ++ dktL_law_35
def dkwL_law_33 : List UInt8 := [24, 6, 151, 154, 0, 5, 3, 172, 167, 1, 11, 43, 182, 0, 124, 141, 57, 4, 44, 182, 0, 127, 141]
abbrev dktL_law_33 : List UInt8 := dkwL_law_33 ++ dktL_law_34
def dkwL_law_32 : List UInt8 := [44, 182, 0, 123, 57, 6, 24, 4, 24, 6, 151, 153, 0, 21, 24, 4, 24, 4, 151, 153, 0, 11, 24, 6]
abbrev dktL_law_32 : List UInt8 := dkwL_law_32 ++ dktL_law_33
def dkwL_law_31 : List UInt8 := [159, 1, 67, 3, 172, 43, 182, 0, 114, 44, 182, 0, 118, 159, 1, 54, 3, 172, 43, 182, 0, 119, 57, 4]
abbrev dktL_law_31 : List UInt8 := dkwL_law_31 ++ dktL_law_32
def dkwL_law_30 : List UInt8 := [159, 1, 90, 3, 172, 43, 42, 29, 4, 96, 46, 182, 0, 110, 44, 42, 29, 4, 96, 46, 182, 0, 113]
abbrev dktL_law_30 : List UInt8 := dkwL_law_30 ++ dktL_law_31
def dkwL_law_29 : List UInt8 := [96, 46, 42, 29, 5, 96, 46, 182, 0, 106, 44, 42, 29, 4, 96, 46, 42, 29, 5, 96, 46, 182, 0, 109]
abbrev dktL_law_29 : List UInt8 := dkwL_law_29 ++ dktL_law_30
def dkwL_law_28 : List UInt8 := [4, 96, 46, 182, 0, 102, 44, 42, 29, 4, 96, 46, 182, 0, 105, 159, 1, 123, 3, 172, 43, 42, 29, 4]
abbrev dktL_law_28 : List UInt8 := dkwL_law_28 ++ dktL_law_29
def dkwL_law_27 : List UInt8 := [182, 0, 97, 159, 1, 159, 3, 172, 43, 182, 0, 98, 44, 182, 0, 101, 159, 1, 146, 3, 172, 43, 42, 29]
abbrev dktL_law_27 : List UInt8 := dkwL_law_27 ++ dktL_law_28
def dkwL_law_26 : List UInt8 := [182, 0, 93, 159, 1, 182, 3, 172, 43, 42, 29, 4, 96, 46, 182, 0, 94, 44, 42, 29, 4, 96, 46]
abbrev dktL_law_26 : List UInt8 := dkwL_law_26 ++ dktL_law_27
def dkwL_law_25 : List UInt8 := [182, 0, 89, 159, 1, 205, 3, 172, 43, 42, 29, 4, 96, 46, 182, 0, 90, 44, 42, 29, 4, 96, 46]
abbrev dktL_law_25 : List UInt8 := dkwL_law_25 ++ dktL_law_26
def dkwL_law_24 : List UInt8 := [182, 0, 85, 159, 1, 228, 3, 172, 43, 42, 29, 4, 96, 46, 182, 0, 86, 44, 42, 29, 4, 96, 46]
abbrev dktL_law_24 : List UInt8 := dkwL_law_24 ++ dktL_law_25
def dkwL_law_23 : List UInt8 := [182, 0, 81, 159, 1, 251, 3, 172, 43, 42, 29, 4, 96, 46, 182, 0, 82, 44, 42, 29, 4, 96, 46]
abbrev dktL_law_23 : List UInt8 := dkwL_law_23 ++ dktL_law_24
def dkwL_law_22 : List UInt8 := [4, 96, 46, 42, 29, 5, 96, 46, 182, 0, 78, 44, 42, 29, 4, 96, 46, 42, 29, 5, 96, 46]
abbrev dktL_law_22 : List UInt8 := dkwL_law_22 ++ dktL_law_23
def dkwL_law_21 : List UInt8 := [154, 0, 5, 3, 172, 167, 2, 39, 43, 182, 0, 73, 44, 182, 0, 77, 159, 2, 28, 3, 172, 43, 42, 29]
abbrev dktL_law_21 : List UInt8 := dkwL_law_21 ++ dktL_law_22
def dkwL_law_20 : List UInt8 := [141, 57, 6, 24, 4, 24, 6, 151, 153, 0, 21, 24, 4, 24, 4, 151, 153, 0, 11, 24, 6, 24, 6, 151]
abbrev dktL_law_20 : List UInt8 := dkwL_law_20 ++ dktL_law_21
def dkwL_law_19 : List UInt8 := [24, 6, 24, 6, 151, 154, 0, 5, 3, 172, 167, 2, 82, 43, 182, 0, 69, 141, 57, 4, 44, 182, 0, 72]
abbrev dktL_law_19 : List UInt8 := dkwL_law_19 ++ dktL_law_20
def dkwL_law_18 : List UInt8 := [44, 182, 0, 68, 141, 57, 6, 24, 4, 24, 6, 151, 153, 0, 21, 24, 4, 24, 4, 151, 153, 0, 11]
abbrev dktL_law_18 : List UInt8 := dkwL_law_18 ++ dktL_law_19
def dkwL_law_17 : List UInt8 := [29, 4, 96, 46, 42, 29, 5, 96, 46, 182, 0, 63, 159, 2, 127, 3, 172, 43, 182, 0, 64, 141, 57, 4]
abbrev dktL_law_17 : List UInt8 := dkwL_law_17 ++ dktL_law_18
def dkwL_law_16 : List UInt8 := [182, 0, 59, 159, 2, 160, 3, 172, 43, 42, 29, 4, 96, 46, 42, 29, 5, 96, 46, 182, 0, 60, 44, 42]
abbrev dktL_law_16 : List UInt8 := dkwL_law_16 ++ dktL_law_17
def dkwL_law_15 : List UInt8 := [182, 0, 55, 159, 2, 183, 3, 172, 43, 42, 29, 4, 96, 46, 182, 0, 56, 44, 42, 29, 4, 96, 46]
abbrev dktL_law_15 : List UInt8 := dkwL_law_15 ++ dktL_law_16
def dkwL_law_14 : List UInt8 := [29, 4, 96, 46, 42, 29, 5, 96, 46, 182, 0, 52, 44, 42, 29, 4, 96, 46, 42, 29, 5, 96, 46]
abbrev dktL_law_14 : List UInt8 := dkwL_law_14 ++ dktL_law_15
def dkwL_law_13 : List UInt8 := [182, 0, 48, 44, 42, 29, 4, 96, 46, 42, 29, 5, 96, 46, 182, 0, 51, 159, 2, 216, 3, 172, 43, 42]
abbrev dktL_law_13 : List UInt8 := dkwL_law_13 ++ dktL_law_14
def dkwL_law_12 : List UInt8 := [29, 4, 96, 46, 182, 0, 47, 159, 2, 249, 3, 172, 43, 42, 29, 4, 96, 46, 42, 29, 5, 96, 46]
abbrev dktL_law_12 : List UInt8 := dkwL_law_12 ++ dktL_law_13
def dkwL_law_11 : List UInt8 := [42, 29, 4, 96, 46, 182, 0, 43, 159, 3, 16, 3, 172, 43, 42, 29, 4, 96, 46, 182, 0, 44, 44, 42]
abbrev dktL_law_11 : List UInt8 := dkwL_law_11 ++ dktL_law_12
def dkwL_law_10 : List UInt8 := [46, 42, 29, 5, 96, 46, 182, 0, 39, 159, 3, 39, 3, 172, 43, 42, 29, 4, 96, 46, 182, 0, 40, 44]
abbrev dktL_law_10 : List UInt8 := dkwL_law_10 ++ dktL_law_11
def dkwL_law_9 : List UInt8 := [159, 3, 72, 3, 172, 43, 42, 29, 4, 96, 46, 42, 29, 5, 96, 46, 182, 0, 35, 44, 42, 29, 4, 96]
abbrev dktL_law_9 : List UInt8 := dkwL_law_9 ++ dktL_law_10
def dkwL_law_8 : List UInt8 := [159, 3, 95, 3, 172, 43, 42, 29, 4, 96, 46, 182, 0, 31, 44, 42, 29, 4, 96, 46, 182, 0, 34]
abbrev dktL_law_8 : List UInt8 := dkwL_law_8 ++ dktL_law_9
def dkwL_law_7 : List UInt8 := [159, 3, 118, 3, 172, 43, 42, 29, 4, 96, 46, 182, 0, 27, 44, 42, 29, 4, 96, 46, 182, 0, 30]
abbrev dktL_law_7 : List UInt8 := dkwL_law_7 ++ dktL_law_8
def dkwL_law_6 : List UInt8 := [159, 3, 141, 3, 172, 43, 42, 29, 4, 96, 46, 182, 0, 23, 44, 42, 29, 4, 96, 46, 182, 0, 26]
abbrev dktL_law_6 : List UInt8 := dkwL_law_6 ++ dktL_law_7
def dkwL_law_5 : List UInt8 := [159, 3, 164, 3, 172, 43, 42, 29, 4, 96, 46, 182, 0, 18, 44, 42, 29, 4, 96, 46, 182, 0, 22]
abbrev dktL_law_5 : List UInt8 := dkwL_law_5 ++ dktL_law_6
def dkwL_law_4 : List UInt8 := [44, 42, 29, 4, 96, 46, 42, 29, 5, 96, 46, 42, 29, 6, 96, 46, 42, 29, 7, 96, 46, 182, 0, 17]
abbrev dktL_law_4 : List UInt8 := dkwL_law_4 ++ dktL_law_5
def dkwL_law_3 : List UInt8 := [43, 42, 29, 4, 96, 46, 42, 29, 5, 96, 46, 42, 29, 6, 96, 46, 42, 29, 7, 96, 46, 182, 0, 13]
abbrev dktL_law_3 : List UInt8 := dkwL_law_3 ++ dktL_law_4
def dkwL_law_2 : List UInt8 := [170, 0, 0, 0, 0, 0, 4, 124, 0, 0, 0, 0, 0, 0, 0, 37, 0, 0, 0, 168, 0, 0, 0, 221, 0, 0, 0, 244, 0, 0, 1, 11, 0, 0, 1, 34, 0, 0, 1, 57, 0, 0, 1, 90, 0, 0, 1, 113, 0, 0, 1, 136, 0, 0, 1, 169, 0, 0, 1, 202, 0, 0, 1, 225, 0, 0, 2, 2, 0, 0, 2, 45, 0, 0, 2, 88, 0, 0, 2, 101, 0, 0, 2, 134, 0, 0, 2, 157, 0, 0, 2, 180, 0, 0, 2, 203, 0, 0, 2, 226, 0, 0, 2, 239, 0, 0, 3, 6, 0, 0, 3, 39, 0, 0, 3, 62, 0, 0, 3, 75, 0, 0, 3, 116, 0, 0, 3, 159, 0, 0, 3, 182, 0, 0, 3, 205, 0, 0, 3, 218, 0, 0, 3, 241, 0, 0, 4, 10, 0, 0, 4, 23, 0, 0, 4, 36, 0, 0, 4, 85, 0, 0, 4, 98, 0, 0, 4, 111]
abbrev dktL_law_2 : List UInt8 := dkwL_law_2 ++ dktL_law_3
def dkwL_law_1 : List UInt8 := [163, 4, 139, 42, 29, 46, 16, 63, 126]
abbrev dktL_law_1 : List UInt8 := dkwL_law_1 ++ dktL_law_2
def dkwL_law_0 : List UInt8 := [187, 0, 7, 89, 183, 0, 9, 76, 187, 0, 10, 89, 183, 0, 12, 77, 3, 62, 29, 42, 190, 8, 100]
abbrev dktL_law_0 : List UInt8 := dkwL_law_0 ++ dktL_law_1
theorem dksL_law_0 : cL_law.data.toList.drop 0 = dktL_law_0 := by decide +kernel
theorem dksL_law_1 : cL_law.data.toList.drop 23 = dktL_law_1 := dk_seg dksL_law_0 23 rfl rfl
theorem dksL_law_2 : cL_law.data.toList.drop 32 = dktL_law_2 := dk_seg dksL_law_1 9 rfl rfl
theorem dksL_law_3 : cL_law.data.toList.drop 200 = dktL_law_3 := dk_seg dksL_law_2 168 rfl rfl
theorem dksL_law_4 : cL_law.data.toList.drop 224 = dktL_law_4 := dk_seg dksL_law_3 24 rfl rfl
theorem dksL_law_5 : cL_law.data.toList.drop 248 = dktL_law_5 := dk_seg dksL_law_4 24 rfl rfl
theorem dksL_law_6 : cL_law.data.toList.drop 271 = dktL_law_6 := dk_seg dksL_law_5 23 rfl rfl
theorem dksL_law_7 : cL_law.data.toList.drop 294 = dktL_law_7 := dk_seg dksL_law_6 23 rfl rfl
theorem dksL_law_8 : cL_law.data.toList.drop 317 = dktL_law_8 := dk_seg dksL_law_7 23 rfl rfl
theorem dksL_law_9 : cL_law.data.toList.drop 340 = dktL_law_9 := dk_seg dksL_law_8 23 rfl rfl
theorem dksL_law_10 : cL_law.data.toList.drop 364 = dktL_law_10 := dk_seg dksL_law_9 24 rfl rfl
theorem dksL_law_11 : cL_law.data.toList.drop 388 = dktL_law_11 := dk_seg dksL_law_10 24 rfl rfl
theorem dksL_law_12 : cL_law.data.toList.drop 412 = dktL_law_12 := dk_seg dksL_law_11 24 rfl rfl
theorem dksL_law_13 : cL_law.data.toList.drop 435 = dktL_law_13 := dk_seg dksL_law_12 23 rfl rfl
theorem dksL_law_14 : cL_law.data.toList.drop 459 = dktL_law_14 := dk_seg dksL_law_13 24 rfl rfl
theorem dksL_law_15 : cL_law.data.toList.drop 482 = dktL_law_15 := dk_seg dksL_law_14 23 rfl rfl
theorem dksL_law_16 : cL_law.data.toList.drop 505 = dktL_law_16 := dk_seg dksL_law_15 23 rfl rfl
theorem dksL_law_17 : cL_law.data.toList.drop 529 = dktL_law_17 := dk_seg dksL_law_16 24 rfl rfl
theorem dksL_law_18 : cL_law.data.toList.drop 553 = dktL_law_18 := dk_seg dksL_law_17 24 rfl rfl
theorem dksL_law_19 : cL_law.data.toList.drop 576 = dktL_law_19 := dk_seg dksL_law_18 23 rfl rfl
theorem dksL_law_20 : cL_law.data.toList.drop 600 = dktL_law_20 := dk_seg dksL_law_19 24 rfl rfl
theorem dksL_law_21 : cL_law.data.toList.drop 624 = dktL_law_21 := dk_seg dksL_law_20 24 rfl rfl
theorem dksL_law_22 : cL_law.data.toList.drop 648 = dktL_law_22 := dk_seg dksL_law_21 24 rfl rfl
theorem dksL_law_23 : cL_law.data.toList.drop 670 = dktL_law_23 := dk_seg dksL_law_22 22 rfl rfl
theorem dksL_law_24 : cL_law.data.toList.drop 693 = dktL_law_24 := dk_seg dksL_law_23 23 rfl rfl
theorem dksL_law_25 : cL_law.data.toList.drop 716 = dktL_law_25 := dk_seg dksL_law_24 23 rfl rfl
theorem dksL_law_26 : cL_law.data.toList.drop 739 = dktL_law_26 := dk_seg dksL_law_25 23 rfl rfl
theorem dksL_law_27 : cL_law.data.toList.drop 762 = dktL_law_27 := dk_seg dksL_law_26 23 rfl rfl
theorem dksL_law_28 : cL_law.data.toList.drop 786 = dktL_law_28 := dk_seg dksL_law_27 24 rfl rfl
theorem dksL_law_29 : cL_law.data.toList.drop 810 = dktL_law_29 := dk_seg dksL_law_28 24 rfl rfl
theorem dksL_law_30 : cL_law.data.toList.drop 834 = dktL_law_30 := dk_seg dksL_law_29 24 rfl rfl
theorem dksL_law_31 : cL_law.data.toList.drop 857 = dktL_law_31 := dk_seg dksL_law_30 23 rfl rfl
theorem dksL_law_32 : cL_law.data.toList.drop 881 = dktL_law_32 := dk_seg dksL_law_31 24 rfl rfl
theorem dksL_law_33 : cL_law.data.toList.drop 905 = dktL_law_33 := dk_seg dksL_law_32 24 rfl rfl
theorem dksL_law_34 : cL_law.data.toList.drop 928 = dktL_law_34 := dk_seg dksL_law_33 23 rfl rfl
theorem dksL_law_35 : cL_law.data.toList.drop 951 = dktL_law_35 := dk_seg dksL_law_34 23 rfl rfl
theorem dksL_law_36 : cL_law.data.toList.drop 974 = dktL_law_36 := dk_seg dksL_law_35 23 rfl rfl
theorem dksL_law_37 : cL_law.data.toList.drop 997 = dktL_law_37 := dk_seg dksL_law_36 23 rfl rfl
theorem dksL_law_38 : cL_law.data.toList.drop 1021 = dktL_law_38 := dk_seg dksL_law_37 24 rfl rfl
theorem dksL_law_39 : cL_law.data.toList.drop 1045 = dktL_law_39 := dk_seg dksL_law_38 24 rfl rfl
theorem dksL_law_40 : cL_law.data.toList.drop 1067 = dktL_law_40 := dk_seg dksL_law_39 22 rfl rfl
theorem dksL_law_41 : cL_law.data.toList.drop 1091 = dktL_law_41 := dk_seg dksL_law_40 24 rfl rfl
theorem dksL_law_42 : cL_law.data.toList.drop 1115 = dktL_law_42 := dk_seg dksL_law_41 24 rfl rfl
theorem dksL_law_43 : cL_law.data.toList.drop 1139 = dktL_law_43 := dk_seg dksL_law_42 24 rfl rfl
theorem dksL_law_44 : cL_law.data.toList.drop 1162 = dktL_law_44 := dk_seg dksL_law_43 23 rfl rfl
theorem dksL_law_45 : cL_law.data.toList.drop 1186 = dktL_law_45 := dk_seg dksL_law_44 24 rfl rfl
theorem dL_law_0 : decode cL_law 0 = .ok (.new 7, 3) := dk_187 0 7 (dk_at dksL_law_0 0 rfl rfl)
theorem dL_law_3 : decode cL_law 3 = .ok (.dup, 1) := dk_89 (dk_at dksL_law_0 3 rfl rfl)
theorem dL_law_4 : decode cL_law 4 = .ok (.invokespecial 9, 3) := dk_183 0 9 (dk_at dksL_law_0 4 rfl rfl)
theorem dL_law_7 : decode cL_law 7 = .ok (.astore_n 1, 1) := dk_76 (dk_at dksL_law_0 7 rfl rfl)
theorem dL_law_8 : decode cL_law 8 = .ok (.new 10, 3) := dk_187 0 10 (dk_at dksL_law_0 8 rfl rfl)
theorem dL_law_11 : decode cL_law 11 = .ok (.dup, 1) := dk_89 (dk_at dksL_law_0 11 rfl rfl)
theorem dL_law_12 : decode cL_law 12 = .ok (.invokespecial 12, 3) := dk_183 0 12 (dk_at dksL_law_0 12 rfl rfl)
theorem dL_law_15 : decode cL_law 15 = .ok (.astore_n 2, 1) := dk_77 (dk_at dksL_law_0 15 rfl rfl)
theorem dL_law_16 : decode cL_law 16 = .ok (.iconst 0, 1) := dk_3 (dk_at dksL_law_0 16 rfl rfl)
theorem dL_law_17 : decode cL_law 17 = .ok (.istore_n 3, 1) := dk_62 (dk_at dksL_law_0 17 rfl rfl)
theorem dL_law_18 : decode cL_law 18 = .ok (.iload_n 3, 1) := dk_29 (dk_at dksL_law_0 18 rfl rfl)
theorem dL_law_19 : decode cL_law 19 = .ok (.aload_n 0, 1) := dk_42 (dk_at dksL_law_0 19 rfl rfl)
theorem dL_law_20 : decode cL_law 20 = .ok (.arraylength, 1) := dk_190 (dk_at dksL_law_0 20 rfl rfl)
theorem dL_law_21 : decode cL_law 21 = .ok (.iconst 5, 1) := dk_8 (dk_at dksL_law_0 21 rfl rfl)
theorem dL_law_22 : decode cL_law 22 = .ok (.isub, 1) := dk_100 (dk_at dksL_law_0 22 rfl rfl)
theorem dL_law_23 : decode cL_law 23 = .ok (.if_icmp .gt 1163, 3) := dk_163 4 139 (dk_at dksL_law_1 0 rfl rfl)
theorem dL_law_26 : decode cL_law 26 = .ok (.aload_n 0, 1) := dk_42 (dk_at dksL_law_1 3 rfl rfl)
theorem dL_law_27 : decode cL_law 27 = .ok (.iload_n 3, 1) := dk_29 (dk_at dksL_law_1 4 rfl rfl)
theorem dL_law_28 : decode cL_law 28 = .ok (.iaload, 1) := dk_46 (dk_at dksL_law_1 5 rfl rfl)
theorem dL_law_29 : decode cL_law 29 = .ok (.bipush 63, 2) := dk_16 63 (dk_at dksL_law_1 6 rfl rfl)
theorem dL_law_31 : decode cL_law 31 = .ok (.iand, 1) := dk_126 (dk_at dksL_law_1 8 rfl rfl)
theorem dL_law_32 : decode cL_law 32 = .ok (.tableswitch 1148 0 37 #[168, 221, 244, 267, 290, 313, 346, 369, 392, 425, 458, 481, 514, 557, 600, 613, 646, 669, 692, 715, 738, 751, 774, 807, 830, 843, 884, 927, 950, 973, 986, 1009, 1034, 1047, 1060, 1109, 1122, 1135], 168) := by decide +kernel
theorem dL_law_200 : decode cL_law 200 = .ok (.aload_n 1, 1) := dk_43 (dk_at dksL_law_3 0 rfl rfl)
theorem dL_law_201 : decode cL_law 201 = .ok (.aload_n 0, 1) := dk_42 (dk_at dksL_law_3 1 rfl rfl)
theorem dL_law_202 : decode cL_law 202 = .ok (.iload_n 3, 1) := dk_29 (dk_at dksL_law_3 2 rfl rfl)
theorem dL_law_203 : decode cL_law 203 = .ok (.iconst 1, 1) := dk_4 (dk_at dksL_law_3 3 rfl rfl)
theorem dL_law_204 : decode cL_law 204 = .ok (.iadd, 1) := dk_96 (dk_at dksL_law_3 4 rfl rfl)
theorem dL_law_205 : decode cL_law 205 = .ok (.iaload, 1) := dk_46 (dk_at dksL_law_3 5 rfl rfl)
theorem dL_law_206 : decode cL_law 206 = .ok (.aload_n 0, 1) := dk_42 (dk_at dksL_law_3 6 rfl rfl)
theorem dL_law_207 : decode cL_law 207 = .ok (.iload_n 3, 1) := dk_29 (dk_at dksL_law_3 7 rfl rfl)
theorem dL_law_208 : decode cL_law 208 = .ok (.iconst 2, 1) := dk_5 (dk_at dksL_law_3 8 rfl rfl)
theorem dL_law_209 : decode cL_law 209 = .ok (.iadd, 1) := dk_96 (dk_at dksL_law_3 9 rfl rfl)
theorem dL_law_210 : decode cL_law 210 = .ok (.iaload, 1) := dk_46 (dk_at dksL_law_3 10 rfl rfl)
theorem dL_law_211 : decode cL_law 211 = .ok (.aload_n 0, 1) := dk_42 (dk_at dksL_law_3 11 rfl rfl)
theorem dL_law_212 : decode cL_law 212 = .ok (.iload_n 3, 1) := dk_29 (dk_at dksL_law_3 12 rfl rfl)
theorem dL_law_213 : decode cL_law 213 = .ok (.iconst 3, 1) := dk_6 (dk_at dksL_law_3 13 rfl rfl)
theorem dL_law_214 : decode cL_law 214 = .ok (.iadd, 1) := dk_96 (dk_at dksL_law_3 14 rfl rfl)
theorem dL_law_215 : decode cL_law 215 = .ok (.iaload, 1) := dk_46 (dk_at dksL_law_3 15 rfl rfl)
theorem dL_law_216 : decode cL_law 216 = .ok (.aload_n 0, 1) := dk_42 (dk_at dksL_law_3 16 rfl rfl)
theorem dL_law_217 : decode cL_law 217 = .ok (.iload_n 3, 1) := dk_29 (dk_at dksL_law_3 17 rfl rfl)
theorem dL_law_218 : decode cL_law 218 = .ok (.iconst 4, 1) := dk_7 (dk_at dksL_law_3 18 rfl rfl)
theorem dL_law_219 : decode cL_law 219 = .ok (.iadd, 1) := dk_96 (dk_at dksL_law_3 19 rfl rfl)
theorem dL_law_220 : decode cL_law 220 = .ok (.iaload, 1) := dk_46 (dk_at dksL_law_3 20 rfl rfl)
theorem dL_law_221 : decode cL_law 221 = .ok (.invokevirtual 13, 3) := dk_182 0 13 (dk_at dksL_law_3 21 rfl rfl)
theorem dL_law_224 : decode cL_law 224 = .ok (.aload_n 2, 1) := dk_44 (dk_at dksL_law_4 0 rfl rfl)
theorem dL_law_225 : decode cL_law 225 = .ok (.aload_n 0, 1) := dk_42 (dk_at dksL_law_4 1 rfl rfl)
theorem dL_law_226 : decode cL_law 226 = .ok (.iload_n 3, 1) := dk_29 (dk_at dksL_law_4 2 rfl rfl)
theorem dL_law_227 : decode cL_law 227 = .ok (.iconst 1, 1) := dk_4 (dk_at dksL_law_4 3 rfl rfl)
theorem dL_law_228 : decode cL_law 228 = .ok (.iadd, 1) := dk_96 (dk_at dksL_law_4 4 rfl rfl)
theorem dL_law_229 : decode cL_law 229 = .ok (.iaload, 1) := dk_46 (dk_at dksL_law_4 5 rfl rfl)
theorem dL_law_230 : decode cL_law 230 = .ok (.aload_n 0, 1) := dk_42 (dk_at dksL_law_4 6 rfl rfl)
theorem dL_law_231 : decode cL_law 231 = .ok (.iload_n 3, 1) := dk_29 (dk_at dksL_law_4 7 rfl rfl)
theorem dL_law_232 : decode cL_law 232 = .ok (.iconst 2, 1) := dk_5 (dk_at dksL_law_4 8 rfl rfl)
theorem dL_law_233 : decode cL_law 233 = .ok (.iadd, 1) := dk_96 (dk_at dksL_law_4 9 rfl rfl)
theorem dL_law_234 : decode cL_law 234 = .ok (.iaload, 1) := dk_46 (dk_at dksL_law_4 10 rfl rfl)
theorem dL_law_235 : decode cL_law 235 = .ok (.aload_n 0, 1) := dk_42 (dk_at dksL_law_4 11 rfl rfl)
theorem dL_law_236 : decode cL_law 236 = .ok (.iload_n 3, 1) := dk_29 (dk_at dksL_law_4 12 rfl rfl)
theorem dL_law_237 : decode cL_law 237 = .ok (.iconst 3, 1) := dk_6 (dk_at dksL_law_4 13 rfl rfl)
theorem dL_law_238 : decode cL_law 238 = .ok (.iadd, 1) := dk_96 (dk_at dksL_law_4 14 rfl rfl)
theorem dL_law_239 : decode cL_law 239 = .ok (.iaload, 1) := dk_46 (dk_at dksL_law_4 15 rfl rfl)
theorem dL_law_240 : decode cL_law 240 = .ok (.aload_n 0, 1) := dk_42 (dk_at dksL_law_4 16 rfl rfl)
theorem dL_law_241 : decode cL_law 241 = .ok (.iload_n 3, 1) := dk_29 (dk_at dksL_law_4 17 rfl rfl)
theorem dL_law_242 : decode cL_law 242 = .ok (.iconst 4, 1) := dk_7 (dk_at dksL_law_4 18 rfl rfl)
theorem dL_law_243 : decode cL_law 243 = .ok (.iadd, 1) := dk_96 (dk_at dksL_law_4 19 rfl rfl)
theorem dL_law_244 : decode cL_law 244 = .ok (.iaload, 1) := dk_46 (dk_at dksL_law_4 20 rfl rfl)
theorem dL_law_245 : decode cL_law 245 = .ok (.invokevirtual 17, 3) := dk_182 0 17 (dk_at dksL_law_4 21 rfl rfl)
theorem dL_law_248 : decode cL_law 248 = .ok (.if_icmp .eq 932, 3) := dk_159 3 164 (dk_at dksL_law_5 0 rfl rfl)
theorem dL_law_251 : decode cL_law 251 = .ok (.iconst 0, 1) := dk_3 (dk_at dksL_law_5 3 rfl rfl)
theorem dL_law_252 : decode cL_law 252 = .ok (.ireturn, 1) := dk_172 (dk_at dksL_law_5 4 rfl rfl)
theorem dL_law_253 : decode cL_law 253 = .ok (.aload_n 1, 1) := dk_43 (dk_at dksL_law_5 5 rfl rfl)
theorem dL_law_254 : decode cL_law 254 = .ok (.aload_n 0, 1) := dk_42 (dk_at dksL_law_5 6 rfl rfl)
theorem dL_law_255 : decode cL_law 255 = .ok (.iload_n 3, 1) := dk_29 (dk_at dksL_law_5 7 rfl rfl)
theorem dL_law_256 : decode cL_law 256 = .ok (.iconst 1, 1) := dk_4 (dk_at dksL_law_5 8 rfl rfl)
theorem dL_law_257 : decode cL_law 257 = .ok (.iadd, 1) := dk_96 (dk_at dksL_law_5 9 rfl rfl)
theorem dL_law_258 : decode cL_law 258 = .ok (.iaload, 1) := dk_46 (dk_at dksL_law_5 10 rfl rfl)
theorem dL_law_259 : decode cL_law 259 = .ok (.invokevirtual 18, 3) := dk_182 0 18 (dk_at dksL_law_5 11 rfl rfl)
theorem dL_law_262 : decode cL_law 262 = .ok (.aload_n 2, 1) := dk_44 (dk_at dksL_law_5 14 rfl rfl)
theorem dL_law_263 : decode cL_law 263 = .ok (.aload_n 0, 1) := dk_42 (dk_at dksL_law_5 15 rfl rfl)
theorem dL_law_264 : decode cL_law 264 = .ok (.iload_n 3, 1) := dk_29 (dk_at dksL_law_5 16 rfl rfl)
theorem dL_law_265 : decode cL_law 265 = .ok (.iconst 1, 1) := dk_4 (dk_at dksL_law_5 17 rfl rfl)
theorem dL_law_266 : decode cL_law 266 = .ok (.iadd, 1) := dk_96 (dk_at dksL_law_5 18 rfl rfl)
theorem dL_law_267 : decode cL_law 267 = .ok (.iaload, 1) := dk_46 (dk_at dksL_law_5 19 rfl rfl)
theorem dL_law_268 : decode cL_law 268 = .ok (.invokevirtual 22, 3) := dk_182 0 22 (dk_at dksL_law_5 20 rfl rfl)
theorem dL_law_271 : decode cL_law 271 = .ok (.if_icmp .eq 909, 3) := dk_159 3 141 (dk_at dksL_law_6 0 rfl rfl)
theorem dL_law_274 : decode cL_law 274 = .ok (.iconst 0, 1) := dk_3 (dk_at dksL_law_6 3 rfl rfl)
theorem dL_law_275 : decode cL_law 275 = .ok (.ireturn, 1) := dk_172 (dk_at dksL_law_6 4 rfl rfl)
theorem dL_law_276 : decode cL_law 276 = .ok (.aload_n 1, 1) := dk_43 (dk_at dksL_law_6 5 rfl rfl)
theorem dL_law_277 : decode cL_law 277 = .ok (.aload_n 0, 1) := dk_42 (dk_at dksL_law_6 6 rfl rfl)
theorem dL_law_278 : decode cL_law 278 = .ok (.iload_n 3, 1) := dk_29 (dk_at dksL_law_6 7 rfl rfl)
theorem dL_law_279 : decode cL_law 279 = .ok (.iconst 1, 1) := dk_4 (dk_at dksL_law_6 8 rfl rfl)
theorem dL_law_280 : decode cL_law 280 = .ok (.iadd, 1) := dk_96 (dk_at dksL_law_6 9 rfl rfl)
theorem dL_law_281 : decode cL_law 281 = .ok (.iaload, 1) := dk_46 (dk_at dksL_law_6 10 rfl rfl)
theorem dL_law_282 : decode cL_law 282 = .ok (.invokevirtual 23, 3) := dk_182 0 23 (dk_at dksL_law_6 11 rfl rfl)
theorem dL_law_285 : decode cL_law 285 = .ok (.aload_n 2, 1) := dk_44 (dk_at dksL_law_6 14 rfl rfl)
theorem dL_law_286 : decode cL_law 286 = .ok (.aload_n 0, 1) := dk_42 (dk_at dksL_law_6 15 rfl rfl)
theorem dL_law_287 : decode cL_law 287 = .ok (.iload_n 3, 1) := dk_29 (dk_at dksL_law_6 16 rfl rfl)
theorem dL_law_288 : decode cL_law 288 = .ok (.iconst 1, 1) := dk_4 (dk_at dksL_law_6 17 rfl rfl)
theorem dL_law_289 : decode cL_law 289 = .ok (.iadd, 1) := dk_96 (dk_at dksL_law_6 18 rfl rfl)
theorem dL_law_290 : decode cL_law 290 = .ok (.iaload, 1) := dk_46 (dk_at dksL_law_6 19 rfl rfl)
theorem dL_law_291 : decode cL_law 291 = .ok (.invokevirtual 26, 3) := dk_182 0 26 (dk_at dksL_law_6 20 rfl rfl)
theorem dL_law_294 : decode cL_law 294 = .ok (.if_icmp .eq 886, 3) := dk_159 3 118 (dk_at dksL_law_7 0 rfl rfl)
theorem dL_law_297 : decode cL_law 297 = .ok (.iconst 0, 1) := dk_3 (dk_at dksL_law_7 3 rfl rfl)
theorem dL_law_298 : decode cL_law 298 = .ok (.ireturn, 1) := dk_172 (dk_at dksL_law_7 4 rfl rfl)
theorem dL_law_299 : decode cL_law 299 = .ok (.aload_n 1, 1) := dk_43 (dk_at dksL_law_7 5 rfl rfl)
theorem dL_law_300 : decode cL_law 300 = .ok (.aload_n 0, 1) := dk_42 (dk_at dksL_law_7 6 rfl rfl)
theorem dL_law_301 : decode cL_law 301 = .ok (.iload_n 3, 1) := dk_29 (dk_at dksL_law_7 7 rfl rfl)
theorem dL_law_302 : decode cL_law 302 = .ok (.iconst 1, 1) := dk_4 (dk_at dksL_law_7 8 rfl rfl)
theorem dL_law_303 : decode cL_law 303 = .ok (.iadd, 1) := dk_96 (dk_at dksL_law_7 9 rfl rfl)
theorem dL_law_304 : decode cL_law 304 = .ok (.iaload, 1) := dk_46 (dk_at dksL_law_7 10 rfl rfl)
theorem dL_law_305 : decode cL_law 305 = .ok (.invokevirtual 27, 3) := dk_182 0 27 (dk_at dksL_law_7 11 rfl rfl)
theorem dL_law_308 : decode cL_law 308 = .ok (.aload_n 2, 1) := dk_44 (dk_at dksL_law_7 14 rfl rfl)
theorem dL_law_309 : decode cL_law 309 = .ok (.aload_n 0, 1) := dk_42 (dk_at dksL_law_7 15 rfl rfl)
theorem dL_law_310 : decode cL_law 310 = .ok (.iload_n 3, 1) := dk_29 (dk_at dksL_law_7 16 rfl rfl)
theorem dL_law_311 : decode cL_law 311 = .ok (.iconst 1, 1) := dk_4 (dk_at dksL_law_7 17 rfl rfl)
theorem dL_law_312 : decode cL_law 312 = .ok (.iadd, 1) := dk_96 (dk_at dksL_law_7 18 rfl rfl)
theorem dL_law_313 : decode cL_law 313 = .ok (.iaload, 1) := dk_46 (dk_at dksL_law_7 19 rfl rfl)
theorem dL_law_314 : decode cL_law 314 = .ok (.invokevirtual 30, 3) := dk_182 0 30 (dk_at dksL_law_7 20 rfl rfl)
theorem dL_law_317 : decode cL_law 317 = .ok (.if_icmp .eq 863, 3) := dk_159 3 95 (dk_at dksL_law_8 0 rfl rfl)
theorem dL_law_320 : decode cL_law 320 = .ok (.iconst 0, 1) := dk_3 (dk_at dksL_law_8 3 rfl rfl)
theorem dL_law_321 : decode cL_law 321 = .ok (.ireturn, 1) := dk_172 (dk_at dksL_law_8 4 rfl rfl)
theorem dL_law_322 : decode cL_law 322 = .ok (.aload_n 1, 1) := dk_43 (dk_at dksL_law_8 5 rfl rfl)
theorem dL_law_323 : decode cL_law 323 = .ok (.aload_n 0, 1) := dk_42 (dk_at dksL_law_8 6 rfl rfl)
theorem dL_law_324 : decode cL_law 324 = .ok (.iload_n 3, 1) := dk_29 (dk_at dksL_law_8 7 rfl rfl)
theorem dL_law_325 : decode cL_law 325 = .ok (.iconst 1, 1) := dk_4 (dk_at dksL_law_8 8 rfl rfl)
theorem dL_law_326 : decode cL_law 326 = .ok (.iadd, 1) := dk_96 (dk_at dksL_law_8 9 rfl rfl)
theorem dL_law_327 : decode cL_law 327 = .ok (.iaload, 1) := dk_46 (dk_at dksL_law_8 10 rfl rfl)
theorem dL_law_328 : decode cL_law 328 = .ok (.invokevirtual 31, 3) := dk_182 0 31 (dk_at dksL_law_8 11 rfl rfl)
theorem dL_law_331 : decode cL_law 331 = .ok (.aload_n 2, 1) := dk_44 (dk_at dksL_law_8 14 rfl rfl)
theorem dL_law_332 : decode cL_law 332 = .ok (.aload_n 0, 1) := dk_42 (dk_at dksL_law_8 15 rfl rfl)
theorem dL_law_333 : decode cL_law 333 = .ok (.iload_n 3, 1) := dk_29 (dk_at dksL_law_8 16 rfl rfl)
theorem dL_law_334 : decode cL_law 334 = .ok (.iconst 1, 1) := dk_4 (dk_at dksL_law_8 17 rfl rfl)
theorem dL_law_335 : decode cL_law 335 = .ok (.iadd, 1) := dk_96 (dk_at dksL_law_8 18 rfl rfl)
theorem dL_law_336 : decode cL_law 336 = .ok (.iaload, 1) := dk_46 (dk_at dksL_law_8 19 rfl rfl)
theorem dL_law_337 : decode cL_law 337 = .ok (.invokevirtual 34, 3) := dk_182 0 34 (dk_at dksL_law_8 20 rfl rfl)
theorem dL_law_340 : decode cL_law 340 = .ok (.if_icmp .eq 840, 3) := dk_159 3 72 (dk_at dksL_law_9 0 rfl rfl)
theorem dL_law_343 : decode cL_law 343 = .ok (.iconst 0, 1) := dk_3 (dk_at dksL_law_9 3 rfl rfl)
theorem dL_law_344 : decode cL_law 344 = .ok (.ireturn, 1) := dk_172 (dk_at dksL_law_9 4 rfl rfl)
theorem dL_law_345 : decode cL_law 345 = .ok (.aload_n 1, 1) := dk_43 (dk_at dksL_law_9 5 rfl rfl)
theorem dL_law_346 : decode cL_law 346 = .ok (.aload_n 0, 1) := dk_42 (dk_at dksL_law_9 6 rfl rfl)
theorem dL_law_347 : decode cL_law 347 = .ok (.iload_n 3, 1) := dk_29 (dk_at dksL_law_9 7 rfl rfl)
theorem dL_law_348 : decode cL_law 348 = .ok (.iconst 1, 1) := dk_4 (dk_at dksL_law_9 8 rfl rfl)
theorem dL_law_349 : decode cL_law 349 = .ok (.iadd, 1) := dk_96 (dk_at dksL_law_9 9 rfl rfl)
theorem dL_law_350 : decode cL_law 350 = .ok (.iaload, 1) := dk_46 (dk_at dksL_law_9 10 rfl rfl)
theorem dL_law_351 : decode cL_law 351 = .ok (.aload_n 0, 1) := dk_42 (dk_at dksL_law_9 11 rfl rfl)
theorem dL_law_352 : decode cL_law 352 = .ok (.iload_n 3, 1) := dk_29 (dk_at dksL_law_9 12 rfl rfl)
theorem dL_law_353 : decode cL_law 353 = .ok (.iconst 2, 1) := dk_5 (dk_at dksL_law_9 13 rfl rfl)
theorem dL_law_354 : decode cL_law 354 = .ok (.iadd, 1) := dk_96 (dk_at dksL_law_9 14 rfl rfl)
theorem dL_law_355 : decode cL_law 355 = .ok (.iaload, 1) := dk_46 (dk_at dksL_law_9 15 rfl rfl)
theorem dL_law_356 : decode cL_law 356 = .ok (.invokevirtual 35, 3) := dk_182 0 35 (dk_at dksL_law_9 16 rfl rfl)
theorem dL_law_359 : decode cL_law 359 = .ok (.aload_n 2, 1) := dk_44 (dk_at dksL_law_9 19 rfl rfl)
theorem dL_law_360 : decode cL_law 360 = .ok (.aload_n 0, 1) := dk_42 (dk_at dksL_law_9 20 rfl rfl)
theorem dL_law_361 : decode cL_law 361 = .ok (.iload_n 3, 1) := dk_29 (dk_at dksL_law_9 21 rfl rfl)
theorem dL_law_362 : decode cL_law 362 = .ok (.iconst 1, 1) := dk_4 (dk_at dksL_law_9 22 rfl rfl)
theorem dL_law_363 : decode cL_law 363 = .ok (.iadd, 1) := dk_96 (dk_at dksL_law_9 23 rfl rfl)
theorem dL_law_364 : decode cL_law 364 = .ok (.iaload, 1) := dk_46 (dk_at dksL_law_10 0 rfl rfl)
theorem dL_law_365 : decode cL_law 365 = .ok (.aload_n 0, 1) := dk_42 (dk_at dksL_law_10 1 rfl rfl)
theorem dL_law_366 : decode cL_law 366 = .ok (.iload_n 3, 1) := dk_29 (dk_at dksL_law_10 2 rfl rfl)
theorem dL_law_367 : decode cL_law 367 = .ok (.iconst 2, 1) := dk_5 (dk_at dksL_law_10 3 rfl rfl)
theorem dL_law_368 : decode cL_law 368 = .ok (.iadd, 1) := dk_96 (dk_at dksL_law_10 4 rfl rfl)
theorem dL_law_369 : decode cL_law 369 = .ok (.iaload, 1) := dk_46 (dk_at dksL_law_10 5 rfl rfl)
theorem dL_law_370 : decode cL_law 370 = .ok (.invokevirtual 39, 3) := dk_182 0 39 (dk_at dksL_law_10 6 rfl rfl)
theorem dL_law_373 : decode cL_law 373 = .ok (.if_icmp .eq 807, 3) := dk_159 3 39 (dk_at dksL_law_10 9 rfl rfl)
theorem dL_law_376 : decode cL_law 376 = .ok (.iconst 0, 1) := dk_3 (dk_at dksL_law_10 12 rfl rfl)
theorem dL_law_377 : decode cL_law 377 = .ok (.ireturn, 1) := dk_172 (dk_at dksL_law_10 13 rfl rfl)
theorem dL_law_378 : decode cL_law 378 = .ok (.aload_n 1, 1) := dk_43 (dk_at dksL_law_10 14 rfl rfl)
theorem dL_law_379 : decode cL_law 379 = .ok (.aload_n 0, 1) := dk_42 (dk_at dksL_law_10 15 rfl rfl)
theorem dL_law_380 : decode cL_law 380 = .ok (.iload_n 3, 1) := dk_29 (dk_at dksL_law_10 16 rfl rfl)
theorem dL_law_381 : decode cL_law 381 = .ok (.iconst 1, 1) := dk_4 (dk_at dksL_law_10 17 rfl rfl)
theorem dL_law_382 : decode cL_law 382 = .ok (.iadd, 1) := dk_96 (dk_at dksL_law_10 18 rfl rfl)
theorem dL_law_383 : decode cL_law 383 = .ok (.iaload, 1) := dk_46 (dk_at dksL_law_10 19 rfl rfl)
theorem dL_law_384 : decode cL_law 384 = .ok (.invokevirtual 40, 3) := dk_182 0 40 (dk_at dksL_law_10 20 rfl rfl)
theorem dL_law_387 : decode cL_law 387 = .ok (.aload_n 2, 1) := dk_44 (dk_at dksL_law_10 23 rfl rfl)
theorem dL_law_388 : decode cL_law 388 = .ok (.aload_n 0, 1) := dk_42 (dk_at dksL_law_11 0 rfl rfl)
theorem dL_law_389 : decode cL_law 389 = .ok (.iload_n 3, 1) := dk_29 (dk_at dksL_law_11 1 rfl rfl)
theorem dL_law_390 : decode cL_law 390 = .ok (.iconst 1, 1) := dk_4 (dk_at dksL_law_11 2 rfl rfl)
theorem dL_law_391 : decode cL_law 391 = .ok (.iadd, 1) := dk_96 (dk_at dksL_law_11 3 rfl rfl)
theorem dL_law_392 : decode cL_law 392 = .ok (.iaload, 1) := dk_46 (dk_at dksL_law_11 4 rfl rfl)
theorem dL_law_393 : decode cL_law 393 = .ok (.invokevirtual 43, 3) := dk_182 0 43 (dk_at dksL_law_11 5 rfl rfl)
theorem dL_law_396 : decode cL_law 396 = .ok (.if_icmp .eq 784, 3) := dk_159 3 16 (dk_at dksL_law_11 8 rfl rfl)
theorem dL_law_399 : decode cL_law 399 = .ok (.iconst 0, 1) := dk_3 (dk_at dksL_law_11 11 rfl rfl)
theorem dL_law_400 : decode cL_law 400 = .ok (.ireturn, 1) := dk_172 (dk_at dksL_law_11 12 rfl rfl)
theorem dL_law_401 : decode cL_law 401 = .ok (.aload_n 1, 1) := dk_43 (dk_at dksL_law_11 13 rfl rfl)
theorem dL_law_402 : decode cL_law 402 = .ok (.aload_n 0, 1) := dk_42 (dk_at dksL_law_11 14 rfl rfl)
theorem dL_law_403 : decode cL_law 403 = .ok (.iload_n 3, 1) := dk_29 (dk_at dksL_law_11 15 rfl rfl)
theorem dL_law_404 : decode cL_law 404 = .ok (.iconst 1, 1) := dk_4 (dk_at dksL_law_11 16 rfl rfl)
theorem dL_law_405 : decode cL_law 405 = .ok (.iadd, 1) := dk_96 (dk_at dksL_law_11 17 rfl rfl)
theorem dL_law_406 : decode cL_law 406 = .ok (.iaload, 1) := dk_46 (dk_at dksL_law_11 18 rfl rfl)
theorem dL_law_407 : decode cL_law 407 = .ok (.invokevirtual 44, 3) := dk_182 0 44 (dk_at dksL_law_11 19 rfl rfl)
theorem dL_law_410 : decode cL_law 410 = .ok (.aload_n 2, 1) := dk_44 (dk_at dksL_law_11 22 rfl rfl)
theorem dL_law_411 : decode cL_law 411 = .ok (.aload_n 0, 1) := dk_42 (dk_at dksL_law_11 23 rfl rfl)
theorem dL_law_412 : decode cL_law 412 = .ok (.iload_n 3, 1) := dk_29 (dk_at dksL_law_12 0 rfl rfl)
theorem dL_law_413 : decode cL_law 413 = .ok (.iconst 1, 1) := dk_4 (dk_at dksL_law_12 1 rfl rfl)
theorem dL_law_414 : decode cL_law 414 = .ok (.iadd, 1) := dk_96 (dk_at dksL_law_12 2 rfl rfl)
theorem dL_law_415 : decode cL_law 415 = .ok (.iaload, 1) := dk_46 (dk_at dksL_law_12 3 rfl rfl)
theorem dL_law_416 : decode cL_law 416 = .ok (.invokevirtual 47, 3) := dk_182 0 47 (dk_at dksL_law_12 4 rfl rfl)
theorem dL_law_419 : decode cL_law 419 = .ok (.if_icmp .eq 761, 3) := dk_159 2 249 (dk_at dksL_law_12 7 rfl rfl)
theorem dL_law_422 : decode cL_law 422 = .ok (.iconst 0, 1) := dk_3 (dk_at dksL_law_12 10 rfl rfl)
theorem dL_law_423 : decode cL_law 423 = .ok (.ireturn, 1) := dk_172 (dk_at dksL_law_12 11 rfl rfl)
theorem dL_law_424 : decode cL_law 424 = .ok (.aload_n 1, 1) := dk_43 (dk_at dksL_law_12 12 rfl rfl)
theorem dL_law_425 : decode cL_law 425 = .ok (.aload_n 0, 1) := dk_42 (dk_at dksL_law_12 13 rfl rfl)
theorem dL_law_426 : decode cL_law 426 = .ok (.iload_n 3, 1) := dk_29 (dk_at dksL_law_12 14 rfl rfl)
theorem dL_law_427 : decode cL_law 427 = .ok (.iconst 1, 1) := dk_4 (dk_at dksL_law_12 15 rfl rfl)
theorem dL_law_428 : decode cL_law 428 = .ok (.iadd, 1) := dk_96 (dk_at dksL_law_12 16 rfl rfl)
theorem dL_law_429 : decode cL_law 429 = .ok (.iaload, 1) := dk_46 (dk_at dksL_law_12 17 rfl rfl)
theorem dL_law_430 : decode cL_law 430 = .ok (.aload_n 0, 1) := dk_42 (dk_at dksL_law_12 18 rfl rfl)
theorem dL_law_431 : decode cL_law 431 = .ok (.iload_n 3, 1) := dk_29 (dk_at dksL_law_12 19 rfl rfl)
theorem dL_law_432 : decode cL_law 432 = .ok (.iconst 2, 1) := dk_5 (dk_at dksL_law_12 20 rfl rfl)
theorem dL_law_433 : decode cL_law 433 = .ok (.iadd, 1) := dk_96 (dk_at dksL_law_12 21 rfl rfl)
theorem dL_law_434 : decode cL_law 434 = .ok (.iaload, 1) := dk_46 (dk_at dksL_law_12 22 rfl rfl)
theorem dL_law_435 : decode cL_law 435 = .ok (.invokevirtual 48, 3) := dk_182 0 48 (dk_at dksL_law_13 0 rfl rfl)
theorem dL_law_438 : decode cL_law 438 = .ok (.aload_n 2, 1) := dk_44 (dk_at dksL_law_13 3 rfl rfl)
theorem dL_law_439 : decode cL_law 439 = .ok (.aload_n 0, 1) := dk_42 (dk_at dksL_law_13 4 rfl rfl)
theorem dL_law_440 : decode cL_law 440 = .ok (.iload_n 3, 1) := dk_29 (dk_at dksL_law_13 5 rfl rfl)
theorem dL_law_441 : decode cL_law 441 = .ok (.iconst 1, 1) := dk_4 (dk_at dksL_law_13 6 rfl rfl)
theorem dL_law_442 : decode cL_law 442 = .ok (.iadd, 1) := dk_96 (dk_at dksL_law_13 7 rfl rfl)
theorem dL_law_443 : decode cL_law 443 = .ok (.iaload, 1) := dk_46 (dk_at dksL_law_13 8 rfl rfl)
theorem dL_law_444 : decode cL_law 444 = .ok (.aload_n 0, 1) := dk_42 (dk_at dksL_law_13 9 rfl rfl)
theorem dL_law_445 : decode cL_law 445 = .ok (.iload_n 3, 1) := dk_29 (dk_at dksL_law_13 10 rfl rfl)
theorem dL_law_446 : decode cL_law 446 = .ok (.iconst 2, 1) := dk_5 (dk_at dksL_law_13 11 rfl rfl)
theorem dL_law_447 : decode cL_law 447 = .ok (.iadd, 1) := dk_96 (dk_at dksL_law_13 12 rfl rfl)
theorem dL_law_448 : decode cL_law 448 = .ok (.iaload, 1) := dk_46 (dk_at dksL_law_13 13 rfl rfl)
theorem dL_law_449 : decode cL_law 449 = .ok (.invokevirtual 51, 3) := dk_182 0 51 (dk_at dksL_law_13 14 rfl rfl)
theorem dL_law_452 : decode cL_law 452 = .ok (.if_icmp .eq 728, 3) := dk_159 2 216 (dk_at dksL_law_13 17 rfl rfl)
theorem dL_law_455 : decode cL_law 455 = .ok (.iconst 0, 1) := dk_3 (dk_at dksL_law_13 20 rfl rfl)
theorem dL_law_456 : decode cL_law 456 = .ok (.ireturn, 1) := dk_172 (dk_at dksL_law_13 21 rfl rfl)
theorem dL_law_457 : decode cL_law 457 = .ok (.aload_n 1, 1) := dk_43 (dk_at dksL_law_13 22 rfl rfl)
theorem dL_law_458 : decode cL_law 458 = .ok (.aload_n 0, 1) := dk_42 (dk_at dksL_law_13 23 rfl rfl)
theorem dL_law_459 : decode cL_law 459 = .ok (.iload_n 3, 1) := dk_29 (dk_at dksL_law_14 0 rfl rfl)
theorem dL_law_460 : decode cL_law 460 = .ok (.iconst 1, 1) := dk_4 (dk_at dksL_law_14 1 rfl rfl)
theorem dL_law_461 : decode cL_law 461 = .ok (.iadd, 1) := dk_96 (dk_at dksL_law_14 2 rfl rfl)
theorem dL_law_462 : decode cL_law 462 = .ok (.iaload, 1) := dk_46 (dk_at dksL_law_14 3 rfl rfl)
theorem dL_law_463 : decode cL_law 463 = .ok (.aload_n 0, 1) := dk_42 (dk_at dksL_law_14 4 rfl rfl)
theorem dL_law_464 : decode cL_law 464 = .ok (.iload_n 3, 1) := dk_29 (dk_at dksL_law_14 5 rfl rfl)
theorem dL_law_465 : decode cL_law 465 = .ok (.iconst 2, 1) := dk_5 (dk_at dksL_law_14 6 rfl rfl)
theorem dL_law_466 : decode cL_law 466 = .ok (.iadd, 1) := dk_96 (dk_at dksL_law_14 7 rfl rfl)
theorem dL_law_467 : decode cL_law 467 = .ok (.iaload, 1) := dk_46 (dk_at dksL_law_14 8 rfl rfl)
theorem dL_law_468 : decode cL_law 468 = .ok (.invokevirtual 52, 3) := dk_182 0 52 (dk_at dksL_law_14 9 rfl rfl)
theorem dL_law_471 : decode cL_law 471 = .ok (.aload_n 2, 1) := dk_44 (dk_at dksL_law_14 12 rfl rfl)
theorem dL_law_472 : decode cL_law 472 = .ok (.aload_n 0, 1) := dk_42 (dk_at dksL_law_14 13 rfl rfl)
theorem dL_law_473 : decode cL_law 473 = .ok (.iload_n 3, 1) := dk_29 (dk_at dksL_law_14 14 rfl rfl)
theorem dL_law_474 : decode cL_law 474 = .ok (.iconst 1, 1) := dk_4 (dk_at dksL_law_14 15 rfl rfl)
theorem dL_law_475 : decode cL_law 475 = .ok (.iadd, 1) := dk_96 (dk_at dksL_law_14 16 rfl rfl)
theorem dL_law_476 : decode cL_law 476 = .ok (.iaload, 1) := dk_46 (dk_at dksL_law_14 17 rfl rfl)
theorem dL_law_477 : decode cL_law 477 = .ok (.aload_n 0, 1) := dk_42 (dk_at dksL_law_14 18 rfl rfl)
theorem dL_law_478 : decode cL_law 478 = .ok (.iload_n 3, 1) := dk_29 (dk_at dksL_law_14 19 rfl rfl)
theorem dL_law_479 : decode cL_law 479 = .ok (.iconst 2, 1) := dk_5 (dk_at dksL_law_14 20 rfl rfl)
theorem dL_law_480 : decode cL_law 480 = .ok (.iadd, 1) := dk_96 (dk_at dksL_law_14 21 rfl rfl)
theorem dL_law_481 : decode cL_law 481 = .ok (.iaload, 1) := dk_46 (dk_at dksL_law_14 22 rfl rfl)
theorem dL_law_482 : decode cL_law 482 = .ok (.invokevirtual 55, 3) := dk_182 0 55 (dk_at dksL_law_15 0 rfl rfl)
theorem dL_law_485 : decode cL_law 485 = .ok (.if_icmp .eq 695, 3) := dk_159 2 183 (dk_at dksL_law_15 3 rfl rfl)
theorem dL_law_488 : decode cL_law 488 = .ok (.iconst 0, 1) := dk_3 (dk_at dksL_law_15 6 rfl rfl)
theorem dL_law_489 : decode cL_law 489 = .ok (.ireturn, 1) := dk_172 (dk_at dksL_law_15 7 rfl rfl)
theorem dL_law_490 : decode cL_law 490 = .ok (.aload_n 1, 1) := dk_43 (dk_at dksL_law_15 8 rfl rfl)
theorem dL_law_491 : decode cL_law 491 = .ok (.aload_n 0, 1) := dk_42 (dk_at dksL_law_15 9 rfl rfl)
theorem dL_law_492 : decode cL_law 492 = .ok (.iload_n 3, 1) := dk_29 (dk_at dksL_law_15 10 rfl rfl)
theorem dL_law_493 : decode cL_law 493 = .ok (.iconst 1, 1) := dk_4 (dk_at dksL_law_15 11 rfl rfl)
theorem dL_law_494 : decode cL_law 494 = .ok (.iadd, 1) := dk_96 (dk_at dksL_law_15 12 rfl rfl)
theorem dL_law_495 : decode cL_law 495 = .ok (.iaload, 1) := dk_46 (dk_at dksL_law_15 13 rfl rfl)
theorem dL_law_496 : decode cL_law 496 = .ok (.invokevirtual 56, 3) := dk_182 0 56 (dk_at dksL_law_15 14 rfl rfl)
theorem dL_law_499 : decode cL_law 499 = .ok (.aload_n 2, 1) := dk_44 (dk_at dksL_law_15 17 rfl rfl)
theorem dL_law_500 : decode cL_law 500 = .ok (.aload_n 0, 1) := dk_42 (dk_at dksL_law_15 18 rfl rfl)
theorem dL_law_501 : decode cL_law 501 = .ok (.iload_n 3, 1) := dk_29 (dk_at dksL_law_15 19 rfl rfl)
theorem dL_law_502 : decode cL_law 502 = .ok (.iconst 1, 1) := dk_4 (dk_at dksL_law_15 20 rfl rfl)
theorem dL_law_503 : decode cL_law 503 = .ok (.iadd, 1) := dk_96 (dk_at dksL_law_15 21 rfl rfl)
theorem dL_law_504 : decode cL_law 504 = .ok (.iaload, 1) := dk_46 (dk_at dksL_law_15 22 rfl rfl)
theorem dL_law_505 : decode cL_law 505 = .ok (.invokevirtual 59, 3) := dk_182 0 59 (dk_at dksL_law_16 0 rfl rfl)
theorem dL_law_508 : decode cL_law 508 = .ok (.if_icmp .eq 672, 3) := dk_159 2 160 (dk_at dksL_law_16 3 rfl rfl)
theorem dL_law_511 : decode cL_law 511 = .ok (.iconst 0, 1) := dk_3 (dk_at dksL_law_16 6 rfl rfl)
theorem dL_law_512 : decode cL_law 512 = .ok (.ireturn, 1) := dk_172 (dk_at dksL_law_16 7 rfl rfl)
theorem dL_law_513 : decode cL_law 513 = .ok (.aload_n 1, 1) := dk_43 (dk_at dksL_law_16 8 rfl rfl)
theorem dL_law_514 : decode cL_law 514 = .ok (.aload_n 0, 1) := dk_42 (dk_at dksL_law_16 9 rfl rfl)
theorem dL_law_515 : decode cL_law 515 = .ok (.iload_n 3, 1) := dk_29 (dk_at dksL_law_16 10 rfl rfl)
theorem dL_law_516 : decode cL_law 516 = .ok (.iconst 1, 1) := dk_4 (dk_at dksL_law_16 11 rfl rfl)
theorem dL_law_517 : decode cL_law 517 = .ok (.iadd, 1) := dk_96 (dk_at dksL_law_16 12 rfl rfl)
theorem dL_law_518 : decode cL_law 518 = .ok (.iaload, 1) := dk_46 (dk_at dksL_law_16 13 rfl rfl)
theorem dL_law_519 : decode cL_law 519 = .ok (.aload_n 0, 1) := dk_42 (dk_at dksL_law_16 14 rfl rfl)
theorem dL_law_520 : decode cL_law 520 = .ok (.iload_n 3, 1) := dk_29 (dk_at dksL_law_16 15 rfl rfl)
theorem dL_law_521 : decode cL_law 521 = .ok (.iconst 2, 1) := dk_5 (dk_at dksL_law_16 16 rfl rfl)
theorem dL_law_522 : decode cL_law 522 = .ok (.iadd, 1) := dk_96 (dk_at dksL_law_16 17 rfl rfl)
theorem dL_law_523 : decode cL_law 523 = .ok (.iaload, 1) := dk_46 (dk_at dksL_law_16 18 rfl rfl)
theorem dL_law_524 : decode cL_law 524 = .ok (.invokevirtual 60, 3) := dk_182 0 60 (dk_at dksL_law_16 19 rfl rfl)
theorem dL_law_527 : decode cL_law 527 = .ok (.aload_n 2, 1) := dk_44 (dk_at dksL_law_16 22 rfl rfl)
theorem dL_law_528 : decode cL_law 528 = .ok (.aload_n 0, 1) := dk_42 (dk_at dksL_law_16 23 rfl rfl)
theorem dL_law_529 : decode cL_law 529 = .ok (.iload_n 3, 1) := dk_29 (dk_at dksL_law_17 0 rfl rfl)
theorem dL_law_530 : decode cL_law 530 = .ok (.iconst 1, 1) := dk_4 (dk_at dksL_law_17 1 rfl rfl)
theorem dL_law_531 : decode cL_law 531 = .ok (.iadd, 1) := dk_96 (dk_at dksL_law_17 2 rfl rfl)
theorem dL_law_532 : decode cL_law 532 = .ok (.iaload, 1) := dk_46 (dk_at dksL_law_17 3 rfl rfl)
theorem dL_law_533 : decode cL_law 533 = .ok (.aload_n 0, 1) := dk_42 (dk_at dksL_law_17 4 rfl rfl)
theorem dL_law_534 : decode cL_law 534 = .ok (.iload_n 3, 1) := dk_29 (dk_at dksL_law_17 5 rfl rfl)
theorem dL_law_535 : decode cL_law 535 = .ok (.iconst 2, 1) := dk_5 (dk_at dksL_law_17 6 rfl rfl)
theorem dL_law_536 : decode cL_law 536 = .ok (.iadd, 1) := dk_96 (dk_at dksL_law_17 7 rfl rfl)
theorem dL_law_537 : decode cL_law 537 = .ok (.iaload, 1) := dk_46 (dk_at dksL_law_17 8 rfl rfl)
theorem dL_law_538 : decode cL_law 538 = .ok (.invokevirtual 63, 3) := dk_182 0 63 (dk_at dksL_law_17 9 rfl rfl)
theorem dL_law_541 : decode cL_law 541 = .ok (.if_icmp .eq 639, 3) := dk_159 2 127 (dk_at dksL_law_17 12 rfl rfl)
theorem dL_law_544 : decode cL_law 544 = .ok (.iconst 0, 1) := dk_3 (dk_at dksL_law_17 15 rfl rfl)
theorem dL_law_545 : decode cL_law 545 = .ok (.ireturn, 1) := dk_172 (dk_at dksL_law_17 16 rfl rfl)
theorem dL_law_546 : decode cL_law 546 = .ok (.aload_n 1, 1) := dk_43 (dk_at dksL_law_17 17 rfl rfl)
theorem dL_law_547 : decode cL_law 547 = .ok (.invokevirtual 64, 3) := dk_182 0 64 (dk_at dksL_law_17 18 rfl rfl)
theorem dL_law_550 : decode cL_law 550 = .ok (.f2d, 1) := dk_141 (dk_at dksL_law_17 21 rfl rfl)
theorem dL_law_551 : decode cL_law 551 = .ok (.dstore 4, 2) := dk_57 4 (dk_at dksL_law_17 22 rfl rfl)
theorem dL_law_553 : decode cL_law 553 = .ok (.aload_n 2, 1) := dk_44 (dk_at dksL_law_18 0 rfl rfl)
theorem dL_law_554 : decode cL_law 554 = .ok (.invokevirtual 68, 3) := dk_182 0 68 (dk_at dksL_law_18 1 rfl rfl)
theorem dL_law_557 : decode cL_law 557 = .ok (.f2d, 1) := dk_141 (dk_at dksL_law_18 4 rfl rfl)
theorem dL_law_558 : decode cL_law 558 = .ok (.dstore 6, 2) := dk_57 6 (dk_at dksL_law_18 5 rfl rfl)
theorem dL_law_560 : decode cL_law 560 = .ok (.dload 4, 2) := dk_24 4 (dk_at dksL_law_18 7 rfl rfl)
theorem dL_law_562 : decode cL_law 562 = .ok (.dload 6, 2) := dk_24 6 (dk_at dksL_law_18 9 rfl rfl)
theorem dL_law_564 : decode cL_law 564 = .ok (.dcmp .l, 1) := dk_151 (dk_at dksL_law_18 11 rfl rfl)
theorem dL_law_565 : decode cL_law 565 = .ok (.ifCond .eq 21, 3) := dk_153 0 21 (dk_at dksL_law_18 12 rfl rfl)
theorem dL_law_568 : decode cL_law 568 = .ok (.dload 4, 2) := dk_24 4 (dk_at dksL_law_18 15 rfl rfl)
theorem dL_law_570 : decode cL_law 570 = .ok (.dload 4, 2) := dk_24 4 (dk_at dksL_law_18 17 rfl rfl)
theorem dL_law_572 : decode cL_law 572 = .ok (.dcmp .l, 1) := dk_151 (dk_at dksL_law_18 19 rfl rfl)
theorem dL_law_573 : decode cL_law 573 = .ok (.ifCond .eq 11, 3) := dk_153 0 11 (dk_at dksL_law_18 20 rfl rfl)
theorem dL_law_576 : decode cL_law 576 = .ok (.dload 6, 2) := dk_24 6 (dk_at dksL_law_19 0 rfl rfl)
theorem dL_law_578 : decode cL_law 578 = .ok (.dload 6, 2) := dk_24 6 (dk_at dksL_law_19 2 rfl rfl)
theorem dL_law_580 : decode cL_law 580 = .ok (.dcmp .l, 1) := dk_151 (dk_at dksL_law_19 4 rfl rfl)
theorem dL_law_581 : decode cL_law 581 = .ok (.ifCond .ne 5, 3) := dk_154 0 5 (dk_at dksL_law_19 5 rfl rfl)
theorem dL_law_584 : decode cL_law 584 = .ok (.iconst 0, 1) := dk_3 (dk_at dksL_law_19 8 rfl rfl)
theorem dL_law_585 : decode cL_law 585 = .ok (.ireturn, 1) := dk_172 (dk_at dksL_law_19 9 rfl rfl)
theorem dL_law_586 : decode cL_law 586 = .ok (.goto 594, 3) := dk_167 2 82 (dk_at dksL_law_19 10 rfl rfl)
theorem dL_law_589 : decode cL_law 589 = .ok (.aload_n 1, 1) := dk_43 (dk_at dksL_law_19 13 rfl rfl)
theorem dL_law_590 : decode cL_law 590 = .ok (.invokevirtual 69, 3) := dk_182 0 69 (dk_at dksL_law_19 14 rfl rfl)
theorem dL_law_593 : decode cL_law 593 = .ok (.f2d, 1) := dk_141 (dk_at dksL_law_19 17 rfl rfl)
theorem dL_law_594 : decode cL_law 594 = .ok (.dstore 4, 2) := dk_57 4 (dk_at dksL_law_19 18 rfl rfl)
theorem dL_law_596 : decode cL_law 596 = .ok (.aload_n 2, 1) := dk_44 (dk_at dksL_law_19 20 rfl rfl)
theorem dL_law_597 : decode cL_law 597 = .ok (.invokevirtual 72, 3) := dk_182 0 72 (dk_at dksL_law_19 21 rfl rfl)
theorem dL_law_600 : decode cL_law 600 = .ok (.f2d, 1) := dk_141 (dk_at dksL_law_20 0 rfl rfl)
theorem dL_law_601 : decode cL_law 601 = .ok (.dstore 6, 2) := dk_57 6 (dk_at dksL_law_20 1 rfl rfl)
theorem dL_law_603 : decode cL_law 603 = .ok (.dload 4, 2) := dk_24 4 (dk_at dksL_law_20 3 rfl rfl)
theorem dL_law_605 : decode cL_law 605 = .ok (.dload 6, 2) := dk_24 6 (dk_at dksL_law_20 5 rfl rfl)
theorem dL_law_607 : decode cL_law 607 = .ok (.dcmp .l, 1) := dk_151 (dk_at dksL_law_20 7 rfl rfl)
theorem dL_law_608 : decode cL_law 608 = .ok (.ifCond .eq 21, 3) := dk_153 0 21 (dk_at dksL_law_20 8 rfl rfl)
theorem dL_law_611 : decode cL_law 611 = .ok (.dload 4, 2) := dk_24 4 (dk_at dksL_law_20 11 rfl rfl)
theorem dL_law_613 : decode cL_law 613 = .ok (.dload 4, 2) := dk_24 4 (dk_at dksL_law_20 13 rfl rfl)
theorem dL_law_615 : decode cL_law 615 = .ok (.dcmp .l, 1) := dk_151 (dk_at dksL_law_20 15 rfl rfl)
theorem dL_law_616 : decode cL_law 616 = .ok (.ifCond .eq 11, 3) := dk_153 0 11 (dk_at dksL_law_20 16 rfl rfl)
theorem dL_law_619 : decode cL_law 619 = .ok (.dload 6, 2) := dk_24 6 (dk_at dksL_law_20 19 rfl rfl)
theorem dL_law_621 : decode cL_law 621 = .ok (.dload 6, 2) := dk_24 6 (dk_at dksL_law_20 21 rfl rfl)
theorem dL_law_623 : decode cL_law 623 = .ok (.dcmp .l, 1) := dk_151 (dk_at dksL_law_20 23 rfl rfl)
theorem dL_law_624 : decode cL_law 624 = .ok (.ifCond .ne 5, 3) := dk_154 0 5 (dk_at dksL_law_21 0 rfl rfl)
theorem dL_law_627 : decode cL_law 627 = .ok (.iconst 0, 1) := dk_3 (dk_at dksL_law_21 3 rfl rfl)
theorem dL_law_628 : decode cL_law 628 = .ok (.ireturn, 1) := dk_172 (dk_at dksL_law_21 4 rfl rfl)
theorem dL_law_629 : decode cL_law 629 = .ok (.goto 551, 3) := dk_167 2 39 (dk_at dksL_law_21 5 rfl rfl)
theorem dL_law_632 : decode cL_law 632 = .ok (.aload_n 1, 1) := dk_43 (dk_at dksL_law_21 8 rfl rfl)
theorem dL_law_633 : decode cL_law 633 = .ok (.invokevirtual 73, 3) := dk_182 0 73 (dk_at dksL_law_21 9 rfl rfl)
theorem dL_law_636 : decode cL_law 636 = .ok (.aload_n 2, 1) := dk_44 (dk_at dksL_law_21 12 rfl rfl)
theorem dL_law_637 : decode cL_law 637 = .ok (.invokevirtual 77, 3) := dk_182 0 77 (dk_at dksL_law_21 13 rfl rfl)
theorem dL_law_640 : decode cL_law 640 = .ok (.if_icmp .eq 540, 3) := dk_159 2 28 (dk_at dksL_law_21 16 rfl rfl)
theorem dL_law_643 : decode cL_law 643 = .ok (.iconst 0, 1) := dk_3 (dk_at dksL_law_21 19 rfl rfl)
theorem dL_law_644 : decode cL_law 644 = .ok (.ireturn, 1) := dk_172 (dk_at dksL_law_21 20 rfl rfl)
theorem dL_law_645 : decode cL_law 645 = .ok (.aload_n 1, 1) := dk_43 (dk_at dksL_law_21 21 rfl rfl)
theorem dL_law_646 : decode cL_law 646 = .ok (.aload_n 0, 1) := dk_42 (dk_at dksL_law_21 22 rfl rfl)
theorem dL_law_647 : decode cL_law 647 = .ok (.iload_n 3, 1) := dk_29 (dk_at dksL_law_21 23 rfl rfl)
theorem dL_law_648 : decode cL_law 648 = .ok (.iconst 1, 1) := dk_4 (dk_at dksL_law_22 0 rfl rfl)
theorem dL_law_649 : decode cL_law 649 = .ok (.iadd, 1) := dk_96 (dk_at dksL_law_22 1 rfl rfl)
theorem dL_law_650 : decode cL_law 650 = .ok (.iaload, 1) := dk_46 (dk_at dksL_law_22 2 rfl rfl)
theorem dL_law_651 : decode cL_law 651 = .ok (.aload_n 0, 1) := dk_42 (dk_at dksL_law_22 3 rfl rfl)
theorem dL_law_652 : decode cL_law 652 = .ok (.iload_n 3, 1) := dk_29 (dk_at dksL_law_22 4 rfl rfl)
theorem dL_law_653 : decode cL_law 653 = .ok (.iconst 2, 1) := dk_5 (dk_at dksL_law_22 5 rfl rfl)
theorem dL_law_654 : decode cL_law 654 = .ok (.iadd, 1) := dk_96 (dk_at dksL_law_22 6 rfl rfl)
theorem dL_law_655 : decode cL_law 655 = .ok (.iaload, 1) := dk_46 (dk_at dksL_law_22 7 rfl rfl)
theorem dL_law_656 : decode cL_law 656 = .ok (.invokevirtual 78, 3) := dk_182 0 78 (dk_at dksL_law_22 8 rfl rfl)
theorem dL_law_659 : decode cL_law 659 = .ok (.aload_n 2, 1) := dk_44 (dk_at dksL_law_22 11 rfl rfl)
theorem dL_law_660 : decode cL_law 660 = .ok (.aload_n 0, 1) := dk_42 (dk_at dksL_law_22 12 rfl rfl)
theorem dL_law_661 : decode cL_law 661 = .ok (.iload_n 3, 1) := dk_29 (dk_at dksL_law_22 13 rfl rfl)
theorem dL_law_662 : decode cL_law 662 = .ok (.iconst 1, 1) := dk_4 (dk_at dksL_law_22 14 rfl rfl)
theorem dL_law_663 : decode cL_law 663 = .ok (.iadd, 1) := dk_96 (dk_at dksL_law_22 15 rfl rfl)
theorem dL_law_664 : decode cL_law 664 = .ok (.iaload, 1) := dk_46 (dk_at dksL_law_22 16 rfl rfl)
theorem dL_law_665 : decode cL_law 665 = .ok (.aload_n 0, 1) := dk_42 (dk_at dksL_law_22 17 rfl rfl)
theorem dL_law_666 : decode cL_law 666 = .ok (.iload_n 3, 1) := dk_29 (dk_at dksL_law_22 18 rfl rfl)
theorem dL_law_667 : decode cL_law 667 = .ok (.iconst 2, 1) := dk_5 (dk_at dksL_law_22 19 rfl rfl)
theorem dL_law_668 : decode cL_law 668 = .ok (.iadd, 1) := dk_96 (dk_at dksL_law_22 20 rfl rfl)
theorem dL_law_669 : decode cL_law 669 = .ok (.iaload, 1) := dk_46 (dk_at dksL_law_22 21 rfl rfl)
theorem dL_law_670 : decode cL_law 670 = .ok (.invokevirtual 81, 3) := dk_182 0 81 (dk_at dksL_law_23 0 rfl rfl)
theorem dL_law_673 : decode cL_law 673 = .ok (.if_icmp .eq 507, 3) := dk_159 1 251 (dk_at dksL_law_23 3 rfl rfl)
theorem dL_law_676 : decode cL_law 676 = .ok (.iconst 0, 1) := dk_3 (dk_at dksL_law_23 6 rfl rfl)
theorem dL_law_677 : decode cL_law 677 = .ok (.ireturn, 1) := dk_172 (dk_at dksL_law_23 7 rfl rfl)
theorem dL_law_678 : decode cL_law 678 = .ok (.aload_n 1, 1) := dk_43 (dk_at dksL_law_23 8 rfl rfl)
theorem dL_law_679 : decode cL_law 679 = .ok (.aload_n 0, 1) := dk_42 (dk_at dksL_law_23 9 rfl rfl)
theorem dL_law_680 : decode cL_law 680 = .ok (.iload_n 3, 1) := dk_29 (dk_at dksL_law_23 10 rfl rfl)
theorem dL_law_681 : decode cL_law 681 = .ok (.iconst 1, 1) := dk_4 (dk_at dksL_law_23 11 rfl rfl)
theorem dL_law_682 : decode cL_law 682 = .ok (.iadd, 1) := dk_96 (dk_at dksL_law_23 12 rfl rfl)
theorem dL_law_683 : decode cL_law 683 = .ok (.iaload, 1) := dk_46 (dk_at dksL_law_23 13 rfl rfl)
theorem dL_law_684 : decode cL_law 684 = .ok (.invokevirtual 82, 3) := dk_182 0 82 (dk_at dksL_law_23 14 rfl rfl)
theorem dL_law_687 : decode cL_law 687 = .ok (.aload_n 2, 1) := dk_44 (dk_at dksL_law_23 17 rfl rfl)
theorem dL_law_688 : decode cL_law 688 = .ok (.aload_n 0, 1) := dk_42 (dk_at dksL_law_23 18 rfl rfl)
theorem dL_law_689 : decode cL_law 689 = .ok (.iload_n 3, 1) := dk_29 (dk_at dksL_law_23 19 rfl rfl)
theorem dL_law_690 : decode cL_law 690 = .ok (.iconst 1, 1) := dk_4 (dk_at dksL_law_23 20 rfl rfl)
theorem dL_law_691 : decode cL_law 691 = .ok (.iadd, 1) := dk_96 (dk_at dksL_law_23 21 rfl rfl)
theorem dL_law_692 : decode cL_law 692 = .ok (.iaload, 1) := dk_46 (dk_at dksL_law_23 22 rfl rfl)
theorem dL_law_693 : decode cL_law 693 = .ok (.invokevirtual 85, 3) := dk_182 0 85 (dk_at dksL_law_24 0 rfl rfl)
theorem dL_law_696 : decode cL_law 696 = .ok (.if_icmp .eq 484, 3) := dk_159 1 228 (dk_at dksL_law_24 3 rfl rfl)
theorem dL_law_699 : decode cL_law 699 = .ok (.iconst 0, 1) := dk_3 (dk_at dksL_law_24 6 rfl rfl)
theorem dL_law_700 : decode cL_law 700 = .ok (.ireturn, 1) := dk_172 (dk_at dksL_law_24 7 rfl rfl)
theorem dL_law_701 : decode cL_law 701 = .ok (.aload_n 1, 1) := dk_43 (dk_at dksL_law_24 8 rfl rfl)
theorem dL_law_702 : decode cL_law 702 = .ok (.aload_n 0, 1) := dk_42 (dk_at dksL_law_24 9 rfl rfl)
theorem dL_law_703 : decode cL_law 703 = .ok (.iload_n 3, 1) := dk_29 (dk_at dksL_law_24 10 rfl rfl)
theorem dL_law_704 : decode cL_law 704 = .ok (.iconst 1, 1) := dk_4 (dk_at dksL_law_24 11 rfl rfl)
theorem dL_law_705 : decode cL_law 705 = .ok (.iadd, 1) := dk_96 (dk_at dksL_law_24 12 rfl rfl)
theorem dL_law_706 : decode cL_law 706 = .ok (.iaload, 1) := dk_46 (dk_at dksL_law_24 13 rfl rfl)
theorem dL_law_707 : decode cL_law 707 = .ok (.invokevirtual 86, 3) := dk_182 0 86 (dk_at dksL_law_24 14 rfl rfl)
theorem dL_law_710 : decode cL_law 710 = .ok (.aload_n 2, 1) := dk_44 (dk_at dksL_law_24 17 rfl rfl)
theorem dL_law_711 : decode cL_law 711 = .ok (.aload_n 0, 1) := dk_42 (dk_at dksL_law_24 18 rfl rfl)
theorem dL_law_712 : decode cL_law 712 = .ok (.iload_n 3, 1) := dk_29 (dk_at dksL_law_24 19 rfl rfl)
theorem dL_law_713 : decode cL_law 713 = .ok (.iconst 1, 1) := dk_4 (dk_at dksL_law_24 20 rfl rfl)
theorem dL_law_714 : decode cL_law 714 = .ok (.iadd, 1) := dk_96 (dk_at dksL_law_24 21 rfl rfl)
theorem dL_law_715 : decode cL_law 715 = .ok (.iaload, 1) := dk_46 (dk_at dksL_law_24 22 rfl rfl)
theorem dL_law_716 : decode cL_law 716 = .ok (.invokevirtual 89, 3) := dk_182 0 89 (dk_at dksL_law_25 0 rfl rfl)
theorem dL_law_719 : decode cL_law 719 = .ok (.if_icmp .eq 461, 3) := dk_159 1 205 (dk_at dksL_law_25 3 rfl rfl)
theorem dL_law_722 : decode cL_law 722 = .ok (.iconst 0, 1) := dk_3 (dk_at dksL_law_25 6 rfl rfl)
theorem dL_law_723 : decode cL_law 723 = .ok (.ireturn, 1) := dk_172 (dk_at dksL_law_25 7 rfl rfl)
theorem dL_law_724 : decode cL_law 724 = .ok (.aload_n 1, 1) := dk_43 (dk_at dksL_law_25 8 rfl rfl)
theorem dL_law_725 : decode cL_law 725 = .ok (.aload_n 0, 1) := dk_42 (dk_at dksL_law_25 9 rfl rfl)
theorem dL_law_726 : decode cL_law 726 = .ok (.iload_n 3, 1) := dk_29 (dk_at dksL_law_25 10 rfl rfl)
theorem dL_law_727 : decode cL_law 727 = .ok (.iconst 1, 1) := dk_4 (dk_at dksL_law_25 11 rfl rfl)
theorem dL_law_728 : decode cL_law 728 = .ok (.iadd, 1) := dk_96 (dk_at dksL_law_25 12 rfl rfl)
theorem dL_law_729 : decode cL_law 729 = .ok (.iaload, 1) := dk_46 (dk_at dksL_law_25 13 rfl rfl)
theorem dL_law_730 : decode cL_law 730 = .ok (.invokevirtual 90, 3) := dk_182 0 90 (dk_at dksL_law_25 14 rfl rfl)
theorem dL_law_733 : decode cL_law 733 = .ok (.aload_n 2, 1) := dk_44 (dk_at dksL_law_25 17 rfl rfl)
theorem dL_law_734 : decode cL_law 734 = .ok (.aload_n 0, 1) := dk_42 (dk_at dksL_law_25 18 rfl rfl)
theorem dL_law_735 : decode cL_law 735 = .ok (.iload_n 3, 1) := dk_29 (dk_at dksL_law_25 19 rfl rfl)
theorem dL_law_736 : decode cL_law 736 = .ok (.iconst 1, 1) := dk_4 (dk_at dksL_law_25 20 rfl rfl)
theorem dL_law_737 : decode cL_law 737 = .ok (.iadd, 1) := dk_96 (dk_at dksL_law_25 21 rfl rfl)
theorem dL_law_738 : decode cL_law 738 = .ok (.iaload, 1) := dk_46 (dk_at dksL_law_25 22 rfl rfl)
theorem dL_law_739 : decode cL_law 739 = .ok (.invokevirtual 93, 3) := dk_182 0 93 (dk_at dksL_law_26 0 rfl rfl)
theorem dL_law_742 : decode cL_law 742 = .ok (.if_icmp .eq 438, 3) := dk_159 1 182 (dk_at dksL_law_26 3 rfl rfl)
theorem dL_law_745 : decode cL_law 745 = .ok (.iconst 0, 1) := dk_3 (dk_at dksL_law_26 6 rfl rfl)
theorem dL_law_746 : decode cL_law 746 = .ok (.ireturn, 1) := dk_172 (dk_at dksL_law_26 7 rfl rfl)
theorem dL_law_747 : decode cL_law 747 = .ok (.aload_n 1, 1) := dk_43 (dk_at dksL_law_26 8 rfl rfl)
theorem dL_law_748 : decode cL_law 748 = .ok (.aload_n 0, 1) := dk_42 (dk_at dksL_law_26 9 rfl rfl)
theorem dL_law_749 : decode cL_law 749 = .ok (.iload_n 3, 1) := dk_29 (dk_at dksL_law_26 10 rfl rfl)
theorem dL_law_750 : decode cL_law 750 = .ok (.iconst 1, 1) := dk_4 (dk_at dksL_law_26 11 rfl rfl)
theorem dL_law_751 : decode cL_law 751 = .ok (.iadd, 1) := dk_96 (dk_at dksL_law_26 12 rfl rfl)
theorem dL_law_752 : decode cL_law 752 = .ok (.iaload, 1) := dk_46 (dk_at dksL_law_26 13 rfl rfl)
theorem dL_law_753 : decode cL_law 753 = .ok (.invokevirtual 94, 3) := dk_182 0 94 (dk_at dksL_law_26 14 rfl rfl)
theorem dL_law_756 : decode cL_law 756 = .ok (.aload_n 2, 1) := dk_44 (dk_at dksL_law_26 17 rfl rfl)
theorem dL_law_757 : decode cL_law 757 = .ok (.aload_n 0, 1) := dk_42 (dk_at dksL_law_26 18 rfl rfl)
theorem dL_law_758 : decode cL_law 758 = .ok (.iload_n 3, 1) := dk_29 (dk_at dksL_law_26 19 rfl rfl)
theorem dL_law_759 : decode cL_law 759 = .ok (.iconst 1, 1) := dk_4 (dk_at dksL_law_26 20 rfl rfl)
theorem dL_law_760 : decode cL_law 760 = .ok (.iadd, 1) := dk_96 (dk_at dksL_law_26 21 rfl rfl)
theorem dL_law_761 : decode cL_law 761 = .ok (.iaload, 1) := dk_46 (dk_at dksL_law_26 22 rfl rfl)
theorem dL_law_762 : decode cL_law 762 = .ok (.invokevirtual 97, 3) := dk_182 0 97 (dk_at dksL_law_27 0 rfl rfl)
theorem dL_law_765 : decode cL_law 765 = .ok (.if_icmp .eq 415, 3) := dk_159 1 159 (dk_at dksL_law_27 3 rfl rfl)
theorem dL_law_768 : decode cL_law 768 = .ok (.iconst 0, 1) := dk_3 (dk_at dksL_law_27 6 rfl rfl)
theorem dL_law_769 : decode cL_law 769 = .ok (.ireturn, 1) := dk_172 (dk_at dksL_law_27 7 rfl rfl)
theorem dL_law_770 : decode cL_law 770 = .ok (.aload_n 1, 1) := dk_43 (dk_at dksL_law_27 8 rfl rfl)
theorem dL_law_771 : decode cL_law 771 = .ok (.invokevirtual 98, 3) := dk_182 0 98 (dk_at dksL_law_27 9 rfl rfl)
theorem dL_law_774 : decode cL_law 774 = .ok (.aload_n 2, 1) := dk_44 (dk_at dksL_law_27 12 rfl rfl)
theorem dL_law_775 : decode cL_law 775 = .ok (.invokevirtual 101, 3) := dk_182 0 101 (dk_at dksL_law_27 13 rfl rfl)
theorem dL_law_778 : decode cL_law 778 = .ok (.if_icmp .eq 402, 3) := dk_159 1 146 (dk_at dksL_law_27 16 rfl rfl)
theorem dL_law_781 : decode cL_law 781 = .ok (.iconst 0, 1) := dk_3 (dk_at dksL_law_27 19 rfl rfl)
theorem dL_law_782 : decode cL_law 782 = .ok (.ireturn, 1) := dk_172 (dk_at dksL_law_27 20 rfl rfl)
theorem dL_law_783 : decode cL_law 783 = .ok (.aload_n 1, 1) := dk_43 (dk_at dksL_law_27 21 rfl rfl)
theorem dL_law_784 : decode cL_law 784 = .ok (.aload_n 0, 1) := dk_42 (dk_at dksL_law_27 22 rfl rfl)
theorem dL_law_785 : decode cL_law 785 = .ok (.iload_n 3, 1) := dk_29 (dk_at dksL_law_27 23 rfl rfl)
theorem dL_law_786 : decode cL_law 786 = .ok (.iconst 1, 1) := dk_4 (dk_at dksL_law_28 0 rfl rfl)
theorem dL_law_787 : decode cL_law 787 = .ok (.iadd, 1) := dk_96 (dk_at dksL_law_28 1 rfl rfl)
theorem dL_law_788 : decode cL_law 788 = .ok (.iaload, 1) := dk_46 (dk_at dksL_law_28 2 rfl rfl)
theorem dL_law_789 : decode cL_law 789 = .ok (.invokevirtual 102, 3) := dk_182 0 102 (dk_at dksL_law_28 3 rfl rfl)
theorem dL_law_792 : decode cL_law 792 = .ok (.aload_n 2, 1) := dk_44 (dk_at dksL_law_28 6 rfl rfl)
theorem dL_law_793 : decode cL_law 793 = .ok (.aload_n 0, 1) := dk_42 (dk_at dksL_law_28 7 rfl rfl)
theorem dL_law_794 : decode cL_law 794 = .ok (.iload_n 3, 1) := dk_29 (dk_at dksL_law_28 8 rfl rfl)
theorem dL_law_795 : decode cL_law 795 = .ok (.iconst 1, 1) := dk_4 (dk_at dksL_law_28 9 rfl rfl)
theorem dL_law_796 : decode cL_law 796 = .ok (.iadd, 1) := dk_96 (dk_at dksL_law_28 10 rfl rfl)
theorem dL_law_797 : decode cL_law 797 = .ok (.iaload, 1) := dk_46 (dk_at dksL_law_28 11 rfl rfl)
theorem dL_law_798 : decode cL_law 798 = .ok (.invokevirtual 105, 3) := dk_182 0 105 (dk_at dksL_law_28 12 rfl rfl)
theorem dL_law_801 : decode cL_law 801 = .ok (.if_icmp .eq 379, 3) := dk_159 1 123 (dk_at dksL_law_28 15 rfl rfl)
theorem dL_law_804 : decode cL_law 804 = .ok (.iconst 0, 1) := dk_3 (dk_at dksL_law_28 18 rfl rfl)
theorem dL_law_805 : decode cL_law 805 = .ok (.ireturn, 1) := dk_172 (dk_at dksL_law_28 19 rfl rfl)
theorem dL_law_806 : decode cL_law 806 = .ok (.aload_n 1, 1) := dk_43 (dk_at dksL_law_28 20 rfl rfl)
theorem dL_law_807 : decode cL_law 807 = .ok (.aload_n 0, 1) := dk_42 (dk_at dksL_law_28 21 rfl rfl)
theorem dL_law_808 : decode cL_law 808 = .ok (.iload_n 3, 1) := dk_29 (dk_at dksL_law_28 22 rfl rfl)
theorem dL_law_809 : decode cL_law 809 = .ok (.iconst 1, 1) := dk_4 (dk_at dksL_law_28 23 rfl rfl)
theorem dL_law_810 : decode cL_law 810 = .ok (.iadd, 1) := dk_96 (dk_at dksL_law_29 0 rfl rfl)
theorem dL_law_811 : decode cL_law 811 = .ok (.iaload, 1) := dk_46 (dk_at dksL_law_29 1 rfl rfl)
theorem dL_law_812 : decode cL_law 812 = .ok (.aload_n 0, 1) := dk_42 (dk_at dksL_law_29 2 rfl rfl)
theorem dL_law_813 : decode cL_law 813 = .ok (.iload_n 3, 1) := dk_29 (dk_at dksL_law_29 3 rfl rfl)
theorem dL_law_814 : decode cL_law 814 = .ok (.iconst 2, 1) := dk_5 (dk_at dksL_law_29 4 rfl rfl)
theorem dL_law_815 : decode cL_law 815 = .ok (.iadd, 1) := dk_96 (dk_at dksL_law_29 5 rfl rfl)
theorem dL_law_816 : decode cL_law 816 = .ok (.iaload, 1) := dk_46 (dk_at dksL_law_29 6 rfl rfl)
theorem dL_law_817 : decode cL_law 817 = .ok (.invokevirtual 106, 3) := dk_182 0 106 (dk_at dksL_law_29 7 rfl rfl)
theorem dL_law_820 : decode cL_law 820 = .ok (.aload_n 2, 1) := dk_44 (dk_at dksL_law_29 10 rfl rfl)
theorem dL_law_821 : decode cL_law 821 = .ok (.aload_n 0, 1) := dk_42 (dk_at dksL_law_29 11 rfl rfl)
theorem dL_law_822 : decode cL_law 822 = .ok (.iload_n 3, 1) := dk_29 (dk_at dksL_law_29 12 rfl rfl)
theorem dL_law_823 : decode cL_law 823 = .ok (.iconst 1, 1) := dk_4 (dk_at dksL_law_29 13 rfl rfl)
theorem dL_law_824 : decode cL_law 824 = .ok (.iadd, 1) := dk_96 (dk_at dksL_law_29 14 rfl rfl)
theorem dL_law_825 : decode cL_law 825 = .ok (.iaload, 1) := dk_46 (dk_at dksL_law_29 15 rfl rfl)
theorem dL_law_826 : decode cL_law 826 = .ok (.aload_n 0, 1) := dk_42 (dk_at dksL_law_29 16 rfl rfl)
theorem dL_law_827 : decode cL_law 827 = .ok (.iload_n 3, 1) := dk_29 (dk_at dksL_law_29 17 rfl rfl)
theorem dL_law_828 : decode cL_law 828 = .ok (.iconst 2, 1) := dk_5 (dk_at dksL_law_29 18 rfl rfl)
theorem dL_law_829 : decode cL_law 829 = .ok (.iadd, 1) := dk_96 (dk_at dksL_law_29 19 rfl rfl)
theorem dL_law_830 : decode cL_law 830 = .ok (.iaload, 1) := dk_46 (dk_at dksL_law_29 20 rfl rfl)
theorem dL_law_831 : decode cL_law 831 = .ok (.invokevirtual 109, 3) := dk_182 0 109 (dk_at dksL_law_29 21 rfl rfl)
theorem dL_law_834 : decode cL_law 834 = .ok (.if_icmp .eq 346, 3) := dk_159 1 90 (dk_at dksL_law_30 0 rfl rfl)
theorem dL_law_837 : decode cL_law 837 = .ok (.iconst 0, 1) := dk_3 (dk_at dksL_law_30 3 rfl rfl)
theorem dL_law_838 : decode cL_law 838 = .ok (.ireturn, 1) := dk_172 (dk_at dksL_law_30 4 rfl rfl)
theorem dL_law_839 : decode cL_law 839 = .ok (.aload_n 1, 1) := dk_43 (dk_at dksL_law_30 5 rfl rfl)
theorem dL_law_840 : decode cL_law 840 = .ok (.aload_n 0, 1) := dk_42 (dk_at dksL_law_30 6 rfl rfl)
theorem dL_law_841 : decode cL_law 841 = .ok (.iload_n 3, 1) := dk_29 (dk_at dksL_law_30 7 rfl rfl)
theorem dL_law_842 : decode cL_law 842 = .ok (.iconst 1, 1) := dk_4 (dk_at dksL_law_30 8 rfl rfl)
theorem dL_law_843 : decode cL_law 843 = .ok (.iadd, 1) := dk_96 (dk_at dksL_law_30 9 rfl rfl)
theorem dL_law_844 : decode cL_law 844 = .ok (.iaload, 1) := dk_46 (dk_at dksL_law_30 10 rfl rfl)
theorem dL_law_845 : decode cL_law 845 = .ok (.invokevirtual 110, 3) := dk_182 0 110 (dk_at dksL_law_30 11 rfl rfl)
theorem dL_law_848 : decode cL_law 848 = .ok (.aload_n 2, 1) := dk_44 (dk_at dksL_law_30 14 rfl rfl)
theorem dL_law_849 : decode cL_law 849 = .ok (.aload_n 0, 1) := dk_42 (dk_at dksL_law_30 15 rfl rfl)
theorem dL_law_850 : decode cL_law 850 = .ok (.iload_n 3, 1) := dk_29 (dk_at dksL_law_30 16 rfl rfl)
theorem dL_law_851 : decode cL_law 851 = .ok (.iconst 1, 1) := dk_4 (dk_at dksL_law_30 17 rfl rfl)
theorem dL_law_852 : decode cL_law 852 = .ok (.iadd, 1) := dk_96 (dk_at dksL_law_30 18 rfl rfl)
theorem dL_law_853 : decode cL_law 853 = .ok (.iaload, 1) := dk_46 (dk_at dksL_law_30 19 rfl rfl)
theorem dL_law_854 : decode cL_law 854 = .ok (.invokevirtual 113, 3) := dk_182 0 113 (dk_at dksL_law_30 20 rfl rfl)
theorem dL_law_857 : decode cL_law 857 = .ok (.if_icmp .eq 323, 3) := dk_159 1 67 (dk_at dksL_law_31 0 rfl rfl)
theorem dL_law_860 : decode cL_law 860 = .ok (.iconst 0, 1) := dk_3 (dk_at dksL_law_31 3 rfl rfl)
theorem dL_law_861 : decode cL_law 861 = .ok (.ireturn, 1) := dk_172 (dk_at dksL_law_31 4 rfl rfl)
theorem dL_law_862 : decode cL_law 862 = .ok (.aload_n 1, 1) := dk_43 (dk_at dksL_law_31 5 rfl rfl)
theorem dL_law_863 : decode cL_law 863 = .ok (.invokevirtual 114, 3) := dk_182 0 114 (dk_at dksL_law_31 6 rfl rfl)
theorem dL_law_866 : decode cL_law 866 = .ok (.aload_n 2, 1) := dk_44 (dk_at dksL_law_31 9 rfl rfl)
theorem dL_law_867 : decode cL_law 867 = .ok (.invokevirtual 118, 3) := dk_182 0 118 (dk_at dksL_law_31 10 rfl rfl)
theorem dL_law_870 : decode cL_law 870 = .ok (.if_icmp .eq 310, 3) := dk_159 1 54 (dk_at dksL_law_31 13 rfl rfl)
theorem dL_law_873 : decode cL_law 873 = .ok (.iconst 0, 1) := dk_3 (dk_at dksL_law_31 16 rfl rfl)
theorem dL_law_874 : decode cL_law 874 = .ok (.ireturn, 1) := dk_172 (dk_at dksL_law_31 17 rfl rfl)
theorem dL_law_875 : decode cL_law 875 = .ok (.aload_n 1, 1) := dk_43 (dk_at dksL_law_31 18 rfl rfl)
theorem dL_law_876 : decode cL_law 876 = .ok (.invokevirtual 119, 3) := dk_182 0 119 (dk_at dksL_law_31 19 rfl rfl)
theorem dL_law_879 : decode cL_law 879 = .ok (.dstore 4, 2) := dk_57 4 (dk_at dksL_law_31 22 rfl rfl)
theorem dL_law_881 : decode cL_law 881 = .ok (.aload_n 2, 1) := dk_44 (dk_at dksL_law_32 0 rfl rfl)
theorem dL_law_882 : decode cL_law 882 = .ok (.invokevirtual 123, 3) := dk_182 0 123 (dk_at dksL_law_32 1 rfl rfl)
theorem dL_law_885 : decode cL_law 885 = .ok (.dstore 6, 2) := dk_57 6 (dk_at dksL_law_32 4 rfl rfl)
theorem dL_law_887 : decode cL_law 887 = .ok (.dload 4, 2) := dk_24 4 (dk_at dksL_law_32 6 rfl rfl)
theorem dL_law_889 : decode cL_law 889 = .ok (.dload 6, 2) := dk_24 6 (dk_at dksL_law_32 8 rfl rfl)
theorem dL_law_891 : decode cL_law 891 = .ok (.dcmp .l, 1) := dk_151 (dk_at dksL_law_32 10 rfl rfl)
theorem dL_law_892 : decode cL_law 892 = .ok (.ifCond .eq 21, 3) := dk_153 0 21 (dk_at dksL_law_32 11 rfl rfl)
theorem dL_law_895 : decode cL_law 895 = .ok (.dload 4, 2) := dk_24 4 (dk_at dksL_law_32 14 rfl rfl)
theorem dL_law_897 : decode cL_law 897 = .ok (.dload 4, 2) := dk_24 4 (dk_at dksL_law_32 16 rfl rfl)
theorem dL_law_899 : decode cL_law 899 = .ok (.dcmp .l, 1) := dk_151 (dk_at dksL_law_32 18 rfl rfl)
theorem dL_law_900 : decode cL_law 900 = .ok (.ifCond .eq 11, 3) := dk_153 0 11 (dk_at dksL_law_32 19 rfl rfl)
theorem dL_law_903 : decode cL_law 903 = .ok (.dload 6, 2) := dk_24 6 (dk_at dksL_law_32 22 rfl rfl)
theorem dL_law_905 : decode cL_law 905 = .ok (.dload 6, 2) := dk_24 6 (dk_at dksL_law_33 0 rfl rfl)
theorem dL_law_907 : decode cL_law 907 = .ok (.dcmp .l, 1) := dk_151 (dk_at dksL_law_33 2 rfl rfl)
theorem dL_law_908 : decode cL_law 908 = .ok (.ifCond .ne 5, 3) := dk_154 0 5 (dk_at dksL_law_33 3 rfl rfl)
theorem dL_law_911 : decode cL_law 911 = .ok (.iconst 0, 1) := dk_3 (dk_at dksL_law_33 6 rfl rfl)
theorem dL_law_912 : decode cL_law 912 = .ok (.ireturn, 1) := dk_172 (dk_at dksL_law_33 7 rfl rfl)
theorem dL_law_913 : decode cL_law 913 = .ok (.goto 267, 3) := dk_167 1 11 (dk_at dksL_law_33 8 rfl rfl)
theorem dL_law_916 : decode cL_law 916 = .ok (.aload_n 1, 1) := dk_43 (dk_at dksL_law_33 11 rfl rfl)
theorem dL_law_917 : decode cL_law 917 = .ok (.invokevirtual 124, 3) := dk_182 0 124 (dk_at dksL_law_33 12 rfl rfl)
theorem dL_law_920 : decode cL_law 920 = .ok (.f2d, 1) := dk_141 (dk_at dksL_law_33 15 rfl rfl)
theorem dL_law_921 : decode cL_law 921 = .ok (.dstore 4, 2) := dk_57 4 (dk_at dksL_law_33 16 rfl rfl)
theorem dL_law_923 : decode cL_law 923 = .ok (.aload_n 2, 1) := dk_44 (dk_at dksL_law_33 18 rfl rfl)
theorem dL_law_924 : decode cL_law 924 = .ok (.invokevirtual 127, 3) := dk_182 0 127 (dk_at dksL_law_33 19 rfl rfl)
theorem dL_law_927 : decode cL_law 927 = .ok (.f2d, 1) := dk_141 (dk_at dksL_law_33 22 rfl rfl)
theorem dL_law_928 : decode cL_law 928 = .ok (.dstore 6, 2) := dk_57 6 (dk_at dksL_law_34 0 rfl rfl)
theorem dL_law_930 : decode cL_law 930 = .ok (.dload 4, 2) := dk_24 4 (dk_at dksL_law_34 2 rfl rfl)
theorem dL_law_932 : decode cL_law 932 = .ok (.dload 6, 2) := dk_24 6 (dk_at dksL_law_34 4 rfl rfl)
theorem dL_law_934 : decode cL_law 934 = .ok (.dcmp .l, 1) := dk_151 (dk_at dksL_law_34 6 rfl rfl)
theorem dL_law_935 : decode cL_law 935 = .ok (.ifCond .eq 21, 3) := dk_153 0 21 (dk_at dksL_law_34 7 rfl rfl)
theorem dL_law_938 : decode cL_law 938 = .ok (.dload 4, 2) := dk_24 4 (dk_at dksL_law_34 10 rfl rfl)
theorem dL_law_940 : decode cL_law 940 = .ok (.dload 4, 2) := dk_24 4 (dk_at dksL_law_34 12 rfl rfl)
theorem dL_law_942 : decode cL_law 942 = .ok (.dcmp .l, 1) := dk_151 (dk_at dksL_law_34 14 rfl rfl)
theorem dL_law_943 : decode cL_law 943 = .ok (.ifCond .eq 11, 3) := dk_153 0 11 (dk_at dksL_law_34 15 rfl rfl)
theorem dL_law_946 : decode cL_law 946 = .ok (.dload 6, 2) := dk_24 6 (dk_at dksL_law_34 18 rfl rfl)
theorem dL_law_948 : decode cL_law 948 = .ok (.dload 6, 2) := dk_24 6 (dk_at dksL_law_34 20 rfl rfl)
theorem dL_law_950 : decode cL_law 950 = .ok (.dcmp .l, 1) := dk_151 (dk_at dksL_law_34 22 rfl rfl)
theorem dL_law_951 : decode cL_law 951 = .ok (.ifCond .ne 5, 3) := dk_154 0 5 (dk_at dksL_law_35 0 rfl rfl)
theorem dL_law_954 : decode cL_law 954 = .ok (.iconst 0, 1) := dk_3 (dk_at dksL_law_35 3 rfl rfl)
theorem dL_law_955 : decode cL_law 955 = .ok (.ireturn, 1) := dk_172 (dk_at dksL_law_35 4 rfl rfl)
theorem dL_law_956 : decode cL_law 956 = .ok (.goto 224, 3) := dk_167 0 224 (dk_at dksL_law_35 5 rfl rfl)
theorem dL_law_959 : decode cL_law 959 = .ok (.aload_n 1, 1) := dk_43 (dk_at dksL_law_35 8 rfl rfl)
theorem dL_law_960 : decode cL_law 960 = .ok (.aload_n 0, 1) := dk_42 (dk_at dksL_law_35 9 rfl rfl)
theorem dL_law_961 : decode cL_law 961 = .ok (.iload_n 3, 1) := dk_29 (dk_at dksL_law_35 10 rfl rfl)
theorem dL_law_962 : decode cL_law 962 = .ok (.iconst 1, 1) := dk_4 (dk_at dksL_law_35 11 rfl rfl)
theorem dL_law_963 : decode cL_law 963 = .ok (.iadd, 1) := dk_96 (dk_at dksL_law_35 12 rfl rfl)
theorem dL_law_964 : decode cL_law 964 = .ok (.iaload, 1) := dk_46 (dk_at dksL_law_35 13 rfl rfl)
theorem dL_law_965 : decode cL_law 965 = .ok (.invokevirtual 128, 3) := dk_182 0 128 (dk_at dksL_law_35 14 rfl rfl)
theorem dL_law_968 : decode cL_law 968 = .ok (.aload_n 2, 1) := dk_44 (dk_at dksL_law_35 17 rfl rfl)
theorem dL_law_969 : decode cL_law 969 = .ok (.aload_n 0, 1) := dk_42 (dk_at dksL_law_35 18 rfl rfl)
theorem dL_law_970 : decode cL_law 970 = .ok (.iload_n 3, 1) := dk_29 (dk_at dksL_law_35 19 rfl rfl)
theorem dL_law_971 : decode cL_law 971 = .ok (.iconst 1, 1) := dk_4 (dk_at dksL_law_35 20 rfl rfl)
theorem dL_law_972 : decode cL_law 972 = .ok (.iadd, 1) := dk_96 (dk_at dksL_law_35 21 rfl rfl)
theorem dL_law_973 : decode cL_law 973 = .ok (.iaload, 1) := dk_46 (dk_at dksL_law_35 22 rfl rfl)
theorem dL_law_974 : decode cL_law 974 = .ok (.invokevirtual 131, 3) := dk_182 0 131 (dk_at dksL_law_36 0 rfl rfl)
theorem dL_law_977 : decode cL_law 977 = .ok (.if_icmp .eq 203, 3) := dk_159 0 203 (dk_at dksL_law_36 3 rfl rfl)
theorem dL_law_980 : decode cL_law 980 = .ok (.iconst 0, 1) := dk_3 (dk_at dksL_law_36 6 rfl rfl)
theorem dL_law_981 : decode cL_law 981 = .ok (.ireturn, 1) := dk_172 (dk_at dksL_law_36 7 rfl rfl)
theorem dL_law_982 : decode cL_law 982 = .ok (.aload_n 1, 1) := dk_43 (dk_at dksL_law_36 8 rfl rfl)
theorem dL_law_983 : decode cL_law 983 = .ok (.aload_n 0, 1) := dk_42 (dk_at dksL_law_36 9 rfl rfl)
theorem dL_law_984 : decode cL_law 984 = .ok (.iload_n 3, 1) := dk_29 (dk_at dksL_law_36 10 rfl rfl)
theorem dL_law_985 : decode cL_law 985 = .ok (.iconst 1, 1) := dk_4 (dk_at dksL_law_36 11 rfl rfl)
theorem dL_law_986 : decode cL_law 986 = .ok (.iadd, 1) := dk_96 (dk_at dksL_law_36 12 rfl rfl)
theorem dL_law_987 : decode cL_law 987 = .ok (.iaload, 1) := dk_46 (dk_at dksL_law_36 13 rfl rfl)
theorem dL_law_988 : decode cL_law 988 = .ok (.invokevirtual 132, 3) := dk_182 0 132 (dk_at dksL_law_36 14 rfl rfl)
theorem dL_law_991 : decode cL_law 991 = .ok (.aload_n 2, 1) := dk_44 (dk_at dksL_law_36 17 rfl rfl)
theorem dL_law_992 : decode cL_law 992 = .ok (.aload_n 0, 1) := dk_42 (dk_at dksL_law_36 18 rfl rfl)
theorem dL_law_993 : decode cL_law 993 = .ok (.iload_n 3, 1) := dk_29 (dk_at dksL_law_36 19 rfl rfl)
theorem dL_law_994 : decode cL_law 994 = .ok (.iconst 1, 1) := dk_4 (dk_at dksL_law_36 20 rfl rfl)
theorem dL_law_995 : decode cL_law 995 = .ok (.iadd, 1) := dk_96 (dk_at dksL_law_36 21 rfl rfl)
theorem dL_law_996 : decode cL_law 996 = .ok (.iaload, 1) := dk_46 (dk_at dksL_law_36 22 rfl rfl)
theorem dL_law_997 : decode cL_law 997 = .ok (.invokevirtual 135, 3) := dk_182 0 135 (dk_at dksL_law_37 0 rfl rfl)
theorem dL_law_1000 : decode cL_law 1000 = .ok (.if_icmp .eq 180, 3) := dk_159 0 180 (dk_at dksL_law_37 3 rfl rfl)
theorem dL_law_1003 : decode cL_law 1003 = .ok (.iconst 0, 1) := dk_3 (dk_at dksL_law_37 6 rfl rfl)
theorem dL_law_1004 : decode cL_law 1004 = .ok (.ireturn, 1) := dk_172 (dk_at dksL_law_37 7 rfl rfl)
theorem dL_law_1005 : decode cL_law 1005 = .ok (.aload_n 1, 1) := dk_43 (dk_at dksL_law_37 8 rfl rfl)
theorem dL_law_1006 : decode cL_law 1006 = .ok (.invokevirtual 136, 3) := dk_182 0 136 (dk_at dksL_law_37 9 rfl rfl)
theorem dL_law_1009 : decode cL_law 1009 = .ok (.aload_n 2, 1) := dk_44 (dk_at dksL_law_37 12 rfl rfl)
theorem dL_law_1010 : decode cL_law 1010 = .ok (.invokevirtual 139, 3) := dk_182 0 139 (dk_at dksL_law_37 13 rfl rfl)
theorem dL_law_1013 : decode cL_law 1013 = .ok (.if_icmp .eq 167, 3) := dk_159 0 167 (dk_at dksL_law_37 16 rfl rfl)
theorem dL_law_1016 : decode cL_law 1016 = .ok (.iconst 0, 1) := dk_3 (dk_at dksL_law_37 19 rfl rfl)
theorem dL_law_1017 : decode cL_law 1017 = .ok (.ireturn, 1) := dk_172 (dk_at dksL_law_37 20 rfl rfl)
theorem dL_law_1018 : decode cL_law 1018 = .ok (.aload_n 1, 1) := dk_43 (dk_at dksL_law_37 21 rfl rfl)
theorem dL_law_1019 : decode cL_law 1019 = .ok (.aload_n 0, 1) := dk_42 (dk_at dksL_law_37 22 rfl rfl)
theorem dL_law_1020 : decode cL_law 1020 = .ok (.iload_n 3, 1) := dk_29 (dk_at dksL_law_37 23 rfl rfl)
theorem dL_law_1021 : decode cL_law 1021 = .ok (.iconst 1, 1) := dk_4 (dk_at dksL_law_38 0 rfl rfl)
theorem dL_law_1022 : decode cL_law 1022 = .ok (.iadd, 1) := dk_96 (dk_at dksL_law_38 1 rfl rfl)
theorem dL_law_1023 : decode cL_law 1023 = .ok (.iaload, 1) := dk_46 (dk_at dksL_law_38 2 rfl rfl)
theorem dL_law_1024 : decode cL_law 1024 = .ok (.invokevirtual 140, 3) := dk_182 0 140 (dk_at dksL_law_38 3 rfl rfl)
theorem dL_law_1027 : decode cL_law 1027 = .ok (.aload_n 2, 1) := dk_44 (dk_at dksL_law_38 6 rfl rfl)
theorem dL_law_1028 : decode cL_law 1028 = .ok (.aload_n 0, 1) := dk_42 (dk_at dksL_law_38 7 rfl rfl)
theorem dL_law_1029 : decode cL_law 1029 = .ok (.iload_n 3, 1) := dk_29 (dk_at dksL_law_38 8 rfl rfl)
theorem dL_law_1030 : decode cL_law 1030 = .ok (.iconst 1, 1) := dk_4 (dk_at dksL_law_38 9 rfl rfl)
theorem dL_law_1031 : decode cL_law 1031 = .ok (.iadd, 1) := dk_96 (dk_at dksL_law_38 10 rfl rfl)
theorem dL_law_1032 : decode cL_law 1032 = .ok (.iaload, 1) := dk_46 (dk_at dksL_law_38 11 rfl rfl)
theorem dL_law_1033 : decode cL_law 1033 = .ok (.invokevirtual 143, 3) := dk_182 0 143 (dk_at dksL_law_38 12 rfl rfl)
theorem dL_law_1036 : decode cL_law 1036 = .ok (.if_icmp .eq 144, 3) := dk_159 0 144 (dk_at dksL_law_38 15 rfl rfl)
theorem dL_law_1039 : decode cL_law 1039 = .ok (.iconst 0, 1) := dk_3 (dk_at dksL_law_38 18 rfl rfl)
theorem dL_law_1040 : decode cL_law 1040 = .ok (.ireturn, 1) := dk_172 (dk_at dksL_law_38 19 rfl rfl)
theorem dL_law_1041 : decode cL_law 1041 = .ok (.aload_n 1, 1) := dk_43 (dk_at dksL_law_38 20 rfl rfl)
theorem dL_law_1042 : decode cL_law 1042 = .ok (.aload_n 0, 1) := dk_42 (dk_at dksL_law_38 21 rfl rfl)
theorem dL_law_1043 : decode cL_law 1043 = .ok (.iload_n 3, 1) := dk_29 (dk_at dksL_law_38 22 rfl rfl)
theorem dL_law_1044 : decode cL_law 1044 = .ok (.iconst 1, 1) := dk_4 (dk_at dksL_law_38 23 rfl rfl)
theorem dL_law_1045 : decode cL_law 1045 = .ok (.iadd, 1) := dk_96 (dk_at dksL_law_39 0 rfl rfl)
theorem dL_law_1046 : decode cL_law 1046 = .ok (.iaload, 1) := dk_46 (dk_at dksL_law_39 1 rfl rfl)
theorem dL_law_1047 : decode cL_law 1047 = .ok (.i2c, 1) := dk_146 (dk_at dksL_law_39 2 rfl rfl)
theorem dL_law_1048 : decode cL_law 1048 = .ok (.invokevirtual 144, 3) := dk_182 0 144 (dk_at dksL_law_39 3 rfl rfl)
theorem dL_law_1051 : decode cL_law 1051 = .ok (.aload_n 2, 1) := dk_44 (dk_at dksL_law_39 6 rfl rfl)
theorem dL_law_1052 : decode cL_law 1052 = .ok (.aload_n 0, 1) := dk_42 (dk_at dksL_law_39 7 rfl rfl)
theorem dL_law_1053 : decode cL_law 1053 = .ok (.iload_n 3, 1) := dk_29 (dk_at dksL_law_39 8 rfl rfl)
theorem dL_law_1054 : decode cL_law 1054 = .ok (.iconst 1, 1) := dk_4 (dk_at dksL_law_39 9 rfl rfl)
theorem dL_law_1055 : decode cL_law 1055 = .ok (.iadd, 1) := dk_96 (dk_at dksL_law_39 10 rfl rfl)
theorem dL_law_1056 : decode cL_law 1056 = .ok (.iaload, 1) := dk_46 (dk_at dksL_law_39 11 rfl rfl)
theorem dL_law_1057 : decode cL_law 1057 = .ok (.i2c, 1) := dk_146 (dk_at dksL_law_39 12 rfl rfl)
theorem dL_law_1058 : decode cL_law 1058 = .ok (.invokevirtual 148, 3) := dk_182 0 148 (dk_at dksL_law_39 13 rfl rfl)
theorem dL_law_1061 : decode cL_law 1061 = .ok (.if_icmp .eq 119, 3) := dk_159 0 119 (dk_at dksL_law_39 16 rfl rfl)
theorem dL_law_1064 : decode cL_law 1064 = .ok (.iconst 0, 1) := dk_3 (dk_at dksL_law_39 19 rfl rfl)
theorem dL_law_1065 : decode cL_law 1065 = .ok (.ireturn, 1) := dk_172 (dk_at dksL_law_39 20 rfl rfl)
theorem dL_law_1066 : decode cL_law 1066 = .ok (.aload_n 1, 1) := dk_43 (dk_at dksL_law_39 21 rfl rfl)
theorem dL_law_1067 : decode cL_law 1067 = .ok (.invokevirtual 149, 3) := dk_182 0 149 (dk_at dksL_law_40 0 rfl rfl)
theorem dL_law_1070 : decode cL_law 1070 = .ok (.aload_n 2, 1) := dk_44 (dk_at dksL_law_40 3 rfl rfl)
theorem dL_law_1071 : decode cL_law 1071 = .ok (.invokevirtual 152, 3) := dk_182 0 152 (dk_at dksL_law_40 4 rfl rfl)
theorem dL_law_1074 : decode cL_law 1074 = .ok (.if_icmp .eq 106, 3) := dk_159 0 106 (dk_at dksL_law_40 7 rfl rfl)
theorem dL_law_1077 : decode cL_law 1077 = .ok (.iconst 0, 1) := dk_3 (dk_at dksL_law_40 10 rfl rfl)
theorem dL_law_1078 : decode cL_law 1078 = .ok (.ireturn, 1) := dk_172 (dk_at dksL_law_40 11 rfl rfl)
theorem dL_law_1079 : decode cL_law 1079 = .ok (.aload_n 1, 1) := dk_43 (dk_at dksL_law_40 12 rfl rfl)
theorem dL_law_1080 : decode cL_law 1080 = .ok (.invokevirtual 153, 3) := dk_182 0 153 (dk_at dksL_law_40 13 rfl rfl)
theorem dL_law_1083 : decode cL_law 1083 = .ok (.aload_n 2, 1) := dk_44 (dk_at dksL_law_40 16 rfl rfl)
theorem dL_law_1084 : decode cL_law 1084 = .ok (.invokevirtual 156, 3) := dk_182 0 156 (dk_at dksL_law_40 17 rfl rfl)
theorem dL_law_1087 : decode cL_law 1087 = .ok (.if_icmp .eq 93, 3) := dk_159 0 93 (dk_at dksL_law_40 20 rfl rfl)
theorem dL_law_1090 : decode cL_law 1090 = .ok (.iconst 0, 1) := dk_3 (dk_at dksL_law_40 23 rfl rfl)
theorem dL_law_1091 : decode cL_law 1091 = .ok (.ireturn, 1) := dk_172 (dk_at dksL_law_41 0 rfl rfl)
theorem dL_law_1092 : decode cL_law 1092 = .ok (.aload_n 1, 1) := dk_43 (dk_at dksL_law_41 1 rfl rfl)
theorem dL_law_1093 : decode cL_law 1093 = .ok (.aload_n 0, 1) := dk_42 (dk_at dksL_law_41 2 rfl rfl)
theorem dL_law_1094 : decode cL_law 1094 = .ok (.iload_n 3, 1) := dk_29 (dk_at dksL_law_41 3 rfl rfl)
theorem dL_law_1095 : decode cL_law 1095 = .ok (.iconst 1, 1) := dk_4 (dk_at dksL_law_41 4 rfl rfl)
theorem dL_law_1096 : decode cL_law 1096 = .ok (.iadd, 1) := dk_96 (dk_at dksL_law_41 5 rfl rfl)
theorem dL_law_1097 : decode cL_law 1097 = .ok (.iaload, 1) := dk_46 (dk_at dksL_law_41 6 rfl rfl)
theorem dL_law_1098 : decode cL_law 1098 = .ok (.aload_n 0, 1) := dk_42 (dk_at dksL_law_41 7 rfl rfl)
theorem dL_law_1099 : decode cL_law 1099 = .ok (.iload_n 3, 1) := dk_29 (dk_at dksL_law_41 8 rfl rfl)
theorem dL_law_1100 : decode cL_law 1100 = .ok (.iconst 2, 1) := dk_5 (dk_at dksL_law_41 9 rfl rfl)
theorem dL_law_1101 : decode cL_law 1101 = .ok (.iadd, 1) := dk_96 (dk_at dksL_law_41 10 rfl rfl)
theorem dL_law_1102 : decode cL_law 1102 = .ok (.iaload, 1) := dk_46 (dk_at dksL_law_41 11 rfl rfl)
theorem dL_law_1103 : decode cL_law 1103 = .ok (.ifCond .eq 7, 3) := dk_153 0 7 (dk_at dksL_law_41 12 rfl rfl)
theorem dL_law_1106 : decode cL_law 1106 = .ok (.iconst 1, 1) := dk_4 (dk_at dksL_law_41 15 rfl rfl)
theorem dL_law_1107 : decode cL_law 1107 = .ok (.goto 4, 3) := dk_167 0 4 (dk_at dksL_law_41 16 rfl rfl)
theorem dL_law_1110 : decode cL_law 1110 = .ok (.iconst 0, 1) := dk_3 (dk_at dksL_law_41 19 rfl rfl)
theorem dL_law_1111 : decode cL_law 1111 = .ok (.invokevirtual 157, 3) := dk_182 0 157 (dk_at dksL_law_41 20 rfl rfl)
theorem dL_law_1114 : decode cL_law 1114 = .ok (.aload_n 2, 1) := dk_44 (dk_at dksL_law_41 23 rfl rfl)
theorem dL_law_1115 : decode cL_law 1115 = .ok (.aload_n 0, 1) := dk_42 (dk_at dksL_law_42 0 rfl rfl)
theorem dL_law_1116 : decode cL_law 1116 = .ok (.iload_n 3, 1) := dk_29 (dk_at dksL_law_42 1 rfl rfl)
theorem dL_law_1117 : decode cL_law 1117 = .ok (.iconst 1, 1) := dk_4 (dk_at dksL_law_42 2 rfl rfl)
theorem dL_law_1118 : decode cL_law 1118 = .ok (.iadd, 1) := dk_96 (dk_at dksL_law_42 3 rfl rfl)
theorem dL_law_1119 : decode cL_law 1119 = .ok (.iaload, 1) := dk_46 (dk_at dksL_law_42 4 rfl rfl)
theorem dL_law_1120 : decode cL_law 1120 = .ok (.aload_n 0, 1) := dk_42 (dk_at dksL_law_42 5 rfl rfl)
theorem dL_law_1121 : decode cL_law 1121 = .ok (.iload_n 3, 1) := dk_29 (dk_at dksL_law_42 6 rfl rfl)
theorem dL_law_1122 : decode cL_law 1122 = .ok (.iconst 2, 1) := dk_5 (dk_at dksL_law_42 7 rfl rfl)
theorem dL_law_1123 : decode cL_law 1123 = .ok (.iadd, 1) := dk_96 (dk_at dksL_law_42 8 rfl rfl)
theorem dL_law_1124 : decode cL_law 1124 = .ok (.iaload, 1) := dk_46 (dk_at dksL_law_42 9 rfl rfl)
theorem dL_law_1125 : decode cL_law 1125 = .ok (.ifCond .eq 7, 3) := dk_153 0 7 (dk_at dksL_law_42 10 rfl rfl)
theorem dL_law_1128 : decode cL_law 1128 = .ok (.iconst 1, 1) := dk_4 (dk_at dksL_law_42 13 rfl rfl)
theorem dL_law_1129 : decode cL_law 1129 = .ok (.goto 4, 3) := dk_167 0 4 (dk_at dksL_law_42 14 rfl rfl)
theorem dL_law_1132 : decode cL_law 1132 = .ok (.iconst 0, 1) := dk_3 (dk_at dksL_law_42 17 rfl rfl)
theorem dL_law_1133 : decode cL_law 1133 = .ok (.invokevirtual 161, 3) := dk_182 0 161 (dk_at dksL_law_42 18 rfl rfl)
theorem dL_law_1136 : decode cL_law 1136 = .ok (.if_icmp .eq 44, 3) := dk_159 0 44 (dk_at dksL_law_42 21 rfl rfl)
theorem dL_law_1139 : decode cL_law 1139 = .ok (.iconst 0, 1) := dk_3 (dk_at dksL_law_43 0 rfl rfl)
theorem dL_law_1140 : decode cL_law 1140 = .ok (.ireturn, 1) := dk_172 (dk_at dksL_law_43 1 rfl rfl)
theorem dL_law_1141 : decode cL_law 1141 = .ok (.aload_n 1, 1) := dk_43 (dk_at dksL_law_43 2 rfl rfl)
theorem dL_law_1142 : decode cL_law 1142 = .ok (.invokevirtual 162, 3) := dk_182 0 162 (dk_at dksL_law_43 3 rfl rfl)
theorem dL_law_1145 : decode cL_law 1145 = .ok (.aload_n 2, 1) := dk_44 (dk_at dksL_law_43 6 rfl rfl)
theorem dL_law_1146 : decode cL_law 1146 = .ok (.invokevirtual 165, 3) := dk_182 0 165 (dk_at dksL_law_43 7 rfl rfl)
theorem dL_law_1149 : decode cL_law 1149 = .ok (.if_icmp .eq 31, 3) := dk_159 0 31 (dk_at dksL_law_43 10 rfl rfl)
theorem dL_law_1152 : decode cL_law 1152 = .ok (.iconst 0, 1) := dk_3 (dk_at dksL_law_43 13 rfl rfl)
theorem dL_law_1153 : decode cL_law 1153 = .ok (.ireturn, 1) := dk_172 (dk_at dksL_law_43 14 rfl rfl)
theorem dL_law_1154 : decode cL_law 1154 = .ok (.aload_n 1, 1) := dk_43 (dk_at dksL_law_43 15 rfl rfl)
theorem dL_law_1155 : decode cL_law 1155 = .ok (.invokevirtual 166, 3) := dk_182 0 166 (dk_at dksL_law_43 16 rfl rfl)
theorem dL_law_1158 : decode cL_law 1158 = .ok (.aload_n 2, 1) := dk_44 (dk_at dksL_law_43 19 rfl rfl)
theorem dL_law_1159 : decode cL_law 1159 = .ok (.invokevirtual 169, 3) := dk_182 0 169 (dk_at dksL_law_43 20 rfl rfl)
theorem dL_law_1162 : decode cL_law 1162 = .ok (.if_icmp .eq 18, 3) := dk_159 0 18 (dk_at dksL_law_44 0 rfl rfl)
theorem dL_law_1165 : decode cL_law 1165 = .ok (.iconst 0, 1) := dk_3 (dk_at dksL_law_44 3 rfl rfl)
theorem dL_law_1166 : decode cL_law 1166 = .ok (.ireturn, 1) := dk_172 (dk_at dksL_law_44 4 rfl rfl)
theorem dL_law_1167 : decode cL_law 1167 = .ok (.aload_n 1, 1) := dk_43 (dk_at dksL_law_44 5 rfl rfl)
theorem dL_law_1168 : decode cL_law 1168 = .ok (.invokevirtual 170, 3) := dk_182 0 170 (dk_at dksL_law_44 6 rfl rfl)
theorem dL_law_1171 : decode cL_law 1171 = .ok (.aload_n 2, 1) := dk_44 (dk_at dksL_law_44 9 rfl rfl)
theorem dL_law_1172 : decode cL_law 1172 = .ok (.invokevirtual 173, 3) := dk_182 0 173 (dk_at dksL_law_44 10 rfl rfl)
theorem dL_law_1175 : decode cL_law 1175 = .ok (.if_icmp .eq 5, 3) := dk_159 0 5 (dk_at dksL_law_44 13 rfl rfl)
theorem dL_law_1178 : decode cL_law 1178 = .ok (.iconst 0, 1) := dk_3 (dk_at dksL_law_44 16 rfl rfl)
theorem dL_law_1179 : decode cL_law 1179 = .ok (.ireturn, 1) := dk_172 (dk_at dksL_law_44 17 rfl rfl)
theorem dL_law_1180 : decode cL_law 1180 = .ok (.iinc 3 5, 3) := dk_132 3 5 (dk_at dksL_law_44 18 rfl rfl)
theorem dL_law_1183 : decode cL_law 1183 = .ok (.goto (-1165), 3) := dk_167 251 115 (dk_at dksL_law_44 21 rfl rfl)
theorem dL_law_1186 : decode cL_law 1186 = .ok (.iconst 1, 1) := dk_4 (dk_at dksL_law_45 0 rfl rfl)
theorem dL_law_1187 : decode cL_law 1187 = .ok (.ireturn, 1) := dk_172 (dk_at dksL_law_45 1 rfl rfl)
