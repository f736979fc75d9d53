/-! SeanceStreet$Scanner -/
set_option maxRecDepth 100000
def RX2 : String := "SeanceStreet$Scanner"
def TX2 : u_T := fun k => match k with
  | 0 => ("SeanceStreet$Scanner", "wrong", "LSeanceStreet$Refused;", true)
  | 1 => ("SeanceStreet$Scanner", "text", "[B", true)
  | 2 => ("SeanceStreet$Scanner", "letters", "[C", true)
  | 3 => ("SeanceStreet$Scanner", "size", "I", false)
  | 4 => ("SeanceStreet$Scanner", "end", "I", false)
  | 5 => ("SeanceStreet$Scanner", "token", "I", false)
  | 6 => ("SeanceStreet$Scanner", "at", "I", false)
  | 7 => ("SeanceStreet$Scanner", "whole", "I", false)
  | 8 => ("SeanceStreet$Scanner", "word", "Ljava/lang/String;", false)
  | _ => ("SeanceStreet$Scanner", "town", "LSeanceStreet$Town;", false)
def tyX2 : Nat → FieldType := fun k => match k with
  | 0 => .object "SeanceStreet$Refused"
  | 1 => .array .byte
  | 2 => .array .char
  | 3 => .int
  | 4 => .int
  | 5 => .int
  | 6 => .int
  | 7 => .int
  | 8 => .object "java/lang/String"
  | _ => .object "SeanceStreet$Town"
abbrev wsX20 : List Cond := u_ws RX2 TX2 10
theorem nmX2 : ∀ a, a < 10 → ∀ b, b < 10 → a ≠ b → (TX2 a).2.1 ≠ (TX2 b).2.1 := by decide +kernel
theorem tyX2_ok : ∀ k, k < 10 → parseFieldDescriptor (TX2 k).2.2.1 = some (tyX2 k) := by decide +kernel
abbrev cX2_init : ByteArray := prog_9_method_1_code
def yX2_init : MethodName := ⟨RX2, "<init>", "([B)V"⟩
def dkwX2_init_1 : List UInt8 := [43, 181, 0, 22, 177]
abbrev dktX2_init_1 : List UInt8 := dkwX2_init_1 ++ []
def dkwX2_init_0 : List UInt8 := [42, 183, 0, 3, 42, 187, 0, 9, 89, 183, 0, 11, 181, 0, 12, 42, 16, 8, 188, 5, 181, 0, 18, 42]
abbrev dktX2_init_0 : List UInt8 := dkwX2_init_0 ++ dktX2_init_1
theorem dksX2_init_0 : cX2_init.data.toList.drop 0 = dktX2_init_0 := by decide +kernel
theorem dksX2_init_1 : cX2_init.data.toList.drop 24 = dktX2_init_1 := dk_seg dksX2_init_0 24 rfl rfl
theorem dX2_init_0 : decode cX2_init 0 = .ok (.aload_n 0, 1) := dk_42 (dk_at dksX2_init_0 0 rfl rfl)
theorem dX2_init_1 : decode cX2_init 1 = .ok (.invokespecial 3, 3) := dk_183 0 3 (dk_at dksX2_init_0 1 rfl rfl)
theorem dX2_init_4 : decode cX2_init 4 = .ok (.aload_n 0, 1) := dk_42 (dk_at dksX2_init_0 4 rfl rfl)
theorem dX2_init_5 : decode cX2_init 5 = .ok (.new 9, 3) := dk_187 0 9 (dk_at dksX2_init_0 5 rfl rfl)
theorem dX2_init_8 : decode cX2_init 8 = .ok (.dup, 1) := dk_89 (dk_at dksX2_init_0 8 rfl rfl)
theorem dX2_init_9 : decode cX2_init 9 = .ok (.invokespecial 11, 3) := dk_183 0 11 (dk_at dksX2_init_0 9 rfl rfl)
theorem dX2_init_12 : decode cX2_init 12 = .ok (.putfield 12, 3) := dk_181 0 12 (dk_at dksX2_init_0 12 rfl rfl)
theorem dX2_init_15 : decode cX2_init 15 = .ok (.aload_n 0, 1) := dk_42 (dk_at dksX2_init_0 15 rfl rfl)
theorem dX2_init_16 : decode cX2_init 16 = .ok (.bipush 8, 2) := dk_16 8 (dk_at dksX2_init_0 16 rfl rfl)
theorem dX2_init_18 : decode cX2_init 18 = .ok (.newarray .char, 2) := dk_188_5 (dk_at dksX2_init_0 18 rfl rfl)
theorem dX2_init_20 : decode cX2_init 20 = .ok (.putfield 18, 3) := dk_181 0 18 (dk_at dksX2_init_0 20 rfl rfl)
theorem dX2_init_23 : decode cX2_init 23 = .ok (.aload_n 0, 1) := dk_42 (dk_at dksX2_init_0 23 rfl rfl)
theorem dX2_init_24 : decode cX2_init 24 = .ok (.aload_n 1, 1) := dk_43 (dk_at dksX2_init_1 0 rfl rfl)
theorem dX2_init_25 : decode cX2_init 25 = .ok (.putfield 22, 3) := dk_181 0 22 (dk_at dksX2_init_1 1 rfl rfl)
theorem dX2_init_28 : decode cX2_init 28 = .ok (.return_, 1) := dk_177 (dk_at dksX2_init_1 4 rfl rfl)
abbrev cX2_read : ByteArray := prog_9_method_17_code
def yX2_read : MethodName := ⟨RX2, "read", "(I)LSeanceStreet$Town;"⟩
def dkwX2_read_4 : List UInt8 := [176]
abbrev dktX2_read_4 : List UInt8 := dkwX2_read_4 ++ []
def dkwX2_read_3 : List UInt8 := [153, 0, 13, 42, 180, 0, 105, 180, 0, 136, 154, 0, 10, 42, 16, 6, 182, 0, 82, 191, 42, 180, 0, 105]
abbrev dktX2_read_3 : List UInt8 := dkwX2_read_3 ++ dktX2_read_4
def dkwX2_read_2 : List UInt8 := [167, 255, 239, 42, 180, 0, 47, 153, 0, 9, 42, 4, 182, 0, 82, 191, 42, 180, 0, 105, 180, 0, 129]
abbrev dktX2_read_2 : List UInt8 := dkwX2_read_2 ++ dktX2_read_3
def dkwX2_read_1 : List UInt8 := [182, 0, 75, 42, 182, 0, 133, 42, 180, 0, 47, 16, 59, 160, 0, 14, 42, 182, 0, 75, 42, 182, 0, 133]
abbrev dktX2_read_1 : List UInt8 := dkwX2_read_1 ++ dktX2_read_2
def dkwX2_read_0 : List UInt8 := [42, 27, 181, 0, 33, 42, 3, 181, 0, 40, 42, 187, 0, 109, 89, 183, 0, 132, 181, 0, 105, 42]
abbrev dktX2_read_0 : List UInt8 := dkwX2_read_0 ++ dktX2_read_1
theorem dksX2_read_0 : cX2_read.data.toList.drop 0 = dktX2_read_0 := by decide +kernel
theorem dksX2_read_1 : cX2_read.data.toList.drop 22 = dktX2_read_1 := dk_seg dksX2_read_0 22 rfl rfl
theorem dksX2_read_2 : cX2_read.data.toList.drop 46 = dktX2_read_2 := dk_seg dksX2_read_1 24 rfl rfl
theorem dksX2_read_3 : cX2_read.data.toList.drop 69 = dktX2_read_3 := dk_seg dksX2_read_2 23 rfl rfl
theorem dksX2_read_4 : cX2_read.data.toList.drop 93 = dktX2_read_4 := dk_seg dksX2_read_3 24 rfl rfl
theorem dX2_read_0 : decode cX2_read 0 = .ok (.aload_n 0, 1) := dk_42 (dk_at dksX2_read_0 0 rfl rfl)
theorem dX2_read_1 : decode cX2_read 1 = .ok (.iload_n 1, 1) := dk_27 (dk_at dksX2_read_0 1 rfl rfl)
theorem dX2_read_2 : decode cX2_read 2 = .ok (.putfield 33, 3) := dk_181 0 33 (dk_at dksX2_read_0 2 rfl rfl)
theorem dX2_read_5 : decode cX2_read 5 = .ok (.aload_n 0, 1) := dk_42 (dk_at dksX2_read_0 5 rfl rfl)
theorem dX2_read_6 : decode cX2_read 6 = .ok (.iconst 0, 1) := dk_3 (dk_at dksX2_read_0 6 rfl rfl)
theorem dX2_read_7 : decode cX2_read 7 = .ok (.putfield 40, 3) := dk_181 0 40 (dk_at dksX2_read_0 7 rfl rfl)
theorem dX2_read_10 : decode cX2_read 10 = .ok (.aload_n 0, 1) := dk_42 (dk_at dksX2_read_0 10 rfl rfl)
theorem dX2_read_11 : decode cX2_read 11 = .ok (.new 109, 3) := dk_187 0 109 (dk_at dksX2_read_0 11 rfl rfl)
theorem dX2_read_14 : decode cX2_read 14 = .ok (.dup, 1) := dk_89 (dk_at dksX2_read_0 14 rfl rfl)
theorem dX2_read_15 : decode cX2_read 15 = .ok (.invokespecial 132, 3) := dk_183 0 132 (dk_at dksX2_read_0 15 rfl rfl)
theorem dX2_read_18 : decode cX2_read 18 = .ok (.putfield 105, 3) := dk_181 0 105 (dk_at dksX2_read_0 18 rfl rfl)
theorem dX2_read_21 : decode cX2_read 21 = .ok (.aload_n 0, 1) := dk_42 (dk_at dksX2_read_0 21 rfl rfl)
theorem dX2_read_22 : decode cX2_read 22 = .ok (.invokevirtual 75, 3) := dk_182 0 75 (dk_at dksX2_read_1 0 rfl rfl)
theorem dX2_read_25 : decode cX2_read 25 = .ok (.aload_n 0, 1) := dk_42 (dk_at dksX2_read_1 3 rfl rfl)
theorem dX2_read_26 : decode cX2_read 26 = .ok (.invokevirtual 133, 3) := dk_182 0 133 (dk_at dksX2_read_1 4 rfl rfl)
theorem dX2_read_29 : decode cX2_read 29 = .ok (.aload_n 0, 1) := dk_42 (dk_at dksX2_read_1 7 rfl rfl)
theorem dX2_read_30 : decode cX2_read 30 = .ok (.getfield 47, 3) := dk_180 0 47 (dk_at dksX2_read_1 8 rfl rfl)
theorem dX2_read_33 : decode cX2_read 33 = .ok (.bipush 59, 2) := dk_16 59 (dk_at dksX2_read_1 11 rfl rfl)
theorem dX2_read_35 : decode cX2_read 35 = .ok (.if_icmp .ne 14, 3) := dk_160 0 14 (dk_at dksX2_read_1 13 rfl rfl)
theorem dX2_read_38 : decode cX2_read 38 = .ok (.aload_n 0, 1) := dk_42 (dk_at dksX2_read_1 16 rfl rfl)
theorem dX2_read_39 : decode cX2_read 39 = .ok (.invokevirtual 75, 3) := dk_182 0 75 (dk_at dksX2_read_1 17 rfl rfl)
theorem dX2_read_42 : decode cX2_read 42 = .ok (.aload_n 0, 1) := dk_42 (dk_at dksX2_read_1 20 rfl rfl)
theorem dX2_read_43 : decode cX2_read 43 = .ok (.invokevirtual 133, 3) := dk_182 0 133 (dk_at dksX2_read_1 21 rfl rfl)
theorem dX2_read_46 : decode cX2_read 46 = .ok (.goto (-17), 3) := dk_167 255 239 (dk_at dksX2_read_2 0 rfl rfl)
theorem dX2_read_49 : decode cX2_read 49 = .ok (.aload_n 0, 1) := dk_42 (dk_at dksX2_read_2 3 rfl rfl)
theorem dX2_read_50 : decode cX2_read 50 = .ok (.getfield 47, 3) := dk_180 0 47 (dk_at dksX2_read_2 4 rfl rfl)
theorem dX2_read_53 : decode cX2_read 53 = .ok (.ifCond .eq 9, 3) := dk_153 0 9 (dk_at dksX2_read_2 7 rfl rfl)
theorem dX2_read_56 : decode cX2_read 56 = .ok (.aload_n 0, 1) := dk_42 (dk_at dksX2_read_2 10 rfl rfl)
theorem dX2_read_57 : decode cX2_read 57 = .ok (.iconst 1, 1) := dk_4 (dk_at dksX2_read_2 11 rfl rfl)
theorem dX2_read_58 : decode cX2_read 58 = .ok (.invokevirtual 82, 3) := dk_182 0 82 (dk_at dksX2_read_2 12 rfl rfl)
theorem dX2_read_61 : decode cX2_read 61 = .ok (.athrow, 1) := dk_191 (dk_at dksX2_read_2 15 rfl rfl)
theorem dX2_read_62 : decode cX2_read 62 = .ok (.aload_n 0, 1) := dk_42 (dk_at dksX2_read_2 16 rfl rfl)
theorem dX2_read_63 : decode cX2_read 63 = .ok (.getfield 105, 3) := dk_180 0 105 (dk_at dksX2_read_2 17 rfl rfl)
theorem dX2_read_66 : decode cX2_read 66 = .ok (.getfield 129, 3) := dk_180 0 129 (dk_at dksX2_read_2 20 rfl rfl)
theorem dX2_read_69 : decode cX2_read 69 = .ok (.ifCond .eq 13, 3) := dk_153 0 13 (dk_at dksX2_read_3 0 rfl rfl)
theorem dX2_read_72 : decode cX2_read 72 = .ok (.aload_n 0, 1) := dk_42 (dk_at dksX2_read_3 3 rfl rfl)
theorem dX2_read_73 : decode cX2_read 73 = .ok (.getfield 105, 3) := dk_180 0 105 (dk_at dksX2_read_3 4 rfl rfl)
theorem dX2_read_76 : decode cX2_read 76 = .ok (.getfield 136, 3) := dk_180 0 136 (dk_at dksX2_read_3 7 rfl rfl)
theorem dX2_read_79 : decode cX2_read 79 = .ok (.ifCond .ne 10, 3) := dk_154 0 10 (dk_at dksX2_read_3 10 rfl rfl)
theorem dX2_read_82 : decode cX2_read 82 = .ok (.aload_n 0, 1) := dk_42 (dk_at dksX2_read_3 13 rfl rfl)
theorem dX2_read_83 : decode cX2_read 83 = .ok (.bipush 6, 2) := dk_16 6 (dk_at dksX2_read_3 14 rfl rfl)
theorem dX2_read_85 : decode cX2_read 85 = .ok (.invokevirtual 82, 3) := dk_182 0 82 (dk_at dksX2_read_3 16 rfl rfl)
theorem dX2_read_88 : decode cX2_read 88 = .ok (.athrow, 1) := dk_191 (dk_at dksX2_read_3 19 rfl rfl)
theorem dX2_read_89 : decode cX2_read 89 = .ok (.aload_n 0, 1) := dk_42 (dk_at dksX2_read_3 20 rfl rfl)
theorem dX2_read_90 : decode cX2_read 90 = .ok (.getfield 105, 3) := dk_180 0 105 (dk_at dksX2_read_3 21 rfl rfl)
theorem dX2_read_93 : decode cX2_read 93 = .ok (.areturn, 1) := dk_176 (dk_at dksX2_read_4 0 rfl rfl)
abbrev cX2_step : ByteArray := prog_9_method_6_code
def yX2_step : MethodName := ⟨RX2, "step", "()V"⟩
def dkwX2_step_12 : List UInt8 := [181, 0, 47, 167, 0, 18, 42, 28, 16, 59, 160, 0, 7, 28, 167, 0, 4, 4, 181, 0, 47, 177]
abbrev dktX2_step_12 : List UInt8 := dkwX2_step_12 ++ []
def dkwX2_step_11 : List UInt8 := [181, 0, 40, 167, 255, 199, 42, 42, 180, 0, 40, 27, 100, 6, 164, 0, 7, 4, 167, 0, 4, 6]
abbrev dktX2_step_11 : List UInt8 := dkwX2_step_11 ++ dktX2_step_12
def dkwX2_step_10 : List UInt8 := [42, 42, 180, 0, 40, 182, 0, 43, 96, 16, 48, 100, 181, 0, 68, 42, 89, 180, 0, 40, 4, 96]
abbrev dktX2_step_10 : List UInt8 := dkwX2_step_10 ++ dktX2_step_11
def dkwX2_step_9 : List UInt8 := [184, 0, 65, 153, 0, 49, 42, 180, 0, 40, 27, 100, 6, 162, 0, 26, 42, 16, 10, 42, 180, 0, 68, 104]
abbrev dktX2_step_9 : List UInt8 := dkwX2_step_9 ++ dktX2_step_10
def dkwX2_step_8 : List UInt8 := [184, 0, 65, 153, 0, 95, 42, 3, 181, 0, 68, 42, 27, 181, 0, 40, 42, 42, 180, 0, 40, 182, 0, 43]
abbrev dktX2_step_8 : List UInt8 := dkwX2_step_8 ++ dktX2_step_9
def dkwX2_step_7 : List UInt8 := [3, 42, 180, 0, 40, 27, 100, 183, 0, 56, 167, 0, 5, 18, 59, 181, 0, 61, 167, 0, 117, 28]
abbrev dktX2_step_7 : List UInt8 := dkwX2_step_7 ++ dktX2_step_8
def dkwX2_step_6 : List UInt8 := [167, 0, 4, 5, 181, 0, 47, 42, 42, 180, 0, 47, 5, 160, 0, 24, 187, 0, 54, 89, 42, 180, 0, 18]
abbrev dktX2_step_6 : List UInt8 := dkwX2_step_6 ++ dktX2_step_7
def dkwX2_step_5 : List UInt8 := [180, 0, 40, 4, 96, 181, 0, 40, 167, 255, 201, 42, 42, 180, 0, 40, 27, 100, 16, 8, 164, 0, 7, 4]
abbrev dktX2_step_5 : List UInt8 := dkwX2_step_5 ++ dktX2_step_6
def dkwX2_step_4 : List UInt8 := [42, 180, 0, 18, 42, 180, 0, 40, 27, 100, 42, 42, 180, 0, 40, 182, 0, 43, 146, 85, 42, 89]
abbrev dktX2_step_4 : List UInt8 := dkwX2_step_4 ++ dktX2_step_5
def dkwX2_step_3 : List UInt8 := [42, 180, 0, 40, 182, 0, 43, 184, 0, 50, 153, 0, 47, 42, 180, 0, 40, 27, 100, 16, 8, 162, 0, 23]
abbrev dktX2_step_3 : List UInt8 := dkwX2_step_3 ++ dktX2_step_4
def dkwX2_step_2 : List UInt8 := [181, 0, 47, 42, 27, 181, 0, 40, 167, 0, 245, 28, 184, 0, 50, 153, 0, 124, 42, 27, 181, 0, 40, 42]
abbrev dktX2_step_2 : List UInt8 := dkwX2_step_2 ++ dktX2_step_3
def dkwX2_step_1 : List UInt8 := [181, 0, 26, 42, 27, 4, 96, 181, 0, 40, 42, 27, 182, 0, 43, 61, 28, 2, 160, 0, 16, 42, 3]
abbrev dktX2_step_1 : List UInt8 := dkwX2_step_1 ++ dktX2_step_2
def dkwX2_step_0 : List UInt8 := [42, 180, 0, 40, 60, 42, 27, 182, 0, 43, 16, 32, 160, 0, 9, 132, 1, 1, 167, 255, 243, 42, 27]
abbrev dktX2_step_0 : List UInt8 := dkwX2_step_0 ++ dktX2_step_1
theorem dksX2_step_0 : cX2_step.data.toList.drop 0 = dktX2_step_0 := by decide +kernel
theorem dksX2_step_1 : cX2_step.data.toList.drop 23 = dktX2_step_1 := dk_seg dksX2_step_0 23 rfl rfl
theorem dksX2_step_2 : cX2_step.data.toList.drop 46 = dktX2_step_2 := dk_seg dksX2_step_1 23 rfl rfl
theorem dksX2_step_3 : cX2_step.data.toList.drop 70 = dktX2_step_3 := dk_seg dksX2_step_2 24 rfl rfl
theorem dksX2_step_4 : cX2_step.data.toList.drop 94 = dktX2_step_4 := dk_seg dksX2_step_3 24 rfl rfl
theorem dksX2_step_5 : cX2_step.data.toList.drop 116 = dktX2_step_5 := dk_seg dksX2_step_4 22 rfl rfl
theorem dksX2_step_6 : cX2_step.data.toList.drop 140 = dktX2_step_6 := dk_seg dksX2_step_5 24 rfl rfl
theorem dksX2_step_7 : cX2_step.data.toList.drop 164 = dktX2_step_7 := dk_seg dksX2_step_6 24 rfl rfl
theorem dksX2_step_8 : cX2_step.data.toList.drop 186 = dktX2_step_8 := dk_seg dksX2_step_7 22 rfl rfl
theorem dksX2_step_9 : cX2_step.data.toList.drop 210 = dktX2_step_9 := dk_seg dksX2_step_8 24 rfl rfl
theorem dksX2_step_10 : cX2_step.data.toList.drop 234 = dktX2_step_10 := dk_seg dksX2_step_9 24 rfl rfl
theorem dksX2_step_11 : cX2_step.data.toList.drop 256 = dktX2_step_11 := dk_seg dksX2_step_10 22 rfl rfl
theorem dksX2_step_12 : cX2_step.data.toList.drop 278 = dktX2_step_12 := dk_seg dksX2_step_11 22 rfl rfl
theorem dX2_step_0 : decode cX2_step 0 = .ok (.aload_n 0, 1) := dk_42 (dk_at dksX2_step_0 0 rfl rfl)
theorem dX2_step_1 : decode cX2_step 1 = .ok (.getfield 40, 3) := dk_180 0 40 (dk_at dksX2_step_0 1 rfl rfl)
theorem dX2_step_4 : decode cX2_step 4 = .ok (.istore_n 1, 1) := dk_60 (dk_at dksX2_step_0 4 rfl rfl)
theorem dX2_step_5 : decode cX2_step 5 = .ok (.aload_n 0, 1) := dk_42 (dk_at dksX2_step_0 5 rfl rfl)
theorem dX2_step_6 : decode cX2_step 6 = .ok (.iload_n 1, 1) := dk_27 (dk_at dksX2_step_0 6 rfl rfl)
theorem dX2_step_7 : decode cX2_step 7 = .ok (.invokevirtual 43, 3) := dk_182 0 43 (dk_at dksX2_step_0 7 rfl rfl)
theorem dX2_step_10 : decode cX2_step 10 = .ok (.bipush 32, 2) := dk_16 32 (dk_at dksX2_step_0 10 rfl rfl)
theorem dX2_step_12 : decode cX2_step 12 = .ok (.if_icmp .ne 9, 3) := dk_160 0 9 (dk_at dksX2_step_0 12 rfl rfl)
theorem dX2_step_15 : decode cX2_step 15 = .ok (.iinc 1 1, 3) := dk_132 1 1 (dk_at dksX2_step_0 15 rfl rfl)
theorem dX2_step_18 : decode cX2_step 18 = .ok (.goto (-13), 3) := dk_167 255 243 (dk_at dksX2_step_0 18 rfl rfl)
theorem dX2_step_21 : decode cX2_step 21 = .ok (.aload_n 0, 1) := dk_42 (dk_at dksX2_step_0 21 rfl rfl)
theorem dX2_step_22 : decode cX2_step 22 = .ok (.iload_n 1, 1) := dk_27 (dk_at dksX2_step_0 22 rfl rfl)
theorem dX2_step_23 : decode cX2_step 23 = .ok (.putfield 26, 3) := dk_181 0 26 (dk_at dksX2_step_1 0 rfl rfl)
theorem dX2_step_26 : decode cX2_step 26 = .ok (.aload_n 0, 1) := dk_42 (dk_at dksX2_step_1 3 rfl rfl)
theorem dX2_step_27 : decode cX2_step 27 = .ok (.iload_n 1, 1) := dk_27 (dk_at dksX2_step_1 4 rfl rfl)
theorem dX2_step_28 : decode cX2_step 28 = .ok (.iconst 1, 1) := dk_4 (dk_at dksX2_step_1 5 rfl rfl)
theorem dX2_step_29 : decode cX2_step 29 = .ok (.iadd, 1) := dk_96 (dk_at dksX2_step_1 6 rfl rfl)
theorem dX2_step_30 : decode cX2_step 30 = .ok (.putfield 40, 3) := dk_181 0 40 (dk_at dksX2_step_1 7 rfl rfl)
theorem dX2_step_33 : decode cX2_step 33 = .ok (.aload_n 0, 1) := dk_42 (dk_at dksX2_step_1 10 rfl rfl)
theorem dX2_step_34 : decode cX2_step 34 = .ok (.iload_n 1, 1) := dk_27 (dk_at dksX2_step_1 11 rfl rfl)
theorem dX2_step_35 : decode cX2_step 35 = .ok (.invokevirtual 43, 3) := dk_182 0 43 (dk_at dksX2_step_1 12 rfl rfl)
theorem dX2_step_38 : decode cX2_step 38 = .ok (.istore_n 2, 1) := dk_61 (dk_at dksX2_step_1 15 rfl rfl)
theorem dX2_step_39 : decode cX2_step 39 = .ok (.iload_n 2, 1) := dk_28 (dk_at dksX2_step_1 16 rfl rfl)
theorem dX2_step_40 : decode cX2_step 40 = .ok (.iconst (-1), 1) := dk_2 (dk_at dksX2_step_1 17 rfl rfl)
theorem dX2_step_41 : decode cX2_step 41 = .ok (.if_icmp .ne 16, 3) := dk_160 0 16 (dk_at dksX2_step_1 18 rfl rfl)
theorem dX2_step_44 : decode cX2_step 44 = .ok (.aload_n 0, 1) := dk_42 (dk_at dksX2_step_1 21 rfl rfl)
theorem dX2_step_45 : decode cX2_step 45 = .ok (.iconst 0, 1) := dk_3 (dk_at dksX2_step_1 22 rfl rfl)
theorem dX2_step_46 : decode cX2_step 46 = .ok (.putfield 47, 3) := dk_181 0 47 (dk_at dksX2_step_2 0 rfl rfl)
theorem dX2_step_49 : decode cX2_step 49 = .ok (.aload_n 0, 1) := dk_42 (dk_at dksX2_step_2 3 rfl rfl)
theorem dX2_step_50 : decode cX2_step 50 = .ok (.iload_n 1, 1) := dk_27 (dk_at dksX2_step_2 4 rfl rfl)
theorem dX2_step_51 : decode cX2_step 51 = .ok (.putfield 40, 3) := dk_181 0 40 (dk_at dksX2_step_2 5 rfl rfl)
theorem dX2_step_54 : decode cX2_step 54 = .ok (.goto 245, 3) := dk_167 0 245 (dk_at dksX2_step_2 8 rfl rfl)
theorem dX2_step_57 : decode cX2_step 57 = .ok (.iload_n 2, 1) := dk_28 (dk_at dksX2_step_2 11 rfl rfl)
theorem dX2_step_58 : decode cX2_step 58 = .ok (.invokestatic 50, 3) := dk_184 0 50 (dk_at dksX2_step_2 12 rfl rfl)
theorem dX2_step_61 : decode cX2_step 61 = .ok (.ifCond .eq 124, 3) := dk_153 0 124 (dk_at dksX2_step_2 15 rfl rfl)
theorem dX2_step_64 : decode cX2_step 64 = .ok (.aload_n 0, 1) := dk_42 (dk_at dksX2_step_2 18 rfl rfl)
theorem dX2_step_65 : decode cX2_step 65 = .ok (.iload_n 1, 1) := dk_27 (dk_at dksX2_step_2 19 rfl rfl)
theorem dX2_step_66 : decode cX2_step 66 = .ok (.putfield 40, 3) := dk_181 0 40 (dk_at dksX2_step_2 20 rfl rfl)
theorem dX2_step_69 : decode cX2_step 69 = .ok (.aload_n 0, 1) := dk_42 (dk_at dksX2_step_2 23 rfl rfl)
theorem dX2_step_70 : decode cX2_step 70 = .ok (.aload_n 0, 1) := dk_42 (dk_at dksX2_step_3 0 rfl rfl)
theorem dX2_step_71 : decode cX2_step 71 = .ok (.getfield 40, 3) := dk_180 0 40 (dk_at dksX2_step_3 1 rfl rfl)
theorem dX2_step_74 : decode cX2_step 74 = .ok (.invokevirtual 43, 3) := dk_182 0 43 (dk_at dksX2_step_3 4 rfl rfl)
theorem dX2_step_77 : decode cX2_step 77 = .ok (.invokestatic 50, 3) := dk_184 0 50 (dk_at dksX2_step_3 7 rfl rfl)
theorem dX2_step_80 : decode cX2_step 80 = .ok (.ifCond .eq 47, 3) := dk_153 0 47 (dk_at dksX2_step_3 10 rfl rfl)
theorem dX2_step_83 : decode cX2_step 83 = .ok (.aload_n 0, 1) := dk_42 (dk_at dksX2_step_3 13 rfl rfl)
theorem dX2_step_84 : decode cX2_step 84 = .ok (.getfield 40, 3) := dk_180 0 40 (dk_at dksX2_step_3 14 rfl rfl)
theorem dX2_step_87 : decode cX2_step 87 = .ok (.iload_n 1, 1) := dk_27 (dk_at dksX2_step_3 17 rfl rfl)
theorem dX2_step_88 : decode cX2_step 88 = .ok (.isub, 1) := dk_100 (dk_at dksX2_step_3 18 rfl rfl)
theorem dX2_step_89 : decode cX2_step 89 = .ok (.bipush 8, 2) := dk_16 8 (dk_at dksX2_step_3 19 rfl rfl)
theorem dX2_step_91 : decode cX2_step 91 = .ok (.if_icmp .ge 23, 3) := dk_162 0 23 (dk_at dksX2_step_3 21 rfl rfl)
theorem dX2_step_94 : decode cX2_step 94 = .ok (.aload_n 0, 1) := dk_42 (dk_at dksX2_step_4 0 rfl rfl)
theorem dX2_step_95 : decode cX2_step 95 = .ok (.getfield 18, 3) := dk_180 0 18 (dk_at dksX2_step_4 1 rfl rfl)
theorem dX2_step_98 : decode cX2_step 98 = .ok (.aload_n 0, 1) := dk_42 (dk_at dksX2_step_4 4 rfl rfl)
theorem dX2_step_99 : decode cX2_step 99 = .ok (.getfield 40, 3) := dk_180 0 40 (dk_at dksX2_step_4 5 rfl rfl)
theorem dX2_step_102 : decode cX2_step 102 = .ok (.iload_n 1, 1) := dk_27 (dk_at dksX2_step_4 8 rfl rfl)
theorem dX2_step_103 : decode cX2_step 103 = .ok (.isub, 1) := dk_100 (dk_at dksX2_step_4 9 rfl rfl)
theorem dX2_step_104 : decode cX2_step 104 = .ok (.aload_n 0, 1) := dk_42 (dk_at dksX2_step_4 10 rfl rfl)
theorem dX2_step_105 : decode cX2_step 105 = .ok (.aload_n 0, 1) := dk_42 (dk_at dksX2_step_4 11 rfl rfl)
theorem dX2_step_106 : decode cX2_step 106 = .ok (.getfield 40, 3) := dk_180 0 40 (dk_at dksX2_step_4 12 rfl rfl)
theorem dX2_step_109 : decode cX2_step 109 = .ok (.invokevirtual 43, 3) := dk_182 0 43 (dk_at dksX2_step_4 15 rfl rfl)
theorem dX2_step_112 : decode cX2_step 112 = .ok (.i2c, 1) := dk_146 (dk_at dksX2_step_4 18 rfl rfl)
theorem dX2_step_113 : decode cX2_step 113 = .ok (.castore, 1) := dk_85 (dk_at dksX2_step_4 19 rfl rfl)
theorem dX2_step_114 : decode cX2_step 114 = .ok (.aload_n 0, 1) := dk_42 (dk_at dksX2_step_4 20 rfl rfl)
theorem dX2_step_115 : decode cX2_step 115 = .ok (.dup, 1) := dk_89 (dk_at dksX2_step_4 21 rfl rfl)
theorem dX2_step_116 : decode cX2_step 116 = .ok (.getfield 40, 3) := dk_180 0 40 (dk_at dksX2_step_5 0 rfl rfl)
theorem dX2_step_119 : decode cX2_step 119 = .ok (.iconst 1, 1) := dk_4 (dk_at dksX2_step_5 3 rfl rfl)
theorem dX2_step_120 : decode cX2_step 120 = .ok (.iadd, 1) := dk_96 (dk_at dksX2_step_5 4 rfl rfl)
theorem dX2_step_121 : decode cX2_step 121 = .ok (.putfield 40, 3) := dk_181 0 40 (dk_at dksX2_step_5 5 rfl rfl)
theorem dX2_step_124 : decode cX2_step 124 = .ok (.goto (-55), 3) := dk_167 255 201 (dk_at dksX2_step_5 8 rfl rfl)
theorem dX2_step_127 : decode cX2_step 127 = .ok (.aload_n 0, 1) := dk_42 (dk_at dksX2_step_5 11 rfl rfl)
theorem dX2_step_128 : decode cX2_step 128 = .ok (.aload_n 0, 1) := dk_42 (dk_at dksX2_step_5 12 rfl rfl)
theorem dX2_step_129 : decode cX2_step 129 = .ok (.getfield 40, 3) := dk_180 0 40 (dk_at dksX2_step_5 13 rfl rfl)
theorem dX2_step_132 : decode cX2_step 132 = .ok (.iload_n 1, 1) := dk_27 (dk_at dksX2_step_5 16 rfl rfl)
theorem dX2_step_133 : decode cX2_step 133 = .ok (.isub, 1) := dk_100 (dk_at dksX2_step_5 17 rfl rfl)
theorem dX2_step_134 : decode cX2_step 134 = .ok (.bipush 8, 2) := dk_16 8 (dk_at dksX2_step_5 18 rfl rfl)
theorem dX2_step_136 : decode cX2_step 136 = .ok (.if_icmp .le 7, 3) := dk_164 0 7 (dk_at dksX2_step_5 20 rfl rfl)
theorem dX2_step_139 : decode cX2_step 139 = .ok (.iconst 1, 1) := dk_4 (dk_at dksX2_step_5 23 rfl rfl)
theorem dX2_step_140 : decode cX2_step 140 = .ok (.goto 4, 3) := dk_167 0 4 (dk_at dksX2_step_6 0 rfl rfl)
theorem dX2_step_143 : decode cX2_step 143 = .ok (.iconst 2, 1) := dk_5 (dk_at dksX2_step_6 3 rfl rfl)
theorem dX2_step_144 : decode cX2_step 144 = .ok (.putfield 47, 3) := dk_181 0 47 (dk_at dksX2_step_6 4 rfl rfl)
theorem dX2_step_147 : decode cX2_step 147 = .ok (.aload_n 0, 1) := dk_42 (dk_at dksX2_step_6 7 rfl rfl)
theorem dX2_step_148 : decode cX2_step 148 = .ok (.aload_n 0, 1) := dk_42 (dk_at dksX2_step_6 8 rfl rfl)
theorem dX2_step_149 : decode cX2_step 149 = .ok (.getfield 47, 3) := dk_180 0 47 (dk_at dksX2_step_6 9 rfl rfl)
theorem dX2_step_152 : decode cX2_step 152 = .ok (.iconst 2, 1) := dk_5 (dk_at dksX2_step_6 12 rfl rfl)
theorem dX2_step_153 : decode cX2_step 153 = .ok (.if_icmp .ne 24, 3) := dk_160 0 24 (dk_at dksX2_step_6 13 rfl rfl)
theorem dX2_step_156 : decode cX2_step 156 = .ok (.new 54, 3) := dk_187 0 54 (dk_at dksX2_step_6 16 rfl rfl)
theorem dX2_step_159 : decode cX2_step 159 = .ok (.dup, 1) := dk_89 (dk_at dksX2_step_6 19 rfl rfl)
theorem dX2_step_160 : decode cX2_step 160 = .ok (.aload_n 0, 1) := dk_42 (dk_at dksX2_step_6 20 rfl rfl)
theorem dX2_step_161 : decode cX2_step 161 = .ok (.getfield 18, 3) := dk_180 0 18 (dk_at dksX2_step_6 21 rfl rfl)
theorem dX2_step_164 : decode cX2_step 164 = .ok (.iconst 0, 1) := dk_3 (dk_at dksX2_step_7 0 rfl rfl)
theorem dX2_step_165 : decode cX2_step 165 = .ok (.aload_n 0, 1) := dk_42 (dk_at dksX2_step_7 1 rfl rfl)
theorem dX2_step_166 : decode cX2_step 166 = .ok (.getfield 40, 3) := dk_180 0 40 (dk_at dksX2_step_7 2 rfl rfl)
theorem dX2_step_169 : decode cX2_step 169 = .ok (.iload_n 1, 1) := dk_27 (dk_at dksX2_step_7 5 rfl rfl)
theorem dX2_step_170 : decode cX2_step 170 = .ok (.isub, 1) := dk_100 (dk_at dksX2_step_7 6 rfl rfl)
theorem dX2_step_171 : decode cX2_step 171 = .ok (.invokespecial 56, 3) := dk_183 0 56 (dk_at dksX2_step_7 7 rfl rfl)
theorem dX2_step_174 : decode cX2_step 174 = .ok (.goto 5, 3) := dk_167 0 5 (dk_at dksX2_step_7 10 rfl rfl)
theorem dX2_step_177 : decode cX2_step 177 = .ok (.ldc 59, 2) := dk_18 59 (dk_at dksX2_step_7 13 rfl rfl)
theorem dX2_step_179 : decode cX2_step 179 = .ok (.putfield 61, 3) := dk_181 0 61 (dk_at dksX2_step_7 15 rfl rfl)
theorem dX2_step_182 : decode cX2_step 182 = .ok (.goto 117, 3) := dk_167 0 117 (dk_at dksX2_step_7 18 rfl rfl)
theorem dX2_step_185 : decode cX2_step 185 = .ok (.iload_n 2, 1) := dk_28 (dk_at dksX2_step_7 21 rfl rfl)
theorem dX2_step_186 : decode cX2_step 186 = .ok (.invokestatic 65, 3) := dk_184 0 65 (dk_at dksX2_step_8 0 rfl rfl)
theorem dX2_step_189 : decode cX2_step 189 = .ok (.ifCond .eq 95, 3) := dk_153 0 95 (dk_at dksX2_step_8 3 rfl rfl)
theorem dX2_step_192 : decode cX2_step 192 = .ok (.aload_n 0, 1) := dk_42 (dk_at dksX2_step_8 6 rfl rfl)
theorem dX2_step_193 : decode cX2_step 193 = .ok (.iconst 0, 1) := dk_3 (dk_at dksX2_step_8 7 rfl rfl)
theorem dX2_step_194 : decode cX2_step 194 = .ok (.putfield 68, 3) := dk_181 0 68 (dk_at dksX2_step_8 8 rfl rfl)
theorem dX2_step_197 : decode cX2_step 197 = .ok (.aload_n 0, 1) := dk_42 (dk_at dksX2_step_8 11 rfl rfl)
theorem dX2_step_198 : decode cX2_step 198 = .ok (.iload_n 1, 1) := dk_27 (dk_at dksX2_step_8 12 rfl rfl)
theorem dX2_step_199 : decode cX2_step 199 = .ok (.putfield 40, 3) := dk_181 0 40 (dk_at dksX2_step_8 13 rfl rfl)
theorem dX2_step_202 : decode cX2_step 202 = .ok (.aload_n 0, 1) := dk_42 (dk_at dksX2_step_8 16 rfl rfl)
theorem dX2_step_203 : decode cX2_step 203 = .ok (.aload_n 0, 1) := dk_42 (dk_at dksX2_step_8 17 rfl rfl)
theorem dX2_step_204 : decode cX2_step 204 = .ok (.getfield 40, 3) := dk_180 0 40 (dk_at dksX2_step_8 18 rfl rfl)
theorem dX2_step_207 : decode cX2_step 207 = .ok (.invokevirtual 43, 3) := dk_182 0 43 (dk_at dksX2_step_8 21 rfl rfl)
theorem dX2_step_210 : decode cX2_step 210 = .ok (.invokestatic 65, 3) := dk_184 0 65 (dk_at dksX2_step_9 0 rfl rfl)
theorem dX2_step_213 : decode cX2_step 213 = .ok (.ifCond .eq 49, 3) := dk_153 0 49 (dk_at dksX2_step_9 3 rfl rfl)
theorem dX2_step_216 : decode cX2_step 216 = .ok (.aload_n 0, 1) := dk_42 (dk_at dksX2_step_9 6 rfl rfl)
theorem dX2_step_217 : decode cX2_step 217 = .ok (.getfield 40, 3) := dk_180 0 40 (dk_at dksX2_step_9 7 rfl rfl)
theorem dX2_step_220 : decode cX2_step 220 = .ok (.iload_n 1, 1) := dk_27 (dk_at dksX2_step_9 10 rfl rfl)
theorem dX2_step_221 : decode cX2_step 221 = .ok (.isub, 1) := dk_100 (dk_at dksX2_step_9 11 rfl rfl)
theorem dX2_step_222 : decode cX2_step 222 = .ok (.iconst 3, 1) := dk_6 (dk_at dksX2_step_9 12 rfl rfl)
theorem dX2_step_223 : decode cX2_step 223 = .ok (.if_icmp .ge 26, 3) := dk_162 0 26 (dk_at dksX2_step_9 13 rfl rfl)
theorem dX2_step_226 : decode cX2_step 226 = .ok (.aload_n 0, 1) := dk_42 (dk_at dksX2_step_9 16 rfl rfl)
theorem dX2_step_227 : decode cX2_step 227 = .ok (.bipush 10, 2) := dk_16 10 (dk_at dksX2_step_9 17 rfl rfl)
theorem dX2_step_229 : decode cX2_step 229 = .ok (.aload_n 0, 1) := dk_42 (dk_at dksX2_step_9 19 rfl rfl)
theorem dX2_step_230 : decode cX2_step 230 = .ok (.getfield 68, 3) := dk_180 0 68 (dk_at dksX2_step_9 20 rfl rfl)
theorem dX2_step_233 : decode cX2_step 233 = .ok (.imul, 1) := dk_104 (dk_at dksX2_step_9 23 rfl rfl)
theorem dX2_step_234 : decode cX2_step 234 = .ok (.aload_n 0, 1) := dk_42 (dk_at dksX2_step_10 0 rfl rfl)
theorem dX2_step_235 : decode cX2_step 235 = .ok (.aload_n 0, 1) := dk_42 (dk_at dksX2_step_10 1 rfl rfl)
theorem dX2_step_236 : decode cX2_step 236 = .ok (.getfield 40, 3) := dk_180 0 40 (dk_at dksX2_step_10 2 rfl rfl)
theorem dX2_step_239 : decode cX2_step 239 = .ok (.invokevirtual 43, 3) := dk_182 0 43 (dk_at dksX2_step_10 5 rfl rfl)
theorem dX2_step_242 : decode cX2_step 242 = .ok (.iadd, 1) := dk_96 (dk_at dksX2_step_10 8 rfl rfl)
theorem dX2_step_243 : decode cX2_step 243 = .ok (.bipush 48, 2) := dk_16 48 (dk_at dksX2_step_10 9 rfl rfl)
theorem dX2_step_245 : decode cX2_step 245 = .ok (.isub, 1) := dk_100 (dk_at dksX2_step_10 11 rfl rfl)
theorem dX2_step_246 : decode cX2_step 246 = .ok (.putfield 68, 3) := dk_181 0 68 (dk_at dksX2_step_10 12 rfl rfl)
theorem dX2_step_249 : decode cX2_step 249 = .ok (.aload_n 0, 1) := dk_42 (dk_at dksX2_step_10 15 rfl rfl)
theorem dX2_step_250 : decode cX2_step 250 = .ok (.dup, 1) := dk_89 (dk_at dksX2_step_10 16 rfl rfl)
theorem dX2_step_251 : decode cX2_step 251 = .ok (.getfield 40, 3) := dk_180 0 40 (dk_at dksX2_step_10 17 rfl rfl)
theorem dX2_step_254 : decode cX2_step 254 = .ok (.iconst 1, 1) := dk_4 (dk_at dksX2_step_10 20 rfl rfl)
theorem dX2_step_255 : decode cX2_step 255 = .ok (.iadd, 1) := dk_96 (dk_at dksX2_step_10 21 rfl rfl)
theorem dX2_step_256 : decode cX2_step 256 = .ok (.putfield 40, 3) := dk_181 0 40 (dk_at dksX2_step_11 0 rfl rfl)
theorem dX2_step_259 : decode cX2_step 259 = .ok (.goto (-57), 3) := dk_167 255 199 (dk_at dksX2_step_11 3 rfl rfl)
theorem dX2_step_262 : decode cX2_step 262 = .ok (.aload_n 0, 1) := dk_42 (dk_at dksX2_step_11 6 rfl rfl)
theorem dX2_step_263 : decode cX2_step 263 = .ok (.aload_n 0, 1) := dk_42 (dk_at dksX2_step_11 7 rfl rfl)
theorem dX2_step_264 : decode cX2_step 264 = .ok (.getfield 40, 3) := dk_180 0 40 (dk_at dksX2_step_11 8 rfl rfl)
theorem dX2_step_267 : decode cX2_step 267 = .ok (.iload_n 1, 1) := dk_27 (dk_at dksX2_step_11 11 rfl rfl)
theorem dX2_step_268 : decode cX2_step 268 = .ok (.isub, 1) := dk_100 (dk_at dksX2_step_11 12 rfl rfl)
theorem dX2_step_269 : decode cX2_step 269 = .ok (.iconst 3, 1) := dk_6 (dk_at dksX2_step_11 13 rfl rfl)
theorem dX2_step_270 : decode cX2_step 270 = .ok (.if_icmp .le 7, 3) := dk_164 0 7 (dk_at dksX2_step_11 14 rfl rfl)
theorem dX2_step_273 : decode cX2_step 273 = .ok (.iconst 1, 1) := dk_4 (dk_at dksX2_step_11 17 rfl rfl)
theorem dX2_step_274 : decode cX2_step 274 = .ok (.goto 4, 3) := dk_167 0 4 (dk_at dksX2_step_11 18 rfl rfl)
theorem dX2_step_277 : decode cX2_step 277 = .ok (.iconst 3, 1) := dk_6 (dk_at dksX2_step_11 21 rfl rfl)
theorem dX2_step_278 : decode cX2_step 278 = .ok (.putfield 47, 3) := dk_181 0 47 (dk_at dksX2_step_12 0 rfl rfl)
theorem dX2_step_281 : decode cX2_step 281 = .ok (.goto 18, 3) := dk_167 0 18 (dk_at dksX2_step_12 3 rfl rfl)
theorem dX2_step_284 : decode cX2_step 284 = .ok (.aload_n 0, 1) := dk_42 (dk_at dksX2_step_12 6 rfl rfl)
theorem dX2_step_285 : decode cX2_step 285 = .ok (.iload_n 2, 1) := dk_28 (dk_at dksX2_step_12 7 rfl rfl)
theorem dX2_step_286 : decode cX2_step 286 = .ok (.bipush 59, 2) := dk_16 59 (dk_at dksX2_step_12 8 rfl rfl)
theorem dX2_step_288 : decode cX2_step 288 = .ok (.if_icmp .ne 7, 3) := dk_160 0 7 (dk_at dksX2_step_12 10 rfl rfl)
theorem dX2_step_291 : decode cX2_step 291 = .ok (.iload_n 2, 1) := dk_28 (dk_at dksX2_step_12 13 rfl rfl)
theorem dX2_step_292 : decode cX2_step 292 = .ok (.goto 4, 3) := dk_167 0 4 (dk_at dksX2_step_12 14 rfl rfl)
theorem dX2_step_295 : decode cX2_step 295 = .ok (.iconst 1, 1) := dk_4 (dk_at dksX2_step_12 17 rfl rfl)
theorem dX2_step_296 : decode cX2_step 296 = .ok (.putfield 47, 3) := dk_181 0 47 (dk_at dksX2_step_12 18 rfl rfl)
theorem dX2_step_299 : decode cX2_step 299 = .ok (.return_, 1) := dk_177 (dk_at dksX2_step_12 21 rfl rfl)
abbrev cX2_see : ByteArray := prog_9_method_3_code
def yX2_see : MethodName := ⟨RX2, "see", "(I)I"⟩
def dkwX2_see_0 : List UInt8 := [27, 42, 180, 0, 33, 162, 0, 16, 42, 180, 0, 22, 27, 51, 17, 0, 255, 126, 167, 0, 4, 2, 172]
abbrev dktX2_see_0 : List UInt8 := dkwX2_see_0 ++ []
theorem dksX2_see_0 : cX2_see.data.toList.drop 0 = dktX2_see_0 := by decide +kernel
theorem dX2_see_0 : decode cX2_see 0 = .ok (.iload_n 1, 1) := dk_27 (dk_at dksX2_see_0 0 rfl rfl)
theorem dX2_see_1 : decode cX2_see 1 = .ok (.aload_n 0, 1) := dk_42 (dk_at dksX2_see_0 1 rfl rfl)
theorem dX2_see_2 : decode cX2_see 2 = .ok (.getfield 33, 3) := dk_180 0 33 (dk_at dksX2_see_0 2 rfl rfl)
theorem dX2_see_5 : decode cX2_see 5 = .ok (.if_icmp .ge 16, 3) := dk_162 0 16 (dk_at dksX2_see_0 5 rfl rfl)
theorem dX2_see_8 : decode cX2_see 8 = .ok (.aload_n 0, 1) := dk_42 (dk_at dksX2_see_0 8 rfl rfl)
theorem dX2_see_9 : decode cX2_see 9 = .ok (.getfield 22, 3) := dk_180 0 22 (dk_at dksX2_see_0 9 rfl rfl)
theorem dX2_see_12 : decode cX2_see 12 = .ok (.iload_n 1, 1) := dk_27 (dk_at dksX2_see_0 12 rfl rfl)
theorem dX2_see_13 : decode cX2_see 13 = .ok (.baload, 1) := dk_51 (dk_at dksX2_see_0 13 rfl rfl)
theorem dX2_see_14 : decode cX2_see 14 = .ok (.sipush 255, 3) := dk_17 0 255 (dk_at dksX2_see_0 14 rfl rfl)
theorem dX2_see_17 : decode cX2_see 17 = .ok (.iand, 1) := dk_126 (dk_at dksX2_see_0 17 rfl rfl)
theorem dX2_see_18 : decode cX2_see 18 = .ok (.goto 4, 3) := dk_167 0 4 (dk_at dksX2_see_0 18 rfl rfl)
theorem dX2_see_21 : decode cX2_see 21 = .ok (.iconst (-1), 1) := dk_2 (dk_at dksX2_see_0 21 rfl rfl)
theorem dX2_see_22 : decode cX2_see 22 = .ok (.ireturn, 1) := dk_172 (dk_at dksX2_see_0 22 rfl rfl)
abbrev cX2_isSmall : ByteArray := prog_9_method_4_code
def yX2_isSmall : MethodName := ⟨RX2, "isSmall", "(I)Z"⟩
def dkwX2_isSmall_0 : List UInt8 := [26, 16, 97, 16, 122, 184, 0, 36, 172]
abbrev dktX2_isSmall_0 : List UInt8 := dkwX2_isSmall_0 ++ []
theorem dksX2_isSmall_0 : cX2_isSmall.data.toList.drop 0 = dktX2_isSmall_0 := by decide +kernel
theorem dX2_isSmall_0 : decode cX2_isSmall 0 = .ok (.iload_n 0, 1) := dk_26 (dk_at dksX2_isSmall_0 0 rfl rfl)
theorem dX2_isSmall_1 : decode cX2_isSmall 1 = .ok (.bipush 97, 2) := dk_16 97 (dk_at dksX2_isSmall_0 1 rfl rfl)
theorem dX2_isSmall_3 : decode cX2_isSmall 3 = .ok (.bipush 122, 2) := dk_16 122 (dk_at dksX2_isSmall_0 3 rfl rfl)
theorem dX2_isSmall_5 : decode cX2_isSmall 5 = .ok (.invokestatic 36, 3) := dk_184 0 36 (dk_at dksX2_isSmall_0 5 rfl rfl)
theorem dX2_isSmall_8 : decode cX2_isSmall 8 = .ok (.ireturn, 1) := dk_172 (dk_at dksX2_isSmall_0 8 rfl rfl)
abbrev cX2_isDigit : ByteArray := prog_9_method_5_code
def yX2_isDigit : MethodName := ⟨RX2, "isDigit", "(I)Z"⟩
def dkwX2_isDigit_0 : List UInt8 := [26, 16, 48, 16, 57, 184, 0, 36, 172]
abbrev dktX2_isDigit_0 : List UInt8 := dkwX2_isDigit_0 ++ []
theorem dksX2_isDigit_0 : cX2_isDigit.data.toList.drop 0 = dktX2_isDigit_0 := by decide +kernel
theorem dX2_isDigit_0 : decode cX2_isDigit 0 = .ok (.iload_n 0, 1) := dk_26 (dk_at dksX2_isDigit_0 0 rfl rfl)
theorem dX2_isDigit_1 : decode cX2_isDigit 1 = .ok (.bipush 48, 2) := dk_16 48 (dk_at dksX2_isDigit_0 1 rfl rfl)
theorem dX2_isDigit_3 : decode cX2_isDigit 3 = .ok (.bipush 57, 2) := dk_16 57 (dk_at dksX2_isDigit_0 3 rfl rfl)
theorem dX2_isDigit_5 : decode cX2_isDigit 5 = .ok (.invokestatic 36, 3) := dk_184 0 36 (dk_at dksX2_isDigit_0 5 rfl rfl)
theorem dX2_isDigit_8 : decode cX2_isDigit 8 = .ok (.ireturn, 1) := dk_172 (dk_at dksX2_isDigit_0 8 rfl rfl)
abbrev cX2_line : ByteArray := prog_9_method_18_code
def yX2_line : MethodName := ⟨RX2, "line", "()V"⟩
def dkwX2_line_10 : List UInt8 := [182, 0, 82, 191, 177]
abbrev dktX2_line_10 : List UInt8 := dkwX2_line_10 ++ []
def dkwX2_line_9 : List UInt8 := [182, 0, 148, 167, 0, 23, 42, 182, 0, 151, 167, 0, 16, 42, 182, 0, 154, 167, 0, 9, 42, 4]
abbrev dktX2_line_9 : List UInt8 := dkwX2_line_9 ++ dktX2_line_10
def dkwX2_line_8 : List UInt8 := [42, 182, 0, 139, 167, 0, 44, 42, 182, 0, 142, 167, 0, 37, 42, 182, 0, 145, 167, 0, 30, 42]
abbrev dktX2_line_8 : List UInt8 := dkwX2_line_8 ++ dktX2_line_9
def dkwX2_line_7 : List UInt8 := [170, 0, 0, 0, 0, 80, 0, 0, 0, 0, 0, 0, 0, 5, 0, 0, 0, 38, 0, 0, 0, 45, 0, 0, 0, 52, 0, 0, 0, 59, 0, 0, 0, 66, 0, 0, 0, 73]
abbrev dktX2_line_7 : List UInt8 := dkwX2_line_7 ++ dktX2_line_8
def dkwX2_line_6 : List UInt8 := [18, 100, 182, 0, 71, 153, 0, 5, 8, 61, 28]
abbrev dktX2_line_6 : List UInt8 := dkwX2_line_6 ++ dktX2_line_7
def dkwX2_line_5 : List UInt8 := [153, 0, 33, 6, 61, 167, 0, 28, 43, 18, 98, 182, 0, 71, 153, 0, 19, 7, 61, 167, 0, 14, 43]
abbrev dktX2_line_5 : List UInt8 := dkwX2_line_5 ++ dktX2_line_6
def dkwX2_line_4 : List UInt8 := [61, 167, 0, 56, 43, 18, 94, 182, 0, 71, 153, 0, 47, 5, 61, 167, 0, 42, 43, 18, 96, 182, 0, 71]
abbrev dktX2_line_4 : List UInt8 := dkwX2_line_4 ++ dktX2_line_5
def dkwX2_line_3 : List UInt8 := [43, 18, 90, 182, 0, 71, 153, 0, 75, 3, 61, 167, 0, 70, 43, 18, 92, 182, 0, 71, 153, 0, 61, 4]
abbrev dktX2_line_3 : List UInt8 := dkwX2_line_3 ++ dktX2_line_4
def dkwX2_line_2 : List UInt8 := [171, 0, 0, 0, 0, 0, 140, 0, 0, 0, 6, 191, 253, 107, 191, 0, 0, 0, 101, 196, 227, 155, 85, 0, 0, 0, 73, 205, 235, 38, 46, 0, 0, 0, 115, 0, 46, 252, 100, 0, 0, 0, 87, 0, 54, 106, 146, 0, 0, 0, 59, 5, 232, 240, 54, 0, 0, 0, 129]
abbrev dktX2_line_2 : List UInt8 := dkwX2_line_2 ++ dktX2_line_3
def dkwX2_line_1 : List UInt8 := [182, 0, 86]
abbrev dktX2_line_1 : List UInt8 := dkwX2_line_1 ++ dktX2_line_2
def dkwX2_line_0 : List UInt8 := [42, 180, 0, 47, 5, 159, 0, 9, 42, 4, 182, 0, 82, 191, 42, 180, 0, 61, 76, 2, 61, 43]
abbrev dktX2_line_0 : List UInt8 := dkwX2_line_0 ++ dktX2_line_1
theorem dksX2_line_0 : cX2_line.data.toList.drop 0 = dktX2_line_0 := by decide +kernel
theorem dksX2_line_1 : cX2_line.data.toList.drop 22 = dktX2_line_1 := dk_seg dksX2_line_0 22 rfl rfl
theorem dksX2_line_2 : cX2_line.data.toList.drop 25 = dktX2_line_2 := dk_seg dksX2_line_1 3 rfl rfl
theorem dksX2_line_3 : cX2_line.data.toList.drop 84 = dktX2_line_3 := dk_seg dksX2_line_2 59 rfl rfl
theorem dksX2_line_4 : cX2_line.data.toList.drop 108 = dktX2_line_4 := dk_seg dksX2_line_3 24 rfl rfl
theorem dksX2_line_5 : cX2_line.data.toList.drop 132 = dktX2_line_5 := dk_seg dksX2_line_4 24 rfl rfl
theorem dksX2_line_6 : cX2_line.data.toList.drop 155 = dktX2_line_6 := dk_seg dksX2_line_5 23 rfl rfl
theorem dksX2_line_7 : cX2_line.data.toList.drop 166 = dktX2_line_7 := dk_seg dksX2_line_6 11 rfl rfl
theorem dksX2_line_8 : cX2_line.data.toList.drop 204 = dktX2_line_8 := dk_seg dksX2_line_7 38 rfl rfl
theorem dksX2_line_9 : cX2_line.data.toList.drop 226 = dktX2_line_9 := dk_seg dksX2_line_8 22 rfl rfl
theorem dksX2_line_10 : cX2_line.data.toList.drop 248 = dktX2_line_10 := dk_seg dksX2_line_9 22 rfl rfl
theorem dX2_line_0 : decode cX2_line 0 = .ok (.aload_n 0, 1) := dk_42 (dk_at dksX2_line_0 0 rfl rfl)
theorem dX2_line_1 : decode cX2_line 1 = .ok (.getfield 47, 3) := dk_180 0 47 (dk_at dksX2_line_0 1 rfl rfl)
theorem dX2_line_4 : decode cX2_line 4 = .ok (.iconst 2, 1) := dk_5 (dk_at dksX2_line_0 4 rfl rfl)
theorem dX2_line_5 : decode cX2_line 5 = .ok (.if_icmp .eq 9, 3) := dk_159 0 9 (dk_at dksX2_line_0 5 rfl rfl)
theorem dX2_line_8 : decode cX2_line 8 = .ok (.aload_n 0, 1) := dk_42 (dk_at dksX2_line_0 8 rfl rfl)
theorem dX2_line_9 : decode cX2_line 9 = .ok (.iconst 1, 1) := dk_4 (dk_at dksX2_line_0 9 rfl rfl)
theorem dX2_line_10 : decode cX2_line 10 = .ok (.invokevirtual 82, 3) := dk_182 0 82 (dk_at dksX2_line_0 10 rfl rfl)
theorem dX2_line_13 : decode cX2_line 13 = .ok (.athrow, 1) := dk_191 (dk_at dksX2_line_0 13 rfl rfl)
theorem dX2_line_14 : decode cX2_line 14 = .ok (.aload_n 0, 1) := dk_42 (dk_at dksX2_line_0 14 rfl rfl)
theorem dX2_line_15 : decode cX2_line 15 = .ok (.getfield 61, 3) := dk_180 0 61 (dk_at dksX2_line_0 15 rfl rfl)
theorem dX2_line_18 : decode cX2_line 18 = .ok (.astore_n 1, 1) := dk_76 (dk_at dksX2_line_0 18 rfl rfl)
theorem dX2_line_19 : decode cX2_line 19 = .ok (.iconst (-1), 1) := dk_2 (dk_at dksX2_line_0 19 rfl rfl)
theorem dX2_line_20 : decode cX2_line 20 = .ok (.istore_n 2, 1) := dk_61 (dk_at dksX2_line_0 20 rfl rfl)
theorem dX2_line_21 : decode cX2_line 21 = .ok (.aload_n 1, 1) := dk_43 (dk_at dksX2_line_0 21 rfl rfl)
theorem dX2_line_22 : decode cX2_line 22 = .ok (.invokevirtual 86, 3) := dk_182 0 86 (dk_at dksX2_line_1 0 rfl rfl)
theorem dX2_line_25 : decode cX2_line 25 = .ok (.lookupswitch 140 #[(-1073910849, 101), (-991716523, 73), (-840227282, 115), (3079268, 87), (3566226, 59), (99151926, 129)], 59) := by decide +kernel
theorem dX2_line_84 : decode cX2_line 84 = .ok (.aload_n 1, 1) := dk_43 (dk_at dksX2_line_3 0 rfl rfl)
theorem dX2_line_85 : decode cX2_line 85 = .ok (.ldc 90, 2) := dk_18 90 (dk_at dksX2_line_3 1 rfl rfl)
theorem dX2_line_87 : decode cX2_line 87 = .ok (.invokevirtual 71, 3) := dk_182 0 71 (dk_at dksX2_line_3 3 rfl rfl)
theorem dX2_line_90 : decode cX2_line 90 = .ok (.ifCond .eq 75, 3) := dk_153 0 75 (dk_at dksX2_line_3 6 rfl rfl)
theorem dX2_line_93 : decode cX2_line 93 = .ok (.iconst 0, 1) := dk_3 (dk_at dksX2_line_3 9 rfl rfl)
theorem dX2_line_94 : decode cX2_line 94 = .ok (.istore_n 2, 1) := dk_61 (dk_at dksX2_line_3 10 rfl rfl)
theorem dX2_line_95 : decode cX2_line 95 = .ok (.goto 70, 3) := dk_167 0 70 (dk_at dksX2_line_3 11 rfl rfl)
theorem dX2_line_98 : decode cX2_line 98 = .ok (.aload_n 1, 1) := dk_43 (dk_at dksX2_line_3 14 rfl rfl)
theorem dX2_line_99 : decode cX2_line 99 = .ok (.ldc 92, 2) := dk_18 92 (dk_at dksX2_line_3 15 rfl rfl)
theorem dX2_line_101 : decode cX2_line 101 = .ok (.invokevirtual 71, 3) := dk_182 0 71 (dk_at dksX2_line_3 17 rfl rfl)
theorem dX2_line_104 : decode cX2_line 104 = .ok (.ifCond .eq 61, 3) := dk_153 0 61 (dk_at dksX2_line_3 20 rfl rfl)
theorem dX2_line_107 : decode cX2_line 107 = .ok (.iconst 1, 1) := dk_4 (dk_at dksX2_line_3 23 rfl rfl)
theorem dX2_line_108 : decode cX2_line 108 = .ok (.istore_n 2, 1) := dk_61 (dk_at dksX2_line_4 0 rfl rfl)
theorem dX2_line_109 : decode cX2_line 109 = .ok (.goto 56, 3) := dk_167 0 56 (dk_at dksX2_line_4 1 rfl rfl)
theorem dX2_line_112 : decode cX2_line 112 = .ok (.aload_n 1, 1) := dk_43 (dk_at dksX2_line_4 4 rfl rfl)
theorem dX2_line_113 : decode cX2_line 113 = .ok (.ldc 94, 2) := dk_18 94 (dk_at dksX2_line_4 5 rfl rfl)
theorem dX2_line_115 : decode cX2_line 115 = .ok (.invokevirtual 71, 3) := dk_182 0 71 (dk_at dksX2_line_4 7 rfl rfl)
theorem dX2_line_118 : decode cX2_line 118 = .ok (.ifCond .eq 47, 3) := dk_153 0 47 (dk_at dksX2_line_4 10 rfl rfl)
theorem dX2_line_121 : decode cX2_line 121 = .ok (.iconst 2, 1) := dk_5 (dk_at dksX2_line_4 13 rfl rfl)
theorem dX2_line_122 : decode cX2_line 122 = .ok (.istore_n 2, 1) := dk_61 (dk_at dksX2_line_4 14 rfl rfl)
theorem dX2_line_123 : decode cX2_line 123 = .ok (.goto 42, 3) := dk_167 0 42 (dk_at dksX2_line_4 15 rfl rfl)
theorem dX2_line_126 : decode cX2_line 126 = .ok (.aload_n 1, 1) := dk_43 (dk_at dksX2_line_4 18 rfl rfl)
theorem dX2_line_127 : decode cX2_line 127 = .ok (.ldc 96, 2) := dk_18 96 (dk_at dksX2_line_4 19 rfl rfl)
theorem dX2_line_129 : decode cX2_line 129 = .ok (.invokevirtual 71, 3) := dk_182 0 71 (dk_at dksX2_line_4 21 rfl rfl)
theorem dX2_line_132 : decode cX2_line 132 = .ok (.ifCond .eq 33, 3) := dk_153 0 33 (dk_at dksX2_line_5 0 rfl rfl)
theorem dX2_line_135 : decode cX2_line 135 = .ok (.iconst 3, 1) := dk_6 (dk_at dksX2_line_5 3 rfl rfl)
theorem dX2_line_136 : decode cX2_line 136 = .ok (.istore_n 2, 1) := dk_61 (dk_at dksX2_line_5 4 rfl rfl)
theorem dX2_line_137 : decode cX2_line 137 = .ok (.goto 28, 3) := dk_167 0 28 (dk_at dksX2_line_5 5 rfl rfl)
theorem dX2_line_140 : decode cX2_line 140 = .ok (.aload_n 1, 1) := dk_43 (dk_at dksX2_line_5 8 rfl rfl)
theorem dX2_line_141 : decode cX2_line 141 = .ok (.ldc 98, 2) := dk_18 98 (dk_at dksX2_line_5 9 rfl rfl)
theorem dX2_line_143 : decode cX2_line 143 = .ok (.invokevirtual 71, 3) := dk_182 0 71 (dk_at dksX2_line_5 11 rfl rfl)
theorem dX2_line_146 : decode cX2_line 146 = .ok (.ifCond .eq 19, 3) := dk_153 0 19 (dk_at dksX2_line_5 14 rfl rfl)
theorem dX2_line_149 : decode cX2_line 149 = .ok (.iconst 4, 1) := dk_7 (dk_at dksX2_line_5 17 rfl rfl)
theorem dX2_line_150 : decode cX2_line 150 = .ok (.istore_n 2, 1) := dk_61 (dk_at dksX2_line_5 18 rfl rfl)
theorem dX2_line_151 : decode cX2_line 151 = .ok (.goto 14, 3) := dk_167 0 14 (dk_at dksX2_line_5 19 rfl rfl)
theorem dX2_line_154 : decode cX2_line 154 = .ok (.aload_n 1, 1) := dk_43 (dk_at dksX2_line_5 22 rfl rfl)
theorem dX2_line_155 : decode cX2_line 155 = .ok (.ldc 100, 2) := dk_18 100 (dk_at dksX2_line_6 0 rfl rfl)
theorem dX2_line_157 : decode cX2_line 157 = .ok (.invokevirtual 71, 3) := dk_182 0 71 (dk_at dksX2_line_6 2 rfl rfl)
theorem dX2_line_160 : decode cX2_line 160 = .ok (.ifCond .eq 5, 3) := dk_153 0 5 (dk_at dksX2_line_6 5 rfl rfl)
theorem dX2_line_163 : decode cX2_line 163 = .ok (.iconst 5, 1) := dk_8 (dk_at dksX2_line_6 8 rfl rfl)
theorem dX2_line_164 : decode cX2_line 164 = .ok (.istore_n 2, 1) := dk_61 (dk_at dksX2_line_6 9 rfl rfl)
theorem dX2_line_165 : decode cX2_line 165 = .ok (.iload_n 2, 1) := dk_28 (dk_at dksX2_line_6 10 rfl rfl)
theorem dX2_line_166 : decode cX2_line 166 = .ok (.tableswitch 80 0 5 #[38, 45, 52, 59, 66, 73], 38) := by decide +kernel
theorem dX2_line_204 : decode cX2_line 204 = .ok (.aload_n 0, 1) := dk_42 (dk_at dksX2_line_8 0 rfl rfl)
theorem dX2_line_205 : decode cX2_line 205 = .ok (.invokevirtual 139, 3) := dk_182 0 139 (dk_at dksX2_line_8 1 rfl rfl)
theorem dX2_line_208 : decode cX2_line 208 = .ok (.goto 44, 3) := dk_167 0 44 (dk_at dksX2_line_8 4 rfl rfl)
theorem dX2_line_211 : decode cX2_line 211 = .ok (.aload_n 0, 1) := dk_42 (dk_at dksX2_line_8 7 rfl rfl)
theorem dX2_line_212 : decode cX2_line 212 = .ok (.invokevirtual 142, 3) := dk_182 0 142 (dk_at dksX2_line_8 8 rfl rfl)
theorem dX2_line_215 : decode cX2_line 215 = .ok (.goto 37, 3) := dk_167 0 37 (dk_at dksX2_line_8 11 rfl rfl)
theorem dX2_line_218 : decode cX2_line 218 = .ok (.aload_n 0, 1) := dk_42 (dk_at dksX2_line_8 14 rfl rfl)
theorem dX2_line_219 : decode cX2_line 219 = .ok (.invokevirtual 145, 3) := dk_182 0 145 (dk_at dksX2_line_8 15 rfl rfl)
theorem dX2_line_222 : decode cX2_line 222 = .ok (.goto 30, 3) := dk_167 0 30 (dk_at dksX2_line_8 18 rfl rfl)
theorem dX2_line_225 : decode cX2_line 225 = .ok (.aload_n 0, 1) := dk_42 (dk_at dksX2_line_8 21 rfl rfl)
theorem dX2_line_226 : decode cX2_line 226 = .ok (.invokevirtual 148, 3) := dk_182 0 148 (dk_at dksX2_line_9 0 rfl rfl)
theorem dX2_line_229 : decode cX2_line 229 = .ok (.goto 23, 3) := dk_167 0 23 (dk_at dksX2_line_9 3 rfl rfl)
theorem dX2_line_232 : decode cX2_line 232 = .ok (.aload_n 0, 1) := dk_42 (dk_at dksX2_line_9 6 rfl rfl)
theorem dX2_line_233 : decode cX2_line 233 = .ok (.invokevirtual 151, 3) := dk_182 0 151 (dk_at dksX2_line_9 7 rfl rfl)
theorem dX2_line_236 : decode cX2_line 236 = .ok (.goto 16, 3) := dk_167 0 16 (dk_at dksX2_line_9 10 rfl rfl)
theorem dX2_line_239 : decode cX2_line 239 = .ok (.aload_n 0, 1) := dk_42 (dk_at dksX2_line_9 13 rfl rfl)
theorem dX2_line_240 : decode cX2_line 240 = .ok (.invokevirtual 154, 3) := dk_182 0 154 (dk_at dksX2_line_9 14 rfl rfl)
theorem dX2_line_243 : decode cX2_line 243 = .ok (.goto 9, 3) := dk_167 0 9 (dk_at dksX2_line_9 17 rfl rfl)
theorem dX2_line_246 : decode cX2_line 246 = .ok (.aload_n 0, 1) := dk_42 (dk_at dksX2_line_9 20 rfl rfl)
theorem dX2_line_247 : decode cX2_line 247 = .ok (.iconst 1, 1) := dk_4 (dk_at dksX2_line_9 21 rfl rfl)
theorem dX2_line_248 : decode cX2_line 248 = .ok (.invokevirtual 82, 3) := dk_182 0 82 (dk_at dksX2_line_10 0 rfl rfl)
theorem dX2_line_251 : decode cX2_line 251 = .ok (.athrow, 1) := dk_191 (dk_at dksX2_line_10 3 rfl rfl)
theorem dX2_line_252 : decode cX2_line 252 = .ok (.return_, 1) := dk_177 (dk_at dksX2_line_10 4 rfl rfl)
abbrev cX2_fail : ByteArray := prog_9_method_2_code
def yX2_fail : MethodName := ⟨RX2, "fail", "(I)LSeanceStreet$Refused;"⟩
def dkwX2_fail_0 : List UInt8 := [42, 180, 0, 12, 27, 42, 180, 0, 26, 182, 0, 30, 176]
abbrev dktX2_fail_0 : List UInt8 := dkwX2_fail_0 ++ []
theorem dksX2_fail_0 : cX2_fail.data.toList.drop 0 = dktX2_fail_0 := by decide +kernel
theorem dX2_fail_0 : decode cX2_fail 0 = .ok (.aload_n 0, 1) := dk_42 (dk_at dksX2_fail_0 0 rfl rfl)
theorem dX2_fail_1 : decode cX2_fail 1 = .ok (.getfield 12, 3) := dk_180 0 12 (dk_at dksX2_fail_0 1 rfl rfl)
theorem dX2_fail_4 : decode cX2_fail 4 = .ok (.iload_n 1, 1) := dk_27 (dk_at dksX2_fail_0 4 rfl rfl)
theorem dX2_fail_5 : decode cX2_fail 5 = .ok (.aload_n 0, 1) := dk_42 (dk_at dksX2_fail_0 5 rfl rfl)
theorem dX2_fail_6 : decode cX2_fail 6 = .ok (.getfield 26, 3) := dk_180 0 26 (dk_at dksX2_fail_0 6 rfl rfl)
theorem dX2_fail_9 : decode cX2_fail 9 = .ok (.invokevirtual 30, 3) := dk_182 0 30 (dk_at dksX2_fail_0 9 rfl rfl)
theorem dX2_fail_12 : decode cX2_fail 12 = .ok (.areturn, 1) := dk_176 (dk_at dksX2_fail_0 12 rfl rfl)
abbrev cX2_townLine : ByteArray := prog_9_method_19_code
def yX2_townLine : MethodName := ⟨RX2, "townLine", "()V"⟩
def dkwX2_townLine_2 : List UInt8 := [180, 0, 105, 27, 181, 0, 129, 177]
abbrev dktX2_townLine_2 : List UInt8 := dkwX2_townLine_2 ++ []
def dkwX2_townLine_1 : List UInt8 := [16, 40, 182, 0, 158, 60, 42, 180, 0, 105, 42, 18, 162, 3, 16, 100, 182, 0, 158, 181, 0, 164, 42]
abbrev dktX2_townLine_1 : List UInt8 := dkwX2_townLine_1 ++ dktX2_townLine_2
def dkwX2_townLine_0 : List UInt8 := [42, 180, 0, 105, 180, 0, 129, 158, 0, 9, 42, 6, 182, 0, 82, 191, 42, 182, 0, 75, 42, 18, 157, 5]
abbrev dktX2_townLine_0 : List UInt8 := dkwX2_townLine_0 ++ dktX2_townLine_1
theorem dksX2_townLine_0 : cX2_townLine.data.toList.drop 0 = dktX2_townLine_0 := by decide +kernel
theorem dksX2_townLine_1 : cX2_townLine.data.toList.drop 24 = dktX2_townLine_1 := dk_seg dksX2_townLine_0 24 rfl rfl
theorem dksX2_townLine_2 : cX2_townLine.data.toList.drop 47 = dktX2_townLine_2 := dk_seg dksX2_townLine_1 23 rfl rfl
theorem dX2_townLine_0 : decode cX2_townLine 0 = .ok (.aload_n 0, 1) := dk_42 (dk_at dksX2_townLine_0 0 rfl rfl)
theorem dX2_townLine_1 : decode cX2_townLine 1 = .ok (.getfield 105, 3) := dk_180 0 105 (dk_at dksX2_townLine_0 1 rfl rfl)
theorem dX2_townLine_4 : decode cX2_townLine 4 = .ok (.getfield 129, 3) := dk_180 0 129 (dk_at dksX2_townLine_0 4 rfl rfl)
theorem dX2_townLine_7 : decode cX2_townLine 7 = .ok (.ifCond .le 9, 3) := dk_158 0 9 (dk_at dksX2_townLine_0 7 rfl rfl)
theorem dX2_townLine_10 : decode cX2_townLine 10 = .ok (.aload_n 0, 1) := dk_42 (dk_at dksX2_townLine_0 10 rfl rfl)
theorem dX2_townLine_11 : decode cX2_townLine 11 = .ok (.iconst 3, 1) := dk_6 (dk_at dksX2_townLine_0 11 rfl rfl)
theorem dX2_townLine_12 : decode cX2_townLine 12 = .ok (.invokevirtual 82, 3) := dk_182 0 82 (dk_at dksX2_townLine_0 12 rfl rfl)
theorem dX2_townLine_15 : decode cX2_townLine 15 = .ok (.athrow, 1) := dk_191 (dk_at dksX2_townLine_0 15 rfl rfl)
theorem dX2_townLine_16 : decode cX2_townLine 16 = .ok (.aload_n 0, 1) := dk_42 (dk_at dksX2_townLine_0 16 rfl rfl)
theorem dX2_townLine_17 : decode cX2_townLine 17 = .ok (.invokevirtual 75, 3) := dk_182 0 75 (dk_at dksX2_townLine_0 17 rfl rfl)
theorem dX2_townLine_20 : decode cX2_townLine 20 = .ok (.aload_n 0, 1) := dk_42 (dk_at dksX2_townLine_0 20 rfl rfl)
theorem dX2_townLine_21 : decode cX2_townLine 21 = .ok (.ldc 157, 2) := dk_18 157 (dk_at dksX2_townLine_0 21 rfl rfl)
theorem dX2_townLine_23 : decode cX2_townLine 23 = .ok (.iconst 2, 1) := dk_5 (dk_at dksX2_townLine_0 23 rfl rfl)
theorem dX2_townLine_24 : decode cX2_townLine 24 = .ok (.bipush 40, 2) := dk_16 40 (dk_at dksX2_townLine_1 0 rfl rfl)
theorem dX2_townLine_26 : decode cX2_townLine 26 = .ok (.invokevirtual 158, 3) := dk_182 0 158 (dk_at dksX2_townLine_1 2 rfl rfl)
theorem dX2_townLine_29 : decode cX2_townLine 29 = .ok (.istore_n 1, 1) := dk_60 (dk_at dksX2_townLine_1 5 rfl rfl)
theorem dX2_townLine_30 : decode cX2_townLine 30 = .ok (.aload_n 0, 1) := dk_42 (dk_at dksX2_townLine_1 6 rfl rfl)
theorem dX2_townLine_31 : decode cX2_townLine 31 = .ok (.getfield 105, 3) := dk_180 0 105 (dk_at dksX2_townLine_1 7 rfl rfl)
theorem dX2_townLine_34 : decode cX2_townLine 34 = .ok (.aload_n 0, 1) := dk_42 (dk_at dksX2_townLine_1 10 rfl rfl)
theorem dX2_townLine_35 : decode cX2_townLine 35 = .ok (.ldc 162, 2) := dk_18 162 (dk_at dksX2_townLine_1 11 rfl rfl)
theorem dX2_townLine_37 : decode cX2_townLine 37 = .ok (.iconst 0, 1) := dk_3 (dk_at dksX2_townLine_1 13 rfl rfl)
theorem dX2_townLine_38 : decode cX2_townLine 38 = .ok (.bipush 100, 2) := dk_16 100 (dk_at dksX2_townLine_1 14 rfl rfl)
theorem dX2_townLine_40 : decode cX2_townLine 40 = .ok (.invokevirtual 158, 3) := dk_182 0 158 (dk_at dksX2_townLine_1 16 rfl rfl)
theorem dX2_townLine_43 : decode cX2_townLine 43 = .ok (.putfield 164, 3) := dk_181 0 164 (dk_at dksX2_townLine_1 19 rfl rfl)
theorem dX2_townLine_46 : decode cX2_townLine 46 = .ok (.aload_n 0, 1) := dk_42 (dk_at dksX2_townLine_1 22 rfl rfl)
theorem dX2_townLine_47 : decode cX2_townLine 47 = .ok (.getfield 105, 3) := dk_180 0 105 (dk_at dksX2_townLine_2 0 rfl rfl)
theorem dX2_townLine_50 : decode cX2_townLine 50 = .ok (.iload_n 1, 1) := dk_27 (dk_at dksX2_townLine_2 3 rfl rfl)
theorem dX2_townLine_51 : decode cX2_townLine 51 = .ok (.putfield 129, 3) := dk_181 0 129 (dk_at dksX2_townLine_2 4 rfl rfl)
theorem dX2_townLine_54 : decode cX2_townLine 54 = .ok (.return_, 1) := dk_177 (dk_at dksX2_townLine_2 7 rfl rfl)
abbrev cX2_after : ByteArray := prog_9_method_15_code
def yX2_after : MethodName := ⟨RX2, "after", "(Ljava/lang/String;II)I"⟩
def dkwX2_after_0 : List UInt8 := [42, 43, 182, 0, 122, 42, 28, 29, 182, 0, 126, 172]
abbrev dktX2_after_0 : List UInt8 := dkwX2_after_0 ++ []
theorem dksX2_after_0 : cX2_after.data.toList.drop 0 = dktX2_after_0 := by decide +kernel
theorem dX2_after_0 : decode cX2_after 0 = .ok (.aload_n 0, 1) := dk_42 (dk_at dksX2_after_0 0 rfl rfl)
theorem dX2_after_1 : decode cX2_after 1 = .ok (.aload_n 1, 1) := dk_43 (dk_at dksX2_after_0 1 rfl rfl)
theorem dX2_after_2 : decode cX2_after 2 = .ok (.invokevirtual 122, 3) := dk_182 0 122 (dk_at dksX2_after_0 2 rfl rfl)
theorem dX2_after_5 : decode cX2_after 5 = .ok (.aload_n 0, 1) := dk_42 (dk_at dksX2_after_0 5 rfl rfl)
theorem dX2_after_6 : decode cX2_after 6 = .ok (.iload_n 2, 1) := dk_28 (dk_at dksX2_after_0 6 rfl rfl)
theorem dX2_after_7 : decode cX2_after 7 = .ok (.iload_n 3, 1) := dk_29 (dk_at dksX2_after_0 7 rfl rfl)
theorem dX2_after_8 : decode cX2_after 8 = .ok (.invokevirtual 126, 3) := dk_182 0 126 (dk_at dksX2_after_0 8 rfl rfl)
theorem dX2_after_11 : decode cX2_after 11 = .ok (.ireturn, 1) := dk_172 (dk_at dksX2_after_0 11 rfl rfl)
abbrev cX2_must : ByteArray := prog_9_method_8_code
def yX2_must : MethodName := ⟨RX2, "must", "(Ljava/lang/String;)V"⟩
def dkwX2_must_0 : List UInt8 := [42, 43, 182, 0, 78, 154, 0, 9, 42, 4, 182, 0, 82, 191, 177]
abbrev dktX2_must_0 : List UInt8 := dkwX2_must_0 ++ []
theorem dksX2_must_0 : cX2_must.data.toList.drop 0 = dktX2_must_0 := by decide +kernel
theorem dX2_must_0 : decode cX2_must 0 = .ok (.aload_n 0, 1) := dk_42 (dk_at dksX2_must_0 0 rfl rfl)
theorem dX2_must_1 : decode cX2_must 1 = .ok (.aload_n 1, 1) := dk_43 (dk_at dksX2_must_0 1 rfl rfl)
theorem dX2_must_2 : decode cX2_must 2 = .ok (.invokevirtual 78, 3) := dk_182 0 78 (dk_at dksX2_must_0 2 rfl rfl)
theorem dX2_must_5 : decode cX2_must 5 = .ok (.ifCond .ne 9, 3) := dk_154 0 9 (dk_at dksX2_must_0 5 rfl rfl)
theorem dX2_must_8 : decode cX2_must 8 = .ok (.aload_n 0, 1) := dk_42 (dk_at dksX2_must_0 8 rfl rfl)
theorem dX2_must_9 : decode cX2_must 9 = .ok (.iconst 1, 1) := dk_4 (dk_at dksX2_must_0 9 rfl rfl)
theorem dX2_must_10 : decode cX2_must 10 = .ok (.invokevirtual 82, 3) := dk_182 0 82 (dk_at dksX2_must_0 10 rfl rfl)
theorem dX2_must_13 : decode cX2_must 13 = .ok (.athrow, 1) := dk_191 (dk_at dksX2_must_0 13 rfl rfl)
theorem dX2_must_14 : decode cX2_must 14 = .ok (.return_, 1) := dk_177 (dk_at dksX2_must_0 14 rfl rfl)
abbrev cX2_takes : ByteArray := prog_9_method_7_code
def yX2_takes : MethodName := ⟨RX2, "takes", "(Ljava/lang/String;)Z"⟩
def dkwX2_takes_1 : List UInt8 := [182, 0, 75, 4, 172]
abbrev dktX2_takes_1 : List UInt8 := dkwX2_takes_1 ++ []
def dkwX2_takes_0 : List UInt8 := [42, 180, 0, 47, 5, 160, 0, 14, 42, 180, 0, 61, 43, 182, 0, 71, 154, 0, 5, 3, 172, 42]
abbrev dktX2_takes_0 : List UInt8 := dkwX2_takes_0 ++ dktX2_takes_1
theorem dksX2_takes_0 : cX2_takes.data.toList.drop 0 = dktX2_takes_0 := by decide +kernel
theorem dksX2_takes_1 : cX2_takes.data.toList.drop 22 = dktX2_takes_1 := dk_seg dksX2_takes_0 22 rfl rfl
theorem dX2_takes_0 : decode cX2_takes 0 = .ok (.aload_n 0, 1) := dk_42 (dk_at dksX2_takes_0 0 rfl rfl)
theorem dX2_takes_1 : decode cX2_takes 1 = .ok (.getfield 47, 3) := dk_180 0 47 (dk_at dksX2_takes_0 1 rfl rfl)
theorem dX2_takes_4 : decode cX2_takes 4 = .ok (.iconst 2, 1) := dk_5 (dk_at dksX2_takes_0 4 rfl rfl)
theorem dX2_takes_5 : decode cX2_takes 5 = .ok (.if_icmp .ne 14, 3) := dk_160 0 14 (dk_at dksX2_takes_0 5 rfl rfl)
theorem dX2_takes_8 : decode cX2_takes 8 = .ok (.aload_n 0, 1) := dk_42 (dk_at dksX2_takes_0 8 rfl rfl)
theorem dX2_takes_9 : decode cX2_takes 9 = .ok (.getfield 61, 3) := dk_180 0 61 (dk_at dksX2_takes_0 9 rfl rfl)
theorem dX2_takes_12 : decode cX2_takes 12 = .ok (.aload_n 1, 1) := dk_43 (dk_at dksX2_takes_0 12 rfl rfl)
theorem dX2_takes_13 : decode cX2_takes 13 = .ok (.invokevirtual 71, 3) := dk_182 0 71 (dk_at dksX2_takes_0 13 rfl rfl)
theorem dX2_takes_16 : decode cX2_takes 16 = .ok (.ifCond .ne 5, 3) := dk_154 0 5 (dk_at dksX2_takes_0 16 rfl rfl)
theorem dX2_takes_19 : decode cX2_takes 19 = .ok (.iconst 0, 1) := dk_3 (dk_at dksX2_takes_0 19 rfl rfl)
theorem dX2_takes_20 : decode cX2_takes 20 = .ok (.ireturn, 1) := dk_172 (dk_at dksX2_takes_0 20 rfl rfl)
theorem dX2_takes_21 : decode cX2_takes 21 = .ok (.aload_n 0, 1) := dk_42 (dk_at dksX2_takes_0 21 rfl rfl)
theorem dX2_takes_22 : decode cX2_takes 22 = .ok (.invokevirtual 75, 3) := dk_182 0 75 (dk_at dksX2_takes_1 0 rfl rfl)
theorem dX2_takes_25 : decode cX2_takes 25 = .ok (.iconst 1, 1) := dk_4 (dk_at dksX2_takes_1 3 rfl rfl)
theorem dX2_takes_26 : decode cX2_takes 26 = .ok (.ireturn, 1) := dk_172 (dk_at dksX2_takes_1 4 rfl rfl)
abbrev cX2_number : ByteArray := prog_9_method_14_code
def yX2_number : MethodName := ⟨RX2, "number", "(II)I"⟩
def dkwX2_number_0 : List UInt8 := [42, 27, 28, 182, 0, 118, 62, 42, 182, 0, 75, 29, 172]
abbrev dktX2_number_0 : List UInt8 := dkwX2_number_0 ++ []
theorem dksX2_number_0 : cX2_number.data.toList.drop 0 = dktX2_number_0 := by decide +kernel
theorem dX2_number_0 : decode cX2_number 0 = .ok (.aload_n 0, 1) := dk_42 (dk_at dksX2_number_0 0 rfl rfl)
theorem dX2_number_1 : decode cX2_number 1 = .ok (.iload_n 1, 1) := dk_27 (dk_at dksX2_number_0 1 rfl rfl)
theorem dX2_number_2 : decode cX2_number 2 = .ok (.iload_n 2, 1) := dk_28 (dk_at dksX2_number_0 2 rfl rfl)
theorem dX2_number_3 : decode cX2_number 3 = .ok (.invokevirtual 118, 3) := dk_182 0 118 (dk_at dksX2_number_0 3 rfl rfl)
theorem dX2_number_6 : decode cX2_number 6 = .ok (.istore_n 3, 1) := dk_62 (dk_at dksX2_number_0 6 rfl rfl)
theorem dX2_number_7 : decode cX2_number 7 = .ok (.aload_n 0, 1) := dk_42 (dk_at dksX2_number_0 7 rfl rfl)
theorem dX2_number_8 : decode cX2_number 8 = .ok (.invokevirtual 75, 3) := dk_182 0 75 (dk_at dksX2_number_0 8 rfl rfl)
theorem dX2_number_11 : decode cX2_number 11 = .ok (.iload_n 3, 1) := dk_29 (dk_at dksX2_number_0 11 rfl rfl)
theorem dX2_number_12 : decode cX2_number 12 = .ok (.ireturn, 1) := dk_172 (dk_at dksX2_number_0 12 rfl rfl)
abbrev cX2_wholeHere : ByteArray := prog_9_method_13_code
def yX2_wholeHere : MethodName := ⟨RX2, "wholeHere", "(II)I"⟩
def dkwX2_wholeHere_1 : List UInt8 := [154, 0, 9, 42, 7, 182, 0, 82, 191, 42, 180, 0, 68, 172]
abbrev dktX2_wholeHere_1 : List UInt8 := dkwX2_wholeHere_1 ++ []
def dkwX2_wholeHere_0 : List UInt8 := [42, 180, 0, 47, 6, 159, 0, 9, 42, 4, 182, 0, 82, 191, 42, 180, 0, 68, 27, 28, 184, 0, 36]
abbrev dktX2_wholeHere_0 : List UInt8 := dkwX2_wholeHere_0 ++ dktX2_wholeHere_1
theorem dksX2_wholeHere_0 : cX2_wholeHere.data.toList.drop 0 = dktX2_wholeHere_0 := by decide +kernel
theorem dksX2_wholeHere_1 : cX2_wholeHere.data.toList.drop 23 = dktX2_wholeHere_1 := dk_seg dksX2_wholeHere_0 23 rfl rfl
theorem dX2_wholeHere_0 : decode cX2_wholeHere 0 = .ok (.aload_n 0, 1) := dk_42 (dk_at dksX2_wholeHere_0 0 rfl rfl)
theorem dX2_wholeHere_1 : decode cX2_wholeHere 1 = .ok (.getfield 47, 3) := dk_180 0 47 (dk_at dksX2_wholeHere_0 1 rfl rfl)
theorem dX2_wholeHere_4 : decode cX2_wholeHere 4 = .ok (.iconst 3, 1) := dk_6 (dk_at dksX2_wholeHere_0 4 rfl rfl)
theorem dX2_wholeHere_5 : decode cX2_wholeHere 5 = .ok (.if_icmp .eq 9, 3) := dk_159 0 9 (dk_at dksX2_wholeHere_0 5 rfl rfl)
theorem dX2_wholeHere_8 : decode cX2_wholeHere 8 = .ok (.aload_n 0, 1) := dk_42 (dk_at dksX2_wholeHere_0 8 rfl rfl)
theorem dX2_wholeHere_9 : decode cX2_wholeHere 9 = .ok (.iconst 1, 1) := dk_4 (dk_at dksX2_wholeHere_0 9 rfl rfl)
theorem dX2_wholeHere_10 : decode cX2_wholeHere 10 = .ok (.invokevirtual 82, 3) := dk_182 0 82 (dk_at dksX2_wholeHere_0 10 rfl rfl)
theorem dX2_wholeHere_13 : decode cX2_wholeHere 13 = .ok (.athrow, 1) := dk_191 (dk_at dksX2_wholeHere_0 13 rfl rfl)
theorem dX2_wholeHere_14 : decode cX2_wholeHere 14 = .ok (.aload_n 0, 1) := dk_42 (dk_at dksX2_wholeHere_0 14 rfl rfl)
theorem dX2_wholeHere_15 : decode cX2_wholeHere 15 = .ok (.getfield 68, 3) := dk_180 0 68 (dk_at dksX2_wholeHere_0 15 rfl rfl)
theorem dX2_wholeHere_18 : decode cX2_wholeHere 18 = .ok (.iload_n 1, 1) := dk_27 (dk_at dksX2_wholeHere_0 18 rfl rfl)
theorem dX2_wholeHere_19 : decode cX2_wholeHere 19 = .ok (.iload_n 2, 1) := dk_28 (dk_at dksX2_wholeHere_0 19 rfl rfl)
theorem dX2_wholeHere_20 : decode cX2_wholeHere 20 = .ok (.invokestatic 36, 3) := dk_184 0 36 (dk_at dksX2_wholeHere_0 20 rfl rfl)
theorem dX2_wholeHere_23 : decode cX2_wholeHere 23 = .ok (.ifCond .ne 9, 3) := dk_154 0 9 (dk_at dksX2_wholeHere_1 0 rfl rfl)
theorem dX2_wholeHere_26 : decode cX2_wholeHere 26 = .ok (.aload_n 0, 1) := dk_42 (dk_at dksX2_wholeHere_1 3 rfl rfl)
theorem dX2_wholeHere_27 : decode cX2_wholeHere 27 = .ok (.iconst 4, 1) := dk_7 (dk_at dksX2_wholeHere_1 4 rfl rfl)
theorem dX2_wholeHere_28 : decode cX2_wholeHere 28 = .ok (.invokevirtual 82, 3) := dk_182 0 82 (dk_at dksX2_wholeHere_1 5 rfl rfl)
theorem dX2_wholeHere_31 : decode cX2_wholeHere 31 = .ok (.athrow, 1) := dk_191 (dk_at dksX2_wholeHere_1 8 rfl rfl)
theorem dX2_wholeHere_32 : decode cX2_wholeHere 32 = .ok (.aload_n 0, 1) := dk_42 (dk_at dksX2_wholeHere_1 9 rfl rfl)
theorem dX2_wholeHere_33 : decode cX2_wholeHere 33 = .ok (.getfield 68, 3) := dk_180 0 68 (dk_at dksX2_wholeHere_1 10 rfl rfl)
theorem dX2_wholeHere_36 : decode cX2_wholeHere 36 = .ok (.ireturn, 1) := dk_172 (dk_at dksX2_wholeHere_1 13 rfl rfl)
abbrev cX2_personLine : ByteArray := prog_9_method_20_code
def yX2_personLine : MethodName := ⟨RX2, "personLine", "()V"⟩
def dkwX2_personLine_6 : List UInt8 := [181, 0, 136, 177]
abbrev dktX2_personLine_6 : List UInt8 := dkwX2_personLine_6 ++ []
def dkwX2_personLine_5 : List UInt8 := [180, 0, 182, 42, 180, 0, 105, 180, 0, 136, 43, 83, 42, 180, 0, 105, 89, 180, 0, 136, 4, 96]
abbrev dktX2_personLine_5 : List UInt8 := dkwX2_personLine_5 ++ dktX2_personLine_6
def dkwX2_personLine_4 : List UInt8 := [160, 0, 9, 42, 6, 182, 0, 82, 191, 132, 2, 1, 167, 255, 217, 42, 182, 0, 75, 42, 180, 0, 105]
abbrev dktX2_personLine_4 : List UInt8 := dkwX2_personLine_4 ++ dktX2_personLine_5
def dkwX2_personLine_3 : List UInt8 := [180, 0, 136, 162, 0, 34, 42, 180, 0, 105, 180, 0, 182, 28, 50, 180, 0, 179, 43, 180, 0, 179]
abbrev dktX2_personLine_3 : List UInt8 := dkwX2_personLine_3 ++ dktX2_personLine_4
def dkwX2_personLine_2 : List UInt8 := [3, 42, 180, 0, 105, 180, 0, 129, 4, 100, 182, 0, 118, 181, 0, 179, 3, 61, 28, 42, 180, 0, 105]
abbrev dktX2_personLine_2 : List UInt8 := dkwX2_personLine_2 ++ dktX2_personLine_3
def dkwX2_personLine_1 : List UInt8 := [89, 42, 182, 0, 170, 42, 180, 0, 105, 180, 0, 136, 183, 0, 174, 76, 42, 18, 177, 182, 0, 122, 43, 42]
abbrev dktX2_personLine_1 : List UInt8 := dkwX2_personLine_1 ++ dktX2_personLine_2
def dkwX2_personLine_0 : List UInt8 := [42, 42, 180, 0, 105, 180, 0, 136, 16, 6, 162, 0, 7, 4, 167, 0, 4, 3, 182, 0, 166, 187, 0, 114]
abbrev dktX2_personLine_0 : List UInt8 := dkwX2_personLine_0 ++ dktX2_personLine_1
theorem dksX2_personLine_0 : cX2_personLine.data.toList.drop 0 = dktX2_personLine_0 := by decide +kernel
theorem dksX2_personLine_1 : cX2_personLine.data.toList.drop 24 = dktX2_personLine_1 := dk_seg dksX2_personLine_0 24 rfl rfl
theorem dksX2_personLine_2 : cX2_personLine.data.toList.drop 48 = dktX2_personLine_2 := dk_seg dksX2_personLine_1 24 rfl rfl
theorem dksX2_personLine_3 : cX2_personLine.data.toList.drop 71 = dktX2_personLine_3 := dk_seg dksX2_personLine_2 23 rfl rfl
theorem dksX2_personLine_4 : cX2_personLine.data.toList.drop 93 = dktX2_personLine_4 := dk_seg dksX2_personLine_3 22 rfl rfl
theorem dksX2_personLine_5 : cX2_personLine.data.toList.drop 116 = dktX2_personLine_5 := dk_seg dksX2_personLine_4 23 rfl rfl
theorem dksX2_personLine_6 : cX2_personLine.data.toList.drop 138 = dktX2_personLine_6 := dk_seg dksX2_personLine_5 22 rfl rfl
theorem dX2_personLine_0 : decode cX2_personLine 0 = .ok (.aload_n 0, 1) := dk_42 (dk_at dksX2_personLine_0 0 rfl rfl)
theorem dX2_personLine_1 : decode cX2_personLine 1 = .ok (.aload_n 0, 1) := dk_42 (dk_at dksX2_personLine_0 1 rfl rfl)
theorem dX2_personLine_2 : decode cX2_personLine 2 = .ok (.getfield 105, 3) := dk_180 0 105 (dk_at dksX2_personLine_0 2 rfl rfl)
theorem dX2_personLine_5 : decode cX2_personLine 5 = .ok (.getfield 136, 3) := dk_180 0 136 (dk_at dksX2_personLine_0 5 rfl rfl)
theorem dX2_personLine_8 : decode cX2_personLine 8 = .ok (.bipush 6, 2) := dk_16 6 (dk_at dksX2_personLine_0 8 rfl rfl)
theorem dX2_personLine_10 : decode cX2_personLine 10 = .ok (.if_icmp .ge 7, 3) := dk_162 0 7 (dk_at dksX2_personLine_0 10 rfl rfl)
theorem dX2_personLine_13 : decode cX2_personLine 13 = .ok (.iconst 1, 1) := dk_4 (dk_at dksX2_personLine_0 13 rfl rfl)
theorem dX2_personLine_14 : decode cX2_personLine 14 = .ok (.goto 4, 3) := dk_167 0 4 (dk_at dksX2_personLine_0 14 rfl rfl)
theorem dX2_personLine_17 : decode cX2_personLine 17 = .ok (.iconst 0, 1) := dk_3 (dk_at dksX2_personLine_0 17 rfl rfl)
theorem dX2_personLine_18 : decode cX2_personLine 18 = .ok (.invokevirtual 166, 3) := dk_182 0 166 (dk_at dksX2_personLine_0 18 rfl rfl)
theorem dX2_personLine_21 : decode cX2_personLine 21 = .ok (.new 114, 3) := dk_187 0 114 (dk_at dksX2_personLine_0 21 rfl rfl)
theorem dX2_personLine_24 : decode cX2_personLine 24 = .ok (.dup, 1) := dk_89 (dk_at dksX2_personLine_1 0 rfl rfl)
theorem dX2_personLine_25 : decode cX2_personLine 25 = .ok (.aload_n 0, 1) := dk_42 (dk_at dksX2_personLine_1 1 rfl rfl)
theorem dX2_personLine_26 : decode cX2_personLine 26 = .ok (.invokevirtual 170, 3) := dk_182 0 170 (dk_at dksX2_personLine_1 2 rfl rfl)
theorem dX2_personLine_29 : decode cX2_personLine 29 = .ok (.aload_n 0, 1) := dk_42 (dk_at dksX2_personLine_1 5 rfl rfl)
theorem dX2_personLine_30 : decode cX2_personLine 30 = .ok (.getfield 105, 3) := dk_180 0 105 (dk_at dksX2_personLine_1 6 rfl rfl)
theorem dX2_personLine_33 : decode cX2_personLine 33 = .ok (.getfield 136, 3) := dk_180 0 136 (dk_at dksX2_personLine_1 9 rfl rfl)
theorem dX2_personLine_36 : decode cX2_personLine 36 = .ok (.invokespecial 174, 3) := dk_183 0 174 (dk_at dksX2_personLine_1 12 rfl rfl)
theorem dX2_personLine_39 : decode cX2_personLine 39 = .ok (.astore_n 1, 1) := dk_76 (dk_at dksX2_personLine_1 15 rfl rfl)
theorem dX2_personLine_40 : decode cX2_personLine 40 = .ok (.aload_n 0, 1) := dk_42 (dk_at dksX2_personLine_1 16 rfl rfl)
theorem dX2_personLine_41 : decode cX2_personLine 41 = .ok (.ldc 177, 2) := dk_18 177 (dk_at dksX2_personLine_1 17 rfl rfl)
theorem dX2_personLine_43 : decode cX2_personLine 43 = .ok (.invokevirtual 122, 3) := dk_182 0 122 (dk_at dksX2_personLine_1 19 rfl rfl)
theorem dX2_personLine_46 : decode cX2_personLine 46 = .ok (.aload_n 1, 1) := dk_43 (dk_at dksX2_personLine_1 22 rfl rfl)
theorem dX2_personLine_47 : decode cX2_personLine 47 = .ok (.aload_n 0, 1) := dk_42 (dk_at dksX2_personLine_1 23 rfl rfl)
theorem dX2_personLine_48 : decode cX2_personLine 48 = .ok (.iconst 0, 1) := dk_3 (dk_at dksX2_personLine_2 0 rfl rfl)
theorem dX2_personLine_49 : decode cX2_personLine 49 = .ok (.aload_n 0, 1) := dk_42 (dk_at dksX2_personLine_2 1 rfl rfl)
theorem dX2_personLine_50 : decode cX2_personLine 50 = .ok (.getfield 105, 3) := dk_180 0 105 (dk_at dksX2_personLine_2 2 rfl rfl)
theorem dX2_personLine_53 : decode cX2_personLine 53 = .ok (.getfield 129, 3) := dk_180 0 129 (dk_at dksX2_personLine_2 5 rfl rfl)
theorem dX2_personLine_56 : decode cX2_personLine 56 = .ok (.iconst 1, 1) := dk_4 (dk_at dksX2_personLine_2 8 rfl rfl)
theorem dX2_personLine_57 : decode cX2_personLine 57 = .ok (.isub, 1) := dk_100 (dk_at dksX2_personLine_2 9 rfl rfl)
theorem dX2_personLine_58 : decode cX2_personLine 58 = .ok (.invokevirtual 118, 3) := dk_182 0 118 (dk_at dksX2_personLine_2 10 rfl rfl)
theorem dX2_personLine_61 : decode cX2_personLine 61 = .ok (.putfield 179, 3) := dk_181 0 179 (dk_at dksX2_personLine_2 13 rfl rfl)
theorem dX2_personLine_64 : decode cX2_personLine 64 = .ok (.iconst 0, 1) := dk_3 (dk_at dksX2_personLine_2 16 rfl rfl)
theorem dX2_personLine_65 : decode cX2_personLine 65 = .ok (.istore_n 2, 1) := dk_61 (dk_at dksX2_personLine_2 17 rfl rfl)
theorem dX2_personLine_66 : decode cX2_personLine 66 = .ok (.iload_n 2, 1) := dk_28 (dk_at dksX2_personLine_2 18 rfl rfl)
theorem dX2_personLine_67 : decode cX2_personLine 67 = .ok (.aload_n 0, 1) := dk_42 (dk_at dksX2_personLine_2 19 rfl rfl)
theorem dX2_personLine_68 : decode cX2_personLine 68 = .ok (.getfield 105, 3) := dk_180 0 105 (dk_at dksX2_personLine_2 20 rfl rfl)
theorem dX2_personLine_71 : decode cX2_personLine 71 = .ok (.getfield 136, 3) := dk_180 0 136 (dk_at dksX2_personLine_3 0 rfl rfl)
theorem dX2_personLine_74 : decode cX2_personLine 74 = .ok (.if_icmp .ge 34, 3) := dk_162 0 34 (dk_at dksX2_personLine_3 3 rfl rfl)
theorem dX2_personLine_77 : decode cX2_personLine 77 = .ok (.aload_n 0, 1) := dk_42 (dk_at dksX2_personLine_3 6 rfl rfl)
theorem dX2_personLine_78 : decode cX2_personLine 78 = .ok (.getfield 105, 3) := dk_180 0 105 (dk_at dksX2_personLine_3 7 rfl rfl)
theorem dX2_personLine_81 : decode cX2_personLine 81 = .ok (.getfield 182, 3) := dk_180 0 182 (dk_at dksX2_personLine_3 10 rfl rfl)
theorem dX2_personLine_84 : decode cX2_personLine 84 = .ok (.iload_n 2, 1) := dk_28 (dk_at dksX2_personLine_3 13 rfl rfl)
theorem dX2_personLine_85 : decode cX2_personLine 85 = .ok (.aaload, 1) := dk_50 (dk_at dksX2_personLine_3 14 rfl rfl)
theorem dX2_personLine_86 : decode cX2_personLine 86 = .ok (.getfield 179, 3) := dk_180 0 179 (dk_at dksX2_personLine_3 15 rfl rfl)
theorem dX2_personLine_89 : decode cX2_personLine 89 = .ok (.aload_n 1, 1) := dk_43 (dk_at dksX2_personLine_3 18 rfl rfl)
theorem dX2_personLine_90 : decode cX2_personLine 90 = .ok (.getfield 179, 3) := dk_180 0 179 (dk_at dksX2_personLine_3 19 rfl rfl)
theorem dX2_personLine_93 : decode cX2_personLine 93 = .ok (.if_icmp .ne 9, 3) := dk_160 0 9 (dk_at dksX2_personLine_4 0 rfl rfl)
theorem dX2_personLine_96 : decode cX2_personLine 96 = .ok (.aload_n 0, 1) := dk_42 (dk_at dksX2_personLine_4 3 rfl rfl)
theorem dX2_personLine_97 : decode cX2_personLine 97 = .ok (.iconst 3, 1) := dk_6 (dk_at dksX2_personLine_4 4 rfl rfl)
theorem dX2_personLine_98 : decode cX2_personLine 98 = .ok (.invokevirtual 82, 3) := dk_182 0 82 (dk_at dksX2_personLine_4 5 rfl rfl)
theorem dX2_personLine_101 : decode cX2_personLine 101 = .ok (.athrow, 1) := dk_191 (dk_at dksX2_personLine_4 8 rfl rfl)
theorem dX2_personLine_102 : decode cX2_personLine 102 = .ok (.iinc 2 1, 3) := dk_132 2 1 (dk_at dksX2_personLine_4 9 rfl rfl)
theorem dX2_personLine_105 : decode cX2_personLine 105 = .ok (.goto (-39), 3) := dk_167 255 217 (dk_at dksX2_personLine_4 12 rfl rfl)
theorem dX2_personLine_108 : decode cX2_personLine 108 = .ok (.aload_n 0, 1) := dk_42 (dk_at dksX2_personLine_4 15 rfl rfl)
theorem dX2_personLine_109 : decode cX2_personLine 109 = .ok (.invokevirtual 75, 3) := dk_182 0 75 (dk_at dksX2_personLine_4 16 rfl rfl)
theorem dX2_personLine_112 : decode cX2_personLine 112 = .ok (.aload_n 0, 1) := dk_42 (dk_at dksX2_personLine_4 19 rfl rfl)
theorem dX2_personLine_113 : decode cX2_personLine 113 = .ok (.getfield 105, 3) := dk_180 0 105 (dk_at dksX2_personLine_4 20 rfl rfl)
theorem dX2_personLine_116 : decode cX2_personLine 116 = .ok (.getfield 182, 3) := dk_180 0 182 (dk_at dksX2_personLine_5 0 rfl rfl)
theorem dX2_personLine_119 : decode cX2_personLine 119 = .ok (.aload_n 0, 1) := dk_42 (dk_at dksX2_personLine_5 3 rfl rfl)
theorem dX2_personLine_120 : decode cX2_personLine 120 = .ok (.getfield 105, 3) := dk_180 0 105 (dk_at dksX2_personLine_5 4 rfl rfl)
theorem dX2_personLine_123 : decode cX2_personLine 123 = .ok (.getfield 136, 3) := dk_180 0 136 (dk_at dksX2_personLine_5 7 rfl rfl)
theorem dX2_personLine_126 : decode cX2_personLine 126 = .ok (.aload_n 1, 1) := dk_43 (dk_at dksX2_personLine_5 10 rfl rfl)
theorem dX2_personLine_127 : decode cX2_personLine 127 = .ok (.aastore, 1) := dk_83 (dk_at dksX2_personLine_5 11 rfl rfl)
theorem dX2_personLine_128 : decode cX2_personLine 128 = .ok (.aload_n 0, 1) := dk_42 (dk_at dksX2_personLine_5 12 rfl rfl)
theorem dX2_personLine_129 : decode cX2_personLine 129 = .ok (.getfield 105, 3) := dk_180 0 105 (dk_at dksX2_personLine_5 13 rfl rfl)
theorem dX2_personLine_132 : decode cX2_personLine 132 = .ok (.dup, 1) := dk_89 (dk_at dksX2_personLine_5 16 rfl rfl)
theorem dX2_personLine_133 : decode cX2_personLine 133 = .ok (.getfield 136, 3) := dk_180 0 136 (dk_at dksX2_personLine_5 17 rfl rfl)
theorem dX2_personLine_136 : decode cX2_personLine 136 = .ok (.iconst 1, 1) := dk_4 (dk_at dksX2_personLine_5 20 rfl rfl)
theorem dX2_personLine_137 : decode cX2_personLine 137 = .ok (.iadd, 1) := dk_96 (dk_at dksX2_personLine_5 21 rfl rfl)
theorem dX2_personLine_138 : decode cX2_personLine 138 = .ok (.putfield 136, 3) := dk_181 0 136 (dk_at dksX2_personLine_6 0 rfl rfl)
theorem dX2_personLine_141 : decode cX2_personLine 141 = .ok (.return_, 1) := dk_177 (dk_at dksX2_personLine_6 3 rfl rfl)
abbrev cX2_begins : ByteArray := prog_9_method_16_code
def yX2_begins : MethodName := ⟨RX2, "begins", "(Z)V"⟩
def dkwX2_begins_1 : List UInt8 := [182, 0, 82, 191, 42, 182, 0, 75, 177]
abbrev dktX2_begins_1 : List UInt8 := dkwX2_begins_1 ++ []
def dkwX2_begins_0 : List UInt8 := [27, 154, 0, 9, 42, 8, 182, 0, 82, 191, 42, 180, 0, 105, 180, 0, 129, 154, 0, 10, 42, 16, 6]
abbrev dktX2_begins_0 : List UInt8 := dkwX2_begins_0 ++ dktX2_begins_1
theorem dksX2_begins_0 : cX2_begins.data.toList.drop 0 = dktX2_begins_0 := by decide +kernel
theorem dksX2_begins_1 : cX2_begins.data.toList.drop 23 = dktX2_begins_1 := dk_seg dksX2_begins_0 23 rfl rfl
theorem dX2_begins_0 : decode cX2_begins 0 = .ok (.iload_n 1, 1) := dk_27 (dk_at dksX2_begins_0 0 rfl rfl)
theorem dX2_begins_1 : decode cX2_begins 1 = .ok (.ifCond .ne 9, 3) := dk_154 0 9 (dk_at dksX2_begins_0 1 rfl rfl)
theorem dX2_begins_4 : decode cX2_begins 4 = .ok (.aload_n 0, 1) := dk_42 (dk_at dksX2_begins_0 4 rfl rfl)
theorem dX2_begins_5 : decode cX2_begins 5 = .ok (.iconst 5, 1) := dk_8 (dk_at dksX2_begins_0 5 rfl rfl)
theorem dX2_begins_6 : decode cX2_begins 6 = .ok (.invokevirtual 82, 3) := dk_182 0 82 (dk_at dksX2_begins_0 6 rfl rfl)
theorem dX2_begins_9 : decode cX2_begins 9 = .ok (.athrow, 1) := dk_191 (dk_at dksX2_begins_0 9 rfl rfl)
theorem dX2_begins_10 : decode cX2_begins 10 = .ok (.aload_n 0, 1) := dk_42 (dk_at dksX2_begins_0 10 rfl rfl)
theorem dX2_begins_11 : decode cX2_begins 11 = .ok (.getfield 105, 3) := dk_180 0 105 (dk_at dksX2_begins_0 11 rfl rfl)
theorem dX2_begins_14 : decode cX2_begins 14 = .ok (.getfield 129, 3) := dk_180 0 129 (dk_at dksX2_begins_0 14 rfl rfl)
theorem dX2_begins_17 : decode cX2_begins 17 = .ok (.ifCond .ne 10, 3) := dk_154 0 10 (dk_at dksX2_begins_0 17 rfl rfl)
theorem dX2_begins_20 : decode cX2_begins 20 = .ok (.aload_n 0, 1) := dk_42 (dk_at dksX2_begins_0 20 rfl rfl)
theorem dX2_begins_21 : decode cX2_begins 21 = .ok (.bipush 6, 2) := dk_16 6 (dk_at dksX2_begins_0 21 rfl rfl)
theorem dX2_begins_23 : decode cX2_begins 23 = .ok (.invokevirtual 82, 3) := dk_182 0 82 (dk_at dksX2_begins_1 0 rfl rfl)
theorem dX2_begins_26 : decode cX2_begins 26 = .ok (.athrow, 1) := dk_191 (dk_at dksX2_begins_1 3 rfl rfl)
theorem dX2_begins_27 : decode cX2_begins 27 = .ok (.aload_n 0, 1) := dk_42 (dk_at dksX2_begins_1 4 rfl rfl)
theorem dX2_begins_28 : decode cX2_begins 28 = .ok (.invokevirtual 75, 3) := dk_182 0 75 (dk_at dksX2_begins_1 5 rfl rfl)
theorem dX2_begins_31 : decode cX2_begins 31 = .ok (.return_, 1) := dk_177 (dk_at dksX2_begins_1 8 rfl rfl)
abbrev cX2_newName : ByteArray := prog_9_method_10_code
def yX2_newName : MethodName := ⟨RX2, "newName", "()Ljava/lang/String;"⟩
def dkwX2_newName_1 : List UInt8 := [42, 180, 0, 61, 76, 42, 182, 0, 75, 43, 176]
abbrev dktX2_newName_1 : List UInt8 := dkwX2_newName_1 ++ []
def dkwX2_newName_0 : List UInt8 := [42, 182, 0, 102, 42, 180, 0, 105, 42, 180, 0, 61, 182, 0, 108, 198, 0, 9, 42, 6, 182, 0, 82, 191]
abbrev dktX2_newName_0 : List UInt8 := dkwX2_newName_0 ++ dktX2_newName_1
theorem dksX2_newName_0 : cX2_newName.data.toList.drop 0 = dktX2_newName_0 := by decide +kernel
theorem dksX2_newName_1 : cX2_newName.data.toList.drop 24 = dktX2_newName_1 := dk_seg dksX2_newName_0 24 rfl rfl
theorem dX2_newName_0 : decode cX2_newName 0 = .ok (.aload_n 0, 1) := dk_42 (dk_at dksX2_newName_0 0 rfl rfl)
theorem dX2_newName_1 : decode cX2_newName 1 = .ok (.invokevirtual 102, 3) := dk_182 0 102 (dk_at dksX2_newName_0 1 rfl rfl)
theorem dX2_newName_4 : decode cX2_newName 4 = .ok (.aload_n 0, 1) := dk_42 (dk_at dksX2_newName_0 4 rfl rfl)
theorem dX2_newName_5 : decode cX2_newName 5 = .ok (.getfield 105, 3) := dk_180 0 105 (dk_at dksX2_newName_0 5 rfl rfl)
theorem dX2_newName_8 : decode cX2_newName 8 = .ok (.aload_n 0, 1) := dk_42 (dk_at dksX2_newName_0 8 rfl rfl)
theorem dX2_newName_9 : decode cX2_newName 9 = .ok (.getfield 61, 3) := dk_180 0 61 (dk_at dksX2_newName_0 9 rfl rfl)
theorem dX2_newName_12 : decode cX2_newName 12 = .ok (.invokevirtual 108, 3) := dk_182 0 108 (dk_at dksX2_newName_0 12 rfl rfl)
theorem dX2_newName_15 : decode cX2_newName 15 = .ok (.ifnull 9, 3) := dk_198 0 9 (dk_at dksX2_newName_0 15 rfl rfl)
theorem dX2_newName_18 : decode cX2_newName 18 = .ok (.aload_n 0, 1) := dk_42 (dk_at dksX2_newName_0 18 rfl rfl)
theorem dX2_newName_19 : decode cX2_newName 19 = .ok (.iconst 3, 1) := dk_6 (dk_at dksX2_newName_0 19 rfl rfl)
theorem dX2_newName_20 : decode cX2_newName 20 = .ok (.invokevirtual 82, 3) := dk_182 0 82 (dk_at dksX2_newName_0 20 rfl rfl)
theorem dX2_newName_23 : decode cX2_newName 23 = .ok (.athrow, 1) := dk_191 (dk_at dksX2_newName_0 23 rfl rfl)
theorem dX2_newName_24 : decode cX2_newName 24 = .ok (.aload_n 0, 1) := dk_42 (dk_at dksX2_newName_1 0 rfl rfl)
theorem dX2_newName_25 : decode cX2_newName 25 = .ok (.getfield 61, 3) := dk_180 0 61 (dk_at dksX2_newName_1 1 rfl rfl)
theorem dX2_newName_28 : decode cX2_newName 28 = .ok (.astore_n 1, 1) := dk_76 (dk_at dksX2_newName_1 4 rfl rfl)
theorem dX2_newName_29 : decode cX2_newName 29 = .ok (.aload_n 0, 1) := dk_42 (dk_at dksX2_newName_1 5 rfl rfl)
theorem dX2_newName_30 : decode cX2_newName 30 = .ok (.invokevirtual 75, 3) := dk_182 0 75 (dk_at dksX2_newName_1 6 rfl rfl)
theorem dX2_newName_33 : decode cX2_newName 33 = .ok (.aload_n 1, 1) := dk_43 (dk_at dksX2_newName_1 9 rfl rfl)
theorem dX2_newName_34 : decode cX2_newName 34 = .ok (.areturn, 1) := dk_176 (dk_at dksX2_newName_1 10 rfl rfl)
abbrev cX2_mustName : ByteArray := prog_9_method_9_code
def yX2_mustName : MethodName := ⟨RX2, "mustName", "()V"⟩
def dkwX2_mustName_8 : List UInt8 := [42, 4, 182, 0, 82, 191, 177]
abbrev dktX2_mustName_8 : List UInt8 := dkwX2_mustName_8 ++ []
def dkwX2_mustName_7 : List UInt8 := [170, 0, 0, 0, 0, 44, 0, 0, 0, 0, 0, 0, 0, 5, 0, 0, 0, 38, 0, 0, 0, 38, 0, 0, 0, 38, 0, 0, 0, 38, 0, 0, 0, 38, 0, 0, 0, 38]
abbrev dktX2_mustName_7 : List UInt8 := dkwX2_mustName_7 ++ dktX2_mustName_8
def dkwX2_mustName_6 : List UInt8 := [18, 100, 182, 0, 71, 153, 0, 5, 8, 61, 28]
abbrev dktX2_mustName_6 : List UInt8 := dkwX2_mustName_6 ++ dktX2_mustName_7
def dkwX2_mustName_5 : List UInt8 := [153, 0, 33, 6, 61, 167, 0, 28, 43, 18, 98, 182, 0, 71, 153, 0, 19, 7, 61, 167, 0, 14, 43]
abbrev dktX2_mustName_5 : List UInt8 := dkwX2_mustName_5 ++ dktX2_mustName_6
def dkwX2_mustName_4 : List UInt8 := [61, 167, 0, 56, 43, 18, 94, 182, 0, 71, 153, 0, 47, 5, 61, 167, 0, 42, 43, 18, 96, 182, 0, 71]
abbrev dktX2_mustName_4 : List UInt8 := dkwX2_mustName_4 ++ dktX2_mustName_5
def dkwX2_mustName_3 : List UInt8 := [43, 18, 90, 182, 0, 71, 153, 0, 75, 3, 61, 167, 0, 70, 43, 18, 92, 182, 0, 71, 153, 0, 61, 4]
abbrev dktX2_mustName_3 : List UInt8 := dkwX2_mustName_3 ++ dktX2_mustName_4
def dkwX2_mustName_2 : List UInt8 := [171, 0, 0, 0, 0, 0, 140, 0, 0, 0, 6, 191, 253, 107, 191, 0, 0, 0, 101, 196, 227, 155, 85, 0, 0, 0, 73, 205, 235, 38, 46, 0, 0, 0, 115, 0, 46, 252, 100, 0, 0, 0, 87, 0, 54, 106, 146, 0, 0, 0, 59, 5, 232, 240, 54, 0, 0, 0, 129]
abbrev dktX2_mustName_2 : List UInt8 := dkwX2_mustName_2 ++ dktX2_mustName_3
def dkwX2_mustName_1 : List UInt8 := [182, 0, 86]
abbrev dktX2_mustName_1 : List UInt8 := dkwX2_mustName_1 ++ dktX2_mustName_2
def dkwX2_mustName_0 : List UInt8 := [42, 180, 0, 47, 5, 159, 0, 9, 42, 4, 182, 0, 82, 191, 42, 180, 0, 61, 76, 2, 61, 43]
abbrev dktX2_mustName_0 : List UInt8 := dkwX2_mustName_0 ++ dktX2_mustName_1
theorem dksX2_mustName_0 : cX2_mustName.data.toList.drop 0 = dktX2_mustName_0 := by decide +kernel
theorem dksX2_mustName_1 : cX2_mustName.data.toList.drop 22 = dktX2_mustName_1 := dk_seg dksX2_mustName_0 22 rfl rfl
theorem dksX2_mustName_2 : cX2_mustName.data.toList.drop 25 = dktX2_mustName_2 := dk_seg dksX2_mustName_1 3 rfl rfl
theorem dksX2_mustName_3 : cX2_mustName.data.toList.drop 84 = dktX2_mustName_3 := dk_seg dksX2_mustName_2 59 rfl rfl
theorem dksX2_mustName_4 : cX2_mustName.data.toList.drop 108 = dktX2_mustName_4 := dk_seg dksX2_mustName_3 24 rfl rfl
theorem dksX2_mustName_5 : cX2_mustName.data.toList.drop 132 = dktX2_mustName_5 := dk_seg dksX2_mustName_4 24 rfl rfl
theorem dksX2_mustName_6 : cX2_mustName.data.toList.drop 155 = dktX2_mustName_6 := dk_seg dksX2_mustName_5 23 rfl rfl
theorem dksX2_mustName_7 : cX2_mustName.data.toList.drop 166 = dktX2_mustName_7 := dk_seg dksX2_mustName_6 11 rfl rfl
theorem dksX2_mustName_8 : cX2_mustName.data.toList.drop 204 = dktX2_mustName_8 := dk_seg dksX2_mustName_7 38 rfl rfl
theorem dX2_mustName_0 : decode cX2_mustName 0 = .ok (.aload_n 0, 1) := dk_42 (dk_at dksX2_mustName_0 0 rfl rfl)
theorem dX2_mustName_1 : decode cX2_mustName 1 = .ok (.getfield 47, 3) := dk_180 0 47 (dk_at dksX2_mustName_0 1 rfl rfl)
theorem dX2_mustName_4 : decode cX2_mustName 4 = .ok (.iconst 2, 1) := dk_5 (dk_at dksX2_mustName_0 4 rfl rfl)
theorem dX2_mustName_5 : decode cX2_mustName 5 = .ok (.if_icmp .eq 9, 3) := dk_159 0 9 (dk_at dksX2_mustName_0 5 rfl rfl)
theorem dX2_mustName_8 : decode cX2_mustName 8 = .ok (.aload_n 0, 1) := dk_42 (dk_at dksX2_mustName_0 8 rfl rfl)
theorem dX2_mustName_9 : decode cX2_mustName 9 = .ok (.iconst 1, 1) := dk_4 (dk_at dksX2_mustName_0 9 rfl rfl)
theorem dX2_mustName_10 : decode cX2_mustName 10 = .ok (.invokevirtual 82, 3) := dk_182 0 82 (dk_at dksX2_mustName_0 10 rfl rfl)
theorem dX2_mustName_13 : decode cX2_mustName 13 = .ok (.athrow, 1) := dk_191 (dk_at dksX2_mustName_0 13 rfl rfl)
theorem dX2_mustName_14 : decode cX2_mustName 14 = .ok (.aload_n 0, 1) := dk_42 (dk_at dksX2_mustName_0 14 rfl rfl)
theorem dX2_mustName_15 : decode cX2_mustName 15 = .ok (.getfield 61, 3) := dk_180 0 61 (dk_at dksX2_mustName_0 15 rfl rfl)
theorem dX2_mustName_18 : decode cX2_mustName 18 = .ok (.astore_n 1, 1) := dk_76 (dk_at dksX2_mustName_0 18 rfl rfl)
theorem dX2_mustName_19 : decode cX2_mustName 19 = .ok (.iconst (-1), 1) := dk_2 (dk_at dksX2_mustName_0 19 rfl rfl)
theorem dX2_mustName_20 : decode cX2_mustName 20 = .ok (.istore_n 2, 1) := dk_61 (dk_at dksX2_mustName_0 20 rfl rfl)
theorem dX2_mustName_21 : decode cX2_mustName 21 = .ok (.aload_n 1, 1) := dk_43 (dk_at dksX2_mustName_0 21 rfl rfl)
theorem dX2_mustName_22 : decode cX2_mustName 22 = .ok (.invokevirtual 86, 3) := dk_182 0 86 (dk_at dksX2_mustName_1 0 rfl rfl)
theorem dX2_mustName_25 : decode cX2_mustName 25 = .ok (.lookupswitch 140 #[(-1073910849, 101), (-991716523, 73), (-840227282, 115), (3079268, 87), (3566226, 59), (99151926, 129)], 59) := by decide +kernel
theorem dX2_mustName_84 : decode cX2_mustName 84 = .ok (.aload_n 1, 1) := dk_43 (dk_at dksX2_mustName_3 0 rfl rfl)
theorem dX2_mustName_85 : decode cX2_mustName 85 = .ok (.ldc 90, 2) := dk_18 90 (dk_at dksX2_mustName_3 1 rfl rfl)
theorem dX2_mustName_87 : decode cX2_mustName 87 = .ok (.invokevirtual 71, 3) := dk_182 0 71 (dk_at dksX2_mustName_3 3 rfl rfl)
theorem dX2_mustName_90 : decode cX2_mustName 90 = .ok (.ifCond .eq 75, 3) := dk_153 0 75 (dk_at dksX2_mustName_3 6 rfl rfl)
theorem dX2_mustName_93 : decode cX2_mustName 93 = .ok (.iconst 0, 1) := dk_3 (dk_at dksX2_mustName_3 9 rfl rfl)
theorem dX2_mustName_94 : decode cX2_mustName 94 = .ok (.istore_n 2, 1) := dk_61 (dk_at dksX2_mustName_3 10 rfl rfl)
theorem dX2_mustName_95 : decode cX2_mustName 95 = .ok (.goto 70, 3) := dk_167 0 70 (dk_at dksX2_mustName_3 11 rfl rfl)
theorem dX2_mustName_98 : decode cX2_mustName 98 = .ok (.aload_n 1, 1) := dk_43 (dk_at dksX2_mustName_3 14 rfl rfl)
theorem dX2_mustName_99 : decode cX2_mustName 99 = .ok (.ldc 92, 2) := dk_18 92 (dk_at dksX2_mustName_3 15 rfl rfl)
theorem dX2_mustName_101 : decode cX2_mustName 101 = .ok (.invokevirtual 71, 3) := dk_182 0 71 (dk_at dksX2_mustName_3 17 rfl rfl)
theorem dX2_mustName_104 : decode cX2_mustName 104 = .ok (.ifCond .eq 61, 3) := dk_153 0 61 (dk_at dksX2_mustName_3 20 rfl rfl)
theorem dX2_mustName_107 : decode cX2_mustName 107 = .ok (.iconst 1, 1) := dk_4 (dk_at dksX2_mustName_3 23 rfl rfl)
theorem dX2_mustName_108 : decode cX2_mustName 108 = .ok (.istore_n 2, 1) := dk_61 (dk_at dksX2_mustName_4 0 rfl rfl)
theorem dX2_mustName_109 : decode cX2_mustName 109 = .ok (.goto 56, 3) := dk_167 0 56 (dk_at dksX2_mustName_4 1 rfl rfl)
theorem dX2_mustName_112 : decode cX2_mustName 112 = .ok (.aload_n 1, 1) := dk_43 (dk_at dksX2_mustName_4 4 rfl rfl)
theorem dX2_mustName_113 : decode cX2_mustName 113 = .ok (.ldc 94, 2) := dk_18 94 (dk_at dksX2_mustName_4 5 rfl rfl)
theorem dX2_mustName_115 : decode cX2_mustName 115 = .ok (.invokevirtual 71, 3) := dk_182 0 71 (dk_at dksX2_mustName_4 7 rfl rfl)
theorem dX2_mustName_118 : decode cX2_mustName 118 = .ok (.ifCond .eq 47, 3) := dk_153 0 47 (dk_at dksX2_mustName_4 10 rfl rfl)
theorem dX2_mustName_121 : decode cX2_mustName 121 = .ok (.iconst 2, 1) := dk_5 (dk_at dksX2_mustName_4 13 rfl rfl)
theorem dX2_mustName_122 : decode cX2_mustName 122 = .ok (.istore_n 2, 1) := dk_61 (dk_at dksX2_mustName_4 14 rfl rfl)
theorem dX2_mustName_123 : decode cX2_mustName 123 = .ok (.goto 42, 3) := dk_167 0 42 (dk_at dksX2_mustName_4 15 rfl rfl)
theorem dX2_mustName_126 : decode cX2_mustName 126 = .ok (.aload_n 1, 1) := dk_43 (dk_at dksX2_mustName_4 18 rfl rfl)
theorem dX2_mustName_127 : decode cX2_mustName 127 = .ok (.ldc 96, 2) := dk_18 96 (dk_at dksX2_mustName_4 19 rfl rfl)
theorem dX2_mustName_129 : decode cX2_mustName 129 = .ok (.invokevirtual 71, 3) := dk_182 0 71 (dk_at dksX2_mustName_4 21 rfl rfl)
theorem dX2_mustName_132 : decode cX2_mustName 132 = .ok (.ifCond .eq 33, 3) := dk_153 0 33 (dk_at dksX2_mustName_5 0 rfl rfl)
theorem dX2_mustName_135 : decode cX2_mustName 135 = .ok (.iconst 3, 1) := dk_6 (dk_at dksX2_mustName_5 3 rfl rfl)
theorem dX2_mustName_136 : decode cX2_mustName 136 = .ok (.istore_n 2, 1) := dk_61 (dk_at dksX2_mustName_5 4 rfl rfl)
theorem dX2_mustName_137 : decode cX2_mustName 137 = .ok (.goto 28, 3) := dk_167 0 28 (dk_at dksX2_mustName_5 5 rfl rfl)
theorem dX2_mustName_140 : decode cX2_mustName 140 = .ok (.aload_n 1, 1) := dk_43 (dk_at dksX2_mustName_5 8 rfl rfl)
theorem dX2_mustName_141 : decode cX2_mustName 141 = .ok (.ldc 98, 2) := dk_18 98 (dk_at dksX2_mustName_5 9 rfl rfl)
theorem dX2_mustName_143 : decode cX2_mustName 143 = .ok (.invokevirtual 71, 3) := dk_182 0 71 (dk_at dksX2_mustName_5 11 rfl rfl)
theorem dX2_mustName_146 : decode cX2_mustName 146 = .ok (.ifCond .eq 19, 3) := dk_153 0 19 (dk_at dksX2_mustName_5 14 rfl rfl)
theorem dX2_mustName_149 : decode cX2_mustName 149 = .ok (.iconst 4, 1) := dk_7 (dk_at dksX2_mustName_5 17 rfl rfl)
theorem dX2_mustName_150 : decode cX2_mustName 150 = .ok (.istore_n 2, 1) := dk_61 (dk_at dksX2_mustName_5 18 rfl rfl)
theorem dX2_mustName_151 : decode cX2_mustName 151 = .ok (.goto 14, 3) := dk_167 0 14 (dk_at dksX2_mustName_5 19 rfl rfl)
theorem dX2_mustName_154 : decode cX2_mustName 154 = .ok (.aload_n 1, 1) := dk_43 (dk_at dksX2_mustName_5 22 rfl rfl)
theorem dX2_mustName_155 : decode cX2_mustName 155 = .ok (.ldc 100, 2) := dk_18 100 (dk_at dksX2_mustName_6 0 rfl rfl)
theorem dX2_mustName_157 : decode cX2_mustName 157 = .ok (.invokevirtual 71, 3) := dk_182 0 71 (dk_at dksX2_mustName_6 2 rfl rfl)
theorem dX2_mustName_160 : decode cX2_mustName 160 = .ok (.ifCond .eq 5, 3) := dk_153 0 5 (dk_at dksX2_mustName_6 5 rfl rfl)
theorem dX2_mustName_163 : decode cX2_mustName 163 = .ok (.iconst 5, 1) := dk_8 (dk_at dksX2_mustName_6 8 rfl rfl)
theorem dX2_mustName_164 : decode cX2_mustName 164 = .ok (.istore_n 2, 1) := dk_61 (dk_at dksX2_mustName_6 9 rfl rfl)
theorem dX2_mustName_165 : decode cX2_mustName 165 = .ok (.iload_n 2, 1) := dk_28 (dk_at dksX2_mustName_6 10 rfl rfl)
theorem dX2_mustName_166 : decode cX2_mustName 166 = .ok (.tableswitch 44 0 5 #[38, 38, 38, 38, 38, 38], 38) := by decide +kernel
theorem dX2_mustName_204 : decode cX2_mustName 204 = .ok (.aload_n 0, 1) := dk_42 (dk_at dksX2_mustName_8 0 rfl rfl)
theorem dX2_mustName_205 : decode cX2_mustName 205 = .ok (.iconst 1, 1) := dk_4 (dk_at dksX2_mustName_8 1 rfl rfl)
theorem dX2_mustName_206 : decode cX2_mustName 206 = .ok (.invokevirtual 82, 3) := dk_182 0 82 (dk_at dksX2_mustName_8 2 rfl rfl)
theorem dX2_mustName_209 : decode cX2_mustName 209 = .ok (.athrow, 1) := dk_191 (dk_at dksX2_mustName_8 5 rfl rfl)
theorem dX2_mustName_210 : decode cX2_mustName 210 = .ok (.return_, 1) := dk_177 (dk_at dksX2_mustName_8 6 rfl rfl)
abbrev cX2_deadLine : ByteArray := prog_9_method_22_code
def yX2_deadLine : MethodName := ⟨RX2, "deadLine", "()V"⟩
def dkwX2_deadLine_4 : List UInt8 := [181, 0, 206, 177]
abbrev dktX2_deadLine_4 : List UInt8 := dkwX2_deadLine_4 ++ []
def dkwX2_deadLine_3 : List UInt8 := [180, 0, 228, 42, 180, 0, 105, 180, 0, 206, 43, 83, 42, 180, 0, 105, 89, 180, 0, 206, 4, 96]
abbrev dktX2_deadLine_3 : List UInt8 := dkwX2_deadLine_3 ++ dktX2_deadLine_4
def dkwX2_deadLine_2 : List UInt8 := [181, 0, 215, 42, 18, 217, 182, 0, 122, 43, 42, 182, 0, 219, 180, 0, 223, 181, 0, 225, 42, 180, 0, 105]
abbrev dktX2_deadLine_2 : List UInt8 := dkwX2_deadLine_2 ++ dktX2_deadLine_3
def dkwX2_deadLine_1 : List UInt8 := [182, 0, 170, 42, 180, 0, 105, 180, 0, 206, 182, 0, 209, 76, 43, 42, 18, 213, 3, 16, 39, 182, 0, 158]
abbrev dktX2_deadLine_1 : List UInt8 := dkwX2_deadLine_1 ++ dktX2_deadLine_2
def dkwX2_deadLine_0 : List UInt8 := [42, 42, 180, 0, 105, 180, 0, 206, 16, 6, 162, 0, 7, 4, 167, 0, 4, 3, 182, 0, 166, 42, 42]
abbrev dktX2_deadLine_0 : List UInt8 := dkwX2_deadLine_0 ++ dktX2_deadLine_1
theorem dksX2_deadLine_0 : cX2_deadLine.data.toList.drop 0 = dktX2_deadLine_0 := by decide +kernel
theorem dksX2_deadLine_1 : cX2_deadLine.data.toList.drop 23 = dktX2_deadLine_1 := dk_seg dksX2_deadLine_0 23 rfl rfl
theorem dksX2_deadLine_2 : cX2_deadLine.data.toList.drop 47 = dktX2_deadLine_2 := dk_seg dksX2_deadLine_1 24 rfl rfl
theorem dksX2_deadLine_3 : cX2_deadLine.data.toList.drop 71 = dktX2_deadLine_3 := dk_seg dksX2_deadLine_2 24 rfl rfl
theorem dksX2_deadLine_4 : cX2_deadLine.data.toList.drop 93 = dktX2_deadLine_4 := dk_seg dksX2_deadLine_3 22 rfl rfl
theorem dX2_deadLine_0 : decode cX2_deadLine 0 = .ok (.aload_n 0, 1) := dk_42 (dk_at dksX2_deadLine_0 0 rfl rfl)
theorem dX2_deadLine_1 : decode cX2_deadLine 1 = .ok (.aload_n 0, 1) := dk_42 (dk_at dksX2_deadLine_0 1 rfl rfl)
theorem dX2_deadLine_2 : decode cX2_deadLine 2 = .ok (.getfield 105, 3) := dk_180 0 105 (dk_at dksX2_deadLine_0 2 rfl rfl)
theorem dX2_deadLine_5 : decode cX2_deadLine 5 = .ok (.getfield 206, 3) := dk_180 0 206 (dk_at dksX2_deadLine_0 5 rfl rfl)
theorem dX2_deadLine_8 : decode cX2_deadLine 8 = .ok (.bipush 6, 2) := dk_16 6 (dk_at dksX2_deadLine_0 8 rfl rfl)
theorem dX2_deadLine_10 : decode cX2_deadLine 10 = .ok (.if_icmp .ge 7, 3) := dk_162 0 7 (dk_at dksX2_deadLine_0 10 rfl rfl)
theorem dX2_deadLine_13 : decode cX2_deadLine 13 = .ok (.iconst 1, 1) := dk_4 (dk_at dksX2_deadLine_0 13 rfl rfl)
theorem dX2_deadLine_14 : decode cX2_deadLine 14 = .ok (.goto 4, 3) := dk_167 0 4 (dk_at dksX2_deadLine_0 14 rfl rfl)
theorem dX2_deadLine_17 : decode cX2_deadLine 17 = .ok (.iconst 0, 1) := dk_3 (dk_at dksX2_deadLine_0 17 rfl rfl)
theorem dX2_deadLine_18 : decode cX2_deadLine 18 = .ok (.invokevirtual 166, 3) := dk_182 0 166 (dk_at dksX2_deadLine_0 18 rfl rfl)
theorem dX2_deadLine_21 : decode cX2_deadLine 21 = .ok (.aload_n 0, 1) := dk_42 (dk_at dksX2_deadLine_0 21 rfl rfl)
theorem dX2_deadLine_22 : decode cX2_deadLine 22 = .ok (.aload_n 0, 1) := dk_42 (dk_at dksX2_deadLine_0 22 rfl rfl)
theorem dX2_deadLine_23 : decode cX2_deadLine 23 = .ok (.invokevirtual 170, 3) := dk_182 0 170 (dk_at dksX2_deadLine_1 0 rfl rfl)
theorem dX2_deadLine_26 : decode cX2_deadLine 26 = .ok (.aload_n 0, 1) := dk_42 (dk_at dksX2_deadLine_1 3 rfl rfl)
theorem dX2_deadLine_27 : decode cX2_deadLine 27 = .ok (.getfield 105, 3) := dk_180 0 105 (dk_at dksX2_deadLine_1 4 rfl rfl)
theorem dX2_deadLine_30 : decode cX2_deadLine 30 = .ok (.getfield 206, 3) := dk_180 0 206 (dk_at dksX2_deadLine_1 7 rfl rfl)
theorem dX2_deadLine_33 : decode cX2_deadLine 33 = .ok (.invokevirtual 209, 3) := dk_182 0 209 (dk_at dksX2_deadLine_1 10 rfl rfl)
theorem dX2_deadLine_36 : decode cX2_deadLine 36 = .ok (.astore_n 1, 1) := dk_76 (dk_at dksX2_deadLine_1 13 rfl rfl)
theorem dX2_deadLine_37 : decode cX2_deadLine 37 = .ok (.aload_n 1, 1) := dk_43 (dk_at dksX2_deadLine_1 14 rfl rfl)
theorem dX2_deadLine_38 : decode cX2_deadLine 38 = .ok (.aload_n 0, 1) := dk_42 (dk_at dksX2_deadLine_1 15 rfl rfl)
theorem dX2_deadLine_39 : decode cX2_deadLine 39 = .ok (.ldc 213, 2) := dk_18 213 (dk_at dksX2_deadLine_1 16 rfl rfl)
theorem dX2_deadLine_41 : decode cX2_deadLine 41 = .ok (.iconst 0, 1) := dk_3 (dk_at dksX2_deadLine_1 18 rfl rfl)
theorem dX2_deadLine_42 : decode cX2_deadLine 42 = .ok (.bipush 39, 2) := dk_16 39 (dk_at dksX2_deadLine_1 19 rfl rfl)
theorem dX2_deadLine_44 : decode cX2_deadLine 44 = .ok (.invokevirtual 158, 3) := dk_182 0 158 (dk_at dksX2_deadLine_1 21 rfl rfl)
theorem dX2_deadLine_47 : decode cX2_deadLine 47 = .ok (.putfield 215, 3) := dk_181 0 215 (dk_at dksX2_deadLine_2 0 rfl rfl)
theorem dX2_deadLine_50 : decode cX2_deadLine 50 = .ok (.aload_n 0, 1) := dk_42 (dk_at dksX2_deadLine_2 3 rfl rfl)
theorem dX2_deadLine_51 : decode cX2_deadLine 51 = .ok (.ldc 217, 2) := dk_18 217 (dk_at dksX2_deadLine_2 4 rfl rfl)
theorem dX2_deadLine_53 : decode cX2_deadLine 53 = .ok (.invokevirtual 122, 3) := dk_182 0 122 (dk_at dksX2_deadLine_2 6 rfl rfl)
theorem dX2_deadLine_56 : decode cX2_deadLine 56 = .ok (.aload_n 1, 1) := dk_43 (dk_at dksX2_deadLine_2 9 rfl rfl)
theorem dX2_deadLine_57 : decode cX2_deadLine 57 = .ok (.aload_n 0, 1) := dk_42 (dk_at dksX2_deadLine_2 10 rfl rfl)
theorem dX2_deadLine_58 : decode cX2_deadLine 58 = .ok (.invokevirtual 219, 3) := dk_182 0 219 (dk_at dksX2_deadLine_2 11 rfl rfl)
theorem dX2_deadLine_61 : decode cX2_deadLine 61 = .ok (.getfield 223, 3) := dk_180 0 223 (dk_at dksX2_deadLine_2 14 rfl rfl)
theorem dX2_deadLine_64 : decode cX2_deadLine 64 = .ok (.putfield 225, 3) := dk_181 0 225 (dk_at dksX2_deadLine_2 17 rfl rfl)
theorem dX2_deadLine_67 : decode cX2_deadLine 67 = .ok (.aload_n 0, 1) := dk_42 (dk_at dksX2_deadLine_2 20 rfl rfl)
theorem dX2_deadLine_68 : decode cX2_deadLine 68 = .ok (.getfield 105, 3) := dk_180 0 105 (dk_at dksX2_deadLine_2 21 rfl rfl)
theorem dX2_deadLine_71 : decode cX2_deadLine 71 = .ok (.getfield 228, 3) := dk_180 0 228 (dk_at dksX2_deadLine_3 0 rfl rfl)
theorem dX2_deadLine_74 : decode cX2_deadLine 74 = .ok (.aload_n 0, 1) := dk_42 (dk_at dksX2_deadLine_3 3 rfl rfl)
theorem dX2_deadLine_75 : decode cX2_deadLine 75 = .ok (.getfield 105, 3) := dk_180 0 105 (dk_at dksX2_deadLine_3 4 rfl rfl)
theorem dX2_deadLine_78 : decode cX2_deadLine 78 = .ok (.getfield 206, 3) := dk_180 0 206 (dk_at dksX2_deadLine_3 7 rfl rfl)
theorem dX2_deadLine_81 : decode cX2_deadLine 81 = .ok (.aload_n 1, 1) := dk_43 (dk_at dksX2_deadLine_3 10 rfl rfl)
theorem dX2_deadLine_82 : decode cX2_deadLine 82 = .ok (.aastore, 1) := dk_83 (dk_at dksX2_deadLine_3 11 rfl rfl)
theorem dX2_deadLine_83 : decode cX2_deadLine 83 = .ok (.aload_n 0, 1) := dk_42 (dk_at dksX2_deadLine_3 12 rfl rfl)
theorem dX2_deadLine_84 : decode cX2_deadLine 84 = .ok (.getfield 105, 3) := dk_180 0 105 (dk_at dksX2_deadLine_3 13 rfl rfl)
theorem dX2_deadLine_87 : decode cX2_deadLine 87 = .ok (.dup, 1) := dk_89 (dk_at dksX2_deadLine_3 16 rfl rfl)
theorem dX2_deadLine_88 : decode cX2_deadLine 88 = .ok (.getfield 206, 3) := dk_180 0 206 (dk_at dksX2_deadLine_3 17 rfl rfl)
theorem dX2_deadLine_91 : decode cX2_deadLine 91 = .ok (.iconst 1, 1) := dk_4 (dk_at dksX2_deadLine_3 20 rfl rfl)
theorem dX2_deadLine_92 : decode cX2_deadLine 92 = .ok (.iadd, 1) := dk_96 (dk_at dksX2_deadLine_3 21 rfl rfl)
theorem dX2_deadLine_93 : decode cX2_deadLine 93 = .ok (.putfield 206, 3) := dk_181 0 206 (dk_at dksX2_deadLine_4 0 rfl rfl)
theorem dX2_deadLine_96 : decode cX2_deadLine 96 = .ok (.return_, 1) := dk_177 (dk_at dksX2_deadLine_4 3 rfl rfl)
abbrev cX2_ghostOf : ByteArray := prog_9_method_21_code
def yX2_ghostOf : MethodName := ⟨RX2, "ghostOf", "(Ljava/lang/String;I)LSeanceStreet$Ghost;"⟩
def dkwX2_ghostOf_3 : List UInt8 := [28, 183, 0, 205, 176]
abbrev dktX2_ghostOf_3 : List UInt8 := dkwX2_ghostOf_3 ++ []
def dkwX2_ghostOf_2 : List UInt8 := [153, 0, 13, 187, 0, 198, 89, 43, 28, 183, 0, 200, 176, 42, 18, 201, 182, 0, 122, 187, 0, 203, 89, 43]
abbrev dktX2_ghostOf_2 : List UInt8 := dkwX2_ghostOf_2 ++ dktX2_ghostOf_3
def dkwX2_ghostOf_1 : List UInt8 := [182, 0, 78, 153, 0, 13, 187, 0, 193, 89, 43, 28, 183, 0, 195, 176, 42, 18, 196, 182, 0, 78]
abbrev dktX2_ghostOf_1 : List UInt8 := dkwX2_ghostOf_1 ++ dktX2_ghostOf_2
def dkwX2_ghostOf_0 : List UInt8 := [42, 18, 186, 182, 0, 78, 153, 0, 13, 187, 0, 188, 89, 43, 28, 183, 0, 190, 176, 42, 18, 191]
abbrev dktX2_ghostOf_0 : List UInt8 := dkwX2_ghostOf_0 ++ dktX2_ghostOf_1
theorem dksX2_ghostOf_0 : cX2_ghostOf.data.toList.drop 0 = dktX2_ghostOf_0 := by decide +kernel
theorem dksX2_ghostOf_1 : cX2_ghostOf.data.toList.drop 22 = dktX2_ghostOf_1 := dk_seg dksX2_ghostOf_0 22 rfl rfl
theorem dksX2_ghostOf_2 : cX2_ghostOf.data.toList.drop 44 = dktX2_ghostOf_2 := dk_seg dksX2_ghostOf_1 22 rfl rfl
theorem dksX2_ghostOf_3 : cX2_ghostOf.data.toList.drop 68 = dktX2_ghostOf_3 := dk_seg dksX2_ghostOf_2 24 rfl rfl
theorem dX2_ghostOf_0 : decode cX2_ghostOf 0 = .ok (.aload_n 0, 1) := dk_42 (dk_at dksX2_ghostOf_0 0 rfl rfl)
theorem dX2_ghostOf_1 : decode cX2_ghostOf 1 = .ok (.ldc 186, 2) := dk_18 186 (dk_at dksX2_ghostOf_0 1 rfl rfl)
theorem dX2_ghostOf_3 : decode cX2_ghostOf 3 = .ok (.invokevirtual 78, 3) := dk_182 0 78 (dk_at dksX2_ghostOf_0 3 rfl rfl)
theorem dX2_ghostOf_6 : decode cX2_ghostOf 6 = .ok (.ifCond .eq 13, 3) := dk_153 0 13 (dk_at dksX2_ghostOf_0 6 rfl rfl)
theorem dX2_ghostOf_9 : decode cX2_ghostOf 9 = .ok (.new 188, 3) := dk_187 0 188 (dk_at dksX2_ghostOf_0 9 rfl rfl)
theorem dX2_ghostOf_12 : decode cX2_ghostOf 12 = .ok (.dup, 1) := dk_89 (dk_at dksX2_ghostOf_0 12 rfl rfl)
theorem dX2_ghostOf_13 : decode cX2_ghostOf 13 = .ok (.aload_n 1, 1) := dk_43 (dk_at dksX2_ghostOf_0 13 rfl rfl)
theorem dX2_ghostOf_14 : decode cX2_ghostOf 14 = .ok (.iload_n 2, 1) := dk_28 (dk_at dksX2_ghostOf_0 14 rfl rfl)
theorem dX2_ghostOf_15 : decode cX2_ghostOf 15 = .ok (.invokespecial 190, 3) := dk_183 0 190 (dk_at dksX2_ghostOf_0 15 rfl rfl)
theorem dX2_ghostOf_18 : decode cX2_ghostOf 18 = .ok (.areturn, 1) := dk_176 (dk_at dksX2_ghostOf_0 18 rfl rfl)
theorem dX2_ghostOf_19 : decode cX2_ghostOf 19 = .ok (.aload_n 0, 1) := dk_42 (dk_at dksX2_ghostOf_0 19 rfl rfl)
theorem dX2_ghostOf_20 : decode cX2_ghostOf 20 = .ok (.ldc 191, 2) := dk_18 191 (dk_at dksX2_ghostOf_0 20 rfl rfl)
theorem dX2_ghostOf_22 : decode cX2_ghostOf 22 = .ok (.invokevirtual 78, 3) := dk_182 0 78 (dk_at dksX2_ghostOf_1 0 rfl rfl)
theorem dX2_ghostOf_25 : decode cX2_ghostOf 25 = .ok (.ifCond .eq 13, 3) := dk_153 0 13 (dk_at dksX2_ghostOf_1 3 rfl rfl)
theorem dX2_ghostOf_28 : decode cX2_ghostOf 28 = .ok (.new 193, 3) := dk_187 0 193 (dk_at dksX2_ghostOf_1 6 rfl rfl)
theorem dX2_ghostOf_31 : decode cX2_ghostOf 31 = .ok (.dup, 1) := dk_89 (dk_at dksX2_ghostOf_1 9 rfl rfl)
theorem dX2_ghostOf_32 : decode cX2_ghostOf 32 = .ok (.aload_n 1, 1) := dk_43 (dk_at dksX2_ghostOf_1 10 rfl rfl)
theorem dX2_ghostOf_33 : decode cX2_ghostOf 33 = .ok (.iload_n 2, 1) := dk_28 (dk_at dksX2_ghostOf_1 11 rfl rfl)
theorem dX2_ghostOf_34 : decode cX2_ghostOf 34 = .ok (.invokespecial 195, 3) := dk_183 0 195 (dk_at dksX2_ghostOf_1 12 rfl rfl)
theorem dX2_ghostOf_37 : decode cX2_ghostOf 37 = .ok (.areturn, 1) := dk_176 (dk_at dksX2_ghostOf_1 15 rfl rfl)
theorem dX2_ghostOf_38 : decode cX2_ghostOf 38 = .ok (.aload_n 0, 1) := dk_42 (dk_at dksX2_ghostOf_1 16 rfl rfl)
theorem dX2_ghostOf_39 : decode cX2_ghostOf 39 = .ok (.ldc 196, 2) := dk_18 196 (dk_at dksX2_ghostOf_1 17 rfl rfl)
theorem dX2_ghostOf_41 : decode cX2_ghostOf 41 = .ok (.invokevirtual 78, 3) := dk_182 0 78 (dk_at dksX2_ghostOf_1 19 rfl rfl)
theorem dX2_ghostOf_44 : decode cX2_ghostOf 44 = .ok (.ifCond .eq 13, 3) := dk_153 0 13 (dk_at dksX2_ghostOf_2 0 rfl rfl)
theorem dX2_ghostOf_47 : decode cX2_ghostOf 47 = .ok (.new 198, 3) := dk_187 0 198 (dk_at dksX2_ghostOf_2 3 rfl rfl)
theorem dX2_ghostOf_50 : decode cX2_ghostOf 50 = .ok (.dup, 1) := dk_89 (dk_at dksX2_ghostOf_2 6 rfl rfl)
theorem dX2_ghostOf_51 : decode cX2_ghostOf 51 = .ok (.aload_n 1, 1) := dk_43 (dk_at dksX2_ghostOf_2 7 rfl rfl)
theorem dX2_ghostOf_52 : decode cX2_ghostOf 52 = .ok (.iload_n 2, 1) := dk_28 (dk_at dksX2_ghostOf_2 8 rfl rfl)
theorem dX2_ghostOf_53 : decode cX2_ghostOf 53 = .ok (.invokespecial 200, 3) := dk_183 0 200 (dk_at dksX2_ghostOf_2 9 rfl rfl)
theorem dX2_ghostOf_56 : decode cX2_ghostOf 56 = .ok (.areturn, 1) := dk_176 (dk_at dksX2_ghostOf_2 12 rfl rfl)
theorem dX2_ghostOf_57 : decode cX2_ghostOf 57 = .ok (.aload_n 0, 1) := dk_42 (dk_at dksX2_ghostOf_2 13 rfl rfl)
theorem dX2_ghostOf_58 : decode cX2_ghostOf 58 = .ok (.ldc 201, 2) := dk_18 201 (dk_at dksX2_ghostOf_2 14 rfl rfl)
theorem dX2_ghostOf_60 : decode cX2_ghostOf 60 = .ok (.invokevirtual 122, 3) := dk_182 0 122 (dk_at dksX2_ghostOf_2 16 rfl rfl)
theorem dX2_ghostOf_63 : decode cX2_ghostOf 63 = .ok (.new 203, 3) := dk_187 0 203 (dk_at dksX2_ghostOf_2 19 rfl rfl)
theorem dX2_ghostOf_66 : decode cX2_ghostOf 66 = .ok (.dup, 1) := dk_89 (dk_at dksX2_ghostOf_2 22 rfl rfl)
theorem dX2_ghostOf_67 : decode cX2_ghostOf 67 = .ok (.aload_n 1, 1) := dk_43 (dk_at dksX2_ghostOf_2 23 rfl rfl)
theorem dX2_ghostOf_68 : decode cX2_ghostOf 68 = .ok (.iload_n 2, 1) := dk_28 (dk_at dksX2_ghostOf_3 0 rfl rfl)
theorem dX2_ghostOf_69 : decode cX2_ghostOf 69 = .ok (.invokespecial 205, 3) := dk_183 0 205 (dk_at dksX2_ghostOf_3 1 rfl rfl)
theorem dX2_ghostOf_72 : decode cX2_ghostOf 72 = .ok (.areturn, 1) := dk_176 (dk_at dksX2_ghostOf_3 4 rfl rfl)
abbrev cX2_personPassed : ByteArray := prog_9_method_11_code
def yX2_personPassed : MethodName := ⟨RX2, "personPassed", "()LSeanceStreet$Person;"⟩
def dkwX2_personPassed_1 : List UInt8 := [5, 182, 0, 82, 191, 42, 182, 0, 75, 43, 192, 0, 114, 176]
abbrev dktX2_personPassed_1 : List UInt8 := dkwX2_personPassed_1 ++ []
def dkwX2_personPassed_0 : List UInt8 := [42, 182, 0, 102, 42, 180, 0, 105, 42, 180, 0, 61, 182, 0, 108, 76, 43, 193, 0, 114, 154, 0, 9, 42]
abbrev dktX2_personPassed_0 : List UInt8 := dkwX2_personPassed_0 ++ dktX2_personPassed_1
theorem dksX2_personPassed_0 : cX2_personPassed.data.toList.drop 0 = dktX2_personPassed_0 := by decide +kernel
theorem dksX2_personPassed_1 : cX2_personPassed.data.toList.drop 24 = dktX2_personPassed_1 := dk_seg dksX2_personPassed_0 24 rfl rfl
theorem dX2_personPassed_0 : decode cX2_personPassed 0 = .ok (.aload_n 0, 1) := dk_42 (dk_at dksX2_personPassed_0 0 rfl rfl)
theorem dX2_personPassed_1 : decode cX2_personPassed 1 = .ok (.invokevirtual 102, 3) := dk_182 0 102 (dk_at dksX2_personPassed_0 1 rfl rfl)
theorem dX2_personPassed_4 : decode cX2_personPassed 4 = .ok (.aload_n 0, 1) := dk_42 (dk_at dksX2_personPassed_0 4 rfl rfl)
theorem dX2_personPassed_5 : decode cX2_personPassed 5 = .ok (.getfield 105, 3) := dk_180 0 105 (dk_at dksX2_personPassed_0 5 rfl rfl)
theorem dX2_personPassed_8 : decode cX2_personPassed 8 = .ok (.aload_n 0, 1) := dk_42 (dk_at dksX2_personPassed_0 8 rfl rfl)
theorem dX2_personPassed_9 : decode cX2_personPassed 9 = .ok (.getfield 61, 3) := dk_180 0 61 (dk_at dksX2_personPassed_0 9 rfl rfl)
theorem dX2_personPassed_12 : decode cX2_personPassed 12 = .ok (.invokevirtual 108, 3) := dk_182 0 108 (dk_at dksX2_personPassed_0 12 rfl rfl)
theorem dX2_personPassed_15 : decode cX2_personPassed 15 = .ok (.astore_n 1, 1) := dk_76 (dk_at dksX2_personPassed_0 15 rfl rfl)
theorem dX2_personPassed_16 : decode cX2_personPassed 16 = .ok (.aload_n 1, 1) := dk_43 (dk_at dksX2_personPassed_0 16 rfl rfl)
theorem dX2_personPassed_17 : decode cX2_personPassed 17 = .ok (.instanceof 114, 3) := dk_193 0 114 (dk_at dksX2_personPassed_0 17 rfl rfl)
theorem dX2_personPassed_20 : decode cX2_personPassed 20 = .ok (.ifCond .ne 9, 3) := dk_154 0 9 (dk_at dksX2_personPassed_0 20 rfl rfl)
theorem dX2_personPassed_23 : decode cX2_personPassed 23 = .ok (.aload_n 0, 1) := dk_42 (dk_at dksX2_personPassed_0 23 rfl rfl)
theorem dX2_personPassed_24 : decode cX2_personPassed 24 = .ok (.iconst 2, 1) := dk_5 (dk_at dksX2_personPassed_1 0 rfl rfl)
theorem dX2_personPassed_25 : decode cX2_personPassed 25 = .ok (.invokevirtual 82, 3) := dk_182 0 82 (dk_at dksX2_personPassed_1 1 rfl rfl)
theorem dX2_personPassed_28 : decode cX2_personPassed 28 = .ok (.athrow, 1) := dk_191 (dk_at dksX2_personPassed_1 4 rfl rfl)
theorem dX2_personPassed_29 : decode cX2_personPassed 29 = .ok (.aload_n 0, 1) := dk_42 (dk_at dksX2_personPassed_1 5 rfl rfl)
theorem dX2_personPassed_30 : decode cX2_personPassed 30 = .ok (.invokevirtual 75, 3) := dk_182 0 75 (dk_at dksX2_personPassed_1 6 rfl rfl)
theorem dX2_personPassed_33 : decode cX2_personPassed 33 = .ok (.aload_n 1, 1) := dk_43 (dk_at dksX2_personPassed_1 9 rfl rfl)
theorem dX2_personPassed_34 : decode cX2_personPassed 34 = .ok (.checkcast 114, 3) := dk_192 0 114 (dk_at dksX2_personPassed_1 10 rfl rfl)
theorem dX2_personPassed_37 : decode cX2_personPassed 37 = .ok (.areturn, 1) := dk_176 (dk_at dksX2_personPassed_1 13 rfl rfl)
abbrev cX2_mirrorLine : ByteArray := prog_9_method_23_code
def yX2_mirrorLine : MethodName := ⟨RX2, "mirrorLine", "()V"⟩
def dkwX2_mirrorLine_1 : List UInt8 := [191, 42, 182, 0, 75, 43, 42, 3, 42, 180, 0, 105, 180, 0, 129, 4, 100, 182, 0, 126, 181, 0, 236, 177]
abbrev dktX2_mirrorLine_1 : List UInt8 := dkwX2_mirrorLine_1 ++ []
def dkwX2_mirrorLine_0 : List UInt8 := [42, 4, 182, 0, 166, 42, 182, 0, 232, 76, 43, 180, 0, 236, 16, 254, 159, 0, 9, 42, 6, 182, 0, 82]
abbrev dktX2_mirrorLine_0 : List UInt8 := dkwX2_mirrorLine_0 ++ dktX2_mirrorLine_1
theorem dksX2_mirrorLine_0 : cX2_mirrorLine.data.toList.drop 0 = dktX2_mirrorLine_0 := by decide +kernel
theorem dksX2_mirrorLine_1 : cX2_mirrorLine.data.toList.drop 24 = dktX2_mirrorLine_1 := dk_seg dksX2_mirrorLine_0 24 rfl rfl
theorem dX2_mirrorLine_0 : decode cX2_mirrorLine 0 = .ok (.aload_n 0, 1) := dk_42 (dk_at dksX2_mirrorLine_0 0 rfl rfl)
theorem dX2_mirrorLine_1 : decode cX2_mirrorLine 1 = .ok (.iconst 1, 1) := dk_4 (dk_at dksX2_mirrorLine_0 1 rfl rfl)
theorem dX2_mirrorLine_2 : decode cX2_mirrorLine 2 = .ok (.invokevirtual 166, 3) := dk_182 0 166 (dk_at dksX2_mirrorLine_0 2 rfl rfl)
theorem dX2_mirrorLine_5 : decode cX2_mirrorLine 5 = .ok (.aload_n 0, 1) := dk_42 (dk_at dksX2_mirrorLine_0 5 rfl rfl)
theorem dX2_mirrorLine_6 : decode cX2_mirrorLine 6 = .ok (.invokevirtual 232, 3) := dk_182 0 232 (dk_at dksX2_mirrorLine_0 6 rfl rfl)
theorem dX2_mirrorLine_9 : decode cX2_mirrorLine 9 = .ok (.astore_n 1, 1) := dk_76 (dk_at dksX2_mirrorLine_0 9 rfl rfl)
theorem dX2_mirrorLine_10 : decode cX2_mirrorLine 10 = .ok (.aload_n 1, 1) := dk_43 (dk_at dksX2_mirrorLine_0 10 rfl rfl)
theorem dX2_mirrorLine_11 : decode cX2_mirrorLine 11 = .ok (.getfield 236, 3) := dk_180 0 236 (dk_at dksX2_mirrorLine_0 11 rfl rfl)
theorem dX2_mirrorLine_14 : decode cX2_mirrorLine 14 = .ok (.bipush (-2), 2) := dk_16 254 (dk_at dksX2_mirrorLine_0 14 rfl rfl)
theorem dX2_mirrorLine_16 : decode cX2_mirrorLine 16 = .ok (.if_icmp .eq 9, 3) := dk_159 0 9 (dk_at dksX2_mirrorLine_0 16 rfl rfl)
theorem dX2_mirrorLine_19 : decode cX2_mirrorLine 19 = .ok (.aload_n 0, 1) := dk_42 (dk_at dksX2_mirrorLine_0 19 rfl rfl)
theorem dX2_mirrorLine_20 : decode cX2_mirrorLine 20 = .ok (.iconst 3, 1) := dk_6 (dk_at dksX2_mirrorLine_0 20 rfl rfl)
theorem dX2_mirrorLine_21 : decode cX2_mirrorLine 21 = .ok (.invokevirtual 82, 3) := dk_182 0 82 (dk_at dksX2_mirrorLine_0 21 rfl rfl)
theorem dX2_mirrorLine_24 : decode cX2_mirrorLine 24 = .ok (.athrow, 1) := dk_191 (dk_at dksX2_mirrorLine_1 0 rfl rfl)
theorem dX2_mirrorLine_25 : decode cX2_mirrorLine 25 = .ok (.aload_n 0, 1) := dk_42 (dk_at dksX2_mirrorLine_1 1 rfl rfl)
theorem dX2_mirrorLine_26 : decode cX2_mirrorLine 26 = .ok (.invokevirtual 75, 3) := dk_182 0 75 (dk_at dksX2_mirrorLine_1 2 rfl rfl)
theorem dX2_mirrorLine_29 : decode cX2_mirrorLine 29 = .ok (.aload_n 1, 1) := dk_43 (dk_at dksX2_mirrorLine_1 5 rfl rfl)
theorem dX2_mirrorLine_30 : decode cX2_mirrorLine 30 = .ok (.aload_n 0, 1) := dk_42 (dk_at dksX2_mirrorLine_1 6 rfl rfl)
theorem dX2_mirrorLine_31 : decode cX2_mirrorLine 31 = .ok (.iconst 0, 1) := dk_3 (dk_at dksX2_mirrorLine_1 7 rfl rfl)
theorem dX2_mirrorLine_32 : decode cX2_mirrorLine 32 = .ok (.aload_n 0, 1) := dk_42 (dk_at dksX2_mirrorLine_1 8 rfl rfl)
theorem dX2_mirrorLine_33 : decode cX2_mirrorLine 33 = .ok (.getfield 105, 3) := dk_180 0 105 (dk_at dksX2_mirrorLine_1 9 rfl rfl)
theorem dX2_mirrorLine_36 : decode cX2_mirrorLine 36 = .ok (.getfield 129, 3) := dk_180 0 129 (dk_at dksX2_mirrorLine_1 12 rfl rfl)
theorem dX2_mirrorLine_39 : decode cX2_mirrorLine 39 = .ok (.iconst 1, 1) := dk_4 (dk_at dksX2_mirrorLine_1 15 rfl rfl)
theorem dX2_mirrorLine_40 : decode cX2_mirrorLine 40 = .ok (.isub, 1) := dk_100 (dk_at dksX2_mirrorLine_1 16 rfl rfl)
theorem dX2_mirrorLine_41 : decode cX2_mirrorLine 41 = .ok (.invokevirtual 126, 3) := dk_182 0 126 (dk_at dksX2_mirrorLine_1 17 rfl rfl)
theorem dX2_mirrorLine_44 : decode cX2_mirrorLine 44 = .ok (.putfield 236, 3) := dk_181 0 236 (dk_at dksX2_mirrorLine_1 20 rfl rfl)
theorem dX2_mirrorLine_47 : decode cX2_mirrorLine 47 = .ok (.return_, 1) := dk_177 (dk_at dksX2_mirrorLine_1 23 rfl rfl)
abbrev cX2_ghostHere : ByteArray := prog_9_method_12_code
def yX2_ghostHere : MethodName := ⟨RX2, "ghostHere", "()LSeanceStreet$Ghost;"⟩
def dkwX2_ghostHere_1 : List UInt8 := [5, 182, 0, 82, 191, 43, 192, 0, 116, 176]
abbrev dktX2_ghostHere_1 : List UInt8 := dkwX2_ghostHere_1 ++ []
def dkwX2_ghostHere_0 : List UInt8 := [42, 182, 0, 102, 42, 180, 0, 105, 42, 180, 0, 61, 182, 0, 108, 76, 43, 193, 0, 116, 154, 0, 9, 42]
abbrev dktX2_ghostHere_0 : List UInt8 := dkwX2_ghostHere_0 ++ dktX2_ghostHere_1
theorem dksX2_ghostHere_0 : cX2_ghostHere.data.toList.drop 0 = dktX2_ghostHere_0 := by decide +kernel
theorem dksX2_ghostHere_1 : cX2_ghostHere.data.toList.drop 24 = dktX2_ghostHere_1 := dk_seg dksX2_ghostHere_0 24 rfl rfl
theorem dX2_ghostHere_0 : decode cX2_ghostHere 0 = .ok (.aload_n 0, 1) := dk_42 (dk_at dksX2_ghostHere_0 0 rfl rfl)
theorem dX2_ghostHere_1 : decode cX2_ghostHere 1 = .ok (.invokevirtual 102, 3) := dk_182 0 102 (dk_at dksX2_ghostHere_0 1 rfl rfl)
theorem dX2_ghostHere_4 : decode cX2_ghostHere 4 = .ok (.aload_n 0, 1) := dk_42 (dk_at dksX2_ghostHere_0 4 rfl rfl)
theorem dX2_ghostHere_5 : decode cX2_ghostHere 5 = .ok (.getfield 105, 3) := dk_180 0 105 (dk_at dksX2_ghostHere_0 5 rfl rfl)
theorem dX2_ghostHere_8 : decode cX2_ghostHere 8 = .ok (.aload_n 0, 1) := dk_42 (dk_at dksX2_ghostHere_0 8 rfl rfl)
theorem dX2_ghostHere_9 : decode cX2_ghostHere 9 = .ok (.getfield 61, 3) := dk_180 0 61 (dk_at dksX2_ghostHere_0 9 rfl rfl)
theorem dX2_ghostHere_12 : decode cX2_ghostHere 12 = .ok (.invokevirtual 108, 3) := dk_182 0 108 (dk_at dksX2_ghostHere_0 12 rfl rfl)
theorem dX2_ghostHere_15 : decode cX2_ghostHere 15 = .ok (.astore_n 1, 1) := dk_76 (dk_at dksX2_ghostHere_0 15 rfl rfl)
theorem dX2_ghostHere_16 : decode cX2_ghostHere 16 = .ok (.aload_n 1, 1) := dk_43 (dk_at dksX2_ghostHere_0 16 rfl rfl)
theorem dX2_ghostHere_17 : decode cX2_ghostHere 17 = .ok (.instanceof 116, 3) := dk_193 0 116 (dk_at dksX2_ghostHere_0 17 rfl rfl)
theorem dX2_ghostHere_20 : decode cX2_ghostHere 20 = .ok (.ifCond .ne 9, 3) := dk_154 0 9 (dk_at dksX2_ghostHere_0 20 rfl rfl)
theorem dX2_ghostHere_23 : decode cX2_ghostHere 23 = .ok (.aload_n 0, 1) := dk_42 (dk_at dksX2_ghostHere_0 23 rfl rfl)
theorem dX2_ghostHere_24 : decode cX2_ghostHere 24 = .ok (.iconst 2, 1) := dk_5 (dk_at dksX2_ghostHere_1 0 rfl rfl)
theorem dX2_ghostHere_25 : decode cX2_ghostHere 25 = .ok (.invokevirtual 82, 3) := dk_182 0 82 (dk_at dksX2_ghostHere_1 1 rfl rfl)
theorem dX2_ghostHere_28 : decode cX2_ghostHere 28 = .ok (.athrow, 1) := dk_191 (dk_at dksX2_ghostHere_1 4 rfl rfl)
theorem dX2_ghostHere_29 : decode cX2_ghostHere 29 = .ok (.aload_n 1, 1) := dk_43 (dk_at dksX2_ghostHere_1 5 rfl rfl)
theorem dX2_ghostHere_30 : decode cX2_ghostHere 30 = .ok (.checkcast 116, 3) := dk_192 0 116 (dk_at dksX2_ghostHere_1 6 rfl rfl)
theorem dX2_ghostHere_33 : decode cX2_ghostHere 33 = .ok (.areturn, 1) := dk_176 (dk_at dksX2_ghostHere_1 9 rfl rfl)
abbrev cX2_unsureLine : ByteArray := prog_9_method_24_code
def yX2_unsureLine : MethodName := ⟨RX2, "unsureLine", "()V"⟩
def dkwX2_unsureLine_3 : List UInt8 := [79, 42, 180, 0, 105, 89, 180, 0, 238, 4, 96, 181, 0, 238, 177]
abbrev dktX2_unsureLine_3 : List UInt8 := dkwX2_unsureLine_3 ++ []
def dkwX2_unsureLine_2 : List UInt8 := [182, 0, 126, 181, 0, 241, 42, 180, 0, 105, 180, 0, 244, 42, 180, 0, 105, 180, 0, 238, 43, 180, 0, 247]
abbrev dktX2_unsureLine_2 : List UInt8 := dkwX2_unsureLine_2 ++ dktX2_unsureLine_3
def dkwX2_unsureLine_1 : List UInt8 := [76, 43, 180, 0, 241, 155, 0, 9, 42, 6, 182, 0, 82, 191, 42, 182, 0, 75, 43, 42, 3, 16, 39]
abbrev dktX2_unsureLine_1 : List UInt8 := dkwX2_unsureLine_1 ++ dktX2_unsureLine_2
def dkwX2_unsureLine_0 : List UInt8 := [42, 42, 180, 0, 105, 180, 0, 238, 7, 162, 0, 7, 4, 167, 0, 4, 3, 182, 0, 166, 42, 182, 0, 232]
abbrev dktX2_unsureLine_0 : List UInt8 := dkwX2_unsureLine_0 ++ dktX2_unsureLine_1
theorem dksX2_unsureLine_0 : cX2_unsureLine.data.toList.drop 0 = dktX2_unsureLine_0 := by decide +kernel
theorem dksX2_unsureLine_1 : cX2_unsureLine.data.toList.drop 24 = dktX2_unsureLine_1 := dk_seg dksX2_unsureLine_0 24 rfl rfl
theorem dksX2_unsureLine_2 : cX2_unsureLine.data.toList.drop 47 = dktX2_unsureLine_2 := dk_seg dksX2_unsureLine_1 23 rfl rfl
theorem dksX2_unsureLine_3 : cX2_unsureLine.data.toList.drop 71 = dktX2_unsureLine_3 := dk_seg dksX2_unsureLine_2 24 rfl rfl
theorem dX2_unsureLine_0 : decode cX2_unsureLine 0 = .ok (.aload_n 0, 1) := dk_42 (dk_at dksX2_unsureLine_0 0 rfl rfl)
theorem dX2_unsureLine_1 : decode cX2_unsureLine 1 = .ok (.aload_n 0, 1) := dk_42 (dk_at dksX2_unsureLine_0 1 rfl rfl)
theorem dX2_unsureLine_2 : decode cX2_unsureLine 2 = .ok (.getfield 105, 3) := dk_180 0 105 (dk_at dksX2_unsureLine_0 2 rfl rfl)
theorem dX2_unsureLine_5 : decode cX2_unsureLine 5 = .ok (.getfield 238, 3) := dk_180 0 238 (dk_at dksX2_unsureLine_0 5 rfl rfl)
theorem dX2_unsureLine_8 : decode cX2_unsureLine 8 = .ok (.iconst 4, 1) := dk_7 (dk_at dksX2_unsureLine_0 8 rfl rfl)
theorem dX2_unsureLine_9 : decode cX2_unsureLine 9 = .ok (.if_icmp .ge 7, 3) := dk_162 0 7 (dk_at dksX2_unsureLine_0 9 rfl rfl)
theorem dX2_unsureLine_12 : decode cX2_unsureLine 12 = .ok (.iconst 1, 1) := dk_4 (dk_at dksX2_unsureLine_0 12 rfl rfl)
theorem dX2_unsureLine_13 : decode cX2_unsureLine 13 = .ok (.goto 4, 3) := dk_167 0 4 (dk_at dksX2_unsureLine_0 13 rfl rfl)
theorem dX2_unsureLine_16 : decode cX2_unsureLine 16 = .ok (.iconst 0, 1) := dk_3 (dk_at dksX2_unsureLine_0 16 rfl rfl)
theorem dX2_unsureLine_17 : decode cX2_unsureLine 17 = .ok (.invokevirtual 166, 3) := dk_182 0 166 (dk_at dksX2_unsureLine_0 17 rfl rfl)
theorem dX2_unsureLine_20 : decode cX2_unsureLine 20 = .ok (.aload_n 0, 1) := dk_42 (dk_at dksX2_unsureLine_0 20 rfl rfl)
theorem dX2_unsureLine_21 : decode cX2_unsureLine 21 = .ok (.invokevirtual 232, 3) := dk_182 0 232 (dk_at dksX2_unsureLine_0 21 rfl rfl)
theorem dX2_unsureLine_24 : decode cX2_unsureLine 24 = .ok (.astore_n 1, 1) := dk_76 (dk_at dksX2_unsureLine_1 0 rfl rfl)
theorem dX2_unsureLine_25 : decode cX2_unsureLine 25 = .ok (.aload_n 1, 1) := dk_43 (dk_at dksX2_unsureLine_1 1 rfl rfl)
theorem dX2_unsureLine_26 : decode cX2_unsureLine 26 = .ok (.getfield 241, 3) := dk_180 0 241 (dk_at dksX2_unsureLine_1 2 rfl rfl)
theorem dX2_unsureLine_29 : decode cX2_unsureLine 29 = .ok (.ifCond .lt 9, 3) := dk_155 0 9 (dk_at dksX2_unsureLine_1 5 rfl rfl)
theorem dX2_unsureLine_32 : decode cX2_unsureLine 32 = .ok (.aload_n 0, 1) := dk_42 (dk_at dksX2_unsureLine_1 8 rfl rfl)
theorem dX2_unsureLine_33 : decode cX2_unsureLine 33 = .ok (.iconst 3, 1) := dk_6 (dk_at dksX2_unsureLine_1 9 rfl rfl)
theorem dX2_unsureLine_34 : decode cX2_unsureLine 34 = .ok (.invokevirtual 82, 3) := dk_182 0 82 (dk_at dksX2_unsureLine_1 10 rfl rfl)
theorem dX2_unsureLine_37 : decode cX2_unsureLine 37 = .ok (.athrow, 1) := dk_191 (dk_at dksX2_unsureLine_1 13 rfl rfl)
theorem dX2_unsureLine_38 : decode cX2_unsureLine 38 = .ok (.aload_n 0, 1) := dk_42 (dk_at dksX2_unsureLine_1 14 rfl rfl)
theorem dX2_unsureLine_39 : decode cX2_unsureLine 39 = .ok (.invokevirtual 75, 3) := dk_182 0 75 (dk_at dksX2_unsureLine_1 15 rfl rfl)
theorem dX2_unsureLine_42 : decode cX2_unsureLine 42 = .ok (.aload_n 1, 1) := dk_43 (dk_at dksX2_unsureLine_1 18 rfl rfl)
theorem dX2_unsureLine_43 : decode cX2_unsureLine 43 = .ok (.aload_n 0, 1) := dk_42 (dk_at dksX2_unsureLine_1 19 rfl rfl)
theorem dX2_unsureLine_44 : decode cX2_unsureLine 44 = .ok (.iconst 0, 1) := dk_3 (dk_at dksX2_unsureLine_1 20 rfl rfl)
theorem dX2_unsureLine_45 : decode cX2_unsureLine 45 = .ok (.bipush 39, 2) := dk_16 39 (dk_at dksX2_unsureLine_1 21 rfl rfl)
theorem dX2_unsureLine_47 : decode cX2_unsureLine 47 = .ok (.invokevirtual 126, 3) := dk_182 0 126 (dk_at dksX2_unsureLine_2 0 rfl rfl)
theorem dX2_unsureLine_50 : decode cX2_unsureLine 50 = .ok (.putfield 241, 3) := dk_181 0 241 (dk_at dksX2_unsureLine_2 3 rfl rfl)
theorem dX2_unsureLine_53 : decode cX2_unsureLine 53 = .ok (.aload_n 0, 1) := dk_42 (dk_at dksX2_unsureLine_2 6 rfl rfl)
theorem dX2_unsureLine_54 : decode cX2_unsureLine 54 = .ok (.getfield 105, 3) := dk_180 0 105 (dk_at dksX2_unsureLine_2 7 rfl rfl)
theorem dX2_unsureLine_57 : decode cX2_unsureLine 57 = .ok (.getfield 244, 3) := dk_180 0 244 (dk_at dksX2_unsureLine_2 10 rfl rfl)
theorem dX2_unsureLine_60 : decode cX2_unsureLine 60 = .ok (.aload_n 0, 1) := dk_42 (dk_at dksX2_unsureLine_2 13 rfl rfl)
theorem dX2_unsureLine_61 : decode cX2_unsureLine 61 = .ok (.getfield 105, 3) := dk_180 0 105 (dk_at dksX2_unsureLine_2 14 rfl rfl)
theorem dX2_unsureLine_64 : decode cX2_unsureLine 64 = .ok (.getfield 238, 3) := dk_180 0 238 (dk_at dksX2_unsureLine_2 17 rfl rfl)
theorem dX2_unsureLine_67 : decode cX2_unsureLine 67 = .ok (.aload_n 1, 1) := dk_43 (dk_at dksX2_unsureLine_2 20 rfl rfl)
theorem dX2_unsureLine_68 : decode cX2_unsureLine 68 = .ok (.getfield 247, 3) := dk_180 0 247 (dk_at dksX2_unsureLine_2 21 rfl rfl)
theorem dX2_unsureLine_71 : decode cX2_unsureLine 71 = .ok (.iastore, 1) := dk_79 (dk_at dksX2_unsureLine_3 0 rfl rfl)
theorem dX2_unsureLine_72 : decode cX2_unsureLine 72 = .ok (.aload_n 0, 1) := dk_42 (dk_at dksX2_unsureLine_3 1 rfl rfl)
theorem dX2_unsureLine_73 : decode cX2_unsureLine 73 = .ok (.getfield 105, 3) := dk_180 0 105 (dk_at dksX2_unsureLine_3 2 rfl rfl)
theorem dX2_unsureLine_76 : decode cX2_unsureLine 76 = .ok (.dup, 1) := dk_89 (dk_at dksX2_unsureLine_3 5 rfl rfl)
theorem dX2_unsureLine_77 : decode cX2_unsureLine 77 = .ok (.getfield 238, 3) := dk_180 0 238 (dk_at dksX2_unsureLine_3 6 rfl rfl)
theorem dX2_unsureLine_80 : decode cX2_unsureLine 80 = .ok (.iconst 1, 1) := dk_4 (dk_at dksX2_unsureLine_3 9 rfl rfl)
theorem dX2_unsureLine_81 : decode cX2_unsureLine 81 = .ok (.iadd, 1) := dk_96 (dk_at dksX2_unsureLine_3 10 rfl rfl)
theorem dX2_unsureLine_82 : decode cX2_unsureLine 82 = .ok (.putfield 238, 3) := dk_181 0 238 (dk_at dksX2_unsureLine_3 11 rfl rfl)
theorem dX2_unsureLine_85 : decode cX2_unsureLine 85 = .ok (.return_, 1) := dk_177 (dk_at dksX2_unsureLine_3 14 rfl rfl)
abbrev cX2_heardLine : ByteArray := prog_9_method_25_code
def yX2_heardLine : MethodName := ⟨RX2, "heardLine", "()V"⟩
def dkwX2_heardLine_6 : List UInt8 := [180, 0, 105, 180, 1, 3, 27, 28, 79, 42, 180, 0, 105, 89, 180, 0, 248, 4, 96, 181, 0, 248, 177]
abbrev dktX2_heardLine_6 : List UInt8 := dkwX2_heardLine_6 ++ []
def dkwX2_heardLine_5 : List UInt8 := [29, 46, 28, 160, 0, 9, 42, 6, 182, 0, 82, 191, 132, 3, 1, 167, 255, 208, 42, 182, 0, 75, 42]
abbrev dktX2_heardLine_5 : List UInt8 := dkwX2_heardLine_5 ++ dktX2_heardLine_6
def dkwX2_heardLine_4 : List UInt8 := [180, 0, 254, 29, 46, 42, 180, 0, 105, 180, 0, 254, 27, 46, 160, 0, 22, 42, 180, 0, 105, 180, 1, 3]
abbrev dktX2_heardLine_4 : List UInt8 := dkwX2_heardLine_4 ++ dktX2_heardLine_5
def dkwX2_heardLine_3 : List UInt8 := [182, 0, 122, 42, 3, 16, 60, 182, 0, 118, 61, 3, 62, 29, 27, 162, 0, 49, 42, 180, 0, 105]
abbrev dktX2_heardLine_3 : List UInt8 := dkwX2_heardLine_3 ++ dktX2_heardLine_4
def dkwX2_heardLine_2 : List UInt8 := [180, 0, 105, 180, 0, 254, 27, 42, 182, 0, 232, 180, 0, 247, 79, 42, 182, 0, 75, 42, 19, 1, 1]
abbrev dktX2_heardLine_2 : List UInt8 := dkwX2_heardLine_2 ++ dktX2_heardLine_3
def dkwX2_heardLine_1 : List UInt8 := [180, 0, 105, 180, 0, 248, 60, 42, 180, 0, 105, 180, 0, 251, 27, 42, 182, 0, 219, 180, 0, 223, 79, 42]
abbrev dktX2_heardLine_1 : List UInt8 := dkwX2_heardLine_1 ++ dktX2_heardLine_2
def dkwX2_heardLine_0 : List UInt8 := [42, 42, 180, 0, 105, 180, 0, 248, 16, 8, 162, 0, 7, 4, 167, 0, 4, 3, 182, 0, 166, 42]
abbrev dktX2_heardLine_0 : List UInt8 := dkwX2_heardLine_0 ++ dktX2_heardLine_1
theorem dksX2_heardLine_0 : cX2_heardLine.data.toList.drop 0 = dktX2_heardLine_0 := by decide +kernel
theorem dksX2_heardLine_1 : cX2_heardLine.data.toList.drop 22 = dktX2_heardLine_1 := dk_seg dksX2_heardLine_0 22 rfl rfl
theorem dksX2_heardLine_2 : cX2_heardLine.data.toList.drop 46 = dktX2_heardLine_2 := dk_seg dksX2_heardLine_1 24 rfl rfl
theorem dksX2_heardLine_3 : cX2_heardLine.data.toList.drop 69 = dktX2_heardLine_3 := dk_seg dksX2_heardLine_2 23 rfl rfl
theorem dksX2_heardLine_4 : cX2_heardLine.data.toList.drop 91 = dktX2_heardLine_4 := dk_seg dksX2_heardLine_3 22 rfl rfl
theorem dksX2_heardLine_5 : cX2_heardLine.data.toList.drop 115 = dktX2_heardLine_5 := dk_seg dksX2_heardLine_4 24 rfl rfl
theorem dksX2_heardLine_6 : cX2_heardLine.data.toList.drop 138 = dktX2_heardLine_6 := dk_seg dksX2_heardLine_5 23 rfl rfl
theorem dX2_heardLine_0 : decode cX2_heardLine 0 = .ok (.aload_n 0, 1) := dk_42 (dk_at dksX2_heardLine_0 0 rfl rfl)
theorem dX2_heardLine_1 : decode cX2_heardLine 1 = .ok (.aload_n 0, 1) := dk_42 (dk_at dksX2_heardLine_0 1 rfl rfl)
theorem dX2_heardLine_2 : decode cX2_heardLine 2 = .ok (.getfield 105, 3) := dk_180 0 105 (dk_at dksX2_heardLine_0 2 rfl rfl)
theorem dX2_heardLine_5 : decode cX2_heardLine 5 = .ok (.getfield 248, 3) := dk_180 0 248 (dk_at dksX2_heardLine_0 5 rfl rfl)
theorem dX2_heardLine_8 : decode cX2_heardLine 8 = .ok (.bipush 8, 2) := dk_16 8 (dk_at dksX2_heardLine_0 8 rfl rfl)
theorem dX2_heardLine_10 : decode cX2_heardLine 10 = .ok (.if_icmp .ge 7, 3) := dk_162 0 7 (dk_at dksX2_heardLine_0 10 rfl rfl)
theorem dX2_heardLine_13 : decode cX2_heardLine 13 = .ok (.iconst 1, 1) := dk_4 (dk_at dksX2_heardLine_0 13 rfl rfl)
theorem dX2_heardLine_14 : decode cX2_heardLine 14 = .ok (.goto 4, 3) := dk_167 0 4 (dk_at dksX2_heardLine_0 14 rfl rfl)
theorem dX2_heardLine_17 : decode cX2_heardLine 17 = .ok (.iconst 0, 1) := dk_3 (dk_at dksX2_heardLine_0 17 rfl rfl)
theorem dX2_heardLine_18 : decode cX2_heardLine 18 = .ok (.invokevirtual 166, 3) := dk_182 0 166 (dk_at dksX2_heardLine_0 18 rfl rfl)
theorem dX2_heardLine_21 : decode cX2_heardLine 21 = .ok (.aload_n 0, 1) := dk_42 (dk_at dksX2_heardLine_0 21 rfl rfl)
theorem dX2_heardLine_22 : decode cX2_heardLine 22 = .ok (.getfield 105, 3) := dk_180 0 105 (dk_at dksX2_heardLine_1 0 rfl rfl)
theorem dX2_heardLine_25 : decode cX2_heardLine 25 = .ok (.getfield 248, 3) := dk_180 0 248 (dk_at dksX2_heardLine_1 3 rfl rfl)
theorem dX2_heardLine_28 : decode cX2_heardLine 28 = .ok (.istore_n 1, 1) := dk_60 (dk_at dksX2_heardLine_1 6 rfl rfl)
theorem dX2_heardLine_29 : decode cX2_heardLine 29 = .ok (.aload_n 0, 1) := dk_42 (dk_at dksX2_heardLine_1 7 rfl rfl)
theorem dX2_heardLine_30 : decode cX2_heardLine 30 = .ok (.getfield 105, 3) := dk_180 0 105 (dk_at dksX2_heardLine_1 8 rfl rfl)
theorem dX2_heardLine_33 : decode cX2_heardLine 33 = .ok (.getfield 251, 3) := dk_180 0 251 (dk_at dksX2_heardLine_1 11 rfl rfl)
theorem dX2_heardLine_36 : decode cX2_heardLine 36 = .ok (.iload_n 1, 1) := dk_27 (dk_at dksX2_heardLine_1 14 rfl rfl)
theorem dX2_heardLine_37 : decode cX2_heardLine 37 = .ok (.aload_n 0, 1) := dk_42 (dk_at dksX2_heardLine_1 15 rfl rfl)
theorem dX2_heardLine_38 : decode cX2_heardLine 38 = .ok (.invokevirtual 219, 3) := dk_182 0 219 (dk_at dksX2_heardLine_1 16 rfl rfl)
theorem dX2_heardLine_41 : decode cX2_heardLine 41 = .ok (.getfield 223, 3) := dk_180 0 223 (dk_at dksX2_heardLine_1 19 rfl rfl)
theorem dX2_heardLine_44 : decode cX2_heardLine 44 = .ok (.iastore, 1) := dk_79 (dk_at dksX2_heardLine_1 22 rfl rfl)
theorem dX2_heardLine_45 : decode cX2_heardLine 45 = .ok (.aload_n 0, 1) := dk_42 (dk_at dksX2_heardLine_1 23 rfl rfl)
theorem dX2_heardLine_46 : decode cX2_heardLine 46 = .ok (.getfield 105, 3) := dk_180 0 105 (dk_at dksX2_heardLine_2 0 rfl rfl)
theorem dX2_heardLine_49 : decode cX2_heardLine 49 = .ok (.getfield 254, 3) := dk_180 0 254 (dk_at dksX2_heardLine_2 3 rfl rfl)
theorem dX2_heardLine_52 : decode cX2_heardLine 52 = .ok (.iload_n 1, 1) := dk_27 (dk_at dksX2_heardLine_2 6 rfl rfl)
theorem dX2_heardLine_53 : decode cX2_heardLine 53 = .ok (.aload_n 0, 1) := dk_42 (dk_at dksX2_heardLine_2 7 rfl rfl)
theorem dX2_heardLine_54 : decode cX2_heardLine 54 = .ok (.invokevirtual 232, 3) := dk_182 0 232 (dk_at dksX2_heardLine_2 8 rfl rfl)
theorem dX2_heardLine_57 : decode cX2_heardLine 57 = .ok (.getfield 247, 3) := dk_180 0 247 (dk_at dksX2_heardLine_2 11 rfl rfl)
theorem dX2_heardLine_60 : decode cX2_heardLine 60 = .ok (.iastore, 1) := dk_79 (dk_at dksX2_heardLine_2 14 rfl rfl)
theorem dX2_heardLine_61 : decode cX2_heardLine 61 = .ok (.aload_n 0, 1) := dk_42 (dk_at dksX2_heardLine_2 15 rfl rfl)
theorem dX2_heardLine_62 : decode cX2_heardLine 62 = .ok (.invokevirtual 75, 3) := dk_182 0 75 (dk_at dksX2_heardLine_2 16 rfl rfl)
theorem dX2_heardLine_65 : decode cX2_heardLine 65 = .ok (.aload_n 0, 1) := dk_42 (dk_at dksX2_heardLine_2 19 rfl rfl)
theorem dX2_heardLine_66 : decode cX2_heardLine 66 = .ok (.ldc_w 257, 3) := dk_19 1 1 (dk_at dksX2_heardLine_2 20 rfl rfl)
theorem dX2_heardLine_69 : decode cX2_heardLine 69 = .ok (.invokevirtual 122, 3) := dk_182 0 122 (dk_at dksX2_heardLine_3 0 rfl rfl)
theorem dX2_heardLine_72 : decode cX2_heardLine 72 = .ok (.aload_n 0, 1) := dk_42 (dk_at dksX2_heardLine_3 3 rfl rfl)
theorem dX2_heardLine_73 : decode cX2_heardLine 73 = .ok (.iconst 0, 1) := dk_3 (dk_at dksX2_heardLine_3 4 rfl rfl)
theorem dX2_heardLine_74 : decode cX2_heardLine 74 = .ok (.bipush 60, 2) := dk_16 60 (dk_at dksX2_heardLine_3 5 rfl rfl)
theorem dX2_heardLine_76 : decode cX2_heardLine 76 = .ok (.invokevirtual 118, 3) := dk_182 0 118 (dk_at dksX2_heardLine_3 7 rfl rfl)
theorem dX2_heardLine_79 : decode cX2_heardLine 79 = .ok (.istore_n 2, 1) := dk_61 (dk_at dksX2_heardLine_3 10 rfl rfl)
theorem dX2_heardLine_80 : decode cX2_heardLine 80 = .ok (.iconst 0, 1) := dk_3 (dk_at dksX2_heardLine_3 11 rfl rfl)
theorem dX2_heardLine_81 : decode cX2_heardLine 81 = .ok (.istore_n 3, 1) := dk_62 (dk_at dksX2_heardLine_3 12 rfl rfl)
theorem dX2_heardLine_82 : decode cX2_heardLine 82 = .ok (.iload_n 3, 1) := dk_29 (dk_at dksX2_heardLine_3 13 rfl rfl)
theorem dX2_heardLine_83 : decode cX2_heardLine 83 = .ok (.iload_n 1, 1) := dk_27 (dk_at dksX2_heardLine_3 14 rfl rfl)
theorem dX2_heardLine_84 : decode cX2_heardLine 84 = .ok (.if_icmp .ge 49, 3) := dk_162 0 49 (dk_at dksX2_heardLine_3 15 rfl rfl)
theorem dX2_heardLine_87 : decode cX2_heardLine 87 = .ok (.aload_n 0, 1) := dk_42 (dk_at dksX2_heardLine_3 18 rfl rfl)
theorem dX2_heardLine_88 : decode cX2_heardLine 88 = .ok (.getfield 105, 3) := dk_180 0 105 (dk_at dksX2_heardLine_3 19 rfl rfl)
theorem dX2_heardLine_91 : decode cX2_heardLine 91 = .ok (.getfield 254, 3) := dk_180 0 254 (dk_at dksX2_heardLine_4 0 rfl rfl)
theorem dX2_heardLine_94 : decode cX2_heardLine 94 = .ok (.iload_n 3, 1) := dk_29 (dk_at dksX2_heardLine_4 3 rfl rfl)
theorem dX2_heardLine_95 : decode cX2_heardLine 95 = .ok (.iaload, 1) := dk_46 (dk_at dksX2_heardLine_4 4 rfl rfl)
theorem dX2_heardLine_96 : decode cX2_heardLine 96 = .ok (.aload_n 0, 1) := dk_42 (dk_at dksX2_heardLine_4 5 rfl rfl)
theorem dX2_heardLine_97 : decode cX2_heardLine 97 = .ok (.getfield 105, 3) := dk_180 0 105 (dk_at dksX2_heardLine_4 6 rfl rfl)
theorem dX2_heardLine_100 : decode cX2_heardLine 100 = .ok (.getfield 254, 3) := dk_180 0 254 (dk_at dksX2_heardLine_4 9 rfl rfl)
theorem dX2_heardLine_103 : decode cX2_heardLine 103 = .ok (.iload_n 1, 1) := dk_27 (dk_at dksX2_heardLine_4 12 rfl rfl)
theorem dX2_heardLine_104 : decode cX2_heardLine 104 = .ok (.iaload, 1) := dk_46 (dk_at dksX2_heardLine_4 13 rfl rfl)
theorem dX2_heardLine_105 : decode cX2_heardLine 105 = .ok (.if_icmp .ne 22, 3) := dk_160 0 22 (dk_at dksX2_heardLine_4 14 rfl rfl)
theorem dX2_heardLine_108 : decode cX2_heardLine 108 = .ok (.aload_n 0, 1) := dk_42 (dk_at dksX2_heardLine_4 17 rfl rfl)
theorem dX2_heardLine_109 : decode cX2_heardLine 109 = .ok (.getfield 105, 3) := dk_180 0 105 (dk_at dksX2_heardLine_4 18 rfl rfl)
theorem dX2_heardLine_112 : decode cX2_heardLine 112 = .ok (.getfield 259, 3) := dk_180 1 3 (dk_at dksX2_heardLine_4 21 rfl rfl)
theorem dX2_heardLine_115 : decode cX2_heardLine 115 = .ok (.iload_n 3, 1) := dk_29 (dk_at dksX2_heardLine_5 0 rfl rfl)
theorem dX2_heardLine_116 : decode cX2_heardLine 116 = .ok (.iaload, 1) := dk_46 (dk_at dksX2_heardLine_5 1 rfl rfl)
theorem dX2_heardLine_117 : decode cX2_heardLine 117 = .ok (.iload_n 2, 1) := dk_28 (dk_at dksX2_heardLine_5 2 rfl rfl)
theorem dX2_heardLine_118 : decode cX2_heardLine 118 = .ok (.if_icmp .ne 9, 3) := dk_160 0 9 (dk_at dksX2_heardLine_5 3 rfl rfl)
theorem dX2_heardLine_121 : decode cX2_heardLine 121 = .ok (.aload_n 0, 1) := dk_42 (dk_at dksX2_heardLine_5 6 rfl rfl)
theorem dX2_heardLine_122 : decode cX2_heardLine 122 = .ok (.iconst 3, 1) := dk_6 (dk_at dksX2_heardLine_5 7 rfl rfl)
theorem dX2_heardLine_123 : decode cX2_heardLine 123 = .ok (.invokevirtual 82, 3) := dk_182 0 82 (dk_at dksX2_heardLine_5 8 rfl rfl)
theorem dX2_heardLine_126 : decode cX2_heardLine 126 = .ok (.athrow, 1) := dk_191 (dk_at dksX2_heardLine_5 11 rfl rfl)
theorem dX2_heardLine_127 : decode cX2_heardLine 127 = .ok (.iinc 3 1, 3) := dk_132 3 1 (dk_at dksX2_heardLine_5 12 rfl rfl)
theorem dX2_heardLine_130 : decode cX2_heardLine 130 = .ok (.goto (-48), 3) := dk_167 255 208 (dk_at dksX2_heardLine_5 15 rfl rfl)
theorem dX2_heardLine_133 : decode cX2_heardLine 133 = .ok (.aload_n 0, 1) := dk_42 (dk_at dksX2_heardLine_5 18 rfl rfl)
theorem dX2_heardLine_134 : decode cX2_heardLine 134 = .ok (.invokevirtual 75, 3) := dk_182 0 75 (dk_at dksX2_heardLine_5 19 rfl rfl)
theorem dX2_heardLine_137 : decode cX2_heardLine 137 = .ok (.aload_n 0, 1) := dk_42 (dk_at dksX2_heardLine_5 22 rfl rfl)
theorem dX2_heardLine_138 : decode cX2_heardLine 138 = .ok (.getfield 105, 3) := dk_180 0 105 (dk_at dksX2_heardLine_6 0 rfl rfl)
theorem dX2_heardLine_141 : decode cX2_heardLine 141 = .ok (.getfield 259, 3) := dk_180 1 3 (dk_at dksX2_heardLine_6 3 rfl rfl)
theorem dX2_heardLine_144 : decode cX2_heardLine 144 = .ok (.iload_n 1, 1) := dk_27 (dk_at dksX2_heardLine_6 6 rfl rfl)
theorem dX2_heardLine_145 : decode cX2_heardLine 145 = .ok (.iload_n 2, 1) := dk_28 (dk_at dksX2_heardLine_6 7 rfl rfl)
theorem dX2_heardLine_146 : decode cX2_heardLine 146 = .ok (.iastore, 1) := dk_79 (dk_at dksX2_heardLine_6 8 rfl rfl)
theorem dX2_heardLine_147 : decode cX2_heardLine 147 = .ok (.aload_n 0, 1) := dk_42 (dk_at dksX2_heardLine_6 9 rfl rfl)
theorem dX2_heardLine_148 : decode cX2_heardLine 148 = .ok (.getfield 105, 3) := dk_180 0 105 (dk_at dksX2_heardLine_6 10 rfl rfl)
theorem dX2_heardLine_151 : decode cX2_heardLine 151 = .ok (.dup, 1) := dk_89 (dk_at dksX2_heardLine_6 13 rfl rfl)
theorem dX2_heardLine_152 : decode cX2_heardLine 152 = .ok (.getfield 248, 3) := dk_180 0 248 (dk_at dksX2_heardLine_6 14 rfl rfl)
theorem dX2_heardLine_155 : decode cX2_heardLine 155 = .ok (.iconst 1, 1) := dk_4 (dk_at dksX2_heardLine_6 17 rfl rfl)
theorem dX2_heardLine_156 : decode cX2_heardLine 156 = .ok (.iadd, 1) := dk_96 (dk_at dksX2_heardLine_6 18 rfl rfl)
theorem dX2_heardLine_157 : decode cX2_heardLine 157 = .ok (.putfield 248, 3) := dk_181 0 248 (dk_at dksX2_heardLine_6 19 rfl rfl)
theorem dX2_heardLine_160 : decode cX2_heardLine 160 = .ok (.return_, 1) := dk_177 (dk_at dksX2_heardLine_6 22 rfl rfl)
theorem q119 : (Jvm.Cond.initialized "SeanceStreet$Scanner") ∈ lw_all := lw_g (lw_at lw_m1 2 rfl) rfl
theorem q153 : (Jvm.Cond.instantiable "SeanceStreet$Scanner" (10 : Nat)) ∈ lw_all := lw_g (lw_at lw_m1 36 rfl) rfl
theorem q155 : (Jvm.Cond.instanceMethod ({ cls := "SeanceStreet$Scanner", name := "<init>", desc := "([B)V" } : Jvm.MethodName)) ∈ lw_all := lw_g (lw_at lw_m1 38 rfl) rfl
theorem q156 : (Jvm.Cond.code ({ cls := "SeanceStreet$Scanner", name := "<init>", desc := "([B)V" } : Jvm.MethodName) prog_9_method_1_code (2 : Nat) (Option.none : Option Jvm.ClassFile.FieldType)) ∈ lw_all := lw_g (lw_at lw_m1 39 rfl) rfl
theorem q157 : (Jvm.Cond.methodLink "SeanceStreet$Scanner" (3 : Nat) ({ cls := "java/lang/Object", name := "<init>", desc := "()V" } : Jvm.MethodName)) ∈ lw_all := lw_g (lw_at lw_m1 40 rfl) rfl
theorem q158 : (Jvm.Cond.classLink "SeanceStreet$Scanner" (9 : Nat) "SeanceStreet$Refused") ∈ lw_all := lw_g (lw_at lw_m1 41 rfl) rfl
theorem q198 : (Jvm.Cond.methodLink "SeanceStreet$Scanner" (11 : Nat) ({ cls := "SeanceStreet$Refused", name := "<init>", desc := "()V" } : Jvm.MethodName)) ∈ lw_all := lw_g (lw_at lw_m1 81 rfl) rfl
theorem q232 : (Jvm.Cond.fieldLink "SeanceStreet$Scanner" (12 : Nat) "SeanceStreet$Scanner" "wrong" "LSeanceStreet$Refused;") ∈ lw_all := lw_g (lw_at lw_m1 115 rfl) rfl
theorem q233 : (Jvm.Cond.fieldLink "SeanceStreet$Scanner" (22 : Nat) "SeanceStreet$Scanner" "text" "[B") ∈ lw_all := lw_g (lw_at lw_m1 116 rfl) rfl
theorem q234 : (Jvm.Cond.fieldLink "SeanceStreet$Scanner" (18 : Nat) "SeanceStreet$Scanner" "letters" "[C") ∈ lw_all := lw_g (lw_at lw_m1 117 rfl) rfl
theorem q235 : (Jvm.Cond.fieldLink "SeanceStreet$Scanner" (33 : Nat) "SeanceStreet$Scanner" "size" "I") ∈ lw_all := lw_g (lw_at lw_m1 118 rfl) rfl
theorem q236 : (Jvm.Cond.fieldLink "SeanceStreet$Scanner" (40 : Nat) "SeanceStreet$Scanner" "end" "I") ∈ lw_all := lw_g (lw_at lw_m1 119 rfl) rfl
theorem q237 : (Jvm.Cond.fieldLink "SeanceStreet$Scanner" (47 : Nat) "SeanceStreet$Scanner" "token" "I") ∈ lw_all := lw_g (lw_at lw_m1 120 rfl) rfl
theorem q238 : (Jvm.Cond.fieldLink "SeanceStreet$Scanner" (26 : Nat) "SeanceStreet$Scanner" "at" "I") ∈ lw_all := lw_g (lw_at lw_m1 121 rfl) rfl
theorem q239 : (Jvm.Cond.fieldLink "SeanceStreet$Scanner" (68 : Nat) "SeanceStreet$Scanner" "whole" "I") ∈ lw_all := lw_g (lw_at lw_m1 122 rfl) rfl
theorem q240 : (Jvm.Cond.fieldLink "SeanceStreet$Scanner" (61 : Nat) "SeanceStreet$Scanner" "word" "Ljava/lang/String;") ∈ lw_all := lw_g (lw_at lw_m1 123 rfl) rfl
theorem q241 : (Jvm.Cond.fieldLink "SeanceStreet$Scanner" (105 : Nat) "SeanceStreet$Scanner" "town" "LSeanceStreet$Town;") ∈ lw_all := lw_g (lw_at lw_m1 124 rfl) rfl
theorem q242 : (Jvm.Cond.laysFinal "SeanceStreet$Scanner" "SeanceStreet$Scanner" "wrong" "LSeanceStreet$Refused;") ∈ lw_all := lw_g (lw_at lw_m1 125 rfl) rfl
theorem q243 : (Jvm.Cond.soleField "SeanceStreet$Scanner" "wrong") ∈ lw_all := lw_g (lw_at lw_m1 126 rfl) rfl
theorem q244 : (Jvm.Cond.laysFinal "SeanceStreet$Scanner" "SeanceStreet$Scanner" "text" "[B") ∈ lw_all := lw_g (lw_at lw_m1 127 rfl) rfl
theorem q245 : (Jvm.Cond.soleField "SeanceStreet$Scanner" "text") ∈ lw_all := lw_g (lw_at lw_m1 128 rfl) rfl
theorem q246 : (Jvm.Cond.laysFinal "SeanceStreet$Scanner" "SeanceStreet$Scanner" "letters" "[C") ∈ lw_all := lw_g (lw_at lw_m1 129 rfl) rfl
theorem q247 : (Jvm.Cond.soleField "SeanceStreet$Scanner" "letters") ∈ lw_all := lw_g (lw_at lw_m1 130 rfl) rfl
theorem q248 : (Jvm.Cond.lays "SeanceStreet$Scanner" "SeanceStreet$Scanner" "size" "I") ∈ lw_all := lw_g (lw_at lw_m1 131 rfl) rfl
theorem q249 : (Jvm.Cond.soleField "SeanceStreet$Scanner" "size") ∈ lw_all := lw_g (lw_at lw_m1 132 rfl) rfl
theorem q250 : (Jvm.Cond.lays "SeanceStreet$Scanner" "SeanceStreet$Scanner" "end" "I") ∈ lw_all := lw_g (lw_at lw_m1 133 rfl) rfl
theorem q251 : (Jvm.Cond.soleField "SeanceStreet$Scanner" "end") ∈ lw_all := lw_g (lw_at lw_m1 134 rfl) rfl
theorem q252 : (Jvm.Cond.lays "SeanceStreet$Scanner" "SeanceStreet$Scanner" "token" "I") ∈ lw_all := lw_g (lw_at lw_m1 135 rfl) rfl
theorem q253 : (Jvm.Cond.soleField "SeanceStreet$Scanner" "token") ∈ lw_all := lw_g (lw_at lw_m1 136 rfl) rfl
theorem q254 : (Jvm.Cond.lays "SeanceStreet$Scanner" "SeanceStreet$Scanner" "at" "I") ∈ lw_all := lw_g (lw_at lw_m1 137 rfl) rfl
theorem q255 : (Jvm.Cond.soleField "SeanceStreet$Scanner" "at") ∈ lw_all := lw_g (lw_at lw_m1 138 rfl) rfl
theorem q256 : (Jvm.Cond.lays "SeanceStreet$Scanner" "SeanceStreet$Scanner" "whole" "I") ∈ lw_all := lw_g (lw_at lw_m1 139 rfl) rfl
theorem q257 : (Jvm.Cond.soleField "SeanceStreet$Scanner" "whole") ∈ lw_all := lw_g (lw_at lw_m1 140 rfl) rfl
theorem q258 : (Jvm.Cond.lays "SeanceStreet$Scanner" "SeanceStreet$Scanner" "word" "Ljava/lang/String;") ∈ lw_all := lw_g (lw_at lw_m1 141 rfl) rfl
theorem q259 : (Jvm.Cond.soleField "SeanceStreet$Scanner" "word") ∈ lw_all := lw_g (lw_at lw_m1 142 rfl) rfl
theorem q260 : (Jvm.Cond.lays "SeanceStreet$Scanner" "SeanceStreet$Scanner" "town" "LSeanceStreet$Town;") ∈ lw_all := lw_g (lw_at lw_m1 143 rfl) rfl
theorem q261 : (Jvm.Cond.soleField "SeanceStreet$Scanner" "town") ∈ lw_all := lw_g (lw_at lw_m1 144 rfl) rfl
theorem q262 : (Jvm.Cond.superclass "SeanceStreet$Scanner" "java/lang/Object") ∈ lw_all := lw_g (lw_at lw_m1 145 rfl) rfl
theorem q440 : (Jvm.Cond.instanceMethod ({ cls := "SeanceStreet$Scanner", name := "read", desc := "(I)LSeanceStreet$Town;" } : Jvm.MethodName)) ∈ lw_all := lw_g (lw_at lw_m2 83 rfl) rfl
theorem q441 : (Jvm.Cond.selects "SeanceStreet$Scanner" ({ cls := "SeanceStreet$Scanner", name := "read", desc := "(I)LSeanceStreet$Town;" } : Jvm.MethodName) ({ cls := "SeanceStreet$Scanner", name := "read", desc := "(I)LSeanceStreet$Town;" } : Jvm.MethodName)) ∈ lw_all := lw_g (lw_at lw_m2 84 rfl) rfl
theorem q442 : (Jvm.Cond.code ({ cls := "SeanceStreet$Scanner", name := "read", desc := "(I)LSeanceStreet$Town;" } : Jvm.MethodName) prog_9_method_17_code (2 : Nat) (Option.some (Jvm.ClassFile.FieldType.object "SeanceStreet$Town"))) ∈ lw_all := lw_g (lw_at lw_m2 85 rfl) rfl
theorem q443 : (Jvm.Cond.classLink "SeanceStreet$Scanner" (109 : Nat) "SeanceStreet$Town") ∈ lw_all := lw_g (lw_at lw_m2 86 rfl) rfl
theorem q445 : (Jvm.Cond.methodLinkNest "SeanceStreet$Scanner" (132 : Nat) ({ cls := "SeanceStreet$Town", name := "<init>", desc := "()V" } : Jvm.MethodName) "SeanceStreet") ∈ lw_tbl := lw_at lw_m2 88 rfl
theorem q455 : (Jvm.Cond.fieldLink "SeanceStreet$Scanner" (182 : Nat) "SeanceStreet$Town" "people" "[LSeanceStreet$Person;") ∈ lw_all := lw_g (lw_at lw_m2 98 rfl) rfl
theorem q460 : (Jvm.Cond.fieldLink "SeanceStreet$Scanner" (228 : Nat) "SeanceStreet$Town" "ghosts" "[LSeanceStreet$Ghost;") ∈ lw_all := lw_g (lw_at lw_m2 103 rfl) rfl
theorem q462 : (Jvm.Cond.fieldLink "SeanceStreet$Scanner" (244 : Nat) "SeanceStreet$Town" "unsure" "[I") ∈ lw_all := lw_g (lw_at lw_m2 105 rfl) rfl
theorem q465 : (Jvm.Cond.fieldLink "SeanceStreet$Scanner" (251 : Nat) "SeanceStreet$Town" "heardBy" "[I") ∈ lw_all := lw_g (lw_at lw_m2 108 rfl) rfl
theorem q468 : (Jvm.Cond.fieldLink "SeanceStreet$Scanner" (254 : Nat) "SeanceStreet$Town" "heardOf" "[I") ∈ lw_all := lw_g (lw_at lw_m2 111 rfl) rfl
theorem q471 : (Jvm.Cond.fieldLink "SeanceStreet$Scanner" (259 : Nat) "SeanceStreet$Town" "heardIn" "[I") ∈ lw_all := lw_g (lw_at lw_m2 114 rfl) rfl
theorem q475 : (Jvm.Cond.fieldLink "SeanceStreet$Scanner" (129 : Nat) "SeanceStreet$Town" "houses" "I") ∈ lw_all := lw_g (lw_at lw_m2 118 rfl) rfl
theorem q477 : (Jvm.Cond.fieldLink "SeanceStreet$Scanner" (164 : Nat) "SeanceStreet$Town" "lips" "I") ∈ lw_all := lw_g (lw_at lw_m2 120 rfl) rfl
theorem q482 : (Jvm.Cond.fieldLink "SeanceStreet$Scanner" (136 : Nat) "SeanceStreet$Town" "peopleMany" "I") ∈ lw_all := lw_g (lw_at lw_m2 125 rfl) rfl
theorem q487 : (Jvm.Cond.fieldLink "SeanceStreet$Scanner" (206 : Nat) "SeanceStreet$Town" "ghostMany" "I") ∈ lw_all := lw_g (lw_at lw_m2 130 rfl) rfl
theorem q488 : (Jvm.Cond.fieldLink "SeanceStreet$Scanner" (238 : Nat) "SeanceStreet$Town" "unsureMany" "I") ∈ lw_all := lw_g (lw_at lw_m2 131 rfl) rfl
theorem q490 : (Jvm.Cond.fieldLink "SeanceStreet$Scanner" (248 : Nat) "SeanceStreet$Town" "heardMany" "I") ∈ lw_all := lw_g (lw_at lw_m2 133 rfl) rfl
theorem q517 : (Jvm.Cond.methodLink "SeanceStreet$Scanner" (75 : Nat) ({ cls := "SeanceStreet$Scanner", name := "step", desc := "()V" } : Jvm.MethodName)) ∈ lw_all := lw_g (lw_at lw_m2 160 rfl) rfl
theorem q518 : (Jvm.Cond.privateMethod ({ cls := "SeanceStreet$Scanner", name := "step", desc := "()V" } : Jvm.MethodName)) ∈ lw_tbl := lw_at lw_m2 161 rfl
theorem q519 : (Jvm.Cond.instanceMethod ({ cls := "SeanceStreet$Scanner", name := "step", desc := "()V" } : Jvm.MethodName)) ∈ lw_all := lw_g (lw_at lw_m2 162 rfl) rfl
theorem q520 : (Jvm.Cond.code ({ cls := "SeanceStreet$Scanner", name := "step", desc := "()V" } : Jvm.MethodName) prog_9_method_6_code (3 : Nat) (Option.none : Option Jvm.ClassFile.FieldType)) ∈ lw_all := lw_g (lw_at lw_m2 163 rfl) rfl
theorem q521 : (Jvm.Cond.methodLink "SeanceStreet$Scanner" (43 : Nat) ({ cls := "SeanceStreet$Scanner", name := "see", desc := "(I)I" } : Jvm.MethodName)) ∈ lw_all := lw_g (lw_at lw_m2 164 rfl) rfl
theorem q522 : (Jvm.Cond.privateMethod ({ cls := "SeanceStreet$Scanner", name := "see", desc := "(I)I" } : Jvm.MethodName)) ∈ lw_tbl := lw_at lw_m2 165 rfl
theorem q523 : (Jvm.Cond.instanceMethod ({ cls := "SeanceStreet$Scanner", name := "see", desc := "(I)I" } : Jvm.MethodName)) ∈ lw_all := lw_g (lw_at lw_m2 166 rfl) rfl
theorem q524 : (Jvm.Cond.code ({ cls := "SeanceStreet$Scanner", name := "see", desc := "(I)I" } : Jvm.MethodName) prog_9_method_3_code (2 : Nat) (Option.some Jvm.ClassFile.FieldType.int)) ∈ lw_all := lw_g (lw_at lw_m2 167 rfl) rfl
theorem q525 : (Jvm.Cond.methodLink "SeanceStreet$Scanner" (50 : Nat) ({ cls := "SeanceStreet$Scanner", name := "isSmall", desc := "(I)Z" } : Jvm.MethodName)) ∈ lw_all := lw_g (lw_at lw_m2 168 rfl) rfl
theorem q526 : (Jvm.Cond.static ({ cls := "SeanceStreet$Scanner", name := "isSmall", desc := "(I)Z" } : Jvm.MethodName)) ∈ lw_all := lw_g (lw_at lw_m2 169 rfl) rfl
theorem q527 : (Jvm.Cond.code ({ cls := "SeanceStreet$Scanner", name := "isSmall", desc := "(I)Z" } : Jvm.MethodName) prog_9_method_4_code (1 : Nat) (Option.some Jvm.ClassFile.FieldType.boolean)) ∈ lw_all := lw_g (lw_at lw_m2 170 rfl) rfl
theorem q528 : (Jvm.Cond.methodLinkNest "SeanceStreet$Scanner" (36 : Nat) ({ cls := "SeanceStreet", name := "in", desc := "(III)Z" } : Jvm.MethodName) "SeanceStreet") ∈ lw_tbl := lw_at lw_m2 171 rfl
theorem q529 : (Jvm.Cond.classLink "SeanceStreet$Scanner" (54 : Nat) "java/lang/String") ∈ lw_all := lw_g (lw_at lw_m2 172 rfl) rfl
theorem q531 : (Jvm.Cond.methodLink "SeanceStreet$Scanner" (56 : Nat) ({ cls := "java/lang/String", name := "<init>", desc := "([CII)V" } : Jvm.MethodName)) ∈ lw_all := lw_g (lw_at lw_m2 174 rfl) rfl
theorem q607 : (Jvm.Cond.stringRef "SeanceStreet$Scanner" (59 : Nat) "") ∈ lw_tbl := lw_at lw_m3 10 rfl
theorem q608 : (Jvm.Cond.methodLink "SeanceStreet$Scanner" (65 : Nat) ({ cls := "SeanceStreet$Scanner", name := "isDigit", desc := "(I)Z" } : Jvm.MethodName)) ∈ lw_all := lw_g (lw_at lw_m3 11 rfl) rfl
theorem q609 : (Jvm.Cond.static ({ cls := "SeanceStreet$Scanner", name := "isDigit", desc := "(I)Z" } : Jvm.MethodName)) ∈ lw_all := lw_g (lw_at lw_m3 12 rfl) rfl
theorem q610 : (Jvm.Cond.code ({ cls := "SeanceStreet$Scanner", name := "isDigit", desc := "(I)Z" } : Jvm.MethodName) prog_9_method_5_code (1 : Nat) (Option.some Jvm.ClassFile.FieldType.boolean)) ∈ lw_all := lw_g (lw_at lw_m3 13 rfl) rfl
theorem q611 : (Jvm.Cond.methodLink "SeanceStreet$Scanner" (133 : Nat) ({ cls := "SeanceStreet$Scanner", name := "line", desc := "()V" } : Jvm.MethodName)) ∈ lw_all := lw_g (lw_at lw_m3 14 rfl) rfl
theorem q612 : (Jvm.Cond.privateMethod ({ cls := "SeanceStreet$Scanner", name := "line", desc := "()V" } : Jvm.MethodName)) ∈ lw_tbl := lw_at lw_m3 15 rfl
theorem q613 : (Jvm.Cond.instanceMethod ({ cls := "SeanceStreet$Scanner", name := "line", desc := "()V" } : Jvm.MethodName)) ∈ lw_all := lw_g (lw_at lw_m3 16 rfl) rfl
theorem q614 : (Jvm.Cond.code ({ cls := "SeanceStreet$Scanner", name := "line", desc := "()V" } : Jvm.MethodName) prog_9_method_18_code (3 : Nat) (Option.none : Option Jvm.ClassFile.FieldType)) ∈ lw_all := lw_g (lw_at lw_m3 17 rfl) rfl
theorem q615 : (Jvm.Cond.methodLink "SeanceStreet$Scanner" (82 : Nat) ({ cls := "SeanceStreet$Scanner", name := "fail", desc := "(I)LSeanceStreet$Refused;" } : Jvm.MethodName)) ∈ lw_all := lw_g (lw_at lw_m3 18 rfl) rfl
theorem q616 : (Jvm.Cond.privateMethod ({ cls := "SeanceStreet$Scanner", name := "fail", desc := "(I)LSeanceStreet$Refused;" } : Jvm.MethodName)) ∈ lw_tbl := lw_at lw_m3 19 rfl
theorem q617 : (Jvm.Cond.instanceMethod ({ cls := "SeanceStreet$Scanner", name := "fail", desc := "(I)LSeanceStreet$Refused;" } : Jvm.MethodName)) ∈ lw_all := lw_g (lw_at lw_m3 20 rfl) rfl
theorem q618 : (Jvm.Cond.code ({ cls := "SeanceStreet$Scanner", name := "fail", desc := "(I)LSeanceStreet$Refused;" } : Jvm.MethodName) prog_9_method_2_code (2 : Nat) (Option.some (Jvm.ClassFile.FieldType.object "SeanceStreet$Refused"))) ∈ lw_all := lw_g (lw_at lw_m3 21 rfl) rfl
theorem q619 : (Jvm.Cond.methodLink "SeanceStreet$Scanner" (30 : Nat) ({ cls := "SeanceStreet$Refused", name := "at", desc := "(II)LSeanceStreet$Refused;" } : Jvm.MethodName)) ∈ lw_all := lw_g (lw_at lw_m3 22 rfl) rfl
theorem q623 : (Jvm.Cond.methodLink "SeanceStreet$Scanner" (86 : Nat) ({ cls := "java/lang/String", name := "hashCode", desc := "()I" } : Jvm.MethodName)) ∈ lw_all := lw_g (lw_at lw_m3 26 rfl) rfl
theorem q676 : (Jvm.Cond.stringRef "SeanceStreet$Scanner" (90 : Nat) "town") ∈ lw_tbl := lw_at lw_m3 79 rfl
theorem q677 : (Jvm.Cond.methodLink "SeanceStreet$Scanner" (71 : Nat) ({ cls := "java/lang/String", name := "equals", desc := "(Ljava/lang/Object;)Z" } : Jvm.MethodName)) ∈ lw_all := lw_g (lw_at lw_m3 80 rfl) rfl
theorem q685 : (Jvm.Cond.stringRef "SeanceStreet$Scanner" (92 : Nat) "person") ∈ lw_tbl := lw_at lw_m3 88 rfl
theorem q686 : (Jvm.Cond.stringRef "SeanceStreet$Scanner" (94 : Nat) "dead") ∈ lw_tbl := lw_at lw_m3 89 rfl
theorem q687 : (Jvm.Cond.stringRef "SeanceStreet$Scanner" (96 : Nat) "mirror") ∈ lw_tbl := lw_at lw_m3 90 rfl
theorem q688 : (Jvm.Cond.stringRef "SeanceStreet$Scanner" (98 : Nat) "unsure") ∈ lw_tbl := lw_at lw_m3 91 rfl
theorem q689 : (Jvm.Cond.stringRef "SeanceStreet$Scanner" (100 : Nat) "heard") ∈ lw_tbl := lw_at lw_m3 92 rfl
theorem q690 : (Jvm.Cond.methodLink "SeanceStreet$Scanner" (139 : Nat) ({ cls := "SeanceStreet$Scanner", name := "townLine", desc := "()V" } : Jvm.MethodName)) ∈ lw_all := lw_g (lw_at lw_m3 93 rfl) rfl
theorem q691 : (Jvm.Cond.privateMethod ({ cls := "SeanceStreet$Scanner", name := "townLine", desc := "()V" } : Jvm.MethodName)) ∈ lw_tbl := lw_at lw_m3 94 rfl
theorem q692 : (Jvm.Cond.instanceMethod ({ cls := "SeanceStreet$Scanner", name := "townLine", desc := "()V" } : Jvm.MethodName)) ∈ lw_all := lw_g (lw_at lw_m3 95 rfl) rfl
theorem q693 : (Jvm.Cond.code ({ cls := "SeanceStreet$Scanner", name := "townLine", desc := "()V" } : Jvm.MethodName) prog_9_method_19_code (2 : Nat) (Option.none : Option Jvm.ClassFile.FieldType)) ∈ lw_all := lw_g (lw_at lw_m3 96 rfl) rfl
theorem q694 : (Jvm.Cond.stringRef "SeanceStreet$Scanner" (157 : Nat) "houses") ∈ lw_tbl := lw_at lw_m3 97 rfl
theorem q695 : (Jvm.Cond.methodLink "SeanceStreet$Scanner" (158 : Nat) ({ cls := "SeanceStreet$Scanner", name := "after", desc := "(Ljava/lang/String;II)I" } : Jvm.MethodName)) ∈ lw_all := lw_g (lw_at lw_m3 98 rfl) rfl
theorem q696 : (Jvm.Cond.privateMethod ({ cls := "SeanceStreet$Scanner", name := "after", desc := "(Ljava/lang/String;II)I" } : Jvm.MethodName)) ∈ lw_tbl := lw_at lw_m3 99 rfl
theorem q697 : (Jvm.Cond.instanceMethod ({ cls := "SeanceStreet$Scanner", name := "after", desc := "(Ljava/lang/String;II)I" } : Jvm.MethodName)) ∈ lw_all := lw_g (lw_at lw_m3 100 rfl) rfl
theorem q698 : (Jvm.Cond.code ({ cls := "SeanceStreet$Scanner", name := "after", desc := "(Ljava/lang/String;II)I" } : Jvm.MethodName) prog_9_method_15_code (4 : Nat) (Option.some Jvm.ClassFile.FieldType.int)) ∈ lw_all := lw_g (lw_at lw_m3 101 rfl) rfl
theorem q699 : (Jvm.Cond.methodLink "SeanceStreet$Scanner" (122 : Nat) ({ cls := "SeanceStreet$Scanner", name := "must", desc := "(Ljava/lang/String;)V" } : Jvm.MethodName)) ∈ lw_all := lw_g (lw_at lw_m3 102 rfl) rfl
theorem q700 : (Jvm.Cond.privateMethod ({ cls := "SeanceStreet$Scanner", name := "must", desc := "(Ljava/lang/String;)V" } : Jvm.MethodName)) ∈ lw_tbl := lw_at lw_m3 103 rfl
theorem q701 : (Jvm.Cond.instanceMethod ({ cls := "SeanceStreet$Scanner", name := "must", desc := "(Ljava/lang/String;)V" } : Jvm.MethodName)) ∈ lw_all := lw_g (lw_at lw_m3 104 rfl) rfl
theorem q702 : (Jvm.Cond.code ({ cls := "SeanceStreet$Scanner", name := "must", desc := "(Ljava/lang/String;)V" } : Jvm.MethodName) prog_9_method_8_code (2 : Nat) (Option.none : Option Jvm.ClassFile.FieldType)) ∈ lw_all := lw_g (lw_at lw_m3 105 rfl) rfl
theorem q703 : (Jvm.Cond.methodLink "SeanceStreet$Scanner" (78 : Nat) ({ cls := "SeanceStreet$Scanner", name := "takes", desc := "(Ljava/lang/String;)Z" } : Jvm.MethodName)) ∈ lw_all := lw_g (lw_at lw_m3 106 rfl) rfl
theorem q704 : (Jvm.Cond.privateMethod ({ cls := "SeanceStreet$Scanner", name := "takes", desc := "(Ljava/lang/String;)Z" } : Jvm.MethodName)) ∈ lw_tbl := lw_at lw_m3 107 rfl
theorem q705 : (Jvm.Cond.instanceMethod ({ cls := "SeanceStreet$Scanner", name := "takes", desc := "(Ljava/lang/String;)Z" } : Jvm.MethodName)) ∈ lw_all := lw_g (lw_at lw_m3 108 rfl) rfl
theorem q706 : (Jvm.Cond.code ({ cls := "SeanceStreet$Scanner", name := "takes", desc := "(Ljava/lang/String;)Z" } : Jvm.MethodName) prog_9_method_7_code (2 : Nat) (Option.some Jvm.ClassFile.FieldType.boolean)) ∈ lw_all := lw_g (lw_at lw_m3 109 rfl) rfl
theorem q707 : (Jvm.Cond.methodLink "SeanceStreet$Scanner" (126 : Nat) ({ cls := "SeanceStreet$Scanner", name := "number", desc := "(II)I" } : Jvm.MethodName)) ∈ lw_all := lw_g (lw_at lw_m3 110 rfl) rfl
theorem q708 : (Jvm.Cond.privateMethod ({ cls := "SeanceStreet$Scanner", name := "number", desc := "(II)I" } : Jvm.MethodName)) ∈ lw_tbl := lw_at lw_m3 111 rfl
theorem q709 : (Jvm.Cond.instanceMethod ({ cls := "SeanceStreet$Scanner", name := "number", desc := "(II)I" } : Jvm.MethodName)) ∈ lw_all := lw_g (lw_at lw_m3 112 rfl) rfl
theorem q710 : (Jvm.Cond.code ({ cls := "SeanceStreet$Scanner", name := "number", desc := "(II)I" } : Jvm.MethodName) prog_9_method_14_code (4 : Nat) (Option.some Jvm.ClassFile.FieldType.int)) ∈ lw_all := lw_g (lw_at lw_m3 113 rfl) rfl
theorem q711 : (Jvm.Cond.methodLink "SeanceStreet$Scanner" (118 : Nat) ({ cls := "SeanceStreet$Scanner", name := "wholeHere", desc := "(II)I" } : Jvm.MethodName)) ∈ lw_all := lw_g (lw_at lw_m3 114 rfl) rfl
theorem q712 : (Jvm.Cond.privateMethod ({ cls := "SeanceStreet$Scanner", name := "wholeHere", desc := "(II)I" } : Jvm.MethodName)) ∈ lw_tbl := lw_at lw_m3 115 rfl
theorem q713 : (Jvm.Cond.instanceMethod ({ cls := "SeanceStreet$Scanner", name := "wholeHere", desc := "(II)I" } : Jvm.MethodName)) ∈ lw_all := lw_g (lw_at lw_m3 116 rfl) rfl
theorem q714 : (Jvm.Cond.code ({ cls := "SeanceStreet$Scanner", name := "wholeHere", desc := "(II)I" } : Jvm.MethodName) prog_9_method_13_code (3 : Nat) (Option.some Jvm.ClassFile.FieldType.int)) ∈ lw_all := lw_g (lw_at lw_m3 117 rfl) rfl
theorem q715 : (Jvm.Cond.stringRef "SeanceStreet$Scanner" (162 : Nat) "lips") ∈ lw_tbl := lw_at lw_m3 118 rfl
theorem q716 : (Jvm.Cond.methodLink "SeanceStreet$Scanner" (142 : Nat) ({ cls := "SeanceStreet$Scanner", name := "personLine", desc := "()V" } : Jvm.MethodName)) ∈ lw_all := lw_g (lw_at lw_m3 119 rfl) rfl
theorem q717 : (Jvm.Cond.privateMethod ({ cls := "SeanceStreet$Scanner", name := "personLine", desc := "()V" } : Jvm.MethodName)) ∈ lw_tbl := lw_at lw_m3 120 rfl
theorem q718 : (Jvm.Cond.instanceMethod ({ cls := "SeanceStreet$Scanner", name := "personLine", desc := "()V" } : Jvm.MethodName)) ∈ lw_all := lw_g (lw_at lw_m3 121 rfl) rfl
theorem q719 : (Jvm.Cond.code ({ cls := "SeanceStreet$Scanner", name := "personLine", desc := "()V" } : Jvm.MethodName) prog_9_method_20_code (3 : Nat) (Option.none : Option Jvm.ClassFile.FieldType)) ∈ lw_all := lw_g (lw_at lw_m3 122 rfl) rfl
theorem q720 : (Jvm.Cond.methodLink "SeanceStreet$Scanner" (166 : Nat) ({ cls := "SeanceStreet$Scanner", name := "begins", desc := "(Z)V" } : Jvm.MethodName)) ∈ lw_all := lw_g (lw_at lw_m3 123 rfl) rfl
theorem q721 : (Jvm.Cond.privateMethod ({ cls := "SeanceStreet$Scanner", name := "begins", desc := "(Z)V" } : Jvm.MethodName)) ∈ lw_tbl := lw_at lw_m3 124 rfl
theorem q722 : (Jvm.Cond.instanceMethod ({ cls := "SeanceStreet$Scanner", name := "begins", desc := "(Z)V" } : Jvm.MethodName)) ∈ lw_all := lw_g (lw_at lw_m3 125 rfl) rfl
theorem q723 : (Jvm.Cond.code ({ cls := "SeanceStreet$Scanner", name := "begins", desc := "(Z)V" } : Jvm.MethodName) prog_9_method_16_code (2 : Nat) (Option.none : Option Jvm.ClassFile.FieldType)) ∈ lw_all := lw_g (lw_at lw_m3 126 rfl) rfl
theorem q724 : (Jvm.Cond.classLink "SeanceStreet$Scanner" (114 : Nat) "SeanceStreet$Person") ∈ lw_all := lw_g (lw_at lw_m3 127 rfl) rfl
theorem q726 : (Jvm.Cond.methodLink "SeanceStreet$Scanner" (170 : Nat) ({ cls := "SeanceStreet$Scanner", name := "newName", desc := "()Ljava/lang/String;" } : Jvm.MethodName)) ∈ lw_all := lw_g (lw_at lw_m3 129 rfl) rfl
theorem q727 : (Jvm.Cond.privateMethod ({ cls := "SeanceStreet$Scanner", name := "newName", desc := "()Ljava/lang/String;" } : Jvm.MethodName)) ∈ lw_tbl := lw_at lw_m3 130 rfl
theorem q728 : (Jvm.Cond.instanceMethod ({ cls := "SeanceStreet$Scanner", name := "newName", desc := "()Ljava/lang/String;" } : Jvm.MethodName)) ∈ lw_all := lw_g (lw_at lw_m3 131 rfl) rfl
theorem q729 : (Jvm.Cond.code ({ cls := "SeanceStreet$Scanner", name := "newName", desc := "()Ljava/lang/String;" } : Jvm.MethodName) prog_9_method_10_code (2 : Nat) (Option.some (Jvm.ClassFile.FieldType.object "java/lang/String"))) ∈ lw_all := lw_g (lw_at lw_m3 132 rfl) rfl
theorem q730 : (Jvm.Cond.methodLink "SeanceStreet$Scanner" (102 : Nat) ({ cls := "SeanceStreet$Scanner", name := "mustName", desc := "()V" } : Jvm.MethodName)) ∈ lw_all := lw_g (lw_at lw_m3 133 rfl) rfl
theorem q731 : (Jvm.Cond.privateMethod ({ cls := "SeanceStreet$Scanner", name := "mustName", desc := "()V" } : Jvm.MethodName)) ∈ lw_tbl := lw_at lw_m3 134 rfl
theorem q732 : (Jvm.Cond.instanceMethod ({ cls := "SeanceStreet$Scanner", name := "mustName", desc := "()V" } : Jvm.MethodName)) ∈ lw_all := lw_g (lw_at lw_m3 135 rfl) rfl
theorem q733 : (Jvm.Cond.code ({ cls := "SeanceStreet$Scanner", name := "mustName", desc := "()V" } : Jvm.MethodName) prog_9_method_9_code (3 : Nat) (Option.none : Option Jvm.ClassFile.FieldType)) ∈ lw_all := lw_g (lw_at lw_m3 136 rfl) rfl
theorem q734 : (Jvm.Cond.methodLink "SeanceStreet$Scanner" (108 : Nat) ({ cls := "SeanceStreet$Town", name := "find", desc := "(Ljava/lang/String;)LSeanceStreet$Named;" } : Jvm.MethodName)) ∈ lw_all := lw_g (lw_at lw_m3 137 rfl) rfl
theorem q742 : (Jvm.Cond.methodLink "SeanceStreet$Scanner" (174 : Nat) ({ cls := "SeanceStreet$Person", name := "<init>", desc := "(Ljava/lang/String;I)V" } : Jvm.MethodName)) ∈ lw_all := lw_g (lw_at lw_m3 145 rfl) rfl
theorem q750 : (Jvm.Cond.fieldLink "SeanceStreet$Scanner" (179 : Nat) "SeanceStreet$Person" "home" "I") ∈ lw_all := lw_g (lw_at lw_m3 153 rfl) rfl
theorem q754 : (Jvm.Cond.fieldLink "SeanceStreet$Scanner" (223 : Nat) "SeanceStreet$Person" "number" "I") ∈ lw_all := lw_g (lw_at lw_m3 157 rfl) rfl
theorem q756 : (Jvm.Cond.fieldLink "SeanceStreet$Scanner" (247 : Nat) "SeanceStreet$Ghost" "number" "I") ∈ lw_all := lw_g (lw_at lw_m3 159 rfl) rfl
theorem q765 : (Jvm.Cond.stringRef "SeanceStreet$Scanner" (177 : Nat) "house") ∈ lw_tbl := lw_at lw_m3 168 rfl
theorem q766 : (Jvm.Cond.methodLink "SeanceStreet$Scanner" (145 : Nat) ({ cls := "SeanceStreet$Scanner", name := "deadLine", desc := "()V" } : Jvm.MethodName)) ∈ lw_all := lw_g (lw_at lw_m3 169 rfl) rfl
theorem q767 : (Jvm.Cond.privateMethod ({ cls := "SeanceStreet$Scanner", name := "deadLine", desc := "()V" } : Jvm.MethodName)) ∈ lw_tbl := lw_at lw_m3 170 rfl
theorem q768 : (Jvm.Cond.instanceMethod ({ cls := "SeanceStreet$Scanner", name := "deadLine", desc := "()V" } : Jvm.MethodName)) ∈ lw_all := lw_g (lw_at lw_m3 171 rfl) rfl
theorem q769 : (Jvm.Cond.code ({ cls := "SeanceStreet$Scanner", name := "deadLine", desc := "()V" } : Jvm.MethodName) prog_9_method_22_code (2 : Nat) (Option.none : Option Jvm.ClassFile.FieldType)) ∈ lw_all := lw_g (lw_at lw_m3 172 rfl) rfl
theorem q770 : (Jvm.Cond.methodLink "SeanceStreet$Scanner" (209 : Nat) ({ cls := "SeanceStreet$Scanner", name := "ghostOf", desc := "(Ljava/lang/String;I)LSeanceStreet$Ghost;" } : Jvm.MethodName)) ∈ lw_all := lw_g (lw_at lw_m3 173 rfl) rfl
theorem q771 : (Jvm.Cond.privateMethod ({ cls := "SeanceStreet$Scanner", name := "ghostOf", desc := "(Ljava/lang/String;I)LSeanceStreet$Ghost;" } : Jvm.MethodName)) ∈ lw_tbl := lw_at lw_m3 174 rfl
theorem q772 : (Jvm.Cond.instanceMethod ({ cls := "SeanceStreet$Scanner", name := "ghostOf", desc := "(Ljava/lang/String;I)LSeanceStreet$Ghost;" } : Jvm.MethodName)) ∈ lw_all := lw_g (lw_at lw_m3 175 rfl) rfl
theorem q773 : (Jvm.Cond.code ({ cls := "SeanceStreet$Scanner", name := "ghostOf", desc := "(Ljava/lang/String;I)LSeanceStreet$Ghost;" } : Jvm.MethodName) prog_9_method_21_code (3 : Nat) (Option.some (Jvm.ClassFile.FieldType.object "SeanceStreet$Ghost"))) ∈ lw_all := lw_g (lw_at lw_m3 176 rfl) rfl
theorem q774 : (Jvm.Cond.stringRef "SeanceStreet$Scanner" (186 : Nat) "late") ∈ lw_tbl := lw_at lw_m3 177 rfl
theorem q775 : (Jvm.Cond.classLink "SeanceStreet$Scanner" (188 : Nat) "SeanceStreet$Late") ∈ lw_all := lw_g (lw_at lw_m3 178 rfl) rfl
theorem q777 : (Jvm.Cond.methodLink "SeanceStreet$Scanner" (190 : Nat) ({ cls := "SeanceStreet$Late", name := "<init>", desc := "(Ljava/lang/String;I)V" } : Jvm.MethodName)) ∈ lw_all := lw_g (lw_at lw_m3 180 rfl) rfl
theorem q785 : (Jvm.Cond.fieldLink "SeanceStreet$Scanner" (215 : Nat) "SeanceStreet$Ghost" "slip" "I") ∈ lw_all := lw_g (lw_at lw_m3 188 rfl) rfl
theorem q788 : (Jvm.Cond.fieldLink "SeanceStreet$Scanner" (225 : Nat) "SeanceStreet$Ghost" "whose" "I") ∈ lw_all := lw_g (lw_at lw_m3 191 rfl) rfl
theorem q792 : (Jvm.Cond.fieldLink "SeanceStreet$Scanner" (236 : Nat) "SeanceStreet$Ghost" "mirror" "I") ∈ lw_all := lw_g (lw_at lw_m3 195 rfl) rfl
theorem q794 : (Jvm.Cond.fieldLink "SeanceStreet$Scanner" (241 : Nat) "SeanceStreet$Ghost" "other" "I") ∈ lw_all := lw_g (lw_at lw_m3 197 rfl) rfl
theorem q807 : (Jvm.Cond.stringRef "SeanceStreet$Scanner" (191 : Nat) "early") ∈ lw_tbl := lw_at lw_m3 210 rfl
theorem q808 : (Jvm.Cond.classLink "SeanceStreet$Scanner" (193 : Nat) "SeanceStreet$Early") ∈ lw_all := lw_g (lw_at lw_m3 211 rfl) rfl
theorem q810 : (Jvm.Cond.methodLink "SeanceStreet$Scanner" (195 : Nat) ({ cls := "SeanceStreet$Early", name := "<init>", desc := "(Ljava/lang/String;I)V" } : Jvm.MethodName)) ∈ lw_all := lw_g (lw_at lw_m3 213 rfl) rfl
theorem q821 : (Jvm.Cond.stringRef "SeanceStreet$Scanner" (196 : Nat) "drift") ∈ lw_tbl := lw_at lw_m3 224 rfl
theorem q822 : (Jvm.Cond.classLink "SeanceStreet$Scanner" (198 : Nat) "SeanceStreet$Drift") ∈ lw_all := lw_g (lw_at lw_m3 225 rfl) rfl
theorem q824 : (Jvm.Cond.methodLink "SeanceStreet$Scanner" (200 : Nat) ({ cls := "SeanceStreet$Drift", name := "<init>", desc := "(Ljava/lang/String;I)V" } : Jvm.MethodName)) ∈ lw_all := lw_g (lw_at lw_m3 227 rfl) rfl
theorem q835 : (Jvm.Cond.stringRef "SeanceStreet$Scanner" (201 : Nat) "swing") ∈ lw_tbl := lw_at lw_m3 238 rfl
theorem q836 : (Jvm.Cond.classLink "SeanceStreet$Scanner" (203 : Nat) "SeanceStreet$Swing") ∈ lw_all := lw_g (lw_at lw_m3 239 rfl) rfl
theorem q838 : (Jvm.Cond.methodLink "SeanceStreet$Scanner" (205 : Nat) ({ cls := "SeanceStreet$Swing", name := "<init>", desc := "(Ljava/lang/String;I)V" } : Jvm.MethodName)) ∈ lw_all := lw_g (lw_at lw_m4 1 rfl) rfl
theorem q849 : (Jvm.Cond.stringRef "SeanceStreet$Scanner" (213 : Nat) "slip") ∈ lw_tbl := lw_at lw_m4 12 rfl
theorem q850 : (Jvm.Cond.stringRef "SeanceStreet$Scanner" (217 : Nat) "for") ∈ lw_tbl := lw_at lw_m4 13 rfl
theorem q851 : (Jvm.Cond.methodLink "SeanceStreet$Scanner" (219 : Nat) ({ cls := "SeanceStreet$Scanner", name := "personPassed", desc := "()LSeanceStreet$Person;" } : Jvm.MethodName)) ∈ lw_all := lw_g (lw_at lw_m4 14 rfl) rfl
theorem q852 : (Jvm.Cond.privateMethod ({ cls := "SeanceStreet$Scanner", name := "personPassed", desc := "()LSeanceStreet$Person;" } : Jvm.MethodName)) ∈ lw_tbl := lw_at lw_m4 15 rfl
theorem q853 : (Jvm.Cond.instanceMethod ({ cls := "SeanceStreet$Scanner", name := "personPassed", desc := "()LSeanceStreet$Person;" } : Jvm.MethodName)) ∈ lw_all := lw_g (lw_at lw_m4 16 rfl) rfl
theorem q854 : (Jvm.Cond.code ({ cls := "SeanceStreet$Scanner", name := "personPassed", desc := "()LSeanceStreet$Person;" } : Jvm.MethodName) prog_9_method_11_code (2 : Nat) (Option.some (Jvm.ClassFile.FieldType.object "SeanceStreet$Person"))) ∈ lw_all := lw_g (lw_at lw_m4 17 rfl) rfl
theorem q855 : (Jvm.Cond.methodLink "SeanceStreet$Scanner" (148 : Nat) ({ cls := "SeanceStreet$Scanner", name := "mirrorLine", desc := "()V" } : Jvm.MethodName)) ∈ lw_all := lw_g (lw_at lw_m4 18 rfl) rfl
theorem q856 : (Jvm.Cond.privateMethod ({ cls := "SeanceStreet$Scanner", name := "mirrorLine", desc := "()V" } : Jvm.MethodName)) ∈ lw_tbl := lw_at lw_m4 19 rfl
theorem q857 : (Jvm.Cond.instanceMethod ({ cls := "SeanceStreet$Scanner", name := "mirrorLine", desc := "()V" } : Jvm.MethodName)) ∈ lw_all := lw_g (lw_at lw_m4 20 rfl) rfl
theorem q858 : (Jvm.Cond.code ({ cls := "SeanceStreet$Scanner", name := "mirrorLine", desc := "()V" } : Jvm.MethodName) prog_9_method_23_code (2 : Nat) (Option.none : Option Jvm.ClassFile.FieldType)) ∈ lw_all := lw_g (lw_at lw_m4 21 rfl) rfl
theorem q859 : (Jvm.Cond.methodLink "SeanceStreet$Scanner" (232 : Nat) ({ cls := "SeanceStreet$Scanner", name := "ghostHere", desc := "()LSeanceStreet$Ghost;" } : Jvm.MethodName)) ∈ lw_all := lw_g (lw_at lw_m4 22 rfl) rfl
theorem q860 : (Jvm.Cond.privateMethod ({ cls := "SeanceStreet$Scanner", name := "ghostHere", desc := "()LSeanceStreet$Ghost;" } : Jvm.MethodName)) ∈ lw_tbl := lw_at lw_m4 23 rfl
theorem q861 : (Jvm.Cond.instanceMethod ({ cls := "SeanceStreet$Scanner", name := "ghostHere", desc := "()LSeanceStreet$Ghost;" } : Jvm.MethodName)) ∈ lw_all := lw_g (lw_at lw_m4 24 rfl) rfl
theorem q862 : (Jvm.Cond.code ({ cls := "SeanceStreet$Scanner", name := "ghostHere", desc := "()LSeanceStreet$Ghost;" } : Jvm.MethodName) prog_9_method_12_code (2 : Nat) (Option.some (Jvm.ClassFile.FieldType.object "SeanceStreet$Ghost"))) ∈ lw_all := lw_g (lw_at lw_m4 25 rfl) rfl
theorem q863 : (Jvm.Cond.classLink "SeanceStreet$Scanner" (116 : Nat) "SeanceStreet$Ghost") ∈ lw_all := lw_g (lw_at lw_m4 26 rfl) rfl
theorem q864 : (Jvm.Cond.methodLink "SeanceStreet$Scanner" (151 : Nat) ({ cls := "SeanceStreet$Scanner", name := "unsureLine", desc := "()V" } : Jvm.MethodName)) ∈ lw_all := lw_g (lw_at lw_m4 27 rfl) rfl
theorem q865 : (Jvm.Cond.privateMethod ({ cls := "SeanceStreet$Scanner", name := "unsureLine", desc := "()V" } : Jvm.MethodName)) ∈ lw_tbl := lw_at lw_m4 28 rfl
theorem q866 : (Jvm.Cond.instanceMethod ({ cls := "SeanceStreet$Scanner", name := "unsureLine", desc := "()V" } : Jvm.MethodName)) ∈ lw_all := lw_g (lw_at lw_m4 29 rfl) rfl
theorem q867 : (Jvm.Cond.code ({ cls := "SeanceStreet$Scanner", name := "unsureLine", desc := "()V" } : Jvm.MethodName) prog_9_method_24_code (2 : Nat) (Option.none : Option Jvm.ClassFile.FieldType)) ∈ lw_all := lw_g (lw_at lw_m4 30 rfl) rfl
theorem q868 : (Jvm.Cond.methodLink "SeanceStreet$Scanner" (154 : Nat) ({ cls := "SeanceStreet$Scanner", name := "heardLine", desc := "()V" } : Jvm.MethodName)) ∈ lw_all := lw_g (lw_at lw_m4 31 rfl) rfl
theorem q869 : (Jvm.Cond.privateMethod ({ cls := "SeanceStreet$Scanner", name := "heardLine", desc := "()V" } : Jvm.MethodName)) ∈ lw_tbl := lw_at lw_m4 32 rfl
theorem q870 : (Jvm.Cond.instanceMethod ({ cls := "SeanceStreet$Scanner", name := "heardLine", desc := "()V" } : Jvm.MethodName)) ∈ lw_all := lw_g (lw_at lw_m4 33 rfl) rfl
theorem q871 : (Jvm.Cond.code ({ cls := "SeanceStreet$Scanner", name := "heardLine", desc := "()V" } : Jvm.MethodName) prog_9_method_25_code (4 : Nat) (Option.none : Option Jvm.ClassFile.FieldType)) ∈ lw_all := lw_g (lw_at lw_m4 34 rfl) rfl
theorem q872 : (Jvm.Cond.stringRef "SeanceStreet$Scanner" (257 : Nat) "night") ∈ lw_tbl := lw_at lw_m4 35 rfl
theorem q2205 : (Jvm.Cond.castable "SeanceStreet$Scanner" "java/lang/Object") ∈ lw_tbl := lw_at lw_m9 168 rfl
theorem in_X2 : ∀ w ∈ wsX20, w ∈ lw_all := lw_in wsX20 [242, 244, 246, 248, 250, 252, 254, 256, 258, 260] (by decide +kernel) (by decide +kernel)
/-! SeanceStreet$Refused -/
set_option maxRecDepth 100000
def RX3 : String := "SeanceStreet$Refused"
def TX3 : u_T := fun k => match k with
  | 0 => ("java/lang/Throwable", "cause", "Ljava/lang/Throwable;", false)
  | 1 => ("java/lang/Throwable", "stackTrace", "[Ljava/lang/StackTraceElement;", false)
  | 2 => ("java/lang/Throwable", "suppressedExceptions", "Ljava/util/List;", false)
  | 3 => ("java/lang/Throwable", "detailMessage", "Ljava/lang/String;", false)
  | 4 => ("java/lang/Throwable", "backtrace", "Ljava/lang/Object;", false)
  | 5 => ("java/lang/Throwable", "depth", "I", false)
  | 6 => ("SeanceStreet$Refused", "fault", "I", false)
  | _ => ("SeanceStreet$Refused", "place", "I", false)
def tyX3 : Nat → FieldType := fun k => match k with
  | 0 => .object "java/lang/Throwable"
  | 1 => .array (.object "java/lang/StackTraceElement")
  | 2 => .object "java/util/List"
  | 3 => .object "java/lang/String"
  | 4 => .object "java/lang/Object"
  | 5 => .int
  | 6 => .int
  | _ => .int
abbrev wsX30 : List Cond := u_ws RX3 TX3 8
theorem nmX3 : ∀ a, a < 8 → ∀ b, b < 8 → a ≠ b → (TX3 a).2.1 ≠ (TX3 b).2.1 := by decide +kernel
theorem tyX3_ok : ∀ k, k < 8 → parseFieldDescriptor (TX3 k).2.2.1 = some (tyX3 k) := by decide +kernel
abbrev cX3_init : ByteArray := prog_8_method_1_code
def yX3_init : MethodName := ⟨RX3, "<init>", "()V"⟩
def dkwX3_init_0 : List UInt8 := [42, 1, 1, 3, 3, 183, 0, 3, 42, 2, 181, 0, 9, 177]
abbrev dktX3_init_0 : List UInt8 := dkwX3_init_0 ++ []
theorem dksX3_init_0 : cX3_init.data.toList.drop 0 = dktX3_init_0 := by decide +kernel
theorem dX3_init_0 : decode cX3_init 0 = .ok (.aload_n 0, 1) := dk_42 (dk_at dksX3_init_0 0 rfl rfl)
theorem dX3_init_1 : decode cX3_init 1 = .ok (.aconst_null, 1) := dk_1 (dk_at dksX3_init_0 1 rfl rfl)
theorem dX3_init_2 : decode cX3_init 2 = .ok (.aconst_null, 1) := dk_1 (dk_at dksX3_init_0 2 rfl rfl)
theorem dX3_init_3 : decode cX3_init 3 = .ok (.iconst 0, 1) := dk_3 (dk_at dksX3_init_0 3 rfl rfl)
theorem dX3_init_4 : decode cX3_init 4 = .ok (.iconst 0, 1) := dk_3 (dk_at dksX3_init_0 4 rfl rfl)
theorem dX3_init_5 : decode cX3_init 5 = .ok (.invokespecial 3, 3) := dk_183 0 3 (dk_at dksX3_init_0 5 rfl rfl)
theorem dX3_init_8 : decode cX3_init 8 = .ok (.aload_n 0, 1) := dk_42 (dk_at dksX3_init_0 8 rfl rfl)
theorem dX3_init_9 : decode cX3_init 9 = .ok (.iconst (-1), 1) := dk_2 (dk_at dksX3_init_0 9 rfl rfl)
theorem dX3_init_10 : decode cX3_init 10 = .ok (.putfield 9, 3) := dk_181 0 9 (dk_at dksX3_init_0 10 rfl rfl)
theorem dX3_init_13 : decode cX3_init 13 = .ok (.return_, 1) := dk_177 (dk_at dksX3_init_0 13 rfl rfl)
abbrev cX3_at : ByteArray := prog_8_method_2_code
def yX3_at : MethodName := ⟨RX3, "at", "(II)LSeanceStreet$Refused;"⟩
def dkwX3_at_0 : List UInt8 := [42, 27, 181, 0, 15, 42, 28, 181, 0, 9, 42, 176]
abbrev dktX3_at_0 : List UInt8 := dkwX3_at_0 ++ []
theorem dksX3_at_0 : cX3_at.data.toList.drop 0 = dktX3_at_0 := by decide +kernel
theorem dX3_at_0 : decode cX3_at 0 = .ok (.aload_n 0, 1) := dk_42 (dk_at dksX3_at_0 0 rfl rfl)
theorem dX3_at_1 : decode cX3_at 1 = .ok (.iload_n 1, 1) := dk_27 (dk_at dksX3_at_0 1 rfl rfl)
theorem dX3_at_2 : decode cX3_at 2 = .ok (.putfield 15, 3) := dk_181 0 15 (dk_at dksX3_at_0 2 rfl rfl)
theorem dX3_at_5 : decode cX3_at 5 = .ok (.aload_n 0, 1) := dk_42 (dk_at dksX3_at_0 5 rfl rfl)
theorem dX3_at_6 : decode cX3_at 6 = .ok (.iload_n 2, 1) := dk_28 (dk_at dksX3_at_0 6 rfl rfl)
theorem dX3_at_7 : decode cX3_at 7 = .ok (.putfield 9, 3) := dk_181 0 9 (dk_at dksX3_at_0 7 rfl rfl)
theorem dX3_at_10 : decode cX3_at 10 = .ok (.aload_n 0, 1) := dk_42 (dk_at dksX3_at_0 10 rfl rfl)
theorem dX3_at_11 : decode cX3_at 11 = .ok (.areturn, 1) := dk_176 (dk_at dksX3_at_0 11 rfl rfl)
theorem q123 : (Jvm.Cond.initialized "SeanceStreet$Refused") ∈ lw_all := lw_g (lw_at lw_m1 6 rfl) rfl
theorem q159 : (Jvm.Cond.instantiable "SeanceStreet$Refused" (8 : Nat)) ∈ lw_all := lw_g (lw_at lw_m1 42 rfl) rfl
theorem q160 : (Jvm.Cond.castable "SeanceStreet$Refused" "SeanceStreet$Refused") ∈ lw_tbl := lw_at lw_m1 43 rfl
theorem q167 : (Jvm.Cond.selects "SeanceStreet$Refused" ({ cls := "java/lang/Throwable", name := "fillInStackTrace", desc := "(I)Ljava/lang/Throwable;" } : Jvm.MethodName) ({ cls := "java/lang/Throwable", name := "fillInStackTrace", desc := "(I)Ljava/lang/Throwable;" } : Jvm.MethodName)) ∈ lw_all := lw_g (lw_at lw_m1 50 rfl) rfl
theorem q168 : (Jvm.Cond.selects "SeanceStreet$Refused" ({ cls := "java/lang/Throwable", name := "fillInStackTrace", desc := "()Ljava/lang/Throwable;" } : Jvm.MethodName) ({ cls := "java/lang/Throwable", name := "fillInStackTrace", desc := "()Ljava/lang/Throwable;" } : Jvm.MethodName)) ∈ lw_all := lw_g (lw_at lw_m1 51 rfl) rfl
theorem q169 : (Jvm.Cond.lays "SeanceStreet$Refused" "java/lang/Throwable" "cause" "Ljava/lang/Throwable;") ∈ lw_all := lw_g (lw_at lw_m1 52 rfl) rfl
theorem q171 : (Jvm.Cond.lays "SeanceStreet$Refused" "java/lang/Throwable" "stackTrace" "[Ljava/lang/StackTraceElement;") ∈ lw_all := lw_g (lw_at lw_m1 54 rfl) rfl
theorem q173 : (Jvm.Cond.lays "SeanceStreet$Refused" "java/lang/Throwable" "suppressedExceptions" "Ljava/util/List;") ∈ lw_all := lw_g (lw_at lw_m1 56 rfl) rfl
theorem q175 : (Jvm.Cond.lays "SeanceStreet$Refused" "java/lang/Throwable" "detailMessage" "Ljava/lang/String;") ∈ lw_all := lw_g (lw_at lw_m1 58 rfl) rfl
theorem q177 : (Jvm.Cond.lays "SeanceStreet$Refused" "java/lang/Throwable" "backtrace" "Ljava/lang/Object;") ∈ lw_all := lw_g (lw_at lw_m1 60 rfl) rfl
theorem q199 : (Jvm.Cond.instanceMethod ({ cls := "SeanceStreet$Refused", name := "<init>", desc := "()V" } : Jvm.MethodName)) ∈ lw_all := lw_g (lw_at lw_m1 82 rfl) rfl
theorem q200 : (Jvm.Cond.code ({ cls := "SeanceStreet$Refused", name := "<init>", desc := "()V" } : Jvm.MethodName) prog_8_method_1_code (1 : Nat) (Option.none : Option Jvm.ClassFile.FieldType)) ∈ lw_all := lw_g (lw_at lw_m1 83 rfl) rfl
theorem q201 : (Jvm.Cond.methodLink "SeanceStreet$Refused" (3 : Nat) ({ cls := "java/lang/RuntimeException", name := "<init>", desc := "(Ljava/lang/String;Ljava/lang/Throwable;ZZ)V" } : Jvm.MethodName)) ∈ lw_all := lw_g (lw_at lw_m1 84 rfl) rfl
theorem q210 : (Jvm.Cond.fieldLink "SeanceStreet$Refused" (15 : Nat) "SeanceStreet$Refused" "fault" "I") ∈ lw_all := lw_g (lw_at lw_m1 93 rfl) rfl
theorem q212 : (Jvm.Cond.fieldLink "SeanceStreet$Refused" (9 : Nat) "SeanceStreet$Refused" "place" "I") ∈ lw_all := lw_g (lw_at lw_m1 95 rfl) rfl
theorem q219 : (Jvm.Cond.lays "SeanceStreet$Refused" "SeanceStreet$Refused" "fault" "I") ∈ lw_all := lw_g (lw_at lw_m1 102 rfl) rfl
theorem q220 : (Jvm.Cond.soleField "SeanceStreet$Refused" "fault") ∈ lw_all := lw_g (lw_at lw_m1 103 rfl) rfl
theorem q221 : (Jvm.Cond.lays "SeanceStreet$Refused" "SeanceStreet$Refused" "place" "I") ∈ lw_all := lw_g (lw_at lw_m1 104 rfl) rfl
theorem q222 : (Jvm.Cond.soleField "SeanceStreet$Refused" "place") ∈ lw_all := lw_g (lw_at lw_m1 105 rfl) rfl
theorem q227 : (Jvm.Cond.lays "SeanceStreet$Refused" "java/lang/Throwable" "depth" "I") ∈ lw_all := lw_g (lw_at lw_m1 110 rfl) rfl
theorem q230 : (Jvm.Cond.superclass "SeanceStreet$Refused" "java/lang/RuntimeException") ∈ lw_all := lw_g (lw_at lw_m1 113 rfl) rfl
theorem q620 : (Jvm.Cond.instanceMethod ({ cls := "SeanceStreet$Refused", name := "at", desc := "(II)LSeanceStreet$Refused;" } : Jvm.MethodName)) ∈ lw_all := lw_g (lw_at lw_m3 23 rfl) rfl
theorem q621 : (Jvm.Cond.selects "SeanceStreet$Refused" ({ cls := "SeanceStreet$Refused", name := "at", desc := "(II)LSeanceStreet$Refused;" } : Jvm.MethodName) ({ cls := "SeanceStreet$Refused", name := "at", desc := "(II)LSeanceStreet$Refused;" } : Jvm.MethodName)) ∈ lw_all := lw_g (lw_at lw_m3 24 rfl) rfl
theorem q622 : (Jvm.Cond.code ({ cls := "SeanceStreet$Refused", name := "at", desc := "(II)LSeanceStreet$Refused;" } : Jvm.MethodName) prog_8_method_2_code (3 : Nat) (Option.some (Jvm.ClassFile.FieldType.object "SeanceStreet$Refused"))) ∈ lw_all := lw_g (lw_at lw_m3 25 rfl) rfl
theorem q2206 : (Jvm.Cond.castable "SeanceStreet$Refused" "java/lang/Object") ∈ lw_tbl := lw_at lw_m9 169 rfl
theorem in_X3 : ∀ w ∈ wsX30, w ∈ lw_all := lw_in wsX30 [169, 171, 173, 175, 177, 227, 219, 221] (by decide +kernel) (by decide +kernel)
/-! SeanceStreet$Street -/
set_option maxRecDepth 100000
def RX4 : String := "SeanceStreet$Street"
def TX4 : u_T := fun k => match k with
  | 0 => ("SeanceStreet$Street", "homes", "[I", true)
  | 1 => ("SeanceStreet$Street", "mirrors", "[I", true)
  | 2 => ("SeanceStreet$Street", "slips", "[I", true)
  | 3 => ("SeanceStreet$Street", "town", "LSeanceStreet$Town;", false)
  | _ => ("SeanceStreet$Street", "night", "I", false)
def tyX4 : Nat → FieldType := fun k => match k with
  | 0 => .array .int
  | 1 => .array .int
  | 2 => .array .int
  | 3 => .object "SeanceStreet$Town"
  | _ => .int
abbrev wsX40 : List Cond := u_ws RX4 TX4 5
theorem nmX4 : ∀ a, a < 5 → ∀ b, b < 5 → a ≠ b → (TX4 a).2.1 ≠ (TX4 b).2.1 := by decide +kernel
theorem tyX4_ok : ∀ k, k < 5 → parseFieldDescriptor (TX4 k).2.2.1 = some (tyX4 k) := by decide +kernel
abbrev cX4_init : ByteArray := prog_10_method_1_code
def yX4_init : MethodName := ⟨RX4, "<init>", "()V"⟩
def dkwX4_init_1 : List UInt8 := [188, 10, 181, 0, 18, 177]
abbrev dktX4_init_1 : List UInt8 := dkwX4_init_1 ++ []
def dkwX4_init_0 : List UInt8 := [42, 183, 0, 3, 42, 16, 6, 188, 10, 181, 0, 9, 42, 16, 6, 188, 10, 181, 0, 15, 42, 16, 6]
abbrev dktX4_init_0 : List UInt8 := dkwX4_init_0 ++ dktX4_init_1
theorem dksX4_init_0 : cX4_init.data.toList.drop 0 = dktX4_init_0 := by decide +kernel
theorem dksX4_init_1 : cX4_init.data.toList.drop 23 = dktX4_init_1 := dk_seg dksX4_init_0 23 rfl rfl
theorem dX4_init_0 : decode cX4_init 0 = .ok (.aload_n 0, 1) := dk_42 (dk_at dksX4_init_0 0 rfl rfl)
theorem dX4_init_1 : decode cX4_init 1 = .ok (.invokespecial 3, 3) := dk_183 0 3 (dk_at dksX4_init_0 1 rfl rfl)
theorem dX4_init_4 : decode cX4_init 4 = .ok (.aload_n 0, 1) := dk_42 (dk_at dksX4_init_0 4 rfl rfl)
theorem dX4_init_5 : decode cX4_init 5 = .ok (.bipush 6, 2) := dk_16 6 (dk_at dksX4_init_0 5 rfl rfl)
theorem dX4_init_7 : decode cX4_init 7 = .ok (.newarray .int, 2) := dk_188_10 (dk_at dksX4_init_0 7 rfl rfl)
theorem dX4_init_9 : decode cX4_init 9 = .ok (.putfield 9, 3) := dk_181 0 9 (dk_at dksX4_init_0 9 rfl rfl)
theorem dX4_init_12 : decode cX4_init 12 = .ok (.aload_n 0, 1) := dk_42 (dk_at dksX4_init_0 12 rfl rfl)
theorem dX4_init_13 : decode cX4_init 13 = .ok (.bipush 6, 2) := dk_16 6 (dk_at dksX4_init_0 13 rfl rfl)
theorem dX4_init_15 : decode cX4_init 15 = .ok (.newarray .int, 2) := dk_188_10 (dk_at dksX4_init_0 15 rfl rfl)
theorem dX4_init_17 : decode cX4_init 17 = .ok (.putfield 15, 3) := dk_181 0 15 (dk_at dksX4_init_0 17 rfl rfl)
theorem dX4_init_20 : decode cX4_init 20 = .ok (.aload_n 0, 1) := dk_42 (dk_at dksX4_init_0 20 rfl rfl)
theorem dX4_init_21 : decode cX4_init 21 = .ok (.bipush 6, 2) := dk_16 6 (dk_at dksX4_init_0 21 rfl rfl)
theorem dX4_init_23 : decode cX4_init 23 = .ok (.newarray .int, 2) := dk_188_10 (dk_at dksX4_init_1 0 rfl rfl)
theorem dX4_init_25 : decode cX4_init 25 = .ok (.putfield 18, 3) := dk_181 0 18 (dk_at dksX4_init_1 2 rfl rfl)
theorem dX4_init_28 : decode cX4_init 28 = .ok (.return_, 1) := dk_177 (dk_at dksX4_init_1 5 rfl rfl)
abbrev cX4_begin : ByteArray := prog_10_method_2_code
def yX4_begin : MethodName := ⟨RX4, "begin", "(LSeanceStreet$Town;)LSeanceStreet$Street;"⟩
def dkwX4_begin_3 : List UInt8 := [180, 0, 46, 28, 50, 180, 0, 55, 79, 132, 2, 1, 167, 255, 215, 42, 176]
abbrev dktX4_begin_3 : List UInt8 := dkwX4_begin_3 ++ []
def dkwX4_begin_2 : List UInt8 := [162, 0, 39, 42, 180, 0, 15, 28, 43, 180, 0, 46, 28, 50, 180, 0, 50, 79, 42, 180, 0, 18, 28, 43]
abbrev dktX4_begin_2 : List UInt8 := dkwX4_begin_2 ++ dktX4_begin_3
def dkwX4_begin_1 : List UInt8 := [28, 43, 180, 0, 34, 28, 50, 180, 0, 38, 79, 132, 2, 1, 167, 255, 230, 3, 61, 28, 43, 180, 0, 43]
abbrev dktX4_begin_1 : List UInt8 := dkwX4_begin_1 ++ dktX4_begin_2
def dkwX4_begin_0 : List UInt8 := [42, 43, 181, 0, 21, 42, 3, 181, 0, 25, 3, 61, 28, 43, 180, 0, 29, 162, 0, 24, 42, 180, 0, 9]
abbrev dktX4_begin_0 : List UInt8 := dkwX4_begin_0 ++ dktX4_begin_1
theorem dksX4_begin_0 : cX4_begin.data.toList.drop 0 = dktX4_begin_0 := by decide +kernel
theorem dksX4_begin_1 : cX4_begin.data.toList.drop 24 = dktX4_begin_1 := dk_seg dksX4_begin_0 24 rfl rfl
theorem dksX4_begin_2 : cX4_begin.data.toList.drop 48 = dktX4_begin_2 := dk_seg dksX4_begin_1 24 rfl rfl
theorem dksX4_begin_3 : cX4_begin.data.toList.drop 72 = dktX4_begin_3 := dk_seg dksX4_begin_2 24 rfl rfl
theorem dX4_begin_0 : decode cX4_begin 0 = .ok (.aload_n 0, 1) := dk_42 (dk_at dksX4_begin_0 0 rfl rfl)
theorem dX4_begin_1 : decode cX4_begin 1 = .ok (.aload_n 1, 1) := dk_43 (dk_at dksX4_begin_0 1 rfl rfl)
theorem dX4_begin_2 : decode cX4_begin 2 = .ok (.putfield 21, 3) := dk_181 0 21 (dk_at dksX4_begin_0 2 rfl rfl)
theorem dX4_begin_5 : decode cX4_begin 5 = .ok (.aload_n 0, 1) := dk_42 (dk_at dksX4_begin_0 5 rfl rfl)
theorem dX4_begin_6 : decode cX4_begin 6 = .ok (.iconst 0, 1) := dk_3 (dk_at dksX4_begin_0 6 rfl rfl)
theorem dX4_begin_7 : decode cX4_begin 7 = .ok (.putfield 25, 3) := dk_181 0 25 (dk_at dksX4_begin_0 7 rfl rfl)
theorem dX4_begin_10 : decode cX4_begin 10 = .ok (.iconst 0, 1) := dk_3 (dk_at dksX4_begin_0 10 rfl rfl)
theorem dX4_begin_11 : decode cX4_begin 11 = .ok (.istore_n 2, 1) := dk_61 (dk_at dksX4_begin_0 11 rfl rfl)
theorem dX4_begin_12 : decode cX4_begin 12 = .ok (.iload_n 2, 1) := dk_28 (dk_at dksX4_begin_0 12 rfl rfl)
theorem dX4_begin_13 : decode cX4_begin 13 = .ok (.aload_n 1, 1) := dk_43 (dk_at dksX4_begin_0 13 rfl rfl)
theorem dX4_begin_14 : decode cX4_begin 14 = .ok (.getfield 29, 3) := dk_180 0 29 (dk_at dksX4_begin_0 14 rfl rfl)
theorem dX4_begin_17 : decode cX4_begin 17 = .ok (.if_icmp .ge 24, 3) := dk_162 0 24 (dk_at dksX4_begin_0 17 rfl rfl)
theorem dX4_begin_20 : decode cX4_begin 20 = .ok (.aload_n 0, 1) := dk_42 (dk_at dksX4_begin_0 20 rfl rfl)
theorem dX4_begin_21 : decode cX4_begin 21 = .ok (.getfield 9, 3) := dk_180 0 9 (dk_at dksX4_begin_0 21 rfl rfl)
theorem dX4_begin_24 : decode cX4_begin 24 = .ok (.iload_n 2, 1) := dk_28 (dk_at dksX4_begin_1 0 rfl rfl)
theorem dX4_begin_25 : decode cX4_begin 25 = .ok (.aload_n 1, 1) := dk_43 (dk_at dksX4_begin_1 1 rfl rfl)
theorem dX4_begin_26 : decode cX4_begin 26 = .ok (.getfield 34, 3) := dk_180 0 34 (dk_at dksX4_begin_1 2 rfl rfl)
theorem dX4_begin_29 : decode cX4_begin 29 = .ok (.iload_n 2, 1) := dk_28 (dk_at dksX4_begin_1 5 rfl rfl)
theorem dX4_begin_30 : decode cX4_begin 30 = .ok (.aaload, 1) := dk_50 (dk_at dksX4_begin_1 6 rfl rfl)
theorem dX4_begin_31 : decode cX4_begin 31 = .ok (.getfield 38, 3) := dk_180 0 38 (dk_at dksX4_begin_1 7 rfl rfl)
theorem dX4_begin_34 : decode cX4_begin 34 = .ok (.iastore, 1) := dk_79 (dk_at dksX4_begin_1 10 rfl rfl)
theorem dX4_begin_35 : decode cX4_begin 35 = .ok (.iinc 2 1, 3) := dk_132 2 1 (dk_at dksX4_begin_1 11 rfl rfl)
theorem dX4_begin_38 : decode cX4_begin 38 = .ok (.goto (-26), 3) := dk_167 255 230 (dk_at dksX4_begin_1 14 rfl rfl)
theorem dX4_begin_41 : decode cX4_begin 41 = .ok (.iconst 0, 1) := dk_3 (dk_at dksX4_begin_1 17 rfl rfl)
theorem dX4_begin_42 : decode cX4_begin 42 = .ok (.istore_n 2, 1) := dk_61 (dk_at dksX4_begin_1 18 rfl rfl)
theorem dX4_begin_43 : decode cX4_begin 43 = .ok (.iload_n 2, 1) := dk_28 (dk_at dksX4_begin_1 19 rfl rfl)
theorem dX4_begin_44 : decode cX4_begin 44 = .ok (.aload_n 1, 1) := dk_43 (dk_at dksX4_begin_1 20 rfl rfl)
theorem dX4_begin_45 : decode cX4_begin 45 = .ok (.getfield 43, 3) := dk_180 0 43 (dk_at dksX4_begin_1 21 rfl rfl)
theorem dX4_begin_48 : decode cX4_begin 48 = .ok (.if_icmp .ge 39, 3) := dk_162 0 39 (dk_at dksX4_begin_2 0 rfl rfl)
theorem dX4_begin_51 : decode cX4_begin 51 = .ok (.aload_n 0, 1) := dk_42 (dk_at dksX4_begin_2 3 rfl rfl)
theorem dX4_begin_52 : decode cX4_begin 52 = .ok (.getfield 15, 3) := dk_180 0 15 (dk_at dksX4_begin_2 4 rfl rfl)
theorem dX4_begin_55 : decode cX4_begin 55 = .ok (.iload_n 2, 1) := dk_28 (dk_at dksX4_begin_2 7 rfl rfl)
theorem dX4_begin_56 : decode cX4_begin 56 = .ok (.aload_n 1, 1) := dk_43 (dk_at dksX4_begin_2 8 rfl rfl)
theorem dX4_begin_57 : decode cX4_begin 57 = .ok (.getfield 46, 3) := dk_180 0 46 (dk_at dksX4_begin_2 9 rfl rfl)
theorem dX4_begin_60 : decode cX4_begin 60 = .ok (.iload_n 2, 1) := dk_28 (dk_at dksX4_begin_2 12 rfl rfl)
theorem dX4_begin_61 : decode cX4_begin 61 = .ok (.aaload, 1) := dk_50 (dk_at dksX4_begin_2 13 rfl rfl)
theorem dX4_begin_62 : decode cX4_begin 62 = .ok (.getfield 50, 3) := dk_180 0 50 (dk_at dksX4_begin_2 14 rfl rfl)
theorem dX4_begin_65 : decode cX4_begin 65 = .ok (.iastore, 1) := dk_79 (dk_at dksX4_begin_2 17 rfl rfl)
theorem dX4_begin_66 : decode cX4_begin 66 = .ok (.aload_n 0, 1) := dk_42 (dk_at dksX4_begin_2 18 rfl rfl)
theorem dX4_begin_67 : decode cX4_begin 67 = .ok (.getfield 18, 3) := dk_180 0 18 (dk_at dksX4_begin_2 19 rfl rfl)
theorem dX4_begin_70 : decode cX4_begin 70 = .ok (.iload_n 2, 1) := dk_28 (dk_at dksX4_begin_2 22 rfl rfl)
theorem dX4_begin_71 : decode cX4_begin 71 = .ok (.aload_n 1, 1) := dk_43 (dk_at dksX4_begin_2 23 rfl rfl)
theorem dX4_begin_72 : decode cX4_begin 72 = .ok (.getfield 46, 3) := dk_180 0 46 (dk_at dksX4_begin_3 0 rfl rfl)
theorem dX4_begin_75 : decode cX4_begin 75 = .ok (.iload_n 2, 1) := dk_28 (dk_at dksX4_begin_3 3 rfl rfl)
theorem dX4_begin_76 : decode cX4_begin 76 = .ok (.aaload, 1) := dk_50 (dk_at dksX4_begin_3 4 rfl rfl)
theorem dX4_begin_77 : decode cX4_begin 77 = .ok (.getfield 55, 3) := dk_180 0 55 (dk_at dksX4_begin_3 5 rfl rfl)
theorem dX4_begin_80 : decode cX4_begin 80 = .ok (.iastore, 1) := dk_79 (dk_at dksX4_begin_3 8 rfl rfl)
theorem dX4_begin_81 : decode cX4_begin 81 = .ok (.iinc 2 1, 3) := dk_132 2 1 (dk_at dksX4_begin_3 9 rfl rfl)
theorem dX4_begin_84 : decode cX4_begin 84 = .ok (.goto (-41), 3) := dk_167 255 215 (dk_at dksX4_begin_3 12 rfl rfl)
theorem dX4_begin_87 : decode cX4_begin 87 = .ok (.aload_n 0, 1) := dk_42 (dk_at dksX4_begin_3 15 rfl rfl)
theorem dX4_begin_88 : decode cX4_begin 88 = .ok (.areturn, 1) := dk_176 (dk_at dksX4_begin_3 16 rfl rfl)
abbrev cX4_forOne : ByteArray := prog_10_method_12_code
def yX4_forOne : MethodName := ⟨RX4, "forOne", "(I)I"⟩
def dkwX4_forOne_2 : List UInt8 := [172]
abbrev dktX4_forOne_2 : List UInt8 := dkwX4_forOne_2 ++ []
def dkwX4_forOne_1 : List UInt8 := [50, 180, 0, 76, 27, 160, 0, 9, 4, 29, 120, 167, 0, 4, 3, 128, 61, 132, 3, 1, 167, 255, 216, 28]
abbrev dktX4_forOne_1 : List UInt8 := dkwX4_forOne_1 ++ dktX4_forOne_2
def dkwX4_forOne_0 : List UInt8 := [3, 61, 3, 62, 29, 42, 180, 0, 21, 180, 0, 43, 162, 0, 35, 28, 42, 180, 0, 21, 180, 0, 46, 29]
abbrev dktX4_forOne_0 : List UInt8 := dkwX4_forOne_0 ++ dktX4_forOne_1
theorem dksX4_forOne_0 : cX4_forOne.data.toList.drop 0 = dktX4_forOne_0 := by decide +kernel
theorem dksX4_forOne_1 : cX4_forOne.data.toList.drop 24 = dktX4_forOne_1 := dk_seg dksX4_forOne_0 24 rfl rfl
theorem dksX4_forOne_2 : cX4_forOne.data.toList.drop 48 = dktX4_forOne_2 := dk_seg dksX4_forOne_1 24 rfl rfl
theorem dX4_forOne_0 : decode cX4_forOne 0 = .ok (.iconst 0, 1) := dk_3 (dk_at dksX4_forOne_0 0 rfl rfl)
theorem dX4_forOne_1 : decode cX4_forOne 1 = .ok (.istore_n 2, 1) := dk_61 (dk_at dksX4_forOne_0 1 rfl rfl)
theorem dX4_forOne_2 : decode cX4_forOne 2 = .ok (.iconst 0, 1) := dk_3 (dk_at dksX4_forOne_0 2 rfl rfl)
theorem dX4_forOne_3 : decode cX4_forOne 3 = .ok (.istore_n 3, 1) := dk_62 (dk_at dksX4_forOne_0 3 rfl rfl)
theorem dX4_forOne_4 : decode cX4_forOne 4 = .ok (.iload_n 3, 1) := dk_29 (dk_at dksX4_forOne_0 4 rfl rfl)
theorem dX4_forOne_5 : decode cX4_forOne 5 = .ok (.aload_n 0, 1) := dk_42 (dk_at dksX4_forOne_0 5 rfl rfl)
theorem dX4_forOne_6 : decode cX4_forOne 6 = .ok (.getfield 21, 3) := dk_180 0 21 (dk_at dksX4_forOne_0 6 rfl rfl)
theorem dX4_forOne_9 : decode cX4_forOne 9 = .ok (.getfield 43, 3) := dk_180 0 43 (dk_at dksX4_forOne_0 9 rfl rfl)
theorem dX4_forOne_12 : decode cX4_forOne 12 = .ok (.if_icmp .ge 35, 3) := dk_162 0 35 (dk_at dksX4_forOne_0 12 rfl rfl)
theorem dX4_forOne_15 : decode cX4_forOne 15 = .ok (.iload_n 2, 1) := dk_28 (dk_at dksX4_forOne_0 15 rfl rfl)
theorem dX4_forOne_16 : decode cX4_forOne 16 = .ok (.aload_n 0, 1) := dk_42 (dk_at dksX4_forOne_0 16 rfl rfl)
theorem dX4_forOne_17 : decode cX4_forOne 17 = .ok (.getfield 21, 3) := dk_180 0 21 (dk_at dksX4_forOne_0 17 rfl rfl)
theorem dX4_forOne_20 : decode cX4_forOne 20 = .ok (.getfield 46, 3) := dk_180 0 46 (dk_at dksX4_forOne_0 20 rfl rfl)
theorem dX4_forOne_23 : decode cX4_forOne 23 = .ok (.iload_n 3, 1) := dk_29 (dk_at dksX4_forOne_0 23 rfl rfl)
theorem dX4_forOne_24 : decode cX4_forOne 24 = .ok (.aaload, 1) := dk_50 (dk_at dksX4_forOne_1 0 rfl rfl)
theorem dX4_forOne_25 : decode cX4_forOne 25 = .ok (.getfield 76, 3) := dk_180 0 76 (dk_at dksX4_forOne_1 1 rfl rfl)
theorem dX4_forOne_28 : decode cX4_forOne 28 = .ok (.iload_n 1, 1) := dk_27 (dk_at dksX4_forOne_1 4 rfl rfl)
theorem dX4_forOne_29 : decode cX4_forOne 29 = .ok (.if_icmp .ne 9, 3) := dk_160 0 9 (dk_at dksX4_forOne_1 5 rfl rfl)
theorem dX4_forOne_32 : decode cX4_forOne 32 = .ok (.iconst 1, 1) := dk_4 (dk_at dksX4_forOne_1 8 rfl rfl)
theorem dX4_forOne_33 : decode cX4_forOne 33 = .ok (.iload_n 3, 1) := dk_29 (dk_at dksX4_forOne_1 9 rfl rfl)
theorem dX4_forOne_34 : decode cX4_forOne 34 = .ok (.ishl, 1) := dk_120 (dk_at dksX4_forOne_1 10 rfl rfl)
theorem dX4_forOne_35 : decode cX4_forOne 35 = .ok (.goto 4, 3) := dk_167 0 4 (dk_at dksX4_forOne_1 11 rfl rfl)
theorem dX4_forOne_38 : decode cX4_forOne 38 = .ok (.iconst 0, 1) := dk_3 (dk_at dksX4_forOne_1 14 rfl rfl)
theorem dX4_forOne_39 : decode cX4_forOne 39 = .ok (.ior, 1) := dk_128 (dk_at dksX4_forOne_1 15 rfl rfl)
theorem dX4_forOne_40 : decode cX4_forOne 40 = .ok (.istore_n 2, 1) := dk_61 (dk_at dksX4_forOne_1 16 rfl rfl)
theorem dX4_forOne_41 : decode cX4_forOne 41 = .ok (.iinc 3 1, 3) := dk_132 3 1 (dk_at dksX4_forOne_1 17 rfl rfl)
theorem dX4_forOne_44 : decode cX4_forOne 44 = .ok (.goto (-40), 3) := dk_167 255 216 (dk_at dksX4_forOne_1 20 rfl rfl)
theorem dX4_forOne_47 : decode cX4_forOne 47 = .ok (.iload_n 2, 1) := dk_28 (dk_at dksX4_forOne_1 23 rfl rfl)
theorem dX4_forOne_48 : decode cX4_forOne 48 = .ok (.ireturn, 1) := dk_172 (dk_at dksX4_forOne_2 0 rfl rfl)
abbrev cX4_heard : ByteArray := prog_10_method_11_code
def yX4_heard : MethodName := ⟨RX4, "heard", "(II)I"⟩
def dkwX4_heard_2 : List UInt8 := [172]
abbrev dktX4_heard_2 : List UInt8 := dkwX4_heard_2 ++ []
def dkwX4_heard_1 : List UInt8 := [182, 0, 93, 27, 160, 0, 10, 4, 21, 4, 120, 167, 0, 4, 3, 128, 62, 132, 4, 1, 167, 255, 218, 29]
abbrev dktX4_heard_1 : List UInt8 := dkwX4_heard_1 ++ dktX4_heard_2
def dkwX4_heard_0 : List UInt8 := [3, 62, 3, 54, 4, 21, 4, 42, 180, 0, 21, 180, 0, 43, 162, 0, 32, 29, 42, 21, 4, 28, 3]
abbrev dktX4_heard_0 : List UInt8 := dkwX4_heard_0 ++ dktX4_heard_1
theorem dksX4_heard_0 : cX4_heard.data.toList.drop 0 = dktX4_heard_0 := by decide +kernel
theorem dksX4_heard_1 : cX4_heard.data.toList.drop 23 = dktX4_heard_1 := dk_seg dksX4_heard_0 23 rfl rfl
theorem dksX4_heard_2 : cX4_heard.data.toList.drop 47 = dktX4_heard_2 := dk_seg dksX4_heard_1 24 rfl rfl
theorem dX4_heard_0 : decode cX4_heard 0 = .ok (.iconst 0, 1) := dk_3 (dk_at dksX4_heard_0 0 rfl rfl)
theorem dX4_heard_1 : decode cX4_heard 1 = .ok (.istore_n 3, 1) := dk_62 (dk_at dksX4_heard_0 1 rfl rfl)
theorem dX4_heard_2 : decode cX4_heard 2 = .ok (.iconst 0, 1) := dk_3 (dk_at dksX4_heard_0 2 rfl rfl)
theorem dX4_heard_3 : decode cX4_heard 3 = .ok (.istore 4, 2) := dk_54 4 (dk_at dksX4_heard_0 3 rfl rfl)
theorem dX4_heard_5 : decode cX4_heard 5 = .ok (.iload 4, 2) := dk_21 4 (dk_at dksX4_heard_0 5 rfl rfl)
theorem dX4_heard_7 : decode cX4_heard 7 = .ok (.aload_n 0, 1) := dk_42 (dk_at dksX4_heard_0 7 rfl rfl)
theorem dX4_heard_8 : decode cX4_heard 8 = .ok (.getfield 21, 3) := dk_180 0 21 (dk_at dksX4_heard_0 8 rfl rfl)
theorem dX4_heard_11 : decode cX4_heard 11 = .ok (.getfield 43, 3) := dk_180 0 43 (dk_at dksX4_heard_0 11 rfl rfl)
theorem dX4_heard_14 : decode cX4_heard 14 = .ok (.if_icmp .ge 32, 3) := dk_162 0 32 (dk_at dksX4_heard_0 14 rfl rfl)
theorem dX4_heard_17 : decode cX4_heard 17 = .ok (.iload_n 3, 1) := dk_29 (dk_at dksX4_heard_0 17 rfl rfl)
theorem dX4_heard_18 : decode cX4_heard 18 = .ok (.aload_n 0, 1) := dk_42 (dk_at dksX4_heard_0 18 rfl rfl)
theorem dX4_heard_19 : decode cX4_heard 19 = .ok (.iload 4, 2) := dk_21 4 (dk_at dksX4_heard_0 19 rfl rfl)
theorem dX4_heard_21 : decode cX4_heard 21 = .ok (.iload_n 2, 1) := dk_28 (dk_at dksX4_heard_0 21 rfl rfl)
theorem dX4_heard_22 : decode cX4_heard 22 = .ok (.iconst 0, 1) := dk_3 (dk_at dksX4_heard_0 22 rfl rfl)
theorem dX4_heard_23 : decode cX4_heard 23 = .ok (.invokevirtual 93, 3) := dk_182 0 93 (dk_at dksX4_heard_1 0 rfl rfl)
theorem dX4_heard_26 : decode cX4_heard 26 = .ok (.iload_n 1, 1) := dk_27 (dk_at dksX4_heard_1 3 rfl rfl)
theorem dX4_heard_27 : decode cX4_heard 27 = .ok (.if_icmp .ne 10, 3) := dk_160 0 10 (dk_at dksX4_heard_1 4 rfl rfl)
theorem dX4_heard_30 : decode cX4_heard 30 = .ok (.iconst 1, 1) := dk_4 (dk_at dksX4_heard_1 7 rfl rfl)
theorem dX4_heard_31 : decode cX4_heard 31 = .ok (.iload 4, 2) := dk_21 4 (dk_at dksX4_heard_1 8 rfl rfl)
theorem dX4_heard_33 : decode cX4_heard 33 = .ok (.ishl, 1) := dk_120 (dk_at dksX4_heard_1 10 rfl rfl)
theorem dX4_heard_34 : decode cX4_heard 34 = .ok (.goto 4, 3) := dk_167 0 4 (dk_at dksX4_heard_1 11 rfl rfl)
theorem dX4_heard_37 : decode cX4_heard 37 = .ok (.iconst 0, 1) := dk_3 (dk_at dksX4_heard_1 14 rfl rfl)
theorem dX4_heard_38 : decode cX4_heard 38 = .ok (.ior, 1) := dk_128 (dk_at dksX4_heard_1 15 rfl rfl)
theorem dX4_heard_39 : decode cX4_heard 39 = .ok (.istore_n 3, 1) := dk_62 (dk_at dksX4_heard_1 16 rfl rfl)
theorem dX4_heard_40 : decode cX4_heard 40 = .ok (.iinc 4 1, 3) := dk_132 4 1 (dk_at dksX4_heard_1 17 rfl rfl)
theorem dX4_heard_43 : decode cX4_heard 43 = .ok (.goto (-38), 3) := dk_167 255 218 (dk_at dksX4_heard_1 20 rfl rfl)
theorem dX4_heard_46 : decode cX4_heard 46 = .ok (.iload_n 3, 1) := dk_29 (dk_at dksX4_heard_1 23 rfl rfl)
theorem dX4_heard_47 : decode cX4_heard 47 = .ok (.ireturn, 1) := dk_172 (dk_at dksX4_heard_2 0 rfl rfl)
abbrev cX4_ear : ByteArray := prog_10_method_8_code
def yX4_ear : MethodName := ⟨RX4, "ear", "(III)I"⟩
def dkwX4_ear_1 : List UInt8 := [184, 0, 70, 182, 0, 90, 172]
abbrev dktX4_ear_1 : List UInt8 := dkwX4_ear_1 ++ []
def dkwX4_ear_0 : List UInt8 := [42, 42, 27, 42, 27, 182, 0, 83, 28, 182, 0, 86, 133, 29, 133, 97, 42, 180, 0, 21, 180, 0, 67]
abbrev dktX4_ear_0 : List UInt8 := dkwX4_ear_0 ++ dktX4_ear_1
theorem dksX4_ear_0 : cX4_ear.data.toList.drop 0 = dktX4_ear_0 := by decide +kernel
theorem dksX4_ear_1 : cX4_ear.data.toList.drop 23 = dktX4_ear_1 := dk_seg dksX4_ear_0 23 rfl rfl
theorem dX4_ear_0 : decode cX4_ear 0 = .ok (.aload_n 0, 1) := dk_42 (dk_at dksX4_ear_0 0 rfl rfl)
theorem dX4_ear_1 : decode cX4_ear 1 = .ok (.aload_n 0, 1) := dk_42 (dk_at dksX4_ear_0 1 rfl rfl)
theorem dX4_ear_2 : decode cX4_ear 2 = .ok (.iload_n 1, 1) := dk_27 (dk_at dksX4_ear_0 2 rfl rfl)
theorem dX4_ear_3 : decode cX4_ear 3 = .ok (.aload_n 0, 1) := dk_42 (dk_at dksX4_ear_0 3 rfl rfl)
theorem dX4_ear_4 : decode cX4_ear 4 = .ok (.iload_n 1, 1) := dk_27 (dk_at dksX4_ear_0 4 rfl rfl)
theorem dX4_ear_5 : decode cX4_ear 5 = .ok (.invokevirtual 83, 3) := dk_182 0 83 (dk_at dksX4_ear_0 5 rfl rfl)
theorem dX4_ear_8 : decode cX4_ear 8 = .ok (.iload_n 2, 1) := dk_28 (dk_at dksX4_ear_0 8 rfl rfl)
theorem dX4_ear_9 : decode cX4_ear 9 = .ok (.invokevirtual 86, 3) := dk_182 0 86 (dk_at dksX4_ear_0 9 rfl rfl)
theorem dX4_ear_12 : decode cX4_ear 12 = .ok (.i2l, 1) := dk_133 (dk_at dksX4_ear_0 12 rfl rfl)
theorem dX4_ear_13 : decode cX4_ear 13 = .ok (.iload_n 3, 1) := dk_29 (dk_at dksX4_ear_0 13 rfl rfl)
theorem dX4_ear_14 : decode cX4_ear 14 = .ok (.i2l, 1) := dk_133 (dk_at dksX4_ear_0 14 rfl rfl)
theorem dX4_ear_15 : decode cX4_ear 15 = .ok (.ladd, 1) := dk_97 (dk_at dksX4_ear_0 15 rfl rfl)
theorem dX4_ear_16 : decode cX4_ear 16 = .ok (.aload_n 0, 1) := dk_42 (dk_at dksX4_ear_0 16 rfl rfl)
theorem dX4_ear_17 : decode cX4_ear 17 = .ok (.getfield 21, 3) := dk_180 0 21 (dk_at dksX4_ear_0 17 rfl rfl)
theorem dX4_ear_20 : decode cX4_ear 20 = .ok (.getfield 67, 3) := dk_180 0 67 (dk_at dksX4_ear_0 20 rfl rfl)
theorem dX4_ear_23 : decode cX4_ear 23 = .ok (.invokestatic 70, 3) := dk_184 0 70 (dk_at dksX4_ear_1 0 rfl rfl)
theorem dX4_ear_26 : decode cX4_ear 26 = .ok (.invokevirtual 90, 3) := dk_182 0 90 (dk_at dksX4_ear_1 3 rfl rfl)
theorem dX4_ear_29 : decode cX4_ear 29 = .ok (.ireturn, 1) := dk_172 (dk_at dksX4_ear_1 6 rfl rfl)
abbrev cX4_aimed : ByteArray := prog_10_method_5_code
def yX4_aimed : MethodName := ⟨RX4, "aimed", "(I)I"⟩
def dkwX4_aimed_0 : List UInt8 := [42, 180, 0, 9, 42, 180, 0, 21, 180, 0, 46, 27, 50, 180, 0, 76, 46, 172]
abbrev dktX4_aimed_0 : List UInt8 := dkwX4_aimed_0 ++ []
theorem dksX4_aimed_0 : cX4_aimed.data.toList.drop 0 = dktX4_aimed_0 := by decide +kernel
theorem dX4_aimed_0 : decode cX4_aimed 0 = .ok (.aload_n 0, 1) := dk_42 (dk_at dksX4_aimed_0 0 rfl rfl)
theorem dX4_aimed_1 : decode cX4_aimed 1 = .ok (.getfield 9, 3) := dk_180 0 9 (dk_at dksX4_aimed_0 1 rfl rfl)
theorem dX4_aimed_4 : decode cX4_aimed 4 = .ok (.aload_n 0, 1) := dk_42 (dk_at dksX4_aimed_0 4 rfl rfl)
theorem dX4_aimed_5 : decode cX4_aimed 5 = .ok (.getfield 21, 3) := dk_180 0 21 (dk_at dksX4_aimed_0 5 rfl rfl)
theorem dX4_aimed_8 : decode cX4_aimed 8 = .ok (.getfield 46, 3) := dk_180 0 46 (dk_at dksX4_aimed_0 8 rfl rfl)
theorem dX4_aimed_11 : decode cX4_aimed 11 = .ok (.iload_n 1, 1) := dk_27 (dk_at dksX4_aimed_0 11 rfl rfl)
theorem dX4_aimed_12 : decode cX4_aimed 12 = .ok (.aaload, 1) := dk_50 (dk_at dksX4_aimed_0 12 rfl rfl)
theorem dX4_aimed_13 : decode cX4_aimed 13 = .ok (.getfield 76, 3) := dk_180 0 76 (dk_at dksX4_aimed_0 13 rfl rfl)
theorem dX4_aimed_16 : decode cX4_aimed 16 = .ok (.iaload, 1) := dk_46 (dk_at dksX4_aimed_0 16 rfl rfl)
theorem dX4_aimed_17 : decode cX4_aimed 17 = .ok (.ireturn, 1) := dk_172 (dk_at dksX4_aimed_0 17 rfl rfl)
abbrev cX4_out : ByteArray := prog_10_method_4_code
def yX4_out : MethodName := ⟨RX4, "out", "(III)I"⟩
def dkwX4_out_3 : List UInt8 := [180, 0, 67, 184, 0, 70, 172]
abbrev dktX4_out_3 : List UInt8 := dkwX4_out_3 ++ []
def dkwX4_out_2 : List UInt8 := [167, 0, 28, 20, 0, 74, 42, 180, 0, 15, 27, 46, 133, 105, 21, 4, 133, 101, 42, 180, 0, 21]
abbrev dktX4_out_2 : List UInt8 := dkwX4_out_2 ++ dktX4_out_3
def dkwX4_out_1 : List UInt8 := [180, 0, 21, 180, 0, 67, 184, 0, 70, 54, 4, 42, 180, 0, 15, 27, 46, 16, 254, 160, 0, 8, 21, 4]
abbrev dktX4_out_1 : List UInt8 := dkwX4_out_1 ++ dktX4_out_2
def dkwX4_out_0 : List UInt8 := [28, 133, 42, 180, 0, 21, 180, 0, 46, 27, 50, 42, 180, 0, 18, 27, 46, 29, 182, 0, 64, 133, 97, 42]
abbrev dktX4_out_0 : List UInt8 := dkwX4_out_0 ++ dktX4_out_1
theorem dksX4_out_0 : cX4_out.data.toList.drop 0 = dktX4_out_0 := by decide +kernel
theorem dksX4_out_1 : cX4_out.data.toList.drop 24 = dktX4_out_1 := dk_seg dksX4_out_0 24 rfl rfl
theorem dksX4_out_2 : cX4_out.data.toList.drop 48 = dktX4_out_2 := dk_seg dksX4_out_1 24 rfl rfl
theorem dksX4_out_3 : cX4_out.data.toList.drop 70 = dktX4_out_3 := dk_seg dksX4_out_2 22 rfl rfl
theorem dX4_out_0 : decode cX4_out 0 = .ok (.iload_n 2, 1) := dk_28 (dk_at dksX4_out_0 0 rfl rfl)
theorem dX4_out_1 : decode cX4_out 1 = .ok (.i2l, 1) := dk_133 (dk_at dksX4_out_0 1 rfl rfl)
theorem dX4_out_2 : decode cX4_out 2 = .ok (.aload_n 0, 1) := dk_42 (dk_at dksX4_out_0 2 rfl rfl)
theorem dX4_out_3 : decode cX4_out 3 = .ok (.getfield 21, 3) := dk_180 0 21 (dk_at dksX4_out_0 3 rfl rfl)
theorem dX4_out_6 : decode cX4_out 6 = .ok (.getfield 46, 3) := dk_180 0 46 (dk_at dksX4_out_0 6 rfl rfl)
theorem dX4_out_9 : decode cX4_out 9 = .ok (.iload_n 1, 1) := dk_27 (dk_at dksX4_out_0 9 rfl rfl)
theorem dX4_out_10 : decode cX4_out 10 = .ok (.aaload, 1) := dk_50 (dk_at dksX4_out_0 10 rfl rfl)
theorem dX4_out_11 : decode cX4_out 11 = .ok (.aload_n 0, 1) := dk_42 (dk_at dksX4_out_0 11 rfl rfl)
theorem dX4_out_12 : decode cX4_out 12 = .ok (.getfield 18, 3) := dk_180 0 18 (dk_at dksX4_out_0 12 rfl rfl)
theorem dX4_out_15 : decode cX4_out 15 = .ok (.iload_n 1, 1) := dk_27 (dk_at dksX4_out_0 15 rfl rfl)
theorem dX4_out_16 : decode cX4_out 16 = .ok (.iaload, 1) := dk_46 (dk_at dksX4_out_0 16 rfl rfl)
theorem dX4_out_17 : decode cX4_out 17 = .ok (.iload_n 3, 1) := dk_29 (dk_at dksX4_out_0 17 rfl rfl)
theorem dX4_out_18 : decode cX4_out 18 = .ok (.invokevirtual 64, 3) := dk_182 0 64 (dk_at dksX4_out_0 18 rfl rfl)
theorem dX4_out_21 : decode cX4_out 21 = .ok (.i2l, 1) := dk_133 (dk_at dksX4_out_0 21 rfl rfl)
theorem dX4_out_22 : decode cX4_out 22 = .ok (.ladd, 1) := dk_97 (dk_at dksX4_out_0 22 rfl rfl)
theorem dX4_out_23 : decode cX4_out 23 = .ok (.aload_n 0, 1) := dk_42 (dk_at dksX4_out_0 23 rfl rfl)
theorem dX4_out_24 : decode cX4_out 24 = .ok (.getfield 21, 3) := dk_180 0 21 (dk_at dksX4_out_1 0 rfl rfl)
theorem dX4_out_27 : decode cX4_out 27 = .ok (.getfield 67, 3) := dk_180 0 67 (dk_at dksX4_out_1 3 rfl rfl)
theorem dX4_out_30 : decode cX4_out 30 = .ok (.invokestatic 70, 3) := dk_184 0 70 (dk_at dksX4_out_1 6 rfl rfl)
theorem dX4_out_33 : decode cX4_out 33 = .ok (.istore 4, 2) := dk_54 4 (dk_at dksX4_out_1 9 rfl rfl)
theorem dX4_out_35 : decode cX4_out 35 = .ok (.aload_n 0, 1) := dk_42 (dk_at dksX4_out_1 11 rfl rfl)
theorem dX4_out_36 : decode cX4_out 36 = .ok (.getfield 15, 3) := dk_180 0 15 (dk_at dksX4_out_1 12 rfl rfl)
theorem dX4_out_39 : decode cX4_out 39 = .ok (.iload_n 1, 1) := dk_27 (dk_at dksX4_out_1 15 rfl rfl)
theorem dX4_out_40 : decode cX4_out 40 = .ok (.iaload, 1) := dk_46 (dk_at dksX4_out_1 16 rfl rfl)
theorem dX4_out_41 : decode cX4_out 41 = .ok (.bipush (-2), 2) := dk_16 254 (dk_at dksX4_out_1 17 rfl rfl)
theorem dX4_out_43 : decode cX4_out 43 = .ok (.if_icmp .ne 8, 3) := dk_160 0 8 (dk_at dksX4_out_1 19 rfl rfl)
theorem dX4_out_46 : decode cX4_out 46 = .ok (.iload 4, 2) := dk_21 4 (dk_at dksX4_out_1 22 rfl rfl)
theorem dX4_out_48 : decode cX4_out 48 = .ok (.goto 28, 3) := dk_167 0 28 (dk_at dksX4_out_2 0 rfl rfl)
theorem dX4_out_51 : decode cX4_out 51 = .ok (.ldc2_w 74, 3) := dk_20 0 74 (dk_at dksX4_out_2 3 rfl rfl)
theorem dX4_out_54 : decode cX4_out 54 = .ok (.aload_n 0, 1) := dk_42 (dk_at dksX4_out_2 6 rfl rfl)
theorem dX4_out_55 : decode cX4_out 55 = .ok (.getfield 15, 3) := dk_180 0 15 (dk_at dksX4_out_2 7 rfl rfl)
theorem dX4_out_58 : decode cX4_out 58 = .ok (.iload_n 1, 1) := dk_27 (dk_at dksX4_out_2 10 rfl rfl)
theorem dX4_out_59 : decode cX4_out 59 = .ok (.iaload, 1) := dk_46 (dk_at dksX4_out_2 11 rfl rfl)
theorem dX4_out_60 : decode cX4_out 60 = .ok (.i2l, 1) := dk_133 (dk_at dksX4_out_2 12 rfl rfl)
theorem dX4_out_61 : decode cX4_out 61 = .ok (.lmul, 1) := dk_105 (dk_at dksX4_out_2 13 rfl rfl)
theorem dX4_out_62 : decode cX4_out 62 = .ok (.iload 4, 2) := dk_21 4 (dk_at dksX4_out_2 14 rfl rfl)
theorem dX4_out_64 : decode cX4_out 64 = .ok (.i2l, 1) := dk_133 (dk_at dksX4_out_2 16 rfl rfl)
theorem dX4_out_65 : decode cX4_out 65 = .ok (.lsub, 1) := dk_101 (dk_at dksX4_out_2 17 rfl rfl)
theorem dX4_out_66 : decode cX4_out 66 = .ok (.aload_n 0, 1) := dk_42 (dk_at dksX4_out_2 18 rfl rfl)
theorem dX4_out_67 : decode cX4_out 67 = .ok (.getfield 21, 3) := dk_180 0 21 (dk_at dksX4_out_2 19 rfl rfl)
theorem dX4_out_70 : decode cX4_out 70 = .ok (.getfield 67, 3) := dk_180 0 67 (dk_at dksX4_out_3 0 rfl rfl)
theorem dX4_out_73 : decode cX4_out 73 = .ok (.invokestatic 70, 3) := dk_184 0 70 (dk_at dksX4_out_3 3 rfl rfl)
theorem dX4_out_76 : decode cX4_out 76 = .ok (.ireturn, 1) := dk_172 (dk_at dksX4_out_3 6 rfl rfl)
abbrev cX4_from : ByteArray := prog_10_method_7_code
def yX4_from : MethodName := ⟨RX4, "from", "(I)I"⟩
def dkwX4_from_1 : List UInt8 := [167, 255, 234, 42, 28, 182, 0, 79, 172]
abbrev dktX4_from_1 : List UInt8 := dkwX4_from_1 ++ []
def dkwX4_from_0 : List UInt8 := [27, 61, 42, 28, 182, 0, 79, 16, 254, 160, 0, 18, 28, 4, 96, 42, 180, 0, 21, 180, 0, 67, 112, 61]
abbrev dktX4_from_0 : List UInt8 := dkwX4_from_0 ++ dktX4_from_1
theorem dksX4_from_0 : cX4_from.data.toList.drop 0 = dktX4_from_0 := by decide +kernel
theorem dksX4_from_1 : cX4_from.data.toList.drop 24 = dktX4_from_1 := dk_seg dksX4_from_0 24 rfl rfl
theorem dX4_from_0 : decode cX4_from 0 = .ok (.iload_n 1, 1) := dk_27 (dk_at dksX4_from_0 0 rfl rfl)
theorem dX4_from_1 : decode cX4_from 1 = .ok (.istore_n 2, 1) := dk_61 (dk_at dksX4_from_0 1 rfl rfl)
theorem dX4_from_2 : decode cX4_from 2 = .ok (.aload_n 0, 1) := dk_42 (dk_at dksX4_from_0 2 rfl rfl)
theorem dX4_from_3 : decode cX4_from 3 = .ok (.iload_n 2, 1) := dk_28 (dk_at dksX4_from_0 3 rfl rfl)
theorem dX4_from_4 : decode cX4_from 4 = .ok (.invokevirtual 79, 3) := dk_182 0 79 (dk_at dksX4_from_0 4 rfl rfl)
theorem dX4_from_7 : decode cX4_from 7 = .ok (.bipush (-2), 2) := dk_16 254 (dk_at dksX4_from_0 7 rfl rfl)
theorem dX4_from_9 : decode cX4_from 9 = .ok (.if_icmp .ne 18, 3) := dk_160 0 18 (dk_at dksX4_from_0 9 rfl rfl)
theorem dX4_from_12 : decode cX4_from 12 = .ok (.iload_n 2, 1) := dk_28 (dk_at dksX4_from_0 12 rfl rfl)
theorem dX4_from_13 : decode cX4_from 13 = .ok (.iconst 1, 1) := dk_4 (dk_at dksX4_from_0 13 rfl rfl)
theorem dX4_from_14 : decode cX4_from 14 = .ok (.iadd, 1) := dk_96 (dk_at dksX4_from_0 14 rfl rfl)
theorem dX4_from_15 : decode cX4_from 15 = .ok (.aload_n 0, 1) := dk_42 (dk_at dksX4_from_0 15 rfl rfl)
theorem dX4_from_16 : decode cX4_from 16 = .ok (.getfield 21, 3) := dk_180 0 21 (dk_at dksX4_from_0 16 rfl rfl)
theorem dX4_from_19 : decode cX4_from 19 = .ok (.getfield 67, 3) := dk_180 0 67 (dk_at dksX4_from_0 19 rfl rfl)
theorem dX4_from_22 : decode cX4_from 22 = .ok (.irem, 1) := dk_112 (dk_at dksX4_from_0 22 rfl rfl)
theorem dX4_from_23 : decode cX4_from 23 = .ok (.istore_n 2, 1) := dk_61 (dk_at dksX4_from_0 23 rfl rfl)
theorem dX4_from_24 : decode cX4_from 24 = .ok (.goto (-22), 3) := dk_167 255 234 (dk_at dksX4_from_1 0 rfl rfl)
theorem dX4_from_27 : decode cX4_from 27 = .ok (.aload_n 0, 1) := dk_42 (dk_at dksX4_from_1 3 rfl rfl)
theorem dX4_from_28 : decode cX4_from 28 = .ok (.iload_n 2, 1) := dk_28 (dk_at dksX4_from_1 4 rfl rfl)
theorem dX4_from_29 : decode cX4_from 29 = .ok (.invokevirtual 79, 3) := dk_182 0 79 (dk_at dksX4_from_1 5 rfl rfl)
theorem dX4_from_32 : decode cX4_from 32 = .ok (.ireturn, 1) := dk_172 (dk_at dksX4_from_1 8 rfl rfl)
abbrev cX4_who : ByteArray := prog_10_method_6_code
def yX4_who : MethodName := ⟨RX4, "who", "(I)I"⟩
def dkwX4_who_1 : List UInt8 := [172, 132, 2, 1, 167, 255, 230, 16, 254, 172]
abbrev dktX4_who_1 : List UInt8 := dkwX4_who_1 ++ []
def dkwX4_who_0 : List UInt8 := [3, 61, 28, 42, 180, 0, 21, 180, 0, 29, 162, 0, 21, 42, 180, 0, 9, 28, 46, 27, 160, 0, 5, 28]
abbrev dktX4_who_0 : List UInt8 := dkwX4_who_0 ++ dktX4_who_1
theorem dksX4_who_0 : cX4_who.data.toList.drop 0 = dktX4_who_0 := by decide +kernel
theorem dksX4_who_1 : cX4_who.data.toList.drop 24 = dktX4_who_1 := dk_seg dksX4_who_0 24 rfl rfl
theorem dX4_who_0 : decode cX4_who 0 = .ok (.iconst 0, 1) := dk_3 (dk_at dksX4_who_0 0 rfl rfl)
theorem dX4_who_1 : decode cX4_who 1 = .ok (.istore_n 2, 1) := dk_61 (dk_at dksX4_who_0 1 rfl rfl)
theorem dX4_who_2 : decode cX4_who 2 = .ok (.iload_n 2, 1) := dk_28 (dk_at dksX4_who_0 2 rfl rfl)
theorem dX4_who_3 : decode cX4_who 3 = .ok (.aload_n 0, 1) := dk_42 (dk_at dksX4_who_0 3 rfl rfl)
theorem dX4_who_4 : decode cX4_who 4 = .ok (.getfield 21, 3) := dk_180 0 21 (dk_at dksX4_who_0 4 rfl rfl)
theorem dX4_who_7 : decode cX4_who 7 = .ok (.getfield 29, 3) := dk_180 0 29 (dk_at dksX4_who_0 7 rfl rfl)
theorem dX4_who_10 : decode cX4_who 10 = .ok (.if_icmp .ge 21, 3) := dk_162 0 21 (dk_at dksX4_who_0 10 rfl rfl)
theorem dX4_who_13 : decode cX4_who 13 = .ok (.aload_n 0, 1) := dk_42 (dk_at dksX4_who_0 13 rfl rfl)
theorem dX4_who_14 : decode cX4_who 14 = .ok (.getfield 9, 3) := dk_180 0 9 (dk_at dksX4_who_0 14 rfl rfl)
theorem dX4_who_17 : decode cX4_who 17 = .ok (.iload_n 2, 1) := dk_28 (dk_at dksX4_who_0 17 rfl rfl)
theorem dX4_who_18 : decode cX4_who 18 = .ok (.iaload, 1) := dk_46 (dk_at dksX4_who_0 18 rfl rfl)
theorem dX4_who_19 : decode cX4_who 19 = .ok (.iload_n 1, 1) := dk_27 (dk_at dksX4_who_0 19 rfl rfl)
theorem dX4_who_20 : decode cX4_who 20 = .ok (.if_icmp .ne 5, 3) := dk_160 0 5 (dk_at dksX4_who_0 20 rfl rfl)
theorem dX4_who_23 : decode cX4_who 23 = .ok (.iload_n 2, 1) := dk_28 (dk_at dksX4_who_0 23 rfl rfl)
theorem dX4_who_24 : decode cX4_who 24 = .ok (.ireturn, 1) := dk_172 (dk_at dksX4_who_1 0 rfl rfl)
theorem dX4_who_25 : decode cX4_who 25 = .ok (.iinc 2 1, 3) := dk_132 2 1 (dk_at dksX4_who_1 1 rfl rfl)
theorem dX4_who_28 : decode cX4_who 28 = .ok (.goto (-26), 3) := dk_167 255 230 (dk_at dksX4_who_1 4 rfl rfl)
theorem dX4_who_31 : decode cX4_who 31 = .ok (.bipush (-2), 2) := dk_16 254 (dk_at dksX4_who_1 7 rfl rfl)
theorem dX4_who_33 : decode cX4_who 33 = .ok (.ireturn, 1) := dk_172 (dk_at dksX4_who_1 9 rfl rfl)
abbrev cX4_rightOnes : ByteArray := prog_10_method_10_code
def yX4_rightOnes : MethodName := ⟨RX4, "rightOnes", "(I)I"⟩
def dkwX4_rightOnes_1 : List UInt8 := [153, 0, 9, 4, 29, 120, 167, 0, 4, 3, 128, 61, 132, 3, 1, 167, 255, 222, 28, 172]
abbrev dktX4_rightOnes_1 : List UInt8 := dkwX4_rightOnes_1 ++ []
def dkwX4_rightOnes_0 : List UInt8 := [3, 61, 3, 62, 29, 42, 180, 0, 21, 180, 0, 43, 162, 0, 29, 28, 42, 29, 27, 3, 182, 0, 96]
abbrev dktX4_rightOnes_0 : List UInt8 := dkwX4_rightOnes_0 ++ dktX4_rightOnes_1
theorem dksX4_rightOnes_0 : cX4_rightOnes.data.toList.drop 0 = dktX4_rightOnes_0 := by decide +kernel
theorem dksX4_rightOnes_1 : cX4_rightOnes.data.toList.drop 23 = dktX4_rightOnes_1 := dk_seg dksX4_rightOnes_0 23 rfl rfl
theorem dX4_rightOnes_0 : decode cX4_rightOnes 0 = .ok (.iconst 0, 1) := dk_3 (dk_at dksX4_rightOnes_0 0 rfl rfl)
theorem dX4_rightOnes_1 : decode cX4_rightOnes 1 = .ok (.istore_n 2, 1) := dk_61 (dk_at dksX4_rightOnes_0 1 rfl rfl)
theorem dX4_rightOnes_2 : decode cX4_rightOnes 2 = .ok (.iconst 0, 1) := dk_3 (dk_at dksX4_rightOnes_0 2 rfl rfl)
theorem dX4_rightOnes_3 : decode cX4_rightOnes 3 = .ok (.istore_n 3, 1) := dk_62 (dk_at dksX4_rightOnes_0 3 rfl rfl)
theorem dX4_rightOnes_4 : decode cX4_rightOnes 4 = .ok (.iload_n 3, 1) := dk_29 (dk_at dksX4_rightOnes_0 4 rfl rfl)
theorem dX4_rightOnes_5 : decode cX4_rightOnes 5 = .ok (.aload_n 0, 1) := dk_42 (dk_at dksX4_rightOnes_0 5 rfl rfl)
theorem dX4_rightOnes_6 : decode cX4_rightOnes 6 = .ok (.getfield 21, 3) := dk_180 0 21 (dk_at dksX4_rightOnes_0 6 rfl rfl)
theorem dX4_rightOnes_9 : decode cX4_rightOnes 9 = .ok (.getfield 43, 3) := dk_180 0 43 (dk_at dksX4_rightOnes_0 9 rfl rfl)
theorem dX4_rightOnes_12 : decode cX4_rightOnes 12 = .ok (.if_icmp .ge 29, 3) := dk_162 0 29 (dk_at dksX4_rightOnes_0 12 rfl rfl)
theorem dX4_rightOnes_15 : decode cX4_rightOnes 15 = .ok (.iload_n 2, 1) := dk_28 (dk_at dksX4_rightOnes_0 15 rfl rfl)
theorem dX4_rightOnes_16 : decode cX4_rightOnes 16 = .ok (.aload_n 0, 1) := dk_42 (dk_at dksX4_rightOnes_0 16 rfl rfl)
theorem dX4_rightOnes_17 : decode cX4_rightOnes 17 = .ok (.iload_n 3, 1) := dk_29 (dk_at dksX4_rightOnes_0 17 rfl rfl)
theorem dX4_rightOnes_18 : decode cX4_rightOnes 18 = .ok (.iload_n 1, 1) := dk_27 (dk_at dksX4_rightOnes_0 18 rfl rfl)
theorem dX4_rightOnes_19 : decode cX4_rightOnes 19 = .ok (.iconst 0, 1) := dk_3 (dk_at dksX4_rightOnes_0 19 rfl rfl)
theorem dX4_rightOnes_20 : decode cX4_rightOnes 20 = .ok (.invokevirtual 96, 3) := dk_182 0 96 (dk_at dksX4_rightOnes_0 20 rfl rfl)
theorem dX4_rightOnes_23 : decode cX4_rightOnes 23 = .ok (.ifCond .eq 9, 3) := dk_153 0 9 (dk_at dksX4_rightOnes_1 0 rfl rfl)
theorem dX4_rightOnes_26 : decode cX4_rightOnes 26 = .ok (.iconst 1, 1) := dk_4 (dk_at dksX4_rightOnes_1 3 rfl rfl)
theorem dX4_rightOnes_27 : decode cX4_rightOnes 27 = .ok (.iload_n 3, 1) := dk_29 (dk_at dksX4_rightOnes_1 4 rfl rfl)
theorem dX4_rightOnes_28 : decode cX4_rightOnes 28 = .ok (.ishl, 1) := dk_120 (dk_at dksX4_rightOnes_1 5 rfl rfl)
theorem dX4_rightOnes_29 : decode cX4_rightOnes 29 = .ok (.goto 4, 3) := dk_167 0 4 (dk_at dksX4_rightOnes_1 6 rfl rfl)
theorem dX4_rightOnes_32 : decode cX4_rightOnes 32 = .ok (.iconst 0, 1) := dk_3 (dk_at dksX4_rightOnes_1 9 rfl rfl)
theorem dX4_rightOnes_33 : decode cX4_rightOnes 33 = .ok (.ior, 1) := dk_128 (dk_at dksX4_rightOnes_1 10 rfl rfl)
theorem dX4_rightOnes_34 : decode cX4_rightOnes 34 = .ok (.istore_n 2, 1) := dk_61 (dk_at dksX4_rightOnes_1 11 rfl rfl)
theorem dX4_rightOnes_35 : decode cX4_rightOnes 35 = .ok (.iinc 3 1, 3) := dk_132 3 1 (dk_at dksX4_rightOnes_1 12 rfl rfl)
theorem dX4_rightOnes_38 : decode cX4_rightOnes 38 = .ok (.goto (-34), 3) := dk_167 255 222 (dk_at dksX4_rightOnes_1 15 rfl rfl)
theorem dX4_rightOnes_41 : decode cX4_rightOnes 41 = .ok (.iload_n 2, 1) := dk_28 (dk_at dksX4_rightOnes_1 18 rfl rfl)
theorem dX4_rightOnes_42 : decode cX4_rightOnes 42 = .ok (.ireturn, 1) := dk_172 (dk_at dksX4_rightOnes_1 19 rfl rfl)
abbrev cX4_isRight : ByteArray := prog_10_method_9_code
def yX4_isRight : MethodName := ⟨RX4, "isRight", "(III)Z"⟩
def dkwX4_isRight_1 : List UInt8 := [167, 0, 4, 3, 172]
abbrev dktX4_isRight_1 : List UInt8 := dkwX4_isRight_1 ++ []
def dkwX4_isRight_0 : List UInt8 := [42, 27, 28, 29, 182, 0, 93, 42, 180, 0, 21, 180, 0, 46, 27, 50, 180, 0, 76, 160, 0, 7, 4]
abbrev dktX4_isRight_0 : List UInt8 := dkwX4_isRight_0 ++ dktX4_isRight_1
theorem dksX4_isRight_0 : cX4_isRight.data.toList.drop 0 = dktX4_isRight_0 := by decide +kernel
theorem dksX4_isRight_1 : cX4_isRight.data.toList.drop 23 = dktX4_isRight_1 := dk_seg dksX4_isRight_0 23 rfl rfl
theorem dX4_isRight_0 : decode cX4_isRight 0 = .ok (.aload_n 0, 1) := dk_42 (dk_at dksX4_isRight_0 0 rfl rfl)
theorem dX4_isRight_1 : decode cX4_isRight 1 = .ok (.iload_n 1, 1) := dk_27 (dk_at dksX4_isRight_0 1 rfl rfl)
theorem dX4_isRight_2 : decode cX4_isRight 2 = .ok (.iload_n 2, 1) := dk_28 (dk_at dksX4_isRight_0 2 rfl rfl)
theorem dX4_isRight_3 : decode cX4_isRight 3 = .ok (.iload_n 3, 1) := dk_29 (dk_at dksX4_isRight_0 3 rfl rfl)
theorem dX4_isRight_4 : decode cX4_isRight 4 = .ok (.invokevirtual 93, 3) := dk_182 0 93 (dk_at dksX4_isRight_0 4 rfl rfl)
theorem dX4_isRight_7 : decode cX4_isRight 7 = .ok (.aload_n 0, 1) := dk_42 (dk_at dksX4_isRight_0 7 rfl rfl)
theorem dX4_isRight_8 : decode cX4_isRight 8 = .ok (.getfield 21, 3) := dk_180 0 21 (dk_at dksX4_isRight_0 8 rfl rfl)
theorem dX4_isRight_11 : decode cX4_isRight 11 = .ok (.getfield 46, 3) := dk_180 0 46 (dk_at dksX4_isRight_0 11 rfl rfl)
theorem dX4_isRight_14 : decode cX4_isRight 14 = .ok (.iload_n 1, 1) := dk_27 (dk_at dksX4_isRight_0 14 rfl rfl)
theorem dX4_isRight_15 : decode cX4_isRight 15 = .ok (.aaload, 1) := dk_50 (dk_at dksX4_isRight_0 15 rfl rfl)
theorem dX4_isRight_16 : decode cX4_isRight 16 = .ok (.getfield 76, 3) := dk_180 0 76 (dk_at dksX4_isRight_0 16 rfl rfl)
theorem dX4_isRight_19 : decode cX4_isRight 19 = .ok (.if_icmp .ne 7, 3) := dk_160 0 7 (dk_at dksX4_isRight_0 19 rfl rfl)
theorem dX4_isRight_22 : decode cX4_isRight 22 = .ok (.iconst 1, 1) := dk_4 (dk_at dksX4_isRight_0 22 rfl rfl)
theorem dX4_isRight_23 : decode cX4_isRight 23 = .ok (.goto 4, 3) := dk_167 0 4 (dk_at dksX4_isRight_1 0 rfl rfl)
theorem dX4_isRight_26 : decode cX4_isRight 26 = .ok (.iconst 0, 1) := dk_3 (dk_at dksX4_isRight_1 3 rfl rfl)
theorem dX4_isRight_27 : decode cX4_isRight 27 = .ok (.ireturn, 1) := dk_172 (dk_at dksX4_isRight_1 4 rfl rfl)
abbrev cX4_become : ByteArray := prog_10_method_3_code
def yX4_become : MethodName := ⟨RX4, "become", "(LSeanceStreet$Street;)LSeanceStreet$Street;"⟩
def dkwX4_become_2 : List UInt8 := [43, 180, 0, 18, 3, 42, 180, 0, 18, 3, 16, 6, 184, 0, 58, 42, 176]
abbrev dktX4_become_2 : List UInt8 := dkwX4_become_2 ++ []
def dkwX4_become_1 : List UInt8 := [180, 0, 9, 3, 16, 6, 184, 0, 58, 43, 180, 0, 15, 3, 42, 180, 0, 15, 3, 16, 6, 184, 0, 58]
abbrev dktX4_become_1 : List UInt8 := dkwX4_become_1 ++ dktX4_become_2
def dkwX4_become_0 : List UInt8 := [42, 43, 180, 0, 21, 181, 0, 21, 42, 43, 180, 0, 25, 181, 0, 25, 43, 180, 0, 9, 3, 42]
abbrev dktX4_become_0 : List UInt8 := dkwX4_become_0 ++ dktX4_become_1
theorem dksX4_become_0 : cX4_become.data.toList.drop 0 = dktX4_become_0 := by decide +kernel
theorem dksX4_become_1 : cX4_become.data.toList.drop 22 = dktX4_become_1 := dk_seg dksX4_become_0 22 rfl rfl
theorem dksX4_become_2 : cX4_become.data.toList.drop 46 = dktX4_become_2 := dk_seg dksX4_become_1 24 rfl rfl
theorem dX4_become_0 : decode cX4_become 0 = .ok (.aload_n 0, 1) := dk_42 (dk_at dksX4_become_0 0 rfl rfl)
theorem dX4_become_1 : decode cX4_become 1 = .ok (.aload_n 1, 1) := dk_43 (dk_at dksX4_become_0 1 rfl rfl)
theorem dX4_become_2 : decode cX4_become 2 = .ok (.getfield 21, 3) := dk_180 0 21 (dk_at dksX4_become_0 2 rfl rfl)
theorem dX4_become_5 : decode cX4_become 5 = .ok (.putfield 21, 3) := dk_181 0 21 (dk_at dksX4_become_0 5 rfl rfl)
theorem dX4_become_8 : decode cX4_become 8 = .ok (.aload_n 0, 1) := dk_42 (dk_at dksX4_become_0 8 rfl rfl)
theorem dX4_become_9 : decode cX4_become 9 = .ok (.aload_n 1, 1) := dk_43 (dk_at dksX4_become_0 9 rfl rfl)
theorem dX4_become_10 : decode cX4_become 10 = .ok (.getfield 25, 3) := dk_180 0 25 (dk_at dksX4_become_0 10 rfl rfl)
theorem dX4_become_13 : decode cX4_become 13 = .ok (.putfield 25, 3) := dk_181 0 25 (dk_at dksX4_become_0 13 rfl rfl)
theorem dX4_become_16 : decode cX4_become 16 = .ok (.aload_n 1, 1) := dk_43 (dk_at dksX4_become_0 16 rfl rfl)
theorem dX4_become_17 : decode cX4_become 17 = .ok (.getfield 9, 3) := dk_180 0 9 (dk_at dksX4_become_0 17 rfl rfl)
theorem dX4_become_20 : decode cX4_become 20 = .ok (.iconst 0, 1) := dk_3 (dk_at dksX4_become_0 20 rfl rfl)
theorem dX4_become_21 : decode cX4_become 21 = .ok (.aload_n 0, 1) := dk_42 (dk_at dksX4_become_0 21 rfl rfl)
theorem dX4_become_22 : decode cX4_become 22 = .ok (.getfield 9, 3) := dk_180 0 9 (dk_at dksX4_become_1 0 rfl rfl)
theorem dX4_become_25 : decode cX4_become 25 = .ok (.iconst 0, 1) := dk_3 (dk_at dksX4_become_1 3 rfl rfl)
theorem dX4_become_26 : decode cX4_become 26 = .ok (.bipush 6, 2) := dk_16 6 (dk_at dksX4_become_1 4 rfl rfl)
theorem dX4_become_28 : decode cX4_become 28 = .ok (.invokestatic 58, 3) := dk_184 0 58 (dk_at dksX4_become_1 6 rfl rfl)
theorem dX4_become_31 : decode cX4_become 31 = .ok (.aload_n 1, 1) := dk_43 (dk_at dksX4_become_1 9 rfl rfl)
theorem dX4_become_32 : decode cX4_become 32 = .ok (.getfield 15, 3) := dk_180 0 15 (dk_at dksX4_become_1 10 rfl rfl)
theorem dX4_become_35 : decode cX4_become 35 = .ok (.iconst 0, 1) := dk_3 (dk_at dksX4_become_1 13 rfl rfl)
theorem dX4_become_36 : decode cX4_become 36 = .ok (.aload_n 0, 1) := dk_42 (dk_at dksX4_become_1 14 rfl rfl)
theorem dX4_become_37 : decode cX4_become 37 = .ok (.getfield 15, 3) := dk_180 0 15 (dk_at dksX4_become_1 15 rfl rfl)
theorem dX4_become_40 : decode cX4_become 40 = .ok (.iconst 0, 1) := dk_3 (dk_at dksX4_become_1 18 rfl rfl)
theorem dX4_become_41 : decode cX4_become 41 = .ok (.bipush 6, 2) := dk_16 6 (dk_at dksX4_become_1 19 rfl rfl)
theorem dX4_become_43 : decode cX4_become 43 = .ok (.invokestatic 58, 3) := dk_184 0 58 (dk_at dksX4_become_1 21 rfl rfl)
theorem dX4_become_46 : decode cX4_become 46 = .ok (.aload_n 1, 1) := dk_43 (dk_at dksX4_become_2 0 rfl rfl)
theorem dX4_become_47 : decode cX4_become 47 = .ok (.getfield 18, 3) := dk_180 0 18 (dk_at dksX4_become_2 1 rfl rfl)
theorem dX4_become_50 : decode cX4_become 50 = .ok (.iconst 0, 1) := dk_3 (dk_at dksX4_become_2 4 rfl rfl)
theorem dX4_become_51 : decode cX4_become 51 = .ok (.aload_n 0, 1) := dk_42 (dk_at dksX4_become_2 5 rfl rfl)
theorem dX4_become_52 : decode cX4_become 52 = .ok (.getfield 18, 3) := dk_180 0 18 (dk_at dksX4_become_2 6 rfl rfl)
theorem dX4_become_55 : decode cX4_become 55 = .ok (.iconst 0, 1) := dk_3 (dk_at dksX4_become_2 9 rfl rfl)
theorem dX4_become_56 : decode cX4_become 56 = .ok (.bipush 6, 2) := dk_16 6 (dk_at dksX4_become_2 10 rfl rfl)
theorem dX4_become_58 : decode cX4_become 58 = .ok (.invokestatic 58, 3) := dk_184 0 58 (dk_at dksX4_become_2 12 rfl rfl)
theorem dX4_become_61 : decode cX4_become 61 = .ok (.aload_n 0, 1) := dk_42 (dk_at dksX4_become_2 15 rfl rfl)
theorem dX4_become_62 : decode cX4_become 62 = .ok (.areturn, 1) := dk_176 (dk_at dksX4_become_2 16 rfl rfl)
abbrev cX4_exchange : ByteArray := prog_10_method_13_code
def yX4_exchange : MethodName := ⟨RX4, "exchange", "(II)LSeanceStreet$Street;"⟩
def dkwX4_exchange_1 : List UInt8 := [29, 79, 42, 176]
abbrev dktX4_exchange_1 : List UInt8 := dkwX4_exchange_1 ++ []
def dkwX4_exchange_0 : List UInt8 := [42, 180, 0, 9, 27, 46, 62, 42, 180, 0, 9, 27, 42, 180, 0, 9, 28, 46, 79, 42, 180, 0, 9, 28]
abbrev dktX4_exchange_0 : List UInt8 := dkwX4_exchange_0 ++ dktX4_exchange_1
theorem dksX4_exchange_0 : cX4_exchange.data.toList.drop 0 = dktX4_exchange_0 := by decide +kernel
theorem dksX4_exchange_1 : cX4_exchange.data.toList.drop 24 = dktX4_exchange_1 := dk_seg dksX4_exchange_0 24 rfl rfl
theorem dX4_exchange_0 : decode cX4_exchange 0 = .ok (.aload_n 0, 1) := dk_42 (dk_at dksX4_exchange_0 0 rfl rfl)
theorem dX4_exchange_1 : decode cX4_exchange 1 = .ok (.getfield 9, 3) := dk_180 0 9 (dk_at dksX4_exchange_0 1 rfl rfl)
theorem dX4_exchange_4 : decode cX4_exchange 4 = .ok (.iload_n 1, 1) := dk_27 (dk_at dksX4_exchange_0 4 rfl rfl)
theorem dX4_exchange_5 : decode cX4_exchange 5 = .ok (.iaload, 1) := dk_46 (dk_at dksX4_exchange_0 5 rfl rfl)
theorem dX4_exchange_6 : decode cX4_exchange 6 = .ok (.istore_n 3, 1) := dk_62 (dk_at dksX4_exchange_0 6 rfl rfl)
theorem dX4_exchange_7 : decode cX4_exchange 7 = .ok (.aload_n 0, 1) := dk_42 (dk_at dksX4_exchange_0 7 rfl rfl)
theorem dX4_exchange_8 : decode cX4_exchange 8 = .ok (.getfield 9, 3) := dk_180 0 9 (dk_at dksX4_exchange_0 8 rfl rfl)
theorem dX4_exchange_11 : decode cX4_exchange 11 = .ok (.iload_n 1, 1) := dk_27 (dk_at dksX4_exchange_0 11 rfl rfl)
theorem dX4_exchange_12 : decode cX4_exchange 12 = .ok (.aload_n 0, 1) := dk_42 (dk_at dksX4_exchange_0 12 rfl rfl)
theorem dX4_exchange_13 : decode cX4_exchange 13 = .ok (.getfield 9, 3) := dk_180 0 9 (dk_at dksX4_exchange_0 13 rfl rfl)
theorem dX4_exchange_16 : decode cX4_exchange 16 = .ok (.iload_n 2, 1) := dk_28 (dk_at dksX4_exchange_0 16 rfl rfl)
theorem dX4_exchange_17 : decode cX4_exchange 17 = .ok (.iaload, 1) := dk_46 (dk_at dksX4_exchange_0 17 rfl rfl)
theorem dX4_exchange_18 : decode cX4_exchange 18 = .ok (.iastore, 1) := dk_79 (dk_at dksX4_exchange_0 18 rfl rfl)
theorem dX4_exchange_19 : decode cX4_exchange 19 = .ok (.aload_n 0, 1) := dk_42 (dk_at dksX4_exchange_0 19 rfl rfl)
theorem dX4_exchange_20 : decode cX4_exchange 20 = .ok (.getfield 9, 3) := dk_180 0 9 (dk_at dksX4_exchange_0 20 rfl rfl)
theorem dX4_exchange_23 : decode cX4_exchange 23 = .ok (.iload_n 2, 1) := dk_28 (dk_at dksX4_exchange_0 23 rfl rfl)
theorem dX4_exchange_24 : decode cX4_exchange 24 = .ok (.iload_n 3, 1) := dk_29 (dk_at dksX4_exchange_1 0 rfl rfl)
theorem dX4_exchange_25 : decode cX4_exchange 25 = .ok (.iastore, 1) := dk_79 (dk_at dksX4_exchange_1 1 rfl rfl)
theorem dX4_exchange_26 : decode cX4_exchange 26 = .ok (.aload_n 0, 1) := dk_42 (dk_at dksX4_exchange_1 2 rfl rfl)
theorem dX4_exchange_27 : decode cX4_exchange 27 = .ok (.areturn, 1) := dk_176 (dk_at dksX4_exchange_1 3 rfl rfl)
abbrev cX4_hung : ByteArray := prog_10_method_14_code
def yX4_hung : MethodName := ⟨RX4, "hung", "()I"⟩
def dkwX4_hung_1 : List UInt8 := [160, 0, 7, 3, 167, 0, 4, 4, 96, 60, 132, 2, 1, 167, 255, 223, 27, 172]
abbrev dktX4_hung_1 : List UInt8 := dkwX4_hung_1 ++ []
def dkwX4_hung_0 : List UInt8 := [3, 60, 3, 61, 28, 42, 180, 0, 21, 180, 0, 43, 162, 0, 28, 27, 42, 180, 0, 15, 28, 46, 16, 254]
abbrev dktX4_hung_0 : List UInt8 := dkwX4_hung_0 ++ dktX4_hung_1
theorem dksX4_hung_0 : cX4_hung.data.toList.drop 0 = dktX4_hung_0 := by decide +kernel
theorem dksX4_hung_1 : cX4_hung.data.toList.drop 24 = dktX4_hung_1 := dk_seg dksX4_hung_0 24 rfl rfl
theorem dX4_hung_0 : decode cX4_hung 0 = .ok (.iconst 0, 1) := dk_3 (dk_at dksX4_hung_0 0 rfl rfl)
theorem dX4_hung_1 : decode cX4_hung 1 = .ok (.istore_n 1, 1) := dk_60 (dk_at dksX4_hung_0 1 rfl rfl)
theorem dX4_hung_2 : decode cX4_hung 2 = .ok (.iconst 0, 1) := dk_3 (dk_at dksX4_hung_0 2 rfl rfl)
theorem dX4_hung_3 : decode cX4_hung 3 = .ok (.istore_n 2, 1) := dk_61 (dk_at dksX4_hung_0 3 rfl rfl)
theorem dX4_hung_4 : decode cX4_hung 4 = .ok (.iload_n 2, 1) := dk_28 (dk_at dksX4_hung_0 4 rfl rfl)
theorem dX4_hung_5 : decode cX4_hung 5 = .ok (.aload_n 0, 1) := dk_42 (dk_at dksX4_hung_0 5 rfl rfl)
theorem dX4_hung_6 : decode cX4_hung 6 = .ok (.getfield 21, 3) := dk_180 0 21 (dk_at dksX4_hung_0 6 rfl rfl)
theorem dX4_hung_9 : decode cX4_hung 9 = .ok (.getfield 43, 3) := dk_180 0 43 (dk_at dksX4_hung_0 9 rfl rfl)
theorem dX4_hung_12 : decode cX4_hung 12 = .ok (.if_icmp .ge 28, 3) := dk_162 0 28 (dk_at dksX4_hung_0 12 rfl rfl)
theorem dX4_hung_15 : decode cX4_hung 15 = .ok (.iload_n 1, 1) := dk_27 (dk_at dksX4_hung_0 15 rfl rfl)
theorem dX4_hung_16 : decode cX4_hung 16 = .ok (.aload_n 0, 1) := dk_42 (dk_at dksX4_hung_0 16 rfl rfl)
theorem dX4_hung_17 : decode cX4_hung 17 = .ok (.getfield 15, 3) := dk_180 0 15 (dk_at dksX4_hung_0 17 rfl rfl)
theorem dX4_hung_20 : decode cX4_hung 20 = .ok (.iload_n 2, 1) := dk_28 (dk_at dksX4_hung_0 20 rfl rfl)
theorem dX4_hung_21 : decode cX4_hung 21 = .ok (.iaload, 1) := dk_46 (dk_at dksX4_hung_0 21 rfl rfl)
theorem dX4_hung_22 : decode cX4_hung 22 = .ok (.bipush (-2), 2) := dk_16 254 (dk_at dksX4_hung_0 22 rfl rfl)
theorem dX4_hung_24 : decode cX4_hung 24 = .ok (.if_icmp .ne 7, 3) := dk_160 0 7 (dk_at dksX4_hung_1 0 rfl rfl)
theorem dX4_hung_27 : decode cX4_hung 27 = .ok (.iconst 0, 1) := dk_3 (dk_at dksX4_hung_1 3 rfl rfl)
theorem dX4_hung_28 : decode cX4_hung 28 = .ok (.goto 4, 3) := dk_167 0 4 (dk_at dksX4_hung_1 4 rfl rfl)
theorem dX4_hung_31 : decode cX4_hung 31 = .ok (.iconst 1, 1) := dk_4 (dk_at dksX4_hung_1 7 rfl rfl)
theorem dX4_hung_32 : decode cX4_hung 32 = .ok (.iadd, 1) := dk_96 (dk_at dksX4_hung_1 8 rfl rfl)
theorem dX4_hung_33 : decode cX4_hung 33 = .ok (.istore_n 1, 1) := dk_60 (dk_at dksX4_hung_1 9 rfl rfl)
theorem dX4_hung_34 : decode cX4_hung 34 = .ok (.iinc 2 1, 3) := dk_132 2 1 (dk_at dksX4_hung_1 10 rfl rfl)
theorem dX4_hung_37 : decode cX4_hung 37 = .ok (.goto (-33), 3) := dk_167 255 223 (dk_at dksX4_hung_1 13 rfl rfl)
theorem dX4_hung_40 : decode cX4_hung 40 = .ok (.iload_n 1, 1) := dk_27 (dk_at dksX4_hung_1 16 rfl rfl)
theorem dX4_hung_41 : decode cX4_hung 41 = .ok (.ireturn, 1) := dk_172 (dk_at dksX4_hung_1 17 rfl rfl)
theorem q124 : (Jvm.Cond.initialized "SeanceStreet$Street") ∈ lw_all := lw_g (lw_at lw_m1 7 rfl) rfl
theorem q265 : (Jvm.Cond.instantiable "SeanceStreet$Street" (5 : Nat)) ∈ lw_all := lw_g (lw_at lw_m1 148 rfl) rfl
theorem q267 : (Jvm.Cond.instanceMethod ({ cls := "SeanceStreet$Street", name := "<init>", desc := "()V" } : Jvm.MethodName)) ∈ lw_all := lw_g (lw_at lw_m1 150 rfl) rfl
theorem q268 : (Jvm.Cond.code ({ cls := "SeanceStreet$Street", name := "<init>", desc := "()V" } : Jvm.MethodName) prog_10_method_1_code (1 : Nat) (Option.none : Option Jvm.ClassFile.FieldType)) ∈ lw_all := lw_g (lw_at lw_m1 151 rfl) rfl
theorem q269 : (Jvm.Cond.methodLink "SeanceStreet$Street" (3 : Nat) ({ cls := "java/lang/Object", name := "<init>", desc := "()V" } : Jvm.MethodName)) ∈ lw_all := lw_g (lw_at lw_m1 152 rfl) rfl
theorem q270 : (Jvm.Cond.fieldLink "SeanceStreet$Street" (9 : Nat) "SeanceStreet$Street" "homes" "[I") ∈ lw_all := lw_g (lw_at lw_m1 153 rfl) rfl
theorem q273 : (Jvm.Cond.fieldLink "SeanceStreet$Street" (15 : Nat) "SeanceStreet$Street" "mirrors" "[I") ∈ lw_all := lw_g (lw_at lw_m1 156 rfl) rfl
theorem q275 : (Jvm.Cond.fieldLink "SeanceStreet$Street" (18 : Nat) "SeanceStreet$Street" "slips" "[I") ∈ lw_all := lw_g (lw_at lw_m1 158 rfl) rfl
theorem q277 : (Jvm.Cond.fieldLink "SeanceStreet$Street" (21 : Nat) "SeanceStreet$Street" "town" "LSeanceStreet$Town;") ∈ lw_all := lw_g (lw_at lw_m1 160 rfl) rfl
theorem q278 : (Jvm.Cond.fieldLink "SeanceStreet$Street" (25 : Nat) "SeanceStreet$Street" "night" "I") ∈ lw_all := lw_g (lw_at lw_m1 161 rfl) rfl
theorem q280 : (Jvm.Cond.laysFinal "SeanceStreet$Street" "SeanceStreet$Street" "homes" "[I") ∈ lw_all := lw_g (lw_at lw_m1 163 rfl) rfl
theorem q281 : (Jvm.Cond.soleField "SeanceStreet$Street" "homes") ∈ lw_all := lw_g (lw_at lw_m1 164 rfl) rfl
theorem q282 : (Jvm.Cond.laysFinal "SeanceStreet$Street" "SeanceStreet$Street" "mirrors" "[I") ∈ lw_all := lw_g (lw_at lw_m1 165 rfl) rfl
theorem q283 : (Jvm.Cond.soleField "SeanceStreet$Street" "mirrors") ∈ lw_all := lw_g (lw_at lw_m1 166 rfl) rfl
theorem q284 : (Jvm.Cond.laysFinal "SeanceStreet$Street" "SeanceStreet$Street" "slips" "[I") ∈ lw_all := lw_g (lw_at lw_m1 167 rfl) rfl
theorem q285 : (Jvm.Cond.soleField "SeanceStreet$Street" "slips") ∈ lw_all := lw_g (lw_at lw_m1 168 rfl) rfl
theorem q286 : (Jvm.Cond.lays "SeanceStreet$Street" "SeanceStreet$Street" "town" "LSeanceStreet$Town;") ∈ lw_all := lw_g (lw_at lw_m1 169 rfl) rfl
theorem q287 : (Jvm.Cond.soleField "SeanceStreet$Street" "town") ∈ lw_all := lw_g (lw_at lw_m1 170 rfl) rfl
theorem q288 : (Jvm.Cond.lays "SeanceStreet$Street" "SeanceStreet$Street" "night" "I") ∈ lw_all := lw_g (lw_at lw_m1 171 rfl) rfl
theorem q289 : (Jvm.Cond.soleField "SeanceStreet$Street" "night") ∈ lw_all := lw_g (lw_at lw_m1 172 rfl) rfl
theorem q290 : (Jvm.Cond.superclass "SeanceStreet$Street" "java/lang/Object") ∈ lw_all := lw_g (lw_at lw_m1 173 rfl) rfl
theorem q454 : (Jvm.Cond.fieldLink "SeanceStreet$Street" (34 : Nat) "SeanceStreet$Town" "people" "[LSeanceStreet$Person;") ∈ lw_all := lw_g (lw_at lw_m2 97 rfl) rfl
theorem q458 : (Jvm.Cond.fieldLink "SeanceStreet$Street" (46 : Nat) "SeanceStreet$Town" "ghosts" "[LSeanceStreet$Ghost;") ∈ lw_all := lw_g (lw_at lw_m2 101 rfl) rfl
theorem q474 : (Jvm.Cond.fieldLink "SeanceStreet$Street" (67 : Nat) "SeanceStreet$Town" "houses" "I") ∈ lw_all := lw_g (lw_at lw_m2 117 rfl) rfl
theorem q479 : (Jvm.Cond.fieldLink "SeanceStreet$Street" (29 : Nat) "SeanceStreet$Town" "peopleMany" "I") ∈ lw_all := lw_g (lw_at lw_m2 122 rfl) rfl
theorem q484 : (Jvm.Cond.fieldLink "SeanceStreet$Street" (43 : Nat) "SeanceStreet$Town" "ghostMany" "I") ∈ lw_all := lw_g (lw_at lw_m2 127 rfl) rfl
theorem q749 : (Jvm.Cond.fieldLink "SeanceStreet$Street" (38 : Nat) "SeanceStreet$Person" "home" "I") ∈ lw_all := lw_g (lw_at lw_m3 152 rfl) rfl
theorem q784 : (Jvm.Cond.fieldLink "SeanceStreet$Street" (55 : Nat) "SeanceStreet$Ghost" "slip" "I") ∈ lw_all := lw_g (lw_at lw_m3 187 rfl) rfl
theorem q787 : (Jvm.Cond.fieldLink "SeanceStreet$Street" (76 : Nat) "SeanceStreet$Ghost" "whose" "I") ∈ lw_all := lw_g (lw_at lw_m3 190 rfl) rfl
theorem q791 : (Jvm.Cond.fieldLink "SeanceStreet$Street" (50 : Nat) "SeanceStreet$Ghost" "mirror" "I") ∈ lw_all := lw_g (lw_at lw_m3 194 rfl) rfl
theorem q874 : (Jvm.Cond.instanceMethod ({ cls := "SeanceStreet$Street", name := "begin", desc := "(LSeanceStreet$Town;)LSeanceStreet$Street;" } : Jvm.MethodName)) ∈ lw_all := lw_g (lw_at lw_m4 37 rfl) rfl
theorem q875 : (Jvm.Cond.selects "SeanceStreet$Street" ({ cls := "SeanceStreet$Street", name := "begin", desc := "(LSeanceStreet$Town;)LSeanceStreet$Street;" } : Jvm.MethodName) ({ cls := "SeanceStreet$Street", name := "begin", desc := "(LSeanceStreet$Town;)LSeanceStreet$Street;" } : Jvm.MethodName)) ∈ lw_all := lw_g (lw_at lw_m4 38 rfl) rfl
theorem q876 : (Jvm.Cond.code ({ cls := "SeanceStreet$Street", name := "begin", desc := "(LSeanceStreet$Town;)LSeanceStreet$Street;" } : Jvm.MethodName) prog_10_method_2_code (3 : Nat) (Option.some (Jvm.ClassFile.FieldType.object "SeanceStreet$Street"))) ∈ lw_all := lw_g (lw_at lw_m4 39 rfl) rfl
theorem q894 : (Jvm.Cond.instanceMethod ({ cls := "SeanceStreet$Street", name := "forOne", desc := "(I)I" } : Jvm.MethodName)) ∈ lw_all := lw_g (lw_at lw_m4 57 rfl) rfl
theorem q895 : (Jvm.Cond.selects "SeanceStreet$Street" ({ cls := "SeanceStreet$Street", name := "forOne", desc := "(I)I" } : Jvm.MethodName) ({ cls := "SeanceStreet$Street", name := "forOne", desc := "(I)I" } : Jvm.MethodName)) ∈ lw_all := lw_g (lw_at lw_m4 58 rfl) rfl
theorem q896 : (Jvm.Cond.code ({ cls := "SeanceStreet$Street", name := "forOne", desc := "(I)I" } : Jvm.MethodName) prog_10_method_12_code (4 : Nat) (Option.some Jvm.ClassFile.FieldType.int)) ∈ lw_all := lw_g (lw_at lw_m4 59 rfl) rfl
theorem q898 : (Jvm.Cond.instanceMethod ({ cls := "SeanceStreet$Street", name := "heard", desc := "(II)I" } : Jvm.MethodName)) ∈ lw_all := lw_g (lw_at lw_m4 61 rfl) rfl
theorem q899 : (Jvm.Cond.selects "SeanceStreet$Street" ({ cls := "SeanceStreet$Street", name := "heard", desc := "(II)I" } : Jvm.MethodName) ({ cls := "SeanceStreet$Street", name := "heard", desc := "(II)I" } : Jvm.MethodName)) ∈ lw_all := lw_g (lw_at lw_m4 62 rfl) rfl
theorem q900 : (Jvm.Cond.code ({ cls := "SeanceStreet$Street", name := "heard", desc := "(II)I" } : Jvm.MethodName) prog_10_method_11_code (5 : Nat) (Option.some Jvm.ClassFile.FieldType.int)) ∈ lw_all := lw_g (lw_at lw_m4 63 rfl) rfl
theorem q901 : (Jvm.Cond.methodLink "SeanceStreet$Street" (93 : Nat) ({ cls := "SeanceStreet$Street", name := "ear", desc := "(III)I" } : Jvm.MethodName)) ∈ lw_all := lw_g (lw_at lw_m4 64 rfl) rfl
theorem q902 : (Jvm.Cond.instanceMethod ({ cls := "SeanceStreet$Street", name := "ear", desc := "(III)I" } : Jvm.MethodName)) ∈ lw_all := lw_g (lw_at lw_m4 65 rfl) rfl
theorem q903 : (Jvm.Cond.selects "SeanceStreet$Street" ({ cls := "SeanceStreet$Street", name := "ear", desc := "(III)I" } : Jvm.MethodName) ({ cls := "SeanceStreet$Street", name := "ear", desc := "(III)I" } : Jvm.MethodName)) ∈ lw_all := lw_g (lw_at lw_m4 66 rfl) rfl
theorem q904 : (Jvm.Cond.code ({ cls := "SeanceStreet$Street", name := "ear", desc := "(III)I" } : Jvm.MethodName) prog_10_method_8_code (4 : Nat) (Option.some Jvm.ClassFile.FieldType.int)) ∈ lw_all := lw_g (lw_at lw_m4 67 rfl) rfl
theorem q905 : (Jvm.Cond.methodLink "SeanceStreet$Street" (83 : Nat) ({ cls := "SeanceStreet$Street", name := "aimed", desc := "(I)I" } : Jvm.MethodName)) ∈ lw_all := lw_g (lw_at lw_m4 68 rfl) rfl
theorem q906 : (Jvm.Cond.instanceMethod ({ cls := "SeanceStreet$Street", name := "aimed", desc := "(I)I" } : Jvm.MethodName)) ∈ lw_all := lw_g (lw_at lw_m4 69 rfl) rfl
theorem q907 : (Jvm.Cond.selects "SeanceStreet$Street" ({ cls := "SeanceStreet$Street", name := "aimed", desc := "(I)I" } : Jvm.MethodName) ({ cls := "SeanceStreet$Street", name := "aimed", desc := "(I)I" } : Jvm.MethodName)) ∈ lw_all := lw_g (lw_at lw_m4 70 rfl) rfl
theorem q908 : (Jvm.Cond.code ({ cls := "SeanceStreet$Street", name := "aimed", desc := "(I)I" } : Jvm.MethodName) prog_10_method_5_code (2 : Nat) (Option.some Jvm.ClassFile.FieldType.int)) ∈ lw_all := lw_g (lw_at lw_m4 71 rfl) rfl
theorem q909 : (Jvm.Cond.methodLink "SeanceStreet$Street" (86 : Nat) ({ cls := "SeanceStreet$Street", name := "out", desc := "(III)I" } : Jvm.MethodName)) ∈ lw_all := lw_g (lw_at lw_m4 72 rfl) rfl
theorem q910 : (Jvm.Cond.instanceMethod ({ cls := "SeanceStreet$Street", name := "out", desc := "(III)I" } : Jvm.MethodName)) ∈ lw_all := lw_g (lw_at lw_m4 73 rfl) rfl
theorem q911 : (Jvm.Cond.selects "SeanceStreet$Street" ({ cls := "SeanceStreet$Street", name := "out", desc := "(III)I" } : Jvm.MethodName) ({ cls := "SeanceStreet$Street", name := "out", desc := "(III)I" } : Jvm.MethodName)) ∈ lw_all := lw_g (lw_at lw_m4 74 rfl) rfl
theorem q912 : (Jvm.Cond.code ({ cls := "SeanceStreet$Street", name := "out", desc := "(III)I" } : Jvm.MethodName) prog_10_method_4_code (5 : Nat) (Option.some Jvm.ClassFile.FieldType.int)) ∈ lw_all := lw_g (lw_at lw_m4 75 rfl) rfl
theorem q913 : (Jvm.Cond.methodLink "SeanceStreet$Street" (64 : Nat) ({ cls := "SeanceStreet$Ghost", name := "slips", desc := "(II)I" } : Jvm.MethodName)) ∈ lw_all := lw_g (lw_at lw_m4 76 rfl) rfl
theorem q929 : (Jvm.Cond.methodLinkNest "SeanceStreet$Street" (70 : Nat) ({ cls := "SeanceStreet", name := "wrap", desc := "(JI)I" } : Jvm.MethodName) "SeanceStreet") ∈ lw_tbl := lw_at lw_m4 92 rfl
theorem q932 : (Jvm.Cond.constantLong "SeanceStreet$Street" (74 : Nat) (2 : Int64)) ∈ lw_all := lw_g (lw_at lw_m4 95 rfl) rfl
theorem q933 : (Jvm.Cond.methodLink "SeanceStreet$Street" (90 : Nat) ({ cls := "SeanceStreet$Street", name := "from", desc := "(I)I" } : Jvm.MethodName)) ∈ lw_all := lw_g (lw_at lw_m4 96 rfl) rfl
theorem q934 : (Jvm.Cond.instanceMethod ({ cls := "SeanceStreet$Street", name := "from", desc := "(I)I" } : Jvm.MethodName)) ∈ lw_all := lw_g (lw_at lw_m4 97 rfl) rfl
theorem q935 : (Jvm.Cond.selects "SeanceStreet$Street" ({ cls := "SeanceStreet$Street", name := "from", desc := "(I)I" } : Jvm.MethodName) ({ cls := "SeanceStreet$Street", name := "from", desc := "(I)I" } : Jvm.MethodName)) ∈ lw_all := lw_g (lw_at lw_m4 98 rfl) rfl
theorem q936 : (Jvm.Cond.code ({ cls := "SeanceStreet$Street", name := "from", desc := "(I)I" } : Jvm.MethodName) prog_10_method_7_code (3 : Nat) (Option.some Jvm.ClassFile.FieldType.int)) ∈ lw_all := lw_g (lw_at lw_m4 99 rfl) rfl
theorem q937 : (Jvm.Cond.methodLink "SeanceStreet$Street" (79 : Nat) ({ cls := "SeanceStreet$Street", name := "who", desc := "(I)I" } : Jvm.MethodName)) ∈ lw_all := lw_g (lw_at lw_m4 100 rfl) rfl
theorem q938 : (Jvm.Cond.instanceMethod ({ cls := "SeanceStreet$Street", name := "who", desc := "(I)I" } : Jvm.MethodName)) ∈ lw_all := lw_g (lw_at lw_m4 101 rfl) rfl
theorem q939 : (Jvm.Cond.selects "SeanceStreet$Street" ({ cls := "SeanceStreet$Street", name := "who", desc := "(I)I" } : Jvm.MethodName) ({ cls := "SeanceStreet$Street", name := "who", desc := "(I)I" } : Jvm.MethodName)) ∈ lw_all := lw_g (lw_at lw_m4 102 rfl) rfl
theorem q940 : (Jvm.Cond.code ({ cls := "SeanceStreet$Street", name := "who", desc := "(I)I" } : Jvm.MethodName) prog_10_method_6_code (3 : Nat) (Option.some Jvm.ClassFile.FieldType.int)) ∈ lw_all := lw_g (lw_at lw_m4 103 rfl) rfl
theorem q1008 : (Jvm.Cond.instanceMethod ({ cls := "SeanceStreet$Street", name := "rightOnes", desc := "(I)I" } : Jvm.MethodName)) ∈ lw_all := lw_g (lw_at lw_m4 171 rfl) rfl
theorem q1009 : (Jvm.Cond.selects "SeanceStreet$Street" ({ cls := "SeanceStreet$Street", name := "rightOnes", desc := "(I)I" } : Jvm.MethodName) ({ cls := "SeanceStreet$Street", name := "rightOnes", desc := "(I)I" } : Jvm.MethodName)) ∈ lw_all := lw_g (lw_at lw_m4 172 rfl) rfl
theorem q1010 : (Jvm.Cond.code ({ cls := "SeanceStreet$Street", name := "rightOnes", desc := "(I)I" } : Jvm.MethodName) prog_10_method_10_code (4 : Nat) (Option.some Jvm.ClassFile.FieldType.int)) ∈ lw_all := lw_g (lw_at lw_m4 173 rfl) rfl
theorem q1011 : (Jvm.Cond.methodLink "SeanceStreet$Street" (96 : Nat) ({ cls := "SeanceStreet$Street", name := "isRight", desc := "(III)Z" } : Jvm.MethodName)) ∈ lw_all := lw_g (lw_at lw_m4 174 rfl) rfl
theorem q1012 : (Jvm.Cond.instanceMethod ({ cls := "SeanceStreet$Street", name := "isRight", desc := "(III)Z" } : Jvm.MethodName)) ∈ lw_all := lw_g (lw_at lw_m4 175 rfl) rfl
theorem q1013 : (Jvm.Cond.selects "SeanceStreet$Street" ({ cls := "SeanceStreet$Street", name := "isRight", desc := "(III)Z" } : Jvm.MethodName) ({ cls := "SeanceStreet$Street", name := "isRight", desc := "(III)Z" } : Jvm.MethodName)) ∈ lw_all := lw_g (lw_at lw_m4 176 rfl) rfl
theorem q1014 : (Jvm.Cond.code ({ cls := "SeanceStreet$Street", name := "isRight", desc := "(III)Z" } : Jvm.MethodName) prog_10_method_9_code (4 : Nat) (Option.some Jvm.ClassFile.FieldType.boolean)) ∈ lw_all := lw_g (lw_at lw_m4 177 rfl) rfl
theorem q1089 : (Jvm.Cond.instanceMethod ({ cls := "SeanceStreet$Street", name := "become", desc := "(LSeanceStreet$Street;)LSeanceStreet$Street;" } : Jvm.MethodName)) ∈ lw_all := lw_g (lw_at lw_m5 12 rfl) rfl
theorem q1090 : (Jvm.Cond.selects "SeanceStreet$Street" ({ cls := "SeanceStreet$Street", name := "become", desc := "(LSeanceStreet$Street;)LSeanceStreet$Street;" } : Jvm.MethodName) ({ cls := "SeanceStreet$Street", name := "become", desc := "(LSeanceStreet$Street;)LSeanceStreet$Street;" } : Jvm.MethodName)) ∈ lw_all := lw_g (lw_at lw_m5 13 rfl) rfl
theorem q1091 : (Jvm.Cond.code ({ cls := "SeanceStreet$Street", name := "become", desc := "(LSeanceStreet$Street;)LSeanceStreet$Street;" } : Jvm.MethodName) prog_10_method_3_code (2 : Nat) (Option.some (Jvm.ClassFile.FieldType.object "SeanceStreet$Street"))) ∈ lw_all := lw_g (lw_at lw_m5 14 rfl) rfl
theorem q1092 : (Jvm.Cond.methodLink "SeanceStreet$Street" (58 : Nat) ({ cls := "java/lang/System", name := "arraycopy", desc := "(Ljava/lang/Object;ILjava/lang/Object;II)V" } : Jvm.MethodName)) ∈ lw_all := lw_g (lw_at lw_m5 15 rfl) rfl
theorem q1132 : (Jvm.Cond.instanceMethod ({ cls := "SeanceStreet$Street", name := "exchange", desc := "(II)LSeanceStreet$Street;" } : Jvm.MethodName)) ∈ lw_all := lw_g (lw_at lw_m5 55 rfl) rfl
theorem q1133 : (Jvm.Cond.selects "SeanceStreet$Street" ({ cls := "SeanceStreet$Street", name := "exchange", desc := "(II)LSeanceStreet$Street;" } : Jvm.MethodName) ({ cls := "SeanceStreet$Street", name := "exchange", desc := "(II)LSeanceStreet$Street;" } : Jvm.MethodName)) ∈ lw_all := lw_g (lw_at lw_m5 56 rfl) rfl
theorem q1134 : (Jvm.Cond.code ({ cls := "SeanceStreet$Street", name := "exchange", desc := "(II)LSeanceStreet$Street;" } : Jvm.MethodName) prog_10_method_13_code (4 : Nat) (Option.some (Jvm.ClassFile.FieldType.object "SeanceStreet$Street"))) ∈ lw_all := lw_g (lw_at lw_m5 57 rfl) rfl
theorem q1354 : (Jvm.Cond.instanceMethod ({ cls := "SeanceStreet$Street", name := "hung", desc := "()I" } : Jvm.MethodName)) ∈ lw_all := lw_g (lw_at lw_m6 37 rfl) rfl
theorem q1355 : (Jvm.Cond.selects "SeanceStreet$Street" ({ cls := "SeanceStreet$Street", name := "hung", desc := "()I" } : Jvm.MethodName) ({ cls := "SeanceStreet$Street", name := "hung", desc := "()I" } : Jvm.MethodName)) ∈ lw_all := lw_g (lw_at lw_m6 38 rfl) rfl
theorem q1356 : (Jvm.Cond.code ({ cls := "SeanceStreet$Street", name := "hung", desc := "()I" } : Jvm.MethodName) prog_10_method_14_code (3 : Nat) (Option.some Jvm.ClassFile.FieldType.int)) ∈ lw_all := lw_g (lw_at lw_m6 39 rfl) rfl
theorem q2207 : (Jvm.Cond.castable "SeanceStreet$Street" "java/lang/Object") ∈ lw_tbl := lw_at lw_m9 170 rfl
theorem in_X4 : ∀ w ∈ wsX40, w ∈ lw_all := lw_in wsX40 [280, 282, 284, 286, 288] (by decide +kernel) (by decide +kernel)
/-! SeanceStreet$Walk -/
set_option maxRecDepth 100000
def RX5 : String := "SeanceStreet$Walk"
def TX5 : u_T := fun k => match k with
  | 0 => ("SeanceStreet$Walk", "far", "[I", true)
  | 1 => ("SeanceStreet$Walk", "queue", "[I", true)
  | 2 => ("SeanceStreet$Walk", "units", "[I", true)
  | 3 => ("SeanceStreet$Walk", "froms", "[I", true)
  | 4 => ("SeanceStreet$Walk", "tos", "[I", true)
  | 5 => ("SeanceStreet$Walk", "many", "I", false)
  | 6 => ("SeanceStreet$Walk", "wrong", "I", false)
  | _ => ("SeanceStreet$Walk", "all", "I", false)
def tyX5 : Nat → FieldType := fun k => match k with
  | 0 => .array .int
  | 1 => .array .int
  | 2 => .array .int
  | 3 => .array .int
  | 4 => .array .int
  | 5 => .int
  | 6 => .int
  | _ => .int
abbrev wsX50 : List Cond := u_ws RX5 TX5 8
theorem nmX5 : ∀ a, a < 8 → ∀ b, b < 8 → a ≠ b → (TX5 a).2.1 ≠ (TX5 b).2.1 := by decide +kernel
theorem tyX5_ok : ∀ k, k < 8 → parseFieldDescriptor (TX5 k).2.2.1 = some (tyX5 k) := by decide +kernel
abbrev cX5_init : ByteArray := prog_13_method_1_code
def yX5_init : MethodName := ⟨RX5, "<init>", "()V"⟩
def dkwX5_init_1 : List UInt8 := [16, 6, 188, 10, 181, 0, 18, 42, 16, 6, 188, 10, 181, 0, 21, 42, 16, 6, 188, 10, 181, 0, 24, 177]
abbrev dktX5_init_1 : List UInt8 := dkwX5_init_1 ++ []
def dkwX5_init_0 : List UInt8 := [42, 183, 0, 3, 42, 17, 113, 232, 188, 10, 181, 0, 9, 42, 17, 113, 232, 188, 10, 181, 0, 15, 42]
abbrev dktX5_init_0 : List UInt8 := dkwX5_init_0 ++ dktX5_init_1
theorem dksX5_init_0 : cX5_init.data.toList.drop 0 = dktX5_init_0 := by decide +kernel
theorem dksX5_init_1 : cX5_init.data.toList.drop 23 = dktX5_init_1 := dk_seg dksX5_init_0 23 rfl rfl
theorem dX5_init_0 : decode cX5_init 0 = .ok (.aload_n 0, 1) := dk_42 (dk_at dksX5_init_0 0 rfl rfl)
theorem dX5_init_1 : decode cX5_init 1 = .ok (.invokespecial 3, 3) := dk_183 0 3 (dk_at dksX5_init_0 1 rfl rfl)
theorem dX5_init_4 : decode cX5_init 4 = .ok (.aload_n 0, 1) := dk_42 (dk_at dksX5_init_0 4 rfl rfl)
theorem dX5_init_5 : decode cX5_init 5 = .ok (.sipush 29160, 3) := dk_17 113 232 (dk_at dksX5_init_0 5 rfl rfl)
theorem dX5_init_8 : decode cX5_init 8 = .ok (.newarray .int, 2) := dk_188_10 (dk_at dksX5_init_0 8 rfl rfl)
theorem dX5_init_10 : decode cX5_init 10 = .ok (.putfield 9, 3) := dk_181 0 9 (dk_at dksX5_init_0 10 rfl rfl)
theorem dX5_init_13 : decode cX5_init 13 = .ok (.aload_n 0, 1) := dk_42 (dk_at dksX5_init_0 13 rfl rfl)
theorem dX5_init_14 : decode cX5_init 14 = .ok (.sipush 29160, 3) := dk_17 113 232 (dk_at dksX5_init_0 14 rfl rfl)
theorem dX5_init_17 : decode cX5_init 17 = .ok (.newarray .int, 2) := dk_188_10 (dk_at dksX5_init_0 17 rfl rfl)
theorem dX5_init_19 : decode cX5_init 19 = .ok (.putfield 15, 3) := dk_181 0 15 (dk_at dksX5_init_0 19 rfl rfl)
theorem dX5_init_22 : decode cX5_init 22 = .ok (.aload_n 0, 1) := dk_42 (dk_at dksX5_init_0 22 rfl rfl)
theorem dX5_init_23 : decode cX5_init 23 = .ok (.bipush 6, 2) := dk_16 6 (dk_at dksX5_init_1 0 rfl rfl)
theorem dX5_init_25 : decode cX5_init 25 = .ok (.newarray .int, 2) := dk_188_10 (dk_at dksX5_init_1 2 rfl rfl)
theorem dX5_init_27 : decode cX5_init 27 = .ok (.putfield 18, 3) := dk_181 0 18 (dk_at dksX5_init_1 4 rfl rfl)
theorem dX5_init_30 : decode cX5_init 30 = .ok (.aload_n 0, 1) := dk_42 (dk_at dksX5_init_1 7 rfl rfl)
theorem dX5_init_31 : decode cX5_init 31 = .ok (.bipush 6, 2) := dk_16 6 (dk_at dksX5_init_1 8 rfl rfl)
theorem dX5_init_33 : decode cX5_init 33 = .ok (.newarray .int, 2) := dk_188_10 (dk_at dksX5_init_1 10 rfl rfl)
theorem dX5_init_35 : decode cX5_init 35 = .ok (.putfield 21, 3) := dk_181 0 21 (dk_at dksX5_init_1 12 rfl rfl)
theorem dX5_init_38 : decode cX5_init 38 = .ok (.aload_n 0, 1) := dk_42 (dk_at dksX5_init_1 15 rfl rfl)
theorem dX5_init_39 : decode cX5_init 39 = .ok (.bipush 6, 2) := dk_16 6 (dk_at dksX5_init_1 16 rfl rfl)
theorem dX5_init_41 : decode cX5_init 41 = .ok (.newarray .int, 2) := dk_188_10 (dk_at dksX5_init_1 18 rfl rfl)
theorem dX5_init_43 : decode cX5_init 43 = .ok (.putfield 24, 3) := dk_181 0 24 (dk_at dksX5_init_1 20 rfl rfl)
theorem dX5_init_46 : decode cX5_init 46 = .ok (.return_, 1) := dk_177 (dk_at dksX5_init_1 23 rfl rfl)
abbrev cX5_lay : ByteArray := prog_13_method_2_code
def yX5_lay : MethodName := ⟨RX5, "lay", "(LSeanceStreet$Town;LSeanceStreet$Street;I)LSeanceStreet$Walk;"⟩
def dkwX5_lay_5 : List UInt8 := [89, 180, 0, 27, 4, 96, 181, 0, 27, 132, 5, 1, 167, 255, 145, 42, 176]
abbrev dktX5_lay_5 : List UInt8 := dkwX5_lay_5 ++ []
def dkwX5_lay_4 : List UInt8 := [182, 0, 57, 79, 42, 89, 180, 0, 31, 5, 21, 4, 104, 96, 181, 0, 31, 21, 4, 6, 104, 54, 4, 42]
abbrev dktX5_lay_4 : List UInt8 := dkwX5_lay_4 ++ dktX5_lay_5
def dkwX5_lay_3 : List UInt8 := [42, 180, 0, 27, 44, 180, 0, 54, 21, 6, 46, 79, 42, 180, 0, 24, 42, 180, 0, 27, 44, 21, 5]
abbrev dktX5_lay_3 : List UInt8 := dkwX5_lay_3 ++ dktX5_lay_4
def dkwX5_lay_2 : List UInt8 := [180, 0, 49, 160, 0, 6, 167, 0, 74, 42, 180, 0, 18, 42, 180, 0, 27, 21, 4, 79, 42, 180, 0, 21]
abbrev dktX5_lay_2 : List UInt8 := dkwX5_lay_2 ++ dktX5_lay_3
def dkwX5_lay_1 : List UInt8 := [162, 0, 108, 44, 21, 5, 29, 3, 182, 0, 39, 54, 6, 21, 6, 43, 180, 0, 45, 21, 5, 50]
abbrev dktX5_lay_1 : List UInt8 := dkwX5_lay_1 ++ dktX5_lay_2
def dkwX5_lay_0 : List UInt8 := [42, 3, 181, 0, 27, 42, 3, 181, 0, 31, 4, 54, 4, 3, 54, 5, 21, 5, 43, 180, 0, 34]
abbrev dktX5_lay_0 : List UInt8 := dkwX5_lay_0 ++ dktX5_lay_1
theorem dksX5_lay_0 : cX5_lay.data.toList.drop 0 = dktX5_lay_0 := by decide +kernel
theorem dksX5_lay_1 : cX5_lay.data.toList.drop 22 = dktX5_lay_1 := dk_seg dksX5_lay_0 22 rfl rfl
theorem dksX5_lay_2 : cX5_lay.data.toList.drop 44 = dktX5_lay_2 := dk_seg dksX5_lay_1 22 rfl rfl
theorem dksX5_lay_3 : cX5_lay.data.toList.drop 68 = dktX5_lay_3 := dk_seg dksX5_lay_2 24 rfl rfl
theorem dksX5_lay_4 : cX5_lay.data.toList.drop 91 = dktX5_lay_4 := dk_seg dksX5_lay_3 23 rfl rfl
theorem dksX5_lay_5 : cX5_lay.data.toList.drop 115 = dktX5_lay_5 := dk_seg dksX5_lay_4 24 rfl rfl
theorem dX5_lay_0 : decode cX5_lay 0 = .ok (.aload_n 0, 1) := dk_42 (dk_at dksX5_lay_0 0 rfl rfl)
theorem dX5_lay_1 : decode cX5_lay 1 = .ok (.iconst 0, 1) := dk_3 (dk_at dksX5_lay_0 1 rfl rfl)
theorem dX5_lay_2 : decode cX5_lay 2 = .ok (.putfield 27, 3) := dk_181 0 27 (dk_at dksX5_lay_0 2 rfl rfl)
theorem dX5_lay_5 : decode cX5_lay 5 = .ok (.aload_n 0, 1) := dk_42 (dk_at dksX5_lay_0 5 rfl rfl)
theorem dX5_lay_6 : decode cX5_lay 6 = .ok (.iconst 0, 1) := dk_3 (dk_at dksX5_lay_0 6 rfl rfl)
theorem dX5_lay_7 : decode cX5_lay 7 = .ok (.putfield 31, 3) := dk_181 0 31 (dk_at dksX5_lay_0 7 rfl rfl)
theorem dX5_lay_10 : decode cX5_lay 10 = .ok (.iconst 1, 1) := dk_4 (dk_at dksX5_lay_0 10 rfl rfl)
theorem dX5_lay_11 : decode cX5_lay 11 = .ok (.istore 4, 2) := dk_54 4 (dk_at dksX5_lay_0 11 rfl rfl)
theorem dX5_lay_13 : decode cX5_lay 13 = .ok (.iconst 0, 1) := dk_3 (dk_at dksX5_lay_0 13 rfl rfl)
theorem dX5_lay_14 : decode cX5_lay 14 = .ok (.istore 5, 2) := dk_54 5 (dk_at dksX5_lay_0 14 rfl rfl)
theorem dX5_lay_16 : decode cX5_lay 16 = .ok (.iload 5, 2) := dk_21 5 (dk_at dksX5_lay_0 16 rfl rfl)
theorem dX5_lay_18 : decode cX5_lay 18 = .ok (.aload_n 1, 1) := dk_43 (dk_at dksX5_lay_0 18 rfl rfl)
theorem dX5_lay_19 : decode cX5_lay 19 = .ok (.getfield 34, 3) := dk_180 0 34 (dk_at dksX5_lay_0 19 rfl rfl)
theorem dX5_lay_22 : decode cX5_lay 22 = .ok (.if_icmp .ge 108, 3) := dk_162 0 108 (dk_at dksX5_lay_1 0 rfl rfl)
theorem dX5_lay_25 : decode cX5_lay 25 = .ok (.aload_n 2, 1) := dk_44 (dk_at dksX5_lay_1 3 rfl rfl)
theorem dX5_lay_26 : decode cX5_lay 26 = .ok (.iload 5, 2) := dk_21 5 (dk_at dksX5_lay_1 4 rfl rfl)
theorem dX5_lay_28 : decode cX5_lay 28 = .ok (.iload_n 3, 1) := dk_29 (dk_at dksX5_lay_1 6 rfl rfl)
theorem dX5_lay_29 : decode cX5_lay 29 = .ok (.iconst 0, 1) := dk_3 (dk_at dksX5_lay_1 7 rfl rfl)
theorem dX5_lay_30 : decode cX5_lay 30 = .ok (.invokevirtual 39, 3) := dk_182 0 39 (dk_at dksX5_lay_1 8 rfl rfl)
theorem dX5_lay_33 : decode cX5_lay 33 = .ok (.istore 6, 2) := dk_54 6 (dk_at dksX5_lay_1 11 rfl rfl)
theorem dX5_lay_35 : decode cX5_lay 35 = .ok (.iload 6, 2) := dk_21 6 (dk_at dksX5_lay_1 13 rfl rfl)
theorem dX5_lay_37 : decode cX5_lay 37 = .ok (.aload_n 1, 1) := dk_43 (dk_at dksX5_lay_1 15 rfl rfl)
theorem dX5_lay_38 : decode cX5_lay 38 = .ok (.getfield 45, 3) := dk_180 0 45 (dk_at dksX5_lay_1 16 rfl rfl)
theorem dX5_lay_41 : decode cX5_lay 41 = .ok (.iload 5, 2) := dk_21 5 (dk_at dksX5_lay_1 19 rfl rfl)
theorem dX5_lay_43 : decode cX5_lay 43 = .ok (.aaload, 1) := dk_50 (dk_at dksX5_lay_1 21 rfl rfl)
theorem dX5_lay_44 : decode cX5_lay 44 = .ok (.getfield 49, 3) := dk_180 0 49 (dk_at dksX5_lay_2 0 rfl rfl)
theorem dX5_lay_47 : decode cX5_lay 47 = .ok (.if_icmp .ne 6, 3) := dk_160 0 6 (dk_at dksX5_lay_2 3 rfl rfl)
theorem dX5_lay_50 : decode cX5_lay 50 = .ok (.goto 74, 3) := dk_167 0 74 (dk_at dksX5_lay_2 6 rfl rfl)
theorem dX5_lay_53 : decode cX5_lay 53 = .ok (.aload_n 0, 1) := dk_42 (dk_at dksX5_lay_2 9 rfl rfl)
theorem dX5_lay_54 : decode cX5_lay 54 = .ok (.getfield 18, 3) := dk_180 0 18 (dk_at dksX5_lay_2 10 rfl rfl)
theorem dX5_lay_57 : decode cX5_lay 57 = .ok (.aload_n 0, 1) := dk_42 (dk_at dksX5_lay_2 13 rfl rfl)
theorem dX5_lay_58 : decode cX5_lay 58 = .ok (.getfield 27, 3) := dk_180 0 27 (dk_at dksX5_lay_2 14 rfl rfl)
theorem dX5_lay_61 : decode cX5_lay 61 = .ok (.iload 4, 2) := dk_21 4 (dk_at dksX5_lay_2 17 rfl rfl)
theorem dX5_lay_63 : decode cX5_lay 63 = .ok (.iastore, 1) := dk_79 (dk_at dksX5_lay_2 19 rfl rfl)
theorem dX5_lay_64 : decode cX5_lay 64 = .ok (.aload_n 0, 1) := dk_42 (dk_at dksX5_lay_2 20 rfl rfl)
theorem dX5_lay_65 : decode cX5_lay 65 = .ok (.getfield 21, 3) := dk_180 0 21 (dk_at dksX5_lay_2 21 rfl rfl)
theorem dX5_lay_68 : decode cX5_lay 68 = .ok (.aload_n 0, 1) := dk_42 (dk_at dksX5_lay_3 0 rfl rfl)
theorem dX5_lay_69 : decode cX5_lay 69 = .ok (.getfield 27, 3) := dk_180 0 27 (dk_at dksX5_lay_3 1 rfl rfl)
theorem dX5_lay_72 : decode cX5_lay 72 = .ok (.aload_n 2, 1) := dk_44 (dk_at dksX5_lay_3 4 rfl rfl)
theorem dX5_lay_73 : decode cX5_lay 73 = .ok (.getfield 54, 3) := dk_180 0 54 (dk_at dksX5_lay_3 5 rfl rfl)
theorem dX5_lay_76 : decode cX5_lay 76 = .ok (.iload 6, 2) := dk_21 6 (dk_at dksX5_lay_3 8 rfl rfl)
theorem dX5_lay_78 : decode cX5_lay 78 = .ok (.iaload, 1) := dk_46 (dk_at dksX5_lay_3 10 rfl rfl)
theorem dX5_lay_79 : decode cX5_lay 79 = .ok (.iastore, 1) := dk_79 (dk_at dksX5_lay_3 11 rfl rfl)
theorem dX5_lay_80 : decode cX5_lay 80 = .ok (.aload_n 0, 1) := dk_42 (dk_at dksX5_lay_3 12 rfl rfl)
theorem dX5_lay_81 : decode cX5_lay 81 = .ok (.getfield 24, 3) := dk_180 0 24 (dk_at dksX5_lay_3 13 rfl rfl)
theorem dX5_lay_84 : decode cX5_lay 84 = .ok (.aload_n 0, 1) := dk_42 (dk_at dksX5_lay_3 16 rfl rfl)
theorem dX5_lay_85 : decode cX5_lay 85 = .ok (.getfield 27, 3) := dk_180 0 27 (dk_at dksX5_lay_3 17 rfl rfl)
theorem dX5_lay_88 : decode cX5_lay 88 = .ok (.aload_n 2, 1) := dk_44 (dk_at dksX5_lay_3 20 rfl rfl)
theorem dX5_lay_89 : decode cX5_lay 89 = .ok (.iload 5, 2) := dk_21 5 (dk_at dksX5_lay_3 21 rfl rfl)
theorem dX5_lay_91 : decode cX5_lay 91 = .ok (.invokevirtual 57, 3) := dk_182 0 57 (dk_at dksX5_lay_4 0 rfl rfl)
theorem dX5_lay_94 : decode cX5_lay 94 = .ok (.iastore, 1) := dk_79 (dk_at dksX5_lay_4 3 rfl rfl)
theorem dX5_lay_95 : decode cX5_lay 95 = .ok (.aload_n 0, 1) := dk_42 (dk_at dksX5_lay_4 4 rfl rfl)
theorem dX5_lay_96 : decode cX5_lay 96 = .ok (.dup, 1) := dk_89 (dk_at dksX5_lay_4 5 rfl rfl)
theorem dX5_lay_97 : decode cX5_lay 97 = .ok (.getfield 31, 3) := dk_180 0 31 (dk_at dksX5_lay_4 6 rfl rfl)
theorem dX5_lay_100 : decode cX5_lay 100 = .ok (.iconst 2, 1) := dk_5 (dk_at dksX5_lay_4 9 rfl rfl)
theorem dX5_lay_101 : decode cX5_lay 101 = .ok (.iload 4, 2) := dk_21 4 (dk_at dksX5_lay_4 10 rfl rfl)
theorem dX5_lay_103 : decode cX5_lay 103 = .ok (.imul, 1) := dk_104 (dk_at dksX5_lay_4 12 rfl rfl)
theorem dX5_lay_104 : decode cX5_lay 104 = .ok (.iadd, 1) := dk_96 (dk_at dksX5_lay_4 13 rfl rfl)
theorem dX5_lay_105 : decode cX5_lay 105 = .ok (.putfield 31, 3) := dk_181 0 31 (dk_at dksX5_lay_4 14 rfl rfl)
theorem dX5_lay_108 : decode cX5_lay 108 = .ok (.iload 4, 2) := dk_21 4 (dk_at dksX5_lay_4 17 rfl rfl)
theorem dX5_lay_110 : decode cX5_lay 110 = .ok (.iconst 3, 1) := dk_6 (dk_at dksX5_lay_4 19 rfl rfl)
theorem dX5_lay_111 : decode cX5_lay 111 = .ok (.imul, 1) := dk_104 (dk_at dksX5_lay_4 20 rfl rfl)
theorem dX5_lay_112 : decode cX5_lay 112 = .ok (.istore 4, 2) := dk_54 4 (dk_at dksX5_lay_4 21 rfl rfl)
theorem dX5_lay_114 : decode cX5_lay 114 = .ok (.aload_n 0, 1) := dk_42 (dk_at dksX5_lay_4 23 rfl rfl)
theorem dX5_lay_115 : decode cX5_lay 115 = .ok (.dup, 1) := dk_89 (dk_at dksX5_lay_5 0 rfl rfl)
theorem dX5_lay_116 : decode cX5_lay 116 = .ok (.getfield 27, 3) := dk_180 0 27 (dk_at dksX5_lay_5 1 rfl rfl)
theorem dX5_lay_119 : decode cX5_lay 119 = .ok (.iconst 1, 1) := dk_4 (dk_at dksX5_lay_5 4 rfl rfl)
theorem dX5_lay_120 : decode cX5_lay 120 = .ok (.iadd, 1) := dk_96 (dk_at dksX5_lay_5 5 rfl rfl)
theorem dX5_lay_121 : decode cX5_lay 121 = .ok (.putfield 27, 3) := dk_181 0 27 (dk_at dksX5_lay_5 6 rfl rfl)
theorem dX5_lay_124 : decode cX5_lay 124 = .ok (.iinc 5 1, 3) := dk_132 5 1 (dk_at dksX5_lay_5 9 rfl rfl)
theorem dX5_lay_127 : decode cX5_lay 127 = .ok (.goto (-111), 3) := dk_167 255 145 (dk_at dksX5_lay_5 12 rfl rfl)
theorem dX5_lay_130 : decode cX5_lay 130 = .ok (.aload_n 0, 1) := dk_42 (dk_at dksX5_lay_5 15 rfl rfl)
theorem dX5_lay_131 : decode cX5_lay 131 = .ok (.areturn, 1) := dk_176 (dk_at dksX5_lay_5 16 rfl rfl)
abbrev cX5_least : ByteArray := prog_13_method_5_code
def yX5_least : MethodName := ⟨RX5, "least", "(II)I"⟩
def dkwX5_least_6 : List UInt8 := [28, 5, 100, 184, 0, 73, 96, 54, 6, 167, 255, 202, 132, 3, 1, 167, 255, 140, 18, 64, 172]
abbrev dktX5_least_6 : List UInt8 := dkwX5_least_6 ++ []
def dkwX5_least_5 : List UInt8 := [21, 7, 182, 0, 65, 42, 180, 0, 9, 42, 180, 0, 15, 29, 46, 46, 4, 96, 182, 0, 69, 21, 6, 4]
abbrev dktX5_least_5 : List UInt8 := dkwX5_least_5 ++ dktX5_least_6
def dkwX5_least_4 : List UInt8 := [4, 54, 6, 21, 6, 28, 162, 0, 54, 21, 4, 21, 6, 96, 28, 112, 54, 7, 42, 21, 7, 42, 21, 5]
abbrev dktX5_least_4 : List UInt8 := dkwX5_least_4 ++ dktX5_least_5
def dkwX5_least_3 : List UInt8 := [112, 54, 5, 21, 5, 42, 180, 0, 31, 160, 0, 15, 42, 180, 0, 9, 42, 180, 0, 15, 29, 46, 46, 172]
abbrev dktX5_least_3 : List UInt8 := dkwX5_least_3 ++ dktX5_least_4
def dkwX5_least_2 : List UInt8 := [162, 0, 114, 42, 180, 0, 15, 29, 46, 17, 2, 217, 108, 54, 4, 42, 180, 0, 15, 29, 46, 17, 2, 217]
abbrev dktX5_least_2 : List UInt8 := dkwX5_least_2 ++ dktX5_least_3
def dkwX5_least_1 : List UInt8 := [3, 181, 0, 61, 42, 27, 42, 3, 27, 182, 0, 65, 3, 182, 0, 69, 3, 62, 29, 42, 180, 0, 61]
abbrev dktX5_least_1 : List UInt8 := dkwX5_least_1 ++ dktX5_least_2
def dkwX5_least_0 : List UInt8 := [3, 62, 29, 17, 113, 232, 162, 0, 17, 42, 180, 0, 9, 29, 18, 64, 79, 132, 3, 1, 167, 255, 238, 42]
abbrev dktX5_least_0 : List UInt8 := dkwX5_least_0 ++ dktX5_least_1
theorem dksX5_least_0 : cX5_least.data.toList.drop 0 = dktX5_least_0 := by decide +kernel
theorem dksX5_least_1 : cX5_least.data.toList.drop 24 = dktX5_least_1 := dk_seg dksX5_least_0 24 rfl rfl
theorem dksX5_least_2 : cX5_least.data.toList.drop 47 = dktX5_least_2 := dk_seg dksX5_least_1 23 rfl rfl
theorem dksX5_least_3 : cX5_least.data.toList.drop 71 = dktX5_least_3 := dk_seg dksX5_least_2 24 rfl rfl
theorem dksX5_least_4 : cX5_least.data.toList.drop 95 = dktX5_least_4 := dk_seg dksX5_least_3 24 rfl rfl
theorem dksX5_least_5 : cX5_least.data.toList.drop 119 = dktX5_least_5 := dk_seg dksX5_least_4 24 rfl rfl
theorem dksX5_least_6 : cX5_least.data.toList.drop 143 = dktX5_least_6 := dk_seg dksX5_least_5 24 rfl rfl
theorem dX5_least_0 : decode cX5_least 0 = .ok (.iconst 0, 1) := dk_3 (dk_at dksX5_least_0 0 rfl rfl)
theorem dX5_least_1 : decode cX5_least 1 = .ok (.istore_n 3, 1) := dk_62 (dk_at dksX5_least_0 1 rfl rfl)
theorem dX5_least_2 : decode cX5_least 2 = .ok (.iload_n 3, 1) := dk_29 (dk_at dksX5_least_0 2 rfl rfl)
theorem dX5_least_3 : decode cX5_least 3 = .ok (.sipush 29160, 3) := dk_17 113 232 (dk_at dksX5_least_0 3 rfl rfl)
theorem dX5_least_6 : decode cX5_least 6 = .ok (.if_icmp .ge 17, 3) := dk_162 0 17 (dk_at dksX5_least_0 6 rfl rfl)
theorem dX5_least_9 : decode cX5_least 9 = .ok (.aload_n 0, 1) := dk_42 (dk_at dksX5_least_0 9 rfl rfl)
theorem dX5_least_10 : decode cX5_least 10 = .ok (.getfield 9, 3) := dk_180 0 9 (dk_at dksX5_least_0 10 rfl rfl)
theorem dX5_least_13 : decode cX5_least 13 = .ok (.iload_n 3, 1) := dk_29 (dk_at dksX5_least_0 13 rfl rfl)
theorem dX5_least_14 : decode cX5_least 14 = .ok (.ldc 64, 2) := dk_18 64 (dk_at dksX5_least_0 14 rfl rfl)
theorem dX5_least_16 : decode cX5_least 16 = .ok (.iastore, 1) := dk_79 (dk_at dksX5_least_0 16 rfl rfl)
theorem dX5_least_17 : decode cX5_least 17 = .ok (.iinc 3 1, 3) := dk_132 3 1 (dk_at dksX5_least_0 17 rfl rfl)
theorem dX5_least_20 : decode cX5_least 20 = .ok (.goto (-18), 3) := dk_167 255 238 (dk_at dksX5_least_0 20 rfl rfl)
theorem dX5_least_23 : decode cX5_least 23 = .ok (.aload_n 0, 1) := dk_42 (dk_at dksX5_least_0 23 rfl rfl)
theorem dX5_least_24 : decode cX5_least 24 = .ok (.iconst 0, 1) := dk_3 (dk_at dksX5_least_1 0 rfl rfl)
theorem dX5_least_25 : decode cX5_least 25 = .ok (.putfield 61, 3) := dk_181 0 61 (dk_at dksX5_least_1 1 rfl rfl)
theorem dX5_least_28 : decode cX5_least 28 = .ok (.aload_n 0, 1) := dk_42 (dk_at dksX5_least_1 4 rfl rfl)
theorem dX5_least_29 : decode cX5_least 29 = .ok (.iload_n 1, 1) := dk_27 (dk_at dksX5_least_1 5 rfl rfl)
theorem dX5_least_30 : decode cX5_least 30 = .ok (.aload_n 0, 1) := dk_42 (dk_at dksX5_least_1 6 rfl rfl)
theorem dX5_least_31 : decode cX5_least 31 = .ok (.iconst 0, 1) := dk_3 (dk_at dksX5_least_1 7 rfl rfl)
theorem dX5_least_32 : decode cX5_least 32 = .ok (.iload_n 1, 1) := dk_27 (dk_at dksX5_least_1 8 rfl rfl)
theorem dX5_least_33 : decode cX5_least 33 = .ok (.invokevirtual 65, 3) := dk_182 0 65 (dk_at dksX5_least_1 9 rfl rfl)
theorem dX5_least_36 : decode cX5_least 36 = .ok (.iconst 0, 1) := dk_3 (dk_at dksX5_least_1 12 rfl rfl)
theorem dX5_least_37 : decode cX5_least 37 = .ok (.invokevirtual 69, 3) := dk_182 0 69 (dk_at dksX5_least_1 13 rfl rfl)
theorem dX5_least_40 : decode cX5_least 40 = .ok (.iconst 0, 1) := dk_3 (dk_at dksX5_least_1 16 rfl rfl)
theorem dX5_least_41 : decode cX5_least 41 = .ok (.istore_n 3, 1) := dk_62 (dk_at dksX5_least_1 17 rfl rfl)
theorem dX5_least_42 : decode cX5_least 42 = .ok (.iload_n 3, 1) := dk_29 (dk_at dksX5_least_1 18 rfl rfl)
theorem dX5_least_43 : decode cX5_least 43 = .ok (.aload_n 0, 1) := dk_42 (dk_at dksX5_least_1 19 rfl rfl)
theorem dX5_least_44 : decode cX5_least 44 = .ok (.getfield 61, 3) := dk_180 0 61 (dk_at dksX5_least_1 20 rfl rfl)
theorem dX5_least_47 : decode cX5_least 47 = .ok (.if_icmp .ge 114, 3) := dk_162 0 114 (dk_at dksX5_least_2 0 rfl rfl)
theorem dX5_least_50 : decode cX5_least 50 = .ok (.aload_n 0, 1) := dk_42 (dk_at dksX5_least_2 3 rfl rfl)
theorem dX5_least_51 : decode cX5_least 51 = .ok (.getfield 15, 3) := dk_180 0 15 (dk_at dksX5_least_2 4 rfl rfl)
theorem dX5_least_54 : decode cX5_least 54 = .ok (.iload_n 3, 1) := dk_29 (dk_at dksX5_least_2 7 rfl rfl)
theorem dX5_least_55 : decode cX5_least 55 = .ok (.iaload, 1) := dk_46 (dk_at dksX5_least_2 8 rfl rfl)
theorem dX5_least_56 : decode cX5_least 56 = .ok (.sipush 729, 3) := dk_17 2 217 (dk_at dksX5_least_2 9 rfl rfl)
theorem dX5_least_59 : decode cX5_least 59 = .ok (.idiv, 1) := dk_108 (dk_at dksX5_least_2 12 rfl rfl)
theorem dX5_least_60 : decode cX5_least 60 = .ok (.istore 4, 2) := dk_54 4 (dk_at dksX5_least_2 13 rfl rfl)
theorem dX5_least_62 : decode cX5_least 62 = .ok (.aload_n 0, 1) := dk_42 (dk_at dksX5_least_2 15 rfl rfl)
theorem dX5_least_63 : decode cX5_least 63 = .ok (.getfield 15, 3) := dk_180 0 15 (dk_at dksX5_least_2 16 rfl rfl)
theorem dX5_least_66 : decode cX5_least 66 = .ok (.iload_n 3, 1) := dk_29 (dk_at dksX5_least_2 19 rfl rfl)
theorem dX5_least_67 : decode cX5_least 67 = .ok (.iaload, 1) := dk_46 (dk_at dksX5_least_2 20 rfl rfl)
theorem dX5_least_68 : decode cX5_least 68 = .ok (.sipush 729, 3) := dk_17 2 217 (dk_at dksX5_least_2 21 rfl rfl)
theorem dX5_least_71 : decode cX5_least 71 = .ok (.irem, 1) := dk_112 (dk_at dksX5_least_3 0 rfl rfl)
theorem dX5_least_72 : decode cX5_least 72 = .ok (.istore 5, 2) := dk_54 5 (dk_at dksX5_least_3 1 rfl rfl)
theorem dX5_least_74 : decode cX5_least 74 = .ok (.iload 5, 2) := dk_21 5 (dk_at dksX5_least_3 3 rfl rfl)
theorem dX5_least_76 : decode cX5_least 76 = .ok (.aload_n 0, 1) := dk_42 (dk_at dksX5_least_3 5 rfl rfl)
theorem dX5_least_77 : decode cX5_least 77 = .ok (.getfield 31, 3) := dk_180 0 31 (dk_at dksX5_least_3 6 rfl rfl)
theorem dX5_least_80 : decode cX5_least 80 = .ok (.if_icmp .ne 15, 3) := dk_160 0 15 (dk_at dksX5_least_3 9 rfl rfl)
theorem dX5_least_83 : decode cX5_least 83 = .ok (.aload_n 0, 1) := dk_42 (dk_at dksX5_least_3 12 rfl rfl)
theorem dX5_least_84 : decode cX5_least 84 = .ok (.getfield 9, 3) := dk_180 0 9 (dk_at dksX5_least_3 13 rfl rfl)
theorem dX5_least_87 : decode cX5_least 87 = .ok (.aload_n 0, 1) := dk_42 (dk_at dksX5_least_3 16 rfl rfl)
theorem dX5_least_88 : decode cX5_least 88 = .ok (.getfield 15, 3) := dk_180 0 15 (dk_at dksX5_least_3 17 rfl rfl)
theorem dX5_least_91 : decode cX5_least 91 = .ok (.iload_n 3, 1) := dk_29 (dk_at dksX5_least_3 20 rfl rfl)
theorem dX5_least_92 : decode cX5_least 92 = .ok (.iaload, 1) := dk_46 (dk_at dksX5_least_3 21 rfl rfl)
theorem dX5_least_93 : decode cX5_least 93 = .ok (.iaload, 1) := dk_46 (dk_at dksX5_least_3 22 rfl rfl)
theorem dX5_least_94 : decode cX5_least 94 = .ok (.ireturn, 1) := dk_172 (dk_at dksX5_least_3 23 rfl rfl)
theorem dX5_least_95 : decode cX5_least 95 = .ok (.iconst 1, 1) := dk_4 (dk_at dksX5_least_4 0 rfl rfl)
theorem dX5_least_96 : decode cX5_least 96 = .ok (.istore 6, 2) := dk_54 6 (dk_at dksX5_least_4 1 rfl rfl)
theorem dX5_least_98 : decode cX5_least 98 = .ok (.iload 6, 2) := dk_21 6 (dk_at dksX5_least_4 3 rfl rfl)
theorem dX5_least_100 : decode cX5_least 100 = .ok (.iload_n 2, 1) := dk_28 (dk_at dksX5_least_4 5 rfl rfl)
theorem dX5_least_101 : decode cX5_least 101 = .ok (.if_icmp .ge 54, 3) := dk_162 0 54 (dk_at dksX5_least_4 6 rfl rfl)
theorem dX5_least_104 : decode cX5_least 104 = .ok (.iload 4, 2) := dk_21 4 (dk_at dksX5_least_4 9 rfl rfl)
theorem dX5_least_106 : decode cX5_least 106 = .ok (.iload 6, 2) := dk_21 6 (dk_at dksX5_least_4 11 rfl rfl)
theorem dX5_least_108 : decode cX5_least 108 = .ok (.iadd, 1) := dk_96 (dk_at dksX5_least_4 13 rfl rfl)
theorem dX5_least_109 : decode cX5_least 109 = .ok (.iload_n 2, 1) := dk_28 (dk_at dksX5_least_4 14 rfl rfl)
theorem dX5_least_110 : decode cX5_least 110 = .ok (.irem, 1) := dk_112 (dk_at dksX5_least_4 15 rfl rfl)
theorem dX5_least_111 : decode cX5_least 111 = .ok (.istore 7, 2) := dk_54 7 (dk_at dksX5_least_4 16 rfl rfl)
theorem dX5_least_113 : decode cX5_least 113 = .ok (.aload_n 0, 1) := dk_42 (dk_at dksX5_least_4 18 rfl rfl)
theorem dX5_least_114 : decode cX5_least 114 = .ok (.iload 7, 2) := dk_21 7 (dk_at dksX5_least_4 19 rfl rfl)
theorem dX5_least_116 : decode cX5_least 116 = .ok (.aload_n 0, 1) := dk_42 (dk_at dksX5_least_4 21 rfl rfl)
theorem dX5_least_117 : decode cX5_least 117 = .ok (.iload 5, 2) := dk_21 5 (dk_at dksX5_least_4 22 rfl rfl)
theorem dX5_least_119 : decode cX5_least 119 = .ok (.iload 7, 2) := dk_21 7 (dk_at dksX5_least_5 0 rfl rfl)
theorem dX5_least_121 : decode cX5_least 121 = .ok (.invokevirtual 65, 3) := dk_182 0 65 (dk_at dksX5_least_5 2 rfl rfl)
theorem dX5_least_124 : decode cX5_least 124 = .ok (.aload_n 0, 1) := dk_42 (dk_at dksX5_least_5 5 rfl rfl)
theorem dX5_least_125 : decode cX5_least 125 = .ok (.getfield 9, 3) := dk_180 0 9 (dk_at dksX5_least_5 6 rfl rfl)
theorem dX5_least_128 : decode cX5_least 128 = .ok (.aload_n 0, 1) := dk_42 (dk_at dksX5_least_5 9 rfl rfl)
theorem dX5_least_129 : decode cX5_least 129 = .ok (.getfield 15, 3) := dk_180 0 15 (dk_at dksX5_least_5 10 rfl rfl)
theorem dX5_least_132 : decode cX5_least 132 = .ok (.iload_n 3, 1) := dk_29 (dk_at dksX5_least_5 13 rfl rfl)
theorem dX5_least_133 : decode cX5_least 133 = .ok (.iaload, 1) := dk_46 (dk_at dksX5_least_5 14 rfl rfl)
theorem dX5_least_134 : decode cX5_least 134 = .ok (.iaload, 1) := dk_46 (dk_at dksX5_least_5 15 rfl rfl)
theorem dX5_least_135 : decode cX5_least 135 = .ok (.iconst 1, 1) := dk_4 (dk_at dksX5_least_5 16 rfl rfl)
theorem dX5_least_136 : decode cX5_least 136 = .ok (.iadd, 1) := dk_96 (dk_at dksX5_least_5 17 rfl rfl)
theorem dX5_least_137 : decode cX5_least 137 = .ok (.invokevirtual 69, 3) := dk_182 0 69 (dk_at dksX5_least_5 18 rfl rfl)
theorem dX5_least_140 : decode cX5_least 140 = .ok (.iload 6, 2) := dk_21 6 (dk_at dksX5_least_5 21 rfl rfl)
theorem dX5_least_142 : decode cX5_least 142 = .ok (.iconst 1, 1) := dk_4 (dk_at dksX5_least_5 23 rfl rfl)
theorem dX5_least_143 : decode cX5_least 143 = .ok (.iload_n 2, 1) := dk_28 (dk_at dksX5_least_6 0 rfl rfl)
theorem dX5_least_144 : decode cX5_least 144 = .ok (.iconst 2, 1) := dk_5 (dk_at dksX5_least_6 1 rfl rfl)
theorem dX5_least_145 : decode cX5_least 145 = .ok (.isub, 1) := dk_100 (dk_at dksX5_least_6 2 rfl rfl)
theorem dX5_least_146 : decode cX5_least 146 = .ok (.invokestatic 73, 3) := dk_184 0 73 (dk_at dksX5_least_6 3 rfl rfl)
theorem dX5_least_149 : decode cX5_least 149 = .ok (.iadd, 1) := dk_96 (dk_at dksX5_least_6 6 rfl rfl)
theorem dX5_least_150 : decode cX5_least 150 = .ok (.istore 6, 2) := dk_54 6 (dk_at dksX5_least_6 7 rfl rfl)
theorem dX5_least_152 : decode cX5_least 152 = .ok (.goto (-54), 3) := dk_167 255 202 (dk_at dksX5_least_6 9 rfl rfl)
theorem dX5_least_155 : decode cX5_least 155 = .ok (.iinc 3 1, 3) := dk_132 3 1 (dk_at dksX5_least_6 12 rfl rfl)
theorem dX5_least_158 : decode cX5_least 158 = .ok (.goto (-116), 3) := dk_167 255 140 (dk_at dksX5_least_6 15 rfl rfl)
theorem dX5_least_161 : decode cX5_least 161 = .ok (.ldc 64, 2) := dk_18 64 (dk_at dksX5_least_6 18 rfl rfl)
theorem dX5_least_163 : decode cX5_least 163 = .ok (.ireturn, 1) := dk_172 (dk_at dksX5_least_6 20 rfl rfl)
abbrev cX5_passing : ByteArray := prog_13_method_3_code
def yX5_passing : MethodName := ⟨RX5, "passing", "(II)I"⟩
def dkwX5_passing_3 : List UInt8 := [132, 4, 1, 167, 255, 188, 29, 172]
abbrev dktX5_passing_3 : List UInt8 := dkwX5_passing_3 ++ []
def dkwX5_passing_2 : List UInt8 := [160, 0, 24, 42, 180, 0, 24, 21, 4, 46, 28, 160, 0, 13, 29, 42, 180, 0, 18, 21, 4, 46, 96, 62]
abbrev dktX5_passing_2 : List UInt8 := dkwX5_passing_2 ++ dktX5_passing_3
def dkwX5_passing_1 : List UInt8 := [112, 54, 5, 21, 5, 154, 0, 14, 42, 180, 0, 21, 21, 4, 46, 28, 159, 0, 20, 21, 5, 4]
abbrev dktX5_passing_1 : List UInt8 := dkwX5_passing_1 ++ dktX5_passing_2
def dkwX5_passing_0 : List UInt8 := [27, 62, 3, 54, 4, 21, 4, 42, 180, 0, 27, 162, 0, 65, 29, 42, 180, 0, 18, 21, 4, 46, 108, 6]
abbrev dktX5_passing_0 : List UInt8 := dkwX5_passing_0 ++ dktX5_passing_1
theorem dksX5_passing_0 : cX5_passing.data.toList.drop 0 = dktX5_passing_0 := by decide +kernel
theorem dksX5_passing_1 : cX5_passing.data.toList.drop 24 = dktX5_passing_1 := dk_seg dksX5_passing_0 24 rfl rfl
theorem dksX5_passing_2 : cX5_passing.data.toList.drop 46 = dktX5_passing_2 := dk_seg dksX5_passing_1 22 rfl rfl
theorem dksX5_passing_3 : cX5_passing.data.toList.drop 70 = dktX5_passing_3 := dk_seg dksX5_passing_2 24 rfl rfl
theorem dX5_passing_0 : decode cX5_passing 0 = .ok (.iload_n 1, 1) := dk_27 (dk_at dksX5_passing_0 0 rfl rfl)
theorem dX5_passing_1 : decode cX5_passing 1 = .ok (.istore_n 3, 1) := dk_62 (dk_at dksX5_passing_0 1 rfl rfl)
theorem dX5_passing_2 : decode cX5_passing 2 = .ok (.iconst 0, 1) := dk_3 (dk_at dksX5_passing_0 2 rfl rfl)
theorem dX5_passing_3 : decode cX5_passing 3 = .ok (.istore 4, 2) := dk_54 4 (dk_at dksX5_passing_0 3 rfl rfl)
theorem dX5_passing_5 : decode cX5_passing 5 = .ok (.iload 4, 2) := dk_21 4 (dk_at dksX5_passing_0 5 rfl rfl)
theorem dX5_passing_7 : decode cX5_passing 7 = .ok (.aload_n 0, 1) := dk_42 (dk_at dksX5_passing_0 7 rfl rfl)
theorem dX5_passing_8 : decode cX5_passing 8 = .ok (.getfield 27, 3) := dk_180 0 27 (dk_at dksX5_passing_0 8 rfl rfl)
theorem dX5_passing_11 : decode cX5_passing 11 = .ok (.if_icmp .ge 65, 3) := dk_162 0 65 (dk_at dksX5_passing_0 11 rfl rfl)
theorem dX5_passing_14 : decode cX5_passing 14 = .ok (.iload_n 3, 1) := dk_29 (dk_at dksX5_passing_0 14 rfl rfl)
theorem dX5_passing_15 : decode cX5_passing 15 = .ok (.aload_n 0, 1) := dk_42 (dk_at dksX5_passing_0 15 rfl rfl)
theorem dX5_passing_16 : decode cX5_passing 16 = .ok (.getfield 18, 3) := dk_180 0 18 (dk_at dksX5_passing_0 16 rfl rfl)
theorem dX5_passing_19 : decode cX5_passing 19 = .ok (.iload 4, 2) := dk_21 4 (dk_at dksX5_passing_0 19 rfl rfl)
theorem dX5_passing_21 : decode cX5_passing 21 = .ok (.iaload, 1) := dk_46 (dk_at dksX5_passing_0 21 rfl rfl)
theorem dX5_passing_22 : decode cX5_passing 22 = .ok (.idiv, 1) := dk_108 (dk_at dksX5_passing_0 22 rfl rfl)
theorem dX5_passing_23 : decode cX5_passing 23 = .ok (.iconst 3, 1) := dk_6 (dk_at dksX5_passing_0 23 rfl rfl)
theorem dX5_passing_24 : decode cX5_passing 24 = .ok (.irem, 1) := dk_112 (dk_at dksX5_passing_1 0 rfl rfl)
theorem dX5_passing_25 : decode cX5_passing 25 = .ok (.istore 5, 2) := dk_54 5 (dk_at dksX5_passing_1 1 rfl rfl)
theorem dX5_passing_27 : decode cX5_passing 27 = .ok (.iload 5, 2) := dk_21 5 (dk_at dksX5_passing_1 3 rfl rfl)
theorem dX5_passing_29 : decode cX5_passing 29 = .ok (.ifCond .ne 14, 3) := dk_154 0 14 (dk_at dksX5_passing_1 5 rfl rfl)
theorem dX5_passing_32 : decode cX5_passing 32 = .ok (.aload_n 0, 1) := dk_42 (dk_at dksX5_passing_1 8 rfl rfl)
theorem dX5_passing_33 : decode cX5_passing 33 = .ok (.getfield 21, 3) := dk_180 0 21 (dk_at dksX5_passing_1 9 rfl rfl)
theorem dX5_passing_36 : decode cX5_passing 36 = .ok (.iload 4, 2) := dk_21 4 (dk_at dksX5_passing_1 12 rfl rfl)
theorem dX5_passing_38 : decode cX5_passing 38 = .ok (.iaload, 1) := dk_46 (dk_at dksX5_passing_1 14 rfl rfl)
theorem dX5_passing_39 : decode cX5_passing 39 = .ok (.iload_n 2, 1) := dk_28 (dk_at dksX5_passing_1 15 rfl rfl)
theorem dX5_passing_40 : decode cX5_passing 40 = .ok (.if_icmp .eq 20, 3) := dk_159 0 20 (dk_at dksX5_passing_1 16 rfl rfl)
theorem dX5_passing_43 : decode cX5_passing 43 = .ok (.iload 5, 2) := dk_21 5 (dk_at dksX5_passing_1 19 rfl rfl)
theorem dX5_passing_45 : decode cX5_passing 45 = .ok (.iconst 1, 1) := dk_4 (dk_at dksX5_passing_1 21 rfl rfl)
theorem dX5_passing_46 : decode cX5_passing 46 = .ok (.if_icmp .ne 24, 3) := dk_160 0 24 (dk_at dksX5_passing_2 0 rfl rfl)
theorem dX5_passing_49 : decode cX5_passing 49 = .ok (.aload_n 0, 1) := dk_42 (dk_at dksX5_passing_2 3 rfl rfl)
theorem dX5_passing_50 : decode cX5_passing 50 = .ok (.getfield 24, 3) := dk_180 0 24 (dk_at dksX5_passing_2 4 rfl rfl)
theorem dX5_passing_53 : decode cX5_passing 53 = .ok (.iload 4, 2) := dk_21 4 (dk_at dksX5_passing_2 7 rfl rfl)
theorem dX5_passing_55 : decode cX5_passing 55 = .ok (.iaload, 1) := dk_46 (dk_at dksX5_passing_2 9 rfl rfl)
theorem dX5_passing_56 : decode cX5_passing 56 = .ok (.iload_n 2, 1) := dk_28 (dk_at dksX5_passing_2 10 rfl rfl)
theorem dX5_passing_57 : decode cX5_passing 57 = .ok (.if_icmp .ne 13, 3) := dk_160 0 13 (dk_at dksX5_passing_2 11 rfl rfl)
theorem dX5_passing_60 : decode cX5_passing 60 = .ok (.iload_n 3, 1) := dk_29 (dk_at dksX5_passing_2 14 rfl rfl)
theorem dX5_passing_61 : decode cX5_passing 61 = .ok (.aload_n 0, 1) := dk_42 (dk_at dksX5_passing_2 15 rfl rfl)
theorem dX5_passing_62 : decode cX5_passing 62 = .ok (.getfield 18, 3) := dk_180 0 18 (dk_at dksX5_passing_2 16 rfl rfl)
theorem dX5_passing_65 : decode cX5_passing 65 = .ok (.iload 4, 2) := dk_21 4 (dk_at dksX5_passing_2 19 rfl rfl)
theorem dX5_passing_67 : decode cX5_passing 67 = .ok (.iaload, 1) := dk_46 (dk_at dksX5_passing_2 21 rfl rfl)
theorem dX5_passing_68 : decode cX5_passing 68 = .ok (.iadd, 1) := dk_96 (dk_at dksX5_passing_2 22 rfl rfl)
theorem dX5_passing_69 : decode cX5_passing 69 = .ok (.istore_n 3, 1) := dk_62 (dk_at dksX5_passing_2 23 rfl rfl)
theorem dX5_passing_70 : decode cX5_passing 70 = .ok (.iinc 4 1, 3) := dk_132 4 1 (dk_at dksX5_passing_3 0 rfl rfl)
theorem dX5_passing_73 : decode cX5_passing 73 = .ok (.goto (-68), 3) := dk_167 255 188 (dk_at dksX5_passing_3 3 rfl rfl)
theorem dX5_passing_76 : decode cX5_passing 76 = .ok (.iload_n 3, 1) := dk_29 (dk_at dksX5_passing_3 6 rfl rfl)
theorem dX5_passing_77 : decode cX5_passing 77 = .ok (.ireturn, 1) := dk_172 (dk_at dksX5_passing_3 7 rfl rfl)
abbrev cX5_meet : ByteArray := prog_13_method_4_code
def yX5_meet : MethodName := ⟨RX5, "meet", "(III)V"⟩
def dkwX5_meet_2 : List UInt8 := [96, 181, 0, 61, 177]
abbrev dktX5_meet_2 : List UInt8 := dkwX5_meet_2 ++ []
def dkwX5_meet_1 : List UInt8 := [180, 0, 9, 21, 4, 29, 79, 42, 180, 0, 15, 42, 180, 0, 61, 21, 4, 79, 42, 89, 180, 0, 61, 4]
abbrev dktX5_meet_1 : List UInt8 := dkwX5_meet_1 ++ dktX5_meet_2
def dkwX5_meet_0 : List UInt8 := [17, 2, 217, 27, 104, 28, 96, 54, 4, 42, 180, 0, 9, 21, 4, 46, 29, 163, 0, 4, 177, 42]
abbrev dktX5_meet_0 : List UInt8 := dkwX5_meet_0 ++ dktX5_meet_1
theorem dksX5_meet_0 : cX5_meet.data.toList.drop 0 = dktX5_meet_0 := by decide +kernel
theorem dksX5_meet_1 : cX5_meet.data.toList.drop 22 = dktX5_meet_1 := dk_seg dksX5_meet_0 22 rfl rfl
theorem dksX5_meet_2 : cX5_meet.data.toList.drop 46 = dktX5_meet_2 := dk_seg dksX5_meet_1 24 rfl rfl
theorem dX5_meet_0 : decode cX5_meet 0 = .ok (.sipush 729, 3) := dk_17 2 217 (dk_at dksX5_meet_0 0 rfl rfl)
theorem dX5_meet_3 : decode cX5_meet 3 = .ok (.iload_n 1, 1) := dk_27 (dk_at dksX5_meet_0 3 rfl rfl)
theorem dX5_meet_4 : decode cX5_meet 4 = .ok (.imul, 1) := dk_104 (dk_at dksX5_meet_0 4 rfl rfl)
theorem dX5_meet_5 : decode cX5_meet 5 = .ok (.iload_n 2, 1) := dk_28 (dk_at dksX5_meet_0 5 rfl rfl)
theorem dX5_meet_6 : decode cX5_meet 6 = .ok (.iadd, 1) := dk_96 (dk_at dksX5_meet_0 6 rfl rfl)
theorem dX5_meet_7 : decode cX5_meet 7 = .ok (.istore 4, 2) := dk_54 4 (dk_at dksX5_meet_0 7 rfl rfl)
theorem dX5_meet_9 : decode cX5_meet 9 = .ok (.aload_n 0, 1) := dk_42 (dk_at dksX5_meet_0 9 rfl rfl)
theorem dX5_meet_10 : decode cX5_meet 10 = .ok (.getfield 9, 3) := dk_180 0 9 (dk_at dksX5_meet_0 10 rfl rfl)
theorem dX5_meet_13 : decode cX5_meet 13 = .ok (.iload 4, 2) := dk_21 4 (dk_at dksX5_meet_0 13 rfl rfl)
theorem dX5_meet_15 : decode cX5_meet 15 = .ok (.iaload, 1) := dk_46 (dk_at dksX5_meet_0 15 rfl rfl)
theorem dX5_meet_16 : decode cX5_meet 16 = .ok (.iload_n 3, 1) := dk_29 (dk_at dksX5_meet_0 16 rfl rfl)
theorem dX5_meet_17 : decode cX5_meet 17 = .ok (.if_icmp .gt 4, 3) := dk_163 0 4 (dk_at dksX5_meet_0 17 rfl rfl)
theorem dX5_meet_20 : decode cX5_meet 20 = .ok (.return_, 1) := dk_177 (dk_at dksX5_meet_0 20 rfl rfl)
theorem dX5_meet_21 : decode cX5_meet 21 = .ok (.aload_n 0, 1) := dk_42 (dk_at dksX5_meet_0 21 rfl rfl)
theorem dX5_meet_22 : decode cX5_meet 22 = .ok (.getfield 9, 3) := dk_180 0 9 (dk_at dksX5_meet_1 0 rfl rfl)
theorem dX5_meet_25 : decode cX5_meet 25 = .ok (.iload 4, 2) := dk_21 4 (dk_at dksX5_meet_1 3 rfl rfl)
theorem dX5_meet_27 : decode cX5_meet 27 = .ok (.iload_n 3, 1) := dk_29 (dk_at dksX5_meet_1 5 rfl rfl)
theorem dX5_meet_28 : decode cX5_meet 28 = .ok (.iastore, 1) := dk_79 (dk_at dksX5_meet_1 6 rfl rfl)
theorem dX5_meet_29 : decode cX5_meet 29 = .ok (.aload_n 0, 1) := dk_42 (dk_at dksX5_meet_1 7 rfl rfl)
theorem dX5_meet_30 : decode cX5_meet 30 = .ok (.getfield 15, 3) := dk_180 0 15 (dk_at dksX5_meet_1 8 rfl rfl)
theorem dX5_meet_33 : decode cX5_meet 33 = .ok (.aload_n 0, 1) := dk_42 (dk_at dksX5_meet_1 11 rfl rfl)
theorem dX5_meet_34 : decode cX5_meet 34 = .ok (.getfield 61, 3) := dk_180 0 61 (dk_at dksX5_meet_1 12 rfl rfl)
theorem dX5_meet_37 : decode cX5_meet 37 = .ok (.iload 4, 2) := dk_21 4 (dk_at dksX5_meet_1 15 rfl rfl)
theorem dX5_meet_39 : decode cX5_meet 39 = .ok (.iastore, 1) := dk_79 (dk_at dksX5_meet_1 17 rfl rfl)
theorem dX5_meet_40 : decode cX5_meet 40 = .ok (.aload_n 0, 1) := dk_42 (dk_at dksX5_meet_1 18 rfl rfl)
theorem dX5_meet_41 : decode cX5_meet 41 = .ok (.dup, 1) := dk_89 (dk_at dksX5_meet_1 19 rfl rfl)
theorem dX5_meet_42 : decode cX5_meet 42 = .ok (.getfield 61, 3) := dk_180 0 61 (dk_at dksX5_meet_1 20 rfl rfl)
theorem dX5_meet_45 : decode cX5_meet 45 = .ok (.iconst 1, 1) := dk_4 (dk_at dksX5_meet_1 23 rfl rfl)
theorem dX5_meet_46 : decode cX5_meet 46 = .ok (.iadd, 1) := dk_96 (dk_at dksX5_meet_2 0 rfl rfl)
theorem dX5_meet_47 : decode cX5_meet 47 = .ok (.putfield 61, 3) := dk_181 0 61 (dk_at dksX5_meet_2 1 rfl rfl)
theorem dX5_meet_50 : decode cX5_meet 50 = .ok (.return_, 1) := dk_177 (dk_at dksX5_meet_2 4 rfl rfl)
theorem q125 : (Jvm.Cond.initialized "SeanceStreet$Walk") ∈ lw_all := lw_g (lw_at lw_m1 8 rfl) rfl
theorem q271 : (Jvm.Cond.fieldLink "SeanceStreet$Walk" (54 : Nat) "SeanceStreet$Street" "homes" "[I") ∈ lw_all := lw_g (lw_at lw_m1 154 rfl) rfl
theorem q293 : (Jvm.Cond.instantiable "SeanceStreet$Walk" (8 : Nat)) ∈ lw_all := lw_g (lw_at lw_m1 176 rfl) rfl
theorem q295 : (Jvm.Cond.instanceMethod ({ cls := "SeanceStreet$Walk", name := "<init>", desc := "()V" } : Jvm.MethodName)) ∈ lw_all := lw_g (lw_at lw_m1 178 rfl) rfl
theorem q296 : (Jvm.Cond.code ({ cls := "SeanceStreet$Walk", name := "<init>", desc := "()V" } : Jvm.MethodName) prog_13_method_1_code (1 : Nat) (Option.none : Option Jvm.ClassFile.FieldType)) ∈ lw_all := lw_g (lw_at lw_m1 179 rfl) rfl
theorem q297 : (Jvm.Cond.methodLink "SeanceStreet$Walk" (3 : Nat) ({ cls := "java/lang/Object", name := "<init>", desc := "()V" } : Jvm.MethodName)) ∈ lw_all := lw_g (lw_at lw_m1 180 rfl) rfl
theorem q298 : (Jvm.Cond.fieldLink "SeanceStreet$Walk" (9 : Nat) "SeanceStreet$Walk" "far" "[I") ∈ lw_all := lw_g (lw_at lw_m1 181 rfl) rfl
theorem q299 : (Jvm.Cond.fieldLink "SeanceStreet$Walk" (15 : Nat) "SeanceStreet$Walk" "queue" "[I") ∈ lw_all := lw_g (lw_at lw_m1 182 rfl) rfl
theorem q300 : (Jvm.Cond.fieldLink "SeanceStreet$Walk" (18 : Nat) "SeanceStreet$Walk" "units" "[I") ∈ lw_all := lw_g (lw_at lw_m1 183 rfl) rfl
theorem q301 : (Jvm.Cond.fieldLink "SeanceStreet$Walk" (21 : Nat) "SeanceStreet$Walk" "froms" "[I") ∈ lw_all := lw_g (lw_at lw_m1 184 rfl) rfl
theorem q302 : (Jvm.Cond.fieldLink "SeanceStreet$Walk" (24 : Nat) "SeanceStreet$Walk" "tos" "[I") ∈ lw_all := lw_g (lw_at lw_m1 185 rfl) rfl
theorem q303 : (Jvm.Cond.fieldLink "SeanceStreet$Walk" (61 : Nat) "SeanceStreet$Walk" "many" "I") ∈ lw_all := lw_g (lw_at lw_m1 186 rfl) rfl
theorem q304 : (Jvm.Cond.fieldLink "SeanceStreet$Walk" (27 : Nat) "SeanceStreet$Walk" "wrong" "I") ∈ lw_all := lw_g (lw_at lw_m1 187 rfl) rfl
theorem q305 : (Jvm.Cond.fieldLink "SeanceStreet$Walk" (31 : Nat) "SeanceStreet$Walk" "all" "I") ∈ lw_all := lw_g (lw_at lw_m1 188 rfl) rfl
theorem q306 : (Jvm.Cond.laysFinal "SeanceStreet$Walk" "SeanceStreet$Walk" "far" "[I") ∈ lw_all := lw_g (lw_at lw_m1 189 rfl) rfl
theorem q307 : (Jvm.Cond.soleField "SeanceStreet$Walk" "far") ∈ lw_all := lw_g (lw_at lw_m1 190 rfl) rfl
theorem q308 : (Jvm.Cond.laysFinal "SeanceStreet$Walk" "SeanceStreet$Walk" "queue" "[I") ∈ lw_all := lw_g (lw_at lw_m1 191 rfl) rfl
theorem q309 : (Jvm.Cond.soleField "SeanceStreet$Walk" "queue") ∈ lw_all := lw_g (lw_at lw_m1 192 rfl) rfl
theorem q310 : (Jvm.Cond.laysFinal "SeanceStreet$Walk" "SeanceStreet$Walk" "units" "[I") ∈ lw_all := lw_g (lw_at lw_m1 193 rfl) rfl
theorem q311 : (Jvm.Cond.soleField "SeanceStreet$Walk" "units") ∈ lw_all := lw_g (lw_at lw_m1 194 rfl) rfl
theorem q312 : (Jvm.Cond.laysFinal "SeanceStreet$Walk" "SeanceStreet$Walk" "froms" "[I") ∈ lw_all := lw_g (lw_at lw_m1 195 rfl) rfl
theorem q313 : (Jvm.Cond.soleField "SeanceStreet$Walk" "froms") ∈ lw_all := lw_g (lw_at lw_m1 196 rfl) rfl
theorem q314 : (Jvm.Cond.laysFinal "SeanceStreet$Walk" "SeanceStreet$Walk" "tos" "[I") ∈ lw_all := lw_g (lw_at lw_m1 197 rfl) rfl
theorem q315 : (Jvm.Cond.soleField "SeanceStreet$Walk" "tos") ∈ lw_all := lw_g (lw_at lw_m1 198 rfl) rfl
theorem q316 : (Jvm.Cond.lays "SeanceStreet$Walk" "SeanceStreet$Walk" "many" "I") ∈ lw_all := lw_g (lw_at lw_m1 199 rfl) rfl
theorem q317 : (Jvm.Cond.soleField "SeanceStreet$Walk" "many") ∈ lw_all := lw_g (lw_at lw_m1 200 rfl) rfl
theorem q318 : (Jvm.Cond.lays "SeanceStreet$Walk" "SeanceStreet$Walk" "wrong" "I") ∈ lw_all := lw_g (lw_at lw_m1 201 rfl) rfl
theorem q319 : (Jvm.Cond.soleField "SeanceStreet$Walk" "wrong") ∈ lw_all := lw_g (lw_at lw_m1 202 rfl) rfl
theorem q320 : (Jvm.Cond.lays "SeanceStreet$Walk" "SeanceStreet$Walk" "all" "I") ∈ lw_all := lw_g (lw_at lw_m1 203 rfl) rfl
theorem q321 : (Jvm.Cond.soleField "SeanceStreet$Walk" "all") ∈ lw_all := lw_g (lw_at lw_m1 204 rfl) rfl
theorem q322 : (Jvm.Cond.superclass "SeanceStreet$Walk" "java/lang/Object") ∈ lw_all := lw_g (lw_at lw_m1 205 rfl) rfl
theorem q457 : (Jvm.Cond.fieldLink "SeanceStreet$Walk" (45 : Nat) "SeanceStreet$Town" "ghosts" "[LSeanceStreet$Ghost;") ∈ lw_all := lw_g (lw_at lw_m2 100 rfl) rfl
theorem q483 : (Jvm.Cond.fieldLink "SeanceStreet$Walk" (34 : Nat) "SeanceStreet$Town" "ghostMany" "I") ∈ lw_all := lw_g (lw_at lw_m2 126 rfl) rfl
theorem q786 : (Jvm.Cond.fieldLink "SeanceStreet$Walk" (49 : Nat) "SeanceStreet$Ghost" "whose" "I") ∈ lw_all := lw_g (lw_at lw_m3 189 rfl) rfl
theorem q1148 : (Jvm.Cond.instanceMethod ({ cls := "SeanceStreet$Walk", name := "lay", desc := "(LSeanceStreet$Town;LSeanceStreet$Street;I)LSeanceStreet$Walk;" } : Jvm.MethodName)) ∈ lw_all := lw_g (lw_at lw_m5 71 rfl) rfl
theorem q1149 : (Jvm.Cond.selects "SeanceStreet$Walk" ({ cls := "SeanceStreet$Walk", name := "lay", desc := "(LSeanceStreet$Town;LSeanceStreet$Street;I)LSeanceStreet$Walk;" } : Jvm.MethodName) ({ cls := "SeanceStreet$Walk", name := "lay", desc := "(LSeanceStreet$Town;LSeanceStreet$Street;I)LSeanceStreet$Walk;" } : Jvm.MethodName)) ∈ lw_all := lw_g (lw_at lw_m5 72 rfl) rfl
theorem q1150 : (Jvm.Cond.code ({ cls := "SeanceStreet$Walk", name := "lay", desc := "(LSeanceStreet$Town;LSeanceStreet$Street;I)LSeanceStreet$Walk;" } : Jvm.MethodName) prog_13_method_2_code (7 : Nat) (Option.some (Jvm.ClassFile.FieldType.object "SeanceStreet$Walk"))) ∈ lw_all := lw_g (lw_at lw_m5 73 rfl) rfl
theorem q1151 : (Jvm.Cond.methodLink "SeanceStreet$Walk" (39 : Nat) ({ cls := "SeanceStreet$Street", name := "ear", desc := "(III)I" } : Jvm.MethodName)) ∈ lw_all := lw_g (lw_at lw_m5 74 rfl) rfl
theorem q1152 : (Jvm.Cond.methodLink "SeanceStreet$Walk" (57 : Nat) ({ cls := "SeanceStreet$Street", name := "aimed", desc := "(I)I" } : Jvm.MethodName)) ∈ lw_all := lw_g (lw_at lw_m5 75 rfl) rfl
theorem q1154 : (Jvm.Cond.instanceMethod ({ cls := "SeanceStreet$Walk", name := "least", desc := "(II)I" } : Jvm.MethodName)) ∈ lw_all := lw_g (lw_at lw_m5 77 rfl) rfl
theorem q1155 : (Jvm.Cond.selects "SeanceStreet$Walk" ({ cls := "SeanceStreet$Walk", name := "least", desc := "(II)I" } : Jvm.MethodName) ({ cls := "SeanceStreet$Walk", name := "least", desc := "(II)I" } : Jvm.MethodName)) ∈ lw_all := lw_g (lw_at lw_m5 78 rfl) rfl
theorem q1156 : (Jvm.Cond.code ({ cls := "SeanceStreet$Walk", name := "least", desc := "(II)I" } : Jvm.MethodName) prog_13_method_5_code (8 : Nat) (Option.some Jvm.ClassFile.FieldType.int)) ∈ lw_all := lw_g (lw_at lw_m5 79 rfl) rfl
theorem q1157 : (Jvm.Cond.constant "SeanceStreet$Walk" (64 : Nat) (1000000 : Int32)) ∈ lw_all := lw_g (lw_at lw_m5 80 rfl) rfl
theorem q1158 : (Jvm.Cond.methodLink "SeanceStreet$Walk" (65 : Nat) ({ cls := "SeanceStreet$Walk", name := "passing", desc := "(II)I" } : Jvm.MethodName)) ∈ lw_all := lw_g (lw_at lw_m5 81 rfl) rfl
theorem q1159 : (Jvm.Cond.privateMethod ({ cls := "SeanceStreet$Walk", name := "passing", desc := "(II)I" } : Jvm.MethodName)) ∈ lw_tbl := lw_at lw_m5 82 rfl
theorem q1160 : (Jvm.Cond.instanceMethod ({ cls := "SeanceStreet$Walk", name := "passing", desc := "(II)I" } : Jvm.MethodName)) ∈ lw_all := lw_g (lw_at lw_m5 83 rfl) rfl
theorem q1161 : (Jvm.Cond.code ({ cls := "SeanceStreet$Walk", name := "passing", desc := "(II)I" } : Jvm.MethodName) prog_13_method_3_code (6 : Nat) (Option.some Jvm.ClassFile.FieldType.int)) ∈ lw_all := lw_g (lw_at lw_m5 84 rfl) rfl
theorem q1162 : (Jvm.Cond.methodLink "SeanceStreet$Walk" (69 : Nat) ({ cls := "SeanceStreet$Walk", name := "meet", desc := "(III)V" } : Jvm.MethodName)) ∈ lw_all := lw_g (lw_at lw_m5 85 rfl) rfl
theorem q1163 : (Jvm.Cond.privateMethod ({ cls := "SeanceStreet$Walk", name := "meet", desc := "(III)V" } : Jvm.MethodName)) ∈ lw_tbl := lw_at lw_m5 86 rfl
theorem q1164 : (Jvm.Cond.instanceMethod ({ cls := "SeanceStreet$Walk", name := "meet", desc := "(III)V" } : Jvm.MethodName)) ∈ lw_all := lw_g (lw_at lw_m5 87 rfl) rfl
theorem q1165 : (Jvm.Cond.code ({ cls := "SeanceStreet$Walk", name := "meet", desc := "(III)V" } : Jvm.MethodName) prog_13_method_4_code (5 : Nat) (Option.none : Option Jvm.ClassFile.FieldType)) ∈ lw_all := lw_g (lw_at lw_m5 88 rfl) rfl
theorem q1166 : (Jvm.Cond.methodLink "SeanceStreet$Walk" (73 : Nat) ({ cls := "java/lang/Math", name := "max", desc := "(II)I" } : Jvm.MethodName)) ∈ lw_all := lw_g (lw_at lw_m5 89 rfl) rfl
theorem q2208 : (Jvm.Cond.castable "SeanceStreet$Walk" "java/lang/Object") ∈ lw_tbl := lw_at lw_m9 171 rfl
theorem in_X5 : ∀ w ∈ wsX50, w ∈ lw_all := lw_in wsX50 [306, 308, 310, 312, 314, 316, 318, 320] (by decide +kernel) (by decide +kernel)
/-! SeanceStreet$Town -/
set_option maxRecDepth 100000
def RX7 : String := "SeanceStreet$Town"
def TX7 : u_T := fun k => match k with
  | 0 => ("SeanceStreet$Town", "people", "[LSeanceStreet$Person;", true)
  | 1 => ("SeanceStreet$Town", "ghosts", "[LSeanceStreet$Ghost;", true)
  | 2 => ("SeanceStreet$Town", "unsure", "[I", true)
  | 3 => ("SeanceStreet$Town", "heardBy", "[I", true)
  | 4 => ("SeanceStreet$Town", "heardOf", "[I", true)
  | 5 => ("SeanceStreet$Town", "heardIn", "[I", true)
  | 6 => ("SeanceStreet$Town", "houses", "I", false)
  | 7 => ("SeanceStreet$Town", "lips", "I", false)
  | 8 => ("SeanceStreet$Town", "peopleMany", "I", false)
  | 9 => ("SeanceStreet$Town", "ghostMany", "I", false)
  | 10 => ("SeanceStreet$Town", "unsureMany", "I", false)
  | _ => ("SeanceStreet$Town", "heardMany", "I", false)
def tyX7 : Nat → FieldType := fun k => match k with
  | 0 => .array (.object "SeanceStreet$Person")
  | 1 => .array (.object "SeanceStreet$Ghost")
  | 2 => .array .int
  | 3 => .array .int
  | 4 => .array .int
  | 5 => .array .int
  | 6 => .int
  | 7 => .int
  | 8 => .int
  | 9 => .int
  | 10 => .int
  | _ => .int
abbrev wsX70 : List Cond := u_ws RX7 TX7 12
theorem nmX7 : ∀ a, a < 12 → ∀ b, b < 12 → a ≠ b → (TX7 a).2.1 ≠ (TX7 b).2.1 := by decide +kernel
theorem tyX7_ok : ∀ k, k < 12 → parseFieldDescriptor (TX7 k).2.2.1 = some (tyX7 k) := by decide +kernel
abbrev cX7_init : ByteArray := prog_12_method_1_code
def yX7_init : MethodName := ⟨RX7, "<init>", "()V"⟩
def dkwX7_init_2 : List UInt8 := [188, 10, 181, 0, 33, 177]
abbrev dktX7_init_2 : List UInt8 := dkwX7_init_2 ++ []
def dkwX7_init_1 : List UInt8 := [188, 10, 181, 0, 23, 42, 16, 8, 188, 10, 181, 0, 27, 42, 16, 8, 188, 10, 181, 0, 30, 42, 16, 8]
abbrev dktX7_init_1 : List UInt8 := dkwX7_init_1 ++ dktX7_init_2
def dkwX7_init_0 : List UInt8 := [42, 183, 0, 3, 42, 16, 6, 189, 0, 9, 181, 0, 11, 42, 16, 6, 189, 0, 17, 181, 0, 19, 42, 7]
abbrev dktX7_init_0 : List UInt8 := dkwX7_init_0 ++ dktX7_init_1
theorem dksX7_init_0 : cX7_init.data.toList.drop 0 = dktX7_init_0 := by decide +kernel
theorem dksX7_init_1 : cX7_init.data.toList.drop 24 = dktX7_init_1 := dk_seg dksX7_init_0 24 rfl rfl
theorem dksX7_init_2 : cX7_init.data.toList.drop 48 = dktX7_init_2 := dk_seg dksX7_init_1 24 rfl rfl
theorem dX7_init_0 : decode cX7_init 0 = .ok (.aload_n 0, 1) := dk_42 (dk_at dksX7_init_0 0 rfl rfl)
theorem dX7_init_1 : decode cX7_init 1 = .ok (.invokespecial 3, 3) := dk_183 0 3 (dk_at dksX7_init_0 1 rfl rfl)
theorem dX7_init_4 : decode cX7_init 4 = .ok (.aload_n 0, 1) := dk_42 (dk_at dksX7_init_0 4 rfl rfl)
theorem dX7_init_5 : decode cX7_init 5 = .ok (.bipush 6, 2) := dk_16 6 (dk_at dksX7_init_0 5 rfl rfl)
theorem dX7_init_7 : decode cX7_init 7 = .ok (.anewarray 9, 3) := dk_189 0 9 (dk_at dksX7_init_0 7 rfl rfl)
theorem dX7_init_10 : decode cX7_init 10 = .ok (.putfield 11, 3) := dk_181 0 11 (dk_at dksX7_init_0 10 rfl rfl)
theorem dX7_init_13 : decode cX7_init 13 = .ok (.aload_n 0, 1) := dk_42 (dk_at dksX7_init_0 13 rfl rfl)
theorem dX7_init_14 : decode cX7_init 14 = .ok (.bipush 6, 2) := dk_16 6 (dk_at dksX7_init_0 14 rfl rfl)
theorem dX7_init_16 : decode cX7_init 16 = .ok (.anewarray 17, 3) := dk_189 0 17 (dk_at dksX7_init_0 16 rfl rfl)
theorem dX7_init_19 : decode cX7_init 19 = .ok (.putfield 19, 3) := dk_181 0 19 (dk_at dksX7_init_0 19 rfl rfl)
theorem dX7_init_22 : decode cX7_init 22 = .ok (.aload_n 0, 1) := dk_42 (dk_at dksX7_init_0 22 rfl rfl)
theorem dX7_init_23 : decode cX7_init 23 = .ok (.iconst 4, 1) := dk_7 (dk_at dksX7_init_0 23 rfl rfl)
theorem dX7_init_24 : decode cX7_init 24 = .ok (.newarray .int, 2) := dk_188_10 (dk_at dksX7_init_1 0 rfl rfl)
theorem dX7_init_26 : decode cX7_init 26 = .ok (.putfield 23, 3) := dk_181 0 23 (dk_at dksX7_init_1 2 rfl rfl)
theorem dX7_init_29 : decode cX7_init 29 = .ok (.aload_n 0, 1) := dk_42 (dk_at dksX7_init_1 5 rfl rfl)
theorem dX7_init_30 : decode cX7_init 30 = .ok (.bipush 8, 2) := dk_16 8 (dk_at dksX7_init_1 6 rfl rfl)
theorem dX7_init_32 : decode cX7_init 32 = .ok (.newarray .int, 2) := dk_188_10 (dk_at dksX7_init_1 8 rfl rfl)
theorem dX7_init_34 : decode cX7_init 34 = .ok (.putfield 27, 3) := dk_181 0 27 (dk_at dksX7_init_1 10 rfl rfl)
theorem dX7_init_37 : decode cX7_init 37 = .ok (.aload_n 0, 1) := dk_42 (dk_at dksX7_init_1 13 rfl rfl)
theorem dX7_init_38 : decode cX7_init 38 = .ok (.bipush 8, 2) := dk_16 8 (dk_at dksX7_init_1 14 rfl rfl)
theorem dX7_init_40 : decode cX7_init 40 = .ok (.newarray .int, 2) := dk_188_10 (dk_at dksX7_init_1 16 rfl rfl)
theorem dX7_init_42 : decode cX7_init 42 = .ok (.putfield 30, 3) := dk_181 0 30 (dk_at dksX7_init_1 18 rfl rfl)
theorem dX7_init_45 : decode cX7_init 45 = .ok (.aload_n 0, 1) := dk_42 (dk_at dksX7_init_1 21 rfl rfl)
theorem dX7_init_46 : decode cX7_init 46 = .ok (.bipush 8, 2) := dk_16 8 (dk_at dksX7_init_1 22 rfl rfl)
theorem dX7_init_48 : decode cX7_init 48 = .ok (.newarray .int, 2) := dk_188_10 (dk_at dksX7_init_2 0 rfl rfl)
theorem dX7_init_50 : decode cX7_init 50 = .ok (.putfield 33, 3) := dk_181 0 33 (dk_at dksX7_init_2 2 rfl rfl)
theorem dX7_init_53 : decode cX7_init 53 = .ok (.return_, 1) := dk_177 (dk_at dksX7_init_2 5 rfl rfl)
abbrev cX7_find : ByteArray := prog_12_method_3_code
def yX7_find : MethodName := ⟨RX7, "find", "(Ljava/lang/String;)LSeanceStreet$Named;"⟩
def dkwX7_find_1 : List UInt8 := [180, 0, 56, 43, 184, 0, 52, 167, 0, 4, 44, 176]
abbrev dktX7_find_1 : List UInt8 := dkwX7_find_1 ++ []
def dkwX7_find_0 : List UInt8 := [42, 180, 0, 11, 42, 180, 0, 48, 43, 184, 0, 52, 77, 44, 199, 0, 18, 42, 180, 0, 19, 42]
abbrev dktX7_find_0 : List UInt8 := dkwX7_find_0 ++ dktX7_find_1
theorem dksX7_find_0 : cX7_find.data.toList.drop 0 = dktX7_find_0 := by decide +kernel
theorem dksX7_find_1 : cX7_find.data.toList.drop 22 = dktX7_find_1 := dk_seg dksX7_find_0 22 rfl rfl
theorem dX7_find_0 : decode cX7_find 0 = .ok (.aload_n 0, 1) := dk_42 (dk_at dksX7_find_0 0 rfl rfl)
theorem dX7_find_1 : decode cX7_find 1 = .ok (.getfield 11, 3) := dk_180 0 11 (dk_at dksX7_find_0 1 rfl rfl)
theorem dX7_find_4 : decode cX7_find 4 = .ok (.aload_n 0, 1) := dk_42 (dk_at dksX7_find_0 4 rfl rfl)
theorem dX7_find_5 : decode cX7_find 5 = .ok (.getfield 48, 3) := dk_180 0 48 (dk_at dksX7_find_0 5 rfl rfl)
theorem dX7_find_8 : decode cX7_find 8 = .ok (.aload_n 1, 1) := dk_43 (dk_at dksX7_find_0 8 rfl rfl)
theorem dX7_find_9 : decode cX7_find 9 = .ok (.invokestatic 52, 3) := dk_184 0 52 (dk_at dksX7_find_0 9 rfl rfl)
theorem dX7_find_12 : decode cX7_find 12 = .ok (.astore_n 2, 1) := dk_77 (dk_at dksX7_find_0 12 rfl rfl)
theorem dX7_find_13 : decode cX7_find 13 = .ok (.aload_n 2, 1) := dk_44 (dk_at dksX7_find_0 13 rfl rfl)
theorem dX7_find_14 : decode cX7_find 14 = .ok (.ifnonnull 18, 3) := dk_199 0 18 (dk_at dksX7_find_0 14 rfl rfl)
theorem dX7_find_17 : decode cX7_find 17 = .ok (.aload_n 0, 1) := dk_42 (dk_at dksX7_find_0 17 rfl rfl)
theorem dX7_find_18 : decode cX7_find 18 = .ok (.getfield 19, 3) := dk_180 0 19 (dk_at dksX7_find_0 18 rfl rfl)
theorem dX7_find_21 : decode cX7_find 21 = .ok (.aload_n 0, 1) := dk_42 (dk_at dksX7_find_0 21 rfl rfl)
theorem dX7_find_22 : decode cX7_find 22 = .ok (.getfield 56, 3) := dk_180 0 56 (dk_at dksX7_find_1 0 rfl rfl)
theorem dX7_find_25 : decode cX7_find 25 = .ok (.aload_n 1, 1) := dk_43 (dk_at dksX7_find_1 3 rfl rfl)
theorem dX7_find_26 : decode cX7_find 26 = .ok (.invokestatic 52, 3) := dk_184 0 52 (dk_at dksX7_find_1 4 rfl rfl)
theorem dX7_find_29 : decode cX7_find 29 = .ok (.goto 4, 3) := dk_167 0 4 (dk_at dksX7_find_1 7 rfl rfl)
theorem dX7_find_32 : decode cX7_find 32 = .ok (.aload_n 2, 1) := dk_44 (dk_at dksX7_find_1 10 rfl rfl)
theorem dX7_find_33 : decode cX7_find 33 = .ok (.areturn, 1) := dk_176 (dk_at dksX7_find_1 11 rfl rfl)
abbrev cX7_among : ByteArray := prog_12_method_2_code
def yX7_among : MethodName := ⟨RX7, "among", "([LSeanceStreet$Named;ILjava/lang/String;)LSeanceStreet$Named;"⟩
def dkwX7_among_1 : List UInt8 := [132, 3, 1, 167, 255, 231, 1, 176]
abbrev dktX7_among_1 : List UInt8 := dkwX7_among_1 ++ []
def dkwX7_among_0 : List UInt8 := [3, 62, 29, 27, 162, 0, 26, 42, 29, 50, 180, 0, 36, 44, 182, 0, 42, 153, 0, 7, 42, 29, 50, 176]
abbrev dktX7_among_0 : List UInt8 := dkwX7_among_0 ++ dktX7_among_1
theorem dksX7_among_0 : cX7_among.data.toList.drop 0 = dktX7_among_0 := by decide +kernel
theorem dksX7_among_1 : cX7_among.data.toList.drop 24 = dktX7_among_1 := dk_seg dksX7_among_0 24 rfl rfl
theorem dX7_among_0 : decode cX7_among 0 = .ok (.iconst 0, 1) := dk_3 (dk_at dksX7_among_0 0 rfl rfl)
theorem dX7_among_1 : decode cX7_among 1 = .ok (.istore_n 3, 1) := dk_62 (dk_at dksX7_among_0 1 rfl rfl)
theorem dX7_among_2 : decode cX7_among 2 = .ok (.iload_n 3, 1) := dk_29 (dk_at dksX7_among_0 2 rfl rfl)
theorem dX7_among_3 : decode cX7_among 3 = .ok (.iload_n 1, 1) := dk_27 (dk_at dksX7_among_0 3 rfl rfl)
theorem dX7_among_4 : decode cX7_among 4 = .ok (.if_icmp .ge 26, 3) := dk_162 0 26 (dk_at dksX7_among_0 4 rfl rfl)
theorem dX7_among_7 : decode cX7_among 7 = .ok (.aload_n 0, 1) := dk_42 (dk_at dksX7_among_0 7 rfl rfl)
theorem dX7_among_8 : decode cX7_among 8 = .ok (.iload_n 3, 1) := dk_29 (dk_at dksX7_among_0 8 rfl rfl)
theorem dX7_among_9 : decode cX7_among 9 = .ok (.aaload, 1) := dk_50 (dk_at dksX7_among_0 9 rfl rfl)
theorem dX7_among_10 : decode cX7_among 10 = .ok (.getfield 36, 3) := dk_180 0 36 (dk_at dksX7_among_0 10 rfl rfl)
theorem dX7_among_13 : decode cX7_among 13 = .ok (.aload_n 2, 1) := dk_44 (dk_at dksX7_among_0 13 rfl rfl)
theorem dX7_among_14 : decode cX7_among 14 = .ok (.invokevirtual 42, 3) := dk_182 0 42 (dk_at dksX7_among_0 14 rfl rfl)
theorem dX7_among_17 : decode cX7_among 17 = .ok (.ifCond .eq 7, 3) := dk_153 0 7 (dk_at dksX7_among_0 17 rfl rfl)
theorem dX7_among_20 : decode cX7_among 20 = .ok (.aload_n 0, 1) := dk_42 (dk_at dksX7_among_0 20 rfl rfl)
theorem dX7_among_21 : decode cX7_among 21 = .ok (.iload_n 3, 1) := dk_29 (dk_at dksX7_among_0 21 rfl rfl)
theorem dX7_among_22 : decode cX7_among 22 = .ok (.aaload, 1) := dk_50 (dk_at dksX7_among_0 22 rfl rfl)
theorem dX7_among_23 : decode cX7_among 23 = .ok (.areturn, 1) := dk_176 (dk_at dksX7_among_0 23 rfl rfl)
theorem dX7_among_24 : decode cX7_among 24 = .ok (.iinc 3 1, 3) := dk_132 3 1 (dk_at dksX7_among_1 0 rfl rfl)
theorem dX7_among_27 : decode cX7_among 27 = .ok (.goto (-25), 3) := dk_167 255 231 (dk_at dksX7_among_1 3 rfl rfl)
theorem dX7_among_30 : decode cX7_among 30 = .ok (.aconst_null, 1) := dk_1 (dk_at dksX7_among_1 6 rfl rfl)
theorem dX7_among_31 : decode cX7_among 31 = .ok (.areturn, 1) := dk_176 (dk_at dksX7_among_1 7 rfl rfl)
abbrev cX7_between : ByteArray := prog_12_method_4_code
def yX7_between : MethodName := ⟨RX7, "between", "(II)I"⟩
def dkwX7_between_0 : List UInt8 := [27, 28, 100, 184, 0, 59, 62, 29, 42, 180, 0, 65, 29, 100, 184, 0, 68, 172]
abbrev dktX7_between_0 : List UInt8 := dkwX7_between_0 ++ []
theorem dksX7_between_0 : cX7_between.data.toList.drop 0 = dktX7_between_0 := by decide +kernel
theorem dX7_between_0 : decode cX7_between 0 = .ok (.iload_n 1, 1) := dk_27 (dk_at dksX7_between_0 0 rfl rfl)
theorem dX7_between_1 : decode cX7_between 1 = .ok (.iload_n 2, 1) := dk_28 (dk_at dksX7_between_0 1 rfl rfl)
theorem dX7_between_2 : decode cX7_between 2 = .ok (.isub, 1) := dk_100 (dk_at dksX7_between_0 2 rfl rfl)
theorem dX7_between_3 : decode cX7_between 3 = .ok (.invokestatic 59, 3) := dk_184 0 59 (dk_at dksX7_between_0 3 rfl rfl)
theorem dX7_between_6 : decode cX7_between 6 = .ok (.istore_n 3, 1) := dk_62 (dk_at dksX7_between_0 6 rfl rfl)
theorem dX7_between_7 : decode cX7_between 7 = .ok (.iload_n 3, 1) := dk_29 (dk_at dksX7_between_0 7 rfl rfl)
theorem dX7_between_8 : decode cX7_between 8 = .ok (.aload_n 0, 1) := dk_42 (dk_at dksX7_between_0 8 rfl rfl)
theorem dX7_between_9 : decode cX7_between 9 = .ok (.getfield 65, 3) := dk_180 0 65 (dk_at dksX7_between_0 9 rfl rfl)
theorem dX7_between_12 : decode cX7_between 12 = .ok (.iload_n 3, 1) := dk_29 (dk_at dksX7_between_0 12 rfl rfl)
theorem dX7_between_13 : decode cX7_between 13 = .ok (.isub, 1) := dk_100 (dk_at dksX7_between_0 13 rfl rfl)
theorem dX7_between_14 : decode cX7_between 14 = .ok (.invokestatic 68, 3) := dk_184 0 68 (dk_at dksX7_between_0 14 rfl rfl)
theorem dX7_between_17 : decode cX7_between 17 = .ok (.ireturn, 1) := dk_172 (dk_at dksX7_between_0 17 rfl rfl)
theorem q127 : (Jvm.Cond.initialized "SeanceStreet$Town") ∈ lw_all := lw_g (lw_at lw_m1 10 rfl) rfl
theorem q444 : (Jvm.Cond.instantiable "SeanceStreet$Town" (12 : Nat)) ∈ lw_all := lw_g (lw_at lw_m2 87 rfl) rfl
theorem q446 : (Jvm.Cond.instanceMethod ({ cls := "SeanceStreet$Town", name := "<init>", desc := "()V" } : Jvm.MethodName)) ∈ lw_all := lw_g (lw_at lw_m2 89 rfl) rfl
theorem q447 : (Jvm.Cond.code ({ cls := "SeanceStreet$Town", name := "<init>", desc := "()V" } : Jvm.MethodName) prog_12_method_1_code (1 : Nat) (Option.none : Option Jvm.ClassFile.FieldType)) ∈ lw_all := lw_g (lw_at lw_m2 90 rfl) rfl
theorem q448 : (Jvm.Cond.methodLink "SeanceStreet$Town" (3 : Nat) ({ cls := "java/lang/Object", name := "<init>", desc := "()V" } : Jvm.MethodName)) ∈ lw_all := lw_g (lw_at lw_m2 91 rfl) rfl
theorem q449 : (Jvm.Cond.classLink "SeanceStreet$Town" (9 : Nat) "SeanceStreet$Person") ∈ lw_all := lw_g (lw_at lw_m2 92 rfl) rfl
theorem q451 : (Jvm.Cond.classLink "SeanceStreet$Town" (17 : Nat) "SeanceStreet$Ghost") ∈ lw_all := lw_g (lw_at lw_m2 94 rfl) rfl
theorem q453 : (Jvm.Cond.fieldLink "SeanceStreet$Town" (11 : Nat) "SeanceStreet$Town" "people" "[LSeanceStreet$Person;") ∈ lw_all := lw_g (lw_at lw_m2 96 rfl) rfl
theorem q456 : (Jvm.Cond.fieldLink "SeanceStreet$Town" (19 : Nat) "SeanceStreet$Town" "ghosts" "[LSeanceStreet$Ghost;") ∈ lw_all := lw_g (lw_at lw_m2 99 rfl) rfl
theorem q461 : (Jvm.Cond.fieldLink "SeanceStreet$Town" (23 : Nat) "SeanceStreet$Town" "unsure" "[I") ∈ lw_all := lw_g (lw_at lw_m2 104 rfl) rfl
theorem q464 : (Jvm.Cond.fieldLink "SeanceStreet$Town" (27 : Nat) "SeanceStreet$Town" "heardBy" "[I") ∈ lw_all := lw_g (lw_at lw_m2 107 rfl) rfl
theorem q467 : (Jvm.Cond.fieldLink "SeanceStreet$Town" (30 : Nat) "SeanceStreet$Town" "heardOf" "[I") ∈ lw_all := lw_g (lw_at lw_m2 110 rfl) rfl
theorem q470 : (Jvm.Cond.fieldLink "SeanceStreet$Town" (33 : Nat) "SeanceStreet$Town" "heardIn" "[I") ∈ lw_all := lw_g (lw_at lw_m2 113 rfl) rfl
theorem q473 : (Jvm.Cond.fieldLink "SeanceStreet$Town" (65 : Nat) "SeanceStreet$Town" "houses" "I") ∈ lw_all := lw_g (lw_at lw_m2 116 rfl) rfl
theorem q480 : (Jvm.Cond.fieldLink "SeanceStreet$Town" (48 : Nat) "SeanceStreet$Town" "peopleMany" "I") ∈ lw_all := lw_g (lw_at lw_m2 123 rfl) rfl
theorem q485 : (Jvm.Cond.fieldLink "SeanceStreet$Town" (56 : Nat) "SeanceStreet$Town" "ghostMany" "I") ∈ lw_all := lw_g (lw_at lw_m2 128 rfl) rfl
theorem q492 : (Jvm.Cond.laysFinal "SeanceStreet$Town" "SeanceStreet$Town" "people" "[LSeanceStreet$Person;") ∈ lw_all := lw_g (lw_at lw_m2 135 rfl) rfl
theorem q493 : (Jvm.Cond.soleField "SeanceStreet$Town" "people") ∈ lw_all := lw_g (lw_at lw_m2 136 rfl) rfl
theorem q494 : (Jvm.Cond.laysFinal "SeanceStreet$Town" "SeanceStreet$Town" "ghosts" "[LSeanceStreet$Ghost;") ∈ lw_all := lw_g (lw_at lw_m2 137 rfl) rfl
theorem q495 : (Jvm.Cond.soleField "SeanceStreet$Town" "ghosts") ∈ lw_all := lw_g (lw_at lw_m2 138 rfl) rfl
theorem q496 : (Jvm.Cond.laysFinal "SeanceStreet$Town" "SeanceStreet$Town" "unsure" "[I") ∈ lw_all := lw_g (lw_at lw_m2 139 rfl) rfl
theorem q497 : (Jvm.Cond.soleField "SeanceStreet$Town" "unsure") ∈ lw_all := lw_g (lw_at lw_m2 140 rfl) rfl
theorem q498 : (Jvm.Cond.laysFinal "SeanceStreet$Town" "SeanceStreet$Town" "heardBy" "[I") ∈ lw_all := lw_g (lw_at lw_m2 141 rfl) rfl
theorem q499 : (Jvm.Cond.soleField "SeanceStreet$Town" "heardBy") ∈ lw_all := lw_g (lw_at lw_m2 142 rfl) rfl
theorem q500 : (Jvm.Cond.laysFinal "SeanceStreet$Town" "SeanceStreet$Town" "heardOf" "[I") ∈ lw_all := lw_g (lw_at lw_m2 143 rfl) rfl
theorem q501 : (Jvm.Cond.soleField "SeanceStreet$Town" "heardOf") ∈ lw_all := lw_g (lw_at lw_m2 144 rfl) rfl
theorem q502 : (Jvm.Cond.laysFinal "SeanceStreet$Town" "SeanceStreet$Town" "heardIn" "[I") ∈ lw_all := lw_g (lw_at lw_m2 145 rfl) rfl
theorem q503 : (Jvm.Cond.soleField "SeanceStreet$Town" "heardIn") ∈ lw_all := lw_g (lw_at lw_m2 146 rfl) rfl
theorem q504 : (Jvm.Cond.lays "SeanceStreet$Town" "SeanceStreet$Town" "houses" "I") ∈ lw_all := lw_g (lw_at lw_m2 147 rfl) rfl
theorem q505 : (Jvm.Cond.soleField "SeanceStreet$Town" "houses") ∈ lw_all := lw_g (lw_at lw_m2 148 rfl) rfl
theorem q506 : (Jvm.Cond.lays "SeanceStreet$Town" "SeanceStreet$Town" "lips" "I") ∈ lw_all := lw_g (lw_at lw_m2 149 rfl) rfl
theorem q507 : (Jvm.Cond.soleField "SeanceStreet$Town" "lips") ∈ lw_all := lw_g (lw_at lw_m2 150 rfl) rfl
theorem q508 : (Jvm.Cond.lays "SeanceStreet$Town" "SeanceStreet$Town" "peopleMany" "I") ∈ lw_all := lw_g (lw_at lw_m2 151 rfl) rfl
theorem q509 : (Jvm.Cond.soleField "SeanceStreet$Town" "peopleMany") ∈ lw_all := lw_g (lw_at lw_m2 152 rfl) rfl
theorem q510 : (Jvm.Cond.lays "SeanceStreet$Town" "SeanceStreet$Town" "ghostMany" "I") ∈ lw_all := lw_g (lw_at lw_m2 153 rfl) rfl
theorem q511 : (Jvm.Cond.soleField "SeanceStreet$Town" "ghostMany") ∈ lw_all := lw_g (lw_at lw_m2 154 rfl) rfl
theorem q512 : (Jvm.Cond.lays "SeanceStreet$Town" "SeanceStreet$Town" "unsureMany" "I") ∈ lw_all := lw_g (lw_at lw_m2 155 rfl) rfl
theorem q513 : (Jvm.Cond.soleField "SeanceStreet$Town" "unsureMany") ∈ lw_all := lw_g (lw_at lw_m2 156 rfl) rfl
theorem q514 : (Jvm.Cond.lays "SeanceStreet$Town" "SeanceStreet$Town" "heardMany" "I") ∈ lw_all := lw_g (lw_at lw_m2 157 rfl) rfl
theorem q515 : (Jvm.Cond.soleField "SeanceStreet$Town" "heardMany") ∈ lw_all := lw_g (lw_at lw_m2 158 rfl) rfl
theorem q516 : (Jvm.Cond.superclass "SeanceStreet$Town" "java/lang/Object") ∈ lw_all := lw_g (lw_at lw_m2 159 rfl) rfl
theorem q735 : (Jvm.Cond.instanceMethod ({ cls := "SeanceStreet$Town", name := "find", desc := "(Ljava/lang/String;)LSeanceStreet$Named;" } : Jvm.MethodName)) ∈ lw_all := lw_g (lw_at lw_m3 138 rfl) rfl
theorem q736 : (Jvm.Cond.selects "SeanceStreet$Town" ({ cls := "SeanceStreet$Town", name := "find", desc := "(Ljava/lang/String;)LSeanceStreet$Named;" } : Jvm.MethodName) ({ cls := "SeanceStreet$Town", name := "find", desc := "(Ljava/lang/String;)LSeanceStreet$Named;" } : Jvm.MethodName)) ∈ lw_all := lw_g (lw_at lw_m3 139 rfl) rfl
theorem q737 : (Jvm.Cond.code ({ cls := "SeanceStreet$Town", name := "find", desc := "(Ljava/lang/String;)LSeanceStreet$Named;" } : Jvm.MethodName) prog_12_method_3_code (3 : Nat) (Option.some (Jvm.ClassFile.FieldType.object "SeanceStreet$Named"))) ∈ lw_all := lw_g (lw_at lw_m3 140 rfl) rfl
theorem q738 : (Jvm.Cond.methodLink "SeanceStreet$Town" (52 : Nat) ({ cls := "SeanceStreet$Town", name := "among", desc := "([LSeanceStreet$Named;ILjava/lang/String;)LSeanceStreet$Named;" } : Jvm.MethodName)) ∈ lw_all := lw_g (lw_at lw_m3 141 rfl) rfl
theorem q739 : (Jvm.Cond.static ({ cls := "SeanceStreet$Town", name := "among", desc := "([LSeanceStreet$Named;ILjava/lang/String;)LSeanceStreet$Named;" } : Jvm.MethodName)) ∈ lw_all := lw_g (lw_at lw_m3 142 rfl) rfl
theorem q740 : (Jvm.Cond.code ({ cls := "SeanceStreet$Town", name := "among", desc := "([LSeanceStreet$Named;ILjava/lang/String;)LSeanceStreet$Named;" } : Jvm.MethodName) prog_12_method_2_code (4 : Nat) (Option.some (Jvm.ClassFile.FieldType.object "SeanceStreet$Named"))) ∈ lw_all := lw_g (lw_at lw_m3 143 rfl) rfl
theorem q741 : (Jvm.Cond.methodLink "SeanceStreet$Town" (42 : Nat) ({ cls := "java/lang/String", name := "equals", desc := "(Ljava/lang/Object;)Z" } : Jvm.MethodName)) ∈ lw_all := lw_g (lw_at lw_m3 144 rfl) rfl
theorem q752 : (Jvm.Cond.fieldLink "SeanceStreet$Town" (36 : Nat) "SeanceStreet$Named" "name" "Ljava/lang/String;") ∈ lw_all := lw_g (lw_at lw_m3 155 rfl) rfl
theorem q1179 : (Jvm.Cond.instanceMethod ({ cls := "SeanceStreet$Town", name := "between", desc := "(II)I" } : Jvm.MethodName)) ∈ lw_all := lw_g (lw_at lw_m5 102 rfl) rfl
theorem q1180 : (Jvm.Cond.selects "SeanceStreet$Town" ({ cls := "SeanceStreet$Town", name := "between", desc := "(II)I" } : Jvm.MethodName) ({ cls := "SeanceStreet$Town", name := "between", desc := "(II)I" } : Jvm.MethodName)) ∈ lw_all := lw_g (lw_at lw_m5 103 rfl) rfl
theorem q1181 : (Jvm.Cond.code ({ cls := "SeanceStreet$Town", name := "between", desc := "(II)I" } : Jvm.MethodName) prog_12_method_4_code (4 : Nat) (Option.some Jvm.ClassFile.FieldType.int)) ∈ lw_all := lw_g (lw_at lw_m5 104 rfl) rfl
theorem q1182 : (Jvm.Cond.methodLink "SeanceStreet$Town" (59 : Nat) ({ cls := "java/lang/Math", name := "abs", desc := "(I)I" } : Jvm.MethodName)) ∈ lw_all := lw_g (lw_at lw_m5 105 rfl) rfl
theorem q1185 : (Jvm.Cond.methodLink "SeanceStreet$Town" (68 : Nat) ({ cls := "java/lang/Math", name := "min", desc := "(II)I" } : Jvm.MethodName)) ∈ lw_all := lw_g (lw_at lw_m5 108 rfl) rfl
theorem q2210 : (Jvm.Cond.castable "SeanceStreet$Town" "java/lang/Object") ∈ lw_tbl := lw_at lw_m9 173 rfl
theorem in_X7 : ∀ w ∈ wsX70, w ∈ lw_all := lw_in wsX70 [492, 494, 496, 498, 500, 502, 504, 506, 508, 510, 512, 514] (by decide +kernel) (by decide +kernel)
/-! SeanceStreet$Named -/
set_option maxRecDepth 100000
def RX8 : String := "SeanceStreet$Named"
abbrev cX8_init : ByteArray := prog_6_method_1_code
def yX8_init : MethodName := ⟨RX8, "<init>", "(Ljava/lang/String;I)V"⟩
def dkwX8_init_0 : List UInt8 := [42, 183, 0, 1, 42, 43, 181, 0, 7, 42, 28, 181, 0, 13, 177]
abbrev dktX8_init_0 : List UInt8 := dkwX8_init_0 ++ []
theorem dksX8_init_0 : cX8_init.data.toList.drop 0 = dktX8_init_0 := by decide +kernel
theorem dX8_init_0 : decode cX8_init 0 = .ok (.aload_n 0, 1) := dk_42 (dk_at dksX8_init_0 0 rfl rfl)
theorem dX8_init_1 : decode cX8_init 1 = .ok (.invokespecial 1, 3) := dk_183 0 1 (dk_at dksX8_init_0 1 rfl rfl)
theorem dX8_init_4 : decode cX8_init 4 = .ok (.aload_n 0, 1) := dk_42 (dk_at dksX8_init_0 4 rfl rfl)
theorem dX8_init_5 : decode cX8_init 5 = .ok (.aload_n 1, 1) := dk_43 (dk_at dksX8_init_0 5 rfl rfl)
theorem dX8_init_6 : decode cX8_init 6 = .ok (.putfield 7, 3) := dk_181 0 7 (dk_at dksX8_init_0 6 rfl rfl)
theorem dX8_init_9 : decode cX8_init 9 = .ok (.aload_n 0, 1) := dk_42 (dk_at dksX8_init_0 9 rfl rfl)
theorem dX8_init_10 : decode cX8_init 10 = .ok (.iload_n 2, 1) := dk_28 (dk_at dksX8_init_0 10 rfl rfl)
theorem dX8_init_11 : decode cX8_init 11 = .ok (.putfield 13, 3) := dk_181 0 13 (dk_at dksX8_init_0 11 rfl rfl)
theorem dX8_init_14 : decode cX8_init 14 = .ok (.return_, 1) := dk_177 (dk_at dksX8_init_0 14 rfl rfl)
theorem q133 : (Jvm.Cond.initialized "SeanceStreet$Named") ∈ lw_all := lw_g (lw_at lw_m1 16 rfl) rfl
theorem q746 : (Jvm.Cond.instanceMethod ({ cls := "SeanceStreet$Named", name := "<init>", desc := "(Ljava/lang/String;I)V" } : Jvm.MethodName)) ∈ lw_all := lw_g (lw_at lw_m3 149 rfl) rfl
theorem q747 : (Jvm.Cond.code ({ cls := "SeanceStreet$Named", name := "<init>", desc := "(Ljava/lang/String;I)V" } : Jvm.MethodName) prog_6_method_1_code (3 : Nat) (Option.none : Option Jvm.ClassFile.FieldType)) ∈ lw_all := lw_g (lw_at lw_m3 150 rfl) rfl
theorem q748 : (Jvm.Cond.methodLink "SeanceStreet$Named" (1 : Nat) ({ cls := "java/lang/Object", name := "<init>", desc := "()V" } : Jvm.MethodName)) ∈ lw_all := lw_g (lw_at lw_m3 151 rfl) rfl
theorem q751 : (Jvm.Cond.fieldLink "SeanceStreet$Named" (7 : Nat) "SeanceStreet$Named" "name" "Ljava/lang/String;") ∈ lw_all := lw_g (lw_at lw_m3 154 rfl) rfl
theorem q753 : (Jvm.Cond.fieldLink "SeanceStreet$Named" (13 : Nat) "SeanceStreet$Named" "number" "I") ∈ lw_all := lw_g (lw_at lw_m3 156 rfl) rfl
theorem q761 : (Jvm.Cond.soleField "SeanceStreet$Named" "name") ∈ lw_all := lw_g (lw_at lw_m3 164 rfl) rfl
theorem q763 : (Jvm.Cond.soleField "SeanceStreet$Named" "number") ∈ lw_all := lw_g (lw_at lw_m3 166 rfl) rfl
/-! SeanceStreet$Person -/
set_option maxRecDepth 100000
def RX9 : String := "SeanceStreet$Person"
def TX9 : u_T := fun k => match k with
  | 0 => ("SeanceStreet$Named", "name", "Ljava/lang/String;", true)
  | 1 => ("SeanceStreet$Named", "number", "I", true)
  | _ => ("SeanceStreet$Person", "home", "I", false)
def tyX9 : Nat → FieldType := fun k => match k with
  | 0 => .object "java/lang/String"
  | 1 => .int
  | _ => .int
abbrev wsX90 : List Cond := u_ws RX9 TX9 3
theorem nmX9 : ∀ a, a < 3 → ∀ b, b < 3 → a ≠ b → (TX9 a).2.1 ≠ (TX9 b).2.1 := by decide +kernel
theorem tyX9_ok : ∀ k, k < 3 → parseFieldDescriptor (TX9 k).2.2.1 = some (tyX9 k) := by decide +kernel
abbrev cX9_init : ByteArray := prog_7_method_1_code
def yX9_init : MethodName := ⟨RX9, "<init>", "(Ljava/lang/String;I)V"⟩
def dkwX9_init_0 : List UInt8 := [42, 43, 28, 183, 0, 1, 177]
abbrev dktX9_init_0 : List UInt8 := dkwX9_init_0 ++ []
theorem dksX9_init_0 : cX9_init.data.toList.drop 0 = dktX9_init_0 := by decide +kernel
theorem dX9_init_0 : decode cX9_init 0 = .ok (.aload_n 0, 1) := dk_42 (dk_at dksX9_init_0 0 rfl rfl)
theorem dX9_init_1 : decode cX9_init 1 = .ok (.aload_n 1, 1) := dk_43 (dk_at dksX9_init_0 1 rfl rfl)
theorem dX9_init_2 : decode cX9_init 2 = .ok (.iload_n 2, 1) := dk_28 (dk_at dksX9_init_0 2 rfl rfl)
theorem dX9_init_3 : decode cX9_init 3 = .ok (.invokespecial 1, 3) := dk_183 0 1 (dk_at dksX9_init_0 3 rfl rfl)
theorem dX9_init_6 : decode cX9_init 6 = .ok (.return_, 1) := dk_177 (dk_at dksX9_init_0 6 rfl rfl)
theorem q134 : (Jvm.Cond.initialized "SeanceStreet$Person") ∈ lw_all := lw_g (lw_at lw_m1 17 rfl) rfl
theorem q725 : (Jvm.Cond.instantiable "SeanceStreet$Person" (3 : Nat)) ∈ lw_all := lw_g (lw_at lw_m3 128 rfl) rfl
theorem q743 : (Jvm.Cond.instanceMethod ({ cls := "SeanceStreet$Person", name := "<init>", desc := "(Ljava/lang/String;I)V" } : Jvm.MethodName)) ∈ lw_all := lw_g (lw_at lw_m3 146 rfl) rfl
theorem q744 : (Jvm.Cond.code ({ cls := "SeanceStreet$Person", name := "<init>", desc := "(Ljava/lang/String;I)V" } : Jvm.MethodName) prog_7_method_1_code (3 : Nat) (Option.none : Option Jvm.ClassFile.FieldType)) ∈ lw_all := lw_g (lw_at lw_m3 147 rfl) rfl
theorem q745 : (Jvm.Cond.methodLink "SeanceStreet$Person" (1 : Nat) ({ cls := "SeanceStreet$Named", name := "<init>", desc := "(Ljava/lang/String;I)V" } : Jvm.MethodName)) ∈ lw_all := lw_g (lw_at lw_m3 148 rfl) rfl
theorem q755 : (Jvm.Cond.sameField "SeanceStreet$Person" "SeanceStreet$Named" "number" "I") ∈ lw_all := lw_g (lw_at lw_m3 158 rfl) rfl
theorem q758 : (Jvm.Cond.lays "SeanceStreet$Person" "SeanceStreet$Person" "home" "I") ∈ lw_all := lw_g (lw_at lw_m3 161 rfl) rfl
theorem q759 : (Jvm.Cond.soleField "SeanceStreet$Person" "home") ∈ lw_all := lw_g (lw_at lw_m3 162 rfl) rfl
theorem q760 : (Jvm.Cond.laysFinal "SeanceStreet$Person" "SeanceStreet$Named" "name" "Ljava/lang/String;") ∈ lw_all := lw_g (lw_at lw_m3 163 rfl) rfl
theorem q762 : (Jvm.Cond.laysFinal "SeanceStreet$Person" "SeanceStreet$Named" "number" "I") ∈ lw_all := lw_g (lw_at lw_m3 165 rfl) rfl
theorem q764 : (Jvm.Cond.superclass "SeanceStreet$Person" "SeanceStreet$Named") ∈ lw_all := lw_g (lw_at lw_m3 167 rfl) rfl
theorem q2213 : (Jvm.Cond.castable "SeanceStreet$Person" "java/lang/Object") ∈ lw_tbl := lw_at lw_m9 176 rfl
theorem in_X9 : ∀ w ∈ wsX90, w ∈ lw_all := lw_in wsX90 [760, 762, 758] (by decide +kernel) (by decide +kernel)
/-! SeanceStreet$Ghost -/
set_option maxRecDepth 100000
def RX10 : String := "SeanceStreet$Ghost"
abbrev cX10_init : ByteArray := prog_4_method_1_code
def yX10_init : MethodName := ⟨RX10, "<init>", "(Ljava/lang/String;I)V"⟩
def dkwX10_init_0 : List UInt8 := [42, 43, 28, 183, 0, 3, 42, 16, 254, 181, 0, 9, 42, 2, 181, 0, 15, 177]
abbrev dktX10_init_0 : List UInt8 := dkwX10_init_0 ++ []
theorem dksX10_init_0 : cX10_init.data.toList.drop 0 = dktX10_init_0 := by decide +kernel
theorem dX10_init_0 : decode cX10_init 0 = .ok (.aload_n 0, 1) := dk_42 (dk_at dksX10_init_0 0 rfl rfl)
theorem dX10_init_1 : decode cX10_init 1 = .ok (.aload_n 1, 1) := dk_43 (dk_at dksX10_init_0 1 rfl rfl)
theorem dX10_init_2 : decode cX10_init 2 = .ok (.iload_n 2, 1) := dk_28 (dk_at dksX10_init_0 2 rfl rfl)
theorem dX10_init_3 : decode cX10_init 3 = .ok (.invokespecial 3, 3) := dk_183 0 3 (dk_at dksX10_init_0 3 rfl rfl)
theorem dX10_init_6 : decode cX10_init 6 = .ok (.aload_n 0, 1) := dk_42 (dk_at dksX10_init_0 6 rfl rfl)
theorem dX10_init_7 : decode cX10_init 7 = .ok (.bipush (-2), 2) := dk_16 254 (dk_at dksX10_init_0 7 rfl rfl)
theorem dX10_init_9 : decode cX10_init 9 = .ok (.putfield 9, 3) := dk_181 0 9 (dk_at dksX10_init_0 9 rfl rfl)
theorem dX10_init_12 : decode cX10_init 12 = .ok (.aload_n 0, 1) := dk_42 (dk_at dksX10_init_0 12 rfl rfl)
theorem dX10_init_13 : decode cX10_init 13 = .ok (.iconst (-1), 1) := dk_2 (dk_at dksX10_init_0 13 rfl rfl)
theorem dX10_init_14 : decode cX10_init 14 = .ok (.putfield 15, 3) := dk_181 0 15 (dk_at dksX10_init_0 14 rfl rfl)
theorem dX10_init_17 : decode cX10_init 17 = .ok (.return_, 1) := dk_177 (dk_at dksX10_init_0 17 rfl rfl)
abbrev cX10_rounds : ByteArray := prog_4_method_4_code
def yX10_rounds : MethodName := ⟨RX10, "rounds", "(II)I"⟩
theorem dX10_rounds_0 : decode cX10_rounds 0 = .ok (.iconst 1, 1) := by decide +kernel
theorem dX10_rounds_1 : decode cX10_rounds 1 = .ok (.ireturn, 1) := by decide +kernel
theorem q135 : (Jvm.Cond.initialized "SeanceStreet$Ghost") ∈ lw_all := lw_g (lw_at lw_m1 18 rfl) rfl
theorem q757 : (Jvm.Cond.sameField "SeanceStreet$Ghost" "SeanceStreet$Named" "number" "I") ∈ lw_all := lw_g (lw_at lw_m3 160 rfl) rfl
theorem q781 : (Jvm.Cond.instanceMethod ({ cls := "SeanceStreet$Ghost", name := "<init>", desc := "(Ljava/lang/String;I)V" } : Jvm.MethodName)) ∈ lw_all := lw_g (lw_at lw_m3 184 rfl) rfl
theorem q782 : (Jvm.Cond.code ({ cls := "SeanceStreet$Ghost", name := "<init>", desc := "(Ljava/lang/String;I)V" } : Jvm.MethodName) prog_4_method_1_code (3 : Nat) (Option.none : Option Jvm.ClassFile.FieldType)) ∈ lw_all := lw_g (lw_at lw_m3 185 rfl) rfl
theorem q783 : (Jvm.Cond.methodLink "SeanceStreet$Ghost" (3 : Nat) ({ cls := "SeanceStreet$Named", name := "<init>", desc := "(Ljava/lang/String;I)V" } : Jvm.MethodName)) ∈ lw_all := lw_g (lw_at lw_m3 186 rfl) rfl
theorem q790 : (Jvm.Cond.fieldLink "SeanceStreet$Ghost" (9 : Nat) "SeanceStreet$Ghost" "mirror" "I") ∈ lw_all := lw_g (lw_at lw_m3 193 rfl) rfl
theorem q793 : (Jvm.Cond.fieldLink "SeanceStreet$Ghost" (15 : Nat) "SeanceStreet$Ghost" "other" "I") ∈ lw_all := lw_g (lw_at lw_m3 196 rfl) rfl
theorem q797 : (Jvm.Cond.soleField "SeanceStreet$Ghost" "slip") ∈ lw_all := lw_g (lw_at lw_m3 200 rfl) rfl
theorem q799 : (Jvm.Cond.soleField "SeanceStreet$Ghost" "whose") ∈ lw_all := lw_g (lw_at lw_m3 202 rfl) rfl
theorem q801 : (Jvm.Cond.soleField "SeanceStreet$Ghost" "mirror") ∈ lw_all := lw_g (lw_at lw_m3 204 rfl) rfl
theorem q803 : (Jvm.Cond.soleField "SeanceStreet$Ghost" "other") ∈ lw_all := lw_g (lw_at lw_m3 206 rfl) rfl
theorem q914 : (Jvm.Cond.declares ({ cls := "SeanceStreet$Ghost", name := "slips", desc := "(II)I" } : Jvm.MethodName)) ∈ lw_tbl := lw_at lw_m4 77 rfl
theorem q915 : (Jvm.Cond.sameMethod "SeanceStreet$Ghost" "SeanceStreet$Ghost" "slips" "(II)I") ∈ lw_all := lw_g (lw_at lw_m4 78 rfl) rfl
theorem q950 : (Jvm.Cond.declares ({ cls := "SeanceStreet$Ghost", name := "law", desc := "()I" } : Jvm.MethodName)) ∈ lw_tbl := lw_at lw_m4 113 rfl
theorem q951 : (Jvm.Cond.sameMethod "SeanceStreet$Ghost" "SeanceStreet$Ghost" "law" "()I") ∈ lw_all := lw_g (lw_at lw_m4 114 rfl) rfl
theorem q1040 : (Jvm.Cond.instanceMethod ({ cls := "SeanceStreet$Ghost", name := "rounds", desc := "(II)I" } : Jvm.MethodName)) ∈ lw_all := lw_g (lw_at lw_m4 203 rfl) rfl
theorem q1041 : (Jvm.Cond.sameMethod "SeanceStreet$Ghost" "SeanceStreet$Ghost" "rounds" "(II)I") ∈ lw_all := lw_g (lw_at lw_m4 204 rfl) rfl
theorem q1054 : (Jvm.Cond.code ({ cls := "SeanceStreet$Ghost", name := "rounds", desc := "(II)I" } : Jvm.MethodName) prog_4_method_4_code (3 : Nat) (Option.some Jvm.ClassFile.FieldType.int)) ∈ lw_all := lw_g (lw_at lw_m4 217 rfl) rfl
/-! SeanceStreet$Late -/
set_option maxRecDepth 100000
def RX11 : String := "SeanceStreet$Late"
def TX11 : u_T := fun k => match k with
  | 0 => ("SeanceStreet$Ghost", "slip", "I", false)
  | 1 => ("SeanceStreet$Ghost", "whose", "I", false)
  | 2 => ("SeanceStreet$Ghost", "mirror", "I", false)
  | 3 => ("SeanceStreet$Ghost", "other", "I", false)
  | 4 => ("SeanceStreet$Named", "name", "Ljava/lang/String;", true)
  | _ => ("SeanceStreet$Named", "number", "I", true)
def tyX11 : Nat → FieldType := fun k => match k with
  | 0 => .int
  | 1 => .int
  | 2 => .int
  | 3 => .int
  | 4 => .object "java/lang/String"
  | _ => .int
abbrev wsX110 : List Cond := u_ws RX11 TX11 6
theorem nmX11 : ∀ a, a < 6 → ∀ b, b < 6 → a ≠ b → (TX11 a).2.1 ≠ (TX11 b).2.1 := by decide +kernel
theorem tyX11_ok : ∀ k, k < 6 → parseFieldDescriptor (TX11 k).2.2.1 = some (tyX11 k) := by decide +kernel
abbrev cX11_init : ByteArray := prog_5_method_1_code
def yX11_init : MethodName := ⟨RX11, "<init>", "(Ljava/lang/String;I)V"⟩
def dkwX11_init_0 : List UInt8 := [42, 43, 28, 183, 0, 1, 177]
abbrev dktX11_init_0 : List UInt8 := dkwX11_init_0 ++ []
theorem dksX11_init_0 : cX11_init.data.toList.drop 0 = dktX11_init_0 := by decide +kernel
theorem dX11_init_0 : decode cX11_init 0 = .ok (.aload_n 0, 1) := dk_42 (dk_at dksX11_init_0 0 rfl rfl)
theorem dX11_init_1 : decode cX11_init 1 = .ok (.aload_n 1, 1) := dk_43 (dk_at dksX11_init_0 1 rfl rfl)
theorem dX11_init_2 : decode cX11_init 2 = .ok (.iload_n 2, 1) := dk_28 (dk_at dksX11_init_0 2 rfl rfl)
theorem dX11_init_3 : decode cX11_init 3 = .ok (.invokespecial 1, 3) := dk_183 0 1 (dk_at dksX11_init_0 3 rfl rfl)
theorem dX11_init_6 : decode cX11_init 6 = .ok (.return_, 1) := dk_177 (dk_at dksX11_init_0 6 rfl rfl)
abbrev cX11_slips : ByteArray := prog_5_method_3_code
def yX11_slips : MethodName := ⟨RX11, "slips", "(II)I"⟩
theorem dX11_slips_0 : decode cX11_slips 0 = .ok (.iload_n 1, 1) := by decide +kernel
theorem dX11_slips_1 : decode cX11_slips 1 = .ok (.ireturn, 1) := by decide +kernel
abbrev cX11_law : ByteArray := prog_5_method_2_code
def yX11_law : MethodName := ⟨RX11, "law", "()I"⟩
theorem dX11_law_0 : decode cX11_law 0 = .ok (.iconst 0, 1) := by decide +kernel
theorem dX11_law_1 : decode cX11_law 1 = .ok (.ireturn, 1) := by decide +kernel
theorem q136 : (Jvm.Cond.initialized "SeanceStreet$Late") ∈ lw_all := lw_g (lw_at lw_m1 19 rfl) rfl
theorem q776 : (Jvm.Cond.instantiable "SeanceStreet$Late" (6 : Nat)) ∈ lw_all := lw_g (lw_at lw_m3 179 rfl) rfl
theorem q778 : (Jvm.Cond.instanceMethod ({ cls := "SeanceStreet$Late", name := "<init>", desc := "(Ljava/lang/String;I)V" } : Jvm.MethodName)) ∈ lw_all := lw_g (lw_at lw_m3 181 rfl) rfl
theorem q779 : (Jvm.Cond.code ({ cls := "SeanceStreet$Late", name := "<init>", desc := "(Ljava/lang/String;I)V" } : Jvm.MethodName) prog_5_method_1_code (3 : Nat) (Option.none : Option Jvm.ClassFile.FieldType)) ∈ lw_all := lw_g (lw_at lw_m3 182 rfl) rfl
theorem q780 : (Jvm.Cond.methodLink "SeanceStreet$Late" (1 : Nat) ({ cls := "SeanceStreet$Ghost", name := "<init>", desc := "(Ljava/lang/String;I)V" } : Jvm.MethodName)) ∈ lw_all := lw_g (lw_at lw_m3 183 rfl) rfl
theorem q796 : (Jvm.Cond.lays "SeanceStreet$Late" "SeanceStreet$Ghost" "slip" "I") ∈ lw_all := lw_g (lw_at lw_m3 199 rfl) rfl
theorem q798 : (Jvm.Cond.lays "SeanceStreet$Late" "SeanceStreet$Ghost" "whose" "I") ∈ lw_all := lw_g (lw_at lw_m3 201 rfl) rfl
theorem q800 : (Jvm.Cond.lays "SeanceStreet$Late" "SeanceStreet$Ghost" "mirror" "I") ∈ lw_all := lw_g (lw_at lw_m3 203 rfl) rfl
theorem q802 : (Jvm.Cond.lays "SeanceStreet$Late" "SeanceStreet$Ghost" "other" "I") ∈ lw_all := lw_g (lw_at lw_m3 205 rfl) rfl
theorem q804 : (Jvm.Cond.laysFinal "SeanceStreet$Late" "SeanceStreet$Named" "name" "Ljava/lang/String;") ∈ lw_all := lw_g (lw_at lw_m3 207 rfl) rfl
theorem q805 : (Jvm.Cond.laysFinal "SeanceStreet$Late" "SeanceStreet$Named" "number" "I") ∈ lw_all := lw_g (lw_at lw_m3 208 rfl) rfl
theorem q806 : (Jvm.Cond.superclass "SeanceStreet$Late" "SeanceStreet$Ghost") ∈ lw_all := lw_g (lw_at lw_m3 209 rfl) rfl
theorem q923 : (Jvm.Cond.instanceMethod ({ cls := "SeanceStreet$Late", name := "slips", desc := "(II)I" } : Jvm.MethodName)) ∈ lw_all := lw_g (lw_at lw_m4 86 rfl) rfl
theorem q924 : (Jvm.Cond.code ({ cls := "SeanceStreet$Late", name := "slips", desc := "(II)I" } : Jvm.MethodName) prog_5_method_3_code (3 : Nat) (Option.some Jvm.ClassFile.FieldType.int)) ∈ lw_all := lw_g (lw_at lw_m4 87 rfl) rfl
theorem q925 : (Jvm.Cond.selects "SeanceStreet$Late" ({ cls := "SeanceStreet$Ghost", name := "slips", desc := "(II)I" } : Jvm.MethodName) ({ cls := "SeanceStreet$Late", name := "slips", desc := "(II)I" } : Jvm.MethodName)) ∈ lw_all := lw_g (lw_at lw_m4 88 rfl) rfl
theorem q959 : (Jvm.Cond.instanceMethod ({ cls := "SeanceStreet$Late", name := "law", desc := "()I" } : Jvm.MethodName)) ∈ lw_all := lw_g (lw_at lw_m4 122 rfl) rfl
theorem q960 : (Jvm.Cond.code ({ cls := "SeanceStreet$Late", name := "law", desc := "()I" } : Jvm.MethodName) prog_5_method_2_code (1 : Nat) (Option.some Jvm.ClassFile.FieldType.int)) ∈ lw_all := lw_g (lw_at lw_m4 123 rfl) rfl
theorem q961 : (Jvm.Cond.selects "SeanceStreet$Late" ({ cls := "SeanceStreet$Ghost", name := "law", desc := "()I" } : Jvm.MethodName) ({ cls := "SeanceStreet$Late", name := "law", desc := "()I" } : Jvm.MethodName)) ∈ lw_all := lw_g (lw_at lw_m4 124 rfl) rfl
theorem q1050 : (Jvm.Cond.selects "SeanceStreet$Late" ({ cls := "SeanceStreet$Ghost", name := "rounds", desc := "(II)I" } : Jvm.MethodName) ({ cls := "SeanceStreet$Ghost", name := "rounds", desc := "(II)I" } : Jvm.MethodName)) ∈ lw_all := lw_g (lw_at lw_m4 213 rfl) rfl
theorem q2197 : (Jvm.Cond.sameMethod "SeanceStreet$Late" "SeanceStreet$Late" "slips" "(II)I") ∈ lw_all := lw_g (lw_at lw_m9 160 rfl) rfl
theorem q2198 : (Jvm.Cond.sameMethod "SeanceStreet$Late" "SeanceStreet$Late" "law" "()I") ∈ lw_all := lw_g (lw_at lw_m9 161 rfl) rfl
theorem q2202 : (Jvm.Cond.castable "SeanceStreet$Late" "SeanceStreet$Ghost") ∈ lw_tbl := lw_at lw_m9 165 rfl
theorem q2214 : (Jvm.Cond.castable "SeanceStreet$Late" "java/lang/Object") ∈ lw_tbl := lw_at lw_m9 177 rfl
theorem in_X11 : ∀ w ∈ wsX110, w ∈ lw_all := lw_in wsX110 [796, 798, 800, 802, 804, 805] (by decide +kernel) (by decide +kernel)
/-! SeanceStreet$Early -/
set_option maxRecDepth 100000
def RX12 : String := "SeanceStreet$Early"
def TX12 : u_T := fun k => match k with
  | 0 => ("SeanceStreet$Ghost", "slip", "I", false)
  | 1 => ("SeanceStreet$Ghost", "whose", "I", false)
  | 2 => ("SeanceStreet$Ghost", "mirror", "I", false)
  | 3 => ("SeanceStreet$Ghost", "other", "I", false)
  | 4 => ("SeanceStreet$Named", "name", "Ljava/lang/String;", true)
  | _ => ("SeanceStreet$Named", "number", "I", true)
def tyX12 : Nat → FieldType := fun k => match k with
  | 0 => .int
  | 1 => .int
  | 2 => .int
  | 3 => .int
  | 4 => .object "java/lang/String"
  | _ => .int
abbrev wsX120 : List Cond := u_ws RX12 TX12 6
theorem nmX12 : ∀ a, a < 6 → ∀ b, b < 6 → a ≠ b → (TX12 a).2.1 ≠ (TX12 b).2.1 := by decide +kernel
theorem tyX12_ok : ∀ k, k < 6 → parseFieldDescriptor (TX12 k).2.2.1 = some (tyX12 k) := by decide +kernel
abbrev cX12_init : ByteArray := prog_3_method_1_code
def yX12_init : MethodName := ⟨RX12, "<init>", "(Ljava/lang/String;I)V"⟩
def dkwX12_init_0 : List UInt8 := [42, 43, 28, 183, 0, 1, 177]
abbrev dktX12_init_0 : List UInt8 := dkwX12_init_0 ++ []
theorem dksX12_init_0 : cX12_init.data.toList.drop 0 = dktX12_init_0 := by decide +kernel
theorem dX12_init_0 : decode cX12_init 0 = .ok (.aload_n 0, 1) := dk_42 (dk_at dksX12_init_0 0 rfl rfl)
theorem dX12_init_1 : decode cX12_init 1 = .ok (.aload_n 1, 1) := dk_43 (dk_at dksX12_init_0 1 rfl rfl)
theorem dX12_init_2 : decode cX12_init 2 = .ok (.iload_n 2, 1) := dk_28 (dk_at dksX12_init_0 2 rfl rfl)
theorem dX12_init_3 : decode cX12_init 3 = .ok (.invokespecial 1, 3) := dk_183 0 1 (dk_at dksX12_init_0 3 rfl rfl)
theorem dX12_init_6 : decode cX12_init 6 = .ok (.return_, 1) := dk_177 (dk_at dksX12_init_0 6 rfl rfl)
abbrev cX12_slips : ByteArray := prog_3_method_3_code
def yX12_slips : MethodName := ⟨RX12, "slips", "(II)I"⟩
def dkwX12_slips_0 : List UInt8 := [42, 27, 28, 183, 0, 11, 116, 172]
abbrev dktX12_slips_0 : List UInt8 := dkwX12_slips_0 ++ []
theorem dksX12_slips_0 : cX12_slips.data.toList.drop 0 = dktX12_slips_0 := by decide +kernel
theorem dX12_slips_0 : decode cX12_slips 0 = .ok (.aload_n 0, 1) := dk_42 (dk_at dksX12_slips_0 0 rfl rfl)
theorem dX12_slips_1 : decode cX12_slips 1 = .ok (.iload_n 1, 1) := dk_27 (dk_at dksX12_slips_0 1 rfl rfl)
theorem dX12_slips_2 : decode cX12_slips 2 = .ok (.iload_n 2, 1) := dk_28 (dk_at dksX12_slips_0 2 rfl rfl)
theorem dX12_slips_3 : decode cX12_slips 3 = .ok (.invokespecial 11, 3) := dk_183 0 11 (dk_at dksX12_slips_0 3 rfl rfl)
theorem dX12_slips_6 : decode cX12_slips 6 = .ok (.ineg, 1) := dk_116 (dk_at dksX12_slips_0 6 rfl rfl)
theorem dX12_slips_7 : decode cX12_slips 7 = .ok (.ireturn, 1) := dk_172 (dk_at dksX12_slips_0 7 rfl rfl)
abbrev cX12_law : ByteArray := prog_3_method_2_code
def yX12_law : MethodName := ⟨RX12, "law", "()I"⟩
def dkwX12_law_0 : List UInt8 := [42, 183, 0, 7, 4, 96, 172]
abbrev dktX12_law_0 : List UInt8 := dkwX12_law_0 ++ []
theorem dksX12_law_0 : cX12_law.data.toList.drop 0 = dktX12_law_0 := by decide +kernel
theorem dX12_law_0 : decode cX12_law 0 = .ok (.aload_n 0, 1) := dk_42 (dk_at dksX12_law_0 0 rfl rfl)
theorem dX12_law_1 : decode cX12_law 1 = .ok (.invokespecial 7, 3) := dk_183 0 7 (dk_at dksX12_law_0 1 rfl rfl)
theorem dX12_law_4 : decode cX12_law 4 = .ok (.iconst 1, 1) := dk_4 (dk_at dksX12_law_0 4 rfl rfl)
theorem dX12_law_5 : decode cX12_law 5 = .ok (.iadd, 1) := dk_96 (dk_at dksX12_law_0 5 rfl rfl)
theorem dX12_law_6 : decode cX12_law 6 = .ok (.ireturn, 1) := dk_172 (dk_at dksX12_law_0 6 rfl rfl)
theorem q137 : (Jvm.Cond.initialized "SeanceStreet$Early") ∈ lw_all := lw_g (lw_at lw_m1 20 rfl) rfl
theorem q809 : (Jvm.Cond.instantiable "SeanceStreet$Early" (6 : Nat)) ∈ lw_all := lw_g (lw_at lw_m3 212 rfl) rfl
theorem q811 : (Jvm.Cond.instanceMethod ({ cls := "SeanceStreet$Early", name := "<init>", desc := "(Ljava/lang/String;I)V" } : Jvm.MethodName)) ∈ lw_all := lw_g (lw_at lw_m3 214 rfl) rfl
theorem q812 : (Jvm.Cond.code ({ cls := "SeanceStreet$Early", name := "<init>", desc := "(Ljava/lang/String;I)V" } : Jvm.MethodName) prog_3_method_1_code (3 : Nat) (Option.none : Option Jvm.ClassFile.FieldType)) ∈ lw_all := lw_g (lw_at lw_m3 215 rfl) rfl
theorem q813 : (Jvm.Cond.methodLink "SeanceStreet$Early" (1 : Nat) ({ cls := "SeanceStreet$Late", name := "<init>", desc := "(Ljava/lang/String;I)V" } : Jvm.MethodName)) ∈ lw_all := lw_g (lw_at lw_m3 216 rfl) rfl
theorem q814 : (Jvm.Cond.lays "SeanceStreet$Early" "SeanceStreet$Ghost" "slip" "I") ∈ lw_all := lw_g (lw_at lw_m3 217 rfl) rfl
theorem q815 : (Jvm.Cond.lays "SeanceStreet$Early" "SeanceStreet$Ghost" "whose" "I") ∈ lw_all := lw_g (lw_at lw_m3 218 rfl) rfl
theorem q816 : (Jvm.Cond.lays "SeanceStreet$Early" "SeanceStreet$Ghost" "mirror" "I") ∈ lw_all := lw_g (lw_at lw_m3 219 rfl) rfl
theorem q817 : (Jvm.Cond.lays "SeanceStreet$Early" "SeanceStreet$Ghost" "other" "I") ∈ lw_all := lw_g (lw_at lw_m3 220 rfl) rfl
theorem q818 : (Jvm.Cond.laysFinal "SeanceStreet$Early" "SeanceStreet$Named" "name" "Ljava/lang/String;") ∈ lw_all := lw_g (lw_at lw_m3 221 rfl) rfl
theorem q819 : (Jvm.Cond.laysFinal "SeanceStreet$Early" "SeanceStreet$Named" "number" "I") ∈ lw_all := lw_g (lw_at lw_m3 222 rfl) rfl
theorem q820 : (Jvm.Cond.superclass "SeanceStreet$Early" "SeanceStreet$Late") ∈ lw_all := lw_g (lw_at lw_m3 223 rfl) rfl
theorem q919 : (Jvm.Cond.selects "SeanceStreet$Early" ({ cls := "SeanceStreet$Ghost", name := "slips", desc := "(II)I" } : Jvm.MethodName) ({ cls := "SeanceStreet$Early", name := "slips", desc := "(II)I" } : Jvm.MethodName)) ∈ lw_all := lw_g (lw_at lw_m4 82 rfl) rfl
theorem q920 : (Jvm.Cond.instanceMethod ({ cls := "SeanceStreet$Early", name := "slips", desc := "(II)I" } : Jvm.MethodName)) ∈ lw_all := lw_g (lw_at lw_m4 83 rfl) rfl
theorem q921 : (Jvm.Cond.code ({ cls := "SeanceStreet$Early", name := "slips", desc := "(II)I" } : Jvm.MethodName) prog_3_method_3_code (3 : Nat) (Option.some Jvm.ClassFile.FieldType.int)) ∈ lw_all := lw_g (lw_at lw_m4 84 rfl) rfl
theorem q922 : (Jvm.Cond.methodLink "SeanceStreet$Early" (11 : Nat) ({ cls := "SeanceStreet$Late", name := "slips", desc := "(II)I" } : Jvm.MethodName)) ∈ lw_all := lw_g (lw_at lw_m4 85 rfl) rfl
theorem q955 : (Jvm.Cond.selects "SeanceStreet$Early" ({ cls := "SeanceStreet$Ghost", name := "law", desc := "()I" } : Jvm.MethodName) ({ cls := "SeanceStreet$Early", name := "law", desc := "()I" } : Jvm.MethodName)) ∈ lw_all := lw_g (lw_at lw_m4 118 rfl) rfl
theorem q956 : (Jvm.Cond.instanceMethod ({ cls := "SeanceStreet$Early", name := "law", desc := "()I" } : Jvm.MethodName)) ∈ lw_all := lw_g (lw_at lw_m4 119 rfl) rfl
theorem q957 : (Jvm.Cond.code ({ cls := "SeanceStreet$Early", name := "law", desc := "()I" } : Jvm.MethodName) prog_3_method_2_code (1 : Nat) (Option.some Jvm.ClassFile.FieldType.int)) ∈ lw_all := lw_g (lw_at lw_m4 120 rfl) rfl
theorem q958 : (Jvm.Cond.methodLink "SeanceStreet$Early" (7 : Nat) ({ cls := "SeanceStreet$Late", name := "law", desc := "()I" } : Jvm.MethodName)) ∈ lw_all := lw_g (lw_at lw_m4 121 rfl) rfl
theorem q1049 : (Jvm.Cond.selects "SeanceStreet$Early" ({ cls := "SeanceStreet$Ghost", name := "rounds", desc := "(II)I" } : Jvm.MethodName) ({ cls := "SeanceStreet$Ghost", name := "rounds", desc := "(II)I" } : Jvm.MethodName)) ∈ lw_all := lw_g (lw_at lw_m4 212 rfl) rfl
theorem q2201 : (Jvm.Cond.castable "SeanceStreet$Early" "SeanceStreet$Ghost") ∈ lw_tbl := lw_at lw_m9 164 rfl
theorem q2215 : (Jvm.Cond.castable "SeanceStreet$Early" "java/lang/Object") ∈ lw_tbl := lw_at lw_m9 178 rfl
theorem in_X12 : ∀ w ∈ wsX120, w ∈ lw_all := lw_in wsX120 [814, 815, 816, 817, 818, 819] (by decide +kernel) (by decide +kernel)
/-! SeanceStreet$Drift -/
set_option maxRecDepth 100000
def RX13 : String := "SeanceStreet$Drift"
def TX13 : u_T := fun k => match k with
  | 0 => ("SeanceStreet$Ghost", "slip", "I", false)
  | 1 => ("SeanceStreet$Ghost", "whose", "I", false)
  | 2 => ("SeanceStreet$Ghost", "mirror", "I", false)
  | 3 => ("SeanceStreet$Ghost", "other", "I", false)
  | 4 => ("SeanceStreet$Named", "name", "Ljava/lang/String;", true)
  | _ => ("SeanceStreet$Named", "number", "I", true)
def tyX13 : Nat → FieldType := fun k => match k with
  | 0 => .int
  | 1 => .int
  | 2 => .int
  | 3 => .int
  | 4 => .object "java/lang/String"
  | _ => .int
abbrev wsX130 : List Cond := u_ws RX13 TX13 6
theorem nmX13 : ∀ a, a < 6 → ∀ b, b < 6 → a ≠ b → (TX13 a).2.1 ≠ (TX13 b).2.1 := by decide +kernel
theorem tyX13_ok : ∀ k, k < 6 → parseFieldDescriptor (TX13 k).2.2.1 = some (tyX13 k) := by decide +kernel
abbrev cX13_init : ByteArray := prog_2_method_1_code
def yX13_init : MethodName := ⟨RX13, "<init>", "(Ljava/lang/String;I)V"⟩
def dkwX13_init_0 : List UInt8 := [42, 43, 28, 183, 0, 1, 177]
abbrev dktX13_init_0 : List UInt8 := dkwX13_init_0 ++ []
theorem dksX13_init_0 : cX13_init.data.toList.drop 0 = dktX13_init_0 := by decide +kernel
theorem dX13_init_0 : decode cX13_init 0 = .ok (.aload_n 0, 1) := dk_42 (dk_at dksX13_init_0 0 rfl rfl)
theorem dX13_init_1 : decode cX13_init 1 = .ok (.aload_n 1, 1) := dk_43 (dk_at dksX13_init_0 1 rfl rfl)
theorem dX13_init_2 : decode cX13_init 2 = .ok (.iload_n 2, 1) := dk_28 (dk_at dksX13_init_0 2 rfl rfl)
theorem dX13_init_3 : decode cX13_init 3 = .ok (.invokespecial 1, 3) := dk_183 0 1 (dk_at dksX13_init_0 3 rfl rfl)
theorem dX13_init_6 : decode cX13_init 6 = .ok (.return_, 1) := dk_177 (dk_at dksX13_init_0 6 rfl rfl)
abbrev cX13_slips : ByteArray := prog_2_method_3_code
def yX13_slips : MethodName := ⟨RX13, "slips", "(II)I"⟩
def dkwX13_slips_0 : List UInt8 := [27, 28, 104, 172]
abbrev dktX13_slips_0 : List UInt8 := dkwX13_slips_0 ++ []
theorem dksX13_slips_0 : cX13_slips.data.toList.drop 0 = dktX13_slips_0 := by decide +kernel
theorem dX13_slips_0 : decode cX13_slips 0 = .ok (.iload_n 1, 1) := dk_27 (dk_at dksX13_slips_0 0 rfl rfl)
theorem dX13_slips_1 : decode cX13_slips 1 = .ok (.iload_n 2, 1) := dk_28 (dk_at dksX13_slips_0 1 rfl rfl)
theorem dX13_slips_2 : decode cX13_slips 2 = .ok (.imul, 1) := dk_104 (dk_at dksX13_slips_0 2 rfl rfl)
theorem dX13_slips_3 : decode cX13_slips 3 = .ok (.ireturn, 1) := dk_172 (dk_at dksX13_slips_0 3 rfl rfl)
abbrev cX13_law : ByteArray := prog_2_method_2_code
def yX13_law : MethodName := ⟨RX13, "law", "()I"⟩
theorem dX13_law_0 : decode cX13_law 0 = .ok (.iconst 2, 1) := by decide +kernel
theorem dX13_law_1 : decode cX13_law 1 = .ok (.ireturn, 1) := by decide +kernel
abbrev cX13_rounds : ByteArray := prog_2_method_4_code
def yX13_rounds : MethodName := ⟨RX13, "rounds", "(II)I"⟩
def dkwX13_rounds_0 : List UInt8 := [28, 28, 133, 27, 133, 184, 0, 7, 136, 108, 172]
abbrev dktX13_rounds_0 : List UInt8 := dkwX13_rounds_0 ++ []
theorem dksX13_rounds_0 : cX13_rounds.data.toList.drop 0 = dktX13_rounds_0 := by decide +kernel
theorem dX13_rounds_0 : decode cX13_rounds 0 = .ok (.iload_n 2, 1) := dk_28 (dk_at dksX13_rounds_0 0 rfl rfl)
theorem dX13_rounds_1 : decode cX13_rounds 1 = .ok (.iload_n 2, 1) := dk_28 (dk_at dksX13_rounds_0 1 rfl rfl)
theorem dX13_rounds_2 : decode cX13_rounds 2 = .ok (.i2l, 1) := dk_133 (dk_at dksX13_rounds_0 2 rfl rfl)
theorem dX13_rounds_3 : decode cX13_rounds 3 = .ok (.iload_n 1, 1) := dk_27 (dk_at dksX13_rounds_0 3 rfl rfl)
theorem dX13_rounds_4 : decode cX13_rounds 4 = .ok (.i2l, 1) := dk_133 (dk_at dksX13_rounds_0 4 rfl rfl)
theorem dX13_rounds_5 : decode cX13_rounds 5 = .ok (.invokestatic 7, 3) := dk_184 0 7 (dk_at dksX13_rounds_0 5 rfl rfl)
theorem dX13_rounds_8 : decode cX13_rounds 8 = .ok (.l2i, 1) := dk_136 (dk_at dksX13_rounds_0 8 rfl rfl)
theorem dX13_rounds_9 : decode cX13_rounds 9 = .ok (.idiv, 1) := dk_108 (dk_at dksX13_rounds_0 9 rfl rfl)
theorem dX13_rounds_10 : decode cX13_rounds 10 = .ok (.ireturn, 1) := dk_172 (dk_at dksX13_rounds_0 10 rfl rfl)
theorem q138 : (Jvm.Cond.initialized "SeanceStreet$Drift") ∈ lw_all := lw_g (lw_at lw_m1 21 rfl) rfl
theorem q823 : (Jvm.Cond.instantiable "SeanceStreet$Drift" (6 : Nat)) ∈ lw_all := lw_g (lw_at lw_m3 226 rfl) rfl
theorem q825 : (Jvm.Cond.instanceMethod ({ cls := "SeanceStreet$Drift", name := "<init>", desc := "(Ljava/lang/String;I)V" } : Jvm.MethodName)) ∈ lw_all := lw_g (lw_at lw_m3 228 rfl) rfl
theorem q826 : (Jvm.Cond.code ({ cls := "SeanceStreet$Drift", name := "<init>", desc := "(Ljava/lang/String;I)V" } : Jvm.MethodName) prog_2_method_1_code (3 : Nat) (Option.none : Option Jvm.ClassFile.FieldType)) ∈ lw_all := lw_g (lw_at lw_m3 229 rfl) rfl
theorem q827 : (Jvm.Cond.methodLink "SeanceStreet$Drift" (1 : Nat) ({ cls := "SeanceStreet$Ghost", name := "<init>", desc := "(Ljava/lang/String;I)V" } : Jvm.MethodName)) ∈ lw_all := lw_g (lw_at lw_m3 230 rfl) rfl
theorem q828 : (Jvm.Cond.lays "SeanceStreet$Drift" "SeanceStreet$Ghost" "slip" "I") ∈ lw_all := lw_g (lw_at lw_m3 231 rfl) rfl
theorem q829 : (Jvm.Cond.lays "SeanceStreet$Drift" "SeanceStreet$Ghost" "whose" "I") ∈ lw_all := lw_g (lw_at lw_m3 232 rfl) rfl
theorem q830 : (Jvm.Cond.lays "SeanceStreet$Drift" "SeanceStreet$Ghost" "mirror" "I") ∈ lw_all := lw_g (lw_at lw_m3 233 rfl) rfl
theorem q831 : (Jvm.Cond.lays "SeanceStreet$Drift" "SeanceStreet$Ghost" "other" "I") ∈ lw_all := lw_g (lw_at lw_m3 234 rfl) rfl
theorem q832 : (Jvm.Cond.laysFinal "SeanceStreet$Drift" "SeanceStreet$Named" "name" "Ljava/lang/String;") ∈ lw_all := lw_g (lw_at lw_m3 235 rfl) rfl
theorem q833 : (Jvm.Cond.laysFinal "SeanceStreet$Drift" "SeanceStreet$Named" "number" "I") ∈ lw_all := lw_g (lw_at lw_m3 236 rfl) rfl
theorem q834 : (Jvm.Cond.superclass "SeanceStreet$Drift" "SeanceStreet$Ghost") ∈ lw_all := lw_g (lw_at lw_m3 237 rfl) rfl
theorem q916 : (Jvm.Cond.selects "SeanceStreet$Drift" ({ cls := "SeanceStreet$Ghost", name := "slips", desc := "(II)I" } : Jvm.MethodName) ({ cls := "SeanceStreet$Drift", name := "slips", desc := "(II)I" } : Jvm.MethodName)) ∈ lw_all := lw_g (lw_at lw_m4 79 rfl) rfl
theorem q917 : (Jvm.Cond.instanceMethod ({ cls := "SeanceStreet$Drift", name := "slips", desc := "(II)I" } : Jvm.MethodName)) ∈ lw_all := lw_g (lw_at lw_m4 80 rfl) rfl
theorem q918 : (Jvm.Cond.code ({ cls := "SeanceStreet$Drift", name := "slips", desc := "(II)I" } : Jvm.MethodName) prog_2_method_3_code (3 : Nat) (Option.some Jvm.ClassFile.FieldType.int)) ∈ lw_all := lw_g (lw_at lw_m4 81 rfl) rfl
theorem q952 : (Jvm.Cond.selects "SeanceStreet$Drift" ({ cls := "SeanceStreet$Ghost", name := "law", desc := "()I" } : Jvm.MethodName) ({ cls := "SeanceStreet$Drift", name := "law", desc := "()I" } : Jvm.MethodName)) ∈ lw_all := lw_g (lw_at lw_m4 115 rfl) rfl
theorem q953 : (Jvm.Cond.instanceMethod ({ cls := "SeanceStreet$Drift", name := "law", desc := "()I" } : Jvm.MethodName)) ∈ lw_all := lw_g (lw_at lw_m4 116 rfl) rfl
theorem q954 : (Jvm.Cond.code ({ cls := "SeanceStreet$Drift", name := "law", desc := "()I" } : Jvm.MethodName) prog_2_method_2_code (1 : Nat) (Option.some Jvm.ClassFile.FieldType.int)) ∈ lw_all := lw_g (lw_at lw_m4 117 rfl) rfl
theorem q1042 : (Jvm.Cond.selects "SeanceStreet$Drift" ({ cls := "SeanceStreet$Ghost", name := "rounds", desc := "(II)I" } : Jvm.MethodName) ({ cls := "SeanceStreet$Drift", name := "rounds", desc := "(II)I" } : Jvm.MethodName)) ∈ lw_all := lw_g (lw_at lw_m4 205 rfl) rfl
theorem q1043 : (Jvm.Cond.instanceMethod ({ cls := "SeanceStreet$Drift", name := "rounds", desc := "(II)I" } : Jvm.MethodName)) ∈ lw_all := lw_g (lw_at lw_m4 206 rfl) rfl
theorem q1044 : (Jvm.Cond.code ({ cls := "SeanceStreet$Drift", name := "rounds", desc := "(II)I" } : Jvm.MethodName) prog_2_method_4_code (3 : Nat) (Option.some Jvm.ClassFile.FieldType.int)) ∈ lw_all := lw_g (lw_at lw_m4 207 rfl) rfl
theorem q1045 : (Jvm.Cond.methodLinkNest "SeanceStreet$Drift" (7 : Nat) ({ cls := "SeanceStreet", name := "dividing", desc := "(JJ)J" } : Jvm.MethodName) "SeanceStreet") ∈ lw_tbl := lw_at lw_m4 208 rfl
theorem q2199 : (Jvm.Cond.sameMethod "SeanceStreet$Drift" "SeanceStreet$Drift" "law" "()I") ∈ lw_all := lw_g (lw_at lw_m9 162 rfl) rfl
theorem q2200 : (Jvm.Cond.castable "SeanceStreet$Drift" "SeanceStreet$Ghost") ∈ lw_tbl := lw_at lw_m9 163 rfl
theorem q2216 : (Jvm.Cond.castable "SeanceStreet$Drift" "java/lang/Object") ∈ lw_tbl := lw_at lw_m9 179 rfl
theorem in_X13 : ∀ w ∈ wsX130, w ∈ lw_all := lw_in wsX130 [828, 829, 830, 831, 832, 833] (by decide +kernel) (by decide +kernel)
/-! SeanceStreet$Swing -/
set_option maxRecDepth 100000
def RX14 : String := "SeanceStreet$Swing"
def TX14 : u_T := fun k => match k with
  | 0 => ("SeanceStreet$Ghost", "slip", "I", false)
  | 1 => ("SeanceStreet$Ghost", "whose", "I", false)
  | 2 => ("SeanceStreet$Ghost", "mirror", "I", false)
  | 3 => ("SeanceStreet$Ghost", "other", "I", false)
  | 4 => ("SeanceStreet$Named", "name", "Ljava/lang/String;", true)
  | _ => ("SeanceStreet$Named", "number", "I", true)
def tyX14 : Nat → FieldType := fun k => match k with
  | 0 => .int
  | 1 => .int
  | 2 => .int
  | 3 => .int
  | 4 => .object "java/lang/String"
  | _ => .int
abbrev wsX140 : List Cond := u_ws RX14 TX14 6
theorem nmX14 : ∀ a, a < 6 → ∀ b, b < 6 → a ≠ b → (TX14 a).2.1 ≠ (TX14 b).2.1 := by decide +kernel
theorem tyX14_ok : ∀ k, k < 6 → parseFieldDescriptor (TX14 k).2.2.1 = some (tyX14 k) := by decide +kernel
abbrev cX14_init : ByteArray := prog_11_method_1_code
def yX14_init : MethodName := ⟨RX14, "<init>", "(Ljava/lang/String;I)V"⟩
def dkwX14_init_0 : List UInt8 := [42, 43, 28, 183, 0, 1, 177]
abbrev dktX14_init_0 : List UInt8 := dkwX14_init_0 ++ []
theorem dksX14_init_0 : cX14_init.data.toList.drop 0 = dktX14_init_0 := by decide +kernel
theorem dX14_init_0 : decode cX14_init 0 = .ok (.aload_n 0, 1) := dk_42 (dk_at dksX14_init_0 0 rfl rfl)
theorem dX14_init_1 : decode cX14_init 1 = .ok (.aload_n 1, 1) := dk_43 (dk_at dksX14_init_0 1 rfl rfl)
theorem dX14_init_2 : decode cX14_init 2 = .ok (.iload_n 2, 1) := dk_28 (dk_at dksX14_init_0 2 rfl rfl)
theorem dX14_init_3 : decode cX14_init 3 = .ok (.invokespecial 1, 3) := dk_183 0 1 (dk_at dksX14_init_0 3 rfl rfl)
theorem dX14_init_6 : decode cX14_init 6 = .ok (.return_, 1) := dk_177 (dk_at dksX14_init_0 6 rfl rfl)
abbrev cX14_slips : ByteArray := prog_11_method_3_code
def yX14_slips : MethodName := ⟨RX14, "slips", "(II)I"⟩
def dkwX14_slips_0 : List UInt8 := [28, 5, 112, 154, 0, 7, 27, 167, 0, 5, 27, 116, 172]
abbrev dktX14_slips_0 : List UInt8 := dkwX14_slips_0 ++ []
theorem dksX14_slips_0 : cX14_slips.data.toList.drop 0 = dktX14_slips_0 := by decide +kernel
theorem dX14_slips_0 : decode cX14_slips 0 = .ok (.iload_n 2, 1) := dk_28 (dk_at dksX14_slips_0 0 rfl rfl)
theorem dX14_slips_1 : decode cX14_slips 1 = .ok (.iconst 2, 1) := dk_5 (dk_at dksX14_slips_0 1 rfl rfl)
theorem dX14_slips_2 : decode cX14_slips 2 = .ok (.irem, 1) := dk_112 (dk_at dksX14_slips_0 2 rfl rfl)
theorem dX14_slips_3 : decode cX14_slips 3 = .ok (.ifCond .ne 7, 3) := dk_154 0 7 (dk_at dksX14_slips_0 3 rfl rfl)
theorem dX14_slips_6 : decode cX14_slips 6 = .ok (.iload_n 1, 1) := dk_27 (dk_at dksX14_slips_0 6 rfl rfl)
theorem dX14_slips_7 : decode cX14_slips 7 = .ok (.goto 5, 3) := dk_167 0 5 (dk_at dksX14_slips_0 7 rfl rfl)
theorem dX14_slips_10 : decode cX14_slips 10 = .ok (.iload_n 1, 1) := dk_27 (dk_at dksX14_slips_0 10 rfl rfl)
theorem dX14_slips_11 : decode cX14_slips 11 = .ok (.ineg, 1) := dk_116 (dk_at dksX14_slips_0 11 rfl rfl)
theorem dX14_slips_12 : decode cX14_slips 12 = .ok (.ireturn, 1) := dk_172 (dk_at dksX14_slips_0 12 rfl rfl)
abbrev cX14_law : ByteArray := prog_11_method_2_code
def yX14_law : MethodName := ⟨RX14, "law", "()I"⟩
def dkwX14_law_0 : List UInt8 := [42, 183, 0, 7, 4, 96, 172]
abbrev dktX14_law_0 : List UInt8 := dkwX14_law_0 ++ []
theorem dksX14_law_0 : cX14_law.data.toList.drop 0 = dktX14_law_0 := by decide +kernel
theorem dX14_law_0 : decode cX14_law 0 = .ok (.aload_n 0, 1) := dk_42 (dk_at dksX14_law_0 0 rfl rfl)
theorem dX14_law_1 : decode cX14_law 1 = .ok (.invokespecial 7, 3) := dk_183 0 7 (dk_at dksX14_law_0 1 rfl rfl)
theorem dX14_law_4 : decode cX14_law 4 = .ok (.iconst 1, 1) := dk_4 (dk_at dksX14_law_0 4 rfl rfl)
theorem dX14_law_5 : decode cX14_law 5 = .ok (.iadd, 1) := dk_96 (dk_at dksX14_law_0 5 rfl rfl)
theorem dX14_law_6 : decode cX14_law 6 = .ok (.ireturn, 1) := dk_172 (dk_at dksX14_law_0 6 rfl rfl)
abbrev cX14_rounds : ByteArray := prog_11_method_4_code
def yX14_rounds : MethodName := ⟨RX14, "rounds", "(II)I"⟩
def dkwX14_rounds_0 : List UInt8 := [5, 27, 104, 28, 112, 154, 0, 7, 4, 167, 0, 4, 5, 172]
abbrev dktX14_rounds_0 : List UInt8 := dkwX14_rounds_0 ++ []
theorem dksX14_rounds_0 : cX14_rounds.data.toList.drop 0 = dktX14_rounds_0 := by decide +kernel
theorem dX14_rounds_0 : decode cX14_rounds 0 = .ok (.iconst 2, 1) := dk_5 (dk_at dksX14_rounds_0 0 rfl rfl)
theorem dX14_rounds_1 : decode cX14_rounds 1 = .ok (.iload_n 1, 1) := dk_27 (dk_at dksX14_rounds_0 1 rfl rfl)
theorem dX14_rounds_2 : decode cX14_rounds 2 = .ok (.imul, 1) := dk_104 (dk_at dksX14_rounds_0 2 rfl rfl)
theorem dX14_rounds_3 : decode cX14_rounds 3 = .ok (.iload_n 2, 1) := dk_28 (dk_at dksX14_rounds_0 3 rfl rfl)
theorem dX14_rounds_4 : decode cX14_rounds 4 = .ok (.irem, 1) := dk_112 (dk_at dksX14_rounds_0 4 rfl rfl)
theorem dX14_rounds_5 : decode cX14_rounds 5 = .ok (.ifCond .ne 7, 3) := dk_154 0 7 (dk_at dksX14_rounds_0 5 rfl rfl)
theorem dX14_rounds_8 : decode cX14_rounds 8 = .ok (.iconst 1, 1) := dk_4 (dk_at dksX14_rounds_0 8 rfl rfl)
theorem dX14_rounds_9 : decode cX14_rounds 9 = .ok (.goto 4, 3) := dk_167 0 4 (dk_at dksX14_rounds_0 9 rfl rfl)
theorem dX14_rounds_12 : decode cX14_rounds 12 = .ok (.iconst 2, 1) := dk_5 (dk_at dksX14_rounds_0 12 rfl rfl)
theorem dX14_rounds_13 : decode cX14_rounds 13 = .ok (.ireturn, 1) := dk_172 (dk_at dksX14_rounds_0 13 rfl rfl)
theorem q139 : (Jvm.Cond.initialized "SeanceStreet$Swing") ∈ lw_all := lw_g (lw_at lw_m1 22 rfl) rfl
theorem q837 : (Jvm.Cond.instantiable "SeanceStreet$Swing" (6 : Nat)) ∈ lw_all := lw_g (lw_at lw_m4 0 rfl) rfl
theorem q839 : (Jvm.Cond.instanceMethod ({ cls := "SeanceStreet$Swing", name := "<init>", desc := "(Ljava/lang/String;I)V" } : Jvm.MethodName)) ∈ lw_all := lw_g (lw_at lw_m4 2 rfl) rfl
theorem q840 : (Jvm.Cond.code ({ cls := "SeanceStreet$Swing", name := "<init>", desc := "(Ljava/lang/String;I)V" } : Jvm.MethodName) prog_11_method_1_code (3 : Nat) (Option.none : Option Jvm.ClassFile.FieldType)) ∈ lw_all := lw_g (lw_at lw_m4 3 rfl) rfl
theorem q841 : (Jvm.Cond.methodLink "SeanceStreet$Swing" (1 : Nat) ({ cls := "SeanceStreet$Drift", name := "<init>", desc := "(Ljava/lang/String;I)V" } : Jvm.MethodName)) ∈ lw_all := lw_g (lw_at lw_m4 4 rfl) rfl
theorem q842 : (Jvm.Cond.lays "SeanceStreet$Swing" "SeanceStreet$Ghost" "slip" "I") ∈ lw_all := lw_g (lw_at lw_m4 5 rfl) rfl
theorem q843 : (Jvm.Cond.lays "SeanceStreet$Swing" "SeanceStreet$Ghost" "whose" "I") ∈ lw_all := lw_g (lw_at lw_m4 6 rfl) rfl
theorem q844 : (Jvm.Cond.lays "SeanceStreet$Swing" "SeanceStreet$Ghost" "mirror" "I") ∈ lw_all := lw_g (lw_at lw_m4 7 rfl) rfl
theorem q845 : (Jvm.Cond.lays "SeanceStreet$Swing" "SeanceStreet$Ghost" "other" "I") ∈ lw_all := lw_g (lw_at lw_m4 8 rfl) rfl
theorem q846 : (Jvm.Cond.laysFinal "SeanceStreet$Swing" "SeanceStreet$Named" "name" "Ljava/lang/String;") ∈ lw_all := lw_g (lw_at lw_m4 9 rfl) rfl
theorem q847 : (Jvm.Cond.laysFinal "SeanceStreet$Swing" "SeanceStreet$Named" "number" "I") ∈ lw_all := lw_g (lw_at lw_m4 10 rfl) rfl
theorem q848 : (Jvm.Cond.superclass "SeanceStreet$Swing" "SeanceStreet$Drift") ∈ lw_all := lw_g (lw_at lw_m4 11 rfl) rfl
theorem q926 : (Jvm.Cond.selects "SeanceStreet$Swing" ({ cls := "SeanceStreet$Ghost", name := "slips", desc := "(II)I" } : Jvm.MethodName) ({ cls := "SeanceStreet$Swing", name := "slips", desc := "(II)I" } : Jvm.MethodName)) ∈ lw_all := lw_g (lw_at lw_m4 89 rfl) rfl
theorem q927 : (Jvm.Cond.instanceMethod ({ cls := "SeanceStreet$Swing", name := "slips", desc := "(II)I" } : Jvm.MethodName)) ∈ lw_all := lw_g (lw_at lw_m4 90 rfl) rfl
theorem q928 : (Jvm.Cond.code ({ cls := "SeanceStreet$Swing", name := "slips", desc := "(II)I" } : Jvm.MethodName) prog_11_method_3_code (3 : Nat) (Option.some Jvm.ClassFile.FieldType.int)) ∈ lw_all := lw_g (lw_at lw_m4 91 rfl) rfl
theorem q962 : (Jvm.Cond.selects "SeanceStreet$Swing" ({ cls := "SeanceStreet$Ghost", name := "law", desc := "()I" } : Jvm.MethodName) ({ cls := "SeanceStreet$Swing", name := "law", desc := "()I" } : Jvm.MethodName)) ∈ lw_all := lw_g (lw_at lw_m4 125 rfl) rfl
theorem q963 : (Jvm.Cond.instanceMethod ({ cls := "SeanceStreet$Swing", name := "law", desc := "()I" } : Jvm.MethodName)) ∈ lw_all := lw_g (lw_at lw_m4 126 rfl) rfl
theorem q964 : (Jvm.Cond.code ({ cls := "SeanceStreet$Swing", name := "law", desc := "()I" } : Jvm.MethodName) prog_11_method_2_code (1 : Nat) (Option.some Jvm.ClassFile.FieldType.int)) ∈ lw_all := lw_g (lw_at lw_m4 127 rfl) rfl
theorem q965 : (Jvm.Cond.methodLink "SeanceStreet$Swing" (7 : Nat) ({ cls := "SeanceStreet$Drift", name := "law", desc := "()I" } : Jvm.MethodName)) ∈ lw_all := lw_g (lw_at lw_m4 128 rfl) rfl
theorem q1051 : (Jvm.Cond.selects "SeanceStreet$Swing" ({ cls := "SeanceStreet$Ghost", name := "rounds", desc := "(II)I" } : Jvm.MethodName) ({ cls := "SeanceStreet$Swing", name := "rounds", desc := "(II)I" } : Jvm.MethodName)) ∈ lw_all := lw_g (lw_at lw_m4 214 rfl) rfl
theorem q1052 : (Jvm.Cond.instanceMethod ({ cls := "SeanceStreet$Swing", name := "rounds", desc := "(II)I" } : Jvm.MethodName)) ∈ lw_all := lw_g (lw_at lw_m4 215 rfl) rfl
theorem q1053 : (Jvm.Cond.code ({ cls := "SeanceStreet$Swing", name := "rounds", desc := "(II)I" } : Jvm.MethodName) prog_11_method_4_code (3 : Nat) (Option.some Jvm.ClassFile.FieldType.int)) ∈ lw_all := lw_g (lw_at lw_m4 216 rfl) rfl
theorem q2203 : (Jvm.Cond.castable "SeanceStreet$Swing" "SeanceStreet$Ghost") ∈ lw_tbl := lw_at lw_m9 166 rfl
theorem q2217 : (Jvm.Cond.castable "SeanceStreet$Swing" "java/lang/Object") ∈ lw_tbl := lw_at lw_m9 180 rfl
theorem in_X14 : ∀ w ∈ wsX140, w ∈ lw_all := lw_in wsX140 [842, 843, 844, 845, 846, 847] (by decide +kernel) (by decide +kernel)
